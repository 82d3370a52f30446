/-! THE PLAIN LAW, 12: what is told of one paper; loose. Own work. -/
set_option maxRecDepth 100000
/-- how many hands behind the t-th paper, of the first e -/
def bhF (fs : Int32) (F T : Nat → Int32) (l : Nat → Nat) (t : Nat) : Nat → Nat
  | 0 => 0
  | e + 1 => if t < e ∧ lsF fs F T l e = false then bhF fs F T l t e + 1 else bhF fs F T l t e
theorem bhF_0 (fs : Int32) (F T : Nat → Int32) (l : Nat → Nat) (t : Nat) : ∀ e, e ≤ t + 1 → bhF fs F T l t e = 0
  | 0, _ => rfl
  | e + 1, h => by rw [bhF, if_neg (by omega)]; exact bhF_0 fs F T l t e (by omega)
theorem pSame_n {a b : Nat} (ha : a < 60) (hb : b < 60) : pSame (nI a) (nI b) = true ↔ a = b := by
  unfold pSame
  rw [if_neg (by rw [t_lt, nI_i (by omega), k_0]; omega), if_neg (by rw [t_lt, nI_i (by omega), k_0]; omega)]
  by_cases c : nI a = nI b
  · rw [if_pos c]; exact ⟨fun _ => (nI_eq (by omega) (by omega)).mp c, fun _ => rfl⟩
  · rw [if_neg c]; exact ⟨fun z => absurd z (by decide), fun z => absurd (by rw [z]) c⟩
theorem fo2_j {u w : St} {ho d k ak p : Int32} {j : Nat} (h1 : ¬ j = 18) (h2 : ¬ j = 19) : (fX0_fo2 u ho d k ak w 0 0 p).1 j = (fX0_fo1 u ho d k ak w 0 0 p).1 j := by
  unfold fX0_fo2
  split
  · rw [si_1, if_neg h2, si_1, if_neg h1]
  · rfl
section TRK
variable {v u : St} {n m : Nat} {Hn P : Int} {l : Nat → Nat} {ho d k : Int32}
theorem fW_tr (hq : IVq n Hn P v.2.1 u.2.1) (hE : EN (q3 v ho k) (d3 v) n m l) (hn : n ≤ 60) {t : Nat} (ht : t < m) {fs : Int32} (hfs : u.2.1 8 ho.toNatClampNeg = fs) : ∀ e, e ≤ m →
    (fW u ho d k (nI (l t)) l e).1 20 = (if e ≤ t then 1 else b2 (lsF fs (v.2.1 10) (v.2.1 11) l t)) ∧
    (fW u ho d k (nI (l t)) l e).1 21 = (if e ≤ t then 0 else if lsF fs (v.2.1 10) (v.2.1 11) l t = true then 0 else snF fs (v.2.1 10) (v.2.1 11) (v.2.1 12) l t) ∧
    (fW u ho d k (nI (l t)) l e).1 22 = (if e ≤ t then 0 else if lsF fs (v.2.1 10) (v.2.1 11) l t = true then 0 else nI (bhF fs (v.2.1 10) (v.2.1 11) l t e))
  | 0, _ => by
    rw [if_pos (Nat.zero_le _), if_pos (Nat.zero_le _), if_pos (Nat.zero_le _)]
    exact ⟨rfl, rfl, rfl⟩
  | e + 1, he => by
    obtain ⟨h20, h21, h22⟩ := fW_tr hq hE hn ht hfs e (by omega)
    obtain ⟨h18, h19⟩ := fW_18 (d := d) (ak := nI (l t)) hq hE hn e (by omega)
    rw [hfs] at h18 h19
    have hl := (hE.1 e (by omega)).1
    have hlt := (hE.1 t ht).1
    obtain ⟨a0, a1, a2, a3, a4, -⟩ := hq (l e) hl
    have hw := fW_fw u ho d k (nI (l t)) l e
    have hgo : fX0_fgo u ho d k (nI (l t)) (fW u ho d k (nI (l t)) l e) 0 0 (nI (l e)) = true ↔ lsF fs (v.2.1 10) (v.2.1 11) l e = false := by
      unfold fX0_fgo lsF
      rw [nN (by omega), hw.2, a2, h18]
      by_cases z : v.2.1 10 (l e) = hlF fs (v.2.1 10) (v.2.1 11) l e
      · rw [if_pos z.symm, decide_eq_true z]; exact ⟨fun _ => rfl, fun _ => rfl⟩
      · rw [if_neg (fun y => z y.symm), decide_eq_false z]; exact ⟨fun y => absurd y (by decide), fun y => absurd y (by decide)⟩
    have hsm : pSame (nI (l e)) (nI (l t)) = true ↔ e = t := by
      rw [pSame_n (by omega) (by omega)]
      refine ⟨fun z => ?_, fun z => by rw [z]⟩
      by_cases c1 : e < t
      · have := hE.2.1 e t c1 ht; rw [z] at this; exact absurd this bef_irr
      · by_cases c2 : t < e
        · have := hE.2.1 t e c2 (by omega); rw [z] at this; exact absurd this bef_irr
        · omega
    rw [fW, fo2_j (by decide) (by decide), fo2_j (by decide) (by decide), fo2_j (by decide) (by decide)]
    unfold fX0_fo1
    by_cases c1 : e = t
    · have hsub : e ≤ t := by omega
      rw [if_pos hsub] at h20 h21 h22
      rw [if_pos (hsm.mpr c1), if_neg (show ¬ e + 1 ≤ t by omega), if_neg (show ¬ e + 1 ≤ t by omega), if_neg (show ¬ e + 1 ≤ t by omega), bhF_0 _ _ _ _ t (e + 1) (by omega)]
      by_cases c2 : lsF fs (v.2.1 10) (v.2.1 11) l e = false
      · rw [if_pos (hgo.mpr c2)]
        rw [c1] at c2 h19
        rw [c2, if_neg (by decide), if_neg (by decide)]
        refine ⟨?_, ?_, ?_⟩
        · rw [si_1, if_neg (by decide), si_1, if_pos rfl]
        · rw [si_1, if_pos rfl, c1]; exact h19
        · rw [si_1, if_neg (by decide), si_1, if_neg (by decide)]; exact h22
      · rw [if_neg (fun y => c2 (hgo.mp y)), if_neg (fun y => c2 (hgo.mp y))]
        rw [c1] at c2
        have c3 : lsF fs (v.2.1 10) (v.2.1 11) l t = true := by
          cases z : lsF fs (v.2.1 10) (v.2.1 11) l t with
          | true => rfl
          | false => exact absurd z c2
        rw [c3, if_pos rfl, if_pos rfl]
        exact ⟨h20, h21, h22⟩
    · rw [if_neg (fun y => c1 (hsm.mp y))]
      by_cases c2 : e < t
      · have hsub : e ≤ t := by omega
        rw [if_pos hsub] at h20 h21 h22
        rw [if_pos (show e + 1 ≤ t by omega), if_pos (show e + 1 ≤ t by omega), if_pos (show e + 1 ≤ t by omega)]
        rw [if_neg (show ¬ (fW u ho d k (nI (l t)) l e).1 20 = 0 by rw [h20]; decide)]
        split <;> exact ⟨h20, h21, h22⟩
      · have hsub : ¬ e ≤ t := by omega
        rw [if_neg hsub] at h20 h21 h22
        rw [if_neg (show ¬ e + 1 ≤ t by omega), if_neg (show ¬ e + 1 ≤ t by omega), if_neg (show ¬ e + 1 ≤ t by omega), bhF]
        by_cases c3 : lsF fs (v.2.1 10) (v.2.1 11) l e = false
        · rw [if_pos (hgo.mpr c3), if_pos (show t < e ∧ lsF fs (v.2.1 10) (v.2.1 11) l e = false from ⟨by omega, c3⟩)]
          cases c4 : lsF fs (v.2.1 10) (v.2.1 11) l t with
          | true =>
            rw [c4] at h20 h21 h22
            rw [if_neg (show ¬ (fW u ho d k (nI (l t)) l e).1 20 = 0 by rw [h20]; decide)]
            exact ⟨h20, h21, h22⟩
          | false =>
            rw [c4] at h20 h21 h22
            rw [if_pos (show (fW u ho d k (nI (l t)) l e).1 20 = 0 by rw [h20]; rfl)]
            refine ⟨?_, ?_, ?_⟩
            · rw [si_1, if_neg (by decide)]; exact h20
            · rw [si_1, if_neg (by decide)]; exact h21
            · rw [si_1, if_pos rfl, h22, if_neg (by decide), if_neg (by decide), nI_1]
        · rw [if_neg (fun y => c3 (hgo.mp y)), if_neg (show ¬ (t < e ∧ lsF fs (v.2.1 10) (v.2.1 11) l e = false) from fun y => c3 y.2)]
          exact ⟨h20, h21, h22⟩
end TRK
/-- the order is one -/
theorem EN.inj {q : Nat → Bool} {D : Nat → Int} {P m : Nat} {l : Nat → Nat} (h : EN q D P m l) {i j : Nat} (hi : i < m) (hj : j < m) (e : l i = l j) : i = j := by
  by_cases c1 : i < j
  · have := h.2.1 i j c1 hj; rw [e] at this; exact absurd this bef_irr
  · by_cases c2 : j < i
    · have := h.2.1 j i c2 hi; rw [e] at this; exact absurd this bef_irr
    · omega
theorem EN.same {q : Nat → Bool} {D : Nat → Int} {P m m' : Nat} {l l' : Nat → Nat} (h : EN q D P m l) (h' : EN q D P m' l') : ∀ i, i < m → i < m' ∧ l i = l' i := by
  intro i
  induction i using Nat.strongRecOn with
  | ind i ih =>
    intro hi
    obtain ⟨j, hj, hjl⟩ := h'.2.2 (l i) (h.1 i hi).1 (h.1 i hi).2
    have hji : ¬ j < i := fun z => by
      obtain ⟨-, e⟩ := ih j z (by omega)
      have := h.inj (i := j) (j := i) (by omega) hi (e.trans hjl)
      omega
    refine ⟨by omega, ?_⟩
    by_cases hje : j = i
    · rw [hje] at hjl; exact hjl.symm
    · exfalso
      obtain ⟨a, ha, hal⟩ := h.2.2 (l' i) (h'.1 i (by omega)).1 (h'.1 i (by omega)).2
      have hai : ¬ a < i := fun z => by
        obtain ⟨z1, e⟩ := ih a z (by omega)
        have := h'.inj (i := a) (j := i) z1 (by omega) (e.symm.trans hal)
        omega
      by_cases hae : a = i
      · rw [hae] at hal
        have := h'.inj (i := j) (j := i) hj (by omega) (hjl.trans hal)
        omega
      · have b1 := h.2.1 i a (by omega) ha
        have b2 := h'.2.1 i j (by omega) hj
        rw [hal] at b1
        rw [hjl] at b2
        exact bef_irr (bef_tr b1 b2)
theorem hlF_cong {fs : Int32} {F T : Nat → Int32} {l l' : Nat → Nat} {m : Nat} (h : ∀ i, i < m → l i = l' i) : ∀ i, i ≤ m → hlF fs F T l i = hlF fs F T l' i
  | 0, _ => rfl
  | i + 1, hi => by rw [hlF, hlF, hlF_cong h i (by omega), h i (by omega)]
/-- a paper that counts is known by that day -/
theorem cnt_day {v u : St} {n : Nat} {Hn P : Int} (hq : IVq n Hn P v.2.1 u.2.1) {p : Nat} (hp : p < n) (hn : n ≤ 60) {k : Int32} (h : fX3_counts v (nI p) k = true) : d3 v p ≤ k.toInt := by
  obtain ⟨-, -, -, -, -, -, -, -, -, -, -, -, b1, b2, b3, b4, -⟩ := hq p hp
  revert h
  unfold fX3_counts
  rw [nN (by omega)]
  by_cases c : k < v.2.1 15 p
  · rw [if_pos c]; intro z; cases z
  · intro _
    rw [t_lt] at c
    unfold d3
    omega
theorem p_loose {v u : St} {n : Nat} (pa k : Int32) (h : IV v u n) : (fX3_loose v pa k).1 = (fX0_loose u pa k).1 ∧ IV (fX3_loose v pa k).2 (fX0_loose u pa k).2 n ∧ okX3_loose v pa k ∧ okX0_loose n u pa k := by
  obtain ⟨e15, e19, hn⟩ := h.1.2.2.1
  have e19i : (v.1 19).toInt = n := by rw [e19]; exact nI_toInt (by omega)
  have hq := h.2.2.2.2.1
  by_cases c : 0 ≤ pa.toInt ∧ pa.toInt < n
  · obtain ⟨p, hp⟩ : ∃ p : Nat, pa.toInt = p := ⟨pa.toInt.toNat, by omega⟩
    have hpa : pa = nI p := t_eq.mpr (by rw [nI_i (by omega)]; exact hp)
    have hpn : p < n := by omega
    subst hpa
    have hpA : fX0_paperAt u (nI p) = nI p := by rw [pA0, e15, e19i, if_pos c]
    have hneg : ¬ nI p < 0 := by rw [t_lt, k_0]; omega
    have his : fX3_isPaper v (nI p) = true := by rw [isQ3, e19i]; exact c
    obtain ⟨a0, a1, a2, a3, a4, a5, a6, a7, a8, b1, -⟩ := hq p hpn
    have hcnt := cnt_eq hq FW.rf hpn hn k
    have hvp : vp_in (nI p) 60 := vp_in_nI (by omega) (by decide)
    have hpin : pIn n (nI p) := ⟨hneg, by rw [nN (by omega)]; exact hpn⟩
    unfold rg at b1
    have hho : 0 ≤ (v.2.1 9 p).toInt ∧ (v.2.1 9 p).toInt < (v.1 7).toInt := by omega
    by_cases c2 : fX3_counts v (nI p) k = true
    · -- the model's line does not hang on the day asked
      obtain ⟨w, m, m1, l, e1, hm, hm1, h20, hE, hF, h17, h18, g2, g3, e2, e8, ok3, ok0, -⟩ := fol_both (v.2.1 9 p) k k (nI p) h hho (Or.inr (by rw [nN (by omega)]; exact hpn))
      obtain ⟨w', m', m1', l', e1', hm', hm1', h20', hE', hF', h17', h18', g2', g3', e2', e8', ok3', ok0', -⟩ := fol_both (v.2.1 9 p) 0 k (nI p) h hho (Or.inr (by rw [nN (by omega)]; exact hpn))
      have hqp : q3 v (v.2.1 9 p) k p = true := by unfold q3; rw [decide_eq_true rfl, c2]; rfl
      obtain ⟨t, ht, htp⟩ := hE.2.2 p hpn hqp
      obtain ⟨t', ht', htp'⟩ := hE'.2.2 p hpn hqp
      have hd := cnt_day hq hpn hn c2
      have htm : t < m1 := Nat.not_le.mp (fun z => by have := g3 t z ht; rw [htp] at this; omega)
      have hsame := hE.same hE'
      have htt : t' = t := hE'.inj ht' (hsame t ht).1 (by rw [htp', ← (hsame t ht).2, htp])
      have hls : w'.2.1 18 p = b2 (lsF (v.2.1 3 (v.2.1 9 p).toNatClampNeg) (v.2.1 10) (v.2.1 11) l t) := by
        have := h18' t' ht'
        rw [htp'] at this
        rw [this, htt]
        unfold lsF
        rw [← (hsame t ht).2, hlF_cong (fun i hi => (hsame i hi).2) t (by omega)]
      have htr := (fW_tr (d := k) hq hE hn ht (fs := v.2.1 3 (v.2.1 9 p).toNatClampNeg) e8 m1 hm1).1
      rw [htp, if_neg (by omega)] at htr
      have hx : fX0_loose u (nI p) k = (b2 (lsF (v.2.1 3 (v.2.1 9 p).toNatClampNeg) (v.2.1 10) (v.2.1 11) l t), fW u (v.2.1 9 p) k k (nI p) l m1) := by
        unfold fX0_loose
        rw [hpA, if_neg hneg, hcnt, if_pos c2, nN (by omega), a1, e2, htr]
        cases lsF (v.2.1 3 (v.2.1 9 p).toNatClampNeg) (v.2.1 10) (v.2.1 11) l t <;> rfl
      have hy : fX3_loose v (nI p) k = (b2 (lsF (v.2.1 3 (v.2.1 9 p).toNatClampNeg) (v.2.1 10) (v.2.1 11) l t), w') := by
        unfold fX3_loose
        rw [if_pos his, if_pos c2, nN (by omega), e1']
        show (if w'.2.1 18 p = 0 then ((0 : Int32), w') else (1, w')) = _
        rw [hls]
        cases lsF (v.2.1 3 (v.2.1 9 p).toNatClampNeg) (v.2.1 10) (v.2.1 11) l t <;> rfl
      refine ⟨by rw [hx, hy], by rw [hx, hy]; exact h.fol hF' (fW_fw _ _ _ _ _ _ _), ⟨fun _ => hvp, fun _ _ => hvp, fun _ _ => by rw [nN (by omega)]; exact ok3'⟩, okPA _ h, fun _ => by rw [hpA]; exact hpin, fun _ _ => by rw [hpA, nN (by omega), a1]; exact ok0⟩
    · refine ⟨?_, ?_, ⟨fun _ => hvp, fun _ z => absurd z c2, fun _ z => absurd z c2⟩, okPA _ h, fun _ => by rw [hpA]; exact hpin, fun _ z => by rw [hpA, hcnt] at z; exact absurd z c2⟩
      · unfold fX3_loose fX0_loose
        rw [if_pos his, if_neg c2, hpA, if_neg hneg, hcnt, if_neg c2]
      · unfold fX3_loose fX0_loose
        rw [if_pos his, if_neg c2, hpA, if_neg hneg, hcnt, if_neg c2]
        exact h
  · have hpA : fX0_paperAt u pa = -1 := by rw [pA0, e15, e19i, if_neg c]
    have his : ¬ fX3_isPaper v pa = true := by rw [isQ3, e19i]; exact c
    refine ⟨?_, ?_, ⟨fun z => absurd z his, fun z => absurd z his, fun z => absurd z his⟩, okPA pa h, fun z => absurd (by rw [hpA]; decide) z, fun z => absurd (by rw [hpA]; decide) z⟩
    · unfold fX3_loose fX0_loose
      rw [if_neg his, hpA, if_pos (by decide)]
    · unfold fX3_loose fX0_loose
      rw [if_neg his, hpA, if_pos (by decide)]
      exact h
