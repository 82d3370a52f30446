/-! THE PLAIN LAW, 8: the model follows a house, whole. Own work. -/
set_option maxRecDepth 100000
/-- who holds behind the first i papers of the line l; F: from, T: to -/
def hlF (fs : Int32) (F T : Nat → Int32) (l : Nat → Nat) : Nat → Int32
  | 0 => fs
  | i + 1 => if F (l i) = hlF fs F T l i then T (l i) else hlF fs F T l i
/-- who held at the end of the day d -/
def thF (fs : Int32) (F T D : Nat → Int32) (l : Nat → Nat) (d : Int32) : Nat → Int32
  | 0 => fs
  | i + 1 => if d < D (l i) then thF fs F T D l d i else hlF fs F T l (i + 1)
/-- whether the i-th paper of the line is loose -/
def lsF (fs : Int32) (F T : Nat → Int32) (l : Nat → Nat) (i : Nat) : Bool := !decide (F (l i) = hlF fs F T l i)
/-- what the model's follow leaves as it was -/
def F3 (v w : St) : Prop := (∀ k, ¬ k = 20 → w.1 k = v.1 k) ∧ (∀ k, ¬ k = 17 → ¬ k = 18 → w.2.1 k = v.2.1 k) ∧ w.2.2 = v.2.2
def I138 (v : St) (fs : Int32) (d : Int32) (m : Nat) (l : Nat → Nat) (x : St × Int32 × Int32 × Int32) : Prop := ∃ i : Nat, i ≤ m ∧ x.2.2.2 = nI i ∧ x.2.1 = hlF fs (v.2.1 10) (v.2.1 11) l i ∧ x.2.2.1 = thF fs (v.2.1 10) (v.2.1 11) (v.2.1 12) l d i ∧ x.1.1 20 = nI m ∧ F3 v x.1 ∧ (∀ j, j < m → x.1.2.1 17 j = nI (l j)) ∧ ∀ j, j < i → x.1.2.1 18 (l j) = b2 (lsF fs (v.2.1 10) (v.2.1 11) l j)
theorem i138_step {v : St} {fs ho d k : Int32} {u : St} {m n : Nat} {l : Nat → Nat} {q : Nat → Bool} (hn : n ≤ 60) (hm : m ≤ n) (hE : EN q (d3 v) n m l) : ∀ x, I138 v fs d m l x → (lpX3_follow_138 u ho d k x).1 = 0 → I138 v fs d m l (lpX3_follow_138 u ho d k x).2 ∧ 60 - (lpX3_follow_138 u ho d k x).2.2.2.2.toNatClampNeg < 60 - x.2.2.2.toNatClampNeg := by
  rintro ⟨w, hd, tn, ii⟩ ⟨i, hi, hii, hhd, htn, hw20, hF, hw, hls⟩
  have hii : ii = nI i := hii
  have hhd : hd = hlF fs (v.2.1 10) (v.2.1 11) l i := hhd
  have htn : tn = thF fs (v.2.1 10) (v.2.1 11) (v.2.1 12) l d i := htn
  have hw20 : w.1 20 = nI m := hw20
  have hF : F3 v w := hF
  have hw : ∀ j, j < m → w.2.1 17 j = nI (l j) := hw
  have hls : ∀ j, j < i → w.2.1 18 (l j) = b2 (lsF fs (v.2.1 10) (v.2.1 11) l j) := hls
  subst hii
  unfold lpX3_follow_138
  dsimp only
  rw [hw20]
  by_cases c1 : nI m ≤ nI i
  · simp only [if_pos c1]; intro z; cases z
  · simp only [if_neg c1]
    rw [t_le, nI_i (by omega), nI_i (by omega)] at c1
    have him : i < m := by omega
    have hln := (hE.1 i him).1
    rw [nN (by omega), hw i him, nN (by omega), hF.2.1 10 (by decide) (by decide), hF.2.1 11 (by decide) (by decide), hF.2.1 12 (by decide) (by decide), nI_1]
    have hmu : 60 - (nI (i + 1)).toNatClampNeg < 60 - i := by rw [nN (by omega)]; omega
    have hlo : b2 (if v.2.1 10 (l i) = hd then false else true) = b2 (lsF fs (v.2.1 10) (v.2.1 11) l i) := by
      unfold lsF
      rw [← hhd]
      by_cases z : v.2.1 10 (l i) = hd
      · rw [if_pos z, decide_eq_true z]; rfl
      · rw [if_neg z, decide_eq_false z]; rfl
    have key : ∀ (hd' tn' : Int32), hd' = hlF fs (v.2.1 10) (v.2.1 11) l (i + 1) → tn' = thF fs (v.2.1 10) (v.2.1 11) (v.2.1 12) l d (i + 1) → I138 v fs d m l (sa w 18 (l i) (b2 (if v.2.1 10 (l i) = hd then false else true)), hd', tn', nI (i + 1)) := fun hd' tn' e1 e2 => by
      refine ⟨i + 1, by omega, rfl, e1, e2, hw20, ⟨hF.1, fun q h1 h2 => ?_, hF.2.2⟩, fun j hj => ?_, fun j hj => ?_⟩
      · show (sa w 18 _ _).2.1 q = _
        rw [sa_o h2]; exact hF.2.1 q h1 h2
      · show (sa w 18 _ _).2.1 17 j = _
        rw [sa_o (by decide)]; exact hw j hj
      · show (sa w 18 _ _).2.1 18 (l j) = _
        rw [sa_s]
        by_cases z : j = i
        · rw [z, upd_s]; exact hlo
        · rw [upd_o (fun z2 => ?_)]
          · exact hls j (by omega)
          · have := hE.2.1 j i (by omega) him
            rw [z2] at this
            exact bef_irr this
    have hh1 : hlF fs (v.2.1 10) (v.2.1 11) l (i + 1) = if v.2.1 10 (l i) = hd then v.2.1 11 (l i) else hd := by rw [hlF, ← show hd = hlF fs (v.2.1 10) (v.2.1 11) l i from hhd]
    have ht1 : thF fs (v.2.1 10) (v.2.1 11) (v.2.1 12) l d (i + 1) = if d < v.2.1 12 (l i) then tn else hlF fs (v.2.1 10) (v.2.1 11) l (i + 1) := by rw [thF, ← show tn = thF fs (v.2.1 10) (v.2.1 11) (v.2.1 12) l d i from htn]
    by_cases c2 : v.2.1 10 (l i) = hd
    · rw [if_pos c2] at hh1
      rw [hh1] at ht1
      simp only [if_pos c2]
      rw [if_neg (show ¬ false = true by decide)]
      by_cases c3 : d < v.2.1 12 (l i)
      · rw [if_pos c3] at ht1
        simp only [if_pos c3]
        intro _
        have := key (v.2.1 11 (l i)) tn hh1.symm ht1.symm
        rw [if_pos c2] at this
        exact ⟨this, hmu⟩
      · rw [if_neg c3] at ht1
        simp only [if_neg c3]
        intro _
        have := key (v.2.1 11 (l i)) (v.2.1 11 (l i)) hh1.symm ht1.symm
        rw [if_pos c2] at this
        exact ⟨this, hmu⟩
    · rw [if_neg c2] at hh1
      rw [hh1] at ht1
      simp only [if_neg c2, if_true]
      by_cases c3 : d < v.2.1 12 (l i)
      · rw [if_pos c3] at ht1
        simp only [if_pos c3]
        intro _
        have := key hd tn hh1.symm ht1.symm
        rw [if_neg c2] at this
        exact ⟨this, hmu⟩
      · rw [if_neg c3] at ht1
        simp only [if_neg c3]
        intro _
        have := key hd hd hh1.symm ht1.symm
        rw [if_neg c2] at this
        exact ⟨this, hmu⟩
/-- the model's follow -/
theorem f3_follow {v : St} {ho d k : Int32} {n : Nat} (h19 : v.1 19 = nI n) (hn : n ≤ 60) : ∃ (w : St) (m : Nat) (l : Nat → Nat), fX3_follow v ho d k = (thF (v.2.1 3 ho.toNatClampNeg) (v.2.1 10) (v.2.1 11) (v.2.1 12) l d m, w) ∧ m ≤ n ∧ w.1 20 = nI m ∧ EN (q3 v ho k) (d3 v) n m l ∧ F3 v w ∧ (∀ j, j < m → w.2.1 17 j = nI (l j)) ∧ (∀ j, j < m → w.2.1 18 (l j) = b2 (lsF (v.2.1 3 ho.toNatClampNeg) (v.2.1 10) (v.2.1 11) l j)) ∧ (vp_in ho 8 → okX3_follow v ho d k) := by
  obtain ⟨w8, m, l, p8, hr8, hm, hw20, hw, hE, hF⟩ := i8_end (v := v) (ho := ho) (k := k) d h19 hn
  have hfs : w8.2.1 3 = v.2.1 3 := hF.2.1 3 (by decide)
  have hin : I138 v (v.2.1 3 ho.toNatClampNeg) d m l (w8, v.2.1 3 ho.toNatClampNeg, v.2.1 3 ho.toNatClampNeg, 0) := ⟨0, Nat.zero_le _, rfl, rfl, rfl, hw20, ⟨hF.1, fun q h1 _ => hF.2.1 q h1, hF.2.2⟩, hw, fun j hj => absurd hj (Nat.not_lt_zero _)⟩
  obtain ⟨b, h1, h2, h3⟩ := wh_run (lpX3_follow_138 v ho d k) (I138 v (v.2.1 3 ho.toNatClampNeg) d m l) (fun x => 60 - x.2.2.2.toNatClampNeg) (fun x hx hz => i138_step hn hm hE x hx hz) 61 (w8, v.2.1 3 ho.toNatClampNeg, v.2.1 3 ho.toNatClampNeg, 0) hin (by show 60 - _ < 61; omega)
  obtain ⟨w, hd, tn, ii⟩ := b
  obtain ⟨i, hi, hii, hhd, htn, gw20, gF, gw, gls⟩ := id h1
  have hii : ii = nI i := hii
  have gw20 : w.1 20 = nI m := gw20
  subst hii
  have hx : lpX3_follow_138 v ho d k (w, hd, tn, nI i) = (1, w, hd, tn, nI i) ∧ i = m := by
    revert h2
    unfold lpX3_follow_138
    dsimp only
    rw [gw20]
    by_cases c1 : nI m ≤ nI i
    · simp only [if_pos c1]
      intro _
      rw [t_le, nI_i (by omega), nI_i (by omega)] at c1
      exact ⟨trivial, by omega⟩
    · simp only [if_neg c1]
      intro z
      exfalso
      revert z
      repeat' split
      all_goals (intro z; first | exact absurd rfl z | exact absurd trivial z)
  obtain ⟨hx1, rfl⟩ := hx
  have hr138 : lpX3_follow_138_r v ho d k = (1, w, hd, tn, nI i) := by
    show wh (lpX3_follow_138 v ho d k) 61 ((lpX3_follow_8_r v ho d k).2.1, (lpX3_follow_8_r v ho d k).2.1.2.1 3 ho.toNatClampNeg, (lpX3_follow_8_r v ho d k).2.1.2.1 3 ho.toNatClampNeg, 0) = _
    rw [hr8]
    show wh (lpX3_follow_138 v ho d k) 61 (w8, w8.2.1 3 ho.toNatClampNeg, w8.2.1 3 ho.toNatClampNeg, 0) = _
    rw [hfs, h3, hx1]
  refine ⟨w, i, l, ?_, hm, gw20, hE, gF, gw, gls, fun hho => ?_⟩
  · unfold fX3_follow
    rw [hr138]
    show (tn, w) = _
    rw [show tn = _ from htn]
  · refine ⟨I8 v ho k n, I47x v n, I138 v (v.2.1 3 ho.toNatClampNeg) d i l, LOK.of (μ := fun x => 60 - x.2.toNatClampNeg) i8_init (fun x hx hz => i8_step h19 hn x hx hz) (by show 60 - _ < 61; omega), ?_, ?_, ?_, ?_, ?_, ?_, ?_, hho, ?_, ?_, ?_⟩
    · rintro w2 p2 ⟨P, m2, l2, hP, hm2, hp, -, -, -, hF2⟩ c1
      have hp : p2 = nI P := hp
      have hF2 : F20 v w2 := hF2
      rw [hp, hF2.1 19 (by decide), h19, t_le, nI_i (by omega), nI_i (by omega)] at c1
      rw [hp]; exact vp_in_nI (by omega) (by decide)
    · rintro w2 p2 ⟨P, m2, l2, hP, hm2, hp, -, -, -, hF2⟩ c1 _
      have hp : p2 = nI P := hp
      have hF2 : F20 v w2 := hF2
      rw [hp, hF2.1 19 (by decide), h19, t_le, nI_i (by omega), nI_i (by omega)] at c1
      rw [hp]; exact vp_in_nI (by omega) (by decide)
    · rintro w2 p2 ⟨P, m2, l2, hP, hm2, hp, g20, g17, gE, hF2⟩ c1 _ _
      have hp : p2 = nI P := hp
      have hF2 : F20 v w2 := hF2
      have g20 : w2.1 20 = nI m2 := g20
      rw [hp, hF2.1 19 (by decide), h19, t_le, nI_i (by omega), nI_i (by omega)] at c1
      subst hp
      refine LOK.of (μ := fun x => x.2.toNatClampNeg) ⟨P, m2, l2, rfl, by omega, hm2, fun i hi => (gE.1 i hi).1, g20, hF2, i47_init g17 g20⟩ ?_ (by show (w2.1 20).toNatClampNeg < 61; rw [g20, nN (by omega)]; omega)
      rintro x ⟨P3, m3, l3, hp3, hP3, hm3, hl3, h203, hF3, hI3⟩ hz
      have e3 : P = P3 := (nI_eq (by omega) (by omega)).mp hp3
      subst e3
      obtain ⟨a1, a2⟩ := i47_step hF3 (by omega) hm3 hl3 x hI3 hz
      exact ⟨⟨P, m3, l3, rfl, hP3, hm3, hl3, h203, hF3, a1⟩, a2⟩
    · rintro w2 p2 - - - - x ai ⟨P3, m3, l3, hp3, hP3, hm3, hl3, h203, hF3, a, ha, hai, -⟩ hz
      have hai : ai = nI a := hai
      rw [hai, t_le, nI_i (by omega), k_0] at hz
      rw [hai, n_sub1 (by omega) (by omega)]; exact vp_in_nI (by omega) (by decide)
    · rintro w2 p2 - - - - x ai ⟨P3, m3, l3, hp3, hP3, hm3, hl3, h203, hF3, a, ha, hai, -, -, -, g4, -⟩ hz
      have hai : ai = nI a := hai
      rw [hai, t_le, nI_i (by omega), k_0] at hz
      rw [hai, n_sub1 (by omega) (by omega), nN (by omega), show x.2.1 17 (a - 1) = _ from g4 (a - 1) (by omega)]
      exact vp_in_nI (by have := hl3 (a - 1) (by omega); omega) (by decide)
    · rintro w2 p2 - - - - x ai ⟨P3, m3, l3, hp3, hP3, hm3, hl3, h203, hF3, a, ha, hai, -⟩ hz _
      have hai : ai = nI a := hai
      rw [hai]; exact vp_in_nI (by omega) (by decide)
    · rintro w2 p2 ⟨P, m2, l2, hP, hm2, hp, g20, g17, gE, hF2⟩ c1 _ _
      have hp : p2 = nI P := hp
      have hF2 : F20 v w2 := hF2
      rw [hp, hF2.1 19 (by decide), h19, t_le, nI_i (by omega), nI_i (by omega)] at c1
      subst hp
      obtain ⟨x, a, hr, -, ha, -⟩ := i47_end (u := v) (ho := ho) (d := d) (k := k) hF2 (by omega) hm2 (fun i hi => (gE.1 i hi).1) g17 g20
      rw [hr]; exact vp_in_nI (by omega) (by decide)
    · rw [show (lpX3_follow_8_r v ho d k).2.1 = w8 by rw [hr8], hfs]
      exact LOK.of (μ := fun x => 60 - x.2.2.2.toNatClampNeg) hin (fun x hx hz => i138_step hn hm hE x hx hz) (by show 60 - _ < 61; omega)
    · rintro w2 hd2 tn2 i2 ⟨j, hj, hij, -, -, g20, -⟩ hz
      have hij : i2 = nI j := hij
      have g20 : w2.1 20 = nI i := g20
      rw [hij, g20, t_le, nI_i (by omega), nI_i (by omega)] at hz
      rw [hij]; exact vp_in_nI (by omega) (by decide)
    · rintro w2 hd2 tn2 i2 ⟨j, hj, hij, -, -, g20, -, g17, -⟩ hz
      have hij : i2 = nI j := hij
      have g20 : w2.1 20 = nI i := g20
      rw [hij, g20, t_le, nI_i (by omega), nI_i (by omega)] at hz
      rw [hij, nN (by omega), show w2.2.1 17 j = _ from g17 j (by omega)]
      exact vp_in_nI (by have := (hE.1 j (by omega)).1; omega) (by decide)
