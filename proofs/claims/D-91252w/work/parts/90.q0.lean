/-! THE PLAIN LAW, 11: holder, loose. Own work. -/
set_option maxRecDepth 100000
section HO
variable {v u : St} {n m m1 : Nat} {Hn P : Int} {l : Nat → Nat} {ho d k ak : Int32} {fs : Int32} {F T D : Nat → Int32}
theorem thF_lo (h : ∀ i, i < m1 → (D (l i)).toInt ≤ d.toInt) : ∀ i, i ≤ m1 → thF fs F T D l d i = hlF fs F T l i
  | 0, _ => rfl
  | i + 1, hi => by
    rw [thF, if_neg (by rw [t_lt]; have := h i (by omega); omega)]
theorem thF_hi (h : ∀ i, i < m1 → (D (l i)).toInt ≤ d.toInt) (h2 : ∀ i, m1 ≤ i → i < m → d.toInt < (D (l i)).toInt) (hm : m1 ≤ m) : thF fs F T D l d m = hlF fs F T l m1 := by
  have key : ∀ j, m1 + j ≤ m → thF fs F T D l d (m1 + j) = hlF fs F T l m1 := by
    intro j
    induction j with
    | zero => intro _; exact thF_lo h m1 (Nat.le_refl _)
    | succ j ih =>
      intro hj
      rw [show m1 + (j + 1) = (m1 + j) + 1 by omega, thF, if_pos (by rw [t_lt]; exact h2 (m1 + j) (by omega) (by omega))]
      exact ih (by omega)
  have := key (m - m1) (by omega)
  rw [show m1 + (m - m1) = m by omega] at this
  exact this
theorem fo1_18 {u w : St} {p : Int32} {j : Nat} (hj : ¬ (20 ≤ j ∧ j ≤ 22)) : (fX0_fo1 u ho d k ak w 0 0 p).1 j = w.1 j ∧ (fX0_fo1 u ho d k ak w 0 0 p).2 = w.2 := by
  unfold fX0_fo1
  repeat' split
  all_goals first | exact ⟨rfl, rfl⟩ | exact ⟨by rw [si_1, if_neg (by omega), si_1, if_neg (by omega)], rfl⟩ | exact ⟨by rw [si_1, if_neg (by omega)], rfl⟩
/-- since when -/
def snF (fs : Int32) (F T D : Nat → Int32) (l : Nat → Nat) : Nat → Int32
  | 0 => 0
  | i + 1 => if F (l i) = hlF fs F T l i then D (l i) else snF fs F T D l i
theorem fW_18 (hq : IVq n Hn P v.2.1 u.2.1) (hE : EN (q3 v ho k) (d3 v) n m l) (hn : n ≤ 60) : ∀ e, e ≤ m → (fW u ho d k ak l e).1 18 = hlF (u.2.1 8 ho.toNatClampNeg) (v.2.1 10) (v.2.1 11) l e ∧ (fW u ho d k ak l e).1 19 = snF (u.2.1 8 ho.toNatClampNeg) (v.2.1 10) (v.2.1 11) (v.2.1 12) l e
  | 0, _ => ⟨rfl, rfl⟩
  | e + 1, he => by
    obtain ⟨h1, h2⟩ := fW_18 hq hE hn e (by omega)
    have hl := (hE.1 e (by omega)).1
    obtain ⟨a0, a1, a2, a3, a4, -⟩ := hq (l e) hl
    have hw := fW_fw u ho d k ak l e
    have f18 := fo1_18 (ho := ho) (d := d) (k := k) (ak := ak) (u := u) (w := fW u ho d k ak l e) (p := nI (l e)) (j := 18) (by decide)
    have f19 := fo1_18 (ho := ho) (d := d) (k := k) (ak := ak) (u := u) (w := fW u ho d k ak l e) (p := nI (l e)) (j := 19) (by decide)
    have hgo : fX0_fgo u ho d k ak (fW u ho d k ak l e) 0 0 (nI (l e)) = true ↔ v.2.1 10 (l e) = hlF (u.2.1 8 ho.toNatClampNeg) (v.2.1 10) (v.2.1 11) l e := by
      unfold fX0_fgo
      rw [nN (by omega), hw.2, a2, h1]
      by_cases z : v.2.1 10 (l e) = hlF (u.2.1 8 ho.toNatClampNeg) (v.2.1 10) (v.2.1 11) l e
      · rw [if_pos z.symm]; exact ⟨fun _ => z, fun _ => rfl⟩
      · rw [if_neg (fun y => z y.symm)]; exact ⟨fun y => absurd y (by decide), fun y => absurd y z⟩
    rw [fW, fX0_fo2, hlF, snF]
    by_cases c : v.2.1 10 (l e) = hlF (u.2.1 8 ho.toNatClampNeg) (v.2.1 10) (v.2.1 11) l e
    · rw [if_pos (hgo.mpr c), if_pos c, if_pos c]
      refine ⟨?_, ?_⟩
      · rw [si_1, if_neg (by decide), si_1, if_pos rfl, f18.2, nN (by omega), hw.2, a3]
      · rw [si_1, if_pos rfl, f18.2, nN (by omega), hw.2, a4]
    · rw [if_neg (fun y => c (hgo.mp y)), if_neg c, if_neg c]
      exact ⟨f18.1.trans h1, f19.1.trans h2⟩
end HO
/-- both follow one house -/
theorem fol_both {v u : St} {n : Nat} (ho d k ak : Int32) (h : IV v u n) (hho : 0 ≤ ho.toInt ∧ ho.toInt < (v.1 7).toInt) (hak : pIxn n ak) : ∃ (w : St) (m m1 : Nat) (l : Nat → Nat), fX3_follow v ho d k = (hlF (v.2.1 3 ho.toNatClampNeg) (v.2.1 10) (v.2.1 11) l m1, w) ∧ m ≤ n ∧ m1 ≤ m ∧ w.1 20 = nI m ∧ EN (q3 v ho k) (d3 v) n m l ∧ F3 v w ∧ (∀ j, j < m → w.2.1 17 j = nI (l j)) ∧ (∀ j, j < m → w.2.1 18 (l j) = b2 (lsF (v.2.1 3 ho.toNatClampNeg) (v.2.1 10) (v.2.1 11) l j)) ∧ (∀ i, i < m1 → d3 v (l i) ≤ d.toInt) ∧ (∀ i, m1 ≤ i → i < m → d.toInt < d3 v (l i)) ∧ fX0_follow u ho d k ak = fW u ho d k ak l m1 ∧ u.2.1 8 ho.toNatClampNeg = v.2.1 3 ho.toNatClampNeg ∧ okX3_follow v ho d k ∧ okX0_follow n u ho d k ak ∧ n ≤ 60 := by
  obtain ⟨⟨s1, s2, s3, s4, s5, s6, s7, s8, s9⟩, hp, hh, hl, hq, hc, ht, hj⟩ := id h
  obtain ⟨e15, e19, hn⟩ := s3
  have hr7 := s2.2
  unfold rg at hr7
  have hvp : vp_in ho 8 := by rw [vp_in_iff]; omega
  obtain ⟨w, m, l, e1, hm, h20, hE, hF, h17, h18, hok3⟩ := f3_follow (v := v) (ho := ho) (d := d) (k := k) e19 hn
  obtain ⟨m1, g1, g2, g3, g4, g5⟩ := f0_follow (d := d) ak hq hE hn hm (e15.trans e19)
  have h2 : ∀ i, m1 ≤ i → i < m → d.toInt < d3 v (l i) := fun i hi him => by
    rcases g3 with z | z
    · omega
    · by_cases hie : i = m1
      · rw [hie]; exact z
      · have := hE.2.1 m1 i (by omega) him
        unfold bef at this
        omega
  refine ⟨w, m, m1, l, ?_, hm, g1, h20, hE, hF, h17, h18, g2, h2, g4, (hh ho.toNatClampNeg (by rw [t_nat]; omega)).1, hok3 hvp, g5 hvp hak, hn⟩
  rw [e1, thF_hi (m1 := m1) g2 h2 g1]
theorem IV.fol {v u w x : St} {n : Nat} (h : IV v u n) (hF : F3 v w) (hW : FW u x) : IV w x n := by
  refine h.keep (fun k hk => hF.1 k (by omega)) (fun k hk => hF.2.1 k (by omega) (by omega)) (fun k hk => hW.1 k (by omega)) (fun k hk => by rw [hW.2]) ?_
  rw [hW.1 31 (by decide)]; exact h.1.2.2.2.2.2.2.2.2
theorem p_holder {v u : St} {n : Nat} (ho d k : Int32) (h : IV v u n) : (fX3_holder v ho d k).1 = (fX0_holder u ho d k).1 ∧ IV (fX3_holder v ho d k).2 (fX0_holder u ho d k).2 n ∧ okX3_holder v ho d k ∧ okX0_holder n u ho d k := by
  have e14 := h.1.2.1.1
  have hb : fX0_isHouse u ho = true ↔ fX3_isHouse v ho = true := by rw [isH0, isH3, e14]
  by_cases c : fX3_isHouse v ho = true
  · obtain ⟨w, m, m1, l, e1, hm, hm1, h20, hE, hF, h17, h18, g2, g3, e2, e8, ok3, ok0, hn⟩ := fol_both ho d k (-1) h (isH3.mp c) (Or.inl (by decide))
    refine ⟨?_, ?_, fun _ => ok3, fun _ => ok0⟩
    · unfold fX3_holder fX0_holder
      rw [if_pos c, if_pos (hb.mpr c), e1, e2]
      show _ = (fW u ho d k (-1) l m1).1 18
      rw [(fW_18 h.2.2.2.2.1 hE hn m1 hm1).1, e8]
    · unfold fX3_holder fX0_holder
      rw [if_pos c, if_pos (hb.mpr c), e1, e2]
      exact h.fol hF (fW_fw u ho d k (-1) l m1)
  · refine ⟨?_, ?_, fun z => absurd z c, fun z => absurd (hb.mp z) c⟩
    · unfold fX3_holder fX0_holder
      rw [if_neg c, if_neg (fun z => c (hb.mp z))]
    · unfold fX3_holder fX0_holder
      rw [if_neg c, if_neg (fun z => c (hb.mp z))]
      exact h
