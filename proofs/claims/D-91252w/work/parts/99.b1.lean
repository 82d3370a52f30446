/-! THE PLAIN LAW, 24: adding a fraction. Own work. -/
set_option maxRecDepth 100000
/-- what both books know of a giving: A/M and Ap/M go together -/
def GV (N D to un A Ap M : Nat) : Prop := RF N D A M ∧ to * M = Ap * un ∧ un ∣ M ∧ 0 < M ∧ M ≤ 43046721 ∧ A ≤ M ∧ Ap ≤ M
theorem GV.bd {N D to un A Ap M : Nat} (h : GV N D to un A Ap M) : N ≤ 43046721 ∧ D ≤ 43046721 ∧ to ≤ 43046721 ∧ un ≤ 43046721 ∧ 0 < un ∧ 0 < D := by
  obtain ⟨h1, h2, h3, h4, h5, h6, h7⟩ := h
  have a1 := Nat.le_of_dvd h4 h1.dvd
  have a2 := Nat.le_of_dvd h4 h3
  have a3 := h1.le h6 h4
  have a4 : 0 < un := Nat.pos_of_dvd_of_pos h3 h4
  have a5 : to ≤ un := by
    refine Nat.le_of_mul_le_mul_right ?_ h4
    rw [h2, Nat.mul_comm un M]
    exact Nat.mul_le_mul_right un h7
  exact ⟨by omega, by omega, by omega, by omega, a4, h1.2.2⟩
theorem mul_bd {a b B C : Nat} (ha : a ≤ B) (hb : b ≤ C) : a * b ≤ B * C := Nat.mul_le_mul ha hb
theorem GV.m {N D to un A Ap M : Nat} (h : GV N D to un A Ap M) : RF ((N * un + to * D) / Nat.gcd (N * un + to * D) (D * un)) (D * un / Nat.gcd (N * un + to * D) (D * un)) (A + Ap) M ∧ fX3_divisor (nL (N * un + to * D)) (nL (D * un)) = nL (Nat.gcd (N * un + to * D) (D * un)) ∧ okX3_divisor (nL (N * un + to * D)) (nL (D * un)) ∧ N * un + to * D < 9223372036854775808 ∧ D * un < 9223372036854775808 ∧ 0 < D * un := by
  obtain ⟨b1, b2, b3, b4, b5, b6⟩ := h.bd
  obtain ⟨h1, h2, h3, h4, h5, h6, h7⟩ := h
  have c1 := mul_bd b1 b4
  have c2 := mul_bd b3 b2
  have c3 := mul_bd b2 b4
  have c4 : 0 < D * un := Nat.mul_pos b6 b5
  have c5 : (N * un + to * D) * (D * un) < 2 ^ 110 := Nat.lt_of_le_of_lt (mul_bd (show N * un + to * D ≤ 3706040377703682 by omega) (show D * un ≤ 1853020188851841 by omega)) (by decide)
  obtain ⟨g1, g2⟩ := gcd_m2 c5 (by decide) (by omega) (by omega)
  refine ⟨RF.red ?_ c4, g1, g2, by omega, by omega, c4⟩
  rw [Nat.add_mul, Nat.add_mul, Nat.mul_right_comm N, h1.1, Nat.mul_right_comm to, h2]
  rw [Nat.mul_assoc, Nat.mul_assoc Ap, Nat.mul_comm un D]
theorem GV.c {N D to un A Ap M : Nat} (h : GV N D to un A Ap M) : ∃ N' D', RF N' D' (A + Ap) M ∧ (∀ g x y : Nat, g = Nat.gcd D un → x = N * (un / g) + to * (D / g) → y = D / g * un → cmF 100 (nL D) (nL un) = nL g ∧ okC 100 (nL D) (nL un) ∧ 0 < g ∧ g < 9223372036854775808 ∧ cmF 100 (nL x) (nL y) = nL (Nat.gcd x y) ∧ okC 100 (nL x) (nL y) ∧ 0 < Nat.gcd x y ∧ Nat.gcd x y < 9223372036854775808 ∧ x < 9223372036854775808 ∧ y < 9223372036854775808 ∧ x / Nat.gcd x y = N' ∧ y / Nat.gcd x y = D') := by
  obtain ⟨b1, b2, b3, b4, b5, b6⟩ := h.bd
  obtain ⟨h1, h2, h3, h4, h5, h6, h7⟩ := h
  have c3 := mul_bd b2 b4
  have hg : 0 < Nat.gcd D un := Nat.gcd_pos_of_pos_right D b5
  have hgl : Nat.gcd D un ≤ un := Nat.le_of_dvd b5 (Nat.gcd_dvd_right D un)
  have eD : D / Nat.gcd D un * Nat.gcd D un = D := Nat.div_mul_cancel (Nat.gcd_dvd_left D un)
  have eu : un / Nat.gcd D un * Nat.gcd D un = un := Nat.div_mul_cancel (Nat.gcd_dvd_right D un)
  obtain ⟨g1, g2⟩ := gcd_c2 (n := 60) (f := 100) (x := D) (y := un) (Nat.lt_of_le_of_lt c3 (by decide)) (by decide) (by omega) (by omega)
  have ey : D / Nat.gcd D un * un = Nat.lcm D un := by rw [Nat.lcm, Nat.mul_comm D un, Nat.mul_comm (D / _) un, Nat.mul_div_assoc _ (Nat.gcd_dvd_left D un)]
  have yM : D / Nat.gcd D un * un ∣ M := by rw [ey]; exact Nat.lcm_dvd h1.dvd h3
  have yl := Nat.le_of_dvd h4 yM
  have y0 : 0 < D / Nat.gcd D un * un := Nat.pos_of_dvd_of_pos yM h4
  have exy : (N * (un / Nat.gcd D un) + to * (D / Nat.gcd D un)) * M = (A + Ap) * (D / Nat.gcd D un * un) := by
    refine Nat.eq_of_mul_eq_mul_right hg ?_
    rw [Nat.mul_right_comm, Nat.add_mul, Nat.mul_assoc N, eu, Nat.mul_assoc to, eD, Nat.mul_assoc (A + Ap), Nat.mul_right_comm (D / _), eD]
    rw [Nat.add_mul, Nat.add_mul, Nat.mul_right_comm N, h1.1, Nat.mul_right_comm to, h2, Nat.mul_assoc, Nat.mul_assoc Ap, Nat.mul_comm un D]
  have xl : N * (un / Nat.gcd D un) + to * (D / Nat.gcd D un) ≤ 2 * (D / Nat.gcd D un * un) := by
    refine Nat.le_of_mul_le_mul_right ?_ h4
    rw [exy, Nat.mul_right_comm]
    exact Nat.mul_le_mul_right _ (by omega)
  have c5 := mul_bd (show N * (un / Nat.gcd D un) + to * (D / Nat.gcd D un) ≤ 86093442 by omega) (show D / Nat.gcd D un * un ≤ 43046721 by omega)
  obtain ⟨g3, g4⟩ := gcd_c2 (n := 60) (f := 100) (x := N * (un / Nat.gcd D un) + to * (D / Nat.gcd D un)) (y := D / Nat.gcd D un * un) (Nat.lt_of_le_of_lt c5 (by decide)) (by decide) (by omega) (by omega)
  have hg2 := Nat.gcd_pos_of_pos_right (N * (un / Nat.gcd D un) + to * (D / Nat.gcd D un)) y0
  have hg3 := Nat.le_of_dvd y0 (Nat.gcd_dvd_right (N * (un / Nat.gcd D un) + to * (D / Nat.gcd D un)) (D / Nat.gcd D un * un))
  refine ⟨_, _, RF.red exy y0, ?_⟩
  rintro g x y rfl rfl rfl
  exact ⟨g1, g2, hg, by omega, g3, g4, hg2, by omega, by omega, by omega, rfl, rfl⟩
/-- both add alike -/
theorem add_b {w x : St} {c : Int32} {n N D to un A Ap M : Nat} (h : GV N D to un A Ap M) (hc : vp_in c 24) (m1 : w.2.2 50 c.toNatClampNeg = nL N) (m2 : w.2.2 51 c.toNatClampNeg = nL D) (k1 : x.2.2 25 c.toNatClampNeg = nL N) (k2 : x.2.2 26 c.toNatClampNeg = nL D) : ∃ N' D', RF N' D' (A + Ap) M ∧ fX3_gets w c (nL to) (nL un) = sl (sl w 50 c.toNatClampNeg (nL N')) 51 c.toNatClampNeg (nL D') ∧ fX0_add x c (nL to) (nL un) = sl (sl x 25 c.toNatClampNeg (nL N')) 26 c.toNatClampNeg (nL D') ∧ okX3_gets w c (nL to) (nL un) ∧ okX0_add n x c (nL to) (nL un) := by
  obtain ⟨a1, a2, a3, a4, a5, a6⟩ := h.m
  obtain ⟨N', D', r, e⟩ := h.c
  obtain ⟨e1, e2, e3, e4, e5, e6, e7, e8, e9, e10, e11, e12⟩ := e _ _ _ rfl rfl rfl
  obtain ⟨b1, b2, b3, b4, b5, b6⟩ := h.bd
  obtain ⟨u1, u2⟩ := a1.uniq r h.2.2.2.1
  have hgm : 0 < Nat.gcd (N * un + to * D) (D * un) := Nat.gcd_pos_of_pos_right _ a6
  have hgl := Nat.le_of_dvd a6 (Nat.gcd_dvd_right (N * un + to * D) (D * un))
  refine ⟨N', D', r, ?_, ?_, ?_, ?_⟩
  · unfold fX3_gets
    rw [m1, m2, nL_mul, nL_mul, nL_mul, nL_add, a2, nL_div a4 (by omega), nL_div a5 (by omega), u1, u2]
  · unfold fX0_add
    rw [k1, k2, e1, nL_div (show un < _ by omega) e4, nL_div (show D < _ by omega) e4, nL_mul, nL_mul, nL_mul, nL_add, e5, nL_div e9 e8, nL_div e10 e8, e11, e12]
  · unfold okX3_gets
    rw [m1, m2, nL_mul, nL_mul, nL_mul, nL_add]
    exact ⟨hc, a3, fun z => by rw [a2, nL_0 (by omega)] at z; omega⟩
  · unfold okX0_add
    rw [k1, k2, e1, nL_div (show un < _ by omega) e4, nL_div (show D < _ by omega) e4, nL_mul, nL_mul, nL_mul, nL_add]
    exact ⟨hc, e2, fun z => by rw [nL_0 (by omega)] at z; omega, e6, fun z => by rw [e5, nL_0 (by omega)] at z; omega⟩
