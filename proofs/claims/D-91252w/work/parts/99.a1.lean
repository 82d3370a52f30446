/-! THE PLAIN LAW, 21: joy and swap. Own work. -/
set_option maxRecDepth 100000
section BS
variable {H : Nat} {jy : Nat → Nat → Int32}
def JR (jy : Nat → Nat → Int32) : Prop := ∀ h g, h < 8 → g < 8 → 0 ≤ (jy h g).toInt ∧ (jy h g).toInt ≤ 1000
/-- g is a house that h may have, the set S being left -/
def can (jy : Nat → Nat → Int32) (pv : Nat → Int32) (h S g : Nat) : Prop := bit S g = true ∧ (h = g ∨ 0 < (jy h g).toInt) ∧ 0 ≤ (pv (off S g)).toInt
theorem bsF_in {pv : Nat → Int32} {h S B : Nat} (hJ : JR jy) (hB : B ≤ 100000) (hh : h < 8) (hp : ∀ S, -1 ≤ (pv S).toInt ∧ (pv S).toInt ≤ B) : ∀ k, k ≤ 8 → -1 ≤ (bsF pv jy h S k).toInt ∧ (bsF pv jy h S k).toInt ≤ B + 1000
  | 0, _ => by rw [bsF, k_m1]; omega
  | k + 1, hk => by
    have ih := bsF_in hJ hB hh hp (S := S) k (by omega)
    have h1 := hJ h k hh (by omega)
    have h2 := hp (off S k)
    rw [bsF]
    split
    · rename_i c
      split
      · rw [t_add (by omega) (by omega)]; omega
      · exact ih
    · exact ih
theorem bst_in (hJ : JR jy) (hH : H ≤ 8) : ∀ j, j ≤ H → ∀ S, -1 ≤ (bst H jy j S).toInt ∧ (bst H jy j S).toInt ≤ 1000 * j
  | 0, _, S => by rw [bst, k_0]; omega
  | j + 1, hj, S => by
    have ih := bst_in hJ hH j (by omega)
    show -1 ≤ (bsF (bst H jy j) jy (H - (j + 1)) S H).toInt ∧ (bsF (bst H jy j) jy (H - (j + 1)) S H).toInt ≤ _
    have := bsF_in (pv := bst H jy j) (h := H - (j + 1)) (S := S) (B := 1000 * j) hJ (by omega) (by omega) (fun S => by have := ih S; omega) H hH
    omega
theorem bsF_at {pv : Nat → Int32} {h S : Nat} : ∀ k, bsF pv jy h S k = -1 ∨ ∃ g, g < k ∧ can jy pv h S g ∧ pv (off S g) + jy h g = bsF pv jy h S k
  | 0 => Or.inl (by rw [bsF])
  | k + 1 => by
    rw [bsF]
    have ih := bsF_at (pv := pv) (h := h) (S := S) k
    have up : bsF pv jy h S k = -1 ∨ ∃ g, g < k + 1 ∧ can jy pv h S g ∧ pv (off S g) + jy h g = bsF pv jy h S k := by
      rcases ih with e | ⟨g, a, b, c⟩
      · exact Or.inl e
      · exact Or.inr ⟨g, by omega, b, c⟩
    split
    · rename_i c
      split
      · exact Or.inr ⟨k, by omega, c, rfl⟩
      · exact up
    · exact up
theorem bsF_ge {pv : Nat → Int32} {h S g : Nat} : ∀ k, g < k → can jy pv h S g → (pv (off S g) + jy h g).toInt ≤ (bsF pv jy h S k).toInt
  | 0, a, _ => absurd a (by omega)
  | k + 1, a, c => by
    rw [bsF]
    by_cases e : g = k
    · subst e
      rw [if_pos (show bit S g = true ∧ (h = g ∨ 0 < (jy h g).toInt) ∧ 0 ≤ (pv (off S g)).toInt from c)]
      split
      · exact Int.le_refl _
      · rename_i x; rw [t_lt] at x; omega
    · have ih := bsF_ge (pv := pv) (h := h) (S := S) k (by omega) c
      split
      · split
        · rename_i x; rw [t_lt] at x; omega
        · exact ih
      · exact ih
theorem bst_at {j : Nat} (hh : j < H) {S : Nat} (h0 : 0 ≤ (bst H jy (j + 1) S).toInt) : ∃ g, g < H ∧ can jy (bst H jy j) (H - (j + 1)) S g ∧ bst H jy j (off S g) + jy (H - (j + 1)) g = bst H jy (j + 1) S := by
  rcases bsF_at (jy := jy) (pv := bst H jy j) (h := H - (j + 1)) (S := S) H with e | e
  · exfalso
    have : bst H jy (j + 1) S = -1 := e
    rw [this, k_m1] at h0
    omega
  · exact e
theorem bst_all (hJ : JR jy) (hH : H ≤ 8) : ∀ j, j ≤ H → ∀ S, S < 2 ^ H → (∀ g, H - j ≤ g → g < H → bit S g = true) → 0 ≤ (bst H jy j S).toInt
  | 0, _, S, _, _ => by rw [bst, k_0]; omega
  | j + 1, hj, S, hS, hb => by
    have h1 : 0 ≤ (bst H jy j (off S (H - (j + 1)))).toInt := bst_all hJ hH j (by omega) _ (off_lt H (by omega) S hS _ (by omega)) (fun g a b => by
      rw [off_bit H (by omega) S hS _ (by omega) g b, hb g (by omega) b]
      simp only [Bool.true_and, Bool.not_eq_true', decide_eq_false_iff_not]; omega)
    have h2 := bsF_ge (jy := jy) (pv := bst H jy j) (h := H - (j + 1)) (S := S) (g := H - (j + 1)) H (by omega) ⟨hb _ (by omega) (by omega), Or.inl rfl, h1⟩
    have h3 := bst_in hJ hH j (by omega) (off S (H - (j + 1)))
    have h4 := hJ (H - (j + 1)) (H - (j + 1)) (by omega) (by omega)
    rw [t_add (by omega) (by omega)] at h2
    have h5 : (bst H jy (j + 1) S).toInt = (bsF (bst H jy j) jy (H - (j + 1)) S H).toInt := rfl
    omega
/-- the first that answers -/
theorem fst_run (F : Int32 → Nat × Int32) (G : Nat → Prop) (H : Nat) (hH : H ≤ 8) (hF : ∀ k, k < H → (G k ∧ F (nI k) = (1, nI k)) ∨ (¬ G k ∧ F (nI k) = (0, nI (k + 1)))) (hE : ∃ k, k < H ∧ G k) : ∃ k, k < H ∧ G k ∧ (∀ j, j < k → ¬ G j) ∧ wh F 9 0 = (1, nI k) ∧ LOK F 9 0 (fun x => ∃ j, j < H ∧ x = nI j ∧ ∀ i, i < j → ¬ G i) := by
  obtain ⟨e, he, hGe⟩ := hE
  have hs : ∀ x, (∃ j, j < H ∧ x = nI j ∧ ∀ i, i < j → ¬ G i) → (F x).1 = 0 → (∃ j, j < H ∧ (F x).2 = nI j ∧ ∀ i, i < j → ¬ G i) ∧ 8 - (F x).2.toNatClampNeg < 8 - x.toNatClampNeg := by
    rintro x ⟨j, a, rfl, c⟩ h0
    rcases hF j a with ⟨g, f⟩ | ⟨g, f⟩
    · rw [f] at h0; cases h0
    · rw [f]
      have : j < e := by
        rcases Nat.lt_or_ge j e with y | y
        · exact y
        · rcases Nat.eq_or_lt_of_le y with y | y
          · subst y; exact absurd hGe g
          · exact absurd hGe (c e y)
      refine ⟨⟨j + 1, by omega, rfl, fun i hi => ?_⟩, ?_⟩
      · by_cases y : i = j
        · rw [y]; exact g
        · exact c i (by omega)
      · show 8 - (nI (j + 1)).toNatClampNeg < _
        rw [nN (by omega), nN (by omega)]; omega
  have h0 : ∃ j, j < H ∧ (0 : Int32) = nI j ∧ ∀ i, i < j → ¬ G i := ⟨0, by omega, rfl, fun i hi => absurd hi (by omega)⟩
  have hl : LOK F 9 0 (fun x => ∃ j, j < H ∧ x = nI j ∧ ∀ i, i < j → ¬ G i) := LOK.of (μ := fun x => 8 - x.toNatClampNeg) h0 hs (by show 8 - _ < 9; omega)
  obtain ⟨b, ⟨j, a, rfl, c⟩, h2, h3⟩ := wh_run F _ (fun x => 8 - x.toNatClampNeg) hs 9 0 h0 (by show 8 - _ < 9; omega)
  rcases hF j a with ⟨g, f⟩ | ⟨g, f⟩
  · exact ⟨j, a, g, c, by rw [h3]; exact f, hl⟩
  · rw [f] at h2; exact absurd rfl h2
end BS
theorem n_m1 {k : Nat} (h : 1 ≤ k) (h2 : k < 2147483648) : nI k - 1 = nI (k - 1) := by
  rw [t_eq, t_sub (by rw [nI_i h2, k_1]; omega) (by rw [nI_i h2, k_1]; omega), nI_i h2, k_1, nI_i (by omega)]; omega
section JS
variable {v u : St} {n H : Nat}
theorem IV.hs (h : IV v u n) : ∃ H : Nat, H ≤ 8 ∧ v.1 7 = nI H ∧ u.1 14 = nI H := by
  obtain ⟨a, b, c⟩ := h.1.2.1
  have e : v.1 7 = nI (v.1 7).toInt.toNat := by rw [t_eq, nI_i (by omega)]; omega
  exact ⟨(v.1 7).toInt.toNat, by omega, e, by rw [a]; exact e⟩
theorem IV.jc (h : IV v u n) : JC u (jyM v) := fun a b ha hb => (h.2.2.2.2.2.2.2 a b ha hb).1
theorem IV.jr (h : IV v u n) : JR (jyM v) := fun a b ha hb => (h.2.2.2.2.2.2.2 a b ha hb).2
theorem IV.swp (h : IV v u n) {w x : St} (hF : FS v w) (hC : FC u x) : IV w x n := h.keep (fun k _ => by rw [hF.1]) (fun k hk => hF.2.2 k (by omega)) (fun k _ => by rw [hC.1]) (fun k hk => hC.2.2 k (by omega)) (by rw [hC.1]; exact h.1.2.2.2.2.2.2.2.2)
theorem p_joy (h : IV v u n) : (fX3_joy v).1 = (fX0_joy u).1 ∧ IV (fX3_joy v).2 (fX0_joy u).2 n ∧ okX3_joy v ∧ okX0_joy n u ∧ FS v (fX3_joy v).2 := by
  obtain ⟨H, hH, e7, e14⟩ := h.hs
  have h27 := pw_256 hH
  have hp := Nat.two_pow_pos H
  obtain ⟨a1, a2⟩ := i5_end e7 hH
  obtain ⟨b1, b2⟩ := j5_end e14 h.jc hH
  have eS : ((1 : Int32) <<< (((fX0_swap u).1 14) &&& 31)) - 1 = nI (2 ^ H - 1) := by
    rw [b1.1, e14, sh_pow H (by omega), n_m1 (by omega) (by omega)]
  refine ⟨?_, h.swp a1 b1, solve_ok e7 hH, ⟨swap_ok n e14 h.jc hH, ?_⟩, a1⟩
  · show (fX3_solve v).1 = (fX0_swap u).2.1 (50 + 0) _
    rw [eS, nN (by omega), solve_v e7 hH, b2 0 _ (by omega) (by omega) (by omega)]; rfl
  · rw [eS, vp_in_iff, nI_i (by omega)]; omega
/-- what both look for -/
def Gd (jy : Nat → Nat → Int32) (H h S g : Nat) : Prop := can jy (bst H jy (H - h - 1)) h S g ∧ bst H jy (H - h - 1) (off S g) + jy h g = bst H jy (H - h) S
theorem Gd.ex {jy : Nat → Nat → Int32} {h S : Nat} (hh : h < H) (h0 : 0 ≤ (bst H jy (H - h) S).toInt) : ∃ g, g < H ∧ Gd jy H h S g := by
  have := bst_at (jy := jy) (H := H) (j := H - h - 1) (S := S) (by omega) (by rw [show H - h - 1 + 1 = H - h by omega]; exact h0)
  rw [show H - h - 1 + 1 = H - h by omega, show H - (H - h) = h by omega] at this
  obtain ⟨g, a, b, c⟩ := this
  exact ⟨g, a, b, c⟩
theorem g3 (h7 : v.1 7 = nI H) (hH : H ≤ 8) {ho : Int32} {h S k : Nat} {gt : Int32} (hS : S < 2 ^ H) (hh : h < H) (hk : k < H) : (Gd (jyM v) H h S k ∧ lpX3_swap_32 v ho (bst H (jyM v) (H - h) S) (nI (2 ^ H - 1 - S)) gt (nI h) (nI k) = (1, nI k)) ∨ (¬ Gd (jyM v) H h S k ∧ lpX3_swap_32 v ho (bst H (jyM v) (H - h) S) (nI (2 ^ H - 1 - S)) gt (nI h) (nI k) = (0, nI (k + 1))) := by
  have h27 := pw_256 hH
  obtain ⟨a1, a2⟩ := i5_end h7 hH
  have e0 : 2 ^ H - 1 - (2 ^ H - 1 - S) = S := by omega
  have hrb := rest_bit H (by omega) (2 ^ H - 1 - S) (by omega) k hk
  rw [e0] at hrb
  unfold lpX3_swap_32
  dsimp only
  rw [sh_bit0 _ (by omega) k (by omega), nI_1, nI_1]
  by_cases c3 : bit (2 ^ H - 1 - S) k = true
  · refine Or.inr ⟨fun y => ?_, by rw [if_pos (by rw [c3]; rfl)]⟩
    have := y.1.1
    rw [hrb, c3] at this; cases this
  · have c3f : bit (2 ^ H - 1 - S) k = false := Bool.eq_false_iff.mpr c3
    obtain ⟨ho1, ho2⟩ := rest_on H (by omega) _ (by omega) k hk c3f
    rw [e0] at ho2
    rw [if_neg (by rw [c3f]; decide), sh_on0 _ (by omega) k (by omega), n_256 (by omega) (by omega), nN (by omega), a2 (h + 1) _ (by omega) (by omega) ho1, ho2, show H - (h + 1) = H - h - 1 by omega, n_8 (by omega) (by omega), nN (by omega), a1.2.2 53 (by decide)]
    by_cases c4 : fX3_mayGet (fX3_solve v).2 (nI h) (nI k) = true
    · rw [if_pos c4]
      rw [mG3 a1 (by omega) (by omega)] at c4
      by_cases c5 : bst H (jyM v) (H - h - 1) (off S k) < 0
      · rw [if_pos c5]
        rw [t_lt, k_0] at c5
        exact Or.inr ⟨fun y => by have := y.1.2.2; omega, rfl⟩
      · rw [if_neg c5]
        rw [t_lt, k_0] at c5
        rw [Int32.add_comm]
        by_cases c6 : bst H (jyM v) (H - h - 1) (off S k) + v.2.1 53 (8 * h + k) = bst H (jyM v) (H - h) S
        · rw [if_pos c6]
          exact Or.inl ⟨⟨⟨by rw [hrb, c3f]; rfl, c4, by omega⟩, c6⟩, rfl⟩
        · rw [if_neg c6]
          exact Or.inr ⟨fun y => c6 y.2, rfl⟩
    · rw [if_neg c4]
      rw [mG3 a1 (by omega) (by omega)] at c4
      exact Or.inr ⟨fun y => c4 y.1.2.1, rfl⟩
theorem g0 {jy : Nat → Nat → Int32} (h14 : u.1 14 = nI H) (hJ : JC u jy) (hH : H ≤ 8) {ho : Int32} {h S k : Nat} {gt : Int32} (hS : S < 2 ^ H) (hh : h < H) (hk : k < H) : (Gd jy H h S k ∧ lpX0_swap_2_36 u ho (nI S) gt (nI h) (nI k) = (1, nI k)) ∨ (¬ Gd jy H h S k ∧ lpX0_swap_2_36 u ho (nI S) gt (nI h) (nI k) = (0, nI (k + 1))) := by
  have h27 := pw_256 hH
  obtain ⟨a1, a2⟩ := j5_end h14 hJ hH
  unfold lpX0_swap_2_36
  dsimp only
  rw [sh_bit0 _ (by omega) k (by omega), nI_1, nI_1]
  by_cases c3 : bit S k = true
  · have ho1 := off_lt H (by omega) S hS k hk
    rw [if_neg (by rw [c3]; decide), sh_off0 S (by omega) k (by omega), nN (show h < _ by omega), nN (show h + 1 < _ by omega), nN (show S < _ by omega), nN (show off S k < _ by omega), nN (show k < _ by omega), a2 (h + 1) (off S k) (by omega) (by omega) ho1, a2 h S (by omega) (by omega) hS, show H - (h + 1) = H - h - 1 by omega, a1.2.2 (40 + h) (by omega), hJ h k (by omega) (by omega)]
    by_cases c4 : fX0_canHave (fX0_swap u) (nI h) (nI k) = true
    · rw [if_pos c4]
      rw [cH0 a1 hJ (by omega) (by omega)] at c4
      by_cases c5 : bst H jy (H - h - 1) (off S k) < 0
      · rw [if_pos c5]
        rw [t_lt, k_0] at c5
        exact Or.inr ⟨fun y => by have := y.1.2.2; omega, rfl⟩
      · rw [if_neg c5]
        rw [t_lt, k_0] at c5
        by_cases c6 : bst H jy (H - h - 1) (off S k) + jy h k = bst H jy (H - h) S
        · rw [if_pos c6]
          exact Or.inl ⟨⟨⟨c3, c4, by omega⟩, c6⟩, rfl⟩
        · rw [if_neg c6]
          exact Or.inr ⟨fun y => c6 y.2, rfl⟩
    · rw [if_neg c4]
      rw [cH0 a1 hJ (by omega) (by omega)] at c4
      exact Or.inr ⟨fun y => c4 y.1.2.1, rfl⟩
  · rw [if_pos (b2_0.mpr (Bool.eq_false_iff.mpr c3))]
    exact Or.inr ⟨fun y => c3 y.1.1, rfl⟩
end JS
