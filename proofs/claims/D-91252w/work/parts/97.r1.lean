/-! THE PLAIN LAW, 18: the greatest joy, as a table; the model's table. Own work. -/
set_option maxRecDepth 100000
theorem n_256 {a b : Nat} (ha : a < 100) (hb : b < 100000) : 256 * nI a + nI b = nI (256 * a + b) := by
  have e : (256 * nI a).toInt = 256 * (a : Int) := by
    rw [Int32.toInt_mul, nI_i (by omega), show (256 : Int32).toInt = 256 from rfl]
    exact Int.bmod_eq_of_le (by omega) (by omega)
  rw [t_eq, t_add (by rw [e, nI_i (by omega)]; omega) (by rw [e, nI_i (by omega)]; omega), e, nI_i (by omega), nI_i (by omega)]
  omega
theorem n_8 {a b : Nat} (ha : a < 100) (hb : b < 100000) : 8 * nI a + nI b = nI (8 * a + b) := by
  have e : (8 * nI a).toInt = 8 * (a : Int) := by
    rw [Int32.toInt_mul, nI_i (by omega), k_8]
    exact Int.bmod_eq_of_le (by omega) (by omega)
  rw [t_eq, t_add (by rw [e, nI_i (by omega)]; omega) (by rw [e, nI_i (by omega)]; omega), e, nI_i (by omega), nI_i (by omega)]
  omega
theorem n_le {a b : Nat} (ha : a < 2147483648) (hb : b < 2147483648) : nI a ≤ nI b ↔ a ≤ b := by rw [t_le, nI_i ha, nI_i hb]; omega
def may (jy : Nat → Nat → Int32) (h k : Nat) : Prop := h = k ∨ 0 < (jy h k).toInt
def bsF (pv : Nat → Int32) (jy : Nat → Nat → Int32) (h S : Nat) : Nat → Int32
  | 0 => -1
  | k + 1 => if bit S k = true ∧ (h = k ∨ 0 < (jy h k).toInt) ∧ 0 ≤ (pv (off S k)).toInt then (if bsF pv jy h S k < pv (off S k) + jy h k then pv (off S k) + jy h k else bsF pv jy h S k) else bsF pv jy h S k
/-- the greatest joy of the last j houses, the set S being left -/
def bst (H : Nat) (jy : Nat → Nat → Int32) : Nat → Nat → Int32
  | 0 => fun _ => 0
  | j + 1 => fun S => bsF (bst H jy j) jy (H - (j + 1)) S H
theorem pw_256 {H : Nat} (h : H ≤ 8) : 2 ^ H ≤ 256 := by
  have := Nat.pow_le_pow_right (show 0 < 2 by decide) h
  exact this
section SV
variable {v u u0 v0 : St} {H : Nat}
def jyM (v : St) (h g : Nat) : Int32 := v.2.1 53 (8 * h + g)
def FS (v w : St) : Prop := w.1 = v.1 ∧ w.2.2 = v.2.2 ∧ ∀ k, ¬ k = 54 → w.2.1 k = v.2.1 k
/-- the rows above h0 stand, and of row h0 the first z0 -/
def RM3 (v w : St) (H h0 z0 : Nat) : Prop := (∀ h z, h0 < h → h ≤ H → z < 2 ^ H → w.2.1 54 (256 * h + z) = bst H (jyM v) (H - h) (2 ^ H - 1 - z)) ∧ (∀ z, z < z0 → z < 2 ^ H → w.2.1 54 (256 * h0 + z) = bst H (jyM v) (H - h0) (2 ^ H - 1 - z))
def I38 (v : St) (H h S : Nat) (x : Int32 × Int32) : Prop := ∃ g : Nat, g ≤ H ∧ x.2 = nI g ∧ x.1 = if h = H then 0 else bsF (bst H (jyM v) (H - h - 1)) (jyM v) h S g
theorem mG3 {w : St} (hF : FS v w) {h g : Nat} (hh : h < 8) (hg : g < 8) : fX3_mayGet w (nI h) (nI g) = true ↔ (h = g ∨ 0 < (jyM v h g).toInt) := by
  unfold fX3_mayGet jyM
  rw [n_8 (by omega) (by omega), nN (by omega), hF.2.2 53 (by decide)]
  by_cases c : nI h = nI g
  · rw [if_pos c]; exact ⟨fun _ => Or.inl ((nI_eq (by omega) (by omega)).mp c), fun _ => rfl⟩
  · rw [if_neg c]
    have hne : ¬ h = g := fun z => c (by rw [z])
    by_cases c2 : v.2.1 53 (8 * h + g) ≤ 0
    · rw [if_pos c2]; rw [t_le, k_0] at c2; exact ⟨fun z => absurd z (by decide), fun z => by omega⟩
    · rw [if_neg c2]; rw [t_le, k_0] at c2; exact ⟨fun _ => Or.inr (by omega), fun _ => rfl⟩
theorem i38_step {w : St} {h z : Nat} (hF : FS v w) (h7 : v.1 7 = nI H) (hH : H ≤ 8) (hh : h ≤ H) (hz : z < 2 ^ H) (hR : RM3 v w H h z) : ∀ x, I38 v H h (2 ^ H - 1 - z) x → (lpX3_solve_38 u0 v0 (nI h) w (nI z) x).1 = 0 → I38 v H h (2 ^ H - 1 - z) (lpX3_solve_38 u0 v0 (nI h) w (nI z) x).2 ∧ 8 - (lpX3_solve_38 u0 v0 (nI h) w (nI z) x).2.2.toNatClampNeg < 8 - x.2.toNatClampNeg := by
  rintro ⟨b, gg⟩ ⟨g, hg, hgg0, hb0⟩
  have hgg : gg = nI g := hgg0
  have hb : b = if h = H then 0 else bsF (bst H (jyM v) (H - h - 1)) (jyM v) h (2 ^ H - 1 - z) g := hb0
  subst hgg
  have h27 := pw_256 hH
  unfold lpX3_solve_38
  dsimp only
  rw [show w.1 7 = nI H by rw [hF.1]; exact h7]
  by_cases c1 : nI H ≤ nI g
  · simp only [if_pos c1]; intro y; cases y
  · simp only [if_neg c1]
    rw [n_le (by omega) (by omega)] at c1
    by_cases c2 : nI H ≤ nI h
    · simp only [if_pos c2]; intro y; cases y
    · simp only [if_neg c2]
      rw [n_le (by omega) (by omega)] at c2
      have hgH : g < H := by omega
      have hhH : h < H := by omega
      rw [if_neg (by omega)] at hb
      have hmu : 8 - (nI (g + 1)).toNatClampNeg < 8 - (nI g).toNatClampNeg := by rw [nN (by omega), nN (by omega)]; omega
      have hrb := rest_bit H (by omega) z hz g hgH
      rw [sh_bit0 z (by omega) g (by omega), nI_1, nI_1]
      have key : ∀ b2' : Int32, b2' = bsF (bst H (jyM v) (H - h - 1)) (jyM v) h (2 ^ H - 1 - z) (g + 1) → I38 v H h (2 ^ H - 1 - z) (b2', nI (g + 1)) := fun b2' e => ⟨g + 1, by omega, rfl, by rw [if_neg (by omega)]; exact e⟩
      by_cases c3 : bit z g = true
      · simp only [if_pos (show b2 (bit z g) = 1 by rw [c3]; rfl)]
        intro _
        refine ⟨key b ?_, hmu⟩
        rw [bsF, if_neg (by rw [hrb, c3]; rintro ⟨y, -⟩; cases y)]; exact hb
      · have c3f : bit z g = false := by cases y : bit z g with | true => exact absurd y c3 | false => rfl
        simp only [if_neg (show ¬ b2 (bit z g) = 1 by rw [c3f]; decide)]
        obtain ⟨ho1, ho2⟩ := rest_on H (by omega) z hz g hgH c3f
        have hbs : bit (2 ^ H - 1 - z) g = true := by rw [hrb, c3f]; rfl
        rw [sh_on0 z (by omega) g (by omega), n_256 (by omega) (by omega), nN (by omega), hR.1 (h + 1) (on z g) (by omega) (by omega) ho1, ho2, show H - (h + 1) = H - h - 1 by omega, n_8 (by omega) (by omega), nN (by omega), hF.2.2 53 (by decide)]
        by_cases c4 : fX3_mayGet w (nI h) (nI g) = true
        · simp only [if_pos c4]
          rw [mG3 hF (by omega) (by omega)] at c4
          by_cases c5 : (0 : Int32) ≤ bst H (jyM v) (H - h - 1) (off (2 ^ H - 1 - z) g)
          · simp only [if_pos c5]
            rw [t_le, k_0] at c5
            have e9 : bsF (bst H (jyM v) (H - h - 1)) (jyM v) h (2 ^ H - 1 - z) (g + 1) = if b < bst H (jyM v) (H - h - 1) (off (2 ^ H - 1 - z) g) + v.2.1 53 (8 * h + g) then bst H (jyM v) (H - h - 1) (off (2 ^ H - 1 - z) g) + v.2.1 53 (8 * h + g) else b := by
              rw [bsF, if_pos ⟨hbs, c4, c5⟩, ← hb]; rfl
            rw [Int32.add_comm (v.2.1 53 (8 * h + g))]
            by_cases c6 : bst H (jyM v) (H - h - 1) (off (2 ^ H - 1 - z) g) + v.2.1 53 (8 * h + g) ≤ b
            · simp only [if_pos c6]
              intro _
              rw [t_le] at c6
              exact ⟨key _ (by rw [e9, if_neg (by rw [t_lt]; omega)]), hmu⟩
            · simp only [if_neg c6]
              intro _
              rw [t_le] at c6
              exact ⟨key _ (by rw [e9, if_pos (by rw [t_lt]; omega)]), hmu⟩
          · simp only [if_neg c5]
            intro _
            rw [t_le, k_0] at c5
            exact ⟨key _ (by rw [bsF, if_neg (fun y => c5 y.2.2)]; exact hb), hmu⟩
        · simp only [if_neg c4]
          intro _
          rw [mG3 hF (by omega) (by omega)] at c4
          exact ⟨key _ (by rw [bsF, if_neg (fun y => c4 y.2.1)]; exact hb), hmu⟩
theorem i38_init {w : St} {h S : Nat} (hF : FS v w) (h7 : v.1 7 = nI H) (hH : H ≤ 8) (hh : h ≤ H) : I38 v H h S ((if nI h = w.1 7 then 0 else -1), 0) := by
  refine ⟨0, Nat.zero_le _, rfl, ?_⟩
  show (if nI h = w.1 7 then (0 : Int32) else -1) = _
  rw [show w.1 7 = nI H by rw [hF.1]; exact h7]
  by_cases c : h = H
  · rw [if_pos (by rw [c]), if_pos c]
  · rw [if_neg (fun z => c ((nI_eq (by omega) (by omega)).mp z)), if_neg c]; rfl
theorem i38_end {w : St} {h z : Nat} (hF : FS v w) (h7 : v.1 7 = nI H) (hH : H ≤ 8) (hh : h ≤ H) (hz : z < 2 ^ H) (hR : RM3 v w H h z) : (lpX3_solve_38_r u0 v0 (nI h) w (nI z)).2.1 = bst H (jyM v) (H - h) (2 ^ H - 1 - z) := by
  obtain ⟨x, h1, h2, h3⟩ := wh_run (lpX3_solve_38 u0 v0 (nI h) w (nI z)) (I38 v H h (2 ^ H - 1 - z)) (fun x => 8 - x.2.toNatClampNeg) (i38_step hF h7 hH hh hz hR) 9 _ (i38_init hF h7 hH hh) (by show 8 - _ < 9; omega)
  unfold lpX3_solve_38_r
  rw [h3]
  obtain ⟨b, gg⟩ := x
  obtain ⟨g, hg, hgg0, hb0⟩ := h1
  have hgg : gg = nI g := hgg0
  have hb : b = if h = H then 0 else bsF (bst H (jyM v) (H - h - 1)) (jyM v) h (2 ^ H - 1 - z) g := hb0
  subst hgg
  revert h2
  unfold lpX3_solve_38
  dsimp only
  rw [show w.1 7 = nI H by rw [hF.1]; exact h7]
  by_cases c1 : nI H ≤ nI g
  · simp only [if_pos c1]
    intro _
    rw [n_le (by omega) (by omega)] at c1
    show b = _
    rw [hb]
    by_cases c : h = H
    · rw [if_pos c, show H - h = 0 by omega]; rfl
    · rw [if_neg c, show H - h = (H - h - 1) + 1 by omega, bst, show g = H by omega, show H - (H - h - 1 + 1) = h by omega]; rfl
  · simp only [if_neg c1]
    by_cases c2 : nI H ≤ nI h
    · simp only [if_pos c2]
      intro _
      rw [n_le (by omega) (by omega)] at c2
      show b = _
      rw [hb, if_pos (by omega), show H - h = 0 by omega]; rfl
    · simp only [if_neg c2]
      intro y
      exfalso
      revert y
      repeat' split
      all_goals (intro y; first | exact absurd rfl y | exact absurd trivial y)
end SV
