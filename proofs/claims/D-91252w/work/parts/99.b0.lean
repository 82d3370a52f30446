/-! THE PLAIN LAW, 23: fractions. Own work. -/
set_option maxRecDepth 100000
def nL (k : Nat) : Int64 := Int64.ofNat k
theorem nL_i {k : Nat} (h : k < 9223372036854775808) : (nL k).toInt = (k : Int) := Int64.toInt_ofNat_of_lt h
theorem nL_mul (a b : Nat) : nL a * nL b = nL (a * b) := (Int64.ofNat_mul a b).symm
theorem nL_add (a b : Nat) : nL a + nL b = nL (a + b) := (Int64.ofNat_add a b).symm
theorem nL_sub {a b : Nat} (h : b ≤ a) : nL a - nL b = nL (a - b) := (Int64.ofNat_sub a b h).symm
theorem nL_div {a b : Nat} (ha : a < 9223372036854775808) (hb : b < 9223372036854775808) : nL a / nL b = nL (a / b) := by
  have h1 : ¬ nL b = -1 := fun z => by
    have := congrArg Int64.toInt z
    rw [nL_i hb] at this
    have e : (-1 : Int64).toInt = -1 := rfl
    rw [e] at this; omega
  have h2 : a / b ≤ a := Nat.div_le_self a b
  refine Int64.toInt_inj.mp ?_
  rw [Int64.toInt_div_of_ne_right _ _ h1, nL_i ha, nL_i hb, nL_i (by omega)]
  rfl
theorem nL_0 {k : Nat} (h : k < 9223372036854775808) : nL k = 0 ↔ k = 0 := by
  constructor
  · intro z
    have := congrArg Int64.toInt z
    rw [nL_i h] at this
    have e : (0 : Int64).toInt = 0 := rfl
    rw [e] at this; omega
  · intro z; rw [z]; rfl
theorem nL_z : nL 0 = 0 := rfl
theorem nL_inj {a b : Nat} (ha : a < 9223372036854775808) (hb : b < 9223372036854775808) (h : nL a = nL b) : a = b := by
  have := congrArg Int64.toInt h
  rw [nL_i ha, nL_i hb] at this
  omega
theorem nI_64 {k : Nat} (h : k < 2147483648) : (nI k).toInt64 = nL k := by
  refine Int64.toInt_inj.mp ?_
  rw [Int32.toInt_toInt64, nI_i h, nL_i (by omega)]
theorem nL_mod {x y : Nat} (hx : x < 9223372036854775808) (hy : y < 9223372036854775808) : nL x - nL x / nL y * nL y = nL (x % y) := by
  have h1 := Nat.div_add_mod x y
  have h2 : x / y * y ≤ x := Nat.div_mul_le_self x y
  rw [nL_div hx hy, nL_mul, nL_sub h2]
  congr 1
  have h3 : x / y * y = y * (x / y) := Nat.mul_comm _ _
  omega
theorem mod_half {x y n : Nat} (h0 : 0 < y) (hyx : y ≤ x) (h : x * y < 2 ^ (n + 1)) : y * (x % y) < 2 ^ n := by
  have h1 : x % y < y := Nat.mod_lt x h0
  have h2 := Nat.div_add_mod x y
  have h3 : 1 ≤ x / y := (Nat.le_div_iff_mul_le h0).mpr (by omega)
  have h4 : y ≤ y * (x / y) := Nat.le_mul_of_pos_right y h3
  have h5 : 2 * (x % y) ≤ x := by omega
  have h6 : (2 * (x % y)) * y ≤ x * y := Nat.mul_le_mul_right y h5
  have h7 : (2 * (x % y)) * y = 2 * (y * (x % y)) := by rw [Nat.mul_assoc, Nat.mul_comm (x % y) y]
  have h8 : 2 ^ (n + 1) = 2 * 2 ^ n := by rw [Nat.pow_succ]; omega
  omega
theorem gcd_c : ∀ (n f x y : Nat), y ≤ x → x * y < 2 ^ n → n < f → x < 9223372036854775808 → cmF f (nL x) (nL y) = nL (Nat.gcd x y) ∧ okC f (nL x) (nL y) := by
  intro n
  induction n with
  | zero =>
    intro f x y hyx h hf hx
    obtain ⟨f, rfl⟩ : ∃ f', f = f' + 1 := ⟨f - 1, by omega⟩
    have hy : y = 0 := by
      rcases Nat.eq_zero_or_pos y with e | e
      · exact e
      · have : 1 * 1 ≤ x * y := Nat.mul_le_mul (by omega) e
        omega
    subst hy
    rw [cmF, okC, if_pos nL_z, Nat.gcd_zero_right]
    exact ⟨rfl, fun z => absurd nL_z z⟩
  | succ n ih =>
    intro f x y hyx h hf hx
    obtain ⟨f, rfl⟩ : ∃ f', f = f' + 1 := ⟨f - 1, by omega⟩
    rw [cmF, okC]
    rcases Nat.eq_zero_or_pos y with e | e
    · subst e
      rw [if_pos nL_z, Nat.gcd_zero_right]
      exact ⟨rfl, fun z => absurd nL_z z⟩
    · rw [if_neg (fun z => by rw [nL_0 (by omega)] at z; omega), nL_mod hx (by omega)]
      have hm := Nat.mod_lt x e
      obtain ⟨a, b⟩ := ih f y (x % y) (by omega) (mod_half e hyx h) (by omega) (by omega)
      refine ⟨?_, fun _ => b⟩
      rw [a, Nat.gcd_comm x y, Nat.gcd_rec y x, Nat.gcd_comm]
theorem gcd_c2 {n f x y : Nat} (h : x * y < 2 ^ n) (hf : n + 1 < f) (hx : x < 9223372036854775808) (hy : y < 9223372036854775808) : cmF f (nL x) (nL y) = nL (Nat.gcd x y) ∧ okC f (nL x) (nL y) := by
  rcases Nat.lt_or_ge x y with c | c
  · obtain ⟨f, rfl⟩ : ∃ f', f = f' + 1 := ⟨f - 1, by omega⟩
    rw [cmF, okC, if_neg (fun z => by rw [nL_0 (by omega)] at z; omega), nL_mod hx hy, Nat.mod_eq_of_lt c]
    obtain ⟨a, b⟩ := gcd_c n f y x (by omega) (by rw [Nat.mul_comm]; exact h) (by omega) hy
    exact ⟨by rw [a, Nat.gcd_comm], fun _ => b⟩
  · exact gcd_c n f x y c h (by omega) hx
theorem dv_0 (a b x : Int64) : lpX3_divisor_6 a b (x, nL 0) = (1, x, nL 0) := by
  unfold lpX3_divisor_6
  dsimp only
  rw [if_pos nL_z]
theorem gcd_m (a b : Int64) : ∀ (n f x y : Nat), y ≤ x → x * y < 2 ^ n → n < f → x < 9223372036854775808 → wh (lpX3_divisor_6 a b) f (nL x, nL y) = (1, nL (Nat.gcd x y), nL 0) := by
  intro n
  induction n with
  | zero =>
    intro f x y hyx h hf hx
    obtain ⟨f, rfl⟩ : ∃ f', f = f' + 1 := ⟨f - 1, by omega⟩
    have hy : y = 0 := by
      rcases Nat.eq_zero_or_pos y with e | e
      · exact e
      · have : 1 * 1 ≤ x * y := Nat.mul_le_mul (by omega) e
        omega
    subst hy
    rw [wh_s, dv_0, Nat.gcd_zero_right]
    rfl
  | succ n ih =>
    intro f x y hyx h hf hx
    obtain ⟨f, rfl⟩ : ∃ f', f = f' + 1 := ⟨f - 1, by omega⟩
    rw [wh_s]
    rcases Nat.eq_zero_or_pos y with e | e
    · subst e
      rw [dv_0, Nat.gcd_zero_right]
      rfl
    · have hne : ¬ nL y = 0 := fun z => by rw [nL_0 (by omega)] at z; omega
      rw [show lpX3_divisor_6 a b (nL x, nL y) = (0, nL y, nL x - nL x / nL y * nL y) from if_neg hne, nL_mod hx (by omega)]
      have hm := Nat.mod_lt x e
      rw [if_pos rfl]
      show wh _ f (nL y, nL (x % y)) = _
      rw [ih f y (x % y) (by omega) (mod_half e hyx h) (by omega) (by omega), Nat.gcd_comm x y, Nat.gcd_rec y x, Nat.gcd_comm]
theorem gcd_m2 {n x y : Nat} (h : x * y < 2 ^ n) (hf : n < 199) (hx : x < 9223372036854775808) (hy : y < 9223372036854775808) : fX3_divisor (nL x) (nL y) = nL (Nat.gcd x y) ∧ okX3_divisor (nL x) (nL y) := by
  have key : wh (lpX3_divisor_6 (nL x) (nL y)) 200 (nL x, nL y) = (1, nL (Nat.gcd x y), nL 0) := by
    rcases Nat.lt_or_ge x y with c | c
    · have hne : ¬ nL y = 0 := fun z => by rw [nL_0 (by omega)] at z; omega
      rw [wh_s, show lpX3_divisor_6 (nL x) (nL y) (nL x, nL y) = (0, nL y, nL x - nL x / nL y * nL y) from if_neg hne, nL_mod hx hy, Nat.mod_eq_of_lt c, if_pos rfl]
      show wh _ 199 (nL y, nL x) = _
      rw [gcd_m _ _ n 199 y x (by omega) (by rw [Nat.mul_comm]; exact h) (by omega) hy, Nat.gcd_comm]
    · exact gcd_m _ _ n 200 x y c h (by omega) hx
  refine ⟨?_, ⟨fun _ => True, ⟨trivial, fun _ _ _ => trivial, by rw [key]; exact Nat.one_ne_zero⟩, fun _ _ _ z => z⟩⟩
  show (wh (lpX3_divisor_6 (nL x) (nL y)) 200 (nL x, nL y)).2.1 = _
  rw [key]
/-- N/D is A/M in its lowest terms -/
def RF (N D A M : Nat) : Prop := N * M = A * D ∧ Nat.gcd N D = 1 ∧ 0 < D
theorem RF.dvd {N D A M : Nat} (h : RF N D A M) : D ∣ M :=
  Nat.Coprime.dvd_of_dvd_mul_left (Nat.Coprime.symm h.2.1) ⟨A, by rw [h.1, Nat.mul_comm]⟩
theorem RF.le {N D A M : Nat} (h : RF N D A M) (h1 : A ≤ M) (h0 : 0 < M) : N ≤ D := by
  refine Nat.le_of_mul_le_mul_right ?_ h0
  rw [h.1, Nat.mul_comm D M]
  exact Nat.mul_le_mul_right D h1
theorem RF.uniq {N D N' D' A M : Nat} (h : RF N D A M) (h' : RF N' D' A M) (h0 : 0 < M) : N = N' ∧ D = D' := by
  have e : N * D' = N' * D := by
    refine Nat.eq_of_mul_eq_mul_right h0 ?_
    rw [Nat.mul_right_comm, h.1, Nat.mul_right_comm N' D M, h'.1, Nat.mul_right_comm]
  have d1 : D ∣ D' := Nat.Coprime.dvd_of_dvd_mul_left (Nat.Coprime.symm h.2.1) ⟨N', by rw [e, Nat.mul_comm]⟩
  have d2 : D' ∣ D := Nat.Coprime.dvd_of_dvd_mul_left (Nat.Coprime.symm h'.2.1) ⟨N, by rw [← e, Nat.mul_comm]⟩
  have eD : D = D' := Nat.dvd_antisymm d1 d2
  subst eD
  exact ⟨Nat.eq_of_mul_eq_mul_right h.2.2 e, rfl⟩
theorem RF.scale {N D A M : Nat} (h : RF N D A M) (n : Nat) : RF N D (A * n) (M * n) := ⟨by rw [← Nat.mul_assoc, h.1, Nat.mul_right_comm], h.2⟩
theorem RF.red {x y A M : Nat} (h : x * M = A * y) (h0 : 0 < y) : RF (x / Nat.gcd x y) (y / Nat.gcd x y) A M := by
  have hg : 0 < Nat.gcd x y := Nat.gcd_pos_of_pos_right x h0
  have ex : x / Nat.gcd x y * Nat.gcd x y = x := Nat.div_mul_cancel (Nat.gcd_dvd_left x y)
  have ey : y / Nat.gcd x y * Nat.gcd x y = y := Nat.div_mul_cancel (Nat.gcd_dvd_right x y)
  refine ⟨?_, Nat.gcd_div_gcd_div_gcd_of_pos_right h0, Nat.div_pos (Nat.le_of_dvd h0 (Nat.gcd_dvd_right x y)) hg⟩
  refine Nat.eq_of_mul_eq_mul_right hg ?_
  rw [Nat.mul_right_comm, ex, Nat.mul_assoc A, ey]
  exact h
theorem RF.zero {M : Nat} : RF 0 1 0 M := ⟨by rw [Nat.zero_mul, Nat.zero_mul], rfl, Nat.one_pos⟩
