/-! THE PLAIN LAW, 41: law. Own work. -/
set_option maxRecDepth 100000
/-- the model's law: n lines lns, in one of its two banks -/
def LM (v : St) (n : Nat) (lns : Nat → Ln) : Prop := ∃ b K, v.1 39 = nI b ∧ b < 2 ∧ v.2.1 32 b = nI n ∧ n ≤ 16 ∧ K.length ≤ 600 ∧ CDr (v.2.1 37) (v.2.1 38) (600 * b) K ∧ LNs (v.2.1 33) (v.2.1 34) (v.2.1 35) (v.2.1 36) b n lns K
theorem LM.kept {v w : St} {n : Nat} {lns : Nat → Ln} (h : LM v n lns) (h1 : w.1 39 = v.1 39) (h2 : ∀ k, 32 ≤ k → k ≤ 38 → w.2.1 k = v.2.1 k) : LM w n lns := by
  obtain ⟨b, K, a1, a2, a3, a4, a5, a6, a7⟩ := h
  refine ⟨b, K, by rw [h1]; exact a1, a2, by rw [h2 32 (by decide) (by decide)]; exact a3, a4, a5, by rw [h2 37 (by decide) (by decide), h2 38 (by decide) (by decide)]; exact a6, by rw [h2 33 (by decide) (by decide), h2 34 (by decide) (by decide), h2 35 (by decide) (by decide), h2 36 (by decide) (by decide)]; exact a7⟩
section LA
variable {v v1 : St} {τ : Tp} {b : Nat}
def I90 (v1 : St) (b : Nat) (τ : Tp) (x : St) : Prop := (∃ p tm K n lns, AL v1 b τ x p tm K ∧ n ≤ 16 ∧ x.2.1 32 b = nI n ∧ LNs (x.2.1 33) (x.2.1 34) (x.2.1 35) (x.2.1 36) b n lns K) ∨ ∃ q, BT v1 b x q
theorem lineR_n {p tm n : Nat} {q : Ln × Nat × Nat} (h : lineR τ p tm n = .ok q) : ¬ n = 16 := by
  unfold lineR at h
  by_cases c : isW τ p 2 = true ∧ ¬ n = 16
  · exact c.2
  · rw [if_neg c] at h; cases h
theorem i90_step {u0 : St} : ∀ x, I90 v1 b τ x → (lpX3_law_90 u0 x).1 = 0 → I90 v1 b τ (lpX3_law_90 u0 x).2 := by
  rintro x (⟨p, tm, K, n, lns, h, hn, h32, hL⟩ | ⟨q, h⟩)
  · unfold lpX3_law_90
    dsimp only
    rw [if_pos h.gd]
    by_cases c : x.1 29 = 0
    · rw [if_pos c]; intro y; cases y
    · rw [if_neg c]
      intro _
      obtain ⟨-, r⟩ := rl_3 h hn h32 hL
      cases hr : lineR τ p tm n with
      | error q => rw [hr] at r; exact Or.inr ⟨q, r⟩
      | ok q =>
        rw [hr] at r
        obtain ⟨K', r1, r2, r3⟩ := r
        have := lineR_n hr
        exact Or.inl ⟨_, _, _, n + 1, _, r1, by omega, r2, r3⟩
  · unfold lpX3_law_90
    dsimp only
    rw [if_neg (bt_g h)]; intro y; cases y
/-- what the lines come to -/
def txM (v1 : St) (b : Nat) (τ : Tp) (w : St) (r : Except (Int32 × Nat) (Nat × (Nat → Ln))) : Prop := match r with
  | .error q => BT v1 b w q
  | .ok q => ∃ p tm K, AL v1 b τ w p tm K ∧ w.2.1 32 b = nI q.1 ∧ q.1 ≤ 16 ∧ LNs (w.2.1 33) (w.2.1 34) (w.2.1 35) (w.2.1 36) b q.1 q.2 K
theorem tx_run {u0 : St} : ∀ (k f n : Nat) (lns : Nat → Ln) (p tm ca sa : Nat) (v : St) (K : List (Int32 × Int32)), AL v1 b τ v p tm K → n + k = 17 → n ≤ 16 → v.2.1 32 b = nI n → LNs (v.2.1 33) (v.2.1 34) (v.2.1 35) (v.2.1 36) b n lns K → k + 1 < f → ¬ (wh (lpX3_law_90 u0) f v).1 = 0 ∧ txM v1 b τ (wh (lpX3_law_90 u0) f v).2 (txL τ k n lns p tm ca sa).1 := by
  intro k
  induction k with
  | zero => intro f n lns p tm ca sa v K _ h1 h2; omega
  | succ k ih =>
    intro f n lns p tm ca sa v K h hnk hn h32 hL hf
    obtain ⟨f, rfl⟩ : ∃ f', f = f' + 1 := ⟨f - 1, by omega⟩
    have hs := so_3 h.2.2.1
    rw [wh_s, txL]
    by_cases c0 : ts τ p = 0
    · have e : lpX3_law_90 u0 v = (1, v) := by unfold lpX3_law_90; rw [if_pos h.gd, if_pos (hs.2.2.1.mpr c0)]
      rw [e, if_neg Nat.one_ne_zero, if_pos c0]
      exact ⟨Nat.one_ne_zero, p, tm, K, h, h32, hn, hL⟩
    · have e : lpX3_law_90 u0 v = (0, fX3_readLine v) := by unfold lpX3_law_90; rw [if_pos h.gd, if_neg (fun z => c0 (hs.2.2.1.mp z))]
      rw [e, if_pos rfl, if_neg c0]
      obtain ⟨-, r⟩ := rl_3 h hn h32 hL
      have bad : ∀ q, BT v1 b (fX3_readLine v) q → ¬ (wh (lpX3_law_90 u0) f (fX3_readLine v)).1 = 0 ∧ BT v1 b (wh (lpX3_law_90 u0) f (fX3_readLine v)).2 q := fun q hB => by
        obtain ⟨f, rfl⟩ : ∃ f', f = f' + 1 := ⟨f - 1, by omega⟩
        have e2 : lpX3_law_90 u0 (fX3_readLine v) = (1, fX3_readLine v) := by unfold lpX3_law_90; rw [if_neg (bt_g hB)]
        rw [wh_s, e2, if_neg Nat.one_ne_zero]
        exact ⟨Nat.one_ne_zero, hB⟩
      unfold lineR at r
      by_cases c : isW τ p 2 = true ∧ ¬ n = 16
      · rw [if_pos c] at r
        rw [if_pos c]
        cases hp : (pEither τ 6 (te τ p) tm).1 with
        | error q => rw [hp] at r; exact bad q r
        | ok q =>
          rw [hp] at r
          dsimp only at r ⊢
          cases hl : lnA τ q with
          | error q2 => rw [hl] at r; exact bad q2 r
          | ok q2 =>
            rw [hl] at r
            obtain ⟨K', r1, r2, r3⟩ := r
            exact ih f (n + 1) _ _ _ _ _ _ _ r1 (by omega) (by omega) r2 r3 (by omega)
      · rw [if_neg c] at r
        rw [if_neg c]
        exact bad _ r
def I20 (v : St) (m : Nat) (x : St × Int32) : Prop := ∃ j, j ≤ m ∧ x.2 = nI j ∧ x.1.1 = (si (si (si v 25 0) 26 (-1)) 24 (v.1 23)).1 ∧ (∀ k, ¬ k = 22 → x.1.2.1 k = v.2.1 k) ∧ (∀ i, i < j → x.1.2.1 22 i = (v.2.1 21 i).toInt8.toInt32)
theorem i20_24 {m : Nat} {x : St × Int32} (hm : v.1 23 = nI m) (h : I20 v m x) : x.1.1 24 = nI m := by
  obtain ⟨j, -, -, h3, -⟩ := h
  rw [h3, si_1, if_pos rfl, hm]
theorem i20_step {m : Nat} (hm : v.1 23 = nI m) (h6 : m ≤ 600) {u0 : St} : ∀ x, I20 v m x → (lpX3_law_20 u0 x).1 = 0 → I20 v m (lpX3_law_20 u0 x).2 ∧ 600 - (lpX3_law_20 u0 x).2.2.toNatClampNeg < 600 - x.2.toNatClampNeg := by
  intro x h
  have e24 := i20_24 hm h
  obtain ⟨x, k⟩ := x
  obtain ⟨j, h1, h2, h3, h4, h5⟩ := h
  replace h2 : k = nI j := h2
  replace h3 : x.1 = _ := h3
  replace h4 : ∀ k, ¬ k = 22 → x.2.1 k = v.2.1 k := h4
  replace h5 : ∀ i, i < j → x.2.1 22 i = (v.2.1 21 i).toInt8.toInt32 := h5
  replace e24 : x.1 24 = nI m := e24
  subst h2
  unfold lpX3_law_20
  dsimp only
  rw [e24]
  by_cases c : nI m ≤ nI j
  · simp only [if_pos c]; intro y; cases y
  · simp only [if_neg c]
    rw [n_le (by omega) (by omega)] at c
    intro _
    rw [nI_1, nN (show j < _ by omega)]
    refine ⟨⟨j + 1, by omega, rfl, h3, fun k hk => by show (sa x 22 j _).2.1 k = _; rw [sa_o hk]; exact h4 k hk, fun i hi => ?_⟩, by rw [nN (by omega)]; omega⟩
    show (sa x 22 j _).2.1 22 i = _
    rw [sa_s]
    by_cases y : i = j
    · rw [y, upd_s, h4 21 (by decide)]
    · rw [upd_o y]; exact h5 i (by omega)
theorem i20_init {m : Nat} : I20 v m ((si (si (si v 25 0) 26 (-1)) 24 (v.1 23)), 0) := ⟨0, Nat.zero_le _, rfl, rfl, fun _ _ => rfl, fun i hi => absurd hi (by omega)⟩
theorem i20_end {m : Nat} (hm : v.1 23 = nI m) (h6 : m ≤ 600) : (lpX3_law_20_r v).2.1.1 = (si (si (si v 25 0) 26 (-1)) 24 (v.1 23)).1 ∧ (∀ k, ¬ k = 22 → (lpX3_law_20_r v).2.1.2.1 k = v.2.1 k) ∧ (∀ i, i < m → (lpX3_law_20_r v).2.1.2.1 22 i = (v.2.1 21 i).toInt8.toInt32) := by
  obtain ⟨x, h1, h2, h3⟩ := wh_run (lpX3_law_20 v) (I20 v m) (fun x => 600 - x.2.toNatClampNeg) (i20_step hm h6) 601 _ i20_init (by show 600 - _ < 601; omega)
  unfold lpX3_law_20_r
  rw [h3]
  have e24 := i20_24 hm h1
  obtain ⟨x, k⟩ := x
  obtain ⟨j, a1, a2, a3, a4, a5⟩ := h1
  replace a2 : k = nI j := a2
  replace e24 : x.1 24 = nI m := e24
  subst a2
  revert h2
  unfold lpX3_law_20
  dsimp only
  rw [e24]
  by_cases c : nI m ≤ nI j
  · simp only [if_pos c]; intro _
    rw [n_le (by omega) (by omega)] at c
    exact ⟨a3, a4, fun i hi => a5 i (by omega)⟩
  · simp only [if_neg c]; intro y; exact absurd trivial y
end LA
section LB
variable {v u : St} {n : Nat}
theorem n_1m {k : Nat} (h : k < 2) : (1 : Int32) - nI k = nI (1 - k) := by
  rw [t_eq, t_sub (by rw [nI_i (by omega), k_1]; omega) (by rw [nI_i (by omega), k_1]; omega), nI_i (by omega), k_1, nI_i (by omega)]; omega
/-- how the model's law begins -/
theorem lw1_3 {m b0 : Nat} (hm : v.1 23 = nI m) (h6 : m ≤ 600) (h39 : v.1 39 = nI b0) (hb : b0 < 2) : (∀ k, ¬ (23 ≤ k ∧ k ≤ 26) → ¬ k = 28 → ¬ (40 ≤ k ∧ k ≤ 42) → (fX3_lw1 v).1 k = v.1 k) ∧ (fX3_lw1 v).1 23 = 0 ∧ (fX3_lw1 v).1 24 = nI m ∧ (fX3_lw1 v).1 25 = 0 ∧ (fX3_lw1 v).1 26 = -1 ∧ (fX3_lw1 v).1 28 = 0 ∧ (fX3_lw1 v).1 40 = nI (1 - b0) ∧ (fX3_lw1 v).1 41 = 0 ∧ (fX3_lw1 v).1 42 = 0 ∧ (∀ k, ¬ k = 22 → ¬ k = 32 → (fX3_lw1 v).2.1 k = v.2.1 k) ∧ (fX3_lw1 v).2.1 32 = upd (v.2.1 32) (1 - b0) 0 ∧ ∀ i, i < m → (fX3_lw1 v).2.1 22 i = (v.2.1 21 i).toInt8.toInt32 := by
  obtain ⟨a1, a2, a3⟩ := i20_end hm h6
  have e39 : (lpX3_law_20_r v).2.1.1 39 = nI b0 := by rw [a1, si_1, if_neg (by decide), si_1, if_neg (by decide), si_1, if_neg (by decide)]; exact h39
  have e40 : (1 : Int32) - (lpX3_law_20_r v).2.1.1 39 = nI (1 - b0) := by rw [e39, n_1m hb]
  unfold fX3_lw1
  rw [e40, nN (by omega)]
  refine ⟨fun k z1 z2 z3 => ?_, ?_, ?_, ?_, ?_, ?_, ?_, ?_, ?_, fun k z1 z2 => ?_, ?_, fun i hi => ?_⟩
  · rw [si_1, if_neg (by omega), si_1, if_neg (by omega)]
    show (si (si (si (lpX3_law_20_r v).2.1 23 0) 28 0) 40 (nI (1 - b0))).1 k = _
    rw [si_1, if_neg (by omega), si_1, if_neg (by omega), si_1, if_neg (by omega), a1, si_1, if_neg (by omega), si_1, if_neg (by omega), si_1, if_neg (by omega)]
  · rfl
  · show (lpX3_law_20_r v).2.1.1 24 = _
    rw [a1, si_1, if_pos rfl, hm]
  · show (lpX3_law_20_r v).2.1.1 25 = _
    rw [a1]; rfl
  · show (lpX3_law_20_r v).2.1.1 26 = _
    rw [a1]; rfl
  · rfl
  · rfl
  · rfl
  · rfl
  · rw [si_2, si_2, sa_o z2]; exact a2 k z1
  · rw [si_2, si_2, sa_s]
    show upd ((lpX3_law_20_r v).2.1.2.1 32) _ _ = _
    rw [a2 32 (by decide)]
  · rw [si_2, si_2, sa_o (by decide)]
    exact a3 i hi
end LB
