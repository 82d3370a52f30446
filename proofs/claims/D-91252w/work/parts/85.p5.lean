/-! THE PLAIN LAW, 6: papers in order. Own work. -/
set_option maxRecDepth 100000
/-- a loop that ends: where it ends -/
theorem wh_run {S : Type} (f : S → Nat × S) (I : S → Prop) (μ : S → Nat) (hI : ∀ a, I a → (f a).1 = 0 → I (f a).2 ∧ μ (f a).2 < μ a) : ∀ (n : Nat) (a : S), I a → μ a < n → ∃ b, I b ∧ ¬ (f b).1 = 0 ∧ wh f n a = f b := by
  intro n
  induction n with
  | zero => intro a _ h; omega
  | succ n ih =>
    intro a ha hm
    rw [wh_s]
    by_cases c : (f a).1 = 0
    · rw [if_pos c]
      obtain ⟨h1, h2⟩ := hI a ha c
      exact ih _ h1 (by omega)
    · rw [if_neg c]
      exact ⟨a, ha, c, rfl⟩
theorem LOK.of {S : Type} {f : S → Nat × S} {I : S → Prop} {μ : S → Nat} {n : Nat} {a : S} (h0 : I a) (hI : ∀ a, I a → (f a).1 = 0 → I (f a).2 ∧ μ (f a).2 < μ a) (hm : μ a < n) : LOK f n a I := by
  obtain ⟨b, h1, h2, h3⟩ := wh_run f I μ hI n a h0 hm
  exact ⟨h0, fun a ha z => (hI a ha z).1, by rw [h3]; exact h2⟩
/-- by day, then by number -/
def bef (D : Nat → Int) (p q : Nat) : Prop := D p < D q ∨ (D p = D q ∧ p < q)
theorem bef_tr {D : Nat → Int} {p q r : Nat} (h1 : bef D p q) (h2 : bef D q r) : bef D p r := by unfold bef at *; omega
theorem bef_or {D : Nat → Int} {p q : Nat} (h : ¬ p = q) : bef D p q ∨ bef D q p := by unfold bef; omega
theorem bef_irr {D : Nat → Int} {p : Nat} : ¬ bef D p p := by unfold bef; omega
/-- l: the numbers below P that q takes, in order; m of them -/
def EN (q : Nat → Bool) (D : Nat → Int) (P m : Nat) (l : Nat → Nat) : Prop := (∀ i, i < m → l i < P ∧ q (l i) = true) ∧ (∀ i j, i < j → j < m → bef D (l i) (l j)) ∧ (∀ p, p < P → q p = true → ∃ i, i < m ∧ l i = p)
def insL (l : Nat → Nat) (a p : Nat) : Nat → Nat := fun i => if i < a then l i else if i = a then p else l (i - 1)
theorem EN.ins {q : Nat → Bool} {D : Nat → Int} {P m : Nat} {l : Nat → Nat} (h : EN q D P m l) (hq : q P = true) {a : Nat} (ha : a ≤ m) (h1 : ∀ i, i < a → D (l i) ≤ D P) (h2 : ∀ i, a ≤ i → i < m → D P < D (l i)) : EN q D (P + 1) (m + 1) (insL l a P) := by
  obtain ⟨e1, e2, e3⟩ := h
  have hlt : ∀ i, i < a → bef D (l i) P := fun i hi => by have := h1 i hi; have := (e1 i (by omega)).1; unfold bef; omega
  have hgt : ∀ i, a ≤ i → i < m → bef D P (l i) := fun i hi hm => by have := h2 i hi hm; unfold bef; omega
  refine ⟨fun i hi => ?_, fun i j hij hj => ?_, fun p hp hqp => ?_⟩
  · unfold insL
    by_cases c1 : i < a
    · rw [if_pos c1]; have := e1 i (by omega); exact ⟨by omega, this.2⟩
    · rw [if_neg c1]
      by_cases c2 : i = a
      · rw [if_pos c2]; exact ⟨by omega, hq⟩
      · rw [if_neg c2]; have := e1 (i - 1) (by omega); exact ⟨by omega, this.2⟩
  · unfold insL
    by_cases c1 : i < a
    · rw [if_pos c1]
      by_cases c2 : j < a
      · rw [if_pos c2]; exact e2 i j hij (by omega)
      · rw [if_neg c2]
        by_cases c3 : j = a
        · rw [if_pos c3]; exact hlt i c1
        · rw [if_neg c3]; exact bef_tr (hlt i c1) (hgt (j - 1) (by omega) (by omega))
    · rw [if_neg c1, if_neg (show ¬ j < a by omega), if_neg (show ¬ j = a by omega)]
      by_cases c3 : i = a
      · rw [if_pos c3]; exact hgt (j - 1) (by omega) (by omega)
      · rw [if_neg c3]; exact e2 (i - 1) (j - 1) (by omega) (by omega)
  · by_cases c : p = P
    · refine ⟨a, by omega, ?_⟩
      unfold insL
      rw [if_neg (Nat.lt_irrefl _), if_pos rfl, c]
    · obtain ⟨i, hi, hip⟩ := e3 p (by omega) hqp
      by_cases c1 : i < a
      · exact ⟨i, by omega, by unfold insL; rw [if_pos c1]; exact hip⟩
      · exact ⟨i + 1, by omega, by unfold insL; rw [if_neg (show ¬ i + 1 < a by omega), if_neg (show ¬ i + 1 = a by omega)]; exact hip⟩
theorem EN.skip {q : Nat → Bool} {D : Nat → Int} {P m : Nat} {l : Nat → Nat} (h : EN q D P m l) (hq : ¬ q P = true) : EN q D (P + 1) m l := by
  obtain ⟨e1, e2, e3⟩ := h
  exact ⟨fun i hi => ⟨by have := (e1 i hi).1; omega, (e1 i hi).2⟩, e2, fun p hp hqp => e3 p (by have : ¬ p = P := fun z => hq (z ▸ hqp); omega) hqp⟩
theorem EN.le {q : Nat → Bool} {D : Nat → Int} {P m : Nat} {l : Nat → Nat} (h : EN q D P m l) (hm : m ≤ P) (i : Nat) (hi : i < m) : l i < P := (h.1 i hi).1
/-- papers that are spoken of -/
def q3 (v : St) (ho k : Int32) (p : Nat) : Bool := decide (v.2.1 9 p = ho) && fX3_counts v (nI p) k
def d3 (v : St) (p : Nat) : Int := (v.2.1 12 p).toInt
/-- what the following of a house leaves as it was -/
def F20 (v w : St) : Prop := (∀ k, ¬ k = 20 → w.1 k = v.1 k) ∧ (∀ k, ¬ k = 17 → w.2.1 k = v.2.1 k) ∧ w.2.2 = v.2.2
theorem nN {k : Nat} (h : k < 2147483648) : (nI k).toNatClampNeg = k := by rw [t_nat, nI_i h]; omega
theorem n_sub1 {a : Nat} (h : 1 ≤ a) (h2 : a < 2147483648) : nI a - 1 = nI (a - 1) := t_eq.mpr (by rw [t_sub (by rw [nI_i h2, k_1]; omega) (by rw [nI_i h2, k_1]; omega), nI_i h2, nI_i (by omega), k_1]; omega)
theorem n_sub1' {a : Nat} (h : 1 ≤ a) (h2 : a < 2147483648) : nI a + (-1) = nI (a - 1) := t_eq.mpr (by rw [t_add (by rw [nI_i h2, k_m1]; omega) (by rw [nI_i h2, k_m1]; omega), nI_i h2, nI_i (by omega), k_m1]; omega)
/-- the shift inside the line -/
def I47 (v w : St) (P m : Nat) (l : Nat → Nat) (x : St × Int32) : Prop := ∃ a : Nat, a ≤ m ∧ x.2 = nI a ∧ x.1.1 = w.1 ∧ x.1.2.2 = w.2.2 ∧ (∀ k, ¬ k = 17 → x.1.2.1 k = w.2.1 k) ∧ (∀ i, i < a → x.1.2.1 17 i = nI (l i)) ∧ (∀ i, a ≤ i → i < m → x.1.2.1 17 (i + 1) = nI (l i) ∧ d3 v P < d3 v (l i))
theorem i47_step {v w : St} {ho d k : Int32} {u : St} {P m : Nat} {l : Nat → Nat} (hF : F20 v w) (hP : P < 60) (hm : m ≤ P) (hl : ∀ i, i < m → l i < P) : ∀ x, I47 v w P m l x → (lpX3_follow_47 u ho d k w (nI P) x).1 = 0 → I47 v w P m l (lpX3_follow_47 u ho d k w (nI P) x).2 ∧ (lpX3_follow_47 u ho d k w (nI P) x).2.2.toNatClampNeg < x.2.toNatClampNeg := by
  rintro ⟨x, ai⟩ ⟨a, ha, hai, h1, h2, h3, h4, h5⟩
  have hai : ai = nI a := hai
  subst hai
  unfold lpX3_follow_47
  by_cases c1 : nI a ≤ 0
  · simp only [if_pos c1]; intro z; cases z
  · simp only [if_neg c1]
    rw [t_le, nI_i (by omega), k_0] at c1
    have e17 : x.2.1 17 (a - 1) = nI (l (a - 1)) := h4 (a - 1) (by omega)
    have hla := hl (a - 1) (by omega)
    rw [n_sub1 (by omega) (by omega), nN (by omega), e17, nN (by omega), nN (by omega), show x.2.1 12 = v.2.1 12 from (h3 12 (by decide)).trans (hF.2.1 12 (by decide))]
    by_cases c2 : v.2.1 12 (l (a - 1)) ≤ v.2.1 12 P
    · simp only [if_pos c2]; intro z; cases z
    · simp only [if_neg c2]
      intro _
      rw [t_le] at c2
      refine ⟨⟨a - 1, by omega, n_sub1' (by omega) (by omega), h1, h2, fun k hk => ?_, fun i hi => ?_, fun i hi1 hi2 => ?_⟩, ?_⟩
      · show (sa x 17 _ _).2.1 k = _
        rw [sa_o hk]; exact h3 k hk
      · show (sa x 17 (nI a).toNatClampNeg _).2.1 17 i = _
        rw [sa_s, nN (by omega), upd_o (by omega)]; exact h4 i (by omega)
      · show (sa x 17 (nI a).toNatClampNeg _).2.1 17 (i + 1) = _ ∧ _
        rw [sa_s, nN (by omega)]
        by_cases c3 : i = a - 1
        · subst c3
          rw [show a - 1 + 1 = a by omega, upd_s]
          exact ⟨rfl, by unfold d3; omega⟩
        · rw [upd_o (by omega)]; exact h5 i (by omega) hi2
      · show (nI a + (-1)).toNatClampNeg < _
        rw [n_sub1' (by omega) (by omega), nN (by omega), nN (by omega)]; omega
