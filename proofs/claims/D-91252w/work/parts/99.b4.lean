/-! THE PLAIN LAW, 27: share. Own work. -/
set_option maxRecDepth 100000
theorem wh_two2 {A B : Type} (F : A → Nat × A) (G : B → Nat × B) (R : A → B → Prop) (μ : A → Nat) (hs : ∀ a b, R a b → ((F a).1 = 0 ∧ (G b).1 = 0 ∧ R (F a).2 (G b).2 ∧ μ (F a).2 < μ a) ∨ (¬ (F a).1 = 0 ∧ ¬ (G b).1 = 0)) : ∀ (n m : Nat) (a : A) (b : B), R a b → μ a < n → μ a < m → ∃ a' b', R a' b' ∧ ¬ (F a').1 = 0 ∧ ¬ (G b').1 = 0 ∧ wh F n a = F a' ∧ wh G m b = G b' := by
  intro n
  induction n with
  | zero => intro m a b _ h; omega
  | succ n ih =>
    intro m a b hr hm hm2
    obtain ⟨m, rfl⟩ : ∃ m', m = m' + 1 := ⟨m - 1, by omega⟩
    rw [wh_s, wh_s]
    rcases hs a b hr with ⟨h1, h2, h3, h4⟩ | ⟨h1, h2⟩
    · rw [if_pos h1, if_pos h2]; exact ih _ _ _ h3 (by omega) (by omega)
    · rw [if_neg h1, if_neg h2]; exact ⟨a, b, hr, h1, h2, rfl, rfl⟩
section HF
variable {v u : St} {n P : Nat} {e : Nat → Int32}
theorem r209_init (h : IV v u n) (hP : P ≤ 24) {w x : St} {p : Nat} {A : Nat → Nat} {M : Nat} (hp : p < P) (rS : SE v u w x P e) (rA : AM v e P p A M) (rq : ∀ q, q < P → ∃ N D, FRq w x q N D ∧ RF N D (A q) M) : R209 v u P e p (w, nI p + 1) (x, nI p + 1) := by
  obtain ⟨Np, Dp, f1, f2⟩ := rq p hp
  refine ⟨p + 1, A, M, Np, Dp, by omega, by omega, by show nI p + 1 = _; rw [nI_1], by show nI p + 1 = _; rw [nI_1], rS, f1, f2, rA, fun q hq => ?_⟩
  obtain ⟨N, D, g1, g2⟩ := rq q hq
  exact ⟨N, D, g1, by rw [if_neg (by omega), Nat.add_zero]; exact g2.scale _⟩
theorem r209_end (h : IV v u n) (h6 : v.1 6 = nI P) (h13 : u.1 13 = nI P) (hP : P ≤ 24) {w x v0 u0 : St} {of da : Int32} {p : Nat} {A : Nat → Nat} {M : Nat} (hp : p < P) (rS : SE v u w x P e) (rA : AM v e P p A M) (rq : ∀ q, q < P → ∃ N D, FRq w x q N D ∧ RF N D (A q) M) : R120 v u P e (sl (sl (lpX3_handDown_209_r v0 of da w (nI p)).2.1 50 p 0) 51 p 1, nI (p + 1)) (sl (sl (lpX0_hand_211_r u0 of da x (nI p)).2.1 25 p 0) 26 p 1, nI (p + 1)) := by
  obtain ⟨a', b', k1, k2, k3, k4, k5⟩ := wh_two _ _ _ (fun a => 24 - a.2.toNatClampNeg) (r209_step (v0 := v0) (u0 := u0) (of := of) (da := da) (p := p) h h6 h13 hP hp rS) 25 _ _ (r209_init h hP hp rS rA rq) (by show 24 - _ < 25; omega)
  unfold lpX3_handDown_209_r lpX0_hand_211_r
  rw [k4, k5]
  obtain ⟨w', c⟩ := a'
  obtain ⟨x', c'⟩ := b'
  obtain ⟨k, A', M', Np, Dp, r1, r2, r3, r4, rS', rp, rr, rA', rq'⟩ := k1
  replace r3 : c = nI k := r3
  replace r4 : c' = nI k := r4
  replace rS' : SE v u w' x' P e := rS'
  replace rq' : ∀ q, q < P → ∃ N D, FRq w' x' q N D ∧ RF N D (A' q * n1f (nh v e P p) + if p < q ∧ q < k ∧ hrv v e p q = true then A' p else 0) (M' * n1f (nh v e P p)) := rq'
  subst r3 r4
  revert k2 k3
  unfold lpX3_handDown_209 lpX0_hand_211
  dsimp only
  rw [rS'.1.1, rS'.1.2.1, h6, h13]
  by_cases c1 : nI P ≤ nI k
  · simp only [if_pos c1]; intro _ _
    rw [n_le (by omega) (by omega)] at c1
    have : k = P := by omega
    subst this
    obtain ⟨m1, m2, m3, m4⟩ := rA'.n1 h hP hp
    refine ⟨p + 1, fun q => if q = p then 0 else A' q * n1f (nh v e k p) + if p < q ∧ hrv v e p q = true then A' p else 0, M' * n1f (nh v e k p), by omega, rfl, rfl, ⟨rS'.1, rS'.2⟩, ⟨Nat.mul_pos rA'.1 m3, ?_, m1⟩, ?_⟩
    · have s1 := sm_off (f := fun q => A' q * n1f (nh v e k p) + if p < q ∧ hrv v e p q = true then A' p else 0) (p := p) k
      have s2 := sm_giv (A := A') (hr := hrv v e p) (p := p) (n1 := n1f (nh v e k p)) (a := A' p) k
      rw [if_pos hp, if_neg (by omega), s2, show cn (hrv v e p) p k = nh v e k p from rfl] at s1
      have s3 : nh v e k p * A' p ≤ n1f (nh v e k p) * A' p := Nat.mul_le_mul_right _ m4
      have s4 : n1f (nh v e k p) * sm A' k ≤ n1f (nh v e k p) * M' := Nat.mul_le_mul_left _ rA'.2.1
      have s5 := Nat.mul_comm (n1f (nh v e k p)) M'
      have s6 := Nat.mul_comm (n1f (nh v e k p)) (A' p)
      omega
    · intro q hq
      by_cases y : q = p
      · subst y
        refine ⟨0, 1, ?_, by dsimp only; rw [if_pos rfl]; exact RF.zero⟩
        refine ⟨?_, ?_, ?_, ?_⟩ <;> simp [sl_3] <;> rfl
      · obtain ⟨N, D, ⟨z1, z2, z3, z4⟩, z5⟩ := rq' q hq
        refine ⟨N, D, ?_, ?_⟩
        · refine ⟨?_, ?_, ?_, ?_⟩ <;> simp [sl_3, y, z1, z2, z3, z4]
        · dsimp only
          rw [if_neg y]
          by_cases cc : p < q ∧ q < k ∧ hrv v e p q = true
          · rw [if_pos cc] at z5; rw [if_pos ⟨cc.1, cc.2.2⟩]; exact z5
          · rw [if_neg cc] at z5; rw [if_neg (fun t => cc ⟨t.1, hq, t.2⟩)]; exact z5
  · simp only [if_neg c1]; intro y
    exfalso; revert y
    repeat' split
    all_goals (intro y; first | exact absurd rfl y | exact absurd trivial y)
theorem RF.bd {N D A M : Nat} (h : RF N D A M) (h0 : 0 < M) (h1 : A ≤ M) (h2 : M ≤ 43046721) : N < 9223372036854775808 := by
  have a1 := Nat.le_of_dvd h0 h.dvd
  have a3 := h.le h1 h0
  omega
theorem AM.bd (h : IV v u n) (hP : P ≤ 24) {k : Nat} {A : Nat → Nat} {M : Nat} (hk : k ≤ P) (hA : AM v e P k A M) : M ≤ 43046721 := by
  have h4 := nh_all (e := e) h hP
  have h5 := sm_mono (f := nh v e P) (a := k) P hk
  exact cube_bd hA.2.2 (by omega)
theorem r120_step (h : IV v u n) (h6 : v.1 6 = nI P) (h13 : u.1 13 = nI P) (hP : P ≤ 24) {v0 u0 : St} {of da : Int32} : ∀ a b, R120 v u P e a b → ((lpX3_handDown_120 v0 of da a).1 = 0 ∧ (lpX0_hand_122 u0 of da b).1 = 0 ∧ R120 v u P e (lpX3_handDown_120 v0 of da a).2 (lpX0_hand_122 u0 of da b).2 ∧ 24 - (lpX3_handDown_120 v0 of da a).2.2.toNatClampNeg < 24 - a.2.toNatClampNeg) ∨ (¬ (lpX3_handDown_120 v0 of da a).1 = 0 ∧ ¬ (lpX0_hand_122 u0 of da b).1 = 0) := by
  rintro ⟨w, c⟩ ⟨x, c'⟩ ⟨k, A, M, r1, r3, r4, rS, rA, rq⟩
  replace r3 : c = nI k := r3
  replace r4 : c' = nI k := r4
  replace rS : SE v u w x P e := rS
  replace rq : ∀ q, q < P → ∃ N D, FRq w x q N D ∧ RF N D (A q) M := rq
  subst r3 r4
  unfold lpX3_handDown_120 lpX0_hand_122
  dsimp only
  rw [rS.1.1, rS.1.2.1, h6, h13]
  by_cases c1 : nI P ≤ nI k
  · simp only [if_pos c1]; exact Or.inr ⟨by omega, by omega⟩
  · simp only [if_neg c1]
    rw [n_le (by omega) (by omega)] at c1
    obtain ⟨N, D, f1, f2⟩ := rq k (by omega)
    rw [nN (show k < _ by omega), f1.1, f1.2.2.1, dd3 rS.1, dd0 h rS.1 h6 hP (by omega), nI_1]
    have mu : 24 - (nI (k + 1)).toNatClampNeg < 24 - k := by rw [nN (by omega)]; omega
    have sk : R120 v u P e (w, nI (k + 1)) (x, nI (k + 1)) := by
      refine ⟨k + 1, A, M, by omega, rfl, rfl, rS, ⟨rA.1, rA.2.1, Nat.le_trans rA.2.2 (Nat.pow_le_pow_right (by decide) (sm_mono (k + 1) (by omega)))⟩, rq⟩
    by_cases c2 : nL N = 0
    · simp only [if_pos c2]; exact Or.inl ⟨trivial, trivial, sk, mu⟩
    · simp only [if_neg c2]
      by_cases c3 : ddv v k da = true
      · simp only [if_pos c3]
        exact Or.inl ⟨trivial, trivial, r209_end h h6 h13 hP (by omega) rS rA rq, mu⟩
      · simp only [if_neg c3]; exact Or.inl ⟨trivial, trivial, sk, mu⟩
/-- both begin their second half alike -/
theorem r120_init (h : IV v u n) (h6 : v.1 6 = nI P) (h13 : u.1 13 = nI P) (hP : P ≤ 24) {o : Nat} (ho : o < P) (da : Int32) : R120 v u P ((lpX3_handDown_7_r v (nI o) da).2.1.2.1 52) (sl (lpX3_handDown_7_r v (nI o) da).2.1 50 o 1, nI o) ((lpX0_hand_7_r u (nI o) da).2.1, nI o) := by
  obtain ⟨g1, g2⟩ := r7_end h h6 h13 hP (nI o) da
  refine ⟨o, fun q => if (o : Int) = (q : Int) then 1 else 0, 1, by omega, rfl, rfl, ⟨g1, fun q hq => ⟨rfl, (g2 q hq).1.symm⟩⟩, ⟨by decide, Nat.le_trans (sm_one (o : Int) P) (by split <;> omega), ?_⟩, ?_⟩
  · exact Nat.one_le_pow _ _ (by decide)
  · intro q hq
    obtain ⟨z1, z2, z3, z4, z5⟩ := g2 q hq
    dsimp only
    by_cases y : q = o
    · subst y
      rw [if_pos rfl] at z4 ⊢
      refine ⟨1, 1, ⟨?_, ?_, ?_, ?_⟩, ⟨rfl, rfl, by decide⟩⟩
      · show (sl (lpX3_handDown_7_r v (nI q) da).2.1 50 q 1).2.2 50 q = _
        rw [sl_3, if_pos ⟨rfl, rfl⟩]; rfl
      · show (sl (lpX3_handDown_7_r v (nI q) da).2.1 50 q 1).2.2 51 q = _
        rw [sl_3, if_neg (fun z => by cases z.1), z3]; rfl
      · rw [z4]; rfl
      · rw [z5]; rfl
    · rw [if_neg (fun z => y ((nI_eq (by omega) (by omega)).mp z))] at z4
      rw [if_neg (by omega)]
      refine ⟨0, 1, ⟨?_, ?_, ?_, ?_⟩, RF.zero⟩
      · show (sl (lpX3_handDown_7_r v (nI o) da).2.1 50 o 1).2.2 50 q = _
        rw [sl_3, if_neg (fun z => y z.2), z2]; rfl
      · show (sl (lpX3_handDown_7_r v (nI o) da).2.1 50 o 1).2.2 51 q = _
        rw [sl_3, if_neg (fun z => by cases z.1), z3]; rfl
      · rw [z4]; rfl
      · rw [z5]; rfl
/-- the component passes those before -/
theorem skip1 (h : IV v u n) (h6 : v.1 6 = nI P) (h13 : u.1 13 = nI P) (hP : P ≤ 24) {o : Nat} (ho : o < P) (da : Int32) {j : Nat} (hj : j < o) : lpX0_hand_122 u (nI o) da ((lpX0_hand_7_r u (nI o) da).2.1, nI j) = (0, (lpX0_hand_7_r u (nI o) da).2.1, nI (j + 1)) := by
  obtain ⟨g1, g2⟩ := r7_end h h6 h13 hP (nI o) da
  obtain ⟨z1, z2, z3, z4, z5⟩ := g2 j (by omega)
  rw [if_neg (fun z => by have := (nI_eq (by omega) (by omega)).mp z; omega)] at z4
  unfold lpX0_hand_122
  dsimp only
  rw [g1.2.1, h13, if_neg (by rw [n_le (by omega) (by omega)]; omega), nN (by omega), if_pos z4, nI_1]
theorem skips (h : IV v u n) (h6 : v.1 6 = nI P) (h13 : u.1 13 = nI P) (hP : P ≤ 24) {o : Nat} (ho : o < P) (da : Int32) (f : Nat) : ∀ j, j ≤ o → wh (lpX0_hand_122 u (nI o) da) (f + j) ((lpX0_hand_7_r u (nI o) da).2.1, nI (o - j)) = wh (lpX0_hand_122 u (nI o) da) f ((lpX0_hand_7_r u (nI o) da).2.1, nI o)
  | 0, _ => rfl
  | j + 1, hj => by
    rw [show f + (j + 1) = (f + j) + 1 by omega, wh_s, skip1 h h6 h13 hP ho da (show o - (j + 1) < o by omega), if_pos rfl, show o - (j + 1) + 1 = o - j by omega]
    exact skips h h6 h13 hP ho da f j (by omega)
theorem hand_run (h : IV v u n) (h6 : v.1 6 = nI P) (h13 : u.1 13 = nI P) (hP : P ≤ 24) {o : Nat} (ho : o < P) (da : Int32) : ¬ (lpX0_hand_122_r u (nI o) da).1 = 0 ∧ SP v u (fX3_handDown v (nI o) da) (fX0_hand u (nI o) da) ∧ ∀ q, q < P → (fX3_handDown v (nI o) da).2.2 50 q = (fX0_hand u (nI o) da).2.2 25 q ∧ (fX3_handDown v (nI o) da).2.2 51 q = (fX0_hand u (nI o) da).2.2 26 q := by
  have hr := r120_init h h6 h13 hP ho da
  have hsk := skips h h6 h13 hP ho da (25 - o) o (Nat.le_refl _)
  rw [show 25 - o + o = 25 by omega, Nat.sub_self, show nI 0 = 0 from rfl] at hsk
  obtain ⟨a', b', k1, k2, k3, k4, k5⟩ := wh_two2 _ _ _ (fun a => 24 - a.2.toNatClampNeg) (r120_step (v0 := v) (u0 := u) (of := nI o) (da := da) h h6 h13 hP) 25 (25 - o) _ _ hr (by show 24 - _ < 25; omega) (by show 24 - (nI o).toNatClampNeg < 25 - o; rw [nN (by omega)]; omega)
  rw [← hsk] at k5
  unfold fX3_handDown fX0_hand lpX3_handDown_120_r lpX0_hand_122_r
  rw [nN (by omega), k4, k5]
  refine ⟨k3, ?_⟩
  obtain ⟨w, c⟩ := a'
  obtain ⟨x, c'⟩ := b'
  obtain ⟨k, A, M, r1, r3, r4, rS, rA, rq⟩ := k1
  replace r3 : c = nI k := r3
  replace r4 : c' = nI k := r4
  replace rS : SE v u w x P _ := rS
  replace rq : ∀ q, q < P → ∃ N D, FRq w x q N D ∧ RF N D (A q) M := rq
  subst r3 r4
  revert k2 k3
  unfold lpX3_handDown_120 lpX0_hand_122
  dsimp only
  rw [rS.1.1, rS.1.2.1, h6, h13]
  by_cases c1 : nI P ≤ nI k
  · simp only [if_pos c1]; intro _ _
    exact ⟨rS.1, fun q hq => by
      obtain ⟨N, D, ⟨z1, z2, z3, z4⟩, -⟩ := rq q hq
      exact ⟨z1.trans z3.symm, z2.trans z4.symm⟩⟩
  · simp only [if_neg c1]; intro y
    exfalso; revert y
    repeat' split
    all_goals (intro y; first | exact absurd rfl y | exact absurd trivial y)
end HF
