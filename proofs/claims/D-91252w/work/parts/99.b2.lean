/-! THE PLAIN LAW, 25: counting heirs; the first half of handing down. Own work. -/
set_option maxRecDepth 100000
def sm (f : Nat → Nat) : Nat → Nat
  | 0 => 0
  | k + 1 => sm f k + f k
def cn (hr : Nat → Bool) (p : Nat) : Nat → Nat
  | 0 => 0
  | k + 1 => cn hr p k + (if p < k ∧ hr k = true then 1 else 0)
theorem sm_le {f : Nat → Nat} {q : Nat} : ∀ K, q < K → f q ≤ sm f K
  | 0, h => absurd h (by omega)
  | K + 1, h => by
    rw [sm]
    by_cases e : q = K
    · subst e; omega
    · have := sm_le (f := f) K (show q < K by omega); omega
theorem sm_mono {f : Nat → Nat} {a : Nat} : ∀ b, a ≤ b → sm f a ≤ sm f b
  | 0, h => by rw [show a = 0 by omega]; exact Nat.le_refl _
  | b + 1, h => by
    by_cases e : a = b + 1
    · rw [e]; exact Nat.le_refl _
    · rw [sm]; have := sm_mono (f := f) b (show a ≤ b by omega); omega
theorem sm_off {f : Nat → Nat} {p : Nat} : ∀ K, sm (fun q => if q = p then 0 else f q) K + (if p < K then f p else 0) = sm f K
  | 0 => by rw [sm, sm, if_neg (by omega)]
  | K + 1 => by
    have ih := sm_off (f := f) (p := p) K
    rw [sm, sm]
    by_cases e : K = p
    · subst e
      rw [if_pos rfl, if_pos (by omega)]
      rw [if_neg (by omega)] at ih
      omega
    · rw [if_neg e]
      by_cases c : p < K
      · rw [if_pos c] at ih; rw [if_pos (by omega)]; omega
      · rw [if_neg c] at ih; rw [if_neg (by omega)]; omega
theorem sm_giv {A : Nat → Nat} {hr : Nat → Bool} {p n1 a : Nat} : ∀ K, sm (fun q => A q * n1 + if p < q ∧ hr q = true then a else 0) K = n1 * sm A K + cn hr p K * a
  | 0 => by rw [sm, sm, cn]; omega
  | K + 1 => by
    rw [sm, sm, cn, sm_giv K, Nat.mul_add, Nat.add_mul, Nat.mul_comm n1 (A K)]
    split
    · omega
    · omega
theorem cn_le {hr : Nat → Bool} {p : Nat} : ∀ K, cn hr p K ≤ K
  | 0 => Nat.le_refl _
  | K + 1 => by rw [cn]; have := cn_le (hr := hr) (p := p) K; split <;> omega
theorem cn_pos {hr : Nat → Bool} {p c : Nat} (h1 : p < c) (h2 : hr c = true) : ∀ K, c < K → 0 < cn hr p K
  | 0, h => absurd h (by omega)
  | K + 1, h => by
    rw [cn]
    by_cases e : c = K
    · subst e; rw [if_pos ⟨h1, h2⟩]; omega
    · have := cn_pos h1 h2 K (by omega); omega
theorem cn_0 {hr : Nat → Bool} {p : Nat} : ∀ K, K ≤ p + 1 → cn hr p K = 0
  | 0, _ => rfl
  | K + 1, h => by rw [cn, cn_0 K (by omega), if_neg (by omega)]
theorem cube : ∀ n : Nat, n * n * n ≤ 3 ^ n
  | 0 => by decide
  | 1 => by decide
  | 2 => by decide
  | 3 => by decide
  | n + 4 => by
    have ih := cube (n + 3)
    have e : 3 ^ (n + 4) = 3 * 3 ^ (n + 3) := by rw [Nat.pow_succ, Nat.mul_comm]
    rw [e]
    refine Nat.le_trans ?_ (Nat.mul_le_mul_left 3 ih)
    have hx : 3 ≤ n + 3 := by omega
    rw [show n + 4 = (n + 3) + 1 by omega]
    generalize n + 3 = x at hx
    have h1 : 3 * x ≤ x * x := Nat.mul_le_mul_right x hx
    have h2 : 3 * (x * x) ≤ x * x * x := by rw [Nat.mul_assoc]; exact Nat.mul_le_mul_right (x * x) hx
    simp only [Nat.add_mul, Nat.mul_add, Nat.one_mul, Nat.mul_one]
    omega
theorem sm_one (a : Int) : ∀ Q : Nat, sm (fun q => if a = (q : Int) then 1 else 0) Q ≤ (if a < (Q : Int) then 1 else 0)
  | 0 => by rw [sm]; exact Nat.zero_le _
  | Q + 1 => by
    have ih := sm_one a Q
    rw [sm]
    by_cases c : a = (Q : Int)
    · rw [if_pos c, if_pos (by omega)]
      rw [if_neg (by omega)] at ih; omega
    · rw [if_neg c]
      by_cases d : a < (Q : Int)
      · rw [if_pos d] at ih; rw [if_pos (by omega)]; omega
      · rw [if_neg d] at ih; omega
theorem sm_add {f g h : Nat → Nat} (e : ∀ q, f q ≤ g q + h q) : ∀ Q, sm f Q ≤ sm g Q + sm h Q
  | 0 => Nat.le_refl _
  | Q + 1 => by rw [sm, sm, sm]; have := sm_add e Q; have := e Q; omega
theorem cn_all {hr : Nat → Nat → Bool} {mo fa : Nat → Int} (h : ∀ q c, hr q c = true → mo c = (q : Int) ∨ fa c = (q : Int)) (Q : Nat) : ∀ C, sm (fun q => cn (hr q) q C) Q ≤ 2 * C
  | 0 => by
    have : ∀ Q, sm (fun q => cn (hr q) q 0) Q = 0 := fun Q => by
      induction Q with
      | zero => rfl
      | succ Q ih => rw [sm, ih]; rfl
    rw [this]; exact Nat.le_refl _
  | C + 1 => by
    have ih := cn_all h Q C
    have h1 := sm_add (f := fun q => cn (hr q) q (C + 1)) (g := fun q => cn (hr q) q C) (h := fun q => (if mo C = (q : Int) then 1 else 0) + (if fa C = (q : Int) then 1 else 0)) (fun q => by
      show cn (hr q) q (C + 1) ≤ _
      rw [cn]
      by_cases c : q < C ∧ hr q C = true
      · rw [if_pos c]
        rcases h q C c.2 with y | y
        · rw [if_pos y]; omega
        · rw [if_pos y]; omega
      · rw [if_neg c]; omega) Q
    have h2 := sm_add (f := fun q => (if mo C = (q : Int) then 1 else 0) + (if fa C = (q : Int) then 1 else 0)) (g := fun q => if mo C = (q : Int) then 1 else 0) (h := fun q => if fa C = (q : Int) then 1 else 0) (fun q => Nat.le_refl _) Q
    have h3 := sm_one (mo C) Q
    have h4 := sm_one (fa C) Q
    have h5 : (if mo C < (Q : Int) then 1 else 0) ≤ 1 := by split <;> omega
    have h6 : (if fa C < (Q : Int) then 1 else 0) ≤ 1 := by split <;> omega
    omega
theorem cube_bd {M S : Nat} (h : M * M * M ≤ 3 ^ S) (hS : S ≤ 48) : M ≤ 43046721 := by
  rcases Nat.lt_or_ge 43046721 M with c | c
  · exfalso
    have h1 : 3 ^ S ≤ 3 ^ 48 := Nat.pow_le_pow_right (by decide) hS
    have h2 : 43046722 * 43046722 ≤ M * M := Nat.mul_le_mul c c
    have h3 : 43046722 * 43046722 * 43046722 ≤ M * M * M := Nat.mul_le_mul h2 c
    have h4 : (3 : Nat) ^ 48 < 43046722 * 43046722 * 43046722 := by decide
    omega
  · exact c
section HD
variable {v u : St} {n P : Nat}
def SP (v u w x : St) : Prop := w.1 = v.1 ∧ x.1 = u.1 ∧ (∀ k, ¬ k = 52 → w.2.1 k = v.2.1 k) ∧ (∀ k, ¬ k = 27 → x.2.1 k = u.2.1 k)
def chv (v : St) (p c : Nat) : Bool := decide (v.2.1 0 c = nI p ∨ v.2.1 1 c = nI p)
def ddv (v : St) (p : Nat) (da : Int32) : Bool := fX3_isDead v (nI p) da
theorem ch3 {w x : St} (hS : SP v u w x) {p c : Nat} (hp : p < 24) (hc : c < 24) : fX3_isChild w (nI c) (nI p) = chv v p c := by
  unfold fX3_isChild chv
  rw [nN (by omega), hS.2.2.1 0 (by decide), hS.2.2.1 1 (by decide)]
  by_cases c1 : v.2.1 0 c = nI p
  · rw [if_pos c1]; exact (decide_eq_true (Or.inl c1)).symm
  · rw [if_neg c1]
    by_cases c2 : v.2.1 1 c = nI p
    · rw [if_pos c2]; exact (decide_eq_true (Or.inr c2)).symm
    · rw [if_neg c2]; exact (decide_eq_false (fun z => z.elim c1 c2)).symm
theorem ch0 {w x : St} (h : IV v u n) (hS : SP v u w x) {p c : Nat} (h6 : v.1 6 = nI P) (hP : P ≤ 24) (hp : p < P) (hc : c < P) : fX0_isChild x (nI c) (nI p) = chv v p c := by
  obtain ⟨a1, a2, -⟩ := h.2.1 c (by rw [h6, nI_i (by omega)]; omega)
  unfold fX0_isChild chv
  rw [nN (by omega), hS.2.2.2 5 (by decide), hS.2.2.2 6 (by decide), a1, a2]
  by_cases c1 : v.2.1 0 c = nI p
  · rw [if_pos c1]; exact (decide_eq_true (Or.inl c1)).symm
  · rw [if_neg c1]
    by_cases c2 : v.2.1 1 c = nI p
    · rw [if_pos c2]; exact (decide_eq_true (Or.inr c2)).symm
    · rw [if_neg c2]; exact (decide_eq_false (fun z => z.elim c1 c2)).symm
theorem dd3 {w x : St} (hS : SP v u w x) (p : Nat) (da : Int32) : fX3_isDead w (nI p) da = ddv v p da := by
  unfold ddv fX3_isDead
  rw [hS.2.2.1 2 (by decide)]
theorem dd0 {w x : St} (h : IV v u n) (hS : SP v u w x) {p : Nat} (h6 : v.1 6 = nI P) (hP : P ≤ 24) (hp : p < P) (da : Int32) : fX0_isDead x (nI p) da = ddv v p da := by
  obtain ⟨-, -, a3, -⟩ := h.2.1 p (by rw [h6, nI_i (by omega)]; omega)
  unfold ddv fX3_isDead fX0_isDead
  rw [nN (by omega), hS.2.2.2 7 (by decide), a3]
theorem SP.sa {w x : St} {a b : Nat} {y z : Int32} (h : SP v u w x) : SP v u (sa w 52 a y) (sa x 27 b z) := ⟨h.1, h.2.1, fun k hk => by rw [sa_o hk]; exact h.2.2.1 k hk, fun k hk => by rw [sa_o hk]; exact h.2.2.2 k hk⟩
theorem SP.sl {w x : St} {i j a b : Nat} {y z : Int64} (h : SP v u w x) : SP v u (sl w i a y) (sl x j b z) := h
def R36 (v u w0 x0 : St) (P p : Nat) (a b : St × Int32) : Prop := ∃ k : Nat, p < k ∧ k ≤ P ∧ a.2 = nI k ∧ b.2 = nI k ∧ SP v u a.1 b.1 ∧ a.1.2.2 = w0.2.2 ∧ b.1.2.2 = x0.2.2 ∧ ∀ q, p ≤ q → q < P → a.1.2.1 52 q = b.1.2.1 27 q
theorem r36_step (h : IV v u n) (h6 : v.1 6 = nI P) (h13 : u.1 13 = nI P) (hP : P ≤ 24) {w0 x0 v0 u0 v1 u1 : St} {of da : Int32} {p : Nat} : ∀ a b, R36 v u w0 x0 P p a b → ((lpX3_handDown_36 v0 of da v1 (nI p) a).1 = 0 ∧ (lpX0_hand_36 u0 of da u1 (nI p) b).1 = 0 ∧ R36 v u w0 x0 P p (lpX3_handDown_36 v0 of da v1 (nI p) a).2 (lpX0_hand_36 u0 of da u1 (nI p) b).2 ∧ 24 - (lpX3_handDown_36 v0 of da v1 (nI p) a).2.2.toNatClampNeg < 24 - a.2.toNatClampNeg) ∨ (¬ (lpX3_handDown_36 v0 of da v1 (nI p) a).1 = 0 ∧ ¬ (lpX0_hand_36 u0 of da u1 (nI p) b).1 = 0) := by
  rintro ⟨w, c⟩ ⟨x, c'⟩ ⟨k, r1, r2, r3, r4, r5, r6, r7, r8⟩
  replace r3 : c = nI k := r3
  replace r4 : c' = nI k := r4
  replace r5 : SP v u w x := r5
  replace r6 : w.2.2 = w0.2.2 := r6
  replace r7 : x.2.2 = x0.2.2 := r7
  replace r8 : ∀ q, p ≤ q → q < P → w.2.1 52 q = x.2.1 27 q := r8
  subst r3 r4
  unfold lpX3_handDown_36 lpX0_hand_36
  dsimp only
  rw [r5.1, r5.2.1, h6, h13]
  by_cases c1 : nI P ≤ nI k
  · simp only [if_pos c1]; exact Or.inr ⟨by omega, by omega⟩
  · simp only [if_neg c1]
    rw [n_le (by omega) (by omega)] at c1
    rw [ch3 r5 (by omega) (by omega), ch0 h r5 h6 hP (by omega) (by omega), nI_1, nN (show p < _ by omega), nN (show k < _ by omega), r8 p (by omega) (by omega), r8 k (by omega) (by omega)]
    refine Or.inl ⟨trivial, trivial, ⟨k + 1, by omega, by omega, rfl, rfl, r5.sa, r6, r7, fun q a b => ?_⟩, ?_⟩
    · show (sa w 52 p _).2.1 52 q = (sa x 27 p _).2.1 27 q
      rw [sa_s, sa_s]
      by_cases e : q = p
      · rw [e, upd_s, upd_s]
      · rw [upd_o e, upd_o e]; exact r8 q a b
    · rw [nN (by omega)]; omega
theorem r36_init (h : IV v u n) (h6 : v.1 6 = nI P) (hP : P ≤ 24) {w x : St} {da : Int32} {p : Nat} (hp : p < P) (hS : SP v u w x) (hq : ∀ q, p < q → q < P → w.2.1 52 q = x.2.1 27 q) : R36 v u w x P p (sa w 52 (nI p).toNatClampNeg (b2 (if fX3_isDead w (nI p) da = true then false else true)), nI p + 1) (sa x 27 (nI p).toNatClampNeg (b2 (if fX0_isDead x (nI p) da = true then false else true)), nI p + 1) := by
  rw [dd3 hS, dd0 h hS h6 hP hp, nN (by omega), nI_1]
  refine ⟨p + 1, by omega, by omega, rfl, rfl, hS.sa, rfl, rfl, fun q a b => ?_⟩
  show (sa w 52 p _).2.1 52 q = (sa x 27 p _).2.1 27 q
  rw [sa_s, sa_s]
  by_cases e : q = p
  · rw [e, upd_s, upd_s]
  · rw [upd_o e, upd_o e]; exact hq q (by omega) b
theorem r36_end (h : IV v u n) (h6 : v.1 6 = nI P) (h13 : u.1 13 = nI P) (hP : P ≤ 24) {v0 u0 w x : St} {of da : Int32} {p : Nat} (hp : p < P) (hS : SP v u w x) (hq : ∀ q, p < q → q < P → w.2.1 52 q = x.2.1 27 q) : SP v u (lpX3_handDown_36_r v0 of da w (nI p)).2.1 (lpX0_hand_36_r u0 of da x (nI p)).2.1 ∧ (lpX3_handDown_36_r v0 of da w (nI p)).2.1.2.2 = w.2.2 ∧ (lpX0_hand_36_r u0 of da x (nI p)).2.1.2.2 = x.2.2 ∧ ∀ q, p ≤ q → q < P → (lpX3_handDown_36_r v0 of da w (nI p)).2.1.2.1 52 q = (lpX0_hand_36_r u0 of da x (nI p)).2.1.2.1 27 q := by
  obtain ⟨a', b', k1, k2, k3, k4, k5⟩ := wh_two _ _ _ (fun a => 24 - a.2.toNatClampNeg) (r36_step (v0 := v0) (u0 := u0) (v1 := w) (u1 := x) (w0 := w) (x0 := x) (of := of) (da := da) (p := p) h h6 h13 hP) 25 _ _ (r36_init h h6 hP hp hS hq) (by show 24 - _ < 25; omega)
  unfold lpX3_handDown_36_r lpX0_hand_36_r
  rw [k4, k5]
  obtain ⟨w', c⟩ := a'
  obtain ⟨x', c'⟩ := b'
  obtain ⟨k, r1, r2, r3, r4, r5, r6, r7, r8⟩ := k1
  replace r3 : c = nI k := r3
  replace r4 : c' = nI k := r4
  replace r5 : SP v u w' x' := r5
  subst r3 r4
  revert k2 k3
  unfold lpX3_handDown_36 lpX0_hand_36
  dsimp only
  rw [r5.1, r5.2.1, h6, h13]
  by_cases c1 : nI P ≤ nI k
  · simp only [if_pos c1]; intro _ _; exact ⟨r5, r6, r7, r8⟩
  · simp only [if_neg c1]; intro y; exact absurd trivial y
def R7 (v u : St) (P : Nat) (of : Int32) (a b : St × Int32) : Prop := ∃ m : Nat, m ≤ P ∧ a.2.toInt = (m : Int) - 1 ∧ b.2.toInt = (m : Int) - 1 ∧ SP v u a.1 b.1 ∧ ∀ q, m ≤ q → q < P → a.1.2.1 52 q = b.1.2.1 27 q ∧ a.1.2.2 50 q = 0 ∧ a.1.2.2 51 q = 1 ∧ b.1.2.2 25 q = (if nI q = of then 1 else 0) ∧ b.1.2.2 26 q = 1
theorem r7_step (h : IV v u n) (h6 : v.1 6 = nI P) (h13 : u.1 13 = nI P) (hP : P ≤ 24) {v0 u0 : St} {of da : Int32} : ∀ a b, R7 v u P of a b → ((lpX3_handDown_7 v0 of da a).1 = 0 ∧ (lpX0_hand_7 u0 of da b).1 = 0 ∧ R7 v u P of (lpX3_handDown_7 v0 of da a).2 (lpX0_hand_7 u0 of da b).2 ∧ ((lpX3_handDown_7 v0 of da a).2.2.toInt + 1).toNat < (a.2.toInt + 1).toNat) ∨ (¬ (lpX3_handDown_7 v0 of da a).1 = 0 ∧ ¬ (lpX0_hand_7 u0 of da b).1 = 0) := by
  rintro ⟨w, c⟩ ⟨x, c'⟩ ⟨m, r1, r2, r3, r4, r5⟩
  replace r2 : c.toInt = (m : Int) - 1 := r2
  replace r3 : c'.toInt = (m : Int) - 1 := r3
  replace r4 : SP v u w x := r4
  replace r5 : ∀ q, m ≤ q → q < P → w.2.1 52 q = x.2.1 27 q ∧ w.2.2 50 q = 0 ∧ w.2.2 51 q = 1 ∧ x.2.2 25 q = (if nI q = of then 1 else 0) ∧ x.2.2 26 q = 1 := r5
  have ec : c' = c := by rw [t_eq]; omega
  subst ec
  unfold lpX3_handDown_7 lpX0_hand_7
  dsimp only
  by_cases c1 : c' < 0
  · simp only [if_pos c1]; exact Or.inr ⟨by omega, by omega⟩
  · simp only [if_neg c1]
    rw [t_lt, k_0] at c1
    have e1 : (c' + -1).toInt = c'.toInt - 1 := by rw [t_add (by rw [k_m1]; omega) (by rw [k_m1]; omega), k_m1]; omega
    obtain ⟨m', rfl⟩ : ∃ m', m = m' + 1 := ⟨m - 1, by omega⟩
    have eh : c' = nI m' := by rw [t_eq, nI_i (by omega)]; omega
    obtain ⟨g1, g2, g3, g4⟩ := r36_end (v0 := v0) (u0 := u0) (of := of) (da := da) (p := m') h h6 h13 hP (by omega) r4 (fun q a b => (r5 q (by omega) b).1)
    refine Or.inl ⟨trivial, trivial, ⟨m', by omega, by rw [e1]; omega, by rw [e1]; omega, ?_, ?_⟩, by rw [e1]; omega⟩
    · rw [eh]; exact g1
    · rw [eh, nN (by omega)]
      intro q a b
      show (lpX3_handDown_36_r v0 of da w (nI m')).2.1.2.1 52 q = (lpX0_hand_36_r u0 of da x (nI m')).2.1.2.1 27 q ∧ _
      refine ⟨g4 q a b, ?_⟩
      simp only [sl_3]
      rw [g2, g3]
      by_cases e : q = m'
      · subst e; simp
      · have := r5 q (by omega) b
        simp [e, this]
theorem r7_init (h6 : v.1 6 = nI P) (h13 : u.1 13 = nI P) (hP : P ≤ 24) {of : Int32} : R7 v u P of (v, v.1 6 - 1) (u, u.1 13 - 1) := by
  rw [h6, h13]
  have e : (nI P - 1).toInt = (P : Int) - 1 := by rw [t_sub (by rw [nI_i (by omega), k_1]; omega) (by rw [nI_i (by omega), k_1]; omega), nI_i (by omega), k_1]
  exact ⟨P, Nat.le_refl _, e, e, ⟨rfl, rfl, fun _ _ => rfl, fun _ _ => rfl⟩, fun q a b => absurd a (by omega)⟩
theorem r7_mu (h6 : v.1 6 = nI P) (hP : P ≤ 24) : ((v.1 6 - 1).toInt + 1).toNat < 25 := by
  rw [h6, t_sub (by rw [nI_i (by omega), k_1]; omega) (by rw [nI_i (by omega), k_1]; omega), nI_i (by omega), k_1]; omega
theorem r7_end (h : IV v u n) (h6 : v.1 6 = nI P) (h13 : u.1 13 = nI P) (hP : P ≤ 24) (of da : Int32) : SP v u (lpX3_handDown_7_r v of da).2.1 (lpX0_hand_7_r u of da).2.1 ∧ ∀ q, q < P → (lpX3_handDown_7_r v of da).2.1.2.1 52 q = (lpX0_hand_7_r u of da).2.1.2.1 27 q ∧ (lpX3_handDown_7_r v of da).2.1.2.2 50 q = 0 ∧ (lpX3_handDown_7_r v of da).2.1.2.2 51 q = 1 ∧ (lpX0_hand_7_r u of da).2.1.2.2 25 q = (if nI q = of then 1 else 0) ∧ (lpX0_hand_7_r u of da).2.1.2.2 26 q = 1 := by
  obtain ⟨a', b', k1, k2, k3, k4, k5⟩ := wh_two _ _ _ (fun a => (a.2.toInt + 1).toNat) (r7_step (v0 := v) (u0 := u) (of := of) (da := da) h h6 h13 hP) 25 _ _ (r7_init h6 h13 hP) (r7_mu h6 hP)
  unfold lpX3_handDown_7_r lpX0_hand_7_r
  rw [k4, k5]
  obtain ⟨w, c⟩ := a'
  obtain ⟨x, c'⟩ := b'
  obtain ⟨m, r1, r2, r3, r4, r5⟩ := k1
  replace r2 : c.toInt = (m : Int) - 1 := r2
  replace r3 : c'.toInt = (m : Int) - 1 := r3
  have ec : c' = c := by rw [t_eq]; omega
  subst ec
  revert k2 k3
  unfold lpX3_handDown_7 lpX0_hand_7
  dsimp only
  by_cases c1 : c' < 0
  · simp only [if_pos c1]; intro _ _
    rw [t_lt, k_0] at c1
    exact ⟨r4, fun q hq => r5 q (by omega) hq⟩
  · simp only [if_neg c1]; intro y; exact absurd trivial y
end HD
