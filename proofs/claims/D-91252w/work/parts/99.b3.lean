/-! THE PLAIN LAW, 26: the second half of handing down. Own work. -/
set_option maxRecDepth 100000
section HE
variable {v u : St} {n P : Nat} {e : Nat → Int32}
def hrv (v : St) (e : Nat → Int32) (p c : Nat) : Bool := if chv v p c = true then (if e c = 0 then false else true) else false
def SE (v u w x : St) (P : Nat) (e : Nat → Int32) : Prop := SP v u w x ∧ ∀ q, q < P → w.2.1 52 q = e q ∧ x.2.1 27 q = e q
def nh (v : St) (e : Nat → Int32) (P q : Nat) : Nat := cn (hrv v e q) q P
def n1f (n : Nat) : Nat := if n = 0 then 1 else n
def FRq (w x : St) (q N D : Nat) : Prop := w.2.2 50 q = nL N ∧ w.2.2 51 q = nL D ∧ x.2.2 25 q = nL N ∧ x.2.2 26 q = nL D
def R159 (v : St) (e : Nat → Int32) (P p : Nat) (a b : Int32 × Int32) : Prop := a = b ∧ ∃ k : Nat, p < k ∧ k ≤ P ∧ a = (nI (cn (hrv v e p) p k), nI k)
theorem r159_step (h : IV v u n) (h6 : v.1 6 = nI P) (h13 : u.1 13 = nI P) (hP : P ≤ 24) {w x v0 u0 : St} {of da : Int32} {p : Nat} (hS : SE v u w x P e) : ∀ a b, R159 v e P p a b → ((lpX3_handDown_159 v0 of da w (nI p) a).1 = 0 ∧ (lpX0_hand_161 u0 of da x (nI p) b).1 = 0 ∧ R159 v e P p (lpX3_handDown_159 v0 of da w (nI p) a).2 (lpX0_hand_161 u0 of da x (nI p) b).2 ∧ 24 - (lpX3_handDown_159 v0 of da w (nI p) a).2.2.toNatClampNeg < 24 - a.2.toNatClampNeg) ∨ (¬ (lpX3_handDown_159 v0 of da w (nI p) a).1 = 0 ∧ ¬ (lpX0_hand_161 u0 of da x (nI p) b).1 = 0) := by
  rintro a b ⟨rfl, k, r1, r2, rfl⟩
  unfold lpX3_handDown_159 lpX0_hand_161
  dsimp only
  rw [hS.1.1, hS.1.2.1, h6, h13]
  by_cases c1 : nI P ≤ nI k
  · simp only [if_pos c1]; exact Or.inr ⟨by omega, by omega⟩
  · simp only [if_neg c1]
    rw [n_le (by omega) (by omega)] at c1
    rw [ch3 hS.1 (by omega) (by omega), ch0 h hS.1 h6 hP (by omega) (by omega), nI_1, nN (show k < _ by omega), (hS.2 k (by omega)).1, (hS.2 k (by omega)).2]
    refine Or.inl ⟨trivial, trivial, ⟨rfl, k + 1, by omega, by omega, ?_⟩, ?_⟩
    · rw [show (if chv v p k = true then (if e k = 0 then false else true) else false) = hrv v e p k from rfl, cn]
      cases y : hrv v e p k with
      | true => rw [if_pos ⟨r1, rfl⟩, show b2 true = 1 from rfl, nI_1]
      | false => rw [if_neg (fun z => by cases z.2), show b2 false = 0 from rfl, Int32.add_zero]; rfl
    · rw [nN (by omega)]; omega
theorem r159_init {p : Nat} (hp : p < P) (hP : P ≤ 24) : R159 v e P p (0, nI p + 1) (0, nI p + 1) := by
  refine ⟨rfl, p + 1, by omega, by omega, ?_⟩
  rw [nI_1, cn_0 (p + 1) (by omega)]; rfl
theorem r159_end (h : IV v u n) (h6 : v.1 6 = nI P) (h13 : u.1 13 = nI P) (hP : P ≤ 24) {w x v0 u0 : St} {of da : Int32} {p : Nat} (hp : p < P) (hS : SE v u w x P e) : (lpX3_handDown_159_r v0 of da w (nI p)).2.1 = nI (nh v e P p) ∧ (lpX0_hand_161_r u0 of da x (nI p)).2.1 = nI (nh v e P p) := by
  obtain ⟨a', b', k1, k2, k3, k4, k5⟩ := wh_two _ _ _ (fun a => 24 - a.2.toNatClampNeg) (r159_step (v0 := v0) (u0 := u0) (of := of) (da := da) (p := p) h h6 h13 hP hS) 25 _ _ (r159_init hp hP) (by show 24 - _ < 25; omega)
  unfold lpX3_handDown_159_r lpX0_hand_161_r
  rw [k4, k5]
  obtain ⟨rfl, k, r1, r2, rfl⟩ := k1
  revert k2 k3
  unfold lpX3_handDown_159 lpX0_hand_161
  dsimp only
  rw [hS.1.1, hS.1.2.1, h6, h13]
  by_cases c1 : nI P ≤ nI k
  · simp only [if_pos c1]; intro _ _
    rw [n_le (by omega) (by omega)] at c1
    have : k = P := by omega
    subst this
    exact ⟨rfl, rfl⟩
  · simp only [if_neg c1]; intro y; exact absurd trivial y
theorem hr_par (h : IV v u n) {q c : Nat} (hq : q < 24) (z : hrv v e q c = true) : (v.2.1 0 c).toInt = (q : Int) ∨ (v.2.1 1 c).toInt = (q : Int) := by
  unfold hrv at z
  by_cases y : chv v q c = true
  · unfold chv at y
    have y := of_decide_eq_true y
    rcases y with y | y
    · left; rw [y, nI_i (by omega)]
    · right; rw [y, nI_i (by omega)]
  · rw [if_neg y] at z; cases z
theorem nh_all (h : IV v u n) (hP : P ≤ 24) : sm (nh v e P) P ≤ 48 := by
  have key : ∀ C, sm (fun q => cn (fun c => if q < 24 then hrv v e q c else false) q C) P ≤ 2 * C := cn_all (hr := fun q c => if q < 24 then hrv v e q c else false) (mo := fun c => (v.2.1 0 c).toInt) (fa := fun c => (v.2.1 1 c).toInt) (fun q c z => by
    by_cases y : q < 24
    · rw [if_pos y] at z; exact hr_par h y z
    · rw [if_neg y] at z; cases z) P
  have k2 : ∀ Q, Q ≤ 24 → sm (nh v e P) Q = sm (fun q => cn (fun c => if q < 24 then hrv v e q c else false) q P) Q := by
    intro Q
    induction Q with
    | zero => intro _; rfl
    | succ Q ih =>
      intro hQ
      rw [sm, sm, ih (by omega)]
      congr 1
      unfold nh
      congr 1
      funext c
      rw [if_pos (by omega)]
  have := key P
  rw [k2 P hP]
  omega
/-- before person k, its fractions those of A over M -/
def AM (v : St) (e : Nat → Int32) (P k : Nat) (A : Nat → Nat) (M : Nat) : Prop := 0 < M ∧ sm A P ≤ M ∧ M * M * M ≤ 3 ^ sm (nh v e P) k
theorem AM.n1 (h : IV v u n) (hP : P ≤ 24) {k : Nat} {A : Nat → Nat} {M : Nat} (hk : k < P) (hA : AM v e P k A M) : (M * n1f (nh v e P k)) * (M * n1f (nh v e P k)) * (M * n1f (nh v e P k)) ≤ 3 ^ sm (nh v e P) (k + 1) ∧ M * n1f (nh v e P k) ≤ 43046721 ∧ 0 < n1f (nh v e P k) ∧ nh v e P k ≤ n1f (nh v e P k) := by
  have h1 : n1f (nh v e P k) * n1f (nh v e P k) * n1f (nh v e P k) ≤ 3 ^ nh v e P k := by
    unfold n1f
    split
    · rename_i z; rw [z]; decide
    · exact cube _
  have h2 : ∀ a b : Nat, (a * b) * (a * b) * (a * b) = (a * a * a) * (b * b * b) := fun a b => by
    simp only [Nat.mul_assoc, Nat.mul_left_comm, Nat.mul_comm]
  have h3 : (M * n1f (nh v e P k)) * (M * n1f (nh v e P k)) * (M * n1f (nh v e P k)) ≤ 3 ^ sm (nh v e P) (k + 1) := by
    rw [h2, sm, Nat.pow_add]
    exact Nat.mul_le_mul hA.2.2 h1
  have h4 := nh_all (e := e) h hP
  have h5 := sm_mono (f := nh v e P) (a := k + 1) P (by omega)
  refine ⟨h3, cube_bd h3 (by omega), ?_, ?_⟩
  · unfold n1f; split <;> omega
  · unfold n1f; split <;> omega
def R209 (v u : St) (P : Nat) (e : Nat → Int32) (p : Nat) (a b : St × Int32) : Prop := ∃ (k : Nat) (A : Nat → Nat) (M Np Dp : Nat), p < k ∧ k ≤ P ∧ a.2 = nI k ∧ b.2 = nI k ∧ SE v u a.1 b.1 P e ∧ FRq a.1 b.1 p Np Dp ∧ RF Np Dp (A p) M ∧ AM v e P p A M ∧ ∀ q, q < P → ∃ N D, FRq a.1 b.1 q N D ∧ RF N D (A q * n1f (nh v e P p) + if p < q ∧ q < k ∧ hrv v e p q = true then A p else 0) (M * n1f (nh v e P p))
def R120 (v u : St) (P : Nat) (e : Nat → Int32) (a b : St × Int32) : Prop := ∃ (k : Nat) (A : Nat → Nat) (M : Nat), k ≤ P ∧ a.2 = nI k ∧ b.2 = nI k ∧ SE v u a.1 b.1 P e ∧ AM v e P k A M ∧ ∀ q, q < P → ∃ N D, FRq a.1 b.1 q N D ∧ RF N D (A q) M
theorem RF.can {N D A M n1 : Nat} (h0 : 0 < n1) (h : RF N D (A * n1) (M * n1)) : RF N D A M := ⟨Nat.eq_of_mul_eq_mul_right h0 (by rw [Nat.mul_assoc, h.1, Nat.mul_right_comm]), h.2⟩
/-- a heir's turn -/
theorem r209_heir (h : IV v u n) (hP : P ≤ 24) {w x : St} {p k : Nat} {A : Nat → Nat} {M Np Dp : Nat} (r1 : p < k) (r2 : k < P) (rS : SE v u w x P e) (rp : FRq w x p Np Dp) (rr : RF Np Dp (A p) M) (rA : AM v e P p A M) (rq : ∀ q, q < P → ∃ N D, FRq w x q N D ∧ RF N D (A q * n1f (nh v e P p) + if p < q ∧ q < k ∧ hrv v e p q = true then A p else 0) (M * n1f (nh v e P p))) (hh : hrv v e p k = true) : okX3_gets w (nI k) (nL Np) (nL Dp * (nI (nh v e P p)).toInt64) ∧ okX0_add n x (nI k) (nL Np) (nL Dp * (nI (nh v e P p)).toInt64) ∧ R209 v u P e p (fX3_gets w (nI k) (nL Np) (nL Dp * (nI (nh v e P p)).toInt64), nI (k + 1)) (fX0_add x (nI k) (nL Np) (nL Dp * (nI (nh v e P p)).toInt64), nI (k + 1)) := by
  obtain ⟨m1, m2, m3, m4⟩ := rA.n1 h hP (show p < P by omega)
  have hn : 0 < nh v e P p := cn_pos r1 hh P r2
  have en : n1f (nh v e P p) = nh v e P p := by unfold n1f; rw [if_neg (by omega)]
  have hnl : nh v e P p ≤ P := cn_le P
  obtain ⟨N, D, f1, f2⟩ := rq k r2
  rw [if_neg (by omega), Nat.add_zero] at f2
  have hAk := sm_le (f := A) P r2
  have hAp := sm_le (f := A) P (show p < P by omega)
  have hM := rA.2.1
  have hM1 : M ≤ M * n1f (nh v e P p) := Nat.le_mul_of_pos_right M m3
  have gv : GV N D Np (Dp * n1f (nh v e P p)) (A k * n1f (nh v e P p)) (A p) (M * n1f (nh v e P p)) := by
    refine ⟨f2, ?_, Nat.mul_dvd_mul_right rr.dvd _, Nat.mul_pos rA.1 m3, m2, Nat.mul_le_mul_right _ (by omega), by omega⟩
    rw [← Nat.mul_assoc, rr.1, Nat.mul_assoc]
  rw [nI_64 (by omega), nL_mul, ← en]
  obtain ⟨N', D', g1, g2, g3, g4, g5⟩ := add_b (c := nI k) (n := n) gv (by rw [vp_in_iff, nI_i (by omega)]; omega) (by rw [nN (by omega)]; exact f1.1) (by rw [nN (by omega)]; exact f1.2.1) (by rw [nN (by omega)]; exact f1.2.2.1) (by rw [nN (by omega)]; exact f1.2.2.2)
  refine ⟨g4, g5, ?_⟩
  rw [g2, g3, nN (by omega)]
  have fo : ∀ q N0 D0, ¬ q = k → FRq w x q N0 D0 → FRq (sl (sl w 50 k (nL N')) 51 k (nL D')) (sl (sl x 25 k (nL N')) 26 k (nL D')) q N0 D0 := by
    rintro q N0 D0 hq ⟨z1, z2, z3, z4⟩
    refine ⟨?_, ?_, ?_, ?_⟩ <;> simp [sl_3, hq, z1, z2, z3, z4]
  refine ⟨k + 1, A, M, Np, Dp, by omega, by omega, rfl, rfl, ⟨rS.1, rS.2⟩, fo p Np Dp (by omega) rp, rr, rA, ?_⟩
  intro q hq
  by_cases y : q = k
  · subst y
    refine ⟨N', D', ?_, ?_⟩
    · refine ⟨?_, ?_, ?_, ?_⟩ <;> simp [sl_3]
    · rw [if_pos ⟨r1, by omega, hh⟩]; exact g1
  · obtain ⟨N0, D0, z1, z2⟩ := rq q hq
    refine ⟨N0, D0, fo q N0 D0 y z1, ?_⟩
    by_cases c : p < q ∧ q < k ∧ hrv v e p q = true
    · rw [if_pos c] at z2; rw [if_pos ⟨c.1, by omega, c.2.2⟩]; exact z2
    · rw [if_neg c] at z2; rw [if_neg (fun t => c ⟨t.1, by omega, t.2.2⟩)]; exact z2
theorem hrv_t {p c : Nat} : hrv v e p c = true ↔ chv v p c = true ∧ ¬ e c = 0 := by
  unfold hrv
  by_cases a : chv v p c = true
  · rw [if_pos a]
    by_cases b : e c = 0
    · rw [if_pos b]; exact ⟨fun z => (by cases z), fun z => absurd b z.2⟩
    · rw [if_neg b]; exact ⟨fun _ => ⟨a, b⟩, fun _ => rfl⟩
  · rw [if_neg a]; exact ⟨fun z => (by cases z), fun z => absurd z.1 a⟩
theorem r209_step (h : IV v u n) (h6 : v.1 6 = nI P) (h13 : u.1 13 = nI P) (hP : P ≤ 24) {w0 x0 v0 u0 : St} {of da : Int32} {p : Nat} (hp : p < P) (hS : SE v u w0 x0 P e) : ∀ a b, R209 v u P e p a b → ((lpX3_handDown_209 v0 of da w0 (nI p) a).1 = 0 ∧ (lpX0_hand_211 u0 of da x0 (nI p) b).1 = 0 ∧ R209 v u P e p (lpX3_handDown_209 v0 of da w0 (nI p) a).2 (lpX0_hand_211 u0 of da x0 (nI p) b).2 ∧ 24 - (lpX3_handDown_209 v0 of da w0 (nI p) a).2.2.toNatClampNeg < 24 - a.2.toNatClampNeg) ∨ (¬ (lpX3_handDown_209 v0 of da w0 (nI p) a).1 = 0 ∧ ¬ (lpX0_hand_211 u0 of da x0 (nI p) b).1 = 0) := by
  rintro ⟨w, c⟩ ⟨x, c'⟩ ⟨k, A, M, Np, Dp, r1, r2, r3, r4, rS, rp, rr, rA, rq⟩
  replace r3 : c = nI k := r3
  replace r4 : c' = nI k := r4
  replace rS : SE v u w x P e := rS
  replace rp : FRq w x p Np Dp := rp
  replace rq : ∀ q, q < P → ∃ N D, FRq w x q N D ∧ RF N D (A q * n1f (nh v e P p) + if p < q ∧ q < k ∧ hrv v e p q = true then A p else 0) (M * n1f (nh v e P p)) := rq
  subst r3 r4
  obtain ⟨en1, en2⟩ := r159_end (v0 := v0) (u0 := u0) (of := of) (da := da) h h6 h13 hP hp hS
  unfold lpX3_handDown_209 lpX0_hand_211
  dsimp only
  rw [rS.1.1, rS.1.2.1, h6, h13, en1, en2]
  by_cases c1 : nI P ≤ nI k
  · simp only [if_pos c1]; exact Or.inr ⟨by omega, by omega⟩
  · simp only [if_neg c1]
    rw [n_le (by omega) (by omega)] at c1
    rw [ch3 rS.1 (by omega) (by omega), ch0 h rS.1 h6 hP (by omega) (by omega), nI_1, nN (show k < _ by omega), nN (show p < _ by omega), (rS.2 k (by omega)).1, (rS.2 k (by omega)).2, rp.1, rp.2.1, rp.2.2.1, rp.2.2.2]
    have mu : 24 - (nI (k + 1)).toNatClampNeg < 24 - k := by rw [nN (by omega)]; omega
    have sk : hrv v e p k = false → R209 v u P e p (w, nI (k + 1)) (x, nI (k + 1)) := fun z => by
      refine ⟨k + 1, A, M, Np, Dp, by omega, by omega, rfl, rfl, rS, rp, rr, rA, fun q hq => ?_⟩
      obtain ⟨N0, D0, z1, z2⟩ := rq q hq
      refine ⟨N0, D0, z1, ?_⟩
      by_cases cc : p < q ∧ q < k ∧ hrv v e p q = true
      · rw [if_pos cc] at z2; rw [if_pos ⟨cc.1, by omega, cc.2.2⟩]; exact z2
      · rw [if_neg cc] at z2; rw [if_neg (fun t => ?_)]; exact z2
        by_cases y : q = k
        · subst y; rw [z] at t; cases t.2.2
        · exact cc ⟨t.1, by omega, t.2.2⟩
    by_cases c2 : chv v p k = true
    · simp only [if_pos c2]
      by_cases c3 : e k = 0
      · simp only [if_pos c3]
        exact Or.inl ⟨trivial, trivial, sk (Bool.eq_false_iff.mpr (fun z => (hrv_t.mp z).2 c3)), mu⟩
      · simp only [if_neg c3]
        exact Or.inl ⟨trivial, trivial, (r209_heir h hP r1 (by omega) rS rp rr rA rq (hrv_t.mpr ⟨c2, c3⟩)).2.2, mu⟩
    · simp only [if_neg c2]
      exact Or.inl ⟨trivial, trivial, sk (Bool.eq_false_iff.mpr (fun z => c2 (hrv_t.mp z).1)), mu⟩
end HE
