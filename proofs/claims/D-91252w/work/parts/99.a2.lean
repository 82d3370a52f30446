/-! THE PLAIN LAW, 22: swap. Own work. -/
set_option maxRecDepth 100000
/-- two loops in step -/
theorem wh_two {A B : Type} (F : A → Nat × A) (G : B → Nat × B) (R : A → B → Prop) (μ : A → Nat) (hs : ∀ a b, R a b → ((F a).1 = 0 ∧ (G b).1 = 0 ∧ R (F a).2 (G b).2 ∧ μ (F a).2 < μ a) ∨ (¬ (F a).1 = 0 ∧ ¬ (G b).1 = 0)) : ∀ (n : Nat) (a : A) (b : B), R a b → μ a < n → ∃ a' b', R a' b' ∧ ¬ (F a').1 = 0 ∧ ¬ (G b').1 = 0 ∧ wh F n a = F a' ∧ wh G n b = G b' := by
  intro n
  induction n with
  | zero => intro a b _ h; omega
  | succ n ih =>
    intro a b hr hm
    rw [wh_s, wh_s]
    rcases hs a b hr with ⟨h1, h2, h3, h4⟩ | ⟨h1, h2⟩
    · rw [if_pos h1, if_pos h2]; exact ih _ _ h3 (by omega)
    · rw [if_neg h1, if_neg h2]; exact ⟨a, b, hr, h1, h2, rfl, rfl⟩
theorem wh_twoL {A B : Type} {F : A → Nat × A} {G : B → Nat × B} {R : A → B → Prop} {μ : A → Nat} (hs : ∀ a b, R a b → ((F a).1 = 0 ∧ (G b).1 = 0 ∧ R (F a).2 (G b).2 ∧ μ (F a).2 < μ a) ∨ (¬ (F a).1 = 0 ∧ ¬ (G b).1 = 0)) {n : Nat} {a : A} {b : B} (h : R a b) (hm : μ a < n) : LOK F n a (fun a => ∃ b, R a b) ∧ LOK G n b (fun b => ∃ a, R a b) := by
  obtain ⟨a', b', -, h2, h3, h4, h5⟩ := wh_two F G R μ hs n a b h hm
  refine ⟨⟨⟨b, h⟩, ?_, by rw [h4]; exact h2⟩, ⟨a, h⟩, ?_, by rw [h5]; exact h3⟩
  · rintro a ⟨b, hr⟩ h0
    rcases hs a b hr with ⟨_, _, h3, _⟩ | ⟨h1, h2⟩
    · exact ⟨_, h3⟩
    · exact absurd h0 h1
  · rintro b ⟨a, hr⟩ h0
    rcases hs a b hr with ⟨_, _, h3, _⟩ | ⟨h1, h2⟩
    · exact ⟨_, h3⟩
    · exact absurd h0 h2
theorem sub_add {a b : Int32} : a + b - b = a := by
  rw [Int32.sub_eq_add_neg, Int32.add_assoc, Int32.add_right_neg, Int32.add_zero]
section SW
variable {v u : St} {n H : Nat}
/-- where both stand: before house h, the set S being left -/
def RS (v : St) (H : Nat) (hn : Nat) (a : Int32 × Int32 × Int32 × Int32) (b : Int32 × Int32 × Int32) : Prop := ∃ h S : Nat, h ≤ hn + 1 ∧ hn < H ∧ S < 2 ^ H ∧ a.2.2.2 = nI h ∧ b.2.2 = nI h ∧ a.2.1 = nI (2 ^ H - 1 - S) ∧ b.1 = nI S ∧ a.1 = bst H (jyM v) (H - h) S ∧ 0 ≤ (a.1).toInt ∧ a.2.2.1 = b.2.1
theorem rs_go (hv : v.1 7 = nI H) (hu : u.1 14 = nI H) (hJ : JC u (jyM v)) (hH : H ≤ 8) {hn h S : Nat} (hS : S < 2 ^ H) (hh : h < H) (gt gt' : Int32) (ho : Int32) (h0 : 0 ≤ (bst H (jyM v) (H - h) S).toInt) : ∃ g, g < H ∧ Gd (jyM v) H h S g ∧ lpX3_swap_32_r v ho (bst H (jyM v) (H - h) S) (nI (2 ^ H - 1 - S)) gt (nI h) = (1, nI g) ∧ lpX0_swap_2_36_r u ho (nI S) gt' (nI h) = (1, nI g) := by
  obtain ⟨g, a1, a2, a3, a4, -⟩ := fst_run _ (Gd (jyM v) H h S) H hH (fun k hk => g3 hv hH (ho := ho) (gt := gt) hS hh hk) (Gd.ex hh h0)
  obtain ⟨g', b1, b2, b3, b4, -⟩ := fst_run _ (Gd (jyM v) H h S) H hH (fun k hk => g0 hu hJ hH (ho := ho) (gt := gt') hS hh hk) (Gd.ex hh h0)
  have e : g = g' := by
    rcases Nat.lt_trichotomy g g' with y | y | y
    · exact absurd a2 (b3 g y)
    · exact y
    · exact absurd b2 (a3 g' y)
  subst e
  exact ⟨g, a1, a2, a4, b4⟩
theorem rs_step (hv : v.1 7 = nI H) (hu : u.1 14 = nI H) (hJ : JC u (jyM v)) (hH : H ≤ 8) {hn : Nat} : ∀ a b, RS v H hn a b → ((lpX3_swap_23 v (nI hn) a).1 = 0 ∧ (lpX0_swap_2_28 u (nI hn) b).1 = 0 ∧ RS v H hn (lpX3_swap_23 v (nI hn) a).2 (lpX0_swap_2_28 u (nI hn) b).2 ∧ 8 - (lpX3_swap_23 v (nI hn) a).2.2.2.2.toNatClampNeg < 8 - a.2.2.2.toNatClampNeg) ∨ (¬ (lpX3_swap_23 v (nI hn) a).1 = 0 ∧ ¬ (lpX0_swap_2_28 u (nI hn) b).1 = 0) := by
  rintro ⟨lf, z, gt, hx⟩ ⟨lf', gt', hx'⟩ ⟨h, S, r1, r2, r3, r4, r5, r6, r7, r8, r9, r10⟩
  replace r4 : hx = nI h := r4
  replace r5 : hx' = nI h := r5
  replace r6 : z = nI (2 ^ H - 1 - S) := r6
  replace r7 : lf' = nI S := r7
  replace r8 : lf = bst H (jyM v) (H - h) S := r8
  replace r9 : 0 ≤ lf.toInt := r9
  replace r10 : gt = gt' := r10
  subst r4 r5 r6 r7 r8 r10
  have h27 := pw_256 hH
  obtain ⟨A1, A2⟩ := i5_end hv hH
  unfold lpX3_swap_23 lpX0_swap_2_28
  dsimp only
  by_cases c : nI hn < nI h
  · simp only [if_pos c]; exact Or.inr ⟨by omega, by omega⟩
  · simp only [if_neg c]
    rw [t_lt, nI_i (by omega), nI_i (by omega)] at c
    obtain ⟨g, a1, a2, a3, a4⟩ := rs_go (hn := hn) hv hu hJ hH r3 (show h < H by omega) gt gt (nI hn) r9
    rw [a3, a4]
    have e0 : 2 ^ H - 1 - (2 ^ H - 1 - S) = S := by omega
    have hrb := rest_bit H (by omega) (2 ^ H - 1 - S) (by omega) g a1
    rw [e0, a2.1.1] at hrb
    obtain ⟨ho1, ho2⟩ := rest_on H (by omega) (2 ^ H - 1 - S) (by omega) g a1 (by cases y : bit (2 ^ H - 1 - S) g with | true => rw [y] at hrb; cases hrb | false => rfl)
    rw [e0] at ho2
    have ho3 := off_lt H (by omega) S r3 g a1
    left
    refine ⟨trivial, trivial, ⟨h + 1, off S g, by omega, r2, ho3, ?_, ?_, ?_, ?_, ?_, ?_, rfl⟩, ?_⟩
    · show nI h + 1 = _; rw [nI_1]
    · show nI h + 1 = _; rw [nI_1]
    · show nI (2 ^ H - 1 - S) ||| ((1 : Int32) <<< (nI g &&& 31)) = _
      rw [sh_on0 _ (by omega) g (by omega)]; congr 1; omega
    · show nI S &&& (((1 : Int32) <<< (nI g &&& 31)) ^^^ (-1)) = _
      rw [sh_off0 _ (by omega) g (by omega)]
    all_goals
      try show bst H (jyM v) (H - h) S - (fX3_solve v).2.2.1 53 ((8 * nI h + nI g).toNatClampNeg) = _
      try show 0 ≤ (bst H (jyM v) (H - h) S - (fX3_solve v).2.2.1 53 ((8 * nI h + nI g).toNatClampNeg)).toInt
    · rw [n_8 (by omega) (by omega), nN (by omega), A1.2.2 53 (by decide), ← a2.2, show v.2.1 53 (8 * h + g) = jyM v h g from rfl, sub_add, show H - (h + 1) = H - h - 1 by omega]
    · rw [n_8 (by omega) (by omega), nN (by omega), A1.2.2 53 (by decide), ← a2.2, show v.2.1 53 (8 * h + g) = jyM v h g from rfl, sub_add]
      exact a2.1.2.2
    · show 8 - (nI h + 1).toNatClampNeg < 8 - (nI h).toNatClampNeg
      rw [nI_1, nN (by omega), nN (by omega)]; omega
theorem isHn {ho : Int32} (hv : v.1 7 = nI H) (hH : H ≤ 8) (c : fX3_isHouse v ho = true) : ∃ hn, hn < H ∧ ho = nI hn := by
  unfold fX3_isHouse at c
  rw [hv] at c
  by_cases c1 : ho < 0
  · rw [if_pos c1] at c; cases c
  · rw [if_neg c1] at c
    by_cases c2 : nI H ≤ ho
    · rw [if_pos c2] at c; cases c
    · rw [t_lt, k_0] at c1; rw [t_le, nI_i (by omega)] at c2
      exact ⟨ho.toInt.toNat, by omega, by rw [t_eq, nI_i (by omega)]; omega⟩
theorem p_swap (ho : Int32) (h : IV v u n) : (fX3_swap v ho).1 = (fX0_swap_2 u ho).1 ∧ IV (fX3_swap v ho).2 (fX0_swap_2 u ho).2 n ∧ okX3_swap v ho ∧ okX0_swap_2 n u ho ∧ FS v (fX3_swap v ho).2 := by
  obtain ⟨H, hH, e7, e14⟩ := h.hs
  have h27 := pw_256 hH
  have hp := Nat.two_pow_pos H
  have hb : fX0_isHouse u ho = true ↔ fX3_isHouse v ho = true := by rw [isH0, isH3, h.1.2.1.1]
  by_cases c : fX3_isHouse v ho = true
  · obtain ⟨hn, hhn, rfl⟩ := isHn e7 hH c
    obtain ⟨a1, a2⟩ := i5_end e7 hH
    obtain ⟨b1, b2⟩ := j5_end e14 h.jc hH
    have eS : ((1 : Int32) <<< (((fX0_swap u).1 14) &&& 31)) - 1 = nI (2 ^ H - 1) := by
      rw [b1.1, e14, sh_pow H (by omega), n_m1 (by omega) (by omega)]
    have hr : RS v H hn ((fX3_solve v).1, 0, (-1), 0) (((1 : Int32) <<< (((fX0_swap u).1 14) &&& 31)) - 1, (-1), 0) := by
      refine ⟨0, 2 ^ H - 1, by omega, hhn, by omega, rfl, rfl, ?_, eS, ?_, ?_, rfl⟩
      · rw [Nat.sub_self]; rfl
      · exact solve_v e7 hH
      · show 0 ≤ (fX3_solve v).1.toInt
        rw [solve_v e7 hH]
        exact bst_all h.jr hH H (Nat.le_refl _) _ (by omega) (fun g _ hg => full_bit H (by omega) g hg)
    have hst := rs_step (hn := hn) e7 e14 h.jc hH
    have hmu : 8 - (0 : Int32).toNatClampNeg < 9 := by show 8 - _ < 9; omega
    obtain ⟨L1, L2⟩ := wh_twoL (μ := fun a => 8 - a.2.2.2.toNatClampNeg) hst hr hmu
    obtain ⟨a', b', k1, k2, k3, k4, k5⟩ := wh_two _ _ _ (fun a => 8 - a.2.2.2.toNatClampNeg) hst 9 _ _ hr hmu
    refine ⟨?_, ?_, ?_, ?_, ?_⟩
    · unfold fX3_swap fX0_swap_2
      rw [if_pos c, if_pos (hb.mpr c)]
      unfold lpX3_swap_23_r lpX0_swap_2_28_r
      rw [k4, k5]
      obtain ⟨lf, z, gt, hx⟩ := a'
      obtain ⟨lf', gt', hx'⟩ := b'
      obtain ⟨h', S, r1, r2, r3, r4, r5, r6, r7, r8, r9, r10⟩ := k1
      replace r4 : hx = nI h' := r4
      replace r5 : hx' = nI h' := r5
      replace r10 : gt = gt' := r10
      subst r4 r5 r10
      revert k2 k3
      unfold lpX3_swap_23 lpX0_swap_2_28
      dsimp only
      by_cases c1 : nI hn < nI h'
      · simp only [if_pos c1]; intro _ _; trivial
      · simp only [if_neg c1]; intro y; exact absurd trivial y
    · unfold fX3_swap fX0_swap_2
      rw [if_pos c, if_pos (hb.mpr c)]
      exact h.swp a1 b1
    · have K : ∀ (lf z gt hx : Int32), (∃ b, RS v H hn (lf, z, gt, hx) b) → ¬ nI hn < hx → ∃ h' S, h' < H ∧ S < 2 ^ H ∧ hx = nI h' ∧ z = nI (2 ^ H - 1 - S) ∧ lf = bst H (jyM v) (H - h') S ∧ 0 ≤ (bst H (jyM v) (H - h') S).toInt := by
        rintro lf z gt hx ⟨b, h', S, r1, r2, r3, r4, r5, r6, r7, r8, r9, r10⟩ c1
        replace r4 : hx = nI h' := r4
        replace r8 : lf = bst H (jyM v) (H - h') S := r8
        replace r9 : 0 ≤ lf.toInt := r9
        rw [r4, t_lt, nI_i (by omega), nI_i (by omega)] at c1
        exact ⟨h', S, by omega, r3, r4, r6, r8, by rw [← r8]; exact r9⟩
      refine ⟨_, fun _ z _ hx => fun x => ∃ j, j < H ∧ x = nI j ∧ ∀ i, i < j → ¬ Gd (jyM v) H hx.toNatClampNeg (2 ^ H - 1 - z.toNatClampNeg) i, fun _ => solve_ok e7 hH, fun _ => L1, ?_, ?_, ?_, ?_, ?_⟩
      · intro _ lf z gt hx hi c1
        obtain ⟨h', S, q1, q2, rfl, rfl, rfl, q3⟩ := K lf z gt hx hi c1
        obtain ⟨g, x1, x2, x3, x4, x5⟩ := fst_run _ (Gd (jyM v) H h' S) H hH (fun k hk => g3 e7 hH (ho := nI hn) (gt := gt) q2 q1 hk) (Gd.ex q1 q3)
        show LOK _ _ _ (fun x => ∃ j, j < H ∧ x = nI j ∧ ∀ i, i < j → ¬ Gd (jyM v) H (nI h').toNatClampNeg (2 ^ H - 1 - (nI (2 ^ H - 1 - S)).toNatClampNeg) i)
        rw [nN (by omega), nN (by omega), show 2 ^ H - 1 - (2 ^ H - 1 - S) = S by omega]
        exact x5
      · intro _ lf z gt hx hi c1 g ⟨j, hj, e, _⟩ _ _
        obtain ⟨h', S, q1, q2, rfl, rfl, rfl, q3⟩ := K lf z gt hx hi c1
        subst e
        rw [n_8 (by omega) (by omega), vp_in_iff, nI_i (by omega)]; omega
      · intro _ lf z gt hx hi c1 g ⟨j, hj, e, _⟩ c2 _
        obtain ⟨h', S, q1, q2, rfl, rfl, rfl, q3⟩ := K lf z gt hx hi c1
        subst e
        rw [sh_bit0 _ (by omega) j (by omega)] at c2
        obtain ⟨ho1, -⟩ := rest_on H (by omega) (2 ^ H - 1 - S) (by omega) j hj (by cases y : bit (2 ^ H - 1 - S) j with | true => exact absurd (by rw [y]; rfl) c2 | false => rfl)
        rw [nI_1, sh_on0 _ (by omega) j (by omega), n_256 (by omega) (by omega), vp_in_iff, nI_i (by omega)]; omega
      · intro _ lf z gt hx hi c1 g ⟨j, hj, e, _⟩ _ _ _
        obtain ⟨h', S, q1, q2, rfl, rfl, rfl, q3⟩ := K lf z gt hx hi c1
        subst e
        rw [n_8 (by omega) (by omega), vp_in_iff, nI_i (by omega)]; omega
      · intro _ lf z gt hx hi c1
        obtain ⟨h', S, q1, q2, rfl, rfl, rfl, q3⟩ := K lf z gt hx hi c1
        obtain ⟨g, x1, x2, x3, x4⟩ := rs_go (hn := hn) e7 e14 h.jc hH q2 q1 gt gt (nI hn) q3
        rw [x3]
        show vp_in (8 * nI h' + nI g) 64
        rw [n_8 (by omega) (by omega), vp_in_iff, nI_i (by omega)]; omega
    · have K : ∀ (lf gt hx : Int32), (∃ a, RS v H hn a (lf, gt, hx)) → ¬ nI hn < hx → ∃ h' S, h' < H ∧ S < 2 ^ H ∧ hx = nI h' ∧ lf = nI S ∧ 0 ≤ (bst H (jyM v) (H - h') S).toInt := by
        rintro lf gt hx ⟨a, h', S, r1, r2, r3, r4, r5, r6, r7, r8, r9, r10⟩ c1
        replace r5 : hx = nI h' := r5
        rw [r5, t_lt, nI_i (by omega), nI_i (by omega)] at c1
        exact ⟨h', S, by omega, r3, r5, r7, by rw [← r8]; exact r9⟩
      refine ⟨_, fun lf _ hx => fun x => ∃ j, j < H ∧ x = nI j ∧ ∀ i, i < j → ¬ Gd (jyM v) H hx.toNatClampNeg lf.toNatClampNeg i, fun _ => swap_ok n e14 h.jc hH, fun _ => L2, ?_, ?_, ?_, ?_, ?_, ?_, ?_, ?_⟩
      · intro _ lf gt hx hi c1
        obtain ⟨h', S, q1, q2, rfl, rfl, q3⟩ := K lf gt hx hi c1
        obtain ⟨g, x1, x2, x3, x4, x5⟩ := fst_run _ (Gd (jyM v) H h' S) H hH (fun k hk => g0 e14 h.jc hH (ho := nI hn) (gt := gt) q2 q1 hk) (Gd.ex q1 q3)
        show LOK _ _ _ (fun x => ∃ j, j < H ∧ x = nI j ∧ ∀ i, i < j → ¬ Gd (jyM v) H (nI h').toNatClampNeg (nI S).toNatClampNeg i)
        rw [nN (by omega), nN (by omega)]
        exact x5
      · intro _ lf gt hx hi c1 g ⟨j, hj, e, _⟩ _
        obtain ⟨h', S, q1, q2, rfl, rfl, q3⟩ := K lf gt hx hi c1
        subst e
        exact ⟨fun _ => by rw [vp_in_iff, nI_i (by omega)]; omega, fun _ => by rw [vp_in_iff, nI_i (by omega)]; omega⟩
      · intro _ lf gt hx hi c1 g ⟨j, hj, e, _⟩ _ _
        obtain ⟨h', S, q1, q2, rfl, rfl, q3⟩ := K lf gt hx hi c1
        rw [nI_1, vp_in_iff, nI_i (by omega)]; omega
      · intro _ lf gt hx hi c1 g ⟨j, hj, e, _⟩ _ _
        obtain ⟨h', S, q1, q2, rfl, rfl, q3⟩ := K lf gt hx hi c1
        subst e
        have ho3 := off_lt H (by omega) S q2 j hj
        rw [sh_off0 _ (by omega) j (by omega), vp_in_iff, nI_i (by omega)]; omega
      all_goals
        intro _ lf gt hx hi c1 g ⟨j, hj, e, _⟩ _ _ _
        obtain ⟨h', S, q1, q2, rfl, rfl, q3⟩ := K lf gt hx hi c1
        subst e
        rw [vp_in_iff, nI_i (by omega)]; omega
    · unfold fX3_swap
      rw [if_pos c]
      exact a1
  · have c0 : ¬ fX0_isHouse u ho = true := fun z => c (hb.mp z)
    refine ⟨?_, ?_, ⟨fun _ => True, fun _ _ _ _ _ => True, fun z => absurd z c, fun z => absurd z c, fun z => absurd z c, fun z => absurd z c, fun z => absurd z c, fun z => absurd z c, fun z => absurd z c⟩, ⟨fun _ => True, fun _ _ _ _ => True, fun z => absurd z c0, fun z => absurd z c0, fun z => absurd z c0, fun z => absurd z c0, fun z => absurd z c0, fun z => absurd z c0, fun z => absurd z c0, fun z => absurd z c0, fun z => absurd z c0, fun z => absurd z c0⟩, ?_⟩
    · unfold fX3_swap fX0_swap_2; rw [if_neg c, if_neg c0]
    · unfold fX3_swap fX0_swap_2; rw [if_neg c, if_neg c0]; exact h
    · unfold fX3_swap; rw [if_neg c]; exact FS.rf
end SW
