/-! THE PLAIN LAW, 28: what handing down asks; share. Own work. -/
set_option maxRecDepth 100000
theorem wh_twoI {ι A B : Type} {F : A → Nat × A} {G : B → Nat × B} {R : ι → A → B → Prop} {μ : A → Nat} (hs : ∀ i a b, R i a b → ((F a).1 = 0 ∧ (G b).1 = 0 ∧ R i (F a).2 (G b).2 ∧ μ (F a).2 < μ a) ∨ (¬ (F a).1 = 0 ∧ ¬ (G b).1 = 0)) {n : Nat} {a : A} {b : B} {i : ι} (h : R i a b) (hm : μ a < n) : LOK F n a (fun a => ∃ i b, R i a b) ∧ LOK G n b (fun b => ∃ i a, R i a b) := by
  have := wh_twoL (F := F) (G := G) (R := fun a b => ∃ i, R i a b) (μ := μ) (fun a b ⟨i, hr⟩ => by
    rcases hs i a b hr with ⟨h1, h2, h3, h4⟩ | h1
    · exact Or.inl ⟨h1, h2, ⟨i, h3⟩, h4⟩
    · exact Or.inr h1) (n := n) (a := a) (b := b) ⟨i, h⟩ hm
  refine ⟨?_, ?_⟩
  · have e : (fun a => ∃ i b, R i a b) = (fun a => ∃ b i, R i a b) := by funext a; exact propext ⟨fun ⟨i, b, z⟩ => ⟨b, i, z⟩, fun ⟨b, i, z⟩ => ⟨i, b, z⟩⟩
    rw [e]; exact this.1
  · have e : (fun b => ∃ i a, R i a b) = (fun b => ∃ a i, R i a b) := by funext b; exact propext ⟨fun ⟨i, a, z⟩ => ⟨a, i, z⟩, fun ⟨a, i, z⟩ => ⟨i, a, z⟩⟩
    rw [e]; exact this.2
section HG
variable {v u : St} {n P : Nat}
theorem R7.at3 (hP : P ≤ 24) {of : Int32} {w : St} {p : Int32} (hr : ∃ b, R7 v u P of (w, p) b) (c : ¬ p < 0) : ∃ m x, m < P ∧ p = nI m ∧ SP v u w x ∧ ∀ q, m < q → q < P → w.2.1 52 q = x.2.1 27 q := by
  obtain ⟨⟨x, p'⟩, m, r1, r2, r3, r4, r5⟩ := hr
  replace r2 : p.toInt = (m : Int) - 1 := r2
  rw [t_lt, k_0] at c
  exact ⟨m - 1, x, by omega, by rw [t_eq, nI_i (by omega)]; omega, r4, fun q a b => (r5 q (by omega) b).1⟩
theorem R7.at0 (hP : P ≤ 24) {of : Int32} {x : St} {p : Int32} (hr : ∃ a, R7 v u P of a (x, p)) (c : ¬ p < 0) : ∃ m w, m < P ∧ p = nI m ∧ SP v u w x ∧ ∀ q, m < q → q < P → w.2.1 52 q = x.2.1 27 q := by
  obtain ⟨⟨w, p'⟩, m, r1, r2, r3, r4, r5⟩ := hr
  replace r3 : p.toInt = (m : Int) - 1 := r3
  rw [t_lt, k_0] at c
  exact ⟨m - 1, w, by omega, by rw [t_eq, nI_i (by omega)]; omega, r4, fun q a b => (r5 q (by omega) b).1⟩
theorem vp24 {k : Nat} (h : k < 24) : vp_in (nI k) 24 := by rw [vp_in_iff, nI_i (by omega)]; omega
theorem hand_ok3 (h : IV v u n) (h6 : v.1 6 = nI P) (h13 : u.1 13 = nI P) (hP : P ≤ 24) {o : Nat} (ho : o < P) (da : Int32) : okX3_handDown v (nI o) da := by
  have hr := r120_init h h6 h13 hP ho da
  have K36 : ∀ (m : Nat) (w : St) (c : Int32), (∃ (i : St × St) (b : _), R36 v u i.1 i.2 P m (w, c) b) → ¬ w.1 6 ≤ c → ∃ k, k < P ∧ c = nI k := by
    rintro m w c ⟨i, ⟨x, c'⟩, k, r1, r2, r3, r4, r5, -⟩ cc
    replace r3 : c = nI k := r3
    replace r5 : SP v u w x := r5
    rw [r5.1, h6, r3, n_le (by omega) (by omega)] at cc
    exact ⟨k, by omega, r3⟩
  have K120 : ∀ (w : St) (p : Int32), (∃ b, R120 v u P ((lpX3_handDown_7_r v (nI o) da).2.1.2.1 52) (w, p) b) → ¬ w.1 6 ≤ p → ∃ k A M x, k < P ∧ p = nI k ∧ SE v u w x P ((lpX3_handDown_7_r v (nI o) da).2.1.2.1 52) ∧ AM v ((lpX3_handDown_7_r v (nI o) da).2.1.2.1 52) P k A M ∧ ∀ q, q < P → ∃ N D, FRq w x q N D ∧ RF N D (A q) M := by
    rintro w p ⟨⟨x, p'⟩, k, A, M, r1, r3, r4, rS, rA, rq⟩ cc
    replace r3 : p = nI k := r3
    replace rS : SE v u w x P _ := rS
    rw [rS.1.1, h6, r3, n_le (by omega) (by omega)] at cc
    exact ⟨k, A, M, x, by omega, r3, rS, rA, rq⟩
  have K159 : ∀ (w : St) (x : St) (m : Nat) (nn c : Int32), SE v u w x P ((lpX3_handDown_7_r v (nI o) da).2.1.2.1 52) → (∃ b, R159 v ((lpX3_handDown_7_r v (nI o) da).2.1.2.1 52) P m (nn, c) b) → ¬ w.1 6 ≤ c → ∃ k, k < P ∧ c = nI k := by
    rintro w x m nn c rS ⟨b, -, k, r1, r2, r3⟩ cc
    have r3 : c = nI k := congrArg Prod.snd r3
    rw [rS.1.1, h6, r3, n_le (by omega) (by omega)] at cc
    exact ⟨k, by omega, r3⟩
  have K209 : ∀ (m : Nat) (w : St) (c : Int32), (∃ b, R209 v u P ((lpX3_handDown_7_r v (nI o) da).2.1.2.1 52) m (w, c) b) → ¬ w.1 6 ≤ c → ∃ k, k < P ∧ c = nI k := by
    rintro m w c ⟨⟨x, c'⟩, k, A, M, Np, Dp, r1, r2, r3, r4, rS, -⟩ cc
    replace r3 : c = nI k := r3
    replace rS : SE v u w x P _ := rS
    rw [rS.1.1, h6, r3, n_le (by omega) (by omega)] at cc
    exact ⟨k, by omega, r3⟩
  refine ⟨fun a => ∃ b, R7 v u P (nI o) a b, fun _ p => fun a => ∃ (i : St × St) (b : _), R36 v u i.1 i.2 P p.toNatClampNeg a b, fun a => ∃ b, R120 v u P ((lpX3_handDown_7_r v (nI o) da).2.1.2.1 52) a b, fun _ p => fun a => ∃ b, R159 v ((lpX3_handDown_7_r v (nI o) da).2.1.2.1 52) P p.toNatClampNeg a b, fun _ p => fun a => ∃ b, R209 v u P ((lpX3_handDown_7_r v (nI o) da).2.1.2.1 52) p.toNatClampNeg a b, ?_, ?_, ?_, ?_, ?_, ?_, vp24 (by omega), ?_, ?_, ?_, ?_, ?_, ?_, ?_, ?_, ?_, ?_⟩
  · exact (wh_twoL (μ := fun a => (a.2.toInt + 1).toNat) (r7_step (v0 := v) (u0 := u) (of := nI o) (da := da) h h6 h13 hP) (r7_init h6 h13 hP) (r7_mu h6 hP)).1
  · intro w p hi c
    obtain ⟨m, x, e1, rfl, -⟩ := R7.at3 hP hi c
    exact vp24 (by omega)
  · intro w p hi c
    obtain ⟨m, x, e1, rfl, -⟩ := R7.at3 hP hi c
    exact vp24 (by omega)
  · intro w p hi c
    obtain ⟨m, x, e1, rfl, e3, e4⟩ := R7.at3 hP hi c
    show LOK _ _ _ (fun a => ∃ (i : St × St) (b : _), R36 v u i.1 i.2 P (nI m).toNatClampNeg a b)
    rw [show (fun a => ∃ (i : St × St) (b : _), R36 v u i.1 i.2 P (nI m).toNatClampNeg a b) = (fun a => ∃ (i : St × St) (b : _), R36 v u i.1 i.2 P m a b) by rw [nN (by omega)]]
    exact (wh_twoI (ι := St × St) (R := fun i => R36 v u i.1 i.2 P m) (μ := fun a => 24 - a.2.toNatClampNeg) (i := (w, x)) (fun i => r36_step (v0 := v) (u0 := u) (v1 := w) (u1 := x) (w0 := i.1) (x0 := i.2) (of := nI o) (da := da) (p := m) h h6 h13 hP) (r36_init h h6 hP e1 e3 e4) (by show 24 - _ < 25; omega)).1
  · intro w p hi c w' c' hi' c1 _
    obtain ⟨k, f1, rfl⟩ := K36 _ w' c' hi' c1
    exact vp24 (by omega)
  · intro w p hi c w' c' hi' c1 _ _
    obtain ⟨k, f1, rfl⟩ := K36 _ w' c' hi' c1
    exact vp24 (by omega)
  · have := (wh_twoL (μ := fun a => 24 - a.2.toNatClampNeg) (n := 25) (r120_step (v0 := v) (u0 := u) (of := nI o) (da := da) h h6 h13 hP) hr (by show 24 - _ < 25; omega)).1
    rw [nN (by omega)]
    exact this
  · intro w p hi c
    obtain ⟨k, A, M, x, f1, rfl, -⟩ := K120 w p hi c
    exact vp24 (by omega)
  · intro w p hi c _
    obtain ⟨k, A, M, x, f1, rfl, -⟩ := K120 w p hi c
    exact vp24 (by omega)
  · intro w p hi c _ _
    obtain ⟨k, A, M, x, f1, rfl, f3, -⟩ := K120 w p hi c
    show LOK _ _ _ (fun a => ∃ b, R159 v ((lpX3_handDown_7_r v (nI o) da).2.1.2.1 52) P (nI k).toNatClampNeg a b)
    rw [nN (by omega)]
    exact (wh_twoL (μ := fun a => 24 - a.2.toNatClampNeg) (r159_step (v0 := v) (u0 := u) (of := nI o) (da := da) (p := k) h h6 h13 hP f3) (r159_init f1 hP) (by show 24 - _ < 25; omega)).1
  · intro w p hi c _ _ nn c' hi' c1
    obtain ⟨k, A, M, x, f1, rfl, f3, -⟩ := K120 w p hi c
    obtain ⟨k', f4, rfl⟩ := K159 w x _ nn c' f3 hi' c1
    exact vp24 (by omega)
  · intro w p hi c _ _ nn c' hi' c1 _
    obtain ⟨k, A, M, x, f1, rfl, f3, -⟩ := K120 w p hi c
    obtain ⟨k', f4, rfl⟩ := K159 w x _ nn c' f3 hi' c1
    exact vp24 (by omega)
  · intro w p hi c _ _
    obtain ⟨k, A, M, x, f1, rfl, f3, f4, f5⟩ := K120 w p hi c
    show LOK _ _ _ (fun a => ∃ b, R209 v u P ((lpX3_handDown_7_r v (nI o) da).2.1.2.1 52) (nI k).toNatClampNeg a b)
    rw [show (fun a => ∃ b, R209 v u P ((lpX3_handDown_7_r v (nI o) da).2.1.2.1 52) (nI k).toNatClampNeg a b) = (fun a => ∃ b, R209 v u P ((lpX3_handDown_7_r v (nI o) da).2.1.2.1 52) k a b) by rw [nN (by omega)]]
    exact (wh_twoL (μ := fun a => 24 - a.2.toNatClampNeg) (r209_step (v0 := v) (u0 := u) (of := nI o) (da := da) (p := k) h h6 h13 hP f1 f3) (r209_init h hP f1 f3 f4 f5) (by show 24 - _ < 25; omega)).1
  · intro w p hi c _ _ w' c' hi' c1
    obtain ⟨k', f4, rfl⟩ := K209 _ w' c' hi' c1
    exact vp24 (by omega)
  · intro w p hi c _ _ w' c' hi' c1 _
    obtain ⟨k', f4, rfl⟩ := K209 _ w' c' hi' c1
    exact vp24 (by omega)
  · intro w p hi c _ _ w' c' hi' c1 c2 c3
    obtain ⟨k, A, M, x, f1, rfl, f3, -⟩ := K120 w p hi c
    replace hi' : ∃ b, R209 v u P ((lpX3_handDown_7_r v (nI o) da).2.1.2.1 52) (nI k).toNatClampNeg (w', c') b := hi'
    rw [nN (by omega)] at hi'
    obtain ⟨⟨x', c''⟩, k', A', M', Np, Dp, r1, r2, r3, r4, rS, rp, rr, rA, rq⟩ := hi'
    replace r3 : c' = nI k' := r3
    replace rS : SE v u w' x' P _ := rS
    replace rp : FRq w' x' k Np Dp := rp
    rw [rS.1.1, h6, r3, n_le (by omega) (by omega)] at c1
    subst r3
    rw [(r159_end (v0 := v) (u0 := u) (of := nI o) (da := da) h h6 h13 hP f1 f3).1, nN (by omega), rp.1, rp.2.1]
    rw [ch3 rS.1 (by omega) (by omega)] at c2
    rw [nN (by omega), (rS.2 k' (by omega)).1] at c3
    exact (r209_heir h hP r1 (by omega) rS rp rr rA rq (hrv_t.mpr ⟨c2, c3⟩)).1
theorem hand_ok0 (h : IV v u n) (h6 : v.1 6 = nI P) (h13 : u.1 13 = nI P) (hP : P ≤ 24) {o : Nat} (ho : o < P) (da : Int32) : okX0_hand n u (nI o) da := by
  have hr := r120_init h h6 h13 hP ho da
  have g7 := r7_end h h6 h13 hP (nI o) da
  have hst := r120_step (e := (lpX3_handDown_7_r v (nI o) da).2.1.2.1 52) (v0 := v) (u0 := u) (of := nI o) (da := da) h h6 h13 hP
  have K36 : ∀ (m : Nat) (x : St) (c : Int32), (∃ (i : St × St) (a : _), R36 v u i.1 i.2 P m a (x, c)) → ¬ x.1 13 ≤ c → ∃ k, k < P ∧ c = nI k := by
    rintro m x c ⟨i, ⟨w, c'⟩, k, r1, r2, r3, r4, r5, -⟩ cc
    replace r4 : c = nI k := r4
    replace r5 : SP v u w x := r5
    rw [r5.2.1, h13, r4, n_le (by omega) (by omega)] at cc
    exact ⟨k, by omega, r4⟩
  have K120 : ∀ (x : St) (p : Int32), (∃ a, R120 v u P ((lpX3_handDown_7_r v (nI o) da).2.1.2.1 52) a (x, p)) → ¬ x.1 13 ≤ p → ∃ k A M w, k < P ∧ p = nI k ∧ SE v u w x P ((lpX3_handDown_7_r v (nI o) da).2.1.2.1 52) ∧ AM v ((lpX3_handDown_7_r v (nI o) da).2.1.2.1 52) P k A M ∧ ∀ q, q < P → ∃ N D, FRq w x q N D ∧ RF N D (A q) M := by
    rintro x p ⟨⟨w, p'⟩, k, A, M, r1, r3, r4, rS, rA, rq⟩ cc
    replace r4 : p = nI k := r4
    replace rS : SE v u w x P _ := rS
    rw [rS.1.2.1, h13, r4, n_le (by omega) (by omega)] at cc
    exact ⟨k, A, M, w, by omega, r4, rS, rA, rq⟩
  have K122 : ∀ (x : St) (p : Int32), ((∃ j, j ≤ o ∧ (x, p) = ((lpX0_hand_7_r u (nI o) da).2.1, nI j)) ∨ ∃ a, R120 v u P ((lpX3_handDown_7_r v (nI o) da).2.1.2.1 52) a (x, p)) → ¬ x.1 13 ≤ p → ∃ k, k < P ∧ p = nI k := by
    rintro x p (⟨j, hj, ej⟩ | hi) cc
    · exact ⟨j, by omega, congrArg Prod.snd ej⟩
    · obtain ⟨k, A, M, w, f1, f2, -⟩ := K120 x p hi cc
      exact ⟨k, f1, f2⟩
  have K122' : ∀ (x : St) (p : Int32), ((∃ j, j ≤ o ∧ (x, p) = ((lpX0_hand_7_r u (nI o) da).2.1, nI j)) ∨ ∃ a, R120 v u P ((lpX3_handDown_7_r v (nI o) da).2.1.2.1 52) a (x, p)) → ¬ x.2.2 25 p.toNatClampNeg = 0 → ∃ a, R120 v u P ((lpX3_handDown_7_r v (nI o) da).2.1.2.1 52) a (x, p) := by
    rintro x p (⟨j, hj, ej⟩ | hi) cc
    · have e1 : x = (lpX0_hand_7_r u (nI o) da).2.1 := congrArg Prod.fst ej
      have e2 : p = nI j := congrArg Prod.snd ej
      subst e1 e2
      by_cases y : j = o
      · subst y; exact ⟨_, hr⟩
      · exfalso
        have := (g7.2 j (by omega)).2.2.2.1
        rw [if_neg (fun z => y ((nI_eq (by omega) (by omega)).mp z))] at this
        rw [nN (by omega)] at cc
        exact cc this
    · exact hi
  have K159 : ∀ (w : St) (x : St) (m : Nat) (nn c : Int32), SE v u w x P ((lpX3_handDown_7_r v (nI o) da).2.1.2.1 52) → (∃ a, R159 v ((lpX3_handDown_7_r v (nI o) da).2.1.2.1 52) P m a (nn, c)) → ¬ x.1 13 ≤ c → ∃ k, k < P ∧ c = nI k := by
    rintro w x m nn c rS ⟨a, rfl, k, r1, r2, r3⟩ cc
    have r3 : c = nI k := congrArg Prod.snd r3
    rw [rS.1.2.1, h13, r3, n_le (by omega) (by omega)] at cc
    exact ⟨k, by omega, r3⟩
  have K209 : ∀ (m : Nat) (x : St) (c : Int32), (∃ a, R209 v u P ((lpX3_handDown_7_r v (nI o) da).2.1.2.1 52) m a (x, c)) → ¬ x.1 13 ≤ c → ∃ k, k < P ∧ c = nI k := by
    rintro m x c ⟨⟨w, c'⟩, k, A, M, Np, Dp, r1, r2, r3, r4, rS, -⟩ cc
    replace r4 : c = nI k := r4
    replace rS : SE v u w x P _ := rS
    rw [rS.1.2.1, h13, r4, n_le (by omega) (by omega)] at cc
    exact ⟨k, by omega, r4⟩
  refine ⟨fun b => ∃ a, R7 v u P (nI o) a b, fun _ p => fun b => ∃ (i : St × St) (a : _), R36 v u i.1 i.2 P p.toNatClampNeg a b, fun b => (∃ j, j ≤ o ∧ b = ((lpX0_hand_7_r u (nI o) da).2.1, nI j)) ∨ ∃ a, R120 v u P ((lpX3_handDown_7_r v (nI o) da).2.1.2.1 52) a b, fun _ p => fun b => ∃ a, R159 v ((lpX3_handDown_7_r v (nI o) da).2.1.2.1 52) P p.toNatClampNeg a b, fun _ p => fun b => ∃ a, R209 v u P ((lpX3_handDown_7_r v (nI o) da).2.1.2.1 52) p.toNatClampNeg a b, ?_, ?_, ?_, ?_, ?_, ?_, ?_, ?_, ?_, ?_, ?_, ?_, ?_, ?_, ?_, ?_⟩
  · exact (wh_twoL (μ := fun a => (a.2.toInt + 1).toNat) (r7_step (v0 := v) (u0 := u) (of := nI o) (da := da) h h6 h13 hP) (r7_init h6 h13 hP) (r7_mu h6 hP)).2
  · intro x p hi c
    obtain ⟨m, w, e1, rfl, -⟩ := R7.at0 hP hi c
    exact vp24 (by omega)
  · intro x p hi c
    obtain ⟨m, w, e1, rfl, -⟩ := R7.at0 hP hi c
    exact vp24 (by omega)
  · intro x p hi c
    obtain ⟨m, w, e1, rfl, e3, e4⟩ := R7.at0 hP hi c
    show LOK _ _ _ (fun b => ∃ (i : St × St) (a : _), R36 v u i.1 i.2 P (nI m).toNatClampNeg a b)
    rw [show (fun b => ∃ (i : St × St) (a : _), R36 v u i.1 i.2 P (nI m).toNatClampNeg a b) = (fun b => ∃ (i : St × St) (a : _), R36 v u i.1 i.2 P m a b) by rw [nN (by omega)]]
    exact (wh_twoI (ι := St × St) (R := fun i => R36 v u i.1 i.2 P m) (μ := fun a => 24 - a.2.toNatClampNeg) (i := (w, x)) (fun i => r36_step (v0 := v) (u0 := u) (v1 := w) (u1 := x) (w0 := i.1) (x0 := i.2) (of := nI o) (da := da) (p := m) h h6 h13 hP) (r36_init h h6 hP e1 e3 e4) (by show 24 - _ < 25; omega)).2
  · intro x p hi c x' c' hi' c1 _
    obtain ⟨k, f1, rfl⟩ := K36 _ x' c' hi' c1
    exact vp24 (by omega)
  · intro x p hi c x' c' hi' c1 _ _
    obtain ⟨k, f1, rfl⟩ := K36 _ x' c' hi' c1
    exact vp24 (by omega)
  · refine ⟨Or.inl ⟨0, Nat.zero_le _, rfl⟩, ?_, (hand_run h h6 h13 hP ho da).1⟩
    rintro b (⟨j, hj, rfl⟩ | ⟨a, hi⟩) h0
    · by_cases y : j = o
      · subst y
        rcases hst _ _ hr with ⟨_, _, z, _⟩ | ⟨_, z⟩
        · exact Or.inr ⟨_, z⟩
        · exact absurd h0 z
      · rw [skip1 h h6 h13 hP ho da (show j < o by omega)]
        exact Or.inl ⟨j + 1, by omega, rfl⟩
    · rcases hst _ _ hi with ⟨_, _, z, _⟩ | ⟨_, z⟩
      · exact Or.inr ⟨_, z⟩
      · exact absurd h0 z
  · intro x p hi c
    obtain ⟨k, f1, rfl⟩ := K122 x p hi c
    exact vp24 (by omega)
  · intro x p hi c _
    obtain ⟨k, f1, rfl⟩ := K122 x p hi c
    exact vp24 (by omega)
  · intro x p hi c cz _
    obtain ⟨k, A, M, w, f1, rfl, f3, -⟩ := K120 x p (K122' x p hi cz) c
    show LOK _ _ _ (fun b => ∃ a, R159 v ((lpX3_handDown_7_r v (nI o) da).2.1.2.1 52) P (nI k).toNatClampNeg a b)
    rw [nN (by omega)]
    exact (wh_twoL (μ := fun a => 24 - a.2.toNatClampNeg) (r159_step (v0 := v) (u0 := u) (of := nI o) (da := da) (p := k) h h6 h13 hP f3) (r159_init f1 hP) (by show 24 - _ < 25; omega)).2
  · intro x p hi c cz _ nn c' hi' c1
    obtain ⟨k, A, M, w, f1, rfl, f3, -⟩ := K120 x p (K122' x p hi cz) c
    obtain ⟨k', f4, rfl⟩ := K159 w x _ nn c' f3 hi' c1
    exact vp24 (by omega)
  · intro x p hi c cz _ nn c' hi' c1 _
    obtain ⟨k, A, M, w, f1, rfl, f3, -⟩ := K120 x p (K122' x p hi cz) c
    obtain ⟨k', f4, rfl⟩ := K159 w x _ nn c' f3 hi' c1
    exact vp24 (by omega)
  · intro x p hi c cz _
    obtain ⟨k, A, M, w, f1, rfl, f3, f4, f5⟩ := K120 x p (K122' x p hi cz) c
    show LOK _ _ _ (fun b => ∃ a, R209 v u P ((lpX3_handDown_7_r v (nI o) da).2.1.2.1 52) (nI k).toNatClampNeg a b)
    rw [show (fun b => ∃ a, R209 v u P ((lpX3_handDown_7_r v (nI o) da).2.1.2.1 52) (nI k).toNatClampNeg a b) = (fun b => ∃ a, R209 v u P ((lpX3_handDown_7_r v (nI o) da).2.1.2.1 52) k a b) by rw [nN (by omega)]]
    exact (wh_twoL (μ := fun a => 24 - a.2.toNatClampNeg) (r209_step (v0 := v) (u0 := u) (of := nI o) (da := da) (p := k) h h6 h13 hP f1 f3) (r209_init h hP f1 f3 f4 f5) (by show 24 - _ < 25; omega)).2
  · intro x p hi c _ _ x' c' hi' c1
    obtain ⟨k', f4, rfl⟩ := K209 _ x' c' hi' c1
    exact vp24 (by omega)
  · intro x p hi c _ _ x' c' hi' c1 _
    obtain ⟨k', f4, rfl⟩ := K209 _ x' c' hi' c1
    exact vp24 (by omega)
  · intro x p hi c cz _ x' c' hi' c1 c2 c3
    obtain ⟨k, A, M, w, f1, rfl, f3, -⟩ := K120 x p (K122' x p hi cz) c
    replace hi' : ∃ a, R209 v u P ((lpX3_handDown_7_r v (nI o) da).2.1.2.1 52) (nI k).toNatClampNeg a (x', c') := hi'
    rw [nN (by omega)] at hi'
    obtain ⟨⟨w', c''⟩, k', A', M', Np, Dp, r1, r2, r3, r4, rS, rp, rr, rA, rq⟩ := hi'
    replace r4 : c' = nI k' := r4
    replace rS : SE v u w' x' P _ := rS
    replace rp : FRq w' x' k Np Dp := rp
    rw [rS.1.2.1, h13, r4, n_le (by omega) (by omega)] at c1
    subst r4
    rw [(r159_end (v0 := v) (u0 := u) (of := nI o) (da := da) h h6 h13 hP f1 f3).2, nN (by omega), rp.2.2.1, rp.2.2.2]
    rw [ch0 h rS.1 h6 hP (by omega) (by omega)] at c2
    rw [nN (by omega), (rS.2 k' (by omega)).2] at c3
    exact (r209_heir h hP r1 (by omega) rS rp rr rA rq (hrv_t.mpr ⟨c2, c3⟩)).2.1
theorem p_share (of pe da pt : Int32) (h : IV v u n) : (fX3_share v of pe da pt).1 = (fX0_share u of pe da pt).1 ∧ IV (fX3_share v of pe da pt).2 (fX0_share u of pe da pt).2 n ∧ okX3_share v of pe da pt ∧ okX0_share n u of pe da pt ∧ (fX3_share v of pe da pt).2.1 = v.1 ∧ (∀ k, ¬ k = 52 → (fX3_share v of pe da pt).2.2.1 k = v.2.1 k) := by
  obtain ⟨⟨e13, p1, p2⟩, -⟩ := h.1
  obtain ⟨P, hP, h6, h13⟩ : ∃ P : Nat, P ≤ 24 ∧ v.1 6 = nI P ∧ u.1 13 = nI P := by
    have e : v.1 6 = nI (v.1 6).toInt.toNat := by rw [t_eq, nI_i (by omega)]; omega
    exact ⟨(v.1 6).toInt.toNat, by omega, e, by rw [e13]; exact e⟩
  have hb : ∀ q, fX0_isPerson u q = true ↔ fX3_isPerson v q = true := fun q => by rw [isP0, isP3, e13]
  have hd : fX0_isDay da = true ↔ fX3_isDay da = true := by rw [isD0, isD3]
  have hpn : ∀ q, fX3_isPerson v q = true → ∃ k, k < P ∧ q = nI k := fun q z => by
    rw [isP3, h6, nI_i (by omega)] at z
    exact ⟨q.toInt.toNat, by omega, by rw [t_eq, nI_i (by omega)]; omega⟩
  by_cases c1 : fX3_isPerson v of = true
  · obtain ⟨o, ho, rfl⟩ := hpn of c1
    obtain ⟨-, g1, g2⟩ := hand_run h h6 h13 hP ho da
    have ok3 := hand_ok3 h h6 h13 hP ho da
    have ok0 := hand_ok0 h h6 h13 hP ho da
    have hiv : IV (fX3_handDown v (nI o) da) (fX0_hand u (nI o) da) n := h.keep (fun k _ => by rw [g1.1]) (fun k hk => g1.2.2.1 k (by omega)) (fun k _ => by rw [g1.2.1]) (fun k hk => g1.2.2.2 k (by omega)) (by rw [g1.2.1]; exact h.1.2.2.2.2.2.2.2.2)
    unfold fX3_share fX0_share okX3_share okX0_share
    simp only [hb, hd, if_pos c1]
    by_cases c2 : fX3_isPerson v pe = true
    · obtain ⟨q, hq, rfl⟩ := hpn pe c2
      obtain ⟨z1, z2⟩ := g2 q hq
      simp only [if_pos c2]
      by_cases c3 : fX3_isDay da = true
      · simp only [if_pos c3]
        by_cases c4 : pt < 0
        · simp only [if_pos c4]
          exact ⟨trivial, h, ⟨fun _ _ _ z => absurd c4 z, fun _ _ _ z => absurd c4 z, fun _ _ _ z => absurd c4 z⟩, ⟨fun _ _ _ z => absurd c4 z, fun _ _ _ z => absurd c4 z, fun _ _ _ z => absurd c4 z⟩, trivial, fun _ _ => trivial⟩
        · simp only [if_neg c4]
          have ok3' : (fX3_isPerson v (nI o) = true → fX3_isPerson v (nI q) = true → fX3_isDay da = true → ¬pt < 0 → pt ≤ 1 → okX3_handDown v (nI o) da) ∧ (fX3_isPerson v (nI o) = true → fX3_isPerson v (nI q) = true → fX3_isDay da = true → ¬pt < 0 → pt ≤ 1 → ¬pt = 0 → vp_in (nI q) 24) ∧ (fX3_isPerson v (nI o) = true → fX3_isPerson v (nI q) = true → fX3_isDay da = true → ¬pt < 0 → pt ≤ 1 → pt = 0 → vp_in (nI q) 24) := ⟨fun _ _ _ _ _ => ok3, fun _ _ _ _ _ _ => vp24 (by omega), fun _ _ _ _ _ _ => vp24 (by omega)⟩
          have ok0' : (fX3_isPerson v (nI o) = true → fX3_isPerson v (nI q) = true → fX3_isDay da = true → ¬pt < 0 → pt ≤ 1 → okX0_hand n u (nI o) da) ∧ (fX3_isPerson v (nI o) = true → fX3_isPerson v (nI q) = true → fX3_isDay da = true → ¬pt < 0 → pt ≤ 1 → ¬pt = 0 → vp_in (nI q) 24) ∧ (fX3_isPerson v (nI o) = true → fX3_isPerson v (nI q) = true → fX3_isDay da = true → ¬pt < 0 → pt ≤ 1 → pt = 0 → vp_in (nI q) 24) := ⟨fun _ _ _ _ _ => ok0, fun _ _ _ _ _ _ => vp24 (by omega), fun _ _ _ _ _ _ => vp24 (by omega)⟩
          by_cases c5 : pt ≤ 1
          · simp only [if_pos c5]
            by_cases c6 : pt = 0
            · simp only [if_pos c6]
              rw [nN (by omega)]
              exact ⟨z1, hiv, ok3', ok0', g1.1, g1.2.2.1⟩
            · simp only [if_neg c6]
              rw [nN (by omega)]
              exact ⟨z2, hiv, ok3', ok0', g1.1, g1.2.2.1⟩
          · simp only [if_neg c5]
            exact ⟨trivial, h, ok3', ok0', trivial, fun _ _ => trivial⟩
      · simp only [if_neg c3]
        exact ⟨trivial, h, ⟨fun _ _ z => absurd z c3, fun _ _ z => absurd z c3, fun _ _ z => absurd z c3⟩, ⟨fun _ _ z => absurd z c3, fun _ _ z => absurd z c3, fun _ _ z => absurd z c3⟩, trivial, fun _ _ => trivial⟩
    · simp only [if_neg c2]
      exact ⟨trivial, h, ⟨fun _ z => absurd z c2, fun _ z => absurd z c2, fun _ z => absurd z c2⟩, ⟨fun _ z => absurd z c2, fun _ z => absurd z c2, fun _ z => absurd z c2⟩, trivial, fun _ _ => trivial⟩
  · unfold fX3_share fX0_share okX3_share okX0_share
    simp only [hb, if_neg c1]
    exact ⟨trivial, h, ⟨fun z => absurd z c1, fun z => absurd z c1, fun z => absurd z c1⟩, ⟨fun z => absurd z c1, fun z => absurd z c1, fun z => absurd z c1⟩, trivial, fun _ _ => trivial⟩
end HG
