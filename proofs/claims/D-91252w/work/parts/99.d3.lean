/-! THE PLAIN LAW, 42: law, on both sides. Own work. -/
set_option maxRecDepth 100000
section LC
variable {v u : St} {n : Nat}
def tpM (m : Nat) (u : St) : Tp := (m, u.2.1 0)
theorem IV.tape (h : IV v u n) : ∃ m : Nat, m ≤ 600 ∧ v.1 23 = nI m ∧ u.1 1 = nI m := by
  obtain ⟨a, b, c⟩ := h.1.2.2.2.2.2.2.1
  have e : v.1 23 = nI (v.1 23).toInt.toNat := by rw [t_eq, nI_i (by omega)]; omega
  exact ⟨(v.1 23).toInt.toNat, by omega, e, by rw [a]; exact e⟩
theorem law_run {m b0 : Nat} (h : IV v u n) (hm : v.1 23 = nI m) (h6 : m ≤ 600) (h39 : v.1 39 = nI b0) (hb : b0 < 2) : okX3_law v ∧ txM (fX3_lw1 v) (1 - b0) (tpM m u) (fX3_lw3 v) (pText (tpM m u)).1 := by
  obtain ⟨a1, a2, a3, a4, a5, a6, a7, a8, a9, a10, a11, a12⟩ := lw1_3 hm h6 h39 hb
  have hT : TX (fX3_lw1 v) (tpM m u) := by
    refine ⟨a3, h6, fun j hj => ?_⟩
    have hj : j < m := hj
    rw [a12 j hj, by_255]
    unfold he
    rw [if_pos (show j < (tpM m u).1 from hj)]
    have := h.2.2.2.2.2.2.1 j (by rw [hm, nI_i (by omega)]; omega)
    show _ = u.2.1 0 j &&& 255
    rw [this]
  have e28 : (fX3_lw1 v).1 28 = nI 0 := a6
  obtain ⟨n1, n2⟩ := nx_3 hT (Nat.zero_le _) e28
  have nok := nx_ok hT (Nat.zero_le _) e28
  have A0 : AL (fX3_lw1 v) (1 - b0) (tpM m u) (fX3_lw2 v) 0 0 [] := by
    refine ⟨⟨?_, ?_⟩, hT.of (n2.1 24 (by decide)) (by show (fX3_next (fX3_lw1 v)).2.1 22 = _; rw [n2.2]), n1, ⟨?_, by decide⟩, ⟨?_, by omega⟩, ⟨?_, trivial⟩, Nat.le_refl _, FT.rf.fe (FE.rf.fn n2)⟩
    · show (fX3_next (fX3_lw1 v)).1 25 = 0
      rw [n2.1 25 (by decide)]; exact a4
    · exact n2.1 26 (by decide)
    · show (fX3_next (fX3_lw1 v)).1 42 = _
      rw [n2.1 42 (by decide)]; exact a9
    · show (fX3_next (fX3_lw1 v)).1 40 = _
      rw [n2.1 40 (by decide)]; exact a7
    · show (fX3_next (fX3_lw1 v)).1 41 = _
      rw [n2.1 41 (by decide)]; exact a8
  have e32 : (fX3_lw2 v).2.1 32 (1 - b0) = nI 0 := by
    show (fX3_next (fX3_lw1 v)).2.1 32 (1 - b0) = _
    rw [n2.2, a11, upd_s]; rfl
  have L0 : ∀ lns, LNs ((fX3_lw2 v).2.1 33) ((fX3_lw2 v).2.1 34) ((fX3_lw2 v).2.1 35) ((fX3_lw2 v).2.1 36) (1 - b0) 0 lns [] := fun lns j hj => absurd hj (by omega)
  obtain ⟨t1, t2⟩ := tx_run (u0 := v) 17 20 0 (fun _ => (fun _ => 0, 0, 0)) 0 0 4 24 (fX3_lw2 v) [] A0 rfl (by decide) e32 (L0 _) (by decide)
  have i0 : I90 (fX3_lw1 v) (1 - b0) (tpM m u) (fX3_lw2 v) := Or.inl ⟨0, 0, [], 0, fun _ => (fun _ => 0, 0, 0), A0, by decide, e32, L0 _⟩
  have lok : LOK (lpX3_law_90 v) 20 (fX3_lw2 v) (I90 (fX3_lw1 v) (1 - b0) (tpM m u)) := ⟨i0, i90_step, t1⟩
  refine ⟨⟨I20 v m, I90 (fX3_lw1 v) (1 - b0) (tpM m u), LOK.of (μ := fun x => 600 - x.2.toNatClampNeg) i20_init (i20_step hm h6) (by show 600 - _ < 601; omega), ?_, ?_, ?_, nok, lok, ?_, ?_⟩, t2⟩
  · intro x k hi c
    have e24 := i20_24 hm hi
    obtain ⟨j, b1, b2, -⟩ := hi
    replace b2 : k = nI j := b2
    replace e24 : x.1 24 = nI m := e24
    rw [e24, b2, n_le (by omega) (by omega)] at c
    rw [b2, vp_in_iff, nI_i (by omega)]; omega
  · intro x k hi c
    have e24 := i20_24 hm hi
    obtain ⟨j, b1, b2, -⟩ := hi
    replace b2 : k = nI j := b2
    replace e24 : x.1 24 = nI m := e24
    rw [e24, b2, n_le (by omega) (by omega)] at c
    rw [b2, vp_in_iff, nI_i (by omega)]; omega
  · have e39 : (lpX3_law_20_r v).2.1.1 39 = nI b0 := by
      rw [(i20_end hm h6).1, si_1, if_neg (by decide), si_1, if_neg (by decide), si_1, if_neg (by decide)]; exact h39
    rw [e39, n_1m hb, vp_in_iff, nI_i (by omega)]; omega
  · rintro x (⟨p, tm, K, n, lns, h, hn, h32, hL⟩ | ⟨q, h⟩) z _
    · exact (rl_3 h hn h32 hL).1
    · exact absurd z (bt_g h)
  · intro z
    have t2' : txM (fX3_lw1 v) (1 - b0) (tpM m u) (fX3_lw3 v) (pText (tpM m u)).1 := t2
    cases hp : (pText (tpM m u)).1 with
    | error q => rw [hp] at t2'; exact absurd z (bt_g t2')
    | ok q =>
      rw [hp] at t2'
      obtain ⟨p, tm, K, r1, -⟩ := t2'
      rw [r1.2.2.2.2.1.1, vp_in_iff, nI_i (by omega)]; omega
theorem IV.law {w x : St} (h : IV v u n) (h1 : ∀ k, k = 6 ∨ k = 7 ∨ k = 8 ∨ k = 19 ∨ k = 49 ∨ k = 55 → w.1 k = v.1 k) (h23 : w.1 23 = 0) (h2 : ∀ k, k ≤ 5 ∨ (9 ≤ k ∧ k ≤ 16) ∨ k = 21 ∨ k = 48 ∨ k = 53 → w.2.1 k = v.2.1 k) (h3 : ∀ k, ¬ (1 ≤ k ∧ k ≤ 3) → x.1 k = u.1 k) (x1 : x.1 1 = 0) (x2 : x.1 2 = w.1 25) (x3 : x.1 3 = w.1 26) (h4 : x.2.1 = u.2.1) : IV w x n := by
  obtain ⟨⟨s1, s2, s3, s4, s5, s6, s7, s8, s9⟩, hp, hh, hl, hq, hc, ht, hj⟩ := h
  refine ⟨⟨?_, ?_, ?_, ?_, ?_, ?_, ?_, ⟨x2, x3⟩, ?_⟩, ?_, ?_, ?_, ?_, ?_, ?_, ?_⟩
  · rw [h1 6 (by omega), h3 13 (by omega)]; exact s1
  · rw [h1 7 (by omega), h3 14 (by omega)]; exact s2
  · rw [h1 19 (by omega), h3 15 (by omega)]; exact s3
  · rw [h1 8 (by omega), h3 16 (by omega)]; exact s4
  · rw [h1 49 (by omega), h3 17 (by omega)]; exact s5
  · rw [h1 55 (by omega), h3 30 (by omega)]; exact s6
  · rw [x1, h23]; exact ⟨rfl, by unfold rg; rw [k_0]; omega⟩
  · rw [h3 31 (by omega)]; exact s9
  · rw [h1 6 (by omega), h2 0 (by omega), h2 1 (by omega), h2 2 (by omega), h4]; exact hp
  · rw [h1 6 (by omega), h1 7 (by omega), h2 3 (by omega), h2 4 (by omega), h4]; exact hh
  · rw [h2 5 (by omega), h4]; exact hl
  · rw [h1 6 (by omega), h1 7 (by omega), h4]
    exact hq.kept (fun k a b => h2 k (by omega)) (fun _ _ _ => rfl)
  · rw [h1 49 (by omega), h2 48 (by omega), h4]; exact hc
  · intro j hj; rw [h23, k_0] at hj; omega
  · rw [h2 53 (by omega), h4]; exact hj
/-- law -/
theorem p_law {m n0 : Nat} {lns0 : Nat → Ln} (h : IV v u n) (hm : u.1 1 = nI m) (h6 : m ≤ 600) (hM : LM v n0 lns0) : okX3_law v ∧ (match (pText (m, u.2.1 0)).1 with
    | .error q => (fX3_law v).1 = -1 ∧ IV (fX3_law v).2 (lwE u q.1 (nI q.2)) n ∧ LM (fX3_law v).2 n0 lns0
    | .ok q => (fX3_law v).1 = nI q.1 ∧ IV (fX3_law v).2 (lwO u) n ∧ LM (fX3_law v).2 q.1 q.2 ∧ q.1 ≤ 16) := by
  have hm3 : v.1 23 = nI m := by rw [← h.1.2.2.2.2.2.2.1.1]; exact hm
  obtain ⟨b0, K0, l1, l2, l3, l4, l5, l6, l7⟩ := hM
  obtain ⟨o1, t⟩ := law_run h hm3 h6 l1 l2
  obtain ⟨a1, a2, a3, a4, a5, a6, a7, a8, a9, a10, a11, a12⟩ := lw1_3 hm3 h6 l1 l2
  refine ⟨o1, ?_⟩
  have fr : ∀ w, FT (fX3_lw1 v) (1 - b0) w → (∀ k, k = 6 ∨ k = 7 ∨ k = 8 ∨ k = 19 ∨ k = 49 ∨ k = 55 → w.1 k = v.1 k) ∧ w.1 23 = 0 ∧ (∀ k, k ≤ 5 ∨ (9 ≤ k ∧ k ≤ 16) ∨ k = 21 ∨ k = 48 ∨ k = 53 → w.2.1 k = v.2.1 k) := fun w hF => ⟨fun k hk => by rw [hF.1 k (by omega) (by omega) (by omega) (by omega) (by omega)]; exact a1 k (by omega) (by omega) (by omega), by rw [hF.1 23 (by decide) (by decide) (by decide) (by decide) (by decide)]; exact a2, fun k hk => by rw [hF.2.1 k (by omega) (by omega)]; exact a10 k (by omega) (by omega)⟩
  cases hp : (pText (m, u.2.1 0)).1 with
  | error q =>
    have t' : BT (fX3_lw1 v) (1 - b0) (fX3_lw3 v) q := by
      have := t
      unfold tpM at this
      rw [hp] at this; exact this
    have e : fX3_law v = (-1, fX3_lw3 v) := by unfold fX3_law; rw [if_neg (bt_g t')]
    rw [e]
    obtain ⟨f1, f2, f3⟩ := fr _ t'.2.2.2
    have hF := t'.2.2.2
    refine ⟨rfl, h.law f1 f2 f3 (fun k hk => ?_) rfl ?_ ?_ rfl, ?_⟩
    · unfold lwE
      rw [si_1, if_neg (by omega), si_1, if_neg (by omega), si_1, if_neg (by omega), si_1, if_neg (by omega), si_1, if_neg (by omega)]
    · rw [t'.1]; rfl
    · rw [t'.2.1]; rfl
    · refine ⟨b0, K0, ?_, l2, ?_, l4, l5, ?_, ?_⟩
      · rw [hF.1 39 (by decide) (by decide) (by decide) (by decide) (by decide), a1 39 (by decide) (by decide) (by decide)]; exact l1
      · rw [hF.2.2.2.2 b0 (by omega), a11, upd_o (by omega)]; exact l3
      · have key : ∀ j, j < 600 * b0 + 600 → 600 * b0 ≤ j → (fX3_lw3 v).2.1 37 j = v.2.1 37 j ∧ (fX3_lw3 v).2.1 38 j = v.2.1 38 j := fun j x1 x2 => by
          obtain ⟨y1, y2⟩ := hF.2.2.1 j (by omega)
          rw [y1, y2, a10 37 (by decide) (by decide), a10 38 (by decide) (by decide)]; exact ⟨rfl, rfl⟩
        have go : ∀ K : List (Int32 × Int32), K.length ≤ 600 → CDr (v.2.1 37) (v.2.1 38) (600 * b0) K → CDr ((fX3_lw3 v).2.1 37) ((fX3_lw3 v).2.1 38) (600 * b0) K := by
          intro K
          induction K with
          | nil => intro _ _; trivial
          | cons x r ih =>
            intro hl hc
            rw [List.length_cons] at hl
            obtain ⟨y1, y2⟩ := key (600 * b0 + r.length) (by omega) (by omega)
            exact ⟨by rw [y1]; exact hc.1, by rw [y2]; exact hc.2.1, ih (by omega) hc.2.2⟩
        exact go K0 l5 l6
      · intro j hj
        obtain ⟨A, B, Kj, g1, g2, g3, g4, g5, g6⟩ := l7 j hj
        have ek : ∀ k, 33 ≤ k → k ≤ 36 → (fX3_lw3 v).2.1 k (16 * b0 + j) = v.2.1 k (16 * b0 + j) := fun k x1 x2 => by
          rw [hF.2.2.2.1 k _ x1 x2 (by omega), a10 k (by omega) (by omega)]
        exact ⟨A, B, Kj, g1, by rw [ek 35 (by decide) (by decide)]; exact g2, by rw [ek 36 (by decide) (by decide)]; exact g3, g4, by rw [ek 33 (by decide) (by decide)]; exact g5, by rw [ek 34 (by decide) (by decide)]; exact g6⟩
  | ok q =>
    have t' : txM (fX3_lw1 v) (1 - b0) (m, u.2.1 0) (fX3_lw3 v) (.ok q) := by
      have := t
      unfold tpM at this
      rw [hp] at this; exact this
    obtain ⟨p, tm, K, r1, r2, r3, r4⟩ := t'
    have e40 : (fX3_lw3 v).1 40 = nI (1 - b0) := r1.2.2.2.2.1.1
    have e : fX3_law v = (nI q.1, si (fX3_lw3 v) 39 (nI (1 - b0))) := by
      unfold fX3_law
      rw [if_pos r1.gd, e40, nN (by omega), r2]
    rw [e]
    obtain ⟨f1, f2, f3⟩ := fr _ r1.2.2.2.2.2.2.2
    have hpl : p ≤ 600 := Nat.le_trans r1.2.2.1.2.2.1 r1.2.1.2.1
    refine ⟨rfl, h.law (fun k hk => by rw [si_1, if_neg (by omega)]; exact f1 k hk) (by rw [si_1, if_neg (by decide)]; exact f2) f3 (fun k hk => ?_) rfl ?_ ?_ rfl, ⟨1 - b0, K, by rw [si_1, if_pos rfl], by omega, r2, r3, by have := r1.2.2.2.2.2.2.1; omega, r1.2.2.2.2.2.1.2, r4⟩, r3⟩
    · unfold lwO
      rw [si_1, if_neg (by omega), si_1, if_neg (by omega), si_1, if_neg (by omega)]
    · rw [si_1, if_neg (by decide), r1.1.1]; rfl
    · rw [si_1, if_neg (by decide), r1.1.2, a5]; rfl
end LC
