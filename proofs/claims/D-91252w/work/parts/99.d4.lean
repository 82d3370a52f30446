/-! THE PLAIN LAW, 43: a line's code, run. Own work. -/
set_option maxRecDepth 100000
theorem CDr_app {f g : Nat → Int32} {off : Nat} {B : List (Int32 × Int32)} : ∀ A, CDr f g off (A ++ B) → CDr f g off B ∧ CDr f g (off + B.length) A
  | [], h => ⟨h, trivial⟩
  | x :: A, h => by
    obtain ⟨h1, h2, h3⟩ := h
    obtain ⟨g1, g2⟩ := CDr_app A h3
    have e : (A.append B).length = A.length + B.length := List.length_append
    rw [e] at h1 h2
    exact ⟨g1, by rw [show off + B.length + A.length = off + (A.length + B.length) by omega]; exact h1, by rw [show off + B.length + A.length = off + (A.length + B.length) by omega]; exact h2, g2⟩
theorem stp_len {ev : Nat → Int32} {x : Int32 × Int32} {s s' : List Int32} (h : stp ev x s = some s') : s'.length ≤ s.length + (if x.1 = 110 ∨ x.1 = 116 then 1 else 0) := by
  unfold stp at h
  split at h
  · split at h
    · cases h; simp
    · cases h
  · split at h
    · rename_i c; cases h; rw [if_pos (Or.inl c)]; simp
    · split at h
      · rename_i c
        split at h
        · cases h; rw [if_pos (Or.inr c)]; simp
        · cases h
      · split at h
        · cases h; simp only [List.length_cons]; omega
        · cases h
theorem evR_len {ev : Nat → Int32} {s : List Int32} : ∀ (K : List (Int32 × Int32)) (s' : List Int32), evR ev s K = some s' → s'.length ≤ s.length + psh K
  | [], s', h => by cases h; rw [psh]; omega
  | x :: r, s', h => by
    rw [evR] at h
    cases hr : evR ev s r with
    | none => rw [hr] at h; cases h
    | some s2 =>
      rw [hr] at h
      have h1 := evR_len r s2 hr
      have h2 := stp_len h
      rw [psh]; omega
theorem evR_sub {ev : Nat → Int32} {s s' : List Int32} {A B : List (Int32 × Int32)} (h : evR ev s (A ++ B) = some s') : ∃ s2, evR ev s B = some s2 := by
  rw [evR_app] at h
  cases hB : evR ev s B with
  | none => rw [hB] at h; cases h
  | some s2 => exact ⟨s2, rfl⟩
section HO
variable {v : St} {b : Nat} {n : Nat} {lns : Nat → Ln}
/-- where the run of a line's code stands: R run, A to run -/
def I18 (v : St) (b off : Nat) (Kj : List (Int32 × Int32)) (x : St × Int32 × Int32) : Prop := ∃ A R s, Kj = A ++ R ∧ evR (v.2.1 47) [] R = some s ∧ x.2.1 = nI s.length ∧ x.2.2 = nI (off + R.length) ∧ PLr (x.1.2.1 46) s ∧ x.1.1 = v.1 ∧ (∀ k, ¬ k = 46 → x.1.2.1 k = v.2.1 k) ∧ x.1.2.2 = v.2.2
/-- what a line is, in the model's arrays -/
def LJ (v : St) (b : Nat) (ln : Nat) (off : Nat) (Kj : List (Int32 × Int32)) (f : Sm) : Prop := v.1 39 = nI b ∧ b < 2 ∧ off + Kj.length ≤ 600 * b + 600 ∧ 600 * b ≤ off ∧ ln < 32 ∧ 600 * v.1 39 + v.2.1 35 ln = nI off ∧ 600 * v.1 39 + v.2.1 36 ln = nI (off + Kj.length) ∧ CDr (v.2.1 37) (v.2.1 38) off Kj ∧ CF Kj f 80
theorem psh_sub {A R : List (Int32 × Int32)} {s : List Int32} {ev : Nat → Int32} {Kj : List (Int32 × Int32)} (hK : Kj = A ++ R) (h : evR ev [] R = some s) (hp : psh Kj ≤ 80) : s.length ≤ 80 := by
  have := evR_len R s h
  rw [hK, psh_app] at hp
  simp at this
  omega
theorem b2n (a : Int32) : b2 (if a = 0 then true else false) = b2 (decide (a = 0)) := by
  by_cases c : a = 0
  · rw [if_pos c, decide_eq_true c]
  · rw [if_neg c, decide_eq_false c]
theorem list_last {α : Type} (A : List α) : A = [] ∨ ∃ B x, A = B ++ [x] := by
  rcases List.eq_nil_or_concat A with h | ⟨B, x, h⟩
  · exact Or.inl h
  · exact Or.inr ⟨B, x, by rw [h, List.concat_eq_append]⟩
theorem i18_end {off ln : Nat} {Kj : List (Int32 × Int32)} {f : Sm} {x : St} {nn k : Int32} (h : LJ v b ln off Kj f) (hi : I18 v b off Kj (x, nn, k)) : 600 * (x.1 39) + (x.2.1 36 (nI ln).toNatClampNeg) = nI (off + Kj.length) := by
  obtain ⟨g1, g2, g3, g3', g4, g5, g6, g7, g8⟩ := h
  obtain ⟨A, R, s, a1, a2, a3, a4, a5, a6, a7, a8⟩ := hi
  replace a6 : x.1 = v.1 := a6
  replace a7 : ∀ k, ¬ k = 46 → x.2.1 k = v.2.1 k := a7
  rw [a6, a7 36 (by decide), nN (by omega)]; exact g6
/-- the code's next step -/
theorem i18_go {off ln : Nat} {Kj : List (Int32 × Int32)} {f : Sm} {x : St} {nn k : Int32} (h : LJ v b ln off Kj f) (hi : I18 v b off Kj (x, nn, k)) (hc : ¬ (600 * (x.1 39) + (x.2.1 36 (nI ln).toNatClampNeg)) ≤ k) : ∃ (c : Int32 × Int32) (r : Nat) (s s' : List Int32), off + r < 1200 ∧ k = nI (off + r) ∧ nn = nI s.length ∧ s.length ≤ 80 ∧ s'.length ≤ 80 ∧ stp (v.2.1 47) c s = some s' ∧ x.2.1 37 (off + r) = c.1 ∧ x.2.1 38 (off + r) = c.2 ∧ x.2.1 47 = v.2.1 47 ∧ PLr (x.2.1 46) s ∧ ∀ (w : St) (m : Int32), m = nI s'.length → PLr (w.2.1 46) s' → w.1 = x.1 → (∀ k, ¬ k = 46 → w.2.1 k = x.2.1 k) → w.2.2 = x.2.2 → I18 v b off Kj (w, m, nI (off + (r + 1))) := by
  have e36 := i18_end h hi
  obtain ⟨g1, g2, g3, g3', g4, g5, g6, g7, g8⟩ := h
  obtain ⟨A, R, s, a1, a2, a3, a4, a5, a6, a7, a8⟩ := hi
  replace a3 : nn = nI s.length := a3
  replace a4 : k = nI (off + R.length) := a4
  replace a5 : PLr (x.2.1 46) s := a5
  replace a6 : x.1 = v.1 := a6
  replace a7 : ∀ k, ¬ k = 46 → x.2.1 k = v.2.1 k := a7
  replace a8 : x.2.2 = v.2.2 := a8
  have hs := psh_sub a1 a2 g8.2
  have hlen : Kj.length = A.length + R.length := by rw [a1, List.length_append]
  rcases list_last A with hA | ⟨A', c, hA⟩
  · subst hA
    simp only [List.length_nil] at hlen
    exfalso
    rw [e36, a4, n_le (by omega) (by omega)] at hc
    omega
  · subst hA
    have eK : Kj = A' ++ (c :: R) := by rw [a1, List.append_assoc]; rfl
    have hlen2 : Kj.length = A'.length + (R.length + 1) := by rw [eK, List.length_append, List.length_cons]
    have g7' := g7
    rw [eK] at g7'
    obtain ⟨⟨d1, d2, -⟩, -⟩ := CDr_app A' g7'
    obtain ⟨s', hs'⟩ : ∃ s', evR (v.2.1 47) [] (c :: R) = some s' := by
      have := g8.1 (v.2.1 47) []
      rw [eK] at this
      exact evR_sub this
    have hst : stp (v.2.1 47) c s = some s' := by
      rw [evR, a2] at hs'; exact hs'
    refine ⟨c, R.length, s, s', by omega, a4, a3, hs, psh_sub eK hs' g8.2, hst, by rw [a7 37 (by decide)]; exact d1, by rw [a7 38 (by decide)]; exact d2, a7 47 (by decide), a5, fun w m e1 e2 e3 e4 e5 => ?_⟩
    exact ⟨A', c :: R, s', eK, hs', e1, rfl, e2, e3.trans a6, fun k hk => (e4 k hk).trans (a7 k hk), e5.trans a8⟩
theorem i18_step {u0 : St} {off ln : Nat} {Kj : List (Int32 × Int32)} {f : Sm} (h : LJ v b ln off Kj f) : ∀ x, I18 v b off Kj x → (lpX3_holds_18 u0 (nI ln) x).1 = 0 → I18 v b off Kj (lpX3_holds_18 u0 (nI ln) x).2 ∧ off + Kj.length - (lpX3_holds_18 u0 (nI ln) x).2.2.2.toNatClampNeg < off + Kj.length - x.2.2.toNatClampNeg := by
  rintro ⟨x, nn, k⟩ hi
  have hb := h.2.1
  have hl := h.2.2.1
  unfold lpX3_holds_18
  dsimp only
  by_cases c1 : 600 * (x.1 39) + (x.2.1 36 (nI ln).toNatClampNeg) ≤ k
  · rw [if_pos c1]; intro y; cases y
  · rw [if_neg c1]
    have e36 := i18_end h hi
    obtain ⟨c, r, s, s', j1, j2, j3, j4, j5, j6, j7, j8, j9, j10, fin⟩ := i18_go h hi c1
    subst j2 j3
    rw [e36, n_le (by omega) (by omega)] at c1
    have mu : off + Kj.length - (nI (off + (r + 1))).toNatClampNeg < off + Kj.length - (off + r) := by rw [nN (by omega)]; omega
    rw [nN (show off + r < _ by omega), j7, j8, j9, nI_1, show off + r + 1 = off + (r + 1) by omega]
    unfold stp at j6
    by_cases q1 : c.1 = 126
    · rw [if_pos q1] at j6 ⊢
      intro _
      cases s with
      | nil => cases j6
      | cons a t =>
        cases j6
        rw [List.length_cons] at j4 j5 ⊢
        have em : nI (t.length + 1) - 1 = nI t.length := by rw [n_m1 (by omega) (by omega)]; rfl
        rw [em, nN (by omega)]
        have e46 : x.2.1 46 t.length = a := j10.1
        refine ⟨fin _ _ rfl ⟨?_, ?_⟩ rfl (fun k hk => by rw [sa_o hk]) rfl, mu⟩
        · rw [sa_s, upd_s, e46, b2n]
        · exact j10.2.kept (fun j hj => by rw [sa_s, upd_o (by omega)])
    · rw [if_neg q1] at j6 ⊢
      by_cases q2 : c.1 = 110
      · rw [if_pos q2] at j6
        rw [if_pos (by rw [if_pos q2]), if_pos q2]
        intro _
        cases j6
        rw [nN (show s.length < _ by omega), nI_1]
        refine ⟨fin _ _ rfl ⟨?_, ?_⟩ rfl (fun k hk => by rw [sa_o hk]) rfl, mu⟩
        · rw [sa_s, upd_s]
        · exact j10.kept (fun j hj => by rw [sa_s, upd_o (by omega)])
      · rw [if_neg q2] at j6
        by_cases q3 : c.1 = 116
        · rw [if_pos q3] at j6
          rw [if_pos (by rw [if_neg q2, if_pos q3]), if_neg q2]
          intro _
          by_cases q4 : 0 ≤ c.2.toInt ∧ c.2.toInt < 9
          · rw [if_pos q4] at j6
            cases j6
            rw [nN (show s.length < _ by omega), nI_1]
            refine ⟨fin _ _ rfl ⟨?_, ?_⟩ rfl (fun k hk => by rw [sa_o hk]) rfl, mu⟩
            · rw [sa_s, upd_s]
            · exact j10.kept (fun j hj => by rw [sa_s, upd_o (by omega)])
          · rw [if_neg q4] at j6; cases j6
        · rw [if_neg q3] at j6
          rw [if_neg (by rw [if_neg q2, if_neg q3]; decide)]
          intro _
          rcases s with _ | ⟨bb, _ | ⟨aa, t⟩⟩
          · cases j6
          · cases j6
          · cases j6
            rw [List.length_cons] at j4 j5 ⊢
            rw [List.length_cons] at j4 ⊢
            have em : nI (t.length + 1 + 1) + (-1) = nI (t.length + 1) := by
              rw [t_eq, t_add (by rw [nI_i (by omega), k_m1]; omega) (by rw [nI_i (by omega), k_m1]; omega), nI_i (by omega), k_m1, nI_i (by omega)]; omega
            have em2 : nI (t.length + 1) - 1 = nI t.length := by rw [n_m1 (by omega) (by omega)]; rfl
            rw [em, em2, nN (show t.length < _ by omega), nN (show t.length + 1 < _ by omega)]
            have e46 : x.2.1 46 (t.length + 1) = bb := j10.1
            have e46' : x.2.1 46 t.length = aa := j10.2.1
            refine ⟨fin _ _ rfl ⟨?_, ?_⟩ rfl (fun k hk => by rw [sa_o hk]) rfl, mu⟩
            · rw [sa_s, upd_s, e46, e46']
            · exact j10.2.2.kept (fun j hj => by rw [sa_s, upd_o (by omega)])
theorem i18_init {off ln : Nat} {Kj : List (Int32 × Int32)} {f : Sm} (h : LJ v b ln off Kj f) : I18 v b off Kj (v, 0, 600 * (v.1 39) + (v.2.1 35 (nI ln).toNatClampNeg)) := by
  obtain ⟨g1, g2, g3, g3', g4, g5, g6, g7, g8⟩ := h
  exact ⟨Kj, [], [], by rw [List.append_nil], rfl, rfl, by rw [nN (by omega)]; exact g5, trivial, rfl, fun _ _ => rfl, rfl⟩
theorem i18_mu {off ln : Nat} {Kj : List (Int32 × Int32)} {f : Sm} (h : LJ v b ln off Kj f) : off + Kj.length - (600 * (v.1 39) + (v.2.1 35 (nI ln).toNatClampNeg)).toNatClampNeg < 601 := by
  obtain ⟨g1, g2, g3, g3', g4, g5, g6, g7, g8⟩ := h
  rw [nN (show ln < _ by omega), g5, nN (by omega)]; omega
theorem ho_ok {off ln : Nat} {Kj : List (Int32 × Int32)} {f : Sm} (h : LJ v b ln off Kj f) : okX3_holds v (nI ln) := by
  have hln := h.2.2.2.2.1
  refine ⟨I18 v b off Kj, by rw [vp_in_iff, nI_i (by omega)]; omega, LOK.of (μ := fun x => off + Kj.length - x.2.2.toNatClampNeg) (i18_init h) (i18_step h) (i18_mu h), ?_, ?_, ?_, ?_, ?_, ?_⟩
  · intro x nn k hi hc
    obtain ⟨c, r, s, s', j1, j2, j3, j4, j5, j6, j7, j8, j9, j10, fin⟩ := i18_go h hi hc
    rw [j2, vp_in_iff, nI_i (by omega)]; omega
  · intro x nn k hi hc _ _
    obtain ⟨c, r, s, s', j1, j2, j3, j4, j5, j6, j7, j8, j9, j10, fin⟩ := i18_go h hi hc
    rw [j3, vp_in_iff, nI_i (by omega)]; omega
  · intro x nn k hi hc q1 q2 q3
    obtain ⟨c, r, s, s', j1, j2, j3, j4, j5, j6, j7, j8, j9, j10, fin⟩ := i18_go h hi hc
    rw [j2, nN (by omega)] at q1 q2 q3 ⊢
    rw [j7] at q1 q2 q3
    rw [j8]
    unfold stp at j6
    rw [if_neg q1, if_neg q3] at j6
    rw [if_neg q3] at q2
    by_cases q4 : c.1 = 116
    · rw [if_pos q4] at j6
      by_cases q5 : 0 ≤ c.2.toInt ∧ c.2.toInt < 9
      · rw [vp_in_iff]; exact q5
      · rw [if_neg q5] at j6; cases j6
    · rw [if_neg q4] at q2; cases q2
  · intro x nn k hi hc q1 q2
    obtain ⟨c, r, s, s', j1, j2, j3, j4, j5, j6, j7, j8, j9, j10, fin⟩ := i18_go h hi hc
    rw [j2, nN (by omega), j7] at q1 q2
    unfold stp at j6
    have q3 : ¬ c.1 = 110 := fun z => by rw [if_pos z] at q2; cases q2
    have q4 : ¬ c.1 = 116 := fun z => by rw [if_neg q3, if_pos z] at q2; cases q2
    rw [if_neg q1, if_neg q3, if_neg q4] at j6
    rcases s with _ | ⟨bb, _ | ⟨aa, t⟩⟩
    · cases j6
    · cases j6
    · rw [List.length_cons, List.length_cons] at j4 j3
      have em : nI (t.length + 1 + 1) + (-1) = nI (t.length + 1) := by
        rw [t_eq, t_add (by rw [nI_i (by omega), k_m1]; omega) (by rw [nI_i (by omega), k_m1]; omega), nI_i (by omega), k_m1, nI_i (by omega)]; omega
      have em2 : nI (t.length + 1) - 1 = nI t.length := by rw [n_m1 (by omega) (by omega)]; rfl
      rw [j3, em, em2, vp_in_iff, nI_i (by omega)]; omega
  · intro x nn k hi hc q1 q2
    obtain ⟨c, r, s, s', j1, j2, j3, j4, j5, j6, j7, j8, j9, j10, fin⟩ := i18_go h hi hc
    rw [j2, nN (by omega), j7] at q1 q2
    unfold stp at j6
    have q3 : ¬ c.1 = 110 := fun z => by rw [if_pos z] at q2; cases q2
    have q4 : ¬ c.1 = 116 := fun z => by rw [if_neg q3, if_pos z] at q2; cases q2
    rw [if_neg q1, if_neg q3, if_neg q4] at j6
    rcases s with _ | ⟨bb, _ | ⟨aa, t⟩⟩
    · cases j6
    · cases j6
    · rw [List.length_cons, List.length_cons] at j4 j3
      have em : nI (t.length + 1 + 1) + (-1) = nI (t.length + 1) := by
        rw [t_eq, t_add (by rw [nI_i (by omega), k_m1]; omega) (by rw [nI_i (by omega), k_m1]; omega), nI_i (by omega), k_m1, nI_i (by omega)]; omega
      rw [j3, em, vp_in_iff, nI_i (by omega)]; omega
  · intro x nn k hi hc q1
    obtain ⟨c, r, s, s', j1, j2, j3, j4, j5, j6, j7, j8, j9, j10, fin⟩ := i18_go h hi hc
    rw [j2, nN (by omega), j7] at q1
    unfold stp at j6
    rw [if_pos q1] at j6
    cases s with
    | nil => cases j6
    | cons a t =>
      rw [List.length_cons] at j4 j3
      have em : nI (t.length + 1) - 1 = nI t.length := by rw [n_m1 (by omega) (by omega)]; rfl
      rw [j3, em, vp_in_iff, nI_i (by omega)]; omega
theorem ho_run {off ln : Nat} {Kj : List (Int32 × Int32)} {f : Sm} (h : LJ v b ln off Kj f) : (fX3_holds v (nI ln)).1 = (!decide (f (v.2.1 47) = 0)) ∧ (fX3_holds v (nI ln)).2.1 = v.1 ∧ (∀ k, ¬ k = 46 → (fX3_holds v (nI ln)).2.2.1 k = v.2.1 k) := by
  obtain ⟨x, h1, h2, h3⟩ := wh_run (lpX3_holds_18 v (nI ln)) (I18 v b off Kj) (fun x => off + Kj.length - x.2.2.toNatClampNeg) (i18_step h) 601 _ (i18_init h) (i18_mu h)
  have hb := h.2.1
  have hl := h.2.2.1
  obtain ⟨x, nn, k⟩ := x
  have e36 := i18_end h h1
  have key : lpX3_holds_18 v (nI ln) (x, nn, k) = (1, x, nn, k) ∧ x.2.1 46 0 = f (v.2.1 47) ∧ x.1 = v.1 ∧ (∀ k, ¬ k = 46 → x.2.1 k = v.2.1 k) := by
    obtain ⟨A, R, s, a1, a2, a3, a4, a5, a6, a7, a8⟩ := h1
    replace a4 : k = nI (off + R.length) := a4
    replace a5 : PLr (x.2.1 46) s := a5
    have hlen : Kj.length = A.length + R.length := by rw [a1, List.length_append]
    by_cases c1 : 600 * (x.1 39) + (x.2.1 36 (nI ln).toNatClampNeg) ≤ k
    · refine ⟨by unfold lpX3_holds_18; dsimp only; rw [if_pos c1], ?_, a6, a7⟩
      rw [e36, a4, n_le (by omega) (by omega)] at c1
      have : A = [] := List.length_eq_zero_iff.mp (by omega)
      subst this
      rw [List.nil_append] at a1
      rw [← a1, h.2.2.2.2.2.2.2.2.1] at a2
      cases a2
      exact a5.1
    · exfalso
      revert h2
      unfold lpX3_holds_18
      dsimp only
      rw [if_neg c1]
      repeat' split
      all_goals (intro y; exact absurd rfl y)
  have e : lpX3_holds_18_r v (nI ln) = (1, x, nn, k) := by unfold lpX3_holds_18_r; rw [h3]; exact key.1
  unfold fX3_holds
  rw [e]
  dsimp only
  rw [key.2.1]
  by_cases c : f (v.2.1 47) = 0
  · rw [if_pos c, decide_eq_true c]; exact ⟨rfl, key.2.2⟩
  · rw [if_neg c, decide_eq_false c]; exact ⟨rfl, key.2.2⟩
end HO
