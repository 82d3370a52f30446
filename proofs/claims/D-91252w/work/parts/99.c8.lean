/-! THE PLAIN LAW, 37: the whole of a test. Own work. -/
set_option maxRecDepth 100000
section SO
variable {v0 u0 : St} {b : Nat} {τ : Tp}
theorem bw_le (p : Nat) : bw τ p ≤ 2 := by unfold bw; split; decide; split <;> decide
theorem pi_cons {σ : List Int32} {d : Nat} (h : PI σ d) : ∃ s ρ, σ = s :: ρ := by
  cases σ with
  | nil => exact absurd h id
  | cons s ρ => exact ⟨s, ρ, rfl⟩
theorem simBoth {e : Nat} (he : e ≤ 6) (hO : ∀ σ, PI σ (6 - e) → Sim v0 u0 b τ (pOne τ e) σ (6 - e) (fun _ => True)) {s : Int32} {ρ : List Int32} (hP : PI (s :: ρ) (6 - e)) (hs : s = 1 ∨ 4 ≤ s.toInt) : Sim v0 u0 b τ (pLst τ 13 true (pOne τ e)) (s :: ρ) (6 - e) (fun p => True ∧ isW τ p 13 = false) := by
  have hl := hP.l60 (by omega)
  rw [List.length_cons] at hl
  refine simLst (t := 2) (hO _ hP) (hO _ (Or.inr (Or.inr (Or.inr ⟨rfl, hP, hs⟩)))) (fun p _ z => by unfold bw; rw [if_pos z]) (fun p _ => bw_le p) (Or.inr rfl) ?_ rfl (by omega) (by omega) (fun p tm q a c => pOne_b he a c)
  rcases hs with z | z
  · right; rw [z]; decide
  · left; rw [t_le, show (3 : Int32).toInt = 3 from rfl]; omega
theorem simEi {e : Nat} (h1 : 1 ≤ e) (he : e ≤ 6) (hO : ∀ σ, PI σ (6 - e) → Sim v0 u0 b τ (pOne τ e) σ (6 - e) (fun _ => True)) {s : Int32} {ρ : List Int32} (hP : PI (s :: ρ) (6 - e)) (hs : 4 ≤ s.toInt) : Sim v0 u0 b τ (pEi τ e (pOne τ e)) (s :: ρ) (6 - e) (fun p => (True ∧ isW τ p 13 = false) ∧ isW τ p 14 = false) := by
  have hl := hP.l60 (by omega)
  rw [List.length_cons] at hl
  have hL : Sim v0 u0 b τ (pLst τ 14 false (pLst τ 13 true (pOne τ e))) (s :: ρ) (6 - e) (fun p => (True ∧ isW τ p 13 = false) ∧ isW τ p 14 = false) := by
    refine simLst (t := 1) (simBoth he hO hP (Or.inr hs)) (simBoth he hO (Or.inr (Or.inr (Or.inl ⟨rfl, hP, hs⟩))) (Or.inl rfl)) (fun p z y => by unfold bw; rw [if_neg (by rw [z.2]; decide), if_pos y]) (fun p z => by unfold bw; rw [if_neg (by rw [z.2]; decide)]; split <;> decide) (Or.inl rfl) (Or.inl (by rw [t_le, show (3 : Int32).toInt = 3 from rfl]; omega)) rfl (by omega) (by omega) (fun p tm q a c => ?_)
    have := pLst_tm (fun p tm q a c => pOne_tm e p tm q a c) p tm q a c
    omega
  intro v p tm K o h ho
  unfold pEi
  cases hd : dpOk τ p (6 - e) with
  | true => rw [if_pos rfl]; exact hL v p tm K o h ho
  | false =>
    rw [if_neg (by decide)]
    unfold dpOk at hd
    rw [decide_eq_true (show 6 - e < 6 by omega), Bool.and_true, Bool.or_eq_false_iff, Bool.or_eq_false_iff] at hd
    have := sim_c (u0 := u0) h ho (by omega) hP (by omega) (of_decide_eq_false hd.1.2) hd.2
    rw [cmpR_no hd.1.1] at this
    exact this
theorem simOne : ∀ (e : Nat), e < 6 → ∀ σ, PI σ (6 - (e + 1)) → Sim v0 u0 b τ (pOne τ (e + 1)) σ (6 - (e + 1)) (fun _ => True) := by
  intro e
  induction e with
  | zero =>
    intro he σ hP v p tm K o h ho
    obtain ⟨s, ρ, rfl⟩ := pi_cons hP
    have hl := hP.l60 (by omega)
    rw [List.length_cons] at hl
    by_cases c1 : isW τ p 12 = true
    · have c40 : ¬ ts τ p = 40 := by
        unfold isW at c1
        rw [Bool.and_eq_true] at c1
        rw [of_decide_eq_true c1.1]; decide
      obtain ⟨-, o2, o3⟩ := one_p h (by rw [List.length_cons]; omega) (by omega) 3 (Or.inr ⟨c40, c1, rfl⟩)
      rw [if_neg (by omega)] at o3
      have ed : dpOk τ p (6 - (0 + 1)) = true := by unfold dpOk; rw [c1, Bool.or_true]; rfl
      rw [pOne, if_pos ed, if_pos c1, pOne]
      exact EndP.go (e_want h (by omega)) (e_bad o3 ⟨_, _, rfl, o3⟩)
    · by_cases c2 : ts τ p = 40
      · obtain ⟨-, o2, o3⟩ := one_p h (by rw [List.length_cons]; omega) (by omega) 4 (Or.inl ⟨c2, rfl⟩)
        rw [if_neg (by omega)] at o3
        have ed : dpOk τ p (6 - (0 + 1)) = true := by unfold dpOk; rw [decide_eq_true c2, Bool.or_true, Bool.true_or]; rfl
        have e0 : pEi τ 0 (pOne τ 0) (te τ p) tm = (eR τ (te τ p), 1, 8) := by
          unfold pEi
          rw [if_neg]
          unfold dpOk
          rw [decide_eq_false (show ¬ 6 - 0 < 6 by omega), Bool.and_false]; decide
        rw [pOne, if_pos ed, if_neg c1, if_pos c2, e0]
        exact EndP.go (e_want h (by omega)) (e_bad o3 ⟨_, _, rfl, o3⟩)
      · rw [pOne_c (by omega) c2 (Bool.eq_false_iff.mpr c1)]
        exact sim_c h ho (by omega) hP (by omega) c2 (Bool.eq_false_iff.mpr c1)
  | succ e ih =>
    intro he σ hP v p tm K o h ho
    have ih := ih (by omega)
    obtain ⟨s, ρ, rfl⟩ := pi_cons hP
    have hl := hP.l60 (by omega)
    rw [List.length_cons] at hl
    have edd : 6 - (e + 1 + 1) + 1 = 6 - (e + 1) := by omega
    by_cases c1 : isW τ p 12 = true
    · have c40 : ¬ ts τ p = 40 := by
        unfold isW at c1
        rw [Bool.and_eq_true] at c1
        rw [of_decide_eq_true c1.1]; decide
      obtain ⟨-, o2, o3⟩ := one_p h (by rw [List.length_cons]; omega) (by omega) 3 (Or.inr ⟨c40, c1, rfl⟩)
      rw [if_pos (by omega), edd] at o3
      have ed : dpOk τ p (6 - (e + 1 + 1)) = true := by unfold dpOk; rw [c1, Bool.or_true, decide_eq_true (show 6 - (e + 1 + 1) < 6 by omega)]; rfl
      have hP3 : PI ((3 : Int32) :: s :: ρ) (6 - (e + 1)) := Or.inr (Or.inl ⟨Or.inr rfl, by omega, by rw [show 6 - (e + 1) - 1 = 6 - (e + 1 + 1) by omega]; exact hP⟩)
      have g := ih _ hP3 _ _ _ _ _ o3 ho
      have ew := e_want (u0 := u0) h (by omega)
      rw [o2] at ew
      rw [pOne, if_pos ed, if_pos c1]
      cases hp : (pOne τ (e + 1) (te τ p) tm).1 with
      | error q =>
        rw [hp] at g
        exact EndP.go ew g
      | ok q =>
        rw [hp] at g
        intro r kk
        refine EndP.go ew (g r (fun v' K' a1 a2 _ => ?_))
        refine ER.red a1 ho (by rw [List.length_cons]; omega) (by decide) (by have := bw_le (τ := τ) q.2.1; rw [t_le, k_2] at this; rw [t_le, show (3 : Int32).toInt = 3 from rfl]; omega) (fun _ => by omega) (by omega) (fun v2 a4 => ?_)
        rw [if_pos rfl, show 6 - (e + 1) - 1 = 6 - (e + 1 + 1) by omega] at a4
        exact kk v2 ((126, 0) :: K') a4 a2.un trivial
    · by_cases c2 : ts τ p = 40
      · obtain ⟨-, o2, o3⟩ := one_p h (by rw [List.length_cons]; omega) (by omega) 4 (Or.inl ⟨c2, rfl⟩)
        rw [if_pos (by omega), edd] at o3
        have ed : dpOk τ p (6 - (e + 1 + 1)) = true := by unfold dpOk; rw [decide_eq_true c2, Bool.or_true, Bool.true_or, decide_eq_true (show 6 - (e + 1 + 1) < 6 by omega)]; rfl
        have hP4 : PI ((4 : Int32) :: s :: ρ) (6 - (e + 1)) := Or.inr (Or.inl ⟨Or.inl rfl, by omega, by rw [show 6 - (e + 1) - 1 = 6 - (e + 1 + 1) by omega]; exact hP⟩)
        have g := simEi (e := e + 1) (by omega) (by omega) ih hP4 (by decide) _ _ _ _ _ o3 ho
        have ew := e_want (u0 := u0) h (by omega)
        rw [o2] at ew
        rw [pOne, if_pos ed, if_neg c1, if_pos c2]
        cases hp : (pEi τ (e + 1) (pOne τ (e + 1)) (te τ p) tm).1 with
        | error q =>
          rw [hp] at g
          exact EndP.go ew g
        | ok q =>
          rw [hp] at g
          dsimp only
          have b0 : (True ∧ isW τ q.2.1 13 = false) ∧ isW τ q.2.1 14 = false → bw τ q.2.1 = 0 := fun z => by unfold bw; rw [if_neg (by rw [z.1.2]; decide), if_neg (by rw [z.2]; decide)]
          by_cases c3 : ts τ q.2.1 = 41
          · rw [if_pos c3]
            intro r kk
            refine EndP.go ew (g r (fun v' K' a1 a2 a3 => ?_))
            rw [b0 a3]
            refine ER.close a1 (by rw [List.length_cons]; omega) (by omega) (by omega) c3 (fun v1 a4 => ?_)
            rw [show 6 - (e + 1) - 1 = 6 - (e + 1 + 1) by omega] at a4
            exact ER.in a4 ho hP (by omega) (kk v1 K' a4 a2 trivial)
          · rw [if_neg c3]
            refine EndP.go ew (g _ (fun v' K' a1 a2 a3 => ?_))
            rw [b0 a3]
            exact ER.opn a1 (by rw [List.length_cons]; omega) (by omega) (by omega) c3 (fun w wt hb => ⟨w, wt, rfl, hb⟩)
      · rw [pOne_c (by omega) c2 (Bool.eq_false_iff.mpr c1)]
        exact sim_c h ho (by omega) hP (by omega) c2 (Bool.eq_false_iff.mpr c1)
/-- a whole test, from the pile's ground -/
theorem simAll : Sim v0 u0 b τ (pEither τ 6) [(5 : Int32)] 0 (fun p => (True ∧ isW τ p 13 = false) ∧ isW τ p 14 = false) :=
  simEi (e := 6) (by decide) (by decide) (fun σ h => simOne 5 (by decide) σ h) (Or.inl ⟨rfl, rfl, rfl⟩) (by decide)
/-- what the model's loop does -/
def eRes (v0 : St) (b : Nat) (τ : Tp) (tm : Nat) (K : List (Int32 × Int32)) (o : Int) (res : Except (Int32 × Nat) (Sm × Nat × Nat)) : Nat × St × Int32 → Prop := fun r => match res with
  | .error q => Wr v0 b q r
  | .ok q => ∃ w K', r = (1, w, 0) ∧ AT v0 b τ w q.2.1 q.2.2 (K' ++ K) [] 0 o ∧ CF K' q.1 (q.2.2 - tm)
theorem e_all {v : St} {p tm : Nat} {K : List (Int32 × Int32)} {o : Int} (h : AT v0 b τ v p tm K [(5 : Int32)] 0 o) (ho : 0 ≤ o) : EndP (lpX3_e_17 u0) (v, 1) (eRes v0 b τ tm K o (pEither τ 6 p tm).1) := by
  have g := simAll (u0 := u0) v p tm K o h ho
  cases hp : (pEither τ 6 p tm).1 with
  | error q => rw [hp] at g; exact g
  | ok q =>
    rw [hp] at g
    refine g _ (fun v' K' a1 a2 a3 => ?_)
    have b0 : bw τ q.2.1 = 0 := by unfold bw; rw [if_neg (by rw [a3.1.2]; decide), if_neg (by rw [a3.2]; decide)]
    rw [b0]
    exact ER.fin a1 (fun w a4 => ⟨w, K', rfl, a4, a2⟩)
end SO
