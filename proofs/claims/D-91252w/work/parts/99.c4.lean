/-! THE PLAIN LAW, 33: readSum. Own work. -/
set_option maxRecDepth 100000
section RS
variable {v0 v w : St} {b : Nat} {τ : Tp} {p tm d : Nat} {o : Int} {K : List (Int32 × Int32)} {σ : List Int32}
theorem sg_v (h : TX v τ) (hk : TK v τ p) (hs : isSg (ts τ p) = true) : fX3_sign v (v.1 27) = ts τ p := by
  obtain ⟨c1, c2, c0, c3⟩ := isSg_12 hs
  obtain ⟨k1, k2, k3, k4⟩ := hk
  rcases k4 with ⟨a, b⟩ | ⟨a, b⟩ | ⟨a, b, -⟩ | ⟨a, b, -⟩ | ⟨a, b, d, e⟩
  · exact absurd a c0
  · exact absurd a c3
  · exact absurd a c1
  · exact absurd a c2
  · rw [k1, sg_in h e, d]
theorem sgv_ok (h : TX v τ) (hk : TK v τ p) : okX3_sign v (v.1 27) := by
  have := ws_le (τ := τ) hk.2.2.1
  have := h.2.1
  rw [hk.1]; exact sg_ok h _ (by omega)
/-- where the sum's loop may stand -/
def IS4 (v0 : St) (b : Nat) (τ : Tp) (σ : List Int32) (d : Nat) (o : Int) (x : St) : Prop := (∃ p tm K, AT v0 b τ x p tm K σ d o) ∨ ∃ q, BD v0 b x q
theorem pm_is (h : AT v0 b τ v p tm K σ d o) : (if fX3_is v 43 = true then true else (if fX3_is v 45 = true then true else false)) = decide (ts τ p = 43 ∨ ts τ p = 45) := by
  rw [is_3 h.2.1 h.2.2.1 (by decide), is_3 h.2.1 h.2.2.1 (by decide)]
  by_cases a : ts τ p = 43
  · rw [decide_eq_true a, if_pos rfl, decide_eq_true (Or.inl a)]
  · rw [decide_eq_false a, if_neg (by decide)]
    by_cases c : ts τ p = 45
    · rw [decide_eq_true c, if_pos rfl, decide_eq_true (Or.inr c)]
    · rw [decide_eq_false c, if_neg (by decide), decide_eq_false (fun z => z.elim a c)]
theorem pm_sg (h : ts τ p = 43 ∨ ts τ p = 45) : isSg (ts τ p) = true ∧ ¬ ts τ p = 0 ∧ ¬ ts τ p = 3 ∧ ¬ ts τ p = 126 ∧ ¬ ts τ p = 110 ∧ ¬ ts τ p = 116 := by
  rcases h with h | h <;> rw [h] <;> decide
theorem AT.len (h : AT v0 b τ v p tm K σ d o) (ho : 1 ≤ o) : K.length < 600 := by
  have hlt : (K.length : Int) + (pend σ : Int) + o ≤ (p : Int) := h.2.2.2.2.2.2.2.2.1
  have := h.pl
  omega
theorem is4_step (ho : 0 ≤ o) {u0 : St} : ∀ x, IS4 v0 b τ σ d o x → (lpX3_readSum_4 u0 x).1 = 0 → IS4 v0 b τ σ d o (lpX3_readSum_4 u0 x).2 := by
  rintro x (⟨p, tm, K, h⟩ | ⟨q, h⟩)
  · unfold lpX3_readSum_4
    rw [if_pos h.gd, pm_is h]
    by_cases c : ts τ p = 43 ∨ ts τ p = 45
    · obtain ⟨s1, s2, s3, -⟩ := pm_sg c
      rw [decide_eq_true c, if_pos rfl]
      obtain ⟨n1, n2⟩ := h.nx s2 s3
      obtain ⟨r1, r2⟩ := rT3 n2 (by omega)
      cases hp : (pTerm τ (te τ p) tm).1 with
      | error q =>
        rw [hp] at r2
        rw [if_neg (bad_g r2)]
        intro _; exact Or.inr ⟨q, r2⟩
      | ok q =>
        rw [hp] at r2
        obtain ⟨K', r3, r4⟩ := r2
        rw [if_pos r3.gd]
        intro _
        have := (r3.st (r3.len (by omega)) (fX3_sign x (x.1 27), 0)).2
        rw [show o + 1 - 1 = o by omega] at this
        exact Or.inl ⟨_, _, _, this⟩
    · rw [decide_eq_false c, if_neg (by decide)]; intro y; cases y
  · unfold lpX3_readSum_4
    rw [if_neg (bad_g h)]; intro y; cases y
theorem sum_run (ho : 0 ≤ o) {u0 : St} {K0 : List (Int32 × Int32)} {tm0 : Nat} : ∀ (k n : Nat) (v : St) (p tm : Nat) (Kf : List (Int32 × Int32)) (f : Sm) (ca sa : Nat), AT v0 b τ v p tm (Kf ++ K0) σ d o → CF Kf f (tm - tm0) → tm0 ≤ tm → 81 ≤ tm + k → k + 1 < n → ¬ (wh (lpX3_readSum_4 u0) n v).1 = 0 ∧ RS3 v0 b τ tm0 K0 σ d o (wh (lpX3_readSum_4 u0) n v).2 (sumL τ k f p tm ca sa).1 := by
  intro k
  induction k with
  | zero => intro n v p tm Kf f ca sa h _ _ h81 _; have := h.2.2.2.1.2; omega
  | succ k ih =>
    intro n v p tm Kf f ca sa h hc ht h81 hn
    obtain ⟨n, rfl⟩ : ∃ n', n = n' + 1 := ⟨n - 1, by omega⟩
    rw [wh_s, sumL]
    by_cases c : ts τ p = 43 ∨ ts τ p = 45
    · obtain ⟨s1, s2, s3, s4⟩ := pm_sg c
      rw [if_pos c]
      obtain ⟨n1, n2⟩ := h.nx s2 s3
      obtain ⟨r1, r2⟩ := rT3 n2 (by omega)
      cases hp : (pTerm τ (te τ p) tm).1 with
      | error q =>
        rw [hp] at r2
        have e : lpX3_readSum_4 u0 v = (0, fX3_readTerm (fX3_next v)) := by
          unfold lpX3_readSum_4
          rw [if_pos h.gd, pm_is h, decide_eq_true c, if_pos rfl, if_neg (bad_g r2)]
        rw [e, if_pos rfl]
        obtain ⟨n, rfl⟩ : ∃ n', n = n' + 1 := ⟨n - 1, by omega⟩
        have e2 : lpX3_readSum_4 u0 (fX3_readTerm (fX3_next v)) = (1, fX3_readTerm (fX3_next v)) := by
          unfold lpX3_readSum_4
          rw [if_neg (bad_g r2)]
        show ¬ (wh (lpX3_readSum_4 u0) (n + 1) (fX3_readTerm (fX3_next v))).1 = 0 ∧ RS3 v0 b τ tm0 K0 σ d o (wh (lpX3_readSum_4 u0) (n + 1) (fX3_readTerm (fX3_next v))).2 _
        rw [wh_s, e2, if_neg Nat.one_ne_zero]
        exact ⟨Nat.one_ne_zero, r2⟩
      | ok q =>
        rw [hp] at r2
        obtain ⟨K', r3, r4⟩ := r2
        obtain ⟨i1, i2⟩ := pT_inv hp
        have e : lpX3_readSum_4 u0 v = (0, fX3_step (fX3_readTerm (fX3_next v)) (fX3_sign v (v.1 27)) 0) := by
          unfold lpX3_readSum_4
          rw [if_pos h.gd, pm_is h, decide_eq_true c, if_pos rfl, if_pos r3.gd]
        rw [e, if_pos rfl, sg_v h.2.1 h.2.2.1 s1]
        have g := (r3.st (r3.len (by omega)) (ts τ p, 0)).2
        rw [show o + 1 - 1 = o by omega, show (ts τ p, (0 : Int32)) :: (K' ++ (Kf ++ K0)) = ((ts τ p, (0 : Int32)) :: (K' ++ Kf)) ++ K0 by rw [List.cons_append, List.append_assoc]] at g
        have cf : CF ((ts τ p, (0 : Int32)) :: (K' ++ Kf)) (fun e => bin (ts τ p) (f e) (q.1 e)) (q.2.2 - tm0) := (CF.bi hc r4 ⟨s4.1, s4.2.1, s4.2.2⟩ (fun e => by
          rcases c with y | y <;> rw [y] <;> rfl)).w (by omega)
        exact ih n _ _ _ _ _ _ _ g cf (by omega) (by omega) (by omega)
    · have e : lpX3_readSum_4 u0 v = (1, v) := by
        unfold lpX3_readSum_4
        rw [if_pos h.gd, pm_is h, decide_eq_false c, if_neg (by decide)]
      rw [e, if_neg Nat.one_ne_zero, if_neg c]
      exact ⟨Nat.one_ne_zero, Kf, h, hc⟩
theorem rS3 (h : AT v0 b τ v p tm K σ d o) (ho : 0 ≤ o) : okX3_readSum v ∧ RS3 v0 b τ tm K σ d o (fX3_readSum v) (pSum τ p tm).1 := by
  obtain ⟨r1, r2⟩ := rT3 h ho
  have key : IS4 v0 b τ σ d o (fX3_readTerm v) ∧ ¬ (wh (lpX3_readSum_4 v) 700 (fX3_readTerm v)).1 = 0 ∧ RS3 v0 b τ tm K σ d o (wh (lpX3_readSum_4 v) 700 (fX3_readTerm v)).2 (pSum τ p tm).1 := by
    unfold pSum
    cases hp : (pTerm τ p tm).1 with
    | error q =>
      rw [hp] at r2
      have e2 : lpX3_readSum_4 v (fX3_readTerm v) = (1, fX3_readTerm v) := by
        unfold lpX3_readSum_4
        rw [if_neg (bad_g r2)]
      rw [show (700 : Nat) = 699 + 1 from rfl, wh_s, e2, if_neg Nat.one_ne_zero]
      exact ⟨Or.inr ⟨q, r2⟩, Nat.one_ne_zero, r2⟩
    | ok q =>
      rw [hp] at r2
      obtain ⟨K', r3, r4⟩ := r2
      obtain ⟨i1, i2⟩ := pT_inv hp
      have := h.2.2.2.1.2
      refine ⟨Or.inl ⟨_, _, _, r3⟩, ?_⟩
      exact sum_run ho _ 700 _ _ _ K' q.1 _ _ r3 r4 (by omega) (by omega) (by omega)
  refine ⟨⟨IS4 v0 b τ σ d o, r1, ⟨key.1, is4_step ho, key.2.1⟩, ?_, ?_, ?_, ?_, ?_, ?_⟩, key.2.2⟩
  · rintro x (⟨p, tm, K, h⟩ | ⟨q, h⟩) z
    · exact is_ok h.2.1 h.2.2.1 _
    · exact absurd z (bad_g h)
  · rintro x (⟨p, tm, K, h⟩ | ⟨q, h⟩) z _
    · exact sgv_ok h.2.1 h.2.2.1
    · exact absurd z (bad_g h)
  · rintro x (⟨p, tm, K, h⟩ | ⟨q, h⟩) z y
    · rw [pm_is h] at y
      obtain ⟨s1, s2, s3, s4⟩ := pm_sg (of_decide_eq_true y)
      exact (h.nx s2 s3).1
    · exact absurd z (bad_g h)
  · rintro x (⟨p, tm, K, h⟩ | ⟨q, h⟩) z y
    · rw [pm_is h] at y
      obtain ⟨s1, s2, s3, s4⟩ := pm_sg (of_decide_eq_true y)
      exact (rT3 (h.nx s2 s3).2 (by omega)).1
    · exact absurd z (bad_g h)
  · rintro x (⟨p, tm, K, h⟩ | ⟨q, h⟩) z y g
    · rw [pm_is h] at y
      obtain ⟨s1, s2, s3, s4⟩ := pm_sg (of_decide_eq_true y)
      have r2 := (rT3 (h.nx s2 s3).2 (by omega)).2
      cases hp : (pTerm τ (te τ p) tm).1 with
      | error q => rw [hp] at r2; exact absurd g (bad_g r2)
      | ok q =>
        rw [hp] at r2
        obtain ⟨K', r3, r4⟩ := r2
        exact (r3.st (r3.len (by omega)) (fX3_sign x (x.1 27), 0)).1
    · exact absurd z (bad_g h)
  · rintro x (⟨p, tm, K, h⟩ | ⟨q, h⟩) z _
    · exact is_ok h.2.1 h.2.2.1 _
    · exact absurd z (bad_g h)
end RS
