/-! THE PLAIN LAW, 45: what reading a law costs. Own work. -/
set_option maxRecDepth 100000
def cA1 : Nat := 12
def cA2 : Nat := 110
section CO
variable {τ : Tp}
/-- what a reading costs: b, b' where it reads; e, e' where it fails -/
def cB (τ : Tp) (b e b' e' : Nat) (p : Nat) (r : PO) : Prop := match r.1 with
  | .ok q => p < q.2.1 ∧ q.2.1 ≤ τ.1 ∧ r.2.1 + 12 * p ≤ 12 * q.2.1 + b ∧ r.2.2 + 110 * p ≤ 110 * q.2.1 + b'
  | .error _ => r.2.1 + 12 * p ≤ 12 * τ.1 + e ∧ r.2.2 + 110 * p ≤ 110 * τ.1 + e'
theorem cap_le : ∀ n, n ≤ 80 → capG n ≤ 120 := by decide +kernel
theorem isW_te {p i : Nat} (hp : p ≤ τ.1) (h : isW τ p i = true) : te τ p ≤ τ.1 ∧ p + sLen i ≤ te τ p := by
  unfold isW at h
  rw [Bool.and_eq_true] at h
  have h1 := of_decide_eq_true h.1
  obtain ⟨e1, -⟩ := eqT_e h.2
  obtain ⟨t1, t2, t3⟩ := ts1 h1
  have := ws_ge (τ := τ) (p := p)
  exact ⟨te_le hp, by omega⟩
theorem co_term {p tm : Nat} (hp : p ≤ τ.1) : cB τ 0 5 0 27 p ((pTerm τ p tm).1, 5, 27) := by
  unfold cB
  cases h : (pTerm τ p tm).1 with
  | error q => dsimp only; omega
  | ok q =>
    dsimp only
    obtain ⟨h1, h2, h3⟩ := pT_p h
    have := te_gt hp h2 h3
    omega
theorem co_sumL : ∀ (k : Nat) (f : Sm) (p tm ca sa p0 : Nat), p0 < p → p ≤ τ.1 → ca + 12 * p0 ≤ 12 * p → sa + 110 * p0 ≤ 110 * p → cB τ 0 10 0 56 p0 (sumL τ k f p tm ca sa)
  | 0, f, p, tm, ca, sa, p0, h0, hp, h1, h2 => by
    rw [sumL]; exact ⟨h0, hp, by omega, by omega⟩
  | k + 1, f, p, tm, ca, sa, p0, h0, hp, h1, h2 => by
    rw [sumL]
    by_cases c : ts τ p = 43 ∨ ts τ p = 45
    · rw [if_pos c]
      obtain ⟨s1, s2, s3, -⟩ := pm_sg c
      have ht := te_gt hp s2 s3
      cases h : (pTerm τ (te τ p) tm).1 with
      | error q => unfold cB; dsimp only; omega
      | ok q =>
        obtain ⟨g1, g2, g3⟩ := pT_p h
        have ht2 := te_gt ht.2 g2 g3
        exact co_sumL k _ _ _ _ _ p0 (by omega) (by omega) (by omega) (by omega)
    · rw [if_neg c]; exact ⟨h0, hp, by omega, by omega⟩
theorem co_sum {p tm : Nat} (hp : p ≤ τ.1) : cB τ 0 10 0 56 p (pSum τ p tm) := by
  unfold pSum
  cases h : (pTerm τ p tm).1 with
  | error q => unfold cB; dsimp only; omega
  | ok q =>
    obtain ⟨g1, g2, g3⟩ := pT_p h
    have ht := te_gt hp g2 g3
    exact co_sumL _ _ _ _ _ _ p (by omega) (by omega) (by omega) (by omega)
theorem co_lstL {kw : Nat} {al : Bool} {el : Nat → Nat → PO} {b e b' e' : Nat} (hkw : 2 ≤ sLen kw) (hel : ∀ p tm, p ≤ τ.1 → tm ≤ 80 → cB τ b e b' e' p (el p tm)) (helt : ∀ p tm q, tm ≤ 80 → (el p tm).1 = .ok q → tm < q.2.2 ∧ q.2.2 ≤ 80) (hb : b + 5 ≤ 24) (hb' : b' + 144 ≤ 220) : ∀ (k n : Nat) (fs : Nat → Sm) (p tm ca sa p0 : Nat), p0 < p → p ≤ τ.1 → tm ≤ 80 → n ≤ tm → ca + 12 * p0 ≤ 12 * p + (b + 3) → sa + 110 * p0 ≤ 110 * p + (b' + 6) → cB τ (b + 4) (e + 2) (b' + 10) (e' + 5) p0 (lstL τ kw al el k n fs p tm ca sa)
  | 0, n, fs, p, tm, ca, sa, p0, h0, hp, ht, hn, h1, h2 => by
    rw [lstL]; unfold cB; dsimp only; omega
  | k + 1, n, fs, p, tm, ca, sa, p0, h0, hp, ht, hn, h1, h2 => by
    rw [lstL]
    by_cases c : isW τ p kw = true
    · rw [if_pos c]
      obtain ⟨w1, w2⟩ := isW_te hp c
      have he := hel (te τ p) tm w1 ht
      have hc := cap_le n (by omega)
      unfold cB at he
      cases h : (el (te τ p) tm).1 with
      | error q =>
        rw [h] at he
        unfold cB
        dsimp only at he ⊢
        omega
      | ok q =>
        rw [h] at he
        dsimp only at he ⊢
        obtain ⟨t1, t2⟩ := helt _ _ _ ht h
        exact co_lstL hkw hel helt hb hb' k (n + 1) _ _ _ _ _ p0 (by omega) (by omega) t2 (by omega) (by omega) (by omega)
    · rw [if_neg c]; unfold cB; dsimp only; omega
theorem co_lst {kw : Nat} {al : Bool} {el : Nat → Nat → PO} {b e b' e' : Nat} (hkw : 2 ≤ sLen kw) (hel : ∀ p tm, p ≤ τ.1 → tm ≤ 80 → cB τ b e b' e' p (el p tm)) (helt : ∀ p tm q, tm ≤ 80 → (el p tm).1 = .ok q → tm < q.2.2 ∧ q.2.2 ≤ 80) (hb : b + 5 ≤ 24) (hb' : b' + 144 ≤ 220) (he2 : 2 ≤ b + 4) {p tm : Nat} (hp : p ≤ τ.1) (ht : tm ≤ 80) : cB τ (b + 4) (e + 2) (b' + 10) (e' + 5) p (pLst τ kw al el p tm) := by
  unfold pLst
  have he := hel p tm hp ht
  have hc : capG 0 = 1 := rfl
  unfold cB at he
  cases h : (el p tm).1 with
  | error q =>
    rw [h] at he
    unfold cB
    dsimp only at he ⊢
    omega
  | ok q =>
    rw [h] at he
    dsimp only at he ⊢
    obtain ⟨t1, t2⟩ := helt _ _ _ ht h
    exact co_lstL hkw hel helt hb hb' _ 1 _ _ _ _ _ p (by omega) (by omega) t2 (by omega) (by omega) (by omega)
/-- one test's costs: 1 and 25 above the text's own, 40 and 400 where it fails -/
theorem co_one : ∀ (e p tm : Nat), p ≤ τ.1 → tm ≤ 80 → cB τ 1 40 25 400 p (pOne τ e p tm) := by
  intro e
  induction e with
  | zero => intro p tm hp ht; rw [pOne]; unfold cB eR; dsimp only; omega
  | succ e ih =>
    intro p tm hp ht
    have hb : ∀ p tm, p ≤ τ.1 → tm ≤ 80 → cB τ 5 42 35 405 p (pLst τ 13 true (pOne τ e) p tm) := fun p tm hp ht => co_lst (b := 1) (e := 40) (b' := 25) (e' := 400) (by decide) ih (fun p tm q a c => pOne_tm e p tm q a c) (by decide) (by decide) (by decide) hp ht
    have hL : ∀ p tm, p ≤ τ.1 → tm ≤ 80 → cB τ 9 44 45 410 p (pLst τ 14 false (pLst τ 13 true (pOne τ e)) p tm) := fun p tm hp ht => co_lst (b := 5) (e := 42) (b' := 35) (e' := 405) (by decide) hb (fun p tm q a c => pLst_tm (fun p tm q a c => pOne_tm e p tm q a c) p tm q a c) (by decide) (by decide) (by decide) hp ht
    have hE : ∀ p tm, p ≤ τ.1 → tm ≤ 80 → cB τ 10 45 53 418 p (pEi τ e (pOne τ e) p tm) := fun p tm hp ht => by
      unfold pEi
      by_cases c : dpOk τ p (6 - e) = true
      · rw [if_pos c]
        have := hL p tm hp ht
        unfold cB at this ⊢
        cases h : (pLst τ 14 false (pLst τ 13 true (pOne τ e)) p tm).1 with
        | ok q => rw [h] at this; dsimp only at this ⊢; omega
        | error q => rw [h] at this; dsimp only at this ⊢; omega
      · rw [if_neg c]; unfold cB eR; dsimp only; omega
    rw [pOne]
    by_cases c0 : dpOk τ p (6 - (e + 1)) = true
    · rw [if_pos c0]
      by_cases c1 : isW τ p 12 = true
      · rw [if_pos c1]
        obtain ⟨w1, w2⟩ := isW_te hp c1
        have w3 : sLen 12 = 3 := by decide +kernel
        have := ih (te τ p) tm w1 ht
        unfold cB at this
        cases h : (pOne τ e (te τ p) tm).1 with
        | ok q => rw [h] at this; unfold cB; dsimp only at this ⊢; omega
        | error q => rw [h] at this; unfold cB; dsimp only at this ⊢; omega
      · rw [if_neg c1]
        by_cases c2 : ts τ p = 40
        · rw [if_pos c2]
          have ht0 := te_gt hp (by rw [c2]; decide) (by rw [c2]; decide)
          have := hE (te τ p) tm ht0.2 ht
          unfold cB at this
          cases h : (pEi τ e (pOne τ e) (te τ p) tm).1 with
          | error q => rw [h] at this; unfold cB; dsimp only at this ⊢; omega
          | ok q =>
            rw [h] at this
            dsimp only at this ⊢
            by_cases c3 : ts τ q.2.1 = 41
            · have ht1 := te_gt this.2.1 (by rw [c3]; decide) (by rw [c3]; decide)
              rw [if_pos c3]; unfold cB; dsimp only; omega
            · rw [if_neg c3]; unfold cB eR; dsimp only; omega
        · rw [if_neg c2]
          have s1 := co_sum (τ := τ) (tm := tm) hp
          unfold cB at s1
          cases h : (pSum τ p tm).1 with
          | error q => rw [h] at s1; unfold cB; dsimp only at s1 ⊢; omega
          | ok q =>
            rw [h] at s1
            dsimp only at s1 ⊢
            by_cases c3 : ts τ q.2.1 = 60 ∨ ts τ q.2.1 = 62 ∨ ts τ q.2.1 = 61
            · rw [if_pos c3]
              obtain ⟨-, z0, z3, -⟩ := cm_sg c3
              have ht1 := te_gt s1.2.1 z0 z3
              have s2 := co_sum (τ := τ) (tm := q.2.2) ht1.2
              unfold cB at s2
              cases h2 : (pSum τ (te τ q.2.1) q.2.2).1 with
              | error q2 => rw [h2] at s2; unfold cB; dsimp only at s2 ⊢; omega
              | ok q2 => rw [h2] at s2; unfold cB; dsimp only at s2 ⊢; omega
            · rw [if_neg c3]; unfold cB; dsimp only; omega
    · rw [if_neg c0]; unfold cB eR; dsimp only; omega
theorem co_ei {p tm : Nat} (hp : p ≤ τ.1) (ht : tm ≤ 80) : cB τ 10 45 53 418 p (pEither τ 6 p tm) := by
  have ih := co_one (τ := τ) 6
  have hb : ∀ p tm, p ≤ τ.1 → tm ≤ 80 → cB τ 5 42 35 405 p (pLst τ 13 true (pOne τ 6) p tm) := fun p tm hp ht => co_lst (b := 1) (e := 40) (b' := 25) (e' := 400) (by decide) ih (fun p tm q a c => pOne_tm 6 p tm q a c) (by decide) (by decide) (by decide) hp ht
  have hL : cB τ 9 44 45 410 p (pLst τ 14 false (pLst τ 13 true (pOne τ 6)) p tm) := co_lst (b := 5) (e := 42) (b' := 35) (e' := 405) (by decide) hb (fun p tm q a c => pLst_tm (fun p tm q a c => pOne_tm 6 p tm q a c) p tm q a c) (by decide) (by decide) (by decide) hp ht
  unfold pEither pEi
  by_cases c : dpOk τ p (6 - 6) = true
  · rw [if_pos c]
    unfold cB at hL ⊢
    cases h : (pLst τ 14 false (pLst τ 13 true (pOne τ 6)) p tm).1 with
    | ok q => rw [h] at hL; dsimp only at hL ⊢; omega
    | error q => rw [h] at hL; dsimp only at hL ⊢; omega
  · rw [if_neg c]; unfold cB eR; dsimp only; omega
theorem lnA_p {q : Sm × Nat × Nat} {q2 : Ln × Nat × Nat} (hq : q.2.1 ≤ τ.1) (h : lnA τ q = .ok q2) : q.2.1 ≤ q2.2.1 ∧ q2.2.1 ≤ τ.1 ∧ q2.2.2 = q.2.2 := by
  have t1 := te_ge (τ := τ) (p := q.2.1)
  have t2 := te_ge (τ := τ) (p := te τ q.2.1)
  have t3 := te_ge (τ := τ) (p := te τ (te τ q.2.1))
  have t4 := te_ge (τ := τ) (p := te τ (te τ (te τ q.2.1)))
  have l1 := te_le (τ := τ) hq
  have l2 := te_le (τ := τ) l1
  have l3 := te_le (τ := τ) l2
  have l4 := te_le (τ := τ) l3
  have hE : ∀ f ds pt P tm, lnE τ f ds pt P tm = .ok q2 → q2.2.1 = te τ P ∧ q2.2.2 = tm := fun f ds pt P tm h => by
    unfold lnE at h
    split at h
    · cases h; exact ⟨rfl, rfl⟩
    · cases h
  unfold lnA at h
  split at h
  · split at h
    · cases h
    · split at h
      · split at h
        · split at h
          · obtain ⟨a, b⟩ := hE _ _ _ _ _ h
            exact ⟨by omega, by omega, b⟩
          · cases h
        · cases h
      · obtain ⟨a, b⟩ := hE _ _ _ _ _ h
        exact ⟨by omega, by omega, b⟩
  · cases h
theorem co_txL : ∀ (k n : Nat) (ls : Nat → Ln) (p tm ca sa : Nat), p ≤ τ.1 → tm ≤ 80 → ca ≤ 12 * p + 4 → sa ≤ 110 * p + 24 → (txL τ k n ls p tm ca sa).2.1 ≤ 12 * τ.1 + 100 ∧ (txL τ k n ls p tm ca sa).2.2 ≤ 110 * τ.1 + 800
  | 0, n, ls, p, tm, ca, sa, hp, ht, h1, h2 => by rw [txL]; dsimp only; omega
  | k + 1, n, ls, p, tm, ca, sa, hp, ht, h1, h2 => by
    rw [txL]
    by_cases c0 : ts τ p = 0
    · rw [if_pos c0]; dsimp only; omega
    · rw [if_neg c0]
      by_cases c : isW τ p 2 = true ∧ ¬ n = 16
      · rw [if_pos c]
        obtain ⟨w1, w2⟩ := isW_te hp c.1
        have w3 : sLen 2 = 4 := by decide +kernel
        have he := co_ei (τ := τ) (p := te τ p) (tm := tm) w1 ht
        unfold cB at he
        cases h : (pEither τ 6 (te τ p) tm).1 with
        | error q => rw [h] at he; dsimp only at he ⊢; omega
        | ok q =>
          rw [h] at he
          dsimp only at he ⊢
          have hq : q.2.2 ≤ 80 := by
            have := pEi_tm (e := 6) (fun p tm q a c => pOne_tm 6 p tm q a c) (te τ p) tm q ht h
            omega
          cases hl : lnA τ q with
          | error q2 => dsimp only; omega
          | ok q2 =>
            dsimp only
            obtain ⟨a, b, c'⟩ := lnA_p he.2.1 hl
            exact co_txL k _ _ _ _ _ _ b (by omega) (by omega) (by omega)
      · rw [if_neg c]; dsimp only; omega
theorem co_text : (pText τ).2.1 ≤ 12 * τ.1 + 100 ∧ (pText τ).2.2 ≤ 110 * τ.1 + 800 := by
  unfold pText
  exact co_txL 17 0 _ 0 0 4 24 (Nat.zero_le _) (by decide) (by decide) (by decide)
end CO
