/-! THE GRAMMAR of tests: lists of tests, one test, by what nesting is left. Own work. -/
set_option maxRecDepth 100000
theorem sumL_tm {τ : Tp} : ∀ (k : Nat) (f : Sm) (p tm ca sa : Nat) (q : Sm × Nat × Nat), tm ≤ 80 → (sumL τ k f p tm ca sa).1 = .ok q → tm ≤ q.2.2 ∧ q.2.2 ≤ 80
  | 0, f, p, tm, ca, sa, q, h, e => by cases e; exact ⟨Nat.le_refl _, h⟩
  | k + 1, f, p, tm, ca, sa, q, h, e => by
    rw [sumL] at e
    split at e
    · cases hpt : (pTerm τ (te τ p) tm).1 with
      | error q2 => rw [hpt] at e; cases e
      | ok q2 =>
        rw [hpt] at e
        obtain ⟨h1, h2⟩ := pT_inv hpt
        have := sumL_tm k _ _ _ _ _ q (by omega) e
        omega
    · cases e; exact ⟨Nat.le_refl _, h⟩
theorem pSum_tm {τ : Tp} {p tm : Nat} {q : Sm × Nat × Nat} (h : tm ≤ 80) (e : (pSum τ p tm).1 = .ok q) : tm < q.2.2 ∧ q.2.2 ≤ 80 := by
  unfold pSum at e
  cases hpt : (pTerm τ p tm).1 with
  | error q2 => rw [hpt] at e; cases e
  | ok q2 =>
    rw [hpt] at e
    obtain ⟨h1, h2⟩ := pT_inv hpt
    have := sumL_tm _ _ _ _ _ _ q (by omega) e
    omega
def updS (fs : Nat → Sm) (n : Nat) (f : Sm) : Nat → Sm := fun j => if j = n then f else fs j
/-- behind a list's first n tests -/
def lstL (τ : Tp) (kw : Nat) (al : Bool) (el : Nat → Nat → PO) : Nat → Nat → (Nat → Sm) → Nat → Nat → Nat → Nat → PO
  | 0, n, fs, p, tm, ca, sa => (.ok (joinS al n fs, p, tm), ca + 1, sa + 4)
  | k + 1, n, fs, p, tm, ca, sa => if isW τ p kw = true then
      (match (el (te τ p) tm).1 with
      | .error q => (.error q, ca + 4 + (el (te τ p) tm).2.1, sa + 24 + (el (te τ p) tm).2.2)
      | .ok q => lstL τ kw al el k (n + 1) (updS fs n q.1) q.2.1 q.2.2 (ca + 4 + (el (te τ p) tm).2.1 + 1) (sa + 24 + (el (te τ p) tm).2.2 + capG n))
    else (.ok (if n = 1 then fs 0 else joinS al n fs, p, tm), ca + 1, sa + 4)
def pLst (τ : Tp) (kw : Nat) (al : Bool) (el : Nat → Nat → PO) (p tm : Nat) : PO := match (el p tm).1 with
  | .error q => (.error q, 2 + (el p tm).2.1, 5 + (el p tm).2.2)
  | .ok q => lstL τ kw al el (81 - q.2.2) 1 (fun _ => q.1) q.2.1 q.2.2 (2 + (el p tm).2.1 + 1) (5 + (el p tm).2.2 + capG 0)
/-- tests of either kind; one: the tests that they're made of -/
def pEi (τ : Tp) (e : Nat) (one : Nat → Nat → PO) (p tm : Nat) : PO := if dpOk τ p (6 - e) = true then ((pLst τ 14 false (pLst τ 13 true one) p tm).1, 1 + (pLst τ 14 false (pLst τ 13 true one) p tm).2.1, 8 + (pLst τ 14 false (pLst τ 13 true one) p tm).2.2) else (eR τ p, 1, 8)
/-- one test; e: what nesting is left -/
def pOne (τ : Tp) : Nat → Nat → Nat → PO
  | 0, p, _ => (eR τ p, 1, 8)
  | e + 1, p, tm =>
    if dpOk τ p (6 - (e + 1)) = true then
      (if isW τ p 12 = true then
        (match (pOne τ e (te τ p) tm).1 with
        | .error q => (.error q, 6 + (pOne τ e (te τ p) tm).2.1, 35 + (pOne τ e (te τ p) tm).2.2)
        | .ok q => (.ok (fun v => b2 (decide (q.1 v = 0)), q.2), 6 + (pOne τ e (te τ p) tm).2.1, 35 + (pOne τ e (te τ p) tm).2.2))
      else if ts τ p = 40 then
        (match (pEi τ e (pOne τ e) (te τ p) tm).1 with
        | .error q => (.error q, 5 + (pEi τ e (pOne τ e) (te τ p) tm).2.1, 32 + (pEi τ e (pOne τ e) (te τ p) tm).2.2)
        | .ok q => (if ts τ q.2.1 = 41 then .ok (q.1, te τ q.2.1, q.2.2) else eR τ q.2.1, 5 + (pEi τ e (pOne τ e) (te τ p) tm).2.1 + 4, 32 + (pEi τ e (pOne τ e) (te τ p) tm).2.2 + 24))
      else
        (match (pSum τ p tm).1 with
        | .error q => (.error q, 1 + (pSum τ p tm).2.1, 8 + (pSum τ p tm).2.2)
        | .ok q => if ts τ q.2.1 = 60 ∨ ts τ q.2.1 = 62 ∨ ts τ q.2.1 = 61 then
            (match (pSum τ (te τ q.2.1) q.2.2).1 with
            | .error q2 => (.error q2, 1 + (pSum τ p tm).2.1 + 5 + (pSum τ (te τ q.2.1) q.2.2).2.1, 8 + (pSum τ p tm).2.2 + 29 + (pSum τ (te τ q.2.1) q.2.2).2.2)
            | .ok q2 => (.ok (fun v => bin (ts τ q.2.1) (q.1 v) (q2.1 v), q2.2), 1 + (pSum τ p tm).2.1 + 5 + (pSum τ (te τ q.2.1) q.2.2).2.1, 8 + (pSum τ p tm).2.2 + 29 + (pSum τ (te τ q.2.1) q.2.2).2.2))
          else (.ok q, 1 + (pSum τ p tm).2.1, 8 + (pSum τ p tm).2.2)))
    else (eR τ p, 1, 8)
def pBoth (τ : Tp) (e : Nat) : Nat → Nat → PO := pLst τ 13 true (pOne τ e)
def pEither (τ : Tp) (e : Nat) : Nat → Nat → PO := pEi τ e (pOne τ e)
