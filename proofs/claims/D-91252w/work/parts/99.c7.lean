/-! THE PLAIN LAW, 36: the grammar, read by the model's pile. Own work. -/
set_option maxRecDepth 100000
def jn (al : Bool) (n : Nat) (fs : Nat → Sm) : Sm := if n = 1 then fs 0 else joinS al n fs
theorem jn_z {al : Bool} {n : Nat} {fs : Nat → Sm} {v : Nat → Int32} (hn : 1 ≤ n) : (jn al n fs v = 0) ↔ (if al then (List.range n).all (fun k => !decide (fs k v = 0)) else (List.range n).any (fun k => !decide (fs k v = 0))) = false := by
  unfold jn
  by_cases c : n = 1
  · subst c
    rw [if_pos rfl]
    cases al <;> (by_cases z : fs 0 v = 0 <;> simp [z])
  · rw [if_neg c]
    unfold joinS
    exact b2_0
theorem jn_s {al : Bool} {n : Nat} {fs : Nat → Sm} {q : Sm} {v : Nat → Int32} (hn : 1 ≤ n) : jn al (n + 1) (updS fs n q) v = fX3_two (if al = true then 38 else 124) (jn al n fs v) (q v) := by
  have hz := jn_z (al := al) (fs := fs) (v := v) hn
  have e1 : ∀ k, k < n → updS fs n q k = fs k := fun k hk => by unfold updS; rw [if_neg (by omega)]
  have e2 : updS fs n q n = q := by unfold updS; rw [if_pos rfl]
  have ea : (List.range n).all (fun k => !decide (updS fs n q k v = 0)) = (List.range n).all (fun k => !decide (fs k v = 0)) := by
    apply Bool.eq_iff_iff.mpr
    simp only [List.all_eq_true, List.mem_range]
    exact ⟨fun h k hk => by rw [← e1 k hk]; exact h k hk, fun h k hk => by rw [e1 k hk]; exact h k hk⟩
  have eo : (List.range n).any (fun k => !decide (updS fs n q k v = 0)) = (List.range n).any (fun k => !decide (fs k v = 0)) := by
    apply Bool.eq_iff_iff.mpr
    simp only [List.any_eq_true, List.mem_range]
    exact ⟨fun ⟨k, hk, h⟩ => ⟨k, hk, by rw [← e1 k hk]; exact h⟩, fun ⟨k, hk, h⟩ => ⟨k, hk, by rw [e1 k hk]; exact h⟩⟩
  have el : jn al (n + 1) (updS fs n q) v = b2 (if al then (List.range n).all (fun k => !decide (fs k v = 0)) && !decide (q v = 0) else (List.range n).any (fun k => !decide (fs k v = 0)) || !decide (q v = 0)) := by
    unfold jn
    rw [if_neg (by omega)]
    unfold joinS
    rw [List.range_succ, List.all_append, List.any_append, ea, eo]
    simp only [List.all_cons, List.all_nil, List.any_cons, List.any_nil, Bool.and_true, Bool.or_false, e2]
  rw [el]
  cases al with
  | true =>
    rw [if_pos rfl, if_pos rfl] at *
    show _ = if jn true n fs v = 0 then (0 : Int32) else (if q v = 0 then 0 else 1)
    cases y : (List.range n).all (fun k => !decide (fs k v = 0)) with
    | false => rw [if_pos (hz.mpr y)]; rfl
    | true =>
      rw [if_neg (fun z => by rw [hz.mp z] at y; cases y)]
      by_cases z : q v = 0
      · rw [if_pos z, decide_eq_true z]; rfl
      · rw [if_neg z, decide_eq_false z]; rfl
  | false =>
    rw [if_neg (by decide), if_neg (by decide)] at *
    show _ = if jn false n fs v = 0 then (if q v = 0 then (0 : Int32) else 1) else 1
    cases y : (List.range n).any (fun k => !decide (fs k v = 0)) with
    | false =>
      rw [if_pos (hz.mpr y)]
      by_cases z : q v = 0
      · rw [if_pos z, decide_eq_true z]; rfl
      · rw [if_neg z, decide_eq_false z]; rfl
    | true =>
      rw [if_neg (fun z => by rw [hz.mp z] at y; cases y)]; rfl
section SM
variable {v0 u0 : St} {b : Nat} {τ : Tp}
def Wr (v0 : St) (b : Nat) (q : Int32 × Nat) : Nat × St × Int32 → Prop := fun r => ∃ w wt, r = (1, w, wt) ∧ BD v0 b w q
def SimR (v0 u0 : St) (b : Nat) (τ : Tp) (σ : List Int32) (d : Nat) (C : Nat → Prop) (v : St) (tm : Nat) (K : List (Int32 × Int32)) (o : Int) (res : Except (Int32 × Nat) (Sm × Nat × Nat)) : Prop := match res with
  | .error q => EndP (lpX3_e_17 u0) (v, 1) (Wr v0 b q)
  | .ok q => ∀ r, (∀ v' K', AT v0 b τ v' q.2.1 q.2.2 (K' ++ K) σ d o → CF K' q.1 (q.2.2 - tm) → C q.2.1 → ER u0 (bw τ q.2.1) v' r) → EndP (lpX3_e_17 u0) (v, 1) r
/-- the model reads what el reads -/
def Sim (v0 u0 : St) (b : Nat) (τ : Tp) (el : Nat → Nat → PO) (σ : List Int32) (d : Nat) (C : Nat → Prop) : Prop := ∀ (v : St) (p tm : Nat) (K : List (Int32 × Int32)) (o : Int), AT v0 b τ v p tm K σ d o → 0 ≤ o → SimR v0 u0 b τ σ d C v tm K o (el p tm).1
theorem isW_ts {p i : Nat} (h : isW τ p i = true) : ¬ ts τ p = 0 ∧ ¬ ts τ p = 3 := by
  unfold isW at h
  rw [Bool.and_eq_true] at h
  rw [of_decide_eq_true h.1]; decide
theorem lst_run {kw : Nat} {al : Bool} {el : Nat → Nat → PO} {s t : Int32} {ρ : List Int32} {d : Nat} {C : Nat → Prop} (h1 : Sim v0 u0 b τ el (t :: s :: ρ) d C) (hC : ∀ p, C p → isW τ p kw = true → bw τ p = t) (hr : ∀ p, C p → bw τ p ≤ t) (ht : t = 1 ∨ t = 2) (hs : ¬ s ≤ 3 ∨ s < t) (hop : opT t = if al = true then 38 else 124) (hρ : ρ.length < 48) (hd : d < 100) (helb : ∀ p tm q, tm ≤ 80 → (el p tm).1 = .ok q → tm ≤ q.2.2 ∧ tm < q.2.2) {K : List (Int32 × Int32)} {o : Int} (ho : 0 ≤ o) {tm0 : Nat} : ∀ (k n : Nat) (fs : Nat → Sm) (P tm : Nat) (v : St) (K' : List (Int32 × Int32)) (ca sa : Nat), 1 ≤ n → C P → AT v0 b τ v P tm (K' ++ K) (s :: ρ) d o → CF K' (jn al n fs) (tm - tm0) → tm0 ≤ tm → 81 ≤ tm + k →
    (match (lstL τ kw al el k n fs P tm ca sa).1 with
    | .error q => ER u0 (bw τ P) v (Wr v0 b q)
    | .ok q => ∀ r, (∀ v' K', AT v0 b τ v' q.2.1 q.2.2 (K' ++ K) (s :: ρ) d o → CF K' q.1 (q.2.2 - tm0) → (C q.2.1 ∧ isW τ q.2.1 kw = false) → ER u0 (bw τ q.2.1) v' r) → ER u0 (bw τ P) v r) := by
  intro k
  induction k with
  | zero => intro n fs P tm v K' ca sa _ _ h _ _ h81; have := h.2.2.2.1.2; omega
  | succ k ih =>
    intro n fs P tm v K' ca sa hn hCP h hK htm h81
    rw [lstL]
    cases c : isW τ P kw with
    | true =>
      rw [if_pos rfl]
      have ebw := hC P hCP c
      obtain ⟨z0, z3⟩ := isW_ts c
      have hg : bw τ P = 1 ∨ bw τ P = 2 := by rw [ebw]; exact ht
      have hpush : ∀ r, (∀ v1, AT v0 b τ v1 (te τ P) tm (K' ++ K) (t :: s :: ρ) d o → EndP (lpX3_e_17 u0) (v1, 1) r) → ER u0 (bw τ P) v r := fun r kk => by
        refine ER.push h (by omega) (by rw [ebw]; exact hs) hg z0 z3 (fun v1 g => ?_)
        rw [ebw] at g
        exact kk v1 g
      cases hel : (el (te τ P) tm).1 with
      | error q =>
        refine hpush _ (fun v1 g => ?_)
        have := h1 v1 (te τ P) tm _ o g ho
        rw [hel] at this
        exact this
      | ok q =>
        obtain ⟨b1, b2⟩ := helb _ _ _ h.2.2.2.1.2 hel
        have ht3 : t ≤ 3 := by rcases ht with e | e <;> subst e <;> decide
        have tn3 : ¬ t = 3 := by rcases ht with e | e <;> subst e <;> decide
        have cont : ∀ r, (∀ v2 K2, AT v0 b τ v2 q.2.1 q.2.2 (K2 ++ K) (s :: ρ) d o → CF K2 (jn al (n + 1) (updS fs n q.1)) (q.2.2 - tm0) → C q.2.1 → ER u0 (bw τ q.2.1) v2 r) → ER u0 (bw τ P) v r := fun r kk => by
          refine hpush r (fun v1 g => ?_)
          have := h1 v1 (te τ P) tm _ o g ho
          rw [hel] at this
          refine this r (fun v' K1 a1 a2 a3 => ?_)
          refine ER.red a1 ho (by rw [List.length_cons]; omega) ht3 (hr _ a3) (fun z => absurd z tn3) hd (fun v2 a4 => ?_)
          rw [if_neg tn3, show (opT t, (0 : Int32)) :: (K1 ++ (K' ++ K)) = ((opT t, (0 : Int32)) :: (K1 ++ K')) ++ K by rw [List.cons_append, List.append_assoc]] at a4
          refine kk v2 _ a4 ((CF.bi hK a2 ?_ (fun e => ?_)).w (by omega)) a3
          · rw [hop]; cases al <;> decide
          · rw [hop]; exact jn_s hn
        have hCq : ∀ v2 K2, AT v0 b τ v2 q.2.1 q.2.2 (K2 ++ K) (s :: ρ) d o → CF K2 (jn al (n + 1) (updS fs n q.1)) (q.2.2 - tm0) → C q.2.1 → _ := fun v2 K2 a1 a2 a3 => ih (n + 1) (updS fs n q.1) q.2.1 q.2.2 v2 K2 (ca + 4 + (el (te τ P) tm).2.1 + 1) (sa + 24 + (el (te τ P) tm).2.2 + capG n) (by omega) a3 a1 a2 (by omega) (by omega)
        dsimp only
        cases hL : (lstL τ kw al el k (n + 1) (updS fs n q.1) q.2.1 q.2.2 (ca + 4 + (el (te τ P) tm).2.1 + 1) (sa + 24 + (el (te τ P) tm).2.2 + capG n)).1 with
        | ok q2 =>
          intro r kk
          refine cont r (fun v2 K2 a1 a2 a3 => ?_)
          have := hCq v2 K2 a1 a2 a3
          rw [hL] at this
          exact this r kk
        | error q2 =>
          refine cont _ (fun v2 K2 a1 a2 a3 => ?_)
          have := hCq v2 K2 a1 a2 a3
          rw [hL] at this
          exact this
    | false =>
      rw [if_neg (by decide)]
      intro r kk
      exact kk v K' h hK ⟨hCP, c⟩
theorem simLst {kw : Nat} {al : Bool} {el : Nat → Nat → PO} {s t : Int32} {ρ : List Int32} {d : Nat} {C : Nat → Prop} (h0 : Sim v0 u0 b τ el (s :: ρ) d C) (h1 : Sim v0 u0 b τ el (t :: s :: ρ) d C) (hC : ∀ p, C p → isW τ p kw = true → bw τ p = t) (hr : ∀ p, C p → bw τ p ≤ t) (ht : t = 1 ∨ t = 2) (hs : ¬ s ≤ 3 ∨ s < t) (hop : opT t = if al = true then 38 else 124) (hρ : ρ.length < 48) (hd : d < 100) (helb : ∀ p tm q, tm ≤ 80 → (el p tm).1 = .ok q → tm ≤ q.2.2 ∧ tm < q.2.2) : Sim v0 u0 b τ (pLst τ kw al el) (s :: ρ) d (fun p => C p ∧ isW τ p kw = false) := by
  intro v p tm K o h ho
  have g := h0 v p tm K o h ho
  unfold pLst
  cases hel : (el p tm).1 with
  | error q => rw [hel] at g; exact g
  | ok q =>
    rw [hel] at g
    obtain ⟨b1, b2⟩ := helb _ _ _ h.2.2.2.1.2 hel
    dsimp only
    have run := fun v' K' (a1 : AT v0 b τ v' q.2.1 q.2.2 (K' ++ K) (s :: ρ) d o) (a2 : CF K' q.1 (q.2.2 - tm)) (a3 : C q.2.1) => lst_run (tm0 := tm) h1 hC hr ht hs hop hρ hd helb ho (81 - q.2.2) 1 (fun _ => q.1) q.2.1 q.2.2 v' K' (2 + (el p tm).2.1 + 1) (5 + (el p tm).2.2 + capG 0) (Nat.le_refl _) a3 a1 (by unfold jn; rw [if_pos rfl]; exact a2) b1 (by omega)
    cases hL : (lstL τ kw al el (81 - q.2.2) 1 (fun _ => q.1) q.2.1 q.2.2 (2 + (el p tm).2.1 + 1) (5 + (el p tm).2.2 + capG 0)).1 with
    | error q2 =>
      refine g _ (fun v' K' a1 a2 a3 => ?_)
      have := run v' K' a1 a2 a3
      rw [hL] at this
      exact this
    | ok q2 =>
      intro r kk
      refine g r (fun v' K' a1 a2 a3 => ?_)
      have := run v' K' a1 a2 a3
      rw [hL] at this
      exact this r kk
theorem pSum_no {p tm : Nat} (h : isTm τ p = false) : (pSum τ p tm).1 = eR τ p := by
  have e : (pTerm τ p tm).1 = eR τ p := pT_err (fun z => by rw [h] at z; cases z.1)
  unfold pSum
  rw [e]; rfl
theorem cmpR_no {p tm : Nat} (h : isTm τ p = false) : cmpR τ p tm = eR τ p := by
  unfold cmpR
  rw [pSum_no h]; rfl
theorem pOne_c {e p tm : Nat} (he : e < 6) (h1 : ¬ ts τ p = 40) (h2 : isW τ p 12 = false) : (pOne τ (e + 1) p tm).1 = cmpR τ p tm := by
  rw [pOne]
  cases hd : dpOk τ p (6 - (e + 1)) with
  | true =>
    rw [if_pos rfl, if_neg (by rw [h2]; decide), if_neg h1]
    unfold cmpR
    cases hp : (pSum τ p tm).1 with
    | error q => rfl
    | ok q =>
      dsimp only
      by_cases c : ts τ q.2.1 = 60 ∨ ts τ q.2.1 = 62 ∨ ts τ q.2.1 = 61
      · rw [if_pos c, if_pos c]
        cases hp2 : (pSum τ (te τ q.2.1) q.2.2).1 with
        | error q2 => rfl
        | ok q2 => rfl
      · rw [if_neg c, if_neg c]
  | false =>
    rw [if_neg (by decide)]
    unfold dpOk at hd
    rw [h2, decide_eq_false h1, decide_eq_true (show 6 - (e + 1) < 6 by omega), Bool.or_false, Bool.or_false, Bool.and_true] at hd
    rw [cmpR_no hd]
/-- a test that begins with no bracket and no 'not' -/
theorem sim_c {v : St} {p tm d : Nat} {K : List (Int32 × Int32)} {o : Int} {s : Int32} {ρ : List Int32} (h : AT v0 b τ v p tm K (s :: ρ) d o) (ho : 0 ≤ o) (hρ : ρ.length < 48) (hP : PI (s :: ρ) d) (hd : d ≤ 6) (h1 : ¬ ts τ p = 40) (h2 : isW τ p 12 = false) : SimR v0 u0 b τ (s :: ρ) d (fun _ => True) v tm K o (cmpR τ p tm) := by
  obtain ⟨-, r1, r2⟩ := one_c h ho (on1_f h h1 h2)
  have ew := e_want (u0 := u0) h (by omega)
  cases hc : cmpR τ p tm with
  | error q =>
    rw [hc] at r1
    exact EndP.go ew (e_bad r1 ⟨_, _, rfl, r1⟩)
  | ok q =>
    rw [hc] at r1
    obtain ⟨K', r3, r4⟩ := r1
    intro r kk
    refine EndP.go ew ?_
    rw [r2 r3.gd]
    exact ER.in r3 ho hP hd (kk _ K' r3 r4 trivial)
theorem pOne_b {e p tm : Nat} {q : Sm × Nat × Nat} (he : e ≤ 6) (ht : tm ≤ 80) (h : (pOne τ e p tm).1 = .ok q) : tm ≤ q.2.2 ∧ tm < q.2.2 := by
  have := pOne_tm e p tm q ht h
  omega
end SM
