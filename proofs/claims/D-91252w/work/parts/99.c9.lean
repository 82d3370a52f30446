/-! THE PLAIN LAW, 38: what reading a test asks; the model's e. Own work. -/
set_option maxRecDepth 100000
section EE
variable {v0 v u0 : St} {b : Nat} {τ : Tp} {p tm d : Nat} {o : Int} {K : List (Int32 × Int32)} {σ : List Int32}
theorem te_ws {τ : Tp} {p : Nat} (hp : p ≤ τ.1) (h0 : ¬ ts τ p = 0) (h3 : ¬ ts τ p = 3) : ws τ p < te τ p := by
  by_cases c0 : he τ (ws τ p) < 0
  · exact absurd (tk_end c0).1 h0
  · cases c1 : isLt (he τ (ws τ p)) with
    | true =>
      have h1 : 0 < tl τ p := by
        have := (rn_ge (τ := τ) (P := isLt) (p := ws τ p) (q := ws τ p) isLt_n (Nat.le_refl _) (by omega)).1 c1
        have e : rn τ isLt (ws τ p) = tl τ p := rfl
        omega
      by_cases c2 : 8 < tl τ p
      · exact absurd (tk_w3 c0 c1 c2).1 h3
      · rw [(tk_w c0 c1 c2).2]; omega
    | false =>
      cases c2 : isDg (he τ (ws τ p)) with
      | true =>
        have h1 : 0 < dn τ p := by
          have := (rn_ge (τ := τ) (P := isDg) (p := ws τ p) (q := ws τ p) isDg_n (Nat.le_refl _) (by omega)).1 c2
          have e : rn τ isDg (ws τ p) = dn τ p := rfl
          omega
        by_cases c4 : 7 < dn τ p ∨ isLt (he τ (ws τ p + dn τ p)) = true
        · exact absurd (tk_n3 c0 c1 c2 c4).1 h3
        · rw [(tk_n c0 c1 c2 c4).2]; omega
      | false =>
        cases c4 : isSg (he τ (ws τ p)) with
        | true => rw [(tk_s c0 c1 c2 c4).2]; omega
        | false => exact absurd (tk_b c0 c1 c2 c4).1 h3
theorem ws_ge {p : Nat} : p ≤ ws τ p := by unfold ws; omega
theorem pT_p {q : Sm × Nat × Nat} (h : (pTerm τ p tm).1 = .ok q) : q.2.1 = te τ p ∧ ¬ ts τ p = 0 ∧ ¬ ts τ p = 3 := by
  by_cases c : isTm τ p = true ∧ ¬ tm = 80
  · rw [pT_ok c.1 c.2] at h
    cases h
    refine ⟨rfl, ?_⟩
    by_cases z : ts τ p = 2
    · rw [z]; decide
    · rw [(isTm_w c.1 z).1]; decide
  · rw [pT_err c] at h; cases h
theorem sumL_p : ∀ (k : Nat) (f : Sm) (p tm ca sa : Nat) (q : Sm × Nat × Nat), (sumL τ k f p tm ca sa).1 = .ok q → p ≤ q.2.1
  | 0, f, p, tm, ca, sa, q, e => by cases e; exact Nat.le_refl _
  | k + 1, f, p, tm, ca, sa, q, e => by
    rw [sumL] at e
    split at e
    · cases hpt : (pTerm τ (te τ p) tm).1 with
      | error q2 => rw [hpt] at e; cases e
      | ok q2 =>
        rw [hpt] at e
        have h1 := (pT_p hpt).1
        have h2 := sumL_p k _ _ _ _ _ q e
        have h3 := te_ge (τ := τ) (p := p)
        have h4 := te_ge (τ := τ) (p := te τ p)
        omega
    · cases e; exact Nat.le_refl _
theorem pSum_p {q : Sm × Nat × Nat} (h : (pSum τ p tm).1 = .ok q) : te τ p ≤ q.2.1 ∧ ¬ ts τ p = 0 ∧ ¬ ts τ p = 3 := by
  unfold pSum at h
  cases hpt : (pTerm τ p tm).1 with
  | error q2 => rw [hpt] at h; cases h
  | ok q2 =>
    rw [hpt] at h
    have h1 := pT_p hpt
    have h2 := sumL_p _ _ _ _ _ _ q h
    exact ⟨by omega, h1.2⟩
theorem cmpR_p {q : Sm × Nat × Nat} (h : cmpR τ p tm = .ok q) : te τ p ≤ q.2.1 ∧ ¬ ts τ p = 0 ∧ ¬ ts τ p = 3 := by
  unfold cmpR at h
  cases hp : (pSum τ p tm).1 with
  | error q2 => rw [hp] at h; cases h
  | ok q2 =>
    rw [hp] at h
    have h1 := pSum_p hp
    dsimp only at h
    split at h
    · cases hp2 : (pSum τ (te τ q2.2.1) q2.2.2).1 with
      | error q3 => rw [hp2] at h; cases h
      | ok q3 =>
        rw [hp2] at h
        have h2 := pSum_p hp2
        cases h
        have h3 := te_ge (τ := τ) (p := q2.2.1)
        have h4 := te_ge (τ := τ) (p := te τ q2.2.1)
        exact ⟨by dsimp only; omega, h1.2⟩
    · cases h; exact h1
/-- where the model's loop may stand -/
def IE (v0 : St) (b : Nat) (τ : Tp) (x : St × Int32) : Prop := (∃ p tm K σ d, AT v0 b τ x.1 p tm K σ d 0 ∧ PI σ d ∧ d < 6) ∨ (∃ q, BD v0 b x.1 q) ∨ (∃ p tm K d, AT v0 b τ x.1 p tm K [] d 0)
def muE (x : St × Int32) : Nat := if x.1.1 25 = 0 ∧ ¬ x.1.1 44 ≤ 0 then 700 - (x.1.1 27).toNatClampNeg else 0
theorem AT.mu (h : AT v0 b τ v p tm K σ d o) (hP : PI σ d) (hd : d ≤ 6) (wt : Int32) : muE (v, wt) = 700 - ws τ p ∧ ws τ p ≤ 600 := by
  have hl := hP.l60 hd
  obtain ⟨s, ρ, rfl⟩ := pi_cons hP
  rw [List.length_cons] at hl
  have hw := ws_le (τ := τ) h.2.2.1.2.2.1
  have := h.pl
  unfold muE
  rw [if_pos ⟨h.1.1, by rw [h.2.2.2.2.2.2.1.1, List.length_cons, t_le, nI_i (by omega), k_0]; omega⟩, h.2.2.1.1, nN (by omega)]
  exact ⟨rfl, by omega⟩
theorem mu_bad {q : Int32 × Nat} {w : St} (h : BD v0 b w q) (wt : Int32) : muE (w, wt) = 0 := by
  unfold muE; rw [if_neg (fun z => h.2.2.1 (h.1.symm.trans z.1))]
theorem mu_nil (h : AT v0 b τ v p tm K [] d o) (wt : Int32) : muE (v, wt) = 0 := by
  unfold muE; rw [if_neg (fun z => z.2 (by rw [h.2.2.2.2.2.2.1.1]; decide))]
/-- one, of any kind -/
theorem one_all (h : AT v0 b τ v p tm K σ d 0) (hP : PI σ d) (hd : d < 6) : okX3_one v ∧ ∀ wt, IE v0 b τ ((fX3_one v).2, wt) ∧ muE ((fX3_one v).2, wt) < muE (v, wt) := by
  have hl := hP.l60 (by omega)
  obtain ⟨s, ρ, rfl⟩ := pi_cons hP
  have hmu := h.mu hP (by omega)
  have bad : ∀ q wt, BD v0 b (fX3_one v).2 q → IE v0 b τ ((fX3_one v).2, wt) ∧ muE ((fX3_one v).2, wt) < muE (v, wt) := fun q wt hb => ⟨Or.inr (Or.inl ⟨q, hb⟩), by rw [mu_bad hb, (hmu wt).1]; have := (hmu wt).2; omega⟩
  have push : ∀ t : Int32, ((ts τ p = 40 ∧ t = 4) ∨ (¬ ts τ p = 40 ∧ isW τ p 12 = true ∧ t = 3)) → okX3_one v ∧ ∀ wt, IE v0 b τ ((fX3_one v).2, wt) ∧ muE ((fX3_one v).2, wt) < muE (v, wt) := fun t ht => by
    obtain ⟨o1, -, o3⟩ := one_p h (by omega) (by omega) t ht
    refine ⟨o1, fun wt => ?_⟩
    by_cases c : d + 1 < 6
    · rw [if_pos c] at o3
      have hs : ¬ ts τ p = 0 ∧ ¬ ts τ p = 3 := by
        rcases ht with ⟨a, -⟩ | ⟨a, c, -⟩
        · rw [a]; decide
        · exact isW_ts c
      have hP2 : PI (t :: s :: ρ) (d + 1) := by
        rcases ht with ⟨-, a⟩ | ⟨-, -, a⟩
        · exact Or.inr (Or.inl ⟨Or.inl a, by omega, hP⟩)
        · exact Or.inr (Or.inl ⟨Or.inr a, by omega, hP⟩)
      refine ⟨Or.inl ⟨_, _, _, _, _, o3, hP2, c⟩, ?_⟩
      rw [(hmu wt).1, (o3.mu hP2 (by omega) wt).1]
      have := (hmu wt).2
      have h1 := te_ws h.2.2.1.2.2.1 hs.1 hs.2
      have h2 := ws_ge (τ := τ) (p := te τ p)
      omega
    · rw [if_neg c] at o3
      exact bad _ wt o3
  by_cases c2 : ts τ p = 40
  · exact push 4 (Or.inl ⟨c2, rfl⟩)
  · cases c1 : isW τ p 12 with
    | true => exact push 3 (Or.inr ⟨c2, c1, rfl⟩)
    | false =>
      obtain ⟨o1, o2, -⟩ := one_c h (by omega) (on1_f h c2 c1)
      refine ⟨o1, fun wt => ?_⟩
      cases hc : cmpR τ p tm with
      | error q => rw [hc] at o2; exact bad q wt o2
      | ok q =>
        rw [hc] at o2
        obtain ⟨K', r3, r4⟩ := o2
        obtain ⟨g1, g2, g3⟩ := cmpR_p hc
        refine ⟨Or.inl ⟨_, _, _, _, _, r3, hP, hd⟩, ?_⟩
        rw [(hmu wt).1, (r3.mu hP (by omega) wt).1]
        have := (hmu wt).2
        have h1 := te_ws h.2.2.1.2.2.1 g2 g3
        have h2 := ws_ge (τ := τ) (p := q.2.1)
        omega
theorem bw_w (h : ¬ bw τ p ≤ 0) : ¬ ts τ p = 0 ∧ ¬ ts τ p = 3 ∧ (bw τ p = 1 ∨ bw τ p = 2) := by
  unfold bw at h ⊢
  by_cases a : isW τ p 13 = true
  · rw [if_pos a]; exact ⟨(isW_ts a).1, (isW_ts a).2, Or.inr rfl⟩
  · rw [if_neg a] at h ⊢
    by_cases c : isW τ p 14 = true
    · rw [if_pos c]; exact ⟨(isW_ts c).1, (isW_ts c).2, Or.inl rfl⟩
    · rw [if_neg c] at h; exact absurd (by decide) h
theorem bh_all (h : AT v0 b τ v p tm K σ d 0) (hP : PI σ d) (hd : d < 6) : okX3_behind v ∧ ∀ wt, IE v0 b τ ((fX3_behind v).2, wt) ∧ muE ((fX3_behind v).2, wt) < muE (v, wt) := by
  have hmu := h.mu hP (by omega)
  obtain ⟨x, i1, i2, i3, i4⟩ := bh_run h (by omega) hP (by omega)
  have bad : ∀ w q wt, BD v0 b w q → IE v0 b τ (w, wt) ∧ muE (w, wt) < muE (v, wt) := fun w q wt hb => ⟨Or.inr (Or.inl ⟨q, hb⟩), by rw [mu_bad hb, (hmu wt).1]; have := (hmu wt).2; omega⟩
  obtain ⟨j1, j2⟩ := h.ib (by omega) hP (by omega)
  have ib60 : ∀ y, IB v0 b τ p tm d y → ∃ K t σ d', AT v0 b τ y p tm K (t :: σ) d' 0 ∧ PI (t :: σ) d' ∧ d' ≤ d ∧ σ.length ≤ 20 := by
    rintro y ⟨K, σ, d', a1, a2, a3⟩
    have hl := a2.l60 (by omega)
    obtain ⟨s, ρ, rfl⟩ := pi_cons a2
    rw [List.length_cons] at hl
    exact ⟨K, s, ρ, d', a1, a2, a3, by omega⟩
  obtain ⟨K', t, σ', d', x1, x2, x3, x4⟩ := ib60 x i1
  have etp := (x1.tp (by omega)).1
  have e441 := (x1.tp (by omega)).2
  have lok : LOK (lpX3_behind_30 v) 61 v (IB v0 b τ p tm d) := by
    rw [bl_eq, h.bw]
    exact ⟨j1, fun a ha hz => (ib_step (by omega) a ha hz).1, i4⟩
  have vp44 : ∀ y, IB v0 b τ p tm d y → vp_in (y.1 44 - 1) 60 := fun y hy => by
    obtain ⟨K, t, σ, d', a1, a2, a3, a4⟩ := ib60 y hy
    rw [(a1.tp (by omega)).2, vp_in_iff, nI_i (by omega)]; omega
  have rdn : ∀ y, IB v0 b τ p tm d y → ¬ (3 < (y.2.1 43 (((y.1 44) - 1).toNatClampNeg))) → okX3_step (fX3_bh2 y y) (fX3_bh3 y y) 0 ∧ vp_in ((fX3_bh2 y y).1 44) 60 := fun y hy z => by
    obtain ⟨K, t, σ, d', a1, a2, a3, a4⟩ := ib60 y hy
    rw [(a1.tp (by omega)).1] at z
    have h3 : t ≤ 3 := by rw [t_le]; rw [t_lt] at z; omega
    obtain ⟨s1, -, s3, s4⟩ := a1.rd (by omega) (by omega) h3 (fun e => by
      rcases a2 with ⟨a, -⟩ | ⟨a, b1, -⟩ | ⟨a, -⟩ | ⟨a, -⟩
      · rw [a] at e; exact absurd e (by decide)
      · exact b1
      · rw [a] at e; exact absurd e (by decide)
      · rw [a] at e; exact absurd e (by decide)) (by omega)
    exact ⟨s1, by rw [s3, vp_in_iff, nI_i (by omega)]; omega⟩
  by_cases cg : bw τ p ≤ 0
  · have bw0 : bw τ p = 0 := by
      unfold bw at cg ⊢
      by_cases a : isW τ p 13 = true
      · rw [if_pos a] at cg; exact absurd cg (by decide)
      · rw [if_neg a] at cg ⊢
        by_cases c : isW τ p 14 = true
        · rw [if_pos c] at cg; exact absurd cg (by decide)
        · rw [if_neg c]
    have t45 : ¬ t ≤ 3 := by
      intro z
      have := i2
      unfold BL at this
      rw [etp, if_neg (by rw [t_lt]; rw [t_le] at z; omega)] at this
      rcases x2 with ⟨a, -⟩ | ⟨a, -⟩ | ⟨a, -⟩ | ⟨a, -⟩
      · rw [a] at z; exact absurd z (by decide)
      · rcases a with a | a
        · rw [a] at z; exact absurd z (by decide)
        · rw [a, bw0, if_neg (by decide)] at this; cases this
      · rw [a, bw0, if_neg (by decide)] at this; cases this
      · rw [a, bw0, if_neg (by decide)] at this; cases this
    have cg' : fX3_bh1 v ≤ 0 := by rw [h.bw]; exact cg
    rcases x2 with ⟨a, a2, a3⟩ | ⟨a, a2, a3⟩ | ⟨a, -⟩ | ⟨a, -⟩
    · -- the ground
      subst a2 a3
      have g := x1.po (by decide)
      have h5 : ¬ ((fX3_bh4 v).2.1 43 ((((fX3_bh4 v).1 44) - 1).toNatClampNeg)) = 4 := by rw [i3, etp, a]; decide
      refine ⟨⟨IB v0 b τ p tm d, lok, vp44, fun y hy z _ => (rdn y hy z).2, fun y hy z _ => (rdn y hy z).1, fun _ => by rw [i3]; exact vp44 x i1, fun _ z => absurd z h5, fun _ z => absurd z h5, fun z => absurd cg' z, fun z => absurd cg' z⟩, fun wt => ?_⟩
      have e : (fX3_behind v).2 = si x 44 (x.1 44 - 1) := by
        unfold fX3_behind
        rw [if_pos cg', if_neg h5, i3]
      rw [e]
      refine ⟨Or.inr (Or.inr ⟨_, _, _, _, g.lo (by split <;> omega)⟩), ?_⟩
      rw [mu_nil g, (hmu wt).1]
      have := (hmu wt).2
      omega
    · have a4 : t = 4 := a.resolve_right (fun z => t45 (by rw [z]; decide))
      subst a4
      have h5 : ((fX3_bh4 v).2.1 43 ((((fX3_bh4 v).1 44) - 1).toNatClampNeg)) = 4 := by rw [i3, etp]
      have g := (x1.po (by omega)).ud a2 (by omega)
      have e45 : (si x 44 (x.1 44 - 1)).1 45 = x.1 45 := by rw [si_1, if_neg (by decide)]
      rw [e45] at g
      have ei : fX3_is (si (si x 44 (x.1 44 - 1)) 45 (x.1 45 - 1)) 41 = decide (ts τ p = 41) := is_3 g.2.1 g.2.2.1 (by decide)
      have okm : okX3_must (si (si x 44 (x.1 44 - 1)) 45 (x.1 45 - 1)) (fX3_is (si (si x 44 (x.1 44 - 1)) 45 (x.1 45 - 1)) 41) := fun _ z => by
        rw [ei] at z
        have := of_decide_eq_true z
        exact (g.nx (by rw [this]; decide) (by rw [this]; decide)).1
      refine ⟨⟨IB v0 b τ p tm d, lok, vp44, fun y hy z _ => (rdn y hy z).2, fun y hy z _ => (rdn y hy z).1, fun _ => by rw [i3]; exact vp44 x i1, fun _ _ => by rw [i3]; exact is_ok g.2.1 g.2.2.1 _, fun _ _ => by rw [i3]; exact okm, fun z => absurd cg' z, fun z => absurd cg' z⟩, fun wt => ?_⟩
      have e : (fX3_behind v).2 = fX3_must (si (si x 44 (x.1 44 - 1)) 45 (x.1 45 - 1)) (fX3_is (si (si x 44 (x.1 44 - 1)) 45 (x.1 45 - 1)) 41) := by
        unfold fX3_behind
        rw [if_pos cg', if_pos h5, i3]
      rw [e]
      unfold fX3_must
      rw [if_pos g.gd, ei]
      by_cases c : ts τ p = 41
      · rw [decide_eq_true c, if_pos rfl]
        have hs : ¬ ts τ p = 0 ∧ ¬ ts τ p = 3 := by rw [c]; decide
        have g2 := (g.nx hs.1 hs.2).2
        have g3 := g2.lo (o' := 0) (by split <;> omega)
        refine ⟨Or.inl ⟨_, _, _, _, _, g3, a3, by omega⟩, ?_⟩
        rw [(hmu wt).1, (g3.mu a3 (by omega) wt).1]
        have := (hmu wt).2
        have h1 := te_ws h.2.2.1.2.2.1 hs.1 hs.2
        have h2 := ws_ge (τ := τ) (p := te τ p)
        omega
      · rw [decide_eq_false c, if_neg (by decide)]
        exact bad _ _ wt g.wr
    · exact absurd (by rw [a]; decide) t45
    · exact absurd (by rw [a]; decide) t45
  · obtain ⟨w0, w3, w12⟩ := bw_w cg
    have cg' : ¬ fX3_bh1 v ≤ 0 := by rw [h.bw]; exact cg
    obtain ⟨g1, g2⟩ := x1.pu (by rw [List.length_cons]; omega) (bw τ p)
    have hg3 : bw τ p ≤ 3 := by rcases w12 with z | z <;> rw [z] <;> decide
    rw [if_pos hg3] at g2
    obtain ⟨g3, g4⟩ := g2.nx w0 w3
    refine ⟨⟨IB v0 b τ p tm d, lok, vp44, fun y hy z _ => (rdn y hy z).2, fun y hy z _ => (rdn y hy z).1, fun z => absurd z cg', fun z => absurd z cg', fun z => absurd z cg', fun _ => by rw [i3, h.bw]; exact g1, fun _ => by rw [i3, h.bw]; exact g3⟩, fun wt => ?_⟩
    have e : (fX3_behind v).2 = fX3_next (fX3_pile x (bw τ p)) := by
      unfold fX3_behind
      rw [if_neg cg', i3, h.bw]
    rw [e]
    have hP2 : PI (bw τ p :: t :: σ') d' := by
      have st := i2
      unfold BL at st
      rw [etp] at st
      rcases w12 with z | z
      · rw [z] at st ⊢
        refine Or.inr (Or.inr (Or.inl ⟨rfl, x2, ?_⟩))
        show 4 ≤ t.toInt
        by_cases c3 : 3 < t
        · rw [t_lt, show (3 : Int32).toInt = 3 from rfl] at c3; omega
        · rw [if_neg c3] at st
          rcases x2 with ⟨a, -⟩ | ⟨a, -⟩ | ⟨a, -⟩ | ⟨a, -⟩
          · rw [a]; decide
          · rcases a with a | a
            · rw [a]; decide
            · rw [a, if_neg (by decide)] at st; cases st
          · rw [a, if_neg (by decide)] at st; cases st
          · rw [a, if_neg (by decide)] at st; cases st
      · rw [z] at st ⊢
        refine Or.inr (Or.inr (Or.inr ⟨rfl, x2, ?_⟩))
        show t = 1 ∨ 4 ≤ t.toInt
        by_cases c3 : 3 < t
        · right; rw [t_lt, show (3 : Int32).toInt = 3 from rfl] at c3; omega
        · rw [if_neg c3] at st
          rcases x2 with ⟨a, -⟩ | ⟨a, -⟩ | ⟨a, -⟩ | ⟨a, -⟩
          · right; rw [a]; decide
          · rcases a with a | a
            · right; rw [a]; decide
            · rw [a, if_neg (by decide)] at st; cases st
          · left; exact a
          · rw [a, if_neg (by decide)] at st; cases st
    rw [show (0 : Int) - 1 + 1 = 0 by omega] at g4
    refine ⟨Or.inl ⟨_, _, _, _, _, g4, hP2, by omega⟩, ?_⟩
    rw [(hmu wt).1, (g4.mu hP2 (by omega) wt).1]
    have := (hmu wt).2
    have h1 := te_ws h.2.2.1.2.2.1 w0 w3
    have h2 := ws_ge (τ := τ) (p := te τ p)
    omega
theorem ie_step : ∀ x, IE v0 b τ x → (lpX3_e_17 u0 x).1 = 0 → IE v0 b τ (lpX3_e_17 u0 x).2 ∧ muE (lpX3_e_17 u0 x).2 < muE x := by
  rintro ⟨v, wt⟩ (⟨p, tm, K, σ, d, h, hP, hd⟩ | ⟨q, h⟩ | ⟨p, tm, K, d, h⟩)
  · have hl := hP.l60 (by omega)
    unfold lpX3_e_17
    dsimp only
    rw [if_pos h.gd]
    by_cases c : v.1 44 ≤ 0
    · rw [if_pos c]; intro y; cases y
    · rw [if_neg c]
      by_cases c2 : wt = 0
      · rw [if_pos c2]; intro _; exact (bh_all h hP hd).2 _
      · rw [if_neg c2]; intro _; exact (one_all h hP hd).2 _
  · unfold lpX3_e_17
    dsimp only
    rw [if_neg (bad_g h)]; intro y; cases y
  · unfold lpX3_e_17
    dsimp only
    rw [if_pos h.gd, if_pos (by rw [h.2.2.2.2.2.2.1.1]; decide)]; intro y; cases y
/-- where a test may begin: no pile yet -/
def AN (v0 : St) (b : Nat) (τ : Tp) (v : St) (p tm : Nat) (K : List (Int32 × Int32)) (o : Int) : Prop :=
  (v.1 25 = 0 ∧ v.1 26 = v0.1 26) ∧ TX v τ ∧ TK v τ p ∧ (v.1 42 = nI tm ∧ tm ≤ 80) ∧ (v.1 40 = nI b ∧ b < 2) ∧ (v.1 41 = nI K.length ∧ CDr (v.2.1 37) (v.2.1 38) (600 * b) K) ∧ (K.length : Int) + o ≤ (p : Int) ∧ FE v0 b v
theorem AN.at (h : AN v0 b τ v p tm K o) : AT v0 b τ (fX3_pile (si (si v 44 0) 45 0) 5) p tm K [(5 : Int32)] 0 o ∧ okX3_pile (si (si v 44 0) 45 0) 5 := by
  obtain ⟨h1, h2, h3, h4, h5, h6, h7, h8⟩ := h
  have e : ∀ k, ¬ k = 44 → ¬ k = 45 → (si (si v 44 0) 45 0).1 k = v.1 k := fun k a c => by rw [si_1, if_neg c, si_1, if_neg a]
  have g : AT v0 b τ (si (si v 44 0) 45 0) p tm K [] 0 o := by
    refine ⟨⟨by rw [e 25 (by decide) (by decide)]; exact h1.1, by rw [e 26 (by decide) (by decide)]; exact h1.2⟩, h2.of (e 24 (by decide) (by decide)) rfl, ⟨by rw [e 27 (by decide) (by decide)]; exact h3.1, fun z => by rw [e 28 (by decide) (by decide)]; exact h3.2.1 z, h3.2.2.1, by rw [e 29 (by decide) (by decide), e 30 (by decide) (by decide)]; exact h3.2.2.2⟩, ⟨by rw [e 42 (by decide) (by decide)]; exact h4.1, h4.2⟩, ⟨by rw [e 40 (by decide) (by decide)]; exact h5.1, h5.2⟩, ⟨by rw [e 41 (by decide) (by decide)]; exact h6.1, h6.2⟩, ⟨by rw [si_1, if_neg (by decide), si_1, if_pos rfl]; rfl, trivial⟩, by rw [si_1, if_pos rfl]; rfl, by show (K.length : Int) + ((0 : Nat) : Int) + o ≤ _; omega, (h8.si (by omega)).si (by omega)⟩
  obtain ⟨g1, g2⟩ := g.pu (by decide) 5
  exact ⟨g2.lo (by rw [if_neg (by decide)]; omega), g1⟩
theorem AT.an (h : AT v0 b τ v p tm K σ d o) : AN v0 b τ v p tm K o := by
  obtain ⟨h1, h2, h3, h4, h5, h6, h7, h8, h9, h10⟩ := h
  exact ⟨h1, h2, h3, h4, h5, h6, by omega, h10⟩
def rE (v0 : St) (b : Nat) (τ : Tp) (tm : Nat) (K : List (Int32 × Int32)) (o : Int) (w : St) (res : Except (Int32 × Nat) (Sm × Nat × Nat)) : Prop := match res with
  | .error q => BD v0 b w q
  | .ok q => ∃ K', AN v0 b τ w q.2.1 q.2.2 (K' ++ K) o ∧ CF K' q.1 (q.2.2 - tm)
theorem e3 (h : AN v0 b τ v p tm K o) (ho : 0 ≤ o) : okX3_e v ∧ rE v0 b τ tm K o (fX3_e v) (pEither τ 6 p tm).1 := by
  obtain ⟨g, gp⟩ := h.at
  have hP : PI [(5 : Int32)] 0 := Or.inl ⟨rfl, rfl, rfl⟩
  have i0 : IE v0 b τ (fX3_pile (si (si v 44 0) 45 0) 5, 1) := Or.inl ⟨_, _, _, _, _, g.lo ho, hP, by decide⟩
  have lok : LOK (lpX3_e_17 v) 4000 (fX3_pile (si (si v 44 0) 45 0) 5, 1) (IE v0 b τ) := LOK.of (μ := muE) i0 ie_step (by rw [(g.mu hP (by decide) 1).1]; omega)
  refine ⟨⟨IE v0 b τ, gp, lok, ?_, ?_⟩, ?_⟩
  · rintro x wt (⟨p, tm, K, σ, d, h, hP, hd⟩ | ⟨q, h⟩ | ⟨p, tm, K, d, h⟩) z1 z2 _
    · exact (bh_all h hP hd).1
    · exact absurd z1 (bad_g h)
    · replace h : AT v0 b τ x p tm K [] d 0 := h
      exact absurd (by rw [h.2.2.2.2.2.2.1.1]; decide) z2
  · rintro x wt (⟨p, tm, K, σ, d, h, hP, hd⟩ | ⟨q, h⟩ | ⟨p, tm, K, d, h⟩) z1 z2 _
    · exact (one_all h hP hd).1
    · exact absurd z1 (bad_g h)
    · replace h : AT v0 b τ x p tm K [] d 0 := h
      exact absurd (by rw [h.2.2.2.2.2.2.1.1]; decide) z2
  · obtain ⟨r, r1, r2⟩ := e_all (u0 := v) g ho
    have er := r1.eq lok.2.2
    unfold fX3_e lpX3_e_17_r
    rw [er]
    cases hp : (pEither τ 6 p tm).1 with
    | error q =>
      rw [hp] at r2
      obtain ⟨w, wt, e1, e2⟩ := r2
      rw [e1]; exact e2
    | ok q =>
      rw [hp] at r2
      obtain ⟨w, K', e1, e2, e3⟩ := r2
      rw [e1]; exact ⟨K', e2.an, e3⟩
end EE
