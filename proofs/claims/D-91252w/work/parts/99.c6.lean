/-! THE PLAIN LAW, 35: the model's pile of words against the grammar. Own work. -/
set_option maxRecDepth 100000
/-- behind's loop, g the word's weight -/
def BL (g : Int32) (v : St) : Nat × St := if 3 < (v.2.1 43 (((v.1 44) - 1).toNatClampNeg)) then (1, v) else (if (v.2.1 43 (((v.1 44) - 1).toNatClampNeg)) < g then (1, v) else (0, (fX3_step (fX3_bh2 v v) (fX3_bh3 v v) 0)))
theorem bl_eq (u : St) : lpX3_behind_30 u = BL (fX3_bh1 u) := by funext v; rfl
def bpost (g : Int32) (w : St) : Bool × St := if g ≤ 0 then (if (w.2.1 43 (((w.1 44) - 1).toNatClampNeg)) = 4 then (false, (fX3_must (si (si w 44 ((w.1 44) - 1)) 45 ((w.1 45) - 1)) (fX3_is (si (si w 44 ((w.1 44) - 1)) 45 ((w.1 45) - 1)) 41))) else (false, (si w 44 ((w.1 44) - 1)))) else (true, (fX3_next (fX3_pile w g)))
theorem bp_eq (u : St) : fX3_behind u = bpost (fX3_bh1 u) (fX3_bh4 u) := rfl
def EndP {S : Type} (F : S → Nat × S) (a : S) (Q : Nat × S → Prop) : Prop := ∃ r, Ends F a r ∧ Q r
theorem EndP.go {S : Type} {F : S → Nat × S} {a a' : S} {Q : Nat × S → Prop} (h : F a = (0, a')) (h2 : EndP F a' Q) : EndP F a Q := by
  obtain ⟨r, h3, h4⟩ := h2
  exact ⟨r, Ends.go h h3, h4⟩
/-- what follows behind a test -/
def ER (u0 : St) (g : Int32) (v : St) (r : Nat × St × Int32 → Prop) : Prop := ∃ v', Ends (BL g) v (1, v') ∧ EndP (lpX3_e_17 u0) ((bpost g v').2, b2 (bpost g v').1) r
section BH
variable {v0 v w u0 : St} {b : Nat} {τ : Tp} {p tm d : Nat} {o : Int} {K : List (Int32 × Int32)} {σ : List Int32}
theorem AT.tp {t : Int32} (h : AT v0 b τ v p tm K (t :: σ) d o) (hl : σ.length < 100) : v.2.1 43 ((v.1 44 - 1).toNatClampNeg) = t ∧ v.1 44 - 1 = nI σ.length := by
  obtain ⟨e1, e2⟩ := h.2.2.2.2.2.2.1
  have e : v.1 44 - 1 = nI σ.length := by rw [e1, n_m1 (by rw [List.length_cons]; omega) (by rw [List.length_cons]; omega), List.length_cons]; rfl
  refine ⟨?_, e⟩
  rw [e, nN (by omega)]; exact e2.1
theorem AT.po {t : Int32} (h : AT v0 b τ v p tm K (t :: σ) d o) (hl : σ.length < 100) : AT v0 b τ (si v 44 (v.1 44 - 1)) p tm K σ d (o + if t ≤ 3 then 1 else 0) := by
  have h9 : (K.length : Int) + ((pend σ + (if t ≤ 3 then 1 else 0) : Nat) : Int) + o ≤ (p : Int) := h.2.2.2.2.2.2.2.2.1
  refine h.fr _ (fun k a _ => by rw [si_1, if_neg a]) (fun _ _ => rfl) rfl (by rw [si_1, if_pos rfl]; exact (h.tp hl).2) h.2.2.2.2.2.2.1.2.2 (by rw [si_1, if_neg (by decide)]; exact h.2.2.2.2.2.2.2.1) ?_
  by_cases c : t ≤ 3
  · rw [if_pos c] at h9 ⊢; omega
  · rw [if_neg c] at h9 ⊢; omega
theorem AT.ud (h : AT v0 b τ v p tm K σ d o) (hd : 1 ≤ d) (hd2 : d < 100) : AT v0 b τ (si v 45 (v.1 45 - 1)) p tm K σ (d - 1) o :=
  h.fr _ (fun k _ a => by rw [si_1, if_neg a]) (fun _ _ => rfl) rfl (by rw [si_1, if_neg (by decide)]; exact h.2.2.2.2.2.2.1.1) h.2.2.2.2.2.2.1.2 (by rw [si_1, if_pos rfl, h.2.2.2.2.2.2.2.1, n_m1 hd (by omega)]) h.2.2.2.2.2.2.2.2.1
def opT (t : Int32) : Int32 := if t = 3 then 126 else (if t = 2 then 38 else 124)
/-- off the pile, into the code -/
theorem AT.rd {t : Int32} (h : AT v0 b τ v p tm K (t :: σ) d o) (ho : 0 ≤ o) (hl : σ.length < 100) (h3 : t ≤ 3) (hd : t = 3 → 1 ≤ d) (hd2 : d < 100) : okX3_step (fX3_bh2 v v) (fX3_bh3 v v) 0 ∧ vp_in ((fX3_bh2 v v).1 44) 100 ∧ (fX3_bh2 v v).1 44 = nI σ.length ∧ AT v0 b τ (fX3_step (fX3_bh2 v v) (fX3_bh3 v v) 0) p tm ((opT t, 0) :: K) σ (if t = 3 then d - 1 else d) o := by
  obtain ⟨e1, e2⟩ := h.tp hl
  have g := h.po hl
  rw [if_pos h3] at g
  have gb : AT v0 b τ (fX3_bh2 v v) p tm K σ (if t = 3 then d - 1 else d) (o + 1) := by
    unfold fX3_bh2
    rw [e1]
    by_cases c : t = 3
    · rw [if_pos c, if_pos c]; exact g.ud (hd c) hd2
    · rw [if_neg c, if_neg c]; exact g
  have e43 : (fX3_bh2 v v).2.1 43 (((fX3_bh2 v v).1 44).toNatClampNeg) = t := by
    have x1 : (fX3_bh2 v v).1 44 = nI σ.length := gb.2.2.2.2.2.2.1.1
    have x2 : (fX3_bh2 v v).2.1 = v.2.1 := by unfold fX3_bh2; split <;> rfl
    rw [x1, nN (by omega), x2]
    exact h.2.2.2.2.2.2.1.2.1
  have eop : fX3_bh3 v v = opT t := by unfold fX3_bh3 opT; rw [e43]
  rw [eop]
  obtain ⟨s1, s2⟩ := gb.st (gb.len (by omega)) (opT t, 0)
  rw [show o + 1 - 1 = o by omega] at s2
  have x1 : (fX3_bh2 v v).1 44 = nI σ.length := gb.2.2.2.2.2.2.1.1
  exact ⟨s1, by rw [x1, vp_in_iff, nI_i (by omega)]; omega, x1, s2⟩
theorem ER.red {t g : Int32} {r : Nat × St × Int32 → Prop} (h : AT v0 b τ v p tm K (t :: σ) d o) (ho : 0 ≤ o) (hl : σ.length < 100) (h3 : t ≤ 3) (hg : g ≤ t) (hd : t = 3 → 1 ≤ d) (hd2 : d < 100) (k : ∀ v1, AT v0 b τ v1 p tm ((opT t, 0) :: K) σ (if t = 3 then d - 1 else d) o → ER u0 g v1 r) : ER u0 g v r := by
  obtain ⟨s1, s2, -, s3⟩ := h.rd ho hl h3 hd hd2
  obtain ⟨v', k1, k2⟩ := k _ s3
  refine ⟨v', Ends.go ?_ k1, k2⟩
  unfold BL
  rw [(h.tp hl).1, if_neg (by rw [t_lt]; rw [t_le] at h3; omega), if_neg (by rw [t_lt]; rw [t_le] at hg; omega)]
theorem bl_stop {t g : Int32} (h : AT v0 b τ v p tm K (t :: σ) d o) (hl : σ.length < 100) (hs : ¬ t ≤ 3 ∨ t < g) : BL g v = (1, v) := by
  unfold BL
  rw [(h.tp hl).1]
  rcases hs with y | y
  · rw [if_pos (by rw [t_lt]; rw [t_le] at y; omega)]
  · by_cases c : 3 < t
    · rw [if_pos c]
    · rw [if_neg c, if_pos y]
theorem ER.push {t g : Int32} {r : Nat × St × Int32 → Prop} (h : AT v0 b τ v p tm K (t :: σ) d o) (hl : σ.length < 50) (hs : ¬ t ≤ 3 ∨ t < g) (hg : g = 1 ∨ g = 2) (h0 : ¬ ts τ p = 0) (h3 : ¬ ts τ p = 3) (k : ∀ v1, AT v0 b τ v1 (te τ p) tm K (g :: t :: σ) d o → EndP (lpX3_e_17 u0) (v1, 1) r) : ER u0 g v r := by
  refine ⟨v, Ends.now (bl_stop h (by omega) hs) Nat.one_ne_zero, ?_⟩
  have hg3 : g ≤ 3 := by rcases hg with e | e <;> subst e <;> decide
  have e : bpost g v = (true, fX3_next (fX3_pile v g)) := by
    unfold bpost
    rw [if_neg (by rcases hg with e | e <;> subst e <;> decide)]
  rw [e]
  have g1 := (h.pu (by rw [List.length_cons]; omega) g).2
  rw [if_pos hg3] at g1
  have g2 := (g1.nx h0 h3).2
  rw [show o - 1 + 1 = o by omega] at g2
  exact k _ g2
theorem e_bad {wt : Int32} {q : Int32 × Nat} {r : Nat × St × Int32 → Prop} (h : BD v0 b w q) (hr : r (1, w, wt)) : EndP (lpX3_e_17 u0) (w, wt) r := by
  refine ⟨_, Ends.now ?_ Nat.one_ne_zero, hr⟩
  unfold lpX3_e_17
  dsimp only
  rw [if_neg (bad_g h)]
theorem e_want {t : Int32} (h : AT v0 b τ v p tm K (t :: σ) d o) (hl : σ.length < 100) : lpX3_e_17 u0 (v, 1) = (0, (fX3_one v).2, b2 ((fX3_one v).1)) := by
  unfold lpX3_e_17
  dsimp only
  rw [if_pos h.gd, if_neg (by rw [h.2.2.2.2.2.2.1.1, List.length_cons, t_le, nI_i (by omega), k_0]; omega), if_neg (by decide)]
theorem e_behind {t : Int32} (h : AT v0 b τ v p tm K (t :: σ) d o) (hl : σ.length < 100) : lpX3_e_17 u0 (v, 0) = (0, (fX3_behind v).2, b2 ((fX3_behind v).1)) := by
  unfold lpX3_e_17
  dsimp only
  rw [if_pos h.gd, if_neg (by rw [h.2.2.2.2.2.2.1.1, List.length_cons, t_le, nI_i (by omega), k_0]; omega), if_pos rfl]
/-- where behind's loop may stand -/
def IB (v0 : St) (b : Nat) (τ : Tp) (p tm D : Nat) (x : St) : Prop := ∃ K σ d, AT v0 b τ x p tm K σ d 0 ∧ PI σ d ∧ d ≤ D
theorem ib_step {g : Int32} {D : Nat} (hD : D ≤ 6) : ∀ x, IB v0 b τ p tm D x → (BL g x).1 = 0 → IB v0 b τ p tm D (BL g x).2 ∧ ((BL g x).2.1 44).toNatClampNeg < (x.1 44).toNatClampNeg := by
  rintro x ⟨K, σ, d, h, hP, hd⟩
  have hl := hP.l60 (by omega)
  cases σ with
  | nil => exact absurd hP id
  | cons t σ =>
    rw [List.length_cons] at hl
    unfold BL
    rw [(h.tp (by omega)).1]
    by_cases c : 3 < t
    · rw [if_pos c]; intro y; cases y
    · rw [if_neg c]
      by_cases c2 : t < g
      · rw [if_pos c2]; intro y; cases y
      · rw [if_neg c2]
        intro _
        rcases hP with ⟨a, -⟩ | ⟨a, b1, c1⟩ | ⟨a, b1, c1⟩ | ⟨a, b1, c1⟩
        · subst a; exact absurd (by decide) c
        · rcases a with a | a
          · subst a; exact absurd (by decide) c
          · subst a
            obtain ⟨-, -, -, s⟩ := h.rd (by omega) (by omega) (by decide) (fun _ => b1) (by omega)
            rw [if_pos rfl] at s
            refine ⟨⟨_, _, _, s, c1, by omega⟩, ?_⟩
            rw [s.2.2.2.2.2.2.1.1, h.2.2.2.2.2.2.1.1, List.length_cons, nN (by omega), nN (by omega)]; omega
        · subst a
          obtain ⟨-, -, -, s⟩ := h.rd (by omega) (by omega) (by decide) (fun z => absurd z (by decide)) (by omega)
          rw [if_neg (by decide)] at s
          refine ⟨⟨_, _, _, s, b1, hd⟩, ?_⟩
          rw [s.2.2.2.2.2.2.1.1, h.2.2.2.2.2.2.1.1, List.length_cons, nN (by omega), nN (by omega)]; omega
        · subst a
          obtain ⟨-, -, -, s⟩ := h.rd (by omega) (by omega) (by decide) (fun z => absurd z (by decide)) (by omega)
          rw [if_neg (by decide)] at s
          refine ⟨⟨_, _, _, s, b1, hd⟩, ?_⟩
          rw [s.2.2.2.2.2.2.1.1, h.2.2.2.2.2.2.1.1, List.length_cons, nN (by omega), nN (by omega)]; omega
theorem AT.ib (h : AT v0 b τ v p tm K σ d o) (ho : 0 ≤ o) (hP : PI σ d) (hd : d ≤ 6) : IB v0 b τ p tm d v ∧ (v.1 44).toNatClampNeg < 61 := by
  have hl := hP.l60 hd
  refine ⟨⟨K, σ, d, h.lo ho, hP, Nat.le_refl _⟩, ?_⟩
  rw [h.2.2.2.2.2.2.1.1, nN (by omega)]; omega
/-- behind, where its loop ends -/
theorem bh_run (h : AT v0 b τ v p tm K σ d o) (ho : 0 ≤ o) (hP : PI σ d) (hd : d ≤ 6) : ∃ x, IB v0 b τ p tm d x ∧ BL (bw τ p) x = (1, x) ∧ fX3_bh4 v = x ∧ ¬ (wh (BL (bw τ p)) 61 v).1 = 0 := by
  obtain ⟨i1, i2⟩ := h.ib ho hP hd
  obtain ⟨x, k1, k2, k3⟩ := wh_run (BL (bw τ p)) (IB v0 b τ p tm d) (fun x => (x.1 44).toNatClampNeg) (fun a ha hz => ib_step hd a ha hz) 61 v i1 i2
  have e : BL (bw τ p) x = (1, x) := by
    revert k2
    unfold BL
    split
    · intro _; rfl
    · split
      · intro _; rfl
      · intro y; exact absurd rfl y
  refine ⟨x, k1, e, ?_, by rw [k3]; exact k2⟩
  unfold fX3_bh4 lpX3_behind_30_r
  rw [bl_eq, h.bw, k3, e]
theorem ER.in {t : Int32} {r : Nat × St × Int32 → Prop} (h : AT v0 b τ v p tm K (t :: σ) d o) (ho : 0 ≤ o) (hP : PI (t :: σ) d) (hd : d ≤ 6) (k : ER u0 (bw τ p) v r) : EndP (lpX3_e_17 u0) (v, 0) r := by
  have hl := hP.l60 hd
  rw [List.length_cons] at hl
  obtain ⟨x, k1, k2, k3, k4⟩ := bh_run h ho hP hd
  obtain ⟨v', e1, e2⟩ := k
  have e3 := e1.eq k4
  have e4 : fX3_bh4 v = v' := by
    unfold fX3_bh4 lpX3_behind_30_r
    rw [bl_eq, h.bw, e3]
  refine EndP.go (e_behind h (by omega)) ?_
  rw [bp_eq, h.bw, e4]
  exact e2
/-- a bracket's end -/
theorem ER.close {r : Nat × St × Int32 → Prop} (h : AT v0 b τ v p tm K ((4 : Int32) :: σ) d o) (hl : σ.length < 50) (hd : 1 ≤ d) (hd2 : d < 100) (h41 : ts τ p = 41) (k : ∀ v1, AT v0 b τ v1 (te τ p) tm K σ (d - 1) o → EndP (lpX3_e_17 u0) (v1, 0) r) : ER u0 0 v r := by
  refine ⟨v, Ends.now (bl_stop h (by omega) (Or.inl (by decide))) Nat.one_ne_zero, ?_⟩
  have g := (h.po (by omega)).ud hd hd2
  have e45 : (si v 44 (v.1 44 - 1)).1 45 = v.1 45 := by rw [si_1, if_neg (by decide)]
  rw [e45] at g
  have e : bpost 0 v = (false, fX3_next (si (si v 44 (v.1 44 - 1)) 45 (v.1 45 - 1))) := by
    unfold bpost
    rw [if_pos (by decide), (h.tp (by omega)).1, if_pos rfl, is_3 g.2.1 g.2.2.1 (by decide), decide_eq_true h41]
    unfold fX3_must
    rw [if_pos g.gd, if_pos rfl]
  rw [e]
  exact k _ ((g.nx (by rw [h41]; decide) (by rw [h41]; decide)).2.lo (by rw [if_neg (by decide)]; omega))
theorem ER.opn (h : AT v0 b τ v p tm K ((4 : Int32) :: σ) d o) (hl : σ.length < 50) (hd : 1 ≤ d) (hd2 : d < 100) (h41 : ¬ ts τ p = 41) {r : Nat × St × Int32 → Prop} (hr : ∀ w wt, BD v0 b w (eKd τ p, ws τ p) → r (1, w, wt)) : ER u0 0 v r := by
  have g := (h.po (by omega)).ud hd hd2
  have e45 : (si v 44 (v.1 44 - 1)).1 45 = v.1 45 := by rw [si_1, if_neg (by decide)]
  rw [e45] at g
  have e : bpost 0 v = (false, fX3_wrong (si (si v 44 (v.1 44 - 1)) 45 (v.1 45 - 1))) := by
    unfold bpost
    rw [if_pos (by decide), (h.tp (by omega)).1, if_pos rfl, is_3 g.2.1 g.2.2.1 (by decide), decide_eq_false h41]
    unfold fX3_must
    rw [if_pos g.gd, if_neg (by decide)]
  refine ⟨v, Ends.now (bl_stop h (by omega) (Or.inl (by decide))) Nat.one_ne_zero, ?_⟩
  rw [e]
  exact e_bad g.wr (hr _ _ g.wr)
/-- the end -/
theorem ER.fin (h : AT v0 b τ v p tm K [(5 : Int32)] d o) {r : Nat × St × Int32 → Prop} (hr : ∀ w, AT v0 b τ w p tm K [] d o → r (1, w, 0)) : ER u0 0 v r := by
  have g := h.po (by decide)
  rw [if_neg (by decide)] at g
  have e : bpost 0 v = (false, si v 44 (v.1 44 - 1)) := by
    unfold bpost
    rw [if_pos (by decide), (h.tp (by decide)).1, if_neg (by decide)]
  refine ⟨v, Ends.now (bl_stop h (by decide) (Or.inl (by decide))) Nat.one_ne_zero, ?_⟩
  rw [e]
  refine ⟨_, Ends.now ?_ Nat.one_ne_zero, hr _ (g.lo (by omega))⟩
  unfold lpX3_e_17
  dsimp only
  rw [if_pos g.gd, if_pos (by rw [g.2.2.2.2.2.2.1.1]; decide)]; rfl
end BH
