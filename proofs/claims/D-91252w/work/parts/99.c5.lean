/-! THE PLAIN LAW, 34: one, behind: by what is on the pile. Own work. -/
set_option maxRecDepth 100000
def Ends {S : Type} (F : S → Nat × S) (a : S) (r : Nat × S) : Prop := ¬ r.1 = 0 ∧ ∃ n, wh F n a = r
theorem Ends.now {S : Type} {F : S → Nat × S} {a : S} {r : Nat × S} (h : F a = r) (h0 : ¬ r.1 = 0) : Ends F a r := ⟨h0, 1, by rw [wh_s, h, if_neg h0]⟩
theorem Ends.go {S : Type} {F : S → Nat × S} {a a' : S} {r : Nat × S} (h : F a = (0, a')) (h2 : Ends F a' r) : Ends F a r := by
  obtain ⟨h0, n, e⟩ := h2
  exact ⟨h0, n + 1, by rw [wh_s, h, if_pos rfl]; exact e⟩
theorem wh_more {S : Type} {F : S → Nat × S} : ∀ (n k : Nat) (a : S), ¬ (wh F n a).1 = 0 → wh F (n + k) a = wh F n a
  | 0, k, a, h => by rw [wh_0] at h; exact absurd rfl h
  | n + 1, k, a, h => by
    rw [wh_s] at h ⊢
    rw [show n + 1 + k = (n + k) + 1 by omega, wh_s]
    by_cases c : (F a).1 = 0
    · rw [if_pos c] at h ⊢; rw [if_pos c]; exact wh_more n k _ h
    · rw [if_neg c, if_neg c]
theorem Ends.eq {S : Type} {F : S → Nat × S} {a : S} {r : Nat × S} (h : Ends F a r) {m : Nat} (hm : ¬ (wh F m a).1 = 0) : wh F m a = r := by
  obtain ⟨h0, n, e⟩ := h
  have h1 : ¬ (wh F n a).1 = 0 := by rw [e]; exact h0
  rcases Nat.le_total n m with y | y
  · have := wh_more n (m - n) a h1
    rw [show n + (m - n) = m by omega] at this
    rw [this, e]
  · have := wh_more m (n - m) a hm
    rw [show m + (n - m) = n by omega] at this
    rw [← this, e]
def top (σ : List Int32) : Int32 := σ.headD 0
/-- what piles there may be, at depth d -/
def PI : List Int32 → Nat → Prop
  | [], _ => False
  | t :: r, d => (t = 5 ∧ r = [] ∧ d = 0) ∨ ((t = 4 ∨ t = 3) ∧ 1 ≤ d ∧ PI r (d - 1)) ∨ (t = 1 ∧ PI r d ∧ 4 ≤ (top r).toInt) ∨ (t = 2 ∧ PI r d ∧ (top r = 1 ∨ 4 ≤ (top r).toInt))
theorem PI.len : ∀ {σ : List Int32} {d : Nat}, PI σ d → σ.length ≤ 3 * d + (if 4 ≤ (top σ).toInt then 1 else if top σ = 1 then 2 else 3)
  | [], _, h => absurd h id
  | t :: r, d, h => by
    show r.length + 1 ≤ 3 * d + (if 4 ≤ t.toInt then 1 else if t = 1 then 2 else 3)
    rcases h with ⟨a, b, c⟩ | ⟨a, b, c⟩ | ⟨a, b, c⟩ | ⟨a, b, c⟩
    · subst b; rw [a, if_pos (by decide)]; simp
    · have := PI.len c
      have h3 : (if 4 ≤ (top r).toInt then 1 else if top r = 1 then 2 else 3) ≤ 3 := by split; omega; split <;> omega
      rcases a with a | a
      · rw [a, if_pos (by decide)]; omega
      · rw [a, if_neg (by decide), if_neg (by decide)]; omega
    · have := PI.len b
      rw [if_pos c] at this
      rw [a, if_neg (by decide), if_pos rfl]; omega
    · have := PI.len b
      have h3 : (if 4 ≤ (top r).toInt then 1 else if top r = 1 then 2 else 3) ≤ 2 := by
        rcases c with c | c
        · rw [c]; decide
        · rw [if_pos c]; omega
      rw [a, if_neg (by decide), if_neg (by decide)]; omega
theorem PI.l60 {σ : List Int32} {d : Nat} (h : PI σ d) (hd : d ≤ 6) : σ.length ≤ 21 := by
  have := h.len
  have h3 : (if 4 ≤ (top σ).toInt then 1 else if top σ = 1 then 2 else 3) ≤ 3 := by split; omega; split <;> omega
  omega
/-- a word's weight -/
def bw (τ : Tp) (p : Nat) : Int32 := if isW τ p 13 = true then 2 else if isW τ p 14 = true then 1 else 0
section ON
variable {v0 v w u0 : St} {b : Nat} {τ : Tp} {p tm d : Nat} {o : Int} {K : List (Int32 × Int32)} {σ : List Int32}
theorem AT.bw (h : AT v0 b τ v p tm K σ d o) : fX3_bh1 v = bw τ p := by
  have w1 : (6385252 : Int64) = wcn 13 := by decide +kernel
  have w2 : (28530 : Int64) = wcn 14 := by decide +kernel
  unfold fX3_bh1
  rw [w1, w2, isw_3 h.2.2.1 (by decide) (by decide), isw_3 h.2.2.1 (by decide) (by decide)]
  rfl
theorem AT.fr (h : AT v0 b τ v p tm K σ d o) {σ' : List Int32} {d' : Nat} {o' : Int} (w : St) (h1 : ∀ k, ¬ k = 44 → ¬ k = 45 → w.1 k = v.1 k) (h2 : ∀ k, ¬ k = 43 → w.2.1 k = v.2.1 k) (h3 : w.2.2 = v.2.2) (h4 : w.1 44 = nI σ'.length) (h5 : PLr (w.2.1 43) σ') (h6 : w.1 45 = nI d') (h7 : (K.length : Int) + (pend σ' : Int) + o' ≤ (p : Int)) : AT v0 b τ w p tm K σ' d' o' := by
  obtain ⟨a1, a2, a3, a4, a5, a6, a7, a8, a9, a10⟩ := h
  refine ⟨⟨by rw [h1 25 (by decide) (by decide)]; exact a1.1, by rw [h1 26 (by decide) (by decide)]; exact a1.2⟩, a2.of (h1 24 (by decide) (by decide)) (h2 22 (by decide)), ⟨by rw [h1 27 (by decide) (by decide)]; exact a3.1, fun z => by rw [h1 28 (by decide) (by decide)]; exact a3.2.1 z, a3.2.2.1, by rw [h1 29 (by decide) (by decide), h1 30 (by decide) (by decide), h3]; exact a3.2.2.2⟩, ⟨by rw [h1 42 (by decide) (by decide)]; exact a4.1, a4.2⟩, ⟨by rw [h1 40 (by decide) (by decide)]; exact a5.1, a5.2⟩, ⟨by rw [h1 41 (by decide) (by decide)]; exact a6.1, by rw [h2 37 (by decide), h2 38 (by decide)]; exact a6.2⟩, ⟨h4, h5⟩, h6, h7, ?_⟩
  refine ⟨fun k x1 x2 x3 x4 x5 => by rw [h1 k x4 x5]; exact a10.1 k x1 x2 x3 x4 x5, fun k x1 x2 x3 => by rw [h2 k x3]; exact a10.2.1 k x1 x2 x3, fun j hj => by rw [h2 37 (by decide), h2 38 (by decide)]; exact a10.2.2 j hj⟩
/-- onto the pile -/
theorem AT.pu (h : AT v0 b τ v p tm K σ d o) (hl : σ.length < 60) (t : Int32) : okX3_pile v t ∧ AT v0 b τ (fX3_pile v t) p tm K (t :: σ) d (o - if t ≤ 3 then 1 else 0) := by
  have h7 := h.2.2.2.2.2.2.1
  have h9 : (K.length : Int) + (pend σ : Int) + o ≤ (p : Int) := h.2.2.2.2.2.2.2.2.1
  have h8 := h.2.2.2.2.2.2.2.1
  unfold okX3_pile fX3_pile
  rw [h7.1, nN (by omega)]
  refine ⟨by rw [vp_in_iff, nI_i (by omega)]; omega, h.fr _ (fun k a _ => by rw [si_1, if_neg a]; rfl) (fun k a => by rw [si_2, sa_o a]) rfl (by rw [si_1, if_pos rfl, nI_1]; rfl) ⟨by rw [si_2, sa_s, upd_s], ?_⟩ (by rw [si_1, if_neg (by decide)]; exact h8) ?_⟩
  · refine h7.2.kept (fun j hj => ?_)
    rw [si_2, sa_s, upd_o (by omega)]
  · show (K.length : Int) + ((pend σ + (if t ≤ 3 then 1 else 0) : Nat) : Int) + _ ≤ _
    by_cases c : t ≤ 3
    · rw [if_pos c, if_pos c]; omega
    · rw [if_neg c, if_neg c]; omega
/-- one deeper -/
theorem AT.dp (h : AT v0 b τ v p tm K σ d o) : AT v0 b τ (si v 45 (v.1 45 + 1)) p tm K σ (d + 1) o :=
  h.fr _ (fun k _ a => by rw [si_1, if_neg a]) (fun _ _ => rfl) rfl (by rw [si_1, if_neg (by decide)]; exact h.2.2.2.2.2.2.1.1) h.2.2.2.2.2.2.1.2 (by rw [si_1, if_pos rfl, h.2.2.2.2.2.2.2.1, nI_1]) h.2.2.2.2.2.2.2.2.1
def cmpR (τ : Tp) (p tm : Nat) : Except (Int32 × Nat) (Sm × Nat × Nat) := match (pSum τ p tm).1 with
  | .error q => .error q
  | .ok q => if ts τ q.2.1 = 60 ∨ ts τ q.2.1 = 62 ∨ ts τ q.2.1 = 61 then
      (match (pSum τ (te τ q.2.1) q.2.2).1 with
      | .error q2 => .error q2
      | .ok q2 => .ok (fun v => bin (ts τ q.2.1) (q.1 v) (q2.1 v), q2.2))
    else .ok q
theorem cm_sg {P : Nat} (h : ts τ P = 60 ∨ ts τ P = 62 ∨ ts τ P = 61) : isSg (ts τ P) = true ∧ ¬ ts τ P = 0 ∧ ¬ ts τ P = 3 ∧ ¬ ts τ P = 126 ∧ ¬ ts τ P = 110 ∧ ¬ ts τ P = 116 := by
  rcases h with h | h | h <;> rw [h] <;> decide
theorem b2_if (c : Prop) [Decidable c] : (if c then (1 : Int32) else 0) = b2 (decide c) := by
  by_cases h : c
  · rw [if_pos h, decide_eq_true h]; rfl
  · rw [if_neg h, decide_eq_false h]; rfl
theorem cm_two {c a e : Int32} (h : c = 60 ∨ c = 62 ∨ c = 61) : bin c a e = fX3_two c a e := by
  rcases h with h | h | h <;> subst h
  · show b2 (decide (a < e)) = if e ≤ a then 0 else 1
    by_cases z : e ≤ a
    · rw [if_pos z, decide_eq_false (by rw [t_lt]; rw [t_le] at z; omega)]; rfl
    · rw [if_neg z, decide_eq_true (by rw [t_lt]; rw [t_le] at z; omega)]; rfl
  · show b2 (decide (e < a)) = if a ≤ e then 0 else 1
    by_cases z : a ≤ e
    · rw [if_pos z, decide_eq_false (by rw [t_lt]; rw [t_le] at z; omega)]; rfl
    · rw [if_neg z, decide_eq_true (by rw [t_lt]; rw [t_le] at z; omega)]; rfl
  · show b2 (decide (a = e)) = if a = e then 1 else 0
    rw [b2_if]
theorem on2_3 (h : AT v0 b τ v p tm K σ d o) : (if fX3_is v 60 = true then true else (if fX3_is v 62 = true then true else (if fX3_is v 61 = true then true else false))) = decide (ts τ p = 60 ∨ ts τ p = 62 ∨ ts τ p = 61) := by
  rw [is_3 h.2.1 h.2.2.1 (by decide), is_3 h.2.1 h.2.2.1 (by decide), is_3 h.2.1 h.2.2.1 (by decide)]
  by_cases a : ts τ p = 60
  · rw [decide_eq_true a, if_pos rfl, decide_eq_true (Or.inl a)]
  · rw [decide_eq_false a, if_neg (by decide)]
    by_cases c : ts τ p = 62
    · rw [decide_eq_true c, if_pos rfl, decide_eq_true (Or.inr (Or.inl c))]
    · rw [decide_eq_false c, if_neg (by decide)]
      by_cases e : ts τ p = 61
      · rw [decide_eq_true e, if_pos rfl, decide_eq_true (Or.inr (Or.inr e))]
      · rw [decide_eq_false e, if_neg (by decide), decide_eq_false (fun z => z.elim a (fun z => z.elim c e))]
/-- one, where no bracket and no 'not' is -/
theorem one_c (h : AT v0 b τ v p tm K σ d o) (ho : 0 ≤ o) (hn : fX3_on1 v = false) : okX3_one v ∧ RS3 v0 b τ tm K σ d o (fX3_one v).2 (cmpR τ p tm) ∧ (fX3_isGood (fX3_one v).2 = true → (fX3_one v).1 = false) := by
  obtain ⟨r1, r2⟩ := rS3 h ho
  have hnn : ¬ fX3_on1 v = true := by rw [hn]; decide
  unfold cmpR
  cases hp : (pSum τ p tm).1 with
  | error q =>
    rw [hp] at r2
    have hb : ¬ fX3_isGood (fX3_on4 v) = true := bad_g r2
    refine ⟨⟨is_ok h.2.1 h.2.2.1 _, fun z => absurd z hnn, fun z => absurd z hnn, fun _ => r1, fun _ z => absurd z hb, fun _ z => absurd z hb, fun _ z => absurd z hb, fun _ z => absurd z hb, fun _ z => absurd z hb, fun _ z => absurd z hb, fun _ z => absurd z hb⟩, ?_⟩
    unfold fX3_one
    rw [if_neg hnn, if_neg hb]
    exact ⟨r2, fun z => absurd z hb⟩
  | ok q =>
    rw [hp] at r2
    obtain ⟨K1, r3, r4⟩ := r2
    have hg : fX3_isGood (fX3_on4 v) = true := r3.gd
    have e2 : fX3_on2 v = decide (ts τ q.2.1 = 60 ∨ ts τ q.2.1 = 62 ∨ ts τ q.2.1 = 61) := by unfold fX3_on2; exact on2_3 r3
    have r3' : AT v0 b τ (fX3_on4 v) q.2.1 q.2.2 (K1 ++ K) σ d o := r3
    by_cases c : ts τ q.2.1 = 60 ∨ ts τ q.2.1 = 62 ∨ ts τ q.2.1 = 61
    · obtain ⟨s1, s2, s3, s4⟩ := cm_sg c
      obtain ⟨n1, n2⟩ := r3'.nx s2 s3
      obtain ⟨m1, m2⟩ := rS3 n2 (by omega)
      have e2t : fX3_on2 v = true := by rw [e2, decide_eq_true c]
      dsimp only
      rw [if_pos c]
      cases hp2 : (pSum τ (te τ q.2.1) q.2.2).1 with
      | error q2 =>
        rw [hp2] at m2
        have hb : ¬ fX3_isGood (fX3_readSum (fX3_on5 v)) = true := bad_g m2
        refine ⟨⟨is_ok h.2.1 h.2.2.1 _, fun z => absurd z hnn, fun z => absurd z hnn, fun _ => r1, fun _ _ => is_ok r3'.2.1 r3'.2.2.1 _, fun _ _ _ => sgv_ok r3'.2.1 r3'.2.2.1, fun _ _ _ => n1, fun _ _ _ => m1, fun _ _ _ z => absurd z hb, fun _ _ _ => is_ok r3'.2.1 r3'.2.2.1 _, fun _ _ _ _ => is_ok r3'.2.1 r3'.2.2.1 _⟩, ?_⟩
        unfold fX3_one
        rw [if_neg hnn, if_pos hg, if_pos e2t, if_neg hb]
        exact ⟨m2, fun z => absurd z hb⟩
      | ok q2 =>
        rw [hp2] at m2
        obtain ⟨K2, m3, m4⟩ := m2
        have hg2 : fX3_isGood (fX3_readSum (fX3_on5 v)) = true := m3.gd
        obtain ⟨t1, t2⟩ := m3.st (m3.len (by omega)) (fX3_sign (fX3_on4 v) ((fX3_on4 v).1 27), 0)
        refine ⟨⟨is_ok h.2.1 h.2.2.1 _, fun z => absurd z hnn, fun z => absurd z hnn, fun _ => r1, fun _ _ => is_ok r3'.2.1 r3'.2.2.1 _, fun _ _ _ => sgv_ok r3'.2.1 r3'.2.2.1, fun _ _ _ => n1, fun _ _ _ => m1, fun _ _ _ _ => t1, fun _ _ _ => is_ok r3'.2.1 r3'.2.2.1 _, fun _ _ _ _ => is_ok r3'.2.1 r3'.2.2.1 _⟩, ?_⟩
        unfold fX3_one
        rw [if_neg hnn, if_pos hg, if_pos e2t, if_pos hg2]
        refine ⟨?_, fun _ => rfl⟩
        rw [show o + 1 - 1 = o by omega, sg_v r3'.2.1 r3'.2.2.1 s1, show (ts τ q.2.1, (0 : Int32)) :: (K2 ++ (K1 ++ K)) = ((ts τ q.2.1, (0 : Int32)) :: (K2 ++ K1)) ++ K by rw [List.cons_append, List.append_assoc]] at t2
        refine ⟨(ts τ q.2.1, (0 : Int32)) :: (K2 ++ K1), by rw [sg_v r3'.2.1 r3'.2.2.1 s1]; exact t2, ?_⟩
        have b1 := pSum_tm h.2.2.2.1.2 hp
        have b2 := pSum_tm r3.2.2.2.1.2 hp2
        exact (CF.bi r4 m4 ⟨s4.1, s4.2.1, s4.2.2⟩ (fun e => cm_two c)).w (by dsimp only; omega)
    · have e2f : ¬ fX3_on2 v = true := by rw [e2, decide_eq_false c]; decide
      dsimp only
      rw [if_neg c]
      refine ⟨⟨is_ok h.2.1 h.2.2.1 _, fun z => absurd z hnn, fun z => absurd z hnn, fun _ => r1, fun _ _ => is_ok r3'.2.1 r3'.2.2.1 _, fun _ _ z => absurd z e2f, fun _ _ z => absurd z e2f, fun _ _ z => absurd z e2f, fun _ _ z => absurd z e2f, fun _ _ _ => is_ok r3'.2.1 r3'.2.2.1 _, fun _ _ _ _ => is_ok r3'.2.1 r3'.2.2.1 _⟩, ?_⟩
      unfold fX3_one
      rw [if_neg hnn, if_pos hg, if_neg e2f]
      exact ⟨⟨K1, r3, r4⟩, fun _ => rfl⟩
/-- one, at a bracket or a 'not' -/
theorem one_p (h : AT v0 b τ v p tm K σ d o) (hl : σ.length < 60) (hd : d < 100) (t : Int32) (ht : (ts τ p = 40 ∧ t = 4) ∨ (¬ ts τ p = 40 ∧ isW τ p 12 = true ∧ t = 3)) : okX3_one v ∧ (fX3_one v).1 = true ∧ (if d + 1 < 6 then AT v0 b τ (fX3_one v).2 (te τ p) tm K (t :: σ) (d + 1) o else BD v0 b (fX3_one v).2 (eKd τ (te τ p), ws τ (te τ p))) := by
  have w1 : (7237492 : Int64) = wcn 12 := by decide +kernel
  have e1 : fX3_is v 40 = decide (ts τ p = 40) := is_3 h.2.1 h.2.2.1 (by decide)
  have hn : fX3_on1 v = true := by
    unfold fX3_on1
    rw [w1, e1, isw_3 h.2.2.1 (by decide) (by decide)]
    rcases ht with ⟨a, -⟩ | ⟨a, c, -⟩
    · rw [decide_eq_true a, if_pos rfl]
    · rw [decide_eq_false a, if_neg (by decide), c, if_pos rfl]
  have et : (if fX3_is v 40 = true then (4 : Int32) else 3) = t := by
    rw [e1]
    rcases ht with ⟨a, c⟩ | ⟨a, -, c⟩
    · rw [decide_eq_true a, if_pos rfl, c]
    · rw [decide_eq_false a, if_neg (by decide), c]
  have hs : ¬ ts τ p = 0 ∧ ¬ ts τ p = 3 := by
    rcases ht with ⟨a, -⟩ | ⟨a, c, -⟩
    · rw [a]; decide
    · unfold isW at c
      rw [Bool.and_eq_true] at c
      rw [of_decide_eq_true c.1]; decide
  obtain ⟨g1, g2⟩ := h.pu hl t
  obtain ⟨g3, g4⟩ := g2.nx hs.1 hs.2
  have g5 : AT v0 b τ (fX3_on3 v) (te τ p) tm K (t :: σ) d o := by
    unfold fX3_on3
    rw [et]
    exact g4.lo (by split <;> omega)
  have hf : ¬ fX3_on1 v = false := by rw [hn]; decide
  refine ⟨⟨is_ok h.2.1 h.2.2.1 _, fun _ => by rw [et]; exact g1, fun _ => by rw [et]; exact g3, fun z => absurd z hf, fun z => absurd z hf, fun z => absurd z hf, fun z => absurd z hf, fun z => absurd z hf, fun z => absurd z hf, fun z => absurd z hf, fun z => absurd z hf⟩, ?_⟩
  have g6 := g5.dp
  have e45 : (fX3_on3 v).1 45 + 1 = nI (d + 1) := by rw [g5.2.2.2.2.2.2.2.1, nI_1]
  unfold fX3_one
  rw [if_pos hn]
  by_cases c : d + 1 < 6
  · rw [if_pos (by rw [e45, t_lt, nI_i (by omega), show (6 : Int32).toInt = 6 from rfl]; omega)]
    exact ⟨rfl, by rw [if_pos c]; exact g6⟩
  · rw [if_neg (by rw [e45, t_lt, nI_i (by omega), show (6 : Int32).toInt = 6 from rfl]; omega)]
    exact ⟨rfl, by rw [if_neg c]; exact g6.wr⟩
theorem on1_f (h : AT v0 b τ v p tm K σ d o) (h1 : ¬ ts τ p = 40) (h2 : isW τ p 12 = false) : fX3_on1 v = false := by
  have w1 : (7237492 : Int64) = wcn 12 := by decide +kernel
  unfold fX3_on1
  rw [w1, is_3 h.2.1 h.2.2.1 (by decide), isw_3 h.2.2.1 (by decide) (by decide), decide_eq_false h1, if_neg (by decide), h2, if_neg (by decide)]
end ON
