/-! THE PLAIN LAW, 32: the model's code; readTerm, readSum. Own work. -/
set_option maxRecDepth 100000
/-- one step of the code over a pile of values -/
def stp (ev : Nat → Int32) (x : Int32 × Int32) (s : List Int32) : Option (List Int32) :=
  if x.1 = 126 then (match s with | a :: r => some (b2 (decide (a = 0)) :: r) | [] => none)
  else if x.1 = 110 then some (x.2 :: s)
  else if x.1 = 116 then (if 0 ≤ x.2.toInt ∧ x.2.toInt < 9 then some (ev x.2.toNatClampNeg :: s) else none)
  else (match s with | b :: a :: r => some (fX3_two x.1 a b :: r) | _ => none)
/-- the code, its last step first -/
def evR (ev : Nat → Int32) (s : List Int32) : List (Int32 × Int32) → Option (List Int32)
  | [] => some s
  | x :: r => (evR ev s r).bind (stp ev x)
def psh : List (Int32 × Int32) → Nat
  | [] => 0
  | x :: r => psh r + (if x.1 = 110 ∨ x.1 = 116 then 1 else 0)
theorem evR_app {ev : Nat → Int32} {s : List Int32} {B : List (Int32 × Int32)} : ∀ A, evR ev s (A ++ B) = (evR ev s B).bind (fun s' => evR ev s' A)
  | [] => by rw [List.nil_append]; cases evR ev s B <;> rfl
  | x :: A => by
    rw [List.cons_append, evR, evR_app A]
    cases evR ev s B <;> rfl
theorem psh_app {B : List (Int32 × Int32)} : ∀ A, psh (A ++ B) = psh A + psh B
  | [] => by rw [List.nil_append, psh, Nat.zero_add]
  | x :: A => by rw [List.cons_append, psh, psh, psh_app A]; omega
/-- K computes f, with m values at most -/
def CF (K : List (Int32 × Int32)) (f : Sm) (m : Nat) : Prop := (∀ ev s, evR ev s K = some (f ev :: s)) ∧ psh K ≤ m
theorem CF.un {K : List (Int32 × Int32)} {f : Sm} {m : Nat} (h : CF K f m) : CF ((126, 0) :: K) (fun v => b2 (decide (f v = 0))) m := by
  refine ⟨fun ev s => ?_, ?_⟩
  · rw [evR, h.1]; rfl
  · rw [psh, if_neg (by decide)]; exact h.2
theorem CF.bi {K K' : List (Int32 × Int32)} {f g h : Sm} {m m' : Nat} {c : Int32} (h1 : CF K f m) (h2 : CF K' g m') (hc : ¬ c = 126 ∧ ¬ c = 110 ∧ ¬ c = 116) (he : ∀ v, h v = fX3_two c (f v) (g v)) : CF ((c, 0) :: (K' ++ K)) h (m + m') := by
  refine ⟨fun ev s => ?_, ?_⟩
  · rw [evR, evR_app, h1.1]
    show (evR ev (f ev :: s) K').bind _ = _
    rw [h2.1]
    show stp ev (c, 0) (g ev :: f ev :: s) = _
    unfold stp
    rw [if_neg hc.1, if_neg hc.2.1, if_neg hc.2.2, he ev]
  · rw [psh, if_neg (fun z => z.elim hc.2.1 hc.2.2), psh_app]
    have := h1.2; have := h2.2; omega
theorem CF.w {K : List (Int32 × Int32)} {f : Sm} {m m' : Nat} (h : CF K f m) (hm : m ≤ m') : CF K f m' := ⟨h.1, Nat.le_trans h.2 hm⟩
/-- code in two arrays -/
def CDr (f g : Nat → Int32) (off : Nat) : List (Int32 × Int32) → Prop
  | [] => True
  | x :: r => f (off + r.length) = x.1 ∧ g (off + r.length) = x.2 ∧ CDr f g off r
theorem CDr.kept {f g f' g' : Nat → Int32} {off : Nat} : ∀ {K : List (Int32 × Int32)}, CDr f g off K → (∀ j, j < off + K.length → f' j = f j ∧ g' j = g j) → CDr f' g' off K
  | [], _, _ => trivial
  | x :: r, h, e => ⟨by rw [(e _ (by rw [List.length_cons]; omega)).1]; exact h.1, by rw [(e _ (by rw [List.length_cons]; omega)).2]; exact h.2.1, CDr.kept h.2.2 (fun j hj => e j (by rw [List.length_cons]; omega))⟩
/-- a pile in an array -/
def PLr (a : Nat → Int32) : List Int32 → Prop
  | [] => True
  | t :: r => a r.length = t ∧ PLr a r
theorem PLr.kept {a a' : Nat → Int32} : ∀ {σ : List Int32}, PLr a σ → (∀ j, j < σ.length → a' j = a j) → PLr a' σ
  | [], _, _ => trivial
  | t :: r, h, e => ⟨by rw [e _ (by rw [List.length_cons]; omega)]; exact h.1, PLr.kept h.2 (fun j hj => e j (by rw [List.length_cons]; omega))⟩
def pend : List Int32 → Nat
  | [] => 0
  | t :: r => pend r + (if t ≤ 3 then 1 else 0)
/-- what reading a test leaves as it was -/
def FE (v0 : St) (b : Nat) (v : St) : Prop := (∀ k, ¬ (25 ≤ k ∧ k ≤ 30) → ¬ k = 41 → ¬ k = 42 → ¬ k = 44 → ¬ k = 45 → v.1 k = v0.1 k) ∧ (∀ k, ¬ k = 37 → ¬ k = 38 → ¬ k = 43 → v.2.1 k = v0.2.1 k) ∧ ∀ j, ¬ (600 * b ≤ j ∧ j < 600 * b + 600) → v.2.1 37 j = v0.2.1 37 j ∧ v.2.1 38 j = v0.2.1 38 j
theorem FE.rf {v0 : St} {b : Nat} : FE v0 b v0 := ⟨fun _ _ _ _ _ _ => rfl, fun _ _ _ _ => rfl, fun _ _ => ⟨rfl, rfl⟩⟩
theorem FE.fn {v0 v w : St} {b : Nat} (h : FE v0 b v) (hF : FN v w) : FE v0 b w := ⟨fun k a b c d e => by rw [hF.1 k (by omega)]; exact h.1 k a b c d e, fun k a b c => by rw [hF.2]; exact h.2.1 k a b c, fun j hj => by rw [hF.2]; exact h.2.2 j hj⟩
theorem FE.si {v0 v : St} {b k : Nat} {x : Int32} (h : FE v0 b v) (hk : (25 ≤ k ∧ k ≤ 30) ∨ k = 41 ∨ k = 42 ∨ k = 44 ∨ k = 45) : FE v0 b (si v k x) := ⟨fun j a c d e f => by rw [si_1, if_neg (by omega)]; exact h.1 j a c d e f, h.2.1, h.2.2⟩
/-- where reading a test stands: at the token p, tm terms read, code K, pile σ, depth d -/
def AT (v0 : St) (b : Nat) (τ : Tp) (v : St) (p tm : Nat) (K : List (Int32 × Int32)) (σ : List Int32) (d : Nat) (o : Int) : Prop :=
  (v.1 25 = 0 ∧ v.1 26 = v0.1 26) ∧ TX v τ ∧ TK v τ p ∧ (v.1 42 = nI tm ∧ tm ≤ 80) ∧ (v.1 40 = nI b ∧ b < 2) ∧ (v.1 41 = nI K.length ∧ CDr (v.2.1 37) (v.2.1 38) (600 * b) K) ∧ (v.1 44 = nI σ.length ∧ PLr (v.2.1 43) σ) ∧ v.1 45 = nI d ∧ (K.length : Int) + (pend σ : Int) + o ≤ (p : Int) ∧ FE v0 b v
/-- a fault -/
def BD (v0 : St) (b : Nat) (w : St) (q : Int32 × Nat) : Prop := w.1 25 = q.1 ∧ w.1 26 = nI q.2 ∧ ¬ q.1 = 0 ∧ FE v0 b w
section RT
variable {v0 v w : St} {b : Nat} {τ : Tp} {p tm d : Nat} {o : Int} {K : List (Int32 × Int32)} {σ : List Int32}
theorem AT.pl (h : AT v0 b τ v p tm K σ d o) : p ≤ 600 ∧ p ≤ τ.1 ∧ τ.1 ≤ 600 := ⟨Nat.le_trans h.2.2.1.2.2.1 h.2.1.2.1, h.2.2.1.2.2.1, h.2.1.2.1⟩
theorem AT.lo {o' : Int} (h : AT v0 b τ v p tm K σ d o) (ho : o' ≤ o) : AT v0 b τ v p tm K σ d o' := by
  obtain ⟨h1, h2, h3, h4, h5, h6, h7, h8, h9, h10⟩ := h
  exact ⟨h1, h2, h3, h4, h5, h6, h7, h8, by omega, h10⟩
theorem AT.gd (h : AT v0 b τ v p tm K σ d o) : fX3_isGood v = true := by unfold fX3_isGood; rw [if_pos h.1.1]
theorem bad_g {q : Int32 × Nat} (h : BD v0 b w q) : ¬ fX3_isGood w = true := by
  unfold fX3_isGood; rw [if_neg (by rw [h.1]; exact h.2.2.1)]; decide
/-- next, in a test -/
theorem AT.nx (h : AT v0 b τ v p tm K σ d o) (h0 : ¬ ts τ p = 0) (h3 : ¬ ts τ p = 3) : okX3_next v ∧ AT v0 b τ (fX3_next v) (te τ p) tm K σ d (o + 1) := by
  obtain ⟨h1, h2, h3', h4, h5, h6, h7, h8, h9, h10⟩ := h
  obtain ⟨g1, g2⟩ := te_gt h3'.2.2.1 h0 h3
  have e28 := h3'.2.1 h3
  obtain ⟨n1, n2⟩ := nx_3 h2 g2 e28
  refine ⟨nx_ok h2 g2 e28, ⟨by rw [n2.1 25 (by decide)]; exact h1.1, by rw [n2.1 26 (by decide)]; exact h1.2⟩, h2.of (n2.1 24 (by decide)) (by rw [n2.2]), n1, ⟨by rw [n2.1 42 (by decide)]; exact h4.1, h4.2⟩, ⟨by rw [n2.1 40 (by decide)]; exact h5.1, h5.2⟩, ⟨by rw [n2.1 41 (by decide)]; exact h6.1, by rw [n2.2]; exact h6.2⟩, ⟨by rw [n2.1 44 (by decide)]; exact h7.1, by rw [n2.2]; exact h7.2⟩, by rw [n2.1 45 (by decide)]; exact h8, by omega, h10.fn n2⟩
/-- a fault at the token -/
theorem AT.wr (h : AT v0 b τ v p tm K σ d o) : BD v0 b (fX3_wrong v) (eKd τ p, ws τ p) := by
  obtain ⟨h1, h2, h3, h4, h5, h6, h7, h8, h9, h10⟩ := h
  have hs := so_3 h3
  have ek : (if v.1 29 = 1 then (1 : Int32) else 2) = eKd τ p := by
    unfold eKd
    by_cases z : ts τ p = 3
    · rw [if_pos z, if_pos (hs.2.1.mpr z)]
    · rw [if_neg z, if_neg (fun y => z (hs.2.1.mp y))]
  unfold fX3_wrong fX3_fails
  rw [h1.1, if_pos (by decide), ek, h3.1]
  refine ⟨?_, ?_, ?_, (h10.si (by omega)).si (by omega)⟩
  · rw [si_1, if_neg (by decide), si_1, if_pos rfl]
  · rw [si_1, if_pos rfl]
  · show ¬ eKd τ p = 0
    unfold eKd; split <;> decide
/-- one step of code -/
theorem AT.st (h : AT v0 b τ v p tm K σ d o) (hK : K.length < 600) (x : Int32 × Int32) : okX3_step v x.1 x.2 ∧ AT v0 b τ (fX3_step v x.1 x.2) p tm (x :: K) σ d (o - 1) := by
  have hpl := h.pl
  obtain ⟨h1, h2, h3, h4, h5, h6, h7, h8, h9, h10⟩ := h
  have eix : 600 * v.1 40 + v.1 41 = nI (600 * b + K.length) := by
    rw [h5.1, h6.1]
    have hb := h5.2
    have e : (600 * nI b).toInt = 600 * (b : Int) := by
      rw [Int32.toInt_mul, nI_i (by omega), k_600]
      exact Int.bmod_eq_of_le (by omega) (by omega)
    rw [t_eq, t_add (by rw [e, nI_i (by omega)]; omega) (by rw [e, nI_i (by omega)]; omega), e, nI_i (by omega), nI_i (by omega)]; omega
  have hb := h5.2
  unfold okX3_step fX3_step
  rw [eix, nN (by omega)]
  refine ⟨by rw [vp_in_iff, nI_i (by omega)]; omega, ⟨?_, ?_⟩, ?_, ?_, ⟨?_, h4.2⟩, ⟨?_, h5.2⟩, ⟨?_, ?_, ?_, ?_⟩, ⟨?_, ?_⟩, ?_, ?_, ?_⟩
  · rw [si_1, if_neg (by decide)]; exact h1.1
  · rw [si_1, if_neg (by decide)]; exact h1.2
  · exact h2.of (by rw [si_1, if_neg (by decide)]; rfl) (by rw [si_2, sa_o (by decide), sa_o (by decide)])
  · exact ⟨by rw [si_1, if_neg (by decide)]; exact h3.1, fun z => by rw [si_1, if_neg (by decide)]; exact h3.2.1 z, h3.2.2.1, by
      have e : ∀ k, ¬ k = 41 → (si (sa (sa v 37 (600 * b + K.length) x.1) 38 (600 * b + K.length) x.2) 41 (v.1 41 + 1)).1 k = v.1 k := fun k hk => by rw [si_1, if_neg hk]; rfl
      rw [e 29 (by decide), e 30 (by decide)]
      exact h3.2.2.2⟩
  · rw [si_1, if_neg (by decide)]; exact h4.1
  · rw [si_1, if_neg (by decide)]; exact h5.1
  · rw [si_1, if_pos rfl, h6.1, nI_1, List.length_cons]
  · rw [si_2, sa_o (by decide), sa_s, upd_s]
  · rw [si_2, sa_s, upd_s]
  · refine h6.2.kept (fun j hj => ?_)
    rw [si_2, sa_s, sa_o (by decide), sa_s, upd_o (by omega), sa_o (by decide), upd_o (by omega)]
    exact ⟨rfl, rfl⟩
  · rw [si_1, if_neg (by decide)]; exact h7.1
  · rw [si_2, sa_o (by decide), sa_o (by decide)]; exact h7.2
  · rw [si_1, if_neg (by decide)]; exact h8
  · rw [List.length_cons]; omega
  · refine ⟨fun k a c e f g => ?_, fun k a c e => ?_, fun j hj => ?_⟩
    · rw [si_1, if_neg (by omega)]; exact h10.1 k a c e f g
    · rw [si_2, sa_o c, sa_o a]; exact h10.2.1 k a c e
    · rw [si_2, sa_s, sa_o (by decide), sa_s, upd_o (by omega), sa_o (by decide), upd_o (by omega)]
      exact h10.2.2 j hj
/-- counting a term -/
theorem AT.tmx (h : AT v0 b τ v p tm K σ d o) (ht : ¬ tm = 80) : AT v0 b τ (si v 42 (v.1 42 + 1)) p (tm + 1) K σ d o := by
  obtain ⟨h1, h2, h3, h4, h5, h6, h7, h8, h9, h10⟩ := h
  have e : ∀ k, ¬ k = 42 → (si v 42 (v.1 42 + 1)).1 k = v.1 k := fun k hk => by rw [si_1, if_neg hk]
  have h42 := h4.2
  refine ⟨⟨by rw [e 25 (by decide)]; exact h1.1, by rw [e 26 (by decide)]; exact h1.2⟩, h2.of (e 24 (by decide)) rfl, ⟨by rw [e 27 (by decide)]; exact h3.1, fun z => by rw [e 28 (by decide)]; exact h3.2.1 z, h3.2.2.1, by rw [e 29 (by decide), e 30 (by decide)]; exact h3.2.2.2⟩, ⟨by rw [si_1, if_pos rfl, h4.1, nI_1], by omega⟩, ⟨by rw [e 40 (by decide)]; exact h5.1, h5.2⟩, ⟨by rw [e 41 (by decide)]; exact h6.1, h6.2⟩, ⟨by rw [e 44 (by decide)]; exact h7.1, h7.2⟩, by rw [e 45 (by decide)]; exact h8, h9, h10.si (by omega)⟩
/-- what a method of reading does -/
def RS3 (v0 : St) (b : Nat) (τ : Tp) (tm : Nat) (K : List (Int32 × Int32)) (σ : List Int32) (d : Nat) (o : Int) (w : St) (r : Except (Int32 × Nat) (Sm × Nat × Nat)) : Prop := match r with
  | .error q => BD v0 b w q
  | .ok q => ∃ K', AT v0 b τ w q.2.1 q.2.2 (K' ++ K) σ d o ∧ CF K' q.1 (q.2.2 - tm)
theorem rT3 (h : AT v0 b τ v p tm K σ d o) (ho : 0 ≤ o) : okX3_readTerm v ∧ RS3 v0 b τ tm K σ d o (fX3_readTerm v) (pTerm τ p tm).1 := by
  have hk := h.2.2.1
  have hs := so_3 hk
  have ht := th_3 hk
  have h42 : v.1 42 = nI tm := h.2.2.2.1.1
  have htm := h.2.2.2.1.2
  have e80 : v.1 42 = 80 ↔ tm = 80 := by
    rw [h42, show (80 : Int32) = nI 80 from rfl]
    exact nI_eq (by omega) (by omega)
  have bad : fX3_rt1 v = fX3_wrong v → (pTerm τ p tm).1 = eR τ p → okX3_readTerm v ∧ RS3 v0 b τ tm K σ d o (fX3_readTerm v) (pTerm τ p tm).1 := fun e1 e2 => by
    have hg : ¬ fX3_isGood (fX3_rt1 v) = true := by rw [e1]; exact bad_g h.wr
    refine ⟨⟨fun z => absurd z hg, fun z => absurd z hg⟩, ?_⟩
    unfold fX3_readTerm
    rw [e2, if_neg hg, e1]
    exact h.wr
  have good : fX3_rt1 v = v → ¬ tm = 80 → isTm τ p = true → ∀ c n : Int32, (if 0 ≤ fX3_termHere v then (116 : Int32) else 110) = c → (if 0 ≤ fX3_termHere v then fX3_termHere v else v.1 30) = n → (∀ ev s, stp ev (c, n) s = some (tSem τ p ev :: s)) → (c = 110 ∨ c = 116) → ¬ ts τ p = 0 → ¬ ts τ p = 3 → okX3_readTerm v ∧ RS3 v0 b τ tm K σ d o (fX3_readTerm v) (pTerm τ p tm).1 := fun e1 e2 e3 c n ec en es hc h0 h3 => by
    have g0 := h.tmx e2
    have gl := te_gt hk.2.2.1 h0 h3
    have hlt : (K.length : Int) + (pend σ : Int) + o ≤ (p : Int) := h.2.2.2.2.2.2.2.2.1
    have hpl := h.pl
    obtain ⟨s1, s2⟩ := g0.st (by omega) (c, n)
    obtain ⟨s3, s4⟩ := s2.nx h0 h3
    refine ⟨⟨fun _ => by rw [e1, ec, en]; exact s1, fun _ => by rw [e1, ec, en]; exact s3⟩, ?_⟩
    unfold fX3_readTerm
    rw [e1, if_pos h.gd, ec, en, pT_ok e3 e2]
    refine ⟨[(c, n)], by rw [show o = o - 1 + 1 by omega]; exact s4, fun ev s => ?_, ?_⟩
    · rw [evR, evR]; exact es ev s
    · rw [psh, psh, if_pos hc]; show 0 + 1 ≤ tm + 1 - tm; omega
  by_cases c1 : ts τ p = 2
  · have e29 : v.1 29 = 3 := hs.1.mpr c1
    have eth : fX3_termHere v = -1 := by rw [ht]; unfold tmF; rw [if_neg (by rw [c1]; decide)]
    have hT : isTm τ p = true := by unfold isTm; rw [decide_eq_true c1]; rfl
    by_cases c2 : tm = 80
    · exact bad (by unfold fX3_rt1; rw [if_pos e29, if_pos (e80.mpr c2)]) (pT_err (fun z => z.2 c2))
    · refine good (by unfold fX3_rt1; rw [if_pos e29, if_neg (fun z => c2 (e80.mp z))]) c2 hT 110 (tn τ p) (by rw [eth]; rfl) (by rw [eth, if_neg (by decide)]; exact hs.2.2.2 c1) (fun ev s => ?_) (Or.inl rfl) (by rw [c1]; decide) (by rw [c1]; decide)
      rw [tS_n c1]; rfl
  · have e29 : ¬ v.1 29 = 3 := fun z => c1 (hs.1.mp z)
    cases hT : isTm τ p with
    | true =>
      obtain ⟨t1, k, t2⟩ := isTm_w hT c1
      have hk9 := fnd_lt t2
      have eth : fX3_termHere v = nI k := by rw [ht]; unfold tmF; rw [if_pos t1, t2]
      have h0 : (0 : Int32) ≤ nI k := by rw [t_le, k_0, nI_i (by omega)]; omega
      have hn : ¬ fX3_termHere v < 0 := by rw [eth, t_lt, k_0, nI_i (by omega)]; omega
      by_cases c2 : tm = 80
      · exact bad (by unfold fX3_rt1; rw [if_neg e29, if_neg hn, if_pos (e80.mpr c2)]) (pT_err (fun z => z.2 c2))
      · refine good (by unfold fX3_rt1; rw [if_neg e29, if_neg hn, if_neg (fun z => c2 (e80.mp z))]) c2 hT 116 (nI k) (by rw [eth, if_pos h0]) (by rw [eth, if_pos h0]) (fun ev s => ?_) (Or.inr rfl) (by rw [t1]; decide) (by rw [t1]; decide)
        rw [tS_k c1 t2]
        unfold stp
        dsimp only
        rw [if_neg (by decide), if_neg (by decide), if_pos rfl, if_pos (by rw [nI_i (by omega)]; omega), nN (by omega)]
    | false =>
      have hn : fX3_termHere v < 0 := by
        rw [ht]
        unfold tmF
        by_cases t1 : ts τ p = 1
        · rw [if_pos t1]
          unfold isTm at hT
          rw [decide_eq_false c1, decide_eq_true t1, Bool.false_or, Bool.true_and] at hT
          cases y : fnd (tl τ p) (lt τ p) with
          | none => show (-1 : Int32) < 0; decide
          | some k => rw [y] at hT; cases hT
        · rw [if_neg t1]; decide
      exact bad (by unfold fX3_rt1; rw [if_neg e29, if_pos hn]) (pT_err (fun z => by rw [hT] at z; cases z.1))
end RT
