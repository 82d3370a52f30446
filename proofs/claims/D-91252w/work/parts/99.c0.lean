/-! THE PLAIN LAW, 29: the model's reader: its tokens. Own work. -/
set_option maxRecDepth 100000
theorem by_255 (x : Int32) : x.toInt8.toInt32 &&& 255 = x &&& 255 := by
  apply Int32.toBitVec.inj
  rw [Int32.toBitVec_and, Int32.toBitVec_and, Int8.toBitVec_toInt32, Int32.toBitVec_toInt8, show (255 : Int32).toBitVec = 255#32 from rfl]
  apply BitVec.eq_of_getLsbD_eq
  intro i hi
  rw [BitVec.getLsbD_and, BitVec.getLsbD_and]
  by_cases c : i < 8
  · rw [BitVec.getLsbD_signExtend, if_pos c, BitVec.getLsbD_signExtend, if_pos (by omega)]
    simp [c, hi]
  · have : BitVec.getLsbD 255#32 i = false := by
      have h : ∀ i, i < 32 → ¬ i < 8 → BitVec.getLsbD 255#32 i = false := by decide
      exact h i hi c
    rw [this, Bool.and_false, Bool.and_false]
/-- the model's text is the tape τ -/
def TX (v : St) (τ : Tp) : Prop := v.1 24 = nI τ.1 ∧ τ.1 ≤ 600 ∧ ∀ j, j < τ.1 → v.2.1 22 j &&& 255 = he τ j
section TX
variable {v w : St} {τ : Tp} {p : Nat}
theorem TX.of (h : TX v τ) (h1 : w.1 24 = v.1 24) (h2 : w.2.1 22 = v.2.1 22) : TX w τ := ⟨by rw [h1]; exact h.1, h.2.1, fun j hj => by rw [h2]; exact h.2.2 j hj⟩
theorem sg_in (h : TX v τ) {k : Nat} (hk : k < τ.1) : fX3_sign v (nI k) = he τ k := by
  have := h.2.1
  unfold fX3_sign
  rw [h.1, if_neg (by rw [n_le (by omega) (by omega)]; omega), nN (by omega), h.2.2 k hk]
theorem sg_out (h : TX v τ) {k : Nat} (hk : ¬ k < τ.1) (hk2 : k < 100000) : fX3_sign v (nI k) = 0 := by
  have := h.2.1
  unfold fX3_sign
  rw [h.1, if_pos (by rw [n_le (by omega) (by omega)]; omega)]
theorem sg_ok (h : TX v τ) (k : Nat) (hk : k < 100000) : okX3_sign v (nI k) := by
  have := h.2.1
  intro z
  rw [h.1, n_le (by omega) (by omega)] at z
  rw [vp_in_iff, nI_i (by omega)]; omega
theorem lt3 (x : Int32) : fX3_isLetter x = isLt x := by
  unfold fX3_isLetter isLt
  by_cases a : x < 97
  · rw [if_pos a, decide_eq_true a]; rfl
  · rw [if_neg a, decide_eq_false a]
    by_cases b : 122 < x
    · rw [if_pos b, decide_eq_true b]; rfl
    · rw [if_neg b, decide_eq_false b]; rfl
theorem dg3 (x : Int32) : fX3_isDigit x = isDg x := by
  unfold fX3_isDigit isDg
  by_cases a : x < 48
  · rw [if_pos a, decide_eq_true a]; rfl
  · rw [if_neg a, decide_eq_false a]
    by_cases b : 57 < x
    · rw [if_pos b, decide_eq_true b]; rfl
    · rw [if_neg b, decide_eq_false b]; rfl
/-- runs of letters and digits, by the model's sign -/
theorem sg_P (h : TX v τ) {P : Int32 → Bool} (h0 : P 0 = false) (h1 : P (-1) = false) (k : Nat) (hk : k < 100000) : P (fX3_sign v (nI k)) = P (he τ k) := by
  by_cases c : k < τ.1
  · rw [sg_in h c]
  · rw [sg_out h c hk, he_out c, h0, h1]
theorem rn_ge {P : Int32 → Bool} (hP : P (-1) = false) {p q : Nat} (h1 : p ≤ q) (h2 : q ≤ p + rn τ P p) : (P (he τ q) = true → q < p + rn τ P p) ∧ (P (he τ q) = false → q = p + rn τ P p) := by
  constructor
  · intro z
    rcases Nat.lt_or_ge q (p + rn τ P p) with y | y
    · exact y
    · have : q = p + rn τ P p := by omega
      have e := rn_end hP (rn τ P p) p rfl
      rw [← this, z] at e; cases e
  · intro z
    rcases Nat.lt_or_ge q (p + rn τ P p) with y | y
    · have := rn_at (τ := τ) (P := P) (p := p) (j := q - p) (by omega)
      rw [show p + (q - p) = q by omega, z] at this; cases this
    · omega
def T8 (v : St) (τ : Tp) (p : Nat) (x : St) : Prop := ∃ q, p ≤ q ∧ q ≤ ws τ p ∧ x.1 27 = nI q ∧ (∀ k, ¬ k = 27 → x.1 k = v.1 k) ∧ x.2 = v.2
theorem t8_step (h : TX v τ) (hp : p ≤ τ.1) {u0 : St} : ∀ x, T8 v τ p x → (lpX3_next_8 u0 x).1 = 0 → T8 v τ p (lpX3_next_8 u0 x).2 ∧ 600 - ((lpX3_next_8 u0 x).2.1 27).toNatClampNeg < 600 - (x.1 27).toNatClampNeg := by
  rintro x ⟨q, h1, h2, h3, h4, h5⟩
  have hm := h.2.1
  have hws := ws_le (τ := τ) hp
  have hT : TX x τ := h.of (h4 24 (by decide)) (by rw [h5])
  unfold lpX3_next_8
  dsimp only
  rw [hT.1, h3]
  by_cases c1 : nI τ.1 ≤ nI q
  · simp only [if_pos c1]; intro y; cases y
  · simp only [if_neg c1]
    rw [n_le (by omega) (by omega)] at c1
    rw [sg_in hT (by omega)]
    by_cases c2 : (if he τ q = 32 then true else if he τ q = 10 then true else false) = true
    · simp only [if_pos c2]
      intro _
      have c3 : isSp (he τ q) = true := by
        unfold isSp
        by_cases a : he τ q = 32
        · rw [decide_eq_true a]; rfl
        · rw [if_neg a] at c2
          by_cases b : he τ q = 10
          · rw [decide_eq_true b, Bool.or_true]
          · rw [if_neg b] at c2; cases c2
      have := (rn_ge (τ := τ) (P := isSp) isSp_n h1 h2).1 c3
      refine ⟨⟨q + 1, by omega, by show q + 1 ≤ p + _; omega, ?_, ?_, h5⟩, ?_⟩
      · rw [si_1, if_pos rfl, nI_1]
      · intro k hk; rw [si_1, if_neg hk]; exact h4 k hk
      · rw [si_1, if_pos rfl, nI_1, nN (by omega), nN (by omega)]; omega
    · simp only [if_neg c2]; intro y; cases y
theorem t8_end (h : TX v τ) (hp : p ≤ τ.1) (h28 : v.1 28 = nI p) : (fX3_nx1 v).1 27 = nI (ws τ p) ∧ (∀ k, ¬ k = 27 → (fX3_nx1 v).1 k = v.1 k) ∧ (fX3_nx1 v).2 = v.2 := by
  have hm := h.2.1
  have hws := ws_le (τ := τ) hp
  have h0 : T8 v τ p (si v 27 (v.1 28)) := ⟨p, Nat.le_refl _, by unfold ws; omega, by rw [si_1, if_pos rfl, h28], fun k hk => by rw [si_1, if_neg hk], rfl⟩
  obtain ⟨x, h1, h2, h3⟩ := wh_run (lpX3_next_8 v) (T8 v τ p) (fun x => 600 - (x.1 27).toNatClampNeg) (t8_step h hp) 700 _ h0 (by show 600 - _ < 700; omega)
  unfold fX3_nx1 lpX3_next_8_r
  rw [h3]
  obtain ⟨q, a1, a2, a3, a4, a5⟩ := h1
  have hT : TX x τ := h.of (a4 24 (by decide)) (by rw [a5])
  have e : q = ws τ p → x.1 27 = nI (ws τ p) ∧ (∀ k, ¬ k = 27 → x.1 k = v.1 k) ∧ x.2 = v.2 := fun e => ⟨by rw [a3, e], a4, a5⟩
  revert h2
  unfold lpX3_next_8
  dsimp only
  rw [hT.1, a3]
  by_cases c1 : nI τ.1 ≤ nI q
  · simp only [if_pos c1]
    intro _
    rw [n_le (by omega) (by omega)] at c1
    have := ws_le (τ := τ) hp
    exact e (by omega)
  · simp only [if_neg c1]
    rw [n_le (by omega) (by omega)] at c1
    rw [sg_in hT (by omega)]
    by_cases c2 : (if he τ q = 32 then true else if he τ q = 10 then true else false) = true
    · simp only [if_pos c2]; intro y; exact absurd trivial y
    · simp only [if_neg c2]
      intro _
      refine e ((rn_ge (τ := τ) (P := isSp) isSp_n a1 a2).2 ?_)
      unfold isSp
      by_cases a : he τ q = 32
      · rw [if_pos a] at c2; exact absurd rfl c2
      · rw [if_neg a] at c2
        by_cases b : he τ q = 10
        · rw [if_pos b] at c2; exact absurd rfl c2
        · rw [decide_eq_false a, decide_eq_false b]; rfl
/-- words: the letters' loop -/
def I119 (v : St) (τ : Tp) (p : Nat) (x : St) : Prop := ∃ q, ws τ p < q ∧ q ≤ ws τ p + tl τ p ∧ x.1 28 = nI q ∧ x.1 27 = nI (ws τ p) ∧ (∀ k, ¬ k = 27 → ¬ k = 28 → x.1 k = v.1 k) ∧ x.2 = v.2
theorem i119_step (h : TX v τ) (hp : p ≤ τ.1) {u0 : St} : ∀ x, I119 v τ p x → (lpX3_next_119 u0 x).1 = 0 → I119 v τ p (lpX3_next_119 u0 x).2 ∧ 600 - ((lpX3_next_119 u0 x).2.1 28).toNatClampNeg < 600 - (x.1 28).toNatClampNeg := by
  rintro x ⟨q, h1, h2, h3, h3', h4, h5⟩
  have hm := h.2.1
  have hT : TX x τ := h.of (h4 24 (by decide) (by decide)) (by rw [h5])
  have htl := tl_le (τ := τ) hp
  unfold lpX3_next_119
  dsimp only
  rw [h3, lt3, sg_P hT (by decide) isLt_n q (by omega)]
  cases c : isLt (he τ q) with
  | false => simp only [Bool.false_eq_true, if_false]; intro y; cases y
  | true =>
    simp only [if_true]
    intro _
    have := (rn_ge (τ := τ) (P := isLt) (p := ws τ p) isLt_n (by omega) h2).1 c
    refine ⟨⟨q + 1, by omega, by show q + 1 ≤ _ + rn τ isLt (ws τ p); omega, ?_, ?_, ?_, h5⟩, ?_⟩
    · rw [si_1, if_pos rfl, nI_1]
    · rw [si_1, if_neg (by decide)]; exact h3'
    · intro k hk hk2; rw [si_1, if_neg hk2]; exact h4 k hk hk2
    · have e : rn τ isLt (ws τ p) = tl τ p := rfl
      rw [si_1, if_pos rfl, nI_1, nN (by omega), nN (by omega)]; omega
theorem i119_init (h : TX v τ) (hp : p ≤ τ.1) (h28 : v.1 28 = nI p) (hc : isLt (he τ (ws τ p)) = true) : I119 v τ p (si (fX3_nx1 v) 28 (((fX3_nx1 v).1 27) + 1)) := by
  obtain ⟨a1, a2, a3⟩ := t8_end h hp h28
  have := (rn_ge (τ := τ) (P := isLt) (p := ws τ p) (q := ws τ p) isLt_n (Nat.le_refl _) (by omega)).1 hc
  refine ⟨ws τ p + 1, by omega, this, ?_, ?_, ?_, a3⟩
  · rw [si_1, if_pos rfl, a1, nI_1]
  · rw [si_1, if_neg (by decide), a1]
  · intro k hk hk2; rw [si_1, if_neg hk2]; exact a2 k hk
theorem i119_end (h : TX v τ) (hp : p ≤ τ.1) (h28 : v.1 28 = nI p) (hc : isLt (he τ (ws τ p)) = true) : (fX3_nx3 v).1 28 = nI (ws τ p + tl τ p) ∧ (fX3_nx3 v).1 27 = nI (ws τ p) ∧ (∀ k, ¬ k = 27 → ¬ k = 28 → (fX3_nx3 v).1 k = v.1 k) ∧ (fX3_nx3 v).2 = v.2 := by
  have hm := h.2.1
  have htl := tl_le (τ := τ) hp
  obtain ⟨x, h1, h2, h3⟩ := wh_run (lpX3_next_119 v) (I119 v τ p) (fun x => 600 - (x.1 28).toNatClampNeg) (i119_step h hp) 700 _ (i119_init h hp h28 hc) (by show 600 - _ < 700; omega)
  unfold fX3_nx3 lpX3_next_119_r
  rw [h3]
  obtain ⟨q, a1, a2, a3, a3', a4, a5⟩ := h1
  have hT : TX x τ := h.of (a4 24 (by decide) (by decide)) (by rw [a5])
  revert h2
  unfold lpX3_next_119
  dsimp only
  rw [a3, lt3, sg_P hT (by decide) isLt_n q (by omega)]
  cases c : isLt (he τ q) with
  | true => simp only [if_true]; intro y; exact absurd trivial y
  | false =>
    simp only [Bool.false_eq_true, if_false]
    intro _
    have := (rn_ge (τ := τ) (P := isLt) (p := ws τ p) isLt_n (by omega) a2).2 c
    exact ⟨by rw [a3, this]; rfl, a3', a4, a5⟩
/-- numbers: the digits' loop -/
def I245 (v : St) (τ : Tp) (p : Nat) (x : St) : Prop := ∃ j, j ≤ dn τ p ∧ x.1 28 = nI (ws τ p + j) ∧ x.1 27 = nI (ws τ p) ∧ x.1 30 = nmF τ (ws τ p) (if j ≤ 7 then j else 7) ∧ (∀ k, ¬ k = 27 → ¬ k = 28 → ¬ k = 30 → x.1 k = v.1 k) ∧ x.2 = v.2
theorem i245_step (h : TX v τ) (hp : p ≤ τ.1) {u0 : St} : ∀ x, I245 v τ p x → (lpX3_next_245 u0 x).1 = 0 → I245 v τ p (lpX3_next_245 u0 x).2 ∧ 600 - ((lpX3_next_245 u0 x).2.1 28).toNatClampNeg < 600 - (x.1 28).toNatClampNeg := by
  rintro x ⟨j, h1, h3, h3', h6, h4, h5⟩
  have hm := h.2.1
  have hT : TX x τ := h.of (h4 24 (by decide) (by decide) (by decide)) (by rw [h5])
  have hdn := dn_le (τ := τ) hp
  unfold lpX3_next_245
  dsimp only
  rw [h3, h3', dg3, sg_P hT (by decide) isDg_n _ (by omega)]
  cases c : isDg (he τ (ws τ p + j)) with
  | false => simp only [Bool.false_eq_true, if_false]; intro y; cases y
  | true =>
    simp only [if_true]
    intro _
    have hj := (rn_ge (τ := τ) (P := isDg) (p := ws τ p) isDg_n (by omega) (show ws τ p + j ≤ ws τ p + dn τ p by omega)).1 c
    have hj : j < dn τ p := by have : rn τ isDg (ws τ p) = dn τ p := rfl; omega
    have e7 : nI (ws τ p + j) - nI (ws τ p) = nI j := by
      rw [t_eq, t_sub (by rw [nI_i (by omega), nI_i (by omega)]; omega) (by rw [nI_i (by omega), nI_i (by omega)]; omega), nI_i (by omega), nI_i (by omega), nI_i (by omega)]; omega
    have k7 : (7 : Int32) = nI 7 := rfl
    rw [e7, sg_in hT (by omega), k7]
    by_cases c7 : nI 7 ≤ nI j
    · rw [if_pos c7]
      rw [n_le (by omega) (by omega)] at c7
      refine ⟨⟨j + 1, by omega, ?_, ?_, ?_, ?_, h5⟩, ?_⟩
      · rw [si_1, if_pos rfl, h3, nI_1]; rfl
      · rw [si_1, if_neg (by decide)]; exact h3'
      · rw [si_1, if_neg (by decide), h6]
        congr 1; split <;> split <;> omega
      · intro k a b d; rw [si_1, if_neg b]; exact h4 k a b d
      · rw [si_1, if_pos rfl, h3, nI_1, nN (by omega), nN (by omega)]; omega
    · rw [if_neg c7]
      rw [n_le (by omega) (by omega)] at c7
      refine ⟨⟨j + 1, by omega, ?_, ?_, ?_, ?_, h5⟩, ?_⟩
      · rw [si_1, if_pos rfl, si_1, if_neg (by decide), h3, nI_1]; rfl
      · rw [si_1, if_neg (by decide), si_1, if_neg (by decide)]; exact h3'
      · rw [si_1, if_neg (by decide), si_1, if_pos rfl, h6, if_pos (by omega), if_pos (by omega), nmF]
      · intro k a b d; rw [si_1, if_neg b, si_1, if_neg d]; exact h4 k a b d
      · rw [si_1, if_pos rfl, si_1, if_neg (by decide), h3, nI_1, nN (by omega), nN (by omega)]; omega
theorem i245_init (h : TX v τ) (hp : p ≤ τ.1) (h28 : v.1 28 = nI p) : I245 v τ p (si (si (si (fX3_nx1 v) 28 (((fX3_nx1 v).1 27) + 1)) 30 0) 28 ((fX3_nx1 v).1 27)) := by
  obtain ⟨a1, a2, a3⟩ := t8_end h hp h28
  refine ⟨0, Nat.zero_le _, ?_, ?_, ?_, ?_, a3⟩
  · rw [si_1, if_pos rfl, a1]; rfl
  · rw [si_1, if_neg (by decide), si_1, if_neg (by decide), si_1, if_neg (by decide), a1]
  · rw [si_1, if_neg (by decide), si_1, if_pos rfl]; rfl
  · intro k b c d; rw [si_1, if_neg c, si_1, if_neg d, si_1, if_neg c]; exact a2 k b
theorem i245_end (h : TX v τ) (hp : p ≤ τ.1) (h28 : v.1 28 = nI p) : (fX3_nx4 v).1 28 = nI (ws τ p + dn τ p) ∧ (fX3_nx4 v).1 27 = nI (ws τ p) ∧ (fX3_nx4 v).1 30 = nmF τ (ws τ p) (if dn τ p ≤ 7 then dn τ p else 7) ∧ (∀ k, ¬ k = 27 → ¬ k = 28 → ¬ k = 30 → (fX3_nx4 v).1 k = v.1 k) ∧ (fX3_nx4 v).2 = v.2 := by
  have hm := h.2.1
  have hdn := dn_le (τ := τ) hp
  obtain ⟨x, h1, h2, h3⟩ := wh_run (lpX3_next_245 v) (I245 v τ p) (fun x => 600 - (x.1 28).toNatClampNeg) (i245_step h hp) 700 _ (i245_init h hp h28) (by show 600 - _ < 700; omega)
  unfold fX3_nx4 lpX3_next_245_r
  rw [h3]
  obtain ⟨j, a1, a3, a3', a6, a4, a5⟩ := h1
  have hT : TX x τ := h.of (a4 24 (by decide) (by decide) (by decide)) (by rw [a5])
  revert h2
  unfold lpX3_next_245
  dsimp only
  rw [a3, dg3, sg_P hT (by decide) isDg_n _ (by omega)]
  cases c : isDg (he τ (ws τ p + j)) with
  | true => simp only [if_true]; intro y; exact absurd trivial y
  | false =>
    simp only [Bool.false_eq_true, if_false]
    intro _
    have hj := (rn_ge (τ := τ) (P := isDg) (p := ws τ p) isDg_n (by omega) (show ws τ p + j ≤ ws τ p + dn τ p by omega)).2 c
    have hj : j = dn τ p := by have : rn τ isDg (ws τ p) = dn τ p := rfl; omega
    subst hj
    exact ⟨a3, a3', a6, a4, a5⟩
end TX
