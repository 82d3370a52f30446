/-! THE PLAIN LAW, 30: the model's next. Own work. -/
set_option maxRecDepth 100000
/-- a word's letters in one number -/
def pk (f : Nat → Int32) : Nat → Nat
  | 0 => 0
  | n + 1 => pk f n * 256 + (f n).toNatClampNeg
def isC (x : Int32) : Prop := 97 ≤ x.toInt ∧ x.toInt ≤ 122
theorem isLt_C {x : Int32} (h : isLt x = true) : isC x := by
  unfold isLt at h
  simp only [Bool.and_eq_true, Bool.not_eq_true', decide_eq_false_iff_not, t_lt] at h
  have e1 : (97 : Int32).toInt = 97 := rfl
  have e2 : (122 : Int32).toInt = 122 := rfl
  rw [e1, e2] at h
  exact ⟨by omega, by omega⟩
theorem pkw_lt {f : Nat → Int32} : ∀ n, (∀ j, j < n → isC (f j)) → pk f n * 2 < 256 ^ n ∨ n = 0
  | 0, _ => Or.inr rfl
  | n + 1, h => by
    left
    have ih := pkw_lt n (fun j hj => h j (by omega))
    have hn := h n (by omega)
    rw [pk, t_nat, Nat.pow_succ]
    have := hn.1; have := hn.2
    rcases ih with e | e
    · omega
    · subst e; rw [pk]; omega
theorem pk_inj {f g : Nat → Int32} : ∀ n m, (∀ j, j < n → isC (f j)) → (∀ j, j < m → isC (g j)) → pk f n = pk g m → n = m ∧ ∀ j, j < n → f j = g j
  | 0, 0, _, _, _ => ⟨rfl, fun j h => absurd h (by omega)⟩
  | 0, m + 1, _, hg, e => by
    have hn := hg m (by omega)
    rw [pk, pk, t_nat] at e
    have := hn.1; omega
  | n + 1, 0, hf, _, e => by
    have hn := hf n (by omega)
    rw [pk, pk, t_nat] at e
    have := hn.1; omega
  | n + 1, m + 1, hf, hg, e => by
    have h1 := hf n (by omega)
    have h2 := hg m (by omega)
    obtain ⟨a1, a2⟩ := h1
    obtain ⟨b1, b2⟩ := h2
    rw [pk, pk, t_nat, t_nat] at e
    obtain ⟨i1, i2⟩ := pk_inj n m (fun j hj => hf j (by omega)) (fun j hj => hg j (by omega)) (by omega)
    subst i1
    refine ⟨rfl, fun j hj => ?_⟩
    by_cases y : j = n
    · subst y; rw [t_eq]; omega
    · exact i2 j (by omega)
theorem pk_ext {f g : Nat → Int32} : ∀ n, (∀ j, j < n → f j = g j) → pk f n = pk g n
  | 0, _ => rfl
  | n + 1, h => by rw [pk, pk, pk_ext n (fun j hj => h j (by omega)), h n (by omega)]
theorem sh_or {x : Nat} {c : Int32} (hx : x < 36028797018963968) (hc : isC c) : (nL x <<< ((8 : Int32).toInt64 &&& 63)) ||| c.toInt64 = nL (x * 256 + c.toNatClampNeg) := by
  obtain ⟨c1, c2⟩ := hc
  have e8 : (8 : Int32).toInt64 &&& 63 = 8 := by decide
  have ec : c.toInt64 = nL c.toNatClampNeg := by
    refine Int64.toInt_inj.mp ?_
    rw [Int32.toInt_toInt64, nL_i (by rw [t_nat]; omega), t_nat]; omega
  have hcn : c.toNatClampNeg < 256 := by rw [t_nat]; omega
  rw [e8, ec]
  apply Int64.toBitVec.inj
  rw [Int64.toBitVec_or, Int64.toBitVec_shiftLeft]
  have e : ∀ k, (nL k).toBitVec = BitVec.ofNat 64 k := fun k => rfl
  rw [e, e, e, show BitVec.smod (8 : Int64).toBitVec 64 = 8#64 by decide]
  apply BitVec.eq_of_toNat_eq
  have p : x * 256 + c.toNatClampNeg < 18446744073709551616 := by omega
  rw [BitVec.toNat_or, BitVec.shiftLeft_eq', BitVec.toNat_shiftLeft, BitVec.toNat_ofNat, BitVec.toNat_ofNat, BitVec.toNat_ofNat, BitVec.toNat_ofNat]
  rw [Nat.mod_eq_of_lt (show x < 2 ^ 64 by omega), Nat.mod_eq_of_lt (show c.toNatClampNeg < 2 ^ 64 by omega), Nat.mod_eq_of_lt (show x * 256 + c.toNatClampNeg < 2 ^ 64 by omega), show 8 % 2 ^ 64 = 8 from rfl]
  have s : x <<< 8 = x * 256 := by rw [Nat.shiftLeft_eq]
  rw [Nat.mod_eq_of_lt (show x <<< 8 < 2 ^ 64 by omega)]
  rw [← Nat.shiftLeft_add_eq_or_of_lt (show c.toNatClampNeg < 2 ^ 8 by omega), s]
section NX
variable {v w : St} {τ : Tp} {p : Nat}
def FN (v w : St) : Prop := (∀ k, ¬ (27 ≤ k ∧ k ≤ 30) → w.1 k = v.1 k) ∧ w.2.1 = v.2.1
theorem FN.rf : FN v v := ⟨fun _ _ => rfl, rfl⟩
theorem FN.tr {x : St} (h : FN v w) (h2 : FN w x) : FN v x := ⟨fun k hk => (h2.1 k hk).trans (h.1 k hk), h2.2.trans h.2⟩
/-- the model stands at the token at p -/
def TK (v : St) (τ : Tp) (p : Nat) : Prop := v.1 27 = nI (ws τ p) ∧ (¬ ts τ p = 3 → v.1 28 = nI (te τ p)) ∧ p ≤ τ.1 ∧
  ((ts τ p = 0 ∧ v.1 29 = 0) ∨ (ts τ p = 3 ∧ v.1 29 = 1) ∨ (ts τ p = 1 ∧ v.1 29 = 2 ∧ v.2.2 31 0 = nL (pk (lt τ p) (tl τ p))) ∨ (ts τ p = 2 ∧ v.1 29 = 3 ∧ v.1 30 = tn τ p) ∨ (isSg (ts τ p) = true ∧ v.1 29 = 4 ∧ he τ (ws τ p) = ts τ p ∧ ws τ p < τ.1))
theorem lt_C (hp : p ≤ τ.1) {j : Nat} (hj : j < tl τ p) : isC (he τ (ws τ p + j)) := isLt_C (rn_at (τ := τ) (P := isLt) (p := ws τ p) hj)
def I156 (v : St) (τ : Tp) (p : Nat) (x : St × Int32) : Prop := ∃ j, j ≤ tl τ p ∧ j ≤ 8 ∧ x.2 = nI (ws τ p + j) ∧ x.1.2.2 31 0 = nL (pk (fun i => he τ (ws τ p + i)) j) ∧ x.1.1 = (fX3_nx3 v).1 ∧ x.1.2.1 = (fX3_nx3 v).2.1
theorem i156_step (h : TX v τ) (hp : p ≤ τ.1) (h28 : v.1 28 = nI p) (hc : isLt (he τ (ws τ p)) = true) {u0 : St} : ∀ x, I156 v τ p x → (lpX3_next_156 u0 x).1 = 0 → I156 v τ p (lpX3_next_156 u0 x).2 ∧ ws τ p + 8 - (lpX3_next_156 u0 x).2.2.toNatClampNeg < ws τ p + 8 - x.2.toNatClampNeg := by
  obtain ⟨b1, b2, b3, b4⟩ := i119_end h hp h28 hc
  rintro ⟨x, k⟩ ⟨j, h1, h2, h3, h4, h5, h6⟩
  replace h3 : k = nI (ws τ p + j) := h3
  replace h4 : x.2.2 31 0 = nL (pk (fun i => he τ (ws τ p + i)) j) := h4
  replace h5 : x.1 = (fX3_nx3 v).1 := h5
  replace h6 : x.2.1 = (fX3_nx3 v).2.1 := h6
  subst h3
  have hm := h.2.1
  have hT : TX x τ := h.of (by rw [h5]; exact b3 24 (by decide) (by decide)) (by rw [h6, b4])
  have htl := tl_le (τ := τ) hp
  unfold lpX3_next_156
  dsimp only
  rw [h5, b1, b2, show nI (ws τ p) + 8 = nI (ws τ p + 8) by rw [t_eq, t_add (by rw [nI_i (by omega), k_8]; omega) (by rw [nI_i (by omega), k_8]; omega), nI_i (by omega), nI_i (by omega), k_8]; omega]
  by_cases c1 : nI (ws τ p + tl τ p) ≤ nI (ws τ p + j)
  · simp only [if_pos c1]; intro y; cases y
  · simp only [if_neg c1]
    rw [n_le (by omega) (by omega)] at c1
    by_cases c2 : nI (ws τ p + 8) ≤ nI (ws τ p + j)
    · simp only [if_pos c2]; intro y; cases y
    · simp only [if_neg c2]
      rw [n_le (by omega) (by omega)] at c2
      intro _
      have hC := lt_C (τ := τ) hp (show j < tl τ p by omega)
      have hpk := pkw_lt (f := fun i => he τ (ws τ p + i)) j (fun i hi => lt_C hp (by omega))
      have hb : pk (fun i => he τ (ws τ p + i)) j < 36028797018963968 := by
        rcases hpk with e | e
        · have : 256 ^ j ≤ 256 ^ 7 := Nat.pow_le_pow_right (by decide) (by omega)
          have e7 : (256 : Nat) ^ 7 = 72057594037927936 := rfl
          omega
        · subst e; rw [pk]; omega
      refine ⟨⟨j + 1, by omega, by omega, ?_, ?_, h5, h6⟩, ?_⟩
      · show nI (ws τ p + j) + 1 = _; rw [nI_1]; rfl
      · show (sl x 31 0 _).2.2 31 0 = _
        rw [sl_3, if_pos ⟨rfl, rfl⟩, h4, sg_in hT (by omega), sh_or hb hC]; rfl
      · rw [nI_1, nN (by omega), nN (by omega)]; omega
theorem i156_init (h : TX v τ) (hp : p ≤ τ.1) (h28 : v.1 28 = nI p) (hc : isLt (he τ (ws τ p)) = true) : I156 v τ p (sl (fX3_nx3 v) 31 0 0, (fX3_nx3 v).1 27) := by
  obtain ⟨b1, b2, b3, b4⟩ := i119_end h hp h28 hc
  exact ⟨0, Nat.zero_le _, Nat.zero_le _, b2, by show (sl (fX3_nx3 v) 31 0 0).2.2 31 0 = _; rw [sl_3, if_pos ⟨rfl, rfl⟩]; rfl, rfl, rfl⟩
theorem i156_mu (h : TX v τ) (hp : p ≤ τ.1) (h28 : v.1 28 = nI p) (hc : isLt (he τ (ws τ p)) = true) : ws τ p + 8 - ((fX3_nx3 v).1 27).toNatClampNeg < 9 := by
  obtain ⟨b1, b2, b3, b4⟩ := i119_end h hp h28 hc
  have htl := tl_le (τ := τ) hp
  have hm := h.2.1
  rw [b2, nN (by omega)]; omega
theorem i156_end (h : TX v τ) (hp : p ≤ τ.1) (h28 : v.1 28 = nI p) (hc : isLt (he τ (ws τ p)) = true) : (lpX3_next_156_r v).2.1.1 = (fX3_nx3 v).1 ∧ (lpX3_next_156_r v).2.1.2.1 = v.2.1 ∧ (tl τ p ≤ 8 → (lpX3_next_156_r v).2.1.2.2 31 0 = nL (pk (lt τ p) (tl τ p))) := by
  obtain ⟨b1, b2, b3, b4⟩ := i119_end h hp h28 hc
  have hm := h.2.1
  have htl := tl_le (τ := τ) hp
  obtain ⟨x, h1, h2, h3⟩ := wh_run (lpX3_next_156 v) (I156 v τ p) (fun x => ws τ p + 8 - x.2.toNatClampNeg) (i156_step h hp h28 hc) 9 _ (i156_init h hp h28 hc) (i156_mu h hp h28 hc)
  unfold lpX3_next_156_r
  rw [h3]
  obtain ⟨x, k⟩ := x
  obtain ⟨j, a1, a2, a3, a4, a5, a6⟩ := h1
  replace a3 : k = nI (ws τ p + j) := a3
  replace a4 : x.2.2 31 0 = nL (pk (fun i => he τ (ws τ p + i)) j) := a4
  replace a5 : x.1 = (fX3_nx3 v).1 := a5
  replace a6 : x.2.1 = (fX3_nx3 v).2.1 := a6
  subst a3
  have fin : (tl τ p ≤ 8 → j = tl τ p) → x.1 = (fX3_nx3 v).1 ∧ x.2.1 = v.2.1 ∧ (tl τ p ≤ 8 → x.2.2 31 0 = nL (pk (lt τ p) (tl τ p))) := fun e => ⟨a5, by rw [a6, b4], fun z => by
    rw [a4, e z]
    congr 1
    exact pk_ext _ (fun i hi => by unfold lt cutT; rw [if_pos hi])⟩
  revert h2
  unfold lpX3_next_156
  dsimp only
  rw [a5, b1, b2, show nI (ws τ p) + 8 = nI (ws τ p + 8) by rw [t_eq, t_add (by rw [nI_i (by omega), k_8]; omega) (by rw [nI_i (by omega), k_8]; omega), nI_i (by omega), nI_i (by omega), k_8]; omega]
  by_cases c1 : nI (ws τ p + tl τ p) ≤ nI (ws τ p + j)
  · simp only [if_pos c1]; intro _
    rw [n_le (by omega) (by omega)] at c1
    exact fin (fun _ => by omega)
  · simp only [if_neg c1]
    rw [n_le (by omega) (by omega)] at c1
    by_cases c2 : nI (ws τ p + 8) ≤ nI (ws τ p + j)
    · simp only [if_pos c2]; intro _
      rw [n_le (by omega) (by omega)] at c2
      exact fin (fun _ => by omega)
    · simp only [if_neg c2]; intro y; exact absurd trivial y
theorem n_dif {a b : Nat} (h : b ≤ a) (ha : a < 100000) : nI a - nI b = nI (a - b) := by
  rw [t_eq, t_sub (by rw [nI_i (by omega), nI_i (by omega)]; omega) (by rw [nI_i (by omega), nI_i (by omega)]; omega), nI_i (by omega), nI_i (by omega), nI_i (by omega)]; omega
theorem sg_n {x : Int32} (h : isSg x = false) : (if x = 59 then (4 : Int32) else (if x = 40 then 4 else (if x = 41 then 4 else (if x = 60 then 4 else (if x = 62 then 4 else (if x = 61 then 4 else (if x = 43 then 4 else (if x = 45 then 4 else 1)))))))) = 1 := by
  unfold isSg at h
  simp only [Bool.or_eq_false_iff, decide_eq_false_iff_not] at h
  obtain ⟨⟨⟨⟨⟨⟨⟨h1, h2⟩, h3⟩, h4⟩, h5⟩, h6⟩, h7⟩, h8⟩ := h
  rw [if_neg h1, if_neg h2, if_neg h3, if_neg h4, if_neg h5, if_neg h6, if_neg h7, if_neg h8]
theorem sg_y {x : Int32} (h : isSg x = true) : (if x = 59 then (4 : Int32) else (if x = 40 then 4 else (if x = 41 then 4 else (if x = 60 then 4 else (if x = 62 then 4 else (if x = 61 then 4 else (if x = 43 then 4 else (if x = 45 then 4 else 1)))))))) = 4 := by
  unfold isSg at h
  simp only [Bool.or_eq_true, decide_eq_true_eq] at h
  rcases h with ((((((h | h) | h) | h) | h) | h) | h) | h <;> subst h <;> rfl
/-- next -/
theorem nx_3 (h : TX v τ) (hp : p ≤ τ.1) (h28 : v.1 28 = nI p) : TK (fX3_next v) τ p ∧ FN v (fX3_next v) := by
  obtain ⟨a1, a2, a3⟩ := t8_end h hp h28
  have hm := h.2.1
  have hws := ws_le (τ := τ) hp
  have htl := tl_le (τ := τ) hp
  have hdn := dn_le (τ := τ) hp
  have hT : TX (fX3_nx1 v) τ := h.of (a2 24 (by decide)) (by rw [a3])
  have e24 : (fX3_nx1 v).1 24 = nI τ.1 := hT.1
  unfold fX3_next
  by_cases c1 : (fX3_nx1 v).1 27 < (fX3_nx1 v).1 24
  · rw [if_pos c1]
    rw [a1, e24, t_lt, nI_i (by omega), nI_i (by omega)] at c1
    have hnc : fX3_nxc v = he τ (ws τ p) := by unfold fX3_nxc; rw [a1, sg_in hT (by omega)]
    have hn0 : ¬ he τ (ws τ p) < 0 := by
      unfold he
      rw [if_pos (by omega)]
      have : ∀ x : Int32, ¬ (x &&& 255) < 0 := fun x => by
        rw [t_lt, k_0]
        have := he_lt (τ := (1, fun _ => x)) (p := 0)
        have e : he (1, fun _ => x) 0 = x &&& 255 := by unfold he; rfl
        have h0 : 0 ≤ (x &&& 255).toInt := by
          have b : (x &&& 255).toBitVec.msb = false := by
            rw [Int32.toBitVec_and, BitVec.msb_and]
            have : (255 : Int32).toBitVec.msb = false := by decide
            rw [this, Bool.and_false]
          rw [← Int32.toInt_toBitVec, BitVec.toInt_eq_toNat_of_msb b]
          exact Int.natCast_nonneg _
        omega
      exact this _
    rw [lt3, dg3, hnc]
    cases c2 : isLt (he τ (ws τ p)) with
    | true =>
      rw [if_pos rfl]
      obtain ⟨b1, b2, b3, b4⟩ := i119_end h hp h28 c2
      obtain ⟨d1, d2, d3⟩ := i156_end h hp h28 c2
      have fr : FN v (si (lpX3_next_156_r v).2.1 29 (if ((lpX3_next_156_r v).2.1.1 28) - ((lpX3_next_156_r v).2.1.1 27) ≤ 8 then 2 else 1)) := ⟨fun k hk => by rw [si_1, if_neg (by omega), d1]; exact b3 k (by omega) (by omega), d2⟩
      have k8 : (8 : Int32) = nI 8 := rfl
      by_cases c3 : 8 < tl τ p
      · obtain ⟨t1, t2⟩ := tk_w3 hn0 c2 c3
        refine ⟨⟨?_, fun z => absurd t1 z, hp, Or.inr (Or.inl ⟨t1, ?_⟩)⟩, fr⟩
        · rw [si_1, if_neg (by decide), d1, b2]
        · rw [si_1, if_pos rfl, d1, b1, b2, n_dif (by omega) (by omega), k8, if_neg (by rw [n_le (by omega) (by omega)]; omega)]
      · obtain ⟨t1, t2⟩ := tk_w hn0 c2 c3
        refine ⟨⟨?_, fun _ => ?_, hp, Or.inr (Or.inr (Or.inl ⟨t1, ?_, ?_⟩))⟩, fr⟩
        · rw [si_1, if_neg (by decide), d1, b2]
        · rw [si_1, if_neg (by decide), d1, b1, t2]
        · rw [si_1, if_pos rfl, d1, b1, b2, n_dif (by omega) (by omega), k8, if_pos (by rw [n_le (by omega) (by omega)]; omega)]
        · exact d3 (by omega)
    | false =>
      rw [if_neg (by decide)]
      cases c3 : isDg (he τ (ws τ p)) with
      | true =>
        rw [if_pos rfl]
        obtain ⟨b1, b2, b3, b4, b5⟩ := i245_end h hp h28
        have hT4 : TX (fX3_nx4 v) τ := h.of (b4 24 (by decide) (by decide) (by decide)) (by rw [b5])
        rw [b1, b2, n_dif (by omega) (by omega), show ws τ p + dn τ p - ws τ p = dn τ p by omega, show (7 : Int32) = nI 7 from rfl, lt3, sg_P hT4 (by decide) isLt_n _ (by omega)]
        have fr : ∀ z, FN v (si (fX3_nx4 v) 29 z) := fun z => ⟨fun k hk => by rw [si_1, if_neg (by omega)]; exact b4 k (by omega) (by omega) (by omega), by show (fX3_nx4 v).2.1 = _; rw [b5]⟩
        by_cases c4 : 7 < dn τ p ∨ isLt (he τ (ws τ p + dn τ p)) = true
        · obtain ⟨t1, t2⟩ := tk_n3 hn0 c2 c3 c4
          refine ⟨⟨?_, fun z => absurd t1 z, hp, Or.inr (Or.inl ⟨t1, ?_⟩)⟩, fr _⟩
          · rw [si_1, if_neg (by decide), b2]
          · rw [si_1, if_pos rfl]
            rcases c4 with y | y
            · rw [if_pos (by rw [t_lt, nI_i (by omega), nI_i (by omega)]; omega)]
            · by_cases z : nI 7 < nI (dn τ p)
              · rw [if_pos z]
              · rw [if_neg z, if_pos y]
        · obtain ⟨t1, t2⟩ := tk_n hn0 c2 c3 c4
          have c4' : ¬ 7 < dn τ p ∧ ¬ isLt (he τ (ws τ p + dn τ p)) = true := ⟨fun z => c4 (Or.inl z), fun z => c4 (Or.inr z)⟩
          refine ⟨⟨?_, fun _ => ?_, hp, Or.inr (Or.inr (Or.inr (Or.inl ⟨t1, ?_, ?_⟩)))⟩, fr _⟩
          · rw [si_1, if_neg (by decide), b2]
          · rw [si_1, if_neg (by decide), b1, t2]
          · rw [si_1, if_pos rfl, if_neg (by rw [t_lt, nI_i (by omega), nI_i (by omega)]; omega), if_neg c4'.2]
          · rw [si_1, if_neg (by decide), b3, if_pos (by omega)]; rfl
      | false =>
        rw [if_neg (by decide)]
        have fr : ∀ y z, FN v (si (si (fX3_nx1 v) 28 y) 29 z) := fun y z => ⟨fun k hk => by rw [si_1, if_neg (by omega), si_1, if_neg (by omega)]; exact a2 k (by omega), by show (fX3_nx1 v).2.1 = _; rw [a3]⟩
        unfold fX3_nxs
        rw [hnc]
        cases c4 : isSg (he τ (ws τ p)) with
        | true =>
          obtain ⟨t1, t2⟩ := tk_s hn0 c2 c3 c4
          refine ⟨⟨?_, fun _ => ?_, hp, Or.inr (Or.inr (Or.inr (Or.inr ⟨by rw [t1]; exact c4, ?_, t1.symm, by omega⟩)))⟩, fr _ _⟩
          · rw [si_1, if_neg (by decide), si_1, if_neg (by decide), a1]
          · rw [si_1, if_neg (by decide), si_1, if_pos rfl, a1, nI_1, t2]
          · rw [si_1, if_pos rfl, sg_y c4]
        | false =>
          obtain ⟨t1, t2⟩ := tk_b hn0 c2 c3 c4
          refine ⟨⟨?_, fun z => absurd t1 z, hp, Or.inr (Or.inl ⟨t1, ?_⟩)⟩, fr _ _⟩
          · rw [si_1, if_neg (by decide), si_1, if_neg (by decide), a1]
          · rw [si_1, if_pos rfl, sg_n c4]
  · rw [if_neg c1]
    rw [a1, e24, t_lt, nI_i (by omega), nI_i (by omega)] at c1
    have hh : he τ (ws τ p) < 0 := by rw [he_out (by omega)]; decide
    obtain ⟨t1, t2⟩ := tk_end hh
    have ew : ws τ p = τ.1 := by omega
    refine ⟨⟨?_, fun _ => ?_, hp, Or.inl ⟨t1, ?_⟩⟩, ⟨fun k hk => ?_, by show (fX3_nx1 v).2.1 = _; rw [a3]⟩⟩
    · rw [si_1, if_neg (by decide), si_1, if_pos rfl, e24, ew]
    · rw [si_1, if_pos rfl, e24, t2, ew]
    · rw [si_1, if_neg (by decide), si_1, if_neg (by decide), si_1, if_pos rfl]
    · rw [si_1, if_neg (by omega), si_1, if_neg (by omega), si_1, if_neg (by omega), si_1, if_neg (by omega)]; exact a2 k (by omega)
end NX
