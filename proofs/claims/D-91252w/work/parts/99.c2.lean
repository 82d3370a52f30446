/-! THE PLAIN LAW, 31: the model's tests of its token. Own work. -/
set_option maxRecDepth 100000
section NY
variable {v w : St} {τ : Tp} {p : Nat}
theorem nx_ok (h : TX v τ) (hp : p ≤ τ.1) (h28 : v.1 28 = nI p) : okX3_next v := by
  obtain ⟨a1, a2, a3⟩ := t8_end h hp h28
  have hm := h.2.1
  have hws := ws_le (τ := τ) hp
  have htl := tl_le (τ := τ) hp
  have hdn := dn_le (τ := τ) hp
  have hT : TX (fX3_nx1 v) τ := h.of (a2 24 (by decide)) (by rw [a3])
  have hnc : (fX3_nx1 v).1 27 < (fX3_nx1 v).1 24 → fX3_nxc v = he τ (ws τ p) := fun z => by
    rw [a1, hT.1, t_lt, nI_i (by omega), nI_i (by omega)] at z
    unfold fX3_nxc; rw [a1, sg_in hT (by omega)]
  refine ⟨T8 v τ p, I245 v τ p, I119 v τ p, I156 v τ p, ?_, ?_, ?_, ?_, ?_, ?_, ?_, ?_, ?_, ?_⟩
  · exact LOK.of (μ := fun x => 600 - (x.1 27).toNatClampNeg) ⟨p, Nat.le_refl _, by unfold ws; omega, by rw [si_1, if_pos rfl, h28], fun k hk => by rw [si_1, if_neg hk], rfl⟩ (t8_step h hp) (by show 600 - _ < 700; omega)
  · rintro x ⟨q, b1, b2, b3, b4, b5⟩ _
    rw [b3]
    exact sg_ok (h.of (b4 24 (by decide)) (by rw [b5])) q (by omega)
  · rw [a1]; exact sg_ok hT _ (by omega)
  · intro _ _ _
    exact LOK.of (μ := fun x => 600 - (x.1 28).toNatClampNeg) (i245_init h hp h28) (i245_step h hp) (by show 600 - _ < 700; omega)
  · rintro _ _ _ x ⟨j, b1, b2, b3, b4, b5, b6⟩
    rw [b2]
    exact sg_ok (h.of (b5 24 (by decide) (by decide) (by decide)) (by rw [b6])) _ (by omega)
  · intro _ _ _ _
    obtain ⟨b1, b2, b3, b4, b5⟩ := i245_end h hp h28
    rw [b1]
    exact sg_ok (h.of (b4 24 (by decide) (by decide) (by decide)) (by rw [b5])) _ (by omega)
  · intro z1 z2
    rw [hnc z1, lt3] at z2
    exact LOK.of (μ := fun x => 600 - (x.1 28).toNatClampNeg) (i119_init h hp h28 z2) (i119_step h hp) (by show 600 - _ < 700; omega)
  · rintro _ _ x ⟨q, b1, b2, b3, b4, b5, b6⟩
    rw [b3]
    exact sg_ok (h.of (b5 24 (by decide) (by decide)) (by rw [b6])) _ (by omega)
  · intro z1 z2
    rw [hnc z1, lt3] at z2
    exact LOK.of (μ := fun x => ws τ p + 8 - x.2.toNatClampNeg) (i156_init h hp h28 z2) (i156_step h hp h28 z2) (i156_mu h hp h28 z2)
  · rintro z1 z2 x k ⟨j, b1, b2, b3, b4, b5, b6⟩ _ _
    rw [hnc z1, lt3] at z2
    obtain ⟨d1, d2, d3, d4⟩ := i119_end h hp h28 z2
    replace b3 : k = nI (ws τ p + j) := b3
    replace b5 : x.1 = (fX3_nx3 v).1 := b5
    replace b6 : x.2.1 = (fX3_nx3 v).2.1 := b6
    rw [b3]
    exact sg_ok (h.of (by rw [b5]; exact d3 24 (by decide) (by decide)) (by rw [b6, d4])) _ (by omega)
theorem is_ok (h : TX v τ) (hk : TK v τ p) (c : Int32) : okX3_is v c := by
  have := ws_le (τ := τ) hk.2.2.1
  have := h.2.1
  intro _; rw [hk.1]; exact sg_ok h _ (by omega)
theorem is_3 (h : TX v τ) (hk : TK v τ p) {c : Int32} (hc : isSg c = true) : fX3_is v c = decide (ts τ p = c) := by
  obtain ⟨c1, c2, c0, c3⟩ := isSg_12 hc
  obtain ⟨k1, k2, k3, k4⟩ := hk
  unfold fX3_is
  rcases k4 with ⟨a, b⟩ | ⟨a, b⟩ | ⟨a, b, -⟩ | ⟨a, b, -⟩ | ⟨a, b, d, e⟩
  · rw [b, if_neg (by decide), a, decide_eq_false (fun z => c0 z.symm)]
  · rw [b, if_neg (by decide), a, decide_eq_false (fun z => c3 z.symm)]
  · rw [b, if_neg (by decide), a, decide_eq_false (fun z => c1 z.symm)]
  · rw [b, if_neg (by decide), a, decide_eq_false (fun z => c2 z.symm)]
  · rw [b, if_pos rfl, k1, sg_in h e, d]
    by_cases z : ts τ p = c
    · rw [if_pos z, decide_eq_true z]
    · rw [if_neg z, decide_eq_false z]
def wcn (i : Nat) : Int64 := nL (pk (sAt i) (sLen i))
theorem sAt_C : ∀ i, 2 ≤ i → i < 20 → ∀ j, j < sLen i → isC (sAt i j) := by
  have h : ∀ i, i < 20 → 2 ≤ i → ∀ j, j < sLen i → 97 ≤ (sAt i j).toInt ∧ (sAt i j).toInt ≤ 122 := by decide +kernel
  exact fun i a b j c => h i b a j c
theorem pk_63 {f : Nat → Int32} {n : Nat} (h : ∀ j, j < n → isC (f j)) (hn : n ≤ 8) : pk f n < 9223372036854775808 := by
  rcases pkw_lt n h with e | e
  · have : 256 ^ n ≤ 256 ^ 8 := Nat.pow_le_pow_right (by decide) hn
    have e8 : (256 : Nat) ^ 8 = 18446744073709551616 := rfl
    omega
  · subst e; rw [pk]; omega
theorem lt_C2 (hp : p ≤ τ.1) : ∀ j, j < tl τ p → isC (lt τ p j) := fun j hj => by
  unfold lt cutT; rw [if_pos hj]; exact lt_C hp hj
theorem pk_eqT (hp : p ≤ τ.1) (h8 : tl τ p ≤ 8) {i : Nat} (h2 : 2 ≤ i) (hi : i < 20) : nL (pk (lt τ p) (tl τ p)) = wcn i ↔ eqT (tl τ p) (lt τ p) i = true := by
  have hl := sLen_le i hi
  constructor
  · intro z
    obtain ⟨e1, e2⟩ := pk_inj _ _ (lt_C2 hp) (sAt_C i h2 hi) (nL_inj (pk_63 (lt_C2 hp) h8) (pk_63 (sAt_C i h2 hi) hl) z)
    exact eqT_t e1 e2
  · intro z
    obtain ⟨e1, e2⟩ := eqT_e z
    unfold wcn
    rw [← e1, pk_ext _ e2]
theorem isw_3 (hk : TK v τ p) {i : Nat} (h2 : 2 ≤ i) (hi : i < 20) : fX3_isWord v (wcn i) = isW τ p i := by
  obtain ⟨k1, k2, k3, k4⟩ := hk
  unfold fX3_isWord isW
  rcases k4 with ⟨a, b⟩ | ⟨a, b⟩ | ⟨a, b, c⟩ | ⟨a, b, -⟩ | ⟨a, b, d, e⟩
  · rw [b, if_neg (by decide), a]; rfl
  · rw [b, if_neg (by decide), a]; rfl
  · rw [b, if_pos rfl, c, a]
    have h8 := (ts1 a).2.1
    have := pk_eqT k3 h8 h2 hi
    by_cases z : nL (pk (lt τ p) (tl τ p)) = wcn i
    · rw [if_pos z, this.mp z]; rfl
    · rw [if_neg z]
      cases y : eqT (tl τ p) (lt τ p) i with
      | true => exact absurd (this.mpr y) z
      | false => rfl
  · rw [b, if_neg (by decide), a]; rfl
  · rw [b, if_neg (by decide)]
    have := isSg_12 a
    rw [decide_eq_false this.1]; rfl
/-- which term the token names -/
def tmF (τ : Tp) (p : Nat) : Int32 := if ts τ p = 1 then (match fnd (tl τ p) (lt τ p) with | some k => nI k | none => -1) else -1
theorem th_3 (hk : TK v τ p) : fX3_termHere v = tmF τ p := by
  obtain ⟨k1, k2, k3, k4⟩ := hk
  unfold fX3_termHere tmF
  have no : ¬ ts τ p = 1 → ¬ v.1 29 = 2 → (if v.1 29 = 2 then (if fX3_th1 v < 0 then (if (v.2.2 31 0) = 1751477348 then (5 : Int32) else (if (v.2.2 31 0) = 448311223411 then 6 else (if (v.2.2 31 0) = 465625834867 then 7 else (if (v.2.2 31 0) = 1684365668 then 8 else (-1))))) else fX3_th1 v) else (-1)) = (if ts τ p = 1 then (match fnd (tl τ p) (lt τ p) with | some k => nI k | none => -1) else -1) := fun a b => by rw [if_neg a, if_neg b]
  rcases k4 with ⟨a, b⟩ | ⟨a, b⟩ | ⟨a, b, c⟩ | ⟨a, b, -⟩ | ⟨a, b, d, e⟩
  · exact no (by rw [a]; decide) (by rw [b]; decide)
  · exact no (by rw [a]; decide) (by rw [b]; decide)
  · rw [if_pos b, if_pos a]
    have h8 := (ts1 a).2.1
    have hw : ∀ k, k < 9 → (v.2.2 31 0 = wcn (3 + k) ↔ eqT (tl τ p) (lt τ p) (3 + k) = true) := fun k hk => by
      rw [c]; exact pk_eqT k3 h8 (by omega) (by omega)
    have w0 : (112628846519652 : Int64) = wcn (3 + 0) := by decide +kernel
    have w1 : (444150998382 : Int64) = wcn (3 + 1) := by decide +kernel
    have w2 : (482955846501 : Int64) = wcn (3 + 2) := by decide +kernel
    have w3 : (512970880104 : Int64) = wcn (3 + 3) := by decide +kernel
    have w4 : (2036687218 : Int64) = wcn (3 + 4) := by decide +kernel
    have w5 : (1751477348 : Int64) = wcn (3 + 5) := by decide +kernel
    have w6 : (448311223411 : Int64) = wcn (3 + 6) := by decide +kernel
    have w7 : (465625834867 : Int64) = wcn (3 + 7) := by decide +kernel
    have w8 : (1684365668 : Int64) = wcn (3 + 8) := by decide +kernel
    unfold fX3_th1
    rw [w0, w1, w2, w3, w4, w5, w6, w7, w8]
    have hit : ∀ k, k < 9 → v.2.2 31 0 = wcn (3 + k) → (match fnd (tl τ p) (lt τ p) with | some k => nI k | none => -1) = nI k := fun k hk z => by
      rw [fnd_s hk ((hw k hk).mp z)]
    by_cases c0 : v.2.2 31 0 = wcn (3 + 0)
    · rw [hit 0 (by decide) c0]; simp only [if_pos c0]; rfl
    · simp only [if_neg c0]
      by_cases c1 : v.2.2 31 0 = wcn (3 + 1)
      · rw [hit 1 (by decide) c1]; simp only [if_pos c1]; rfl
      · simp only [if_neg c1]
        by_cases c2 : v.2.2 31 0 = wcn (3 + 2)
        · rw [hit 2 (by decide) c2]; simp only [if_pos c2]; rfl
        · simp only [if_neg c2]
          by_cases c3 : v.2.2 31 0 = wcn (3 + 3)
          · rw [hit 3 (by decide) c3]; simp only [if_pos c3]; rfl
          · simp only [if_neg c3]
            by_cases c4 : v.2.2 31 0 = wcn (3 + 4)
            · rw [hit 4 (by decide) c4]; simp only [if_pos c4]; rfl
            · simp only [if_neg c4]
              rw [if_pos (by decide)]
              by_cases c5 : v.2.2 31 0 = wcn (3 + 5)
              · rw [hit 5 (by decide) c5]; simp only [if_pos c5]; rfl
              · simp only [if_neg c5]
                by_cases c6 : v.2.2 31 0 = wcn (3 + 6)
                · rw [hit 6 (by decide) c6]; simp only [if_pos c6]; rfl
                · simp only [if_neg c6]
                  by_cases c7 : v.2.2 31 0 = wcn (3 + 7)
                  · rw [hit 7 (by decide) c7]; simp only [if_pos c7]; rfl
                  · simp only [if_neg c7]
                    by_cases c8 : v.2.2 31 0 = wcn (3 + 8)
                    · rw [hit 8 (by decide) c8]; simp only [if_pos c8]; rfl
                    · simp only [if_neg c8]
                      rw [fnd_n (fun k hk => ?_)]
                      cases y : eqT (tl τ p) (lt τ p) (3 + k) with
                      | false => rfl
                      | true =>
                        exfalso
                        have z := (hw k hk).mpr y
                        rcases Nat.lt_or_ge k 1 with q | q
                        · obtain rfl : k = 0 := by omega
                          exact c0 z
                        rcases Nat.lt_or_ge k 2 with q | q
                        · obtain rfl : k = 1 := by omega
                          exact c1 z
                        rcases Nat.lt_or_ge k 3 with q | q
                        · obtain rfl : k = 2 := by omega
                          exact c2 z
                        rcases Nat.lt_or_ge k 4 with q | q
                        · obtain rfl : k = 3 := by omega
                          exact c3 z
                        rcases Nat.lt_or_ge k 5 with q | q
                        · obtain rfl : k = 4 := by omega
                          exact c4 z
                        rcases Nat.lt_or_ge k 6 with q | q
                        · obtain rfl : k = 5 := by omega
                          exact c5 z
                        rcases Nat.lt_or_ge k 7 with q | q
                        · obtain rfl : k = 6 := by omega
                          exact c6 z
                        rcases Nat.lt_or_ge k 8 with q | q
                        · obtain rfl : k = 7 := by omega
                          exact c7 z
                        · obtain rfl : k = 8 := by omega
                          exact c8 z
  · exact no (by rw [a]; decide) (by rw [b]; decide)
  · have := isSg_12 a
    exact no this.1 (by rw [b]; decide)
/-- what the token is, by the model's sort -/
theorem so_3 (hk : TK v τ p) : (v.1 29 = 3 ↔ ts τ p = 2) ∧ (v.1 29 = 1 ↔ ts τ p = 3) ∧ (v.1 29 = 0 ↔ ts τ p = 0) ∧ (ts τ p = 2 → v.1 30 = tn τ p) := by
  obtain ⟨k1, k2, k3, k4⟩ := hk
  rcases k4 with ⟨a, b⟩ | ⟨a, b⟩ | ⟨a, b, c⟩ | ⟨a, b, c⟩ | ⟨a, b, d, e⟩
  · rw [a, b]; exact ⟨by decide, by decide, by decide, fun z => absurd z (by decide)⟩
  · rw [a, b]; exact ⟨by decide, by decide, by decide, fun z => absurd z (by decide)⟩
  · rw [a, b]; exact ⟨by decide, by decide, by decide, fun z => absurd z (by decide)⟩
  · rw [a, b]; exact ⟨by decide, by decide, by decide, fun _ => c⟩
  · have := isSg_12 a
    rw [b]
    exact ⟨⟨fun z => absurd z (by decide), fun z => absurd z this.2.1⟩, ⟨fun z => absurd z (by decide), fun z => absurd z this.2.2.2⟩, ⟨fun z => absurd z (by decide), fun z => absurd z this.2.2.1⟩, fun z => absurd z this.2.1⟩
theorem te_gt {τ : Tp} {p : Nat} (hp : p ≤ τ.1) (h0 : ¬ ts τ p = 0) (h3 : ¬ ts τ p = 3) : p < te τ p ∧ te τ p ≤ τ.1 := by
  have hws := ws_le (τ := τ) hp
  have htl := tl_le (τ := τ) hp
  have hdn := dn_le (τ := τ) hp
  have hpw : p ≤ ws τ p := by unfold ws; omega
  by_cases c0 : he τ (ws τ p) < 0
  · exact absurd (tk_end c0).1 h0
  · have hin : ws τ p < τ.1 := (he_lt c0).1
    cases c1 : isLt (he τ (ws τ p)) with
    | true =>
      have h1 : 0 < tl τ p := by
        have := (rn_ge (τ := τ) (P := isLt) (p := ws τ p) (q := ws τ p) isLt_n (Nat.le_refl _) (by omega)).1 c1
        have e : rn τ isLt (ws τ p) = tl τ p := rfl
        omega
      by_cases c2 : 8 < tl τ p
      · exact absurd (tk_w3 c0 c1 c2).1 h3
      · rw [(tk_w c0 c1 c2).2]; omega
    | false =>
      cases c2 : isDg (he τ (ws τ p)) with
      | true =>
        have h1 : 0 < dn τ p := by
          have := (rn_ge (τ := τ) (P := isDg) (p := ws τ p) (q := ws τ p) isDg_n (Nat.le_refl _) (by omega)).1 c2
          have e : rn τ isDg (ws τ p) = dn τ p := rfl
          omega
        by_cases c4 : 7 < dn τ p ∨ isLt (he τ (ws τ p + dn τ p)) = true
        · exact absurd (tk_n3 c0 c1 c2 c4).1 h3
        · rw [(tk_n c0 c1 c2 c4).2]; omega
      | false =>
        cases c4 : isSg (he τ (ws τ p)) with
        | true => rw [(tk_s c0 c1 c2 c4).2]; omega
        | false => exact absurd (tk_b c0 c1 c2 c4).1 h3
end NY
