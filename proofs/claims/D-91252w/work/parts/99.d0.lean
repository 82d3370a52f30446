/-! THE PLAIN LAW, 39: a line of the law. Own work. -/
set_option maxRecDepth 100000
/-- what reading a law leaves as it was -/
def FT (v1 : St) (b : Nat) (v : St) : Prop := (∀ k, ¬ (25 ≤ k ∧ k ≤ 30) → ¬ k = 41 → ¬ k = 42 → ¬ k = 44 → ¬ k = 45 → v.1 k = v1.1 k) ∧ (∀ k, ¬ (32 ≤ k ∧ k ≤ 38) → ¬ k = 43 → v.2.1 k = v1.2.1 k) ∧ (∀ j, ¬ (600 * b ≤ j ∧ j < 600 * b + 600) → v.2.1 37 j = v1.2.1 37 j ∧ v.2.1 38 j = v1.2.1 38 j) ∧ (∀ k j, 33 ≤ k → k ≤ 36 → ¬ (16 * b ≤ j ∧ j < 16 * b + 16) → v.2.1 k j = v1.2.1 k j) ∧ (∀ j, ¬ j = b → v.2.1 32 j = v1.2.1 32 j)
theorem FT.rf {v1 : St} {b : Nat} : FT v1 b v1 := ⟨fun _ _ _ _ _ _ => rfl, fun _ _ _ => rfl, fun _ _ => ⟨rfl, rfl⟩, fun _ _ _ _ _ => rfl, fun _ _ => rfl⟩
theorem FT.fe {v1 v w : St} {b : Nat} (h : FT v1 b v) (hF : FE v b w) : FT v1 b w := by
  obtain ⟨h1, h2, h3, h4, h5⟩ := h
  refine ⟨fun k a b c d e => by rw [hF.1 k a b c d e]; exact h1 k a b c d e, fun k a b => by rw [hF.2.1 k (by omega) (by omega) b]; exact h2 k a b, fun j hj => by rw [(hF.2.2 j hj).1, (hF.2.2 j hj).2]; exact h3 j hj, fun k j a b c => by rw [hF.2.1 k (by omega) (by omega) (by omega)]; exact h4 k j a b c, fun j hj => by rw [hF.2.1 32 (by decide) (by decide) (by decide)]; exact h5 j hj⟩
def AL (v1 : St) (b : Nat) (τ : Tp) (v : St) (p tm : Nat) (K : List (Int32 × Int32)) : Prop :=
  (v.1 25 = 0 ∧ v.1 26 = v1.1 26) ∧ TX v τ ∧ TK v τ p ∧ (v.1 42 = nI tm ∧ tm ≤ 80) ∧ (v.1 40 = nI b ∧ b < 2) ∧ (v.1 41 = nI K.length ∧ CDr (v.2.1 37) (v.2.1 38) (600 * b) K) ∧ K.length ≤ p ∧ FT v1 b v
def BT (v1 : St) (b : Nat) (w : St) (q : Int32 × Nat) : Prop := w.1 25 = q.1 ∧ w.1 26 = nI q.2 ∧ ¬ q.1 = 0 ∧ FT v1 b w
section LN
variable {v1 v w : St} {b : Nat} {τ : Tp} {p tm n : Nat} {K : List (Int32 × Int32)}
theorem AL.an (h : AL v1 b τ v p tm K) : AN v b τ v p tm K 0 := by
  obtain ⟨h1, h2, h3, h4, h5, h6, h7, h8⟩ := h
  exact ⟨⟨h1.1, rfl⟩, h2, h3, h4, h5, h6, by omega, FE.rf⟩
theorem AL.of (h : AL v1 b τ v p tm K) {p' tm' : Nat} {K' : List (Int32 × Int32)} (h2 : AN v b τ w p' tm' K' 0) : AL v1 b τ w p' tm' K' := by
  obtain ⟨a1, a2, a3, a4, a5, a6, a7, a8⟩ := h2
  exact ⟨⟨a1.1, a1.2.trans h.1.2⟩, a2, a3, a4, a5, a6, by omega, h.2.2.2.2.2.2.2.fe a8⟩
theorem AL.bt (h : AL v1 b τ v p tm K) {q : Int32 × Nat} (h2 : BD v b w q) : BT v1 b w q := ⟨h2.1, h2.2.1, h2.2.2.1, h.2.2.2.2.2.2.2.fe h2.2.2.2⟩
theorem AL.gd (h : AL v1 b τ v p tm K) : fX3_isGood v = true := by unfold fX3_isGood; rw [if_pos h.1.1]
theorem bt_g {q : Int32 × Nat} (h : BT v1 b w q) : ¬ fX3_isGood w = true := by
  unfold fX3_isGood; rw [if_neg (by rw [h.1]; exact h.2.2.1)]; decide
/-- with a pile of our own: for the lemmas above -/
theorem AL.nx (h : AL v1 b τ v p tm K) (h0 : ¬ ts τ p = 0) (h3 : ¬ ts τ p = 3) : okX3_next v ∧ AL v1 b τ (fX3_next v) (te τ p) tm K := by
  obtain ⟨h1, h2, h3', h4, h5, h6, h7, h8⟩ := h
  obtain ⟨g1, g2⟩ := te_gt h3'.2.2.1 h0 h3
  have e28 := h3'.2.1 h3
  obtain ⟨n1, n2⟩ := nx_3 h2 g2 e28
  exact ⟨nx_ok h2 g2 e28, ⟨by rw [n2.1 25 (by decide)]; exact h1.1, by rw [n2.1 26 (by decide)]; exact h1.2⟩, h2.of (n2.1 24 (by decide)) (by rw [n2.2]), n1, ⟨by rw [n2.1 42 (by decide)]; exact h4.1, h4.2⟩, ⟨by rw [n2.1 40 (by decide)]; exact h5.1, h5.2⟩, ⟨by rw [n2.1 41 (by decide)]; exact h6.1, by rw [n2.2]; exact h6.2⟩, by omega, h8.fe (FE.rf.fn n2)⟩
theorem AL.wr (h : AL v1 b τ v p tm K) : BT v1 b (fX3_wrong v) (eKd τ p, ws τ p) := by
  have hs := so_3 h.2.2.1
  have ek : (if v.1 29 = 1 then (1 : Int32) else 2) = eKd τ p := by
    unfold eKd
    by_cases z : ts τ p = 3
    · rw [if_pos z, if_pos (hs.2.1.mpr z)]
    · rw [if_neg z, if_neg (fun y => z (hs.2.1.mp y))]
  refine h.bt ?_
  unfold fX3_wrong fX3_fails
  rw [h.1.1, if_pos (by decide), ek, h.2.2.1.1]
  refine ⟨?_, ?_, ?_, (FE.rf.si (by omega)).si (by omega)⟩
  · rw [si_1, if_neg (by decide), si_1, if_pos rfl]
  · rw [si_1, if_pos rfl]
  · show ¬ eKd τ p = 0
    unfold eKd; split <;> decide
/-- a word of the line's own -/
theorem AL.sa (h : AL v1 b τ v p tm K) {k j : Nat} {x : Int32} (hk : 33 ≤ k ∧ k ≤ 36) (hj : j < 16) : AL v1 b τ (sa v k (16 * b + j) x) p tm K := by
  obtain ⟨h1, h2, h3, h4, h5, h6, h7, h8⟩ := h
  refine ⟨h1, h2.of rfl (by rw [sa_o (by omega)]), h3, h4, h5, ⟨h6.1, by rw [sa_o (by omega), sa_o (by omega)]; exact h6.2⟩, h7, h8.1, fun m a c => by rw [sa_o (by omega)]; exact h8.2.1 m a c, fun m hm => by rw [sa_o (by omega), sa_o (by omega)]; exact h8.2.2.1 m hm, fun m i a c e => ?_, fun m hm => by rw [sa_o (by omega)]; exact h8.2.2.2.2 m hm⟩
  by_cases z : m = k
  · subst z; rw [sa_s, upd_o (by omega)]; exact h8.2.2.2.1 m i a c e
  · rw [sa_o z]; exact h8.2.2.2.1 m i a c e
theorem AL.mu {y : Bool} (h : AL v1 b τ v p tm K) (hy : y = true → ¬ ts τ p = 0 ∧ ¬ ts τ p = 3) : okX3_must v y ∧ (y = true → fX3_must v y = fX3_next v) ∧ (y = false → fX3_must v y = fX3_wrong v) := by
  refine ⟨fun _ z => (h.nx (hy z).1 (hy z).2).1, fun z => ?_, fun z => ?_⟩
  · unfold fX3_must; rw [if_pos h.gd, if_pos z]
  · unfold fX3_must; rw [if_pos h.gd, z, if_neg (by decide)]
theorem mu_no {y : Bool} (h : ¬ fX3_isGood v = true) : okX3_must v y ∧ fX3_must v y = v := ⟨fun z => absurd z h, by unfold fX3_must; rw [if_neg h]⟩
theorem BT.sa {q : Int32 × Nat} (h : BT v1 b w q) {k j : Nat} {x : Int32} (hk : 33 ≤ k ∧ k ≤ 36) (hj : j < 16) : BT v1 b (sa w k (16 * b + j) x) q := by
  obtain ⟨h1, h2, h3, h8⟩ := h
  refine ⟨h1, h2, h3, h8.1, fun m a c => by rw [sa_o (by omega)]; exact h8.2.1 m a c, fun m hm => by rw [sa_o (by omega), sa_o (by omega)]; exact h8.2.2.1 m hm, fun m i a c e => ?_, fun m hm => by rw [sa_o (by omega)]; exact h8.2.2.2.2 m hm⟩
  by_cases z : m = k
  · subst z; rw [sa_s, upd_o (by omega)]; exact h8.2.2.2.1 m i a c e
  · rw [sa_o z]; exact h8.2.2.2.1 m i a c e
theorem BT.s32 {q : Int32 × Nat} (h : BT v1 b w q) {x : Int32} : BT v1 b (_root_.Jvm.Pilot.CHomeRollLaw_law_r2334_714e8a.sa w 32 b x) q := by
  obtain ⟨h1, h2, h3, h8⟩ := h
  refine ⟨h1, h2, h3, h8.1, fun m a c => by rw [sa_o (by omega)]; exact h8.2.1 m a c, fun m hm => by rw [sa_o (by omega), sa_o (by omega)]; exact h8.2.2.1 m hm, fun m i a c e => by rw [sa_o (by omega)]; exact h8.2.2.2.1 m i a c e, fun m hm => by rw [sa_s, upd_o hm]; exact h8.2.2.2.2 m hm⟩
/-- the lines read so far -/
def LNs (a33 a34 a35 a36 : Nat → Int32) (b n : Nat) (lns : Nat → Ln) (K : List (Int32 × Int32)) : Prop := ∀ j, j < n → ∃ A B Kj, K = A ++ (Kj ++ B) ∧ a35 (16 * b + j) = nI B.length ∧ a36 (16 * b + j) = nI (Kj.length + B.length) ∧ CF Kj (lns j).1 80 ∧ a33 (16 * b + j) = (lns j).2.1 ∧ a34 (16 * b + j) = (lns j).2.2
theorem LNs.kept {a33 a34 a35 a36 c33 c34 c35 c36 : Nat → Int32} {lns : Nat → Ln} {K' : List (Int32 × Int32)} (h : LNs a33 a34 a35 a36 b n lns K) (e : ∀ j, j < n → c33 (16 * b + j) = a33 (16 * b + j) ∧ c34 (16 * b + j) = a34 (16 * b + j) ∧ c35 (16 * b + j) = a35 (16 * b + j) ∧ c36 (16 * b + j) = a36 (16 * b + j)) : LNs c33 c34 c35 c36 b n lns (K' ++ K) := by
  intro j hj
  obtain ⟨A, B, Kj, g1, g2, g3, g4, g5, g6⟩ := h j hj
  obtain ⟨e1, e2, e3, e4⟩ := e j hj
  exact ⟨K' ++ A, B, Kj, by rw [g1, List.append_assoc], by rw [e3]; exact g2, by rw [e4]; exact g3, g4, by rw [e1]; exact g5, by rw [e2]; exact g6⟩
theorem n_16 {a c : Nat} (ha : a < 100) (hc : c < 100000) : 16 * nI a + nI c = nI (16 * a + c) := by
  have e : (16 * nI a).toInt = 16 * (a : Int) := by
    rw [Int32.toInt_mul, nI_i (by omega), show (16 : Int32).toInt = 16 from rfl]
    exact Int.bmod_eq_of_le (by omega) (by omega)
  rw [t_eq, t_add (by rw [e, nI_i (by omega)]; omega) (by rw [e, nI_i (by omega)]; omega), e, nI_i (by omega), nI_i (by omega)]
  omega
/-- what a line comes to -/
def lineR (τ : Tp) (p tm n : Nat) : LO := if isW τ p 2 = true ∧ ¬ n = 16 then (match (pEither τ 6 (te τ p) tm).1 with
  | .error q => .error q
  | .ok q => lnA τ q) else .error (eKd τ p, ws τ p)
theorem rlr_3 (h : AL v1 b τ v p tm K) : (if (fX3_isWord v 1650549611) = true then (1 : Int32) else (if (fX3_isWord v 478694368626) = true then 2 else (if (fX3_isWord v 470020941177) = true then 3 else (if (fX3_isWord v 1852796517) = true then 4 else 0)))) = dsW τ p := by
  have w1 : (1650549611 : Int64) = wcn 16 := by decide +kernel
  have w2 : (478694368626 : Int64) = wcn 17 := by decide +kernel
  have w3 : (470020941177 : Int64) = wcn 18 := by decide +kernel
  have w4 : (1852796517 : Int64) = wcn 19 := by decide +kernel
  rw [w1, w2, w3, w4, isw_3 h.2.2.1 (by decide) (by decide), isw_3 h.2.2.1 (by decide) (by decide), isw_3 h.2.2.1 (by decide) (by decide), isw_3 h.2.2.1 (by decide) (by decide)]
  rfl
theorem dsW_ts {p : Nat} (h : ¬ dsW τ p = 0) : ¬ ts τ p = 0 ∧ ¬ ts τ p = 3 := by
  unfold dsW at h
  by_cases a : isW τ p 16 = true
  · exact isW_ts a
  · rw [if_neg a] at h
    by_cases c : isW τ p 17 = true
    · exact isW_ts c
    · rw [if_neg c] at h
      by_cases d : isW τ p 18 = true
      · exact isW_ts d
      · rw [if_neg d] at h
        by_cases e : isW τ p 19 = true
        · exact isW_ts e
        · rw [if_neg e] at h; exact absurd rfl h
theorem dsW_p {p : Nat} : (if dsW τ p ≤ 0 then false else true) = !decide (dsW τ p = 0) := by
  unfold dsW
  split
  · rfl
  · split
    · rfl
    · split
      · rfl
      · split <;> rfl
end LN
