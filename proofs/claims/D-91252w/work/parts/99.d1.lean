/-! THE PLAIN LAW, 40: readLine. Own work. -/
set_option maxRecDepth 100000
section RL
variable {v1 v : St} {b : Nat} {τ : Tp} {p tm n : Nat} {K : List (Int32 × Int32)} {lns : Nat → Ln}
def rlQ (v1 : St) (b : Nat) (τ : Tp) (n : Nat) (lns : Nat → Ln) (K : List (Int32 × Int32)) (w : St) (r : LO) : Prop := match r with
  | .error q => BT v1 b w q
  | .ok q => ∃ K', AL v1 b τ w q.2.1 q.2.2 (K' ++ K) ∧ w.2.1 32 b = nI (n + 1) ∧ LNs (w.2.1 33) (w.2.1 34) (w.2.1 35) (w.2.1 36) b (n + 1) (updN lns n q.1) (K' ++ K)
theorem nx_21 {z : St} (h : AL v1 b τ z p tm K) (h0 : ¬ ts τ p = 0) (h3 : ¬ ts τ p = 3) : (fX3_next z).2.1 = z.2.1 :=
  (nx_3 h.2.1 (te_gt h.2.2.1.2.2.1 h0 h3).2 (h.2.2.1.2.1 h3)).2.2
theorem bt_40 {w : St} {q : Int32 × Nat} (h : AL v1 b τ v p tm K) (hB : BT v1 b w q) : w.1 40 = nI b := by
  rw [hB.2.2.2.1 40 (by decide) (by decide) (by decide) (by decide) (by decide), ← h.2.2.2.2.2.2.2.1 40 (by decide) (by decide) (by decide) (by decide) (by decide)]
  exact h.2.2.2.2.1.1
/-- how the line's arrays stand -/
def LR (v z : St) (b n : Nat) (s e ds pt : Int32) : Prop := z.2.1 32 = v.2.1 32 ∧ (∀ j, j < n → ∀ k, 33 ≤ k → k ≤ 36 → z.2.1 k (16 * b + j) = v.2.1 k (16 * b + j)) ∧ z.2.1 35 (16 * b + n) = s ∧ z.2.1 36 (16 * b + n) = e ∧ z.2.1 33 (16 * b + n) = ds ∧ z.2.1 34 (16 * b + n) = pt
theorem LR.fin {z : St} {K' : List (Int32 × Int32)} {f : Sm} {ds pt : Int32} {m : Nat} (hR : LR v z b n (nI K.length) (nI (K' ++ K).length) ds pt) (hL : LNs (v.2.1 33) (v.2.1 34) (v.2.1 35) (v.2.1 36) b n lns K) (hC : CF K' f m) (hm : m ≤ 80) {w : St} (hw : ∀ k, 33 ≤ k → k ≤ 36 → w.2.1 k = z.2.1 k) : LNs (w.2.1 33) (w.2.1 34) (w.2.1 35) (w.2.1 36) b (n + 1) (updN lns n (f, ds, pt)) (K' ++ K) := by
  obtain ⟨r0, r1, r2, r3, r4, r5⟩ := hR
  rw [hw 33 (by decide) (by decide), hw 34 (by decide) (by decide), hw 35 (by decide) (by decide), hw 36 (by decide) (by decide)]
  have old : LNs (z.2.1 33) (z.2.1 34) (z.2.1 35) (z.2.1 36) b n lns (K' ++ K) := hL.kept (fun j hj => ⟨r1 j hj 33 (by decide) (by decide), r1 j hj 34 (by decide) (by decide), r1 j hj 35 (by decide) (by decide), r1 j hj 36 (by decide) (by decide)⟩)
  intro j hj
  by_cases c : j = n
  · subst c
    have e : updN lns j (f, ds, pt) j = (f, ds, pt) := by unfold updN; rw [if_pos rfl]
    rw [e]
    exact ⟨[], K, K', by rw [List.nil_append], r2, by rw [r3, List.length_append], hC.w hm, r4, r5⟩
  · have e : updN lns n (f, ds, pt) j = lns j := by unfold updN; rw [if_neg c]
    rw [e]
    exact old j (by omega)
/-- the line's end -/
theorem rl_end (h : AL v1 b τ v p tm K) (hn : n < 16) (h32 : v.2.1 32 b = nI n) (hL : LNs (v.2.1 33) (v.2.1 34) (v.2.1 35) (v.2.1 36) b n lns K) {z : St} {P tm' : Nat} {K' : List (Int32 × Int32)} {f : Sm} {ds pt : Int32} {m : Nat} (hz : AL v1 b τ z P tm' (K' ++ K)) (hR : LR v z b n (nI K.length) (nI (K' ++ K).length) ds pt) (hC : CF K' f m) (hm : m ≤ 80) : okX3_is z 59 ∧ okX3_must z (fX3_is z 59) ∧ (fX3_must z (fX3_is z 59)).1 40 = nI b ∧ rlQ v1 b τ n lns K (sa (fX3_must z (fX3_is z 59)) 32 b ((fX3_must z (fX3_is z 59)).2.1 32 b + 1)) (lnE τ f ds pt P tm') := by
  have ei : fX3_is z 59 = decide (ts τ P = 59) := is_3 hz.2.1 hz.2.2.1 (by decide)
  have hy : fX3_is z 59 = true → ¬ ts τ P = 0 ∧ ¬ ts τ P = 3 := fun y => by
    rw [ei] at y
    rw [of_decide_eq_true y]; decide
  obtain ⟨u1, u2, u3⟩ := hz.mu hy
  refine ⟨is_ok hz.2.1 hz.2.2.1 _, u1, ?_⟩
  unfold lnE
  by_cases c : ts τ P = 59
  · have yt : fX3_is z 59 = true := by rw [ei, decide_eq_true c]
    have hs := hy yt
    rw [u2 yt, if_pos c]
    have g := (hz.nx hs.1 hs.2).2
    have e21 := nx_21 hz hs.1 hs.2
    refine ⟨g.2.2.2.2.1.1, K', ?_, ?_, ?_⟩
    · obtain ⟨h1, h2, h3, h4, h5, h6, h7, h8⟩ := g
      refine ⟨h1, h2.of rfl (by rw [sa_o (by decide)]), h3, h4, h5, ⟨h6.1, by rw [sa_o (by decide), sa_o (by decide)]; exact h6.2⟩, h7, h8.1, fun k a c => by rw [sa_o (by omega)]; exact h8.2.1 k a c, fun k hk => by rw [sa_o (by decide), sa_o (by decide)]; exact h8.2.2.1 k hk, fun k i a c e => by rw [sa_o (by omega)]; exact h8.2.2.2.1 k i a c e, fun k hk => by rw [sa_s, upd_o hk]; exact h8.2.2.2.2 k hk⟩
    · rw [sa_s, upd_s, e21, hR.1, h32, nI_1]
    · exact hR.fin hL hC hm (fun k a c => by rw [sa_o (by omega), e21])
  · have yf : fX3_is z 59 = false := by rw [ei, decide_eq_false c]
    rw [u3 yf, if_neg c]
    exact ⟨bt_40 h hz.wr, hz.wr.s32⟩
theorem rl_3 (h : AL v1 b τ v p tm K) (hn : n ≤ 16) (h32 : v.2.1 32 b = nI n) (hL : LNs (v.2.1 33) (v.2.1 34) (v.2.1 35) (v.2.1 36) b n lns K) : okX3_readLine v ∧ rlQ v1 b τ n lns K (fX3_readLine v) (lineR τ p tm n) := by
  have w2 : (2003330414 : Int64) = wcn 2 := by decide +kernel
  have w15 : (25711 : Int64) = wcn 15 := by decide +kernel
  have h40 : v.1 40 = nI b := h.2.2.2.2.1.1
  have hb := h.2.2.2.2.1.2
  have ew : fX3_isWord v 2003330414 = isW τ p 2 := by rw [w2]; exact isw_3 h.2.2.1 (by decide) (by decide)
  have v40 : vp_in (v.1 40) 2 := by rw [h40, vp_in_iff, nI_i (by omega)]; omega
  have e16 : v.2.1 32 ((v.1 40).toNatClampNeg) = 16 ↔ n = 16 := by
    rw [h40, nN (by omega), h32, show (16 : Int32) = nI 16 from rfl]
    exact nI_eq (by omega) (by omega)
  unfold lineR
  by_cases c : isW τ p 2 = true ∧ ¬ n = 16
  · rw [if_pos c]
    have r1 : fX3_rl1 v = v := by unfold fX3_rl1; rw [ew, if_pos c.1, if_neg (fun z => c.2 (e16.mp z))]
    have rll : fX3_rll v = nI (16 * b + n) := by unfold fX3_rll; rw [r1, h40, nN (by omega), h32, n_16 (by omega) (by omega)]
    have rlln : (fX3_rll v).toNatClampNeg = 16 * b + n := by rw [rll, nN (by omega)]
    have hs := isW_ts c.1
    obtain ⟨n1, n2⟩ := h.nx hs.1 hs.2
    have n21 := nx_21 h hs.1 hs.2
    have r2 : fX3_rl2 v = fX3_next v := by unfold fX3_rl2; rw [r1]
    have gx : AL v1 b τ (sa (fX3_rl2 v) 35 ((fX3_rll v).toNatClampNeg) ((fX3_rl2 v).1 41)) (te τ p) tm K := by
      rw [rlln, r2]; exact n2.sa (by decide) (by omega)
    obtain ⟨e1, e2⟩ := e3 gx.an (by omega)
    have g1 : fX3_isGood (fX3_rl1 v) = true := by rw [r1]; exact h.gd
    have vll : vp_in (fX3_rll v) 32 := by rw [rll, vp_in_iff, nI_i (by omega)]; omega
    have o1 : vp_in ((fX3_rl1 v).1 40) 2 := by rw [r1]; exact v40
    have o2 : okX3_next (fX3_rl1 v) := by rw [r1]; exact n1
    have e2' : rE (sa (fX3_rl2 v) 35 ((fX3_rll v).toNatClampNeg) ((fX3_rl2 v).1 41)) b τ tm K 0 (fX3_rl3 v) (pEither τ 6 (te τ p) tm).1 := e2
    cases hp : (pEither τ 6 (te τ p) tm).1 with
    | error q =>
      rw [hp] at e2'
      have B3 : BT v1 b (fX3_rl3 v) q := gx.bt e2'
      have By : BT v1 b (sa (fX3_rl3 v) 36 ((fX3_rll v).toNatClampNeg) ((fX3_rl3 v).1 41)) q := by rw [rlln]; exact B3.sa (by decide) (by omega)
      obtain ⟨m1, m2⟩ := mu_no (y := fX3_isWord (sa (fX3_rl3 v) 36 ((fX3_rll v).toNatClampNeg) ((fX3_rl3 v).1 41)) 25711) (bt_g By)
      have r4 : fX3_rl4 v = sa (fX3_rl3 v) 36 ((fX3_rll v).toNatClampNeg) ((fX3_rl3 v).1 41) := by unfold fX3_rl4; exact m2
      have ng : ¬ fX3_isGood (fX3_rl4 v) = true := by rw [r4]; exact bt_g By
      refine ⟨⟨fun _ => o1, fun _ => o2, fun _ => vll, fun _ => e1, fun _ => m1, fun _ z => absurd z ng, fun _ z => absurd z ng, fun _ z => absurd z ng, fun _ z => absurd z ng, fun _ z => absurd z ng, fun _ => v40⟩, ?_⟩
      unfold fX3_readLine
      rw [if_pos g1, if_neg ng, r4]
      exact By
    | ok q =>
      rw [hp] at e2'
      obtain ⟨K', a1, a2⟩ := e2'
      have A3 : AL v1 b τ (fX3_rl3 v) q.2.1 q.2.2 (K' ++ K) := gx.of a1
      have Ay : AL v1 b τ (sa (fX3_rl3 v) 36 ((fX3_rll v).toNatClampNeg) ((fX3_rl3 v).1 41)) q.2.1 q.2.2 (K' ++ K) := by rw [rlln]; exact A3.sa (by decide) (by omega)
      have hm : q.2.2 - tm ≤ 80 := by have := A3.2.2.2.1.2; omega
      have e15 : fX3_isWord (sa (fX3_rl3 v) 36 ((fX3_rll v).toNatClampNeg) ((fX3_rl3 v).1 41)) 25711 = isW τ q.2.1 15 := by rw [w15]; exact isw_3 Ay.2.2.1 (by decide) (by decide)
      have fe : FE (sa (fX3_rl2 v) 35 ((fX3_rll v).toNatClampNeg) ((fX3_rl2 v).1 41)) b (fX3_rl3 v) := a1.2.2.2.2.2.2.2
      have e41 : (fX3_rl3 v).1 41 = nI (K' ++ K).length := A3.2.2.2.2.2.1.1
      have e41' : (fX3_rl2 v).1 41 = nI K.length := by rw [r2]; exact n2.2.2.2.2.2.1.1
      have L4 : ∀ x y, LR v (sa (sa (sa (fX3_rl3 v) 36 ((fX3_rll v).toNatClampNeg) ((fX3_rl3 v).1 41)) 33 (16 * b + n) x) 34 (16 * b + n) y) b n (nI K.length) (nI (K' ++ K).length) x y := fun x y => by
        rw [rlln]
        have f35 : (fX3_rl3 v).2.1 35 = upd (v.2.1 35) (16 * b + n) (nI K.length) := by rw [fe.2.1 35 (by decide) (by decide) (by decide), sa_s, rlln, e41', r2, n21]
        have fk : ∀ k, ¬ k = 35 → ¬ k = 37 → ¬ k = 38 → ¬ k = 43 → (fX3_rl3 v).2.1 k = v.2.1 k := fun k z1 z2 z3 z4 => by rw [fe.2.1 k z2 z3 z4, sa_o z1, r2, n21]
        refine ⟨?_, fun j hj k k1 k2 => ?_, ?_, ?_, ?_, ?_⟩
        · rw [sa_o (by decide), sa_o (by decide), sa_o (by decide)]; exact fk 32 (by decide) (by decide) (by decide) (by decide)
        · by_cases z3 : k = 33
          · subst z3; rw [sa_o (by decide), sa_s, upd_o (by omega), sa_o (by decide), fk 33 (by decide) (by decide) (by decide) (by decide)]
          · by_cases z4 : k = 34
            · subst z4; rw [sa_s, upd_o (by omega), sa_o (by decide), sa_o (by decide), fk 34 (by decide) (by decide) (by decide) (by decide)]
            · by_cases z5 : k = 35
              · subst z5; rw [sa_o (by decide), sa_o (by decide), sa_o (by decide), f35, upd_o (by omega)]
              · have z6 : k = 36 := by omega
                subst z6; rw [sa_o (by decide), sa_o (by decide), sa_s, upd_o (by omega), fk 36 (by decide) (by decide) (by decide) (by decide)]
        · rw [sa_o (by decide), sa_o (by decide), sa_o (by decide), f35, upd_s]
        · rw [sa_o (by decide), sa_o (by decide), sa_s, upd_s, e41]
        · rw [sa_o (by decide), sa_s, upd_s]
        · rw [sa_s, upd_s]
      have hy15 : fX3_isWord (sa (fX3_rl3 v) 36 ((fX3_rll v).toNatClampNeg) ((fX3_rl3 v).1 41)) 25711 = true → ¬ ts τ q.2.1 = 0 ∧ ¬ ts τ q.2.1 = 3 := fun z => isW_ts (by rw [← e15]; exact z)
      obtain ⟨m1, m2, m3⟩ := Ay.mu hy15
      dsimp only
      unfold lnA
      cases c15 : isW τ q.2.1 15 with
      | false =>
        have r4 : fX3_rl4 v = fX3_wrong (sa (fX3_rl3 v) 36 ((fX3_rll v).toNatClampNeg) ((fX3_rl3 v).1 41)) := by unfold fX3_rl4; exact m3 (by rw [e15, c15])
        have ng : ¬ fX3_isGood (fX3_rl4 v) = true := by rw [r4]; exact bt_g Ay.wr
        refine ⟨⟨fun _ => o1, fun _ => o2, fun _ => vll, fun _ => e1, fun _ => m1, fun _ z => absurd z ng, fun _ z => absurd z ng, fun _ z => absurd z ng, fun _ z => absurd z ng, fun _ z => absurd z ng, fun _ => v40⟩, ?_⟩
        unfold fX3_readLine
        rw [if_pos g1, if_neg ng, r4, if_neg (by decide)]
        exact Ay.wr
      | true =>
        rw [if_pos rfl]
        have r4 : fX3_rl4 v = fX3_next (sa (fX3_rl3 v) 36 ((fX3_rll v).toNatClampNeg) ((fX3_rl3 v).1 41)) := by unfold fX3_rl4; exact m2 (by rw [e15, c15])
        have hs15 := isW_ts c15
        have A4 : AL v1 b τ (fX3_rl4 v) (te τ q.2.1) q.2.2 (K' ++ K) := by rw [r4]; exact (Ay.nx hs15.1 hs15.2).2
        have a421 : (fX3_rl4 v).2.1 = (sa (fX3_rl3 v) 36 ((fX3_rll v).toNatClampNeg) ((fX3_rl3 v).1 41)).2.1 := by rw [r4]; exact nx_21 Ay hs15.1 hs15.2
        have g4 : fX3_isGood (fX3_rl4 v) = true := A4.gd
        have rlr : fX3_rlr v = dsW τ (te τ q.2.1) := by unfold fX3_rlr; exact rlr_3 A4
        have A5 : AL v1 b τ (fX3_rl5 v) (te τ q.2.1) q.2.2 (K' ++ K) := by
          unfold fX3_rl5
          rw [rlln]
          exact (A4.sa (by decide) (by omega)).sa (by decide) (by omega)
        have L5 : LR v (fX3_rl5 v) b n (nI K.length) (nI (K' ++ K).length) (dsW τ (te τ q.2.1)) 0 := by
          have := L4 (dsW τ (te τ q.2.1)) 0
          have e : ∀ k, (fX3_rl5 v).2.1 k = (sa (sa (sa (fX3_rl3 v) 36 ((fX3_rll v).toNatClampNeg) ((fX3_rl3 v).1 41)) 33 (16 * b + n) (dsW τ (te τ q.2.1))) 34 (16 * b + n) 0).2.1 k := fun k => by
            unfold fX3_rl5
            rw [rlr, rlln]
            by_cases z4 : k = 34
            · subst z4; rw [sa_s, sa_s, sa_o (by decide), sa_o (by decide), a421, rlln]
            · rw [sa_o z4, sa_o z4]
              by_cases z3 : k = 33
              · subst z3; rw [sa_s, sa_s, a421, rlln]
              · rw [sa_o z3, sa_o z3, a421, rlln]
          unfold LR at this ⊢
          rw [e 32, e 35, e 36, e 33, e 34]
          exact ⟨this.1, fun j hj k k1 k2 => by rw [e k]; exact this.2.1 j hj k k1 k2, this.2.2⟩
        have d33 : (fX3_rl5 v).2.1 33 ((fX3_rll v).toNatClampNeg) = dsW τ (te τ q.2.1) := by rw [rlln]; exact L5.2.2.2.2.1
        have ey6 : (if ((fX3_rl5 v).2.1 33 ((fX3_rll v).toNatClampNeg)) ≤ 0 then false else true) = !decide (dsW τ (te τ q.2.1) = 0) := by rw [d33]; exact dsW_p
        obtain ⟨k1, k2, k3⟩ := A5.mu (y := (if ((fX3_rl5 v).2.1 33 ((fX3_rll v).toNatClampNeg)) ≤ 0 then false else true)) (fun z => dsW_ts (fun e0 => by rw [ey6, decide_eq_true e0] at z; cases z))
        have fin : (∀ w q9, fX3_rl7 v = w → BT v1 b w q9 → (∀ (_ : fX3_isGood (fX3_rl6 v) = true) (_ : ((fX3_rl6 v).2.1 33 ((fX3_rll v).toNatClampNeg)) = 3), okX3_must (sa (fX3_rl8 v) 34 ((fX3_rll v).toNatClampNeg) ((fX3_rl8 v).1 30)) (if ((fX3_rl8 v).1 29) = 3 then true else false)) → okX3_is w 59 → okX3_readLine v ∧ BT v1 b (fX3_readLine v) q9) := fun w q9 e7 hB o10 o7 => by
          obtain ⟨x1, x2⟩ := mu_no (y := fX3_is (fX3_rl7 v) 59) (v := fX3_rl7 v) (by rw [e7]; exact bt_g hB)
          have r9 : fX3_rl9 v = w := by unfold fX3_rl9; rw [x2, e7]
          have e40 : (fX3_rl9 v).1 40 = nI b := by rw [r9]; exact bt_40 h hB
          refine ⟨⟨fun _ => o1, fun _ => o2, fun _ => vll, fun _ => e1, fun _ => m1, fun _ _ => k1, fun _ _ => by rw [e7]; exact o7, fun _ _ => x1, fun _ _ => by rw [e40, vp_in_iff, nI_i (by omega)]; omega, fun _ _ a c => o10 a c, fun _ => v40⟩, ?_⟩
          unfold fX3_readLine
          rw [if_pos g1, if_pos g4, e40, nN (by omega), r9]
          exact hB.s32
        have fin2 : ∀ (w : St) (P : Nat) (ds pt : Int32), fX3_rl7 v = w → AL v1 b τ w P q.2.2 (K' ++ K) → LR v w b n (nI K.length) (nI (K' ++ K).length) ds pt → (∀ (_ : fX3_isGood (fX3_rl6 v) = true) (_ : ((fX3_rl6 v).2.1 33 ((fX3_rll v).toNatClampNeg)) = 3), okX3_must (sa (fX3_rl8 v) 34 ((fX3_rll v).toNatClampNeg) ((fX3_rl8 v).1 30)) (if ((fX3_rl8 v).1 29) = 3 then true else false)) → okX3_readLine v ∧ rlQ v1 b τ n lns K (fX3_readLine v) (lnE τ q.1 ds pt P q.2.2) := fun w P ds pt e7 hA hR o10 => by
          obtain ⟨x1, x2, x3, x4⟩ := rl_end h (by omega) h32 hL hA hR a2 hm
          have r9 : fX3_rl9 v = fX3_must w (fX3_is w 59) := by unfold fX3_rl9; rw [e7]
          have e40 : (fX3_rl9 v).1 40 = nI b := by rw [r9]; exact x3
          refine ⟨⟨fun _ => o1, fun _ => o2, fun _ => vll, fun _ => e1, fun _ => m1, fun _ _ => k1, fun _ _ => by rw [e7]; exact x1, fun _ _ => by rw [e7]; exact x2, fun _ _ => by rw [e40, vp_in_iff, nI_i (by omega)]; omega, fun _ _ a c => o10 a c, fun _ => v40⟩, ?_⟩
          unfold fX3_readLine
          rw [if_pos g1, if_pos g4, e40, nN (by omega), r9]
          exact x4
        by_cases c0 : dsW τ (te τ q.2.1) = 0
        · rw [if_pos c0]
          have r6 : fX3_rl6 v = fX3_wrong (fX3_rl5 v) := by unfold fX3_rl6; exact k3 (by rw [ey6, decide_eq_true c0]; rfl)
          have B6 := A5.wr
          rw [← r6] at B6
          have r7 : fX3_rl7 v = fX3_rl6 v := by unfold fX3_rl7; rw [if_neg (bt_g B6)]
          refine fin _ _ r7 B6 (fun z => absurd z (bt_g B6)) ?_
          rw [r6]
          intro _
          have e27 : (fX3_wrong (fX3_rl5 v)).1 27 = nI (ws τ (te τ q.2.1)) := by
            unfold fX3_wrong fX3_fails
            rw [A5.1.1, if_pos (by decide), si_1, if_neg (by decide), si_1, if_neg (by decide)]
            exact A5.2.2.1.1
          have hTX : TX (fX3_wrong (fX3_rl5 v)) τ := by
            unfold fX3_wrong fX3_fails
            rw [A5.1.1, if_pos (by decide)]
            exact A5.2.1.of (by rw [si_1, if_neg (by decide), si_1, if_neg (by decide)]) rfl
          have hw := ws_le (τ := τ) A5.2.2.1.2.2.1
          have hm6 := hTX.2.1
          rw [e27]; exact sg_ok hTX _ (by omega)
        · rw [if_neg c0]
          have hs6 := dsW_ts c0
          have r6 : fX3_rl6 v = fX3_next (fX3_rl5 v) := by unfold fX3_rl6; exact k2 (by rw [ey6, decide_eq_false c0]; rfl)
          have A6 : AL v1 b τ (fX3_rl6 v) (te τ (te τ q.2.1)) q.2.2 (K' ++ K) := by rw [r6]; exact (A5.nx hs6.1 hs6.2).2
          have a621 : (fX3_rl6 v).2.1 = (fX3_rl5 v).2.1 := by rw [r6]; exact nx_21 A5 hs6.1 hs6.2
          have L6 : LR v (fX3_rl6 v) b n (nI K.length) (nI (K' ++ K).length) (dsW τ (te τ q.2.1)) 0 := by unfold LR; rw [a621]; exact L5
          have d336 : (fX3_rl6 v).2.1 33 ((fX3_rll v).toNatClampNeg) = dsW τ (te τ q.2.1) := by rw [a621]; exact d33
          have g6 := A6.gd
          have s6 := so_3 A6.2.2.1
          by_cases c3 : dsW τ (te τ q.2.1) = 3
          · rw [if_pos c3]
            have r7 : fX3_rl7 v = fX3_must (sa (fX3_rl8 v) 34 ((fX3_rll v).toNatClampNeg) ((fX3_rl8 v).1 30)) (if ((fX3_rl8 v).1 29) = 3 then true else false) := by unfold fX3_rl7; rw [if_pos g6, d336, if_pos c3]
            by_cases cn : ts τ (te τ (te τ q.2.1)) = 2
            · rw [if_pos cn]
              have e29 : (fX3_rl6 v).1 29 = 3 := s6.1.mpr cn
              have e30 : (fX3_rl6 v).1 30 = tn τ (te τ (te τ q.2.1)) := s6.2.2.2 cn
              by_cases c100 : tn τ (te τ (te τ q.2.1)) ≤ 100
              · rw [if_pos c100]
                have r8 : fX3_rl8 v = fX3_rl6 v := by unfold fX3_rl8; rw [if_pos e29, e30, if_pos c100]
                have Az : AL v1 b τ (sa (fX3_rl8 v) 34 ((fX3_rll v).toNatClampNeg) ((fX3_rl8 v).1 30)) (te τ (te τ q.2.1)) q.2.2 (K' ++ K) := by rw [r8, rlln]; exact A6.sa (by decide) (by omega)
                have hs7 : ¬ ts τ (te τ (te τ q.2.1)) = 0 ∧ ¬ ts τ (te τ (te τ q.2.1)) = 3 := by rw [cn]; decide
                obtain ⟨y1, y2, y3⟩ := Az.mu (y := if ((fX3_rl8 v).1 29) = 3 then true else false) (fun _ => hs7)
                have e7 : fX3_rl7 v = fX3_next (sa (fX3_rl8 v) 34 ((fX3_rll v).toNatClampNeg) ((fX3_rl8 v).1 30)) := by rw [r7]; exact y2 (by rw [r8, if_pos e29])
                refine fin2 _ (te τ (te τ (te τ q.2.1))) 3 (tn τ (te τ (te τ q.2.1))) e7 (Az.nx hs7.1 hs7.2).2 ?_ (fun _ _ => y1)
                unfold LR
                rw [nx_21 Az hs7.1 hs7.2, r8, rlln, e30]
                obtain ⟨l0, l1, l2, l3, l4, l5⟩ := L6
                refine ⟨by rw [sa_o (by decide)]; exact l0, fun j hj k x1 x2 => ?_, by rw [sa_o (by decide)]; exact l2, by rw [sa_o (by decide)]; exact l3, by rw [sa_o (by decide), l4, c3], by rw [sa_s, upd_s]⟩
                by_cases z4 : k = 34
                · subst z4; rw [sa_s, upd_o (by omega)]; exact l1 j hj 34 x1 x2
                · rw [sa_o z4]; exact l1 j hj k x1 x2
              · rw [if_neg c100]
                have r8 : fX3_rl8 v = fX3_fails (fX3_rl6 v) 3 ((fX3_rl6 v).1 27) := by unfold fX3_rl8; rw [if_pos e29, e30, if_neg c100]
                have B8 : BT v1 b (fX3_rl8 v) (3, ws τ (te τ (te τ q.2.1))) := by
                  rw [r8]
                  refine A6.bt ?_
                  unfold fX3_fails
                  rw [A6.1.1, if_pos (by decide), A6.2.2.1.1]
                  refine ⟨?_, ?_, (by decide : ¬ (3 : Int32) = 0), (FE.rf.si (by omega)).si (by omega)⟩
                  · rw [si_1, if_neg (by decide), si_1, if_pos rfl]
                  · rw [si_1, if_pos rfl]
                have Bz : BT v1 b (sa (fX3_rl8 v) 34 ((fX3_rll v).toNatClampNeg) ((fX3_rl8 v).1 30)) (3, ws τ (te τ (te τ q.2.1))) := by rw [rlln]; exact B8.sa (by decide) (by omega)
                obtain ⟨y1, y2⟩ := mu_no (y := if ((fX3_rl8 v).1 29) = 3 then true else false) (bt_g Bz)
                refine fin _ _ (r7.trans y2) Bz (fun _ _ => y1) ?_
                intro _
                have e27 : (sa (fX3_rl8 v) 34 ((fX3_rll v).toNatClampNeg) ((fX3_rl8 v).1 30)).1 27 = nI (ws τ (te τ (te τ q.2.1))) := by
                  show (fX3_rl8 v).1 27 = _
                  rw [r8]; unfold fX3_fails
                  rw [A6.1.1, if_pos (by decide), si_1, if_neg (by decide), si_1, if_neg (by decide)]
                  exact A6.2.2.1.1
                have hTX : TX (sa (fX3_rl8 v) 34 ((fX3_rll v).toNatClampNeg) ((fX3_rl8 v).1 30)) τ := by
                  refine A6.2.1.of ?_ ?_
                  · show (fX3_rl8 v).1 24 = _
                    rw [r8]; unfold fX3_fails
                    rw [A6.1.1, if_pos (by decide), si_1, if_neg (by decide), si_1, if_neg (by decide)]
                  · rw [sa_o (by decide), r8]; unfold fX3_fails
                    rw [A6.1.1, if_pos (by decide)]; rfl
                have hw := ws_le (τ := τ) A6.2.2.1.2.2.1
                have hm6 := hTX.2.1
                rw [e27]; exact sg_ok hTX _ (by omega)
            · rw [if_neg cn]
              have e29 : ¬ (fX3_rl6 v).1 29 = 3 := fun z => cn (s6.1.mp z)
              have r8 : fX3_rl8 v = fX3_rl6 v := by unfold fX3_rl8; rw [if_neg e29]
              have Az : AL v1 b τ (sa (fX3_rl8 v) 34 ((fX3_rll v).toNatClampNeg) ((fX3_rl8 v).1 30)) (te τ (te τ q.2.1)) q.2.2 (K' ++ K) := by rw [r8, rlln]; exact A6.sa (by decide) (by omega)
              obtain ⟨y1, y2, y3⟩ := Az.mu (y := if ((fX3_rl8 v).1 29) = 3 then true else false) (fun z => by rw [r8, if_neg e29] at z; cases z)
              have e7 : fX3_rl7 v = fX3_wrong (sa (fX3_rl8 v) 34 ((fX3_rll v).toNatClampNeg) ((fX3_rl8 v).1 30)) := by rw [r7]; exact y3 (by rw [r8, if_neg e29])
              refine fin _ _ e7 Az.wr (fun _ _ => y1) ?_
              intro _
              have e27 : (fX3_wrong (sa (fX3_rl8 v) 34 ((fX3_rll v).toNatClampNeg) ((fX3_rl8 v).1 30))).1 27 = nI (ws τ (te τ (te τ q.2.1))) := by
                unfold fX3_wrong fX3_fails
                rw [Az.1.1, if_pos (by decide), si_1, if_neg (by decide), si_1, if_neg (by decide)]
                exact Az.2.2.1.1
              have hTX : TX (fX3_wrong (sa (fX3_rl8 v) 34 ((fX3_rll v).toNatClampNeg) ((fX3_rl8 v).1 30))) τ := by
                unfold fX3_wrong fX3_fails
                rw [Az.1.1, if_pos (by decide)]
                exact Az.2.1.of (by rw [si_1, if_neg (by decide), si_1, if_neg (by decide)]) rfl
              have hw := ws_le (τ := τ) Az.2.2.1.2.2.1
              have hm6 := hTX.2.1
              rw [e27]; exact sg_ok hTX _ (by omega)
          · rw [if_neg c3]
            have r7 : fX3_rl7 v = fX3_rl6 v := by unfold fX3_rl7; rw [if_pos g6, d336, if_neg c3]
            exact fin2 _ _ _ _ r7 A6 L6 (fun _ z => absurd (d336.symm.trans z) c3)
  · rw [if_neg c]
    have r1 : fX3_rl1 v = fX3_wrong v := by
      unfold fX3_rl1
      rw [ew]
      by_cases a : isW τ p 2 = true
      · rw [if_pos a, if_pos (e16.mpr (Decidable.byContradiction fun z => c ⟨a, z⟩))]
      · rw [if_neg a]
    have ng : ¬ fX3_isGood (fX3_rl1 v) = true := by rw [r1]; exact bt_g h.wr
    refine ⟨⟨fun z => absurd z ng, fun z => absurd z ng, fun z => absurd z ng, fun z => absurd z ng, fun z => absurd z ng, fun z => absurd z ng, fun z => absurd z ng, fun z => absurd z ng, fun z => absurd z ng, fun z => absurd z ng, fun _ => v40⟩, ?_⟩
    unfold fX3_readLine
    rw [if_neg ng, r1]
    exact h.wr
end RL
