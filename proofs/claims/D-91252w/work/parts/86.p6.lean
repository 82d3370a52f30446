/-! THE PLAIN LAW, 7: the model follows a house. Own work. -/
set_option maxRecDepth 100000
def I8 (v : St) (ho k : Int32) (n : Nat) (x : St × Int32) : Prop := ∃ (P m : Nat) (l : Nat → Nat), P ≤ n ∧ m ≤ P ∧ x.2 = nI P ∧ x.1.1 20 = nI m ∧ (∀ i, i < m → x.1.2.1 17 i = nI (l i)) ∧ EN (q3 v ho k) (d3 v) P m l ∧ F20 v x.1
def I47x (v : St) (n : Nat) (w : St) (p : Int32) (x : St × Int32) : Prop := ∃ (P m : Nat) (l : Nat → Nat), p = nI P ∧ P < n ∧ m ≤ P ∧ (∀ i, i < m → l i < P) ∧ w.1 20 = nI m ∧ F20 v w ∧ I47 v w P m l x
theorem F20.counts {v w : St} (h : F20 v w) (p k : Int32) : fX3_counts w p k = fX3_counts v p k := by
  unfold fX3_counts
  rw [h.2.1 15 (by decide), h.2.1 16 (by decide)]
theorem i47_init {v w : St} {P m : Nat} {l : Nat → Nat} (hl : ∀ i, i < m → w.2.1 17 i = nI (l i)) (hm : w.1 20 = nI m) : I47 v w P m l (w, w.1 20) := ⟨m, Nat.le_refl _, hm, rfl, rfl, fun _ _ => rfl, hl, fun i h1 h2 => absurd h2 (by omega)⟩
/-- where the shift ends -/
theorem i47_end {v w : St} {ho d k : Int32} {u : St} {P m : Nat} {l : Nat → Nat} (hF : F20 v w) (hP : P < 60) (hm : m ≤ P) (hl : ∀ i, i < m → l i < P) (hw : ∀ i, i < m → w.2.1 17 i = nI (l i)) (hw20 : w.1 20 = nI m) : ∃ (x : St) (a : Nat), lpX3_follow_47_r u ho d k w (nI P) = (1, x, nI a) ∧ I47 v w P m l (x, nI a) ∧ a ≤ m ∧ (0 < a → d3 v (l (a - 1)) ≤ d3 v P) := by
  obtain ⟨b, h1, h2, h3⟩ := wh_run (lpX3_follow_47 u ho d k w (nI P)) (I47 v w P m l) (fun x => x.2.toNatClampNeg) (fun x hx hz => i47_step hF hP hm hl x hx hz) 61 (w, w.1 20) (i47_init hw hw20) (by show (w.1 20).toNatClampNeg < 61; rw [hw20, nN (by omega)]; omega)
  obtain ⟨x, ai⟩ := b
  obtain ⟨a, ha, hai, g1, g2, g3, g4, g5⟩ := id h1
  have hai : ai = nI a := hai
  subst hai
  refine ⟨x, a, ?_, h1, ha, ?_⟩
  · show wh _ 61 _ = _
    rw [h3]
    revert h2
    unfold lpX3_follow_47
    by_cases c1 : nI a ≤ 0
    · simp only [if_pos c1]; intro _; trivial
    · simp only [if_neg c1]
      split
      · intro _; rfl
      · intro z; exact absurd rfl z
  · intro ha0
    revert h2
    unfold lpX3_follow_47
    have c1 : ¬ nI a ≤ 0 := by rw [t_le, nI_i (by omega), k_0]; omega
    simp only [if_neg c1]
    have hla := hl (a - 1) (by omega)
    have e17 : x.2.1 17 (a - 1) = nI (l (a - 1)) := g4 (a - 1) (by omega)
    rw [n_sub1 (by omega) (by omega), nN (by omega), e17, nN (by omega), nN (by omega), show x.2.1 12 = v.2.1 12 from (g3 12 (by decide)).trans (hF.2.1 12 (by decide))]
    by_cases c2 : v.2.1 12 (l (a - 1)) ≤ v.2.1 12 P
    · intro _; rw [t_le] at c2; exact c2
    · simp only [if_neg c2]; intro z; first | exact absurd rfl z | exact absurd trivial z
theorem i8_step {v : St} {ho d k : Int32} {n : Nat} (h19 : v.1 19 = nI n) (hn : n ≤ 60) : ∀ x, I8 v ho k n x → (lpX3_follow_8 v ho d k x).1 = 0 → I8 v ho k n (lpX3_follow_8 v ho d k x).2 ∧ 60 - (lpX3_follow_8 v ho d k x).2.2.toNatClampNeg < 60 - x.2.toNatClampNeg := by
  rintro ⟨w, p⟩ ⟨P, m, l, hP, hm, hp, hw20, hw, hE, hF⟩
  have hp : p = nI P := hp
  have hw20 : w.1 20 = nI m := hw20
  have hF : F20 v w := hF
  subst hp
  unfold lpX3_follow_8
  dsimp only
  have e19 : w.1 19 = nI n := (hF.1 19 (by decide)).trans h19
  rw [e19]
  by_cases c1 : nI n ≤ nI P
  · simp only [if_pos c1]; intro z; cases z
  · simp only [if_neg c1]
    rw [t_le, nI_i (by omega), nI_i (by omega)] at c1
    have hPn : P < n := by omega
    rw [nN (by omega), show w.2.1 9 = v.2.1 9 from hF.2.1 9 (by decide), hF.counts, nI_1]
    have hmu : 60 - (nI (P + 1)).toNatClampNeg < 60 - P := by rw [nN (by omega)]; omega
    by_cases c2 : v.2.1 9 P = ho
    · simp only [if_pos c2]
      by_cases c3 : fX3_counts v (nI P) k = true
      · simp only [if_pos c3]
        intro _
        obtain ⟨x, a, hr, hI, ha, hd⟩ := i47_end (u := v) (ho := ho) (d := d) (k := k) hF (by omega) hm (fun i hi => (hE.1 i hi).1) hw hw20
        obtain ⟨a2, ha2, hai, g1, g2, g3, g4, g5⟩ := hI
        have hai : nI a = nI a2 := hai
        have haa : a = a2 := (nI_eq (by omega) (by omega)).mp hai
        subst haa
        have g1 : x.1 = w.1 := g1
        rw [hr]
        refine ⟨⟨P + 1, m + 1, insL l a P, by omega, by omega, rfl, ?_, ?_, hE.ins ?_ ha ?_ (fun i h1 h2 => (g5 i h1 h2).2), ?_⟩, hmu⟩
        · show (si (sa x 17 _ _) 20 (x.1 20 + 1)).1 20 = _
          rw [si_1, if_pos rfl, g1, hw20, nI_1]
        · intro i hi
          show (si (sa x 17 (nI a).toNatClampNeg (nI P)) 20 _).2.1 17 i = _
          rw [si_2, sa_s, nN (by omega)]
          unfold insL
          by_cases z1 : i < a
          · rw [if_pos z1, upd_o (by omega)]; exact g4 i z1
          · rw [if_neg z1]
            by_cases z2 : i = a
            · rw [if_pos z2, z2, upd_s]
            · rw [if_neg z2, upd_o z2]
              have := (g5 (i - 1) (by omega) (by omega)).1
              rw [show i - 1 + 1 = i by omega] at this
              exact this
        · unfold q3; rw [decide_eq_true c2, c3]; rfl
        · intro i hi
          have hd1 := hd (by omega)
          by_cases z : i = a - 1
          · rw [z]; exact hd1
          · have := hE.2.1 i (a - 1) (by omega) (by omega)
            unfold bef at this
            omega
        · refine ⟨fun q hq => ?_, fun q hq => ?_, ?_⟩
          · show (si (sa x 17 _ _) 20 _).1 q = _
            rw [si_1, if_neg hq]
            show x.1 q = _
            rw [g1]; exact hF.1 q hq
          · show (si (sa x 17 _ _) 20 _).2.1 q = _
            rw [si_2, sa_o hq, show x.2.1 q = w.2.1 q from g3 q hq]; exact hF.2.1 q hq
          · show x.2.2 = _
            rw [show x.2.2 = w.2.2 from g2]; exact hF.2.2
      · simp only [if_neg c3]
        intro _
        exact ⟨⟨P + 1, m, l, by omega, by omega, rfl, hw20, hw, hE.skip (by unfold q3; rw [decide_eq_true c2]; simpa using c3), hF⟩, hmu⟩
    · simp only [if_neg c2]
      intro _
      exact ⟨⟨P + 1, m, l, by omega, by omega, rfl, hw20, hw, hE.skip (by unfold q3; rw [decide_eq_false c2]; simp), hF⟩, hmu⟩
theorem i8_init {v : St} {ho k : Int32} {n : Nat} : I8 v ho k n (si v 20 0, 0) := ⟨0, 0, fun _ => 0, Nat.zero_le _, Nat.le_refl _, rfl, by rw [si_1, if_pos rfl]; rfl, fun i hi => absurd hi (Nat.not_lt_zero _), ⟨fun i hi => absurd hi (Nat.not_lt_zero _), fun i j _ hj => absurd hj (Nat.not_lt_zero _), fun p hp => absurd hp (Nat.not_lt_zero _)⟩, fun k hk => by rw [si_1, if_neg hk], fun k _ => rfl, rfl⟩
/-- the line, whole -/
theorem i8_end {v : St} {ho k : Int32} (d : Int32) {n : Nat} (h19 : v.1 19 = nI n) (hn : n ≤ 60) : ∃ (w : St) (m : Nat) (l : Nat → Nat) (p : Int32), lpX3_follow_8_r v ho d k = (1, w, p) ∧ m ≤ n ∧ w.1 20 = nI m ∧ (∀ i, i < m → w.2.1 17 i = nI (l i)) ∧ EN (q3 v ho k) (d3 v) n m l ∧ F20 v w := by
  obtain ⟨b, h1, h2, h3⟩ := wh_run (lpX3_follow_8 v ho d k) (I8 v ho k n) (fun x => 60 - x.2.toNatClampNeg) (fun x hx hz => i8_step h19 hn x hx hz) 61 (si v 20 0, 0) i8_init (by show 60 - _ < 61; omega)
  obtain ⟨w, p⟩ := b
  obtain ⟨P, m, l, hP, hm, hp, hw20, hw, hE, hF⟩ := h1
  have hp : p = nI P := hp
  have hF : F20 v w := hF
  subst hp
  have e19 : w.1 19 = nI n := (hF.1 19 (by decide)).trans h19
  have hx : lpX3_follow_8 v ho d k (w, nI P) = (1, w, nI P) ∧ P = n := by
    revert h2
    unfold lpX3_follow_8
    dsimp only
    rw [e19]
    by_cases c1 : nI n ≤ nI P
    · simp only [if_pos c1]
      intro _
      rw [t_le, nI_i (by omega), nI_i (by omega)] at c1
      exact ⟨trivial, by omega⟩
    · simp only [if_neg c1]
      intro z
      exfalso
      revert z
      repeat' split
      all_goals (intro z; first | exact absurd rfl z | exact absurd trivial z)
  refine ⟨w, m, l, nI P, ?_, by omega, hw20, hw, by rw [← hx.2]; exact hE, hF⟩
  show wh _ 61 _ = _
  rw [h3]; exact hx.1
