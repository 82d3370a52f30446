/-! THE PLAIN LAW, 15: look. Own work. -/
set_option maxRecDepth 100000
theorem look3_eq {v : St} {cl k : Int32} {n p : Nat} (hp : p < 60) (h19 : v.1 19 = nI n) (hn : n ≤ 60) (c1 : ¬ cl < 0) (c2 : ¬ v.1 49 ≤ cl) (h48 : v.2.1 48 cl.toNatClampNeg = nI p) : fX3_look v cl k = if (fX3_loose v (nI p) k).1 = 0 then (true, told9 (fX3_lk1 v cl k) (b2 (if (fX3_lk1 v cl k).2.1 13 p = 1 then true else false)) (b2 (if (fX3_lk1 v cl k).2.1 13 p = 2 then true else false)) (if fX3_turned (fX3_lk1 v cl k) ((fX3_lk1 v cl k).2.1 14 p) ((fX3_lk1 v cl k).2.1 12 p / 365) 99 ≤ 2147483647 then (fX3_turned (fX3_lk1 v cl k) ((fX3_lk1 v cl k).2.1 14 p) ((fX3_lk1 v cl k).2.1 12 p / 365) 99).toInt32 else 2147483647) ((fX3_lk1 v cl k).2.1 4 ((fX3_lk0 v cl k).2.1 9 p).toNatClampNeg) ((fX3_lk1 v cl k).2.1 12 p / 365) (((fX3_lk1 v cl k).2.1 12 p - (lpX3_look_65_r v cl k).2.1) / 365) ((lpX3_look_65_r v cl k).2.2.1) (b2 (if (fX3_follow (fX3_lk0 v cl k) ((fX3_lk0 v cl k).2.1 9 p) k k).1 = (fX3_lk1 v cl k).2.1 11 p then true else false)) (b2 (if fX3_isDead (fX3_lk1 v cl k) ((fX3_lk1 v cl k).2.1 10 p) k = true then true else false))) else (false, (fX3_loose v (nI p) k).2) := by
  have e48 : (fX3_lk0 v cl k).2.1 48 cl.toNatClampNeg = nI p := by
    unfold fX3_lk0
    rw [(loose_F3 h19 hn).2.1 48 (by decide) (by decide)]; exact h48
  unfold fX3_look
  rw [if_neg c1, if_neg c2, e48, h48, nN (by omega)]
  rfl
theorem looks0_eq {u : St} {cl k : Int32} {p : Nat} (hp : p < 60) (c1 : ¬ cl < 0) (c2 : ¬ u.1 17 ≤ cl) (h12 : u.2.1 12 cl.toNatClampNeg = nI p) : fX0_looks u cl k = if fX4_counts u (nI p) k = true then (decide ((fX0_lk1 u cl k).1 20 = 0), vw5 (fX0_lk1 u cl k) (nI p) k (((fX0_lk1 u cl k).2.1 64 p - (fX0_lk1 u cl k).1 21) / 365) ((fX0_lk1 u cl k).1 22) (b2 (if (fX0_lk1 u cl k).1 18 = (fX0_lk1 u cl k).2.1 63 p then true else false))) else (false, u) := by
  unfold fX0_looks
  rw [if_neg c1, if_neg c2, h12, nN (by omega)]
  by_cases c : fX4_counts u (nI p) k = true
  · rw [if_pos c, if_pos c]
    by_cases c3 : (fX0_lk1 u cl k).1 20 = 0
    · rw [if_pos c3, decide_eq_true c3]; rfl
    · rw [if_neg c3, decide_eq_false c3]; rfl
  · rw [if_neg c, if_neg c]
/-- the end of the model's loop over the line -/
theorem i65_end {fs k : Int32} {W : St} {m m1 n t : Nat} {l : Nat → Nat} {q : Nat → Bool} (hn : n ≤ 60) (hm : m ≤ n) (hm1 : m1 ≤ m) (hE : EN q (d3 W) n m l) (ht : t < m1) (h20 : W.1 20 = nI m) (h17 : ∀ j, j < m → W.2.1 17 j = nI (l j)) (h18 : ∀ j, j < m → W.2.1 18 (l j) = b2 (lsF fs (W.2.1 10) (W.2.1 11) l j)) (g2 : ∀ i, i < m1 → d3 W (l i) ≤ k.toInt) (g3 : ∀ i, m1 ≤ i → i < m → k.toInt < d3 W (l i)) : ∃ bd ix : Int32, wh (lk65 W (nI (l t)) k) 61 (0, 0, 0, 0) = (1, caF fs (W.2.1 10 (l t)) (W.2.1 10) (W.2.1 11) (W.2.1 12) l t, nI (bhF fs (W.2.1 10) (W.2.1 11) l t m1), bd, ix) ∧ LOK (lk65 W (nI (l t)) k) 61 (0, 0, 0, 0) (I65 fs W m m1 t l) := by
  have hin : I65 fs W m m1 t l (0, 0, 0, 0) := ⟨0, Nat.zero_le _, rfl, by rw [decide_eq_false (by omega)]; rfl, by rw [Nat.zero_min]; rfl, by rw [Nat.zero_min]; rfl⟩
  have hst := i65_step hn hm hm1 hE ht h20 h17 h18 g2 g3
  obtain ⟨b, h1, h2, h3⟩ := wh_run (lk65 W (nI (l t)) k) (I65 fs W m m1 t l) (fun x => 60 - x.2.2.2.toNatClampNeg) hst 61 (0, 0, 0, 0) hin (by show 60 - _ < 61; omega)
  refine ⟨b.2.2.1, b.2.2.2, ?_, LOK.of (μ := fun x => 60 - x.2.2.2.toNatClampNeg) hin hst (by show 60 - _ < 61; omega)⟩
  obtain ⟨cm, hh, bd, ix⟩ := b
  obtain ⟨i, hi, hix0, -, hcm0, hhn0⟩ := h1
  have hix : ix = nI i := hix0
  have hcm : cm = caF fs (W.2.1 10 (l t)) (W.2.1 10) (W.2.1 11) (W.2.1 12) l (min i t) := hcm0
  have hhn : hh = nI (bhF fs (W.2.1 10) (W.2.1 11) l t (min i m1)) := hhn0
  have hx : lk65 W (nI (l t)) k (cm, hh, bd, ix) = (1, cm, hh, bd, ix) ∧ i = m := by
    revert h2
    unfold lk65
    dsimp only
    rw [h20, hix]
    by_cases c1 : nI m ≤ nI i
    · simp only [if_pos c1]
      intro _
      rw [t_le, nI_i (by omega), nI_i (by omega)] at c1
      exact ⟨trivial, by omega⟩
    · simp only [if_neg c1]
      intro z
      exfalso
      revert z
      repeat' split
      all_goals (intro z; first | exact absurd rfl z | exact absurd trivial z)
  rw [h3, hx.1, hcm, hhn, hx.2, show min m t = t by omega, show min m m1 = m1 by omega]
