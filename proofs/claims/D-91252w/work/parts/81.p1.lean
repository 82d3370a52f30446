/-! THE PLAIN LAW, 2: dead, house, level, money, isFalse, later, end, fault, want. Own work. -/
set_option maxRecDepth 100000
theorem IVp.dead {P : Int} {m0 m1 m2 c0 c1 c2 : Nat → Int32} (h : IVp P m0 m1 m2 c0 c1 c2) (p : Nat) {d : Int32} (hd : rg d (-1) 36499) : IVp P m0 m1 (upd m2 p d) c0 c1 (upd c2 p d) := by
  intro j hj
  obtain ⟨a1, a2, a3, b1, b2, b3⟩ := h j hj
  by_cases e : j = p
  · subst e
    rw [upd_s, upd_s]
    exact ⟨a1, a2, rfl, b1, b2, hd⟩
  · rw [upd_o e, upd_o e]
    exact ⟨a1, a2, a3, b1, b2, b3⟩
theorem c_dead {v u : St} {n : Nat} (pe da : Int32) (h : IV v u n) : (fX3_dead v pe da = (false, v) ∧ fX0_dead u pe da = (false, u)) ∨ (0 ≤ da.toInt ∧ da.toInt ≤ 36499 ∧ fX3_dead v pe da = (true, sa v 2 pe.toNatClampNeg da) ∧ fX0_dead u pe da = (true, sa u 7 pe.toNatClampNeg da)) := by
  have e13 := h.1.1.1
  have hd : 0 ≤ pe.toInt → pe.toInt < (v.1 6).toInt → (u.2.1 7 pe.toNatClampNeg).toInt = (v.2.1 2 pe.toNatClampNeg).toInt := fun z1 z2 => by rw [(h.2.1 pe.toNatClampNeg (by rw [t_nat]; omega)).2.2.1]
  unfold fX3_dead fX0_dead
  simp only [isP0, isP3, isD0, isD3, t_lt, t_le, k_0, e13]
  repeat' split
  all_goals first | exact Or.inl ⟨rfl, rfl⟩ | exact Or.inr ⟨by omega, by omega, rfl, rfl⟩ | (exfalso; omega)
theorem p_dead {v u : St} {n : Nat} (pe da : Int32) (h : IV v u n) : (fX3_dead v pe da).1 = (fX0_dead u pe da).1 ∧ IV (fX3_dead v pe da).2 (fX0_dead u pe da).2 n ∧ okX3_dead v pe da ∧ okX0_dead n u pe da := by
  have hin : fX3_isPerson v pe = true → vp_in pe 24 := fun z => by rw [isP3] at z; rw [vp_in_iff]; have := h.1.1.2; unfold rg at this; omega
  refine and_assoc.mp ⟨?_, hin, fun z _ => hin (by rw [isP3, ← h.1.1.1]; exact isP0.mp z)⟩
  rcases c_dead pe da h with ⟨e1, e2⟩ | ⟨a1, a2, e1, e2⟩
  · rw [e1, e2]; exact ⟨rfl, h⟩
  · rw [e1, e2]
    obtain ⟨hs, hp, hh, hl, hq, hc, ht, hj⟩ := h
    exact ⟨rfl, hs, by simpa [sa_o, sa_s, sa_1] using hp.dead pe.toNatClampNeg (d := da) ⟨by omega, a2⟩, by simpa [sa_o, sa_1] using hh, by simpa [sa_o] using hl, by simpa [sa_1] using hq.kept (m' := (sa v 2 pe.toNatClampNeg da).2.1) (c' := (sa u 7 pe.toNatClampNeg da).2.1) (fun k a b => sa_o (by omega)) (fun k a b => sa_o (by omega)), by simpa [sa_o, sa_1] using hc, by simpa [sa_o, sa_1] using ht, by simpa [sa_o] using hj.kept (c' := (sa u 7 pe.toNatClampNeg da).2.1) (fun k a b => sa_o (by omega))⟩
/-! house -/
theorem c_house {v u : St} {n : Nat} (ho wo : Int32) (h : IV v u n) : (fX3_house v ho wo = (-1, v) ∧ fX0_house u ho wo = (-1, u)) ∨ (0 ≤ ho.toInt ∧ ho.toInt < (v.1 6).toInt ∧ 0 ≤ wo.toInt ∧ wo.toInt ≤ 1000000 ∧ (v.1 7).toInt < 8 ∧ fX3_house v ho wo = (v.1 7 + 1 - 1, si (sa (sa v 3 ((v.1 7).toNatClampNeg) ho) 4 ((v.1 7).toNatClampNeg) wo) 7 (v.1 7 + 1)) ∧ fX0_house u ho wo = (v.1 7 + 1 - 1, si (sa (sa u 8 ((v.1 7).toNatClampNeg) ho) 9 ((v.1 7).toNatClampNeg) wo) 14 (v.1 7 + 1))) := by
  have e13 := h.1.1.1
  have e14 := h.1.2.1.1
  have hr := h.1.2.1.2
  unfold rg at hr
  unfold fX3_house fX0_house
  simp only [isP0, isP3, isS3, t_lt, t_le, t_eq, k_0, k_8, k_mil, e13, e14]
  repeat' split
  all_goals first | exact Or.inl ⟨rfl, rfl⟩ | exact Or.inr ⟨by omega, by omega, by omega, by omega, by omega, rfl, rfl⟩ | (exfalso; omega)
theorem IVh.add {Hn P : Int} {m3 m4 c3 c4 : Nat → Int32} (h : IVh Hn P m3 m4 c3 c4) {p : Nat} (hp : (p : Int) = Hn) {ho wo : Int32} (h1 : rg ho 0 (P - 1)) (h2 : rg wo 0 1000000) : IVh (Hn + 1) P (upd m3 p ho) (upd m4 p wo) (upd c3 p ho) (upd c4 p wo) := by
  intro j hj
  by_cases e : j = p
  · subst e
    rw [upd_s, upd_s, upd_s, upd_s]
    exact ⟨rfl, rfl, h1, h2⟩
  · rw [upd_o e, upd_o e, upd_o e, upd_o e]
    exact h j (by omega)
theorem p_house {v u : St} {n : Nat} (ho wo : Int32) (h : IV v u n) : (fX3_house v ho wo).1 = (fX0_house u ho wo).1 ∧ IV (fX3_house v ho wo).2 (fX0_house u ho wo).2 n ∧ okX3_house v ho wo ∧ okX0_house n u ho wo := by
  obtain ⟨⟨s1, s2, s3, s4, s5, s6, s7, s8, s9⟩, hp, hh, hl, hq, hc, ht, hj⟩ := id h
  obtain ⟨e14, hr⟩ := s2
  have hr0 := hr
  unfold rg at hr
  have hv : ¬ (v.1 7) = 8 → vp_in (v.1 7) 8 := fun z => by rw [vp_in_iff]; rw [t_eq, k_8] at z; omega
  refine and_assoc.mp ⟨?_, fun _ _ z => hv z, fun z _ _ _ => by rw [e14] at z ⊢; exact hv z⟩
  rcases c_house ho wo h with ⟨e1, e2⟩ | ⟨a1, a2, a3, a4, a5, e1, e2⟩
  · rw [e1, e2]; exact ⟨rfl, h⟩
  · rw [e1, e2]
    have e7 : (v.1 7 + 1).toInt = (v.1 7).toInt + 1 := t_add (by rw [k_1]; omega) (by rw [k_1]; omega)
    have hpn : ((v.1 7).toNatClampNeg : Int) = (v.1 7).toInt := by rw [t_nat]; omega
    refine ⟨rfl, ⟨?_, ?_, ?_, ?_, ?_, ?_, ?_, ?_, ?_⟩, ?_, ?_, ?_, ?_, ?_, ?_, ?_⟩
    · simpa [si_1, sa_1] using s1
    · simp only [si_1, if_pos]; exact ⟨trivial, by unfold rg; omega⟩
    · simpa [si_1, sa_1] using s3
    · simpa [si_1, sa_1] using s4
    · simpa [si_1, sa_1] using s5
    · simpa [si_1, sa_1] using s6
    · simpa [si_1, sa_1] using s7
    · simpa [si_1, sa_1] using s8
    · simpa [si_1, sa_1] using s9
    · simpa [si_1, sa_1, si_2, sa_o] using hp
    · have := hh.add hpn (ho := ho) (wo := wo) ⟨a1, by omega⟩ ⟨a3, a4⟩
      simp only [si_1, if_pos, e7]
      simpa [si_2, sa_o, sa_s, si_1, sa_1] using this
    · simpa [si_2, sa_o] using hl
    · simp only [si_1, if_pos, e7]
      have := (hq.wide (Hn' := (v.1 7).toInt + 1) (P' := (v.1 6).toInt) (by omega) (Int.le_refl _))
      simpa [si_1, sa_1] using this.kept (m' := (si (sa (sa v 3 ((v.1 7).toNatClampNeg) ho) 4 ((v.1 7).toNatClampNeg) wo) 7 (v.1 7 + 1)).2.1) (c' := (si (sa (sa u 8 ((v.1 7).toNatClampNeg) ho) 9 ((v.1 7).toNatClampNeg) wo) 14 (v.1 7 + 1)).2.1) (fun k a b => by rw [si_2, sa_o (by omega), sa_o (by omega)]) (fun k a b => by rw [si_2, sa_o (by omega), sa_o (by omega)])
    · simpa [si_1, sa_1, si_2, sa_o] using hc
    · simpa [si_1, sa_1, si_2, sa_o] using ht
    · simpa [si_2, sa_o] using hj.kept (c' := (si (sa (sa u 8 ((v.1 7).toNatClampNeg) ho) 9 ((v.1 7).toNatClampNeg) wo) 14 (v.1 7 + 1)).2.1) (fun k a b => by rw [si_2, sa_o (by omega), sa_o (by omega)])
/-! level -/
theorem IVl.put {m5 c5 : Nat → Int32} (h : IVl m5 c5) (p : Nat) {x : Int32} (hx : rg x 1 10000) : IVl (upd m5 p x) (upd c5 p x) := by
  intro j hj
  by_cases e : j = p
  · subst e
    rw [upd_s, upd_s]
    exact ⟨rfl, hx⟩
  · rw [upd_o e, upd_o e]
    exact h j hj
theorem p_level {v u : St} {n : Nat} (ye le : Int32) (h : IV v u n) : (fX3_level v ye le).1 = (fX0_level u ye le).1 ∧ IV (fX3_level v ye le).2 (fX0_level u ye le).2 n ∧ okX3_level v ye le ∧ okX0_level n u ye le := by
  refine and_assoc.mp ⟨?_, fun z _ _ => by rw [isY3] at z; rw [vp_in_iff]; omega, fun z _ _ => by rw [isY0] at z; rw [vp_in_iff]; omega⟩
  have hcs : (fX3_level v ye le = (false, v) ∧ fX0_level u ye le = (false, u)) ∨ (1 ≤ le.toInt ∧ le.toInt ≤ 10000 ∧ fX3_level v ye le = (true, sa v 5 ye.toNatClampNeg le) ∧ fX0_level u ye le = (true, sa u 10 ye.toNatClampNeg le)) := by
    unfold fX3_level fX0_level
    simp only [isY0, isY3, t_lt, t_le, k_1, k_10000]
    repeat' split
    all_goals first | exact Or.inl ⟨rfl, rfl⟩ | exact Or.inr ⟨by omega, by omega, rfl, rfl⟩ | (exfalso; omega)
  rcases hcs with ⟨e1, e2⟩ | ⟨a1, a2, e1, e2⟩
  · rw [e1, e2]; exact ⟨rfl, h⟩
  · rw [e1, e2]
    obtain ⟨hs, hp, hh, hl, hq, hc, ht, hj⟩ := h
    exact ⟨rfl, hs, by simpa [sa_o, sa_1] using hp, by simpa [sa_o, sa_1] using hh, by simpa [sa_s] using hl.put ye.toNatClampNeg (x := le) ⟨a1, a2⟩, by simpa [sa_1] using hq.kept (m' := (sa v 5 ye.toNatClampNeg le).2.1) (c' := (sa u 10 ye.toNatClampNeg le).2.1) (fun k a b => sa_o (by omega)) (fun k a b => sa_o (by omega)), by simpa [sa_o, sa_1] using hc, by simpa [sa_o, sa_1] using ht, by simpa [sa_o] using hj.kept (c' := (sa u 10 ye.toNatClampNeg le).2.1) (fun k a b => sa_o (by omega))⟩
/-! money -/
theorem i64_ne {x : Int32} (h : ¬ x.toInt = 0) : ¬ x.toInt64 = 0 := fun z => h (by
  have := congrArg Int64.toInt z
  rw [Int32.toInt_toInt64] at this
  exact this)
theorem p_money {v u : St} {n : Nat} (su fr to : Int32) (h : IV v u n) : fX3_money v su fr to = fX0_money u su fr to ∧ okX3_money v su fr to ∧ okX0_money n u su fr to := by
  have hl := h.2.2.2.1
  have hy : ∀ y : Int32, fX3_isYear y = true → vp_in y 100 ∧ u.2.1 10 y.toNatClampNeg = v.2.1 5 y.toNatClampNeg ∧ ¬ (v.2.1 5 y.toNatClampNeg).toInt64 = 0 := fun y z => by
    rw [isY3] at z
    obtain ⟨a, b⟩ := hl y.toNatClampNeg (by rw [t_nat]; omega)
    exact ⟨by rw [vp_in_iff]; omega, a, i64_ne (by have := b.1; omega)⟩
  have hyy : ∀ y : Int32, fX0_isYear y = fX3_isYear y := fun y => by rw [Bool.eq_iff_iff, isY0, isY3]
  refine ⟨?_, fun _ z1 z2 => ⟨(hy to z2).1, (hy fr z1).1, (hy fr z1).2.2⟩, fun _ _ z1 z2 => ?_⟩
  · unfold fX3_money fX0_money
    rw [hyy, hyy]
    by_cases c1 : fX3_isYear fr = true
    · by_cases c2 : fX3_isYear to = true
      · simp only [c1, c2, isS3, t_lt, k_0, k_mil, if_true]
        have : fX3_turned v su fr to = fX0_inMoney u su fr to := by unfold fX3_turned fX0_inMoney; rw [(hy to c2).2.1, (hy fr c1).2.1]
        repeat' split
        all_goals first | rfl | exact this | (exfalso; omega)
      · simp only [c1, c2, if_true]; repeat' split
        all_goals first | rfl | contradiction
    · simp only [c1]; repeat' split
      all_goals first | rfl | contradiction
  · rw [hyy] at z1 z2
    exact ⟨(hy to z2).1, (hy fr z1).1, by rw [(hy fr z1).2.1]; exact (hy fr z1).2.2⟩
/-! later, end, fault -/
theorem p_later {v u : St} {n : Nat} (da : Int32) (h : IV v u n) : (fX3_later v da).1 = (fX0_later u da).1 ∧ IV (fX3_later v da).2 (fX0_later u da).2 n := by
  obtain ⟨⟨s1, s2, s3, s4, s5, s6, s7, s8, s9⟩, hp, hh, hl, hq, hc, ht, hj⟩ := id h
  obtain ⟨e16, hr⟩ := s4
  have hr0 := hr
  unfold rg at hr
  have hcs : (fX3_later v da = (-1, v) ∧ fX0_later u da = (-1, u)) ∨ (0 ≤ (v.1 8 + da).toInt ∧ (v.1 8 + da).toInt ≤ 36499 ∧ fX3_later v da = (v.1 8 + da, si v 8 (v.1 8 + da)) ∧ fX0_later u da = (v.1 8 + da, si u 16 (v.1 8 + da))) := by
    unfold fX3_later fX0_later
    rw [e16]
    by_cases c1 : da < 0
    · rw [if_pos c1, if_pos c1]; exact Or.inl ⟨rfl, rfl⟩
    · by_cases c2 : (1000 : Int32) < da
      · rw [if_neg c1, if_neg c1, if_pos c2, if_pos c2]; exact Or.inl ⟨rfl, rfl⟩
      · have ea : (v.1 8 + da).toInt = (v.1 8).toInt + da.toInt := by rw [t_lt, k_0] at c1; rw [t_lt, k_1000] at c2; exact t_add (by omega) (by omega)
        by_cases c3 : v.1 8 + da ≤ 36499
        · rw [if_neg c1, if_neg c1, if_neg c2, if_neg c2, if_pos c3, if_pos c3]
          rw [t_lt, k_0] at c1
          rw [t_le, k_36499] at c3
          exact Or.inr ⟨by omega, c3, rfl, rfl⟩
        · rw [if_neg c1, if_neg c1, if_neg c2, if_neg c2, if_neg c3, if_neg c3]; exact Or.inl ⟨rfl, rfl⟩
  rcases hcs with ⟨e1, e2⟩ | ⟨a1, a2, e1, e2⟩
  · rw [e1, e2]; exact ⟨rfl, h⟩
  · rw [e1, e2]
    refine ⟨rfl, ⟨?_, ?_, ?_, ?_, ?_, ?_, ?_, ?_, ?_⟩, ?_, ?_, ?_, ?_, ?_, ?_, ?_⟩
    · simpa [si_1] using s1
    · simpa [si_1] using s2
    · simpa [si_1] using s3
    · simp only [si_1, if_pos]; exact ⟨trivial, a1, a2⟩
    · simpa [si_1] using s5
    · simpa [si_1] using s6
    · simpa [si_1] using s7
    · simpa [si_1] using s8
    · simpa [si_1] using s9
    · simpa [si_1, si_2] using hp
    · simpa [si_1, si_2] using hh
    · simpa [si_2] using hl
    · simpa [si_1, si_2] using hq
    · simpa [si_1, si_2] using hc
    · simpa [si_1, si_2] using ht
    · simpa [si_2] using hj
theorem p_end {v u : St} {n : Nat} (k : Int32) (h : IV v u n) : (fX3_end v k).1 = (fX0_end u k).1 ∧ IV (fX3_end v k).2 (fX0_end u k).2 n := by
  obtain ⟨⟨s1, s2, s3, s4, s5, s6, s7, s8, s9⟩, hp, hh, hl, hq, hc, ht, hj⟩ := id h
  obtain ⟨e1, hr⟩ := s7
  unfold rg at hr
  have hcs : (fX3_end v k = (-1, v) ∧ fX0_end u k = (-1, u)) ∨ (0 ≤ k.toInt ∧ k.toInt ≤ (v.1 23).toInt ∧ fX3_end v k = (k, si v 23 k) ∧ fX0_end u k = (k, si u 1 k)) := by
    unfold fX3_end fX0_end
    simp only [e1, t_lt, t_le, k_0]
    repeat' split
    all_goals first | exact Or.inl ⟨rfl, rfl⟩ | exact Or.inr ⟨by omega, by omega, rfl, rfl⟩ | (exfalso; omega)
  rcases hcs with ⟨e1, e2⟩ | ⟨a1, a2, e1, e2⟩
  · rw [e1, e2]; exact ⟨rfl, h⟩
  · rw [e1, e2]
    refine ⟨rfl, ⟨?_, ?_, ?_, ?_, ?_, ?_, ?_, ?_, ?_⟩, ?_, ?_, ?_, ?_, ?_, ?_, ?_⟩
    · simpa [si_1] using s1
    · simpa [si_1] using s2
    · simpa [si_1] using s3
    · simpa [si_1] using s4
    · simpa [si_1] using s5
    · simpa [si_1] using s6
    · simp only [si_1, if_pos]; exact ⟨trivial, a1, by omega⟩
    · simpa [si_1] using s8
    · simpa [si_1] using s9
    · simpa [si_1, si_2] using hp
    · simpa [si_1, si_2] using hh
    · simpa [si_2] using hl
    · simpa [si_1, si_2] using hq
    · simpa [si_1, si_2] using hc
    · simp only [si_1, if_pos, si_2]; exact fun j hj2 => ht j (by omega)
    · simpa [si_2] using hj
theorem p_fault {v u : St} {n : Nat} (w : Int32) (h : IV v u n) : fX3_fault v w = fX0_fault u w := by
  obtain ⟨e2, e3⟩ := h.1.2.2.2.2.2.2.2.1
  unfold fX3_fault fX0_fault
  rw [e2, e3]
