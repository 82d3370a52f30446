/-! THE PLAIN LAW, 16: look, both sides. Own work. -/
set_option maxRecDepth 100000
theorem p_look {v u : St} {n : Nat} (cl k : Int32) (h : IV v u n) : (fX3_look v cl k).1 = (fX0_looks u cl k).1 ∧ IV (fX3_look v cl k).2 (fX0_looks u cl k).2 n ∧ okX3_look v cl k ∧ okX0_looks n u cl k ∧ F4 v (fX3_look v cl k).2 ∧ ((fX3_look v cl k).1 = true → (∀ j, j < 9 → (fX3_look v cl k).2.2.1 47 j = tvK (fX0_looks u cl k).2 j) ∧ okK n (fX0_looks u cl k).2) := by
  obtain ⟨⟨s1, s2, ⟨e15, e19, hn⟩, s4, ⟨e17, hr⟩, s6, s7, s8, s9⟩, hp, hh, hl, hq, hc, ht, hj⟩ := id h
  have hr7 := s2.2
  have hr6 := s1.2
  unfold rg at hr hr7 hr6
  by_cases c : 0 ≤ cl.toInt ∧ cl.toInt < (v.1 49).toInt
  case neg =>
    have hc1 : ¬ cl < 0 → ¬ v.1 49 ≤ cl → False := fun z1 z2 => c (by rw [t_lt, k_0] at z1; rw [t_le] at z2; omega)
    have hc0 : ¬ cl < 0 → ¬ u.1 17 ≤ cl → False := fun z1 z2 => hc1 z1 (by rw [← e17]; exact z2)
    have e3 : fX3_look v cl k = (false, v) := by
      unfold fX3_look
      by_cases z1 : cl < 0
      · rw [if_pos z1]
      · by_cases z2 : v.1 49 ≤ cl
        · rw [if_neg z1, if_pos z2]
        · exact absurd (hc1 z1 z2) id
    have e0 : fX0_looks u cl k = (false, u) := by
      unfold fX0_looks
      by_cases z1 : cl < 0
      · rw [if_pos z1]
      · by_cases z2 : u.1 17 ≤ cl
        · rw [if_neg z1, if_pos z2]
        · exact absurd (hc0 z1 z2) id
    rw [e3, e0]
    exact ⟨rfl, h, ⟨fun _ => True, fun a b => absurd (hc1 a b) id, fun a b => absurd (hc1 a b) id, fun a b => absurd (hc1 a b) id, fun a b => absurd (hc1 a b) id, fun a b => absurd (hc1 a b) id, fun a b => absurd (hc1 a b) id, fun a b => absurd (hc1 a b) id, fun a b => absurd (hc1 a b) id, fun a b => absurd (hc1 a b) id, fun a b => absurd (hc1 a b) id, fun a b => absurd (hc1 a b) id⟩, ⟨fun a b => absurd (hc0 a b) id, fun a b => absurd (hc0 a b) id, fun a b => absurd (hc0 a b) id, fun a b => absurd (hc0 a b) id, fun a b => absurd (hc0 a b) id⟩, F3.rf.f4, fun z => by cases z⟩
  case pos =>
  have c1 : ¬ cl < 0 := by rw [t_lt, k_0]; omega
  have c2 : ¬ v.1 49 ≤ cl := by rw [t_le]; omega
  have c2' : ¬ u.1 17 ≤ cl := by rw [e17]; exact c2
  obtain ⟨e12, r48⟩ := hc cl.toNatClampNeg (by rw [t_nat]; omega)
  unfold rg at r48
  obtain ⟨p, hpi⟩ : ∃ p : Nat, (v.2.1 48 cl.toNatClampNeg).toInt = p := ⟨(v.2.1 48 cl.toNatClampNeg).toInt.toNat, by omega⟩
  have hpn : p < n := by omega
  have h48 : v.2.1 48 cl.toNatClampNeg = nI p := t_eq.mpr (by rw [nI_i (by omega)]; exact hpi)
  have h12 : u.2.1 12 cl.toNatClampNeg = nI p := e12.trans h48
  have hvp : vp_in (nI p) 60 := vp_in_nI (by omega) (by decide)
  have hneg : ¬ nI p < 0 := by rw [t_lt, nI_i (by omega), k_0]; omega
  have hpin : pIn n (nI p) := ⟨hneg, by rw [nN (by omega)]; exact hpn⟩
  have hcl : vp_in cl 30 := by rw [vp_in_iff]; omega
  obtain ⟨a0, a1, a2, a3, a4, a5, a6, a7, a8, b1, b2', b3, b4, b5, b6, b7, b8⟩ := hq p hpn
  unfold rg at b1 b2' b3 b4 b5
  have hho : 0 ≤ (v.2.1 9 p).toInt ∧ (v.2.1 9 p).toInt < (v.1 7).toInt := by omega
  have hcnt := cnt_eq hq FW.rf hpn hn k
  obtain ⟨lo1, lo2, lo3, lo4⟩ := p_loose (nI p) k h
  have hF0 : F3 v (fX3_loose v (nI p) k).2 := loose_F3 e19 hn
  have hpA : fX0_paperAt u (nI p) = nI p := by rw [pA0, e15, e19, if_pos (by rw [nI_i (by omega), nI_i (by omega)]; omega)]
  -- the state between
  have hL0 : fX3_lk0 v cl k = (fX3_loose v (nI p) k).2 := by unfold fX3_lk0; rw [h48]
  have hIV0 : IV (fX3_lk0 v cl k) u n := by rw [hL0]; exact h.fol hF0 FW.rf
  have hF0' : F3 v (fX3_lk0 v cl k) := by rw [hL0]; exact hF0
  have e9 : (fX3_lk0 v cl k).2.1 9 p = v.2.1 9 p := by rw [hF0'.2.1 9 (by decide) (by decide)]
  have e48 : (fX3_lk0 v cl k).2.1 48 cl.toNatClampNeg = nI p := by rw [hF0'.2.1 48 (by decide) (by decide)]; exact h48
  obtain ⟨W, m, m1, l, e1, hm, hm1, h20, hE, hF, h17, h18, g2, g3, e2, e8, ok3, ok0, -⟩ := fol_both (v.2.1 9 p) k k (nI p) hIV0 (by rw [hF0'.1 7 (by decide)]; exact hho) (Or.inr (by rw [nN (by omega)]; exact hpn))
  have hL1 : fX3_lk1 v cl k = W := by unfold fX3_lk1; rw [e48, nN (by omega), e9, e1]
  have hx1 : fX0_lk1 u cl k = fW u (v.2.1 9 p) k k (nI p) l m1 := by unfold fX0_lk1; rw [h12, nN (by omega), a1]; exact e2
  have hFW := fW_fw u (v.2.1 9 p) k k (nI p) l m1
  have hFv : F3 v W := hF0'.tr hF
  have hL3 := look3_eq (k := k) (show p < 60 by omega) e19 hn c1 c2 h48
  have hL5 := looks0_eq (k := k) (show p < 60 by omega) c1 c2' h12
  rw [hL1, e9, e1] at hL3
  rw [hx1, hcnt] at hL5
  have hloose0 : (fX3_loose v (nI p) k).1 = if fX3_counts v (nI p) k = true then b2 (if (fW u (v.2.1 9 p) k k (nI p) l m1).1 20 = 0 then false else true) else -1 := by
    rw [lo1]
    unfold fX0_loose
    rw [hpA, if_neg hneg, hcnt, nN (by omega), a1, e2]
    by_cases z : fX3_counts v (nI p) k = true
    · rw [if_pos z, if_pos z]
    · rw [if_neg z, if_neg z]
  have hok0 : okX0_looks n u cl k := ⟨fun _ _ => hcl, fun _ _ => by rw [h12]; exact hvp, fun _ _ => by rw [h12, nN (by omega)]; exact hpn, fun _ _ => by rw [h12]; exact hpin, fun _ _ _ => by rw [h12, nN (by omega), a1]; exact ok0⟩
  have hokB : okX3_loose v (nI p) k := lo3
  -- facts in W
  have w10 : W.2.1 10 = (fX3_lk0 v cl k).2.1 10 := hF.2.1 10 (by decide) (by decide)
  have w11 : W.2.1 11 = (fX3_lk0 v cl k).2.1 11 := hF.2.1 11 (by decide) (by decide)
  have w12 : W.2.1 12 = (fX3_lk0 v cl k).2.1 12 := hF.2.1 12 (by decide) (by decide)
  have hdd : d3 W = d3 (fX3_lk0 v cl k) := by funext i; unfold d3; rw [w12]
  have hEW : EN (q3 (fX3_lk0 v cl k) (v.2.1 9 p) k) (d3 W) n m l := by rw [hdd]; exact hE
  have h18W : ∀ j, j < m → W.2.1 18 (l j) = b2 (lsF ((fX3_lk0 v cl k).2.1 3 (v.2.1 9 p).toNatClampNeg) (W.2.1 10) (W.2.1 11) l j) := by rw [w10, w11]; exact h18
  have g2W : ∀ i, i < m1 → d3 W (l i) ≤ k.toInt := by rw [hdd]; exact g2
  have g3W : ∀ i, m1 ≤ i → i < m → k.toInt < d3 W (l i) := by rw [hdd]; exact g3
  -- what the model asks, if the paper counts
  have ok3of : fX3_counts v (nI p) k = true → okX3_look v cl k ∧ ∃ t, t < m1 ∧ l t = p ∧ ∃ bd ix : Int32, lpX3_look_65_r v cl k = (1, caF ((fX3_lk0 v cl k).2.1 3 (v.2.1 9 p).toNatClampNeg) (W.2.1 10 p) (W.2.1 10) (W.2.1 11) (W.2.1 12) l t, nI (bhF ((fX3_lk0 v cl k).2.1 3 (v.2.1 9 p).toNatClampNeg) (W.2.1 10) (W.2.1 11) l t m1), bd, ix) := fun z => by
    have hqp : q3 (fX3_lk0 v cl k) (v.2.1 9 p) k p = true := by
      unfold q3
      rw [decide_eq_true e9, Bool.true_and]
      unfold fX3_counts at z ⊢
      rw [hF0'.2.1 15 (by decide) (by decide), hF0'.2.1 16 (by decide) (by decide)]; exact z
    obtain ⟨t, ht2, htp⟩ := hE.2.2 p hpn hqp
    have hd := cnt_day hq hpn hn z
    have hd0 : d3 (fX3_lk0 v cl k) p = d3 v p := by unfold d3; rw [hF0'.2.1 12 (by decide) (by decide)]
    have htm : t < m1 := Nat.not_le.mp (fun y => by have := g3 t y ht2; rw [htp, hd0] at this; omega)
    obtain ⟨bd, ix, hr65, hLOK⟩ := i65_end hn hm hm1 hEW htm h20 h17 h18W g2W g3W
    rw [htp] at hr65 hLOK
    have hlp : lpX3_look_65 v cl k = lk65 W (nI p) k := by rw [lk65_eq, hL1, e48]
    refine ⟨⟨I65 ((fX3_lk0 v cl k).2.1 3 (v.2.1 9 p).toNatClampNeg) W m m1 t l, fun _ _ => hcl, fun _ _ => by rw [h48]; exact hokB, fun _ _ _ => by rw [e48]; exact hvp, fun _ _ _ => by rw [e48, nN (by omega), e9]; exact ok3, fun _ _ _ => by rw [hlp]; exact hLOK, ?_, ?_, ?_, ?_, ?_, ?_⟩, t, htm, htp, bd, ix, by unfold lpX3_look_65_r; rw [hlp]; exact hr65⟩
    · rintro - - - cm hh bd2 ix2 ⟨i, hi, hix, -⟩ hz
      have hix : ix2 = nI i := hix
      rw [hL1, h20, hix, t_le, nI_i (by omega), nI_i (by omega)] at hz
      rw [hix]; exact vp_in_nI (by omega) (by decide)
    · rintro - - - cm hh bd2 ix2 ⟨i, hi, hix, -⟩ hz - - -
      have hix : ix2 = nI i := hix
      rw [hL1, h20, hix, t_le, nI_i (by omega), nI_i (by omega)] at hz
      rw [hL1, hix, nN (by omega), h17 i (by omega)]
      exact vp_in_nI (by have := (hE.1 i (by omega)).1; omega) (by decide)
    · rintro - - - cm hh bd2 ix2 ⟨i, hi, hix, -⟩ hz - -
      have hix : ix2 = nI i := hix
      rw [hL1, h20, hix, t_le, nI_i (by omega), nI_i (by omega)] at hz
      rw [hL1, hix, nN (by omega), h17 i (by omega)]
      exact vp_in_nI (by have := (hE.1 i (by omega)).1; omega) (by decide)
    · intro _ _ _
      rw [hL1, e48, nN (by omega)]
      have ed : (W.2.1 12 p / 365).toInt = (v.2.1 12 p).toInt / 365 := by rw [hFv.2.1 12 (by decide) (by decide)]; exact t_d365 (by omega)
      refine ⟨by unfold vp_in; decide, by rw [vp_in_iff, ed]; omega, ?_⟩
      rw [sa_o (by decide), sa_o (by decide), hFv.2.1 5 (by decide) (by decide)]
      exact i64_ne (by have := (hl (W.2.1 12 p / 365).toNatClampNeg (by rw [t_nat, ed]; omega)).2.1; omega)
    · intro _ _ _
      rw [e48, nN (by omega), e9, vp_in_iff]; omega
    · intro _ _ _
      rw [hL1, e48, nN (by omega), hFv.2.1 10 (by decide) (by decide)]
      show vp_in _ 24
      rw [vp_in_iff]; omega
  by_cases cc : fX3_counts v (nI p) k = true
  case neg =>
    rw [if_neg cc] at hloose0 hL5
    rw [hloose0, if_neg (by decide)] at hL3
    rw [hL3, hL5]
    have hnz : ¬ (fX3_loose v (v.2.1 48 cl.toNatClampNeg) k).1 = 0 := by rw [h48, hloose0]; decide
    refine ⟨rfl, h.fol hF0 FW.rf, ⟨fun _ => True, fun _ _ => hcl, fun _ _ => by rw [h48]; exact hokB, fun _ _ z => absurd z hnz, fun _ _ z => absurd z hnz, fun _ _ z => absurd z hnz, fun _ _ z => absurd z hnz, fun _ _ z => absurd z hnz, fun _ _ z => absurd z hnz, fun _ _ z => absurd z hnz, fun _ _ z => absurd z hnz, fun _ _ z => absurd z hnz⟩, hok0, hF0.f4, fun z => by cases z⟩
  case pos =>
  obtain ⟨hok3, t, htm, htp, bd, ix, hr65⟩ := ok3of cc
  rw [if_pos cc] at hloose0 hL5
  have hqV : IVq n ((fX3_lk0 v cl k).1 7).toInt ((fX3_lk0 v cl k).1 6).toInt (fX3_lk0 v cl k).2.1 u.2.1 := hIV0.2.2.2.2.1
  obtain ⟨t20, t21, t22⟩ := fW_tr (d := k) hqV hE hn (show t < m by omega) (fs := (fX3_lk0 v cl k).2.1 3 (v.2.1 9 p).toNatClampNeg) e8 m1 hm1
  obtain ⟨t18, -⟩ := fW_18 (d := k) (ak := nI p) hqV hE hn m1 hm1
  rw [htp, if_neg (by omega)] at t20 t21 t22
  rw [e8] at t18
  have hpx : pIxn n ((vw5 (fW u (v.2.1 9 p) k k (nI p) l m1) (nI p) k (((fW u (v.2.1 9 p) k k (nI p) l m1).2.1 64 p - (fW u (v.2.1 9 p) k k (nI p) l m1).1 21) / 365) ((fW u (v.2.1 9 p) k k (nI p) l m1).1 22) (b2 (if (fW u (v.2.1 9 p) k k (nI p) l m1).1 18 = (fW u (v.2.1 9 p) k k (nI p) l m1).2.1 63 p then true else false))).1 31) := Or.inr (by show (nI p).toNatClampNeg < n; rw [nN (by omega)]; exact hpn)
  by_cases c20 : (fW u (v.2.1 9 p) k k (nI p) l m1).1 20 = 0
  case neg =>
    rw [if_neg c20] at hloose0
    rw [decide_eq_false c20] at hL5
    rw [hloose0, if_neg (by decide)] at hL3
    rw [hL3, hL5]
    exact ⟨rfl, h.look hF0.f4 (vw5_F hFW) hpx, hok3, hok0, hF0.f4, fun z => by cases z⟩
  case pos =>
  rw [if_pos c20] at hloose0
  rw [decide_eq_true c20] at hL5
  rw [hloose0, if_pos (by decide), hr65] at hL3
  have hls : lsF ((fX3_lk0 v cl k).2.1 3 (v.2.1 9 p).toNatClampNeg) ((fX3_lk0 v cl k).2.1 10) ((fX3_lk0 v cl k).2.1 11) l t = false := by
    rw [t20] at c20
    exact b2_0.mp c20
  rw [hls, if_neg (by decide)] at t21 t22
  have hht : hlF ((fX3_lk0 v cl k).2.1 3 (v.2.1 9 p).toNatClampNeg) ((fX3_lk0 v cl k).2.1 10) ((fX3_lk0 v cl k).2.1 11) l t = (fX3_lk0 v cl k).2.1 10 p := by
    unfold lsF at hls
    rw [htp] at hls
    have : decide ((fX3_lk0 v cl k).2.1 10 p = hlF ((fX3_lk0 v cl k).2.1 3 (v.2.1 9 p).toNatClampNeg) ((fX3_lk0 v cl k).2.1 10) ((fX3_lk0 v cl k).2.1 11) l t) = true := by
      cases z : decide ((fX3_lk0 v cl k).2.1 10 p = hlF ((fX3_lk0 v cl k).2.1 3 (v.2.1 9 p).toNatClampNeg) ((fX3_lk0 v cl k).2.1 10) ((fX3_lk0 v cl k).2.1 11) l t) with
      | true => rfl
      | false => rw [z] at hls; cases hls
    exact (of_decide_eq_true this).symm
  rw [w10, w11, w12, cm_sn t hht] at hL3
  rw [hL3, hL5]
  have hx64 : (fW u (v.2.1 9 p) k k (nI p) l m1).2.1 64 p = v.2.1 12 p := by rw [hFW.2]; exact a4
  have hx63 : (fW u (v.2.1 9 p) k k (nI p) l m1).2.1 63 p = v.2.1 11 p := by rw [hFW.2]; exact a3
  have v12 : (fX3_lk0 v cl k).2.1 12 p = v.2.1 12 p := by rw [hF0'.2.1 12 (by decide) (by decide)]
  have v11 : (fX3_lk0 v cl k).2.1 11 p = v.2.1 11 p := by rw [hF0'.2.1 11 (by decide) (by decide)]
  have v10 : (fX3_lk0 v cl k).2.1 10 p = v.2.1 10 p := by rw [hF0'.2.1 10 (by decide) (by decide)]
  have v14 : W.2.1 14 p = v.2.1 14 p := by rw [hFv.2.1 14 (by decide) (by decide)]
  have v13 : W.2.1 13 p = v.2.1 13 p := by rw [hFv.2.1 13 (by decide) (by decide)]
  have hP : ∀ y : Int32 × Int32 × Int32 × Int32, True := fun _ => trivial
  have ed : (v.2.1 12 p / 365).toInt = (v.2.1 12 p).toInt / 365 := t_d365 (by omega)
  have hokk : okK n (vw5 (fW u (v.2.1 9 p) k k (nI p) l m1) (nI p) k (((fW u (v.2.1 9 p) k k (nI p) l m1).2.1 64 p - (fW u (v.2.1 9 p) k k (nI p) l m1).1 21) / 365) ((fW u (v.2.1 9 p) k k (nI p) l m1).1 22) (b2 (if (fW u (v.2.1 9 p) k k (nI p) l m1).1 18 = (fW u (v.2.1 9 p) k k (nI p) l m1).2.1 63 p then true else false))) := by
    unfold okK
    show pIn n (nI p) ∧ vp_in ((fW u (v.2.1 9 p) k k (nI p) l m1).2.1 61 (nI p).toNatClampNeg) 8 ∧ vp_in ((fW u (v.2.1 9 p) k k (nI p) l m1).2.1 62 (nI p).toNatClampNeg) 24 ∧ vp_in ((fW u (v.2.1 9 p) k k (nI p) l m1).2.1 64 (nI p).toNatClampNeg / 365) 100 ∧ ¬ ((fW u (v.2.1 9 p) k k (nI p) l m1).2.1 10 ((fW u (v.2.1 9 p) k k (nI p) l m1).2.1 64 (nI p).toNatClampNeg / 365).toNatClampNeg).toInt64 = 0
    rw [nN (by omega), hx64, hFW.2, a1, a2]
    refine ⟨hpin, by rw [vp_in_iff]; omega, by rw [vp_in_iff]; omega, by rw [vp_in_iff, ed]; omega, ?_⟩
    obtain ⟨z1, z2⟩ := hl (v.2.1 12 p / 365).toNatClampNeg (by rw [t_nat, ed]; omega)
    rw [z1]
    exact i64_ne (by have := z2.1; omega)
  refine ⟨rfl, h.look ⟨fun j hj2 => (hFv.1 j hj2), fun j z1 z2 z3 => (told9_F.2.1 j z1 z2 z3).trans (hFv.2.1 j z1 z2), hFv.2.2⟩ (vw5_F hFW) hpx, hok3, hok0, ⟨fun j hj2 => (hFv.1 j hj2), fun j z1 z2 z3 => (told9_F.2.1 j z1 z2 z3).trans (hFv.2.1 j z1 z2), hFv.2.2⟩, fun _ => ⟨?_, hokk⟩⟩
  have hlev : ∀ y : Int32, 0 ≤ y.toInt → y.toInt < 100 → u.2.1 10 y.toNatClampNeg = v.2.1 5 y.toNatClampNeg := fun y z1 z2 => (hl y.toNatClampNeg (by rw [t_nat]; omega)).1
  refine told9_j ?_ ?_ ?_ ?_ ?_ ?_ ?_ ?_ ?_
  · show _ = (mnL 2147483647 (if (fW u (v.2.1 9 p) k k (nI p) l m1).2.1 65 (nI p).toNatClampNeg = 1 then 1 else 0)).toInt32
    rw [nN (by omega), hFW.2, a5, v13]
    by_cases z : v.2.1 13 p = 1
    · rw [if_pos z, if_pos z]; rfl
    · rw [if_neg z, if_neg z]; rfl
  · show _ = (mnL 2147483647 (if (fW u (v.2.1 9 p) k k (nI p) l m1).2.1 65 (nI p).toNatClampNeg = 2 then 1 else 0)).toInt32
    rw [nN (by omega), hFW.2, a5, v13]
    by_cases z : v.2.1 13 p = 2
    · rw [if_pos z, if_pos z]; rfl
    · rw [if_neg z, if_neg z]; rfl
  · show _ = (mnL 2147483647 (((fW u (v.2.1 9 p) k k (nI p) l m1).2.1 66 (nI p).toNatClampNeg).toInt64 * ((fW u (v.2.1 9 p) k k (nI p) l m1).2.1 10 (99 : Int32).toNatClampNeg).toInt64 / ((fW u (v.2.1 9 p) k k (nI p) l m1).2.1 10 ((fW u (v.2.1 9 p) k k (nI p) l m1).2.1 64 (nI p).toNatClampNeg / 365).toNatClampNeg).toInt64)).toInt32
    rw [mn_eq, nN (by omega), hx64, hFW.2, a6, hlev 99 (by decide) (by decide), hlev (v.2.1 12 p / 365) (by rw [ed]; omega) (by rw [ed]; omega), v12]
    unfold fX3_turned
    rw [v14, hFv.2.1 5 (by decide) (by decide)]
  · show _ = (mnL 2147483647 ((fW u (v.2.1 9 p) k k (nI p) l m1).2.1 9 ((fW u (v.2.1 9 p) k k (nI p) l m1).2.1 61 (nI p).toNatClampNeg).toNatClampNeg).toInt64).toInt32
    rw [mn_i, nN (by omega), hFW.2, a1, (hh (v.2.1 9 p).toNatClampNeg (by rw [t_nat]; omega)).2.1, hFv.2.1 4 (by decide) (by decide)]
  · show _ = (mnL 2147483647 ((fW u (v.2.1 9 p) k k (nI p) l m1).2.1 64 (nI p).toNatClampNeg / 365).toInt64).toInt32
    rw [mn_i, nN (by omega), hx64, v12]
  · show _ = (mnL 2147483647 ((((fW u (v.2.1 9 p) k k (nI p) l m1).2.1 64 p - (fW u (v.2.1 9 p) k k (nI p) l m1).1 21) / 365)).toInt64).toInt32
    rw [mn_i, hx64, t21, v12]
  · show _ = (mnL 2147483647 ((fW u (v.2.1 9 p) k k (nI p) l m1).1 22).toInt64).toInt32
    rw [mn_i, t22]
  · show _ = (mnL 2147483647 (if b2 (if (fW u (v.2.1 9 p) k k (nI p) l m1).1 18 = (fW u (v.2.1 9 p) k k (nI p) l m1).2.1 63 p then true else false) = 0 then 0 else 1)).toInt32
    rw [hx63, t18, v11]
    by_cases z : hlF ((fX3_lk0 v cl k).2.1 3 (v.2.1 9 p).toNatClampNeg) ((fX3_lk0 v cl k).2.1 10) ((fX3_lk0 v cl k).2.1 11) l m1 = v.2.1 11 p
    · rw [if_pos z]; rfl
    · rw [if_neg z]; rfl
  · show _ = (mnL 2147483647 (if fX0_isDead (vw5 (fW u (v.2.1 9 p) k k (nI p) l m1) (nI p) k (((fW u (v.2.1 9 p) k k (nI p) l m1).2.1 64 p - (fW u (v.2.1 9 p) k k (nI p) l m1).1 21) / 365) ((fW u (v.2.1 9 p) k k (nI p) l m1).1 22) (b2 (if (fW u (v.2.1 9 p) k k (nI p) l m1).1 18 = (fW u (v.2.1 9 p) k k (nI p) l m1).2.1 63 p then true else false))) ((fW u (v.2.1 9 p) k k (nI p) l m1).2.1 62 (nI p).toNatClampNeg) k = true then 1 else 0)).toInt32
    rw [mn_b, nN (by omega), v10]
    have e62 : (fW u (v.2.1 9 p) k k (nI p) l m1).2.1 62 p = v.2.1 10 p := by rw [hFW.2]; exact a2
    rw [e62]
    have e7 : fX3_isDead W (v.2.1 10 p) k = fX0_isDead (vw5 (fW u (v.2.1 9 p) k k (nI p) l m1) (nI p) k (((fW u (v.2.1 9 p) k k (nI p) l m1).2.1 64 p - (fW u (v.2.1 9 p) k k (nI p) l m1).1 21) / 365) ((fW u (v.2.1 9 p) k k (nI p) l m1).1 22) (b2 (if (fW u (v.2.1 9 p) k k (nI p) l m1).1 18 = (fW u (v.2.1 9 p) k k (nI p) l m1).2.1 63 p then true else false))) (v.2.1 10 p) k := by
      unfold fX3_isDead fX0_isDead
      show _ = if (fW u (v.2.1 9 p) k k (nI p) l m1).2.1 7 (v.2.1 10 p).toNatClampNeg < 0 then false else if k < (fW u (v.2.1 9 p) k k (nI p) l m1).2.1 7 (v.2.1 10 p).toNatClampNeg then false else true
      rw [hFW.2, (hp (v.2.1 10 p).toNatClampNeg (by rw [t_nat]; omega)).2.2.1, hFv.2.1 2 (by decide) (by decide)]
    rw [e7]
    congr 1
    split <;> simp_all
