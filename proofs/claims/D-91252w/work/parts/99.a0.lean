/-! THE PLAIN LAW, 20: the component's table. Own work. -/
set_option maxRecDepth 100000
section SC
variable {u u0 v0 : St} {H : Nat} {jy : Nat → Nat → Int32}
def FC (u w : St) : Prop := w.1 = u.1 ∧ w.2.2 = u.2.2 ∧ ∀ k, ¬ (50 ≤ k ∧ k ≤ 58) → w.2.1 k = u.2.1 k
def JC (u : St) (jy : Nat → Nat → Int32) : Prop := ∀ h g, h < 8 → g < 8 → u.2.1 (40 + h) g = jy h g
def RA0 (jy : Nat → Nat → Int32) (w : St) (H m : Nat) : Prop := ∀ h z, m ≤ h → h ≤ H → z < 2 ^ H → w.2.1 (50 + h) z = bst H jy (H - h) z
def RM0 (jy : Nat → Nat → Int32) (w : St) (H h z0 : Nat) : Prop := RA0 jy w H (h + 1) ∧ ∀ z, z < z0 → z < 2 ^ H → w.2.1 (50 + h) z = bst H jy (H - h) z
def J44 (u : St) (jy : Nat → Nat → Int32) (H h z : Nat) (x : St × Int32) : Prop := ∃ g : Nat, g ≤ H ∧ x.2 = nI g ∧ FC u x.1 ∧ RM0 jy x.1 H h z ∧ x.1.2.1 (50 + h) z = if h = H then 0 else bsF (bst H jy (H - h - 1)) jy h z g
def J11 (u : St) (jy : Nat → Nat → Int32) (H h : Nat) (x : St × Int32) : Prop := ∃ z : Nat, z ≤ 2 ^ H ∧ x.2 = nI z ∧ FC u x.1 ∧ RM0 jy x.1 H h z
def J5 (u : St) (jy : Nat → Nat → Int32) (H : Nat) (x : St × Int32) : Prop := ∃ m : Nat, m ≤ H + 1 ∧ x.2.toInt = (m : Int) - 1 ∧ FC u x.1 ∧ RA0 jy x.1 H m
theorem FC.rf : FC u u := ⟨rfl, rfl, fun _ _ => rfl⟩
theorem FC.sa {w : St} {k j : Nat} {x : Int32} (h : FC u w) (h1 : 50 ≤ k) (h2 : k ≤ 58) : FC u (sa w k j x) := ⟨h.1, h.2.1, fun k' hk => by rw [sa_o (by omega)]; exact h.2.2 k' hk⟩
theorem cH0 {w : St} (hF : FC u w) (hJ : JC u jy) {h g : Nat} (hh : h < 8) (hg : g < 8) : fX0_canHave w (nI h) (nI g) = true ↔ (h = g ∨ 0 < (jy h g).toInt) := by
  unfold fX0_canHave
  rw [nN (by omega), nN (by omega), hF.2.2 (40 + h) (by omega), hJ h g hh hg]
  by_cases c : nI h = nI g
  · rw [if_pos c]; exact ⟨fun _ => Or.inl ((nI_eq (by omega) (by omega)).mp c), fun _ => rfl⟩
  · rw [if_neg c]
    have hne : ¬ h = g := fun z => c (by rw [z])
    by_cases c2 : jy h g ≤ 0
    · rw [if_pos c2]; rw [t_le, k_0] at c2; exact ⟨fun z => absurd z (by decide), fun z => by omega⟩
    · rw [if_neg c2]; rw [t_le, k_0] at c2; exact ⟨fun _ => Or.inr (by omega), fun _ => rfl⟩
theorem RM0.put {w : St} {h z : Nat} {x : Int32} (hR : RM0 jy w H h z) : RM0 jy (sa w (50 + h) z x) H h z := by
  refine ⟨fun h' z' a b c => ?_, fun z' a b => ?_⟩
  · rw [sa_o (by omega)]; exact hR.1 h' z' a b c
  · rw [sa_s, upd_o (by omega)]; exact hR.2 z' a b
theorem j44_step {w0 : St} {h z : Nat} (h7 : u.1 14 = nI H) (hJ : JC u jy) (hH : H ≤ 8) (hh : h ≤ H) (hz : z < 2 ^ H) : ∀ x, J44 u jy H h z x → (lpX0_swap_44 u0 v0 (nI h) w0 (nI z) x).1 = 0 → J44 u jy H h z (lpX0_swap_44 u0 v0 (nI h) w0 (nI z) x).2 ∧ 8 - (lpX0_swap_44 u0 v0 (nI h) w0 (nI z) x).2.2.toNatClampNeg < 8 - x.2.toNatClampNeg := by
  rintro ⟨x, gg⟩ ⟨g, hg, hgg, hF, hR, hb⟩
  replace hgg : gg = nI g := hgg
  replace hF : FC u x := hF
  replace hR : RM0 jy x H h z := hR
  replace hb : x.2.1 (50 + h) z = if h = H then 0 else bsF (bst H jy (H - h - 1)) jy h z g := hb
  subst hgg
  have h27 := pw_256 hH
  unfold lpX0_swap_44
  dsimp only
  rw [show x.1 14 = nI H by rw [hF.1]; exact h7]
  by_cases c1 : nI H ≤ nI h
  · simp only [if_pos c1]; intro y; cases y
  · simp only [if_neg c1]
    rw [n_le (by omega) (by omega)] at c1
    by_cases c2 : nI H ≤ nI g
    · simp only [if_pos c2]; intro y; cases y
    · simp only [if_neg c2]
      rw [n_le (by omega) (by omega)] at c2
      have hgH : g < H := by omega
      have hhH : h < H := by omega
      rw [if_neg (by omega)] at hb
      have hmu : 8 - (nI (g + 1)).toNatClampNeg < 8 - (nI g).toNatClampNeg := by rw [nN (by omega), nN (by omega)]; omega
      rw [sh_bit0 z (by omega) g (by omega), nI_1, nI_1]
      have key : bsF (bst H jy (H - h - 1)) jy h z (g + 1) = bsF (bst H jy (H - h - 1)) jy h z g → J44 u jy H h z (x, nI (g + 1)) := fun e => ⟨g + 1, by omega, rfl, hF, hR, by rw [if_neg (by omega), e]; exact hb⟩
      by_cases c3 : bit z g = true
      · simp only [if_neg (show ¬ b2 (bit z g) = 0 by rw [c3]; decide)]
        have ho1 := off_lt H (by omega) z hz g hgH
        rw [sh_off0 z (by omega) g (by omega), nN (show h < _ by omega), nN (show h + 1 < _ by omega), nN (show z < _ by omega), nN (show off z g < _ by omega), nN (show g < _ by omega), hR.1 (h + 1) (off z g) (by omega) (by omega) ho1, show H - (h + 1) = H - h - 1 by omega, hF.2.2 (40 + h) (by omega), hJ h g (by omega) (by omega)]
        by_cases c4 : fX0_canHave x (nI h) (nI g) = true
        · simp only [if_pos c4]
          rw [cH0 hF hJ (by omega) (by omega)] at c4
          by_cases c5 : bst H jy (H - h - 1) (off z g) < 0
          · simp only [if_pos c5]
            intro _
            rw [t_lt, k_0] at c5
            exact ⟨key (by rw [bsF, if_neg (fun y => by have := y.2.2; omega)]), by first | omega | (rw [nN (by omega)]; omega)⟩
          · simp only [if_neg c5]
            intro _
            rw [t_lt, k_0] at c5
            refine ⟨⟨g + 1, by omega, rfl, hF.sa (by omega) (by omega), hR.put, ?_⟩, by first | omega | (rw [nN (by omega)]; omega)⟩
            show (sa x (50 + h) z _).2.1 (50 + h) z = _
            rw [sa_s, upd_s, if_neg (show ¬ h = H by omega), bsF, if_pos (show bit z g = true ∧ (h = g ∨ 0 < (jy h g).toInt) ∧ 0 ≤ (bst H jy (H - h - 1) (off z g)).toInt from ⟨c3, c4, by omega⟩), hb]
        · simp only [if_neg c4]
          intro _
          rw [cH0 hF hJ (by omega) (by omega)] at c4
          exact ⟨key (by rw [bsF, if_neg (fun y => c4 y.2.1)]), by first | omega | (rw [nN (by omega)]; omega)⟩
      · simp only [if_pos (b2_0.mpr (Bool.eq_false_iff.mpr c3))]
        intro _
        exact ⟨key (by rw [bsF, if_neg (fun y => c3 y.1)]), hmu⟩
theorem j44_init {w : St} {h z : Nat} (h7 : u.1 14 = nI H) (hH : H ≤ 8) (hh : h ≤ H) (hz : z < 2 ^ H) (hF : FC u w) (hR : RM0 jy w H h z) : J44 u jy H h z (sa w (50 + (nI h).toNatClampNeg) (nI z).toNatClampNeg (if nI h = w.1 14 then 0 else -1), 0) := by
  have h27 := pw_256 hH
  rw [nN (by omega), nN (by omega), show w.1 14 = nI H by rw [hF.1]; exact h7]
  refine ⟨0, Nat.zero_le _, rfl, hF.sa (by omega) (by omega), hR.put, ?_⟩
  show (sa w (50 + h) z _).2.1 (50 + h) z = _
  rw [sa_s, upd_s]
  by_cases c : h = H
  · rw [if_pos (by rw [c]), if_pos c]
  · rw [if_neg (fun z => c ((nI_eq (by omega) (by omega)).mp z)), if_neg c]; rfl
theorem j44_end {w : St} {h z : Nat} (h7 : u.1 14 = nI H) (hJ : JC u jy) (hH : H ≤ 8) (hh : h ≤ H) (hz : z < 2 ^ H) (hF : FC u w) (hR : RM0 jy w H h z) : FC u (lpX0_swap_44_r u0 v0 (nI h) w (nI z)).2.1 ∧ RM0 jy (lpX0_swap_44_r u0 v0 (nI h) w (nI z)).2.1 H h (z + 1) := by
  obtain ⟨x, h1, h2, h3⟩ := wh_run (lpX0_swap_44 u0 v0 (nI h) w (nI z)) (J44 u jy H h z) (fun x => 8 - x.2.toNatClampNeg) (j44_step h7 hJ hH hh hz) 9 _ (j44_init h7 hH hh hz hF hR) (by show 8 - _ < 9; omega)
  unfold lpX0_swap_44_r
  rw [h3]
  obtain ⟨x, gg⟩ := x
  obtain ⟨g, hg, hgg, hF, hR, hb⟩ := h1
  replace hgg : gg = nI g := hgg
  replace hF : FC u x := hF
  replace hR : RM0 jy x H h z := hR
  replace hb : x.2.1 (50 + h) z = if h = H then 0 else bsF (bst H jy (H - h - 1)) jy h z g := hb
  subst hgg
  have fin : x.2.1 (50 + h) z = bst H jy (H - h) z → FC u x ∧ RM0 jy x H h (z + 1) := fun e => ⟨hF, hR.1, fun z' a b => by
    by_cases c : z' = z
    · rw [c]; exact e
    · exact hR.2 z' (by omega) b⟩
  revert h2
  unfold lpX0_swap_44
  dsimp only
  rw [show x.1 14 = nI H by rw [hF.1]; exact h7]
  by_cases c1 : nI H ≤ nI h
  · simp only [if_pos c1]
    intro _
    rw [n_le (by omega) (by omega)] at c1
    refine fin ?_
    rw [hb, if_pos (by omega), show H - h = 0 by omega]; rfl
  · simp only [if_neg c1]
    rw [n_le (by omega) (by omega)] at c1
    by_cases c2 : nI H ≤ nI g
    · simp only [if_pos c2]
      intro _
      rw [n_le (by omega) (by omega)] at c2
      refine fin ?_
      rw [hb, if_neg (by omega), show H - h = (H - h - 1) + 1 by omega, bst, show g = H by omega, show H - (H - h - 1 + 1) = h by omega]; rfl
    · simp only [if_neg c2]
      intro y
      exfalso
      revert y
      repeat' split
      all_goals (intro y; first | exact absurd rfl y | exact absurd trivial y)
theorem j11_step {h : Nat} (h7 : u.1 14 = nI H) (hJ : JC u jy) (hH : H ≤ 8) (hh : h ≤ H) : ∀ x, J11 u jy H h x → (lpX0_swap_11 u0 v0 (nI h) x).1 = 0 → J11 u jy H h (lpX0_swap_11 u0 v0 (nI h) x).2 ∧ 256 - (lpX0_swap_11 u0 v0 (nI h) x).2.2.toNatClampNeg < 256 - x.2.toNatClampNeg := by
  rintro ⟨w, zz⟩ ⟨z, hz, hzz, hF, hR⟩
  replace hzz : zz = nI z := hzz
  replace hF : FC u w := hF
  replace hR : RM0 jy w H h z := hR
  subst hzz
  have h27 := pw_256 hH
  unfold lpX0_swap_11
  dsimp only
  rw [show w.1 14 = nI H by rw [hF.1]; exact h7, sh_pow H (by omega)]
  by_cases c1 : nI (2 ^ H) ≤ nI z
  · simp only [if_pos c1]; intro y; cases y
  · simp only [if_neg c1]
    rw [n_le (by omega) (by omega)] at c1
    intro _
    rw [nI_1]
    obtain ⟨g1, g2⟩ := j44_end (u0 := u0) (v0 := v0) h7 hJ hH hh (show z < 2 ^ H by omega) hF hR
    exact ⟨⟨z + 1, by omega, rfl, g1, g2⟩, by rw [nN (by omega), nN (by omega)]; omega⟩
theorem j11_init {w : St} {h : Nat} (hF : FC u w) (hA : RA0 jy w H (h + 1)) : J11 u jy H h (w, 0) :=
  ⟨0, Nat.zero_le _, rfl, hF, hA, fun _ a => absurd a (by omega)⟩
theorem j11_end {w : St} {h : Nat} (h7 : u.1 14 = nI H) (hJ : JC u jy) (hH : H ≤ 8) (hh : h ≤ H) (hF : FC u w) (hA : RA0 jy w H (h + 1)) : FC u (lpX0_swap_11_r u0 w (nI h)).2.1 ∧ RA0 jy (lpX0_swap_11_r u0 w (nI h)).2.1 H h := by
  have h27 := pw_256 hH
  obtain ⟨x, h1, h2, h3⟩ := wh_run (lpX0_swap_11 u0 w (nI h)) (J11 u jy H h) (fun x => 256 - x.2.toNatClampNeg) (j11_step h7 hJ hH hh) 257 _ (j11_init hF hA) (by show 256 - _ < 257; omega)
  unfold lpX0_swap_11_r
  rw [h3]
  obtain ⟨w', zz⟩ := x
  obtain ⟨z, hz, hzz, hF', hR⟩ := h1
  replace hzz : zz = nI z := hzz
  replace hF' : FC u w' := hF'
  replace hR : RM0 jy w' H h z := hR
  subst hzz
  revert h2
  unfold lpX0_swap_11
  dsimp only
  rw [show w'.1 14 = nI H by rw [hF'.1]; exact h7, sh_pow H (by omega)]
  by_cases c1 : nI (2 ^ H) ≤ nI z
  · simp only [if_pos c1]
    intro _
    rw [n_le (by omega) (by omega)] at c1
    refine ⟨hF', fun h' z' a b c => ?_⟩
    by_cases e : h' = h
    · subst e; exact hR.2 z' (by omega) c
    · exact hR.1 h' z' (by omega) b c
  · simp only [if_neg c1]
    intro y; exact absurd trivial y
theorem j5_step (h7 : u.1 14 = nI H) (hJ : JC u jy) (hH : H ≤ 8) : ∀ x, J5 u jy H x → (lpX0_swap_5 u0 x).1 = 0 → J5 u jy H (lpX0_swap_5 u0 x).2 ∧ ((lpX0_swap_5 u0 x).2.2.toInt + 1).toNat < (x.2.toInt + 1).toNat := by
  rintro ⟨w, hh⟩ ⟨m, hm, hm1, hF, hA⟩
  replace hm1 : hh.toInt = (m : Int) - 1 := hm1
  replace hF : FC u w := hF
  replace hA : RA0 jy w H m := hA
  unfold lpX0_swap_5
  dsimp only
  by_cases c1 : hh < 0
  · simp only [if_pos c1]; intro y; cases y
  · simp only [if_neg c1]
    rw [t_lt, k_0] at c1
    intro _
    have e1 : (hh + -1).toInt = hh.toInt - 1 := by rw [t_add (by rw [k_m1]; omega) (by rw [k_m1]; omega), k_m1]; omega
    obtain ⟨m', rfl⟩ : ∃ m', m = m' + 1 := ⟨m - 1, by omega⟩
    have eh : hh = nI m' := by rw [t_eq, nI_i (by omega)]; omega
    rw [eh] at e1 hm1 ⊢
    obtain ⟨g1, g2⟩ := j11_end (u0 := u0) h7 hJ hH (show m' ≤ H by omega) hF hA
    exact ⟨⟨m', by omega, by rw [e1]; omega, g1, g2⟩, by rw [e1]; omega⟩
theorem j5_init (h7 : u.1 14 = nI H) (hH : H ≤ 8) : J5 u jy H (u, u.1 14) :=
  ⟨H + 1, Nat.le_refl _, by show (u.1 14).toInt = _; rw [h7, nI_i (by omega)]; omega, FC.rf, fun _ _ a b => absurd b (by omega)⟩
theorem j5_mu (h7 : u.1 14 = nI H) (hH : H ≤ 8) : ((u.1 14).toInt + 1).toNat < 10 := by rw [h7, nI_i (by omega)]; omega
/-- the component's table -/
theorem j5_end (h7 : u.1 14 = nI H) (hJ : JC u jy) (hH : H ≤ 8) : FC u (fX0_swap u) ∧ RA0 jy (fX0_swap u) H 0 := by
  obtain ⟨x, h1, h2, h3⟩ := wh_run (lpX0_swap_5 u) (J5 u jy H) (fun x => (x.2.toInt + 1).toNat) (j5_step h7 hJ hH) 10 _ (j5_init h7 hH) (j5_mu h7 hH)
  unfold fX0_swap lpX0_swap_5_r
  rw [h3]
  obtain ⟨w, hh⟩ := x
  obtain ⟨m, hm, hm1, hF, hA⟩ := h1
  replace hm1 : hh.toInt = (m : Int) - 1 := hm1
  replace hF : FC u w := hF
  replace hA : RA0 jy w H m := hA
  revert h2
  unfold lpX0_swap_5
  dsimp only
  by_cases c1 : hh < 0
  · simp only [if_pos c1]
    intro _
    rw [t_lt, k_0] at c1
    have : m = 0 := by omega
    subst this
    exact ⟨hF, hA⟩
  · simp only [if_neg c1]
    intro y; exact absurd trivial y
theorem swap_ok (n : Nat) (h7 : u.1 14 = nI H) (hJ : JC u jy) (hH : H ≤ 8) : okX0_swap n u := by
  have h27 := pw_256 hH
  refine ⟨J5 u jy H, fun w h => J11 u jy H h.toNatClampNeg, fun w h w' z => J44 u jy H h.toNatClampNeg z.toNatClampNeg, LOK.of (μ := fun x => (x.2.toInt + 1).toNat) (j5_init h7 hH) (j5_step h7 hJ hH) (j5_mu h7 hH), ?_⟩
  have K : ∀ (w : St) (h : Int32), J5 u jy H (w, h) → ¬ h < 0 → ∃ m, m ≤ H ∧ h = nI m ∧ FC u w ∧ RA0 jy w H (m + 1) := by
    rintro w h ⟨m, hm, hm1, hF, hA⟩ c
    replace hm1 : h.toInt = (m : Int) - 1 := hm1
    rw [t_lt, k_0] at c
    exact ⟨m - 1, by omega, by rw [t_eq, nI_i (by omega)]; omega, hF, by rw [show m - 1 + 1 = m by omega]; exact hA⟩
  have K2 : ∀ (w : St) (h : Int32), J5 u jy H (w, h) → ¬ h < 0 → ∀ (w' : St) (z : Int32), J11 u jy H h.toNatClampNeg (w', z) → ¬ (((1 : Int32) <<< ((w'.1 14) &&& 31)) ≤ z) → ∃ m zn, m ≤ H ∧ h = nI m ∧ zn < 2 ^ H ∧ z = nI zn ∧ FC u w' ∧ RM0 jy w' H m zn := by
    rintro w h hi c w' z ⟨zn, z1, z2, z3, z4⟩ c2
    obtain ⟨m, e1, e2, -, -⟩ := K w h hi c
    replace z2 : z = nI zn := z2
    replace z3 : FC u w' := z3
    replace z4 : RM0 jy w' H h.toNatClampNeg zn := z4
    rw [e2, nN (by omega)] at z4
    rw [show w'.1 14 = nI H by rw [z3.1]; exact h7, sh_pow H (by omega), z2, n_le (by omega) (by omega)] at c2
    exact ⟨m, zn, e1, e2, by omega, z2, z3, z4⟩
  have K3 : ∀ (m zn : Nat) (x : St) (b : Int32), J44 u jy H m zn (x, b) → ¬ x.1 14 ≤ nI m → ¬ x.1 14 ≤ b → m ≤ H → m < H ∧ ∃ gn, gn < H ∧ b = nI gn := by
    rintro m zn x b ⟨gn, a1, a2, a3, -⟩ c1 c2 hm
    replace a2 : b = nI gn := a2
    replace a3 : FC u x := a3
    rw [show x.1 14 = nI H by rw [a3.1]; exact h7] at c1 c2
    rw [n_le (by omega) (by omega)] at c1
    rw [a2, n_le (by omega) (by omega)] at c2
    exact ⟨by omega, gn, by omega, a2⟩
  have K4 : ∀ (w : St) (h : Int32), J5 u jy H (w, h) → ¬ h < 0 → ∀ (w' : St) (z : Int32), J11 u jy H h.toNatClampNeg (w', z) → ¬ (((1 : Int32) <<< ((w'.1 14) &&& 31)) ≤ z) → ∀ (x : St) (b : Int32), J44 u jy H h.toNatClampNeg z.toNatClampNeg (x, b) → ¬ x.1 14 ≤ h → ¬ x.1 14 ≤ b → ∃ m zn gn, m < H ∧ h = nI m ∧ zn < 2 ^ H ∧ z = nI zn ∧ gn < H ∧ b = nI gn := by
    intro w h hi c w' z hz c2 x b hg c3 c4
    obtain ⟨m, zn, e1, rfl, e3, rfl, e5, e6⟩ := K2 w h hi c w' z hz c2
    obtain ⟨f1, gn, f2, f3⟩ := K3 _ _ x b hg (by rw [nN (by omega)]; exact c3) c4 (by rw [nN (by omega)]; exact e1)
    rw [nN (by omega)] at f1
    exact ⟨m, zn, gn, f1, rfl, e3, rfl, f2, f3⟩
  refine ⟨?_, ?_, ?_, ?_, ?_, ?_, ?_, ?_, ?_⟩
  · intro w h hi c
    obtain ⟨m, e1, rfl, e3, e4⟩ := K w h hi c
    show LOK _ _ _ (J11 u jy H (nI m).toNatClampNeg)
    rw [nN (by omega)]
    exact LOK.of (μ := fun x => 256 - x.2.toNatClampNeg) (j11_init e3 e4) (j11_step h7 hJ hH e1) (by show 256 - _ < 257; omega)
  · intro w h hi c w' z hz c2
    obtain ⟨m, zn, e1, rfl, e3, rfl, e5, e6⟩ := K2 w h hi c w' z hz c2
    rw [vp_in_iff, nI_i (by omega)]; omega
  · intro w h hi c w' z hz c2
    obtain ⟨m, zn, e1, rfl, e3, rfl, e5, e6⟩ := K2 w h hi c w' z hz c2
    rw [vp_in_iff, nI_i (by omega)]; omega
  · intro w h hi c w' z hz c2
    obtain ⟨m, zn, e1, rfl, e3, rfl, e5, e6⟩ := K2 w h hi c w' z hz c2
    have := j44_init h7 hH e1 e3 e5 e6
    show LOK _ _ _ (J44 u jy H (nI m).toNatClampNeg (nI zn).toNatClampNeg)
    rw [show J44 u jy H (nI m).toNatClampNeg (nI zn).toNatClampNeg = J44 u jy H m zn by rw [nN (by omega), nN (by omega)]]
    exact LOK.of (μ := fun x => 8 - x.2.toNatClampNeg) this (j44_step h7 hJ hH e1 e3) (by show 8 - _ < 9; omega)
  · intro w h hi c w' z hz c2 x b hg c3 c4 _
    obtain ⟨m, zn, gn, e1, rfl, e3, rfl, e5, rfl⟩ := K4 w h hi c w' z hz c2 x b hg c3 c4
    exact ⟨fun _ => by rw [vp_in_iff, nI_i (by omega)]; omega, fun _ => by rw [vp_in_iff, nI_i (by omega)]; omega⟩
  · intro w h hi c w' z hz c2 x b hg c3 c4 _ _
    obtain ⟨m, zn, gn, e1, rfl, e3, rfl, e5, rfl⟩ := K4 w h hi c w' z hz c2 x b hg c3 c4
    rw [nI_1, vp_in_iff, nI_i (by omega)]; omega
  · intro w h hi c w' z hz c2 x b hg c3 c4 _ _
    obtain ⟨m, zn, gn, e1, rfl, e3, rfl, e5, rfl⟩ := K4 w h hi c w' z hz c2 x b hg c3 c4
    have ho1 := off_lt H (by omega) zn e3 gn e5
    rw [sh_off0 zn (by omega) gn (by omega), vp_in_iff, nI_i (by omega)]; omega
  all_goals
    intro w h hi c w' z hz c2 x b hg c3 c4 _ _ _
    obtain ⟨m, zn, gn, e1, rfl, e3, rfl, e5, rfl⟩ := K4 w h hi c w' z hz c2 x b hg c3 c4
    rw [vp_in_iff, nI_i (by omega)]; omega
end SC
