/-! THE PLAIN LAW, 19: the model's whole table. Own work. -/
set_option maxRecDepth 100000
section SV
variable {v u u0 v0 : St} {H : Nat}
def RA3 (v w : St) (H m : Nat) : Prop := ∀ h z, m ≤ h → h ≤ H → z < 2 ^ H → w.2.1 54 (256 * h + z) = bst H (jyM v) (H - h) (2 ^ H - 1 - z)
def I11 (v : St) (H h : Nat) (x : St × Int32) : Prop := ∃ z : Nat, z ≤ 2 ^ H ∧ x.2 = nI z ∧ FS v x.1 ∧ RM3 v x.1 H h z
def I5 (v : St) (H : Nat) (x : St × Int32) : Prop := ∃ m : Nat, m ≤ H + 1 ∧ x.2.toInt = (m : Int) - 1 ∧ FS v x.1 ∧ RA3 v x.1 H m
theorem FS.rf : FS v v := ⟨rfl, rfl, fun _ _ => rfl⟩
theorem FS.sa {w : St} {j : Nat} {x : Int32} (h : FS v w) : FS v (sa w 54 j x) := ⟨h.1, h.2.1, fun k hk => by rw [sa_o hk]; exact h.2.2 k hk⟩
theorem i11_step {h : Nat} (h7 : v.1 7 = nI H) (hH : H ≤ 8) (hh : h ≤ H) : ∀ x, I11 v H h x → (lpX3_solve_11 u0 v0 (nI h) x).1 = 0 → I11 v H h (lpX3_solve_11 u0 v0 (nI h) x).2 ∧ 256 - (lpX3_solve_11 u0 v0 (nI h) x).2.2.toNatClampNeg < 256 - x.2.toNatClampNeg := by
  rintro ⟨w, zz⟩ ⟨z, hz, hzz0, hF0, hR0⟩
  have hzz : zz = nI z := hzz0
  have hF : FS v w := hF0
  have hR : RM3 v w H h z := hR0
  subst hzz
  have h27 := pw_256 hH
  unfold lpX3_solve_11
  dsimp only
  rw [show w.1 7 = nI H by rw [hF.1]; exact h7, sh_pow H (by omega)]
  by_cases c1 : nI (2 ^ H) ≤ nI z
  · simp only [if_pos c1]; intro y; cases y
  · simp only [if_neg c1]
    rw [n_le (by omega) (by omega)] at c1
    intro _
    have hmu : 256 - (nI (z + 1)).toNatClampNeg < 256 - (nI z).toNatClampNeg := by rw [nN (by omega), nN (by omega)]; omega
    rw [nI_1, n_256 (by omega) (by omega), nN (show 256 * h + z < 2147483648 by omega), i38_end hF h7 hH hh (by omega) hR]
    refine ⟨⟨z + 1, by omega, rfl, hF.sa, ⟨?_, ?_⟩⟩, hmu⟩
    · intro h' z' a1 a2 a3
      rw [sa_s, upd_o (by omega)]
      exact hR.1 h' z' a1 a2 a3
    · intro z' a1 a2
      rw [sa_s]
      by_cases c : z' = z
      · rw [c, upd_s]
      · rw [upd_o (by omega)]
        exact hR.2 z' (by omega) a2
theorem i11_init {w : St} {h : Nat} (hF : FS v w) (hA : RA3 v w H (h + 1)) : I11 v H h (w, 0) :=
  ⟨0, Nat.zero_le _, rfl, hF, fun h' z a b c => hA h' z a b c, fun _ a => absurd a (by omega)⟩
theorem i11_end {w : St} {h : Nat} (h7 : v.1 7 = nI H) (hH : H ≤ 8) (hh : h ≤ H) (hF : FS v w) (hA : RA3 v w H (h + 1)) : FS v (lpX3_solve_11_r u0 w (nI h)).2.1 ∧ RA3 v (lpX3_solve_11_r u0 w (nI h)).2.1 H h := by
  have h27 := pw_256 hH
  obtain ⟨x, h1, h2, h3⟩ := wh_run (lpX3_solve_11 u0 w (nI h)) (I11 v H h) (fun x => 256 - x.2.toNatClampNeg) (i11_step h7 hH hh) 257 _ (i11_init hF hA) (by show 256 - _ < 257; omega)
  unfold lpX3_solve_11_r
  rw [h3]
  obtain ⟨w', zz⟩ := x
  obtain ⟨z, hz, hzz0, hF0, hR0⟩ := h1
  have hzz : zz = nI z := hzz0
  have hF' : FS v w' := hF0
  have hR : RM3 v w' H h z := hR0
  subst hzz
  revert h2
  unfold lpX3_solve_11
  dsimp only
  rw [show w'.1 7 = nI H by rw [hF'.1]; exact h7, sh_pow H (by omega)]
  by_cases c1 : nI (2 ^ H) ≤ nI z
  · simp only [if_pos c1]
    intro _
    rw [n_le (by omega) (by omega)] at c1
    refine ⟨hF', fun h' z' a b c => ?_⟩
    by_cases e : h' = h
    · subst e; exact hR.2 z' (by omega) c
    · exact hR.1 h' z' (by omega) b c
  · simp only [if_neg c1]
    intro y; exact absurd trivial y
theorem i5_step (h7 : v.1 7 = nI H) (hH : H ≤ 8) : ∀ x, I5 v H x → (lpX3_solve_5 u0 x).1 = 0 → I5 v H (lpX3_solve_5 u0 x).2 ∧ ((lpX3_solve_5 u0 x).2.2.toInt + 1).toNat < (x.2.toInt + 1).toNat := by
  rintro ⟨w, hh⟩ ⟨m, hm, hm1, hF, hA⟩
  replace hm1 : hh.toInt = (m : Int) - 1 := hm1
  replace hF : FS v w := hF
  replace hA : RA3 v w H m := hA
  unfold lpX3_solve_5
  dsimp only
  by_cases c1 : hh < 0
  · simp only [if_pos c1]; intro y; cases y
  · simp only [if_neg c1]
    rw [t_lt, k_0] at c1
    intro _
    have e1 : (hh + -1).toInt = hh.toInt - 1 := by rw [t_add (by rw [k_m1]; omega) (by rw [k_m1]; omega), k_m1]; omega
    obtain ⟨m', rfl⟩ : ∃ m', m = m' + 1 := ⟨m - 1, by omega⟩
    have eh : hh = nI m' := by rw [t_eq, nI_i (by omega)]; omega
    rw [eh] at e1 hm1 ⊢
    obtain ⟨g1, g2⟩ := i11_end (u0 := u0) h7 hH (show m' ≤ H by omega) hF hA
    exact ⟨⟨m', by omega, by rw [e1]; omega, g1, g2⟩, by rw [e1]; omega⟩
theorem i5_init (h7 : v.1 7 = nI H) (hH : H ≤ 8) : I5 v H (v, v.1 7) :=
  ⟨H + 1, Nat.le_refl _, by show (v.1 7).toInt = _; rw [h7, nI_i (by omega)]; omega, FS.rf, fun _ _ a b => absurd b (by omega)⟩
theorem i5_mu (h7 : v.1 7 = nI H) (hH : H ≤ 8) : ((v.1 7).toInt + 1).toNat < 10 := by rw [h7, nI_i (by omega)]; omega
/-- the model's table -/
theorem i5_end (h7 : v.1 7 = nI H) (hH : H ≤ 8) : FS v (fX3_solve v).2 ∧ RA3 v (fX3_solve v).2 H 0 := by
  obtain ⟨x, h1, h2, h3⟩ := wh_run (lpX3_solve_5 v) (I5 v H) (fun x => (x.2.toInt + 1).toNat) (i5_step h7 hH) 10 _ (i5_init h7 hH) (i5_mu h7 hH)
  unfold fX3_solve lpX3_solve_5_r
  rw [h3]
  obtain ⟨w, hh⟩ := x
  obtain ⟨m, hm, hm1, hF, hA⟩ := h1
  replace hm1 : hh.toInt = (m : Int) - 1 := hm1
  replace hF : FS v w := hF
  replace hA : RA3 v w H m := hA
  revert h2
  unfold lpX3_solve_5
  dsimp only
  by_cases c1 : hh < 0
  · simp only [if_pos c1]
    intro _
    rw [t_lt, k_0] at c1
    have : m = 0 := by omega
    subst this
    exact ⟨hF, hA⟩
  · simp only [if_neg c1]
    intro y; exact absurd trivial y
theorem solve_v (h7 : v.1 7 = nI H) (hH : H ≤ 8) : (fX3_solve v).1 = bst H (jyM v) H (2 ^ H - 1) := by
  have := (i5_end h7 hH).2 0 0 (by omega) (by omega) (Nat.two_pow_pos H)
  exact this
theorem solve_ok (h7 : v.1 7 = nI H) (hH : H ≤ 8) : okX3_solve v := by
  have h27 := pw_256 hH
  refine ⟨I5 v H, fun w h => I11 v H h.toNatClampNeg, fun w h w' z => I38 v H h.toNatClampNeg (2 ^ H - 1 - z.toNatClampNeg), LOK.of (μ := fun x => (x.2.toInt + 1).toNat) (i5_init h7 hH) (i5_step h7 hH) (i5_mu h7 hH), ?_⟩
  have K : ∀ (w : St) (h : Int32), I5 v H (w, h) → ¬ h < 0 → ∃ m, m ≤ H ∧ h = nI m ∧ FS v w ∧ RA3 v w H (m + 1) := by
    rintro w h ⟨m, hm, hm1, hF, hA⟩ c
    replace hm1 : h.toInt = (m : Int) - 1 := hm1
    rw [t_lt, k_0] at c
    exact ⟨m - 1, by omega, by rw [t_eq, nI_i (by omega)]; omega, hF, by rw [show m - 1 + 1 = m by omega]; exact hA⟩
  have K2 : ∀ (w : St) (h : Int32), I5 v H (w, h) → ¬ h < 0 → ∀ (w' : St) (z : Int32), I11 v H h.toNatClampNeg (w', z) → ¬ (((1 : Int32) <<< ((w'.1 7) &&& 31)) ≤ z) → ∃ m zn, m ≤ H ∧ h = nI m ∧ zn < 2 ^ H ∧ z = nI zn ∧ FS v w' ∧ RM3 v w' H m zn := by
    rintro w h hi c w' z ⟨zn, z1, z2, z3, z4⟩ c2
    obtain ⟨m, e1, e2, -, -⟩ := K w h hi c
    replace z2 : z = nI zn := z2
    replace z3 : FS v w' := z3
    replace z4 : RM3 v w' H h.toNatClampNeg zn := z4
    rw [e2, nN (by omega)] at z4
    rw [show w'.1 7 = nI H by rw [z3.1]; exact h7, sh_pow H (by omega), z2, n_le (by omega) (by omega)] at c2
    exact ⟨m, zn, e1, e2, by omega, z2, z3, z4⟩
  have K3 : ∀ (m zn : Nat) (b g : Int32), I38 v H m (2 ^ H - 1 - zn) (b, g) → ¬ nI H ≤ g → ∃ gn, gn < H ∧ g = nI gn := by
    rintro m zn b g ⟨gn, a1, a2, -⟩ c
    replace a2 : g = nI gn := a2
    rw [a2, n_le (by omega) (by omega)] at c
    exact ⟨gn, by omega, a2⟩
  refine ⟨?_, ?_, ?_, ?_, ?_, ?_⟩
  · intro w h hi c
    obtain ⟨m, e1, rfl, e3, e4⟩ := K w h hi c
    show LOK _ _ _ (I11 v H (nI m).toNatClampNeg)
    rw [nN (by omega)]
    exact LOK.of (μ := fun x => 256 - x.2.toNatClampNeg) (i11_init e3 e4) (i11_step h7 hH e1) (by show 256 - _ < 257; omega)
  · intro w h hi c w' z hz c2
    obtain ⟨m, zn, e1, rfl, e3, rfl, e5, e6⟩ := K2 w h hi c w' z hz c2
    show LOK _ _ _ (I38 v H (nI m).toNatClampNeg (2 ^ H - 1 - (nI zn).toNatClampNeg))
    rw [nN (by omega), nN (by omega)]
    exact LOK.of (μ := fun x => 8 - x.2.toNatClampNeg) (i38_init e5 h7 hH e1) (i38_step e5 h7 hH e1 e3 e6) (by show 8 - _ < 9; omega)
  · intro w h hi c w' z hz c2 b g hg c3 c4 c5
    obtain ⟨m, zn, e1, rfl, e3, rfl, e5, e6⟩ := K2 w h hi c w' z hz c2
    rw [show w'.1 7 = nI H by rw [e5.1]; exact h7] at c3 c4
    obtain ⟨gn, f1, rfl⟩ := K3 _ _ b g hg c3
    intro _
    rw [n_le (by omega) (by omega)] at c4
    rw [n_8 (by omega) (by omega), vp_in_iff, nI_i (by omega)]; omega
  · intro w h hi c w' z hz c2 b g hg c3 c4 c5 _
    obtain ⟨m, zn, e1, rfl, e3, rfl, e5, e6⟩ := K2 w h hi c w' z hz c2
    rw [show w'.1 7 = nI H by rw [e5.1]; exact h7] at c3 c4
    obtain ⟨gn, f1, rfl⟩ := K3 _ _ b g hg c3
    rw [n_le (by omega) (by omega)] at c4
    rw [sh_bit0 zn (by omega) gn (by omega)] at c5
    have c5' : bit zn gn = false := by cases y : bit zn gn with | true => exact absurd (by rw [y]; rfl) c5 | false => rfl
    obtain ⟨ho1, -⟩ := rest_on H (by omega) zn e3 gn f1 c5'
    rw [nI_1, sh_on0 zn (by omega) gn (by omega), n_256 (by omega) (by omega), vp_in_iff, nI_i (by omega)]; omega
  · intro w h hi c w' z hz c2 b g hg c3 c4 c5 _ _
    obtain ⟨m, zn, e1, rfl, e3, rfl, e5, e6⟩ := K2 w h hi c w' z hz c2
    rw [show w'.1 7 = nI H by rw [e5.1]; exact h7] at c3 c4
    obtain ⟨gn, f1, rfl⟩ := K3 _ _ b g hg c3
    rw [n_le (by omega) (by omega)] at c4
    rw [n_8 (by omega) (by omega), vp_in_iff, nI_i (by omega)]; omega
  · intro w h hi c w' z hz c2
    obtain ⟨m, zn, e1, rfl, e3, rfl, e5, e6⟩ := K2 w h hi c w' z hz c2
    rw [n_256 (by omega) (by omega), vp_in_iff, nI_i (by omega)]; omega
end SV
