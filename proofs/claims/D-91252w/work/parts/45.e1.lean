/-! Throwable's, Exception's, Wrong's constructors. By tools/gen_e1.py -/
set_option maxRecDepth 100000
theorem zq_v {C n d : String} {A : Nat → Prop} {U : State} {H : Heap} (h : va_Zq C n d A U H) : ∃ v : Value, (v = .null ∨ ∃ t, v = .ref t) ∧ va_Z C n d v A U H := by
  rcases h with h | ⟨t, h⟩
  · exact ⟨_, Or.inl rfl, h⟩
  · exact ⟨_, Or.inr ⟨t, rfl⟩, h⟩
theorem nr_a {t : FieldType} {v : Value} (h : v = .null ∨ ∃ t, v = .ref t) : narrow (.array t) v = v := by rcases h with rfl | ⟨t, rfl⟩ <;> rfl
theorem ft_a {t : FieldType} {v : Value} (h : v = .null ∨ ∃ t, v = .ref t) : fits (.array t) v = true := by rcases h with rfl | ⟨t, rfl⟩ <;> rfl
theorem nr_o {t : String} {v : Value} (h : v = .null ∨ ∃ t, v = .ref t) : narrow (.object t) v = v := by rcases h with rfl | ⟨t, rfl⟩ <;> rfl
theorem ft_o {t : String} {v : Value} (h : v = .null ∨ ∃ t, v = .ref t) : fits (.object t) v = true := by rcases h with rfl | ⟨t, rfl⟩ <;> rfl
def wrF (kd pl : Int32) : Nat → Value := vp_V [.null, .null, .null, .null, .null, .int 0, .int kd, .int pl]

set_option maxHeartbeats 4000000 in
theorem metJ13_init_2 (l : Launch) (κ : Kg) (a : Nat) (haB : κ.base ≤ a) : Met l yJ13_init_2 (ws_ yJ13_init_2 cJ13_init_2 5 none) (rmC 1 0 0) (xP κ (fun H => t_OB a (κ.D.1 5) 8 (κ.D.2 5) H (fun k => defaultValue (tyX6 k))) [.ref a, .null, .null, .int 0, .int 0]) (oQ a (κ.D.1 5) 8 (κ.D.2 5) (fun k => defaultValue (tyX6 k))) 0 0 (fun q => q = a) := by
  refine xM_start RJ13 (by decide) rfl (Nat.le_of_ble_eq_true rfl) ?_
  intro pg ev s0 mi bl me co hx hb hml hown hts hr hlk hnm hK hM ls hl
  have hl : lv_has ls 5 [(0, .ref a), (1, .null), (2, .null), (3, .int 0), (4, .int 0)] := hl
  have hO := hM
  have hS : va_S (fun q => q = a) s0.heap s0.heap [] := va_S.rf
  refine lv_aload_n hx hb dJ13_init_2_0 rfl (lv_at hl 0 rfl) ?_
  refine W.objInit hx hb hown (hts _ q773) (hts _ q102) (hts _ q103) rfl (by rw [hml]; exact hl.1) rfl dJ13_init_2_1 (Nat.le_of_ble_eq_true rfl) (Nat.le_of_ble_eq_true rfl) ?_
  refine W.eq (g2 := F0 mi 4 ls []) rfl ?_
  refine lv_aload_n hx hb dJ13_init_2_4 rfl (lv_at hl 0 rfl) ?_
  refine lv_aload_n hx hb dJ13_init_2_5 rfl (lv_at hl 0 rfl) ?_
  refine ob_put (C := RX6) (T := TX6) (N := 8) (ci := 5) (v := .ref a) hx hb hts in_X6 tyX6 tyX6_ok nmX6 hown hK.1.1 hO hS rfl rfl 0 (by decide) q802 (fun x h => h) rfl rfl rfl dJ13_init_2_6 (fun H1 locsH1 hO hqH1 hzH1 hS => ?_)
  refine lv_aload_n hx hb dJ13_init_2_9 rfl (lv_at hl 0 rfl) ?_
  have hK : KZ κ s0 H1 := hK.to (fun q hq => hqH1 q (by omega)) (by have := hK.2.2; omega)
  obtain ⟨sv, hsv, hZ⟩ := zq_v hK.2.1.2.1
  refine x_gets hx hb hZ hown hts q774 (fun x h => h) dJ13_init_2_10 ?_
  refine ob_put (C := RX6) (T := TX6) (N := 8) (ci := 5) (v := sv) hx hb hts in_X6 tyX6 tyX6_ok nmX6 hown hK.1.1 hO hS rfl rfl 1 (by decide) q803 (fun x h => h) rfl (nr_a hsv) (ft_a hsv) dJ13_init_2_13 (fun H2 locsH2 hO hqH2 hzH2 hS => ?_)
  refine lv_aload_n hx hb dJ13_init_2_16 rfl (lv_at hl 0 rfl) ?_
  have hK : KZ κ s0 H2 := hK.to (fun q hq => hqH2 q (by omega)) (by have := hK.2.2; omega)
  obtain ⟨sw, hsw, hZ⟩ := zq_v hK.2.1.2.2.1
  refine x_gets hx hb hZ hown hts q776 (fun x h => h) dJ13_init_2_17 ?_
  refine ob_put (C := RX6) (T := TX6) (N := 8) (ci := 5) (v := sw) hx hb hts in_X6 tyX6 tyX6_ok nmX6 hown hK.1.1 hO hS rfl rfl 2 (by decide) q804 (fun x h => h) rfl (nr_o hsw) (ft_o hsw) dJ13_init_2_20 (fun H3 locsH3 hO hqH3 hzH3 hS => ?_)
  refine lv_iload hx hb dJ13_init_2_23 (lv_at hl 4 rfl) ?_
  refine lv_if_eq (tgt := 36) hx hb dJ13_init_2_25 (by decide) (fun c_25 => ?_) (fun c_25 => ?_)
  · skip
    refine lv_aload_n hx hb dJ13_init_2_36 rfl (lv_at hl 0 rfl) ?_
    refine lv_null hx hb dJ13_init_2_37 ?_
    refine ob_put (C := RX6) (T := TX6) (N := 8) (ci := 5) (v := .null) hx hb hts in_X6 tyX6 tyX6_ok nmX6 hown hK.1.1 hO hS rfl rfl 1 (by decide) q803 (fun x h => h) rfl rfl rfl dJ13_init_2_38 (fun H4 locsH4 hO hqH4 hzH4 hS => ?_)
    refine lv_aload_n hx hb dJ13_init_2_41 rfl (lv_at hl 0 rfl) ?_
    refine lv_aload_nN hx hb dJ13_init_2_42 rfl (lv_at hl 1 rfl) ?_
    refine ob_put (C := RX6) (T := TX6) (N := 8) (ci := 5) (v := .null) hx hb hts in_X6 tyX6 tyX6_ok nmX6 hown hK.1.1 hO hS rfl rfl 3 (by decide) q801 (fun x h => h) rfl rfl rfl dJ13_init_2_43 (fun H5 locsH5 hO hqH5 hzH5 hS => ?_)
    refine lv_aload_n hx hb dJ13_init_2_46 rfl (lv_at hl 0 rfl) ?_
    refine lv_aload_nN hx hb dJ13_init_2_47 rfl (lv_at hl 2 rfl) ?_
    refine ob_put (C := RX6) (T := TX6) (N := 8) (ci := 5) (v := .null) hx hb hts in_X6 tyX6 tyX6_ok nmX6 hown hK.1.1 hO hS rfl rfl 0 (by decide) q802 (fun x h => h) rfl rfl rfl dJ13_init_2_48 (fun H6 locsH6 hO hqH6 hzH6 hS => ?_)
    refine lv_iload_n hx hb dJ13_init_2_51 rfl (lv_at hl 3 rfl) ?_
    refine lv_if_ne (tgt := 60) hx hb dJ13_init_2_52 (by decide) (fun c_52 => ?_) (fun c_52 => ?_)
    · skip
      exact absurd rfl c_52
    · skip
      refine lv_aload_n hx hb dJ13_init_2_55 rfl (lv_at hl 0 rfl) ?_
      refine lv_null hx hb dJ13_init_2_56 ?_
      refine ob_put (C := RX6) (T := TX6) (N := 8) (ci := 5) (v := .null) hx hb hts in_X6 tyX6 tyX6_ok nmX6 hown hK.1.1 hO hS rfl rfl 2 (by decide) q804 (fun x h => h) rfl rfl rfl dJ13_init_2_57 (fun H7 locsH7 hO hqH7 hzH7 hS => ?_)
      exact ob_vret hx hb hr hlk hO (fun k hk => by rcases (show k = 0 ∨ k = 1 ∨ k = 2 ∨ k = 3 ∨ k = 4 ∨ k = 5 ∨ k = 6 ∨ k = 7 by omega) with rfl | rfl | rfl | rfl | rfl | rfl | rfl | rfl <;> rfl) hS (by omega) dJ13_init_2_60
  · skip
    exact absurd rfl c_25

set_option maxHeartbeats 4000000 in
theorem metJ14_init (l : Launch) (κ : Kg) (a : Nat) (haB : κ.base ≤ a) : Met l yJ14_init (ws_ yJ14_init cJ14_init 5 none) (rmC 2 0 0) (xP κ (fun H => t_OB a (κ.D.1 5) 8 (κ.D.2 5) H (fun k => defaultValue (tyX6 k))) [.ref a, .null, .null, .int 0, .int 0]) (oQ a (κ.D.1 5) 8 (κ.D.2 5) (fun k => defaultValue (tyX6 k))) 0 0 (fun q => q = a) := by
  refine xM_start RJ14 (by decide) rfl (Nat.le_of_ble_eq_true rfl) ?_
  intro pg ev s0 mi bl me co hx hb hml hown hts hr hlk hnm hK hM ls hl
  have hl : lv_has ls 5 [(0, .ref a), (1, .null), (2, .null), (3, .int 0), (4, .int 0)] := hl
  have hO := hM
  have hS : va_S (fun q => q = a) s0.heap s0.heap [] := va_S.rf
  refine lv_aload_n hx hb dJ14_init_0 rfl (lv_at hl 0 rfl) ?_
  refine lv_aload_nN hx hb dJ14_init_1 rfl (lv_at hl 1 rfl) ?_
  refine lv_aload_nN hx hb dJ14_init_2 rfl (lv_at hl 2 rfl) ?_
  refine lv_iload_n hx hb dJ14_init_3 rfl (lv_at hl 3 rfl) ?_
  refine lv_iload hx hb dJ14_init_4 (lv_at hl 4 rfl) ?_
  refine ob_calledO (x_runI (n := 4) (As := [.null, .null, .int 0, .int 0]) (rest := []) hx hb hml hown hts (metJ13_init_2 l κ a haB) q793 q794 q85 q795 rfl (by decide +kernel) (by decide) (by decide) rfl hK hO hl.1 (Nat.le_of_ble_eq_true rfl) rfl dJ14_init_6 ⟨Nat.zero_le _, Nat.zero_le _⟩) hS rfl (fun H1 locs1 hO hzH1 hqH1 hS => ?_)
  exact ob_vret hx hb hr hlk hO (fun k hk => rfl) hS (by omega) dJ14_init_9

set_option maxHeartbeats 4000000 in
theorem metX6_init (l : Launch) (κ : Kg) (a : Nat) (kd pl : Int32) (haB : κ.base ≤ a) : Met l yX6_init (ws_ yX6_init cX6_init 3 none) (rmC 3 0 0) (xP κ (fun H => t_OB a (κ.D.1 5) 8 (κ.D.2 5) H (fun k => defaultValue (tyX6 k))) [.ref a, .int kd, .int pl]) (oQ a (κ.D.1 5) 8 (κ.D.2 5) (wrF kd pl)) 0 0 (fun q => q = a) := by
  refine xM_start RX6 (by decide) rfl (Nat.le_of_ble_eq_true rfl) ?_
  intro pg ev s0 mi bl me co hx hb hml hown hts hr hlk hnm hK hM ls hl
  have hl : lv_has ls 3 [(0, .ref a), (1, .int kd), (2, .int pl)] := hl
  have hO := hM
  have hS : va_S (fun q => q = a) s0.heap s0.heap [] := va_S.rf
  refine lv_aload_n hx hb dX6_init_0 rfl (lv_at hl 0 rfl) ?_
  refine lv_null hx hb dX6_init_1 ?_
  refine lv_null hx hb dX6_init_2 ?_
  refine lv_iconst (v := 0) hx hb dX6_init_3 (by decide) ?_
  refine lv_iconst (v := 0) hx hb dX6_init_4 (by decide) ?_
  refine ob_calledO (x_runI (n := 4) (As := [.null, .null, .int 0, .int 0]) (rest := []) hx hb hml hown hts (metJ14_init l κ a haB) q790 q791 q86 q792 rfl (by decide +kernel) (by decide) (by decide) rfl hK hO hl.1 (Nat.le_of_ble_eq_true rfl) rfl dX6_init_5 ⟨Nat.zero_le _, Nat.zero_le _⟩) hS rfl (fun H1 locs1 hO hzH1 hqH1 hS => ?_)
  refine lv_aload_n hx hb dX6_init_8 rfl (lv_at hl 0 rfl) ?_
  refine lv_iload_n hx hb dX6_init_9 rfl (lv_at hl 1 rfl) ?_
  refine ob_putF (C := RX6) (T := TX6) (N := 8) (ci := 5) (v := .int kd) hx hb hts in_X6 tyX6 tyX6_ok nmX6 hown hK.1.1 hO hS rfl rfl 6 (by decide) q796 (fun x h => h) rfl hnm rfl rfl rfl dX6_init_10 (fun H2 locsH2 hO hqH2 hzH2 hS => ?_)
  refine lv_aload_n hx hb dX6_init_13 rfl (lv_at hl 0 rfl) ?_
  refine lv_iload_n hx hb dX6_init_14 rfl (lv_at hl 2 rfl) ?_
  refine ob_putF (C := RX6) (T := TX6) (N := 8) (ci := 5) (v := .int pl) hx hb hts in_X6 tyX6 tyX6_ok nmX6 hown hK.1.1 hO hS rfl rfl 7 (by decide) q798 (fun x h => h) rfl hnm rfl rfl rfl dX6_init_15 (fun H3 locsH3 hO hqH3 hzH3 hS => ?_)
  exact ob_vret hx hb hr hlk hO (fun k hk => by rcases (show k = 0 ∨ k = 1 ∨ k = 2 ∨ k = 3 ∨ k = 4 ∨ k = 5 ∨ k = 6 ∨ k = 7 by omega) with rfl | rfl | rfl | rfl | rfl | rfl | rfl | rfl <;> rfl) hS (by omega) dX6_init_18
