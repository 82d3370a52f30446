/-! Reader: here, isLetter, isDigit. By tools/gen_r1.py -/
set_option maxRecDepth 100000
theorem isLt_f1 {x : Int32} (h : x < 97) : isLt x = false := by simp [isLt, h]
theorem isLt_f2 {x : Int32} (h : 122 < x) : isLt x = false := by simp [isLt, h]
theorem isLt_t {x : Int32} (h1 : ¬ x < 97) (h2 : ¬ 122 < x) : isLt x = true := by simp [isLt, h1, h2]
theorem isDg_f1 {x : Int32} (h : x < 48) : isDg x = false := by simp [isDg, h]
theorem isDg_f2 {x : Int32} (h : 57 < x) : isDg x = false := by simp [isDg, h]
theorem isDg_t {x : Int32} (h1 : ¬ x < 48) (h2 : ¬ 57 < x) : isDg x = true := by simp [isDg, h1, h2]
/-- tape and reader -/
def HR (κ : Kg) (o : Nat) (τ : Tp) (r a : Nat) (so pl nu tm : Int32) (w al : Nat) (H : Heap) : Prop := TW κ o τ H ∧ RO κ r (nI a) so pl nu tm w al o H

set_option maxHeartbeats 4000000 in
theorem metX5_here (l : Launch) (κ : Kg) (o : Nat) (τ : Tp) (r a : Nat) (so pl nu tm : Int32) (w al k : Nat) (hak : a + k < 2 ^ 30) : Met l yX5_here (ws_ yX5_here cX5_here 2 (some .int)) (rmC 0 0 0) (xP κ (HR κ o τ r a so pl nu tm w al) [.ref r, .int (nI k)]) (rQ (some (.int (he τ (a + k))))) 0 0 noA := by
  refine xM_start RX5 (by decide) rfl (Nat.le_of_ble_eq_true rfl) ?_
  intro pg ev s0 mi bl me co hx hb hml hown hts hr hlk hnm hK hM ls hl
  have hl : lv_has ls 2 [(0, .ref r), (1, .int (nI k))] := hl
  obtain ⟨⟨⟨VV, hV, hV0, hV1⟩, hX, hm6⟩, hO⟩ := hM
  have hO : t_OB r (κ.D.1 4) 8 (κ.D.2 4) s0.heap (vp_V [.int (nI a), .int so, .int pl, .int nu, .int tm, .ref w, .ref al, .ref o]) := hO
  refine lv_aload_n hx hb dX5_here_0 rfl (lv_at hl 0 rfl) ?_
  refine ob_get (C := RX5) (T := TX5) (N := 8) (ci := 4) (v := .int (nI a)) hx hb hts in_X5 hown hK.1.1 hO rfl 0 (by decide) q430 (fun x h => h) rfl dX5_here_1 ?_
  refine lv_iload_n hx hb dX5_here_4 rfl (lv_at hl 1 rfl) ?_
  refine lv_iadd hx hb dX5_here_5 ?_
  refine v_eqi (nI_add a k) ?_
  refine lv_aload_n hx hb dX5_here_6 rfl (lv_at hl 0 rfl) ?_
  refine ob_get (C := RX5) (T := TX5) (N := 8) (ci := 4) (v := .ref o) hx hb hts in_X5 hown hK.1.1 hO rfl 7 (by decide) q437 (fun x h => h) rfl dX5_here_7 ?_
  refine ob_getN (C := RX0) (T := TX0) (N := 31) (ci := 0) (v := .int (nI τ.1)) hx hb hts in_X0 hown hK.1.1 hV rfl 1 (by decide) (hK.1.2.1 _ nq188) (fun x h => h) hV1 dX5_here_10 ?_
  refine lv_icmp_ge (tgt := 37) hx hb dX5_here_13 (by decide) (fun c_13 => ?_) (fun c_13 => ?_)
  · skip
    refine lv_iconst (v := (-1)) hx hb dX5_here_37 (by decide) ?_
    exact iret_ro hx hb hr hlk (by unfold he; rw [if_neg (fun z => nI_ge z (by omega) c_13)]) dX5_here_38
  · skip
    refine lv_aload_n hx hb dX5_here_16 rfl (lv_at hl 0 rfl) ?_
    refine ob_get (C := RX5) (T := TX5) (N := 8) (ci := 4) (v := .ref o) hx hb hts in_X5 hown hK.1.1 hO rfl 7 (by decide) q437 (fun x h => h) rfl dX5_here_17 ?_
    refine ob_getN (C := RX0) (T := TX0) (N := 31) (ci := 0) (v := .ref (o + 1)) hx hb hts in_X0 hown hK.1.1 hV rfl 0 (by decide) (hK.1.2.1 _ nq187) (fun x h => h) hV0 dX5_here_20 ?_
    refine lv_aload_n hx hb dX5_here_23 rfl (lv_at hl 0 rfl) ?_
    refine ob_get (C := RX5) (T := TX5) (N := 8) (ci := 4) (v := .int (nI a)) hx hb hts in_X5 hown hK.1.1 hO rfl 0 (by decide) q430 (fun x h => h) rfl dX5_here_24 ?_
    refine lv_iload_n hx hb dX5_here_27 rfl (lv_at hl 1 rfl) ?_
    refine lv_iadd hx hb dX5_here_28 ?_
    refine v_eqi (nI_add a k) ?_
    have hlt : a + k < τ.1 := Nat.lt_of_not_le (fun z => c_13 (nI_le z (by omega)))
    refine ar_bld hx hb hK.1.1 hX (nI_in (by omega) (by omega)) dX5_here_29 ?_
    rw [nI_clamp (by omega)]
    refine lv_sipush (v := 255) hx hb dX5_here_30 (by decide) ?_
    refine lv_iand hx hb dX5_here_33 ?_
    refine lv_goto (tgt := 38) hx hb dX5_here_34 (by decide) ?_
    exact iret_ro hx hb hr hlk (by unfold he; rw [if_pos hlt]) dX5_here_38

set_option maxHeartbeats 4000000 in
theorem metX5_isLetter (l : Launch) (κ : Kg) (o : Nat) (τ : Tp) (r a : Nat) (so pl nu tm : Int32) (w al k : Nat) (hak : a + k < 2 ^ 30) : Met l yX5_isLetter (ws_ yX5_isLetter cX5_isLetter 2 (some .boolean)) (rmC 1 0 0) (xP κ (HR κ o τ r a so pl nu tm w al) [.ref r, .int (nI k)]) (rQ (some (.int (b2 (isLt (he τ (a + k))))))) 0 0 noA := by
  refine xM_start RX5 (by decide) rfl (Nat.le_of_ble_eq_true rfl) ?_
  intro pg ev s0 mi bl me co hx hb hml hown hts hr hlk hnm hK hM ls hl
  have hl : lv_has ls 2 [(0, .ref r), (1, .int (nI k))] := hl
  have hM0 := hM
  obtain ⟨⟨⟨VV, hV, hV0, hV1⟩, hX, hm6⟩, hO⟩ := hM
  have hO : t_OB r (κ.D.1 4) 8 (κ.D.2 4) s0.heap (vp_V [.int (nI a), .int so, .int pl, .int nu, .int tm, .ref w, .ref al, .ref o]) := hO
  refine lv_aload_n hx hb dX5_isLetter_0 rfl (lv_at hl 0 rfl) ?_
  refine lv_iload_n hx hb dX5_isLetter_1 rfl (lv_at hl 1 rfl) ?_
  refine ro_call (x_runV (n := 1) (As := [.int (nI k)]) (rest := []) hx hb hml hown hts (metX5_here l κ o τ r a so pl nu tm w al k hak) q463 q465 qs7 q73 q466 (by decide +kernel) (by decide) (by decide) rfl hK hM0 (ob_recv hK.1.1 rfl hO) hl.1 (Nat.le_of_ble_eq_true rfl) rfl dX5_isLetter_2 ⟨Nat.le_refl _, Nat.le_refl _⟩) ?_
  refine lv_bipush (v := 97) hx hb dX5_isLetter_5 (by decide) ?_
  refine lv_icmp_lt (tgt := 24) hx hb dX5_isLetter_7 (by decide) (fun c_7 => ?_) (fun c_7 => ?_)
  · skip
    refine lv_iconst (v := 0) hx hb dX5_isLetter_24 (by decide) ?_
    exact zret_ro (V := isLt (he τ (a + k))) hx hb hr hlk (by first | (rw [isLt_f1 c_7]; rfl) | (rw [isLt_f2 c_17]; rfl) | (rw [isLt_t c_7 c_17]; rfl)) dX5_isLetter_25
  · skip
    refine lv_aload_n hx hb dX5_isLetter_10 rfl (lv_at hl 0 rfl) ?_
    refine lv_iload_n hx hb dX5_isLetter_11 rfl (lv_at hl 1 rfl) ?_
    refine ro_call (x_runV (n := 1) (As := [.int (nI k)]) (rest := []) hx hb hml hown hts (metX5_here l κ o τ r a so pl nu tm w al k hak) q463 q465 qs7 q73 q466 (by decide +kernel) (by decide) (by decide) rfl hK hM0 (ob_recv hK.1.1 rfl hO) hl.1 (Nat.le_of_ble_eq_true rfl) rfl dX5_isLetter_12 ⟨Nat.le_refl _, Nat.le_refl _⟩) ?_
    refine lv_bipush (v := 122) hx hb dX5_isLetter_15 (by decide) ?_
    refine lv_icmp_gt (tgt := 24) hx hb dX5_isLetter_17 (by decide) (fun c_17 => ?_) (fun c_17 => ?_)
    · skip
      refine lv_iconst (v := 0) hx hb dX5_isLetter_24 (by decide) ?_
      exact zret_ro (V := isLt (he τ (a + k))) hx hb hr hlk (by first | (rw [isLt_f1 c_7]; rfl) | (rw [isLt_f2 c_17]; rfl) | (rw [isLt_t c_7 c_17]; rfl)) dX5_isLetter_25
    · skip
      refine lv_iconst (v := 1) hx hb dX5_isLetter_20 (by decide) ?_
      refine lv_goto (tgt := 25) hx hb dX5_isLetter_21 (by decide) ?_
      exact zret_ro (V := isLt (he τ (a + k))) hx hb hr hlk (by first | (rw [isLt_f1 c_7]; rfl) | (rw [isLt_f2 c_17]; rfl) | (rw [isLt_t c_7 c_17]; rfl)) dX5_isLetter_25

set_option maxHeartbeats 4000000 in
theorem metX5_isDigit (l : Launch) (κ : Kg) (o : Nat) (τ : Tp) (r a : Nat) (so pl nu tm : Int32) (w al k : Nat) (hak : a + k < 2 ^ 30) : Met l yX5_isDigit (ws_ yX5_isDigit cX5_isDigit 2 (some .boolean)) (rmC 1 0 0) (xP κ (HR κ o τ r a so pl nu tm w al) [.ref r, .int (nI k)]) (rQ (some (.int (b2 (isDg (he τ (a + k))))))) 0 0 noA := by
  refine xM_start RX5 (by decide) rfl (Nat.le_of_ble_eq_true rfl) ?_
  intro pg ev s0 mi bl me co hx hb hml hown hts hr hlk hnm hK hM ls hl
  have hl : lv_has ls 2 [(0, .ref r), (1, .int (nI k))] := hl
  have hM0 := hM
  obtain ⟨⟨⟨VV, hV, hV0, hV1⟩, hX, hm6⟩, hO⟩ := hM
  have hO : t_OB r (κ.D.1 4) 8 (κ.D.2 4) s0.heap (vp_V [.int (nI a), .int so, .int pl, .int nu, .int tm, .ref w, .ref al, .ref o]) := hO
  refine lv_aload_n hx hb dX5_isDigit_0 rfl (lv_at hl 0 rfl) ?_
  refine lv_iload_n hx hb dX5_isDigit_1 rfl (lv_at hl 1 rfl) ?_
  refine ro_call (x_runV (n := 1) (As := [.int (nI k)]) (rest := []) hx hb hml hown hts (metX5_here l κ o τ r a so pl nu tm w al k hak) q463 q465 qs7 q73 q466 (by decide +kernel) (by decide) (by decide) rfl hK hM0 (ob_recv hK.1.1 rfl hO) hl.1 (Nat.le_of_ble_eq_true rfl) rfl dX5_isDigit_2 ⟨Nat.le_refl _, Nat.le_refl _⟩) ?_
  refine lv_bipush (v := 48) hx hb dX5_isDigit_5 (by decide) ?_
  refine lv_icmp_lt (tgt := 24) hx hb dX5_isDigit_7 (by decide) (fun c_7 => ?_) (fun c_7 => ?_)
  · skip
    refine lv_iconst (v := 0) hx hb dX5_isDigit_24 (by decide) ?_
    exact zret_ro (V := isDg (he τ (a + k))) hx hb hr hlk (by first | (rw [isDg_f1 c_7]; rfl) | (rw [isDg_f2 c_17]; rfl) | (rw [isDg_t c_7 c_17]; rfl)) dX5_isDigit_25
  · skip
    refine lv_aload_n hx hb dX5_isDigit_10 rfl (lv_at hl 0 rfl) ?_
    refine lv_iload_n hx hb dX5_isDigit_11 rfl (lv_at hl 1 rfl) ?_
    refine ro_call (x_runV (n := 1) (As := [.int (nI k)]) (rest := []) hx hb hml hown hts (metX5_here l κ o τ r a so pl nu tm w al k hak) q463 q465 qs7 q73 q466 (by decide +kernel) (by decide) (by decide) rfl hK hM0 (ob_recv hK.1.1 rfl hO) hl.1 (Nat.le_of_ble_eq_true rfl) rfl dX5_isDigit_12 ⟨Nat.le_refl _, Nat.le_refl _⟩) ?_
    refine lv_bipush (v := 57) hx hb dX5_isDigit_15 (by decide) ?_
    refine lv_icmp_gt (tgt := 24) hx hb dX5_isDigit_17 (by decide) (fun c_17 => ?_) (fun c_17 => ?_)
    · skip
      refine lv_iconst (v := 0) hx hb dX5_isDigit_24 (by decide) ?_
      exact zret_ro (V := isDg (he τ (a + k))) hx hb hr hlk (by first | (rw [isDg_f1 c_7]; rfl) | (rw [isDg_f2 c_17]; rfl) | (rw [isDg_t c_7 c_17]; rfl)) dX5_isDigit_25
    · skip
      refine lv_iconst (v := 1) hx hb dX5_isDigit_20 (by decide) ?_
      refine lv_goto (tgt := 25) hx hb dX5_isDigit_21 (by decide) ?_
      exact zret_ro (V := isDg (he τ (a + k))) hx hb hr hlk (by first | (rw [isDg_f1 c_7]; rfl) | (rw [isDg_f2 c_17]; rfl) | (rw [isDg_t c_7 c_17]; rfl)) dX5_isDigit_25
