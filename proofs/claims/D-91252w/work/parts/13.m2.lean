/-! THE MODEL: further methods, by tools/gen_m2.py -/
set_option maxRecDepth 100000

def fX3_rl1 (u : St) : St :=
  if (fX3_isWord u 2003330414) = true then (if (u.2.1 32 ((u.1 40).toNatClampNeg)) = 16 then (fX3_wrong u) else u) else (fX3_wrong u)
def fX3_rll (u : St) : Int32 :=
  (16 * ((fX3_rl1 u).1 40)) + ((fX3_rl1 u).2.1 32 (((fX3_rl1 u).1 40).toNatClampNeg))
def fX3_rl2 (u : St) : St :=
  (fX3_next (fX3_rl1 u))
def fX3_rl3 (u : St) : St :=
  (fX3_e (sa (fX3_rl2 u) 35 ((fX3_rll u).toNatClampNeg) ((fX3_rl2 u).1 41)))
def fX3_rl4 (u : St) : St :=
  (fX3_must (sa (fX3_rl3 u) 36 ((fX3_rll u).toNatClampNeg) ((fX3_rl3 u).1 41)) (fX3_isWord (sa (fX3_rl3 u) 36 ((fX3_rll u).toNatClampNeg) ((fX3_rl3 u).1 41)) 25711))
def fX3_rlr (u : St) : Int32 :=
  if (fX3_isWord (fX3_rl4 u) 1650549611) = true then 1 else (if (fX3_isWord (fX3_rl4 u) 478694368626) = true then 2 else (if (fX3_isWord (fX3_rl4 u) 470020941177) = true then 3 else (if (fX3_isWord (fX3_rl4 u) 1852796517) = true then 4 else 0)))
def fX3_rl5 (u : St) : St :=
  (sa (sa (fX3_rl4 u) 33 ((fX3_rll u).toNatClampNeg) (fX3_rlr u)) 34 ((fX3_rll u).toNatClampNeg) 0)
def fX3_rl6 (u : St) : St :=
  (fX3_must (fX3_rl5 u) (if ((fX3_rl5 u).2.1 33 ((fX3_rll u).toNatClampNeg)) ≤ 0 then false else true))
def fX3_rl8 (u : St) : St :=
  if ((fX3_rl6 u).1 29) = 3 then (if ((fX3_rl6 u).1 30) ≤ 100 then (fX3_rl6 u) else (fX3_fails (fX3_rl6 u) 3 ((fX3_rl6 u).1 27))) else (fX3_rl6 u)
def fX3_rl7 (u : St) : St :=
  if (fX3_isGood (fX3_rl6 u)) = true then (if ((fX3_rl6 u).2.1 33 ((fX3_rll u).toNatClampNeg)) = 3 then (fX3_must (sa (fX3_rl8 u) 34 ((fX3_rll u).toNatClampNeg) ((fX3_rl8 u).1 30)) (if ((fX3_rl8 u).1 29) = 3 then true else false)) else (fX3_rl6 u)) else (fX3_rl6 u)
def fX3_rl9 (u : St) : St :=
  (fX3_must (fX3_rl7 u) (fX3_is (fX3_rl7 u) 59))
def fX3_readLine (u : St)  : St :=
  if (fX3_isGood (fX3_rl1 u)) = true then (if (fX3_isGood (fX3_rl4 u)) = true then (sa (fX3_rl9 u) 32 (((fX3_rl9 u).1 40).toNatClampNeg) (((fX3_rl9 u).2.1 32 (((fX3_rl9 u).1 40).toNatClampNeg)) + 1)) else (fX3_rl4 u)) else (fX3_rl1 u)
def okX3_readLine (u : St)  : Prop :=
  ((fX3_isGood (fX3_rl1 u)) = true → vp_in ((fX3_rl1 u).1 40) 2) ∧ ((fX3_isGood (fX3_rl1 u)) = true → okX3_next (fX3_rl1 u)) ∧ ((fX3_isGood (fX3_rl1 u)) = true → vp_in (fX3_rll u) 32) ∧ ((fX3_isGood (fX3_rl1 u)) = true → okX3_e (sa (fX3_rl2 u) 35 ((fX3_rll u).toNatClampNeg) ((fX3_rl2 u).1 41))) ∧ ((fX3_isGood (fX3_rl1 u)) = true → okX3_must (sa (fX3_rl3 u) 36 ((fX3_rll u).toNatClampNeg) ((fX3_rl3 u).1 41)) (fX3_isWord (sa (fX3_rl3 u) 36 ((fX3_rll u).toNatClampNeg) ((fX3_rl3 u).1 41)) 25711)) ∧ ((fX3_isGood (fX3_rl1 u)) = true → (fX3_isGood (fX3_rl4 u)) = true → okX3_must (fX3_rl5 u) (if ((fX3_rl5 u).2.1 33 ((fX3_rll u).toNatClampNeg)) ≤ 0 then false else true)) ∧ ((fX3_isGood (fX3_rl1 u)) = true → (fX3_isGood (fX3_rl4 u)) = true → okX3_is (fX3_rl7 u) 59) ∧ ((fX3_isGood (fX3_rl1 u)) = true → (fX3_isGood (fX3_rl4 u)) = true → okX3_must (fX3_rl7 u) (fX3_is (fX3_rl7 u) 59)) ∧ ((fX3_isGood (fX3_rl1 u)) = true → (fX3_isGood (fX3_rl4 u)) = true → vp_in ((fX3_rl9 u).1 40) 2) ∧ ((fX3_isGood (fX3_rl1 u)) = true → (fX3_isGood (fX3_rl4 u)) = true → (fX3_isGood (fX3_rl6 u)) = true → ((fX3_rl6 u).2.1 33 ((fX3_rll u).toNatClampNeg)) = 3 → okX3_must (sa (fX3_rl8 u) 34 ((fX3_rll u).toNatClampNeg) ((fX3_rl8 u).1 30)) (if ((fX3_rl8 u).1 29) = 3 then true else false)) ∧ ((fX3_isWord u 2003330414) = true → vp_in (u.1 40) 2)
set_option maxHeartbeats 4000000 in
theorem metX3_readLine (l : Launch) (D : va_G) (cA : Nat → ClassId) (o : Nat) (u : St)  (hok : okX3_readLine u) : MetM l yX3_readLine cX3_readLine 2 none 6 D cA o u [.ref o] none (fX3_readLine u) := by
  obtain ⟨hN0, hN1, hN2, hN3, hN4, hN5, hN6, hN7, hN8, hN9, hN10⟩ := hok
  refine mM_start RX3 (by decide) rfl (Nat.le_of_ble_eq_true rfl) ?_
  intro pg ev s0 mi bl me co hx hb hml hown hts hr hlk hK hM ls hl
  have hl : lv_has ls 2 [(0, .ref o)] := hl
  have hS : va_S (mA o) s0.heap s0.heap [] := va_S.rf
  refine lv_aload_n hx hb dX3_readLine_0 rfl (lv_at hl 0 rfl) ?_
  refine lv_ldc2 (v := 2003330414) hx hb hown (hts _ q1537) dX3_readLine_1 ?_
  refine ro_call (mw_run (n := 1) (As := [.long 2003330414]) (rest := []) hx hb hml hown hts (metX3_isWord l D cA o u 2003330414) q1538 q1540 qs41 q1541 (by decide +kernel) (by decide) (by decide) rfl hK hM hl.1 (Nat.le_of_ble_eq_true rfl) rfl dX3_readLine_4 ⟨Nat.le_refl _, Nat.le_refl _⟩) ?_
  refine w_ju (D := D) (cA := cA) (o := o) (H0 := s0.heap) (ls := ls) (rest := []) (E := (fX3_rl1 u)) 28 (fun H locs hM hS => ?_) (fun K => ?_)
  · skip
    refine lv_aload_n hx hb dX3_readLine_28 rfl (lv_at hl 0 rfl) ?_
    refine ro_call (mw_run (n := 0) (As := []) (rest := []) hx hb hml hown hts (metX3_isGood l D cA o (fX3_rl1 u) ) q1529 q1531 qs39 q1532 (by decide +kernel) (by decide) (by decide) rfl hK hM hl.1 (Nat.le_of_ble_eq_true rfl) rfl dX3_readLine_29 ⟨Nat.le_refl _, Nat.le_refl _⟩) ?_
    refine lv_B_ne (tgt := 36) hx hb dX3_readLine_32 (by decide) (fun c_32 => ?_) (fun c_32 => ?_)
    · skip
      refine lv_bipush (v := 16) hx hb dX3_readLine_36 (by decide) ?_
      refine lv_aload_n hx hb dX3_readLine_38 rfl (lv_at hl 0 rfl) ?_
      refine mw_get (v := .int ((fX3_rl1 u).1 40)) hx hb hts hown hK hM 40 (by decide) q1306 rfl rfl dX3_readLine_39 ?_
      refine lv_imul hx hb dX3_readLine_42 ?_
      refine lv_aload_n hx hb dX3_readLine_43 rfl (lv_at hl 0 rfl) ?_
      refine mw_get (v := .ref (mAd o 32)) hx hb hts hown hK hM 32 (by decide) q1298 rfl rfl dX3_readLine_44 ?_
      refine lv_aload_n hx hb dX3_readLine_47 rfl (lv_at hl 0 rfl) ?_
      refine mw_get (v := .int ((fX3_rl1 u).1 40)) hx hb hts hown hK hM 40 (by decide) q1306 rfl rfl dX3_readLine_48 ?_
      refine mw_ild (v := (fX3_rl1 u).2.1 32 (((fX3_rl1 u).1 40).toNatClampNeg)) (j := ((fX3_rl1 u).1 40).toNatClampNeg) hx hb hK hM 32 (by decide) rfl rfl (hN0 c_32) rfl rfl dX3_readLine_51 ?_
      refine lv_iadd hx hb dX3_readLine_52 ?_
      refine v_eqi (show (16 * ((fX3_rl1 u).1 40)) + ((fX3_rl1 u).2.1 32 (((fX3_rl1 u).1 40).toNatClampNeg)) = fX3_rll u from rfl) ?_
      refine lv_istore_n (lv' := [(1, .int (fX3_rll u)), (0, .ref o)]) hx hb dX3_readLine_53 rfl hl (by decide) rfl (fun ls hl => ?_)
      refine lv_aload_n hx hb dX3_readLine_54 rfl (lv_at hl 1 rfl) ?_
      refine mw_call (mw_run (n := 0) (As := []) (rest := []) hx hb hml hown hts (metX3_next l D cA o (fX3_rl1 u)  (hN1 c_32)) q1515 q1517 qs37 q1518 (by decide +kernel) (by decide) (by decide) rfl hK hM hl.1 (Nat.le_of_ble_eq_true rfl) rfl dX3_readLine_55 ⟨Nat.le_refl _, Nat.le_refl _⟩) hS (fun _ h => h) (fun H locs hM _ _ hS => ?_)
      have hM : MW D cA o (fX3_rl2 u) _ := hM
      refine lv_aload_n hx hb dX3_readLine_58 rfl (lv_at hl 1 rfl) ?_
      refine mw_get (v := .ref (mAd o 35)) hx hb hts hown hK hM 35 (by decide) q1301 rfl rfl dX3_readLine_59 ?_
      refine lv_iload_n hx hb dX3_readLine_62 rfl (lv_at hl 0 rfl) ?_
      refine lv_aload_n hx hb dX3_readLine_63 rfl (lv_at hl 1 rfl) ?_
      refine mw_get (v := .int ((fX3_rl2 u).1 41)) hx hb hts hown hK hM 41 (by decide) q1307 rfl rfl dX3_readLine_64 ?_
      refine mw_ist (j := (fX3_rll u).toNatClampNeg) hx hb hK hM hS 35 (by decide) rfl rfl (hN2 c_32) rfl dX3_readLine_67 (fun H locs hM hS => ?_)
      refine lv_aload_n hx hb dX3_readLine_68 rfl (lv_at hl 1 rfl) ?_
      refine mw_call (mw_run (n := 0) (As := []) (rest := []) hx hb hml hown hts (metX3_e l D cA o (sa (fX3_rl2 u) 35 ((fX3_rll u).toNatClampNeg) ((fX3_rl2 u).1 41))  (hN3 c_32)) q1550 q1552 qs44 q1553 (by decide +kernel) (by decide) (by decide) rfl hK hM hl.1 (Nat.le_of_ble_eq_true rfl) rfl dX3_readLine_69 ⟨Nat.le_refl _, Nat.le_refl _⟩) hS (fun _ h => h) (fun H locs hM _ _ hS => ?_)
      have hM : MW D cA o (fX3_rl3 u) _ := hM
      refine lv_aload_n hx hb dX3_readLine_72 rfl (lv_at hl 1 rfl) ?_
      refine mw_get (v := .ref (mAd o 36)) hx hb hts hown hK hM 36 (by decide) q1302 rfl rfl dX3_readLine_73 ?_
      refine lv_iload_n hx hb dX3_readLine_76 rfl (lv_at hl 0 rfl) ?_
      refine lv_aload_n hx hb dX3_readLine_77 rfl (lv_at hl 1 rfl) ?_
      refine mw_get (v := .int ((fX3_rl3 u).1 41)) hx hb hts hown hK hM 41 (by decide) q1307 rfl rfl dX3_readLine_78 ?_
      refine mw_ist (j := (fX3_rll u).toNatClampNeg) hx hb hK hM hS 36 (by decide) rfl rfl (hN2 c_32) rfl dX3_readLine_81 (fun H locs hM hS => ?_)
      refine lv_aload_n hx hb dX3_readLine_82 rfl (lv_at hl 1 rfl) ?_
      refine lv_aload_n hx hb dX3_readLine_83 rfl (lv_at hl 1 rfl) ?_
      refine lv_ldc2 (v := 25711) hx hb hown (hts _ q1602) dX3_readLine_84 ?_
      refine ro_call (mw_run (n := 1) (As := [.long 25711]) (rest := [.ref o]) hx hb hml hown hts (metX3_isWord l D cA o (sa (fX3_rl3 u) 36 ((fX3_rll u).toNatClampNeg) ((fX3_rl3 u).1 41)) 25711) q1538 q1540 qs41 q1541 (by decide +kernel) (by decide) (by decide) rfl hK hM hl.1 (Nat.le_of_ble_eq_true rfl) rfl dX3_readLine_87 ⟨Nat.le_refl _, Nat.le_refl _⟩) ?_
      refine mw_call (mw_run (n := 1) (As := [.int (b2 (fX3_isWord (sa (fX3_rl3 u) 36 ((fX3_rll u).toNatClampNeg) ((fX3_rl3 u).1 41)) 25711))]) (rest := []) hx hb hml hown hts (metX3_must l D cA o (sa (fX3_rl3 u) 36 ((fX3_rll u).toNatClampNeg) ((fX3_rl3 u).1 41)) (fX3_isWord (sa (fX3_rl3 u) 36 ((fX3_rll u).toNatClampNeg) ((fX3_rl3 u).1 41)) 25711) (hN4 c_32)) q1598 q1600 qs53 q1601 (by decide +kernel) (by decide) (by decide) rfl hK hM hl.1 (Nat.le_of_ble_eq_true rfl) rfl dX3_readLine_90 ⟨Nat.le_refl _, Nat.le_refl _⟩) hS (fun _ h => h) (fun H locs hM _ _ hS => ?_)
      have hM : MW D cA o (fX3_rl4 u) _ := hM
      refine lv_aload_n hx hb dX3_readLine_93 rfl (lv_at hl 1 rfl) ?_
      refine ro_call (mw_run (n := 0) (As := []) (rest := []) hx hb hml hown hts (metX3_isGood l D cA o (fX3_rl4 u) ) q1529 q1531 qs39 q1532 (by decide +kernel) (by decide) (by decide) rfl hK hM hl.1 (Nat.le_of_ble_eq_true rfl) rfl dX3_readLine_94 ⟨Nat.le_refl _, Nat.le_refl _⟩) ?_
      refine lv_B_ne (tgt := 101) hx hb dX3_readLine_97 (by decide) (fun c_97 => ?_) (fun c_97 => ?_)
      · skip
        refine lv_aload_n hx hb dX3_readLine_101 rfl (lv_at hl 1 rfl) ?_
        refine mw_get (v := .ref (mAd o 33)) hx hb hts hown hK hM 33 (by decide) q1299 rfl rfl dX3_readLine_102 ?_
        refine lv_iload_n hx hb dX3_readLine_105 rfl (lv_at hl 0 rfl) ?_
        refine lv_aload_n hx hb dX3_readLine_106 rfl (lv_at hl 1 rfl) ?_
        refine lv_ldc2 (v := 1650549611) hx hb hown (hts _ q1603) dX3_readLine_107 ?_
        refine ro_call (mw_run (n := 1) (As := [.long 1650549611]) (rest := [.int (fX3_rll u), .ref (mAd o 33)]) hx hb hml hown hts (metX3_isWord l D cA o (fX3_rl4 u) 1650549611) q1538 q1540 qs41 q1541 (by decide +kernel) (by decide) (by decide) rfl hK hM hl.1 (Nat.le_of_ble_eq_true rfl) rfl dX3_readLine_110 ⟨Nat.le_refl _, Nat.le_refl _⟩) ?_
        refine w_ji (ls := ls) (rest := [.int (fX3_rll u), .ref (mAd o 33)]) (E := (fX3_rlr u)) 163 ?_ (fun K => ?_)
        · skip
          refine mw_ist (j := (fX3_rll u).toNatClampNeg) hx hb hK hM hS 33 (by decide) rfl rfl (hN2 c_32) rfl dX3_readLine_163 (fun H locs hM hS => ?_)
          refine lv_aload_n hx hb dX3_readLine_164 rfl (lv_at hl 1 rfl) ?_
          refine mw_get (v := .ref (mAd o 34)) hx hb hts hown hK hM 34 (by decide) q1300 rfl rfl dX3_readLine_165 ?_
          refine lv_iload_n hx hb dX3_readLine_168 rfl (lv_at hl 0 rfl) ?_
          refine lv_iconst (v := 0) hx hb dX3_readLine_169 (by decide) ?_
          refine mw_ist (j := (fX3_rll u).toNatClampNeg) hx hb hK hM hS 34 (by decide) rfl rfl (hN2 c_32) rfl dX3_readLine_170 (fun H locs hM hS => ?_)
          have hM : MW D cA o (fX3_rl5 u) _ := hM
          refine lv_aload_n hx hb dX3_readLine_171 rfl (lv_at hl 1 rfl) ?_
          refine lv_aload_n hx hb dX3_readLine_172 rfl (lv_at hl 1 rfl) ?_
          refine mw_get (v := .ref (mAd o 33)) hx hb hts hown hK hM 33 (by decide) q1299 rfl rfl dX3_readLine_173 ?_
          refine lv_iload_n hx hb dX3_readLine_176 rfl (lv_at hl 0 rfl) ?_
          refine mw_ild (v := (fX3_rl5 u).2.1 33 ((fX3_rll u).toNatClampNeg)) (j := (fX3_rll u).toNatClampNeg) hx hb hK hM 33 (by decide) rfl rfl (hN2 c_32) rfl rfl dX3_readLine_177 ?_
          refine w_ji (ls := ls) (rest := [.ref o]) (E := b2 (if ((fX3_rl5 u).2.1 33 ((fX3_rll u).toNatClampNeg)) ≤ 0 then false else true)) 186 ?_ (fun K => ?_)
          · skip
            refine mw_call (mw_run (n := 1) (As := [.int (b2 (if ((fX3_rl5 u).2.1 33 ((fX3_rll u).toNatClampNeg)) ≤ 0 then false else true))]) (rest := []) hx hb hml hown hts (metX3_must l D cA o (fX3_rl5 u) (if ((fX3_rl5 u).2.1 33 ((fX3_rll u).toNatClampNeg)) ≤ 0 then false else true) (hN5 c_32 c_97)) q1598 q1600 qs53 q1601 (by decide +kernel) (by decide) (by decide) rfl hK hM hl.1 (Nat.le_of_ble_eq_true rfl) rfl dX3_readLine_186 ⟨Nat.le_refl _, Nat.le_refl _⟩) hS (fun _ h => h) (fun H locs hM _ _ hS => ?_)
            have hM : MW D cA o (fX3_rl6 u) _ := hM
            refine lv_aload_n hx hb dX3_readLine_189 rfl (lv_at hl 1 rfl) ?_
            refine ro_call (mw_run (n := 0) (As := []) (rest := []) hx hb hml hown hts (metX3_isGood l D cA o (fX3_rl6 u) ) q1529 q1531 qs39 q1532 (by decide +kernel) (by decide) (by decide) rfl hK hM hl.1 (Nat.le_of_ble_eq_true rfl) rfl dX3_readLine_190 ⟨Nat.le_refl _, Nat.le_refl _⟩) ?_
            refine w_ju (D := D) (cA := cA) (o := o) (H0 := s0.heap) (ls := ls) (rest := []) (E := (fX3_rl7 u)) 259 (fun H locs hM hS => ?_) (fun K => ?_)
            · skip
              refine lv_aload_n hx hb dX3_readLine_259 rfl (lv_at hl 1 rfl) ?_
              refine lv_aload_n hx hb dX3_readLine_260 rfl (lv_at hl 1 rfl) ?_
              refine lv_bipush (v := 59) hx hb dX3_readLine_261 (by decide) ?_
              refine ro_call (mw_run (n := 1) (As := [.int 59]) (rest := [.ref o]) hx hb hml hown hts (metX3_is l D cA o (fX3_rl7 u) 59 (hN6 c_32 c_97)) q1562 q1564 qs47 q1565 (by decide +kernel) (by decide) (by decide) rfl hK hM hl.1 (Nat.le_of_ble_eq_true rfl) rfl dX3_readLine_263 ⟨Nat.le_refl _, Nat.le_refl _⟩) ?_
              refine mw_call (mw_run (n := 1) (As := [.int (b2 (fX3_is (fX3_rl7 u) 59))]) (rest := []) hx hb hml hown hts (metX3_must l D cA o (fX3_rl7 u) (fX3_is (fX3_rl7 u) 59) (hN7 c_32 c_97)) q1598 q1600 qs53 q1601 (by decide +kernel) (by decide) (by decide) rfl hK hM hl.1 (Nat.le_of_ble_eq_true rfl) rfl dX3_readLine_266 ⟨Nat.le_refl _, Nat.le_refl _⟩) hS (fun _ h => h) (fun H locs hM _ _ hS => ?_)
              have hM : MW D cA o (fX3_rl9 u) _ := hM
              refine lv_aload_n hx hb dX3_readLine_269 rfl (lv_at hl 1 rfl) ?_
              refine mw_get (v := .ref (mAd o 32)) hx hb hts hown hK hM 32 (by decide) q1298 rfl rfl dX3_readLine_270 ?_
              refine lv_aload_n hx hb dX3_readLine_273 rfl (lv_at hl 1 rfl) ?_
              refine mw_get (v := .int ((fX3_rl9 u).1 40)) hx hb hts hown hK hM 40 (by decide) q1306 rfl rfl dX3_readLine_274 ?_
              refine lv_dup2_11 hx hb dX3_readLine_277 rfl rfl ?_
              refine mw_ild (v := (fX3_rl9 u).2.1 32 (((fX3_rl9 u).1 40).toNatClampNeg)) (j := ((fX3_rl9 u).1 40).toNatClampNeg) hx hb hK hM 32 (by decide) rfl rfl (hN8 c_32 c_97) rfl rfl dX3_readLine_278 ?_
              refine lv_iconst (v := 1) hx hb dX3_readLine_279 (by decide) ?_
              refine lv_iadd hx hb dX3_readLine_280 ?_
              refine mw_ist (j := ((fX3_rl9 u).1 40).toNatClampNeg) hx hb hK hM hS 32 (by decide) rfl rfl (hN8 c_32 c_97) rfl dX3_readLine_281 (fun H locs hM hS => ?_)
              have hF : fX3_readLine u = (sa (fX3_rl9 u) 32 (((fX3_rl9 u).1 40).toNatClampNeg) (((fX3_rl9 u).2.1 32 (((fX3_rl9 u).1 40).toNatClampNeg)) + 1)) := by rw [fX3_readLine, if_pos c_32, if_pos c_97]
              exact mw_vret hx hb hr hlk hM hS (by rw [hF]) dX3_readLine_282
            · skip
              refine lv_B_eq (tgt := 259) hx hb dX3_readLine_193 (by decide) (fun c_193 => ?_) (fun c_193 => ?_)
              · skip
                exact K _ _ _ hM hS (by rw [fX3_rl7, if_neg (nt_of c_193)])
              · skip
                refine lv_aload_n hx hb dX3_readLine_196 rfl (lv_at hl 1 rfl) ?_
                refine mw_get (v := .ref (mAd o 33)) hx hb hts hown hK hM 33 (by decide) q1299 rfl rfl dX3_readLine_197 ?_
                refine lv_iload_n hx hb dX3_readLine_200 rfl (lv_at hl 0 rfl) ?_
                refine mw_ild (v := (fX3_rl6 u).2.1 33 ((fX3_rll u).toNatClampNeg)) (j := (fX3_rll u).toNatClampNeg) hx hb hK hM 33 (by decide) rfl rfl (hN2 c_32) rfl rfl dX3_readLine_201 ?_
                refine lv_iconst (v := 3) hx hb dX3_readLine_202 (by decide) ?_
                refine lv_icmp_ne (tgt := 259) hx hb dX3_readLine_203 (by decide) (fun c_203 => ?_) (fun c_203 => ?_)
                · skip
                  exact K _ _ _ hM hS (by rw [fX3_rl7, if_pos c_193, if_neg c_203])
                · skip
                  refine lv_aload_n hx hb dX3_readLine_206 rfl (lv_at hl 1 rfl) ?_
                  refine mw_get (v := .int ((fX3_rl6 u).1 29)) hx hb hts hown hK hM 29 (by decide) q1295 rfl rfl dX3_readLine_207 ?_
                  refine lv_iconst (v := 3) hx hb dX3_readLine_210 (by decide) ?_
                  refine w_ju (D := D) (cA := cA) (o := o) (H0 := s0.heap) (ls := ls) (rest := []) (E := (fX3_rl8 u)) 232 (fun H locs hM hS => ?_) (fun K => ?_)
                  · skip
                    refine lv_aload_n hx hb dX3_readLine_232 rfl (lv_at hl 1 rfl) ?_
                    refine mw_get (v := .ref (mAd o 34)) hx hb hts hown hK hM 34 (by decide) q1300 rfl rfl dX3_readLine_233 ?_
                    refine lv_iload_n hx hb dX3_readLine_236 rfl (lv_at hl 0 rfl) ?_
                    refine lv_aload_n hx hb dX3_readLine_237 rfl (lv_at hl 1 rfl) ?_
                    refine mw_get (v := .int ((fX3_rl8 u).1 30)) hx hb hts hown hK hM 30 (by decide) q1296 rfl rfl dX3_readLine_238 ?_
                    refine mw_ist (j := (fX3_rll u).toNatClampNeg) hx hb hK hM hS 34 (by decide) rfl rfl (hN2 c_32) rfl dX3_readLine_241 (fun H locs hM hS => ?_)
                    refine lv_aload_n hx hb dX3_readLine_242 rfl (lv_at hl 1 rfl) ?_
                    refine lv_aload_n hx hb dX3_readLine_243 rfl (lv_at hl 1 rfl) ?_
                    refine mw_get (v := .int ((fX3_rl8 u).1 29)) hx hb hts hown hK hM 29 (by decide) q1295 rfl rfl dX3_readLine_244 ?_
                    refine lv_iconst (v := 3) hx hb dX3_readLine_247 (by decide) ?_
                    refine w_ji (ls := ls) (rest := [.ref o]) (E := b2 (if ((fX3_rl8 u).1 29) = 3 then true else false)) 256 ?_ (fun K => ?_)
                    · skip
                      refine mw_call (mw_run (n := 1) (As := [.int (b2 (if ((fX3_rl8 u).1 29) = 3 then true else false))]) (rest := []) hx hb hml hown hts (metX3_must l D cA o (sa (fX3_rl8 u) 34 ((fX3_rll u).toNatClampNeg) ((fX3_rl8 u).1 30)) (if ((fX3_rl8 u).1 29) = 3 then true else false) (hN9 c_32 c_97 c_193 c_203)) q1598 q1600 qs53 q1601 (by decide +kernel) (by decide) (by decide) rfl hK hM hl.1 (Nat.le_of_ble_eq_true rfl) rfl dX3_readLine_256 ⟨Nat.le_refl _, Nat.le_refl _⟩) hS (fun _ h => h) (fun H locs hM _ _ hS => ?_)
                      exact K _ _ _ hM hS (by rw [fX3_rl7, if_pos c_193, if_pos c_203])
                    · skip
                      refine lv_icmp_ne (tgt := 255) hx hb dX3_readLine_248 (by decide) (fun c_248 => ?_) (fun c_248 => ?_)
                      · skip
                        refine lv_iconst (v := 0) hx hb dX3_readLine_255 (by decide) ?_
                        exact K _ (by rw [if_neg c_248]; rfl)
                      · skip
                        refine lv_iconst (v := 1) hx hb dX3_readLine_251 (by decide) ?_
                        refine lv_goto (tgt := 256) hx hb dX3_readLine_252 (by decide) ?_
                        exact K _ (by rw [if_pos c_248]; rfl)
                  · skip
                    refine lv_icmp_ne (tgt := 232) hx hb dX3_readLine_211 (by decide) (fun c_211 => ?_) (fun c_211 => ?_)
                    · skip
                      exact K _ _ _ hM hS (by rw [fX3_rl8, if_neg c_211])
                    · skip
                      refine lv_aload_n hx hb dX3_readLine_214 rfl (lv_at hl 1 rfl) ?_
                      refine mw_get (v := .int ((fX3_rl6 u).1 30)) hx hb hts hown hK hM 30 (by decide) q1296 rfl rfl dX3_readLine_215 ?_
                      refine lv_bipush (v := 100) hx hb dX3_readLine_218 (by decide) ?_
                      refine lv_icmp_le (tgt := 232) hx hb dX3_readLine_220 (by decide) (fun c_220 => ?_) (fun c_220 => ?_)
                      · skip
                        exact K _ _ _ hM hS (by rw [fX3_rl8, if_pos c_211, if_pos c_220])
                      · skip
                        refine lv_aload_n hx hb dX3_readLine_223 rfl (lv_at hl 1 rfl) ?_
                        refine lv_iconst (v := 3) hx hb dX3_readLine_224 (by decide) ?_
                        refine lv_aload_n hx hb dX3_readLine_225 rfl (lv_at hl 1 rfl) ?_
                        refine mw_get (v := .int ((fX3_rl6 u).1 27)) hx hb hts hown hK hM 27 (by decide) q1293 rfl rfl dX3_readLine_226 ?_
                        refine mw_call (mw_run (n := 2) (As := [.int 3, .int ((fX3_rl6 u).1 27)]) (rest := []) hx hb hml hown hts (metX3_fails l D cA o (fX3_rl6 u) 3 ((fX3_rl6 u).1 27)) q1546 q1548 qs43 q1549 (by decide +kernel) (by decide) (by decide) rfl hK hM hl.1 (Nat.le_of_ble_eq_true rfl) rfl dX3_readLine_229 ⟨Nat.le_refl _, Nat.le_refl _⟩) hS (fun _ h => h) (fun H locs hM _ _ hS => ?_)
                        exact K _ _ _ hM hS (by rw [fX3_rl8, if_pos c_211, if_neg c_220])
          · skip
            refine lv_if_le (tgt := 185) hx hb dX3_readLine_178 (by decide) (fun c_178 => ?_) (fun c_178 => ?_)
            · skip
              refine lv_iconst (v := 0) hx hb dX3_readLine_185 (by decide) ?_
              exact K _ (by rw [if_pos c_178]; rfl)
            · skip
              refine lv_iconst (v := 1) hx hb dX3_readLine_181 (by decide) ?_
              refine lv_goto (tgt := 186) hx hb dX3_readLine_182 (by decide) ?_
              exact K _ (by rw [if_neg c_178]; rfl)
        · skip
          refine lv_B_eq (tgt := 120) hx hb dX3_readLine_113 (by decide) (fun c_113 => ?_) (fun c_113 => ?_)
          · skip
            refine lv_aload_n hx hb dX3_readLine_120 rfl (lv_at hl 1 rfl) ?_
            refine lv_ldc2 (v := 478694368626) hx hb hown (hts _ q1604) dX3_readLine_121 ?_
            refine ro_call (mw_run (n := 1) (As := [.long 478694368626]) (rest := [.int (fX3_rll u), .ref (mAd o 33)]) hx hb hml hown hts (metX3_isWord l D cA o (fX3_rl4 u) 478694368626) q1538 q1540 qs41 q1541 (by decide +kernel) (by decide) (by decide) rfl hK hM hl.1 (Nat.le_of_ble_eq_true rfl) rfl dX3_readLine_124 ⟨Nat.le_refl _, Nat.le_refl _⟩) ?_
            refine lv_B_eq (tgt := 134) hx hb dX3_readLine_127 (by decide) (fun c_127 => ?_) (fun c_127 => ?_)
            · skip
              refine lv_aload_n hx hb dX3_readLine_134 rfl (lv_at hl 1 rfl) ?_
              refine lv_ldc2 (v := 470020941177) hx hb hown (hts _ q1605) dX3_readLine_135 ?_
              refine ro_call (mw_run (n := 1) (As := [.long 470020941177]) (rest := [.int (fX3_rll u), .ref (mAd o 33)]) hx hb hml hown hts (metX3_isWord l D cA o (fX3_rl4 u) 470020941177) q1538 q1540 qs41 q1541 (by decide +kernel) (by decide) (by decide) rfl hK hM hl.1 (Nat.le_of_ble_eq_true rfl) rfl dX3_readLine_138 ⟨Nat.le_refl _, Nat.le_refl _⟩) ?_
              refine lv_B_eq (tgt := 148) hx hb dX3_readLine_141 (by decide) (fun c_141 => ?_) (fun c_141 => ?_)
              · skip
                refine lv_aload_n hx hb dX3_readLine_148 rfl (lv_at hl 1 rfl) ?_
                refine lv_ldc2 (v := 1852796517) hx hb hown (hts _ q1606) dX3_readLine_149 ?_
                refine ro_call (mw_run (n := 1) (As := [.long 1852796517]) (rest := [.int (fX3_rll u), .ref (mAd o 33)]) hx hb hml hown hts (metX3_isWord l D cA o (fX3_rl4 u) 1852796517) q1538 q1540 qs41 q1541 (by decide +kernel) (by decide) (by decide) rfl hK hM hl.1 (Nat.le_of_ble_eq_true rfl) rfl dX3_readLine_152 ⟨Nat.le_refl _, Nat.le_refl _⟩) ?_
                refine lv_B_eq (tgt := 162) hx hb dX3_readLine_155 (by decide) (fun c_155 => ?_) (fun c_155 => ?_)
                · skip
                  refine lv_iconst (v := 0) hx hb dX3_readLine_162 (by decide) ?_
                  exact K _ (by rw [fX3_rlr, if_neg (nt_of c_113), if_neg (nt_of c_127), if_neg (nt_of c_141), if_neg (nt_of c_155)])
                · skip
                  refine lv_iconst (v := 4) hx hb dX3_readLine_158 (by decide) ?_
                  refine lv_goto (tgt := 163) hx hb dX3_readLine_159 (by decide) ?_
                  exact K _ (by rw [fX3_rlr, if_neg (nt_of c_113), if_neg (nt_of c_127), if_neg (nt_of c_141), if_pos c_155])
              · skip
                refine lv_iconst (v := 3) hx hb dX3_readLine_144 (by decide) ?_
                refine lv_goto (tgt := 163) hx hb dX3_readLine_145 (by decide) ?_
                exact K _ (by rw [fX3_rlr, if_neg (nt_of c_113), if_neg (nt_of c_127), if_pos c_141])
            · skip
              refine lv_iconst (v := 2) hx hb dX3_readLine_130 (by decide) ?_
              refine lv_goto (tgt := 163) hx hb dX3_readLine_131 (by decide) ?_
              exact K _ (by rw [fX3_rlr, if_neg (nt_of c_113), if_pos c_127])
          · skip
            refine lv_iconst (v := 1) hx hb dX3_readLine_116 (by decide) ?_
            refine lv_goto (tgt := 163) hx hb dX3_readLine_117 (by decide) ?_
            exact K _ (by rw [fX3_rlr, if_pos c_113])
      · skip
        have hF : fX3_readLine u = (fX3_rl4 u) := by rw [fX3_readLine, if_pos c_32, if_neg (nt_of c_97)]
        exact mw_vret hx hb hr hlk hM hS (by rw [hF]) dX3_readLine_100
    · skip
      have hF : fX3_readLine u = (fX3_rl1 u) := by rw [fX3_readLine, if_neg (nt_of c_32)]
      exact mw_vret hx hb hr hlk hM hS (by rw [hF]) dX3_readLine_35
  · skip
    refine lv_B_eq (tgt := 24) hx hb dX3_readLine_7 (by decide) (fun c_7 => ?_) (fun c_7 => ?_)
    · skip
      refine lv_aload_n hx hb dX3_readLine_24 rfl (lv_at hl 0 rfl) ?_
      refine mw_call (mw_run (n := 0) (As := []) (rest := []) hx hb hml hown hts (metX3_wrong l D cA o u ) q1542 q1544 qs42 q1545 (by decide +kernel) (by decide) (by decide) rfl hK hM hl.1 (Nat.le_of_ble_eq_true rfl) rfl dX3_readLine_25 ⟨Nat.le_refl _, Nat.le_refl _⟩) hS (fun _ h => h) (fun H locs hM _ _ hS => ?_)
      exact K _ _ _ hM hS (by rw [fX3_rl1, if_neg (nt_of c_7)])
    · skip
      refine lv_aload_n hx hb dX3_readLine_10 rfl (lv_at hl 0 rfl) ?_
      refine mw_get (v := .ref (mAd o 32)) hx hb hts hown hK hM 32 (by decide) q1298 rfl rfl dX3_readLine_11 ?_
      refine lv_aload_n hx hb dX3_readLine_14 rfl (lv_at hl 0 rfl) ?_
      refine mw_get (v := .int (u.1 40)) hx hb hts hown hK hM 40 (by decide) q1306 rfl rfl dX3_readLine_15 ?_
      refine mw_ild (v := u.2.1 32 ((u.1 40).toNatClampNeg)) (j := (u.1 40).toNatClampNeg) hx hb hK hM 32 (by decide) rfl rfl (hN10 c_7) rfl rfl dX3_readLine_18 ?_
      refine lv_bipush (v := 16) hx hb dX3_readLine_19 (by decide) ?_
      refine lv_icmp_ne (tgt := 28) hx hb dX3_readLine_21 (by decide) (fun c_21 => ?_) (fun c_21 => ?_)
      · skip
        exact K _ _ _ hM hS (by rw [fX3_rl1, if_pos c_7, if_neg c_21])
      · skip
        refine lv_aload_n hx hb dX3_readLine_24 rfl (lv_at hl 0 rfl) ?_
        refine mw_call (mw_run (n := 0) (As := []) (rest := []) hx hb hml hown hts (metX3_wrong l D cA o u ) q1542 q1544 qs42 q1545 (by decide +kernel) (by decide) (by decide) rfl hK hM hl.1 (Nat.le_of_ble_eq_true rfl) rfl dX3_readLine_25 ⟨Nat.le_refl _, Nat.le_refl _⟩) hS (fun _ h => h) (fun H locs hM _ _ hS => ?_)
        exact K _ _ _ hM hS (by rw [fX3_rl1, if_pos c_7, if_pos c_21])

def lpX3_law_20 (u : St) : St × Int32 → Nat × St × Int32
  | (v, k) => if (v.1 24) ≤ k then (1, v, k) else (0, (sa v 22 k.toNatClampNeg ((v.2.1 21 k.toNatClampNeg).toInt8.toInt32)), k + 1)
def lpX3_law_20_r (u : St) : Nat × St × Int32 :=
  wh (lpX3_law_20 u) 601 ((si (si (si u 25 0) 26 (-1)) 24 (u.1 23)), 0)
def fX3_lw1 (u : St) : St :=
  (si (si (sa (si (si (si (lpX3_law_20_r u).2.1 23 0) 28 0) 40 (1 - ((lpX3_law_20_r u).2.1.1 39))) 32 ((1 - ((lpX3_law_20_r u).2.1.1 39)).toNatClampNeg) 0) 41 0) 42 0)
def fX3_lw2 (u : St) : St :=
  (fX3_next (fX3_lw1 u))
def lpX3_law_90 (u : St) : St → Nat × St
  | v => if (fX3_isGood v) = true then (if (v.1 29) = 0 then (1, v) else (0, (fX3_readLine v))) else (1, v)
def lpX3_law_90_r (u : St) : Nat × St :=
  wh (lpX3_law_90 u) 20 (fX3_lw2 u)
def fX3_lw3 (u : St) : St :=
  (lpX3_law_90_r u).2
def fX3_law (u : St)  : Int32 × St :=
  if (fX3_isGood (fX3_lw3 u)) = true then ((fX3_lw3 u).2.1 32 (((fX3_lw3 u).1 40).toNatClampNeg), (si (fX3_lw3 u) 39 ((fX3_lw3 u).1 40))) else ((-1), (fX3_lw3 u))
def okX3_law (u : St)  : Prop :=
  ∃ (I_20 : (St × Int32) → Prop) (I_90 : St → Prop), (LOK (lpX3_law_20 u) 601 ((si (si (si u 25 0) 26 (-1)) 24 (u.1 23)), 0) I_20) ∧ (∀ (v : St) (k : Int32), I_20 (v, k) → ¬ ((v.1 24) ≤ k) → vp_in k 620) ∧ (∀ (v : St) (k : Int32), I_20 (v, k) → ¬ ((v.1 24) ≤ k) → vp_in k 600) ∧ (vp_in (1 - ((lpX3_law_20_r u).2.1.1 39)) 2) ∧ (okX3_next (fX3_lw1 u)) ∧ (LOK (lpX3_law_90 u) 20 (fX3_lw2 u) I_90) ∧ (∀ (v : St), I_90 v → (fX3_isGood v) = true → ¬ ((v.1 29) = 0) → okX3_readLine v) ∧ ((fX3_isGood (fX3_lw3 u)) = true → vp_in ((fX3_lw3 u).1 40) 2)
set_option maxHeartbeats 4000000 in
theorem metX3_law (l : Launch) (D : va_G) (cA : Nat → ClassId) (o : Nat) (u : St)  (hok : okX3_law u) : MetM l yX3_law cX3_law 2 (some .int) 7 D cA o u [.ref o] (some (.int (fX3_law u).1)) (fX3_law u).2 := by
  obtain ⟨I_20, I_90, hN0, hN1, hN2, hN3, hN4, hN5, hN6, hN7⟩ := hok
  refine mM_start RX3 (by decide) rfl (Nat.le_of_ble_eq_true rfl) ?_
  intro pg ev s0 mi bl me co hx hb hml hown hts hr hlk hK hM ls hl
  have hl : lv_has ls 2 [(0, .ref o)] := hl
  have hS : va_S (mA o) s0.heap s0.heap [] := va_S.rf
  refine lv_aload_n hx hb dX3_law_0 rfl (lv_at hl 0 rfl) ?_
  refine lv_iconst (v := 0) hx hb dX3_law_1 (by decide) ?_
  refine mw_puti hx hb hts hown hK hM hS 25 (by decide) q1291 rfl rfl rfl rfl dX3_law_2 (fun H locs hM hS => ?_)
  refine lv_aload_n hx hb dX3_law_5 rfl (lv_at hl 0 rfl) ?_
  refine lv_iconst (v := (-1)) hx hb dX3_law_6 (by decide) ?_
  refine mw_puti hx hb hts hown hK hM hS 26 (by decide) q1292 rfl rfl rfl rfl dX3_law_7 (fun H locs hM hS => ?_)
  refine lv_aload_n hx hb dX3_law_10 rfl (lv_at hl 0 rfl) ?_
  refine lv_aload_n hx hb dX3_law_11 rfl (lv_at hl 0 rfl) ?_
  refine mw_get (v := .int (u.1 23)) hx hb hts hown hK hM 23 (by decide) q1289 rfl rfl dX3_law_12 ?_
  refine mw_puti hx hb hts hown hK hM hS 24 (by decide) q1290 rfl rfl rfl rfl dX3_law_15 (fun H locs hM hS => ?_)
  refine lv_iconst (v := 0) hx hb dX3_law_18 (by decide) ?_
  refine lv_istore_n (lv' := [(1, .int 0), (0, .ref o)]) hx hb dX3_law_19 rfl hl (by decide) rfl (fun ls hl => ?_)
  refine mw_loop1 (rest := []) (nL := 2) (r := (lpX3_law_20_r u)) (lpX3_law_20 u) I_20 (fun q => q.1) (fun q => [(1, .int q.2), (0, .ref o)]) 20 46 601 ((si (si (si u 25 0) 26 (-1)) 24 (u.1 23)), 0) hN0.2.1 hN0.1 hN0.2.2 rfl ?_ hM hS (lv_sub hl [0, 1] rfl) ?_
  · skip
    intro ⟨v, k⟩ hI_20 H locs ls hM hS hl kb k1
    have hM : MW D cA o v H := hM
    have hl : lv_has ls 2 [(1, .int k), (0, .ref o)] := hl
    refine lv_iload_n hx hb dX3_law_20 rfl (lv_at hl 0 rfl) ?_
    refine lv_aload_n hx hb dX3_law_21 rfl (lv_at hl 1 rfl) ?_
    refine mw_get (v := .int (v.1 24)) hx hb hts hown hK hM 24 (by decide) q1290 rfl rfl dX3_law_22 ?_
    refine lv_icmp_ge (tgt := 46) hx hb dX3_law_25 (by decide) (fun c_25 => ?_) (fun c_25 => ?_)
    · skip
      have hs : lpX3_law_20 u (v, k) = (1, v, k) := by rw [lpX3_law_20, if_pos c_25]
      rw [hs] at k1
      exact k1 (show ¬ (1 : Nat) = 0 by decide) _ _ _ hM hS (lv_sub hl [0, 1] rfl)
    · skip
      refine lv_aload_n hx hb dX3_law_28 rfl (lv_at hl 1 rfl) ?_
      refine mw_get (v := .ref (mAd o 22)) hx hb hts hown hK hM 22 (by decide) q1288 rfl rfl dX3_law_29 ?_
      refine lv_iload_n hx hb dX3_law_32 rfl (lv_at hl 0 rfl) ?_
      refine lv_aload_n hx hb dX3_law_33 rfl (lv_at hl 1 rfl) ?_
      refine mw_get (v := .ref (mAd o 21)) hx hb hts hown hK hM 21 (by decide) q1287 rfl rfl dX3_law_34 ?_
      refine lv_iload_n hx hb dX3_law_37 rfl (lv_at hl 0 rfl) ?_
      refine mw_bld (v := v.2.1 21 k.toNatClampNeg) (j := k.toNatClampNeg) hx hb hK hM 21 (by decide) rfl rfl (hN1 v k hI_20 c_25) rfl rfl dX3_law_38 ?_
      refine mw_bst (j := k.toNatClampNeg) hx hb hK hM hS 22 (by decide) rfl rfl (hN2 v k hI_20 c_25) rfl dX3_law_39 (fun H locs hM hS => ?_)
      refine lv_iinc (v := k + 1) (lv' := [(1, .int (k + 1)), (0, .ref o)]) hx hb dX3_law_40 hl (k := 0) rfl (rfl) (by decide) rfl (fun ls hl => ?_)
      refine lv_goto (tgt := 20) hx hb dX3_law_43 (by decide) ?_
      have hs : lpX3_law_20 u (v, k) = (0, (sa v 22 k.toNatClampNeg ((v.2.1 21 k.toNatClampNeg).toInt8.toInt32)), k + 1) := by rw [lpX3_law_20, if_neg c_25]
      rw [hs] at kb
      exact kb rfl _ _ _ hM hS (lv_sub hl [0, 1] rfl)
  · skip
    intro H locs ls hM hS hl
    have hM : MW D cA o (lpX3_law_20_r u).2.1 H := hM
    have hl : lv_has ls 2 [(1, .int ((lpX3_law_20_r u).2.2)), (0, .ref o)] := hl
    refine lv_aload_n hx hb dX3_law_46 rfl (lv_at hl 1 rfl) ?_
    refine lv_iconst (v := 0) hx hb dX3_law_47 (by decide) ?_
    refine mw_puti hx hb hts hown hK hM hS 23 (by decide) q1289 rfl rfl rfl rfl dX3_law_48 (fun H locs hM hS => ?_)
    refine lv_aload_n hx hb dX3_law_51 rfl (lv_at hl 1 rfl) ?_
    refine lv_iconst (v := 0) hx hb dX3_law_52 (by decide) ?_
    refine mw_puti hx hb hts hown hK hM hS 28 (by decide) q1294 rfl rfl rfl rfl dX3_law_53 (fun H locs hM hS => ?_)
    refine lv_aload_n hx hb dX3_law_56 rfl (lv_at hl 1 rfl) ?_
    refine lv_iconst (v := 1) hx hb dX3_law_57 (by decide) ?_
    refine lv_aload_n hx hb dX3_law_58 rfl (lv_at hl 1 rfl) ?_
    refine mw_get (v := .int ((lpX3_law_20_r u).2.1.1 39)) hx hb hts hown hK hM 39 (by decide) q1305 rfl rfl dX3_law_59 ?_
    refine lv_isub hx hb dX3_law_62 ?_
    refine mw_puti hx hb hts hown hK hM hS 40 (by decide) q1306 rfl rfl rfl rfl dX3_law_63 (fun H locs hM hS => ?_)
    refine lv_aload_n hx hb dX3_law_66 rfl (lv_at hl 1 rfl) ?_
    refine mw_get (v := .ref (mAd o 32)) hx hb hts hown hK hM 32 (by decide) q1298 rfl rfl dX3_law_67 ?_
    refine lv_aload_n hx hb dX3_law_70 rfl (lv_at hl 1 rfl) ?_
    refine mw_get (v := .int (1 - ((lpX3_law_20_r u).2.1.1 39))) hx hb hts hown hK hM 40 (by decide) q1306 rfl rfl dX3_law_71 ?_
    refine lv_iconst (v := 0) hx hb dX3_law_74 (by decide) ?_
    refine mw_ist (j := (1 - ((lpX3_law_20_r u).2.1.1 39)).toNatClampNeg) hx hb hK hM hS 32 (by decide) rfl rfl hN3 rfl dX3_law_75 (fun H locs hM hS => ?_)
    refine lv_aload_n hx hb dX3_law_76 rfl (lv_at hl 1 rfl) ?_
    refine lv_iconst (v := 0) hx hb dX3_law_77 (by decide) ?_
    refine mw_puti hx hb hts hown hK hM hS 41 (by decide) q1307 rfl rfl rfl rfl dX3_law_78 (fun H locs hM hS => ?_)
    refine lv_aload_n hx hb dX3_law_81 rfl (lv_at hl 1 rfl) ?_
    refine lv_iconst (v := 0) hx hb dX3_law_82 (by decide) ?_
    refine mw_puti hx hb hts hown hK hM hS 42 (by decide) q1308 rfl rfl rfl rfl dX3_law_83 (fun H locs hM hS => ?_)
    have hM : MW D cA o (fX3_lw1 u) _ := hM
    refine lv_aload_n hx hb dX3_law_86 rfl (lv_at hl 1 rfl) ?_
    refine mw_call (mw_run (n := 0) (As := []) (rest := []) hx hb hml hown hts (metX3_next l D cA o (fX3_lw1 u)  hN4) q1515 q1517 qs37 q1518 (by decide +kernel) (by decide) (by decide) rfl hK hM hl.1 (Nat.le_of_ble_eq_true rfl) rfl dX3_law_87 ⟨Nat.le_refl _, Nat.le_refl _⟩) hS (fun _ h => h) (fun H locs hM _ _ hS => ?_)
    have hM : MW D cA o (fX3_lw2 u) _ := hM
    refine mw_loop1 (rest := []) (nL := 2) (r := (lpX3_law_90_r u)) (lpX3_law_90 u) I_90 (fun q => q) (fun q => [(0, .ref o)]) 90 111 20 (fX3_lw2 u) hN5.2.1 hN5.1 hN5.2.2 rfl ?_ hM hS (lv_sub hl [1] rfl) ?_
    · skip
      intro v hI_90 H locs ls hM hS hl kb k1
      have hM : MW D cA o v H := hM
      have hl : lv_has ls 2 [(0, .ref o)] := hl
      refine lv_aload_n hx hb dX3_law_90 rfl (lv_at hl 0 rfl) ?_
      refine ro_call (mw_run (n := 0) (As := []) (rest := []) hx hb hml hown hts (metX3_isGood l D cA o v ) q1529 q1531 qs39 q1532 (by decide +kernel) (by decide) (by decide) rfl hK hM hl.1 (Nat.le_of_ble_eq_true rfl) rfl dX3_law_91 ⟨Nat.le_refl _, Nat.le_refl _⟩) ?_
      refine lv_B_eq (tgt := 111) hx hb dX3_law_94 (by decide) (fun c_94 => ?_) (fun c_94 => ?_)
      · skip
        have hs : lpX3_law_90 u v = (1, v) := by rw [lpX3_law_90, if_neg (nt_of c_94)]
        rw [hs] at k1
        exact k1 (show ¬ (1 : Nat) = 0 by decide) _ _ _ hM hS (lv_sub hl [0] rfl)
      · skip
        refine lv_aload_n hx hb dX3_law_97 rfl (lv_at hl 0 rfl) ?_
        refine mw_get (v := .int (v.1 29)) hx hb hts hown hK hM 29 (by decide) q1295 rfl rfl dX3_law_98 ?_
        refine lv_if_eq (tgt := 111) hx hb dX3_law_101 (by decide) (fun c_101 => ?_) (fun c_101 => ?_)
        · skip
          have hs : lpX3_law_90 u v = (1, v) := by rw [lpX3_law_90, if_pos c_94, if_pos c_101]
          rw [hs] at k1
          exact k1 (show ¬ (1 : Nat) = 0 by decide) _ _ _ hM hS (lv_sub hl [0] rfl)
        · skip
          refine lv_aload_n hx hb dX3_law_104 rfl (lv_at hl 0 rfl) ?_
          refine mw_call (mw_run (n := 0) (As := []) (rest := []) hx hb hml hown hts (metX3_readLine l D cA o v  (hN6 v hI_90 c_94 c_101)) q1533 q1535 qs40 q1536 (by decide +kernel) (by decide) (by decide) rfl hK hM hl.1 (Nat.le_of_ble_eq_true rfl) rfl dX3_law_105 ⟨Nat.le_refl _, Nat.le_refl _⟩) hS (fun _ h => h) (fun H locs hM _ _ hS => ?_)
          refine lv_goto (tgt := 90) hx hb dX3_law_108 (by decide) ?_
          have hs : lpX3_law_90 u v = (0, (fX3_readLine v)) := by rw [lpX3_law_90, if_pos c_94, if_neg c_101]
          rw [hs] at kb
          exact kb rfl _ _ _ hM hS (lv_sub hl [0] rfl)
    · skip
      intro H locs ls hM hS hl
      have hM : MW D cA o (lpX3_law_90_r u).2 H := hM
      have hl : lv_has ls 2 [(0, .ref o)] := hl
      have hM : MW D cA o (fX3_lw3 u) _ := hM
      refine lv_aload_n hx hb dX3_law_111 rfl (lv_at hl 0 rfl) ?_
      refine ro_call (mw_run (n := 0) (As := []) (rest := []) hx hb hml hown hts (metX3_isGood l D cA o (fX3_lw3 u) ) q1529 q1531 qs39 q1532 (by decide +kernel) (by decide) (by decide) rfl hK hM hl.1 (Nat.le_of_ble_eq_true rfl) rfl dX3_law_112 ⟨Nat.le_refl _, Nat.le_refl _⟩) ?_
      refine lv_B_ne (tgt := 120) hx hb dX3_law_115 (by decide) (fun c_115 => ?_) (fun c_115 => ?_)
      · skip
        refine lv_aload_n hx hb dX3_law_120 rfl (lv_at hl 0 rfl) ?_
        refine lv_aload_n hx hb dX3_law_121 rfl (lv_at hl 0 rfl) ?_
        refine mw_get (v := .int ((fX3_lw3 u).1 40)) hx hb hts hown hK hM 40 (by decide) q1306 rfl rfl dX3_law_122 ?_
        refine mw_puti hx hb hts hown hK hM hS 39 (by decide) q1305 rfl rfl rfl rfl dX3_law_125 (fun H locs hM hS => ?_)
        refine lv_aload_n hx hb dX3_law_128 rfl (lv_at hl 0 rfl) ?_
        refine mw_get (v := .ref (mAd o 32)) hx hb hts hown hK hM 32 (by decide) q1298 rfl rfl dX3_law_129 ?_
        refine lv_aload_n hx hb dX3_law_132 rfl (lv_at hl 0 rfl) ?_
        refine mw_get (v := .int ((fX3_lw3 u).1 40)) hx hb hts hown hK hM 39 (by decide) q1305 rfl rfl dX3_law_133 ?_
        refine mw_ild (v := (fX3_lw3 u).2.1 32 (((fX3_lw3 u).1 40).toNatClampNeg)) (j := ((fX3_lw3 u).1 40).toNatClampNeg) hx hb hK hM 32 (by decide) rfl rfl (hN7 c_115) rfl rfl dX3_law_136 ?_
        have hF : fX3_law u = ((fX3_lw3 u).2.1 32 (((fX3_lw3 u).1 40).toNatClampNeg), (si (fX3_lw3 u) 39 ((fX3_lw3 u).1 40))) := by rw [fX3_law, if_pos c_115]
        exact mw_iret hx hb hr hlk hM hS (by rw [hF]) (by rw [hF]) dX3_law_137
      · skip
        refine lv_iconst (v := (-1)) hx hb dX3_law_118 (by decide) ?_
        have hF : fX3_law u = ((-1), (fX3_lw3 u)) := by rw [fX3_law, if_neg (nt_of c_115)]
        exact mw_iret hx hb hr hlk hM hS (by rw [hF]) (by rw [hF]) dX3_law_119

def lpX3_holds_18 (u : St) (ln : Int32) : St × Int32 × Int32 → Nat × St × Int32 × Int32
  | (v, n, k) => if ((600 * (v.1 39)) + (v.2.1 36 ln.toNatClampNeg)) ≤ k then (1, v, n, k) else (if (v.2.1 37 k.toNatClampNeg) = 126 then (0, (sa v 46 ((n - 1).toNatClampNeg) (b2 (if (v.2.1 46 ((n - 1).toNatClampNeg)) = 0 then true else false))), n, k + 1) else (if (if (v.2.1 37 k.toNatClampNeg) = 110 then true else (if (v.2.1 37 k.toNatClampNeg) = 116 then true else false)) = true then (0, (sa v 46 n.toNatClampNeg (if (v.2.1 37 k.toNatClampNeg) = 110 then v.2.1 38 k.toNatClampNeg else v.2.1 47 ((v.2.1 38 k.toNatClampNeg).toNatClampNeg))), n + 1, k + 1) else (0, (sa v 46 (((n + (-1)) - 1).toNatClampNeg) (fX3_two (v.2.1 37 k.toNatClampNeg) (v.2.1 46 (((n + (-1)) - 1).toNatClampNeg)) (v.2.1 46 ((n + (-1)).toNatClampNeg)))), n + (-1), k + 1)))
def lpX3_holds_18_r (u : St) (ln : Int32) : Nat × St × Int32 × Int32 :=
  wh (lpX3_holds_18 u ln) 601 (u, 0, (600 * (u.1 39)) + (u.2.1 35 ln.toNatClampNeg))
def fX3_holds (u : St) (ln : Int32) : Bool × St :=
  if ((lpX3_holds_18_r u ln).2.1.2.1 46 0) = 0 then (false, (lpX3_holds_18_r u ln).2.1) else (true, (lpX3_holds_18_r u ln).2.1)
def okX3_holds (u : St) (ln : Int32) : Prop :=
  ∃ (I_18 : (St × Int32 × Int32) → Prop), (vp_in ln 32) ∧ (LOK (lpX3_holds_18 u ln) 601 (u, 0, (600 * (u.1 39)) + (u.2.1 35 ln.toNatClampNeg)) I_18) ∧ (∀ (v : St) (n : Int32) (k : Int32), I_18 (v, n, k) → ¬ (((600 * (v.1 39)) + (v.2.1 36 ln.toNatClampNeg)) ≤ k) → vp_in k 1200) ∧ (∀ (v : St) (n : Int32) (k : Int32), I_18 (v, n, k) → ¬ (((600 * (v.1 39)) + (v.2.1 36 ln.toNatClampNeg)) ≤ k) → ¬ ((v.2.1 37 k.toNatClampNeg) = 126) → (if (v.2.1 37 k.toNatClampNeg) = 110 then true else (if (v.2.1 37 k.toNatClampNeg) = 116 then true else false)) = true → vp_in n 100) ∧ (∀ (v : St) (n : Int32) (k : Int32), I_18 (v, n, k) → ¬ (((600 * (v.1 39)) + (v.2.1 36 ln.toNatClampNeg)) ≤ k) → ¬ ((v.2.1 37 k.toNatClampNeg) = 126) → (if (v.2.1 37 k.toNatClampNeg) = 110 then true else (if (v.2.1 37 k.toNatClampNeg) = 116 then true else false)) = true → ¬ ((v.2.1 37 k.toNatClampNeg) = 110) → vp_in (v.2.1 38 k.toNatClampNeg) 9) ∧ (∀ (v : St) (n : Int32) (k : Int32), I_18 (v, n, k) → ¬ (((600 * (v.1 39)) + (v.2.1 36 ln.toNatClampNeg)) ≤ k) → ¬ ((v.2.1 37 k.toNatClampNeg) = 126) → (if (v.2.1 37 k.toNatClampNeg) = 110 then true else (if (v.2.1 37 k.toNatClampNeg) = 116 then true else false)) = false → vp_in ((n + (-1)) - 1) 100) ∧ (∀ (v : St) (n : Int32) (k : Int32), I_18 (v, n, k) → ¬ (((600 * (v.1 39)) + (v.2.1 36 ln.toNatClampNeg)) ≤ k) → ¬ ((v.2.1 37 k.toNatClampNeg) = 126) → (if (v.2.1 37 k.toNatClampNeg) = 110 then true else (if (v.2.1 37 k.toNatClampNeg) = 116 then true else false)) = false → vp_in (n + (-1)) 100) ∧ (∀ (v : St) (n : Int32) (k : Int32), I_18 (v, n, k) → ¬ (((600 * (v.1 39)) + (v.2.1 36 ln.toNatClampNeg)) ≤ k) → (v.2.1 37 k.toNatClampNeg) = 126 → vp_in (n - 1) 100)
set_option maxHeartbeats 4000000 in
theorem metX3_holds (l : Launch) (D : va_G) (cA : Nat → ClassId) (o : Nat) (u : St) (ln : Int32) (hok : okX3_holds u ln) : MetM l yX3_holds cX3_holds 5 (some .boolean) 1 D cA o u [.ref o, .int ln] (some (.int (b2 (fX3_holds u ln).1))) (fX3_holds u ln).2 := by
  obtain ⟨I_18, hN0, hN1, hN2, hN3, hN4, hN5, hN6, hN7⟩ := hok
  refine mM_start RX3 (by decide) rfl (Nat.le_of_ble_eq_true rfl) ?_
  intro pg ev s0 mi bl me co hx hb hml hown hts hr hlk hK hM ls hl
  have hl : lv_has ls 5 [(0, .ref o), (1, .int ln)] := hl
  have hS : va_S (mA o) s0.heap s0.heap [] := va_S.rf
  refine lv_iconst (v := 0) hx hb dX3_holds_0 (by decide) ?_
  refine lv_istore_n (lv' := [(2, .int 0), (0, .ref o), (1, .int ln)]) hx hb dX3_holds_1 rfl hl (by decide) rfl (fun ls hl => ?_)
  refine lv_sipush (v := 600) hx hb dX3_holds_2 (by decide) ?_
  refine lv_aload_n hx hb dX3_holds_5 rfl (lv_at hl 1 rfl) ?_
  refine mw_get (v := .int (u.1 39)) hx hb hts hown hK hM 39 (by decide) q1305 rfl rfl dX3_holds_6 ?_
  refine lv_imul hx hb dX3_holds_9 ?_
  refine lv_aload_n hx hb dX3_holds_10 rfl (lv_at hl 1 rfl) ?_
  refine mw_get (v := .ref (mAd o 35)) hx hb hts hown hK hM 35 (by decide) q1301 rfl rfl dX3_holds_11 ?_
  refine lv_iload_n hx hb dX3_holds_14 rfl (lv_at hl 2 rfl) ?_
  refine mw_ild (v := u.2.1 35 ln.toNatClampNeg) (j := ln.toNatClampNeg) hx hb hK hM 35 (by decide) rfl rfl hN0 rfl rfl dX3_holds_15 ?_
  refine lv_iadd hx hb dX3_holds_16 ?_
  refine lv_istore_n (lv' := [(3, .int ((600 * (u.1 39)) + (u.2.1 35 ln.toNatClampNeg))), (2, .int 0), (0, .ref o), (1, .int ln)]) hx hb dX3_holds_17 rfl hl (by decide) rfl (fun ls hl => ?_)
  refine mw_loop1 (rest := []) (nL := 5) (r := (lpX3_holds_18_r u ln)) (lpX3_holds_18 u ln) I_18 (fun q => q.1) (fun q => [(2, .int q.2.1), (3, .int q.2.2), (0, .ref o), (1, .int ln)]) 18 168 601 (u, 0, (600 * (u.1 39)) + (u.2.1 35 ln.toNatClampNeg)) hN1.2.1 hN1.1 hN1.2.2 rfl ?_ hM hS (lv_sub hl [1, 0, 2, 3] rfl) ?_
  · skip
    intro ⟨v, n, k⟩ hI_18 H locs ls hM hS hl kb k1
    have hM : MW D cA o v H := hM
    have hl : lv_has ls 5 [(2, .int n), (3, .int k), (0, .ref o), (1, .int ln)] := hl
    refine lv_iload_n hx hb dX3_holds_18 rfl (lv_at hl 1 rfl) ?_
    refine lv_sipush (v := 600) hx hb dX3_holds_19 (by decide) ?_
    refine lv_aload_n hx hb dX3_holds_22 rfl (lv_at hl 2 rfl) ?_
    refine mw_get (v := .int (v.1 39)) hx hb hts hown hK hM 39 (by decide) q1305 rfl rfl dX3_holds_23 ?_
    refine lv_imul hx hb dX3_holds_26 ?_
    refine lv_aload_n hx hb dX3_holds_27 rfl (lv_at hl 2 rfl) ?_
    refine mw_get (v := .ref (mAd o 36)) hx hb hts hown hK hM 36 (by decide) q1302 rfl rfl dX3_holds_28 ?_
    refine lv_iload_n hx hb dX3_holds_31 rfl (lv_at hl 3 rfl) ?_
    refine mw_ild (v := v.2.1 36 ln.toNatClampNeg) (j := ln.toNatClampNeg) hx hb hK hM 36 (by decide) rfl rfl hN0 rfl rfl dX3_holds_32 ?_
    refine lv_iadd hx hb dX3_holds_33 ?_
    refine lv_icmp_ge (tgt := 168) hx hb dX3_holds_34 (by decide) (fun c_34 => ?_) (fun c_34 => ?_)
    · skip
      have hs : lpX3_holds_18 u ln (v, n, k) = (1, v, n, k) := by rw [lpX3_holds_18, if_pos c_34]
      rw [hs] at k1
      exact k1 (show ¬ (1 : Nat) = 0 by decide) _ _ _ hM hS (lv_sub hl [0, 1, 2, 3] rfl)
    · skip
      refine lv_aload_n hx hb dX3_holds_37 rfl (lv_at hl 2 rfl) ?_
      refine mw_get (v := .ref (mAd o 37)) hx hb hts hown hK hM 37 (by decide) q1303 rfl rfl dX3_holds_38 ?_
      refine lv_iload_n hx hb dX3_holds_41 rfl (lv_at hl 1 rfl) ?_
      refine mw_ild (v := v.2.1 37 k.toNatClampNeg) (j := k.toNatClampNeg) hx hb hK hM 37 (by decide) rfl rfl (hN2 v n k hI_18 c_34) rfl rfl dX3_holds_42 ?_
      refine lv_istore (lv' := [(4, .int (v.2.1 37 k.toNatClampNeg)), (2, .int n), (3, .int k), (0, .ref o), (1, .int ln)]) hx hb dX3_holds_43 hl (by decide) rfl (fun ls hl => ?_)
      refine lv_iload hx hb dX3_holds_45 (lv_at hl 0 rfl) ?_
      refine lv_bipush (v := 126) hx hb dX3_holds_47 (by decide) ?_
      refine lv_icmp_ne (tgt := 79) hx hb dX3_holds_49 (by decide) (fun c_49 => ?_) (fun c_49 => ?_)
      · skip
        refine lv_iload hx hb dX3_holds_79 (lv_at hl 0 rfl) ?_
        refine lv_bipush (v := 110) hx hb dX3_holds_81 (by decide) ?_
        refine w_jb (ls := ls) (rest := []) (B := (if (v.2.1 37 k.toNatClampNeg) = 110 then true else (if (v.2.1 37 k.toNatClampNeg) = 116 then true else false))) 93 132 (fun c_83 => ?_) (fun c_83 => ?_) (fun KT KF => ?_)
        · skip
          refine lv_aload_n hx hb dX3_holds_93 rfl (lv_at hl 3 rfl) ?_
          refine mw_get (v := .ref (mAd o 46)) hx hb hts hown hK hM 46 (by decide) q1312 rfl rfl dX3_holds_94 ?_
          refine lv_iload_n hx hb dX3_holds_97 rfl (lv_at hl 1 rfl) ?_
          refine lv_iload hx hb dX3_holds_98 (lv_at hl 0 rfl) ?_
          refine lv_bipush (v := 110) hx hb dX3_holds_100 (by decide) ?_
          refine w_ji (ls := ls) (rest := [.int n, .ref (mAd o 46)]) (E := (if (v.2.1 37 k.toNatClampNeg) = 110 then v.2.1 38 k.toNatClampNeg else v.2.1 47 ((v.2.1 38 k.toNatClampNeg).toNatClampNeg))) 125 ?_ (fun K => ?_)
          · skip
            refine mw_ist (j := n.toNatClampNeg) hx hb hK hM hS 46 (by decide) rfl rfl (hN3 v n k hI_18 c_34 c_49 c_83) rfl dX3_holds_125 (fun H locs hM hS => ?_)
            refine lv_iinc (v := n + 1) (lv' := [(2, .int (n + 1)), (4, .int (v.2.1 37 k.toNatClampNeg)), (3, .int k), (0, .ref o), (1, .int ln)]) hx hb dX3_holds_126 hl (k := 1) rfl (rfl) (by decide) rfl (fun ls hl => ?_)
            refine lv_goto (tgt := 162) hx hb dX3_holds_129 (by decide) ?_
            refine lv_iinc (v := k + 1) (lv' := [(3, .int (k + 1)), (2, .int (n + 1)), (4, .int (v.2.1 37 k.toNatClampNeg)), (0, .ref o), (1, .int ln)]) hx hb dX3_holds_162 hl (k := 2) rfl (rfl) (by decide) rfl (fun ls hl => ?_)
            refine lv_goto (tgt := 18) hx hb dX3_holds_165 (by decide) ?_
            have hs : lpX3_holds_18 u ln (v, n, k) = (0, (sa v 46 n.toNatClampNeg (if (v.2.1 37 k.toNatClampNeg) = 110 then v.2.1 38 k.toNatClampNeg else v.2.1 47 ((v.2.1 38 k.toNatClampNeg).toNatClampNeg))), n + 1, k + 1) := by rw [lpX3_holds_18, if_neg c_34, if_neg c_49, if_pos c_83]
            rw [hs] at kb
            exact kb rfl _ _ _ hM hS (lv_sub hl [1, 0, 3, 4] rfl)
          · skip
            refine lv_icmp_ne (tgt := 114) hx hb dX3_holds_102 (by decide) (fun c_102 => ?_) (fun c_102 => ?_)
            · skip
              refine lv_aload_n hx hb dX3_holds_114 rfl (lv_at hl 3 rfl) ?_
              refine mw_get (v := .ref (mAd o 47)) hx hb hts hown hK hM 47 (by decide) q1313 rfl rfl dX3_holds_115 ?_
              refine lv_aload_n hx hb dX3_holds_118 rfl (lv_at hl 3 rfl) ?_
              refine mw_get (v := .ref (mAd o 38)) hx hb hts hown hK hM 38 (by decide) q1304 rfl rfl dX3_holds_119 ?_
              refine lv_iload_n hx hb dX3_holds_122 rfl (lv_at hl 2 rfl) ?_
              refine mw_ild (v := v.2.1 38 k.toNatClampNeg) (j := k.toNatClampNeg) hx hb hK hM 38 (by decide) rfl rfl (hN2 v n k hI_18 c_34) rfl rfl dX3_holds_123 ?_
              refine mw_ild (v := v.2.1 47 ((v.2.1 38 k.toNatClampNeg).toNatClampNeg)) (j := (v.2.1 38 k.toNatClampNeg).toNatClampNeg) hx hb hK hM 47 (by decide) rfl rfl (hN4 v n k hI_18 c_34 c_49 c_83 c_102) rfl rfl dX3_holds_124 ?_
              exact K _ (by rw [if_neg c_102])
            · skip
              refine lv_aload_n hx hb dX3_holds_105 rfl (lv_at hl 3 rfl) ?_
              refine mw_get (v := .ref (mAd o 38)) hx hb hts hown hK hM 38 (by decide) q1304 rfl rfl dX3_holds_106 ?_
              refine lv_iload_n hx hb dX3_holds_109 rfl (lv_at hl 2 rfl) ?_
              refine mw_ild (v := v.2.1 38 k.toNatClampNeg) (j := k.toNatClampNeg) hx hb hK hM 38 (by decide) rfl rfl (hN2 v n k hI_18 c_34) rfl rfl dX3_holds_110 ?_
              refine lv_goto (tgt := 125) hx hb dX3_holds_111 (by decide) ?_
              exact K _ (by rw [if_pos c_102])
        · skip
          refine lv_iinc (v := n + (-1)) (lv' := [(2, .int (n + (-1))), (4, .int (v.2.1 37 k.toNatClampNeg)), (3, .int k), (0, .ref o), (1, .int ln)]) hx hb dX3_holds_132 hl (k := 1) rfl (rfl) (by decide) rfl (fun ls hl => ?_)
          refine lv_aload_n hx hb dX3_holds_135 rfl (lv_at hl 3 rfl) ?_
          refine mw_get (v := .ref (mAd o 46)) hx hb hts hown hK hM 46 (by decide) q1312 rfl rfl dX3_holds_136 ?_
          refine lv_iload_n hx hb dX3_holds_139 rfl (lv_at hl 0 rfl) ?_
          refine lv_iconst (v := 1) hx hb dX3_holds_140 (by decide) ?_
          refine lv_isub hx hb dX3_holds_141 ?_
          refine lv_iload hx hb dX3_holds_142 (lv_at hl 1 rfl) ?_
          refine lv_aload_n hx hb dX3_holds_144 rfl (lv_at hl 3 rfl) ?_
          refine mw_get (v := .ref (mAd o 46)) hx hb hts hown hK hM 46 (by decide) q1312 rfl rfl dX3_holds_145 ?_
          refine lv_iload_n hx hb dX3_holds_148 rfl (lv_at hl 0 rfl) ?_
          refine lv_iconst (v := 1) hx hb dX3_holds_149 (by decide) ?_
          refine lv_isub hx hb dX3_holds_150 ?_
          refine mw_ild (v := v.2.1 46 (((n + (-1)) - 1).toNatClampNeg)) (j := ((n + (-1)) - 1).toNatClampNeg) hx hb hK hM 46 (by decide) rfl rfl (hN5 v n k hI_18 c_34 c_49 c_83) rfl rfl dX3_holds_151 ?_
          refine lv_aload_n hx hb dX3_holds_152 rfl (lv_at hl 3 rfl) ?_
          refine mw_get (v := .ref (mAd o 46)) hx hb hts hown hK hM 46 (by decide) q1312 rfl rfl dX3_holds_153 ?_
          refine lv_iload_n hx hb dX3_holds_156 rfl (lv_at hl 0 rfl) ?_
          refine mw_ild (v := v.2.1 46 ((n + (-1)).toNatClampNeg)) (j := (n + (-1)).toNatClampNeg) hx hb hK hM 46 (by decide) rfl rfl (hN6 v n k hI_18 c_34 c_49 c_83) rfl rfl dX3_holds_157 ?_
          refine ro_call (st_run (n := 3) (As := [.int (v.2.1 37 k.toNatClampNeg), .int (v.2.1 46 (((n + (-1)) - 1).toNatClampNeg)), .int (v.2.1 46 ((n + (-1)).toNatClampNeg))]) (rest := [.int ((n + (-1)) - 1), .ref (mAd o 46)]) hx hb hml hown hts (metX3_two l (v.2.1 37 k.toNatClampNeg) (v.2.1 46 (((n + (-1)) - 1).toNatClampNeg)) (v.2.1 46 ((n + (-1)).toNatClampNeg))) q1638 q1639 q71 q1640 (by decide +kernel) (by decide) (by decide) rfl hl.1 (Nat.le_of_ble_eq_true rfl) rfl dX3_holds_158 ⟨Nat.le_refl _, Nat.le_refl _⟩) ?_
          refine mw_ist (j := ((n + (-1)) - 1).toNatClampNeg) hx hb hK hM hS 46 (by decide) rfl rfl (hN5 v n k hI_18 c_34 c_49 c_83) rfl dX3_holds_161 (fun H locs hM hS => ?_)
          refine lv_iinc (v := k + 1) (lv' := [(3, .int (k + 1)), (2, .int (n + (-1))), (4, .int (v.2.1 37 k.toNatClampNeg)), (0, .ref o), (1, .int ln)]) hx hb dX3_holds_162 hl (k := 2) rfl (rfl) (by decide) rfl (fun ls hl => ?_)
          refine lv_goto (tgt := 18) hx hb dX3_holds_165 (by decide) ?_
          have hs : lpX3_holds_18 u ln (v, n, k) = (0, (sa v 46 (((n + (-1)) - 1).toNatClampNeg) (fX3_two (v.2.1 37 k.toNatClampNeg) (v.2.1 46 (((n + (-1)) - 1).toNatClampNeg)) (v.2.1 46 ((n + (-1)).toNatClampNeg)))), n + (-1), k + 1) := by rw [lpX3_holds_18, if_neg c_34, if_neg c_49, if_neg (nt_of c_83)]
          rw [hs] at kb
          exact kb rfl _ _ _ hM hS (lv_sub hl [1, 0, 3, 4] rfl)
        · skip
          refine lv_icmp_eq (tgt := 93) hx hb dX3_holds_83 (by decide) (fun c_83 => ?_) (fun c_83 => ?_)
          · skip
            exact KT (by rw [if_pos c_83])
          · skip
            refine lv_iload hx hb dX3_holds_86 (lv_at hl 0 rfl) ?_
            refine lv_bipush (v := 116) hx hb dX3_holds_88 (by decide) ?_
            refine lv_icmp_ne (tgt := 132) hx hb dX3_holds_90 (by decide) (fun c_90 => ?_) (fun c_90 => ?_)
            · skip
              exact KF (by rw [if_neg c_83, if_neg c_90])
            · skip
              exact KT (by rw [if_neg c_83, if_pos c_90])
      · skip
        refine lv_aload_n hx hb dX3_holds_52 rfl (lv_at hl 3 rfl) ?_
        refine mw_get (v := .ref (mAd o 46)) hx hb hts hown hK hM 46 (by decide) q1312 rfl rfl dX3_holds_53 ?_
        refine lv_iload_n hx hb dX3_holds_56 rfl (lv_at hl 1 rfl) ?_
        refine lv_iconst (v := 1) hx hb dX3_holds_57 (by decide) ?_
        refine lv_isub hx hb dX3_holds_58 ?_
        refine lv_aload_n hx hb dX3_holds_59 rfl (lv_at hl 3 rfl) ?_
        refine mw_get (v := .ref (mAd o 46)) hx hb hts hown hK hM 46 (by decide) q1312 rfl rfl dX3_holds_60 ?_
        refine lv_iload_n hx hb dX3_holds_63 rfl (lv_at hl 1 rfl) ?_
        refine lv_iconst (v := 1) hx hb dX3_holds_64 (by decide) ?_
        refine lv_isub hx hb dX3_holds_65 ?_
        refine mw_ild (v := v.2.1 46 ((n - 1).toNatClampNeg)) (j := (n - 1).toNatClampNeg) hx hb hK hM 46 (by decide) rfl rfl (hN7 v n k hI_18 c_34 c_49) rfl rfl dX3_holds_66 ?_
        refine w_ji (ls := ls) (rest := [.int (n - 1), .ref (mAd o 46)]) (E := b2 (if (v.2.1 46 ((n - 1).toNatClampNeg)) = 0 then true else false)) 75 ?_ (fun K => ?_)
        · skip
          refine mw_ist (j := (n - 1).toNatClampNeg) hx hb hK hM hS 46 (by decide) rfl rfl (hN7 v n k hI_18 c_34 c_49) rfl dX3_holds_75 (fun H locs hM hS => ?_)
          refine lv_goto (tgt := 162) hx hb dX3_holds_76 (by decide) ?_
          refine lv_iinc (v := k + 1) (lv' := [(3, .int (k + 1)), (4, .int (v.2.1 37 k.toNatClampNeg)), (2, .int n), (0, .ref o), (1, .int ln)]) hx hb dX3_holds_162 hl (k := 2) rfl (rfl) (by decide) rfl (fun ls hl => ?_)
          refine lv_goto (tgt := 18) hx hb dX3_holds_165 (by decide) ?_
          have hs : lpX3_holds_18 u ln (v, n, k) = (0, (sa v 46 ((n - 1).toNatClampNeg) (b2 (if (v.2.1 46 ((n - 1).toNatClampNeg)) = 0 then true else false))), n, k + 1) := by rw [lpX3_holds_18, if_neg c_34, if_pos c_49]
          rw [hs] at kb
          exact kb rfl _ _ _ hM hS (lv_sub hl [2, 0, 3, 4] rfl)
        · skip
          refine lv_if_ne (tgt := 74) hx hb dX3_holds_67 (by decide) (fun c_67 => ?_) (fun c_67 => ?_)
          · skip
            refine lv_iconst (v := 0) hx hb dX3_holds_74 (by decide) ?_
            exact K _ (by rw [if_neg c_67]; rfl)
          · skip
            refine lv_iconst (v := 1) hx hb dX3_holds_70 (by decide) ?_
            refine lv_goto (tgt := 75) hx hb dX3_holds_71 (by decide) ?_
            exact K _ (by rw [if_pos c_67]; rfl)
  · skip
    intro H locs ls hM hS hl
    have hM : MW D cA o (lpX3_holds_18_r u ln).2.1 H := hM
    have hl : lv_has ls 5 [(2, .int ((lpX3_holds_18_r u ln).2.2.1)), (3, .int ((lpX3_holds_18_r u ln).2.2.2)), (0, .ref o), (1, .int ln)] := hl
    refine lv_aload_n hx hb dX3_holds_168 rfl (lv_at hl 2 rfl) ?_
    refine mw_get (v := .ref (mAd o 46)) hx hb hts hown hK hM 46 (by decide) q1312 rfl rfl dX3_holds_169 ?_
    refine lv_iconst (v := 0) hx hb dX3_holds_172 (by decide) ?_
    refine mw_ild (v := (lpX3_holds_18_r u ln).2.1.2.1 46 0) (j := 0) hx hb hK hM 46 (by decide) rfl rfl (by unfold vp_in; decide) (by decide) rfl dX3_holds_173 ?_
    refine lv_if_eq (tgt := 181) hx hb dX3_holds_174 (by decide) (fun c_174 => ?_) (fun c_174 => ?_)
    · skip
      refine lv_iconst (v := 0) hx hb dX3_holds_181 (by decide) ?_
      have hF : fX3_holds u ln = (false, (lpX3_holds_18_r u ln).2.1) := by rw [fX3_holds, if_pos c_174]
      exact mw_zret hx hb hr hlk hM hS (by rw [hF]; rfl) (by rw [hF]) dX3_holds_182
    · skip
      refine lv_iconst (v := 1) hx hb dX3_holds_177 (by decide) ?_
      refine lv_goto (tgt := 182) hx hb dX3_holds_178 (by decide) ?_
      have hF : fX3_holds u ln = (true, (lpX3_holds_18_r u ln).2.1) := by rw [fX3_holds, if_neg c_174]
      exact mw_zret hx hb hr hlk hM hS (by rw [hF]; rfl) (by rw [hF]) dX3_holds_182

def lpX3_lineFor_8 (u : St) : St × Int32 → Nat × St × Int32
  | (v, ln) => if ((16 * (v.1 39)) + (v.2.1 32 ((v.1 39).toNatClampNeg))) ≤ ln then (1, v, ln) else (if ((fX3_holds v ln).1) = true then (2, (fX3_holds v ln).2, ln) else (0, (fX3_holds v ln).2, ln + 1))
def lpX3_lineFor_8_r (u : St) : Nat × St × Int32 :=
  wh (lpX3_lineFor_8 u) 17 (u, 16 * (u.1 39))
def fX3_lineFor (u : St)  : Int32 × St :=
  if (lpX3_lineFor_8_r u).1 = 1 then ((-1), (lpX3_lineFor_8_r u).2.1) else ((lpX3_lineFor_8_r u).2.2, (lpX3_lineFor_8_r u).2.1)
def okX3_lineFor (u : St)  : Prop :=
  ∃ (I_8 : (St × Int32) → Prop), (LOK (lpX3_lineFor_8 u) 17 (u, 16 * (u.1 39)) I_8) ∧ (∀ (v : St) (ln : Int32), I_8 (v, ln) → vp_in (v.1 39) 2) ∧ (∀ (v : St) (ln : Int32), I_8 (v, ln) → ¬ (((16 * (v.1 39)) + (v.2.1 32 ((v.1 39).toNatClampNeg))) ≤ ln) → okX3_holds v ln)
set_option maxHeartbeats 4000000 in
theorem metX3_lineFor (l : Launch) (D : va_G) (cA : Nat → ClassId) (o : Nat) (u : St)  (hok : okX3_lineFor u) : MetM l yX3_lineFor cX3_lineFor 2 (some .int) 2 D cA o u [.ref o] (some (.int (fX3_lineFor u).1)) (fX3_lineFor u).2 := by
  obtain ⟨I_8, hN0, hN1, hN2⟩ := hok
  refine mM_start RX3 (by decide) rfl (Nat.le_of_ble_eq_true rfl) ?_
  intro pg ev s0 mi bl me co hx hb hml hown hts hr hlk hK hM ls hl
  have hl : lv_has ls 2 [(0, .ref o)] := hl
  have hS : va_S (mA o) s0.heap s0.heap [] := va_S.rf
  refine lv_bipush (v := 16) hx hb dX3_lineFor_0 (by decide) ?_
  refine lv_aload_n hx hb dX3_lineFor_2 rfl (lv_at hl 0 rfl) ?_
  refine mw_get (v := .int (u.1 39)) hx hb hts hown hK hM 39 (by decide) q1305 rfl rfl dX3_lineFor_3 ?_
  refine lv_imul hx hb dX3_lineFor_6 ?_
  refine lv_istore_n (lv' := [(1, .int (16 * (u.1 39))), (0, .ref o)]) hx hb dX3_lineFor_7 rfl hl (by decide) rfl (fun ls hl => ?_)
  refine mw_loop2 (rest := []) (nL := 2) (r := (lpX3_lineFor_8_r u)) (lpX3_lineFor_8 u) I_8 (fun q => q.1) (fun q => [(1, .int q.2), (0, .ref o)]) 8 45 37 17 (u, 16 * (u.1 39)) hN0.2.1 hN0.1 hN0.2.2 rfl ?_ hM hS (lv_sub hl [0, 1] rfl) ?_ ?_
  · skip
    intro ⟨v, ln⟩ hI_8 H locs ls hM hS hl kb k1 k2
    have hM : MW D cA o v H := hM
    have hl : lv_has ls 2 [(1, .int ln), (0, .ref o)] := hl
    refine lv_iload_n hx hb dX3_lineFor_8 rfl (lv_at hl 0 rfl) ?_
    refine lv_bipush (v := 16) hx hb dX3_lineFor_9 (by decide) ?_
    refine lv_aload_n hx hb dX3_lineFor_11 rfl (lv_at hl 1 rfl) ?_
    refine mw_get (v := .int (v.1 39)) hx hb hts hown hK hM 39 (by decide) q1305 rfl rfl dX3_lineFor_12 ?_
    refine lv_imul hx hb dX3_lineFor_15 ?_
    refine lv_aload_n hx hb dX3_lineFor_16 rfl (lv_at hl 1 rfl) ?_
    refine mw_get (v := .ref (mAd o 32)) hx hb hts hown hK hM 32 (by decide) q1298 rfl rfl dX3_lineFor_17 ?_
    refine lv_aload_n hx hb dX3_lineFor_20 rfl (lv_at hl 1 rfl) ?_
    refine mw_get (v := .int (v.1 39)) hx hb hts hown hK hM 39 (by decide) q1305 rfl rfl dX3_lineFor_21 ?_
    refine mw_ild (v := v.2.1 32 ((v.1 39).toNatClampNeg)) (j := (v.1 39).toNatClampNeg) hx hb hK hM 32 (by decide) rfl rfl (hN1 v ln hI_8) rfl rfl dX3_lineFor_24 ?_
    refine lv_iadd hx hb dX3_lineFor_25 ?_
    refine lv_icmp_ge (tgt := 45) hx hb dX3_lineFor_26 (by decide) (fun c_26 => ?_) (fun c_26 => ?_)
    · skip
      have hs : lpX3_lineFor_8 u (v, ln) = (1, v, ln) := by rw [lpX3_lineFor_8, if_pos c_26]
      rw [hs] at k1
      exact k1 rfl _ _ _ hM hS (lv_sub hl [0, 1] rfl)
    · skip
      refine lv_aload_n hx hb dX3_lineFor_29 rfl (lv_at hl 1 rfl) ?_
      refine lv_iload_n hx hb dX3_lineFor_30 rfl (lv_at hl 0 rfl) ?_
      refine mw_call (mw_run (n := 1) (As := [.int ln]) (rest := []) hx hb hml hown hts (metX3_holds l D cA o v ln (hN2 v ln hI_8 c_26)) q1634 q1636 qs57 q1637 (by decide +kernel) (by decide) (by decide) rfl hK hM hl.1 (Nat.le_of_ble_eq_true rfl) rfl dX3_lineFor_31 ⟨Nat.le_refl _, Nat.le_refl _⟩) hS (fun _ h => h) (fun H locs hM _ _ hS => ?_)
      refine lv_B_eq (tgt := 39) hx hb dX3_lineFor_34 (by decide) (fun c_34 => ?_) (fun c_34 => ?_)
      · skip
        refine lv_iinc (v := ln + 1) (lv' := [(1, .int (ln + 1)), (0, .ref o)]) hx hb dX3_lineFor_39 hl (k := 0) rfl (rfl) (by decide) rfl (fun ls hl => ?_)
        refine lv_goto (tgt := 8) hx hb dX3_lineFor_42 (by decide) ?_
        have hs : lpX3_lineFor_8 u (v, ln) = (0, (fX3_holds v ln).2, ln + 1) := by rw [lpX3_lineFor_8, if_neg c_26, if_neg (nt_of c_34)]
        rw [hs] at kb
        exact kb rfl _ _ _ hM hS (lv_sub hl [0, 1] rfl)
      · skip
        have hs : lpX3_lineFor_8 u (v, ln) = (2, (fX3_holds v ln).2, ln) := by rw [lpX3_lineFor_8, if_neg c_26, if_pos c_34]
        rw [hs] at k2
        exact k2 (show ¬ (2 : Nat) = 0 by decide) (show ¬ (2 : Nat) = 1 by decide) _ _ _ hM hS (lv_sub hl [0, 1] rfl)
  · skip
    intro hx_8 H locs ls hM hS hl
    have hM : MW D cA o (lpX3_lineFor_8_r u).2.1 H := hM
    have hl : lv_has ls 2 [(1, .int ((lpX3_lineFor_8_r u).2.2)), (0, .ref o)] := hl
    have hx_8 : (lpX3_lineFor_8_r u).1 = 1 := hx_8
    refine lv_iconst (v := (-1)) hx hb dX3_lineFor_45 (by decide) ?_
    have hF : fX3_lineFor u = ((-1), (lpX3_lineFor_8_r u).2.1) := by rw [fX3_lineFor, if_pos hx_8]
    exact mw_iret hx hb hr hlk hM hS (by rw [hF]) (by rw [hF]) dX3_lineFor_46
  · skip
    intro hx_8 H locs ls hM hS hl
    have hM : MW D cA o (lpX3_lineFor_8_r u).2.1 H := hM
    have hl : lv_has ls 2 [(1, .int ((lpX3_lineFor_8_r u).2.2)), (0, .ref o)] := hl
    have hx_8 : ¬ (lpX3_lineFor_8_r u).1 = 1 := hx_8
    refine lv_iload_n hx hb dX3_lineFor_37 rfl (lv_at hl 0 rfl) ?_
    have hF : fX3_lineFor u = ((lpX3_lineFor_8_r u).2.2, (lpX3_lineFor_8_r u).2.1) := by rw [fX3_lineFor, if_neg hx_8]
    exact mw_iret hx hb hr hlk hM hS (by rw [hF]) (by rw [hF]) dX3_lineFor_38

def fX3_lk0 (u : St) (cl : Int32) (k : Int32) : St :=
  ((fX3_loose u (u.2.1 48 cl.toNatClampNeg) k).2)
def fX3_lk1 (u : St) (cl : Int32) (k : Int32) : St :=
  ((fX3_follow (fX3_lk0 u cl k) ((fX3_lk0 u cl k).2.1 9 (((fX3_lk0 u cl k).2.1 48 cl.toNatClampNeg).toNatClampNeg)) k k).2)
def lpX3_look_65 (u : St) (cl : Int32) (k : Int32) : Int32 × Int32 × Int32 × Int32 → Nat × Int32 × Int32 × Int32 × Int32
  | (cm, hn, bd, ix) => if ((fX3_lk1 u cl k).1 20) ≤ ix then (1, cm, hn, bd, ix) else (if ((fX3_lk1 u cl k).2.1 17 ix.toNatClampNeg) = ((fX3_lk0 u cl k).2.1 48 cl.toNatClampNeg) then (0, cm, hn, 1, ix + 1) else (if bd = 0 then (if ((fX3_lk1 u cl k).2.1 18 (((fX3_lk1 u cl k).2.1 17 ix.toNatClampNeg).toNatClampNeg)) = 0 then (if ((fX3_lk1 u cl k).2.1 11 (((fX3_lk1 u cl k).2.1 17 ix.toNatClampNeg).toNatClampNeg)) = ((fX3_lk1 u cl k).2.1 10 (((fX3_lk0 u cl k).2.1 48 cl.toNatClampNeg).toNatClampNeg)) then (0, (fX3_lk1 u cl k).2.1 12 (((fX3_lk1 u cl k).2.1 17 ix.toNatClampNeg).toNatClampNeg), hn, bd, ix + 1) else (if bd = 0 then (0, cm, hn, bd, ix + 1) else (if ((fX3_lk1 u cl k).2.1 18 (((fX3_lk1 u cl k).2.1 17 ix.toNatClampNeg).toNatClampNeg)) = 0 then (if k < ((fX3_lk1 u cl k).2.1 12 (((fX3_lk1 u cl k).2.1 17 ix.toNatClampNeg).toNatClampNeg)) then (0, cm, hn, bd, ix + 1) else (0, cm, hn + 1, bd, ix + 1)) else (0, cm, hn, bd, ix + 1)))) else (if bd = 0 then (0, cm, hn, bd, ix + 1) else (if ((fX3_lk1 u cl k).2.1 18 (((fX3_lk1 u cl k).2.1 17 ix.toNatClampNeg).toNatClampNeg)) = 0 then (if k < ((fX3_lk1 u cl k).2.1 12 (((fX3_lk1 u cl k).2.1 17 ix.toNatClampNeg).toNatClampNeg)) then (0, cm, hn, bd, ix + 1) else (0, cm, hn + 1, bd, ix + 1)) else (0, cm, hn, bd, ix + 1)))) else (if bd = 0 then (0, cm, hn, bd, ix + 1) else (if ((fX3_lk1 u cl k).2.1 18 (((fX3_lk1 u cl k).2.1 17 ix.toNatClampNeg).toNatClampNeg)) = 0 then (if k < ((fX3_lk1 u cl k).2.1 12 (((fX3_lk1 u cl k).2.1 17 ix.toNatClampNeg).toNatClampNeg)) then (0, cm, hn, bd, ix + 1) else (0, cm, hn + 1, bd, ix + 1)) else (0, cm, hn, bd, ix + 1)))))
def lpX3_look_65_r (u : St) (cl : Int32) (k : Int32) : Nat × Int32 × Int32 × Int32 × Int32 :=
  wh (lpX3_look_65 u cl k) 61 (0, 0, 0, 0)
def fX3_look (u : St) (cl : Int32) (k : Int32) : Bool × St :=
  if cl < 0 then (false, u) else (if (u.1 49) ≤ cl then (false, u) else (if ((fX3_loose u (u.2.1 48 cl.toNatClampNeg) k).1) = 0 then (true, (sa (sa (sa (sa (sa (sa (sa (sa (sa (fX3_lk1 u cl k) 47 0 (b2 (if ((fX3_lk1 u cl k).2.1 13 (((fX3_lk0 u cl k).2.1 48 cl.toNatClampNeg).toNatClampNeg)) = 1 then true else false))) 47 1 (b2 (if ((fX3_lk1 u cl k).2.1 13 (((fX3_lk0 u cl k).2.1 48 cl.toNatClampNeg).toNatClampNeg)) = 2 then true else false))) 47 2 (if (fX3_turned (sa (sa (fX3_lk1 u cl k) 47 0 (b2 (if ((fX3_lk1 u cl k).2.1 13 (((fX3_lk0 u cl k).2.1 48 cl.toNatClampNeg).toNatClampNeg)) = 1 then true else false))) 47 1 (b2 (if ((fX3_lk1 u cl k).2.1 13 (((fX3_lk0 u cl k).2.1 48 cl.toNatClampNeg).toNatClampNeg)) = 2 then true else false))) ((fX3_lk1 u cl k).2.1 14 (((fX3_lk0 u cl k).2.1 48 cl.toNatClampNeg).toNatClampNeg)) (((fX3_lk1 u cl k).2.1 12 (((fX3_lk0 u cl k).2.1 48 cl.toNatClampNeg).toNatClampNeg)) / 365) 99) ≤ 2147483647 then (fX3_turned (sa (sa (fX3_lk1 u cl k) 47 0 (b2 (if ((fX3_lk1 u cl k).2.1 13 (((fX3_lk0 u cl k).2.1 48 cl.toNatClampNeg).toNatClampNeg)) = 1 then true else false))) 47 1 (b2 (if ((fX3_lk1 u cl k).2.1 13 (((fX3_lk0 u cl k).2.1 48 cl.toNatClampNeg).toNatClampNeg)) = 2 then true else false))) ((fX3_lk1 u cl k).2.1 14 (((fX3_lk0 u cl k).2.1 48 cl.toNatClampNeg).toNatClampNeg)) (((fX3_lk1 u cl k).2.1 12 (((fX3_lk0 u cl k).2.1 48 cl.toNatClampNeg).toNatClampNeg)) / 365) 99).toInt32 else 2147483647)) 47 3 ((fX3_lk1 u cl k).2.1 4 (((fX3_lk0 u cl k).2.1 9 (((fX3_lk0 u cl k).2.1 48 cl.toNatClampNeg).toNatClampNeg)).toNatClampNeg))) 47 4 (((fX3_lk1 u cl k).2.1 12 (((fX3_lk0 u cl k).2.1 48 cl.toNatClampNeg).toNatClampNeg)) / 365)) 47 5 ((((fX3_lk1 u cl k).2.1 12 (((fX3_lk0 u cl k).2.1 48 cl.toNatClampNeg).toNatClampNeg)) - ((lpX3_look_65_r u cl k).2.1)) / 365)) 47 6 ((lpX3_look_65_r u cl k).2.2.1)) 47 7 (b2 (if ((fX3_follow (fX3_lk0 u cl k) ((fX3_lk0 u cl k).2.1 9 (((fX3_lk0 u cl k).2.1 48 cl.toNatClampNeg).toNatClampNeg)) k k).1) = ((fX3_lk1 u cl k).2.1 11 (((fX3_lk0 u cl k).2.1 48 cl.toNatClampNeg).toNatClampNeg)) then true else false))) 47 8 (b2 (if (fX3_isDead (sa (sa (sa (sa (sa (sa (sa (sa (fX3_lk1 u cl k) 47 0 (b2 (if ((fX3_lk1 u cl k).2.1 13 (((fX3_lk0 u cl k).2.1 48 cl.toNatClampNeg).toNatClampNeg)) = 1 then true else false))) 47 1 (b2 (if ((fX3_lk1 u cl k).2.1 13 (((fX3_lk0 u cl k).2.1 48 cl.toNatClampNeg).toNatClampNeg)) = 2 then true else false))) 47 2 (if (fX3_turned (sa (sa (fX3_lk1 u cl k) 47 0 (b2 (if ((fX3_lk1 u cl k).2.1 13 (((fX3_lk0 u cl k).2.1 48 cl.toNatClampNeg).toNatClampNeg)) = 1 then true else false))) 47 1 (b2 (if ((fX3_lk1 u cl k).2.1 13 (((fX3_lk0 u cl k).2.1 48 cl.toNatClampNeg).toNatClampNeg)) = 2 then true else false))) ((fX3_lk1 u cl k).2.1 14 (((fX3_lk0 u cl k).2.1 48 cl.toNatClampNeg).toNatClampNeg)) (((fX3_lk1 u cl k).2.1 12 (((fX3_lk0 u cl k).2.1 48 cl.toNatClampNeg).toNatClampNeg)) / 365) 99) ≤ 2147483647 then (fX3_turned (sa (sa (fX3_lk1 u cl k) 47 0 (b2 (if ((fX3_lk1 u cl k).2.1 13 (((fX3_lk0 u cl k).2.1 48 cl.toNatClampNeg).toNatClampNeg)) = 1 then true else false))) 47 1 (b2 (if ((fX3_lk1 u cl k).2.1 13 (((fX3_lk0 u cl k).2.1 48 cl.toNatClampNeg).toNatClampNeg)) = 2 then true else false))) ((fX3_lk1 u cl k).2.1 14 (((fX3_lk0 u cl k).2.1 48 cl.toNatClampNeg).toNatClampNeg)) (((fX3_lk1 u cl k).2.1 12 (((fX3_lk0 u cl k).2.1 48 cl.toNatClampNeg).toNatClampNeg)) / 365) 99).toInt32 else 2147483647)) 47 3 ((fX3_lk1 u cl k).2.1 4 (((fX3_lk0 u cl k).2.1 9 (((fX3_lk0 u cl k).2.1 48 cl.toNatClampNeg).toNatClampNeg)).toNatClampNeg))) 47 4 (((fX3_lk1 u cl k).2.1 12 (((fX3_lk0 u cl k).2.1 48 cl.toNatClampNeg).toNatClampNeg)) / 365)) 47 5 ((((fX3_lk1 u cl k).2.1 12 (((fX3_lk0 u cl k).2.1 48 cl.toNatClampNeg).toNatClampNeg)) - ((lpX3_look_65_r u cl k).2.1)) / 365)) 47 6 ((lpX3_look_65_r u cl k).2.2.1)) 47 7 (b2 (if ((fX3_follow (fX3_lk0 u cl k) ((fX3_lk0 u cl k).2.1 9 (((fX3_lk0 u cl k).2.1 48 cl.toNatClampNeg).toNatClampNeg)) k k).1) = ((fX3_lk1 u cl k).2.1 11 (((fX3_lk0 u cl k).2.1 48 cl.toNatClampNeg).toNatClampNeg)) then true else false))) ((fX3_lk1 u cl k).2.1 10 (((fX3_lk0 u cl k).2.1 48 cl.toNatClampNeg).toNatClampNeg)) k) = true then true else false)))) else (false, ((fX3_loose u (u.2.1 48 cl.toNatClampNeg) k).2))))
def okX3_look (u : St) (cl : Int32) (k : Int32) : Prop :=
  ∃ (I_65 : (Int32 × Int32 × Int32 × Int32) → Prop), (¬ (cl < 0) → ¬ ((u.1 49) ≤ cl) → vp_in cl 30) ∧ (¬ (cl < 0) → ¬ ((u.1 49) ≤ cl) → okX3_loose u (u.2.1 48 cl.toNatClampNeg) k) ∧ (¬ (cl < 0) → ¬ ((u.1 49) ≤ cl) → ((fX3_loose u (u.2.1 48 cl.toNatClampNeg) k).1) = 0 → vp_in ((fX3_lk0 u cl k).2.1 48 cl.toNatClampNeg) 60) ∧ (¬ (cl < 0) → ¬ ((u.1 49) ≤ cl) → ((fX3_loose u (u.2.1 48 cl.toNatClampNeg) k).1) = 0 → okX3_follow (fX3_lk0 u cl k) ((fX3_lk0 u cl k).2.1 9 (((fX3_lk0 u cl k).2.1 48 cl.toNatClampNeg).toNatClampNeg)) k k) ∧ (¬ (cl < 0) → ¬ ((u.1 49) ≤ cl) → ((fX3_loose u (u.2.1 48 cl.toNatClampNeg) k).1) = 0 → LOK (lpX3_look_65 u cl k) 61 (0, 0, 0, 0) I_65) ∧ (¬ (cl < 0) → ¬ ((u.1 49) ≤ cl) → ((fX3_loose u (u.2.1 48 cl.toNatClampNeg) k).1) = 0 → ∀ (cm : Int32) (hn : Int32) (bd : Int32) (ix : Int32), I_65 (cm, hn, bd, ix) → ¬ (((fX3_lk1 u cl k).1 20) ≤ ix) → vp_in ix 60) ∧ (¬ (cl < 0) → ¬ ((u.1 49) ≤ cl) → ((fX3_loose u (u.2.1 48 cl.toNatClampNeg) k).1) = 0 → ∀ (cm : Int32) (hn : Int32) (bd : Int32) (ix : Int32), I_65 (cm, hn, bd, ix) → ¬ (((fX3_lk1 u cl k).1 20) ≤ ix) → ¬ (((fX3_lk1 u cl k).2.1 17 ix.toNatClampNeg) = ((fX3_lk0 u cl k).2.1 48 cl.toNatClampNeg)) → ¬ (bd = 0) → ¬ (bd = 0) → vp_in ((fX3_lk1 u cl k).2.1 17 ix.toNatClampNeg) 60) ∧ (¬ (cl < 0) → ¬ ((u.1 49) ≤ cl) → ((fX3_loose u (u.2.1 48 cl.toNatClampNeg) k).1) = 0 → ∀ (cm : Int32) (hn : Int32) (bd : Int32) (ix : Int32), I_65 (cm, hn, bd, ix) → ¬ (((fX3_lk1 u cl k).1 20) ≤ ix) → ¬ (((fX3_lk1 u cl k).2.1 17 ix.toNatClampNeg) = ((fX3_lk0 u cl k).2.1 48 cl.toNatClampNeg)) → bd = 0 → vp_in ((fX3_lk1 u cl k).2.1 17 ix.toNatClampNeg) 60) ∧ (¬ (cl < 0) → ¬ ((u.1 49) ≤ cl) → ((fX3_loose u (u.2.1 48 cl.toNatClampNeg) k).1) = 0 → okX3_turned (sa (sa (fX3_lk1 u cl k) 47 0 (b2 (if ((fX3_lk1 u cl k).2.1 13 (((fX3_lk0 u cl k).2.1 48 cl.toNatClampNeg).toNatClampNeg)) = 1 then true else false))) 47 1 (b2 (if ((fX3_lk1 u cl k).2.1 13 (((fX3_lk0 u cl k).2.1 48 cl.toNatClampNeg).toNatClampNeg)) = 2 then true else false))) ((fX3_lk1 u cl k).2.1 14 (((fX3_lk0 u cl k).2.1 48 cl.toNatClampNeg).toNatClampNeg)) (((fX3_lk1 u cl k).2.1 12 (((fX3_lk0 u cl k).2.1 48 cl.toNatClampNeg).toNatClampNeg)) / 365) 99) ∧ (¬ (cl < 0) → ¬ ((u.1 49) ≤ cl) → ((fX3_loose u (u.2.1 48 cl.toNatClampNeg) k).1) = 0 → vp_in ((fX3_lk0 u cl k).2.1 9 (((fX3_lk0 u cl k).2.1 48 cl.toNatClampNeg).toNatClampNeg)) 8) ∧ (¬ (cl < 0) → ¬ ((u.1 49) ≤ cl) → ((fX3_loose u (u.2.1 48 cl.toNatClampNeg) k).1) = 0 → okX3_isDead (sa (sa (sa (sa (sa (sa (sa (sa (fX3_lk1 u cl k) 47 0 (b2 (if ((fX3_lk1 u cl k).2.1 13 (((fX3_lk0 u cl k).2.1 48 cl.toNatClampNeg).toNatClampNeg)) = 1 then true else false))) 47 1 (b2 (if ((fX3_lk1 u cl k).2.1 13 (((fX3_lk0 u cl k).2.1 48 cl.toNatClampNeg).toNatClampNeg)) = 2 then true else false))) 47 2 (if (fX3_turned (sa (sa (fX3_lk1 u cl k) 47 0 (b2 (if ((fX3_lk1 u cl k).2.1 13 (((fX3_lk0 u cl k).2.1 48 cl.toNatClampNeg).toNatClampNeg)) = 1 then true else false))) 47 1 (b2 (if ((fX3_lk1 u cl k).2.1 13 (((fX3_lk0 u cl k).2.1 48 cl.toNatClampNeg).toNatClampNeg)) = 2 then true else false))) ((fX3_lk1 u cl k).2.1 14 (((fX3_lk0 u cl k).2.1 48 cl.toNatClampNeg).toNatClampNeg)) (((fX3_lk1 u cl k).2.1 12 (((fX3_lk0 u cl k).2.1 48 cl.toNatClampNeg).toNatClampNeg)) / 365) 99) ≤ 2147483647 then (fX3_turned (sa (sa (fX3_lk1 u cl k) 47 0 (b2 (if ((fX3_lk1 u cl k).2.1 13 (((fX3_lk0 u cl k).2.1 48 cl.toNatClampNeg).toNatClampNeg)) = 1 then true else false))) 47 1 (b2 (if ((fX3_lk1 u cl k).2.1 13 (((fX3_lk0 u cl k).2.1 48 cl.toNatClampNeg).toNatClampNeg)) = 2 then true else false))) ((fX3_lk1 u cl k).2.1 14 (((fX3_lk0 u cl k).2.1 48 cl.toNatClampNeg).toNatClampNeg)) (((fX3_lk1 u cl k).2.1 12 (((fX3_lk0 u cl k).2.1 48 cl.toNatClampNeg).toNatClampNeg)) / 365) 99).toInt32 else 2147483647)) 47 3 ((fX3_lk1 u cl k).2.1 4 (((fX3_lk0 u cl k).2.1 9 (((fX3_lk0 u cl k).2.1 48 cl.toNatClampNeg).toNatClampNeg)).toNatClampNeg))) 47 4 (((fX3_lk1 u cl k).2.1 12 (((fX3_lk0 u cl k).2.1 48 cl.toNatClampNeg).toNatClampNeg)) / 365)) 47 5 ((((fX3_lk1 u cl k).2.1 12 (((fX3_lk0 u cl k).2.1 48 cl.toNatClampNeg).toNatClampNeg)) - ((lpX3_look_65_r u cl k).2.1)) / 365)) 47 6 ((lpX3_look_65_r u cl k).2.2.1)) 47 7 (b2 (if ((fX3_follow (fX3_lk0 u cl k) ((fX3_lk0 u cl k).2.1 9 (((fX3_lk0 u cl k).2.1 48 cl.toNatClampNeg).toNatClampNeg)) k k).1) = ((fX3_lk1 u cl k).2.1 11 (((fX3_lk0 u cl k).2.1 48 cl.toNatClampNeg).toNatClampNeg)) then true else false))) ((fX3_lk1 u cl k).2.1 10 (((fX3_lk0 u cl k).2.1 48 cl.toNatClampNeg).toNatClampNeg)) k)
set_option maxHeartbeats 4000000 in
theorem metX3_look (l : Launch) (D : va_G) (cA : Nat → ClassId) (o : Nat) (u : St) (cl : Int32) (k : Int32) (hok : okX3_look u cl k) : MetM l yX3_look cX3_look 11 (some .boolean) 3 D cA o u [.ref o, .int cl, .int k] (some (.int (b2 (fX3_look u cl k).1))) (fX3_look u cl k).2 := by
  obtain ⟨I_65, hN0, hN1, hN2, hN3, hN4, hN5, hN6, hN7, hN8, hN9, hN10⟩ := hok
  refine mM_start RX3 (by decide) rfl (Nat.le_of_ble_eq_true rfl) ?_
  intro pg ev s0 mi bl me co hx hb hml hown hts hr hlk hK hM ls hl
  have hl : lv_has ls 11 [(0, .ref o), (1, .int cl), (2, .int k)] := hl
  have hS : va_S (mA o) s0.heap s0.heap [] := va_S.rf
  refine lv_iload_n hx hb dX3_look_0 rfl (lv_at hl 1 rfl) ?_
  refine lv_if_lt (tgt := 26) hx hb dX3_look_1 (by decide) (fun c_1 => ?_) (fun c_1 => ?_)
  · skip
    refine lv_iconst (v := 0) hx hb dX3_look_26 (by decide) ?_
    have hF : fX3_look u cl k = (false, u) := by rw [fX3_look, if_pos c_1]
    exact mw_zret hx hb hr hlk hM hS (by rw [hF]; rfl) (by rw [hF]) dX3_look_27
  · skip
    refine lv_iload_n hx hb dX3_look_4 rfl (lv_at hl 1 rfl) ?_
    refine lv_aload_n hx hb dX3_look_5 rfl (lv_at hl 0 rfl) ?_
    refine mw_get (v := .int (u.1 49)) hx hb hts hown hK hM 49 (by decide) q1315 rfl rfl dX3_look_6 ?_
    refine lv_icmp_ge (tgt := 26) hx hb dX3_look_9 (by decide) (fun c_9 => ?_) (fun c_9 => ?_)
    · skip
      refine lv_iconst (v := 0) hx hb dX3_look_26 (by decide) ?_
      have hF : fX3_look u cl k = (false, u) := by rw [fX3_look, if_neg c_1, if_pos c_9]
      exact mw_zret hx hb hr hlk hM hS (by rw [hF]; rfl) (by rw [hF]) dX3_look_27
    · skip
      refine lv_aload_n hx hb dX3_look_12 rfl (lv_at hl 0 rfl) ?_
      refine lv_aload_n hx hb dX3_look_13 rfl (lv_at hl 0 rfl) ?_
      refine mw_get (v := .ref (mAd o 48)) hx hb hts hown hK hM 48 (by decide) q1314 rfl rfl dX3_look_14 ?_
      refine lv_iload_n hx hb dX3_look_17 rfl (lv_at hl 1 rfl) ?_
      refine mw_ild (v := u.2.1 48 cl.toNatClampNeg) (j := cl.toNatClampNeg) hx hb hK hM 48 (by decide) rfl rfl (hN0 c_1 c_9) rfl rfl dX3_look_18 ?_
      refine lv_iload_n hx hb dX3_look_19 rfl (lv_at hl 2 rfl) ?_
      refine mw_call (mw_run (n := 2) (As := [.int (u.2.1 48 cl.toNatClampNeg), .int k]) (rest := []) hx hb hml hown hts (metX3_loose l D cA o u (u.2.1 48 cl.toNatClampNeg) k (hN1 c_1 c_9)) q1623 q1508 q1509 q1510 (by decide +kernel) (by decide) (by decide) rfl hK hM hl.1 (Nat.le_of_ble_eq_true rfl) rfl dX3_look_20 ⟨Nat.le_refl _, Nat.le_refl _⟩) hS (fun _ h => h) (fun H locs hM _ _ hS => ?_)
      refine lv_if_eq (tgt := 28) hx hb dX3_look_23 (by decide) (fun c_23 => ?_) (fun c_23 => ?_)
      · skip
        have hM : MW D cA o (fX3_lk0 u cl k) _ := hM
        refine lv_aload_n hx hb dX3_look_28 rfl (lv_at hl 0 rfl) ?_
        refine mw_get (v := .ref (mAd o 48)) hx hb hts hown hK hM 48 (by decide) q1314 rfl rfl dX3_look_29 ?_
        refine lv_iload_n hx hb dX3_look_32 rfl (lv_at hl 1 rfl) ?_
        refine mw_ild (v := (fX3_lk0 u cl k).2.1 48 cl.toNatClampNeg) (j := cl.toNatClampNeg) hx hb hK hM 48 (by decide) rfl rfl (hN0 c_1 c_9) rfl rfl dX3_look_33 ?_
        refine lv_istore_n (lv' := [(3, .int ((fX3_lk0 u cl k).2.1 48 cl.toNatClampNeg)), (0, .ref o), (1, .int cl), (2, .int k)]) hx hb dX3_look_34 rfl hl (by decide) rfl (fun ls hl => ?_)
        refine lv_aload_n hx hb dX3_look_35 rfl (lv_at hl 1 rfl) ?_
        refine mw_get (v := .ref (mAd o 9)) hx hb hts hown hK hM 9 (by decide) q1275 rfl rfl dX3_look_36 ?_
        refine lv_iload_n hx hb dX3_look_39 rfl (lv_at hl 0 rfl) ?_
        refine mw_ild (v := (fX3_lk0 u cl k).2.1 9 (((fX3_lk0 u cl k).2.1 48 cl.toNatClampNeg).toNatClampNeg)) (j := ((fX3_lk0 u cl k).2.1 48 cl.toNatClampNeg).toNatClampNeg) hx hb hK hM 9 (by decide) rfl rfl (hN2 c_1 c_9 c_23) rfl rfl dX3_look_40 ?_
        refine lv_istore (lv' := [(4, .int ((fX3_lk0 u cl k).2.1 9 (((fX3_lk0 u cl k).2.1 48 cl.toNatClampNeg).toNatClampNeg))), (3, .int ((fX3_lk0 u cl k).2.1 48 cl.toNatClampNeg)), (0, .ref o), (1, .int cl), (2, .int k)]) hx hb dX3_look_41 hl (by decide) rfl (fun ls hl => ?_)
        refine lv_aload_n hx hb dX3_look_43 rfl (lv_at hl 2 rfl) ?_
        refine lv_iload hx hb dX3_look_44 (lv_at hl 0 rfl) ?_
        refine lv_iload_n hx hb dX3_look_46 rfl (lv_at hl 4 rfl) ?_
        refine lv_iload_n hx hb dX3_look_47 rfl (lv_at hl 4 rfl) ?_
        refine mw_call (mw_run (n := 3) (As := [.int ((fX3_lk0 u cl k).2.1 9 (((fX3_lk0 u cl k).2.1 48 cl.toNatClampNeg).toNatClampNeg)), .int k, .int k]) (rest := []) hx hb hml hown hts (metX3_follow l D cA o (fX3_lk0 u cl k) ((fX3_lk0 u cl k).2.1 9 (((fX3_lk0 u cl k).2.1 48 cl.toNatClampNeg).toNatClampNeg)) k k (hN3 c_1 c_9 c_23)) q1499 q1501 qs35 q1502 (by decide +kernel) (by decide) (by decide) rfl hK hM hl.1 (Nat.le_of_ble_eq_true rfl) rfl dX3_look_48 ⟨Nat.le_refl _, Nat.le_refl _⟩) hS (fun _ h => h) (fun H locs hM _ _ hS => ?_)
        have hM : MW D cA o (fX3_lk1 u cl k) _ := hM
        refine lv_istore (lv' := [(5, .int ((fX3_follow (fX3_lk0 u cl k) ((fX3_lk0 u cl k).2.1 9 (((fX3_lk0 u cl k).2.1 48 cl.toNatClampNeg).toNatClampNeg)) k k).1)), (4, .int ((fX3_lk0 u cl k).2.1 9 (((fX3_lk0 u cl k).2.1 48 cl.toNatClampNeg).toNatClampNeg))), (3, .int ((fX3_lk0 u cl k).2.1 48 cl.toNatClampNeg)), (0, .ref o), (1, .int cl), (2, .int k)]) hx hb dX3_look_51 hl (by decide) rfl (fun ls hl => ?_)
        refine lv_iconst (v := 0) hx hb dX3_look_53 (by decide) ?_
        refine lv_istore (lv' := [(6, .int 0), (5, .int ((fX3_follow (fX3_lk0 u cl k) ((fX3_lk0 u cl k).2.1 9 (((fX3_lk0 u cl k).2.1 48 cl.toNatClampNeg).toNatClampNeg)) k k).1)), (4, .int ((fX3_lk0 u cl k).2.1 9 (((fX3_lk0 u cl k).2.1 48 cl.toNatClampNeg).toNatClampNeg))), (3, .int ((fX3_lk0 u cl k).2.1 48 cl.toNatClampNeg)), (0, .ref o), (1, .int cl), (2, .int k)]) hx hb dX3_look_54 hl (by decide) rfl (fun ls hl => ?_)
        refine lv_iconst (v := 0) hx hb dX3_look_56 (by decide) ?_
        refine lv_istore (lv' := [(7, .int 0), (6, .int 0), (5, .int ((fX3_follow (fX3_lk0 u cl k) ((fX3_lk0 u cl k).2.1 9 (((fX3_lk0 u cl k).2.1 48 cl.toNatClampNeg).toNatClampNeg)) k k).1)), (4, .int ((fX3_lk0 u cl k).2.1 9 (((fX3_lk0 u cl k).2.1 48 cl.toNatClampNeg).toNatClampNeg))), (3, .int ((fX3_lk0 u cl k).2.1 48 cl.toNatClampNeg)), (0, .ref o), (1, .int cl), (2, .int k)]) hx hb dX3_look_57 hl (by decide) rfl (fun ls hl => ?_)
        refine lv_iconst (v := 0) hx hb dX3_look_59 (by decide) ?_
        refine lv_istore (lv' := [(8, .int 0), (7, .int 0), (6, .int 0), (5, .int ((fX3_follow (fX3_lk0 u cl k) ((fX3_lk0 u cl k).2.1 9 (((fX3_lk0 u cl k).2.1 48 cl.toNatClampNeg).toNatClampNeg)) k k).1)), (4, .int ((fX3_lk0 u cl k).2.1 9 (((fX3_lk0 u cl k).2.1 48 cl.toNatClampNeg).toNatClampNeg))), (3, .int ((fX3_lk0 u cl k).2.1 48 cl.toNatClampNeg)), (0, .ref o), (1, .int cl), (2, .int k)]) hx hb dX3_look_60 hl (by decide) rfl (fun ls hl => ?_)
        refine lv_iconst (v := 0) hx hb dX3_look_62 (by decide) ?_
        refine lv_istore (lv' := [(9, .int 0), (8, .int 0), (7, .int 0), (6, .int 0), (5, .int ((fX3_follow (fX3_lk0 u cl k) ((fX3_lk0 u cl k).2.1 9 (((fX3_lk0 u cl k).2.1 48 cl.toNatClampNeg).toNatClampNeg)) k k).1)), (4, .int ((fX3_lk0 u cl k).2.1 9 (((fX3_lk0 u cl k).2.1 48 cl.toNatClampNeg).toNatClampNeg))), (3, .int ((fX3_lk0 u cl k).2.1 48 cl.toNatClampNeg)), (0, .ref o), (1, .int cl), (2, .int k)]) hx hb dX3_look_63 hl (by decide) rfl (fun ls hl => ?_)
        refine r_loop1 (rest := []) (nL := 11) (r := (lpX3_look_65_r u cl k)) (lpX3_look_65 u cl k) I_65 (fun q => [(6, .int q.1), (7, .int q.2.1), (8, .int q.2.2.1), (9, .int q.2.2.2), (5, .int ((fX3_follow (fX3_lk0 u cl k) ((fX3_lk0 u cl k).2.1 9 (((fX3_lk0 u cl k).2.1 48 cl.toNatClampNeg).toNatClampNeg)) k k).1)), (4, .int ((fX3_lk0 u cl k).2.1 9 (((fX3_lk0 u cl k).2.1 48 cl.toNatClampNeg).toNatClampNeg))), (3, .int ((fX3_lk0 u cl k).2.1 48 cl.toNatClampNeg)), (0, .ref o), (1, .int cl), (2, .int k)]) 65 173 61 (0, 0, 0, 0) (hN4 c_1 c_9 c_23).2.1 (hN4 c_1 c_9 c_23).1 (hN4 c_1 c_9 c_23).2.2 rfl ?_ (lv_sub hl [3, 2, 1, 0, 4, 5, 6, 7, 8, 9] rfl) ?_
        · skip
          intro ⟨cm, hn, bd, ix⟩ hI_65 ls hl kb k1
          have hl : lv_has ls 11 [(6, .int cm), (7, .int hn), (8, .int bd), (9, .int ix), (5, .int ((fX3_follow (fX3_lk0 u cl k) ((fX3_lk0 u cl k).2.1 9 (((fX3_lk0 u cl k).2.1 48 cl.toNatClampNeg).toNatClampNeg)) k k).1)), (4, .int ((fX3_lk0 u cl k).2.1 9 (((fX3_lk0 u cl k).2.1 48 cl.toNatClampNeg).toNatClampNeg))), (3, .int ((fX3_lk0 u cl k).2.1 48 cl.toNatClampNeg)), (0, .ref o), (1, .int cl), (2, .int k)] := hl
          refine lv_iload hx hb dX3_look_65 (lv_at hl 3 rfl) ?_
          refine lv_aload_n hx hb dX3_look_67 rfl (lv_at hl 7 rfl) ?_
          refine mw_get (v := .int ((fX3_lk1 u cl k).1 20)) hx hb hts hown hK hM 20 (by decide) q1286 rfl rfl dX3_look_68 ?_
          refine lv_icmp_ge (tgt := 173) hx hb dX3_look_71 (by decide) (fun c_71 => ?_) (fun c_71 => ?_)
          · skip
            have hs : lpX3_look_65 u cl k (cm, hn, bd, ix) = (1, cm, hn, bd, ix) := by rw [lpX3_look_65, if_pos c_71]
            rw [hs] at k1
            exact k1 (show ¬ (1 : Nat) = 0 by decide) _ (lv_sub hl [0, 1, 2, 3, 4, 5, 6, 7, 8, 9] rfl)
          · skip
            refine lv_aload_n hx hb dX3_look_74 rfl (lv_at hl 7 rfl) ?_
            refine mw_get (v := .ref (mAd o 17)) hx hb hts hown hK hM 17 (by decide) q1283 rfl rfl dX3_look_75 ?_
            refine lv_iload hx hb dX3_look_78 (lv_at hl 3 rfl) ?_
            refine mw_ild (v := (fX3_lk1 u cl k).2.1 17 ix.toNatClampNeg) (j := ix.toNatClampNeg) hx hb hK hM 17 (by decide) rfl rfl (hN5 c_1 c_9 c_23 cm hn bd ix hI_65 c_71) rfl rfl dX3_look_80 ?_
            refine lv_istore (lv' := [(10, .int ((fX3_lk1 u cl k).2.1 17 ix.toNatClampNeg)), (6, .int cm), (7, .int hn), (8, .int bd), (9, .int ix), (5, .int ((fX3_follow (fX3_lk0 u cl k) ((fX3_lk0 u cl k).2.1 9 (((fX3_lk0 u cl k).2.1 48 cl.toNatClampNeg).toNatClampNeg)) k k).1)), (4, .int ((fX3_lk0 u cl k).2.1 9 (((fX3_lk0 u cl k).2.1 48 cl.toNatClampNeg).toNatClampNeg))), (3, .int ((fX3_lk0 u cl k).2.1 48 cl.toNatClampNeg)), (0, .ref o), (1, .int cl), (2, .int k)]) hx hb dX3_look_81 hl (by decide) rfl (fun ls hl => ?_)
            refine lv_iload hx hb dX3_look_83 (lv_at hl 0 rfl) ?_
            refine lv_iload_n hx hb dX3_look_85 rfl (lv_at hl 7 rfl) ?_
            refine lv_icmp_ne (tgt := 95) hx hb dX3_look_86 (by decide) (fun c_86 => ?_) (fun c_86 => ?_)
            · skip
              refine lv_iload hx hb dX3_look_95 (lv_at hl 3 rfl) ?_
              refine lv_if_ne (tgt := 138) hx hb dX3_look_97 (by decide) (fun c_97 => ?_) (fun c_97 => ?_)
              · skip
                refine lv_iload hx hb dX3_look_138 (lv_at hl 3 rfl) ?_
                refine lv_if_eq (tgt := 167) hx hb dX3_look_140 (by decide) (fun c_140 => ?_) (fun c_140 => ?_)
                · skip
                  refine lv_iinc (v := ix + 1) (lv' := [(9, .int (ix + 1)), (10, .int ((fX3_lk1 u cl k).2.1 17 ix.toNatClampNeg)), (6, .int cm), (7, .int hn), (8, .int bd), (5, .int ((fX3_follow (fX3_lk0 u cl k) ((fX3_lk0 u cl k).2.1 9 (((fX3_lk0 u cl k).2.1 48 cl.toNatClampNeg).toNatClampNeg)) k k).1)), (4, .int ((fX3_lk0 u cl k).2.1 9 (((fX3_lk0 u cl k).2.1 48 cl.toNatClampNeg).toNatClampNeg))), (3, .int ((fX3_lk0 u cl k).2.1 48 cl.toNatClampNeg)), (0, .ref o), (1, .int cl), (2, .int k)]) hx hb dX3_look_167 hl (k := 4) rfl (rfl) (by decide) rfl (fun ls hl => ?_)
                  refine lv_goto (tgt := 65) hx hb dX3_look_170 (by decide) ?_
                  have hs : lpX3_look_65 u cl k (cm, hn, bd, ix) = (0, cm, hn, bd, ix + 1) := by rw [lpX3_look_65, if_neg c_71, if_neg c_86, if_neg c_97, if_pos c_140]
                  rw [hs] at kb
                  exact kb rfl _ (lv_sub hl [2, 3, 4, 0, 5, 6, 7, 8, 9, 10] rfl)
                · skip
                  refine lv_aload_n hx hb dX3_look_143 rfl (lv_at hl 8 rfl) ?_
                  refine mw_get (v := .ref (mAd o 18)) hx hb hts hown hK hM 18 (by decide) q1284 rfl rfl dX3_look_144 ?_
                  refine lv_iload hx hb dX3_look_147 (lv_at hl 0 rfl) ?_
                  refine mw_zld (v := (fX3_lk1 u cl k).2.1 18 (((fX3_lk1 u cl k).2.1 17 ix.toNatClampNeg).toNatClampNeg)) (j := ((fX3_lk1 u cl k).2.1 17 ix.toNatClampNeg).toNatClampNeg) hx hb hK hM 18 (by decide) rfl rfl (hN6 c_1 c_9 c_23 cm hn bd ix hI_65 c_71 c_86 c_97 c_140) rfl rfl dX3_look_149 ?_
                  refine lv_if_ne (tgt := 167) hx hb dX3_look_150 (by decide) (fun c_150 => ?_) (fun c_150 => ?_)
                  · skip
                    refine lv_iinc (v := ix + 1) (lv' := [(9, .int (ix + 1)), (10, .int ((fX3_lk1 u cl k).2.1 17 ix.toNatClampNeg)), (6, .int cm), (7, .int hn), (8, .int bd), (5, .int ((fX3_follow (fX3_lk0 u cl k) ((fX3_lk0 u cl k).2.1 9 (((fX3_lk0 u cl k).2.1 48 cl.toNatClampNeg).toNatClampNeg)) k k).1)), (4, .int ((fX3_lk0 u cl k).2.1 9 (((fX3_lk0 u cl k).2.1 48 cl.toNatClampNeg).toNatClampNeg))), (3, .int ((fX3_lk0 u cl k).2.1 48 cl.toNatClampNeg)), (0, .ref o), (1, .int cl), (2, .int k)]) hx hb dX3_look_167 hl (k := 4) rfl (rfl) (by decide) rfl (fun ls hl => ?_)
                    refine lv_goto (tgt := 65) hx hb dX3_look_170 (by decide) ?_
                    have hs : lpX3_look_65 u cl k (cm, hn, bd, ix) = (0, cm, hn, bd, ix + 1) := by rw [lpX3_look_65, if_neg c_71, if_neg c_86, if_neg c_97, if_neg c_140, if_neg c_150]
                    rw [hs] at kb
                    exact kb rfl _ (lv_sub hl [2, 3, 4, 0, 5, 6, 7, 8, 9, 10] rfl)
                  · skip
                    refine lv_aload_n hx hb dX3_look_153 rfl (lv_at hl 8 rfl) ?_
                    refine mw_get (v := .ref (mAd o 12)) hx hb hts hown hK hM 12 (by decide) q1278 rfl rfl dX3_look_154 ?_
                    refine lv_iload hx hb dX3_look_157 (lv_at hl 0 rfl) ?_
                    refine mw_ild (v := (fX3_lk1 u cl k).2.1 12 (((fX3_lk1 u cl k).2.1 17 ix.toNatClampNeg).toNatClampNeg)) (j := ((fX3_lk1 u cl k).2.1 17 ix.toNatClampNeg).toNatClampNeg) hx hb hK hM 12 (by decide) rfl rfl (hN6 c_1 c_9 c_23 cm hn bd ix hI_65 c_71 c_86 c_97 c_140) rfl rfl dX3_look_159 ?_
                    refine lv_iload_n hx hb dX3_look_160 rfl (lv_at hl 10 rfl) ?_
                    refine lv_icmp_gt (tgt := 167) hx hb dX3_look_161 (by decide) (fun c_161 => ?_) (fun c_161 => ?_)
                    · skip
                      refine lv_iinc (v := ix + 1) (lv' := [(9, .int (ix + 1)), (10, .int ((fX3_lk1 u cl k).2.1 17 ix.toNatClampNeg)), (6, .int cm), (7, .int hn), (8, .int bd), (5, .int ((fX3_follow (fX3_lk0 u cl k) ((fX3_lk0 u cl k).2.1 9 (((fX3_lk0 u cl k).2.1 48 cl.toNatClampNeg).toNatClampNeg)) k k).1)), (4, .int ((fX3_lk0 u cl k).2.1 9 (((fX3_lk0 u cl k).2.1 48 cl.toNatClampNeg).toNatClampNeg))), (3, .int ((fX3_lk0 u cl k).2.1 48 cl.toNatClampNeg)), (0, .ref o), (1, .int cl), (2, .int k)]) hx hb dX3_look_167 hl (k := 4) rfl (rfl) (by decide) rfl (fun ls hl => ?_)
                      refine lv_goto (tgt := 65) hx hb dX3_look_170 (by decide) ?_
                      have hs : lpX3_look_65 u cl k (cm, hn, bd, ix) = (0, cm, hn, bd, ix + 1) := by rw [lpX3_look_65, if_neg c_71, if_neg c_86, if_neg c_97, if_neg c_140, if_pos c_150, if_pos c_161]
                      rw [hs] at kb
                      exact kb rfl _ (lv_sub hl [2, 3, 4, 0, 5, 6, 7, 8, 9, 10] rfl)
                    · skip
                      refine lv_iinc (v := hn + 1) (lv' := [(7, .int (hn + 1)), (10, .int ((fX3_lk1 u cl k).2.1 17 ix.toNatClampNeg)), (6, .int cm), (8, .int bd), (9, .int ix), (5, .int ((fX3_follow (fX3_lk0 u cl k) ((fX3_lk0 u cl k).2.1 9 (((fX3_lk0 u cl k).2.1 48 cl.toNatClampNeg).toNatClampNeg)) k k).1)), (4, .int ((fX3_lk0 u cl k).2.1 9 (((fX3_lk0 u cl k).2.1 48 cl.toNatClampNeg).toNatClampNeg))), (3, .int ((fX3_lk0 u cl k).2.1 48 cl.toNatClampNeg)), (0, .ref o), (1, .int cl), (2, .int k)]) hx hb dX3_look_164 hl (k := 2) rfl (rfl) (by decide) rfl (fun ls hl => ?_)
                      refine lv_iinc (v := ix + 1) (lv' := [(9, .int (ix + 1)), (7, .int (hn + 1)), (10, .int ((fX3_lk1 u cl k).2.1 17 ix.toNatClampNeg)), (6, .int cm), (8, .int bd), (5, .int ((fX3_follow (fX3_lk0 u cl k) ((fX3_lk0 u cl k).2.1 9 (((fX3_lk0 u cl k).2.1 48 cl.toNatClampNeg).toNatClampNeg)) k k).1)), (4, .int ((fX3_lk0 u cl k).2.1 9 (((fX3_lk0 u cl k).2.1 48 cl.toNatClampNeg).toNatClampNeg))), (3, .int ((fX3_lk0 u cl k).2.1 48 cl.toNatClampNeg)), (0, .ref o), (1, .int cl), (2, .int k)]) hx hb dX3_look_167 hl (k := 4) rfl (rfl) (by decide) rfl (fun ls hl => ?_)
                      refine lv_goto (tgt := 65) hx hb dX3_look_170 (by decide) ?_
                      have hs : lpX3_look_65 u cl k (cm, hn, bd, ix) = (0, cm, hn + 1, bd, ix + 1) := by rw [lpX3_look_65, if_neg c_71, if_neg c_86, if_neg c_97, if_neg c_140, if_pos c_150, if_neg c_161]
                      rw [hs] at kb
                      exact kb rfl _ (lv_sub hl [3, 1, 4, 0, 5, 6, 7, 8, 9, 10] rfl)
              · skip
                refine lv_aload_n hx hb dX3_look_100 rfl (lv_at hl 8 rfl) ?_
                refine mw_get (v := .ref (mAd o 18)) hx hb hts hown hK hM 18 (by decide) q1284 rfl rfl dX3_look_101 ?_
                refine lv_iload hx hb dX3_look_104 (lv_at hl 0 rfl) ?_
                refine mw_zld (v := (fX3_lk1 u cl k).2.1 18 (((fX3_lk1 u cl k).2.1 17 ix.toNatClampNeg).toNatClampNeg)) (j := ((fX3_lk1 u cl k).2.1 17 ix.toNatClampNeg).toNatClampNeg) hx hb hK hM 18 (by decide) rfl rfl (hN7 c_1 c_9 c_23 cm hn bd ix hI_65 c_71 c_86 c_97) rfl rfl dX3_look_106 ?_
                refine lv_if_ne (tgt := 138) hx hb dX3_look_107 (by decide) (fun c_107 => ?_) (fun c_107 => ?_)
                · skip
                  refine lv_iload hx hb dX3_look_138 (lv_at hl 3 rfl) ?_
                  refine lv_if_eq (tgt := 167) hx hb dX3_look_140 (by decide) (fun c_140 => ?_) (fun c_140 => ?_)
                  · skip
                    refine lv_iinc (v := ix + 1) (lv' := [(9, .int (ix + 1)), (10, .int ((fX3_lk1 u cl k).2.1 17 ix.toNatClampNeg)), (6, .int cm), (7, .int hn), (8, .int bd), (5, .int ((fX3_follow (fX3_lk0 u cl k) ((fX3_lk0 u cl k).2.1 9 (((fX3_lk0 u cl k).2.1 48 cl.toNatClampNeg).toNatClampNeg)) k k).1)), (4, .int ((fX3_lk0 u cl k).2.1 9 (((fX3_lk0 u cl k).2.1 48 cl.toNatClampNeg).toNatClampNeg))), (3, .int ((fX3_lk0 u cl k).2.1 48 cl.toNatClampNeg)), (0, .ref o), (1, .int cl), (2, .int k)]) hx hb dX3_look_167 hl (k := 4) rfl (rfl) (by decide) rfl (fun ls hl => ?_)
                    refine lv_goto (tgt := 65) hx hb dX3_look_170 (by decide) ?_
                    have hs : lpX3_look_65 u cl k (cm, hn, bd, ix) = (0, cm, hn, bd, ix + 1) := by rw [lpX3_look_65, if_neg c_71, if_neg c_86, if_pos c_97, if_neg c_107, if_pos c_140]
                    rw [hs] at kb
                    exact kb rfl _ (lv_sub hl [2, 3, 4, 0, 5, 6, 7, 8, 9, 10] rfl)
                  · skip
                    refine lv_aload_n hx hb dX3_look_143 rfl (lv_at hl 8 rfl) ?_
                    refine mw_get (v := .ref (mAd o 18)) hx hb hts hown hK hM 18 (by decide) q1284 rfl rfl dX3_look_144 ?_
                    refine lv_iload hx hb dX3_look_147 (lv_at hl 0 rfl) ?_
                    refine mw_zld (v := (fX3_lk1 u cl k).2.1 18 (((fX3_lk1 u cl k).2.1 17 ix.toNatClampNeg).toNatClampNeg)) (j := ((fX3_lk1 u cl k).2.1 17 ix.toNatClampNeg).toNatClampNeg) hx hb hK hM 18 (by decide) rfl rfl (hN7 c_1 c_9 c_23 cm hn bd ix hI_65 c_71 c_86 c_97) rfl rfl dX3_look_149 ?_
                    refine lv_if_ne (tgt := 167) hx hb dX3_look_150 (by decide) (fun c_150 => ?_) (fun c_150 => ?_)
                    · skip
                      refine lv_iinc (v := ix + 1) (lv' := [(9, .int (ix + 1)), (10, .int ((fX3_lk1 u cl k).2.1 17 ix.toNatClampNeg)), (6, .int cm), (7, .int hn), (8, .int bd), (5, .int ((fX3_follow (fX3_lk0 u cl k) ((fX3_lk0 u cl k).2.1 9 (((fX3_lk0 u cl k).2.1 48 cl.toNatClampNeg).toNatClampNeg)) k k).1)), (4, .int ((fX3_lk0 u cl k).2.1 9 (((fX3_lk0 u cl k).2.1 48 cl.toNatClampNeg).toNatClampNeg))), (3, .int ((fX3_lk0 u cl k).2.1 48 cl.toNatClampNeg)), (0, .ref o), (1, .int cl), (2, .int k)]) hx hb dX3_look_167 hl (k := 4) rfl (rfl) (by decide) rfl (fun ls hl => ?_)
                      refine lv_goto (tgt := 65) hx hb dX3_look_170 (by decide) ?_
                      have hs : lpX3_look_65 u cl k (cm, hn, bd, ix) = (0, cm, hn, bd, ix + 1) := by rw [lpX3_look_65, if_neg c_71, if_neg c_86, if_pos c_97, if_neg c_107, if_neg c_140, if_neg c_150]
                      rw [hs] at kb
                      exact kb rfl _ (lv_sub hl [2, 3, 4, 0, 5, 6, 7, 8, 9, 10] rfl)
                    · skip
                      refine lv_aload_n hx hb dX3_look_153 rfl (lv_at hl 8 rfl) ?_
                      refine mw_get (v := .ref (mAd o 12)) hx hb hts hown hK hM 12 (by decide) q1278 rfl rfl dX3_look_154 ?_
                      refine lv_iload hx hb dX3_look_157 (lv_at hl 0 rfl) ?_
                      refine mw_ild (v := (fX3_lk1 u cl k).2.1 12 (((fX3_lk1 u cl k).2.1 17 ix.toNatClampNeg).toNatClampNeg)) (j := ((fX3_lk1 u cl k).2.1 17 ix.toNatClampNeg).toNatClampNeg) hx hb hK hM 12 (by decide) rfl rfl (hN7 c_1 c_9 c_23 cm hn bd ix hI_65 c_71 c_86 c_97) rfl rfl dX3_look_159 ?_
                      refine lv_iload_n hx hb dX3_look_160 rfl (lv_at hl 10 rfl) ?_
                      refine lv_icmp_gt (tgt := 167) hx hb dX3_look_161 (by decide) (fun c_161 => ?_) (fun c_161 => ?_)
                      · skip
                        refine lv_iinc (v := ix + 1) (lv' := [(9, .int (ix + 1)), (10, .int ((fX3_lk1 u cl k).2.1 17 ix.toNatClampNeg)), (6, .int cm), (7, .int hn), (8, .int bd), (5, .int ((fX3_follow (fX3_lk0 u cl k) ((fX3_lk0 u cl k).2.1 9 (((fX3_lk0 u cl k).2.1 48 cl.toNatClampNeg).toNatClampNeg)) k k).1)), (4, .int ((fX3_lk0 u cl k).2.1 9 (((fX3_lk0 u cl k).2.1 48 cl.toNatClampNeg).toNatClampNeg))), (3, .int ((fX3_lk0 u cl k).2.1 48 cl.toNatClampNeg)), (0, .ref o), (1, .int cl), (2, .int k)]) hx hb dX3_look_167 hl (k := 4) rfl (rfl) (by decide) rfl (fun ls hl => ?_)
                        refine lv_goto (tgt := 65) hx hb dX3_look_170 (by decide) ?_
                        have hs : lpX3_look_65 u cl k (cm, hn, bd, ix) = (0, cm, hn, bd, ix + 1) := by rw [lpX3_look_65, if_neg c_71, if_neg c_86, if_pos c_97, if_neg c_107, if_neg c_140, if_pos c_150, if_pos c_161]
                        rw [hs] at kb
                        exact kb rfl _ (lv_sub hl [2, 3, 4, 0, 5, 6, 7, 8, 9, 10] rfl)
                      · skip
                        refine lv_iinc (v := hn + 1) (lv' := [(7, .int (hn + 1)), (10, .int ((fX3_lk1 u cl k).2.1 17 ix.toNatClampNeg)), (6, .int cm), (8, .int bd), (9, .int ix), (5, .int ((fX3_follow (fX3_lk0 u cl k) ((fX3_lk0 u cl k).2.1 9 (((fX3_lk0 u cl k).2.1 48 cl.toNatClampNeg).toNatClampNeg)) k k).1)), (4, .int ((fX3_lk0 u cl k).2.1 9 (((fX3_lk0 u cl k).2.1 48 cl.toNatClampNeg).toNatClampNeg))), (3, .int ((fX3_lk0 u cl k).2.1 48 cl.toNatClampNeg)), (0, .ref o), (1, .int cl), (2, .int k)]) hx hb dX3_look_164 hl (k := 2) rfl (rfl) (by decide) rfl (fun ls hl => ?_)
                        refine lv_iinc (v := ix + 1) (lv' := [(9, .int (ix + 1)), (7, .int (hn + 1)), (10, .int ((fX3_lk1 u cl k).2.1 17 ix.toNatClampNeg)), (6, .int cm), (8, .int bd), (5, .int ((fX3_follow (fX3_lk0 u cl k) ((fX3_lk0 u cl k).2.1 9 (((fX3_lk0 u cl k).2.1 48 cl.toNatClampNeg).toNatClampNeg)) k k).1)), (4, .int ((fX3_lk0 u cl k).2.1 9 (((fX3_lk0 u cl k).2.1 48 cl.toNatClampNeg).toNatClampNeg))), (3, .int ((fX3_lk0 u cl k).2.1 48 cl.toNatClampNeg)), (0, .ref o), (1, .int cl), (2, .int k)]) hx hb dX3_look_167 hl (k := 4) rfl (rfl) (by decide) rfl (fun ls hl => ?_)
                        refine lv_goto (tgt := 65) hx hb dX3_look_170 (by decide) ?_
                        have hs : lpX3_look_65 u cl k (cm, hn, bd, ix) = (0, cm, hn + 1, bd, ix + 1) := by rw [lpX3_look_65, if_neg c_71, if_neg c_86, if_pos c_97, if_neg c_107, if_neg c_140, if_pos c_150, if_neg c_161]
                        rw [hs] at kb
                        exact kb rfl _ (lv_sub hl [3, 1, 4, 0, 5, 6, 7, 8, 9, 10] rfl)
                · skip
                  refine lv_aload_n hx hb dX3_look_110 rfl (lv_at hl 8 rfl) ?_
                  refine mw_get (v := .ref (mAd o 11)) hx hb hts hown hK hM 11 (by decide) q1277 rfl rfl dX3_look_111 ?_
                  refine lv_iload hx hb dX3_look_114 (lv_at hl 0 rfl) ?_
                  refine mw_ild (v := (fX3_lk1 u cl k).2.1 11 (((fX3_lk1 u cl k).2.1 17 ix.toNatClampNeg).toNatClampNeg)) (j := ((fX3_lk1 u cl k).2.1 17 ix.toNatClampNeg).toNatClampNeg) hx hb hK hM 11 (by decide) rfl rfl (hN7 c_1 c_9 c_23 cm hn bd ix hI_65 c_71 c_86 c_97) rfl rfl dX3_look_116 ?_
                  refine lv_aload_n hx hb dX3_look_117 rfl (lv_at hl 8 rfl) ?_
                  refine mw_get (v := .ref (mAd o 10)) hx hb hts hown hK hM 10 (by decide) q1276 rfl rfl dX3_look_118 ?_
                  refine lv_iload_n hx hb dX3_look_121 rfl (lv_at hl 7 rfl) ?_
                  refine mw_ild (v := (fX3_lk1 u cl k).2.1 10 (((fX3_lk0 u cl k).2.1 48 cl.toNatClampNeg).toNatClampNeg)) (j := ((fX3_lk0 u cl k).2.1 48 cl.toNatClampNeg).toNatClampNeg) hx hb hK hM 10 (by decide) rfl rfl (hN2 c_1 c_9 c_23) rfl rfl dX3_look_122 ?_
                  refine lv_icmp_ne (tgt := 138) hx hb dX3_look_123 (by decide) (fun c_123 => ?_) (fun c_123 => ?_)
                  · skip
                    refine lv_iload hx hb dX3_look_138 (lv_at hl 3 rfl) ?_
                    refine lv_if_eq (tgt := 167) hx hb dX3_look_140 (by decide) (fun c_140 => ?_) (fun c_140 => ?_)
                    · skip
                      refine lv_iinc (v := ix + 1) (lv' := [(9, .int (ix + 1)), (10, .int ((fX3_lk1 u cl k).2.1 17 ix.toNatClampNeg)), (6, .int cm), (7, .int hn), (8, .int bd), (5, .int ((fX3_follow (fX3_lk0 u cl k) ((fX3_lk0 u cl k).2.1 9 (((fX3_lk0 u cl k).2.1 48 cl.toNatClampNeg).toNatClampNeg)) k k).1)), (4, .int ((fX3_lk0 u cl k).2.1 9 (((fX3_lk0 u cl k).2.1 48 cl.toNatClampNeg).toNatClampNeg))), (3, .int ((fX3_lk0 u cl k).2.1 48 cl.toNatClampNeg)), (0, .ref o), (1, .int cl), (2, .int k)]) hx hb dX3_look_167 hl (k := 4) rfl (rfl) (by decide) rfl (fun ls hl => ?_)
                      refine lv_goto (tgt := 65) hx hb dX3_look_170 (by decide) ?_
                      have hs : lpX3_look_65 u cl k (cm, hn, bd, ix) = (0, cm, hn, bd, ix + 1) := by rw [lpX3_look_65, if_neg c_71, if_neg c_86, if_pos c_97, if_pos c_107, if_neg c_123, if_pos c_140]
                      rw [hs] at kb
                      exact kb rfl _ (lv_sub hl [2, 3, 4, 0, 5, 6, 7, 8, 9, 10] rfl)
                    · skip
                      refine lv_aload_n hx hb dX3_look_143 rfl (lv_at hl 8 rfl) ?_
                      refine mw_get (v := .ref (mAd o 18)) hx hb hts hown hK hM 18 (by decide) q1284 rfl rfl dX3_look_144 ?_
                      refine lv_iload hx hb dX3_look_147 (lv_at hl 0 rfl) ?_
                      refine mw_zld (v := (fX3_lk1 u cl k).2.1 18 (((fX3_lk1 u cl k).2.1 17 ix.toNatClampNeg).toNatClampNeg)) (j := ((fX3_lk1 u cl k).2.1 17 ix.toNatClampNeg).toNatClampNeg) hx hb hK hM 18 (by decide) rfl rfl (hN7 c_1 c_9 c_23 cm hn bd ix hI_65 c_71 c_86 c_97) rfl rfl dX3_look_149 ?_
                      refine lv_if_ne (tgt := 167) hx hb dX3_look_150 (by decide) (fun c_150 => ?_) (fun c_150 => ?_)
                      · skip
                        refine lv_iinc (v := ix + 1) (lv' := [(9, .int (ix + 1)), (10, .int ((fX3_lk1 u cl k).2.1 17 ix.toNatClampNeg)), (6, .int cm), (7, .int hn), (8, .int bd), (5, .int ((fX3_follow (fX3_lk0 u cl k) ((fX3_lk0 u cl k).2.1 9 (((fX3_lk0 u cl k).2.1 48 cl.toNatClampNeg).toNatClampNeg)) k k).1)), (4, .int ((fX3_lk0 u cl k).2.1 9 (((fX3_lk0 u cl k).2.1 48 cl.toNatClampNeg).toNatClampNeg))), (3, .int ((fX3_lk0 u cl k).2.1 48 cl.toNatClampNeg)), (0, .ref o), (1, .int cl), (2, .int k)]) hx hb dX3_look_167 hl (k := 4) rfl (rfl) (by decide) rfl (fun ls hl => ?_)
                        refine lv_goto (tgt := 65) hx hb dX3_look_170 (by decide) ?_
                        have hs : lpX3_look_65 u cl k (cm, hn, bd, ix) = (0, cm, hn, bd, ix + 1) := by rw [lpX3_look_65, if_neg c_71, if_neg c_86, if_pos c_97, if_pos c_107, if_neg c_123, if_neg c_140, if_neg c_150]
                        rw [hs] at kb
                        exact kb rfl _ (lv_sub hl [2, 3, 4, 0, 5, 6, 7, 8, 9, 10] rfl)
                      · skip
                        refine lv_aload_n hx hb dX3_look_153 rfl (lv_at hl 8 rfl) ?_
                        refine mw_get (v := .ref (mAd o 12)) hx hb hts hown hK hM 12 (by decide) q1278 rfl rfl dX3_look_154 ?_
                        refine lv_iload hx hb dX3_look_157 (lv_at hl 0 rfl) ?_
                        refine mw_ild (v := (fX3_lk1 u cl k).2.1 12 (((fX3_lk1 u cl k).2.1 17 ix.toNatClampNeg).toNatClampNeg)) (j := ((fX3_lk1 u cl k).2.1 17 ix.toNatClampNeg).toNatClampNeg) hx hb hK hM 12 (by decide) rfl rfl (hN7 c_1 c_9 c_23 cm hn bd ix hI_65 c_71 c_86 c_97) rfl rfl dX3_look_159 ?_
                        refine lv_iload_n hx hb dX3_look_160 rfl (lv_at hl 10 rfl) ?_
                        refine lv_icmp_gt (tgt := 167) hx hb dX3_look_161 (by decide) (fun c_161 => ?_) (fun c_161 => ?_)
                        · skip
                          refine lv_iinc (v := ix + 1) (lv' := [(9, .int (ix + 1)), (10, .int ((fX3_lk1 u cl k).2.1 17 ix.toNatClampNeg)), (6, .int cm), (7, .int hn), (8, .int bd), (5, .int ((fX3_follow (fX3_lk0 u cl k) ((fX3_lk0 u cl k).2.1 9 (((fX3_lk0 u cl k).2.1 48 cl.toNatClampNeg).toNatClampNeg)) k k).1)), (4, .int ((fX3_lk0 u cl k).2.1 9 (((fX3_lk0 u cl k).2.1 48 cl.toNatClampNeg).toNatClampNeg))), (3, .int ((fX3_lk0 u cl k).2.1 48 cl.toNatClampNeg)), (0, .ref o), (1, .int cl), (2, .int k)]) hx hb dX3_look_167 hl (k := 4) rfl (rfl) (by decide) rfl (fun ls hl => ?_)
                          refine lv_goto (tgt := 65) hx hb dX3_look_170 (by decide) ?_
                          have hs : lpX3_look_65 u cl k (cm, hn, bd, ix) = (0, cm, hn, bd, ix + 1) := by rw [lpX3_look_65, if_neg c_71, if_neg c_86, if_pos c_97, if_pos c_107, if_neg c_123, if_neg c_140, if_pos c_150, if_pos c_161]
                          rw [hs] at kb
                          exact kb rfl _ (lv_sub hl [2, 3, 4, 0, 5, 6, 7, 8, 9, 10] rfl)
                        · skip
                          refine lv_iinc (v := hn + 1) (lv' := [(7, .int (hn + 1)), (10, .int ((fX3_lk1 u cl k).2.1 17 ix.toNatClampNeg)), (6, .int cm), (8, .int bd), (9, .int ix), (5, .int ((fX3_follow (fX3_lk0 u cl k) ((fX3_lk0 u cl k).2.1 9 (((fX3_lk0 u cl k).2.1 48 cl.toNatClampNeg).toNatClampNeg)) k k).1)), (4, .int ((fX3_lk0 u cl k).2.1 9 (((fX3_lk0 u cl k).2.1 48 cl.toNatClampNeg).toNatClampNeg))), (3, .int ((fX3_lk0 u cl k).2.1 48 cl.toNatClampNeg)), (0, .ref o), (1, .int cl), (2, .int k)]) hx hb dX3_look_164 hl (k := 2) rfl (rfl) (by decide) rfl (fun ls hl => ?_)
                          refine lv_iinc (v := ix + 1) (lv' := [(9, .int (ix + 1)), (7, .int (hn + 1)), (10, .int ((fX3_lk1 u cl k).2.1 17 ix.toNatClampNeg)), (6, .int cm), (8, .int bd), (5, .int ((fX3_follow (fX3_lk0 u cl k) ((fX3_lk0 u cl k).2.1 9 (((fX3_lk0 u cl k).2.1 48 cl.toNatClampNeg).toNatClampNeg)) k k).1)), (4, .int ((fX3_lk0 u cl k).2.1 9 (((fX3_lk0 u cl k).2.1 48 cl.toNatClampNeg).toNatClampNeg))), (3, .int ((fX3_lk0 u cl k).2.1 48 cl.toNatClampNeg)), (0, .ref o), (1, .int cl), (2, .int k)]) hx hb dX3_look_167 hl (k := 4) rfl (rfl) (by decide) rfl (fun ls hl => ?_)
                          refine lv_goto (tgt := 65) hx hb dX3_look_170 (by decide) ?_
                          have hs : lpX3_look_65 u cl k (cm, hn, bd, ix) = (0, cm, hn + 1, bd, ix + 1) := by rw [lpX3_look_65, if_neg c_71, if_neg c_86, if_pos c_97, if_pos c_107, if_neg c_123, if_neg c_140, if_pos c_150, if_neg c_161]
                          rw [hs] at kb
                          exact kb rfl _ (lv_sub hl [3, 1, 4, 0, 5, 6, 7, 8, 9, 10] rfl)
                  · skip
                    refine lv_aload_n hx hb dX3_look_126 rfl (lv_at hl 8 rfl) ?_
                    refine mw_get (v := .ref (mAd o 12)) hx hb hts hown hK hM 12 (by decide) q1278 rfl rfl dX3_look_127 ?_
                    refine lv_iload hx hb dX3_look_130 (lv_at hl 0 rfl) ?_
                    refine mw_ild (v := (fX3_lk1 u cl k).2.1 12 (((fX3_lk1 u cl k).2.1 17 ix.toNatClampNeg).toNatClampNeg)) (j := ((fX3_lk1 u cl k).2.1 17 ix.toNatClampNeg).toNatClampNeg) hx hb hK hM 12 (by decide) rfl rfl (hN7 c_1 c_9 c_23 cm hn bd ix hI_65 c_71 c_86 c_97) rfl rfl dX3_look_132 ?_
                    refine lv_istore (lv' := [(6, .int ((fX3_lk1 u cl k).2.1 12 (((fX3_lk1 u cl k).2.1 17 ix.toNatClampNeg).toNatClampNeg))), (10, .int ((fX3_lk1 u cl k).2.1 17 ix.toNatClampNeg)), (7, .int hn), (8, .int bd), (9, .int ix), (5, .int ((fX3_follow (fX3_lk0 u cl k) ((fX3_lk0 u cl k).2.1 9 (((fX3_lk0 u cl k).2.1 48 cl.toNatClampNeg).toNatClampNeg)) k k).1)), (4, .int ((fX3_lk0 u cl k).2.1 9 (((fX3_lk0 u cl k).2.1 48 cl.toNatClampNeg).toNatClampNeg))), (3, .int ((fX3_lk0 u cl k).2.1 48 cl.toNatClampNeg)), (0, .ref o), (1, .int cl), (2, .int k)]) hx hb dX3_look_133 hl (by decide) rfl (fun ls hl => ?_)
                    refine lv_goto (tgt := 167) hx hb dX3_look_135 (by decide) ?_
                    refine lv_iinc (v := ix + 1) (lv' := [(9, .int (ix + 1)), (6, .int ((fX3_lk1 u cl k).2.1 12 (((fX3_lk1 u cl k).2.1 17 ix.toNatClampNeg).toNatClampNeg))), (10, .int ((fX3_lk1 u cl k).2.1 17 ix.toNatClampNeg)), (7, .int hn), (8, .int bd), (5, .int ((fX3_follow (fX3_lk0 u cl k) ((fX3_lk0 u cl k).2.1 9 (((fX3_lk0 u cl k).2.1 48 cl.toNatClampNeg).toNatClampNeg)) k k).1)), (4, .int ((fX3_lk0 u cl k).2.1 9 (((fX3_lk0 u cl k).2.1 48 cl.toNatClampNeg).toNatClampNeg))), (3, .int ((fX3_lk0 u cl k).2.1 48 cl.toNatClampNeg)), (0, .ref o), (1, .int cl), (2, .int k)]) hx hb dX3_look_167 hl (k := 4) rfl (rfl) (by decide) rfl (fun ls hl => ?_)
                    refine lv_goto (tgt := 65) hx hb dX3_look_170 (by decide) ?_
                    have hs : lpX3_look_65 u cl k (cm, hn, bd, ix) = (0, (fX3_lk1 u cl k).2.1 12 (((fX3_lk1 u cl k).2.1 17 ix.toNatClampNeg).toNatClampNeg), hn, bd, ix + 1) := by rw [lpX3_look_65, if_neg c_71, if_neg c_86, if_pos c_97, if_pos c_107, if_pos c_123]
                    rw [hs] at kb
                    exact kb rfl _ (lv_sub hl [1, 3, 4, 0, 5, 6, 7, 8, 9, 10] rfl)
            · skip
              refine lv_iconst (v := 1) hx hb dX3_look_89 (by decide) ?_
              refine lv_istore (lv' := [(8, .int 1), (10, .int ((fX3_lk1 u cl k).2.1 17 ix.toNatClampNeg)), (6, .int cm), (7, .int hn), (9, .int ix), (5, .int ((fX3_follow (fX3_lk0 u cl k) ((fX3_lk0 u cl k).2.1 9 (((fX3_lk0 u cl k).2.1 48 cl.toNatClampNeg).toNatClampNeg)) k k).1)), (4, .int ((fX3_lk0 u cl k).2.1 9 (((fX3_lk0 u cl k).2.1 48 cl.toNatClampNeg).toNatClampNeg))), (3, .int ((fX3_lk0 u cl k).2.1 48 cl.toNatClampNeg)), (0, .ref o), (1, .int cl), (2, .int k)]) hx hb dX3_look_90 hl (by decide) rfl (fun ls hl => ?_)
              refine lv_goto (tgt := 167) hx hb dX3_look_92 (by decide) ?_
              refine lv_iinc (v := ix + 1) (lv' := [(9, .int (ix + 1)), (8, .int 1), (10, .int ((fX3_lk1 u cl k).2.1 17 ix.toNatClampNeg)), (6, .int cm), (7, .int hn), (5, .int ((fX3_follow (fX3_lk0 u cl k) ((fX3_lk0 u cl k).2.1 9 (((fX3_lk0 u cl k).2.1 48 cl.toNatClampNeg).toNatClampNeg)) k k).1)), (4, .int ((fX3_lk0 u cl k).2.1 9 (((fX3_lk0 u cl k).2.1 48 cl.toNatClampNeg).toNatClampNeg))), (3, .int ((fX3_lk0 u cl k).2.1 48 cl.toNatClampNeg)), (0, .ref o), (1, .int cl), (2, .int k)]) hx hb dX3_look_167 hl (k := 4) rfl (rfl) (by decide) rfl (fun ls hl => ?_)
              refine lv_goto (tgt := 65) hx hb dX3_look_170 (by decide) ?_
              have hs : lpX3_look_65 u cl k (cm, hn, bd, ix) = (0, cm, hn, 1, ix + 1) := by rw [lpX3_look_65, if_neg c_71, if_pos c_86]
              rw [hs] at kb
              exact kb rfl _ (lv_sub hl [3, 4, 1, 0, 5, 6, 7, 8, 9, 10] rfl)
        · skip
          intro ls hl
          have hl : lv_has ls 11 [(6, .int ((lpX3_look_65_r u cl k).2.1)), (7, .int ((lpX3_look_65_r u cl k).2.2.1)), (8, .int ((lpX3_look_65_r u cl k).2.2.2.1)), (9, .int ((lpX3_look_65_r u cl k).2.2.2.2)), (5, .int ((fX3_follow (fX3_lk0 u cl k) ((fX3_lk0 u cl k).2.1 9 (((fX3_lk0 u cl k).2.1 48 cl.toNatClampNeg).toNatClampNeg)) k k).1)), (4, .int ((fX3_lk0 u cl k).2.1 9 (((fX3_lk0 u cl k).2.1 48 cl.toNatClampNeg).toNatClampNeg))), (3, .int ((fX3_lk0 u cl k).2.1 48 cl.toNatClampNeg)), (0, .ref o), (1, .int cl), (2, .int k)] := hl
          refine lv_aload_n hx hb dX3_look_173 rfl (lv_at hl 7 rfl) ?_
          refine mw_get (v := .ref (mAd o 47)) hx hb hts hown hK hM 47 (by decide) q1313 rfl rfl dX3_look_174 ?_
          refine lv_iconst (v := 0) hx hb dX3_look_177 (by decide) ?_
          refine lv_aload_n hx hb dX3_look_178 rfl (lv_at hl 7 rfl) ?_
          refine mw_get (v := .ref (mAd o 13)) hx hb hts hown hK hM 13 (by decide) q1279 rfl rfl dX3_look_179 ?_
          refine lv_iload_n hx hb dX3_look_182 rfl (lv_at hl 6 rfl) ?_
          refine mw_ild (v := (fX3_lk1 u cl k).2.1 13 (((fX3_lk0 u cl k).2.1 48 cl.toNatClampNeg).toNatClampNeg)) (j := ((fX3_lk0 u cl k).2.1 48 cl.toNatClampNeg).toNatClampNeg) hx hb hK hM 13 (by decide) rfl rfl (hN2 c_1 c_9 c_23) rfl rfl dX3_look_183 ?_
          refine lv_iconst (v := 1) hx hb dX3_look_184 (by decide) ?_
          refine w_ji (ls := ls) (rest := [.int 0, .ref (mAd o 47)]) (E := b2 (if ((fX3_lk1 u cl k).2.1 13 (((fX3_lk0 u cl k).2.1 48 cl.toNatClampNeg).toNatClampNeg)) = 1 then true else false)) 193 ?_ (fun K => ?_)
          · skip
            refine mw_ist (j := 0) hx hb hK hM hS 47 (by decide) rfl rfl (by unfold vp_in; decide) (by decide) dX3_look_193 (fun H locs hM hS => ?_)
            refine lv_aload_n hx hb dX3_look_194 rfl (lv_at hl 7 rfl) ?_
            refine mw_get (v := .ref (mAd o 47)) hx hb hts hown hK hM 47 (by decide) q1313 rfl rfl dX3_look_195 ?_
            refine lv_iconst (v := 1) hx hb dX3_look_198 (by decide) ?_
            refine lv_aload_n hx hb dX3_look_199 rfl (lv_at hl 7 rfl) ?_
            refine mw_get (v := .ref (mAd o 13)) hx hb hts hown hK hM 13 (by decide) q1279 rfl rfl dX3_look_200 ?_
            refine lv_iload_n hx hb dX3_look_203 rfl (lv_at hl 6 rfl) ?_
            refine mw_ild (v := (fX3_lk1 u cl k).2.1 13 (((fX3_lk0 u cl k).2.1 48 cl.toNatClampNeg).toNatClampNeg)) (j := ((fX3_lk0 u cl k).2.1 48 cl.toNatClampNeg).toNatClampNeg) hx hb hK hM 13 (by decide) rfl rfl (hN2 c_1 c_9 c_23) rfl rfl dX3_look_204 ?_
            refine lv_iconst (v := 2) hx hb dX3_look_205 (by decide) ?_
            refine w_ji (ls := ls) (rest := [.int 1, .ref (mAd o 47)]) (E := b2 (if ((fX3_lk1 u cl k).2.1 13 (((fX3_lk0 u cl k).2.1 48 cl.toNatClampNeg).toNatClampNeg)) = 2 then true else false)) 214 ?_ (fun K => ?_)
            · skip
              refine mw_ist (j := 1) hx hb hK hM hS 47 (by decide) rfl rfl (by unfold vp_in; decide) (by decide) dX3_look_214 (fun H locs hM hS => ?_)
              refine lv_aload_n hx hb dX3_look_215 rfl (lv_at hl 7 rfl) ?_
              refine lv_aload_n hx hb dX3_look_216 rfl (lv_at hl 7 rfl) ?_
              refine mw_get (v := .ref (mAd o 14)) hx hb hts hown hK hM 14 (by decide) q1280 rfl rfl dX3_look_217 ?_
              refine lv_iload_n hx hb dX3_look_220 rfl (lv_at hl 6 rfl) ?_
              refine mw_ild (v := (fX3_lk1 u cl k).2.1 14 (((fX3_lk0 u cl k).2.1 48 cl.toNatClampNeg).toNatClampNeg)) (j := ((fX3_lk0 u cl k).2.1 48 cl.toNatClampNeg).toNatClampNeg) hx hb hK hM 14 (by decide) rfl rfl (hN2 c_1 c_9 c_23) rfl rfl dX3_look_221 ?_
              refine lv_aload_n hx hb dX3_look_222 rfl (lv_at hl 7 rfl) ?_
              refine mw_get (v := .ref (mAd o 12)) hx hb hts hown hK hM 12 (by decide) q1278 rfl rfl dX3_look_223 ?_
              refine lv_iload_n hx hb dX3_look_226 rfl (lv_at hl 6 rfl) ?_
              refine mw_ild (v := (fX3_lk1 u cl k).2.1 12 (((fX3_lk0 u cl k).2.1 48 cl.toNatClampNeg).toNatClampNeg)) (j := ((fX3_lk0 u cl k).2.1 48 cl.toNatClampNeg).toNatClampNeg) hx hb hK hM 12 (by decide) rfl rfl (hN2 c_1 c_9 c_23) rfl rfl dX3_look_227 ?_
              refine lv_sipush (v := 365) hx hb dX3_look_228 (by decide) ?_
              refine lv_idiv hx hb dX3_look_231 (by decide) ?_
              refine lv_bipush (v := 99) hx hb dX3_look_232 (by decide) ?_
              refine ro_call (mw_run (n := 3) (As := [.int ((fX3_lk1 u cl k).2.1 14 (((fX3_lk0 u cl k).2.1 48 cl.toNatClampNeg).toNatClampNeg)), .int (((fX3_lk1 u cl k).2.1 12 (((fX3_lk0 u cl k).2.1 48 cl.toNatClampNeg).toNatClampNeg)) / 365), .int 99]) (rest := []) hx hb hml hown hts (metX3_turned l D cA o (sa (sa (fX3_lk1 u cl k) 47 0 (b2 (if ((fX3_lk1 u cl k).2.1 13 (((fX3_lk0 u cl k).2.1 48 cl.toNatClampNeg).toNatClampNeg)) = 1 then true else false))) 47 1 (b2 (if ((fX3_lk1 u cl k).2.1 13 (((fX3_lk0 u cl k).2.1 48 cl.toNatClampNeg).toNatClampNeg)) = 2 then true else false))) ((fX3_lk1 u cl k).2.1 14 (((fX3_lk0 u cl k).2.1 48 cl.toNatClampNeg).toNatClampNeg)) (((fX3_lk1 u cl k).2.1 12 (((fX3_lk0 u cl k).2.1 48 cl.toNatClampNeg).toNatClampNeg)) / 365) 99 (hN8 c_1 c_9 c_23)) q1470 q1472 qs32 q1473 (by decide +kernel) (by decide) (by decide) rfl hK hM hl.1 (Nat.le_of_ble_eq_true rfl) rfl dX3_look_234 ⟨Nat.le_refl _, Nat.le_refl _⟩) ?_
              refine lv_lstore (lv' := [(9, .long (fX3_turned (sa (sa (fX3_lk1 u cl k) 47 0 (b2 (if ((fX3_lk1 u cl k).2.1 13 (((fX3_lk0 u cl k).2.1 48 cl.toNatClampNeg).toNatClampNeg)) = 1 then true else false))) 47 1 (b2 (if ((fX3_lk1 u cl k).2.1 13 (((fX3_lk0 u cl k).2.1 48 cl.toNatClampNeg).toNatClampNeg)) = 2 then true else false))) ((fX3_lk1 u cl k).2.1 14 (((fX3_lk0 u cl k).2.1 48 cl.toNatClampNeg).toNatClampNeg)) (((fX3_lk1 u cl k).2.1 12 (((fX3_lk0 u cl k).2.1 48 cl.toNatClampNeg).toNatClampNeg)) / 365) 99)), (6, .int ((lpX3_look_65_r u cl k).2.1)), (7, .int ((lpX3_look_65_r u cl k).2.2.1)), (8, .int ((lpX3_look_65_r u cl k).2.2.2.1)), (5, .int ((fX3_follow (fX3_lk0 u cl k) ((fX3_lk0 u cl k).2.1 9 (((fX3_lk0 u cl k).2.1 48 cl.toNatClampNeg).toNatClampNeg)) k k).1)), (4, .int ((fX3_lk0 u cl k).2.1 9 (((fX3_lk0 u cl k).2.1 48 cl.toNatClampNeg).toNatClampNeg))), (3, .int ((fX3_lk0 u cl k).2.1 48 cl.toNatClampNeg)), (0, .ref o), (1, .int cl), (2, .int k)]) hx hb dX3_look_237 hl (by decide) rfl (fun ls hl => ?_)
              refine lv_aload_n hx hb dX3_look_239 rfl (lv_at hl 7 rfl) ?_
              refine mw_get (v := .ref (mAd o 47)) hx hb hts hown hK hM 47 (by decide) q1313 rfl rfl dX3_look_240 ?_
              refine lv_iconst (v := 2) hx hb dX3_look_243 (by decide) ?_
              refine lv_lload hx hb dX3_look_244 (lv_at hl 0 rfl) ?_
              refine lv_ldc2 (v := 2147483647) hx hb hown (hts _ q1624) dX3_look_246 ?_
              refine W.lcmp hx hb dX3_look_249 ?_
              refine w_ji (ls := ls) (rest := [.int 2, .ref (mAd o 47)]) (E := (if (fX3_turned (sa (sa (fX3_lk1 u cl k) 47 0 (b2 (if ((fX3_lk1 u cl k).2.1 13 (((fX3_lk0 u cl k).2.1 48 cl.toNatClampNeg).toNatClampNeg)) = 1 then true else false))) 47 1 (b2 (if ((fX3_lk1 u cl k).2.1 13 (((fX3_lk0 u cl k).2.1 48 cl.toNatClampNeg).toNatClampNeg)) = 2 then true else false))) ((fX3_lk1 u cl k).2.1 14 (((fX3_lk0 u cl k).2.1 48 cl.toNatClampNeg).toNatClampNeg)) (((fX3_lk1 u cl k).2.1 12 (((fX3_lk0 u cl k).2.1 48 cl.toNatClampNeg).toNatClampNeg)) / 365) 99) ≤ 2147483647 then (fX3_turned (sa (sa (fX3_lk1 u cl k) 47 0 (b2 (if ((fX3_lk1 u cl k).2.1 13 (((fX3_lk0 u cl k).2.1 48 cl.toNatClampNeg).toNatClampNeg)) = 1 then true else false))) 47 1 (b2 (if ((fX3_lk1 u cl k).2.1 13 (((fX3_lk0 u cl k).2.1 48 cl.toNatClampNeg).toNatClampNeg)) = 2 then true else false))) ((fX3_lk1 u cl k).2.1 14 (((fX3_lk0 u cl k).2.1 48 cl.toNatClampNeg).toNatClampNeg)) (((fX3_lk1 u cl k).2.1 12 (((fX3_lk0 u cl k).2.1 48 cl.toNatClampNeg).toNatClampNeg)) / 365) 99).toInt32 else 2147483647)) 262 ?_ (fun K => ?_)
              · skip
                refine mw_ist (j := 2) hx hb hK hM hS 47 (by decide) rfl rfl (by unfold vp_in; decide) (by decide) dX3_look_262 (fun H locs hM hS => ?_)
                refine lv_aload_n hx hb dX3_look_263 rfl (lv_at hl 7 rfl) ?_
                refine mw_get (v := .ref (mAd o 47)) hx hb hts hown hK hM 47 (by decide) q1313 rfl rfl dX3_look_264 ?_
                refine lv_iconst (v := 3) hx hb dX3_look_267 (by decide) ?_
                refine lv_aload_n hx hb dX3_look_268 rfl (lv_at hl 7 rfl) ?_
                refine mw_get (v := .ref (mAd o 4)) hx hb hts hown hK hM 4 (by decide) q1270 rfl rfl dX3_look_269 ?_
                refine lv_iload hx hb dX3_look_272 (lv_at hl 5 rfl) ?_
                refine mw_ild (v := (fX3_lk1 u cl k).2.1 4 (((fX3_lk0 u cl k).2.1 9 (((fX3_lk0 u cl k).2.1 48 cl.toNatClampNeg).toNatClampNeg)).toNatClampNeg)) (j := ((fX3_lk0 u cl k).2.1 9 (((fX3_lk0 u cl k).2.1 48 cl.toNatClampNeg).toNatClampNeg)).toNatClampNeg) hx hb hK hM 4 (by decide) rfl rfl (hN9 c_1 c_9 c_23) rfl rfl dX3_look_274 ?_
                refine mw_ist (j := 3) hx hb hK hM hS 47 (by decide) rfl rfl (by unfold vp_in; decide) (by decide) dX3_look_275 (fun H locs hM hS => ?_)
                refine lv_aload_n hx hb dX3_look_276 rfl (lv_at hl 7 rfl) ?_
                refine mw_get (v := .ref (mAd o 47)) hx hb hts hown hK hM 47 (by decide) q1313 rfl rfl dX3_look_277 ?_
                refine lv_iconst (v := 4) hx hb dX3_look_280 (by decide) ?_
                refine lv_aload_n hx hb dX3_look_281 rfl (lv_at hl 7 rfl) ?_
                refine mw_get (v := .ref (mAd o 12)) hx hb hts hown hK hM 12 (by decide) q1278 rfl rfl dX3_look_282 ?_
                refine lv_iload_n hx hb dX3_look_285 rfl (lv_at hl 6 rfl) ?_
                refine mw_ild (v := (fX3_lk1 u cl k).2.1 12 (((fX3_lk0 u cl k).2.1 48 cl.toNatClampNeg).toNatClampNeg)) (j := ((fX3_lk0 u cl k).2.1 48 cl.toNatClampNeg).toNatClampNeg) hx hb hK hM 12 (by decide) rfl rfl (hN2 c_1 c_9 c_23) rfl rfl dX3_look_286 ?_
                refine lv_sipush (v := 365) hx hb dX3_look_287 (by decide) ?_
                refine lv_idiv hx hb dX3_look_290 (by decide) ?_
                refine mw_ist (j := 4) hx hb hK hM hS 47 (by decide) rfl rfl (by unfold vp_in; decide) (by decide) dX3_look_291 (fun H locs hM hS => ?_)
                refine lv_aload_n hx hb dX3_look_292 rfl (lv_at hl 7 rfl) ?_
                refine mw_get (v := .ref (mAd o 47)) hx hb hts hown hK hM 47 (by decide) q1313 rfl rfl dX3_look_293 ?_
                refine lv_iconst (v := 5) hx hb dX3_look_296 (by decide) ?_
                refine lv_aload_n hx hb dX3_look_297 rfl (lv_at hl 7 rfl) ?_
                refine mw_get (v := .ref (mAd o 12)) hx hb hts hown hK hM 12 (by decide) q1278 rfl rfl dX3_look_298 ?_
                refine lv_iload_n hx hb dX3_look_301 rfl (lv_at hl 6 rfl) ?_
                refine mw_ild (v := (fX3_lk1 u cl k).2.1 12 (((fX3_lk0 u cl k).2.1 48 cl.toNatClampNeg).toNatClampNeg)) (j := ((fX3_lk0 u cl k).2.1 48 cl.toNatClampNeg).toNatClampNeg) hx hb hK hM 12 (by decide) rfl rfl (hN2 c_1 c_9 c_23) rfl rfl dX3_look_302 ?_
                refine lv_iload hx hb dX3_look_303 (lv_at hl 1 rfl) ?_
                refine lv_isub hx hb dX3_look_305 ?_
                refine lv_sipush (v := 365) hx hb dX3_look_306 (by decide) ?_
                refine lv_idiv hx hb dX3_look_309 (by decide) ?_
                refine mw_ist (j := 5) hx hb hK hM hS 47 (by decide) rfl rfl (by unfold vp_in; decide) (by decide) dX3_look_310 (fun H locs hM hS => ?_)
                refine lv_aload_n hx hb dX3_look_311 rfl (lv_at hl 7 rfl) ?_
                refine mw_get (v := .ref (mAd o 47)) hx hb hts hown hK hM 47 (by decide) q1313 rfl rfl dX3_look_312 ?_
                refine lv_bipush (v := 6) hx hb dX3_look_315 (by decide) ?_
                refine lv_iload hx hb dX3_look_317 (lv_at hl 2 rfl) ?_
                refine mw_ist (j := 6) hx hb hK hM hS 47 (by decide) rfl rfl (by unfold vp_in; decide) (by decide) dX3_look_319 (fun H locs hM hS => ?_)
                refine lv_aload_n hx hb dX3_look_320 rfl (lv_at hl 7 rfl) ?_
                refine mw_get (v := .ref (mAd o 47)) hx hb hts hown hK hM 47 (by decide) q1313 rfl rfl dX3_look_321 ?_
                refine lv_bipush (v := 7) hx hb dX3_look_324 (by decide) ?_
                refine lv_iload hx hb dX3_look_326 (lv_at hl 4 rfl) ?_
                refine lv_aload_n hx hb dX3_look_328 rfl (lv_at hl 7 rfl) ?_
                refine mw_get (v := .ref (mAd o 11)) hx hb hts hown hK hM 11 (by decide) q1277 rfl rfl dX3_look_329 ?_
                refine lv_iload_n hx hb dX3_look_332 rfl (lv_at hl 6 rfl) ?_
                refine mw_ild (v := (fX3_lk1 u cl k).2.1 11 (((fX3_lk0 u cl k).2.1 48 cl.toNatClampNeg).toNatClampNeg)) (j := ((fX3_lk0 u cl k).2.1 48 cl.toNatClampNeg).toNatClampNeg) hx hb hK hM 11 (by decide) rfl rfl (hN2 c_1 c_9 c_23) rfl rfl dX3_look_333 ?_
                refine w_ji (ls := ls) (rest := [.int 7, .ref (mAd o 47)]) (E := b2 (if ((fX3_follow (fX3_lk0 u cl k) ((fX3_lk0 u cl k).2.1 9 (((fX3_lk0 u cl k).2.1 48 cl.toNatClampNeg).toNatClampNeg)) k k).1) = ((fX3_lk1 u cl k).2.1 11 (((fX3_lk0 u cl k).2.1 48 cl.toNatClampNeg).toNatClampNeg)) then true else false)) 342 ?_ (fun K => ?_)
                · skip
                  refine mw_ist (j := 7) hx hb hK hM hS 47 (by decide) rfl rfl (by unfold vp_in; decide) (by decide) dX3_look_342 (fun H locs hM hS => ?_)
                  refine lv_aload_n hx hb dX3_look_343 rfl (lv_at hl 7 rfl) ?_
                  refine mw_get (v := .ref (mAd o 47)) hx hb hts hown hK hM 47 (by decide) q1313 rfl rfl dX3_look_344 ?_
                  refine lv_bipush (v := 8) hx hb dX3_look_347 (by decide) ?_
                  refine lv_aload_n hx hb dX3_look_349 rfl (lv_at hl 7 rfl) ?_
                  refine lv_aload_n hx hb dX3_look_350 rfl (lv_at hl 7 rfl) ?_
                  refine mw_get (v := .ref (mAd o 10)) hx hb hts hown hK hM 10 (by decide) q1276 rfl rfl dX3_look_351 ?_
                  refine lv_iload_n hx hb dX3_look_354 rfl (lv_at hl 6 rfl) ?_
                  refine mw_ild (v := (fX3_lk1 u cl k).2.1 10 (((fX3_lk0 u cl k).2.1 48 cl.toNatClampNeg).toNatClampNeg)) (j := ((fX3_lk0 u cl k).2.1 48 cl.toNatClampNeg).toNatClampNeg) hx hb hK hM 10 (by decide) rfl rfl (hN2 c_1 c_9 c_23) rfl rfl dX3_look_355 ?_
                  refine lv_iload_n hx hb dX3_look_356 rfl (lv_at hl 9 rfl) ?_
                  refine ro_call (mw_run (n := 2) (As := [.int ((fX3_lk1 u cl k).2.1 10 (((fX3_lk0 u cl k).2.1 48 cl.toNatClampNeg).toNatClampNeg)), .int k]) (rest := [.int 8, .ref (mAd o 47)]) hx hb hml hown hts (metX3_isDead l D cA o (sa (sa (sa (sa (sa (sa (sa (sa (fX3_lk1 u cl k) 47 0 (b2 (if ((fX3_lk1 u cl k).2.1 13 (((fX3_lk0 u cl k).2.1 48 cl.toNatClampNeg).toNatClampNeg)) = 1 then true else false))) 47 1 (b2 (if ((fX3_lk1 u cl k).2.1 13 (((fX3_lk0 u cl k).2.1 48 cl.toNatClampNeg).toNatClampNeg)) = 2 then true else false))) 47 2 (if (fX3_turned (sa (sa (fX3_lk1 u cl k) 47 0 (b2 (if ((fX3_lk1 u cl k).2.1 13 (((fX3_lk0 u cl k).2.1 48 cl.toNatClampNeg).toNatClampNeg)) = 1 then true else false))) 47 1 (b2 (if ((fX3_lk1 u cl k).2.1 13 (((fX3_lk0 u cl k).2.1 48 cl.toNatClampNeg).toNatClampNeg)) = 2 then true else false))) ((fX3_lk1 u cl k).2.1 14 (((fX3_lk0 u cl k).2.1 48 cl.toNatClampNeg).toNatClampNeg)) (((fX3_lk1 u cl k).2.1 12 (((fX3_lk0 u cl k).2.1 48 cl.toNatClampNeg).toNatClampNeg)) / 365) 99) ≤ 2147483647 then (fX3_turned (sa (sa (fX3_lk1 u cl k) 47 0 (b2 (if ((fX3_lk1 u cl k).2.1 13 (((fX3_lk0 u cl k).2.1 48 cl.toNatClampNeg).toNatClampNeg)) = 1 then true else false))) 47 1 (b2 (if ((fX3_lk1 u cl k).2.1 13 (((fX3_lk0 u cl k).2.1 48 cl.toNatClampNeg).toNatClampNeg)) = 2 then true else false))) ((fX3_lk1 u cl k).2.1 14 (((fX3_lk0 u cl k).2.1 48 cl.toNatClampNeg).toNatClampNeg)) (((fX3_lk1 u cl k).2.1 12 (((fX3_lk0 u cl k).2.1 48 cl.toNatClampNeg).toNatClampNeg)) / 365) 99).toInt32 else 2147483647)) 47 3 ((fX3_lk1 u cl k).2.1 4 (((fX3_lk0 u cl k).2.1 9 (((fX3_lk0 u cl k).2.1 48 cl.toNatClampNeg).toNatClampNeg)).toNatClampNeg))) 47 4 (((fX3_lk1 u cl k).2.1 12 (((fX3_lk0 u cl k).2.1 48 cl.toNatClampNeg).toNatClampNeg)) / 365)) 47 5 ((((fX3_lk1 u cl k).2.1 12 (((fX3_lk0 u cl k).2.1 48 cl.toNatClampNeg).toNatClampNeg)) - ((lpX3_look_65_r u cl k).2.1)) / 365)) 47 6 ((lpX3_look_65_r u cl k).2.2.1)) 47 7 (b2 (if ((fX3_follow (fX3_lk0 u cl k) ((fX3_lk0 u cl k).2.1 9 (((fX3_lk0 u cl k).2.1 48 cl.toNatClampNeg).toNatClampNeg)) k k).1) = ((fX3_lk1 u cl k).2.1 11 (((fX3_lk0 u cl k).2.1 48 cl.toNatClampNeg).toNatClampNeg)) then true else false))) ((fX3_lk1 u cl k).2.1 10 (((fX3_lk0 u cl k).2.1 48 cl.toNatClampNeg).toNatClampNeg)) k (hN10 c_1 c_9 c_23)) q1626 q1628 qs55 q1629 (by decide +kernel) (by decide) (by decide) rfl hK hM hl.1 (Nat.le_of_ble_eq_true rfl) rfl dX3_look_357 ⟨Nat.le_refl _, Nat.le_refl _⟩) ?_
                  refine w_ji (ls := ls) (rest := [.int 8, .ref (mAd o 47)]) (E := b2 (if (fX3_isDead (sa (sa (sa (sa (sa (sa (sa (sa (fX3_lk1 u cl k) 47 0 (b2 (if ((fX3_lk1 u cl k).2.1 13 (((fX3_lk0 u cl k).2.1 48 cl.toNatClampNeg).toNatClampNeg)) = 1 then true else false))) 47 1 (b2 (if ((fX3_lk1 u cl k).2.1 13 (((fX3_lk0 u cl k).2.1 48 cl.toNatClampNeg).toNatClampNeg)) = 2 then true else false))) 47 2 (if (fX3_turned (sa (sa (fX3_lk1 u cl k) 47 0 (b2 (if ((fX3_lk1 u cl k).2.1 13 (((fX3_lk0 u cl k).2.1 48 cl.toNatClampNeg).toNatClampNeg)) = 1 then true else false))) 47 1 (b2 (if ((fX3_lk1 u cl k).2.1 13 (((fX3_lk0 u cl k).2.1 48 cl.toNatClampNeg).toNatClampNeg)) = 2 then true else false))) ((fX3_lk1 u cl k).2.1 14 (((fX3_lk0 u cl k).2.1 48 cl.toNatClampNeg).toNatClampNeg)) (((fX3_lk1 u cl k).2.1 12 (((fX3_lk0 u cl k).2.1 48 cl.toNatClampNeg).toNatClampNeg)) / 365) 99) ≤ 2147483647 then (fX3_turned (sa (sa (fX3_lk1 u cl k) 47 0 (b2 (if ((fX3_lk1 u cl k).2.1 13 (((fX3_lk0 u cl k).2.1 48 cl.toNatClampNeg).toNatClampNeg)) = 1 then true else false))) 47 1 (b2 (if ((fX3_lk1 u cl k).2.1 13 (((fX3_lk0 u cl k).2.1 48 cl.toNatClampNeg).toNatClampNeg)) = 2 then true else false))) ((fX3_lk1 u cl k).2.1 14 (((fX3_lk0 u cl k).2.1 48 cl.toNatClampNeg).toNatClampNeg)) (((fX3_lk1 u cl k).2.1 12 (((fX3_lk0 u cl k).2.1 48 cl.toNatClampNeg).toNatClampNeg)) / 365) 99).toInt32 else 2147483647)) 47 3 ((fX3_lk1 u cl k).2.1 4 (((fX3_lk0 u cl k).2.1 9 (((fX3_lk0 u cl k).2.1 48 cl.toNatClampNeg).toNatClampNeg)).toNatClampNeg))) 47 4 (((fX3_lk1 u cl k).2.1 12 (((fX3_lk0 u cl k).2.1 48 cl.toNatClampNeg).toNatClampNeg)) / 365)) 47 5 ((((fX3_lk1 u cl k).2.1 12 (((fX3_lk0 u cl k).2.1 48 cl.toNatClampNeg).toNatClampNeg)) - ((lpX3_look_65_r u cl k).2.1)) / 365)) 47 6 ((lpX3_look_65_r u cl k).2.2.1)) 47 7 (b2 (if ((fX3_follow (fX3_lk0 u cl k) ((fX3_lk0 u cl k).2.1 9 (((fX3_lk0 u cl k).2.1 48 cl.toNatClampNeg).toNatClampNeg)) k k).1) = ((fX3_lk1 u cl k).2.1 11 (((fX3_lk0 u cl k).2.1 48 cl.toNatClampNeg).toNatClampNeg)) then true else false))) ((fX3_lk1 u cl k).2.1 10 (((fX3_lk0 u cl k).2.1 48 cl.toNatClampNeg).toNatClampNeg)) k) = true then true else false)) 368 ?_ (fun K => ?_)
                  · skip
                    refine mw_ist (j := 8) hx hb hK hM hS 47 (by decide) rfl rfl (by unfold vp_in; decide) (by decide) dX3_look_368 (fun H locs hM hS => ?_)
                    refine lv_iconst (v := 1) hx hb dX3_look_369 (by decide) ?_
                    have hF : fX3_look u cl k = (true, (sa (sa (sa (sa (sa (sa (sa (sa (sa (fX3_lk1 u cl k) 47 0 (b2 (if ((fX3_lk1 u cl k).2.1 13 (((fX3_lk0 u cl k).2.1 48 cl.toNatClampNeg).toNatClampNeg)) = 1 then true else false))) 47 1 (b2 (if ((fX3_lk1 u cl k).2.1 13 (((fX3_lk0 u cl k).2.1 48 cl.toNatClampNeg).toNatClampNeg)) = 2 then true else false))) 47 2 (if (fX3_turned (sa (sa (fX3_lk1 u cl k) 47 0 (b2 (if ((fX3_lk1 u cl k).2.1 13 (((fX3_lk0 u cl k).2.1 48 cl.toNatClampNeg).toNatClampNeg)) = 1 then true else false))) 47 1 (b2 (if ((fX3_lk1 u cl k).2.1 13 (((fX3_lk0 u cl k).2.1 48 cl.toNatClampNeg).toNatClampNeg)) = 2 then true else false))) ((fX3_lk1 u cl k).2.1 14 (((fX3_lk0 u cl k).2.1 48 cl.toNatClampNeg).toNatClampNeg)) (((fX3_lk1 u cl k).2.1 12 (((fX3_lk0 u cl k).2.1 48 cl.toNatClampNeg).toNatClampNeg)) / 365) 99) ≤ 2147483647 then (fX3_turned (sa (sa (fX3_lk1 u cl k) 47 0 (b2 (if ((fX3_lk1 u cl k).2.1 13 (((fX3_lk0 u cl k).2.1 48 cl.toNatClampNeg).toNatClampNeg)) = 1 then true else false))) 47 1 (b2 (if ((fX3_lk1 u cl k).2.1 13 (((fX3_lk0 u cl k).2.1 48 cl.toNatClampNeg).toNatClampNeg)) = 2 then true else false))) ((fX3_lk1 u cl k).2.1 14 (((fX3_lk0 u cl k).2.1 48 cl.toNatClampNeg).toNatClampNeg)) (((fX3_lk1 u cl k).2.1 12 (((fX3_lk0 u cl k).2.1 48 cl.toNatClampNeg).toNatClampNeg)) / 365) 99).toInt32 else 2147483647)) 47 3 ((fX3_lk1 u cl k).2.1 4 (((fX3_lk0 u cl k).2.1 9 (((fX3_lk0 u cl k).2.1 48 cl.toNatClampNeg).toNatClampNeg)).toNatClampNeg))) 47 4 (((fX3_lk1 u cl k).2.1 12 (((fX3_lk0 u cl k).2.1 48 cl.toNatClampNeg).toNatClampNeg)) / 365)) 47 5 ((((fX3_lk1 u cl k).2.1 12 (((fX3_lk0 u cl k).2.1 48 cl.toNatClampNeg).toNatClampNeg)) - ((lpX3_look_65_r u cl k).2.1)) / 365)) 47 6 ((lpX3_look_65_r u cl k).2.2.1)) 47 7 (b2 (if ((fX3_follow (fX3_lk0 u cl k) ((fX3_lk0 u cl k).2.1 9 (((fX3_lk0 u cl k).2.1 48 cl.toNatClampNeg).toNatClampNeg)) k k).1) = ((fX3_lk1 u cl k).2.1 11 (((fX3_lk0 u cl k).2.1 48 cl.toNatClampNeg).toNatClampNeg)) then true else false))) 47 8 (b2 (if (fX3_isDead (sa (sa (sa (sa (sa (sa (sa (sa (fX3_lk1 u cl k) 47 0 (b2 (if ((fX3_lk1 u cl k).2.1 13 (((fX3_lk0 u cl k).2.1 48 cl.toNatClampNeg).toNatClampNeg)) = 1 then true else false))) 47 1 (b2 (if ((fX3_lk1 u cl k).2.1 13 (((fX3_lk0 u cl k).2.1 48 cl.toNatClampNeg).toNatClampNeg)) = 2 then true else false))) 47 2 (if (fX3_turned (sa (sa (fX3_lk1 u cl k) 47 0 (b2 (if ((fX3_lk1 u cl k).2.1 13 (((fX3_lk0 u cl k).2.1 48 cl.toNatClampNeg).toNatClampNeg)) = 1 then true else false))) 47 1 (b2 (if ((fX3_lk1 u cl k).2.1 13 (((fX3_lk0 u cl k).2.1 48 cl.toNatClampNeg).toNatClampNeg)) = 2 then true else false))) ((fX3_lk1 u cl k).2.1 14 (((fX3_lk0 u cl k).2.1 48 cl.toNatClampNeg).toNatClampNeg)) (((fX3_lk1 u cl k).2.1 12 (((fX3_lk0 u cl k).2.1 48 cl.toNatClampNeg).toNatClampNeg)) / 365) 99) ≤ 2147483647 then (fX3_turned (sa (sa (fX3_lk1 u cl k) 47 0 (b2 (if ((fX3_lk1 u cl k).2.1 13 (((fX3_lk0 u cl k).2.1 48 cl.toNatClampNeg).toNatClampNeg)) = 1 then true else false))) 47 1 (b2 (if ((fX3_lk1 u cl k).2.1 13 (((fX3_lk0 u cl k).2.1 48 cl.toNatClampNeg).toNatClampNeg)) = 2 then true else false))) ((fX3_lk1 u cl k).2.1 14 (((fX3_lk0 u cl k).2.1 48 cl.toNatClampNeg).toNatClampNeg)) (((fX3_lk1 u cl k).2.1 12 (((fX3_lk0 u cl k).2.1 48 cl.toNatClampNeg).toNatClampNeg)) / 365) 99).toInt32 else 2147483647)) 47 3 ((fX3_lk1 u cl k).2.1 4 (((fX3_lk0 u cl k).2.1 9 (((fX3_lk0 u cl k).2.1 48 cl.toNatClampNeg).toNatClampNeg)).toNatClampNeg))) 47 4 (((fX3_lk1 u cl k).2.1 12 (((fX3_lk0 u cl k).2.1 48 cl.toNatClampNeg).toNatClampNeg)) / 365)) 47 5 ((((fX3_lk1 u cl k).2.1 12 (((fX3_lk0 u cl k).2.1 48 cl.toNatClampNeg).toNatClampNeg)) - ((lpX3_look_65_r u cl k).2.1)) / 365)) 47 6 ((lpX3_look_65_r u cl k).2.2.1)) 47 7 (b2 (if ((fX3_follow (fX3_lk0 u cl k) ((fX3_lk0 u cl k).2.1 9 (((fX3_lk0 u cl k).2.1 48 cl.toNatClampNeg).toNatClampNeg)) k k).1) = ((fX3_lk1 u cl k).2.1 11 (((fX3_lk0 u cl k).2.1 48 cl.toNatClampNeg).toNatClampNeg)) then true else false))) ((fX3_lk1 u cl k).2.1 10 (((fX3_lk0 u cl k).2.1 48 cl.toNatClampNeg).toNatClampNeg)) k) = true then true else false)))) := by rw [fX3_look, if_neg c_1, if_neg c_9, if_pos c_23]
                    exact mw_zret hx hb hr hlk hM hS (by rw [hF]; rfl) (by rw [hF]) dX3_look_370
                  · skip
                    refine lv_B_eq (tgt := 367) hx hb dX3_look_360 (by decide) (fun c_360 => ?_) (fun c_360 => ?_)
                    · skip
                      refine lv_iconst (v := 0) hx hb dX3_look_367 (by decide) ?_
                      exact K _ (by rw [if_neg (nt_of c_360)]; rfl)
                    · skip
                      refine lv_iconst (v := 1) hx hb dX3_look_363 (by decide) ?_
                      refine lv_goto (tgt := 368) hx hb dX3_look_364 (by decide) ?_
                      exact K _ (by rw [if_pos c_360]; rfl)
                · skip
                  refine lv_icmp_ne (tgt := 341) hx hb dX3_look_334 (by decide) (fun c_334 => ?_) (fun c_334 => ?_)
                  · skip
                    refine lv_iconst (v := 0) hx hb dX3_look_341 (by decide) ?_
                    exact K _ (by rw [if_neg c_334]; rfl)
                  · skip
                    refine lv_iconst (v := 1) hx hb dX3_look_337 (by decide) ?_
                    refine lv_goto (tgt := 342) hx hb dX3_look_338 (by decide) ?_
                    exact K _ (by rw [if_pos c_334]; rfl)
              · skip
                refine lv_L_le (tgt := 259) hx hb dX3_look_250 (by decide) (fun c_250 => ?_) (fun c_250 => ?_)
                · skip
                  refine lv_lload hx hb dX3_look_259 (lv_at hl 0 rfl) ?_
                  refine lv_l2i hx hb dX3_look_261 rfl ?_
                  exact K _ (by rw [if_pos c_250])
                · skip
                  refine lv_ldcw (v := 2147483647) hx hb hown (hts _ q1625) dX3_look_253 ?_
                  refine lv_goto (tgt := 262) hx hb dX3_look_256 (by decide) ?_
                  exact K _ (by rw [if_neg c_250])
            · skip
              refine lv_icmp_ne (tgt := 213) hx hb dX3_look_206 (by decide) (fun c_206 => ?_) (fun c_206 => ?_)
              · skip
                refine lv_iconst (v := 0) hx hb dX3_look_213 (by decide) ?_
                exact K _ (by rw [if_neg c_206]; rfl)
              · skip
                refine lv_iconst (v := 1) hx hb dX3_look_209 (by decide) ?_
                refine lv_goto (tgt := 214) hx hb dX3_look_210 (by decide) ?_
                exact K _ (by rw [if_pos c_206]; rfl)
          · skip
            refine lv_icmp_ne (tgt := 192) hx hb dX3_look_185 (by decide) (fun c_185 => ?_) (fun c_185 => ?_)
            · skip
              refine lv_iconst (v := 0) hx hb dX3_look_192 (by decide) ?_
              exact K _ (by rw [if_neg c_185]; rfl)
            · skip
              refine lv_iconst (v := 1) hx hb dX3_look_188 (by decide) ?_
              refine lv_goto (tgt := 193) hx hb dX3_look_189 (by decide) ?_
              exact K _ (by rw [if_pos c_185]; rfl)
      · skip
        refine lv_iconst (v := 0) hx hb dX3_look_26 (by decide) ?_
        have hF : fX3_look u cl k = (false, ((fX3_loose u (u.2.1 48 cl.toNatClampNeg) k).2)) := by rw [fX3_look, if_neg c_1, if_neg c_9, if_neg c_23]
        exact mw_zret hx hb hr hlk hM hS (by rw [hF]; rfl) (by rw [hF]) dX3_look_27

def fX3_ruling (u : St) (cl : Int32) (k : Int32) : Int32 × St :=
  if ((fX3_look u cl k).1) = true then (if 0 ≤ ((fX3_lineFor (fX3_look u cl k).2).1) then (((fX3_lineFor (fX3_look u cl k).2).2).2.1 33 (((fX3_lineFor (fX3_look u cl k).2).1).toNatClampNeg), ((fX3_lineFor (fX3_look u cl k).2).2)) else (4, ((fX3_lineFor (fX3_look u cl k).2).2))) else ((-1), (fX3_look u cl k).2)
def okX3_ruling (u : St) (cl : Int32) (k : Int32) : Prop :=
  (okX3_look u cl k) ∧ (((fX3_look u cl k).1) = true → okX3_lineFor (fX3_look u cl k).2) ∧ (((fX3_look u cl k).1) = true → 0 ≤ ((fX3_lineFor (fX3_look u cl k).2).1) → vp_in ((fX3_lineFor (fX3_look u cl k).2).1) 32)
set_option maxHeartbeats 4000000 in
theorem metX3_ruling (l : Launch) (D : va_G) (cA : Nat → ClassId) (o : Nat) (u : St) (cl : Int32) (k : Int32) (hok : okX3_ruling u cl k) : MetM l yX3_ruling cX3_ruling 4 (some .int) 4 D cA o u [.ref o, .int cl, .int k] (some (.int (fX3_ruling u cl k).1)) (fX3_ruling u cl k).2 := by
  obtain ⟨hN0, hN1, hN2⟩ := hok
  refine mM_start RX3 (by decide) rfl (Nat.le_of_ble_eq_true rfl) ?_
  intro pg ev s0 mi bl me co hx hb hml hown hts hr hlk hK hM ls hl
  have hl : lv_has ls 4 [(0, .ref o), (1, .int cl), (2, .int k)] := hl
  have hS : va_S (mA o) s0.heap s0.heap [] := va_S.rf
  refine lv_aload_n hx hb dX3_ruling_0 rfl (lv_at hl 0 rfl) ?_
  refine lv_iload_n hx hb dX3_ruling_1 rfl (lv_at hl 1 rfl) ?_
  refine lv_iload_n hx hb dX3_ruling_2 rfl (lv_at hl 2 rfl) ?_
  refine mw_call (mw_run (n := 2) (As := [.int cl, .int k]) (rest := []) hx hb hml hown hts (metX3_look l D cA o u cl k hN0) q1619 q1621 qs54 q1622 (by decide +kernel) (by decide) (by decide) rfl hK hM hl.1 (Nat.le_of_ble_eq_true rfl) rfl dX3_ruling_3 ⟨Nat.le_refl _, Nat.le_refl _⟩) hS (fun _ h => h) (fun H locs hM _ _ hS => ?_)
  refine lv_B_ne (tgt := 11) hx hb dX3_ruling_6 (by decide) (fun c_6 => ?_) (fun c_6 => ?_)
  · skip
    refine lv_aload_n hx hb dX3_ruling_11 rfl (lv_at hl 0 rfl) ?_
    refine mw_call (mw_run (n := 0) (As := []) (rest := []) hx hb hml hown hts (metX3_lineFor l D cA o (fX3_look u cl k).2  (hN1 c_6)) q1630 q1632 qs56 q1633 (by decide +kernel) (by decide) (by decide) rfl hK hM hl.1 (Nat.le_of_ble_eq_true rfl) rfl dX3_ruling_12 ⟨Nat.le_refl _, Nat.le_refl _⟩) hS (fun _ h => h) (fun H locs hM _ _ hS => ?_)
    refine lv_istore_n (lv' := [(3, .int ((fX3_lineFor (fX3_look u cl k).2).1)), (0, .ref o), (1, .int cl), (2, .int k)]) hx hb dX3_ruling_15 rfl hl (by decide) rfl (fun ls hl => ?_)
    refine lv_iload_n hx hb dX3_ruling_16 rfl (lv_at hl 0 rfl) ?_
    refine lv_if_ge (tgt := 24) hx hb dX3_ruling_17 (by decide) (fun c_17 => ?_) (fun c_17 => ?_)
    · skip
      refine lv_aload_n hx hb dX3_ruling_24 rfl (lv_at hl 1 rfl) ?_
      refine mw_get (v := .ref (mAd o 33)) hx hb hts hown hK hM 33 (by decide) q1299 rfl rfl dX3_ruling_25 ?_
      refine lv_iload_n hx hb dX3_ruling_28 rfl (lv_at hl 0 rfl) ?_
      refine mw_ild (v := ((fX3_lineFor (fX3_look u cl k).2).2).2.1 33 (((fX3_lineFor (fX3_look u cl k).2).1).toNatClampNeg)) (j := ((fX3_lineFor (fX3_look u cl k).2).1).toNatClampNeg) hx hb hK hM 33 (by decide) rfl rfl (hN2 c_6 c_17) rfl rfl dX3_ruling_29 ?_
      have hF : fX3_ruling u cl k = (((fX3_lineFor (fX3_look u cl k).2).2).2.1 33 (((fX3_lineFor (fX3_look u cl k).2).1).toNatClampNeg), ((fX3_lineFor (fX3_look u cl k).2).2)) := by rw [fX3_ruling, if_pos c_6, if_pos c_17]
      exact mw_iret hx hb hr hlk hM hS (by rw [hF]) (by rw [hF]) dX3_ruling_30
    · skip
      refine lv_iconst (v := 4) hx hb dX3_ruling_20 (by decide) ?_
      refine lv_goto (tgt := 30) hx hb dX3_ruling_21 (by decide) ?_
      have hF : fX3_ruling u cl k = (4, ((fX3_lineFor (fX3_look u cl k).2).2)) := by rw [fX3_ruling, if_pos c_6, if_neg c_17]
      exact mw_iret hx hb hr hlk hM hS (by rw [hF]) (by rw [hF]) dX3_ruling_30
  · skip
    refine lv_iconst (v := (-1)) hx hb dX3_ruling_9 (by decide) ?_
    have hF : fX3_ruling u cl k = ((-1), (fX3_look u cl k).2) := by rw [fX3_ruling, if_neg (nt_of c_6)]
    exact mw_iret hx hb hr hlk hM hS (by rw [hF]) (by rw [hF]) dX3_ruling_10

def fX3_sum (u : St) (cl : Int32) (k : Int32) : Int32 × St :=
  if ((fX3_look u cl k).1) = true then (if 0 ≤ ((fX3_lineFor (fX3_look u cl k).2).1) then (((((((fX3_lineFor (fX3_look u cl k).2).2).2.1 47 3).toInt64) * ((((fX3_lineFor (fX3_look u cl k).2).2).2.1 34 (((fX3_lineFor (fX3_look u cl k).2).1).toNatClampNeg)).toInt64)) / 100).toInt32, ((fX3_lineFor (fX3_look u cl k).2).2)) else (0, ((fX3_lineFor (fX3_look u cl k).2).2))) else ((-1), (fX3_look u cl k).2)
def okX3_sum (u : St) (cl : Int32) (k : Int32) : Prop :=
  (okX3_look u cl k) ∧ (((fX3_look u cl k).1) = true → okX3_lineFor (fX3_look u cl k).2) ∧ (((fX3_look u cl k).1) = true → 0 ≤ ((fX3_lineFor (fX3_look u cl k).2).1) → vp_in ((fX3_lineFor (fX3_look u cl k).2).1) 32)
set_option maxHeartbeats 4000000 in
theorem metX3_sum (l : Launch) (D : va_G) (cA : Nat → ClassId) (o : Nat) (u : St) (cl : Int32) (k : Int32) (hok : okX3_sum u cl k) : MetM l yX3_sum cX3_sum 4 (some .int) 4 D cA o u [.ref o, .int cl, .int k] (some (.int (fX3_sum u cl k).1)) (fX3_sum u cl k).2 := by
  obtain ⟨hN0, hN1, hN2⟩ := hok
  refine mM_start RX3 (by decide) rfl (Nat.le_of_ble_eq_true rfl) ?_
  intro pg ev s0 mi bl me co hx hb hml hown hts hr hlk hK hM ls hl
  have hl : lv_has ls 4 [(0, .ref o), (1, .int cl), (2, .int k)] := hl
  have hS : va_S (mA o) s0.heap s0.heap [] := va_S.rf
  refine lv_aload_n hx hb dX3_sum_0 rfl (lv_at hl 0 rfl) ?_
  refine lv_iload_n hx hb dX3_sum_1 rfl (lv_at hl 1 rfl) ?_
  refine lv_iload_n hx hb dX3_sum_2 rfl (lv_at hl 2 rfl) ?_
  refine mw_call (mw_run (n := 2) (As := [.int cl, .int k]) (rest := []) hx hb hml hown hts (metX3_look l D cA o u cl k hN0) q1619 q1621 qs54 q1622 (by decide +kernel) (by decide) (by decide) rfl hK hM hl.1 (Nat.le_of_ble_eq_true rfl) rfl dX3_sum_3 ⟨Nat.le_refl _, Nat.le_refl _⟩) hS (fun _ h => h) (fun H locs hM _ _ hS => ?_)
  refine lv_B_ne (tgt := 11) hx hb dX3_sum_6 (by decide) (fun c_6 => ?_) (fun c_6 => ?_)
  · skip
    refine lv_aload_n hx hb dX3_sum_11 rfl (lv_at hl 0 rfl) ?_
    refine mw_call (mw_run (n := 0) (As := []) (rest := []) hx hb hml hown hts (metX3_lineFor l D cA o (fX3_look u cl k).2  (hN1 c_6)) q1630 q1632 qs56 q1633 (by decide +kernel) (by decide) (by decide) rfl hK hM hl.1 (Nat.le_of_ble_eq_true rfl) rfl dX3_sum_12 ⟨Nat.le_refl _, Nat.le_refl _⟩) hS (fun _ h => h) (fun H locs hM _ _ hS => ?_)
    refine lv_istore_n (lv' := [(3, .int ((fX3_lineFor (fX3_look u cl k).2).1)), (0, .ref o), (1, .int cl), (2, .int k)]) hx hb dX3_sum_15 rfl hl (by decide) rfl (fun ls hl => ?_)
    refine lv_iload_n hx hb dX3_sum_16 rfl (lv_at hl 0 rfl) ?_
    refine lv_if_ge (tgt := 24) hx hb dX3_sum_17 (by decide) (fun c_17 => ?_) (fun c_17 => ?_)
    · skip
      refine lv_aload_n hx hb dX3_sum_24 rfl (lv_at hl 1 rfl) ?_
      refine mw_get (v := .ref (mAd o 47)) hx hb hts hown hK hM 47 (by decide) q1313 rfl rfl dX3_sum_25 ?_
      refine lv_iconst (v := 3) hx hb dX3_sum_28 (by decide) ?_
      refine mw_ild (v := ((fX3_lineFor (fX3_look u cl k).2).2).2.1 47 3) (j := 3) hx hb hK hM 47 (by decide) rfl rfl (by unfold vp_in; decide) (by decide) rfl dX3_sum_29 ?_
      refine lv_i2l hx hb dX3_sum_30 rfl ?_
      refine lv_aload_n hx hb dX3_sum_31 rfl (lv_at hl 1 rfl) ?_
      refine mw_get (v := .ref (mAd o 34)) hx hb hts hown hK hM 34 (by decide) q1300 rfl rfl dX3_sum_32 ?_
      refine lv_iload_n hx hb dX3_sum_35 rfl (lv_at hl 0 rfl) ?_
      refine mw_ild (v := ((fX3_lineFor (fX3_look u cl k).2).2).2.1 34 (((fX3_lineFor (fX3_look u cl k).2).1).toNatClampNeg)) (j := ((fX3_lineFor (fX3_look u cl k).2).1).toNatClampNeg) hx hb hK hM 34 (by decide) rfl rfl (hN2 c_6 c_17) rfl rfl dX3_sum_36 ?_
      refine lv_i2l hx hb dX3_sum_37 rfl ?_
      refine lv_lmul hx hb dX3_sum_38 ?_
      refine lv_ldc2 (v := 100) hx hb hown (hts _ q1645) dX3_sum_39 ?_
      refine lv_ldiv hx hb dX3_sum_42 (by decide) ?_
      refine lv_l2i hx hb dX3_sum_43 rfl ?_
      have hF : fX3_sum u cl k = (((((((fX3_lineFor (fX3_look u cl k).2).2).2.1 47 3).toInt64) * ((((fX3_lineFor (fX3_look u cl k).2).2).2.1 34 (((fX3_lineFor (fX3_look u cl k).2).1).toNatClampNeg)).toInt64)) / 100).toInt32, ((fX3_lineFor (fX3_look u cl k).2).2)) := by rw [fX3_sum, if_pos c_6, if_pos c_17]
      exact mw_iret hx hb hr hlk hM hS (by rw [hF]) (by rw [hF]) dX3_sum_44
    · skip
      refine lv_iconst (v := 0) hx hb dX3_sum_20 (by decide) ?_
      refine lv_goto (tgt := 44) hx hb dX3_sum_21 (by decide) ?_
      have hF : fX3_sum u cl k = (0, ((fX3_lineFor (fX3_look u cl k).2).2)) := by rw [fX3_sum, if_pos c_6, if_neg c_17]
      exact mw_iret hx hb hr hlk hM hS (by rw [hF]) (by rw [hF]) dX3_sum_44
  · skip
    refine lv_iconst (v := (-1)) hx hb dX3_sum_9 (by decide) ?_
    have hF : fX3_sum u cl k = ((-1), (fX3_look u cl k).2) := by rw [fX3_sum, if_neg (nt_of c_6)]
    exact mw_iret hx hb hr hlk hM hS (by rw [hF]) (by rw [hF]) dX3_sum_10

def fX3_term (u : St) (cl : Int32) (te : Int32) (k : Int32) : Int32 × St :=
  if te < 0 then ((-1), u) else (if 8 < te then ((-1), u) else (if ((fX3_look u cl k).1) = true then ((fX3_look u cl k).2.2.1 47 te.toNatClampNeg, (fX3_look u cl k).2) else ((-1), (fX3_look u cl k).2)))
def okX3_term (u : St) (cl : Int32) (te : Int32) (k : Int32) : Prop :=
  (¬ (te < 0) → ¬ (8 < te) → okX3_look u cl k) ∧ (¬ (te < 0) → ¬ (8 < te) → ((fX3_look u cl k).1) = true → vp_in te 9)
set_option maxHeartbeats 4000000 in
theorem metX3_term (l : Launch) (D : va_G) (cA : Nat → ClassId) (o : Nat) (u : St) (cl : Int32) (te : Int32) (k : Int32) (hok : okX3_term u cl te k) : MetM l yX3_term cX3_term 4 (some .int) 4 D cA o u [.ref o, .int cl, .int te, .int k] (some (.int (fX3_term u cl te k).1)) (fX3_term u cl te k).2 := by
  obtain ⟨hN0, hN1⟩ := hok
  refine mM_start RX3 (by decide) rfl (Nat.le_of_ble_eq_true rfl) ?_
  intro pg ev s0 mi bl me co hx hb hml hown hts hr hlk hK hM ls hl
  have hl : lv_has ls 4 [(0, .ref o), (1, .int cl), (2, .int te), (3, .int k)] := hl
  have hS : va_S (mA o) s0.heap s0.heap [] := va_S.rf
  refine lv_iload_n hx hb dX3_term_0 rfl (lv_at hl 2 rfl) ?_
  refine lv_if_lt (tgt := 19) hx hb dX3_term_1 (by decide) (fun c_1 => ?_) (fun c_1 => ?_)
  · skip
    refine lv_iconst (v := (-1)) hx hb dX3_term_19 (by decide) ?_
    refine lv_goto (tgt := 29) hx hb dX3_term_20 (by decide) ?_
    have hF : fX3_term u cl te k = ((-1), u) := by rw [fX3_term, if_pos c_1]
    exact mw_iret hx hb hr hlk hM hS (by rw [hF]) (by rw [hF]) dX3_term_29
  · skip
    refine lv_iload_n hx hb dX3_term_4 rfl (lv_at hl 2 rfl) ?_
    refine lv_bipush (v := 8) hx hb dX3_term_5 (by decide) ?_
    refine lv_icmp_gt (tgt := 19) hx hb dX3_term_7 (by decide) (fun c_7 => ?_) (fun c_7 => ?_)
    · skip
      refine lv_iconst (v := (-1)) hx hb dX3_term_19 (by decide) ?_
      refine lv_goto (tgt := 29) hx hb dX3_term_20 (by decide) ?_
      have hF : fX3_term u cl te k = ((-1), u) := by rw [fX3_term, if_neg c_1, if_pos c_7]
      exact mw_iret hx hb hr hlk hM hS (by rw [hF]) (by rw [hF]) dX3_term_29
    · skip
      refine lv_aload_n hx hb dX3_term_10 rfl (lv_at hl 0 rfl) ?_
      refine lv_iload_n hx hb dX3_term_11 rfl (lv_at hl 1 rfl) ?_
      refine lv_iload_n hx hb dX3_term_12 rfl (lv_at hl 3 rfl) ?_
      refine mw_call (mw_run (n := 2) (As := [.int cl, .int k]) (rest := []) hx hb hml hown hts (metX3_look l D cA o u cl k (hN0 c_1 c_7)) q1619 q1621 qs54 q1622 (by decide +kernel) (by decide) (by decide) rfl hK hM hl.1 (Nat.le_of_ble_eq_true rfl) rfl dX3_term_13 ⟨Nat.le_refl _, Nat.le_refl _⟩) hS (fun _ h => h) (fun H locs hM _ _ hS => ?_)
      refine lv_B_ne (tgt := 23) hx hb dX3_term_16 (by decide) (fun c_16 => ?_) (fun c_16 => ?_)
      · skip
        refine lv_aload_n hx hb dX3_term_23 rfl (lv_at hl 0 rfl) ?_
        refine mw_get (v := .ref (mAd o 47)) hx hb hts hown hK hM 47 (by decide) q1313 rfl rfl dX3_term_24 ?_
        refine lv_iload_n hx hb dX3_term_27 rfl (lv_at hl 2 rfl) ?_
        refine mw_ild (v := (fX3_look u cl k).2.2.1 47 te.toNatClampNeg) (j := te.toNatClampNeg) hx hb hK hM 47 (by decide) rfl rfl (hN1 c_1 c_7 c_16) rfl rfl dX3_term_28 ?_
        have hF : fX3_term u cl te k = ((fX3_look u cl k).2.2.1 47 te.toNatClampNeg, (fX3_look u cl k).2) := by rw [fX3_term, if_neg c_1, if_neg c_7, if_pos c_16]
        exact mw_iret hx hb hr hlk hM hS (by rw [hF]) (by rw [hF]) dX3_term_29
      · skip
        refine lv_iconst (v := (-1)) hx hb dX3_term_19 (by decide) ?_
        refine lv_goto (tgt := 29) hx hb dX3_term_20 (by decide) ?_
        have hF : fX3_term u cl te k = ((-1), (fX3_look u cl k).2) := by rw [fX3_term, if_neg c_1, if_neg c_7, if_neg (nt_of c_16)]
        exact mw_iret hx hb hr hlk hM hS (by rw [hF]) (by rw [hF]) dX3_term_29
