/-! THE MODEL: methods, by tools/gen_m1.py. f..: what it answers and does; ok..: what it asks -/
set_option maxRecDepth 100000

def fX3_isDay (d : Int32) : Bool :=
  if d < 0 then false else (if 36499 < d then false else true)
set_option maxHeartbeats 4000000 in
theorem metX3_isDay (l : Launch) (d : Int32) : MetS l yX3_isDay cX3_isDay 1 (some .boolean) 0 [.int d] (some (.int (b2 (fX3_isDay d)))) := by
  refine mS_start RX3 (by decide) rfl (Nat.le_of_ble_eq_true rfl) ?_
  intro pg ev s0 mi bl me co hx hb hml hown hts hr hlk ls hl
  have hl : lv_has ls 1 [(0, .int d)] := hl
  refine lv_iload_n hx hb dX3_isDay_0 rfl (lv_at hl 0 rfl) ?_
  refine lv_if_lt (tgt := 14) hx hb dX3_isDay_1 (by decide) (fun c_1 => ?_) (fun c_1 => ?_)
  · skip
    refine lv_iconst (v := 0) hx hb dX3_isDay_14 (by decide) ?_
    have hF : fX3_isDay d = false := by rw [fX3_isDay, if_pos c_1]
    exact zret_ro hx hb hr hlk (by rw [hF]; rfl) dX3_isDay_15
  · skip
    refine lv_iload_n hx hb dX3_isDay_4 rfl (lv_at hl 0 rfl) ?_
    refine lv_ldc (v := 36499) hx hb hown (hts _ q1450) dX3_isDay_5 ?_
    refine lv_icmp_gt (tgt := 14) hx hb dX3_isDay_7 (by decide) (fun c_7 => ?_) (fun c_7 => ?_)
    · skip
      refine lv_iconst (v := 0) hx hb dX3_isDay_14 (by decide) ?_
      have hF : fX3_isDay d = false := by rw [fX3_isDay, if_neg c_1, if_pos c_7]
      exact zret_ro hx hb hr hlk (by rw [hF]; rfl) dX3_isDay_15
    · skip
      refine lv_iconst (v := 1) hx hb dX3_isDay_10 (by decide) ?_
      refine lv_goto (tgt := 15) hx hb dX3_isDay_11 (by decide) ?_
      have hF : fX3_isDay d = true := by rw [fX3_isDay, if_neg c_1, if_neg c_7]
      exact zret_ro hx hb hr hlk (by rw [hF]; rfl) dX3_isDay_15

def fX3_isSum (v : Int32) : Bool :=
  if v < 0 then false else (if 1000000 < v then false else true)
set_option maxHeartbeats 4000000 in
theorem metX3_isSum (l : Launch) (v : Int32) : MetS l yX3_isSum cX3_isSum 1 (some .boolean) 0 [.int v] (some (.int (b2 (fX3_isSum v)))) := by
  refine mS_start RX3 (by decide) rfl (Nat.le_of_ble_eq_true rfl) ?_
  intro pg ev s0 mi bl me co hx hb hml hown hts hr hlk ls hl
  have hl : lv_has ls 1 [(0, .int v)] := hl
  refine lv_iload_n hx hb dX3_isSum_0 rfl (lv_at hl 0 rfl) ?_
  refine lv_if_lt (tgt := 14) hx hb dX3_isSum_1 (by decide) (fun c_1 => ?_) (fun c_1 => ?_)
  · skip
    refine lv_iconst (v := 0) hx hb dX3_isSum_14 (by decide) ?_
    have hF : fX3_isSum v = false := by rw [fX3_isSum, if_pos c_1]
    exact zret_ro hx hb hr hlk (by rw [hF]; rfl) dX3_isSum_15
  · skip
    refine lv_iload_n hx hb dX3_isSum_4 rfl (lv_at hl 0 rfl) ?_
    refine lv_ldc (v := 1000000) hx hb hown (hts _ q1458) dX3_isSum_5 ?_
    refine lv_icmp_gt (tgt := 14) hx hb dX3_isSum_7 (by decide) (fun c_7 => ?_) (fun c_7 => ?_)
    · skip
      refine lv_iconst (v := 0) hx hb dX3_isSum_14 (by decide) ?_
      have hF : fX3_isSum v = false := by rw [fX3_isSum, if_neg c_1, if_pos c_7]
      exact zret_ro hx hb hr hlk (by rw [hF]; rfl) dX3_isSum_15
    · skip
      refine lv_iconst (v := 1) hx hb dX3_isSum_10 (by decide) ?_
      refine lv_goto (tgt := 15) hx hb dX3_isSum_11 (by decide) ?_
      have hF : fX3_isSum v = true := by rw [fX3_isSum, if_neg c_1, if_neg c_7]
      exact zret_ro hx hb hr hlk (by rw [hF]; rfl) dX3_isSum_15

def fX3_isYear (y : Int32) : Bool :=
  if y < 0 then false else (if 100 ≤ y then false else true)
set_option maxHeartbeats 4000000 in
theorem metX3_isYear (l : Launch) (y : Int32) : MetS l yX3_isYear cX3_isYear 1 (some .boolean) 0 [.int y] (some (.int (b2 (fX3_isYear y)))) := by
  refine mS_start RX3 (by decide) rfl (Nat.le_of_ble_eq_true rfl) ?_
  intro pg ev s0 mi bl me co hx hb hml hown hts hr hlk ls hl
  have hl : lv_has ls 1 [(0, .int y)] := hl
  refine lv_iload_n hx hb dX3_isYear_0 rfl (lv_at hl 0 rfl) ?_
  refine lv_if_lt (tgt := 14) hx hb dX3_isYear_1 (by decide) (fun c_1 => ?_) (fun c_1 => ?_)
  · skip
    refine lv_iconst (v := 0) hx hb dX3_isYear_14 (by decide) ?_
    have hF : fX3_isYear y = false := by rw [fX3_isYear, if_pos c_1]
    exact zret_ro hx hb hr hlk (by rw [hF]; rfl) dX3_isYear_15
  · skip
    refine lv_iload_n hx hb dX3_isYear_4 rfl (lv_at hl 0 rfl) ?_
    refine lv_bipush (v := 100) hx hb dX3_isYear_5 (by decide) ?_
    refine lv_icmp_ge (tgt := 14) hx hb dX3_isYear_7 (by decide) (fun c_7 => ?_) (fun c_7 => ?_)
    · skip
      refine lv_iconst (v := 0) hx hb dX3_isYear_14 (by decide) ?_
      have hF : fX3_isYear y = false := by rw [fX3_isYear, if_neg c_1, if_pos c_7]
      exact zret_ro hx hb hr hlk (by rw [hF]; rfl) dX3_isYear_15
    · skip
      refine lv_iconst (v := 1) hx hb dX3_isYear_10 (by decide) ?_
      refine lv_goto (tgt := 15) hx hb dX3_isYear_11 (by decide) ?_
      have hF : fX3_isYear y = true := by rw [fX3_isYear, if_neg c_1, if_neg c_7]
      exact zret_ro hx hb hr hlk (by rw [hF]; rfl) dX3_isYear_15

def fX3_isLetter (c : Int32) : Bool :=
  if c < 97 then false else (if 122 < c then false else true)
set_option maxHeartbeats 4000000 in
theorem metX3_isLetter (l : Launch) (c : Int32) : MetS l yX3_isLetter cX3_isLetter 1 (some .boolean) 0 [.int c] (some (.int (b2 (fX3_isLetter c)))) := by
  refine mS_start RX3 (by decide) rfl (Nat.le_of_ble_eq_true rfl) ?_
  intro pg ev s0 mi bl me co hx hb hml hown hts hr hlk ls hl
  have hl : lv_has ls 1 [(0, .int c)] := hl
  refine lv_iload_n hx hb dX3_isLetter_0 rfl (lv_at hl 0 rfl) ?_
  refine lv_bipush (v := 97) hx hb dX3_isLetter_1 (by decide) ?_
  refine lv_icmp_lt (tgt := 16) hx hb dX3_isLetter_3 (by decide) (fun c_3 => ?_) (fun c_3 => ?_)
  · skip
    refine lv_iconst (v := 0) hx hb dX3_isLetter_16 (by decide) ?_
    have hF : fX3_isLetter c = false := by rw [fX3_isLetter, if_pos c_3]
    exact zret_ro hx hb hr hlk (by rw [hF]; rfl) dX3_isLetter_17
  · skip
    refine lv_iload_n hx hb dX3_isLetter_6 rfl (lv_at hl 0 rfl) ?_
    refine lv_bipush (v := 122) hx hb dX3_isLetter_7 (by decide) ?_
    refine lv_icmp_gt (tgt := 16) hx hb dX3_isLetter_9 (by decide) (fun c_9 => ?_) (fun c_9 => ?_)
    · skip
      refine lv_iconst (v := 0) hx hb dX3_isLetter_16 (by decide) ?_
      have hF : fX3_isLetter c = false := by rw [fX3_isLetter, if_neg c_3, if_pos c_9]
      exact zret_ro hx hb hr hlk (by rw [hF]; rfl) dX3_isLetter_17
    · skip
      refine lv_iconst (v := 1) hx hb dX3_isLetter_12 (by decide) ?_
      refine lv_goto (tgt := 17) hx hb dX3_isLetter_13 (by decide) ?_
      have hF : fX3_isLetter c = true := by rw [fX3_isLetter, if_neg c_3, if_neg c_9]
      exact zret_ro hx hb hr hlk (by rw [hF]; rfl) dX3_isLetter_17

def fX3_isDigit (c : Int32) : Bool :=
  if c < 48 then false else (if 57 < c then false else true)
set_option maxHeartbeats 4000000 in
theorem metX3_isDigit (l : Launch) (c : Int32) : MetS l yX3_isDigit cX3_isDigit 1 (some .boolean) 0 [.int c] (some (.int (b2 (fX3_isDigit c)))) := by
  refine mS_start RX3 (by decide) rfl (Nat.le_of_ble_eq_true rfl) ?_
  intro pg ev s0 mi bl me co hx hb hml hown hts hr hlk ls hl
  have hl : lv_has ls 1 [(0, .int c)] := hl
  refine lv_iload_n hx hb dX3_isDigit_0 rfl (lv_at hl 0 rfl) ?_
  refine lv_bipush (v := 48) hx hb dX3_isDigit_1 (by decide) ?_
  refine lv_icmp_lt (tgt := 16) hx hb dX3_isDigit_3 (by decide) (fun c_3 => ?_) (fun c_3 => ?_)
  · skip
    refine lv_iconst (v := 0) hx hb dX3_isDigit_16 (by decide) ?_
    have hF : fX3_isDigit c = false := by rw [fX3_isDigit, if_pos c_3]
    exact zret_ro hx hb hr hlk (by rw [hF]; rfl) dX3_isDigit_17
  · skip
    refine lv_iload_n hx hb dX3_isDigit_6 rfl (lv_at hl 0 rfl) ?_
    refine lv_bipush (v := 57) hx hb dX3_isDigit_7 (by decide) ?_
    refine lv_icmp_gt (tgt := 16) hx hb dX3_isDigit_9 (by decide) (fun c_9 => ?_) (fun c_9 => ?_)
    · skip
      refine lv_iconst (v := 0) hx hb dX3_isDigit_16 (by decide) ?_
      have hF : fX3_isDigit c = false := by rw [fX3_isDigit, if_neg c_3, if_pos c_9]
      exact zret_ro hx hb hr hlk (by rw [hF]; rfl) dX3_isDigit_17
    · skip
      refine lv_iconst (v := 1) hx hb dX3_isDigit_12 (by decide) ?_
      refine lv_goto (tgt := 17) hx hb dX3_isDigit_13 (by decide) ?_
      have hF : fX3_isDigit c = true := by rw [fX3_isDigit, if_neg c_3, if_neg c_9]
      exact zret_ro hx hb hr hlk (by rw [hF]; rfl) dX3_isDigit_17

def fX3_isPerson (u : St) (p : Int32) : Bool :=
  if p < 0 then false else (if (u.1 6) ≤ p then false else true)
set_option maxHeartbeats 4000000 in
theorem metX3_isPerson (l : Launch) (D : va_G) (cA : Nat → ClassId) (o : Nat) (u : St) (p : Int32) : MetR l yX3_isPerson cX3_isPerson 2 (some .boolean) 0 D cA o u [.ref o, .int p] (some (.int (b2 (fX3_isPerson u p)))) := by
  refine mM_start RX3 (by decide) rfl (Nat.le_of_ble_eq_true rfl) ?_
  intro pg ev s0 mi bl me co hx hb hml hown hts hr hlk hK hM ls hl
  have hl : lv_has ls 2 [(0, .ref o), (1, .int p)] := hl
  refine lv_iload_n hx hb dX3_isPerson_0 rfl (lv_at hl 1 rfl) ?_
  refine lv_if_lt (tgt := 16) hx hb dX3_isPerson_1 (by decide) (fun c_1 => ?_) (fun c_1 => ?_)
  · skip
    refine lv_iconst (v := 0) hx hb dX3_isPerson_16 (by decide) ?_
    have hF : fX3_isPerson u p = false := by rw [fX3_isPerson, if_pos c_1]
    exact zret_ro hx hb hr hlk (by rw [hF]; rfl) dX3_isPerson_17
  · skip
    refine lv_iload_n hx hb dX3_isPerson_4 rfl (lv_at hl 1 rfl) ?_
    refine lv_aload_n hx hb dX3_isPerson_5 rfl (lv_at hl 0 rfl) ?_
    refine mw_get (v := .int (u.1 6)) hx hb hts hown hK hM 6 (by decide) q1272 rfl rfl dX3_isPerson_6 ?_
    refine lv_icmp_ge (tgt := 16) hx hb dX3_isPerson_9 (by decide) (fun c_9 => ?_) (fun c_9 => ?_)
    · skip
      refine lv_iconst (v := 0) hx hb dX3_isPerson_16 (by decide) ?_
      have hF : fX3_isPerson u p = false := by rw [fX3_isPerson, if_neg c_1, if_pos c_9]
      exact zret_ro hx hb hr hlk (by rw [hF]; rfl) dX3_isPerson_17
    · skip
      refine lv_iconst (v := 1) hx hb dX3_isPerson_12 (by decide) ?_
      refine lv_goto (tgt := 17) hx hb dX3_isPerson_13 (by decide) ?_
      have hF : fX3_isPerson u p = true := by rw [fX3_isPerson, if_neg c_1, if_neg c_9]
      exact zret_ro hx hb hr hlk (by rw [hF]; rfl) dX3_isPerson_17

def fX3_isHouse (u : St) (h : Int32) : Bool :=
  if h < 0 then false else (if (u.1 7) ≤ h then false else true)
set_option maxHeartbeats 4000000 in
theorem metX3_isHouse (l : Launch) (D : va_G) (cA : Nat → ClassId) (o : Nat) (u : St) (h : Int32) : MetR l yX3_isHouse cX3_isHouse 2 (some .boolean) 0 D cA o u [.ref o, .int h] (some (.int (b2 (fX3_isHouse u h)))) := by
  refine mM_start RX3 (by decide) rfl (Nat.le_of_ble_eq_true rfl) ?_
  intro pg ev s0 mi bl me co hx hb hml hown hts hr hlk hK hM ls hl
  have hl : lv_has ls 2 [(0, .ref o), (1, .int h)] := hl
  refine lv_iload_n hx hb dX3_isHouse_0 rfl (lv_at hl 1 rfl) ?_
  refine lv_if_lt (tgt := 16) hx hb dX3_isHouse_1 (by decide) (fun c_1 => ?_) (fun c_1 => ?_)
  · skip
    refine lv_iconst (v := 0) hx hb dX3_isHouse_16 (by decide) ?_
    have hF : fX3_isHouse u h = false := by rw [fX3_isHouse, if_pos c_1]
    exact zret_ro hx hb hr hlk (by rw [hF]; rfl) dX3_isHouse_17
  · skip
    refine lv_iload_n hx hb dX3_isHouse_4 rfl (lv_at hl 1 rfl) ?_
    refine lv_aload_n hx hb dX3_isHouse_5 rfl (lv_at hl 0 rfl) ?_
    refine mw_get (v := .int (u.1 7)) hx hb hts hown hK hM 7 (by decide) q1273 rfl rfl dX3_isHouse_6 ?_
    refine lv_icmp_ge (tgt := 16) hx hb dX3_isHouse_9 (by decide) (fun c_9 => ?_) (fun c_9 => ?_)
    · skip
      refine lv_iconst (v := 0) hx hb dX3_isHouse_16 (by decide) ?_
      have hF : fX3_isHouse u h = false := by rw [fX3_isHouse, if_neg c_1, if_pos c_9]
      exact zret_ro hx hb hr hlk (by rw [hF]; rfl) dX3_isHouse_17
    · skip
      refine lv_iconst (v := 1) hx hb dX3_isHouse_12 (by decide) ?_
      refine lv_goto (tgt := 17) hx hb dX3_isHouse_13 (by decide) ?_
      have hF : fX3_isHouse u h = true := by rw [fX3_isHouse, if_neg c_1, if_neg c_9]
      exact zret_ro hx hb hr hlk (by rw [hF]; rfl) dX3_isHouse_17

def fX3_isPaper (u : St) (p : Int32) : Bool :=
  if p < 0 then false else (if (u.1 19) ≤ p then false else true)
set_option maxHeartbeats 4000000 in
theorem metX3_isPaper (l : Launch) (D : va_G) (cA : Nat → ClassId) (o : Nat) (u : St) (p : Int32) : MetR l yX3_isPaper cX3_isPaper 2 (some .boolean) 0 D cA o u [.ref o, .int p] (some (.int (b2 (fX3_isPaper u p)))) := by
  refine mM_start RX3 (by decide) rfl (Nat.le_of_ble_eq_true rfl) ?_
  intro pg ev s0 mi bl me co hx hb hml hown hts hr hlk hK hM ls hl
  have hl : lv_has ls 2 [(0, .ref o), (1, .int p)] := hl
  refine lv_iload_n hx hb dX3_isPaper_0 rfl (lv_at hl 1 rfl) ?_
  refine lv_if_lt (tgt := 16) hx hb dX3_isPaper_1 (by decide) (fun c_1 => ?_) (fun c_1 => ?_)
  · skip
    refine lv_iconst (v := 0) hx hb dX3_isPaper_16 (by decide) ?_
    have hF : fX3_isPaper u p = false := by rw [fX3_isPaper, if_pos c_1]
    exact zret_ro hx hb hr hlk (by rw [hF]; rfl) dX3_isPaper_17
  · skip
    refine lv_iload_n hx hb dX3_isPaper_4 rfl (lv_at hl 1 rfl) ?_
    refine lv_aload_n hx hb dX3_isPaper_5 rfl (lv_at hl 0 rfl) ?_
    refine mw_get (v := .int (u.1 19)) hx hb hts hown hK hM 19 (by decide) q1285 rfl rfl dX3_isPaper_6 ?_
    refine lv_icmp_ge (tgt := 16) hx hb dX3_isPaper_9 (by decide) (fun c_9 => ?_) (fun c_9 => ?_)
    · skip
      refine lv_iconst (v := 0) hx hb dX3_isPaper_16 (by decide) ?_
      have hF : fX3_isPaper u p = false := by rw [fX3_isPaper, if_neg c_1, if_pos c_9]
      exact zret_ro hx hb hr hlk (by rw [hF]; rfl) dX3_isPaper_17
    · skip
      refine lv_iconst (v := 1) hx hb dX3_isPaper_12 (by decide) ?_
      refine lv_goto (tgt := 17) hx hb dX3_isPaper_13 (by decide) ?_
      have hF : fX3_isPaper u p = true := by rw [fX3_isPaper, if_neg c_1, if_neg c_9]
      exact zret_ro hx hb hr hlk (by rw [hF]; rfl) dX3_isPaper_17

def fX3_isGood (u : St)  : Bool :=
  if (u.1 25) = 0 then true else false
set_option maxHeartbeats 4000000 in
theorem metX3_isGood (l : Launch) (D : va_G) (cA : Nat → ClassId) (o : Nat) (u : St)  : MetR l yX3_isGood cX3_isGood 1 (some .boolean) 0 D cA o u [.ref o] (some (.int (b2 (fX3_isGood u)))) := by
  refine mM_start RX3 (by decide) rfl (Nat.le_of_ble_eq_true rfl) ?_
  intro pg ev s0 mi bl me co hx hb hml hown hts hr hlk hK hM ls hl
  have hl : lv_has ls 1 [(0, .ref o)] := hl
  refine lv_aload_n hx hb dX3_isGood_0 rfl (lv_at hl 0 rfl) ?_
  refine mw_get (v := .int (u.1 25)) hx hb hts hown hK hM 25 (by decide) q1291 rfl rfl dX3_isGood_1 ?_
  refine lv_if_ne (tgt := 11) hx hb dX3_isGood_4 (by decide) (fun c_4 => ?_) (fun c_4 => ?_)
  · skip
    refine lv_iconst (v := 0) hx hb dX3_isGood_11 (by decide) ?_
    have hF : fX3_isGood u = false := by rw [fX3_isGood, if_neg c_4]
    exact zret_ro hx hb hr hlk (by rw [hF]; rfl) dX3_isGood_12
  · skip
    refine lv_iconst (v := 1) hx hb dX3_isGood_7 (by decide) ?_
    refine lv_goto (tgt := 12) hx hb dX3_isGood_8 (by decide) ?_
    have hF : fX3_isGood u = true := by rw [fX3_isGood, if_pos c_4]
    exact zret_ro hx hb hr hlk (by rw [hF]; rfl) dX3_isGood_12

def fX3_fault (u : St) (what : Int32) : Int32 :=
  if what = 0 then u.1 25 else (if what = 1 then u.1 26 else (-1))
set_option maxHeartbeats 4000000 in
theorem metX3_fault (l : Launch) (D : va_G) (cA : Nat → ClassId) (o : Nat) (u : St) (what : Int32) : MetR l yX3_fault cX3_fault 2 (some .int) 0 D cA o u [.ref o, .int what] (some (.int (fX3_fault u what))) := by
  refine mM_start RX3 (by decide) rfl (Nat.le_of_ble_eq_true rfl) ?_
  intro pg ev s0 mi bl me co hx hb hml hown hts hr hlk hK hM ls hl
  have hl : lv_has ls 2 [(0, .ref o), (1, .int what)] := hl
  refine lv_iload_n hx hb dX3_fault_0 rfl (lv_at hl 1 rfl) ?_
  refine lv_if_ne (tgt := 11) hx hb dX3_fault_1 (by decide) (fun c_1 => ?_) (fun c_1 => ?_)
  · skip
    refine lv_iload_n hx hb dX3_fault_11 rfl (lv_at hl 1 rfl) ?_
    refine lv_iconst (v := 1) hx hb dX3_fault_12 (by decide) ?_
    refine lv_icmp_ne (tgt := 23) hx hb dX3_fault_13 (by decide) (fun c_13 => ?_) (fun c_13 => ?_)
    · skip
      refine lv_iconst (v := (-1)) hx hb dX3_fault_23 (by decide) ?_
      have hF : fX3_fault u what = (-1) := by rw [fX3_fault, if_neg c_1, if_neg c_13]
      exact iret_ro hx hb hr hlk (by rw [hF]) dX3_fault_24
    · skip
      refine lv_aload_n hx hb dX3_fault_16 rfl (lv_at hl 0 rfl) ?_
      refine mw_get (v := .int (u.1 26)) hx hb hts hown hK hM 26 (by decide) q1292 rfl rfl dX3_fault_17 ?_
      refine lv_goto (tgt := 24) hx hb dX3_fault_20 (by decide) ?_
      have hF : fX3_fault u what = u.1 26 := by rw [fX3_fault, if_neg c_1, if_pos c_13]
      exact iret_ro hx hb hr hlk (by rw [hF]) dX3_fault_24
  · skip
    refine lv_aload_n hx hb dX3_fault_4 rfl (lv_at hl 0 rfl) ?_
    refine mw_get (v := .int (u.1 25)) hx hb hts hown hK hM 25 (by decide) q1291 rfl rfl dX3_fault_5 ?_
    refine lv_goto (tgt := 24) hx hb dX3_fault_8 (by decide) ?_
    have hF : fX3_fault u what = u.1 25 := by rw [fX3_fault, if_pos c_1]
    exact iret_ro hx hb hr hlk (by rw [hF]) dX3_fault_24

def fX3_person (u : St) (mo : Int32) (fa : Int32) : Int32 × St :=
  if mo < (-1) then ((-1), u) else (if (u.1 6) ≤ mo then ((-1), u) else (if fa < (-1) then ((-1), u) else (if (u.1 6) ≤ fa then ((-1), u) else (if (u.1 6) = 24 then ((-1), u) else (((u.1 6) + 1) - 1, (si (sa (sa (sa u 0 ((u.1 6).toNatClampNeg) mo) 1 ((u.1 6).toNatClampNeg) fa) 2 ((u.1 6).toNatClampNeg) (-1)) 6 ((u.1 6) + 1)))))))
def okX3_person (u : St) (mo : Int32) (fa : Int32) : Prop :=
  (¬ (mo < (-1)) → ¬ ((u.1 6) ≤ mo) → ¬ (fa < (-1)) → ¬ ((u.1 6) ≤ fa) → ¬ ((u.1 6) = 24) → vp_in (u.1 6) 24)
set_option maxHeartbeats 4000000 in
theorem metX3_person (l : Launch) (D : va_G) (cA : Nat → ClassId) (o : Nat) (u : St) (mo : Int32) (fa : Int32) (hok : okX3_person u mo fa) : MetM l yX3_person cX3_person 3 (some .int) 0 D cA o u [.ref o, .int mo, .int fa] (some (.int (fX3_person u mo fa).1)) (fX3_person u mo fa).2 := by
  have hN0 := hok
  refine mM_start RX3 (by decide) rfl (Nat.le_of_ble_eq_true rfl) ?_
  intro pg ev s0 mi bl me co hx hb hml hown hts hr hlk hK hM ls hl
  have hl : lv_has ls 3 [(0, .ref o), (1, .int mo), (2, .int fa)] := hl
  have hS : va_S (mA o) s0.heap s0.heap [] := va_S.rf
  refine lv_iload_n hx hb dX3_person_0 rfl (lv_at hl 1 rfl) ?_
  refine lv_iconst (v := (-1)) hx hb dX3_person_1 (by decide) ?_
  refine lv_icmp_lt (tgt := 35) hx hb dX3_person_2 (by decide) (fun c_2 => ?_) (fun c_2 => ?_)
  · skip
    refine lv_iconst (v := (-1)) hx hb dX3_person_35 (by decide) ?_
    have hF : fX3_person u mo fa = ((-1), u) := by rw [fX3_person, if_pos c_2]
    exact mw_iret hx hb hr hlk hM hS (by rw [hF]) (by rw [hF]) dX3_person_36
  · skip
    refine lv_iload_n hx hb dX3_person_5 rfl (lv_at hl 1 rfl) ?_
    refine lv_aload_n hx hb dX3_person_6 rfl (lv_at hl 0 rfl) ?_
    refine mw_get (v := .int (u.1 6)) hx hb hts hown hK hM 6 (by decide) q1272 rfl rfl dX3_person_7 ?_
    refine lv_icmp_ge (tgt := 35) hx hb dX3_person_10 (by decide) (fun c_10 => ?_) (fun c_10 => ?_)
    · skip
      refine lv_iconst (v := (-1)) hx hb dX3_person_35 (by decide) ?_
      have hF : fX3_person u mo fa = ((-1), u) := by rw [fX3_person, if_neg c_2, if_pos c_10]
      exact mw_iret hx hb hr hlk hM hS (by rw [hF]) (by rw [hF]) dX3_person_36
    · skip
      refine lv_iload_n hx hb dX3_person_13 rfl (lv_at hl 2 rfl) ?_
      refine lv_iconst (v := (-1)) hx hb dX3_person_14 (by decide) ?_
      refine lv_icmp_lt (tgt := 35) hx hb dX3_person_15 (by decide) (fun c_15 => ?_) (fun c_15 => ?_)
      · skip
        refine lv_iconst (v := (-1)) hx hb dX3_person_35 (by decide) ?_
        have hF : fX3_person u mo fa = ((-1), u) := by rw [fX3_person, if_neg c_2, if_neg c_10, if_pos c_15]
        exact mw_iret hx hb hr hlk hM hS (by rw [hF]) (by rw [hF]) dX3_person_36
      · skip
        refine lv_iload_n hx hb dX3_person_18 rfl (lv_at hl 2 rfl) ?_
        refine lv_aload_n hx hb dX3_person_19 rfl (lv_at hl 0 rfl) ?_
        refine mw_get (v := .int (u.1 6)) hx hb hts hown hK hM 6 (by decide) q1272 rfl rfl dX3_person_20 ?_
        refine lv_icmp_ge (tgt := 35) hx hb dX3_person_23 (by decide) (fun c_23 => ?_) (fun c_23 => ?_)
        · skip
          refine lv_iconst (v := (-1)) hx hb dX3_person_35 (by decide) ?_
          have hF : fX3_person u mo fa = ((-1), u) := by rw [fX3_person, if_neg c_2, if_neg c_10, if_neg c_15, if_pos c_23]
          exact mw_iret hx hb hr hlk hM hS (by rw [hF]) (by rw [hF]) dX3_person_36
        · skip
          refine lv_aload_n hx hb dX3_person_26 rfl (lv_at hl 0 rfl) ?_
          refine mw_get (v := .int (u.1 6)) hx hb hts hown hK hM 6 (by decide) q1272 rfl rfl dX3_person_27 ?_
          refine lv_bipush (v := 24) hx hb dX3_person_30 (by decide) ?_
          refine lv_icmp_ne (tgt := 37) hx hb dX3_person_32 (by decide) (fun c_32 => ?_) (fun c_32 => ?_)
          · skip
            refine lv_aload_n hx hb dX3_person_37 rfl (lv_at hl 0 rfl) ?_
            refine mw_get (v := .ref (mAd o 0)) hx hb hts hown hK hM 0 (by decide) q1266 rfl rfl dX3_person_38 ?_
            refine lv_aload_n hx hb dX3_person_41 rfl (lv_at hl 0 rfl) ?_
            refine mw_get (v := .int (u.1 6)) hx hb hts hown hK hM 6 (by decide) q1272 rfl rfl dX3_person_42 ?_
            refine lv_iload_n hx hb dX3_person_45 rfl (lv_at hl 1 rfl) ?_
            refine mw_ist (j := (u.1 6).toNatClampNeg) hx hb hK hM hS 0 (by decide) rfl rfl (hN0 c_2 c_10 c_15 c_23 c_32) rfl dX3_person_46 (fun H locs hM hS => ?_)
            refine lv_aload_n hx hb dX3_person_47 rfl (lv_at hl 0 rfl) ?_
            refine mw_get (v := .ref (mAd o 1)) hx hb hts hown hK hM 1 (by decide) q1267 rfl rfl dX3_person_48 ?_
            refine lv_aload_n hx hb dX3_person_51 rfl (lv_at hl 0 rfl) ?_
            refine mw_get (v := .int (u.1 6)) hx hb hts hown hK hM 6 (by decide) q1272 rfl rfl dX3_person_52 ?_
            refine lv_iload_n hx hb dX3_person_55 rfl (lv_at hl 2 rfl) ?_
            refine mw_ist (j := (u.1 6).toNatClampNeg) hx hb hK hM hS 1 (by decide) rfl rfl (hN0 c_2 c_10 c_15 c_23 c_32) rfl dX3_person_56 (fun H locs hM hS => ?_)
            refine lv_aload_n hx hb dX3_person_57 rfl (lv_at hl 0 rfl) ?_
            refine mw_get (v := .ref (mAd o 2)) hx hb hts hown hK hM 2 (by decide) q1268 rfl rfl dX3_person_58 ?_
            refine lv_aload_n hx hb dX3_person_61 rfl (lv_at hl 0 rfl) ?_
            refine mw_get (v := .int (u.1 6)) hx hb hts hown hK hM 6 (by decide) q1272 rfl rfl dX3_person_62 ?_
            refine lv_iconst (v := (-1)) hx hb dX3_person_65 (by decide) ?_
            refine mw_ist (j := (u.1 6).toNatClampNeg) hx hb hK hM hS 2 (by decide) rfl rfl (hN0 c_2 c_10 c_15 c_23 c_32) rfl dX3_person_66 (fun H locs hM hS => ?_)
            refine lv_aload_n hx hb dX3_person_67 rfl (lv_at hl 0 rfl) ?_
            refine lv_dup hx hb dX3_person_68 rfl ?_
            refine mw_get (v := .int (u.1 6)) hx hb hts hown hK hM 6 (by decide) q1272 rfl rfl dX3_person_69 ?_
            refine lv_iconst (v := 1) hx hb dX3_person_72 (by decide) ?_
            refine lv_iadd hx hb dX3_person_73 ?_
            refine mw_puti hx hb hts hown hK hM hS 6 (by decide) q1272 rfl rfl rfl rfl dX3_person_74 (fun H locs hM hS => ?_)
            refine lv_aload_n hx hb dX3_person_77 rfl (lv_at hl 0 rfl) ?_
            refine mw_get (v := .int ((u.1 6) + 1)) hx hb hts hown hK hM 6 (by decide) q1272 rfl rfl dX3_person_78 ?_
            refine lv_iconst (v := 1) hx hb dX3_person_81 (by decide) ?_
            refine lv_isub hx hb dX3_person_82 ?_
            have hF : fX3_person u mo fa = (((u.1 6) + 1) - 1, (si (sa (sa (sa u 0 ((u.1 6).toNatClampNeg) mo) 1 ((u.1 6).toNatClampNeg) fa) 2 ((u.1 6).toNatClampNeg) (-1)) 6 ((u.1 6) + 1))) := by rw [fX3_person, if_neg c_2, if_neg c_10, if_neg c_15, if_neg c_23, if_neg c_32]
            exact mw_iret hx hb hr hlk hM hS (by rw [hF]) (by rw [hF]) dX3_person_83
          · skip
            refine lv_iconst (v := (-1)) hx hb dX3_person_35 (by decide) ?_
            have hF : fX3_person u mo fa = ((-1), u) := by rw [fX3_person, if_neg c_2, if_neg c_10, if_neg c_15, if_neg c_23, if_pos c_32]
            exact mw_iret hx hb hr hlk hM hS (by rw [hF]) (by rw [hF]) dX3_person_36

def fX3_dead (u : St) (pe : Int32) (da : Int32) : Bool × St :=
  if (fX3_isPerson u pe) = true then (if 0 ≤ (u.2.1 2 pe.toNatClampNeg) then (false, u) else (if (fX3_isDay da) = true then (true, (sa u 2 pe.toNatClampNeg da)) else (false, u))) else (false, u)
def okX3_dead (u : St) (pe : Int32) (da : Int32) : Prop :=
  ((fX3_isPerson u pe) = true → vp_in pe 24)
set_option maxHeartbeats 4000000 in
theorem metX3_dead (l : Launch) (D : va_G) (cA : Nat → ClassId) (o : Nat) (u : St) (pe : Int32) (da : Int32) (hok : okX3_dead u pe da) : MetM l yX3_dead cX3_dead 3 (some .boolean) 1 D cA o u [.ref o, .int pe, .int da] (some (.int (b2 (fX3_dead u pe da).1))) (fX3_dead u pe da).2 := by
  have hN0 := hok
  refine mM_start RX3 (by decide) rfl (Nat.le_of_ble_eq_true rfl) ?_
  intro pg ev s0 mi bl me co hx hb hml hown hts hr hlk hK hM ls hl
  have hl : lv_has ls 3 [(0, .ref o), (1, .int pe), (2, .int da)] := hl
  have hS : va_S (mA o) s0.heap s0.heap [] := va_S.rf
  refine lv_aload_n hx hb dX3_dead_0 rfl (lv_at hl 0 rfl) ?_
  refine lv_iload_n hx hb dX3_dead_1 rfl (lv_at hl 1 rfl) ?_
  refine ro_call (mw_run (n := 1) (As := [.int pe]) (rest := []) hx hb hml hown hts (metX3_isPerson l D cA o u pe) q1443 q1445 qs31 q1446 (by decide +kernel) (by decide) (by decide) rfl hK hM hl.1 (Nat.le_of_ble_eq_true rfl) rfl dX3_dead_2 ⟨Nat.le_refl _, Nat.le_refl _⟩) ?_
  refine lv_B_eq (tgt := 24) hx hb dX3_dead_5 (by decide) (fun c_5 => ?_) (fun c_5 => ?_)
  · skip
    refine lv_iconst (v := 0) hx hb dX3_dead_24 (by decide) ?_
    have hF : fX3_dead u pe da = (false, u) := by rw [fX3_dead, if_neg (nt_of c_5)]
    exact mw_zret hx hb hr hlk hM hS (by rw [hF]; rfl) (by rw [hF]) dX3_dead_25
  · skip
    refine lv_aload_n hx hb dX3_dead_8 rfl (lv_at hl 0 rfl) ?_
    refine mw_get (v := .ref (mAd o 2)) hx hb hts hown hK hM 2 (by decide) q1268 rfl rfl dX3_dead_9 ?_
    refine lv_iload_n hx hb dX3_dead_12 rfl (lv_at hl 1 rfl) ?_
    refine mw_ild (v := u.2.1 2 pe.toNatClampNeg) (j := pe.toNatClampNeg) hx hb hK hM 2 (by decide) rfl rfl (hN0 c_5) rfl rfl dX3_dead_13 ?_
    refine lv_if_ge (tgt := 24) hx hb dX3_dead_14 (by decide) (fun c_14 => ?_) (fun c_14 => ?_)
    · skip
      refine lv_iconst (v := 0) hx hb dX3_dead_24 (by decide) ?_
      have hF : fX3_dead u pe da = (false, u) := by rw [fX3_dead, if_pos c_5, if_pos c_14]
      exact mw_zret hx hb hr hlk hM hS (by rw [hF]; rfl) (by rw [hF]) dX3_dead_25
    · skip
      refine lv_iload_n hx hb dX3_dead_17 rfl (lv_at hl 2 rfl) ?_
      refine ro_call (st_run (n := 1) (As := [.int da]) (rest := []) hx hb hml hown hts (metX3_isDay l da) q1447 q1448 q71 q1449 (by decide +kernel) (by decide) (by decide) rfl hl.1 (Nat.le_of_ble_eq_true rfl) rfl dX3_dead_18 ⟨Nat.le_refl _, Nat.le_refl _⟩) ?_
      refine lv_B_ne (tgt := 26) hx hb dX3_dead_21 (by decide) (fun c_21 => ?_) (fun c_21 => ?_)
      · skip
        refine lv_aload_n hx hb dX3_dead_26 rfl (lv_at hl 0 rfl) ?_
        refine mw_get (v := .ref (mAd o 2)) hx hb hts hown hK hM 2 (by decide) q1268 rfl rfl dX3_dead_27 ?_
        refine lv_iload_n hx hb dX3_dead_30 rfl (lv_at hl 1 rfl) ?_
        refine lv_iload_n hx hb dX3_dead_31 rfl (lv_at hl 2 rfl) ?_
        refine mw_ist (j := pe.toNatClampNeg) hx hb hK hM hS 2 (by decide) rfl rfl (hN0 c_5) rfl dX3_dead_32 (fun H locs hM hS => ?_)
        refine lv_iconst (v := 1) hx hb dX3_dead_33 (by decide) ?_
        have hF : fX3_dead u pe da = (true, (sa u 2 pe.toNatClampNeg da)) := by rw [fX3_dead, if_pos c_5, if_neg c_14, if_pos c_21]
        exact mw_zret hx hb hr hlk hM hS (by rw [hF]; rfl) (by rw [hF]) dX3_dead_34
      · skip
        refine lv_iconst (v := 0) hx hb dX3_dead_24 (by decide) ?_
        have hF : fX3_dead u pe da = (false, u) := by rw [fX3_dead, if_pos c_5, if_neg c_14, if_neg (nt_of c_21)]
        exact mw_zret hx hb hr hlk hM hS (by rw [hF]; rfl) (by rw [hF]) dX3_dead_25

def fX3_isDead (u : St) (pe : Int32) (da : Int32) : Bool :=
  if (u.2.1 2 pe.toNatClampNeg) < 0 then false else (if da < (u.2.1 2 pe.toNatClampNeg) then false else true)
def okX3_isDead (u : St) (pe : Int32) (da : Int32) : Prop :=
  (vp_in pe 24)
set_option maxHeartbeats 4000000 in
theorem metX3_isDead (l : Launch) (D : va_G) (cA : Nat → ClassId) (o : Nat) (u : St) (pe : Int32) (da : Int32) (hok : okX3_isDead u pe da) : MetR l yX3_isDead cX3_isDead 3 (some .boolean) 0 D cA o u [.ref o, .int pe, .int da] (some (.int (b2 (fX3_isDead u pe da)))) := by
  have hN0 := hok
  refine mM_start RX3 (by decide) rfl (Nat.le_of_ble_eq_true rfl) ?_
  intro pg ev s0 mi bl me co hx hb hml hown hts hr hlk hK hM ls hl
  have hl : lv_has ls 3 [(0, .ref o), (1, .int pe), (2, .int da)] := hl
  refine lv_aload_n hx hb dX3_isDead_0 rfl (lv_at hl 0 rfl) ?_
  refine mw_get (v := .ref (mAd o 2)) hx hb hts hown hK hM 2 (by decide) q1268 rfl rfl dX3_isDead_1 ?_
  refine lv_iload_n hx hb dX3_isDead_4 rfl (lv_at hl 1 rfl) ?_
  refine mw_ild (v := u.2.1 2 pe.toNatClampNeg) (j := pe.toNatClampNeg) hx hb hK hM 2 (by decide) rfl rfl hN0 rfl rfl dX3_isDead_5 ?_
  refine lv_if_lt (tgt := 23) hx hb dX3_isDead_6 (by decide) (fun c_6 => ?_) (fun c_6 => ?_)
  · skip
    refine lv_iconst (v := 0) hx hb dX3_isDead_23 (by decide) ?_
    have hF : fX3_isDead u pe da = false := by rw [fX3_isDead, if_pos c_6]
    exact zret_ro hx hb hr hlk (by rw [hF]; rfl) dX3_isDead_24
  · skip
    refine lv_aload_n hx hb dX3_isDead_9 rfl (lv_at hl 0 rfl) ?_
    refine mw_get (v := .ref (mAd o 2)) hx hb hts hown hK hM 2 (by decide) q1268 rfl rfl dX3_isDead_10 ?_
    refine lv_iload_n hx hb dX3_isDead_13 rfl (lv_at hl 1 rfl) ?_
    refine mw_ild (v := u.2.1 2 pe.toNatClampNeg) (j := pe.toNatClampNeg) hx hb hK hM 2 (by decide) rfl rfl hN0 rfl rfl dX3_isDead_14 ?_
    refine lv_iload_n hx hb dX3_isDead_15 rfl (lv_at hl 2 rfl) ?_
    refine lv_icmp_gt (tgt := 23) hx hb dX3_isDead_16 (by decide) (fun c_16 => ?_) (fun c_16 => ?_)
    · skip
      refine lv_iconst (v := 0) hx hb dX3_isDead_23 (by decide) ?_
      have hF : fX3_isDead u pe da = false := by rw [fX3_isDead, if_neg c_6, if_pos c_16]
      exact zret_ro hx hb hr hlk (by rw [hF]; rfl) dX3_isDead_24
    · skip
      refine lv_iconst (v := 1) hx hb dX3_isDead_19 (by decide) ?_
      refine lv_goto (tgt := 24) hx hb dX3_isDead_20 (by decide) ?_
      have hF : fX3_isDead u pe da = true := by rw [fX3_isDead, if_neg c_6, if_neg c_16]
      exact zret_ro hx hb hr hlk (by rw [hF]; rfl) dX3_isDead_24

def fX3_house (u : St) (ho : Int32) (wo : Int32) : Int32 × St :=
  if (fX3_isPerson u ho) = true then (if (fX3_isSum wo) = true then (if (u.1 7) = 8 then ((-1), u) else (((u.1 7) + 1) - 1, (si (sa (sa u 3 ((u.1 7).toNatClampNeg) ho) 4 ((u.1 7).toNatClampNeg) wo) 7 ((u.1 7) + 1)))) else ((-1), u)) else ((-1), u)
def okX3_house (u : St) (ho : Int32) (wo : Int32) : Prop :=
  ((fX3_isPerson u ho) = true → (fX3_isSum wo) = true → ¬ ((u.1 7) = 8) → vp_in (u.1 7) 8)
set_option maxHeartbeats 4000000 in
theorem metX3_house (l : Launch) (D : va_G) (cA : Nat → ClassId) (o : Nat) (u : St) (ho : Int32) (wo : Int32) (hok : okX3_house u ho wo) : MetM l yX3_house cX3_house 3 (some .int) 1 D cA o u [.ref o, .int ho, .int wo] (some (.int (fX3_house u ho wo).1)) (fX3_house u ho wo).2 := by
  have hN0 := hok
  refine mM_start RX3 (by decide) rfl (Nat.le_of_ble_eq_true rfl) ?_
  intro pg ev s0 mi bl me co hx hb hml hown hts hr hlk hK hM ls hl
  have hl : lv_has ls 3 [(0, .ref o), (1, .int ho), (2, .int wo)] := hl
  have hS : va_S (mA o) s0.heap s0.heap [] := va_S.rf
  refine lv_aload_n hx hb dX3_house_0 rfl (lv_at hl 0 rfl) ?_
  refine lv_iload_n hx hb dX3_house_1 rfl (lv_at hl 1 rfl) ?_
  refine ro_call (mw_run (n := 1) (As := [.int ho]) (rest := []) hx hb hml hown hts (metX3_isPerson l D cA o u ho) q1443 q1445 qs31 q1446 (by decide +kernel) (by decide) (by decide) rfl hK hM hl.1 (Nat.le_of_ble_eq_true rfl) rfl dX3_house_2 ⟨Nat.le_refl _, Nat.le_refl _⟩) ?_
  refine lv_B_eq (tgt := 24) hx hb dX3_house_5 (by decide) (fun c_5 => ?_) (fun c_5 => ?_)
  · skip
    refine lv_iconst (v := (-1)) hx hb dX3_house_24 (by decide) ?_
    have hF : fX3_house u ho wo = ((-1), u) := by rw [fX3_house, if_neg (nt_of c_5)]
    exact mw_iret hx hb hr hlk hM hS (by rw [hF]) (by rw [hF]) dX3_house_25
  · skip
    refine lv_iload_n hx hb dX3_house_8 rfl (lv_at hl 2 rfl) ?_
    refine ro_call (st_run (n := 1) (As := [.int wo]) (rest := []) hx hb hml hown hts (metX3_isSum l wo) q1455 q1456 q71 q1457 (by decide +kernel) (by decide) (by decide) rfl hl.1 (Nat.le_of_ble_eq_true rfl) rfl dX3_house_9 ⟨Nat.le_refl _, Nat.le_refl _⟩) ?_
    refine lv_B_eq (tgt := 24) hx hb dX3_house_12 (by decide) (fun c_12 => ?_) (fun c_12 => ?_)
    · skip
      refine lv_iconst (v := (-1)) hx hb dX3_house_24 (by decide) ?_
      have hF : fX3_house u ho wo = ((-1), u) := by rw [fX3_house, if_pos c_5, if_neg (nt_of c_12)]
      exact mw_iret hx hb hr hlk hM hS (by rw [hF]) (by rw [hF]) dX3_house_25
    · skip
      refine lv_aload_n hx hb dX3_house_15 rfl (lv_at hl 0 rfl) ?_
      refine mw_get (v := .int (u.1 7)) hx hb hts hown hK hM 7 (by decide) q1273 rfl rfl dX3_house_16 ?_
      refine lv_bipush (v := 8) hx hb dX3_house_19 (by decide) ?_
      refine lv_icmp_ne (tgt := 26) hx hb dX3_house_21 (by decide) (fun c_21 => ?_) (fun c_21 => ?_)
      · skip
        refine lv_aload_n hx hb dX3_house_26 rfl (lv_at hl 0 rfl) ?_
        refine mw_get (v := .ref (mAd o 3)) hx hb hts hown hK hM 3 (by decide) q1269 rfl rfl dX3_house_27 ?_
        refine lv_aload_n hx hb dX3_house_30 rfl (lv_at hl 0 rfl) ?_
        refine mw_get (v := .int (u.1 7)) hx hb hts hown hK hM 7 (by decide) q1273 rfl rfl dX3_house_31 ?_
        refine lv_iload_n hx hb dX3_house_34 rfl (lv_at hl 1 rfl) ?_
        refine mw_ist (j := (u.1 7).toNatClampNeg) hx hb hK hM hS 3 (by decide) rfl rfl (hN0 c_5 c_12 c_21) rfl dX3_house_35 (fun H locs hM hS => ?_)
        refine lv_aload_n hx hb dX3_house_36 rfl (lv_at hl 0 rfl) ?_
        refine mw_get (v := .ref (mAd o 4)) hx hb hts hown hK hM 4 (by decide) q1270 rfl rfl dX3_house_37 ?_
        refine lv_aload_n hx hb dX3_house_40 rfl (lv_at hl 0 rfl) ?_
        refine mw_get (v := .int (u.1 7)) hx hb hts hown hK hM 7 (by decide) q1273 rfl rfl dX3_house_41 ?_
        refine lv_iload_n hx hb dX3_house_44 rfl (lv_at hl 2 rfl) ?_
        refine mw_ist (j := (u.1 7).toNatClampNeg) hx hb hK hM hS 4 (by decide) rfl rfl (hN0 c_5 c_12 c_21) rfl dX3_house_45 (fun H locs hM hS => ?_)
        refine lv_aload_n hx hb dX3_house_46 rfl (lv_at hl 0 rfl) ?_
        refine lv_dup hx hb dX3_house_47 rfl ?_
        refine mw_get (v := .int (u.1 7)) hx hb hts hown hK hM 7 (by decide) q1273 rfl rfl dX3_house_48 ?_
        refine lv_iconst (v := 1) hx hb dX3_house_51 (by decide) ?_
        refine lv_iadd hx hb dX3_house_52 ?_
        refine mw_puti hx hb hts hown hK hM hS 7 (by decide) q1273 rfl rfl rfl rfl dX3_house_53 (fun H locs hM hS => ?_)
        refine lv_aload_n hx hb dX3_house_56 rfl (lv_at hl 0 rfl) ?_
        refine mw_get (v := .int ((u.1 7) + 1)) hx hb hts hown hK hM 7 (by decide) q1273 rfl rfl dX3_house_57 ?_
        refine lv_iconst (v := 1) hx hb dX3_house_60 (by decide) ?_
        refine lv_isub hx hb dX3_house_61 ?_
        have hF : fX3_house u ho wo = (((u.1 7) + 1) - 1, (si (sa (sa u 3 ((u.1 7).toNatClampNeg) ho) 4 ((u.1 7).toNatClampNeg) wo) 7 ((u.1 7) + 1))) := by rw [fX3_house, if_pos c_5, if_pos c_12, if_neg c_21]
        exact mw_iret hx hb hr hlk hM hS (by rw [hF]) (by rw [hF]) dX3_house_62
      · skip
        refine lv_iconst (v := (-1)) hx hb dX3_house_24 (by decide) ?_
        have hF : fX3_house u ho wo = ((-1), u) := by rw [fX3_house, if_pos c_5, if_pos c_12, if_pos c_21]
        exact mw_iret hx hb hr hlk hM hS (by rw [hF]) (by rw [hF]) dX3_house_25

def fX3_level (u : St) (ye : Int32) (le : Int32) : Bool × St :=
  if (fX3_isYear ye) = true then (if le < 1 then (false, u) else (if le ≤ 10000 then (true, (sa u 5 ye.toNatClampNeg le)) else (false, u))) else (false, u)
def okX3_level (u : St) (ye : Int32) (le : Int32) : Prop :=
  ((fX3_isYear ye) = true → ¬ (le < 1) → le ≤ 10000 → vp_in ye 100)
set_option maxHeartbeats 4000000 in
theorem metX3_level (l : Launch) (D : va_G) (cA : Nat → ClassId) (o : Nat) (u : St) (ye : Int32) (le : Int32) (hok : okX3_level u ye le) : MetM l yX3_level cX3_level 3 (some .boolean) 1 D cA o u [.ref o, .int ye, .int le] (some (.int (b2 (fX3_level u ye le).1))) (fX3_level u ye le).2 := by
  have hN0 := hok
  refine mM_start RX3 (by decide) rfl (Nat.le_of_ble_eq_true rfl) ?_
  intro pg ev s0 mi bl me co hx hb hml hown hts hr hlk hK hM ls hl
  have hl : lv_has ls 3 [(0, .ref o), (1, .int ye), (2, .int le)] := hl
  have hS : va_S (mA o) s0.heap s0.heap [] := va_S.rf
  refine lv_iload_n hx hb dX3_level_0 rfl (lv_at hl 1 rfl) ?_
  refine ro_call (st_run (n := 1) (As := [.int ye]) (rest := []) hx hb hml hown hts (metX3_isYear l ye) q1463 q1464 q71 q1465 (by decide +kernel) (by decide) (by decide) rfl hl.1 (Nat.le_of_ble_eq_true rfl) rfl dX3_level_1 ⟨Nat.le_refl _, Nat.le_refl _⟩) ?_
  refine lv_B_eq (tgt := 19) hx hb dX3_level_4 (by decide) (fun c_4 => ?_) (fun c_4 => ?_)
  · skip
    refine lv_iconst (v := 0) hx hb dX3_level_19 (by decide) ?_
    have hF : fX3_level u ye le = (false, u) := by rw [fX3_level, if_neg (nt_of c_4)]
    exact mw_zret hx hb hr hlk hM hS (by rw [hF]; rfl) (by rw [hF]) dX3_level_20
  · skip
    refine lv_iload_n hx hb dX3_level_7 rfl (lv_at hl 2 rfl) ?_
    refine lv_iconst (v := 1) hx hb dX3_level_8 (by decide) ?_
    refine lv_icmp_lt (tgt := 19) hx hb dX3_level_9 (by decide) (fun c_9 => ?_) (fun c_9 => ?_)
    · skip
      refine lv_iconst (v := 0) hx hb dX3_level_19 (by decide) ?_
      have hF : fX3_level u ye le = (false, u) := by rw [fX3_level, if_pos c_4, if_pos c_9]
      exact mw_zret hx hb hr hlk hM hS (by rw [hF]; rfl) (by rw [hF]) dX3_level_20
    · skip
      refine lv_iload_n hx hb dX3_level_12 rfl (lv_at hl 2 rfl) ?_
      refine lv_sipush (v := 10000) hx hb dX3_level_13 (by decide) ?_
      refine lv_icmp_le (tgt := 21) hx hb dX3_level_16 (by decide) (fun c_16 => ?_) (fun c_16 => ?_)
      · skip
        refine lv_aload_n hx hb dX3_level_21 rfl (lv_at hl 0 rfl) ?_
        refine mw_get (v := .ref (mAd o 5)) hx hb hts hown hK hM 5 (by decide) q1271 rfl rfl dX3_level_22 ?_
        refine lv_iload_n hx hb dX3_level_25 rfl (lv_at hl 1 rfl) ?_
        refine lv_iload_n hx hb dX3_level_26 rfl (lv_at hl 2 rfl) ?_
        refine mw_ist (j := ye.toNatClampNeg) hx hb hK hM hS 5 (by decide) rfl rfl (hN0 c_4 c_9 c_16) rfl dX3_level_27 (fun H locs hM hS => ?_)
        refine lv_iconst (v := 1) hx hb dX3_level_28 (by decide) ?_
        have hF : fX3_level u ye le = (true, (sa u 5 ye.toNatClampNeg le)) := by rw [fX3_level, if_pos c_4, if_neg c_9, if_pos c_16]
        exact mw_zret hx hb hr hlk hM hS (by rw [hF]; rfl) (by rw [hF]) dX3_level_29
      · skip
        refine lv_iconst (v := 0) hx hb dX3_level_19 (by decide) ?_
        have hF : fX3_level u ye le = (false, u) := by rw [fX3_level, if_pos c_4, if_neg c_9, if_neg c_16]
        exact mw_zret hx hb hr hlk hM hS (by rw [hF]; rfl) (by rw [hF]) dX3_level_20

def fX3_turned (u : St) (su : Int32) (fr : Int32) (to : Int32) : Int64 :=
  (su.toInt64 * ((u.2.1 5 to.toNatClampNeg).toInt64)) / ((u.2.1 5 fr.toNatClampNeg).toInt64)
def okX3_turned (u : St) (su : Int32) (fr : Int32) (to : Int32) : Prop :=
  (vp_in to 100) ∧ (vp_in fr 100) ∧ (¬ ((u.2.1 5 fr.toNatClampNeg).toInt64) = 0)
set_option maxHeartbeats 4000000 in
theorem metX3_turned (l : Launch) (D : va_G) (cA : Nat → ClassId) (o : Nat) (u : St) (su : Int32) (fr : Int32) (to : Int32) (hok : okX3_turned u su fr to) : MetR l yX3_turned cX3_turned 4 (some .long) 0 D cA o u [.ref o, .int su, .int fr, .int to] (some (.long (fX3_turned u su fr to))) := by
  obtain ⟨hN0, hN1, hN2⟩ := hok
  refine mM_start RX3 (by decide) rfl (Nat.le_of_ble_eq_true rfl) ?_
  intro pg ev s0 mi bl me co hx hb hml hown hts hr hlk hK hM ls hl
  have hl : lv_has ls 4 [(0, .ref o), (1, .int su), (2, .int fr), (3, .int to)] := hl
  refine lv_iload_n hx hb dX3_turned_0 rfl (lv_at hl 1 rfl) ?_
  refine lv_i2l hx hb dX3_turned_1 rfl ?_
  refine lv_aload_n hx hb dX3_turned_2 rfl (lv_at hl 0 rfl) ?_
  refine mw_get (v := .ref (mAd o 5)) hx hb hts hown hK hM 5 (by decide) q1271 rfl rfl dX3_turned_3 ?_
  refine lv_iload_n hx hb dX3_turned_6 rfl (lv_at hl 3 rfl) ?_
  refine mw_ild (v := u.2.1 5 to.toNatClampNeg) (j := to.toNatClampNeg) hx hb hK hM 5 (by decide) rfl rfl hN0 rfl rfl dX3_turned_7 ?_
  refine lv_i2l hx hb dX3_turned_8 rfl ?_
  refine lv_lmul hx hb dX3_turned_9 ?_
  refine lv_aload_n hx hb dX3_turned_10 rfl (lv_at hl 0 rfl) ?_
  refine mw_get (v := .ref (mAd o 5)) hx hb hts hown hK hM 5 (by decide) q1271 rfl rfl dX3_turned_11 ?_
  refine lv_iload_n hx hb dX3_turned_14 rfl (lv_at hl 2 rfl) ?_
  refine mw_ild (v := u.2.1 5 fr.toNatClampNeg) (j := fr.toNatClampNeg) hx hb hK hM 5 (by decide) rfl rfl hN1 rfl rfl dX3_turned_15 ?_
  refine lv_i2l hx hb dX3_turned_16 rfl ?_
  refine lv_ldiv hx hb dX3_turned_17 hN2 ?_
  have hF : fX3_turned u su fr to = (su.toInt64 * ((u.2.1 5 to.toNatClampNeg).toInt64)) / ((u.2.1 5 fr.toNatClampNeg).toInt64) := by rw [fX3_turned]
  exact lret_ro hx hb hr hlk (by rw [hF]) dX3_turned_18

def fX3_money (u : St) (su : Int32) (fr : Int32) (to : Int32) : Int64 :=
  if (fX3_isSum su) = true then (if (fX3_isYear fr) = true then (if (fX3_isYear to) = true then fX3_turned u su fr to else (-1)) else (-1)) else (-1)
def okX3_money (u : St) (su : Int32) (fr : Int32) (to : Int32) : Prop :=
  ((fX3_isSum su) = true → (fX3_isYear fr) = true → (fX3_isYear to) = true → okX3_turned u su fr to)
set_option maxHeartbeats 4000000 in
theorem metX3_money (l : Launch) (D : va_G) (cA : Nat → ClassId) (o : Nat) (u : St) (su : Int32) (fr : Int32) (to : Int32) (hok : okX3_money u su fr to) : MetR l yX3_money cX3_money 4 (some .long) 1 D cA o u [.ref o, .int su, .int fr, .int to] (some (.long (fX3_money u su fr to))) := by
  have hN0 := hok
  refine mM_start RX3 (by decide) rfl (Nat.le_of_ble_eq_true rfl) ?_
  intro pg ev s0 mi bl me co hx hb hml hown hts hr hlk hK hM ls hl
  have hl : lv_has ls 4 [(0, .ref o), (1, .int su), (2, .int fr), (3, .int to)] := hl
  refine lv_iload_n hx hb dX3_money_0 rfl (lv_at hl 1 rfl) ?_
  refine ro_call (st_run (n := 1) (As := [.int su]) (rest := []) hx hb hml hown hts (metX3_isSum l su) q1455 q1456 q71 q1457 (by decide +kernel) (by decide) (by decide) rfl hl.1 (Nat.le_of_ble_eq_true rfl) rfl dX3_money_1 ⟨Nat.le_refl _, Nat.le_refl _⟩) ?_
  refine lv_B_eq (tgt := 31) hx hb dX3_money_4 (by decide) (fun c_4 => ?_) (fun c_4 => ?_)
  · skip
    refine lv_ldc2 (v := (-1)) hx hb hown (hts _ q1474) dX3_money_31 ?_
    have hF : fX3_money u su fr to = (-1) := by rw [fX3_money, if_neg (nt_of c_4)]
    exact lret_ro hx hb hr hlk (by rw [hF]) dX3_money_34
  · skip
    refine lv_iload_n hx hb dX3_money_7 rfl (lv_at hl 2 rfl) ?_
    refine ro_call (st_run (n := 1) (As := [.int fr]) (rest := []) hx hb hml hown hts (metX3_isYear l fr) q1463 q1464 q71 q1465 (by decide +kernel) (by decide) (by decide) rfl hl.1 (Nat.le_of_ble_eq_true rfl) rfl dX3_money_8 ⟨Nat.le_refl _, Nat.le_refl _⟩) ?_
    refine lv_B_eq (tgt := 31) hx hb dX3_money_11 (by decide) (fun c_11 => ?_) (fun c_11 => ?_)
    · skip
      refine lv_ldc2 (v := (-1)) hx hb hown (hts _ q1474) dX3_money_31 ?_
      have hF : fX3_money u su fr to = (-1) := by rw [fX3_money, if_pos c_4, if_neg (nt_of c_11)]
      exact lret_ro hx hb hr hlk (by rw [hF]) dX3_money_34
    · skip
      refine lv_iload_n hx hb dX3_money_14 rfl (lv_at hl 3 rfl) ?_
      refine ro_call (st_run (n := 1) (As := [.int to]) (rest := []) hx hb hml hown hts (metX3_isYear l to) q1463 q1464 q71 q1465 (by decide +kernel) (by decide) (by decide) rfl hl.1 (Nat.le_of_ble_eq_true rfl) rfl dX3_money_15 ⟨Nat.le_refl _, Nat.le_refl _⟩) ?_
      refine lv_B_eq (tgt := 31) hx hb dX3_money_18 (by decide) (fun c_18 => ?_) (fun c_18 => ?_)
      · skip
        refine lv_ldc2 (v := (-1)) hx hb hown (hts _ q1474) dX3_money_31 ?_
        have hF : fX3_money u su fr to = (-1) := by rw [fX3_money, if_pos c_4, if_pos c_11, if_neg (nt_of c_18)]
        exact lret_ro hx hb hr hlk (by rw [hF]) dX3_money_34
      · skip
        refine lv_aload_n hx hb dX3_money_21 rfl (lv_at hl 0 rfl) ?_
        refine lv_iload_n hx hb dX3_money_22 rfl (lv_at hl 1 rfl) ?_
        refine lv_iload_n hx hb dX3_money_23 rfl (lv_at hl 2 rfl) ?_
        refine lv_iload_n hx hb dX3_money_24 rfl (lv_at hl 3 rfl) ?_
        refine ro_call (mw_run (n := 3) (As := [.int su, .int fr, .int to]) (rest := []) hx hb hml hown hts (metX3_turned l D cA o u su fr to (hN0 c_4 c_11 c_18)) q1470 q1472 qs32 q1473 (by decide +kernel) (by decide) (by decide) rfl hK hM hl.1 (Nat.le_of_ble_eq_true rfl) rfl dX3_money_25 ⟨Nat.le_refl _, Nat.le_refl _⟩) ?_
        refine lv_goto (tgt := 34) hx hb dX3_money_28 (by decide) ?_
        have hF : fX3_money u su fr to = fX3_turned u su fr to := by rw [fX3_money, if_pos c_4, if_pos c_11, if_pos c_18]
        exact lret_ro hx hb hr hlk (by rw [hF]) dX3_money_34

def fX3_paper (u : St) (ho : Int32) (fr : Int32) (to : Int32) (da : Int32) (so : Int32) (pr : Int32) : Int32 × St :=
  if (fX3_isHouse u ho) = true then (if (fX3_isPerson u fr) = true then (if (fX3_isPerson u to) = true then (if fr = to then ((-1), u) else (if da < 0 then ((-1), u) else (if (u.1 8) < da then ((-1), u) else (if so < 0 then ((-1), u) else (if 2 < so then ((-1), u) else (if (fX3_isSum pr) = true then (if (u.1 19) = 60 then ((-1), u) else (((u.1 19) + 1) - 1, (si (sa (sa (sa (sa (sa (sa (sa (sa u 9 ((u.1 19).toNatClampNeg) ho) 10 ((u.1 19).toNatClampNeg) fr) 11 ((u.1 19).toNatClampNeg) to) 12 ((u.1 19).toNatClampNeg) da) 13 ((u.1 19).toNatClampNeg) so) 14 ((u.1 19).toNatClampNeg) pr) 15 ((u.1 19).toNatClampNeg) (u.1 8)) 16 ((u.1 19).toNatClampNeg) (-1)) 19 ((u.1 19) + 1)))) else ((-1), u))))))) else ((-1), u)) else ((-1), u)) else ((-1), u)
def okX3_paper (u : St) (ho : Int32) (fr : Int32) (to : Int32) (da : Int32) (so : Int32) (pr : Int32) : Prop :=
  ((fX3_isHouse u ho) = true → (fX3_isPerson u fr) = true → (fX3_isPerson u to) = true → ¬ (fr = to) → ¬ (da < 0) → ¬ ((u.1 8) < da) → ¬ (so < 0) → ¬ (2 < so) → (fX3_isSum pr) = true → ¬ ((u.1 19) = 60) → vp_in (u.1 19) 60)
set_option maxHeartbeats 4000000 in
theorem metX3_paper (l : Launch) (D : va_G) (cA : Nat → ClassId) (o : Nat) (u : St) (ho : Int32) (fr : Int32) (to : Int32) (da : Int32) (so : Int32) (pr : Int32) (hok : okX3_paper u ho fr to da so pr) : MetM l yX3_paper cX3_paper 7 (some .int) 1 D cA o u [.ref o, .int ho, .int fr, .int to, .int da, .int so, .int pr] (some (.int (fX3_paper u ho fr to da so pr).1)) (fX3_paper u ho fr to da so pr).2 := by
  have hN0 := hok
  refine mM_start RX3 (by decide) rfl (Nat.le_of_ble_eq_true rfl) ?_
  intro pg ev s0 mi bl me co hx hb hml hown hts hr hlk hK hM ls hl
  have hl : lv_has ls 7 [(0, .ref o), (1, .int ho), (2, .int fr), (3, .int to), (4, .int da), (5, .int so), (6, .int pr)] := hl
  have hS : va_S (mA o) s0.heap s0.heap [] := va_S.rf
  refine lv_aload_n hx hb dX3_paper_0 rfl (lv_at hl 0 rfl) ?_
  refine lv_iload_n hx hb dX3_paper_1 rfl (lv_at hl 1 rfl) ?_
  refine ro_call (mw_run (n := 1) (As := [.int ho]) (rest := []) hx hb hml hown hts (metX3_isHouse l D cA o u ho) q1479 q1481 qs33 q1482 (by decide +kernel) (by decide) (by decide) rfl hK hM hl.1 (Nat.le_of_ble_eq_true rfl) rfl dX3_paper_2 ⟨Nat.le_refl _, Nat.le_refl _⟩) ?_
  refine lv_B_eq (tgt := 71) hx hb dX3_paper_5 (by decide) (fun c_5 => ?_) (fun c_5 => ?_)
  · skip
    refine lv_iconst (v := (-1)) hx hb dX3_paper_71 (by decide) ?_
    have hF : fX3_paper u ho fr to da so pr = ((-1), u) := by rw [fX3_paper, if_neg (nt_of c_5)]
    exact mw_iret hx hb hr hlk hM hS (by rw [hF]) (by rw [hF]) dX3_paper_72
  · skip
    refine lv_aload_n hx hb dX3_paper_8 rfl (lv_at hl 0 rfl) ?_
    refine lv_iload_n hx hb dX3_paper_9 rfl (lv_at hl 2 rfl) ?_
    refine ro_call (mw_run (n := 1) (As := [.int fr]) (rest := []) hx hb hml hown hts (metX3_isPerson l D cA o u fr) q1443 q1445 qs31 q1446 (by decide +kernel) (by decide) (by decide) rfl hK hM hl.1 (Nat.le_of_ble_eq_true rfl) rfl dX3_paper_10 ⟨Nat.le_refl _, Nat.le_refl _⟩) ?_
    refine lv_B_eq (tgt := 71) hx hb dX3_paper_13 (by decide) (fun c_13 => ?_) (fun c_13 => ?_)
    · skip
      refine lv_iconst (v := (-1)) hx hb dX3_paper_71 (by decide) ?_
      have hF : fX3_paper u ho fr to da so pr = ((-1), u) := by rw [fX3_paper, if_pos c_5, if_neg (nt_of c_13)]
      exact mw_iret hx hb hr hlk hM hS (by rw [hF]) (by rw [hF]) dX3_paper_72
    · skip
      refine lv_aload_n hx hb dX3_paper_16 rfl (lv_at hl 0 rfl) ?_
      refine lv_iload_n hx hb dX3_paper_17 rfl (lv_at hl 3 rfl) ?_
      refine ro_call (mw_run (n := 1) (As := [.int to]) (rest := []) hx hb hml hown hts (metX3_isPerson l D cA o u to) q1443 q1445 qs31 q1446 (by decide +kernel) (by decide) (by decide) rfl hK hM hl.1 (Nat.le_of_ble_eq_true rfl) rfl dX3_paper_18 ⟨Nat.le_refl _, Nat.le_refl _⟩) ?_
      refine lv_B_eq (tgt := 71) hx hb dX3_paper_21 (by decide) (fun c_21 => ?_) (fun c_21 => ?_)
      · skip
        refine lv_iconst (v := (-1)) hx hb dX3_paper_71 (by decide) ?_
        have hF : fX3_paper u ho fr to da so pr = ((-1), u) := by rw [fX3_paper, if_pos c_5, if_pos c_13, if_neg (nt_of c_21)]
        exact mw_iret hx hb hr hlk hM hS (by rw [hF]) (by rw [hF]) dX3_paper_72
      · skip
        refine lv_iload_n hx hb dX3_paper_24 rfl (lv_at hl 2 rfl) ?_
        refine lv_iload_n hx hb dX3_paper_25 rfl (lv_at hl 3 rfl) ?_
        refine lv_icmp_eq (tgt := 71) hx hb dX3_paper_26 (by decide) (fun c_26 => ?_) (fun c_26 => ?_)
        · skip
          refine lv_iconst (v := (-1)) hx hb dX3_paper_71 (by decide) ?_
          have hF : fX3_paper u ho fr to da so pr = ((-1), u) := by rw [fX3_paper, if_pos c_5, if_pos c_13, if_pos c_21, if_pos c_26]
          exact mw_iret hx hb hr hlk hM hS (by rw [hF]) (by rw [hF]) dX3_paper_72
        · skip
          refine lv_iload hx hb dX3_paper_29 (lv_at hl 4 rfl) ?_
          refine lv_if_lt (tgt := 71) hx hb dX3_paper_31 (by decide) (fun c_31 => ?_) (fun c_31 => ?_)
          · skip
            refine lv_iconst (v := (-1)) hx hb dX3_paper_71 (by decide) ?_
            have hF : fX3_paper u ho fr to da so pr = ((-1), u) := by rw [fX3_paper, if_pos c_5, if_pos c_13, if_pos c_21, if_neg c_26, if_pos c_31]
            exact mw_iret hx hb hr hlk hM hS (by rw [hF]) (by rw [hF]) dX3_paper_72
          · skip
            refine lv_iload hx hb dX3_paper_34 (lv_at hl 4 rfl) ?_
            refine lv_aload_n hx hb dX3_paper_36 rfl (lv_at hl 0 rfl) ?_
            refine mw_get (v := .int (u.1 8)) hx hb hts hown hK hM 8 (by decide) q1274 rfl rfl dX3_paper_37 ?_
            refine lv_icmp_gt (tgt := 71) hx hb dX3_paper_40 (by decide) (fun c_40 => ?_) (fun c_40 => ?_)
            · skip
              refine lv_iconst (v := (-1)) hx hb dX3_paper_71 (by decide) ?_
              have hF : fX3_paper u ho fr to da so pr = ((-1), u) := by rw [fX3_paper, if_pos c_5, if_pos c_13, if_pos c_21, if_neg c_26, if_neg c_31, if_pos c_40]
              exact mw_iret hx hb hr hlk hM hS (by rw [hF]) (by rw [hF]) dX3_paper_72
            · skip
              refine lv_iload hx hb dX3_paper_43 (lv_at hl 5 rfl) ?_
              refine lv_if_lt (tgt := 71) hx hb dX3_paper_45 (by decide) (fun c_45 => ?_) (fun c_45 => ?_)
              · skip
                refine lv_iconst (v := (-1)) hx hb dX3_paper_71 (by decide) ?_
                have hF : fX3_paper u ho fr to da so pr = ((-1), u) := by rw [fX3_paper, if_pos c_5, if_pos c_13, if_pos c_21, if_neg c_26, if_neg c_31, if_neg c_40, if_pos c_45]
                exact mw_iret hx hb hr hlk hM hS (by rw [hF]) (by rw [hF]) dX3_paper_72
              · skip
                refine lv_iload hx hb dX3_paper_48 (lv_at hl 5 rfl) ?_
                refine lv_iconst (v := 2) hx hb dX3_paper_50 (by decide) ?_
                refine lv_icmp_gt (tgt := 71) hx hb dX3_paper_51 (by decide) (fun c_51 => ?_) (fun c_51 => ?_)
                · skip
                  refine lv_iconst (v := (-1)) hx hb dX3_paper_71 (by decide) ?_
                  have hF : fX3_paper u ho fr to da so pr = ((-1), u) := by rw [fX3_paper, if_pos c_5, if_pos c_13, if_pos c_21, if_neg c_26, if_neg c_31, if_neg c_40, if_neg c_45, if_pos c_51]
                  exact mw_iret hx hb hr hlk hM hS (by rw [hF]) (by rw [hF]) dX3_paper_72
                · skip
                  refine lv_iload hx hb dX3_paper_54 (lv_at hl 6 rfl) ?_
                  refine ro_call (st_run (n := 1) (As := [.int pr]) (rest := []) hx hb hml hown hts (metX3_isSum l pr) q1455 q1456 q71 q1457 (by decide +kernel) (by decide) (by decide) rfl hl.1 (Nat.le_of_ble_eq_true rfl) rfl dX3_paper_56 ⟨Nat.le_refl _, Nat.le_refl _⟩) ?_
                  refine lv_B_eq (tgt := 71) hx hb dX3_paper_59 (by decide) (fun c_59 => ?_) (fun c_59 => ?_)
                  · skip
                    refine lv_iconst (v := (-1)) hx hb dX3_paper_71 (by decide) ?_
                    have hF : fX3_paper u ho fr to da so pr = ((-1), u) := by rw [fX3_paper, if_pos c_5, if_pos c_13, if_pos c_21, if_neg c_26, if_neg c_31, if_neg c_40, if_neg c_45, if_neg c_51, if_neg (nt_of c_59)]
                    exact mw_iret hx hb hr hlk hM hS (by rw [hF]) (by rw [hF]) dX3_paper_72
                  · skip
                    refine lv_aload_n hx hb dX3_paper_62 rfl (lv_at hl 0 rfl) ?_
                    refine mw_get (v := .int (u.1 19)) hx hb hts hown hK hM 19 (by decide) q1285 rfl rfl dX3_paper_63 ?_
                    refine lv_bipush (v := 60) hx hb dX3_paper_66 (by decide) ?_
                    refine lv_icmp_ne (tgt := 73) hx hb dX3_paper_68 (by decide) (fun c_68 => ?_) (fun c_68 => ?_)
                    · skip
                      refine lv_aload_n hx hb dX3_paper_73 rfl (lv_at hl 0 rfl) ?_
                      refine mw_get (v := .ref (mAd o 9)) hx hb hts hown hK hM 9 (by decide) q1275 rfl rfl dX3_paper_74 ?_
                      refine lv_aload_n hx hb dX3_paper_77 rfl (lv_at hl 0 rfl) ?_
                      refine mw_get (v := .int (u.1 19)) hx hb hts hown hK hM 19 (by decide) q1285 rfl rfl dX3_paper_78 ?_
                      refine lv_iload_n hx hb dX3_paper_81 rfl (lv_at hl 1 rfl) ?_
                      refine mw_ist (j := (u.1 19).toNatClampNeg) hx hb hK hM hS 9 (by decide) rfl rfl (hN0 c_5 c_13 c_21 c_26 c_31 c_40 c_45 c_51 c_59 c_68) rfl dX3_paper_82 (fun H locs hM hS => ?_)
                      refine lv_aload_n hx hb dX3_paper_83 rfl (lv_at hl 0 rfl) ?_
                      refine mw_get (v := .ref (mAd o 10)) hx hb hts hown hK hM 10 (by decide) q1276 rfl rfl dX3_paper_84 ?_
                      refine lv_aload_n hx hb dX3_paper_87 rfl (lv_at hl 0 rfl) ?_
                      refine mw_get (v := .int (u.1 19)) hx hb hts hown hK hM 19 (by decide) q1285 rfl rfl dX3_paper_88 ?_
                      refine lv_iload_n hx hb dX3_paper_91 rfl (lv_at hl 2 rfl) ?_
                      refine mw_ist (j := (u.1 19).toNatClampNeg) hx hb hK hM hS 10 (by decide) rfl rfl (hN0 c_5 c_13 c_21 c_26 c_31 c_40 c_45 c_51 c_59 c_68) rfl dX3_paper_92 (fun H locs hM hS => ?_)
                      refine lv_aload_n hx hb dX3_paper_93 rfl (lv_at hl 0 rfl) ?_
                      refine mw_get (v := .ref (mAd o 11)) hx hb hts hown hK hM 11 (by decide) q1277 rfl rfl dX3_paper_94 ?_
                      refine lv_aload_n hx hb dX3_paper_97 rfl (lv_at hl 0 rfl) ?_
                      refine mw_get (v := .int (u.1 19)) hx hb hts hown hK hM 19 (by decide) q1285 rfl rfl dX3_paper_98 ?_
                      refine lv_iload_n hx hb dX3_paper_101 rfl (lv_at hl 3 rfl) ?_
                      refine mw_ist (j := (u.1 19).toNatClampNeg) hx hb hK hM hS 11 (by decide) rfl rfl (hN0 c_5 c_13 c_21 c_26 c_31 c_40 c_45 c_51 c_59 c_68) rfl dX3_paper_102 (fun H locs hM hS => ?_)
                      refine lv_aload_n hx hb dX3_paper_103 rfl (lv_at hl 0 rfl) ?_
                      refine mw_get (v := .ref (mAd o 12)) hx hb hts hown hK hM 12 (by decide) q1278 rfl rfl dX3_paper_104 ?_
                      refine lv_aload_n hx hb dX3_paper_107 rfl (lv_at hl 0 rfl) ?_
                      refine mw_get (v := .int (u.1 19)) hx hb hts hown hK hM 19 (by decide) q1285 rfl rfl dX3_paper_108 ?_
                      refine lv_iload hx hb dX3_paper_111 (lv_at hl 4 rfl) ?_
                      refine mw_ist (j := (u.1 19).toNatClampNeg) hx hb hK hM hS 12 (by decide) rfl rfl (hN0 c_5 c_13 c_21 c_26 c_31 c_40 c_45 c_51 c_59 c_68) rfl dX3_paper_113 (fun H locs hM hS => ?_)
                      refine lv_aload_n hx hb dX3_paper_114 rfl (lv_at hl 0 rfl) ?_
                      refine mw_get (v := .ref (mAd o 13)) hx hb hts hown hK hM 13 (by decide) q1279 rfl rfl dX3_paper_115 ?_
                      refine lv_aload_n hx hb dX3_paper_118 rfl (lv_at hl 0 rfl) ?_
                      refine mw_get (v := .int (u.1 19)) hx hb hts hown hK hM 19 (by decide) q1285 rfl rfl dX3_paper_119 ?_
                      refine lv_iload hx hb dX3_paper_122 (lv_at hl 5 rfl) ?_
                      refine mw_ist (j := (u.1 19).toNatClampNeg) hx hb hK hM hS 13 (by decide) rfl rfl (hN0 c_5 c_13 c_21 c_26 c_31 c_40 c_45 c_51 c_59 c_68) rfl dX3_paper_124 (fun H locs hM hS => ?_)
                      refine lv_aload_n hx hb dX3_paper_125 rfl (lv_at hl 0 rfl) ?_
                      refine mw_get (v := .ref (mAd o 14)) hx hb hts hown hK hM 14 (by decide) q1280 rfl rfl dX3_paper_126 ?_
                      refine lv_aload_n hx hb dX3_paper_129 rfl (lv_at hl 0 rfl) ?_
                      refine mw_get (v := .int (u.1 19)) hx hb hts hown hK hM 19 (by decide) q1285 rfl rfl dX3_paper_130 ?_
                      refine lv_iload hx hb dX3_paper_133 (lv_at hl 6 rfl) ?_
                      refine mw_ist (j := (u.1 19).toNatClampNeg) hx hb hK hM hS 14 (by decide) rfl rfl (hN0 c_5 c_13 c_21 c_26 c_31 c_40 c_45 c_51 c_59 c_68) rfl dX3_paper_135 (fun H locs hM hS => ?_)
                      refine lv_aload_n hx hb dX3_paper_136 rfl (lv_at hl 0 rfl) ?_
                      refine mw_get (v := .ref (mAd o 15)) hx hb hts hown hK hM 15 (by decide) q1281 rfl rfl dX3_paper_137 ?_
                      refine lv_aload_n hx hb dX3_paper_140 rfl (lv_at hl 0 rfl) ?_
                      refine mw_get (v := .int (u.1 19)) hx hb hts hown hK hM 19 (by decide) q1285 rfl rfl dX3_paper_141 ?_
                      refine lv_aload_n hx hb dX3_paper_144 rfl (lv_at hl 0 rfl) ?_
                      refine mw_get (v := .int (u.1 8)) hx hb hts hown hK hM 8 (by decide) q1274 rfl rfl dX3_paper_145 ?_
                      refine mw_ist (j := (u.1 19).toNatClampNeg) hx hb hK hM hS 15 (by decide) rfl rfl (hN0 c_5 c_13 c_21 c_26 c_31 c_40 c_45 c_51 c_59 c_68) rfl dX3_paper_148 (fun H locs hM hS => ?_)
                      refine lv_aload_n hx hb dX3_paper_149 rfl (lv_at hl 0 rfl) ?_
                      refine mw_get (v := .ref (mAd o 16)) hx hb hts hown hK hM 16 (by decide) q1282 rfl rfl dX3_paper_150 ?_
                      refine lv_aload_n hx hb dX3_paper_153 rfl (lv_at hl 0 rfl) ?_
                      refine mw_get (v := .int (u.1 19)) hx hb hts hown hK hM 19 (by decide) q1285 rfl rfl dX3_paper_154 ?_
                      refine lv_iconst (v := (-1)) hx hb dX3_paper_157 (by decide) ?_
                      refine mw_ist (j := (u.1 19).toNatClampNeg) hx hb hK hM hS 16 (by decide) rfl rfl (hN0 c_5 c_13 c_21 c_26 c_31 c_40 c_45 c_51 c_59 c_68) rfl dX3_paper_158 (fun H locs hM hS => ?_)
                      refine lv_aload_n hx hb dX3_paper_159 rfl (lv_at hl 0 rfl) ?_
                      refine lv_dup hx hb dX3_paper_160 rfl ?_
                      refine mw_get (v := .int (u.1 19)) hx hb hts hown hK hM 19 (by decide) q1285 rfl rfl dX3_paper_161 ?_
                      refine lv_iconst (v := 1) hx hb dX3_paper_164 (by decide) ?_
                      refine lv_iadd hx hb dX3_paper_165 ?_
                      refine mw_puti hx hb hts hown hK hM hS 19 (by decide) q1285 rfl rfl rfl rfl dX3_paper_166 (fun H locs hM hS => ?_)
                      refine lv_aload_n hx hb dX3_paper_169 rfl (lv_at hl 0 rfl) ?_
                      refine mw_get (v := .int ((u.1 19) + 1)) hx hb hts hown hK hM 19 (by decide) q1285 rfl rfl dX3_paper_170 ?_
                      refine lv_iconst (v := 1) hx hb dX3_paper_173 (by decide) ?_
                      refine lv_isub hx hb dX3_paper_174 ?_
                      have hF : fX3_paper u ho fr to da so pr = (((u.1 19) + 1) - 1, (si (sa (sa (sa (sa (sa (sa (sa (sa u 9 ((u.1 19).toNatClampNeg) ho) 10 ((u.1 19).toNatClampNeg) fr) 11 ((u.1 19).toNatClampNeg) to) 12 ((u.1 19).toNatClampNeg) da) 13 ((u.1 19).toNatClampNeg) so) 14 ((u.1 19).toNatClampNeg) pr) 15 ((u.1 19).toNatClampNeg) (u.1 8)) 16 ((u.1 19).toNatClampNeg) (-1)) 19 ((u.1 19) + 1))) := by rw [fX3_paper, if_pos c_5, if_pos c_13, if_pos c_21, if_neg c_26, if_neg c_31, if_neg c_40, if_neg c_45, if_neg c_51, if_pos c_59, if_neg c_68]
                      exact mw_iret hx hb hr hlk hM hS (by rw [hF]) (by rw [hF]) dX3_paper_175
                    · skip
                      refine lv_iconst (v := (-1)) hx hb dX3_paper_71 (by decide) ?_
                      have hF : fX3_paper u ho fr to da so pr = ((-1), u) := by rw [fX3_paper, if_pos c_5, if_pos c_13, if_pos c_21, if_neg c_26, if_neg c_31, if_neg c_40, if_neg c_45, if_neg c_51, if_pos c_59, if_pos c_68]
                      exact mw_iret hx hb hr hlk hM hS (by rw [hF]) (by rw [hF]) dX3_paper_72

def fX3_isFalse (u : St) (pa : Int32) : Bool × St :=
  if (fX3_isPaper u pa) = true then (if (u.2.1 16 pa.toNatClampNeg) < 0 then (true, (sa u 16 pa.toNatClampNeg (u.1 8))) else (false, u)) else (false, u)
def okX3_isFalse (u : St) (pa : Int32) : Prop :=
  ((fX3_isPaper u pa) = true → vp_in pa 60)
set_option maxHeartbeats 4000000 in
theorem metX3_isFalse (l : Launch) (D : va_G) (cA : Nat → ClassId) (o : Nat) (u : St) (pa : Int32) (hok : okX3_isFalse u pa) : MetM l yX3_isFalse cX3_isFalse 2 (some .boolean) 1 D cA o u [.ref o, .int pa] (some (.int (b2 (fX3_isFalse u pa).1))) (fX3_isFalse u pa).2 := by
  have hN0 := hok
  refine mM_start RX3 (by decide) rfl (Nat.le_of_ble_eq_true rfl) ?_
  intro pg ev s0 mi bl me co hx hb hml hown hts hr hlk hK hM ls hl
  have hl : lv_has ls 2 [(0, .ref o), (1, .int pa)] := hl
  have hS : va_S (mA o) s0.heap s0.heap [] := va_S.rf
  refine lv_aload_n hx hb dX3_isFalse_0 rfl (lv_at hl 0 rfl) ?_
  refine lv_iload_n hx hb dX3_isFalse_1 rfl (lv_at hl 1 rfl) ?_
  refine ro_call (mw_run (n := 1) (As := [.int pa]) (rest := []) hx hb hml hown hts (metX3_isPaper l D cA o u pa) q1487 q1489 qs34 q1490 (by decide +kernel) (by decide) (by decide) rfl hK hM hl.1 (Nat.le_of_ble_eq_true rfl) rfl dX3_isFalse_2 ⟨Nat.le_refl _, Nat.le_refl _⟩) ?_
  refine lv_B_eq (tgt := 17) hx hb dX3_isFalse_5 (by decide) (fun c_5 => ?_) (fun c_5 => ?_)
  · skip
    refine lv_iconst (v := 0) hx hb dX3_isFalse_17 (by decide) ?_
    have hF : fX3_isFalse u pa = (false, u) := by rw [fX3_isFalse, if_neg (nt_of c_5)]
    exact mw_zret hx hb hr hlk hM hS (by rw [hF]; rfl) (by rw [hF]) dX3_isFalse_18
  · skip
    refine lv_aload_n hx hb dX3_isFalse_8 rfl (lv_at hl 0 rfl) ?_
    refine mw_get (v := .ref (mAd o 16)) hx hb hts hown hK hM 16 (by decide) q1282 rfl rfl dX3_isFalse_9 ?_
    refine lv_iload_n hx hb dX3_isFalse_12 rfl (lv_at hl 1 rfl) ?_
    refine mw_ild (v := u.2.1 16 pa.toNatClampNeg) (j := pa.toNatClampNeg) hx hb hK hM 16 (by decide) rfl rfl (hN0 c_5) rfl rfl dX3_isFalse_13 ?_
    refine lv_if_lt (tgt := 19) hx hb dX3_isFalse_14 (by decide) (fun c_14 => ?_) (fun c_14 => ?_)
    · skip
      refine lv_aload_n hx hb dX3_isFalse_19 rfl (lv_at hl 0 rfl) ?_
      refine mw_get (v := .ref (mAd o 16)) hx hb hts hown hK hM 16 (by decide) q1282 rfl rfl dX3_isFalse_20 ?_
      refine lv_iload_n hx hb dX3_isFalse_23 rfl (lv_at hl 1 rfl) ?_
      refine lv_aload_n hx hb dX3_isFalse_24 rfl (lv_at hl 0 rfl) ?_
      refine mw_get (v := .int (u.1 8)) hx hb hts hown hK hM 8 (by decide) q1274 rfl rfl dX3_isFalse_25 ?_
      refine mw_ist (j := pa.toNatClampNeg) hx hb hK hM hS 16 (by decide) rfl rfl (hN0 c_5) rfl dX3_isFalse_28 (fun H locs hM hS => ?_)
      refine lv_iconst (v := 1) hx hb dX3_isFalse_29 (by decide) ?_
      have hF : fX3_isFalse u pa = (true, (sa u 16 pa.toNatClampNeg (u.1 8))) := by rw [fX3_isFalse, if_pos c_5, if_pos c_14]
      exact mw_zret hx hb hr hlk hM hS (by rw [hF]; rfl) (by rw [hF]) dX3_isFalse_30
    · skip
      refine lv_iconst (v := 0) hx hb dX3_isFalse_17 (by decide) ?_
      have hF : fX3_isFalse u pa = (false, u) := by rw [fX3_isFalse, if_pos c_5, if_neg c_14]
      exact mw_zret hx hb hr hlk hM hS (by rw [hF]; rfl) (by rw [hF]) dX3_isFalse_18

def fX3_later (u : St) (da : Int32) : Int32 × St :=
  if da < 0 then ((-1), u) else (if 1000 < da then ((-1), u) else (if ((u.1 8) + da) ≤ 36499 then ((u.1 8) + da, (si u 8 ((u.1 8) + da))) else ((-1), u)))
set_option maxHeartbeats 4000000 in
theorem metX3_later (l : Launch) (D : va_G) (cA : Nat → ClassId) (o : Nat) (u : St) (da : Int32) : MetM l yX3_later cX3_later 2 (some .int) 0 D cA o u [.ref o, .int da] (some (.int (fX3_later u da).1)) (fX3_later u da).2 := by
  refine mM_start RX3 (by decide) rfl (Nat.le_of_ble_eq_true rfl) ?_
  intro pg ev s0 mi bl me co hx hb hml hown hts hr hlk hK hM ls hl
  have hl : lv_has ls 2 [(0, .ref o), (1, .int da)] := hl
  have hS : va_S (mA o) s0.heap s0.heap [] := va_S.rf
  refine lv_iload_n hx hb dX3_later_0 rfl (lv_at hl 1 rfl) ?_
  refine lv_if_lt (tgt := 22) hx hb dX3_later_1 (by decide) (fun c_1 => ?_) (fun c_1 => ?_)
  · skip
    refine lv_iconst (v := (-1)) hx hb dX3_later_22 (by decide) ?_
    have hF : fX3_later u da = ((-1), u) := by rw [fX3_later, if_pos c_1]
    exact mw_iret hx hb hr hlk hM hS (by rw [hF]) (by rw [hF]) dX3_later_23
  · skip
    refine lv_iload_n hx hb dX3_later_4 rfl (lv_at hl 1 rfl) ?_
    refine lv_sipush (v := 1000) hx hb dX3_later_5 (by decide) ?_
    refine lv_icmp_gt (tgt := 22) hx hb dX3_later_8 (by decide) (fun c_8 => ?_) (fun c_8 => ?_)
    · skip
      refine lv_iconst (v := (-1)) hx hb dX3_later_22 (by decide) ?_
      have hF : fX3_later u da = ((-1), u) := by rw [fX3_later, if_neg c_1, if_pos c_8]
      exact mw_iret hx hb hr hlk hM hS (by rw [hF]) (by rw [hF]) dX3_later_23
    · skip
      refine lv_aload_n hx hb dX3_later_11 rfl (lv_at hl 0 rfl) ?_
      refine mw_get (v := .int (u.1 8)) hx hb hts hown hK hM 8 (by decide) q1274 rfl rfl dX3_later_12 ?_
      refine lv_iload_n hx hb dX3_later_15 rfl (lv_at hl 1 rfl) ?_
      refine lv_iadd hx hb dX3_later_16 ?_
      refine lv_ldc (v := 36499) hx hb hown (hts _ q1450) dX3_later_17 ?_
      refine lv_icmp_le (tgt := 24) hx hb dX3_later_19 (by decide) (fun c_19 => ?_) (fun c_19 => ?_)
      · skip
        refine lv_aload_n hx hb dX3_later_24 rfl (lv_at hl 0 rfl) ?_
        refine lv_dup hx hb dX3_later_25 rfl ?_
        refine mw_get (v := .int (u.1 8)) hx hb hts hown hK hM 8 (by decide) q1274 rfl rfl dX3_later_26 ?_
        refine lv_iload_n hx hb dX3_later_29 rfl (lv_at hl 1 rfl) ?_
        refine lv_iadd hx hb dX3_later_30 ?_
        refine mw_puti hx hb hts hown hK hM hS 8 (by decide) q1274 rfl rfl rfl rfl dX3_later_31 (fun H locs hM hS => ?_)
        refine lv_aload_n hx hb dX3_later_34 rfl (lv_at hl 0 rfl) ?_
        refine mw_get (v := .int ((u.1 8) + da)) hx hb hts hown hK hM 8 (by decide) q1274 rfl rfl dX3_later_35 ?_
        have hF : fX3_later u da = ((u.1 8) + da, (si u 8 ((u.1 8) + da))) := by rw [fX3_later, if_neg c_1, if_neg c_8, if_pos c_19]
        exact mw_iret hx hb hr hlk hM hS (by rw [hF]) (by rw [hF]) dX3_later_38
      · skip
        refine lv_iconst (v := (-1)) hx hb dX3_later_22 (by decide) ?_
        have hF : fX3_later u da = ((-1), u) := by rw [fX3_later, if_neg c_1, if_neg c_8, if_neg c_19]
        exact mw_iret hx hb hr hlk hM hS (by rw [hF]) (by rw [hF]) dX3_later_23

def fX3_counts (u : St) (pa : Int32) (k : Int32) : Bool :=
  if k < (u.2.1 15 pa.toNatClampNeg) then false else (if (u.2.1 16 pa.toNatClampNeg) < 0 then true else (if (u.2.1 16 pa.toNatClampNeg) ≤ k then false else true))
def okX3_counts (u : St) (pa : Int32) (k : Int32) : Prop :=
  (vp_in pa 60)
set_option maxHeartbeats 4000000 in
theorem metX3_counts (l : Launch) (D : va_G) (cA : Nat → ClassId) (o : Nat) (u : St) (pa : Int32) (k : Int32) (hok : okX3_counts u pa k) : MetR l yX3_counts cX3_counts 3 (some .boolean) 0 D cA o u [.ref o, .int pa, .int k] (some (.int (b2 (fX3_counts u pa k)))) := by
  have hN0 := hok
  refine mM_start RX3 (by decide) rfl (Nat.le_of_ble_eq_true rfl) ?_
  intro pg ev s0 mi bl me co hx hb hml hown hts hr hlk hK hM ls hl
  have hl : lv_has ls 3 [(0, .ref o), (1, .int pa), (2, .int k)] := hl
  refine lv_aload_n hx hb dX3_counts_0 rfl (lv_at hl 0 rfl) ?_
  refine mw_get (v := .ref (mAd o 15)) hx hb hts hown hK hM 15 (by decide) q1281 rfl rfl dX3_counts_1 ?_
  refine lv_iload_n hx hb dX3_counts_4 rfl (lv_at hl 1 rfl) ?_
  refine mw_ild (v := u.2.1 15 pa.toNatClampNeg) (j := pa.toNatClampNeg) hx hb hK hM 15 (by decide) rfl rfl hN0 rfl rfl dX3_counts_5 ?_
  refine lv_iload_n hx hb dX3_counts_6 rfl (lv_at hl 2 rfl) ?_
  refine lv_icmp_gt (tgt := 33) hx hb dX3_counts_7 (by decide) (fun c_7 => ?_) (fun c_7 => ?_)
  · skip
    refine lv_iconst (v := 0) hx hb dX3_counts_33 (by decide) ?_
    have hF : fX3_counts u pa k = false := by rw [fX3_counts, if_pos c_7]
    exact zret_ro hx hb hr hlk (by rw [hF]; rfl) dX3_counts_34
  · skip
    refine lv_aload_n hx hb dX3_counts_10 rfl (lv_at hl 0 rfl) ?_
    refine mw_get (v := .ref (mAd o 16)) hx hb hts hown hK hM 16 (by decide) q1282 rfl rfl dX3_counts_11 ?_
    refine lv_iload_n hx hb dX3_counts_14 rfl (lv_at hl 1 rfl) ?_
    refine mw_ild (v := u.2.1 16 pa.toNatClampNeg) (j := pa.toNatClampNeg) hx hb hK hM 16 (by decide) rfl rfl hN0 rfl rfl dX3_counts_15 ?_
    refine lv_if_lt (tgt := 29) hx hb dX3_counts_16 (by decide) (fun c_16 => ?_) (fun c_16 => ?_)
    · skip
      refine lv_iconst (v := 1) hx hb dX3_counts_29 (by decide) ?_
      refine lv_goto (tgt := 34) hx hb dX3_counts_30 (by decide) ?_
      have hF : fX3_counts u pa k = true := by rw [fX3_counts, if_neg c_7, if_pos c_16]
      exact zret_ro hx hb hr hlk (by rw [hF]; rfl) dX3_counts_34
    · skip
      refine lv_aload_n hx hb dX3_counts_19 rfl (lv_at hl 0 rfl) ?_
      refine mw_get (v := .ref (mAd o 16)) hx hb hts hown hK hM 16 (by decide) q1282 rfl rfl dX3_counts_20 ?_
      refine lv_iload_n hx hb dX3_counts_23 rfl (lv_at hl 1 rfl) ?_
      refine mw_ild (v := u.2.1 16 pa.toNatClampNeg) (j := pa.toNatClampNeg) hx hb hK hM 16 (by decide) rfl rfl hN0 rfl rfl dX3_counts_24 ?_
      refine lv_iload_n hx hb dX3_counts_25 rfl (lv_at hl 2 rfl) ?_
      refine lv_icmp_le (tgt := 33) hx hb dX3_counts_26 (by decide) (fun c_26 => ?_) (fun c_26 => ?_)
      · skip
        refine lv_iconst (v := 0) hx hb dX3_counts_33 (by decide) ?_
        have hF : fX3_counts u pa k = false := by rw [fX3_counts, if_neg c_7, if_neg c_16, if_pos c_26]
        exact zret_ro hx hb hr hlk (by rw [hF]; rfl) dX3_counts_34
      · skip
        refine lv_iconst (v := 1) hx hb dX3_counts_29 (by decide) ?_
        refine lv_goto (tgt := 34) hx hb dX3_counts_30 (by decide) ?_
        have hF : fX3_counts u pa k = true := by rw [fX3_counts, if_neg c_7, if_neg c_16, if_neg c_26]
        exact zret_ro hx hb hr hlk (by rw [hF]; rfl) dX3_counts_34

def fX3_sign (u : St) (k : Int32) : Int32 :=
  if (u.1 24) ≤ k then 0 else (u.2.1 22 k.toNatClampNeg) &&& 255
def okX3_sign (u : St) (k : Int32) : Prop :=
  (¬ ((u.1 24) ≤ k) → vp_in k 600)
set_option maxHeartbeats 4000000 in
theorem metX3_sign (l : Launch) (D : va_G) (cA : Nat → ClassId) (o : Nat) (u : St) (k : Int32) (hok : okX3_sign u k) : MetR l yX3_sign cX3_sign 2 (some .int) 0 D cA o u [.ref o, .int k] (some (.int (fX3_sign u k))) := by
  have hN0 := hok
  refine mM_start RX3 (by decide) rfl (Nat.le_of_ble_eq_true rfl) ?_
  intro pg ev s0 mi bl me co hx hb hml hown hts hr hlk hK hM ls hl
  have hl : lv_has ls 2 [(0, .ref o), (1, .int k)] := hl
  refine lv_iload_n hx hb dX3_sign_0 rfl (lv_at hl 1 rfl) ?_
  refine lv_aload_n hx hb dX3_sign_1 rfl (lv_at hl 0 rfl) ?_
  refine mw_get (v := .int (u.1 24)) hx hb hts hown hK hM 24 (by decide) q1290 rfl rfl dX3_sign_2 ?_
  refine lv_icmp_ge (tgt := 21) hx hb dX3_sign_5 (by decide) (fun c_5 => ?_) (fun c_5 => ?_)
  · skip
    refine lv_iconst (v := 0) hx hb dX3_sign_21 (by decide) ?_
    have hF : fX3_sign u k = 0 := by rw [fX3_sign, if_pos c_5]
    exact iret_ro hx hb hr hlk (by rw [hF]) dX3_sign_22
  · skip
    refine lv_aload_n hx hb dX3_sign_8 rfl (lv_at hl 0 rfl) ?_
    refine mw_get (v := .ref (mAd o 22)) hx hb hts hown hK hM 22 (by decide) q1288 rfl rfl dX3_sign_9 ?_
    refine lv_iload_n hx hb dX3_sign_12 rfl (lv_at hl 1 rfl) ?_
    refine mw_bld (v := u.2.1 22 k.toNatClampNeg) (j := k.toNatClampNeg) hx hb hK hM 22 (by decide) rfl rfl (hN0 c_5) rfl rfl dX3_sign_13 ?_
    refine lv_sipush (v := 255) hx hb dX3_sign_14 (by decide) ?_
    refine lv_iand hx hb dX3_sign_17 ?_
    refine lv_goto (tgt := 22) hx hb dX3_sign_18 (by decide) ?_
    have hF : fX3_sign u k = (u.2.1 22 k.toNatClampNeg) &&& 255 := by rw [fX3_sign, if_neg c_5]
    exact iret_ro hx hb hr hlk (by rw [hF]) dX3_sign_22

def fX3_fails (u : St) (ki : Int32) (pl : Int32) : St :=
  if (u.1 25) ≤ 0 then (si (si u 25 ki) 26 pl) else u
set_option maxHeartbeats 4000000 in
theorem metX3_fails (l : Launch) (D : va_G) (cA : Nat → ClassId) (o : Nat) (u : St) (ki : Int32) (pl : Int32) : MetM l yX3_fails cX3_fails 3 none 0 D cA o u [.ref o, .int ki, .int pl] none (fX3_fails u ki pl) := by
  refine mM_start RX3 (by decide) rfl (Nat.le_of_ble_eq_true rfl) ?_
  intro pg ev s0 mi bl me co hx hb hml hown hts hr hlk hK hM ls hl
  have hl : lv_has ls 3 [(0, .ref o), (1, .int ki), (2, .int pl)] := hl
  have hS : va_S (mA o) s0.heap s0.heap [] := va_S.rf
  refine lv_aload_n hx hb dX3_fails_0 rfl (lv_at hl 0 rfl) ?_
  refine mw_get (v := .int (u.1 25)) hx hb hts hown hK hM 25 (by decide) q1291 rfl rfl dX3_fails_1 ?_
  refine lv_if_le (tgt := 8) hx hb dX3_fails_4 (by decide) (fun c_4 => ?_) (fun c_4 => ?_)
  · skip
    refine lv_aload_n hx hb dX3_fails_8 rfl (lv_at hl 0 rfl) ?_
    refine lv_iload_n hx hb dX3_fails_9 rfl (lv_at hl 1 rfl) ?_
    refine mw_puti hx hb hts hown hK hM hS 25 (by decide) q1291 rfl rfl rfl rfl dX3_fails_10 (fun H locs hM hS => ?_)
    refine lv_aload_n hx hb dX3_fails_13 rfl (lv_at hl 0 rfl) ?_
    refine lv_iload_n hx hb dX3_fails_14 rfl (lv_at hl 2 rfl) ?_
    refine mw_puti hx hb hts hown hK hM hS 26 (by decide) q1292 rfl rfl rfl rfl dX3_fails_15 (fun H locs hM hS => ?_)
    have hF : fX3_fails u ki pl = (si (si u 25 ki) 26 pl) := by rw [fX3_fails, if_pos c_4]
    exact mw_vret hx hb hr hlk hM hS (by rw [hF]) dX3_fails_18
  · skip
    have hF : fX3_fails u ki pl = u := by rw [fX3_fails, if_neg c_4]
    exact mw_vret hx hb hr hlk hM hS (by rw [hF]) dX3_fails_7

def fX3_is (u : St) (c : Int32) : Bool :=
  if (u.1 29) = 4 then (if (fX3_sign u (u.1 27)) = c then true else false) else false
def okX3_is (u : St) (c : Int32) : Prop :=
  ((u.1 29) = 4 → okX3_sign u (u.1 27))
set_option maxHeartbeats 4000000 in
theorem metX3_is (l : Launch) (D : va_G) (cA : Nat → ClassId) (o : Nat) (u : St) (c : Int32) (hok : okX3_is u c) : MetR l yX3_is cX3_is 2 (some .boolean) 1 D cA o u [.ref o, .int c] (some (.int (b2 (fX3_is u c)))) := by
  have hN0 := hok
  refine mM_start RX3 (by decide) rfl (Nat.le_of_ble_eq_true rfl) ?_
  intro pg ev s0 mi bl me co hx hb hml hown hts hr hlk hK hM ls hl
  have hl : lv_has ls 2 [(0, .ref o), (1, .int c)] := hl
  refine lv_aload_n hx hb dX3_is_0 rfl (lv_at hl 0 rfl) ?_
  refine mw_get (v := .int (u.1 29)) hx hb hts hown hK hM 29 (by decide) q1295 rfl rfl dX3_is_1 ?_
  refine lv_iconst (v := 4) hx hb dX3_is_4 (by decide) ?_
  refine lv_icmp_ne (tgt := 24) hx hb dX3_is_5 (by decide) (fun c_5 => ?_) (fun c_5 => ?_)
  · skip
    refine lv_iconst (v := 0) hx hb dX3_is_24 (by decide) ?_
    have hF : fX3_is u c = false := by rw [fX3_is, if_neg c_5]
    exact zret_ro hx hb hr hlk (by rw [hF]; rfl) dX3_is_25
  · skip
    refine lv_aload_n hx hb dX3_is_8 rfl (lv_at hl 0 rfl) ?_
    refine lv_aload_n hx hb dX3_is_9 rfl (lv_at hl 0 rfl) ?_
    refine mw_get (v := .int (u.1 27)) hx hb hts hown hK hM 27 (by decide) q1293 rfl rfl dX3_is_10 ?_
    refine ro_call (mw_run (n := 1) (As := [.int (u.1 27)]) (rest := []) hx hb hml hown hts (metX3_sign l D cA o u (u.1 27) (hN0 c_5)) q1519 q1521 qs38 q1522 (by decide +kernel) (by decide) (by decide) rfl hK hM hl.1 (Nat.le_of_ble_eq_true rfl) rfl dX3_is_13 ⟨Nat.le_refl _, Nat.le_refl _⟩) ?_
    refine lv_iload_n hx hb dX3_is_16 rfl (lv_at hl 1 rfl) ?_
    refine lv_icmp_ne (tgt := 24) hx hb dX3_is_17 (by decide) (fun c_17 => ?_) (fun c_17 => ?_)
    · skip
      refine lv_iconst (v := 0) hx hb dX3_is_24 (by decide) ?_
      have hF : fX3_is u c = false := by rw [fX3_is, if_pos c_5, if_neg c_17]
      exact zret_ro hx hb hr hlk (by rw [hF]; rfl) dX3_is_25
    · skip
      refine lv_iconst (v := 1) hx hb dX3_is_20 (by decide) ?_
      refine lv_goto (tgt := 25) hx hb dX3_is_21 (by decide) ?_
      have hF : fX3_is u c = true := by rw [fX3_is, if_pos c_5, if_pos c_17]
      exact zret_ro hx hb hr hlk (by rw [hF]; rfl) dX3_is_25

def fX3_isWord (u : St) (w : Int64) : Bool :=
  if (u.1 29) = 2 then (if (u.2.2 31 0) = w then true else false) else false
set_option maxHeartbeats 4000000 in
theorem metX3_isWord (l : Launch) (D : va_G) (cA : Nat → ClassId) (o : Nat) (u : St) (w : Int64) : MetR l yX3_isWord cX3_isWord 3 (some .boolean) 0 D cA o u [.ref o, .long w] (some (.int (b2 (fX3_isWord u w)))) := by
  refine mM_start RX3 (by decide) rfl (Nat.le_of_ble_eq_true rfl) ?_
  intro pg ev s0 mi bl me co hx hb hml hown hts hr hlk hK hM ls hl
  have hl : lv_has ls 3 [(0, .ref o), (1, .long w)] := hl
  refine lv_aload_n hx hb dX3_isWord_0 rfl (lv_at hl 0 rfl) ?_
  refine mw_get (v := .int (u.1 29)) hx hb hts hown hK hM 29 (by decide) q1295 rfl rfl dX3_isWord_1 ?_
  refine lv_iconst (v := 2) hx hb dX3_isWord_4 (by decide) ?_
  refine lv_icmp_ne (tgt := 21) hx hb dX3_isWord_5 (by decide) (fun c_5 => ?_) (fun c_5 => ?_)
  · skip
    refine lv_iconst (v := 0) hx hb dX3_isWord_21 (by decide) ?_
    have hF : fX3_isWord u w = false := by rw [fX3_isWord, if_neg c_5]
    exact zret_ro hx hb hr hlk (by rw [hF]; rfl) dX3_isWord_22
  · skip
    refine lv_aload_n hx hb dX3_isWord_8 rfl (lv_at hl 0 rfl) ?_
    refine mw_get (v := .long (u.2.2 31 0)) hx hb hts hown hK hM 31 (by decide) q1297 rfl rfl dX3_isWord_9 ?_
    refine lv_lload_n hx hb dX3_isWord_12 rfl (lv_at hl 1 rfl) ?_
    refine W.lcmp hx hb dX3_isWord_13 ?_
    refine lv_L_ne (tgt := 21) hx hb dX3_isWord_14 (by decide) (fun c_14 => ?_) (fun c_14 => ?_)
    · skip
      refine lv_iconst (v := 0) hx hb dX3_isWord_21 (by decide) ?_
      have hF : fX3_isWord u w = false := by rw [fX3_isWord, if_pos c_5, if_neg c_14]
      exact zret_ro hx hb hr hlk (by rw [hF]; rfl) dX3_isWord_22
    · skip
      refine lv_iconst (v := 1) hx hb dX3_isWord_17 (by decide) ?_
      refine lv_goto (tgt := 22) hx hb dX3_isWord_18 (by decide) ?_
      have hF : fX3_isWord u w = true := by rw [fX3_isWord, if_pos c_5, if_pos c_14]
      exact zret_ro hx hb hr hlk (by rw [hF]; rfl) dX3_isWord_22

def fX3_wrong (u : St)  : St :=
  (fX3_fails u (if (u.1 29) = 1 then 1 else 2) (u.1 27))
set_option maxHeartbeats 4000000 in
theorem metX3_wrong (l : Launch) (D : va_G) (cA : Nat → ClassId) (o : Nat) (u : St)  : MetM l yX3_wrong cX3_wrong 1 none 1 D cA o u [.ref o] none (fX3_wrong u) := by
  refine mM_start RX3 (by decide) rfl (Nat.le_of_ble_eq_true rfl) ?_
  intro pg ev s0 mi bl me co hx hb hml hown hts hr hlk hK hM ls hl
  have hl : lv_has ls 1 [(0, .ref o)] := hl
  have hS : va_S (mA o) s0.heap s0.heap [] := va_S.rf
  refine lv_aload_n hx hb dX3_wrong_0 rfl (lv_at hl 0 rfl) ?_
  refine lv_aload_n hx hb dX3_wrong_1 rfl (lv_at hl 0 rfl) ?_
  refine mw_get (v := .int (u.1 29)) hx hb hts hown hK hM 29 (by decide) q1295 rfl rfl dX3_wrong_2 ?_
  refine lv_iconst (v := 1) hx hb dX3_wrong_5 (by decide) ?_
  refine w_ji (ls := ls) (rest := [.ref o]) (E := (if (u.1 29) = 1 then 1 else 2)) 14 ?_ (fun K => ?_)
  · skip
    refine lv_aload_n hx hb dX3_wrong_14 rfl (lv_at hl 0 rfl) ?_
    refine mw_get (v := .int (u.1 27)) hx hb hts hown hK hM 27 (by decide) q1293 rfl rfl dX3_wrong_15 ?_
    refine mw_call (mw_run (n := 2) (As := [.int (if (u.1 29) = 1 then 1 else 2), .int (u.1 27)]) (rest := []) hx hb hml hown hts (metX3_fails l D cA o u (if (u.1 29) = 1 then 1 else 2) (u.1 27)) q1546 q1548 qs43 q1549 (by decide +kernel) (by decide) (by decide) rfl hK hM hl.1 (Nat.le_of_ble_eq_true rfl) rfl dX3_wrong_18 ⟨Nat.le_refl _, Nat.le_refl _⟩) hS (fun _ h => h) (fun H locs hM _ _ hS => ?_)
    have hF : fX3_wrong u = (fX3_fails u (if (u.1 29) = 1 then 1 else 2) (u.1 27)) := by rw [fX3_wrong]
    exact mw_vret hx hb hr hlk hM hS (by rw [hF]) dX3_wrong_21
  · skip
    refine lv_icmp_ne (tgt := 13) hx hb dX3_wrong_6 (by decide) (fun c_6 => ?_) (fun c_6 => ?_)
    · skip
      refine lv_iconst (v := 2) hx hb dX3_wrong_13 (by decide) ?_
      exact K _ (by rw [if_neg c_6])
    · skip
      refine lv_iconst (v := 1) hx hb dX3_wrong_9 (by decide) ?_
      refine lv_goto (tgt := 14) hx hb dX3_wrong_10 (by decide) ?_
      exact K _ (by rw [if_pos c_6])

def fX3_step (u : St) (c : Int32) (n : Int32) : St :=
  (si (sa (sa u 37 (((600 * (u.1 40)) + (u.1 41)).toNatClampNeg) c) 38 (((600 * (u.1 40)) + (u.1 41)).toNatClampNeg) n) 41 ((u.1 41) + 1))
def okX3_step (u : St) (c : Int32) (n : Int32) : Prop :=
  (vp_in ((600 * (u.1 40)) + (u.1 41)) 1200)
set_option maxHeartbeats 4000000 in
theorem metX3_step (l : Launch) (D : va_G) (cA : Nat → ClassId) (o : Nat) (u : St) (c : Int32) (n : Int32) (hok : okX3_step u c n) : MetM l yX3_step cX3_step 3 none 0 D cA o u [.ref o, .int c, .int n] none (fX3_step u c n) := by
  have hN0 := hok
  refine mM_start RX3 (by decide) rfl (Nat.le_of_ble_eq_true rfl) ?_
  intro pg ev s0 mi bl me co hx hb hml hown hts hr hlk hK hM ls hl
  have hl : lv_has ls 3 [(0, .ref o), (1, .int c), (2, .int n)] := hl
  have hS : va_S (mA o) s0.heap s0.heap [] := va_S.rf
  refine lv_aload_n hx hb dX3_step_0 rfl (lv_at hl 0 rfl) ?_
  refine mw_get (v := .ref (mAd o 37)) hx hb hts hown hK hM 37 (by decide) q1303 rfl rfl dX3_step_1 ?_
  refine lv_sipush (v := 600) hx hb dX3_step_4 (by decide) ?_
  refine lv_aload_n hx hb dX3_step_7 rfl (lv_at hl 0 rfl) ?_
  refine mw_get (v := .int (u.1 40)) hx hb hts hown hK hM 40 (by decide) q1306 rfl rfl dX3_step_8 ?_
  refine lv_imul hx hb dX3_step_11 ?_
  refine lv_aload_n hx hb dX3_step_12 rfl (lv_at hl 0 rfl) ?_
  refine mw_get (v := .int (u.1 41)) hx hb hts hown hK hM 41 (by decide) q1307 rfl rfl dX3_step_13 ?_
  refine lv_iadd hx hb dX3_step_16 ?_
  refine lv_iload_n hx hb dX3_step_17 rfl (lv_at hl 1 rfl) ?_
  refine mw_ist (j := ((600 * (u.1 40)) + (u.1 41)).toNatClampNeg) hx hb hK hM hS 37 (by decide) rfl rfl hN0 rfl dX3_step_18 (fun H locs hM hS => ?_)
  refine lv_aload_n hx hb dX3_step_19 rfl (lv_at hl 0 rfl) ?_
  refine mw_get (v := .ref (mAd o 38)) hx hb hts hown hK hM 38 (by decide) q1304 rfl rfl dX3_step_20 ?_
  refine lv_sipush (v := 600) hx hb dX3_step_23 (by decide) ?_
  refine lv_aload_n hx hb dX3_step_26 rfl (lv_at hl 0 rfl) ?_
  refine mw_get (v := .int (u.1 40)) hx hb hts hown hK hM 40 (by decide) q1306 rfl rfl dX3_step_27 ?_
  refine lv_imul hx hb dX3_step_30 ?_
  refine lv_aload_n hx hb dX3_step_31 rfl (lv_at hl 0 rfl) ?_
  refine mw_get (v := .int (u.1 41)) hx hb hts hown hK hM 41 (by decide) q1307 rfl rfl dX3_step_32 ?_
  refine lv_iadd hx hb dX3_step_35 ?_
  refine lv_iload_n hx hb dX3_step_36 rfl (lv_at hl 2 rfl) ?_
  refine mw_ist (j := ((600 * (u.1 40)) + (u.1 41)).toNatClampNeg) hx hb hK hM hS 38 (by decide) rfl rfl hN0 rfl dX3_step_37 (fun H locs hM hS => ?_)
  refine lv_aload_n hx hb dX3_step_38 rfl (lv_at hl 0 rfl) ?_
  refine lv_dup hx hb dX3_step_39 rfl ?_
  refine mw_get (v := .int (u.1 41)) hx hb hts hown hK hM 41 (by decide) q1307 rfl rfl dX3_step_40 ?_
  refine lv_iconst (v := 1) hx hb dX3_step_43 (by decide) ?_
  refine lv_iadd hx hb dX3_step_44 ?_
  refine mw_puti hx hb hts hown hK hM hS 41 (by decide) q1307 rfl rfl rfl rfl dX3_step_45 (fun H locs hM hS => ?_)
  have hF : fX3_step u c n = (si (sa (sa u 37 (((600 * (u.1 40)) + (u.1 41)).toNatClampNeg) c) 38 (((600 * (u.1 40)) + (u.1 41)).toNatClampNeg) n) 41 ((u.1 41) + 1)) := by rw [fX3_step]
  exact mw_vret hx hb hr hlk hM hS (by rw [hF]) dX3_step_48

def fX3_pile (u : St) (w : Int32) : St :=
  (si (sa u 43 ((u.1 44).toNatClampNeg) w) 44 ((u.1 44) + 1))
def okX3_pile (u : St) (w : Int32) : Prop :=
  (vp_in (u.1 44) 60)
set_option maxHeartbeats 4000000 in
theorem metX3_pile (l : Launch) (D : va_G) (cA : Nat → ClassId) (o : Nat) (u : St) (w : Int32) (hok : okX3_pile u w) : MetM l yX3_pile cX3_pile 2 none 0 D cA o u [.ref o, .int w] none (fX3_pile u w) := by
  have hN0 := hok
  refine mM_start RX3 (by decide) rfl (Nat.le_of_ble_eq_true rfl) ?_
  intro pg ev s0 mi bl me co hx hb hml hown hts hr hlk hK hM ls hl
  have hl : lv_has ls 2 [(0, .ref o), (1, .int w)] := hl
  have hS : va_S (mA o) s0.heap s0.heap [] := va_S.rf
  refine lv_aload_n hx hb dX3_pile_0 rfl (lv_at hl 0 rfl) ?_
  refine mw_get (v := .ref (mAd o 43)) hx hb hts hown hK hM 43 (by decide) q1309 rfl rfl dX3_pile_1 ?_
  refine lv_aload_n hx hb dX3_pile_4 rfl (lv_at hl 0 rfl) ?_
  refine mw_get (v := .int (u.1 44)) hx hb hts hown hK hM 44 (by decide) q1310 rfl rfl dX3_pile_5 ?_
  refine lv_iload_n hx hb dX3_pile_8 rfl (lv_at hl 1 rfl) ?_
  refine mw_ist (j := (u.1 44).toNatClampNeg) hx hb hK hM hS 43 (by decide) rfl rfl hN0 rfl dX3_pile_9 (fun H locs hM hS => ?_)
  refine lv_aload_n hx hb dX3_pile_10 rfl (lv_at hl 0 rfl) ?_
  refine lv_dup hx hb dX3_pile_11 rfl ?_
  refine mw_get (v := .int (u.1 44)) hx hb hts hown hK hM 44 (by decide) q1310 rfl rfl dX3_pile_12 ?_
  refine lv_iconst (v := 1) hx hb dX3_pile_15 (by decide) ?_
  refine lv_iadd hx hb dX3_pile_16 ?_
  refine mw_puti hx hb hts hown hK hM hS 44 (by decide) q1310 rfl rfl rfl rfl dX3_pile_17 (fun H locs hM hS => ?_)
  have hF : fX3_pile u w = (si (sa u 43 ((u.1 44).toNatClampNeg) w) 44 ((u.1 44) + 1)) := by rw [fX3_pile]
  exact mw_vret hx hb hr hlk hM hS (by rw [hF]) dX3_pile_20

def fX3_th1 (u : St) : Int32 :=
  if (u.2.2 31 0) = 112628846519652 then 0 else (if (u.2.2 31 0) = 444150998382 then 1 else (if (u.2.2 31 0) = 482955846501 then 2 else (if (u.2.2 31 0) = 512970880104 then 3 else (if (u.2.2 31 0) = 2036687218 then 4 else (-1)))))
def fX3_termHere (u : St)  : Int32 :=
  if (u.1 29) = 2 then (if (fX3_th1 u) < 0 then (if (u.2.2 31 0) = 1751477348 then 5 else (if (u.2.2 31 0) = 448311223411 then 6 else (if (u.2.2 31 0) = 465625834867 then 7 else (if (u.2.2 31 0) = 1684365668 then 8 else (-1))))) else (fX3_th1 u)) else (-1)
set_option maxHeartbeats 4000000 in
theorem metX3_termHere (l : Launch) (D : va_G) (cA : Nat → ClassId) (o : Nat) (u : St)  : MetR l yX3_termHere cX3_termHere 2 (some .int) 0 D cA o u [.ref o] (some (.int (fX3_termHere u))) := by
  refine mM_start RX3 (by decide) rfl (Nat.le_of_ble_eq_true rfl) ?_
  intro pg ev s0 mi bl me co hx hb hml hown hts hr hlk hK hM ls hl
  have hl : lv_has ls 2 [(0, .ref o)] := hl
  refine lv_aload_n hx hb dX3_termHere_0 rfl (lv_at hl 0 rfl) ?_
  refine mw_get (v := .int (u.1 29)) hx hb hts hown hK hM 29 (by decide) q1295 rfl rfl dX3_termHere_1 ?_
  refine lv_iconst (v := 2) hx hb dX3_termHere_4 (by decide) ?_
  refine lv_icmp_eq (tgt := 10) hx hb dX3_termHere_5 (by decide) (fun c_5 => ?_) (fun c_5 => ?_)
  · skip
    refine lv_aload_n hx hb dX3_termHere_10 rfl (lv_at hl 0 rfl) ?_
    refine mw_get (v := .long (u.2.2 31 0)) hx hb hts hown hK hM 31 (by decide) q1297 rfl rfl dX3_termHere_11 ?_
    refine lv_ldc2 (v := 112628846519652) hx hb hown (hts _ q1579) dX3_termHere_14 ?_
    refine W.lcmp hx hb dX3_termHere_17 ?_
    refine w_ji (ls := ls) (rest := []) (E := (fX3_th1 u)) 86 ?_ (fun K => ?_)
    · skip
      refine lv_istore_n (lv' := [(1, .int (fX3_th1 u)), (0, .ref o)]) hx hb dX3_termHere_86 rfl hl (by decide) rfl (fun ls hl => ?_)
      refine lv_iload_n hx hb dX3_termHere_87 rfl (lv_at hl 0 rfl) ?_
      refine lv_if_lt (tgt := 95) hx hb dX3_termHere_88 (by decide) (fun c_88 => ?_) (fun c_88 => ?_)
      · skip
        refine lv_aload_n hx hb dX3_termHere_95 rfl (lv_at hl 1 rfl) ?_
        refine mw_get (v := .long (u.2.2 31 0)) hx hb hts hown hK hM 31 (by decide) q1297 rfl rfl dX3_termHere_96 ?_
        refine lv_ldc2 (v := 1751477348) hx hb hown (hts _ q1584) dX3_termHere_99 ?_
        refine W.lcmp hx hb dX3_termHere_102 ?_
        refine lv_L_ne (tgt := 110) hx hb dX3_termHere_103 (by decide) (fun c_103 => ?_) (fun c_103 => ?_)
        · skip
          refine lv_aload_n hx hb dX3_termHere_110 rfl (lv_at hl 1 rfl) ?_
          refine mw_get (v := .long (u.2.2 31 0)) hx hb hts hown hK hM 31 (by decide) q1297 rfl rfl dX3_termHere_111 ?_
          refine lv_ldc2 (v := 448311223411) hx hb hown (hts _ q1585) dX3_termHere_114 ?_
          refine W.lcmp hx hb dX3_termHere_117 ?_
          refine lv_L_ne (tgt := 126) hx hb dX3_termHere_118 (by decide) (fun c_118 => ?_) (fun c_118 => ?_)
          · skip
            refine lv_aload_n hx hb dX3_termHere_126 rfl (lv_at hl 1 rfl) ?_
            refine mw_get (v := .long (u.2.2 31 0)) hx hb hts hown hK hM 31 (by decide) q1297 rfl rfl dX3_termHere_127 ?_
            refine lv_ldc2 (v := 465625834867) hx hb hown (hts _ q1586) dX3_termHere_130 ?_
            refine W.lcmp hx hb dX3_termHere_133 ?_
            refine lv_L_ne (tgt := 142) hx hb dX3_termHere_134 (by decide) (fun c_134 => ?_) (fun c_134 => ?_)
            · skip
              refine lv_aload_n hx hb dX3_termHere_142 rfl (lv_at hl 1 rfl) ?_
              refine mw_get (v := .long (u.2.2 31 0)) hx hb hts hown hK hM 31 (by decide) q1297 rfl rfl dX3_termHere_143 ?_
              refine lv_ldc2 (v := 1684365668) hx hb hown (hts _ q1587) dX3_termHere_146 ?_
              refine W.lcmp hx hb dX3_termHere_149 ?_
              refine lv_L_ne (tgt := 158) hx hb dX3_termHere_150 (by decide) (fun c_150 => ?_) (fun c_150 => ?_)
              · skip
                refine lv_iconst (v := (-1)) hx hb dX3_termHere_158 (by decide) ?_
                have hF : fX3_termHere u = (-1) := by rw [fX3_termHere, if_pos c_5, if_pos c_88, if_neg c_103, if_neg c_118, if_neg c_134, if_neg c_150]
                exact iret_ro hx hb hr hlk (by rw [hF]) dX3_termHere_159
              · skip
                refine lv_bipush (v := 8) hx hb dX3_termHere_153 (by decide) ?_
                refine lv_goto (tgt := 159) hx hb dX3_termHere_155 (by decide) ?_
                have hF : fX3_termHere u = 8 := by rw [fX3_termHere, if_pos c_5, if_pos c_88, if_neg c_103, if_neg c_118, if_neg c_134, if_pos c_150]
                exact iret_ro hx hb hr hlk (by rw [hF]) dX3_termHere_159
            · skip
              refine lv_bipush (v := 7) hx hb dX3_termHere_137 (by decide) ?_
              refine lv_goto (tgt := 159) hx hb dX3_termHere_139 (by decide) ?_
              have hF : fX3_termHere u = 7 := by rw [fX3_termHere, if_pos c_5, if_pos c_88, if_neg c_103, if_neg c_118, if_pos c_134]
              exact iret_ro hx hb hr hlk (by rw [hF]) dX3_termHere_159
          · skip
            refine lv_bipush (v := 6) hx hb dX3_termHere_121 (by decide) ?_
            refine lv_goto (tgt := 159) hx hb dX3_termHere_123 (by decide) ?_
            have hF : fX3_termHere u = 6 := by rw [fX3_termHere, if_pos c_5, if_pos c_88, if_neg c_103, if_pos c_118]
            exact iret_ro hx hb hr hlk (by rw [hF]) dX3_termHere_159
        · skip
          refine lv_iconst (v := 5) hx hb dX3_termHere_106 (by decide) ?_
          refine lv_goto (tgt := 159) hx hb dX3_termHere_107 (by decide) ?_
          have hF : fX3_termHere u = 5 := by rw [fX3_termHere, if_pos c_5, if_pos c_88, if_pos c_103]
          exact iret_ro hx hb hr hlk (by rw [hF]) dX3_termHere_159
      · skip
        refine lv_iload_n hx hb dX3_termHere_91 rfl (lv_at hl 0 rfl) ?_
        refine lv_goto (tgt := 159) hx hb dX3_termHere_92 (by decide) ?_
        have hF : fX3_termHere u = (fX3_th1 u) := by rw [fX3_termHere, if_pos c_5, if_neg c_88]
        exact iret_ro hx hb hr hlk (by rw [hF]) dX3_termHere_159
    · skip
      refine lv_L_ne (tgt := 25) hx hb dX3_termHere_18 (by decide) (fun c_18 => ?_) (fun c_18 => ?_)
      · skip
        refine lv_aload_n hx hb dX3_termHere_25 rfl (lv_at hl 0 rfl) ?_
        refine mw_get (v := .long (u.2.2 31 0)) hx hb hts hown hK hM 31 (by decide) q1297 rfl rfl dX3_termHere_26 ?_
        refine lv_ldc2 (v := 444150998382) hx hb hown (hts _ q1580) dX3_termHere_29 ?_
        refine W.lcmp hx hb dX3_termHere_32 ?_
        refine lv_L_ne (tgt := 40) hx hb dX3_termHere_33 (by decide) (fun c_33 => ?_) (fun c_33 => ?_)
        · skip
          refine lv_aload_n hx hb dX3_termHere_40 rfl (lv_at hl 0 rfl) ?_
          refine mw_get (v := .long (u.2.2 31 0)) hx hb hts hown hK hM 31 (by decide) q1297 rfl rfl dX3_termHere_41 ?_
          refine lv_ldc2 (v := 482955846501) hx hb hown (hts _ q1581) dX3_termHere_44 ?_
          refine W.lcmp hx hb dX3_termHere_47 ?_
          refine lv_L_ne (tgt := 55) hx hb dX3_termHere_48 (by decide) (fun c_48 => ?_) (fun c_48 => ?_)
          · skip
            refine lv_aload_n hx hb dX3_termHere_55 rfl (lv_at hl 0 rfl) ?_
            refine mw_get (v := .long (u.2.2 31 0)) hx hb hts hown hK hM 31 (by decide) q1297 rfl rfl dX3_termHere_56 ?_
            refine lv_ldc2 (v := 512970880104) hx hb hown (hts _ q1582) dX3_termHere_59 ?_
            refine W.lcmp hx hb dX3_termHere_62 ?_
            refine lv_L_ne (tgt := 70) hx hb dX3_termHere_63 (by decide) (fun c_63 => ?_) (fun c_63 => ?_)
            · skip
              refine lv_aload_n hx hb dX3_termHere_70 rfl (lv_at hl 0 rfl) ?_
              refine mw_get (v := .long (u.2.2 31 0)) hx hb hts hown hK hM 31 (by decide) q1297 rfl rfl dX3_termHere_71 ?_
              refine lv_ldc2 (v := 2036687218) hx hb hown (hts _ q1583) dX3_termHere_74 ?_
              refine W.lcmp hx hb dX3_termHere_77 ?_
              refine lv_L_ne (tgt := 85) hx hb dX3_termHere_78 (by decide) (fun c_78 => ?_) (fun c_78 => ?_)
              · skip
                refine lv_iconst (v := (-1)) hx hb dX3_termHere_85 (by decide) ?_
                exact K _ (by rw [fX3_th1, if_neg c_18, if_neg c_33, if_neg c_48, if_neg c_63, if_neg c_78])
              · skip
                refine lv_iconst (v := 4) hx hb dX3_termHere_81 (by decide) ?_
                refine lv_goto (tgt := 86) hx hb dX3_termHere_82 (by decide) ?_
                exact K _ (by rw [fX3_th1, if_neg c_18, if_neg c_33, if_neg c_48, if_neg c_63, if_pos c_78])
            · skip
              refine lv_iconst (v := 3) hx hb dX3_termHere_66 (by decide) ?_
              refine lv_goto (tgt := 86) hx hb dX3_termHere_67 (by decide) ?_
              exact K _ (by rw [fX3_th1, if_neg c_18, if_neg c_33, if_neg c_48, if_pos c_63])
          · skip
            refine lv_iconst (v := 2) hx hb dX3_termHere_51 (by decide) ?_
            refine lv_goto (tgt := 86) hx hb dX3_termHere_52 (by decide) ?_
            exact K _ (by rw [fX3_th1, if_neg c_18, if_neg c_33, if_pos c_48])
        · skip
          refine lv_iconst (v := 1) hx hb dX3_termHere_36 (by decide) ?_
          refine lv_goto (tgt := 86) hx hb dX3_termHere_37 (by decide) ?_
          exact K _ (by rw [fX3_th1, if_neg c_18, if_pos c_33])
      · skip
        refine lv_iconst (v := 0) hx hb dX3_termHere_21 (by decide) ?_
        refine lv_goto (tgt := 86) hx hb dX3_termHere_22 (by decide) ?_
        exact K _ (by rw [fX3_th1, if_pos c_18])
  · skip
    refine lv_iconst (v := (-1)) hx hb dX3_termHere_8 (by decide) ?_
    have hF : fX3_termHere u = (-1) := by rw [fX3_termHere, if_neg c_5]
    exact iret_ro hx hb hr hlk (by rw [hF]) dX3_termHere_9

def fX3_two (c : Int32) (a : Int32) (b : Int32) : Int32 :=
  if c = 38 then (if a = 0 then 0 else (if b = 0 then 0 else 1)) else (if c = 43 then a + b else (if c = 45 then a - b else (if c = 60 then (if b ≤ a then 0 else 1) else (if c = 61 then (if a = b then 1 else 0) else (if c = 62 then (if a ≤ b then 0 else 1) else (if a = 0 then (if b = 0 then 0 else 1) else 1))))))
set_option maxHeartbeats 4000000 in
theorem metX3_two (l : Launch) (c : Int32) (a : Int32) (b : Int32) : MetS l yX3_two cX3_two 3 (some .int) 0 [.int c, .int a, .int b] (some (.int (fX3_two c a b))) := by
  refine mS_start RX3 (by decide) rfl (Nat.le_of_ble_eq_true rfl) ?_
  intro pg ev s0 mi bl me co hx hb hml hown hts hr hlk ls hl
  have hl : lv_has ls 3 [(0, .int c), (1, .int a), (2, .int b)] := hl
  refine lv_iload_n hx hb dX3_two_0 rfl (lv_at hl 0 rfl) ?_
  by_cases e_1_0 : c = 38
  · skip
    refine lv_lookup (tgt := 101) (off := 100) hx hb dX3_two_1 (by decide) (by rw [e_1_0]; decide) (by decide) ?_
    refine lv_iload_n hx hb dX3_two_101 rfl (lv_at hl 1 rfl) ?_
    refine lv_if_eq (tgt := 113) hx hb dX3_two_102 (by decide) (fun c_102 => ?_) (fun c_102 => ?_)
    · skip
      refine lv_iconst (v := 0) hx hb dX3_two_113 (by decide) ?_
      have hF : fX3_two c a b = 0 := by rw [fX3_two, if_pos e_1_0, if_pos c_102]
      exact iret_ro hx hb hr hlk (by rw [hF]) dX3_two_114
    · skip
      refine lv_iload_n hx hb dX3_two_105 rfl (lv_at hl 2 rfl) ?_
      refine lv_if_eq (tgt := 113) hx hb dX3_two_106 (by decide) (fun c_106 => ?_) (fun c_106 => ?_)
      · skip
        refine lv_iconst (v := 0) hx hb dX3_two_113 (by decide) ?_
        have hF : fX3_two c a b = 0 := by rw [fX3_two, if_pos e_1_0, if_neg c_102, if_pos c_106]
        exact iret_ro hx hb hr hlk (by rw [hF]) dX3_two_114
      · skip
        refine lv_iconst (v := 1) hx hb dX3_two_109 (by decide) ?_
        refine lv_goto (tgt := 114) hx hb dX3_two_110 (by decide) ?_
        have hF : fX3_two c a b = 1 := by rw [fX3_two, if_pos e_1_0, if_neg c_102, if_neg c_106]
        exact iret_ro hx hb hr hlk (by rw [hF]) dX3_two_114
  by_cases e_1_1 : c = 43
  · skip
    refine lv_lookup (tgt := 60) (off := 59) hx hb dX3_two_1 (by decide) (by rw [e_1_1]; decide) (by decide) ?_
    refine lv_iload_n hx hb dX3_two_60 rfl (lv_at hl 1 rfl) ?_
    refine lv_iload_n hx hb dX3_two_61 rfl (lv_at hl 2 rfl) ?_
    refine lv_iadd hx hb dX3_two_62 ?_
    have hF : fX3_two c a b = a + b := by rw [fX3_two, if_neg e_1_0, if_pos e_1_1]
    exact iret_ro hx hb hr hlk (by rw [hF]) dX3_two_63
  by_cases e_1_2 : c = 45
  · skip
    refine lv_lookup (tgt := 64) (off := 63) hx hb dX3_two_1 (by decide) (by rw [e_1_2]; decide) (by decide) ?_
    refine lv_iload_n hx hb dX3_two_64 rfl (lv_at hl 1 rfl) ?_
    refine lv_iload_n hx hb dX3_two_65 rfl (lv_at hl 2 rfl) ?_
    refine lv_isub hx hb dX3_two_66 ?_
    have hF : fX3_two c a b = a - b := by rw [fX3_two, if_neg e_1_0, if_neg e_1_1, if_pos e_1_2]
    exact iret_ro hx hb hr hlk (by rw [hF]) dX3_two_67
  by_cases e_1_3 : c = 60
  · skip
    refine lv_lookup (tgt := 68) (off := 67) hx hb dX3_two_1 (by decide) (by rw [e_1_3]; decide) (by decide) ?_
    refine lv_iload_n hx hb dX3_two_68 rfl (lv_at hl 1 rfl) ?_
    refine lv_iload_n hx hb dX3_two_69 rfl (lv_at hl 2 rfl) ?_
    refine lv_icmp_ge (tgt := 77) hx hb dX3_two_70 (by decide) (fun c_70 => ?_) (fun c_70 => ?_)
    · skip
      refine lv_iconst (v := 0) hx hb dX3_two_77 (by decide) ?_
      have hF : fX3_two c a b = 0 := by rw [fX3_two, if_neg e_1_0, if_neg e_1_1, if_neg e_1_2, if_pos e_1_3, if_pos c_70]
      exact iret_ro hx hb hr hlk (by rw [hF]) dX3_two_78
    · skip
      refine lv_iconst (v := 1) hx hb dX3_two_73 (by decide) ?_
      refine lv_goto (tgt := 78) hx hb dX3_two_74 (by decide) ?_
      have hF : fX3_two c a b = 1 := by rw [fX3_two, if_neg e_1_0, if_neg e_1_1, if_neg e_1_2, if_pos e_1_3, if_neg c_70]
      exact iret_ro hx hb hr hlk (by rw [hF]) dX3_two_78
  by_cases e_1_4 : c = 61
  · skip
    refine lv_lookup (tgt := 90) (off := 89) hx hb dX3_two_1 (by decide) (by rw [e_1_4]; decide) (by decide) ?_
    refine lv_iload_n hx hb dX3_two_90 rfl (lv_at hl 1 rfl) ?_
    refine lv_iload_n hx hb dX3_two_91 rfl (lv_at hl 2 rfl) ?_
    refine lv_icmp_ne (tgt := 99) hx hb dX3_two_92 (by decide) (fun c_92 => ?_) (fun c_92 => ?_)
    · skip
      refine lv_iconst (v := 0) hx hb dX3_two_99 (by decide) ?_
      have hF : fX3_two c a b = 0 := by rw [fX3_two, if_neg e_1_0, if_neg e_1_1, if_neg e_1_2, if_neg e_1_3, if_pos e_1_4, if_neg c_92]
      exact iret_ro hx hb hr hlk (by rw [hF]) dX3_two_100
    · skip
      refine lv_iconst (v := 1) hx hb dX3_two_95 (by decide) ?_
      refine lv_goto (tgt := 100) hx hb dX3_two_96 (by decide) ?_
      have hF : fX3_two c a b = 1 := by rw [fX3_two, if_neg e_1_0, if_neg e_1_1, if_neg e_1_2, if_neg e_1_3, if_pos e_1_4, if_pos c_92]
      exact iret_ro hx hb hr hlk (by rw [hF]) dX3_two_100
  by_cases e_1_5 : c = 62
  · skip
    refine lv_lookup (tgt := 79) (off := 78) hx hb dX3_two_1 (by decide) (by rw [e_1_5]; decide) (by decide) ?_
    refine lv_iload_n hx hb dX3_two_79 rfl (lv_at hl 1 rfl) ?_
    refine lv_iload_n hx hb dX3_two_80 rfl (lv_at hl 2 rfl) ?_
    refine lv_icmp_le (tgt := 88) hx hb dX3_two_81 (by decide) (fun c_81 => ?_) (fun c_81 => ?_)
    · skip
      refine lv_iconst (v := 0) hx hb dX3_two_88 (by decide) ?_
      have hF : fX3_two c a b = 0 := by rw [fX3_two, if_neg e_1_0, if_neg e_1_1, if_neg e_1_2, if_neg e_1_3, if_neg e_1_4, if_pos e_1_5, if_pos c_81]
      exact iret_ro hx hb hr hlk (by rw [hF]) dX3_two_89
    · skip
      refine lv_iconst (v := 1) hx hb dX3_two_84 (by decide) ?_
      refine lv_goto (tgt := 89) hx hb dX3_two_85 (by decide) ?_
      have hF : fX3_two c a b = 1 := by rw [fX3_two, if_neg e_1_0, if_neg e_1_1, if_neg e_1_2, if_neg e_1_3, if_neg e_1_4, if_pos e_1_5, if_neg c_81]
      exact iret_ro hx hb hr hlk (by rw [hF]) dX3_two_89
  refine lv_lookup (tgt := 115) (off := 114) hx hb dX3_two_1 (by decide) (by rw [lv_osw (k := 38) e_1_0 (by decide)]; rw [lv_osw (k := 43) e_1_1 (by decide)]; rw [lv_osw (k := 45) e_1_2 (by decide)]; rw [lv_osw (k := 60) e_1_3 (by decide)]; rw [lv_osw (k := 61) e_1_4 (by decide)]; rw [lv_osw (k := 62) e_1_5 (by decide)]; rfl) (by decide) ?_
  refine lv_iload_n hx hb dX3_two_115 rfl (lv_at hl 1 rfl) ?_
  refine lv_if_ne (tgt := 123) hx hb dX3_two_116 (by decide) (fun c_116 => ?_) (fun c_116 => ?_)
  · skip
    refine lv_iconst (v := 1) hx hb dX3_two_123 (by decide) ?_
    refine lv_goto (tgt := 128) hx hb dX3_two_124 (by decide) ?_
    have hF : fX3_two c a b = 1 := by rw [fX3_two, if_neg e_1_0, if_neg e_1_1, if_neg e_1_2, if_neg e_1_3, if_neg e_1_4, if_neg e_1_5, if_neg c_116]
    exact iret_ro hx hb hr hlk (by rw [hF]) dX3_two_128
  · skip
    refine lv_iload_n hx hb dX3_two_119 rfl (lv_at hl 2 rfl) ?_
    refine lv_if_eq (tgt := 127) hx hb dX3_two_120 (by decide) (fun c_120 => ?_) (fun c_120 => ?_)
    · skip
      refine lv_iconst (v := 0) hx hb dX3_two_127 (by decide) ?_
      have hF : fX3_two c a b = 0 := by rw [fX3_two, if_neg e_1_0, if_neg e_1_1, if_neg e_1_2, if_neg e_1_3, if_neg e_1_4, if_neg e_1_5, if_pos c_116, if_pos c_120]
      exact iret_ro hx hb hr hlk (by rw [hF]) dX3_two_128
    · skip
      refine lv_iconst (v := 1) hx hb dX3_two_123 (by decide) ?_
      refine lv_goto (tgt := 128) hx hb dX3_two_124 (by decide) ?_
      have hF : fX3_two c a b = 1 := by rw [fX3_two, if_neg e_1_0, if_neg e_1_1, if_neg e_1_2, if_neg e_1_3, if_neg e_1_4, if_neg e_1_5, if_pos c_116, if_neg c_120]
      exact iret_ro hx hb hr hlk (by rw [hF]) dX3_two_128

def fX3_isChild (u : St) (c : Int32) (p : Int32) : Bool :=
  if (u.2.1 0 c.toNatClampNeg) = p then true else (if (u.2.1 1 c.toNatClampNeg) = p then true else false)
def okX3_isChild (u : St) (c : Int32) (p : Int32) : Prop :=
  (vp_in c 24)
set_option maxHeartbeats 4000000 in
theorem metX3_isChild (l : Launch) (D : va_G) (cA : Nat → ClassId) (o : Nat) (u : St) (c : Int32) (p : Int32) (hok : okX3_isChild u c p) : MetR l yX3_isChild cX3_isChild 3 (some .boolean) 0 D cA o u [.ref o, .int c, .int p] (some (.int (b2 (fX3_isChild u c p)))) := by
  have hN0 := hok
  refine mM_start RX3 (by decide) rfl (Nat.le_of_ble_eq_true rfl) ?_
  intro pg ev s0 mi bl me co hx hb hml hown hts hr hlk hK hM ls hl
  have hl : lv_has ls 3 [(0, .ref o), (1, .int c), (2, .int p)] := hl
  refine lv_aload_n hx hb dX3_isChild_0 rfl (lv_at hl 0 rfl) ?_
  refine mw_get (v := .ref (mAd o 0)) hx hb hts hown hK hM 0 (by decide) q1266 rfl rfl dX3_isChild_1 ?_
  refine lv_iload_n hx hb dX3_isChild_4 rfl (lv_at hl 1 rfl) ?_
  refine mw_ild (v := u.2.1 0 c.toNatClampNeg) (j := c.toNatClampNeg) hx hb hK hM 0 (by decide) rfl rfl hN0 rfl rfl dX3_isChild_5 ?_
  refine lv_iload_n hx hb dX3_isChild_6 rfl (lv_at hl 2 rfl) ?_
  refine lv_icmp_eq (tgt := 20) hx hb dX3_isChild_7 (by decide) (fun c_7 => ?_) (fun c_7 => ?_)
  · skip
    refine lv_iconst (v := 1) hx hb dX3_isChild_20 (by decide) ?_
    refine lv_goto (tgt := 25) hx hb dX3_isChild_21 (by decide) ?_
    have hF : fX3_isChild u c p = true := by rw [fX3_isChild, if_pos c_7]
    exact zret_ro hx hb hr hlk (by rw [hF]; rfl) dX3_isChild_25
  · skip
    refine lv_aload_n hx hb dX3_isChild_10 rfl (lv_at hl 0 rfl) ?_
    refine mw_get (v := .ref (mAd o 1)) hx hb hts hown hK hM 1 (by decide) q1267 rfl rfl dX3_isChild_11 ?_
    refine lv_iload_n hx hb dX3_isChild_14 rfl (lv_at hl 1 rfl) ?_
    refine mw_ild (v := u.2.1 1 c.toNatClampNeg) (j := c.toNatClampNeg) hx hb hK hM 1 (by decide) rfl rfl hN0 rfl rfl dX3_isChild_15 ?_
    refine lv_iload_n hx hb dX3_isChild_16 rfl (lv_at hl 2 rfl) ?_
    refine lv_icmp_ne (tgt := 24) hx hb dX3_isChild_17 (by decide) (fun c_17 => ?_) (fun c_17 => ?_)
    · skip
      refine lv_iconst (v := 0) hx hb dX3_isChild_24 (by decide) ?_
      have hF : fX3_isChild u c p = false := by rw [fX3_isChild, if_neg c_7, if_neg c_17]
      exact zret_ro hx hb hr hlk (by rw [hF]; rfl) dX3_isChild_25
    · skip
      refine lv_iconst (v := 1) hx hb dX3_isChild_20 (by decide) ?_
      refine lv_goto (tgt := 25) hx hb dX3_isChild_21 (by decide) ?_
      have hF : fX3_isChild u c p = true := by rw [fX3_isChild, if_neg c_7, if_pos c_17]
      exact zret_ro hx hb hr hlk (by rw [hF]; rfl) dX3_isChild_25

def fX3_mayGet (u : St) (h : Int32) (g : Int32) : Bool :=
  if h = g then true else (if (u.2.1 53 (((8 * h) + g).toNatClampNeg)) ≤ 0 then false else true)
def okX3_mayGet (u : St) (h : Int32) (g : Int32) : Prop :=
  (¬ (h = g) → vp_in ((8 * h) + g) 64)
set_option maxHeartbeats 4000000 in
theorem metX3_mayGet (l : Launch) (D : va_G) (cA : Nat → ClassId) (o : Nat) (u : St) (h : Int32) (g : Int32) (hok : okX3_mayGet u h g) : MetR l yX3_mayGet cX3_mayGet 3 (some .boolean) 0 D cA o u [.ref o, .int h, .int g] (some (.int (b2 (fX3_mayGet u h g)))) := by
  have hN0 := hok
  refine mM_start RX3 (by decide) rfl (Nat.le_of_ble_eq_true rfl) ?_
  intro pg ev s0 mi bl me co hx hb hml hown hts hr hlk hK hM ls hl
  have hl : lv_has ls 3 [(0, .ref o), (1, .int h), (2, .int g)] := hl
  refine lv_iload_n hx hb dX3_mayGet_0 rfl (lv_at hl 1 rfl) ?_
  refine lv_iload_n hx hb dX3_mayGet_1 rfl (lv_at hl 2 rfl) ?_
  refine lv_icmp_eq (tgt := 19) hx hb dX3_mayGet_2 (by decide) (fun c_2 => ?_) (fun c_2 => ?_)
  · skip
    refine lv_iconst (v := 1) hx hb dX3_mayGet_19 (by decide) ?_
    refine lv_goto (tgt := 24) hx hb dX3_mayGet_20 (by decide) ?_
    have hF : fX3_mayGet u h g = true := by rw [fX3_mayGet, if_pos c_2]
    exact zret_ro hx hb hr hlk (by rw [hF]; rfl) dX3_mayGet_24
  · skip
    refine lv_aload_n hx hb dX3_mayGet_5 rfl (lv_at hl 0 rfl) ?_
    refine mw_get (v := .ref (mAd o 53)) hx hb hts hown hK hM 53 (by decide) q1319 rfl rfl dX3_mayGet_6 ?_
    refine lv_bipush (v := 8) hx hb dX3_mayGet_9 (by decide) ?_
    refine lv_iload_n hx hb dX3_mayGet_11 rfl (lv_at hl 1 rfl) ?_
    refine lv_imul hx hb dX3_mayGet_12 ?_
    refine lv_iload_n hx hb dX3_mayGet_13 rfl (lv_at hl 2 rfl) ?_
    refine lv_iadd hx hb dX3_mayGet_14 ?_
    refine mw_ild (v := u.2.1 53 (((8 * h) + g).toNatClampNeg)) (j := ((8 * h) + g).toNatClampNeg) hx hb hK hM 53 (by decide) rfl rfl (hN0 c_2) rfl rfl dX3_mayGet_15 ?_
    refine lv_if_le (tgt := 23) hx hb dX3_mayGet_16 (by decide) (fun c_16 => ?_) (fun c_16 => ?_)
    · skip
      refine lv_iconst (v := 0) hx hb dX3_mayGet_23 (by decide) ?_
      have hF : fX3_mayGet u h g = false := by rw [fX3_mayGet, if_neg c_2, if_pos c_16]
      exact zret_ro hx hb hr hlk (by rw [hF]; rfl) dX3_mayGet_24
    · skip
      refine lv_iconst (v := 1) hx hb dX3_mayGet_19 (by decide) ?_
      refine lv_goto (tgt := 24) hx hb dX3_mayGet_20 (by decide) ?_
      have hF : fX3_mayGet u h g = true := by rw [fX3_mayGet, if_neg c_2, if_neg c_16]
      exact zret_ro hx hb hr hlk (by rw [hF]; rfl) dX3_mayGet_24

def fX3_want (u : St) (h : Int32) (g : Int32) (j : Int32) : Int32 × St :=
  if (fX3_isHouse u h) = true then (if (fX3_isHouse u g) = true then (if h = g then ((-1), u) else (if j < 0 then ((-1), u) else (if 1000 < j then ((-1), u) else (if (u.1 55) = 40 then ((-1), u) else ((u.1 55) + 1, (si (sa u 53 (((8 * h) + g).toNatClampNeg) j) 55 ((u.1 55) + 1))))))) else ((-1), u)) else ((-1), u)
def okX3_want (u : St) (h : Int32) (g : Int32) (j : Int32) : Prop :=
  ((fX3_isHouse u h) = true → (fX3_isHouse u g) = true → ¬ (h = g) → ¬ (j < 0) → ¬ (1000 < j) → ¬ ((u.1 55) = 40) → vp_in ((8 * h) + g) 64)
set_option maxHeartbeats 4000000 in
theorem metX3_want (l : Launch) (D : va_G) (cA : Nat → ClassId) (o : Nat) (u : St) (h : Int32) (g : Int32) (j : Int32) (hok : okX3_want u h g j) : MetM l yX3_want cX3_want 4 (some .int) 1 D cA o u [.ref o, .int h, .int g, .int j] (some (.int (fX3_want u h g j).1)) (fX3_want u h g j).2 := by
  have hN0 := hok
  refine mM_start RX3 (by decide) rfl (Nat.le_of_ble_eq_true rfl) ?_
  intro pg ev s0 mi bl me co hx hb hml hown hts hr hlk hK hM ls hl
  have hl : lv_has ls 4 [(0, .ref o), (1, .int h), (2, .int g), (3, .int j)] := hl
  have hS : va_S (mA o) s0.heap s0.heap [] := va_S.rf
  refine lv_aload_n hx hb dX3_want_0 rfl (lv_at hl 0 rfl) ?_
  refine lv_iload_n hx hb dX3_want_1 rfl (lv_at hl 1 rfl) ?_
  refine ro_call (mw_run (n := 1) (As := [.int h]) (rest := []) hx hb hml hown hts (metX3_isHouse l D cA o u h) q1479 q1481 qs33 q1482 (by decide +kernel) (by decide) (by decide) rfl hK hM hl.1 (Nat.le_of_ble_eq_true rfl) rfl dX3_want_2 ⟨Nat.le_refl _, Nat.le_refl _⟩) ?_
  refine lv_B_eq (tgt := 41) hx hb dX3_want_5 (by decide) (fun c_5 => ?_) (fun c_5 => ?_)
  · skip
    refine lv_iconst (v := (-1)) hx hb dX3_want_41 (by decide) ?_
    have hF : fX3_want u h g j = ((-1), u) := by rw [fX3_want, if_neg (nt_of c_5)]
    exact mw_iret hx hb hr hlk hM hS (by rw [hF]) (by rw [hF]) dX3_want_42
  · skip
    refine lv_aload_n hx hb dX3_want_8 rfl (lv_at hl 0 rfl) ?_
    refine lv_iload_n hx hb dX3_want_9 rfl (lv_at hl 2 rfl) ?_
    refine ro_call (mw_run (n := 1) (As := [.int g]) (rest := []) hx hb hml hown hts (metX3_isHouse l D cA o u g) q1479 q1481 qs33 q1482 (by decide +kernel) (by decide) (by decide) rfl hK hM hl.1 (Nat.le_of_ble_eq_true rfl) rfl dX3_want_10 ⟨Nat.le_refl _, Nat.le_refl _⟩) ?_
    refine lv_B_eq (tgt := 41) hx hb dX3_want_13 (by decide) (fun c_13 => ?_) (fun c_13 => ?_)
    · skip
      refine lv_iconst (v := (-1)) hx hb dX3_want_41 (by decide) ?_
      have hF : fX3_want u h g j = ((-1), u) := by rw [fX3_want, if_pos c_5, if_neg (nt_of c_13)]
      exact mw_iret hx hb hr hlk hM hS (by rw [hF]) (by rw [hF]) dX3_want_42
    · skip
      refine lv_iload_n hx hb dX3_want_16 rfl (lv_at hl 1 rfl) ?_
      refine lv_iload_n hx hb dX3_want_17 rfl (lv_at hl 2 rfl) ?_
      refine lv_icmp_eq (tgt := 41) hx hb dX3_want_18 (by decide) (fun c_18 => ?_) (fun c_18 => ?_)
      · skip
        refine lv_iconst (v := (-1)) hx hb dX3_want_41 (by decide) ?_
        have hF : fX3_want u h g j = ((-1), u) := by rw [fX3_want, if_pos c_5, if_pos c_13, if_pos c_18]
        exact mw_iret hx hb hr hlk hM hS (by rw [hF]) (by rw [hF]) dX3_want_42
      · skip
        refine lv_iload_n hx hb dX3_want_21 rfl (lv_at hl 3 rfl) ?_
        refine lv_if_lt (tgt := 41) hx hb dX3_want_22 (by decide) (fun c_22 => ?_) (fun c_22 => ?_)
        · skip
          refine lv_iconst (v := (-1)) hx hb dX3_want_41 (by decide) ?_
          have hF : fX3_want u h g j = ((-1), u) := by rw [fX3_want, if_pos c_5, if_pos c_13, if_neg c_18, if_pos c_22]
          exact mw_iret hx hb hr hlk hM hS (by rw [hF]) (by rw [hF]) dX3_want_42
        · skip
          refine lv_iload_n hx hb dX3_want_25 rfl (lv_at hl 3 rfl) ?_
          refine lv_sipush (v := 1000) hx hb dX3_want_26 (by decide) ?_
          refine lv_icmp_gt (tgt := 41) hx hb dX3_want_29 (by decide) (fun c_29 => ?_) (fun c_29 => ?_)
          · skip
            refine lv_iconst (v := (-1)) hx hb dX3_want_41 (by decide) ?_
            have hF : fX3_want u h g j = ((-1), u) := by rw [fX3_want, if_pos c_5, if_pos c_13, if_neg c_18, if_neg c_22, if_pos c_29]
            exact mw_iret hx hb hr hlk hM hS (by rw [hF]) (by rw [hF]) dX3_want_42
          · skip
            refine lv_aload_n hx hb dX3_want_32 rfl (lv_at hl 0 rfl) ?_
            refine mw_get (v := .int (u.1 55)) hx hb hts hown hK hM 55 (by decide) q1321 rfl rfl dX3_want_33 ?_
            refine lv_bipush (v := 40) hx hb dX3_want_36 (by decide) ?_
            refine lv_icmp_ne (tgt := 43) hx hb dX3_want_38 (by decide) (fun c_38 => ?_) (fun c_38 => ?_)
            · skip
              refine lv_aload_n hx hb dX3_want_43 rfl (lv_at hl 0 rfl) ?_
              refine mw_get (v := .ref (mAd o 53)) hx hb hts hown hK hM 53 (by decide) q1319 rfl rfl dX3_want_44 ?_
              refine lv_bipush (v := 8) hx hb dX3_want_47 (by decide) ?_
              refine lv_iload_n hx hb dX3_want_49 rfl (lv_at hl 1 rfl) ?_
              refine lv_imul hx hb dX3_want_50 ?_
              refine lv_iload_n hx hb dX3_want_51 rfl (lv_at hl 2 rfl) ?_
              refine lv_iadd hx hb dX3_want_52 ?_
              refine lv_iload_n hx hb dX3_want_53 rfl (lv_at hl 3 rfl) ?_
              refine mw_ist (j := ((8 * h) + g).toNatClampNeg) hx hb hK hM hS 53 (by decide) rfl rfl (hN0 c_5 c_13 c_18 c_22 c_29 c_38) rfl dX3_want_54 (fun H locs hM hS => ?_)
              refine lv_aload_n hx hb dX3_want_55 rfl (lv_at hl 0 rfl) ?_
              refine lv_dup hx hb dX3_want_56 rfl ?_
              refine mw_get (v := .int (u.1 55)) hx hb hts hown hK hM 55 (by decide) q1321 rfl rfl dX3_want_57 ?_
              refine lv_iconst (v := 1) hx hb dX3_want_60 (by decide) ?_
              refine lv_iadd hx hb dX3_want_61 ?_
              refine mw_puti hx hb hts hown hK hM hS 55 (by decide) q1321 rfl rfl rfl rfl dX3_want_62 (fun H locs hM hS => ?_)
              refine lv_aload_n hx hb dX3_want_65 rfl (lv_at hl 0 rfl) ?_
              refine mw_get (v := .int ((u.1 55) + 1)) hx hb hts hown hK hM 55 (by decide) q1321 rfl rfl dX3_want_66 ?_
              have hF : fX3_want u h g j = ((u.1 55) + 1, (si (sa u 53 (((8 * h) + g).toNatClampNeg) j) 55 ((u.1 55) + 1))) := by rw [fX3_want, if_pos c_5, if_pos c_13, if_neg c_18, if_neg c_22, if_neg c_29, if_neg c_38]
              exact mw_iret hx hb hr hlk hM hS (by rw [hF]) (by rw [hF]) dX3_want_69
            · skip
              refine lv_iconst (v := (-1)) hx hb dX3_want_41 (by decide) ?_
              have hF : fX3_want u h g j = ((-1), u) := by rw [fX3_want, if_pos c_5, if_pos c_13, if_neg c_18, if_neg c_22, if_neg c_29, if_pos c_38]
              exact mw_iret hx hb hr hlk hM hS (by rw [hF]) (by rw [hF]) dX3_want_42

def fX3_about (u : St) (w : Int32) : Int32 :=
  if w = 0 then u.1 6 else (if w = 1 then u.1 7 else (if w = 2 then u.1 19 else (if w = 3 then u.1 8 else (if w = 4 then u.2.1 32 ((u.1 39).toNatClampNeg) else (if w = 5 then u.1 49 else (if w = 6 then u.1 55 else (if w = 7 then u.1 23 else (-1))))))))
def okX3_about (u : St) (w : Int32) : Prop :=
  (w = 4 → vp_in (u.1 39) 2)
set_option maxHeartbeats 4000000 in
theorem metX3_about (l : Launch) (D : va_G) (cA : Nat → ClassId) (o : Nat) (u : St) (w : Int32) (hok : okX3_about u w) : MetR l yX3_about cX3_about 2 (some .int) 0 D cA o u [.ref o, .int w] (some (.int (fX3_about u w))) := by
  have hN0 := hok
  refine mM_start RX3 (by decide) rfl (Nat.le_of_ble_eq_true rfl) ?_
  intro pg ev s0 mi bl me co hx hb hml hown hts hr hlk hK hM ls hl
  have hl : lv_has ls 2 [(0, .ref o), (1, .int w)] := hl
  refine lv_iload_n hx hb dX3_about_0 rfl (lv_at hl 1 rfl) ?_
  by_cases e_1_0 : w = 0
  · skip
    refine lv_tableIn (tgt := 48) (off := 47) hx hb dX3_about_1 (by rw [e_1_0]; decide) (by rw [e_1_0]; decide) (by rw [e_1_0]; decide) (by decide) ?_
    refine lv_aload_n hx hb dX3_about_48 rfl (lv_at hl 0 rfl) ?_
    refine mw_get (v := .int (u.1 6)) hx hb hts hown hK hM 6 (by decide) q1272 rfl rfl dX3_about_49 ?_
    have hF : fX3_about u w = u.1 6 := by rw [fX3_about, if_pos e_1_0]
    exact iret_ro hx hb hr hlk (by rw [hF]) dX3_about_52
  by_cases e_1_1 : w = 1
  · skip
    refine lv_tableIn (tgt := 53) (off := 52) hx hb dX3_about_1 (by rw [e_1_1]; decide) (by rw [e_1_1]; decide) (by rw [e_1_1]; decide) (by decide) ?_
    refine lv_aload_n hx hb dX3_about_53 rfl (lv_at hl 0 rfl) ?_
    refine mw_get (v := .int (u.1 7)) hx hb hts hown hK hM 7 (by decide) q1273 rfl rfl dX3_about_54 ?_
    have hF : fX3_about u w = u.1 7 := by rw [fX3_about, if_neg e_1_0, if_pos e_1_1]
    exact iret_ro hx hb hr hlk (by rw [hF]) dX3_about_57
  by_cases e_1_2 : w = 2
  · skip
    refine lv_tableIn (tgt := 58) (off := 57) hx hb dX3_about_1 (by rw [e_1_2]; decide) (by rw [e_1_2]; decide) (by rw [e_1_2]; decide) (by decide) ?_
    refine lv_aload_n hx hb dX3_about_58 rfl (lv_at hl 0 rfl) ?_
    refine mw_get (v := .int (u.1 19)) hx hb hts hown hK hM 19 (by decide) q1285 rfl rfl dX3_about_59 ?_
    have hF : fX3_about u w = u.1 19 := by rw [fX3_about, if_neg e_1_0, if_neg e_1_1, if_pos e_1_2]
    exact iret_ro hx hb hr hlk (by rw [hF]) dX3_about_62
  by_cases e_1_3 : w = 3
  · skip
    refine lv_tableIn (tgt := 63) (off := 62) hx hb dX3_about_1 (by rw [e_1_3]; decide) (by rw [e_1_3]; decide) (by rw [e_1_3]; decide) (by decide) ?_
    refine lv_aload_n hx hb dX3_about_63 rfl (lv_at hl 0 rfl) ?_
    refine mw_get (v := .int (u.1 8)) hx hb hts hown hK hM 8 (by decide) q1274 rfl rfl dX3_about_64 ?_
    have hF : fX3_about u w = u.1 8 := by rw [fX3_about, if_neg e_1_0, if_neg e_1_1, if_neg e_1_2, if_pos e_1_3]
    exact iret_ro hx hb hr hlk (by rw [hF]) dX3_about_67
  by_cases e_1_4 : w = 4
  · skip
    refine lv_tableIn (tgt := 68) (off := 67) hx hb dX3_about_1 (by rw [e_1_4]; decide) (by rw [e_1_4]; decide) (by rw [e_1_4]; decide) (by decide) ?_
    refine lv_aload_n hx hb dX3_about_68 rfl (lv_at hl 0 rfl) ?_
    refine mw_get (v := .ref (mAd o 32)) hx hb hts hown hK hM 32 (by decide) q1298 rfl rfl dX3_about_69 ?_
    refine lv_aload_n hx hb dX3_about_72 rfl (lv_at hl 0 rfl) ?_
    refine mw_get (v := .int (u.1 39)) hx hb hts hown hK hM 39 (by decide) q1305 rfl rfl dX3_about_73 ?_
    refine mw_ild (v := u.2.1 32 ((u.1 39).toNatClampNeg)) (j := (u.1 39).toNatClampNeg) hx hb hK hM 32 (by decide) rfl rfl (hN0 e_1_4) rfl rfl dX3_about_76 ?_
    have hF : fX3_about u w = u.2.1 32 ((u.1 39).toNatClampNeg) := by rw [fX3_about, if_neg e_1_0, if_neg e_1_1, if_neg e_1_2, if_neg e_1_3, if_pos e_1_4]
    exact iret_ro hx hb hr hlk (by rw [hF]) dX3_about_77
  by_cases e_1_5 : w = 5
  · skip
    refine lv_tableIn (tgt := 78) (off := 77) hx hb dX3_about_1 (by rw [e_1_5]; decide) (by rw [e_1_5]; decide) (by rw [e_1_5]; decide) (by decide) ?_
    refine lv_aload_n hx hb dX3_about_78 rfl (lv_at hl 0 rfl) ?_
    refine mw_get (v := .int (u.1 49)) hx hb hts hown hK hM 49 (by decide) q1315 rfl rfl dX3_about_79 ?_
    have hF : fX3_about u w = u.1 49 := by rw [fX3_about, if_neg e_1_0, if_neg e_1_1, if_neg e_1_2, if_neg e_1_3, if_neg e_1_4, if_pos e_1_5]
    exact iret_ro hx hb hr hlk (by rw [hF]) dX3_about_82
  by_cases e_1_6 : w = 6
  · skip
    refine lv_tableIn (tgt := 83) (off := 82) hx hb dX3_about_1 (by rw [e_1_6]; decide) (by rw [e_1_6]; decide) (by rw [e_1_6]; decide) (by decide) ?_
    refine lv_aload_n hx hb dX3_about_83 rfl (lv_at hl 0 rfl) ?_
    refine mw_get (v := .int (u.1 55)) hx hb hts hown hK hM 55 (by decide) q1321 rfl rfl dX3_about_84 ?_
    have hF : fX3_about u w = u.1 55 := by rw [fX3_about, if_neg e_1_0, if_neg e_1_1, if_neg e_1_2, if_neg e_1_3, if_neg e_1_4, if_neg e_1_5, if_pos e_1_6]
    exact iret_ro hx hb hr hlk (by rw [hF]) dX3_about_87
  by_cases e_1_7 : w = 7
  · skip
    refine lv_tableIn (tgt := 88) (off := 87) hx hb dX3_about_1 (by rw [e_1_7]; decide) (by rw [e_1_7]; decide) (by rw [e_1_7]; decide) (by decide) ?_
    refine lv_aload_n hx hb dX3_about_88 rfl (lv_at hl 0 rfl) ?_
    refine mw_get (v := .int (u.1 23)) hx hb hts hown hK hM 23 (by decide) q1289 rfl rfl dX3_about_89 ?_
    have hF : fX3_about u w = u.1 23 := by rw [fX3_about, if_neg e_1_0, if_neg e_1_1, if_neg e_1_2, if_neg e_1_3, if_neg e_1_4, if_neg e_1_5, if_neg e_1_6, if_pos e_1_7]
    exact iret_ro hx hb hr hlk (by rw [hF]) dX3_about_92
  refine lv_tableOut (tgt := 93) hx hb dX3_about_1 (ts_out8 e_1_0 e_1_1 e_1_2 e_1_3 e_1_4 e_1_5 e_1_6 e_1_7) (by decide) ?_
  refine lv_iconst (v := (-1)) hx hb dX3_about_93 (by decide) ?_
  have hF : fX3_about u w = (-1) := by rw [fX3_about, if_neg e_1_0, if_neg e_1_1, if_neg e_1_2, if_neg e_1_3, if_neg e_1_4, if_neg e_1_5, if_neg e_1_6, if_neg e_1_7]
  exact iret_ro hx hb hr hlk (by rw [hF]) dX3_about_94

def fX3_end (u : St) (n : Int32) : Int32 × St :=
  if n < 0 then ((-1), u) else (if n ≤ (u.1 23) then (n, (si u 23 n)) else ((-1), u))
set_option maxHeartbeats 4000000 in
theorem metX3_end (l : Launch) (D : va_G) (cA : Nat → ClassId) (o : Nat) (u : St) (n : Int32) : MetM l yX3_end cX3_end 2 (some .int) 0 D cA o u [.ref o, .int n] (some (.int (fX3_end u n).1)) (fX3_end u n).2 := by
  refine mM_start RX3 (by decide) rfl (Nat.le_of_ble_eq_true rfl) ?_
  intro pg ev s0 mi bl me co hx hb hml hown hts hr hlk hK hM ls hl
  have hl : lv_has ls 2 [(0, .ref o), (1, .int n)] := hl
  have hS : va_S (mA o) s0.heap s0.heap [] := va_S.rf
  refine lv_iload_n hx hb dX3_end_0 rfl (lv_at hl 1 rfl) ?_
  refine lv_if_lt (tgt := 12) hx hb dX3_end_1 (by decide) (fun c_1 => ?_) (fun c_1 => ?_)
  · skip
    refine lv_iconst (v := (-1)) hx hb dX3_end_12 (by decide) ?_
    have hF : fX3_end u n = ((-1), u) := by rw [fX3_end, if_pos c_1]
    exact mw_iret hx hb hr hlk hM hS (by rw [hF]) (by rw [hF]) dX3_end_13
  · skip
    refine lv_iload_n hx hb dX3_end_4 rfl (lv_at hl 1 rfl) ?_
    refine lv_aload_n hx hb dX3_end_5 rfl (lv_at hl 0 rfl) ?_
    refine mw_get (v := .int (u.1 23)) hx hb hts hown hK hM 23 (by decide) q1289 rfl rfl dX3_end_6 ?_
    refine lv_icmp_le (tgt := 14) hx hb dX3_end_9 (by decide) (fun c_9 => ?_) (fun c_9 => ?_)
    · skip
      refine lv_aload_n hx hb dX3_end_14 rfl (lv_at hl 0 rfl) ?_
      refine lv_iload_n hx hb dX3_end_15 rfl (lv_at hl 1 rfl) ?_
      refine mw_puti hx hb hts hown hK hM hS 23 (by decide) q1289 rfl rfl rfl rfl dX3_end_16 (fun H locs hM hS => ?_)
      refine lv_iload_n hx hb dX3_end_19 rfl (lv_at hl 1 rfl) ?_
      have hF : fX3_end u n = (n, (si u 23 n)) := by rw [fX3_end, if_neg c_1, if_pos c_9]
      exact mw_iret hx hb hr hlk hM hS (by rw [hF]) (by rw [hF]) dX3_end_20
    · skip
      refine lv_iconst (v := (-1)) hx hb dX3_end_12 (by decide) ?_
      have hF : fX3_end u n = ((-1), u) := by rw [fX3_end, if_neg c_1, if_neg c_9]
      exact mw_iret hx hb hr hlk hM hS (by rw [hF]) (by rw [hF]) dX3_end_13

def lpX3_claim_21 (u : St) (pa : Int32) : Int32 → Nat × Int32
  | i => if (u.1 49) ≤ i then (1, i) else (if (u.2.1 48 i.toNatClampNeg) = pa then (2, i) else (0, i + 1))
def lpX3_claim_21_r (u : St) (pa : Int32) : Nat × Int32 :=
  wh (lpX3_claim_21 u pa) 31 0
def fX3_claim (u : St) (pa : Int32) : Int32 × St :=
  if (fX3_isPaper u pa) = true then (if (u.1 49) = 30 then ((-1), u) else (if (lpX3_claim_21_r u pa).1 = 1 then (((u.1 49) + 1) - 1, (si (sa u 48 ((u.1 49).toNatClampNeg) pa) 49 ((u.1 49) + 1))) else ((-1), u))) else ((-1), u)
def okX3_claim (u : St) (pa : Int32) : Prop :=
  ∃ (I_21 : Int32 → Prop), ((fX3_isPaper u pa) = true → ¬ ((u.1 49) = 30) → LOK (lpX3_claim_21 u pa) 31 0 I_21) ∧ ((fX3_isPaper u pa) = true → ¬ ((u.1 49) = 30) → ∀ (i : Int32), I_21 i → ¬ ((u.1 49) ≤ i) → vp_in i 30) ∧ ((fX3_isPaper u pa) = true → ¬ ((u.1 49) = 30) → (lpX3_claim_21_r u pa).1 = 1 → vp_in (u.1 49) 30)
set_option maxHeartbeats 4000000 in
theorem metX3_claim (l : Launch) (D : va_G) (cA : Nat → ClassId) (o : Nat) (u : St) (pa : Int32) (hok : okX3_claim u pa) : MetM l yX3_claim cX3_claim 3 (some .int) 1 D cA o u [.ref o, .int pa] (some (.int (fX3_claim u pa).1)) (fX3_claim u pa).2 := by
  obtain ⟨I_21, hN0, hN1, hN2⟩ := hok
  refine mM_start RX3 (by decide) rfl (Nat.le_of_ble_eq_true rfl) ?_
  intro pg ev s0 mi bl me co hx hb hml hown hts hr hlk hK hM ls hl
  have hl : lv_has ls 3 [(0, .ref o), (1, .int pa)] := hl
  have hS : va_S (mA o) s0.heap s0.heap [] := va_S.rf
  refine lv_aload_n hx hb dX3_claim_0 rfl (lv_at hl 0 rfl) ?_
  refine lv_iload_n hx hb dX3_claim_1 rfl (lv_at hl 1 rfl) ?_
  refine ro_call (mw_run (n := 1) (As := [.int pa]) (rest := []) hx hb hml hown hts (metX3_isPaper l D cA o u pa) q1487 q1489 qs34 q1490 (by decide +kernel) (by decide) (by decide) rfl hK hM hl.1 (Nat.le_of_ble_eq_true rfl) rfl dX3_claim_2 ⟨Nat.le_refl _, Nat.le_refl _⟩) ?_
  refine lv_B_eq (tgt := 17) hx hb dX3_claim_5 (by decide) (fun c_5 => ?_) (fun c_5 => ?_)
  · skip
    refine lv_iconst (v := (-1)) hx hb dX3_claim_17 (by decide) ?_
    have hF : fX3_claim u pa = ((-1), u) := by rw [fX3_claim, if_neg (nt_of c_5)]
    exact mw_iret hx hb hr hlk hM hS (by rw [hF]) (by rw [hF]) dX3_claim_18
  · skip
    refine lv_aload_n hx hb dX3_claim_8 rfl (lv_at hl 0 rfl) ?_
    refine mw_get (v := .int (u.1 49)) hx hb hts hown hK hM 49 (by decide) q1315 rfl rfl dX3_claim_9 ?_
    refine lv_bipush (v := 30) hx hb dX3_claim_12 (by decide) ?_
    refine lv_icmp_ne (tgt := 19) hx hb dX3_claim_14 (by decide) (fun c_14 => ?_) (fun c_14 => ?_)
    · skip
      refine lv_iconst (v := 0) hx hb dX3_claim_19 (by decide) ?_
      refine lv_istore_n (lv' := [(2, .int 0), (0, .ref o), (1, .int pa)]) hx hb dX3_claim_20 rfl hl (by decide) rfl (fun ls hl => ?_)
      refine r_loop2 (rest := []) (nL := 3) (r := (lpX3_claim_21_r u pa)) (lpX3_claim_21 u pa) I_21 (fun q => [(2, .int q), (0, .ref o), (1, .int pa)]) 21 47 39 31 0 (hN0 c_5 c_14).2.1 (hN0 c_5 c_14).1 (hN0 c_5 c_14).2.2 rfl ?_ (lv_sub hl [0, 1, 2] rfl) ?_ ?_
      · skip
        intro i hI_21 ls hl kb k1 k2
        have hl : lv_has ls 3 [(2, .int i), (0, .ref o), (1, .int pa)] := hl
        refine lv_iload_n hx hb dX3_claim_21 rfl (lv_at hl 0 rfl) ?_
        refine lv_aload_n hx hb dX3_claim_22 rfl (lv_at hl 1 rfl) ?_
        refine mw_get (v := .int (u.1 49)) hx hb hts hown hK hM 49 (by decide) q1315 rfl rfl dX3_claim_23 ?_
        refine lv_icmp_ge (tgt := 47) hx hb dX3_claim_26 (by decide) (fun c_26 => ?_) (fun c_26 => ?_)
        · skip
          have hs : lpX3_claim_21 u pa i = (1, i) := by rw [lpX3_claim_21, if_pos c_26]
          rw [hs] at k1
          exact k1 rfl _ (lv_sub hl [0, 1, 2] rfl)
        · skip
          refine lv_aload_n hx hb dX3_claim_29 rfl (lv_at hl 1 rfl) ?_
          refine mw_get (v := .ref (mAd o 48)) hx hb hts hown hK hM 48 (by decide) q1314 rfl rfl dX3_claim_30 ?_
          refine lv_iload_n hx hb dX3_claim_33 rfl (lv_at hl 0 rfl) ?_
          refine mw_ild (v := u.2.1 48 i.toNatClampNeg) (j := i.toNatClampNeg) hx hb hK hM 48 (by decide) rfl rfl (hN1 c_5 c_14 i hI_21 c_26) rfl rfl dX3_claim_34 ?_
          refine lv_iload_n hx hb dX3_claim_35 rfl (lv_at hl 2 rfl) ?_
          refine lv_icmp_ne (tgt := 41) hx hb dX3_claim_36 (by decide) (fun c_36 => ?_) (fun c_36 => ?_)
          · skip
            refine lv_iinc (v := i + 1) (lv' := [(2, .int (i + 1)), (0, .ref o), (1, .int pa)]) hx hb dX3_claim_41 hl (k := 0) rfl (rfl) (by decide) rfl (fun ls hl => ?_)
            refine lv_goto (tgt := 21) hx hb dX3_claim_44 (by decide) ?_
            have hs : lpX3_claim_21 u pa i = (0, i + 1) := by rw [lpX3_claim_21, if_neg c_26, if_neg c_36]
            rw [hs] at kb
            exact kb rfl _ (lv_sub hl [0, 1, 2] rfl)
          · skip
            have hs : lpX3_claim_21 u pa i = (2, i) := by rw [lpX3_claim_21, if_neg c_26, if_pos c_36]
            rw [hs] at k2
            exact k2 (show ¬ (2 : Nat) = 0 by decide) (show ¬ (2 : Nat) = 1 by decide) _ (lv_sub hl [0, 1, 2] rfl)
      · skip
        intro hx_21 ls hl
        have hl : lv_has ls 3 [(2, .int ((lpX3_claim_21_r u pa).2)), (0, .ref o), (1, .int pa)] := hl
        have hx_21 : (lpX3_claim_21_r u pa).1 = 1 := hx_21
        refine lv_aload_n hx hb dX3_claim_47 rfl (lv_at hl 1 rfl) ?_
        refine mw_get (v := .ref (mAd o 48)) hx hb hts hown hK hM 48 (by decide) q1314 rfl rfl dX3_claim_48 ?_
        refine lv_aload_n hx hb dX3_claim_51 rfl (lv_at hl 1 rfl) ?_
        refine mw_get (v := .int (u.1 49)) hx hb hts hown hK hM 49 (by decide) q1315 rfl rfl dX3_claim_52 ?_
        refine lv_iload_n hx hb dX3_claim_55 rfl (lv_at hl 2 rfl) ?_
        refine mw_ist (j := (u.1 49).toNatClampNeg) hx hb hK hM hS 48 (by decide) rfl rfl (hN2 c_5 c_14 hx_21) rfl dX3_claim_56 (fun H locs hM hS => ?_)
        refine lv_aload_n hx hb dX3_claim_57 rfl (lv_at hl 1 rfl) ?_
        refine lv_dup hx hb dX3_claim_58 rfl ?_
        refine mw_get (v := .int (u.1 49)) hx hb hts hown hK hM 49 (by decide) q1315 rfl rfl dX3_claim_59 ?_
        refine lv_iconst (v := 1) hx hb dX3_claim_62 (by decide) ?_
        refine lv_iadd hx hb dX3_claim_63 ?_
        refine mw_puti hx hb hts hown hK hM hS 49 (by decide) q1315 rfl rfl rfl rfl dX3_claim_64 (fun H locs hM hS => ?_)
        refine lv_aload_n hx hb dX3_claim_67 rfl (lv_at hl 1 rfl) ?_
        refine mw_get (v := .int ((u.1 49) + 1)) hx hb hts hown hK hM 49 (by decide) q1315 rfl rfl dX3_claim_68 ?_
        refine lv_iconst (v := 1) hx hb dX3_claim_71 (by decide) ?_
        refine lv_isub hx hb dX3_claim_72 ?_
        have hF : fX3_claim u pa = (((u.1 49) + 1) - 1, (si (sa u 48 ((u.1 49).toNatClampNeg) pa) 49 ((u.1 49) + 1))) := by rw [fX3_claim, if_pos c_5, if_neg c_14, if_pos hx_21]
        exact mw_iret hx hb hr hlk hM hS (by rw [hF]) (by rw [hF]) dX3_claim_73
      · skip
        intro hx_21 ls hl
        have hl : lv_has ls 3 [(2, .int ((lpX3_claim_21_r u pa).2)), (0, .ref o), (1, .int pa)] := hl
        have hx_21 : ¬ (lpX3_claim_21_r u pa).1 = 1 := hx_21
        refine lv_iconst (v := (-1)) hx hb dX3_claim_39 (by decide) ?_
        have hF : fX3_claim u pa = ((-1), u) := by rw [fX3_claim, if_pos c_5, if_neg c_14, if_neg hx_21]
        exact mw_iret hx hb hr hlk hM hS (by rw [hF]) (by rw [hF]) dX3_claim_40
    · skip
      refine lv_iconst (v := (-1)) hx hb dX3_claim_17 (by decide) ?_
      have hF : fX3_claim u pa = ((-1), u) := by rw [fX3_claim, if_pos c_5, if_pos c_14]
      exact mw_iret hx hb hr hlk hM hS (by rw [hF]) (by rw [hF]) dX3_claim_18

def fX3_fw (u : St) (a : Int32) (b : Int32) (c : Int32) (d : Int32) (e : Int32) (v : St) (k : Int32) : Int32 :=
  if 4 ≤ k then (if 8 ≤ k then (if 12 ≤ k then (if 16 ≤ k then e else d) else c) else b) else a
def lpX3_feed_18 (u : St) (a : Int32) (b : Int32) (c : Int32) (d : Int32) (e : Int32) : St × Int32 → Nat × St × Int32
  | (v, k) => if 20 ≤ k then (1, v, k) else (0, (sa v 21 (((v.1 23) + k).toNatClampNeg) ((((fX3_fw u a b c d e v k) >>> ((24 - (8 * (k &&& 3))) &&& 31)).toInt8.toInt32).toInt8.toInt32)), k + 1)
def lpX3_feed_18_r (u : St) (a : Int32) (b : Int32) (c : Int32) (d : Int32) (e : Int32) : Nat × St × Int32 :=
  wh (lpX3_feed_18 u a b c d e) 21 (u, 0)
def fX3_feed (u : St) (a : Int32) (b : Int32) (c : Int32) (d : Int32) (e : Int32) : Int32 × St :=
  if ((u.1 23) + 20) ≤ 600 then (((lpX3_feed_18_r u a b c d e).2.1.1 23) + 20, (si (lpX3_feed_18_r u a b c d e).2.1 23 (((lpX3_feed_18_r u a b c d e).2.1.1 23) + 20))) else ((-1), u)
def okX3_feed (u : St) (a : Int32) (b : Int32) (c : Int32) (d : Int32) (e : Int32) : Prop :=
  ∃ (I_18 : (St × Int32) → Prop), (((u.1 23) + 20) ≤ 600 → LOK (lpX3_feed_18 u a b c d e) 21 (u, 0) I_18) ∧ (((u.1 23) + 20) ≤ 600 → ∀ (v : St) (k : Int32), I_18 (v, k) → ¬ (20 ≤ k) → vp_in ((v.1 23) + k) 620)
set_option maxHeartbeats 4000000 in
theorem metX3_feed (l : Launch) (D : va_G) (cA : Nat → ClassId) (o : Nat) (u : St) (a : Int32) (b : Int32) (c : Int32) (d : Int32) (e : Int32) (hok : okX3_feed u a b c d e) : MetM l yX3_feed cX3_feed 8 (some .int) 0 D cA o u [.ref o, .int a, .int b, .int c, .int d, .int e] (some (.int (fX3_feed u a b c d e).1)) (fX3_feed u a b c d e).2 := by
  obtain ⟨I_18, hN0, hN1⟩ := hok
  refine mM_start RX3 (by decide) rfl (Nat.le_of_ble_eq_true rfl) ?_
  intro pg ev s0 mi bl me co hx hb hml hown hts hr hlk hK hM ls hl
  have hl : lv_has ls 8 [(0, .ref o), (1, .int a), (2, .int b), (3, .int c), (4, .int d), (5, .int e)] := hl
  have hS : va_S (mA o) s0.heap s0.heap [] := va_S.rf
  refine lv_aload_n hx hb dX3_feed_0 rfl (lv_at hl 0 rfl) ?_
  refine mw_get (v := .int (u.1 23)) hx hb hts hown hK hM 23 (by decide) q1289 rfl rfl dX3_feed_1 ?_
  refine lv_bipush (v := 20) hx hb dX3_feed_4 (by decide) ?_
  refine lv_iadd hx hb dX3_feed_6 ?_
  refine lv_sipush (v := 600) hx hb dX3_feed_7 (by decide) ?_
  refine lv_icmp_le (tgt := 15) hx hb dX3_feed_10 (by decide) (fun c_10 => ?_) (fun c_10 => ?_)
  · skip
    refine lv_iconst (v := 0) hx hb dX3_feed_15 (by decide) ?_
    refine lv_istore (lv' := [(6, .int 0), (0, .ref o), (1, .int a), (2, .int b), (3, .int c), (4, .int d), (5, .int e)]) hx hb dX3_feed_16 hl (by decide) rfl (fun ls hl => ?_)
    refine mw_loop1 (rest := []) (nL := 8) (r := (lpX3_feed_18_r u a b c d e)) (lpX3_feed_18 u a b c d e) I_18 (fun q => q.1) (fun q => [(6, .int q.2), (0, .ref o), (1, .int a), (2, .int b), (3, .int c), (4, .int d), (5, .int e)]) 18 105 21 (u, 0) (hN0 c_10).2.1 (hN0 c_10).1 (hN0 c_10).2.2 rfl ?_ hM hS (lv_sub hl [0, 1, 2, 3, 4, 5, 6] rfl) ?_
    · skip
      intro ⟨v, k⟩ hI_18 H locs ls hM hS hl kb k1
      have hM : MW D cA o v H := hM
      have hl : lv_has ls 8 [(6, .int k), (0, .ref o), (1, .int a), (2, .int b), (3, .int c), (4, .int d), (5, .int e)] := hl
      refine lv_iload hx hb dX3_feed_18 (lv_at hl 0 rfl) ?_
      refine lv_bipush (v := 20) hx hb dX3_feed_20 (by decide) ?_
      refine lv_icmp_ge (tgt := 105) hx hb dX3_feed_22 (by decide) (fun c_22 => ?_) (fun c_22 => ?_)
      · skip
        have hs : lpX3_feed_18 u a b c d e (v, k) = (1, v, k) := by rw [lpX3_feed_18, if_pos c_22]
        rw [hs] at k1
        exact k1 (show ¬ (1 : Nat) = 0 by decide) _ _ _ hM hS (lv_sub hl [0, 1, 2, 3, 4, 5, 6] rfl)
      · skip
        refine lv_iload hx hb dX3_feed_25 (lv_at hl 0 rfl) ?_
        refine lv_iconst (v := 4) hx hb dX3_feed_27 (by decide) ?_
        refine w_ji (ls := ls) (rest := []) (E := (fX3_fw u a b c d e v k)) 71 ?_ (fun K => ?_)
        · skip
          refine lv_istore (lv' := [(7, .int (fX3_fw u a b c d e v k)), (6, .int k), (0, .ref o), (1, .int a), (2, .int b), (3, .int c), (4, .int d), (5, .int e)]) hx hb dX3_feed_71 hl (by decide) rfl (fun ls hl => ?_)
          refine lv_aload_n hx hb dX3_feed_73 rfl (lv_at hl 2 rfl) ?_
          refine mw_get (v := .ref (mAd o 21)) hx hb hts hown hK hM 21 (by decide) q1287 rfl rfl dX3_feed_74 ?_
          refine lv_aload_n hx hb dX3_feed_77 rfl (lv_at hl 2 rfl) ?_
          refine mw_get (v := .int (v.1 23)) hx hb hts hown hK hM 23 (by decide) q1289 rfl rfl dX3_feed_78 ?_
          refine lv_iload hx hb dX3_feed_81 (lv_at hl 1 rfl) ?_
          refine lv_iadd hx hb dX3_feed_83 ?_
          refine lv_iload hx hb dX3_feed_84 (lv_at hl 0 rfl) ?_
          refine lv_bipush (v := 24) hx hb dX3_feed_86 (by decide) ?_
          refine lv_bipush (v := 8) hx hb dX3_feed_88 (by decide) ?_
          refine lv_iload hx hb dX3_feed_90 (lv_at hl 1 rfl) ?_
          refine lv_iconst (v := 3) hx hb dX3_feed_92 (by decide) ?_
          refine lv_iand hx hb dX3_feed_93 ?_
          refine lv_imul hx hb dX3_feed_94 ?_
          refine lv_isub hx hb dX3_feed_95 ?_
          refine lv_ishr hx hb dX3_feed_96 ?_
          refine lv_i2b hx hb dX3_feed_97 rfl ?_
          refine mw_bst (j := ((v.1 23) + k).toNatClampNeg) hx hb hK hM hS 21 (by decide) rfl rfl (hN1 c_10 v k hI_18 c_22) rfl dX3_feed_98 (fun H locs hM hS => ?_)
          refine lv_iinc (v := k + 1) (lv' := [(6, .int (k + 1)), (7, .int (fX3_fw u a b c d e v k)), (0, .ref o), (1, .int a), (2, .int b), (3, .int c), (4, .int d), (5, .int e)]) hx hb dX3_feed_99 hl (k := 1) rfl (rfl) (by decide) rfl (fun ls hl => ?_)
          refine lv_goto (tgt := 18) hx hb dX3_feed_102 (by decide) ?_
          have hs : lpX3_feed_18 u a b c d e (v, k) = (0, (sa v 21 (((v.1 23) + k).toNatClampNeg) ((((fX3_fw u a b c d e v k) >>> ((24 - (8 * (k &&& 3))) &&& 31)).toInt8.toInt32).toInt8.toInt32)), k + 1) := by rw [lpX3_feed_18, if_neg c_22]
          rw [hs] at kb
          exact kb rfl _ _ _ hM hS (lv_sub hl [0, 2, 3, 4, 5, 6, 7] rfl)
        · skip
          refine lv_icmp_ge (tgt := 35) hx hb dX3_feed_28 (by decide) (fun c_28 => ?_) (fun c_28 => ?_)
          · skip
            refine lv_iload hx hb dX3_feed_35 (lv_at hl 0 rfl) ?_
            refine lv_bipush (v := 8) hx hb dX3_feed_37 (by decide) ?_
            refine lv_icmp_ge (tgt := 46) hx hb dX3_feed_39 (by decide) (fun c_39 => ?_) (fun c_39 => ?_)
            · skip
              refine lv_iload hx hb dX3_feed_46 (lv_at hl 0 rfl) ?_
              refine lv_bipush (v := 12) hx hb dX3_feed_48 (by decide) ?_
              refine lv_icmp_ge (tgt := 57) hx hb dX3_feed_50 (by decide) (fun c_50 => ?_) (fun c_50 => ?_)
              · skip
                refine lv_iload hx hb dX3_feed_57 (lv_at hl 0 rfl) ?_
                refine lv_bipush (v := 16) hx hb dX3_feed_59 (by decide) ?_
                refine lv_icmp_ge (tgt := 69) hx hb dX3_feed_61 (by decide) (fun c_61 => ?_) (fun c_61 => ?_)
                · skip
                  refine lv_iload hx hb dX3_feed_69 (lv_at hl 6 rfl) ?_
                  exact K _ (by rw [fX3_fw, if_pos c_28, if_pos c_39, if_pos c_50, if_pos c_61])
                · skip
                  refine lv_iload hx hb dX3_feed_64 (lv_at hl 5 rfl) ?_
                  refine lv_goto (tgt := 71) hx hb dX3_feed_66 (by decide) ?_
                  exact K _ (by rw [fX3_fw, if_pos c_28, if_pos c_39, if_pos c_50, if_neg c_61])
              · skip
                refine lv_iload_n hx hb dX3_feed_53 rfl (lv_at hl 4 rfl) ?_
                refine lv_goto (tgt := 71) hx hb dX3_feed_54 (by decide) ?_
                exact K _ (by rw [fX3_fw, if_pos c_28, if_pos c_39, if_neg c_50])
            · skip
              refine lv_iload_n hx hb dX3_feed_42 rfl (lv_at hl 3 rfl) ?_
              refine lv_goto (tgt := 71) hx hb dX3_feed_43 (by decide) ?_
              exact K _ (by rw [fX3_fw, if_pos c_28, if_neg c_39])
          · skip
            refine lv_iload_n hx hb dX3_feed_31 rfl (lv_at hl 2 rfl) ?_
            refine lv_goto (tgt := 71) hx hb dX3_feed_32 (by decide) ?_
            exact K _ (by rw [fX3_fw, if_neg c_28])
    · skip
      intro H locs ls hM hS hl
      have hM : MW D cA o (lpX3_feed_18_r u a b c d e).2.1 H := hM
      have hl : lv_has ls 8 [(6, .int ((lpX3_feed_18_r u a b c d e).2.2)), (0, .ref o), (1, .int a), (2, .int b), (3, .int c), (4, .int d), (5, .int e)] := hl
      refine lv_aload_n hx hb dX3_feed_105 rfl (lv_at hl 1 rfl) ?_
      refine lv_dup hx hb dX3_feed_106 rfl ?_
      refine mw_get (v := .int ((lpX3_feed_18_r u a b c d e).2.1.1 23)) hx hb hts hown hK hM 23 (by decide) q1289 rfl rfl dX3_feed_107 ?_
      refine lv_bipush (v := 20) hx hb dX3_feed_110 (by decide) ?_
      refine lv_iadd hx hb dX3_feed_112 ?_
      refine mw_puti hx hb hts hown hK hM hS 23 (by decide) q1289 rfl rfl rfl rfl dX3_feed_113 (fun H locs hM hS => ?_)
      refine lv_aload_n hx hb dX3_feed_116 rfl (lv_at hl 1 rfl) ?_
      refine mw_get (v := .int (((lpX3_feed_18_r u a b c d e).2.1.1 23) + 20)) hx hb hts hown hK hM 23 (by decide) q1289 rfl rfl dX3_feed_117 ?_
      have hF : fX3_feed u a b c d e = (((lpX3_feed_18_r u a b c d e).2.1.1 23) + 20, (si (lpX3_feed_18_r u a b c d e).2.1 23 (((lpX3_feed_18_r u a b c d e).2.1.1 23) + 20))) := by rw [fX3_feed, if_pos c_10]
      exact mw_iret hx hb hr hlk hM hS (by rw [hF]) (by rw [hF]) dX3_feed_120
  · skip
    refine lv_iconst (v := (-1)) hx hb dX3_feed_13 (by decide) ?_
    have hF : fX3_feed u a b c d e = ((-1), u) := by rw [fX3_feed, if_neg c_10]
    exact mw_iret hx hb hr hlk hM hS (by rw [hF]) (by rw [hF]) dX3_feed_14

def lpX3_divisor_6 (a : Int64) (b : Int64) : Int64 × Int64 → Nat × Int64 × Int64
  | (x, y) => if y = 0 then (1, x, y) else (0, y, x - x / y * y)
def lpX3_divisor_6_r (a : Int64) (b : Int64) : Nat × Int64 × Int64 :=
  wh (lpX3_divisor_6 a b) 200 (a, b)
def fX3_divisor (a : Int64) (b : Int64) : Int64 :=
  (lpX3_divisor_6_r a b).2.1
def okX3_divisor (a : Int64) (b : Int64) : Prop :=
  ∃ (I_6 : (Int64 × Int64) → Prop), (LOK (lpX3_divisor_6 a b) 200 (a, b) I_6) ∧ (∀ (x : Int64) (y : Int64), I_6 (x, y) → ¬ (y = 0) → ¬ y = 0)
set_option maxHeartbeats 4000000 in
theorem metX3_divisor (l : Launch) (a : Int64) (b : Int64) (hok : okX3_divisor a b) : MetS l yX3_divisor cX3_divisor 10 (some .long) 0 [.long a, .long b] (some (.long (fX3_divisor a b))) := by
  obtain ⟨I_6, hN0, hN1⟩ := hok
  refine mS_start RX3 (by decide) rfl (Nat.le_of_ble_eq_true rfl) ?_
  intro pg ev s0 mi bl me co hx hb hml hown hts hr hlk ls hl
  have hl : lv_has ls 10 [(0, .long a), (2, .long b)] := hl
  refine lv_lload_n hx hb dX3_divisor_0 rfl (lv_at hl 0 rfl) ?_
  refine lv_lstore (lv' := [(4, .long a), (0, .long a), (2, .long b)]) hx hb dX3_divisor_1 hl (by decide) rfl (fun ls hl => ?_)
  refine lv_lload_n hx hb dX3_divisor_3 rfl (lv_at hl 2 rfl) ?_
  refine lv_lstore (lv' := [(6, .long b), (4, .long a), (0, .long a), (2, .long b)]) hx hb dX3_divisor_4 hl (by decide) rfl (fun ls hl => ?_)
  refine r_loop1 (rest := []) (nL := 10) (r := (lpX3_divisor_6_r a b)) (lpX3_divisor_6 a b) I_6 (fun q => [(4, .long q.1), (6, .long q.2), (0, .long a), (2, .long b)]) 6 31 200 (a, b) hN0.2.1 hN0.1 hN0.2.2 rfl ?_ (lv_sub hl [1, 0, 2, 3] rfl) ?_
  · skip
    intro ⟨x, y⟩ hI_6 ls hl kb k1
    have hl : lv_has ls 10 [(4, .long x), (6, .long y), (0, .long a), (2, .long b)] := hl
    refine lv_lload hx hb dX3_divisor_6 (lv_at hl 1 rfl) ?_
    refine lv_lconst (v := 0) hx hb dX3_divisor_8 (by decide) ?_
    refine W.lcmp hx hb dX3_divisor_9 ?_
    refine lv_L_eq (tgt := 31) hx hb dX3_divisor_10 (by decide) (fun c_10 => ?_) (fun c_10 => ?_)
    · skip
      have hs : lpX3_divisor_6 a b (x, y) = (1, x, y) := by rw [lpX3_divisor_6, if_pos c_10]
      rw [hs] at k1
      exact k1 (show ¬ (1 : Nat) = 0 by decide) _ (lv_sub hl [0, 1, 2, 3] rfl)
    · skip
      refine lv_lload hx hb dX3_divisor_13 (lv_at hl 0 rfl) ?_
      refine lv_lload hx hb dX3_divisor_15 (lv_at hl 1 rfl) ?_
      refine lv_lrem hx hb dX3_divisor_17 (hN1 x y hI_6 c_10) ?_
      refine lv_lstore (lv' := [(8, .long (x - x / y * y)), (4, .long x), (6, .long y), (0, .long a), (2, .long b)]) hx hb dX3_divisor_18 hl (by decide) rfl (fun ls hl => ?_)
      refine lv_lload hx hb dX3_divisor_20 (lv_at hl 2 rfl) ?_
      refine lv_lstore (lv' := [(4, .long y), (8, .long (x - x / y * y)), (6, .long y), (0, .long a), (2, .long b)]) hx hb dX3_divisor_22 hl (by decide) rfl (fun ls hl => ?_)
      refine lv_lload hx hb dX3_divisor_24 (lv_at hl 1 rfl) ?_
      refine lv_lstore (lv' := [(6, .long (x - x / y * y)), (4, .long y), (8, .long (x - x / y * y)), (0, .long a), (2, .long b)]) hx hb dX3_divisor_26 hl (by decide) rfl (fun ls hl => ?_)
      refine lv_goto (tgt := 6) hx hb dX3_divisor_28 (by decide) ?_
      have hs : lpX3_divisor_6 a b (x, y) = (0, y, x - x / y * y) := by rw [lpX3_divisor_6, if_neg c_10]
      rw [hs] at kb
      exact kb rfl _ (lv_sub hl [1, 0, 3, 4] rfl)
  · skip
    intro ls hl
    have hl : lv_has ls 10 [(4, .long ((lpX3_divisor_6_r a b).2.1)), (6, .long ((lpX3_divisor_6_r a b).2.2)), (0, .long a), (2, .long b)] := hl
    refine lv_lload hx hb dX3_divisor_31 (lv_at hl 0 rfl) ?_
    have hF : fX3_divisor a b = (lpX3_divisor_6_r a b).2.1 := by rw [fX3_divisor]
    exact lret_ro hx hb hr hlk (by rw [hF]) dX3_divisor_33

def fX3_gets (u : St) (c : Int32) (to : Int64) (un : Int64) : St :=
  (sl (sl u 50 c.toNatClampNeg ((((u.2.2 50 c.toNatClampNeg) * un) + (to * (u.2.2 51 c.toNatClampNeg))) / (fX3_divisor (((u.2.2 50 c.toNatClampNeg) * un) + (to * (u.2.2 51 c.toNatClampNeg))) ((u.2.2 51 c.toNatClampNeg) * un)))) 51 c.toNatClampNeg (((u.2.2 51 c.toNatClampNeg) * un) / (fX3_divisor (((u.2.2 50 c.toNatClampNeg) * un) + (to * (u.2.2 51 c.toNatClampNeg))) ((u.2.2 51 c.toNatClampNeg) * un))))
def okX3_gets (u : St) (c : Int32) (to : Int64) (un : Int64) : Prop :=
  (vp_in c 24) ∧ (okX3_divisor (((u.2.2 50 c.toNatClampNeg) * un) + (to * (u.2.2 51 c.toNatClampNeg))) ((u.2.2 51 c.toNatClampNeg) * un)) ∧ (¬ (fX3_divisor (((u.2.2 50 c.toNatClampNeg) * un) + (to * (u.2.2 51 c.toNatClampNeg))) ((u.2.2 51 c.toNatClampNeg) * un)) = 0)
set_option maxHeartbeats 4000000 in
theorem metX3_gets (l : Launch) (D : va_G) (cA : Nat → ClassId) (o : Nat) (u : St) (c : Int32) (to : Int64) (un : Int64) (hok : okX3_gets u c to un) : MetM l yX3_gets cX3_gets 12 none 1 D cA o u [.ref o, .int c, .long to, .long un] none (fX3_gets u c to un) := by
  obtain ⟨hN0, hN1, hN2⟩ := hok
  refine mM_start RX3 (by decide) rfl (Nat.le_of_ble_eq_true rfl) ?_
  intro pg ev s0 mi bl me co hx hb hml hown hts hr hlk hK hM ls hl
  have hl : lv_has ls 12 [(0, .ref o), (1, .int c), (2, .long to), (4, .long un)] := hl
  have hS : va_S (mA o) s0.heap s0.heap [] := va_S.rf
  refine lv_aload_n hx hb dX3_gets_0 rfl (lv_at hl 0 rfl) ?_
  refine mw_get (v := .ref (mAd o 50)) hx hb hts hown hK hM 50 (by decide) q1316 rfl rfl dX3_gets_1 ?_
  refine lv_iload_n hx hb dX3_gets_4 rfl (lv_at hl 1 rfl) ?_
  refine mw_lld (v := u.2.2 50 c.toNatClampNeg) (j := c.toNatClampNeg) hx hb hK hM 50 (by decide) rfl rfl hN0 rfl rfl dX3_gets_5 ?_
  refine lv_lload hx hb dX3_gets_6 (lv_at hl 3 rfl) ?_
  refine lv_lmul hx hb dX3_gets_8 ?_
  refine lv_lload_n hx hb dX3_gets_9 rfl (lv_at hl 2 rfl) ?_
  refine lv_aload_n hx hb dX3_gets_10 rfl (lv_at hl 0 rfl) ?_
  refine mw_get (v := .ref (mAd o 51)) hx hb hts hown hK hM 51 (by decide) q1317 rfl rfl dX3_gets_11 ?_
  refine lv_iload_n hx hb dX3_gets_14 rfl (lv_at hl 1 rfl) ?_
  refine mw_lld (v := u.2.2 51 c.toNatClampNeg) (j := c.toNatClampNeg) hx hb hK hM 51 (by decide) rfl rfl hN0 rfl rfl dX3_gets_15 ?_
  refine lv_lmul hx hb dX3_gets_16 ?_
  refine lv_ladd hx hb dX3_gets_17 ?_
  refine lv_lstore (lv' := [(6, .long (((u.2.2 50 c.toNatClampNeg) * un) + (to * (u.2.2 51 c.toNatClampNeg)))), (0, .ref o), (1, .int c), (2, .long to), (4, .long un)]) hx hb dX3_gets_18 hl (by decide) rfl (fun ls hl => ?_)
  refine lv_aload_n hx hb dX3_gets_20 rfl (lv_at hl 1 rfl) ?_
  refine mw_get (v := .ref (mAd o 51)) hx hb hts hown hK hM 51 (by decide) q1317 rfl rfl dX3_gets_21 ?_
  refine lv_iload_n hx hb dX3_gets_24 rfl (lv_at hl 2 rfl) ?_
  refine mw_lld (v := u.2.2 51 c.toNatClampNeg) (j := c.toNatClampNeg) hx hb hK hM 51 (by decide) rfl rfl hN0 rfl rfl dX3_gets_25 ?_
  refine lv_lload hx hb dX3_gets_26 (lv_at hl 4 rfl) ?_
  refine lv_lmul hx hb dX3_gets_28 ?_
  refine lv_lstore (lv' := [(8, .long ((u.2.2 51 c.toNatClampNeg) * un)), (6, .long (((u.2.2 50 c.toNatClampNeg) * un) + (to * (u.2.2 51 c.toNatClampNeg)))), (0, .ref o), (1, .int c), (2, .long to), (4, .long un)]) hx hb dX3_gets_29 hl (by decide) rfl (fun ls hl => ?_)
  refine lv_lload hx hb dX3_gets_31 (lv_at hl 1 rfl) ?_
  refine lv_lload hx hb dX3_gets_33 (lv_at hl 0 rfl) ?_
  refine ro_call (st_run (n := 2) (As := [.long (((u.2.2 50 c.toNatClampNeg) * un) + (to * (u.2.2 51 c.toNatClampNeg))), .long ((u.2.2 51 c.toNatClampNeg) * un)]) (rest := []) hx hb hml hown hts (metX3_divisor l (((u.2.2 50 c.toNatClampNeg) * un) + (to * (u.2.2 51 c.toNatClampNeg))) ((u.2.2 51 c.toNatClampNeg) * un) hN1) q1666 q1667 q71 q1668 (by decide +kernel) (by decide) (by decide) rfl hl.1 (Nat.le_of_ble_eq_true rfl) rfl dX3_gets_35 ⟨Nat.le_refl _, Nat.le_refl _⟩) ?_
  refine lv_lstore (lv' := [(10, .long (fX3_divisor (((u.2.2 50 c.toNatClampNeg) * un) + (to * (u.2.2 51 c.toNatClampNeg))) ((u.2.2 51 c.toNatClampNeg) * un))), (8, .long ((u.2.2 51 c.toNatClampNeg) * un)), (6, .long (((u.2.2 50 c.toNatClampNeg) * un) + (to * (u.2.2 51 c.toNatClampNeg)))), (0, .ref o), (1, .int c), (2, .long to), (4, .long un)]) hx hb dX3_gets_38 hl (by decide) rfl (fun ls hl => ?_)
  refine lv_aload_n hx hb dX3_gets_40 rfl (lv_at hl 3 rfl) ?_
  refine mw_get (v := .ref (mAd o 50)) hx hb hts hown hK hM 50 (by decide) q1316 rfl rfl dX3_gets_41 ?_
  refine lv_iload_n hx hb dX3_gets_44 rfl (lv_at hl 4 rfl) ?_
  refine lv_lload hx hb dX3_gets_45 (lv_at hl 2 rfl) ?_
  refine lv_lload hx hb dX3_gets_47 (lv_at hl 0 rfl) ?_
  refine lv_ldiv hx hb dX3_gets_49 hN2 ?_
  refine mw_lst (j := c.toNatClampNeg) hx hb hK hM hS 50 (by decide) rfl rfl hN0 rfl dX3_gets_50 (fun H locs hM hS => ?_)
  refine lv_aload_n hx hb dX3_gets_51 rfl (lv_at hl 3 rfl) ?_
  refine mw_get (v := .ref (mAd o 51)) hx hb hts hown hK hM 51 (by decide) q1317 rfl rfl dX3_gets_52 ?_
  refine lv_iload_n hx hb dX3_gets_55 rfl (lv_at hl 4 rfl) ?_
  refine lv_lload hx hb dX3_gets_56 (lv_at hl 1 rfl) ?_
  refine lv_lload hx hb dX3_gets_58 (lv_at hl 0 rfl) ?_
  refine lv_ldiv hx hb dX3_gets_60 hN2 ?_
  refine mw_lst (j := c.toNatClampNeg) hx hb hK hM hS 51 (by decide) rfl rfl hN0 rfl dX3_gets_61 (fun H locs hM hS => ?_)
  have hF : fX3_gets u c to un = (sl (sl u 50 c.toNatClampNeg ((((u.2.2 50 c.toNatClampNeg) * un) + (to * (u.2.2 51 c.toNatClampNeg))) / (fX3_divisor (((u.2.2 50 c.toNatClampNeg) * un) + (to * (u.2.2 51 c.toNatClampNeg))) ((u.2.2 51 c.toNatClampNeg) * un)))) 51 c.toNatClampNeg (((u.2.2 51 c.toNatClampNeg) * un) / (fX3_divisor (((u.2.2 50 c.toNatClampNeg) * un) + (to * (u.2.2 51 c.toNatClampNeg))) ((u.2.2 51 c.toNatClampNeg) * un)))) := by rw [fX3_gets]
  exact mw_vret hx hb hr hlk hM hS (by rw [hF]) dX3_gets_62

def lpX3_follow_47 (u : St) (ho : Int32) (d : Int32) (k : Int32) (v : St) (p : Int32) : St × Int32 → Nat × St × Int32
  | (w, ai) => if ai ≤ 0 then (1, w, ai) else (if (w.2.1 12 ((w.2.1 17 ((ai - 1).toNatClampNeg)).toNatClampNeg)) ≤ (w.2.1 12 p.toNatClampNeg) then (1, w, ai) else (0, (sa w 17 ai.toNatClampNeg (w.2.1 17 ((ai - 1).toNatClampNeg))), ai + (-1)))
def lpX3_follow_47_r (u : St) (ho : Int32) (d : Int32) (k : Int32) (v : St) (p : Int32) : Nat × St × Int32 :=
  wh (lpX3_follow_47 u ho d k v p) 61 (v, v.1 20)
def lpX3_follow_8 (u : St) (ho : Int32) (d : Int32) (k : Int32) : St × Int32 → Nat × St × Int32
  | (v, p) => if (v.1 19) ≤ p then (1, v, p) else (if (v.2.1 9 p.toNatClampNeg) = ho then (if (fX3_counts v p k) = true then (0, (si (sa (lpX3_follow_47_r u ho d k v p).2.1 17 (((lpX3_follow_47_r u ho d k v p).2.2).toNatClampNeg) p) 20 (((lpX3_follow_47_r u ho d k v p).2.1.1 20) + 1)), p + 1) else (0, v, p + 1)) else (0, v, p + 1))
def lpX3_follow_8_r (u : St) (ho : Int32) (d : Int32) (k : Int32) : Nat × St × Int32 :=
  wh (lpX3_follow_8 u ho d k) 61 ((si u 20 0), 0)
def lpX3_follow_138 (u : St) (ho : Int32) (d : Int32) (k : Int32) : St × Int32 × Int32 × Int32 → Nat × St × Int32 × Int32 × Int32
  | (v, hd, tn, i) => if (v.1 20) ≤ i then (1, v, hd, tn, i) else (if (if (v.2.1 10 ((v.2.1 17 i.toNatClampNeg).toNatClampNeg)) = hd then false else true) = true then (if d < (v.2.1 12 ((v.2.1 17 i.toNatClampNeg).toNatClampNeg)) then (0, (sa v 18 ((v.2.1 17 i.toNatClampNeg).toNatClampNeg) (b2 (if (v.2.1 10 ((v.2.1 17 i.toNatClampNeg).toNatClampNeg)) = hd then false else true))), hd, tn, i + 1) else (0, (sa v 18 ((v.2.1 17 i.toNatClampNeg).toNatClampNeg) (b2 (if (v.2.1 10 ((v.2.1 17 i.toNatClampNeg).toNatClampNeg)) = hd then false else true))), hd, hd, i + 1)) else (if d < (v.2.1 12 ((v.2.1 17 i.toNatClampNeg).toNatClampNeg)) then (0, (sa v 18 ((v.2.1 17 i.toNatClampNeg).toNatClampNeg) (b2 (if (v.2.1 10 ((v.2.1 17 i.toNatClampNeg).toNatClampNeg)) = hd then false else true))), v.2.1 11 ((v.2.1 17 i.toNatClampNeg).toNatClampNeg), tn, i + 1) else (0, (sa v 18 ((v.2.1 17 i.toNatClampNeg).toNatClampNeg) (b2 (if (v.2.1 10 ((v.2.1 17 i.toNatClampNeg).toNatClampNeg)) = hd then false else true))), v.2.1 11 ((v.2.1 17 i.toNatClampNeg).toNatClampNeg), v.2.1 11 ((v.2.1 17 i.toNatClampNeg).toNatClampNeg), i + 1)))
def lpX3_follow_138_r (u : St) (ho : Int32) (d : Int32) (k : Int32) : Nat × St × Int32 × Int32 × Int32 :=
  wh (lpX3_follow_138 u ho d k) 61 ((lpX3_follow_8_r u ho d k).2.1, (lpX3_follow_8_r u ho d k).2.1.2.1 3 ho.toNatClampNeg, (lpX3_follow_8_r u ho d k).2.1.2.1 3 ho.toNatClampNeg, 0)
def fX3_follow (u : St) (ho : Int32) (d : Int32) (k : Int32) : Int32 × St :=
  ((lpX3_follow_138_r u ho d k).2.2.2.1, (lpX3_follow_138_r u ho d k).2.1)
def okX3_follow (u : St) (ho : Int32) (d : Int32) (k : Int32) : Prop :=
  ∃ (I_8 : (St × Int32) → Prop) (I_47 : St → Int32 → (St × Int32) → Prop) (I_138 : (St × Int32 × Int32 × Int32) → Prop), (LOK (lpX3_follow_8 u ho d k) 61 ((si u 20 0), 0) I_8) ∧ (∀ (v : St) (p : Int32), I_8 (v, p) → ¬ ((v.1 19) ≤ p) → vp_in p 60) ∧ (∀ (v : St) (p : Int32), I_8 (v, p) → ¬ ((v.1 19) ≤ p) → (v.2.1 9 p.toNatClampNeg) = ho → okX3_counts v p k) ∧ (∀ (v : St) (p : Int32), I_8 (v, p) → ¬ ((v.1 19) ≤ p) → (v.2.1 9 p.toNatClampNeg) = ho → (fX3_counts v p k) = true → LOK (lpX3_follow_47 u ho d k v p) 61 (v, v.1 20) (I_47 v p)) ∧ (∀ (v : St) (p : Int32), I_8 (v, p) → ¬ ((v.1 19) ≤ p) → (v.2.1 9 p.toNatClampNeg) = ho → (fX3_counts v p k) = true → ∀ (w : St) (ai : Int32), I_47 v p (w, ai) → ¬ (ai ≤ 0) → vp_in (ai - 1) 60) ∧ (∀ (v : St) (p : Int32), I_8 (v, p) → ¬ ((v.1 19) ≤ p) → (v.2.1 9 p.toNatClampNeg) = ho → (fX3_counts v p k) = true → ∀ (w : St) (ai : Int32), I_47 v p (w, ai) → ¬ (ai ≤ 0) → vp_in (w.2.1 17 ((ai - 1).toNatClampNeg)) 60) ∧ (∀ (v : St) (p : Int32), I_8 (v, p) → ¬ ((v.1 19) ≤ p) → (v.2.1 9 p.toNatClampNeg) = ho → (fX3_counts v p k) = true → ∀ (w : St) (ai : Int32), I_47 v p (w, ai) → ¬ (ai ≤ 0) → ¬ ((w.2.1 12 ((w.2.1 17 ((ai - 1).toNatClampNeg)).toNatClampNeg)) ≤ (w.2.1 12 p.toNatClampNeg)) → vp_in ai 60) ∧ (∀ (v : St) (p : Int32), I_8 (v, p) → ¬ ((v.1 19) ≤ p) → (v.2.1 9 p.toNatClampNeg) = ho → (fX3_counts v p k) = true → vp_in ((lpX3_follow_47_r u ho d k v p).2.2) 60) ∧ (vp_in ho 8) ∧ (LOK (lpX3_follow_138 u ho d k) 61 ((lpX3_follow_8_r u ho d k).2.1, (lpX3_follow_8_r u ho d k).2.1.2.1 3 ho.toNatClampNeg, (lpX3_follow_8_r u ho d k).2.1.2.1 3 ho.toNatClampNeg, 0) I_138) ∧ (∀ (v : St) (hd : Int32) (tn : Int32) (i : Int32), I_138 (v, hd, tn, i) → ¬ ((v.1 20) ≤ i) → vp_in i 60) ∧ (∀ (v : St) (hd : Int32) (tn : Int32) (i : Int32), I_138 (v, hd, tn, i) → ¬ ((v.1 20) ≤ i) → vp_in (v.2.1 17 i.toNatClampNeg) 60)
set_option maxHeartbeats 4000000 in
theorem metX3_follow (l : Launch) (D : va_G) (cA : Nat → ClassId) (o : Nat) (u : St) (ho : Int32) (d : Int32) (k : Int32) (hok : okX3_follow u ho d k) : MetM l yX3_follow cX3_follow 8 (some .int) 1 D cA o u [.ref o, .int ho, .int d, .int k] (some (.int (fX3_follow u ho d k).1)) (fX3_follow u ho d k).2 := by
  obtain ⟨I_8, I_47, I_138, hN0, hN1, hN2, hN3, hN4, hN5, hN6, hN7, hN8, hN9, hN10, hN11⟩ := hok
  refine mM_start RX3 (by decide) rfl (Nat.le_of_ble_eq_true rfl) ?_
  intro pg ev s0 mi bl me co hx hb hml hown hts hr hlk hK hM ls hl
  have hl : lv_has ls 8 [(0, .ref o), (1, .int ho), (2, .int d), (3, .int k)] := hl
  have hS : va_S (mA o) s0.heap s0.heap [] := va_S.rf
  refine lv_aload_n hx hb dX3_follow_0 rfl (lv_at hl 0 rfl) ?_
  refine lv_iconst (v := 0) hx hb dX3_follow_1 (by decide) ?_
  refine mw_puti hx hb hts hown hK hM hS 20 (by decide) q1286 rfl rfl rfl rfl dX3_follow_2 (fun H locs hM hS => ?_)
  refine lv_iconst (v := 0) hx hb dX3_follow_5 (by decide) ?_
  refine lv_istore (lv' := [(4, .int 0), (0, .ref o), (1, .int ho), (2, .int d), (3, .int k)]) hx hb dX3_follow_6 hl (by decide) rfl (fun ls hl => ?_)
  refine mw_loop1 (rest := []) (nL := 8) (r := (lpX3_follow_8_r u ho d k)) (lpX3_follow_8 u ho d k) I_8 (fun q => q.1) (fun q => [(4, .int q.2), (0, .ref o), (1, .int ho), (2, .int d), (3, .int k)]) 8 123 61 ((si u 20 0), 0) hN0.2.1 hN0.1 hN0.2.2 rfl ?_ hM hS (lv_sub hl [0, 1, 2, 3, 4] rfl) ?_
  · skip
    intro ⟨v, p⟩ hI_8 H locs ls hM hS hl kb k1
    have hM : MW D cA o v H := hM
    have hl : lv_has ls 8 [(4, .int p), (0, .ref o), (1, .int ho), (2, .int d), (3, .int k)] := hl
    refine lv_iload hx hb dX3_follow_8 (lv_at hl 0 rfl) ?_
    refine lv_aload_n hx hb dX3_follow_10 rfl (lv_at hl 1 rfl) ?_
    refine mw_get (v := .int (v.1 19)) hx hb hts hown hK hM 19 (by decide) q1285 rfl rfl dX3_follow_11 ?_
    refine lv_icmp_ge (tgt := 123) hx hb dX3_follow_14 (by decide) (fun c_14 => ?_) (fun c_14 => ?_)
    · skip
      have hs : lpX3_follow_8 u ho d k (v, p) = (1, v, p) := by rw [lpX3_follow_8, if_pos c_14]
      rw [hs] at k1
      exact k1 (show ¬ (1 : Nat) = 0 by decide) _ _ _ hM hS (lv_sub hl [0, 1, 2, 3, 4] rfl)
    · skip
      refine lv_aload_n hx hb dX3_follow_17 rfl (lv_at hl 1 rfl) ?_
      refine mw_get (v := .ref (mAd o 9)) hx hb hts hown hK hM 9 (by decide) q1275 rfl rfl dX3_follow_18 ?_
      refine lv_iload hx hb dX3_follow_21 (lv_at hl 0 rfl) ?_
      refine mw_ild (v := v.2.1 9 p.toNatClampNeg) (j := p.toNatClampNeg) hx hb hK hM 9 (by decide) rfl rfl (hN1 v p hI_8 c_14) rfl rfl dX3_follow_23 ?_
      refine lv_iload_n hx hb dX3_follow_24 rfl (lv_at hl 2 rfl) ?_
      refine lv_icmp_ne (tgt := 117) hx hb dX3_follow_25 (by decide) (fun c_25 => ?_) (fun c_25 => ?_)
      · skip
        refine lv_iinc (v := p + 1) (lv' := [(4, .int (p + 1)), (0, .ref o), (1, .int ho), (2, .int d), (3, .int k)]) hx hb dX3_follow_117 hl (k := 0) rfl (rfl) (by decide) rfl (fun ls hl => ?_)
        refine lv_goto (tgt := 8) hx hb dX3_follow_120 (by decide) ?_
        have hs : lpX3_follow_8 u ho d k (v, p) = (0, v, p + 1) := by rw [lpX3_follow_8, if_neg c_14, if_neg c_25]
        rw [hs] at kb
        exact kb rfl _ _ _ hM hS (lv_sub hl [0, 1, 2, 3, 4] rfl)
      · skip
        refine lv_aload_n hx hb dX3_follow_28 rfl (lv_at hl 1 rfl) ?_
        refine lv_iload hx hb dX3_follow_29 (lv_at hl 0 rfl) ?_
        refine lv_iload_n hx hb dX3_follow_31 rfl (lv_at hl 4 rfl) ?_
        refine ro_call (mw_run (n := 2) (As := [.int p, .int k]) (rest := []) hx hb hml hown hts (metX3_counts l D cA o v p k (hN2 v p hI_8 c_14 c_25)) q1503 q1505 qs36 q1506 (by decide +kernel) (by decide) (by decide) rfl hK hM hl.1 (Nat.le_of_ble_eq_true rfl) rfl dX3_follow_32 ⟨Nat.le_refl _, Nat.le_refl _⟩) ?_
        refine lv_B_ne (tgt := 41) hx hb dX3_follow_35 (by decide) (fun c_35 => ?_) (fun c_35 => ?_)
        · skip
          refine lv_aload_n hx hb dX3_follow_41 rfl (lv_at hl 1 rfl) ?_
          refine mw_get (v := .int (v.1 20)) hx hb hts hown hK hM 20 (by decide) q1286 rfl rfl dX3_follow_42 ?_
          refine lv_istore (lv' := [(5, .int (v.1 20)), (4, .int p), (0, .ref o), (1, .int ho), (2, .int d), (3, .int k)]) hx hb dX3_follow_45 hl (by decide) rfl (fun ls hl => ?_)
          refine mw_loop1 (rest := []) (nL := 8) (r := (lpX3_follow_47_r u ho d k v p)) (lpX3_follow_47 u ho d k v p) (I_47 v p) (fun q => q.1) (fun q => [(5, .int q.2), (4, .int p), (0, .ref o), (1, .int ho), (2, .int d), (3, .int k)]) 47 98 61 (v, v.1 20) (hN3 v p hI_8 c_14 c_25 c_35).2.1 (hN3 v p hI_8 c_14 c_25 c_35).1 (hN3 v p hI_8 c_14 c_25 c_35).2.2 rfl ?_ hM hS (lv_sub hl [0, 1, 2, 3, 4, 5] rfl) ?_
          · skip
            intro ⟨w, ai⟩ hI_47 H locs ls hM hS hl kb k1
            have hM : MW D cA o w H := hM
            have hl : lv_has ls 8 [(5, .int ai), (4, .int p), (0, .ref o), (1, .int ho), (2, .int d), (3, .int k)] := hl
            refine lv_iload hx hb dX3_follow_47 (lv_at hl 0 rfl) ?_
            refine lv_if_le (tgt := 98) hx hb dX3_follow_49 (by decide) (fun c_49 => ?_) (fun c_49 => ?_)
            · skip
              have hs : lpX3_follow_47 u ho d k v p (w, ai) = (1, w, ai) := by rw [lpX3_follow_47, if_pos c_49]
              rw [hs] at k1
              exact k1 (show ¬ (1 : Nat) = 0 by decide) _ _ _ hM hS (lv_sub hl [0, 1, 2, 3, 4, 5] rfl)
            · skip
              refine lv_aload_n hx hb dX3_follow_52 rfl (lv_at hl 2 rfl) ?_
              refine mw_get (v := .ref (mAd o 12)) hx hb hts hown hK hM 12 (by decide) q1278 rfl rfl dX3_follow_53 ?_
              refine lv_aload_n hx hb dX3_follow_56 rfl (lv_at hl 2 rfl) ?_
              refine mw_get (v := .ref (mAd o 17)) hx hb hts hown hK hM 17 (by decide) q1283 rfl rfl dX3_follow_57 ?_
              refine lv_iload hx hb dX3_follow_60 (lv_at hl 0 rfl) ?_
              refine lv_iconst (v := 1) hx hb dX3_follow_62 (by decide) ?_
              refine lv_isub hx hb dX3_follow_63 ?_
              refine mw_ild (v := w.2.1 17 ((ai - 1).toNatClampNeg)) (j := (ai - 1).toNatClampNeg) hx hb hK hM 17 (by decide) rfl rfl (hN4 v p hI_8 c_14 c_25 c_35 w ai hI_47 c_49) rfl rfl dX3_follow_64 ?_
              refine mw_ild (v := w.2.1 12 ((w.2.1 17 ((ai - 1).toNatClampNeg)).toNatClampNeg)) (j := (w.2.1 17 ((ai - 1).toNatClampNeg)).toNatClampNeg) hx hb hK hM 12 (by decide) rfl rfl (hN5 v p hI_8 c_14 c_25 c_35 w ai hI_47 c_49) rfl rfl dX3_follow_65 ?_
              refine lv_aload_n hx hb dX3_follow_66 rfl (lv_at hl 2 rfl) ?_
              refine mw_get (v := .ref (mAd o 12)) hx hb hts hown hK hM 12 (by decide) q1278 rfl rfl dX3_follow_67 ?_
              refine lv_iload hx hb dX3_follow_70 (lv_at hl 1 rfl) ?_
              refine mw_ild (v := w.2.1 12 p.toNatClampNeg) (j := p.toNatClampNeg) hx hb hK hM 12 (by decide) rfl rfl (hN1 v p hI_8 c_14) rfl rfl dX3_follow_72 ?_
              refine lv_icmp_le (tgt := 98) hx hb dX3_follow_73 (by decide) (fun c_73 => ?_) (fun c_73 => ?_)
              · skip
                have hs : lpX3_follow_47 u ho d k v p (w, ai) = (1, w, ai) := by rw [lpX3_follow_47, if_neg c_49, if_pos c_73]
                rw [hs] at k1
                exact k1 (show ¬ (1 : Nat) = 0 by decide) _ _ _ hM hS (lv_sub hl [0, 1, 2, 3, 4, 5] rfl)
              · skip
                refine lv_aload_n hx hb dX3_follow_76 rfl (lv_at hl 2 rfl) ?_
                refine mw_get (v := .ref (mAd o 17)) hx hb hts hown hK hM 17 (by decide) q1283 rfl rfl dX3_follow_77 ?_
                refine lv_iload hx hb dX3_follow_80 (lv_at hl 0 rfl) ?_
                refine lv_aload_n hx hb dX3_follow_82 rfl (lv_at hl 2 rfl) ?_
                refine mw_get (v := .ref (mAd o 17)) hx hb hts hown hK hM 17 (by decide) q1283 rfl rfl dX3_follow_83 ?_
                refine lv_iload hx hb dX3_follow_86 (lv_at hl 0 rfl) ?_
                refine lv_iconst (v := 1) hx hb dX3_follow_88 (by decide) ?_
                refine lv_isub hx hb dX3_follow_89 ?_
                refine mw_ild (v := w.2.1 17 ((ai - 1).toNatClampNeg)) (j := (ai - 1).toNatClampNeg) hx hb hK hM 17 (by decide) rfl rfl (hN4 v p hI_8 c_14 c_25 c_35 w ai hI_47 c_49) rfl rfl dX3_follow_90 ?_
                refine mw_ist (j := ai.toNatClampNeg) hx hb hK hM hS 17 (by decide) rfl rfl (hN6 v p hI_8 c_14 c_25 c_35 w ai hI_47 c_49 c_73) rfl dX3_follow_91 (fun H locs hM hS => ?_)
                refine lv_iinc (v := ai + (-1)) (lv' := [(5, .int (ai + (-1))), (4, .int p), (0, .ref o), (1, .int ho), (2, .int d), (3, .int k)]) hx hb dX3_follow_92 hl (k := 0) rfl (rfl) (by decide) rfl (fun ls hl => ?_)
                refine lv_goto (tgt := 47) hx hb dX3_follow_95 (by decide) ?_
                have hs : lpX3_follow_47 u ho d k v p (w, ai) = (0, (sa w 17 ai.toNatClampNeg (w.2.1 17 ((ai - 1).toNatClampNeg))), ai + (-1)) := by rw [lpX3_follow_47, if_neg c_49, if_neg c_73]
                rw [hs] at kb
                exact kb rfl _ _ _ hM hS (lv_sub hl [0, 1, 2, 3, 4, 5] rfl)
          · skip
            intro H locs ls hM hS hl
            have hM : MW D cA o (lpX3_follow_47_r u ho d k v p).2.1 H := hM
            have hl : lv_has ls 8 [(5, .int ((lpX3_follow_47_r u ho d k v p).2.2)), (4, .int p), (0, .ref o), (1, .int ho), (2, .int d), (3, .int k)] := hl
            refine lv_aload_n hx hb dX3_follow_98 rfl (lv_at hl 2 rfl) ?_
            refine mw_get (v := .ref (mAd o 17)) hx hb hts hown hK hM 17 (by decide) q1283 rfl rfl dX3_follow_99 ?_
            refine lv_iload hx hb dX3_follow_102 (lv_at hl 0 rfl) ?_
            refine lv_iload hx hb dX3_follow_104 (lv_at hl 1 rfl) ?_
            refine mw_ist (j := ((lpX3_follow_47_r u ho d k v p).2.2).toNatClampNeg) hx hb hK hM hS 17 (by decide) rfl rfl (hN7 v p hI_8 c_14 c_25 c_35) rfl dX3_follow_106 (fun H locs hM hS => ?_)
            refine lv_aload_n hx hb dX3_follow_107 rfl (lv_at hl 2 rfl) ?_
            refine lv_dup hx hb dX3_follow_108 rfl ?_
            refine mw_get (v := .int ((lpX3_follow_47_r u ho d k v p).2.1.1 20)) hx hb hts hown hK hM 20 (by decide) q1286 rfl rfl dX3_follow_109 ?_
            refine lv_iconst (v := 1) hx hb dX3_follow_112 (by decide) ?_
            refine lv_iadd hx hb dX3_follow_113 ?_
            refine mw_puti hx hb hts hown hK hM hS 20 (by decide) q1286 rfl rfl rfl rfl dX3_follow_114 (fun H locs hM hS => ?_)
            refine lv_iinc (v := p + 1) (lv' := [(4, .int (p + 1)), (5, .int ((lpX3_follow_47_r u ho d k v p).2.2)), (0, .ref o), (1, .int ho), (2, .int d), (3, .int k)]) hx hb dX3_follow_117 hl (k := 1) rfl (rfl) (by decide) rfl (fun ls hl => ?_)
            refine lv_goto (tgt := 8) hx hb dX3_follow_120 (by decide) ?_
            have hs : lpX3_follow_8 u ho d k (v, p) = (0, (si (sa (lpX3_follow_47_r u ho d k v p).2.1 17 (((lpX3_follow_47_r u ho d k v p).2.2).toNatClampNeg) p) 20 (((lpX3_follow_47_r u ho d k v p).2.1.1 20) + 1)), p + 1) := by rw [lpX3_follow_8, if_neg c_14, if_pos c_25, if_pos c_35]
            rw [hs] at kb
            exact kb rfl _ _ _ hM hS (lv_sub hl [0, 2, 3, 4, 5] rfl)
        · skip
          refine lv_goto (tgt := 117) hx hb dX3_follow_38 (by decide) ?_
          refine lv_iinc (v := p + 1) (lv' := [(4, .int (p + 1)), (0, .ref o), (1, .int ho), (2, .int d), (3, .int k)]) hx hb dX3_follow_117 hl (k := 0) rfl (rfl) (by decide) rfl (fun ls hl => ?_)
          refine lv_goto (tgt := 8) hx hb dX3_follow_120 (by decide) ?_
          have hs : lpX3_follow_8 u ho d k (v, p) = (0, v, p + 1) := by rw [lpX3_follow_8, if_neg c_14, if_pos c_25, if_neg (nt_of c_35)]
          rw [hs] at kb
          exact kb rfl _ _ _ hM hS (lv_sub hl [0, 1, 2, 3, 4] rfl)
  · skip
    intro H locs ls hM hS hl
    have hM : MW D cA o (lpX3_follow_8_r u ho d k).2.1 H := hM
    have hl : lv_has ls 8 [(4, .int ((lpX3_follow_8_r u ho d k).2.2)), (0, .ref o), (1, .int ho), (2, .int d), (3, .int k)] := hl
    refine lv_aload_n hx hb dX3_follow_123 rfl (lv_at hl 1 rfl) ?_
    refine mw_get (v := .ref (mAd o 3)) hx hb hts hown hK hM 3 (by decide) q1269 rfl rfl dX3_follow_124 ?_
    refine lv_iload_n hx hb dX3_follow_127 rfl (lv_at hl 2 rfl) ?_
    refine mw_ild (v := (lpX3_follow_8_r u ho d k).2.1.2.1 3 ho.toNatClampNeg) (j := ho.toNatClampNeg) hx hb hK hM 3 (by decide) rfl rfl hN8 rfl rfl dX3_follow_128 ?_
    refine lv_istore (lv' := [(4, .int ((lpX3_follow_8_r u ho d k).2.1.2.1 3 ho.toNatClampNeg)), (0, .ref o), (1, .int ho), (2, .int d), (3, .int k)]) hx hb dX3_follow_129 hl (by decide) rfl (fun ls hl => ?_)
    refine lv_iload hx hb dX3_follow_131 (lv_at hl 0 rfl) ?_
    refine lv_istore (lv' := [(5, .int ((lpX3_follow_8_r u ho d k).2.1.2.1 3 ho.toNatClampNeg)), (4, .int ((lpX3_follow_8_r u ho d k).2.1.2.1 3 ho.toNatClampNeg)), (0, .ref o), (1, .int ho), (2, .int d), (3, .int k)]) hx hb dX3_follow_133 hl (by decide) rfl (fun ls hl => ?_)
    refine lv_iconst (v := 0) hx hb dX3_follow_135 (by decide) ?_
    refine lv_istore (lv' := [(6, .int 0), (5, .int ((lpX3_follow_8_r u ho d k).2.1.2.1 3 ho.toNatClampNeg)), (4, .int ((lpX3_follow_8_r u ho d k).2.1.2.1 3 ho.toNatClampNeg)), (0, .ref o), (1, .int ho), (2, .int d), (3, .int k)]) hx hb dX3_follow_136 hl (by decide) rfl (fun ls hl => ?_)
    refine mw_loop1 (rest := []) (nL := 8) (r := (lpX3_follow_138_r u ho d k)) (lpX3_follow_138 u ho d k) I_138 (fun q => q.1) (fun q => [(4, .int q.2.1), (5, .int q.2.2.1), (6, .int q.2.2.2), (0, .ref o), (1, .int ho), (2, .int d), (3, .int k)]) 138 220 61 ((lpX3_follow_8_r u ho d k).2.1, (lpX3_follow_8_r u ho d k).2.1.2.1 3 ho.toNatClampNeg, (lpX3_follow_8_r u ho d k).2.1.2.1 3 ho.toNatClampNeg, 0) hN9.2.1 hN9.1 hN9.2.2 rfl ?_ hM hS (lv_sub hl [2, 1, 0, 3, 4, 5, 6] rfl) ?_
    · skip
      intro ⟨v, hd, tn, i⟩ hI_138 H locs ls hM hS hl kb k1
      have hM : MW D cA o v H := hM
      have hl : lv_has ls 8 [(4, .int hd), (5, .int tn), (6, .int i), (0, .ref o), (1, .int ho), (2, .int d), (3, .int k)] := hl
      refine lv_iload hx hb dX3_follow_138 (lv_at hl 2 rfl) ?_
      refine lv_aload_n hx hb dX3_follow_140 rfl (lv_at hl 3 rfl) ?_
      refine mw_get (v := .int (v.1 20)) hx hb hts hown hK hM 20 (by decide) q1286 rfl rfl dX3_follow_141 ?_
      refine lv_icmp_ge (tgt := 220) hx hb dX3_follow_144 (by decide) (fun c_144 => ?_) (fun c_144 => ?_)
      · skip
        have hs : lpX3_follow_138 u ho d k (v, hd, tn, i) = (1, v, hd, tn, i) := by rw [lpX3_follow_138, if_pos c_144]
        rw [hs] at k1
        exact k1 (show ¬ (1 : Nat) = 0 by decide) _ _ _ hM hS (lv_sub hl [0, 1, 2, 3, 4, 5, 6] rfl)
      · skip
        refine lv_aload_n hx hb dX3_follow_147 rfl (lv_at hl 3 rfl) ?_
        refine mw_get (v := .ref (mAd o 17)) hx hb hts hown hK hM 17 (by decide) q1283 rfl rfl dX3_follow_148 ?_
        refine lv_iload hx hb dX3_follow_151 (lv_at hl 2 rfl) ?_
        refine mw_ild (v := v.2.1 17 i.toNatClampNeg) (j := i.toNatClampNeg) hx hb hK hM 17 (by decide) rfl rfl (hN10 v hd tn i hI_138 c_144) rfl rfl dX3_follow_153 ?_
        refine lv_istore (lv' := [(7, .int (v.2.1 17 i.toNatClampNeg)), (4, .int hd), (5, .int tn), (6, .int i), (0, .ref o), (1, .int ho), (2, .int d), (3, .int k)]) hx hb dX3_follow_154 hl (by decide) rfl (fun ls hl => ?_)
        refine lv_aload_n hx hb dX3_follow_156 rfl (lv_at hl 4 rfl) ?_
        refine mw_get (v := .ref (mAd o 18)) hx hb hts hown hK hM 18 (by decide) q1284 rfl rfl dX3_follow_157 ?_
        refine lv_iload hx hb dX3_follow_160 (lv_at hl 0 rfl) ?_
        refine lv_aload_n hx hb dX3_follow_162 rfl (lv_at hl 4 rfl) ?_
        refine mw_get (v := .ref (mAd o 10)) hx hb hts hown hK hM 10 (by decide) q1276 rfl rfl dX3_follow_163 ?_
        refine lv_iload hx hb dX3_follow_166 (lv_at hl 0 rfl) ?_
        refine mw_ild (v := v.2.1 10 ((v.2.1 17 i.toNatClampNeg).toNatClampNeg)) (j := (v.2.1 17 i.toNatClampNeg).toNatClampNeg) hx hb hK hM 10 (by decide) rfl rfl (hN11 v hd tn i hI_138 c_144) rfl rfl dX3_follow_168 ?_
        refine lv_iload hx hb dX3_follow_169 (lv_at hl 1 rfl) ?_
        refine w_ji (ls := ls) (rest := [.int (v.2.1 17 i.toNatClampNeg), .ref (mAd o 18)]) (E := b2 (if (v.2.1 10 ((v.2.1 17 i.toNatClampNeg).toNatClampNeg)) = hd then false else true)) 179 ?_ (fun K => ?_)
        · skip
          refine mw_zst (x := (if (v.2.1 10 ((v.2.1 17 i.toNatClampNeg).toNatClampNeg)) = hd then false else true)) (j := (v.2.1 17 i.toNatClampNeg).toNatClampNeg) hx hb hK hM hS 18 (by decide) rfl rfl (hN11 v hd tn i hI_138 c_144) rfl dX3_follow_179 (fun H locs hM hS => ?_)
          refine lv_aload_n hx hb dX3_follow_180 rfl (lv_at hl 4 rfl) ?_
          refine mw_get (v := .ref (mAd o 18)) hx hb hts hown hK hM 18 (by decide) q1284 rfl rfl dX3_follow_181 ?_
          refine lv_iload hx hb dX3_follow_184 (lv_at hl 0 rfl) ?_
          refine mw_zld (v := b2 (if (v.2.1 10 ((v.2.1 17 i.toNatClampNeg).toNatClampNeg)) = hd then false else true)) (j := (v.2.1 17 i.toNatClampNeg).toNatClampNeg) hx hb hK hM 18 (by decide) rfl rfl (hN11 v hd tn i hI_138 c_144) rfl (sa_same v 18 ((v.2.1 17 i.toNatClampNeg).toNatClampNeg) (b2 (if (v.2.1 10 ((v.2.1 17 i.toNatClampNeg).toNatClampNeg)) = hd then false else true))) dX3_follow_186 ?_
          refine lv_B_ne (tgt := 199) hx hb dX3_follow_187 (by decide) (fun c_187 => ?_) (fun c_187 => ?_)
          · skip
            refine lv_aload_n hx hb dX3_follow_199 rfl (lv_at hl 4 rfl) ?_
            refine mw_get (v := .ref (mAd o 12)) hx hb hts hown hK hM 12 (by decide) q1278 rfl rfl dX3_follow_200 ?_
            refine lv_iload hx hb dX3_follow_203 (lv_at hl 0 rfl) ?_
            refine mw_ild (v := v.2.1 12 ((v.2.1 17 i.toNatClampNeg).toNatClampNeg)) (j := (v.2.1 17 i.toNatClampNeg).toNatClampNeg) hx hb hK hM 12 (by decide) rfl rfl (hN11 v hd tn i hI_138 c_144) rfl rfl dX3_follow_205 ?_
            refine lv_iload_n hx hb dX3_follow_206 rfl (lv_at hl 6 rfl) ?_
            refine lv_icmp_gt (tgt := 214) hx hb dX3_follow_207 (by decide) (fun c_207 => ?_) (fun c_207 => ?_)
            · skip
              refine lv_iinc (v := i + 1) (lv' := [(6, .int (i + 1)), (7, .int (v.2.1 17 i.toNatClampNeg)), (4, .int hd), (5, .int tn), (0, .ref o), (1, .int ho), (2, .int d), (3, .int k)]) hx hb dX3_follow_214 hl (k := 3) rfl (rfl) (by decide) rfl (fun ls hl => ?_)
              refine lv_goto (tgt := 138) hx hb dX3_follow_217 (by decide) ?_
              have hs : lpX3_follow_138 u ho d k (v, hd, tn, i) = (0, (sa v 18 ((v.2.1 17 i.toNatClampNeg).toNatClampNeg) (b2 (if (v.2.1 10 ((v.2.1 17 i.toNatClampNeg).toNatClampNeg)) = hd then false else true))), hd, tn, i + 1) := by rw [lpX3_follow_138, if_neg c_144, if_pos c_187, if_pos c_207]
              rw [hs] at kb
              exact kb rfl _ _ _ hM hS (lv_sub hl [2, 3, 0, 4, 5, 6, 7] rfl)
            · skip
              refine lv_iload hx hb dX3_follow_210 (lv_at hl 1 rfl) ?_
              refine lv_istore (lv' := [(5, .int hd), (7, .int (v.2.1 17 i.toNatClampNeg)), (4, .int hd), (6, .int i), (0, .ref o), (1, .int ho), (2, .int d), (3, .int k)]) hx hb dX3_follow_212 hl (by decide) rfl (fun ls hl => ?_)
              refine lv_iinc (v := i + 1) (lv' := [(6, .int (i + 1)), (5, .int hd), (7, .int (v.2.1 17 i.toNatClampNeg)), (4, .int hd), (0, .ref o), (1, .int ho), (2, .int d), (3, .int k)]) hx hb dX3_follow_214 hl (k := 3) rfl (rfl) (by decide) rfl (fun ls hl => ?_)
              refine lv_goto (tgt := 138) hx hb dX3_follow_217 (by decide) ?_
              have hs : lpX3_follow_138 u ho d k (v, hd, tn, i) = (0, (sa v 18 ((v.2.1 17 i.toNatClampNeg).toNatClampNeg) (b2 (if (v.2.1 10 ((v.2.1 17 i.toNatClampNeg).toNatClampNeg)) = hd then false else true))), hd, hd, i + 1) := by rw [lpX3_follow_138, if_neg c_144, if_pos c_187, if_neg c_207]
              rw [hs] at kb
              exact kb rfl _ _ _ hM hS (lv_sub hl [3, 1, 0, 4, 5, 6, 7] rfl)
          · skip
            refine lv_aload_n hx hb dX3_follow_190 rfl (lv_at hl 4 rfl) ?_
            refine mw_get (v := .ref (mAd o 11)) hx hb hts hown hK hM 11 (by decide) q1277 rfl rfl dX3_follow_191 ?_
            refine lv_iload hx hb dX3_follow_194 (lv_at hl 0 rfl) ?_
            refine mw_ild (v := v.2.1 11 ((v.2.1 17 i.toNatClampNeg).toNatClampNeg)) (j := (v.2.1 17 i.toNatClampNeg).toNatClampNeg) hx hb hK hM 11 (by decide) rfl rfl (hN11 v hd tn i hI_138 c_144) rfl rfl dX3_follow_196 ?_
            refine lv_istore (lv' := [(4, .int (v.2.1 11 ((v.2.1 17 i.toNatClampNeg).toNatClampNeg))), (7, .int (v.2.1 17 i.toNatClampNeg)), (5, .int tn), (6, .int i), (0, .ref o), (1, .int ho), (2, .int d), (3, .int k)]) hx hb dX3_follow_197 hl (by decide) rfl (fun ls hl => ?_)
            refine lv_aload_n hx hb dX3_follow_199 rfl (lv_at hl 4 rfl) ?_
            refine mw_get (v := .ref (mAd o 12)) hx hb hts hown hK hM 12 (by decide) q1278 rfl rfl dX3_follow_200 ?_
            refine lv_iload hx hb dX3_follow_203 (lv_at hl 1 rfl) ?_
            refine mw_ild (v := v.2.1 12 ((v.2.1 17 i.toNatClampNeg).toNatClampNeg)) (j := (v.2.1 17 i.toNatClampNeg).toNatClampNeg) hx hb hK hM 12 (by decide) rfl rfl (hN11 v hd tn i hI_138 c_144) rfl rfl dX3_follow_205 ?_
            refine lv_iload_n hx hb dX3_follow_206 rfl (lv_at hl 6 rfl) ?_
            refine lv_icmp_gt (tgt := 214) hx hb dX3_follow_207 (by decide) (fun c_207 => ?_) (fun c_207 => ?_)
            · skip
              refine lv_iinc (v := i + 1) (lv' := [(6, .int (i + 1)), (4, .int (v.2.1 11 ((v.2.1 17 i.toNatClampNeg).toNatClampNeg))), (7, .int (v.2.1 17 i.toNatClampNeg)), (5, .int tn), (0, .ref o), (1, .int ho), (2, .int d), (3, .int k)]) hx hb dX3_follow_214 hl (k := 3) rfl (rfl) (by decide) rfl (fun ls hl => ?_)
              refine lv_goto (tgt := 138) hx hb dX3_follow_217 (by decide) ?_
              have hs : lpX3_follow_138 u ho d k (v, hd, tn, i) = (0, (sa v 18 ((v.2.1 17 i.toNatClampNeg).toNatClampNeg) (b2 (if (v.2.1 10 ((v.2.1 17 i.toNatClampNeg).toNatClampNeg)) = hd then false else true))), v.2.1 11 ((v.2.1 17 i.toNatClampNeg).toNatClampNeg), tn, i + 1) := by rw [lpX3_follow_138, if_neg c_144, if_neg (nt_of c_187), if_pos c_207]
              rw [hs] at kb
              exact kb rfl _ _ _ hM hS (lv_sub hl [1, 3, 0, 4, 5, 6, 7] rfl)
            · skip
              refine lv_iload hx hb dX3_follow_210 (lv_at hl 0 rfl) ?_
              refine lv_istore (lv' := [(5, .int (v.2.1 11 ((v.2.1 17 i.toNatClampNeg).toNatClampNeg))), (4, .int (v.2.1 11 ((v.2.1 17 i.toNatClampNeg).toNatClampNeg))), (7, .int (v.2.1 17 i.toNatClampNeg)), (6, .int i), (0, .ref o), (1, .int ho), (2, .int d), (3, .int k)]) hx hb dX3_follow_212 hl (by decide) rfl (fun ls hl => ?_)
              refine lv_iinc (v := i + 1) (lv' := [(6, .int (i + 1)), (5, .int (v.2.1 11 ((v.2.1 17 i.toNatClampNeg).toNatClampNeg))), (4, .int (v.2.1 11 ((v.2.1 17 i.toNatClampNeg).toNatClampNeg))), (7, .int (v.2.1 17 i.toNatClampNeg)), (0, .ref o), (1, .int ho), (2, .int d), (3, .int k)]) hx hb dX3_follow_214 hl (k := 3) rfl (rfl) (by decide) rfl (fun ls hl => ?_)
              refine lv_goto (tgt := 138) hx hb dX3_follow_217 (by decide) ?_
              have hs : lpX3_follow_138 u ho d k (v, hd, tn, i) = (0, (sa v 18 ((v.2.1 17 i.toNatClampNeg).toNatClampNeg) (b2 (if (v.2.1 10 ((v.2.1 17 i.toNatClampNeg).toNatClampNeg)) = hd then false else true))), v.2.1 11 ((v.2.1 17 i.toNatClampNeg).toNatClampNeg), v.2.1 11 ((v.2.1 17 i.toNatClampNeg).toNatClampNeg), i + 1) := by rw [lpX3_follow_138, if_neg c_144, if_neg (nt_of c_187), if_neg c_207]
              rw [hs] at kb
              exact kb rfl _ _ _ hM hS (lv_sub hl [2, 1, 0, 4, 5, 6, 7] rfl)
        · skip
          refine lv_icmp_eq (tgt := 178) hx hb dX3_follow_171 (by decide) (fun c_171 => ?_) (fun c_171 => ?_)
          · skip
            refine lv_iconst (v := 0) hx hb dX3_follow_178 (by decide) ?_
            exact K _ (by rw [if_pos c_171]; rfl)
          · skip
            refine lv_iconst (v := 1) hx hb dX3_follow_174 (by decide) ?_
            refine lv_goto (tgt := 179) hx hb dX3_follow_175 (by decide) ?_
            exact K _ (by rw [if_neg c_171]; rfl)
    · skip
      intro H locs ls hM hS hl
      have hM : MW D cA o (lpX3_follow_138_r u ho d k).2.1 H := hM
      have hl : lv_has ls 8 [(4, .int ((lpX3_follow_138_r u ho d k).2.2.1)), (5, .int ((lpX3_follow_138_r u ho d k).2.2.2.1)), (6, .int ((lpX3_follow_138_r u ho d k).2.2.2.2)), (0, .ref o), (1, .int ho), (2, .int d), (3, .int k)] := hl
      refine lv_iload hx hb dX3_follow_220 (lv_at hl 1 rfl) ?_
      have hF : fX3_follow u ho d k = ((lpX3_follow_138_r u ho d k).2.2.2.1, (lpX3_follow_138_r u ho d k).2.1) := by rw [fX3_follow]
      exact mw_iret hx hb hr hlk hM hS (by rw [hF]) (by rw [hF]) dX3_follow_222

def fX3_holder (u : St) (ho : Int32) (d : Int32) (k : Int32) : Int32 × St :=
  if (fX3_isHouse u ho) = true then ((fX3_follow u ho d k).1, (fX3_follow u ho d k).2) else ((-1), u)
def okX3_holder (u : St) (ho : Int32) (d : Int32) (k : Int32) : Prop :=
  ((fX3_isHouse u ho) = true → okX3_follow u ho d k)
set_option maxHeartbeats 4000000 in
theorem metX3_holder (l : Launch) (D : va_G) (cA : Nat → ClassId) (o : Nat) (u : St) (ho : Int32) (d : Int32) (k : Int32) (hok : okX3_holder u ho d k) : MetM l yX3_holder cX3_holder 4 (some .int) 2 D cA o u [.ref o, .int ho, .int d, .int k] (some (.int (fX3_holder u ho d k).1)) (fX3_holder u ho d k).2 := by
  have hN0 := hok
  refine mM_start RX3 (by decide) rfl (Nat.le_of_ble_eq_true rfl) ?_
  intro pg ev s0 mi bl me co hx hb hml hown hts hr hlk hK hM ls hl
  have hl : lv_has ls 4 [(0, .ref o), (1, .int ho), (2, .int d), (3, .int k)] := hl
  have hS : va_S (mA o) s0.heap s0.heap [] := va_S.rf
  refine lv_aload_n hx hb dX3_holder_0 rfl (lv_at hl 0 rfl) ?_
  refine lv_iload_n hx hb dX3_holder_1 rfl (lv_at hl 1 rfl) ?_
  refine ro_call (mw_run (n := 1) (As := [.int ho]) (rest := []) hx hb hml hown hts (metX3_isHouse l D cA o u ho) q1479 q1481 qs33 q1482 (by decide +kernel) (by decide) (by decide) rfl hK hM hl.1 (Nat.le_of_ble_eq_true rfl) rfl dX3_holder_2 ⟨Nat.le_refl _, Nat.le_refl _⟩) ?_
  refine lv_B_eq (tgt := 18) hx hb dX3_holder_5 (by decide) (fun c_5 => ?_) (fun c_5 => ?_)
  · skip
    refine lv_iconst (v := (-1)) hx hb dX3_holder_18 (by decide) ?_
    have hF : fX3_holder u ho d k = ((-1), u) := by rw [fX3_holder, if_neg (nt_of c_5)]
    exact mw_iret hx hb hr hlk hM hS (by rw [hF]) (by rw [hF]) dX3_holder_19
  · skip
    refine lv_aload_n hx hb dX3_holder_8 rfl (lv_at hl 0 rfl) ?_
    refine lv_iload_n hx hb dX3_holder_9 rfl (lv_at hl 1 rfl) ?_
    refine lv_iload_n hx hb dX3_holder_10 rfl (lv_at hl 2 rfl) ?_
    refine lv_iload_n hx hb dX3_holder_11 rfl (lv_at hl 3 rfl) ?_
    refine mw_call (mw_run (n := 3) (As := [.int ho, .int d, .int k]) (rest := []) hx hb hml hown hts (metX3_follow l D cA o u ho d k (hN0 c_5)) q1499 q1501 qs35 q1502 (by decide +kernel) (by decide) (by decide) rfl hK hM hl.1 (Nat.le_of_ble_eq_true rfl) rfl dX3_holder_12 ⟨Nat.le_refl _, Nat.le_refl _⟩) hS (fun _ h => h) (fun H locs hM _ _ hS => ?_)
    refine lv_goto (tgt := 19) hx hb dX3_holder_15 (by decide) ?_
    have hF : fX3_holder u ho d k = ((fX3_follow u ho d k).1, (fX3_follow u ho d k).2) := by rw [fX3_holder, if_pos c_5]
    exact mw_iret hx hb hr hlk hM hS (by rw [hF]) (by rw [hF]) dX3_holder_19

def fX3_loose (u : St) (pa : Int32) (k : Int32) : Int32 × St :=
  if (fX3_isPaper u pa) = true then (if (fX3_counts u pa k) = true then (if (((fX3_follow u (u.2.1 9 pa.toNatClampNeg) 0 k).2).2.1 18 pa.toNatClampNeg) = 0 then (0, ((fX3_follow u (u.2.1 9 pa.toNatClampNeg) 0 k).2)) else (1, ((fX3_follow u (u.2.1 9 pa.toNatClampNeg) 0 k).2))) else ((-1), u)) else ((-1), u)
def okX3_loose (u : St) (pa : Int32) (k : Int32) : Prop :=
  ((fX3_isPaper u pa) = true → okX3_counts u pa k) ∧ ((fX3_isPaper u pa) = true → (fX3_counts u pa k) = true → vp_in pa 60) ∧ ((fX3_isPaper u pa) = true → (fX3_counts u pa k) = true → okX3_follow u (u.2.1 9 pa.toNatClampNeg) 0 k)
set_option maxHeartbeats 4000000 in
theorem metX3_loose (l : Launch) (D : va_G) (cA : Nat → ClassId) (o : Nat) (u : St) (pa : Int32) (k : Int32) (hok : okX3_loose u pa k) : MetM l yX3_loose cX3_loose 3 (some .int) 2 D cA o u [.ref o, .int pa, .int k] (some (.int (fX3_loose u pa k).1)) (fX3_loose u pa k).2 := by
  obtain ⟨hN0, hN1, hN2⟩ := hok
  refine mM_start RX3 (by decide) rfl (Nat.le_of_ble_eq_true rfl) ?_
  intro pg ev s0 mi bl me co hx hb hml hown hts hr hlk hK hM ls hl
  have hl : lv_has ls 3 [(0, .ref o), (1, .int pa), (2, .int k)] := hl
  have hS : va_S (mA o) s0.heap s0.heap [] := va_S.rf
  refine lv_aload_n hx hb dX3_loose_0 rfl (lv_at hl 0 rfl) ?_
  refine lv_iload_n hx hb dX3_loose_1 rfl (lv_at hl 1 rfl) ?_
  refine ro_call (mw_run (n := 1) (As := [.int pa]) (rest := []) hx hb hml hown hts (metX3_isPaper l D cA o u pa) q1487 q1489 qs34 q1490 (by decide +kernel) (by decide) (by decide) rfl hK hM hl.1 (Nat.le_of_ble_eq_true rfl) rfl dX3_loose_2 ⟨Nat.le_refl _, Nat.le_refl _⟩) ?_
  refine lv_B_eq (tgt := 17) hx hb dX3_loose_5 (by decide) (fun c_5 => ?_) (fun c_5 => ?_)
  · skip
    refine lv_iconst (v := (-1)) hx hb dX3_loose_17 (by decide) ?_
    have hF : fX3_loose u pa k = ((-1), u) := by rw [fX3_loose, if_neg (nt_of c_5)]
    exact mw_iret hx hb hr hlk hM hS (by rw [hF]) (by rw [hF]) dX3_loose_18
  · skip
    refine lv_aload_n hx hb dX3_loose_8 rfl (lv_at hl 0 rfl) ?_
    refine lv_iload_n hx hb dX3_loose_9 rfl (lv_at hl 1 rfl) ?_
    refine lv_iload_n hx hb dX3_loose_10 rfl (lv_at hl 2 rfl) ?_
    refine ro_call (mw_run (n := 2) (As := [.int pa, .int k]) (rest := []) hx hb hml hown hts (metX3_counts l D cA o u pa k (hN0 c_5)) q1503 q1505 qs36 q1506 (by decide +kernel) (by decide) (by decide) rfl hK hM hl.1 (Nat.le_of_ble_eq_true rfl) rfl dX3_loose_11 ⟨Nat.le_refl _, Nat.le_refl _⟩) ?_
    refine lv_B_ne (tgt := 19) hx hb dX3_loose_14 (by decide) (fun c_14 => ?_) (fun c_14 => ?_)
    · skip
      refine lv_aload_n hx hb dX3_loose_19 rfl (lv_at hl 0 rfl) ?_
      refine lv_aload_n hx hb dX3_loose_20 rfl (lv_at hl 0 rfl) ?_
      refine mw_get (v := .ref (mAd o 9)) hx hb hts hown hK hM 9 (by decide) q1275 rfl rfl dX3_loose_21 ?_
      refine lv_iload_n hx hb dX3_loose_24 rfl (lv_at hl 1 rfl) ?_
      refine mw_ild (v := u.2.1 9 pa.toNatClampNeg) (j := pa.toNatClampNeg) hx hb hK hM 9 (by decide) rfl rfl (hN1 c_5 c_14) rfl rfl dX3_loose_25 ?_
      refine lv_iconst (v := 0) hx hb dX3_loose_26 (by decide) ?_
      refine lv_iload_n hx hb dX3_loose_27 rfl (lv_at hl 2 rfl) ?_
      refine mw_call (mw_run (n := 3) (As := [.int (u.2.1 9 pa.toNatClampNeg), .int 0, .int k]) (rest := []) hx hb hml hown hts (metX3_follow l D cA o u (u.2.1 9 pa.toNatClampNeg) 0 k (hN2 c_5 c_14)) q1499 q1501 qs35 q1502 (by decide +kernel) (by decide) (by decide) rfl hK hM hl.1 (Nat.le_of_ble_eq_true rfl) rfl dX3_loose_28 ⟨Nat.le_refl _, Nat.le_refl _⟩) hS (fun _ h => h) (fun H locs hM _ _ hS => ?_)
      refine lv_pop hx hb dX3_loose_31 rfl ?_
      refine lv_aload_n hx hb dX3_loose_32 rfl (lv_at hl 0 rfl) ?_
      refine mw_get (v := .ref (mAd o 18)) hx hb hts hown hK hM 18 (by decide) q1284 rfl rfl dX3_loose_33 ?_
      refine lv_iload_n hx hb dX3_loose_36 rfl (lv_at hl 1 rfl) ?_
      refine mw_zld (v := ((fX3_follow u (u.2.1 9 pa.toNatClampNeg) 0 k).2).2.1 18 pa.toNatClampNeg) (j := pa.toNatClampNeg) hx hb hK hM 18 (by decide) rfl rfl (hN1 c_5 c_14) rfl rfl dX3_loose_37 ?_
      refine lv_if_eq (tgt := 45) hx hb dX3_loose_38 (by decide) (fun c_38 => ?_) (fun c_38 => ?_)
      · skip
        refine lv_iconst (v := 0) hx hb dX3_loose_45 (by decide) ?_
        have hF : fX3_loose u pa k = (0, ((fX3_follow u (u.2.1 9 pa.toNatClampNeg) 0 k).2)) := by rw [fX3_loose, if_pos c_5, if_pos c_14, if_pos c_38]
        exact mw_iret hx hb hr hlk hM hS (by rw [hF]) (by rw [hF]) dX3_loose_46
      · skip
        refine lv_iconst (v := 1) hx hb dX3_loose_41 (by decide) ?_
        refine lv_goto (tgt := 46) hx hb dX3_loose_42 (by decide) ?_
        have hF : fX3_loose u pa k = (1, ((fX3_follow u (u.2.1 9 pa.toNatClampNeg) 0 k).2)) := by rw [fX3_loose, if_pos c_5, if_pos c_14, if_neg c_38]
        exact mw_iret hx hb hr hlk hM hS (by rw [hF]) (by rw [hF]) dX3_loose_46
    · skip
      refine lv_iconst (v := (-1)) hx hb dX3_loose_17 (by decide) ?_
      have hF : fX3_loose u pa k = ((-1), u) := by rw [fX3_loose, if_pos c_5, if_neg (nt_of c_14)]
      exact mw_iret hx hb hr hlk hM hS (by rw [hF]) (by rw [hF]) dX3_loose_18

def lpX3_next_8 (u : St) : St → Nat × St
  | v => if (v.1 24) ≤ (v.1 27) then (1, v) else (if (if (fX3_sign v (v.1 27)) = 32 then true else (if (fX3_sign v (v.1 27)) = 10 then true else false)) = true then (0, (si v 27 ((v.1 27) + 1))) else (1, v))
def lpX3_next_8_r (u : St) : Nat × St :=
  wh (lpX3_next_8 u) 700 (si u 27 (u.1 28))
def fX3_nx1 (u : St) : St :=
  (lpX3_next_8_r u).2
def fX3_nxc (u : St) : Int32 :=
  fX3_sign (fX3_nx1 u) ((fX3_nx1 u).1 27)
def fX3_nxs (u : St) : Int32 :=
  if (fX3_nxc u) = 59 then 4 else (if (fX3_nxc u) = 40 then 4 else (if (fX3_nxc u) = 41 then 4 else (if (fX3_nxc u) = 60 then 4 else (if (fX3_nxc u) = 62 then 4 else (if (fX3_nxc u) = 61 then 4 else (if (fX3_nxc u) = 43 then 4 else (if (fX3_nxc u) = 45 then 4 else 1)))))))
def lpX3_next_245 (u : St) : St → Nat × St
  | v => if (fX3_isDigit (fX3_sign v (v.1 28))) = true then (0, (si (if 7 ≤ ((v.1 28) - (v.1 27)) then v else (si v 30 (((10 * (v.1 30)) + (fX3_sign v (v.1 28))) - 48))) 28 (((if 7 ≤ ((v.1 28) - (v.1 27)) then v else (si v 30 (((10 * (v.1 30)) + (fX3_sign v (v.1 28))) - 48))).1 28) + 1))) else (1, v)
def lpX3_next_245_r (u : St) : Nat × St :=
  wh (lpX3_next_245 u) 700 (si (si (si (fX3_nx1 u) 28 (((fX3_nx1 u).1 27) + 1)) 30 0) 28 ((fX3_nx1 u).1 27))
def fX3_nx4 (u : St) : St :=
  (lpX3_next_245_r u).2
def lpX3_next_119 (u : St) : St → Nat × St
  | v => if (fX3_isLetter (fX3_sign v (v.1 28))) = true then (0, (si v 28 ((v.1 28) + 1))) else (1, v)
def lpX3_next_119_r (u : St) : Nat × St :=
  wh (lpX3_next_119 u) 700 (si (fX3_nx1 u) 28 (((fX3_nx1 u).1 27) + 1))
def fX3_nx3 (u : St) : St :=
  (lpX3_next_119_r u).2
def lpX3_next_156 (u : St) : St × Int32 → Nat × St × Int32
  | (v, k) => if (v.1 28) ≤ k then (1, v, k) else (if ((v.1 27) + 8) ≤ k then (1, v, k) else (0, (sl v 31 0 (((v.2.2 31 0) <<< ((8 : Int32).toInt64 &&& 63)) ||| ((fX3_sign v k).toInt64))), k + 1))
def lpX3_next_156_r (u : St) : Nat × St × Int32 :=
  wh (lpX3_next_156 u) 9 ((sl (fX3_nx3 u) 31 0 0), (fX3_nx3 u).1 27)
def fX3_next (u : St)  : St :=
  if ((fX3_nx1 u).1 27) < ((fX3_nx1 u).1 24) then (if (fX3_isLetter (fX3_nxc u)) = true then (si (lpX3_next_156_r u).2.1 29 (if (((lpX3_next_156_r u).2.1.1 28) - ((lpX3_next_156_r u).2.1.1 27)) ≤ 8 then 2 else 1)) else (if (fX3_isDigit (fX3_nxc u)) = true then (si (fX3_nx4 u) 29 (if 7 < (((fX3_nx4 u).1 28) - ((fX3_nx4 u).1 27)) then 1 else (if (fX3_isLetter (fX3_sign (fX3_nx4 u) ((fX3_nx4 u).1 28))) = true then 1 else 3))) else (si (si (fX3_nx1 u) 28 (((fX3_nx1 u).1 27) + 1)) 29 (fX3_nxs u)))) else (si (si (si (si (fX3_nx1 u) 28 (((fX3_nx1 u).1 27) + 1)) 29 0) 27 ((fX3_nx1 u).1 24)) 28 ((fX3_nx1 u).1 24))
def okX3_next (u : St)  : Prop :=
  ∃ (I_8 : St → Prop) (I_245 : St → Prop) (I_119 : St → Prop) (I_156 : (St × Int32) → Prop), (LOK (lpX3_next_8 u) 700 (si u 27 (u.1 28)) I_8) ∧ (∀ (v : St), I_8 v → ¬ ((v.1 24) ≤ (v.1 27)) → okX3_sign v (v.1 27)) ∧ (okX3_sign (fX3_nx1 u) ((fX3_nx1 u).1 27)) ∧ (((fX3_nx1 u).1 27) < ((fX3_nx1 u).1 24) → (fX3_isLetter (fX3_nxc u)) = false → (fX3_isDigit (fX3_nxc u)) = true → LOK (lpX3_next_245 u) 700 (si (si (si (fX3_nx1 u) 28 (((fX3_nx1 u).1 27) + 1)) 30 0) 28 ((fX3_nx1 u).1 27)) I_245) ∧ (((fX3_nx1 u).1 27) < ((fX3_nx1 u).1 24) → (fX3_isLetter (fX3_nxc u)) = false → (fX3_isDigit (fX3_nxc u)) = true → ∀ (v : St), I_245 v → okX3_sign v (v.1 28)) ∧ (((fX3_nx1 u).1 27) < ((fX3_nx1 u).1 24) → (fX3_isLetter (fX3_nxc u)) = false → (fX3_isDigit (fX3_nxc u)) = true → ¬ (7 < (((fX3_nx4 u).1 28) - ((fX3_nx4 u).1 27))) → okX3_sign (fX3_nx4 u) ((fX3_nx4 u).1 28)) ∧ (((fX3_nx1 u).1 27) < ((fX3_nx1 u).1 24) → (fX3_isLetter (fX3_nxc u)) = true → LOK (lpX3_next_119 u) 700 (si (fX3_nx1 u) 28 (((fX3_nx1 u).1 27) + 1)) I_119) ∧ (((fX3_nx1 u).1 27) < ((fX3_nx1 u).1 24) → (fX3_isLetter (fX3_nxc u)) = true → ∀ (v : St), I_119 v → okX3_sign v (v.1 28)) ∧ (((fX3_nx1 u).1 27) < ((fX3_nx1 u).1 24) → (fX3_isLetter (fX3_nxc u)) = true → LOK (lpX3_next_156 u) 9 ((sl (fX3_nx3 u) 31 0 0), (fX3_nx3 u).1 27) I_156) ∧ (((fX3_nx1 u).1 27) < ((fX3_nx1 u).1 24) → (fX3_isLetter (fX3_nxc u)) = true → ∀ (v : St) (k : Int32), I_156 (v, k) → ¬ ((v.1 28) ≤ k) → ¬ (((v.1 27) + 8) ≤ k) → okX3_sign v k)
set_option maxHeartbeats 4000000 in
theorem metX3_next (l : Launch) (D : va_G) (cA : Nat → ClassId) (o : Nat) (u : St)  (hok : okX3_next u) : MetM l yX3_next cX3_next 3 none 1 D cA o u [.ref o] none (fX3_next u) := by
  obtain ⟨I_8, I_245, I_119, I_156, hN0, hN1, hN2, hN3, hN4, hN5, hN6, hN7, hN8, hN9⟩ := hok
  refine mM_start RX3 (by decide) rfl (Nat.le_of_ble_eq_true rfl) ?_
  intro pg ev s0 mi bl me co hx hb hml hown hts hr hlk hK hM ls hl
  have hl : lv_has ls 3 [(0, .ref o)] := hl
  have hS : va_S (mA o) s0.heap s0.heap [] := va_S.rf
  refine lv_aload_n hx hb dX3_next_0 rfl (lv_at hl 0 rfl) ?_
  refine lv_aload_n hx hb dX3_next_1 rfl (lv_at hl 0 rfl) ?_
  refine mw_get (v := .int (u.1 28)) hx hb hts hown hK hM 28 (by decide) q1294 rfl rfl dX3_next_2 ?_
  refine mw_puti hx hb hts hown hK hM hS 27 (by decide) q1293 rfl rfl rfl rfl dX3_next_5 (fun H locs hM hS => ?_)
  refine mw_loop1 (rest := []) (nL := 3) (r := (lpX3_next_8_r u)) (lpX3_next_8 u) I_8 (fun q => q) (fun q => [(0, .ref o)]) 8 58 700 (si u 27 (u.1 28)) hN0.2.1 hN0.1 hN0.2.2 rfl ?_ hM hS (lv_sub hl [0] rfl) ?_
  · skip
    intro v hI_8 H locs ls hM hS hl kb k1
    have hM : MW D cA o v H := hM
    have hl : lv_has ls 3 [(0, .ref o)] := hl
    refine lv_aload_n hx hb dX3_next_8 rfl (lv_at hl 0 rfl) ?_
    refine mw_get (v := .int (v.1 27)) hx hb hts hown hK hM 27 (by decide) q1293 rfl rfl dX3_next_9 ?_
    refine lv_aload_n hx hb dX3_next_12 rfl (lv_at hl 0 rfl) ?_
    refine mw_get (v := .int (v.1 24)) hx hb hts hown hK hM 24 (by decide) q1290 rfl rfl dX3_next_13 ?_
    refine lv_icmp_ge (tgt := 58) hx hb dX3_next_16 (by decide) (fun c_16 => ?_) (fun c_16 => ?_)
    · skip
      have hs : lpX3_next_8 u v = (1, v) := by rw [lpX3_next_8, if_pos c_16]
      rw [hs] at k1
      exact k1 (show ¬ (1 : Nat) = 0 by decide) _ _ _ hM hS (lv_sub hl [0] rfl)
    · skip
      refine lv_aload_n hx hb dX3_next_19 rfl (lv_at hl 0 rfl) ?_
      refine lv_aload_n hx hb dX3_next_20 rfl (lv_at hl 0 rfl) ?_
      refine mw_get (v := .int (v.1 27)) hx hb hts hown hK hM 27 (by decide) q1293 rfl rfl dX3_next_21 ?_
      refine ro_call (mw_run (n := 1) (As := [.int (v.1 27)]) (rest := []) hx hb hml hown hts (metX3_sign l D cA o v (v.1 27) (hN1 v hI_8 c_16)) q1519 q1521 qs38 q1522 (by decide +kernel) (by decide) (by decide) rfl hK hM hl.1 (Nat.le_of_ble_eq_true rfl) rfl dX3_next_24 ⟨Nat.le_refl _, Nat.le_refl _⟩) ?_
      refine lv_bipush (v := 32) hx hb dX3_next_27 (by decide) ?_
      refine w_jb (ls := ls) (rest := []) (B := (if (fX3_sign v (v.1 27)) = 32 then true else (if (fX3_sign v (v.1 27)) = 10 then true else false))) 45 58 (fun c_29 => ?_) (fun c_29 => ?_) (fun KT KF => ?_)
      · skip
        refine lv_aload_n hx hb dX3_next_45 rfl (lv_at hl 0 rfl) ?_
        refine lv_dup hx hb dX3_next_46 rfl ?_
        refine mw_get (v := .int (v.1 27)) hx hb hts hown hK hM 27 (by decide) q1293 rfl rfl dX3_next_47 ?_
        refine lv_iconst (v := 1) hx hb dX3_next_50 (by decide) ?_
        refine lv_iadd hx hb dX3_next_51 ?_
        refine mw_puti hx hb hts hown hK hM hS 27 (by decide) q1293 rfl rfl rfl rfl dX3_next_52 (fun H locs hM hS => ?_)
        refine lv_goto (tgt := 8) hx hb dX3_next_55 (by decide) ?_
        have hs : lpX3_next_8 u v = (0, (si v 27 ((v.1 27) + 1))) := by rw [lpX3_next_8, if_neg c_16, if_pos c_29]
        rw [hs] at kb
        exact kb rfl _ _ _ hM hS (lv_sub hl [0] rfl)
      · skip
        have hs : lpX3_next_8 u v = (1, v) := by rw [lpX3_next_8, if_neg c_16, if_neg (nt_of c_29)]
        rw [hs] at k1
        exact k1 (show ¬ (1 : Nat) = 0 by decide) _ _ _ hM hS (lv_sub hl [0] rfl)
      · skip
        refine lv_icmp_eq (tgt := 45) hx hb dX3_next_29 (by decide) (fun c_29 => ?_) (fun c_29 => ?_)
        · skip
          exact KT (by rw [if_pos c_29])
        · skip
          refine lv_aload_n hx hb dX3_next_32 rfl (lv_at hl 0 rfl) ?_
          refine lv_aload_n hx hb dX3_next_33 rfl (lv_at hl 0 rfl) ?_
          refine mw_get (v := .int (v.1 27)) hx hb hts hown hK hM 27 (by decide) q1293 rfl rfl dX3_next_34 ?_
          refine ro_call (mw_run (n := 1) (As := [.int (v.1 27)]) (rest := []) hx hb hml hown hts (metX3_sign l D cA o v (v.1 27) (hN1 v hI_8 c_16)) q1519 q1521 qs38 q1522 (by decide +kernel) (by decide) (by decide) rfl hK hM hl.1 (Nat.le_of_ble_eq_true rfl) rfl dX3_next_37 ⟨Nat.le_refl _, Nat.le_refl _⟩) ?_
          refine lv_bipush (v := 10) hx hb dX3_next_40 (by decide) ?_
          refine lv_icmp_ne (tgt := 58) hx hb dX3_next_42 (by decide) (fun c_42 => ?_) (fun c_42 => ?_)
          · skip
            exact KF (by rw [if_neg c_29, if_neg c_42])
          · skip
            exact KT (by rw [if_neg c_29, if_pos c_42])
  · skip
    intro H locs ls hM hS hl
    have hM : MW D cA o (lpX3_next_8_r u).2 H := hM
    have hl : lv_has ls 3 [(0, .ref o)] := hl
    have hM : MW D cA o (fX3_nx1 u) _ := hM
    refine lv_aload_n hx hb dX3_next_58 rfl (lv_at hl 0 rfl) ?_
    refine lv_aload_n hx hb dX3_next_59 rfl (lv_at hl 0 rfl) ?_
    refine mw_get (v := .int ((fX3_nx1 u).1 27)) hx hb hts hown hK hM 27 (by decide) q1293 rfl rfl dX3_next_60 ?_
    refine ro_call (mw_run (n := 1) (As := [.int ((fX3_nx1 u).1 27)]) (rest := []) hx hb hml hown hts (metX3_sign l D cA o (fX3_nx1 u) ((fX3_nx1 u).1 27) hN2) q1519 q1521 qs38 q1522 (by decide +kernel) (by decide) (by decide) rfl hK hM hl.1 (Nat.le_of_ble_eq_true rfl) rfl dX3_next_63 ⟨Nat.le_refl _, Nat.le_refl _⟩) ?_
    refine v_eqi (show fX3_sign (fX3_nx1 u) ((fX3_nx1 u).1 27) = fX3_nxc u from rfl) ?_
    refine lv_istore_n (lv' := [(1, .int (fX3_nxc u)), (0, .ref o)]) hx hb dX3_next_66 rfl hl (by decide) rfl (fun ls hl => ?_)
    refine lv_aload_n hx hb dX3_next_67 rfl (lv_at hl 1 rfl) ?_
    refine lv_aload_n hx hb dX3_next_68 rfl (lv_at hl 1 rfl) ?_
    refine mw_get (v := .int ((fX3_nx1 u).1 27)) hx hb hts hown hK hM 27 (by decide) q1293 rfl rfl dX3_next_69 ?_
    refine lv_iconst (v := 1) hx hb dX3_next_72 (by decide) ?_
    refine lv_iadd hx hb dX3_next_73 ?_
    refine mw_puti hx hb hts hown hK hM hS 28 (by decide) q1294 rfl rfl rfl rfl dX3_next_74 (fun H locs hM hS => ?_)
    refine lv_aload_n hx hb dX3_next_77 rfl (lv_at hl 1 rfl) ?_
    refine mw_get (v := .int ((fX3_nx1 u).1 27)) hx hb hts hown hK hM 27 (by decide) q1293 rfl rfl dX3_next_78 ?_
    refine lv_aload_n hx hb dX3_next_81 rfl (lv_at hl 1 rfl) ?_
    refine mw_get (v := .int ((fX3_nx1 u).1 24)) hx hb hts hown hK hM 24 (by decide) q1290 rfl rfl dX3_next_82 ?_
    refine lv_icmp_lt (tgt := 112) hx hb dX3_next_85 (by decide) (fun c_85 => ?_) (fun c_85 => ?_)
    · skip
      refine lv_iload_n hx hb dX3_next_112 rfl (lv_at hl 0 rfl) ?_
      refine ro_call (st_run (n := 1) (As := [.int (fX3_nxc u)]) (rest := []) hx hb hml hown hts (metX3_isLetter l (fX3_nxc u)) q1523 q1524 q71 q1525 (by decide +kernel) (by decide) (by decide) rfl hl.1 (Nat.le_of_ble_eq_true rfl) rfl dX3_next_113 ⟨Nat.le_refl _, Nat.le_refl _⟩) ?_
      refine lv_B_eq (tgt := 225) hx hb dX3_next_116 (by decide) (fun c_116 => ?_) (fun c_116 => ?_)
      · skip
        refine lv_iload_n hx hb dX3_next_225 rfl (lv_at hl 0 rfl) ?_
        refine ro_call (st_run (n := 1) (As := [.int (fX3_nxc u)]) (rest := []) hx hb hml hown hts (metX3_isDigit l (fX3_nxc u)) q1526 q1527 q71 q1528 (by decide +kernel) (by decide) (by decide) rfl hl.1 (Nat.le_of_ble_eq_true rfl) rfl dX3_next_226 ⟨Nat.le_refl _, Nat.le_refl _⟩) ?_
        refine lv_B_eq (tgt := 349) hx hb dX3_next_229 (by decide) (fun c_229 => ?_) (fun c_229 => ?_)
        · skip
          refine lv_aload_n hx hb dX3_next_349 rfl (lv_at hl 1 rfl) ?_
          refine lv_iload_n hx hb dX3_next_350 rfl (lv_at hl 0 rfl) ?_
          refine lv_bipush (v := 59) hx hb dX3_next_351 (by decide) ?_
          refine w_ji (ls := ls) (rest := [.ref o]) (E := (fX3_nxs u)) 403 ?_ (fun K => ?_)
          · skip
            refine mw_puti hx hb hts hown hK hM hS 29 (by decide) q1295 rfl rfl rfl rfl dX3_next_403 (fun H locs hM hS => ?_)
            have hF : fX3_next u = (si (si (fX3_nx1 u) 28 (((fX3_nx1 u).1 27) + 1)) 29 (fX3_nxs u)) := by rw [fX3_next, if_pos c_85, if_neg (nt_of c_116), if_neg (nt_of c_229)]
            exact mw_vret hx hb hr hlk hM hS (by rw [hF]) dX3_next_406
          · skip
            refine lv_icmp_eq (tgt := 398) hx hb dX3_next_353 (by decide) (fun c_353 => ?_) (fun c_353 => ?_)
            · skip
              refine lv_iconst (v := 4) hx hb dX3_next_398 (by decide) ?_
              refine lv_goto (tgt := 403) hx hb dX3_next_399 (by decide) ?_
              exact K _ (by rw [fX3_nxs, if_pos c_353])
            · skip
              refine lv_iload_n hx hb dX3_next_356 rfl (lv_at hl 0 rfl) ?_
              refine lv_bipush (v := 40) hx hb dX3_next_357 (by decide) ?_
              refine lv_icmp_eq (tgt := 398) hx hb dX3_next_359 (by decide) (fun c_359 => ?_) (fun c_359 => ?_)
              · skip
                refine lv_iconst (v := 4) hx hb dX3_next_398 (by decide) ?_
                refine lv_goto (tgt := 403) hx hb dX3_next_399 (by decide) ?_
                exact K _ (by rw [fX3_nxs, if_neg c_353, if_pos c_359])
              · skip
                refine lv_iload_n hx hb dX3_next_362 rfl (lv_at hl 0 rfl) ?_
                refine lv_bipush (v := 41) hx hb dX3_next_363 (by decide) ?_
                refine lv_icmp_eq (tgt := 398) hx hb dX3_next_365 (by decide) (fun c_365 => ?_) (fun c_365 => ?_)
                · skip
                  refine lv_iconst (v := 4) hx hb dX3_next_398 (by decide) ?_
                  refine lv_goto (tgt := 403) hx hb dX3_next_399 (by decide) ?_
                  exact K _ (by rw [fX3_nxs, if_neg c_353, if_neg c_359, if_pos c_365])
                · skip
                  refine lv_iload_n hx hb dX3_next_368 rfl (lv_at hl 0 rfl) ?_
                  refine lv_bipush (v := 60) hx hb dX3_next_369 (by decide) ?_
                  refine lv_icmp_eq (tgt := 398) hx hb dX3_next_371 (by decide) (fun c_371 => ?_) (fun c_371 => ?_)
                  · skip
                    refine lv_iconst (v := 4) hx hb dX3_next_398 (by decide) ?_
                    refine lv_goto (tgt := 403) hx hb dX3_next_399 (by decide) ?_
                    exact K _ (by rw [fX3_nxs, if_neg c_353, if_neg c_359, if_neg c_365, if_pos c_371])
                  · skip
                    refine lv_iload_n hx hb dX3_next_374 rfl (lv_at hl 0 rfl) ?_
                    refine lv_bipush (v := 62) hx hb dX3_next_375 (by decide) ?_
                    refine lv_icmp_eq (tgt := 398) hx hb dX3_next_377 (by decide) (fun c_377 => ?_) (fun c_377 => ?_)
                    · skip
                      refine lv_iconst (v := 4) hx hb dX3_next_398 (by decide) ?_
                      refine lv_goto (tgt := 403) hx hb dX3_next_399 (by decide) ?_
                      exact K _ (by rw [fX3_nxs, if_neg c_353, if_neg c_359, if_neg c_365, if_neg c_371, if_pos c_377])
                    · skip
                      refine lv_iload_n hx hb dX3_next_380 rfl (lv_at hl 0 rfl) ?_
                      refine lv_bipush (v := 61) hx hb dX3_next_381 (by decide) ?_
                      refine lv_icmp_eq (tgt := 398) hx hb dX3_next_383 (by decide) (fun c_383 => ?_) (fun c_383 => ?_)
                      · skip
                        refine lv_iconst (v := 4) hx hb dX3_next_398 (by decide) ?_
                        refine lv_goto (tgt := 403) hx hb dX3_next_399 (by decide) ?_
                        exact K _ (by rw [fX3_nxs, if_neg c_353, if_neg c_359, if_neg c_365, if_neg c_371, if_neg c_377, if_pos c_383])
                      · skip
                        refine lv_iload_n hx hb dX3_next_386 rfl (lv_at hl 0 rfl) ?_
                        refine lv_bipush (v := 43) hx hb dX3_next_387 (by decide) ?_
                        refine lv_icmp_eq (tgt := 398) hx hb dX3_next_389 (by decide) (fun c_389 => ?_) (fun c_389 => ?_)
                        · skip
                          refine lv_iconst (v := 4) hx hb dX3_next_398 (by decide) ?_
                          refine lv_goto (tgt := 403) hx hb dX3_next_399 (by decide) ?_
                          exact K _ (by rw [fX3_nxs, if_neg c_353, if_neg c_359, if_neg c_365, if_neg c_371, if_neg c_377, if_neg c_383, if_pos c_389])
                        · skip
                          refine lv_iload_n hx hb dX3_next_392 rfl (lv_at hl 0 rfl) ?_
                          refine lv_bipush (v := 45) hx hb dX3_next_393 (by decide) ?_
                          refine lv_icmp_ne (tgt := 402) hx hb dX3_next_395 (by decide) (fun c_395 => ?_) (fun c_395 => ?_)
                          · skip
                            refine lv_iconst (v := 1) hx hb dX3_next_402 (by decide) ?_
                            exact K _ (by rw [fX3_nxs, if_neg c_353, if_neg c_359, if_neg c_365, if_neg c_371, if_neg c_377, if_neg c_383, if_neg c_389, if_neg c_395])
                          · skip
                            refine lv_iconst (v := 4) hx hb dX3_next_398 (by decide) ?_
                            refine lv_goto (tgt := 403) hx hb dX3_next_399 (by decide) ?_
                            exact K _ (by rw [fX3_nxs, if_neg c_353, if_neg c_359, if_neg c_365, if_neg c_371, if_neg c_377, if_neg c_383, if_neg c_389, if_pos c_395])
        · skip
          refine lv_aload_n hx hb dX3_next_232 rfl (lv_at hl 1 rfl) ?_
          refine lv_iconst (v := 0) hx hb dX3_next_233 (by decide) ?_
          refine mw_puti hx hb hts hown hK hM hS 30 (by decide) q1296 rfl rfl rfl rfl dX3_next_234 (fun H locs hM hS => ?_)
          refine lv_aload_n hx hb dX3_next_237 rfl (lv_at hl 1 rfl) ?_
          refine lv_aload_n hx hb dX3_next_238 rfl (lv_at hl 1 rfl) ?_
          refine mw_get (v := .int ((fX3_nx1 u).1 27)) hx hb hts hown hK hM 27 (by decide) q1293 rfl rfl dX3_next_239 ?_
          refine mw_puti hx hb hts hown hK hM hS 28 (by decide) q1294 rfl rfl rfl rfl dX3_next_242 (fun H locs hM hS => ?_)
          refine mw_loop1 (rest := []) (nL := 3) (r := (lpX3_next_245_r u)) (lpX3_next_245 u) I_245 (fun q => q) (fun q => [(1, .int (fX3_nxc u)), (0, .ref o)]) 245 309 700 (si (si (si (fX3_nx1 u) 28 (((fX3_nx1 u).1 27) + 1)) 30 0) 28 ((fX3_nx1 u).1 27)) (hN3 c_85 c_116 c_229).2.1 (hN3 c_85 c_116 c_229).1 (hN3 c_85 c_116 c_229).2.2 rfl ?_ hM hS (lv_sub hl [0, 1] rfl) ?_
          · skip
            intro v hI_245 H locs ls hM hS hl kb k1
            have hM : MW D cA o v H := hM
            have hl : lv_has ls 3 [(1, .int (fX3_nxc u)), (0, .ref o)] := hl
            refine lv_aload_n hx hb dX3_next_245 rfl (lv_at hl 1 rfl) ?_
            refine lv_aload_n hx hb dX3_next_246 rfl (lv_at hl 1 rfl) ?_
            refine mw_get (v := .int (v.1 28)) hx hb hts hown hK hM 28 (by decide) q1294 rfl rfl dX3_next_247 ?_
            refine ro_call (mw_run (n := 1) (As := [.int (v.1 28)]) (rest := []) hx hb hml hown hts (metX3_sign l D cA o v (v.1 28) (hN4 c_85 c_116 c_229 v hI_245)) q1519 q1521 qs38 q1522 (by decide +kernel) (by decide) (by decide) rfl hK hM hl.1 (Nat.le_of_ble_eq_true rfl) rfl dX3_next_250 ⟨Nat.le_refl _, Nat.le_refl _⟩) ?_
            refine ro_call (st_run (n := 1) (As := [.int (fX3_sign v (v.1 28))]) (rest := []) hx hb hml hown hts (metX3_isDigit l (fX3_sign v (v.1 28))) q1526 q1527 q71 q1528 (by decide +kernel) (by decide) (by decide) rfl hl.1 (Nat.le_of_ble_eq_true rfl) rfl dX3_next_253 ⟨Nat.le_refl _, Nat.le_refl _⟩) ?_
            refine lv_B_eq (tgt := 309) hx hb dX3_next_256 (by decide) (fun c_256 => ?_) (fun c_256 => ?_)
            · skip
              have hs : lpX3_next_245 u v = (1, v) := by rw [lpX3_next_245, if_neg (nt_of c_256)]
              rw [hs] at k1
              exact k1 (show ¬ (1 : Nat) = 0 by decide) _ _ _ hM hS (lv_sub hl [0, 1] rfl)
            · skip
              refine lv_aload_n hx hb dX3_next_259 rfl (lv_at hl 1 rfl) ?_
              refine mw_get (v := .int (v.1 28)) hx hb hts hown hK hM 28 (by decide) q1294 rfl rfl dX3_next_260 ?_
              refine lv_aload_n hx hb dX3_next_263 rfl (lv_at hl 1 rfl) ?_
              refine mw_get (v := .int (v.1 27)) hx hb hts hown hK hM 27 (by decide) q1293 rfl rfl dX3_next_264 ?_
              refine lv_isub hx hb dX3_next_267 ?_
              refine lv_bipush (v := 7) hx hb dX3_next_268 (by decide) ?_
              refine w_ju (D := D) (cA := cA) (o := o) (H0 := s0.heap) (ls := ls) (rest := []) (E := (if 7 ≤ ((v.1 28) - (v.1 27)) then v else (si v 30 (((10 * (v.1 30)) + (fX3_sign v (v.1 28))) - 48)))) 296 (fun H locs hM hS => ?_) (fun K => ?_)
              · skip
                refine lv_aload_n hx hb dX3_next_296 rfl (lv_at hl 1 rfl) ?_
                refine lv_dup hx hb dX3_next_297 rfl ?_
                refine mw_get (v := .int ((if 7 ≤ ((v.1 28) - (v.1 27)) then v else (si v 30 (((10 * (v.1 30)) + (fX3_sign v (v.1 28))) - 48))).1 28)) hx hb hts hown hK hM 28 (by decide) q1294 rfl rfl dX3_next_298 ?_
                refine lv_iconst (v := 1) hx hb dX3_next_301 (by decide) ?_
                refine lv_iadd hx hb dX3_next_302 ?_
                refine mw_puti hx hb hts hown hK hM hS 28 (by decide) q1294 rfl rfl rfl rfl dX3_next_303 (fun H locs hM hS => ?_)
                refine lv_goto (tgt := 245) hx hb dX3_next_306 (by decide) ?_
                have hs : lpX3_next_245 u v = (0, (si (if 7 ≤ ((v.1 28) - (v.1 27)) then v else (si v 30 (((10 * (v.1 30)) + (fX3_sign v (v.1 28))) - 48))) 28 (((if 7 ≤ ((v.1 28) - (v.1 27)) then v else (si v 30 (((10 * (v.1 30)) + (fX3_sign v (v.1 28))) - 48))).1 28) + 1))) := by rw [lpX3_next_245, if_pos c_256]
                rw [hs] at kb
                exact kb rfl _ _ _ hM hS (lv_sub hl [0, 1] rfl)
              · skip
                refine lv_icmp_ge (tgt := 296) hx hb dX3_next_270 (by decide) (fun c_270 => ?_) (fun c_270 => ?_)
                · skip
                  exact K _ _ _ hM hS (by rw [if_pos c_270])
                · skip
                  refine lv_aload_n hx hb dX3_next_273 rfl (lv_at hl 1 rfl) ?_
                  refine lv_bipush (v := 10) hx hb dX3_next_274 (by decide) ?_
                  refine lv_aload_n hx hb dX3_next_276 rfl (lv_at hl 1 rfl) ?_
                  refine mw_get (v := .int (v.1 30)) hx hb hts hown hK hM 30 (by decide) q1296 rfl rfl dX3_next_277 ?_
                  refine lv_imul hx hb dX3_next_280 ?_
                  refine lv_aload_n hx hb dX3_next_281 rfl (lv_at hl 1 rfl) ?_
                  refine lv_aload_n hx hb dX3_next_282 rfl (lv_at hl 1 rfl) ?_
                  refine mw_get (v := .int (v.1 28)) hx hb hts hown hK hM 28 (by decide) q1294 rfl rfl dX3_next_283 ?_
                  refine ro_call (mw_run (n := 1) (As := [.int (v.1 28)]) (rest := [.int (10 * (v.1 30)), .ref o]) hx hb hml hown hts (metX3_sign l D cA o v (v.1 28) (hN4 c_85 c_116 c_229 v hI_245)) q1519 q1521 qs38 q1522 (by decide +kernel) (by decide) (by decide) rfl hK hM hl.1 (Nat.le_of_ble_eq_true rfl) rfl dX3_next_286 ⟨Nat.le_refl _, Nat.le_refl _⟩) ?_
                  refine lv_iadd hx hb dX3_next_289 ?_
                  refine lv_bipush (v := 48) hx hb dX3_next_290 (by decide) ?_
                  refine lv_isub hx hb dX3_next_292 ?_
                  refine mw_puti hx hb hts hown hK hM hS 30 (by decide) q1296 rfl rfl rfl rfl dX3_next_293 (fun H locs hM hS => ?_)
                  exact K _ _ _ hM hS (by rw [if_neg c_270])
          · skip
            intro H locs ls hM hS hl
            have hM : MW D cA o (lpX3_next_245_r u).2 H := hM
            have hl : lv_has ls 3 [(1, .int (fX3_nxc u)), (0, .ref o)] := hl
            have hM : MW D cA o (fX3_nx4 u) _ := hM
            refine lv_aload_n hx hb dX3_next_309 rfl (lv_at hl 1 rfl) ?_
            refine lv_aload_n hx hb dX3_next_310 rfl (lv_at hl 1 rfl) ?_
            refine mw_get (v := .int ((fX3_nx4 u).1 28)) hx hb hts hown hK hM 28 (by decide) q1294 rfl rfl dX3_next_311 ?_
            refine lv_aload_n hx hb dX3_next_314 rfl (lv_at hl 1 rfl) ?_
            refine mw_get (v := .int ((fX3_nx4 u).1 27)) hx hb hts hown hK hM 27 (by decide) q1293 rfl rfl dX3_next_315 ?_
            refine lv_isub hx hb dX3_next_318 ?_
            refine lv_bipush (v := 7) hx hb dX3_next_319 (by decide) ?_
            refine w_ji (ls := ls) (rest := [.ref o]) (E := (if 7 < (((fX3_nx4 u).1 28) - ((fX3_nx4 u).1 27)) then 1 else (if (fX3_isLetter (fX3_sign (fX3_nx4 u) ((fX3_nx4 u).1 28))) = true then 1 else 3))) 343 ?_ (fun K => ?_)
            · skip
              refine mw_puti hx hb hts hown hK hM hS 29 (by decide) q1295 rfl rfl rfl rfl dX3_next_343 (fun H locs hM hS => ?_)
              refine lv_goto (tgt := 406) hx hb dX3_next_346 (by decide) ?_
              have hF : fX3_next u = (si (fX3_nx4 u) 29 (if 7 < (((fX3_nx4 u).1 28) - ((fX3_nx4 u).1 27)) then 1 else (if (fX3_isLetter (fX3_sign (fX3_nx4 u) ((fX3_nx4 u).1 28))) = true then 1 else 3))) := by rw [fX3_next, if_pos c_85, if_neg (nt_of c_116), if_pos c_229]
              exact mw_vret hx hb hr hlk hM hS (by rw [hF]) dX3_next_406
            · skip
              refine lv_icmp_gt (tgt := 338) hx hb dX3_next_321 (by decide) (fun c_321 => ?_) (fun c_321 => ?_)
              · skip
                refine lv_iconst (v := 1) hx hb dX3_next_338 (by decide) ?_
                refine lv_goto (tgt := 343) hx hb dX3_next_339 (by decide) ?_
                exact K _ (by rw [if_pos c_321])
              · skip
                refine lv_aload_n hx hb dX3_next_324 rfl (lv_at hl 1 rfl) ?_
                refine lv_aload_n hx hb dX3_next_325 rfl (lv_at hl 1 rfl) ?_
                refine mw_get (v := .int ((fX3_nx4 u).1 28)) hx hb hts hown hK hM 28 (by decide) q1294 rfl rfl dX3_next_326 ?_
                refine ro_call (mw_run (n := 1) (As := [.int ((fX3_nx4 u).1 28)]) (rest := [.ref o]) hx hb hml hown hts (metX3_sign l D cA o (fX3_nx4 u) ((fX3_nx4 u).1 28) (hN5 c_85 c_116 c_229 c_321)) q1519 q1521 qs38 q1522 (by decide +kernel) (by decide) (by decide) rfl hK hM hl.1 (Nat.le_of_ble_eq_true rfl) rfl dX3_next_329 ⟨Nat.le_refl _, Nat.le_refl _⟩) ?_
                refine ro_call (st_run (n := 1) (As := [.int (fX3_sign (fX3_nx4 u) ((fX3_nx4 u).1 28))]) (rest := [.ref o]) hx hb hml hown hts (metX3_isLetter l (fX3_sign (fX3_nx4 u) ((fX3_nx4 u).1 28))) q1523 q1524 q71 q1525 (by decide +kernel) (by decide) (by decide) rfl hl.1 (Nat.le_of_ble_eq_true rfl) rfl dX3_next_332 ⟨Nat.le_refl _, Nat.le_refl _⟩) ?_
                refine lv_B_eq (tgt := 342) hx hb dX3_next_335 (by decide) (fun c_335 => ?_) (fun c_335 => ?_)
                · skip
                  refine lv_iconst (v := 3) hx hb dX3_next_342 (by decide) ?_
                  exact K _ (by rw [if_neg c_321, if_neg (nt_of c_335)])
                · skip
                  refine lv_iconst (v := 1) hx hb dX3_next_338 (by decide) ?_
                  refine lv_goto (tgt := 343) hx hb dX3_next_339 (by decide) ?_
                  exact K _ (by rw [if_neg c_321, if_pos c_335])
      · skip
        refine mw_loop1 (rest := []) (nL := 3) (r := (lpX3_next_119_r u)) (lpX3_next_119 u) I_119 (fun q => q) (fun q => [(1, .int (fX3_nxc u)), (0, .ref o)]) 119 146 700 (si (fX3_nx1 u) 28 (((fX3_nx1 u).1 27) + 1)) (hN6 c_85 c_116).2.1 (hN6 c_85 c_116).1 (hN6 c_85 c_116).2.2 rfl ?_ hM hS (lv_sub hl [0, 1] rfl) ?_
        · skip
          intro v hI_119 H locs ls hM hS hl kb k1
          have hM : MW D cA o v H := hM
          have hl : lv_has ls 3 [(1, .int (fX3_nxc u)), (0, .ref o)] := hl
          refine lv_aload_n hx hb dX3_next_119 rfl (lv_at hl 1 rfl) ?_
          refine lv_aload_n hx hb dX3_next_120 rfl (lv_at hl 1 rfl) ?_
          refine mw_get (v := .int (v.1 28)) hx hb hts hown hK hM 28 (by decide) q1294 rfl rfl dX3_next_121 ?_
          refine ro_call (mw_run (n := 1) (As := [.int (v.1 28)]) (rest := []) hx hb hml hown hts (metX3_sign l D cA o v (v.1 28) (hN7 c_85 c_116 v hI_119)) q1519 q1521 qs38 q1522 (by decide +kernel) (by decide) (by decide) rfl hK hM hl.1 (Nat.le_of_ble_eq_true rfl) rfl dX3_next_124 ⟨Nat.le_refl _, Nat.le_refl _⟩) ?_
          refine ro_call (st_run (n := 1) (As := [.int (fX3_sign v (v.1 28))]) (rest := []) hx hb hml hown hts (metX3_isLetter l (fX3_sign v (v.1 28))) q1523 q1524 q71 q1525 (by decide +kernel) (by decide) (by decide) rfl hl.1 (Nat.le_of_ble_eq_true rfl) rfl dX3_next_127 ⟨Nat.le_refl _, Nat.le_refl _⟩) ?_
          refine lv_B_eq (tgt := 146) hx hb dX3_next_130 (by decide) (fun c_130 => ?_) (fun c_130 => ?_)
          · skip
            have hs : lpX3_next_119 u v = (1, v) := by rw [lpX3_next_119, if_neg (nt_of c_130)]
            rw [hs] at k1
            exact k1 (show ¬ (1 : Nat) = 0 by decide) _ _ _ hM hS (lv_sub hl [0, 1] rfl)
          · skip
            refine lv_aload_n hx hb dX3_next_133 rfl (lv_at hl 1 rfl) ?_
            refine lv_dup hx hb dX3_next_134 rfl ?_
            refine mw_get (v := .int (v.1 28)) hx hb hts hown hK hM 28 (by decide) q1294 rfl rfl dX3_next_135 ?_
            refine lv_iconst (v := 1) hx hb dX3_next_138 (by decide) ?_
            refine lv_iadd hx hb dX3_next_139 ?_
            refine mw_puti hx hb hts hown hK hM hS 28 (by decide) q1294 rfl rfl rfl rfl dX3_next_140 (fun H locs hM hS => ?_)
            refine lv_goto (tgt := 119) hx hb dX3_next_143 (by decide) ?_
            have hs : lpX3_next_119 u v = (0, (si v 28 ((v.1 28) + 1))) := by rw [lpX3_next_119, if_pos c_130]
            rw [hs] at kb
            exact kb rfl _ _ _ hM hS (lv_sub hl [0, 1] rfl)
        · skip
          intro H locs ls hM hS hl
          have hM : MW D cA o (lpX3_next_119_r u).2 H := hM
          have hl : lv_has ls 3 [(1, .int (fX3_nxc u)), (0, .ref o)] := hl
          have hM : MW D cA o (fX3_nx3 u) _ := hM
          refine lv_aload_n hx hb dX3_next_146 rfl (lv_at hl 1 rfl) ?_
          refine lv_lconst (v := 0) hx hb dX3_next_147 (by decide) ?_
          refine mw_putl hx hb hts hown hK hM hS 31 (by decide) q1297 rfl rfl rfl rfl dX3_next_148 (fun H locs hM hS => ?_)
          refine lv_aload_n hx hb dX3_next_151 rfl (lv_at hl 1 rfl) ?_
          refine mw_get (v := .int ((fX3_nx3 u).1 27)) hx hb hts hown hK hM 27 (by decide) q1293 rfl rfl dX3_next_152 ?_
          refine lv_istore_n (lv' := [(2, .int ((fX3_nx3 u).1 27)), (1, .int (fX3_nxc u)), (0, .ref o)]) hx hb dX3_next_155 rfl hl (by decide) rfl (fun ls hl => ?_)
          refine mw_loop1 (rest := []) (nL := 3) (r := (lpX3_next_156_r u)) (lpX3_next_156 u) I_156 (fun q => q.1) (fun q => [(2, .int q.2), (1, .int (fX3_nxc u)), (0, .ref o)]) 156 199 9 ((sl (fX3_nx3 u) 31 0 0), (fX3_nx3 u).1 27) (hN8 c_85 c_116).2.1 (hN8 c_85 c_116).1 (hN8 c_85 c_116).2.2 rfl ?_ hM hS (lv_sub hl [0, 1, 2] rfl) ?_
          · skip
            intro ⟨v, k⟩ hI_156 H locs ls hM hS hl kb k1
            have hM : MW D cA o v H := hM
            have hl : lv_has ls 3 [(2, .int k), (1, .int (fX3_nxc u)), (0, .ref o)] := hl
            refine lv_iload_n hx hb dX3_next_156 rfl (lv_at hl 0 rfl) ?_
            refine lv_aload_n hx hb dX3_next_157 rfl (lv_at hl 2 rfl) ?_
            refine mw_get (v := .int (v.1 28)) hx hb hts hown hK hM 28 (by decide) q1294 rfl rfl dX3_next_158 ?_
            refine lv_icmp_ge (tgt := 199) hx hb dX3_next_161 (by decide) (fun c_161 => ?_) (fun c_161 => ?_)
            · skip
              have hs : lpX3_next_156 u (v, k) = (1, v, k) := by rw [lpX3_next_156, if_pos c_161]
              rw [hs] at k1
              exact k1 (show ¬ (1 : Nat) = 0 by decide) _ _ _ hM hS (lv_sub hl [0, 1, 2] rfl)
            · skip
              refine lv_iload_n hx hb dX3_next_164 rfl (lv_at hl 0 rfl) ?_
              refine lv_aload_n hx hb dX3_next_165 rfl (lv_at hl 2 rfl) ?_
              refine mw_get (v := .int (v.1 27)) hx hb hts hown hK hM 27 (by decide) q1293 rfl rfl dX3_next_166 ?_
              refine lv_bipush (v := 8) hx hb dX3_next_169 (by decide) ?_
              refine lv_iadd hx hb dX3_next_171 ?_
              refine lv_icmp_ge (tgt := 199) hx hb dX3_next_172 (by decide) (fun c_172 => ?_) (fun c_172 => ?_)
              · skip
                have hs : lpX3_next_156 u (v, k) = (1, v, k) := by rw [lpX3_next_156, if_neg c_161, if_pos c_172]
                rw [hs] at k1
                exact k1 (show ¬ (1 : Nat) = 0 by decide) _ _ _ hM hS (lv_sub hl [0, 1, 2] rfl)
              · skip
                refine lv_aload_n hx hb dX3_next_175 rfl (lv_at hl 2 rfl) ?_
                refine lv_aload_n hx hb dX3_next_176 rfl (lv_at hl 2 rfl) ?_
                refine mw_get (v := .long (v.2.2 31 0)) hx hb hts hown hK hM 31 (by decide) q1297 rfl rfl dX3_next_177 ?_
                refine lv_bipush (v := 8) hx hb dX3_next_180 (by decide) ?_
                refine lv_lshl hx hb dX3_next_182 rfl ?_
                refine lv_aload_n hx hb dX3_next_183 rfl (lv_at hl 2 rfl) ?_
                refine lv_iload_n hx hb dX3_next_184 rfl (lv_at hl 0 rfl) ?_
                refine ro_call (mw_run (n := 1) (As := [.int k]) (rest := [.long ((v.2.2 31 0) <<< ((8 : Int32).toInt64 &&& 63)), .ref o]) hx hb hml hown hts (metX3_sign l D cA o v k (hN9 c_85 c_116 v k hI_156 c_161 c_172)) q1519 q1521 qs38 q1522 (by decide +kernel) (by decide) (by decide) rfl hK hM hl.1 (Nat.le_of_ble_eq_true rfl) rfl dX3_next_185 ⟨Nat.le_refl _, Nat.le_refl _⟩) ?_
                refine lv_i2l hx hb dX3_next_188 rfl ?_
                refine lv_lor hx hb dX3_next_189 ?_
                refine mw_putl hx hb hts hown hK hM hS 31 (by decide) q1297 rfl rfl rfl rfl dX3_next_190 (fun H locs hM hS => ?_)
                refine lv_iinc (v := k + 1) (lv' := [(2, .int (k + 1)), (1, .int (fX3_nxc u)), (0, .ref o)]) hx hb dX3_next_193 hl (k := 0) rfl (rfl) (by decide) rfl (fun ls hl => ?_)
                refine lv_goto (tgt := 156) hx hb dX3_next_196 (by decide) ?_
                have hs : lpX3_next_156 u (v, k) = (0, (sl v 31 0 (((v.2.2 31 0) <<< ((8 : Int32).toInt64 &&& 63)) ||| ((fX3_sign v k).toInt64))), k + 1) := by rw [lpX3_next_156, if_neg c_161, if_neg c_172]
                rw [hs] at kb
                exact kb rfl _ _ _ hM hS (lv_sub hl [0, 1, 2] rfl)
          · skip
            intro H locs ls hM hS hl
            have hM : MW D cA o (lpX3_next_156_r u).2.1 H := hM
            have hl : lv_has ls 3 [(2, .int ((lpX3_next_156_r u).2.2)), (1, .int (fX3_nxc u)), (0, .ref o)] := hl
            refine lv_aload_n hx hb dX3_next_199 rfl (lv_at hl 2 rfl) ?_
            refine lv_aload_n hx hb dX3_next_200 rfl (lv_at hl 2 rfl) ?_
            refine mw_get (v := .int ((lpX3_next_156_r u).2.1.1 28)) hx hb hts hown hK hM 28 (by decide) q1294 rfl rfl dX3_next_201 ?_
            refine lv_aload_n hx hb dX3_next_204 rfl (lv_at hl 2 rfl) ?_
            refine mw_get (v := .int ((lpX3_next_156_r u).2.1.1 27)) hx hb hts hown hK hM 27 (by decide) q1293 rfl rfl dX3_next_205 ?_
            refine lv_isub hx hb dX3_next_208 ?_
            refine lv_bipush (v := 8) hx hb dX3_next_209 (by decide) ?_
            refine w_ji (ls := ls) (rest := [.ref o]) (E := (if (((lpX3_next_156_r u).2.1.1 28) - ((lpX3_next_156_r u).2.1.1 27)) ≤ 8 then 2 else 1)) 219 ?_ (fun K => ?_)
            · skip
              refine mw_puti hx hb hts hown hK hM hS 29 (by decide) q1295 rfl rfl rfl rfl dX3_next_219 (fun H locs hM hS => ?_)
              refine lv_goto (tgt := 406) hx hb dX3_next_222 (by decide) ?_
              have hF : fX3_next u = (si (lpX3_next_156_r u).2.1 29 (if (((lpX3_next_156_r u).2.1.1 28) - ((lpX3_next_156_r u).2.1.1 27)) ≤ 8 then 2 else 1)) := by rw [fX3_next, if_pos c_85, if_pos c_116]
              exact mw_vret hx hb hr hlk hM hS (by rw [hF]) dX3_next_406
            · skip
              refine lv_icmp_le (tgt := 218) hx hb dX3_next_211 (by decide) (fun c_211 => ?_) (fun c_211 => ?_)
              · skip
                refine lv_iconst (v := 2) hx hb dX3_next_218 (by decide) ?_
                exact K _ (by rw [if_pos c_211])
              · skip
                refine lv_iconst (v := 1) hx hb dX3_next_214 (by decide) ?_
                refine lv_goto (tgt := 219) hx hb dX3_next_215 (by decide) ?_
                exact K _ (by rw [if_neg c_211])
    · skip
      refine lv_aload_n hx hb dX3_next_88 rfl (lv_at hl 1 rfl) ?_
      refine lv_iconst (v := 0) hx hb dX3_next_89 (by decide) ?_
      refine mw_puti hx hb hts hown hK hM hS 29 (by decide) q1295 rfl rfl rfl rfl dX3_next_90 (fun H locs hM hS => ?_)
      refine lv_aload_n hx hb dX3_next_93 rfl (lv_at hl 1 rfl) ?_
      refine lv_aload_n hx hb dX3_next_94 rfl (lv_at hl 1 rfl) ?_
      refine mw_get (v := .int ((fX3_nx1 u).1 24)) hx hb hts hown hK hM 24 (by decide) q1290 rfl rfl dX3_next_95 ?_
      refine mw_puti hx hb hts hown hK hM hS 27 (by decide) q1293 rfl rfl rfl rfl dX3_next_98 (fun H locs hM hS => ?_)
      refine lv_aload_n hx hb dX3_next_101 rfl (lv_at hl 1 rfl) ?_
      refine lv_aload_n hx hb dX3_next_102 rfl (lv_at hl 1 rfl) ?_
      refine mw_get (v := .int ((fX3_nx1 u).1 24)) hx hb hts hown hK hM 24 (by decide) q1290 rfl rfl dX3_next_103 ?_
      refine mw_puti hx hb hts hown hK hM hS 28 (by decide) q1294 rfl rfl rfl rfl dX3_next_106 (fun H locs hM hS => ?_)
      refine lv_goto (tgt := 406) hx hb dX3_next_109 (by decide) ?_
      have hF : fX3_next u = (si (si (si (si (fX3_nx1 u) 28 (((fX3_nx1 u).1 27) + 1)) 29 0) 27 ((fX3_nx1 u).1 24)) 28 ((fX3_nx1 u).1 24)) := by rw [fX3_next, if_neg c_85]
      exact mw_vret hx hb hr hlk hM hS (by rw [hF]) dX3_next_406

def fX3_must (u : St) (b : Bool) : St :=
  if (fX3_isGood u) = true then (if b = true then (fX3_next u) else (fX3_wrong u)) else u
def okX3_must (u : St) (b : Bool) : Prop :=
  ((fX3_isGood u) = true → b = true → okX3_next u)
set_option maxHeartbeats 4000000 in
theorem metX3_must (l : Launch) (D : va_G) (cA : Nat → ClassId) (o : Nat) (u : St) (b : Bool) (hok : okX3_must u b) : MetM l yX3_must cX3_must 2 none 2 D cA o u [.ref o, .int (b2 b)] none (fX3_must u b) := by
  have hN0 := hok
  refine mM_start RX3 (by decide) rfl (Nat.le_of_ble_eq_true rfl) ?_
  intro pg ev s0 mi bl me co hx hb hml hown hts hr hlk hK hM ls hl
  have hl : lv_has ls 2 [(0, .ref o), (1, .int (b2 b))] := hl
  have hS : va_S (mA o) s0.heap s0.heap [] := va_S.rf
  refine lv_aload_n hx hb dX3_must_0 rfl (lv_at hl 0 rfl) ?_
  refine ro_call (mw_run (n := 0) (As := []) (rest := []) hx hb hml hown hts (metX3_isGood l D cA o u ) q1529 q1531 qs39 q1532 (by decide +kernel) (by decide) (by decide) rfl hK hM hl.1 (Nat.le_of_ble_eq_true rfl) rfl dX3_must_1 ⟨Nat.le_refl _, Nat.le_refl _⟩) ?_
  refine lv_B_ne (tgt := 8) hx hb dX3_must_4 (by decide) (fun c_4 => ?_) (fun c_4 => ?_)
  · skip
    refine lv_iload_n hx hb dX3_must_8 rfl (lv_at hl 1 rfl) ?_
    refine lv_B_eq (tgt := 19) hx hb dX3_must_9 (by decide) (fun c_9 => ?_) (fun c_9 => ?_)
    · skip
      refine lv_aload_n hx hb dX3_must_19 rfl (lv_at hl 0 rfl) ?_
      refine mw_call (mw_run (n := 0) (As := []) (rest := []) hx hb hml hown hts (metX3_wrong l D cA o u ) q1542 q1544 qs42 q1545 (by decide +kernel) (by decide) (by decide) rfl hK hM hl.1 (Nat.le_of_ble_eq_true rfl) rfl dX3_must_20 ⟨Nat.le_refl _, Nat.le_refl _⟩) hS (fun _ h => h) (fun H locs hM _ _ hS => ?_)
      have hF : fX3_must u b = (fX3_wrong u) := by rw [fX3_must, if_pos c_4, if_neg (nt_of c_9)]
      exact mw_vret hx hb hr hlk hM hS (by rw [hF]) dX3_must_23
    · skip
      refine lv_aload_n hx hb dX3_must_12 rfl (lv_at hl 0 rfl) ?_
      refine mw_call (mw_run (n := 0) (As := []) (rest := []) hx hb hml hown hts (metX3_next l D cA o u  (hN0 c_4 c_9)) q1515 q1517 qs37 q1518 (by decide +kernel) (by decide) (by decide) rfl hK hM hl.1 (Nat.le_of_ble_eq_true rfl) rfl dX3_must_13 ⟨Nat.le_refl _, Nat.le_refl _⟩) hS (fun _ h => h) (fun H locs hM _ _ hS => ?_)
      refine lv_goto (tgt := 23) hx hb dX3_must_16 (by decide) ?_
      have hF : fX3_must u b = (fX3_next u) := by rw [fX3_must, if_pos c_4, if_pos c_9]
      exact mw_vret hx hb hr hlk hM hS (by rw [hF]) dX3_must_23
  · skip
    have hF : fX3_must u b = u := by rw [fX3_must, if_neg (nt_of c_4)]
    exact mw_vret hx hb hr hlk hM hS (by rw [hF]) dX3_must_7

def fX3_rt1 (u : St) : St :=
  if (u.1 29) = 3 then (if (u.1 42) = 80 then (fX3_wrong u) else u) else (if (fX3_termHere u) < 0 then (fX3_wrong u) else (if (u.1 42) = 80 then (fX3_wrong u) else u))
def fX3_readTerm (u : St)  : St :=
  if (fX3_isGood (fX3_rt1 u)) = true then (fX3_next (fX3_step (si (fX3_rt1 u) 42 (((fX3_rt1 u).1 42) + 1)) (if 0 ≤ (fX3_termHere u) then 116 else 110) (if 0 ≤ (fX3_termHere u) then fX3_termHere u else (fX3_rt1 u).1 30))) else (fX3_rt1 u)
def okX3_readTerm (u : St)  : Prop :=
  ((fX3_isGood (fX3_rt1 u)) = true → okX3_step (si (fX3_rt1 u) 42 (((fX3_rt1 u).1 42) + 1)) (if 0 ≤ (fX3_termHere u) then 116 else 110) (if 0 ≤ (fX3_termHere u) then fX3_termHere u else (fX3_rt1 u).1 30)) ∧ ((fX3_isGood (fX3_rt1 u)) = true → okX3_next (fX3_step (si (fX3_rt1 u) 42 (((fX3_rt1 u).1 42) + 1)) (if 0 ≤ (fX3_termHere u) then 116 else 110) (if 0 ≤ (fX3_termHere u) then fX3_termHere u else (fX3_rt1 u).1 30)))
set_option maxHeartbeats 4000000 in
theorem metX3_readTerm (l : Launch) (D : va_G) (cA : Nat → ClassId) (o : Nat) (u : St)  (hok : okX3_readTerm u) : MetM l yX3_readTerm cX3_readTerm 2 none 2 D cA o u [.ref o] none (fX3_readTerm u) := by
  obtain ⟨hN0, hN1⟩ := hok
  refine mM_start RX3 (by decide) rfl (Nat.le_of_ble_eq_true rfl) ?_
  intro pg ev s0 mi bl me co hx hb hml hown hts hr hlk hK hM ls hl
  have hl : lv_has ls 2 [(0, .ref o)] := hl
  have hS : va_S (mA o) s0.heap s0.heap [] := va_S.rf
  refine lv_aload_n hx hb dX3_readTerm_0 rfl (lv_at hl 0 rfl) ?_
  refine ro_call (mw_run (n := 0) (As := []) (rest := []) hx hb hml hown hts (metX3_termHere l D cA o u ) q1575 q1577 qs50 q1578 (by decide +kernel) (by decide) (by decide) rfl hK hM hl.1 (Nat.le_of_ble_eq_true rfl) rfl dX3_readTerm_1 ⟨Nat.le_refl _, Nat.le_refl _⟩) ?_
  refine lv_istore_n (lv' := [(1, .int (fX3_termHere u)), (0, .ref o)]) hx hb dX3_readTerm_4 rfl hl (by decide) rfl (fun ls hl => ?_)
  refine lv_aload_n hx hb dX3_readTerm_5 rfl (lv_at hl 1 rfl) ?_
  refine mw_get (v := .int (u.1 29)) hx hb hts hown hK hM 29 (by decide) q1295 rfl rfl dX3_readTerm_6 ?_
  refine lv_iconst (v := 3) hx hb dX3_readTerm_9 (by decide) ?_
  refine w_ju (D := D) (cA := cA) (o := o) (H0 := s0.heap) (ls := ls) (rest := []) (E := (fX3_rt1 u)) 30 (fun H locs hM hS => ?_) (fun K => ?_)
  · skip
    refine lv_aload_n hx hb dX3_readTerm_30 rfl (lv_at hl 1 rfl) ?_
    refine ro_call (mw_run (n := 0) (As := []) (rest := []) hx hb hml hown hts (metX3_isGood l D cA o (fX3_rt1 u) ) q1529 q1531 qs39 q1532 (by decide +kernel) (by decide) (by decide) rfl hK hM hl.1 (Nat.le_of_ble_eq_true rfl) rfl dX3_readTerm_31 ⟨Nat.le_refl _, Nat.le_refl _⟩) ?_
    refine lv_B_ne (tgt := 38) hx hb dX3_readTerm_34 (by decide) (fun c_34 => ?_) (fun c_34 => ?_)
    · skip
      refine lv_aload_n hx hb dX3_readTerm_38 rfl (lv_at hl 1 rfl) ?_
      refine lv_dup hx hb dX3_readTerm_39 rfl ?_
      refine mw_get (v := .int ((fX3_rt1 u).1 42)) hx hb hts hown hK hM 42 (by decide) q1308 rfl rfl dX3_readTerm_40 ?_
      refine lv_iconst (v := 1) hx hb dX3_readTerm_43 (by decide) ?_
      refine lv_iadd hx hb dX3_readTerm_44 ?_
      refine mw_puti hx hb hts hown hK hM hS 42 (by decide) q1308 rfl rfl rfl rfl dX3_readTerm_45 (fun H locs hM hS => ?_)
      refine lv_aload_n hx hb dX3_readTerm_48 rfl (lv_at hl 1 rfl) ?_
      refine lv_iload_n hx hb dX3_readTerm_49 rfl (lv_at hl 0 rfl) ?_
      refine w_ji (ls := ls) (rest := [.ref o]) (E := (if 0 ≤ (fX3_termHere u) then 116 else 110)) 60 ?_ (fun K => ?_)
      · skip
        refine lv_iload_n hx hb dX3_readTerm_60 rfl (lv_at hl 0 rfl) ?_
        refine w_ji (ls := ls) (rest := [.int (if 0 ≤ (fX3_termHere u) then 116 else 110), .ref o]) (E := (if 0 ≤ (fX3_termHere u) then fX3_termHere u else (fX3_rt1 u).1 30)) 72 ?_ (fun K => ?_)
        · skip
          refine mw_call (mw_run (n := 2) (As := [.int (if 0 ≤ (fX3_termHere u) then 116 else 110), .int (if 0 ≤ (fX3_termHere u) then fX3_termHere u else (fX3_rt1 u).1 30)]) (rest := []) hx hb hml hown hts (metX3_step l D cA o (si (fX3_rt1 u) 42 (((fX3_rt1 u).1 42) + 1)) (if 0 ≤ (fX3_termHere u) then 116 else 110) (if 0 ≤ (fX3_termHere u) then fX3_termHere u else (fX3_rt1 u).1 30) (hN0 c_34)) q1588 q1590 qs51 q1591 (by decide +kernel) (by decide) (by decide) rfl hK hM hl.1 (Nat.le_of_ble_eq_true rfl) rfl dX3_readTerm_72 ⟨Nat.le_refl _, Nat.le_refl _⟩) hS (fun _ h => h) (fun H locs hM _ _ hS => ?_)
          refine lv_aload_n hx hb dX3_readTerm_75 rfl (lv_at hl 1 rfl) ?_
          refine mw_call (mw_run (n := 0) (As := []) (rest := []) hx hb hml hown hts (metX3_next l D cA o (fX3_step (si (fX3_rt1 u) 42 (((fX3_rt1 u).1 42) + 1)) (if 0 ≤ (fX3_termHere u) then 116 else 110) (if 0 ≤ (fX3_termHere u) then fX3_termHere u else (fX3_rt1 u).1 30))  (hN1 c_34)) q1515 q1517 qs37 q1518 (by decide +kernel) (by decide) (by decide) rfl hK hM hl.1 (Nat.le_of_ble_eq_true rfl) rfl dX3_readTerm_76 ⟨Nat.le_refl _, Nat.le_refl _⟩) hS (fun _ h => h) (fun H locs hM _ _ hS => ?_)
          have hF : fX3_readTerm u = (fX3_next (fX3_step (si (fX3_rt1 u) 42 (((fX3_rt1 u).1 42) + 1)) (if 0 ≤ (fX3_termHere u) then 116 else 110) (if 0 ≤ (fX3_termHere u) then fX3_termHere u else (fX3_rt1 u).1 30))) := by rw [fX3_readTerm, if_pos c_34]
          exact mw_vret hx hb hr hlk hM hS (by rw [hF]) dX3_readTerm_79
        · skip
          refine lv_if_ge (tgt := 71) hx hb dX3_readTerm_61 (by decide) (fun c_61 => ?_) (fun c_61 => ?_)
          · skip
            refine lv_iload_n hx hb dX3_readTerm_71 rfl (lv_at hl 0 rfl) ?_
            exact K _ (by rw [if_pos c_61])
          · skip
            refine lv_aload_n hx hb dX3_readTerm_64 rfl (lv_at hl 1 rfl) ?_
            refine mw_get (v := .int ((fX3_rt1 u).1 30)) hx hb hts hown hK hM 30 (by decide) q1296 rfl rfl dX3_readTerm_65 ?_
            refine lv_goto (tgt := 72) hx hb dX3_readTerm_68 (by decide) ?_
            exact K _ (by rw [if_neg c_61])
      · skip
        refine lv_if_ge (tgt := 58) hx hb dX3_readTerm_50 (by decide) (fun c_50 => ?_) (fun c_50 => ?_)
        · skip
          refine lv_bipush (v := 116) hx hb dX3_readTerm_58 (by decide) ?_
          exact K _ (by rw [if_pos c_50])
        · skip
          refine lv_bipush (v := 110) hx hb dX3_readTerm_53 (by decide) ?_
          refine lv_goto (tgt := 60) hx hb dX3_readTerm_55 (by decide) ?_
          exact K _ (by rw [if_neg c_50])
    · skip
      have hF : fX3_readTerm u = (fX3_rt1 u) := by rw [fX3_readTerm, if_neg (nt_of c_34)]
      exact mw_vret hx hb hr hlk hM hS (by rw [hF]) dX3_readTerm_37
  · skip
    refine lv_icmp_eq (tgt := 17) hx hb dX3_readTerm_10 (by decide) (fun c_10 => ?_) (fun c_10 => ?_)
    · skip
      refine lv_aload_n hx hb dX3_readTerm_17 rfl (lv_at hl 1 rfl) ?_
      refine mw_get (v := .int (u.1 42)) hx hb hts hown hK hM 42 (by decide) q1308 rfl rfl dX3_readTerm_18 ?_
      refine lv_bipush (v := 80) hx hb dX3_readTerm_21 (by decide) ?_
      refine lv_icmp_ne (tgt := 30) hx hb dX3_readTerm_23 (by decide) (fun c_23 => ?_) (fun c_23 => ?_)
      · skip
        exact K _ _ _ hM hS (by rw [fX3_rt1, if_pos c_10, if_neg c_23])
      · skip
        refine lv_aload_n hx hb dX3_readTerm_26 rfl (lv_at hl 1 rfl) ?_
        refine mw_call (mw_run (n := 0) (As := []) (rest := []) hx hb hml hown hts (metX3_wrong l D cA o u ) q1542 q1544 qs42 q1545 (by decide +kernel) (by decide) (by decide) rfl hK hM hl.1 (Nat.le_of_ble_eq_true rfl) rfl dX3_readTerm_27 ⟨Nat.le_refl _, Nat.le_refl _⟩) hS (fun _ h => h) (fun H locs hM _ _ hS => ?_)
        exact K _ _ _ hM hS (by rw [fX3_rt1, if_pos c_10, if_pos c_23])
    · skip
      refine lv_iload_n hx hb dX3_readTerm_13 rfl (lv_at hl 0 rfl) ?_
      refine lv_if_lt (tgt := 26) hx hb dX3_readTerm_14 (by decide) (fun c_14 => ?_) (fun c_14 => ?_)
      · skip
        refine lv_aload_n hx hb dX3_readTerm_26 rfl (lv_at hl 1 rfl) ?_
        refine mw_call (mw_run (n := 0) (As := []) (rest := []) hx hb hml hown hts (metX3_wrong l D cA o u ) q1542 q1544 qs42 q1545 (by decide +kernel) (by decide) (by decide) rfl hK hM hl.1 (Nat.le_of_ble_eq_true rfl) rfl dX3_readTerm_27 ⟨Nat.le_refl _, Nat.le_refl _⟩) hS (fun _ h => h) (fun H locs hM _ _ hS => ?_)
        exact K _ _ _ hM hS (by rw [fX3_rt1, if_neg c_10, if_pos c_14])
      · skip
        refine lv_aload_n hx hb dX3_readTerm_17 rfl (lv_at hl 1 rfl) ?_
        refine mw_get (v := .int (u.1 42)) hx hb hts hown hK hM 42 (by decide) q1308 rfl rfl dX3_readTerm_18 ?_
        refine lv_bipush (v := 80) hx hb dX3_readTerm_21 (by decide) ?_
        refine lv_icmp_ne (tgt := 30) hx hb dX3_readTerm_23 (by decide) (fun c_23 => ?_) (fun c_23 => ?_)
        · skip
          exact K _ _ _ hM hS (by rw [fX3_rt1, if_neg c_10, if_neg c_14, if_neg c_23])
        · skip
          refine lv_aload_n hx hb dX3_readTerm_26 rfl (lv_at hl 1 rfl) ?_
          refine mw_call (mw_run (n := 0) (As := []) (rest := []) hx hb hml hown hts (metX3_wrong l D cA o u ) q1542 q1544 qs42 q1545 (by decide +kernel) (by decide) (by decide) rfl hK hM hl.1 (Nat.le_of_ble_eq_true rfl) rfl dX3_readTerm_27 ⟨Nat.le_refl _, Nat.le_refl _⟩) hS (fun _ h => h) (fun H locs hM _ _ hS => ?_)
          exact K _ _ _ hM hS (by rw [fX3_rt1, if_neg c_10, if_neg c_14, if_pos c_23])

def lpX3_readSum_4 (u : St) : St → Nat × St
  | v => if (fX3_isGood v) = true then (if (if (fX3_is v 43) = true then true else (if (fX3_is v 45) = true then true else false)) = true then (if (fX3_isGood (fX3_readTerm (fX3_next v))) = true then (0, (fX3_step (fX3_readTerm (fX3_next v)) (fX3_sign v (v.1 27)) 0)) else (0, (fX3_readTerm (fX3_next v)))) else (1, v)) else (1, v)
def lpX3_readSum_4_r (u : St) : Nat × St :=
  wh (lpX3_readSum_4 u) 700 (fX3_readTerm u)
def fX3_readSum (u : St)  : St :=
  (lpX3_readSum_4_r u).2
def okX3_readSum (u : St)  : Prop :=
  ∃ (I_4 : St → Prop), (okX3_readTerm u) ∧ (LOK (lpX3_readSum_4 u) 700 (fX3_readTerm u) I_4) ∧ (∀ (v : St), I_4 v → (fX3_isGood v) = true → okX3_is v 43) ∧ (∀ (v : St), I_4 v → (fX3_isGood v) = true → (if (fX3_is v 43) = true then true else (if (fX3_is v 45) = true then true else false)) = true → okX3_sign v (v.1 27)) ∧ (∀ (v : St), I_4 v → (fX3_isGood v) = true → (if (fX3_is v 43) = true then true else (if (fX3_is v 45) = true then true else false)) = true → okX3_next v) ∧ (∀ (v : St), I_4 v → (fX3_isGood v) = true → (if (fX3_is v 43) = true then true else (if (fX3_is v 45) = true then true else false)) = true → okX3_readTerm (fX3_next v)) ∧ (∀ (v : St), I_4 v → (fX3_isGood v) = true → (if (fX3_is v 43) = true then true else (if (fX3_is v 45) = true then true else false)) = true → (fX3_isGood (fX3_readTerm (fX3_next v))) = true → okX3_step (fX3_readTerm (fX3_next v)) (fX3_sign v (v.1 27)) 0) ∧ (∀ (v : St), I_4 v → (fX3_isGood v) = true → (fX3_is v 43) = false → okX3_is v 45)
set_option maxHeartbeats 4000000 in
theorem metX3_readSum (l : Launch) (D : va_G) (cA : Nat → ClassId) (o : Nat) (u : St)  (hok : okX3_readSum u) : MetM l yX3_readSum cX3_readSum 2 none 3 D cA o u [.ref o] none (fX3_readSum u) := by
  obtain ⟨I_4, hN0, hN1, hN2, hN3, hN4, hN5, hN6, hN7⟩ := hok
  refine mM_start RX3 (by decide) rfl (Nat.le_of_ble_eq_true rfl) ?_
  intro pg ev s0 mi bl me co hx hb hml hown hts hr hlk hK hM ls hl
  have hl : lv_has ls 2 [(0, .ref o)] := hl
  have hS : va_S (mA o) s0.heap s0.heap [] := va_S.rf
  refine lv_aload_n hx hb dX3_readSum_0 rfl (lv_at hl 0 rfl) ?_
  refine mw_call (mw_run (n := 0) (As := []) (rest := []) hx hb hml hown hts (metX3_readTerm l D cA o u  hN0) q1571 q1573 qs49 q1574 (by decide +kernel) (by decide) (by decide) rfl hK hM hl.1 (Nat.le_of_ble_eq_true rfl) rfl dX3_readSum_1 ⟨Nat.le_refl _, Nat.le_refl _⟩) hS (fun _ h => h) (fun H locs hM _ _ hS => ?_)
  refine mw_loop1 (rest := []) (nL := 2) (r := (lpX3_readSum_4_r u)) (lpX3_readSum_4 u) I_4 (fun q => q) (fun q => [(0, .ref o)]) 4 62 700 (fX3_readTerm u) hN1.2.1 hN1.1 hN1.2.2 rfl ?_ hM hS (lv_sub hl [0] rfl) ?_
  · skip
    intro v hI_4 H locs ls hM hS hl kb k1
    have hM : MW D cA o v H := hM
    have hl : lv_has ls 2 [(0, .ref o)] := hl
    refine lv_aload_n hx hb dX3_readSum_4 rfl (lv_at hl 0 rfl) ?_
    refine ro_call (mw_run (n := 0) (As := []) (rest := []) hx hb hml hown hts (metX3_isGood l D cA o v ) q1529 q1531 qs39 q1532 (by decide +kernel) (by decide) (by decide) rfl hK hM hl.1 (Nat.le_of_ble_eq_true rfl) rfl dX3_readSum_5 ⟨Nat.le_refl _, Nat.le_refl _⟩) ?_
    refine lv_B_eq (tgt := 62) hx hb dX3_readSum_8 (by decide) (fun c_8 => ?_) (fun c_8 => ?_)
    · skip
      have hs : lpX3_readSum_4 u v = (1, v) := by rw [lpX3_readSum_4, if_neg (nt_of c_8)]
      rw [hs] at k1
      exact k1 (show ¬ (1 : Nat) = 0 by decide) _ _ _ hM hS (lv_sub hl [0] rfl)
    · skip
      refine lv_aload_n hx hb dX3_readSum_11 rfl (lv_at hl 0 rfl) ?_
      refine lv_bipush (v := 43) hx hb dX3_readSum_12 (by decide) ?_
      refine ro_call (mw_run (n := 1) (As := [.int 43]) (rest := []) hx hb hml hown hts (metX3_is l D cA o v 43 (hN2 v hI_4 c_8)) q1562 q1564 qs47 q1565 (by decide +kernel) (by decide) (by decide) rfl hK hM hl.1 (Nat.le_of_ble_eq_true rfl) rfl dX3_readSum_14 ⟨Nat.le_refl _, Nat.le_refl _⟩) ?_
      refine w_jb (ls := ls) (rest := []) (B := (if (fX3_is v 43) = true then true else (if (fX3_is v 45) = true then true else false))) 29 62 (fun c_17 => ?_) (fun c_17 => ?_) (fun KT KF => ?_)
      · skip
        refine lv_aload_n hx hb dX3_readSum_29 rfl (lv_at hl 0 rfl) ?_
        refine lv_aload_n hx hb dX3_readSum_30 rfl (lv_at hl 0 rfl) ?_
        refine mw_get (v := .int (v.1 27)) hx hb hts hown hK hM 27 (by decide) q1293 rfl rfl dX3_readSum_31 ?_
        refine ro_call (mw_run (n := 1) (As := [.int (v.1 27)]) (rest := []) hx hb hml hown hts (metX3_sign l D cA o v (v.1 27) (hN3 v hI_4 c_8 c_17)) q1519 q1521 qs38 q1522 (by decide +kernel) (by decide) (by decide) rfl hK hM hl.1 (Nat.le_of_ble_eq_true rfl) rfl dX3_readSum_34 ⟨Nat.le_refl _, Nat.le_refl _⟩) ?_
        refine lv_istore_n (lv' := [(1, .int (fX3_sign v (v.1 27))), (0, .ref o)]) hx hb dX3_readSum_37 rfl hl (by decide) rfl (fun ls hl => ?_)
        refine lv_aload_n hx hb dX3_readSum_38 rfl (lv_at hl 1 rfl) ?_
        refine mw_call (mw_run (n := 0) (As := []) (rest := []) hx hb hml hown hts (metX3_next l D cA o v  (hN4 v hI_4 c_8 c_17)) q1515 q1517 qs37 q1518 (by decide +kernel) (by decide) (by decide) rfl hK hM hl.1 (Nat.le_of_ble_eq_true rfl) rfl dX3_readSum_39 ⟨Nat.le_refl _, Nat.le_refl _⟩) hS (fun _ h => h) (fun H locs hM _ _ hS => ?_)
        refine lv_aload_n hx hb dX3_readSum_42 rfl (lv_at hl 1 rfl) ?_
        refine mw_call (mw_run (n := 0) (As := []) (rest := []) hx hb hml hown hts (metX3_readTerm l D cA o (fX3_next v)  (hN5 v hI_4 c_8 c_17)) q1571 q1573 qs49 q1574 (by decide +kernel) (by decide) (by decide) rfl hK hM hl.1 (Nat.le_of_ble_eq_true rfl) rfl dX3_readSum_43 ⟨Nat.le_refl _, Nat.le_refl _⟩) hS (fun _ h => h) (fun H locs hM _ _ hS => ?_)
        refine lv_aload_n hx hb dX3_readSum_46 rfl (lv_at hl 1 rfl) ?_
        refine ro_call (mw_run (n := 0) (As := []) (rest := []) hx hb hml hown hts (metX3_isGood l D cA o (fX3_readTerm (fX3_next v)) ) q1529 q1531 qs39 q1532 (by decide +kernel) (by decide) (by decide) rfl hK hM hl.1 (Nat.le_of_ble_eq_true rfl) rfl dX3_readSum_47 ⟨Nat.le_refl _, Nat.le_refl _⟩) ?_
        refine lv_B_eq (tgt := 59) hx hb dX3_readSum_50 (by decide) (fun c_50 => ?_) (fun c_50 => ?_)
        · skip
          refine lv_goto (tgt := 4) hx hb dX3_readSum_59 (by decide) ?_
          have hs : lpX3_readSum_4 u v = (0, (fX3_readTerm (fX3_next v))) := by rw [lpX3_readSum_4, if_pos c_8, if_pos c_17, if_neg (nt_of c_50)]
          rw [hs] at kb
          exact kb rfl _ _ _ hM hS (lv_sub hl [1] rfl)
        · skip
          refine lv_aload_n hx hb dX3_readSum_53 rfl (lv_at hl 1 rfl) ?_
          refine lv_iload_n hx hb dX3_readSum_54 rfl (lv_at hl 0 rfl) ?_
          refine lv_iconst (v := 0) hx hb dX3_readSum_55 (by decide) ?_
          refine mw_call (mw_run (n := 2) (As := [.int (fX3_sign v (v.1 27)), .int 0]) (rest := []) hx hb hml hown hts (metX3_step l D cA o (fX3_readTerm (fX3_next v)) (fX3_sign v (v.1 27)) 0 (hN6 v hI_4 c_8 c_17 c_50)) q1588 q1590 qs51 q1591 (by decide +kernel) (by decide) (by decide) rfl hK hM hl.1 (Nat.le_of_ble_eq_true rfl) rfl dX3_readSum_56 ⟨Nat.le_refl _, Nat.le_refl _⟩) hS (fun _ h => h) (fun H locs hM _ _ hS => ?_)
          refine lv_goto (tgt := 4) hx hb dX3_readSum_59 (by decide) ?_
          have hs : lpX3_readSum_4 u v = (0, (fX3_step (fX3_readTerm (fX3_next v)) (fX3_sign v (v.1 27)) 0)) := by rw [lpX3_readSum_4, if_pos c_8, if_pos c_17, if_pos c_50]
          rw [hs] at kb
          exact kb rfl _ _ _ hM hS (lv_sub hl [1] rfl)
      · skip
        have hs : lpX3_readSum_4 u v = (1, v) := by rw [lpX3_readSum_4, if_pos c_8, if_neg (nt_of c_17)]
        rw [hs] at k1
        exact k1 (show ¬ (1 : Nat) = 0 by decide) _ _ _ hM hS (lv_sub hl [0] rfl)
      · skip
        refine lv_B_ne (tgt := 29) hx hb dX3_readSum_17 (by decide) (fun c_17 => ?_) (fun c_17 => ?_)
        · skip
          exact KT (by rw [if_pos c_17])
        · skip
          refine lv_aload_n hx hb dX3_readSum_20 rfl (lv_at hl 0 rfl) ?_
          refine lv_bipush (v := 45) hx hb dX3_readSum_21 (by decide) ?_
          refine ro_call (mw_run (n := 1) (As := [.int 45]) (rest := []) hx hb hml hown hts (metX3_is l D cA o v 45 (hN7 v hI_4 c_8 c_17)) q1562 q1564 qs47 q1565 (by decide +kernel) (by decide) (by decide) rfl hK hM hl.1 (Nat.le_of_ble_eq_true rfl) rfl dX3_readSum_23 ⟨Nat.le_refl _, Nat.le_refl _⟩) ?_
          refine lv_B_eq (tgt := 62) hx hb dX3_readSum_26 (by decide) (fun c_26 => ?_) (fun c_26 => ?_)
          · skip
            exact KF (by rw [if_neg (nt_of c_17), if_neg (nt_of c_26)])
          · skip
            exact KT (by rw [if_neg (nt_of c_17), if_pos c_26])
  · skip
    intro H locs ls hM hS hl
    have hM : MW D cA o (lpX3_readSum_4_r u).2 H := hM
    have hl : lv_has ls 2 [(0, .ref o)] := hl
    have hF : fX3_readSum u = (lpX3_readSum_4_r u).2 := by rw [fX3_readSum]
    exact mw_vret hx hb hr hlk hM hS (by rw [hF]) dX3_readSum_62

def fX3_on1 (u : St) : Bool :=
  if (fX3_is u 40) = true then true else (if (fX3_isWord u 7237492) = true then true else false)
def fX3_on3 (u : St) : St :=
  (fX3_next (fX3_pile u (if (fX3_is u 40) = true then 4 else 3)))
def fX3_on4 (u : St) : St :=
  (fX3_readSum u)
def fX3_on2 (u : St) : Bool :=
  if (fX3_is (fX3_on4 u) 60) = true then true else (if (fX3_is (fX3_on4 u) 62) = true then true else (if (fX3_is (fX3_on4 u) 61) = true then true else false))
def fX3_on5 (u : St) : St :=
  (fX3_next (fX3_on4 u))
def fX3_one (u : St)  : Bool × St :=
  if (fX3_on1 u) = true then (if (((fX3_on3 u).1 45) + 1) < 6 then (true, (si (fX3_on3 u) 45 (((fX3_on3 u).1 45) + 1))) else (true, (fX3_wrong (si (fX3_on3 u) 45 (((fX3_on3 u).1 45) + 1))))) else (if (fX3_isGood (fX3_on4 u)) = true then (if (fX3_on2 u) = true then (if (fX3_isGood (fX3_readSum (fX3_on5 u))) = true then (false, (fX3_step (fX3_readSum (fX3_on5 u)) (fX3_sign (fX3_on4 u) ((fX3_on4 u).1 27)) 0)) else (false, (fX3_readSum (fX3_on5 u)))) else (false, (fX3_on4 u))) else (true, (fX3_on4 u)))
def okX3_one (u : St)  : Prop :=
  (okX3_is u 40) ∧ ((fX3_on1 u) = true → okX3_pile u (if (fX3_is u 40) = true then 4 else 3)) ∧ ((fX3_on1 u) = true → okX3_next (fX3_pile u (if (fX3_is u 40) = true then 4 else 3))) ∧ ((fX3_on1 u) = false → okX3_readSum u) ∧ ((fX3_on1 u) = false → (fX3_isGood (fX3_on4 u)) = true → okX3_is (fX3_on4 u) 60) ∧ ((fX3_on1 u) = false → (fX3_isGood (fX3_on4 u)) = true → (fX3_on2 u) = true → okX3_sign (fX3_on4 u) ((fX3_on4 u).1 27)) ∧ ((fX3_on1 u) = false → (fX3_isGood (fX3_on4 u)) = true → (fX3_on2 u) = true → okX3_next (fX3_on4 u)) ∧ ((fX3_on1 u) = false → (fX3_isGood (fX3_on4 u)) = true → (fX3_on2 u) = true → okX3_readSum (fX3_on5 u)) ∧ ((fX3_on1 u) = false → (fX3_isGood (fX3_on4 u)) = true → (fX3_on2 u) = true → (fX3_isGood (fX3_readSum (fX3_on5 u))) = true → okX3_step (fX3_readSum (fX3_on5 u)) (fX3_sign (fX3_on4 u) ((fX3_on4 u).1 27)) 0) ∧ ((fX3_on1 u) = false → (fX3_isGood (fX3_on4 u)) = true → (fX3_is (fX3_on4 u) 60) = false → okX3_is (fX3_on4 u) 62) ∧ ((fX3_on1 u) = false → (fX3_isGood (fX3_on4 u)) = true → (fX3_is (fX3_on4 u) 60) = false → (fX3_is (fX3_on4 u) 62) = false → okX3_is (fX3_on4 u) 61)
set_option maxHeartbeats 4000000 in
theorem metX3_one (l : Launch) (D : va_G) (cA : Nat → ClassId) (o : Nat) (u : St)  (hok : okX3_one u) : MetM l yX3_one cX3_one 2 (some .boolean) 4 D cA o u [.ref o] (some (.int (b2 (fX3_one u).1))) (fX3_one u).2 := by
  obtain ⟨hN0, hN1, hN2, hN3, hN4, hN5, hN6, hN7, hN8, hN9, hN10⟩ := hok
  refine mM_start RX3 (by decide) rfl (Nat.le_of_ble_eq_true rfl) ?_
  intro pg ev s0 mi bl me co hx hb hml hown hts hr hlk hK hM ls hl
  have hl : lv_has ls 2 [(0, .ref o)] := hl
  have hS : va_S (mA o) s0.heap s0.heap [] := va_S.rf
  refine lv_aload_n hx hb dX3_one_0 rfl (lv_at hl 0 rfl) ?_
  refine lv_bipush (v := 40) hx hb dX3_one_1 (by decide) ?_
  refine ro_call (mw_run (n := 1) (As := [.int 40]) (rest := []) hx hb hml hown hts (metX3_is l D cA o u 40 hN0) q1562 q1564 qs47 q1565 (by decide +kernel) (by decide) (by decide) rfl hK hM hl.1 (Nat.le_of_ble_eq_true rfl) rfl dX3_one_3 ⟨Nat.le_refl _, Nat.le_refl _⟩) ?_
  refine w_jb (ls := ls) (rest := []) (B := (fX3_on1 u)) 19 66 (fun c_6 => ?_) (fun c_6 => ?_) (fun KT KF => ?_)
  · skip
    refine lv_aload_n hx hb dX3_one_19 rfl (lv_at hl 0 rfl) ?_
    refine lv_aload_n hx hb dX3_one_20 rfl (lv_at hl 0 rfl) ?_
    refine lv_bipush (v := 40) hx hb dX3_one_21 (by decide) ?_
    refine ro_call (mw_run (n := 1) (As := [.int 40]) (rest := [.ref o]) hx hb hml hown hts (metX3_is l D cA o u 40 hN0) q1562 q1564 qs47 q1565 (by decide +kernel) (by decide) (by decide) rfl hK hM hl.1 (Nat.le_of_ble_eq_true rfl) rfl dX3_one_23 ⟨Nat.le_refl _, Nat.le_refl _⟩) ?_
    refine w_ji (ls := ls) (rest := [.ref o]) (E := (if (fX3_is u 40) = true then 4 else 3)) 34 ?_ (fun K => ?_)
    · skip
      refine mw_call (mw_run (n := 1) (As := [.int (if (fX3_is u 40) = true then 4 else 3)]) (rest := []) hx hb hml hown hts (metX3_pile l D cA o u (if (fX3_is u 40) = true then 4 else 3) (hN1 c_6)) q1554 q1556 qs45 q1557 (by decide +kernel) (by decide) (by decide) rfl hK hM hl.1 (Nat.le_of_ble_eq_true rfl) rfl dX3_one_34 ⟨Nat.le_refl _, Nat.le_refl _⟩) hS (fun _ h => h) (fun H locs hM _ _ hS => ?_)
      refine lv_aload_n hx hb dX3_one_37 rfl (lv_at hl 0 rfl) ?_
      refine mw_call (mw_run (n := 0) (As := []) (rest := []) hx hb hml hown hts (metX3_next l D cA o (fX3_pile u (if (fX3_is u 40) = true then 4 else 3))  (hN2 c_6)) q1515 q1517 qs37 q1518 (by decide +kernel) (by decide) (by decide) rfl hK hM hl.1 (Nat.le_of_ble_eq_true rfl) rfl dX3_one_38 ⟨Nat.le_refl _, Nat.le_refl _⟩) hS (fun _ h => h) (fun H locs hM _ _ hS => ?_)
      refine lv_aload_n hx hb dX3_one_41 rfl (lv_at hl 0 rfl) ?_
      have hM : MW D cA o (fX3_on3 u) _ := hM
      refine lv_dup hx hb dX3_one_42 rfl ?_
      refine mw_get (v := .int ((fX3_on3 u).1 45)) hx hb hts hown hK hM 45 (by decide) q1311 rfl rfl dX3_one_43 ?_
      refine lv_iconst (v := 1) hx hb dX3_one_46 (by decide) ?_
      refine lv_iadd hx hb dX3_one_47 ?_
      refine mw_puti hx hb hts hown hK hM hS 45 (by decide) q1311 rfl rfl rfl rfl dX3_one_48 (fun H locs hM hS => ?_)
      refine lv_aload_n hx hb dX3_one_51 rfl (lv_at hl 0 rfl) ?_
      refine mw_get (v := .int (((fX3_on3 u).1 45) + 1)) hx hb hts hown hK hM 45 (by decide) q1311 rfl rfl dX3_one_52 ?_
      refine lv_bipush (v := 6) hx hb dX3_one_55 (by decide) ?_
      refine lv_icmp_lt (tgt := 64) hx hb dX3_one_57 (by decide) (fun c_57 => ?_) (fun c_57 => ?_)
      · skip
        refine lv_iconst (v := 1) hx hb dX3_one_64 (by decide) ?_
        have hF : fX3_one u = (true, (si (fX3_on3 u) 45 (((fX3_on3 u).1 45) + 1))) := by rw [fX3_one, if_pos c_6, if_pos c_57]
        exact mw_zret hx hb hr hlk hM hS (by rw [hF]; rfl) (by rw [hF]) dX3_one_65
      · skip
        refine lv_aload_n hx hb dX3_one_60 rfl (lv_at hl 0 rfl) ?_
        refine mw_call (mw_run (n := 0) (As := []) (rest := []) hx hb hml hown hts (metX3_wrong l D cA o (si (fX3_on3 u) 45 (((fX3_on3 u).1 45) + 1)) ) q1542 q1544 qs42 q1545 (by decide +kernel) (by decide) (by decide) rfl hK hM hl.1 (Nat.le_of_ble_eq_true rfl) rfl dX3_one_61 ⟨Nat.le_refl _, Nat.le_refl _⟩) hS (fun _ h => h) (fun H locs hM _ _ hS => ?_)
        refine lv_iconst (v := 1) hx hb dX3_one_64 (by decide) ?_
        have hF : fX3_one u = (true, (fX3_wrong (si (fX3_on3 u) 45 (((fX3_on3 u).1 45) + 1)))) := by rw [fX3_one, if_pos c_6, if_neg c_57]
        exact mw_zret hx hb hr hlk hM hS (by rw [hF]; rfl) (by rw [hF]) dX3_one_65
    · skip
      refine lv_B_eq (tgt := 33) hx hb dX3_one_26 (by decide) (fun c_26 => ?_) (fun c_26 => ?_)
      · skip
        refine lv_iconst (v := 3) hx hb dX3_one_33 (by decide) ?_
        exact K _ (by rw [if_neg (nt_of c_26)])
      · skip
        refine lv_iconst (v := 4) hx hb dX3_one_29 (by decide) ?_
        refine lv_goto (tgt := 34) hx hb dX3_one_30 (by decide) ?_
        exact K _ (by rw [if_pos c_26])
  · skip
    refine lv_aload_n hx hb dX3_one_66 rfl (lv_at hl 0 rfl) ?_
    refine mw_call (mw_run (n := 0) (As := []) (rest := []) hx hb hml hown hts (metX3_readSum l D cA o u  (hN3 c_6)) q1567 q1569 qs48 q1570 (by decide +kernel) (by decide) (by decide) rfl hK hM hl.1 (Nat.le_of_ble_eq_true rfl) rfl dX3_one_67 ⟨Nat.le_refl _, Nat.le_refl _⟩) hS (fun _ h => h) (fun H locs hM _ _ hS => ?_)
    have hM : MW D cA o (fX3_on4 u) _ := hM
    refine lv_aload_n hx hb dX3_one_70 rfl (lv_at hl 0 rfl) ?_
    refine ro_call (mw_run (n := 0) (As := []) (rest := []) hx hb hml hown hts (metX3_isGood l D cA o (fX3_on4 u) ) q1529 q1531 qs39 q1532 (by decide +kernel) (by decide) (by decide) rfl hK hM hl.1 (Nat.le_of_ble_eq_true rfl) rfl dX3_one_71 ⟨Nat.le_refl _, Nat.le_refl _⟩) ?_
    refine lv_B_ne (tgt := 79) hx hb dX3_one_74 (by decide) (fun c_74 => ?_) (fun c_74 => ?_)
    · skip
      refine lv_aload_n hx hb dX3_one_79 rfl (lv_at hl 0 rfl) ?_
      refine lv_bipush (v := 60) hx hb dX3_one_80 (by decide) ?_
      refine ro_call (mw_run (n := 1) (As := [.int 60]) (rest := []) hx hb hml hown hts (metX3_is l D cA o (fX3_on4 u) 60 (hN4 c_6 c_74)) q1562 q1564 qs47 q1565 (by decide +kernel) (by decide) (by decide) rfl hK hM hl.1 (Nat.le_of_ble_eq_true rfl) rfl dX3_one_82 ⟨Nat.le_refl _, Nat.le_refl _⟩) ?_
      refine w_jb (ls := ls) (rest := []) (B := (fX3_on2 u)) 108 106 (fun c_85 => ?_) (fun c_85 => ?_) (fun KT KF => ?_)
      · skip
        refine lv_aload_n hx hb dX3_one_108 rfl (lv_at hl 0 rfl) ?_
        refine lv_aload_n hx hb dX3_one_109 rfl (lv_at hl 0 rfl) ?_
        refine mw_get (v := .int ((fX3_on4 u).1 27)) hx hb hts hown hK hM 27 (by decide) q1293 rfl rfl dX3_one_110 ?_
        refine ro_call (mw_run (n := 1) (As := [.int ((fX3_on4 u).1 27)]) (rest := []) hx hb hml hown hts (metX3_sign l D cA o (fX3_on4 u) ((fX3_on4 u).1 27) (hN5 c_6 c_74 c_85)) q1519 q1521 qs38 q1522 (by decide +kernel) (by decide) (by decide) rfl hK hM hl.1 (Nat.le_of_ble_eq_true rfl) rfl dX3_one_113 ⟨Nat.le_refl _, Nat.le_refl _⟩) ?_
        refine lv_istore_n (lv' := [(1, .int (fX3_sign (fX3_on4 u) ((fX3_on4 u).1 27))), (0, .ref o)]) hx hb dX3_one_116 rfl hl (by decide) rfl (fun ls hl => ?_)
        refine lv_aload_n hx hb dX3_one_117 rfl (lv_at hl 1 rfl) ?_
        refine mw_call (mw_run (n := 0) (As := []) (rest := []) hx hb hml hown hts (metX3_next l D cA o (fX3_on4 u)  (hN6 c_6 c_74 c_85)) q1515 q1517 qs37 q1518 (by decide +kernel) (by decide) (by decide) rfl hK hM hl.1 (Nat.le_of_ble_eq_true rfl) rfl dX3_one_118 ⟨Nat.le_refl _, Nat.le_refl _⟩) hS (fun _ h => h) (fun H locs hM _ _ hS => ?_)
        have hM : MW D cA o (fX3_on5 u) _ := hM
        refine lv_aload_n hx hb dX3_one_121 rfl (lv_at hl 1 rfl) ?_
        refine mw_call (mw_run (n := 0) (As := []) (rest := []) hx hb hml hown hts (metX3_readSum l D cA o (fX3_on5 u)  (hN7 c_6 c_74 c_85)) q1567 q1569 qs48 q1570 (by decide +kernel) (by decide) (by decide) rfl hK hM hl.1 (Nat.le_of_ble_eq_true rfl) rfl dX3_one_122 ⟨Nat.le_refl _, Nat.le_refl _⟩) hS (fun _ h => h) (fun H locs hM _ _ hS => ?_)
        refine lv_aload_n hx hb dX3_one_125 rfl (lv_at hl 1 rfl) ?_
        refine ro_call (mw_run (n := 0) (As := []) (rest := []) hx hb hml hown hts (metX3_isGood l D cA o (fX3_readSum (fX3_on5 u)) ) q1529 q1531 qs39 q1532 (by decide +kernel) (by decide) (by decide) rfl hK hM hl.1 (Nat.le_of_ble_eq_true rfl) rfl dX3_one_126 ⟨Nat.le_refl _, Nat.le_refl _⟩) ?_
        refine lv_B_eq (tgt := 138) hx hb dX3_one_129 (by decide) (fun c_129 => ?_) (fun c_129 => ?_)
        · skip
          refine lv_iconst (v := 0) hx hb dX3_one_138 (by decide) ?_
          have hF : fX3_one u = (false, (fX3_readSum (fX3_on5 u))) := by rw [fX3_one, if_neg (nt_of c_6), if_pos c_74, if_pos c_85, if_neg (nt_of c_129)]
          exact mw_zret hx hb hr hlk hM hS (by rw [hF]; rfl) (by rw [hF]) dX3_one_139
        · skip
          refine lv_aload_n hx hb dX3_one_132 rfl (lv_at hl 1 rfl) ?_
          refine lv_iload_n hx hb dX3_one_133 rfl (lv_at hl 0 rfl) ?_
          refine lv_iconst (v := 0) hx hb dX3_one_134 (by decide) ?_
          refine mw_call (mw_run (n := 2) (As := [.int (fX3_sign (fX3_on4 u) ((fX3_on4 u).1 27)), .int 0]) (rest := []) hx hb hml hown hts (metX3_step l D cA o (fX3_readSum (fX3_on5 u)) (fX3_sign (fX3_on4 u) ((fX3_on4 u).1 27)) 0 (hN8 c_6 c_74 c_85 c_129)) q1588 q1590 qs51 q1591 (by decide +kernel) (by decide) (by decide) rfl hK hM hl.1 (Nat.le_of_ble_eq_true rfl) rfl dX3_one_135 ⟨Nat.le_refl _, Nat.le_refl _⟩) hS (fun _ h => h) (fun H locs hM _ _ hS => ?_)
          refine lv_iconst (v := 0) hx hb dX3_one_138 (by decide) ?_
          have hF : fX3_one u = (false, (fX3_step (fX3_readSum (fX3_on5 u)) (fX3_sign (fX3_on4 u) ((fX3_on4 u).1 27)) 0)) := by rw [fX3_one, if_neg (nt_of c_6), if_pos c_74, if_pos c_85, if_pos c_129]
          exact mw_zret hx hb hr hlk hM hS (by rw [hF]; rfl) (by rw [hF]) dX3_one_139
      · skip
        refine lv_iconst (v := 0) hx hb dX3_one_106 (by decide) ?_
        have hF : fX3_one u = (false, (fX3_on4 u)) := by rw [fX3_one, if_neg (nt_of c_6), if_pos c_74, if_neg (nt_of c_85)]
        exact mw_zret hx hb hr hlk hM hS (by rw [hF]; rfl) (by rw [hF]) dX3_one_107
      · skip
        refine lv_B_ne (tgt := 108) hx hb dX3_one_85 (by decide) (fun c_85 => ?_) (fun c_85 => ?_)
        · skip
          exact KT (by rw [fX3_on2, if_pos c_85])
        · skip
          refine lv_aload_n hx hb dX3_one_88 rfl (lv_at hl 0 rfl) ?_
          refine lv_bipush (v := 62) hx hb dX3_one_89 (by decide) ?_
          refine ro_call (mw_run (n := 1) (As := [.int 62]) (rest := []) hx hb hml hown hts (metX3_is l D cA o (fX3_on4 u) 62 (hN9 c_6 c_74 c_85)) q1562 q1564 qs47 q1565 (by decide +kernel) (by decide) (by decide) rfl hK hM hl.1 (Nat.le_of_ble_eq_true rfl) rfl dX3_one_91 ⟨Nat.le_refl _, Nat.le_refl _⟩) ?_
          refine lv_B_ne (tgt := 108) hx hb dX3_one_94 (by decide) (fun c_94 => ?_) (fun c_94 => ?_)
          · skip
            exact KT (by rw [fX3_on2, if_neg (nt_of c_85), if_pos c_94])
          · skip
            refine lv_aload_n hx hb dX3_one_97 rfl (lv_at hl 0 rfl) ?_
            refine lv_bipush (v := 61) hx hb dX3_one_98 (by decide) ?_
            refine ro_call (mw_run (n := 1) (As := [.int 61]) (rest := []) hx hb hml hown hts (metX3_is l D cA o (fX3_on4 u) 61 (hN10 c_6 c_74 c_85 c_94)) q1562 q1564 qs47 q1565 (by decide +kernel) (by decide) (by decide) rfl hK hM hl.1 (Nat.le_of_ble_eq_true rfl) rfl dX3_one_100 ⟨Nat.le_refl _, Nat.le_refl _⟩) ?_
            refine lv_B_ne (tgt := 108) hx hb dX3_one_103 (by decide) (fun c_103 => ?_) (fun c_103 => ?_)
            · skip
              exact KT (by rw [fX3_on2, if_neg (nt_of c_85), if_neg (nt_of c_94), if_pos c_103])
            · skip
              exact KF (by rw [fX3_on2, if_neg (nt_of c_85), if_neg (nt_of c_94), if_neg (nt_of c_103)])
    · skip
      refine lv_iconst (v := 1) hx hb dX3_one_77 (by decide) ?_
      have hF : fX3_one u = (true, (fX3_on4 u)) := by rw [fX3_one, if_neg (nt_of c_6), if_neg (nt_of c_74)]
      exact mw_zret hx hb hr hlk hM hS (by rw [hF]; rfl) (by rw [hF]) dX3_one_78
  · skip
    refine lv_B_ne (tgt := 19) hx hb dX3_one_6 (by decide) (fun c_6 => ?_) (fun c_6 => ?_)
    · skip
      exact KT (by rw [fX3_on1, if_pos c_6])
    · skip
      refine lv_aload_n hx hb dX3_one_9 rfl (lv_at hl 0 rfl) ?_
      refine lv_ldc2 (v := 7237492) hx hb hown (hts _ q1566) dX3_one_10 ?_
      refine ro_call (mw_run (n := 1) (As := [.long 7237492]) (rest := []) hx hb hml hown hts (metX3_isWord l D cA o u 7237492) q1538 q1540 qs41 q1541 (by decide +kernel) (by decide) (by decide) rfl hK hM hl.1 (Nat.le_of_ble_eq_true rfl) rfl dX3_one_13 ⟨Nat.le_refl _, Nat.le_refl _⟩) ?_
      refine lv_B_eq (tgt := 66) hx hb dX3_one_16 (by decide) (fun c_16 => ?_) (fun c_16 => ?_)
      · skip
        exact KF (by rw [fX3_on1, if_neg (nt_of c_6), if_neg (nt_of c_16)])
      · skip
        exact KT (by rw [fX3_on1, if_neg (nt_of c_6), if_pos c_16])

def fX3_bh1 (u : St) : Int32 :=
  if (fX3_isWord u 6385252) = true then 2 else (if (fX3_isWord u 28530) = true then 1 else 0)
def fX3_bh2 (u : St) (v : St) : St :=
  if (v.2.1 43 (((v.1 44) - 1).toNatClampNeg)) = 3 then (si (si v 44 ((v.1 44) - 1)) 45 ((v.1 45) - 1)) else (si v 44 ((v.1 44) - 1))
def fX3_bh3 (u : St) (v : St) : Int32 :=
  if ((fX3_bh2 u v).2.1 43 (((fX3_bh2 u v).1 44).toNatClampNeg)) = 3 then 126 else (if ((fX3_bh2 u v).2.1 43 (((fX3_bh2 u v).1 44).toNatClampNeg)) = 2 then 38 else 124)
def lpX3_behind_30 (u : St) : St → Nat × St
  | v => if 3 < (v.2.1 43 (((v.1 44) - 1).toNatClampNeg)) then (1, v) else (if (v.2.1 43 (((v.1 44) - 1).toNatClampNeg)) < (fX3_bh1 u) then (1, v) else (0, (fX3_step (fX3_bh2 u v) (fX3_bh3 u v) 0)))
def lpX3_behind_30_r (u : St) : Nat × St :=
  wh (lpX3_behind_30 u) 61 u
def fX3_bh4 (u : St) : St :=
  (lpX3_behind_30_r u).2
def fX3_behind (u : St)  : Bool × St :=
  if (fX3_bh1 u) ≤ 0 then (if ((fX3_bh4 u).2.1 43 ((((fX3_bh4 u).1 44) - 1).toNatClampNeg)) = 4 then (false, (fX3_must (si (si (fX3_bh4 u) 44 (((fX3_bh4 u).1 44) - 1)) 45 (((fX3_bh4 u).1 45) - 1)) (fX3_is (si (si (fX3_bh4 u) 44 (((fX3_bh4 u).1 44) - 1)) 45 (((fX3_bh4 u).1 45) - 1)) 41))) else (false, (si (fX3_bh4 u) 44 (((fX3_bh4 u).1 44) - 1)))) else (true, (fX3_next (fX3_pile (fX3_bh4 u) (fX3_bh1 u))))
def okX3_behind (u : St)  : Prop :=
  ∃ (I_30 : St → Prop), (LOK (lpX3_behind_30 u) 61 u I_30) ∧ (∀ (v : St), I_30 v → vp_in ((v.1 44) - 1) 60) ∧ (∀ (v : St), I_30 v → ¬ (3 < (v.2.1 43 (((v.1 44) - 1).toNatClampNeg))) → ¬ ((v.2.1 43 (((v.1 44) - 1).toNatClampNeg)) < (fX3_bh1 u)) → vp_in ((fX3_bh2 u v).1 44) 60) ∧ (∀ (v : St), I_30 v → ¬ (3 < (v.2.1 43 (((v.1 44) - 1).toNatClampNeg))) → ¬ ((v.2.1 43 (((v.1 44) - 1).toNatClampNeg)) < (fX3_bh1 u)) → okX3_step (fX3_bh2 u v) (fX3_bh3 u v) 0) ∧ ((fX3_bh1 u) ≤ 0 → vp_in (((fX3_bh4 u).1 44) - 1) 60) ∧ ((fX3_bh1 u) ≤ 0 → ((fX3_bh4 u).2.1 43 ((((fX3_bh4 u).1 44) - 1).toNatClampNeg)) = 4 → okX3_is (si (si (fX3_bh4 u) 44 (((fX3_bh4 u).1 44) - 1)) 45 (((fX3_bh4 u).1 45) - 1)) 41) ∧ ((fX3_bh1 u) ≤ 0 → ((fX3_bh4 u).2.1 43 ((((fX3_bh4 u).1 44) - 1).toNatClampNeg)) = 4 → okX3_must (si (si (fX3_bh4 u) 44 (((fX3_bh4 u).1 44) - 1)) 45 (((fX3_bh4 u).1 45) - 1)) (fX3_is (si (si (fX3_bh4 u) 44 (((fX3_bh4 u).1 44) - 1)) 45 (((fX3_bh4 u).1 45) - 1)) 41)) ∧ (¬ ((fX3_bh1 u) ≤ 0) → okX3_pile (fX3_bh4 u) (fX3_bh1 u)) ∧ (¬ ((fX3_bh1 u) ≤ 0) → okX3_next (fX3_pile (fX3_bh4 u) (fX3_bh1 u)))
set_option maxHeartbeats 4000000 in
theorem metX3_behind (l : Launch) (D : va_G) (cA : Nat → ClassId) (o : Nat) (u : St)  (hok : okX3_behind u) : MetM l yX3_behind cX3_behind 2 (some .boolean) 3 D cA o u [.ref o] (some (.int (b2 (fX3_behind u).1))) (fX3_behind u).2 := by
  obtain ⟨I_30, hN0, hN1, hN2, hN3, hN4, hN5, hN6, hN7, hN8⟩ := hok
  refine mM_start RX3 (by decide) rfl (Nat.le_of_ble_eq_true rfl) ?_
  intro pg ev s0 mi bl me co hx hb hml hown hts hr hlk hK hM ls hl
  have hl : lv_has ls 2 [(0, .ref o)] := hl
  have hS : va_S (mA o) s0.heap s0.heap [] := va_S.rf
  refine lv_aload_n hx hb dX3_behind_0 rfl (lv_at hl 0 rfl) ?_
  refine lv_ldc2 (v := 6385252) hx hb hown (hts _ q1596) dX3_behind_1 ?_
  refine ro_call (mw_run (n := 1) (As := [.long 6385252]) (rest := []) hx hb hml hown hts (metX3_isWord l D cA o u 6385252) q1538 q1540 qs41 q1541 (by decide +kernel) (by decide) (by decide) rfl hK hM hl.1 (Nat.le_of_ble_eq_true rfl) rfl dX3_behind_4 ⟨Nat.le_refl _, Nat.le_refl _⟩) ?_
  refine w_ji (ls := ls) (rest := []) (E := (fX3_bh1 u)) 29 ?_ (fun K => ?_)
  · skip
    refine lv_istore_n (lv' := [(1, .int (fX3_bh1 u)), (0, .ref o)]) hx hb dX3_behind_29 rfl hl (by decide) rfl (fun ls hl => ?_)
    refine mw_loop1 (rest := []) (nL := 2) (r := (lpX3_behind_30_r u)) (lpX3_behind_30 u) I_30 (fun q => q) (fun q => [(1, .int (fX3_bh1 u)), (0, .ref o)]) 30 139 61 u hN0.2.1 hN0.1 hN0.2.2 rfl ?_ hM hS (lv_sub hl [0, 1] rfl) ?_
    · skip
      intro v hI_30 H locs ls hM hS hl kb k1
      have hM : MW D cA o v H := hM
      have hl : lv_has ls 2 [(1, .int (fX3_bh1 u)), (0, .ref o)] := hl
      refine lv_aload_n hx hb dX3_behind_30 rfl (lv_at hl 1 rfl) ?_
      refine mw_get (v := .ref (mAd o 43)) hx hb hts hown hK hM 43 (by decide) q1309 rfl rfl dX3_behind_31 ?_
      refine lv_aload_n hx hb dX3_behind_34 rfl (lv_at hl 1 rfl) ?_
      refine mw_get (v := .int (v.1 44)) hx hb hts hown hK hM 44 (by decide) q1310 rfl rfl dX3_behind_35 ?_
      refine lv_iconst (v := 1) hx hb dX3_behind_38 (by decide) ?_
      refine lv_isub hx hb dX3_behind_39 ?_
      refine mw_ild (v := v.2.1 43 (((v.1 44) - 1).toNatClampNeg)) (j := ((v.1 44) - 1).toNatClampNeg) hx hb hK hM 43 (by decide) rfl rfl (hN1 v hI_30) rfl rfl dX3_behind_40 ?_
      refine lv_iconst (v := 3) hx hb dX3_behind_41 (by decide) ?_
      refine lv_icmp_gt (tgt := 139) hx hb dX3_behind_42 (by decide) (fun c_42 => ?_) (fun c_42 => ?_)
      · skip
        have hs : lpX3_behind_30 u v = (1, v) := by rw [lpX3_behind_30, if_pos c_42]
        rw [hs] at k1
        exact k1 (show ¬ (1 : Nat) = 0 by decide) _ _ _ hM hS (lv_sub hl [0, 1] rfl)
      · skip
        refine lv_aload_n hx hb dX3_behind_45 rfl (lv_at hl 1 rfl) ?_
        refine mw_get (v := .ref (mAd o 43)) hx hb hts hown hK hM 43 (by decide) q1309 rfl rfl dX3_behind_46 ?_
        refine lv_aload_n hx hb dX3_behind_49 rfl (lv_at hl 1 rfl) ?_
        refine mw_get (v := .int (v.1 44)) hx hb hts hown hK hM 44 (by decide) q1310 rfl rfl dX3_behind_50 ?_
        refine lv_iconst (v := 1) hx hb dX3_behind_53 (by decide) ?_
        refine lv_isub hx hb dX3_behind_54 ?_
        refine mw_ild (v := v.2.1 43 (((v.1 44) - 1).toNatClampNeg)) (j := ((v.1 44) - 1).toNatClampNeg) hx hb hK hM 43 (by decide) rfl rfl (hN1 v hI_30) rfl rfl dX3_behind_55 ?_
        refine lv_iload_n hx hb dX3_behind_56 rfl (lv_at hl 0 rfl) ?_
        refine lv_icmp_lt (tgt := 139) hx hb dX3_behind_57 (by decide) (fun c_57 => ?_) (fun c_57 => ?_)
        · skip
          have hs : lpX3_behind_30 u v = (1, v) := by rw [lpX3_behind_30, if_neg c_42, if_pos c_57]
          rw [hs] at k1
          exact k1 (show ¬ (1 : Nat) = 0 by decide) _ _ _ hM hS (lv_sub hl [0, 1] rfl)
        · skip
          refine lv_aload_n hx hb dX3_behind_60 rfl (lv_at hl 1 rfl) ?_
          refine lv_dup hx hb dX3_behind_61 rfl ?_
          refine mw_get (v := .int (v.1 44)) hx hb hts hown hK hM 44 (by decide) q1310 rfl rfl dX3_behind_62 ?_
          refine lv_iconst (v := 1) hx hb dX3_behind_65 (by decide) ?_
          refine lv_isub hx hb dX3_behind_66 ?_
          refine mw_puti hx hb hts hown hK hM hS 44 (by decide) q1310 rfl rfl rfl rfl dX3_behind_67 (fun H locs hM hS => ?_)
          refine lv_aload_n hx hb dX3_behind_70 rfl (lv_at hl 1 rfl) ?_
          refine mw_get (v := .ref (mAd o 43)) hx hb hts hown hK hM 43 (by decide) q1309 rfl rfl dX3_behind_71 ?_
          refine lv_aload_n hx hb dX3_behind_74 rfl (lv_at hl 1 rfl) ?_
          refine mw_get (v := .int ((v.1 44) - 1)) hx hb hts hown hK hM 44 (by decide) q1310 rfl rfl dX3_behind_75 ?_
          refine mw_ild (v := v.2.1 43 (((v.1 44) - 1).toNatClampNeg)) (j := ((v.1 44) - 1).toNatClampNeg) hx hb hK hM 43 (by decide) rfl rfl (hN1 v hI_30) rfl rfl dX3_behind_78 ?_
          refine lv_iconst (v := 3) hx hb dX3_behind_79 (by decide) ?_
          refine w_ju (D := D) (cA := cA) (o := o) (H0 := s0.heap) (ls := ls) (rest := []) (E := (fX3_bh2 u v)) 93 (fun H locs hM hS => ?_) (fun K => ?_)
          · skip
            refine lv_aload_n hx hb dX3_behind_93 rfl (lv_at hl 1 rfl) ?_
            refine lv_aload_n hx hb dX3_behind_94 rfl (lv_at hl 1 rfl) ?_
            refine mw_get (v := .ref (mAd o 43)) hx hb hts hown hK hM 43 (by decide) q1309 rfl rfl dX3_behind_95 ?_
            refine lv_aload_n hx hb dX3_behind_98 rfl (lv_at hl 1 rfl) ?_
            refine mw_get (v := .int ((fX3_bh2 u v).1 44)) hx hb hts hown hK hM 44 (by decide) q1310 rfl rfl dX3_behind_99 ?_
            refine mw_ild (v := (fX3_bh2 u v).2.1 43 (((fX3_bh2 u v).1 44).toNatClampNeg)) (j := ((fX3_bh2 u v).1 44).toNatClampNeg) hx hb hK hM 43 (by decide) rfl rfl (hN2 v hI_30 c_42 c_57) rfl rfl dX3_behind_102 ?_
            refine lv_iconst (v := 3) hx hb dX3_behind_103 (by decide) ?_
            refine w_ji (ls := ls) (rest := [.ref o]) (E := (fX3_bh3 u v)) 132 ?_ (fun K => ?_)
            · skip
              refine lv_iconst (v := 0) hx hb dX3_behind_132 (by decide) ?_
              refine mw_call (mw_run (n := 2) (As := [.int (fX3_bh3 u v), .int 0]) (rest := []) hx hb hml hown hts (metX3_step l D cA o (fX3_bh2 u v) (fX3_bh3 u v) 0 (hN3 v hI_30 c_42 c_57)) q1588 q1590 qs51 q1591 (by decide +kernel) (by decide) (by decide) rfl hK hM hl.1 (Nat.le_of_ble_eq_true rfl) rfl dX3_behind_133 ⟨Nat.le_refl _, Nat.le_refl _⟩) hS (fun _ h => h) (fun H locs hM _ _ hS => ?_)
              refine lv_goto (tgt := 30) hx hb dX3_behind_136 (by decide) ?_
              have hs : lpX3_behind_30 u v = (0, (fX3_step (fX3_bh2 u v) (fX3_bh3 u v) 0)) := by rw [lpX3_behind_30, if_neg c_42, if_neg c_57]
              rw [hs] at kb
              exact kb rfl _ _ _ hM hS (lv_sub hl [0, 1] rfl)
            · skip
              refine lv_icmp_ne (tgt := 112) hx hb dX3_behind_104 (by decide) (fun c_104 => ?_) (fun c_104 => ?_)
              · skip
                refine lv_aload_n hx hb dX3_behind_112 rfl (lv_at hl 1 rfl) ?_
                refine mw_get (v := .ref (mAd o 43)) hx hb hts hown hK hM 43 (by decide) q1309 rfl rfl dX3_behind_113 ?_
                refine lv_aload_n hx hb dX3_behind_116 rfl (lv_at hl 1 rfl) ?_
                refine mw_get (v := .int ((fX3_bh2 u v).1 44)) hx hb hts hown hK hM 44 (by decide) q1310 rfl rfl dX3_behind_117 ?_
                refine mw_ild (v := (fX3_bh2 u v).2.1 43 (((fX3_bh2 u v).1 44).toNatClampNeg)) (j := ((fX3_bh2 u v).1 44).toNatClampNeg) hx hb hK hM 43 (by decide) rfl rfl (hN2 v hI_30 c_42 c_57) rfl rfl dX3_behind_120 ?_
                refine lv_iconst (v := 2) hx hb dX3_behind_121 (by decide) ?_
                refine lv_icmp_ne (tgt := 130) hx hb dX3_behind_122 (by decide) (fun c_122 => ?_) (fun c_122 => ?_)
                · skip
                  refine lv_bipush (v := 124) hx hb dX3_behind_130 (by decide) ?_
                  exact K _ (by rw [fX3_bh3, if_neg c_104, if_neg c_122])
                · skip
                  refine lv_bipush (v := 38) hx hb dX3_behind_125 (by decide) ?_
                  refine lv_goto (tgt := 132) hx hb dX3_behind_127 (by decide) ?_
                  exact K _ (by rw [fX3_bh3, if_neg c_104, if_pos c_122])
              · skip
                refine lv_bipush (v := 126) hx hb dX3_behind_107 (by decide) ?_
                refine lv_goto (tgt := 132) hx hb dX3_behind_109 (by decide) ?_
                exact K _ (by rw [fX3_bh3, if_pos c_104])
          · skip
            refine lv_icmp_ne (tgt := 93) hx hb dX3_behind_80 (by decide) (fun c_80 => ?_) (fun c_80 => ?_)
            · skip
              exact K _ _ _ hM hS (by rw [fX3_bh2, if_neg c_80])
            · skip
              refine lv_aload_n hx hb dX3_behind_83 rfl (lv_at hl 1 rfl) ?_
              refine lv_dup hx hb dX3_behind_84 rfl ?_
              refine mw_get (v := .int (v.1 45)) hx hb hts hown hK hM 45 (by decide) q1311 rfl rfl dX3_behind_85 ?_
              refine lv_iconst (v := 1) hx hb dX3_behind_88 (by decide) ?_
              refine lv_isub hx hb dX3_behind_89 ?_
              refine mw_puti hx hb hts hown hK hM hS 45 (by decide) q1311 rfl rfl rfl rfl dX3_behind_90 (fun H locs hM hS => ?_)
              exact K _ _ _ hM hS (by rw [fX3_bh2, if_pos c_80])
    · skip
      intro H locs ls hM hS hl
      have hM : MW D cA o (lpX3_behind_30_r u).2 H := hM
      have hl : lv_has ls 2 [(1, .int (fX3_bh1 u)), (0, .ref o)] := hl
      have hM : MW D cA o (fX3_bh4 u) _ := hM
      refine lv_iload_n hx hb dX3_behind_139 rfl (lv_at hl 0 rfl) ?_
      refine lv_if_le (tgt := 154) hx hb dX3_behind_140 (by decide) (fun c_140 => ?_) (fun c_140 => ?_)
      · skip
        refine lv_aload_n hx hb dX3_behind_154 rfl (lv_at hl 1 rfl) ?_
        refine lv_dup hx hb dX3_behind_155 rfl ?_
        refine mw_get (v := .int ((fX3_bh4 u).1 44)) hx hb hts hown hK hM 44 (by decide) q1310 rfl rfl dX3_behind_156 ?_
        refine lv_iconst (v := 1) hx hb dX3_behind_159 (by decide) ?_
        refine lv_isub hx hb dX3_behind_160 ?_
        refine mw_puti hx hb hts hown hK hM hS 44 (by decide) q1310 rfl rfl rfl rfl dX3_behind_161 (fun H locs hM hS => ?_)
        refine lv_aload_n hx hb dX3_behind_164 rfl (lv_at hl 1 rfl) ?_
        refine mw_get (v := .ref (mAd o 43)) hx hb hts hown hK hM 43 (by decide) q1309 rfl rfl dX3_behind_165 ?_
        refine lv_aload_n hx hb dX3_behind_168 rfl (lv_at hl 1 rfl) ?_
        refine mw_get (v := .int (((fX3_bh4 u).1 44) - 1)) hx hb hts hown hK hM 44 (by decide) q1310 rfl rfl dX3_behind_169 ?_
        refine mw_ild (v := (fX3_bh4 u).2.1 43 ((((fX3_bh4 u).1 44) - 1).toNatClampNeg)) (j := (((fX3_bh4 u).1 44) - 1).toNatClampNeg) hx hb hK hM 43 (by decide) rfl rfl (hN4 c_140) rfl rfl dX3_behind_172 ?_
        refine lv_iconst (v := 4) hx hb dX3_behind_173 (by decide) ?_
        refine lv_icmp_ne (tgt := 197) hx hb dX3_behind_174 (by decide) (fun c_174 => ?_) (fun c_174 => ?_)
        · skip
          refine lv_iconst (v := 0) hx hb dX3_behind_197 (by decide) ?_
          have hF : fX3_behind u = (false, (si (fX3_bh4 u) 44 (((fX3_bh4 u).1 44) - 1))) := by rw [fX3_behind, if_pos c_140, if_neg c_174]
          exact mw_zret hx hb hr hlk hM hS (by rw [hF]; rfl) (by rw [hF]) dX3_behind_198
        · skip
          refine lv_aload_n hx hb dX3_behind_177 rfl (lv_at hl 1 rfl) ?_
          refine lv_dup hx hb dX3_behind_178 rfl ?_
          refine mw_get (v := .int ((fX3_bh4 u).1 45)) hx hb hts hown hK hM 45 (by decide) q1311 rfl rfl dX3_behind_179 ?_
          refine lv_iconst (v := 1) hx hb dX3_behind_182 (by decide) ?_
          refine lv_isub hx hb dX3_behind_183 ?_
          refine mw_puti hx hb hts hown hK hM hS 45 (by decide) q1311 rfl rfl rfl rfl dX3_behind_184 (fun H locs hM hS => ?_)
          refine lv_aload_n hx hb dX3_behind_187 rfl (lv_at hl 1 rfl) ?_
          refine lv_aload_n hx hb dX3_behind_188 rfl (lv_at hl 1 rfl) ?_
          refine lv_bipush (v := 41) hx hb dX3_behind_189 (by decide) ?_
          refine ro_call (mw_run (n := 1) (As := [.int 41]) (rest := [.ref o]) hx hb hml hown hts (metX3_is l D cA o (si (si (fX3_bh4 u) 44 (((fX3_bh4 u).1 44) - 1)) 45 (((fX3_bh4 u).1 45) - 1)) 41 (hN5 c_140 c_174)) q1562 q1564 qs47 q1565 (by decide +kernel) (by decide) (by decide) rfl hK hM hl.1 (Nat.le_of_ble_eq_true rfl) rfl dX3_behind_191 ⟨Nat.le_refl _, Nat.le_refl _⟩) ?_
          refine mw_call (mw_run (n := 1) (As := [.int (b2 (fX3_is (si (si (fX3_bh4 u) 44 (((fX3_bh4 u).1 44) - 1)) 45 (((fX3_bh4 u).1 45) - 1)) 41))]) (rest := []) hx hb hml hown hts (metX3_must l D cA o (si (si (fX3_bh4 u) 44 (((fX3_bh4 u).1 44) - 1)) 45 (((fX3_bh4 u).1 45) - 1)) (fX3_is (si (si (fX3_bh4 u) 44 (((fX3_bh4 u).1 44) - 1)) 45 (((fX3_bh4 u).1 45) - 1)) 41) (hN6 c_140 c_174)) q1598 q1600 qs53 q1601 (by decide +kernel) (by decide) (by decide) rfl hK hM hl.1 (Nat.le_of_ble_eq_true rfl) rfl dX3_behind_194 ⟨Nat.le_refl _, Nat.le_refl _⟩) hS (fun _ h => h) (fun H locs hM _ _ hS => ?_)
          refine lv_iconst (v := 0) hx hb dX3_behind_197 (by decide) ?_
          have hF : fX3_behind u = (false, (fX3_must (si (si (fX3_bh4 u) 44 (((fX3_bh4 u).1 44) - 1)) 45 (((fX3_bh4 u).1 45) - 1)) (fX3_is (si (si (fX3_bh4 u) 44 (((fX3_bh4 u).1 44) - 1)) 45 (((fX3_bh4 u).1 45) - 1)) 41))) := by rw [fX3_behind, if_pos c_140, if_pos c_174]
          exact mw_zret hx hb hr hlk hM hS (by rw [hF]; rfl) (by rw [hF]) dX3_behind_198
      · skip
        refine lv_aload_n hx hb dX3_behind_143 rfl (lv_at hl 1 rfl) ?_
        refine lv_iload_n hx hb dX3_behind_144 rfl (lv_at hl 0 rfl) ?_
        refine mw_call (mw_run (n := 1) (As := [.int (fX3_bh1 u)]) (rest := []) hx hb hml hown hts (metX3_pile l D cA o (fX3_bh4 u) (fX3_bh1 u) (hN7 c_140)) q1554 q1556 qs45 q1557 (by decide +kernel) (by decide) (by decide) rfl hK hM hl.1 (Nat.le_of_ble_eq_true rfl) rfl dX3_behind_145 ⟨Nat.le_refl _, Nat.le_refl _⟩) hS (fun _ h => h) (fun H locs hM _ _ hS => ?_)
        refine lv_aload_n hx hb dX3_behind_148 rfl (lv_at hl 1 rfl) ?_
        refine mw_call (mw_run (n := 0) (As := []) (rest := []) hx hb hml hown hts (metX3_next l D cA o (fX3_pile (fX3_bh4 u) (fX3_bh1 u))  (hN8 c_140)) q1515 q1517 qs37 q1518 (by decide +kernel) (by decide) (by decide) rfl hK hM hl.1 (Nat.le_of_ble_eq_true rfl) rfl dX3_behind_149 ⟨Nat.le_refl _, Nat.le_refl _⟩) hS (fun _ h => h) (fun H locs hM _ _ hS => ?_)
        refine lv_iconst (v := 1) hx hb dX3_behind_152 (by decide) ?_
        have hF : fX3_behind u = (true, (fX3_next (fX3_pile (fX3_bh4 u) (fX3_bh1 u)))) := by rw [fX3_behind, if_neg c_140]
        exact mw_zret hx hb hr hlk hM hS (by rw [hF]; rfl) (by rw [hF]) dX3_behind_153
  · skip
    refine lv_B_eq (tgt := 14) hx hb dX3_behind_7 (by decide) (fun c_7 => ?_) (fun c_7 => ?_)
    · skip
      refine lv_aload_n hx hb dX3_behind_14 rfl (lv_at hl 0 rfl) ?_
      refine lv_ldc2 (v := 28530) hx hb hown (hts _ q1597) dX3_behind_15 ?_
      refine ro_call (mw_run (n := 1) (As := [.long 28530]) (rest := []) hx hb hml hown hts (metX3_isWord l D cA o u 28530) q1538 q1540 qs41 q1541 (by decide +kernel) (by decide) (by decide) rfl hK hM hl.1 (Nat.le_of_ble_eq_true rfl) rfl dX3_behind_18 ⟨Nat.le_refl _, Nat.le_refl _⟩) ?_
      refine lv_B_eq (tgt := 28) hx hb dX3_behind_21 (by decide) (fun c_21 => ?_) (fun c_21 => ?_)
      · skip
        refine lv_iconst (v := 0) hx hb dX3_behind_28 (by decide) ?_
        exact K _ (by rw [fX3_bh1, if_neg (nt_of c_7), if_neg (nt_of c_21)])
      · skip
        refine lv_iconst (v := 1) hx hb dX3_behind_24 (by decide) ?_
        refine lv_goto (tgt := 29) hx hb dX3_behind_25 (by decide) ?_
        exact K _ (by rw [fX3_bh1, if_neg (nt_of c_7), if_pos c_21])
    · skip
      refine lv_iconst (v := 2) hx hb dX3_behind_10 (by decide) ?_
      refine lv_goto (tgt := 29) hx hb dX3_behind_11 (by decide) ?_
      exact K _ (by rw [fX3_bh1, if_pos c_7])

def lpX3_e_17 (u : St) : St × Int32 → Nat × St × Int32
  | (v, wt) => if (fX3_isGood v) = true then (if (v.1 44) ≤ 0 then (1, v, wt) else (if wt = 0 then (0, (fX3_behind v).2, b2 ((fX3_behind v).1)) else (0, (fX3_one v).2, b2 ((fX3_one v).1)))) else (1, v, wt)
def lpX3_e_17_r (u : St) : Nat × St × Int32 :=
  wh (lpX3_e_17 u) 4000 ((fX3_pile (si (si u 44 0) 45 0) 5), 1)
def fX3_e (u : St)  : St :=
  (lpX3_e_17_r u).2.1
def okX3_e (u : St)  : Prop :=
  ∃ (I_17 : (St × Int32) → Prop), (okX3_pile (si (si u 44 0) 45 0) 5) ∧ (LOK (lpX3_e_17 u) 4000 ((fX3_pile (si (si u 44 0) 45 0) 5), 1) I_17) ∧ (∀ (v : St) (wt : Int32), I_17 (v, wt) → (fX3_isGood v) = true → ¬ ((v.1 44) ≤ 0) → wt = 0 → okX3_behind v) ∧ (∀ (v : St) (wt : Int32), I_17 (v, wt) → (fX3_isGood v) = true → ¬ ((v.1 44) ≤ 0) → ¬ (wt = 0) → okX3_one v)
set_option maxHeartbeats 4000000 in
theorem metX3_e (l : Launch) (D : va_G) (cA : Nat → ClassId) (o : Nat) (u : St)  (hok : okX3_e u) : MetM l yX3_e cX3_e 2 none 5 D cA o u [.ref o] none (fX3_e u) := by
  obtain ⟨I_17, hN0, hN1, hN2, hN3⟩ := hok
  refine mM_start RX3 (by decide) rfl (Nat.le_of_ble_eq_true rfl) ?_
  intro pg ev s0 mi bl me co hx hb hml hown hts hr hlk hK hM ls hl
  have hl : lv_has ls 2 [(0, .ref o)] := hl
  have hS : va_S (mA o) s0.heap s0.heap [] := va_S.rf
  refine lv_aload_n hx hb dX3_e_0 rfl (lv_at hl 0 rfl) ?_
  refine lv_iconst (v := 0) hx hb dX3_e_1 (by decide) ?_
  refine mw_puti hx hb hts hown hK hM hS 44 (by decide) q1310 rfl rfl rfl rfl dX3_e_2 (fun H locs hM hS => ?_)
  refine lv_aload_n hx hb dX3_e_5 rfl (lv_at hl 0 rfl) ?_
  refine lv_iconst (v := 0) hx hb dX3_e_6 (by decide) ?_
  refine mw_puti hx hb hts hown hK hM hS 45 (by decide) q1311 rfl rfl rfl rfl dX3_e_7 (fun H locs hM hS => ?_)
  refine lv_aload_n hx hb dX3_e_10 rfl (lv_at hl 0 rfl) ?_
  refine lv_iconst (v := 5) hx hb dX3_e_11 (by decide) ?_
  refine mw_call (mw_run (n := 1) (As := [.int 5]) (rest := []) hx hb hml hown hts (metX3_pile l D cA o (si (si u 44 0) 45 0) 5 hN0) q1554 q1556 qs45 q1557 (by decide +kernel) (by decide) (by decide) rfl hK hM hl.1 (Nat.le_of_ble_eq_true rfl) rfl dX3_e_12 ⟨Nat.le_refl _, Nat.le_refl _⟩) hS (fun _ h => h) (fun H locs hM _ _ hS => ?_)
  refine lv_iconst (v := 1) hx hb dX3_e_15 (by decide) ?_
  refine lv_istore_n (lv' := [(1, .int 1), (0, .ref o)]) hx hb dX3_e_16 rfl hl (by decide) rfl (fun ls hl => ?_)
  refine mw_loop1 (rest := []) (nL := 2) (r := (lpX3_e_17_r u)) (lpX3_e_17 u) I_17 (fun q => q.1) (fun q => [(1, .int q.2), (0, .ref o)]) 17 50 4000 ((fX3_pile (si (si u 44 0) 45 0) 5), 1) hN1.2.1 hN1.1 hN1.2.2 rfl ?_ hM hS (lv_sub hl [0, 1] rfl) ?_
  · skip
    intro ⟨v, wt⟩ hI_17 H locs ls hM hS hl kb k1
    have hM : MW D cA o v H := hM
    have hl : lv_has ls 2 [(1, .int wt), (0, .ref o)] := hl
    refine lv_aload_n hx hb dX3_e_17 rfl (lv_at hl 1 rfl) ?_
    refine ro_call (mw_run (n := 0) (As := []) (rest := []) hx hb hml hown hts (metX3_isGood l D cA o v ) q1529 q1531 qs39 q1532 (by decide +kernel) (by decide) (by decide) rfl hK hM hl.1 (Nat.le_of_ble_eq_true rfl) rfl dX3_e_18 ⟨Nat.le_refl _, Nat.le_refl _⟩) ?_
    refine lv_B_eq (tgt := 50) hx hb dX3_e_21 (by decide) (fun c_21 => ?_) (fun c_21 => ?_)
    · skip
      have hs : lpX3_e_17 u (v, wt) = (1, v, wt) := by rw [lpX3_e_17, if_neg (nt_of c_21)]
      rw [hs] at k1
      exact k1 (show ¬ (1 : Nat) = 0 by decide) _ _ _ hM hS (lv_sub hl [0, 1] rfl)
    · skip
      refine lv_aload_n hx hb dX3_e_24 rfl (lv_at hl 1 rfl) ?_
      refine mw_get (v := .int (v.1 44)) hx hb hts hown hK hM 44 (by decide) q1310 rfl rfl dX3_e_25 ?_
      refine lv_if_le (tgt := 50) hx hb dX3_e_28 (by decide) (fun c_28 => ?_) (fun c_28 => ?_)
      · skip
        have hs : lpX3_e_17 u (v, wt) = (1, v, wt) := by rw [lpX3_e_17, if_pos c_21, if_pos c_28]
        rw [hs] at k1
        exact k1 (show ¬ (1 : Nat) = 0 by decide) _ _ _ hM hS (lv_sub hl [0, 1] rfl)
      · skip
        refine lv_iload_n hx hb dX3_e_31 rfl (lv_at hl 0 rfl) ?_
        refine lv_if_eq (tgt := 42) hx hb dX3_e_32 (by decide) (fun c_32 => ?_) (fun c_32 => ?_)
        · skip
          refine lv_aload_n hx hb dX3_e_42 rfl (lv_at hl 1 rfl) ?_
          refine mw_call (mw_run (n := 0) (As := []) (rest := []) hx hb hml hown hts (metX3_behind l D cA o v  (hN2 v wt hI_17 c_21 c_28 c_32)) q1592 q1594 qs52 q1595 (by decide +kernel) (by decide) (by decide) rfl hK hM hl.1 (Nat.le_of_ble_eq_true rfl) rfl dX3_e_43 ⟨Nat.le_refl _, Nat.le_refl _⟩) hS (fun _ h => h) (fun H locs hM _ _ hS => ?_)
          refine lv_istore_n (lv' := [(1, .int (b2 ((fX3_behind v).1))), (0, .ref o)]) hx hb dX3_e_46 rfl hl (by decide) rfl (fun ls hl => ?_)
          refine lv_goto (tgt := 17) hx hb dX3_e_47 (by decide) ?_
          have hs : lpX3_e_17 u (v, wt) = (0, (fX3_behind v).2, b2 ((fX3_behind v).1)) := by rw [lpX3_e_17, if_pos c_21, if_neg c_28, if_pos c_32]
          rw [hs] at kb
          exact kb rfl _ _ _ hM hS (lv_sub hl [0, 1] rfl)
        · skip
          refine lv_aload_n hx hb dX3_e_35 rfl (lv_at hl 1 rfl) ?_
          refine mw_call (mw_run (n := 0) (As := []) (rest := []) hx hb hml hown hts (metX3_one l D cA o v  (hN3 v wt hI_17 c_21 c_28 c_32)) q1558 q1560 qs46 q1561 (by decide +kernel) (by decide) (by decide) rfl hK hM hl.1 (Nat.le_of_ble_eq_true rfl) rfl dX3_e_36 ⟨Nat.le_refl _, Nat.le_refl _⟩) hS (fun _ h => h) (fun H locs hM _ _ hS => ?_)
          refine lv_goto (tgt := 46) hx hb dX3_e_39 (by decide) ?_
          refine lv_istore_n (lv' := [(1, .int (b2 ((fX3_one v).1))), (0, .ref o)]) hx hb dX3_e_46 rfl hl (by decide) rfl (fun ls hl => ?_)
          refine lv_goto (tgt := 17) hx hb dX3_e_47 (by decide) ?_
          have hs : lpX3_e_17 u (v, wt) = (0, (fX3_one v).2, b2 ((fX3_one v).1)) := by rw [lpX3_e_17, if_pos c_21, if_neg c_28, if_neg c_32]
          rw [hs] at kb
          exact kb rfl _ _ _ hM hS (lv_sub hl [0, 1] rfl)
  · skip
    intro H locs ls hM hS hl
    have hM : MW D cA o (lpX3_e_17_r u).2.1 H := hM
    have hl : lv_has ls 2 [(1, .int ((lpX3_e_17_r u).2.2)), (0, .ref o)] := hl
    have hF : fX3_e u = (lpX3_e_17_r u).2.1 := by rw [fX3_e]
    exact mw_vret hx hb hr hlk hM hS (by rw [hF]) dX3_e_50
