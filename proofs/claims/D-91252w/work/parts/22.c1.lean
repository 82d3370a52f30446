/-! THE COMPONENT: methods, by tools/gen_c1.py. f..: what it answers and does; ok..: what it asks (n: how many papers there are) -/
set_option maxRecDepth 100000

def fX4_cn (f : Nat → Int32) (k : Int32) : Bool :=
  if k < (f 7) then false else (if (f 8) < 0 then true else (if (f 8) ≤ k then false else true))
def fX4_counts (u : St) (i k : Int32) : Bool := fX4_cn (fun j => u.2.1 (60 + j) i.toNatClampNeg) k
set_option maxHeartbeats 4000000 in
theorem metX4_counts (l : Launch) (D : va_G) (cA : Nat → ClassId) (a : Nat) (f : Nat → Int32) (k : Int32) : Met l yX4_counts (ws_ yX4_counts cX4_counts 2 (some .boolean)) (rmC 0 0 0) (gP D cA (fun H => t_OB a (D.1 3) 9 (D.2 3) H (fun j => .int (f j))) [.ref a, .int k]) (rQ (some (.int (b2 (fX4_cn f k))))) 0 0 noA := by
  refine gM_start RX4 (by decide) rfl (Nat.le_of_ble_eq_true rfl) ?_
  intro pg ev s0 mi bl me co hx hb hml hown hts hr hlk hnm hK hM ls hl
  have hl : lv_has ls 2 [(0, .ref a), (1, .int k)] := hl
  refine lv_aload_n hx hb dX4_counts_0 rfl (lv_at hl 0 rfl) ?_
  refine ob_get (C := RX4) (T := TX4) (N := 9) (ci := 3) (v := .int (f 7)) hx hb hts in_X4 hown hK hM rfl 7 (by decide) q354 (fun x h => h) rfl dX4_counts_1 ?_
  refine lv_iload_n hx hb dX4_counts_4 rfl (lv_at hl 1 rfl) ?_
  refine lv_icmp_gt (tgt := 27) hx hb dX4_counts_5 (by decide) (fun c_5 => ?_) (fun c_5 => ?_)
  · skip
    refine lv_iconst (v := 0) hx hb dX4_counts_27 (by decide) ?_
    have hF : fX4_cn f k = false := by rw [fX4_cn, if_pos c_5]
    exact zret_ro hx hb hr hlk (by rw [hF]; rfl) dX4_counts_28
  · skip
    refine lv_aload_n hx hb dX4_counts_8 rfl (lv_at hl 0 rfl) ?_
    refine ob_get (C := RX4) (T := TX4) (N := 9) (ci := 3) (v := .int (f 8)) hx hb hts in_X4 hown hK hM rfl 8 (by decide) q355 (fun x h => h) rfl dX4_counts_9 ?_
    refine lv_if_lt (tgt := 23) hx hb dX4_counts_12 (by decide) (fun c_12 => ?_) (fun c_12 => ?_)
    · skip
      refine lv_iconst (v := 1) hx hb dX4_counts_23 (by decide) ?_
      refine lv_goto (tgt := 28) hx hb dX4_counts_24 (by decide) ?_
      have hF : fX4_cn f k = true := by rw [fX4_cn, if_neg c_5, if_pos c_12]
      exact zret_ro hx hb hr hlk (by rw [hF]; rfl) dX4_counts_28
    · skip
      refine lv_aload_n hx hb dX4_counts_15 rfl (lv_at hl 0 rfl) ?_
      refine ob_get (C := RX4) (T := TX4) (N := 9) (ci := 3) (v := .int (f 8)) hx hb hts in_X4 hown hK hM rfl 8 (by decide) q355 (fun x h => h) rfl dX4_counts_16 ?_
      refine lv_iload_n hx hb dX4_counts_19 rfl (lv_at hl 1 rfl) ?_
      refine lv_icmp_le (tgt := 27) hx hb dX4_counts_20 (by decide) (fun c_20 => ?_) (fun c_20 => ?_)
      · skip
        refine lv_iconst (v := 0) hx hb dX4_counts_27 (by decide) ?_
        have hF : fX4_cn f k = false := by rw [fX4_cn, if_neg c_5, if_neg c_12, if_pos c_20]
        exact zret_ro hx hb hr hlk (by rw [hF]; rfl) dX4_counts_28
      · skip
        refine lv_iconst (v := 1) hx hb dX4_counts_23 (by decide) ?_
        refine lv_goto (tgt := 28) hx hb dX4_counts_24 (by decide) ?_
        have hF : fX4_cn f k = true := by rw [fX4_cn, if_neg c_5, if_neg c_12, if_neg c_20]
        exact zret_ro hx hb hr hlk (by rw [hF]; rfl) dX4_counts_28
section PC
variable {p : Program} {l : Launch} {e : Env} {R : Room} {s : State} {m : MethodId} {args : Array Value} {below : List Frame} {meth : Method} {c : Code} {H : Heap} {locs : List Loc} {cells slots : Nat} {Q : State → Prop}
variable {cc : ByteArray} {pc : Nat} {ls : Array Slot} {rest : List Value} {D : va_G} {cA : Nat → ClassId} {o : Nat} {g : Gh} {u : St}
theorem cw_pcounts {own : String} {idx nL d mc ms : Nat} {i k : Int32} (hexec : p.tables.exec = Jvm.exec) (hb : c.code = cc) (hml : c.maxLocals = nL) (hown : s.vm.findClass own = some m.cls) (hts : ∀ w ∈ lw_all, w.before args s = true) (h1 : Cond.methodLink own idx yX4_counts ∈ lw_all)
    (hd : yX4_counts.cls = RX4 ∧ yX4_counts.cls ≠ "java/lang/invoke/MethodHandle" ∧ yX4_counts.cls ≠ "java/lang/invoke/VarHandle" ∧ (parseMethodDescriptor yX4_counts.desc).map (fun d => d.parameters.length) = some 1) (hdd : 0 < d) (hK : K0 D cA s) (hM : CW D cA o g u H) (hi : pIn g.1 i) (hls : ls.size = nL) (hrest : (rest.map fun v => v.category).sum ≤ 8) (hdg : decode cc pc = .ok (.invokevirtual idx, 3))
    (kk : W p l e (rmC d mc ms) s m args below meth c H locs cells slots Q (F0 m (pc + 3) ls (.int (b2 (fX4_counts u i k)) :: rest))) (hf : cells ≤ mc ∧ slots ≤ ms := by exact ⟨Nat.zero_le _, Nat.zero_le _⟩) : W p l e (rmC d mc ms) s m args below meth c H locs cells slots Q (F0 m pc ls (.int k :: va_rf (pr g i) :: rest)) := by
  rw [pr_some hi.1]
  exact ro_call (g_runV (As := [.int k]) (n := 1) hexec hb hml hown hts (metX4_counts l D cA (g.2.1 i.toNatClampNeg) (fun j => u.2.1 (60 + j) i.toNatClampNeg) k) h1 q401 q402 q72 q403 hd hdd (by decide) rfl hK (hM.2.2.2.2.1 _ hi.2) (ob_recv hK rfl (hM.2.2.2.2.1 _ hi.2)) hls hrest rfl hdg hf) kk
end PC

def fX0_isDay (d : Int32) : Bool :=
  if d < 0 then false else (if 36499 < d then false else true)
set_option maxHeartbeats 4000000 in
theorem metX0_isDay (l : Launch) (d : Int32) : MetS l yX0_isDay cX0_isDay 1 (some .boolean) 0 [.int d] (some (.int (b2 (fX0_isDay d)))) := by
  refine mS_start RX0 (by decide) rfl (Nat.le_of_ble_eq_true rfl) ?_
  intro pg ev s0 mi bl me co hx hb hml hown hts hr hlk ls hl
  have hl : lv_has ls 1 [(0, .int d)] := hl
  refine lv_iload_n hx hb dX0_isDay_0 rfl (lv_at hl 0 rfl) ?_
  refine lv_if_lt (tgt := 14) hx hb dX0_isDay_1 (by decide) (fun c_1 => ?_) (fun c_1 => ?_)
  · skip
    refine lv_iconst (v := 0) hx hb dX0_isDay_14 (by decide) ?_
    have hF : fX0_isDay d = false := by rw [fX0_isDay, if_pos c_1]
    exact zret_ro hx hb hr hlk (by rw [hF]; rfl) dX0_isDay_15
  · skip
    refine lv_iload_n hx hb dX0_isDay_4 rfl (lv_at hl 0 rfl) ?_
    refine lv_ldc (v := 36499) hx hb hown (hts _ q300) dX0_isDay_5 ?_
    refine lv_icmp_gt (tgt := 14) hx hb dX0_isDay_7 (by decide) (fun c_7 => ?_) (fun c_7 => ?_)
    · skip
      refine lv_iconst (v := 0) hx hb dX0_isDay_14 (by decide) ?_
      have hF : fX0_isDay d = false := by rw [fX0_isDay, if_neg c_1, if_pos c_7]
      exact zret_ro hx hb hr hlk (by rw [hF]; rfl) dX0_isDay_15
    · skip
      refine lv_iconst (v := 1) hx hb dX0_isDay_10 (by decide) ?_
      refine lv_goto (tgt := 15) hx hb dX0_isDay_11 (by decide) ?_
      have hF : fX0_isDay d = true := by rw [fX0_isDay, if_neg c_1, if_neg c_7]
      exact zret_ro hx hb hr hlk (by rw [hF]; rfl) dX0_isDay_15

def fX0_isYear (y : Int32) : Bool :=
  if y < 0 then false else (if 100 ≤ y then false else true)
set_option maxHeartbeats 4000000 in
theorem metX0_isYear (l : Launch) (y : Int32) : MetS l yX0_isYear cX0_isYear 1 (some .boolean) 0 [.int y] (some (.int (b2 (fX0_isYear y)))) := by
  refine mS_start RX0 (by decide) rfl (Nat.le_of_ble_eq_true rfl) ?_
  intro pg ev s0 mi bl me co hx hb hml hown hts hr hlk ls hl
  have hl : lv_has ls 1 [(0, .int y)] := hl
  refine lv_iload_n hx hb dX0_isYear_0 rfl (lv_at hl 0 rfl) ?_
  refine lv_if_lt (tgt := 14) hx hb dX0_isYear_1 (by decide) (fun c_1 => ?_) (fun c_1 => ?_)
  · skip
    refine lv_iconst (v := 0) hx hb dX0_isYear_14 (by decide) ?_
    have hF : fX0_isYear y = false := by rw [fX0_isYear, if_pos c_1]
    exact zret_ro hx hb hr hlk (by rw [hF]; rfl) dX0_isYear_15
  · skip
    refine lv_iload_n hx hb dX0_isYear_4 rfl (lv_at hl 0 rfl) ?_
    refine lv_bipush (v := 100) hx hb dX0_isYear_5 (by decide) ?_
    refine lv_icmp_ge (tgt := 14) hx hb dX0_isYear_7 (by decide) (fun c_7 => ?_) (fun c_7 => ?_)
    · skip
      refine lv_iconst (v := 0) hx hb dX0_isYear_14 (by decide) ?_
      have hF : fX0_isYear y = false := by rw [fX0_isYear, if_neg c_1, if_pos c_7]
      exact zret_ro hx hb hr hlk (by rw [hF]; rfl) dX0_isYear_15
    · skip
      refine lv_iconst (v := 1) hx hb dX0_isYear_10 (by decide) ?_
      refine lv_goto (tgt := 15) hx hb dX0_isYear_11 (by decide) ?_
      have hF : fX0_isYear y = true := by rw [fX0_isYear, if_neg c_1, if_neg c_7]
      exact zret_ro hx hb hr hlk (by rw [hF]; rfl) dX0_isYear_15

def fX0_isPerson (u : St) (p : Int32) : Bool :=
  if p < 0 then false else (if (u.1 13) ≤ p then false else true)
set_option maxHeartbeats 4000000 in
theorem metX0_isPerson (l : Launch) (D : va_G) (cA : Nat → ClassId) (o : Nat) (g : Gh) (u : St) (p : Int32) : CetR l yX0_isPerson cX0_isPerson 2 (some .boolean) 0 D cA o g u [.ref o, .int p] (some (.int (b2 (fX0_isPerson u p)))) := by
  refine cM_start RX0 (by decide) rfl (Nat.le_of_ble_eq_true rfl) ?_
  intro pg ev s0 mi bl me co hx hb hml hown hts hr hlk hK hM ls hl
  have hl : lv_has ls 2 [(0, .ref o), (1, .int p)] := hl
  refine lv_iload_n hx hb dX0_isPerson_0 rfl (lv_at hl 1 rfl) ?_
  refine lv_if_lt (tgt := 16) hx hb dX0_isPerson_1 (by decide) (fun c_1 => ?_) (fun c_1 => ?_)
  · skip
    refine lv_iconst (v := 0) hx hb dX0_isPerson_16 (by decide) ?_
    have hF : fX0_isPerson u p = false := by rw [fX0_isPerson, if_pos c_1]
    exact zret_ro hx hb hr hlk (by rw [hF]; rfl) dX0_isPerson_17
  · skip
    refine lv_iload_n hx hb dX0_isPerson_4 rfl (lv_at hl 1 rfl) ?_
    refine lv_aload_n hx hb dX0_isPerson_5 rfl (lv_at hl 0 rfl) ?_
    refine cw_get (v := .int (u.1 13)) hx hb hts hown hK hM 13 (by decide) q202 rfl rfl dX0_isPerson_6 ?_
    refine lv_icmp_ge (tgt := 16) hx hb dX0_isPerson_9 (by decide) (fun c_9 => ?_) (fun c_9 => ?_)
    · skip
      refine lv_iconst (v := 0) hx hb dX0_isPerson_16 (by decide) ?_
      have hF : fX0_isPerson u p = false := by rw [fX0_isPerson, if_neg c_1, if_pos c_9]
      exact zret_ro hx hb hr hlk (by rw [hF]; rfl) dX0_isPerson_17
    · skip
      refine lv_iconst (v := 1) hx hb dX0_isPerson_12 (by decide) ?_
      refine lv_goto (tgt := 17) hx hb dX0_isPerson_13 (by decide) ?_
      have hF : fX0_isPerson u p = true := by rw [fX0_isPerson, if_neg c_1, if_neg c_9]
      exact zret_ro hx hb hr hlk (by rw [hF]; rfl) dX0_isPerson_17

def fX0_isHouse (u : St) (h : Int32) : Bool :=
  if h < 0 then false else (if (u.1 14) ≤ h then false else true)
set_option maxHeartbeats 4000000 in
theorem metX0_isHouse (l : Launch) (D : va_G) (cA : Nat → ClassId) (o : Nat) (g : Gh) (u : St) (h : Int32) : CetR l yX0_isHouse cX0_isHouse 2 (some .boolean) 0 D cA o g u [.ref o, .int h] (some (.int (b2 (fX0_isHouse u h)))) := by
  refine cM_start RX0 (by decide) rfl (Nat.le_of_ble_eq_true rfl) ?_
  intro pg ev s0 mi bl me co hx hb hml hown hts hr hlk hK hM ls hl
  have hl : lv_has ls 2 [(0, .ref o), (1, .int h)] := hl
  refine lv_iload_n hx hb dX0_isHouse_0 rfl (lv_at hl 1 rfl) ?_
  refine lv_if_lt (tgt := 16) hx hb dX0_isHouse_1 (by decide) (fun c_1 => ?_) (fun c_1 => ?_)
  · skip
    refine lv_iconst (v := 0) hx hb dX0_isHouse_16 (by decide) ?_
    have hF : fX0_isHouse u h = false := by rw [fX0_isHouse, if_pos c_1]
    exact zret_ro hx hb hr hlk (by rw [hF]; rfl) dX0_isHouse_17
  · skip
    refine lv_iload_n hx hb dX0_isHouse_4 rfl (lv_at hl 1 rfl) ?_
    refine lv_aload_n hx hb dX0_isHouse_5 rfl (lv_at hl 0 rfl) ?_
    refine cw_get (v := .int (u.1 14)) hx hb hts hown hK hM 14 (by decide) q203 rfl rfl dX0_isHouse_6 ?_
    refine lv_icmp_ge (tgt := 16) hx hb dX0_isHouse_9 (by decide) (fun c_9 => ?_) (fun c_9 => ?_)
    · skip
      refine lv_iconst (v := 0) hx hb dX0_isHouse_16 (by decide) ?_
      have hF : fX0_isHouse u h = false := by rw [fX0_isHouse, if_neg c_1, if_pos c_9]
      exact zret_ro hx hb hr hlk (by rw [hF]; rfl) dX0_isHouse_17
    · skip
      refine lv_iconst (v := 1) hx hb dX0_isHouse_12 (by decide) ?_
      refine lv_goto (tgt := 17) hx hb dX0_isHouse_13 (by decide) ?_
      have hF : fX0_isHouse u h = true := by rw [fX0_isHouse, if_neg c_1, if_neg c_9]
      exact zret_ro hx hb hr hlk (by rw [hF]; rfl) dX0_isHouse_17

def fX0_fault (u : St) (what : Int32) : Int32 :=
  if what = 0 then u.1 2 else (if what = 1 then u.1 3 else (-1))
set_option maxHeartbeats 4000000 in
theorem metX0_fault (l : Launch) (D : va_G) (cA : Nat → ClassId) (o : Nat) (g : Gh) (u : St) (what : Int32) : CetR l yX0_fault cX0_fault 2 (some .int) 0 D cA o g u [.ref o, .int what] (some (.int (fX0_fault u what))) := by
  refine cM_start RX0 (by decide) rfl (Nat.le_of_ble_eq_true rfl) ?_
  intro pg ev s0 mi bl me co hx hb hml hown hts hr hlk hK hM ls hl
  have hl : lv_has ls 2 [(0, .ref o), (1, .int what)] := hl
  refine lv_iload_n hx hb dX0_fault_0 rfl (lv_at hl 1 rfl) ?_
  refine lv_if_ne (tgt := 11) hx hb dX0_fault_1 (by decide) (fun c_1 => ?_) (fun c_1 => ?_)
  · skip
    refine lv_iload_n hx hb dX0_fault_11 rfl (lv_at hl 1 rfl) ?_
    refine lv_iconst (v := 1) hx hb dX0_fault_12 (by decide) ?_
    refine lv_icmp_ne (tgt := 23) hx hb dX0_fault_13 (by decide) (fun c_13 => ?_) (fun c_13 => ?_)
    · skip
      refine lv_iconst (v := (-1)) hx hb dX0_fault_23 (by decide) ?_
      have hF : fX0_fault u what = (-1) := by rw [fX0_fault, if_neg c_1, if_neg c_13]
      exact iret_ro hx hb hr hlk (by rw [hF]) dX0_fault_24
    · skip
      refine lv_aload_n hx hb dX0_fault_16 rfl (lv_at hl 0 rfl) ?_
      refine cw_get (v := .int (u.1 3)) hx hb hts hown hK hM 3 (by decide) q191 rfl rfl dX0_fault_17 ?_
      refine lv_goto (tgt := 24) hx hb dX0_fault_20 (by decide) ?_
      have hF : fX0_fault u what = u.1 3 := by rw [fX0_fault, if_neg c_1, if_pos c_13]
      exact iret_ro hx hb hr hlk (by rw [hF]) dX0_fault_24
  · skip
    refine lv_aload_n hx hb dX0_fault_4 rfl (lv_at hl 0 rfl) ?_
    refine cw_get (v := .int (u.1 2)) hx hb hts hown hK hM 2 (by decide) q190 rfl rfl dX0_fault_5 ?_
    refine lv_goto (tgt := 24) hx hb dX0_fault_8 (by decide) ?_
    have hF : fX0_fault u what = u.1 2 := by rw [fX0_fault, if_pos c_1]
    exact iret_ro hx hb hr hlk (by rw [hF]) dX0_fault_24

def fX0_person (u : St) (mo : Int32) (fa : Int32) : Int32 × St :=
  if (u.1 13) = 24 then ((-1), u) else (if mo = (-1) then (if fa = (-1) then (((u.1 13) + 1) - 1, (si (sa (sa (sa u 5 ((u.1 13).toNatClampNeg) mo) 6 ((u.1 13).toNatClampNeg) fa) 7 ((u.1 13).toNatClampNeg) (-1)) 13 ((u.1 13) + 1))) else (if (fX0_isPerson u fa) = true then (((u.1 13) + 1) - 1, (si (sa (sa (sa u 5 ((u.1 13).toNatClampNeg) mo) 6 ((u.1 13).toNatClampNeg) fa) 7 ((u.1 13).toNatClampNeg) (-1)) 13 ((u.1 13) + 1))) else ((-1), u))) else (if (fX0_isPerson u mo) = true then (if fa = (-1) then (((u.1 13) + 1) - 1, (si (sa (sa (sa u 5 ((u.1 13).toNatClampNeg) mo) 6 ((u.1 13).toNatClampNeg) fa) 7 ((u.1 13).toNatClampNeg) (-1)) 13 ((u.1 13) + 1))) else (if (fX0_isPerson u fa) = true then (((u.1 13) + 1) - 1, (si (sa (sa (sa u 5 ((u.1 13).toNatClampNeg) mo) 6 ((u.1 13).toNatClampNeg) fa) 7 ((u.1 13).toNatClampNeg) (-1)) 13 ((u.1 13) + 1))) else ((-1), u))) else ((-1), u)))
def okX0_person (n : Nat) (u : St) (mo : Int32) (fa : Int32) : Prop :=
  (¬ ((u.1 13) = 24) → mo = (-1) → fa = (-1) → vp_in (u.1 13) 24) ∧ (¬ ((u.1 13) = 24) → mo = (-1) → ¬ (fa = (-1)) → (fX0_isPerson u fa) = true → vp_in (u.1 13) 24) ∧ (¬ ((u.1 13) = 24) → ¬ (mo = (-1)) → (fX0_isPerson u mo) = true → fa = (-1) → vp_in (u.1 13) 24) ∧ (¬ ((u.1 13) = 24) → ¬ (mo = (-1)) → (fX0_isPerson u mo) = true → ¬ (fa = (-1)) → (fX0_isPerson u fa) = true → vp_in (u.1 13) 24)
set_option maxHeartbeats 4000000 in
theorem metX0_person (l : Launch) (D : va_G) (cA : Nat → ClassId) (o : Nat) (g : Gh) (u : St) (mo : Int32) (fa : Int32) (hok : okX0_person g.1 u mo fa) : CetM l yX0_person cX0_person 3 (some .int) 1 D cA o g u [.ref o, .int mo, .int fa] (some (.int (fX0_person u mo fa).1)) (fX0_person u mo fa).2 := by
  obtain ⟨hN0, hN1, hN2, hN3⟩ := hok
  refine cM_start RX0 (by decide) rfl (Nat.le_of_ble_eq_true rfl) ?_
  intro pg ev s0 mi bl me co hx hb hml hown hts hr hlk hK hM ls hl
  have hl : lv_has ls 3 [(0, .ref o), (1, .int mo), (2, .int fa)] := hl
  have hS : va_S (cF o g) s0.heap s0.heap [] := va_S.rf
  refine lv_aload_n hx hb dX0_person_0 rfl (lv_at hl 0 rfl) ?_
  refine cw_get (v := .int (u.1 13)) hx hb hts hown hK hM 13 (by decide) q202 rfl rfl dX0_person_1 ?_
  refine lv_bipush (v := 24) hx hb dX0_person_4 (by decide) ?_
  refine lv_icmp_eq (tgt := 35) hx hb dX0_person_6 (by decide) (fun c_6 => ?_) (fun c_6 => ?_)
  · skip
    refine lv_iconst (v := (-1)) hx hb dX0_person_35 (by decide) ?_
    have hF : fX0_person u mo fa = ((-1), u) := by rw [fX0_person, if_pos c_6]
    exact cw_iret hx hb hr hlk hM hS (by rw [hF]) (by rw [hF]) dX0_person_36
  · skip
    refine lv_iload_n hx hb dX0_person_9 rfl (lv_at hl 1 rfl) ?_
    refine lv_iconst (v := (-1)) hx hb dX0_person_10 (by decide) ?_
    refine lv_icmp_eq (tgt := 22) hx hb dX0_person_11 (by decide) (fun c_11 => ?_) (fun c_11 => ?_)
    · skip
      refine lv_iload_n hx hb dX0_person_22 rfl (lv_at hl 2 rfl) ?_
      refine lv_iconst (v := (-1)) hx hb dX0_person_23 (by decide) ?_
      refine lv_icmp_eq (tgt := 37) hx hb dX0_person_24 (by decide) (fun c_24 => ?_) (fun c_24 => ?_)
      · skip
        refine lv_aload_n hx hb dX0_person_37 rfl (lv_at hl 0 rfl) ?_
        refine cw_get (v := .ref (cAd o 5)) hx hb hts hown hK hM 5 (by decide) q193 rfl rfl dX0_person_38 ?_
        refine lv_aload_n hx hb dX0_person_41 rfl (lv_at hl 0 rfl) ?_
        refine cw_get (v := .int (u.1 13)) hx hb hts hown hK hM 13 (by decide) q202 rfl rfl dX0_person_42 ?_
        refine lv_iload_n hx hb dX0_person_45 rfl (lv_at hl 1 rfl) ?_
        refine cw_ist (j := (u.1 13).toNatClampNeg) hx hb hK hM hS 5 (by decide) rfl rfl (hN0 c_6 c_11 c_24) rfl dX0_person_46 (fun H locs hM hS => ?_)
        refine lv_aload_n hx hb dX0_person_47 rfl (lv_at hl 0 rfl) ?_
        refine cw_get (v := .ref (cAd o 6)) hx hb hts hown hK hM 6 (by decide) q194 rfl rfl dX0_person_48 ?_
        refine lv_aload_n hx hb dX0_person_51 rfl (lv_at hl 0 rfl) ?_
        refine cw_get (v := .int (u.1 13)) hx hb hts hown hK hM 13 (by decide) q202 rfl rfl dX0_person_52 ?_
        refine lv_iload_n hx hb dX0_person_55 rfl (lv_at hl 2 rfl) ?_
        refine cw_ist (j := (u.1 13).toNatClampNeg) hx hb hK hM hS 6 (by decide) rfl rfl (hN0 c_6 c_11 c_24) rfl dX0_person_56 (fun H locs hM hS => ?_)
        refine lv_aload_n hx hb dX0_person_57 rfl (lv_at hl 0 rfl) ?_
        refine cw_get (v := .ref (cAd o 7)) hx hb hts hown hK hM 7 (by decide) q195 rfl rfl dX0_person_58 ?_
        refine lv_aload_n hx hb dX0_person_61 rfl (lv_at hl 0 rfl) ?_
        refine cw_get (v := .int (u.1 13)) hx hb hts hown hK hM 13 (by decide) q202 rfl rfl dX0_person_62 ?_
        refine lv_iconst (v := (-1)) hx hb dX0_person_65 (by decide) ?_
        refine cw_ist (j := (u.1 13).toNatClampNeg) hx hb hK hM hS 7 (by decide) rfl rfl (hN0 c_6 c_11 c_24) rfl dX0_person_66 (fun H locs hM hS => ?_)
        refine lv_aload_n hx hb dX0_person_67 rfl (lv_at hl 0 rfl) ?_
        refine lv_dup hx hb dX0_person_68 rfl ?_
        refine cw_get (v := .int (u.1 13)) hx hb hts hown hK hM 13 (by decide) q202 rfl rfl dX0_person_69 ?_
        refine lv_iconst (v := 1) hx hb dX0_person_72 (by decide) ?_
        refine lv_iadd hx hb dX0_person_73 ?_
        refine cw_puti hx hb hts hown hK hM hS 13 (by decide) q202 rfl rfl rfl rfl dX0_person_74 (fun H locs hM hS => ?_)
        refine lv_aload_n hx hb dX0_person_77 rfl (lv_at hl 0 rfl) ?_
        refine cw_get (v := .int ((u.1 13) + 1)) hx hb hts hown hK hM 13 (by decide) q202 rfl rfl dX0_person_78 ?_
        refine lv_iconst (v := 1) hx hb dX0_person_81 (by decide) ?_
        refine lv_isub hx hb dX0_person_82 ?_
        have hF : fX0_person u mo fa = (((u.1 13) + 1) - 1, (si (sa (sa (sa u 5 ((u.1 13).toNatClampNeg) mo) 6 ((u.1 13).toNatClampNeg) fa) 7 ((u.1 13).toNatClampNeg) (-1)) 13 ((u.1 13) + 1))) := by rw [fX0_person, if_neg c_6, if_pos c_11, if_pos c_24]
        exact cw_iret hx hb hr hlk hM hS (by rw [hF]) (by rw [hF]) dX0_person_83
      · skip
        refine lv_aload_n hx hb dX0_person_27 rfl (lv_at hl 0 rfl) ?_
        refine lv_iload_n hx hb dX0_person_28 rfl (lv_at hl 2 rfl) ?_
        refine ro_call (cw_run (n := 1) (As := [.int fa]) (rest := []) hx hb hml hown hts (metX0_isPerson l D cA o g u fa) q289 q291 qs0 q292 (by decide +kernel) (by decide) (by decide) rfl hK hM hl.1 (Nat.le_of_ble_eq_true rfl) rfl dX0_person_29 ⟨Nat.le_refl _, Nat.le_refl _⟩) ?_
        refine lv_B_ne (tgt := 37) hx hb dX0_person_32 (by decide) (fun c_32 => ?_) (fun c_32 => ?_)
        · skip
          refine lv_aload_n hx hb dX0_person_37 rfl (lv_at hl 0 rfl) ?_
          refine cw_get (v := .ref (cAd o 5)) hx hb hts hown hK hM 5 (by decide) q193 rfl rfl dX0_person_38 ?_
          refine lv_aload_n hx hb dX0_person_41 rfl (lv_at hl 0 rfl) ?_
          refine cw_get (v := .int (u.1 13)) hx hb hts hown hK hM 13 (by decide) q202 rfl rfl dX0_person_42 ?_
          refine lv_iload_n hx hb dX0_person_45 rfl (lv_at hl 1 rfl) ?_
          refine cw_ist (j := (u.1 13).toNatClampNeg) hx hb hK hM hS 5 (by decide) rfl rfl (hN1 c_6 c_11 c_24 c_32) rfl dX0_person_46 (fun H locs hM hS => ?_)
          refine lv_aload_n hx hb dX0_person_47 rfl (lv_at hl 0 rfl) ?_
          refine cw_get (v := .ref (cAd o 6)) hx hb hts hown hK hM 6 (by decide) q194 rfl rfl dX0_person_48 ?_
          refine lv_aload_n hx hb dX0_person_51 rfl (lv_at hl 0 rfl) ?_
          refine cw_get (v := .int (u.1 13)) hx hb hts hown hK hM 13 (by decide) q202 rfl rfl dX0_person_52 ?_
          refine lv_iload_n hx hb dX0_person_55 rfl (lv_at hl 2 rfl) ?_
          refine cw_ist (j := (u.1 13).toNatClampNeg) hx hb hK hM hS 6 (by decide) rfl rfl (hN1 c_6 c_11 c_24 c_32) rfl dX0_person_56 (fun H locs hM hS => ?_)
          refine lv_aload_n hx hb dX0_person_57 rfl (lv_at hl 0 rfl) ?_
          refine cw_get (v := .ref (cAd o 7)) hx hb hts hown hK hM 7 (by decide) q195 rfl rfl dX0_person_58 ?_
          refine lv_aload_n hx hb dX0_person_61 rfl (lv_at hl 0 rfl) ?_
          refine cw_get (v := .int (u.1 13)) hx hb hts hown hK hM 13 (by decide) q202 rfl rfl dX0_person_62 ?_
          refine lv_iconst (v := (-1)) hx hb dX0_person_65 (by decide) ?_
          refine cw_ist (j := (u.1 13).toNatClampNeg) hx hb hK hM hS 7 (by decide) rfl rfl (hN1 c_6 c_11 c_24 c_32) rfl dX0_person_66 (fun H locs hM hS => ?_)
          refine lv_aload_n hx hb dX0_person_67 rfl (lv_at hl 0 rfl) ?_
          refine lv_dup hx hb dX0_person_68 rfl ?_
          refine cw_get (v := .int (u.1 13)) hx hb hts hown hK hM 13 (by decide) q202 rfl rfl dX0_person_69 ?_
          refine lv_iconst (v := 1) hx hb dX0_person_72 (by decide) ?_
          refine lv_iadd hx hb dX0_person_73 ?_
          refine cw_puti hx hb hts hown hK hM hS 13 (by decide) q202 rfl rfl rfl rfl dX0_person_74 (fun H locs hM hS => ?_)
          refine lv_aload_n hx hb dX0_person_77 rfl (lv_at hl 0 rfl) ?_
          refine cw_get (v := .int ((u.1 13) + 1)) hx hb hts hown hK hM 13 (by decide) q202 rfl rfl dX0_person_78 ?_
          refine lv_iconst (v := 1) hx hb dX0_person_81 (by decide) ?_
          refine lv_isub hx hb dX0_person_82 ?_
          have hF : fX0_person u mo fa = (((u.1 13) + 1) - 1, (si (sa (sa (sa u 5 ((u.1 13).toNatClampNeg) mo) 6 ((u.1 13).toNatClampNeg) fa) 7 ((u.1 13).toNatClampNeg) (-1)) 13 ((u.1 13) + 1))) := by rw [fX0_person, if_neg c_6, if_pos c_11, if_neg c_24, if_pos c_32]
          exact cw_iret hx hb hr hlk hM hS (by rw [hF]) (by rw [hF]) dX0_person_83
        · skip
          refine lv_iconst (v := (-1)) hx hb dX0_person_35 (by decide) ?_
          have hF : fX0_person u mo fa = ((-1), u) := by rw [fX0_person, if_neg c_6, if_pos c_11, if_neg c_24, if_neg (nt_of c_32)]
          exact cw_iret hx hb hr hlk hM hS (by rw [hF]) (by rw [hF]) dX0_person_36
    · skip
      refine lv_aload_n hx hb dX0_person_14 rfl (lv_at hl 0 rfl) ?_
      refine lv_iload_n hx hb dX0_person_15 rfl (lv_at hl 1 rfl) ?_
      refine ro_call (cw_run (n := 1) (As := [.int mo]) (rest := []) hx hb hml hown hts (metX0_isPerson l D cA o g u mo) q289 q291 qs0 q292 (by decide +kernel) (by decide) (by decide) rfl hK hM hl.1 (Nat.le_of_ble_eq_true rfl) rfl dX0_person_16 ⟨Nat.le_refl _, Nat.le_refl _⟩) ?_
      refine lv_B_eq (tgt := 35) hx hb dX0_person_19 (by decide) (fun c_19 => ?_) (fun c_19 => ?_)
      · skip
        refine lv_iconst (v := (-1)) hx hb dX0_person_35 (by decide) ?_
        have hF : fX0_person u mo fa = ((-1), u) := by rw [fX0_person, if_neg c_6, if_neg c_11, if_neg (nt_of c_19)]
        exact cw_iret hx hb hr hlk hM hS (by rw [hF]) (by rw [hF]) dX0_person_36
      · skip
        refine lv_iload_n hx hb dX0_person_22 rfl (lv_at hl 2 rfl) ?_
        refine lv_iconst (v := (-1)) hx hb dX0_person_23 (by decide) ?_
        refine lv_icmp_eq (tgt := 37) hx hb dX0_person_24 (by decide) (fun c_24 => ?_) (fun c_24 => ?_)
        · skip
          refine lv_aload_n hx hb dX0_person_37 rfl (lv_at hl 0 rfl) ?_
          refine cw_get (v := .ref (cAd o 5)) hx hb hts hown hK hM 5 (by decide) q193 rfl rfl dX0_person_38 ?_
          refine lv_aload_n hx hb dX0_person_41 rfl (lv_at hl 0 rfl) ?_
          refine cw_get (v := .int (u.1 13)) hx hb hts hown hK hM 13 (by decide) q202 rfl rfl dX0_person_42 ?_
          refine lv_iload_n hx hb dX0_person_45 rfl (lv_at hl 1 rfl) ?_
          refine cw_ist (j := (u.1 13).toNatClampNeg) hx hb hK hM hS 5 (by decide) rfl rfl (hN2 c_6 c_11 c_19 c_24) rfl dX0_person_46 (fun H locs hM hS => ?_)
          refine lv_aload_n hx hb dX0_person_47 rfl (lv_at hl 0 rfl) ?_
          refine cw_get (v := .ref (cAd o 6)) hx hb hts hown hK hM 6 (by decide) q194 rfl rfl dX0_person_48 ?_
          refine lv_aload_n hx hb dX0_person_51 rfl (lv_at hl 0 rfl) ?_
          refine cw_get (v := .int (u.1 13)) hx hb hts hown hK hM 13 (by decide) q202 rfl rfl dX0_person_52 ?_
          refine lv_iload_n hx hb dX0_person_55 rfl (lv_at hl 2 rfl) ?_
          refine cw_ist (j := (u.1 13).toNatClampNeg) hx hb hK hM hS 6 (by decide) rfl rfl (hN2 c_6 c_11 c_19 c_24) rfl dX0_person_56 (fun H locs hM hS => ?_)
          refine lv_aload_n hx hb dX0_person_57 rfl (lv_at hl 0 rfl) ?_
          refine cw_get (v := .ref (cAd o 7)) hx hb hts hown hK hM 7 (by decide) q195 rfl rfl dX0_person_58 ?_
          refine lv_aload_n hx hb dX0_person_61 rfl (lv_at hl 0 rfl) ?_
          refine cw_get (v := .int (u.1 13)) hx hb hts hown hK hM 13 (by decide) q202 rfl rfl dX0_person_62 ?_
          refine lv_iconst (v := (-1)) hx hb dX0_person_65 (by decide) ?_
          refine cw_ist (j := (u.1 13).toNatClampNeg) hx hb hK hM hS 7 (by decide) rfl rfl (hN2 c_6 c_11 c_19 c_24) rfl dX0_person_66 (fun H locs hM hS => ?_)
          refine lv_aload_n hx hb dX0_person_67 rfl (lv_at hl 0 rfl) ?_
          refine lv_dup hx hb dX0_person_68 rfl ?_
          refine cw_get (v := .int (u.1 13)) hx hb hts hown hK hM 13 (by decide) q202 rfl rfl dX0_person_69 ?_
          refine lv_iconst (v := 1) hx hb dX0_person_72 (by decide) ?_
          refine lv_iadd hx hb dX0_person_73 ?_
          refine cw_puti hx hb hts hown hK hM hS 13 (by decide) q202 rfl rfl rfl rfl dX0_person_74 (fun H locs hM hS => ?_)
          refine lv_aload_n hx hb dX0_person_77 rfl (lv_at hl 0 rfl) ?_
          refine cw_get (v := .int ((u.1 13) + 1)) hx hb hts hown hK hM 13 (by decide) q202 rfl rfl dX0_person_78 ?_
          refine lv_iconst (v := 1) hx hb dX0_person_81 (by decide) ?_
          refine lv_isub hx hb dX0_person_82 ?_
          have hF : fX0_person u mo fa = (((u.1 13) + 1) - 1, (si (sa (sa (sa u 5 ((u.1 13).toNatClampNeg) mo) 6 ((u.1 13).toNatClampNeg) fa) 7 ((u.1 13).toNatClampNeg) (-1)) 13 ((u.1 13) + 1))) := by rw [fX0_person, if_neg c_6, if_neg c_11, if_pos c_19, if_pos c_24]
          exact cw_iret hx hb hr hlk hM hS (by rw [hF]) (by rw [hF]) dX0_person_83
        · skip
          refine lv_aload_n hx hb dX0_person_27 rfl (lv_at hl 0 rfl) ?_
          refine lv_iload_n hx hb dX0_person_28 rfl (lv_at hl 2 rfl) ?_
          refine ro_call (cw_run (n := 1) (As := [.int fa]) (rest := []) hx hb hml hown hts (metX0_isPerson l D cA o g u fa) q289 q291 qs0 q292 (by decide +kernel) (by decide) (by decide) rfl hK hM hl.1 (Nat.le_of_ble_eq_true rfl) rfl dX0_person_29 ⟨Nat.le_refl _, Nat.le_refl _⟩) ?_
          refine lv_B_ne (tgt := 37) hx hb dX0_person_32 (by decide) (fun c_32 => ?_) (fun c_32 => ?_)
          · skip
            refine lv_aload_n hx hb dX0_person_37 rfl (lv_at hl 0 rfl) ?_
            refine cw_get (v := .ref (cAd o 5)) hx hb hts hown hK hM 5 (by decide) q193 rfl rfl dX0_person_38 ?_
            refine lv_aload_n hx hb dX0_person_41 rfl (lv_at hl 0 rfl) ?_
            refine cw_get (v := .int (u.1 13)) hx hb hts hown hK hM 13 (by decide) q202 rfl rfl dX0_person_42 ?_
            refine lv_iload_n hx hb dX0_person_45 rfl (lv_at hl 1 rfl) ?_
            refine cw_ist (j := (u.1 13).toNatClampNeg) hx hb hK hM hS 5 (by decide) rfl rfl (hN3 c_6 c_11 c_19 c_24 c_32) rfl dX0_person_46 (fun H locs hM hS => ?_)
            refine lv_aload_n hx hb dX0_person_47 rfl (lv_at hl 0 rfl) ?_
            refine cw_get (v := .ref (cAd o 6)) hx hb hts hown hK hM 6 (by decide) q194 rfl rfl dX0_person_48 ?_
            refine lv_aload_n hx hb dX0_person_51 rfl (lv_at hl 0 rfl) ?_
            refine cw_get (v := .int (u.1 13)) hx hb hts hown hK hM 13 (by decide) q202 rfl rfl dX0_person_52 ?_
            refine lv_iload_n hx hb dX0_person_55 rfl (lv_at hl 2 rfl) ?_
            refine cw_ist (j := (u.1 13).toNatClampNeg) hx hb hK hM hS 6 (by decide) rfl rfl (hN3 c_6 c_11 c_19 c_24 c_32) rfl dX0_person_56 (fun H locs hM hS => ?_)
            refine lv_aload_n hx hb dX0_person_57 rfl (lv_at hl 0 rfl) ?_
            refine cw_get (v := .ref (cAd o 7)) hx hb hts hown hK hM 7 (by decide) q195 rfl rfl dX0_person_58 ?_
            refine lv_aload_n hx hb dX0_person_61 rfl (lv_at hl 0 rfl) ?_
            refine cw_get (v := .int (u.1 13)) hx hb hts hown hK hM 13 (by decide) q202 rfl rfl dX0_person_62 ?_
            refine lv_iconst (v := (-1)) hx hb dX0_person_65 (by decide) ?_
            refine cw_ist (j := (u.1 13).toNatClampNeg) hx hb hK hM hS 7 (by decide) rfl rfl (hN3 c_6 c_11 c_19 c_24 c_32) rfl dX0_person_66 (fun H locs hM hS => ?_)
            refine lv_aload_n hx hb dX0_person_67 rfl (lv_at hl 0 rfl) ?_
            refine lv_dup hx hb dX0_person_68 rfl ?_
            refine cw_get (v := .int (u.1 13)) hx hb hts hown hK hM 13 (by decide) q202 rfl rfl dX0_person_69 ?_
            refine lv_iconst (v := 1) hx hb dX0_person_72 (by decide) ?_
            refine lv_iadd hx hb dX0_person_73 ?_
            refine cw_puti hx hb hts hown hK hM hS 13 (by decide) q202 rfl rfl rfl rfl dX0_person_74 (fun H locs hM hS => ?_)
            refine lv_aload_n hx hb dX0_person_77 rfl (lv_at hl 0 rfl) ?_
            refine cw_get (v := .int ((u.1 13) + 1)) hx hb hts hown hK hM 13 (by decide) q202 rfl rfl dX0_person_78 ?_
            refine lv_iconst (v := 1) hx hb dX0_person_81 (by decide) ?_
            refine lv_isub hx hb dX0_person_82 ?_
            have hF : fX0_person u mo fa = (((u.1 13) + 1) - 1, (si (sa (sa (sa u 5 ((u.1 13).toNatClampNeg) mo) 6 ((u.1 13).toNatClampNeg) fa) 7 ((u.1 13).toNatClampNeg) (-1)) 13 ((u.1 13) + 1))) := by rw [fX0_person, if_neg c_6, if_neg c_11, if_pos c_19, if_neg c_24, if_pos c_32]
            exact cw_iret hx hb hr hlk hM hS (by rw [hF]) (by rw [hF]) dX0_person_83
          · skip
            refine lv_iconst (v := (-1)) hx hb dX0_person_35 (by decide) ?_
            have hF : fX0_person u mo fa = ((-1), u) := by rw [fX0_person, if_neg c_6, if_neg c_11, if_pos c_19, if_neg c_24, if_neg (nt_of c_32)]
            exact cw_iret hx hb hr hlk hM hS (by rw [hF]) (by rw [hF]) dX0_person_36

def fX0_dead (u : St) (pe : Int32) (da : Int32) : Bool × St :=
  if (fX0_isPerson u pe) = true then (if (fX0_isDay da) = true then (if (u.2.1 7 pe.toNatClampNeg) < 0 then (true, (sa u 7 pe.toNatClampNeg da)) else (false, u)) else (false, u)) else (false, u)
def okX0_dead (n : Nat) (u : St) (pe : Int32) (da : Int32) : Prop :=
  ((fX0_isPerson u pe) = true → (fX0_isDay da) = true → vp_in pe 24)
set_option maxHeartbeats 4000000 in
theorem metX0_dead (l : Launch) (D : va_G) (cA : Nat → ClassId) (o : Nat) (g : Gh) (u : St) (pe : Int32) (da : Int32) (hok : okX0_dead g.1 u pe da) : CetM l yX0_dead cX0_dead 3 (some .boolean) 1 D cA o g u [.ref o, .int pe, .int da] (some (.int (b2 (fX0_dead u pe da).1))) (fX0_dead u pe da).2 := by
  have hN0 := hok
  refine cM_start RX0 (by decide) rfl (Nat.le_of_ble_eq_true rfl) ?_
  intro pg ev s0 mi bl me co hx hb hml hown hts hr hlk hK hM ls hl
  have hl : lv_has ls 3 [(0, .ref o), (1, .int pe), (2, .int da)] := hl
  have hS : va_S (cF o g) s0.heap s0.heap [] := va_S.rf
  refine lv_aload_n hx hb dX0_dead_0 rfl (lv_at hl 0 rfl) ?_
  refine lv_iload_n hx hb dX0_dead_1 rfl (lv_at hl 1 rfl) ?_
  refine ro_call (cw_run (n := 1) (As := [.int pe]) (rest := []) hx hb hml hown hts (metX0_isPerson l D cA o g u pe) q289 q291 qs0 q292 (by decide +kernel) (by decide) (by decide) rfl hK hM hl.1 (Nat.le_of_ble_eq_true rfl) rfl dX0_dead_2 ⟨Nat.le_refl _, Nat.le_refl _⟩) ?_
  refine lv_B_eq (tgt := 24) hx hb dX0_dead_5 (by decide) (fun c_5 => ?_) (fun c_5 => ?_)
  · skip
    refine lv_iconst (v := 0) hx hb dX0_dead_24 (by decide) ?_
    have hF : fX0_dead u pe da = (false, u) := by rw [fX0_dead, if_neg (nt_of c_5)]
    exact cw_zret hx hb hr hlk hM hS (by rw [hF]; rfl) (by rw [hF]) dX0_dead_25
  · skip
    refine lv_iload_n hx hb dX0_dead_8 rfl (lv_at hl 2 rfl) ?_
    refine ro_call (st_run (n := 1) (As := [.int da]) (rest := []) hx hb hml hown hts (metX0_isDay l da) q297 q298 q64 q299 (by decide +kernel) (by decide) (by decide) rfl hl.1 (Nat.le_of_ble_eq_true rfl) rfl dX0_dead_9 ⟨Nat.le_refl _, Nat.le_refl _⟩) ?_
    refine lv_B_eq (tgt := 24) hx hb dX0_dead_12 (by decide) (fun c_12 => ?_) (fun c_12 => ?_)
    · skip
      refine lv_iconst (v := 0) hx hb dX0_dead_24 (by decide) ?_
      have hF : fX0_dead u pe da = (false, u) := by rw [fX0_dead, if_pos c_5, if_neg (nt_of c_12)]
      exact cw_zret hx hb hr hlk hM hS (by rw [hF]; rfl) (by rw [hF]) dX0_dead_25
    · skip
      refine lv_aload_n hx hb dX0_dead_15 rfl (lv_at hl 0 rfl) ?_
      refine cw_get (v := .ref (cAd o 7)) hx hb hts hown hK hM 7 (by decide) q195 rfl rfl dX0_dead_16 ?_
      refine lv_iload_n hx hb dX0_dead_19 rfl (lv_at hl 1 rfl) ?_
      refine cw_ild (v := u.2.1 7 pe.toNatClampNeg) (j := pe.toNatClampNeg) hx hb hK hM 7 (by decide) rfl rfl (hN0 c_5 c_12) rfl rfl dX0_dead_20 ?_
      refine lv_if_lt (tgt := 26) hx hb dX0_dead_21 (by decide) (fun c_21 => ?_) (fun c_21 => ?_)
      · skip
        refine lv_aload_n hx hb dX0_dead_26 rfl (lv_at hl 0 rfl) ?_
        refine cw_get (v := .ref (cAd o 7)) hx hb hts hown hK hM 7 (by decide) q195 rfl rfl dX0_dead_27 ?_
        refine lv_iload_n hx hb dX0_dead_30 rfl (lv_at hl 1 rfl) ?_
        refine lv_iload_n hx hb dX0_dead_31 rfl (lv_at hl 2 rfl) ?_
        refine cw_ist (j := pe.toNatClampNeg) hx hb hK hM hS 7 (by decide) rfl rfl (hN0 c_5 c_12) rfl dX0_dead_32 (fun H locs hM hS => ?_)
        refine lv_iconst (v := 1) hx hb dX0_dead_33 (by decide) ?_
        have hF : fX0_dead u pe da = (true, (sa u 7 pe.toNatClampNeg da)) := by rw [fX0_dead, if_pos c_5, if_pos c_12, if_pos c_21]
        exact cw_zret hx hb hr hlk hM hS (by rw [hF]; rfl) (by rw [hF]) dX0_dead_34
      · skip
        refine lv_iconst (v := 0) hx hb dX0_dead_24 (by decide) ?_
        have hF : fX0_dead u pe da = (false, u) := by rw [fX0_dead, if_pos c_5, if_pos c_12, if_neg c_21]
        exact cw_zret hx hb hr hlk hM hS (by rw [hF]; rfl) (by rw [hF]) dX0_dead_25

def fX0_isDead (u : St) (pe : Int32) (da : Int32) : Bool :=
  if (u.2.1 7 pe.toNatClampNeg) < 0 then false else (if da < (u.2.1 7 pe.toNatClampNeg) then false else true)
def okX0_isDead (n : Nat) (u : St) (pe : Int32) (da : Int32) : Prop :=
  (vp_in pe 24)
set_option maxHeartbeats 4000000 in
theorem metX0_isDead (l : Launch) (D : va_G) (cA : Nat → ClassId) (o : Nat) (g : Gh) (u : St) (pe : Int32) (da : Int32) (hok : okX0_isDead g.1 u pe da) : CetR l yX0_isDead cX0_isDead 3 (some .boolean) 0 D cA o g u [.ref o, .int pe, .int da] (some (.int (b2 (fX0_isDead u pe da)))) := by
  have hN0 := hok
  refine cM_start RX0 (by decide) rfl (Nat.le_of_ble_eq_true rfl) ?_
  intro pg ev s0 mi bl me co hx hb hml hown hts hr hlk hK hM ls hl
  have hl : lv_has ls 3 [(0, .ref o), (1, .int pe), (2, .int da)] := hl
  refine lv_aload_n hx hb dX0_isDead_0 rfl (lv_at hl 0 rfl) ?_
  refine cw_get (v := .ref (cAd o 7)) hx hb hts hown hK hM 7 (by decide) q195 rfl rfl dX0_isDead_1 ?_
  refine lv_iload_n hx hb dX0_isDead_4 rfl (lv_at hl 1 rfl) ?_
  refine cw_ild (v := u.2.1 7 pe.toNatClampNeg) (j := pe.toNatClampNeg) hx hb hK hM 7 (by decide) rfl rfl hN0 rfl rfl dX0_isDead_5 ?_
  refine lv_if_lt (tgt := 23) hx hb dX0_isDead_6 (by decide) (fun c_6 => ?_) (fun c_6 => ?_)
  · skip
    refine lv_iconst (v := 0) hx hb dX0_isDead_23 (by decide) ?_
    have hF : fX0_isDead u pe da = false := by rw [fX0_isDead, if_pos c_6]
    exact zret_ro hx hb hr hlk (by rw [hF]; rfl) dX0_isDead_24
  · skip
    refine lv_aload_n hx hb dX0_isDead_9 rfl (lv_at hl 0 rfl) ?_
    refine cw_get (v := .ref (cAd o 7)) hx hb hts hown hK hM 7 (by decide) q195 rfl rfl dX0_isDead_10 ?_
    refine lv_iload_n hx hb dX0_isDead_13 rfl (lv_at hl 1 rfl) ?_
    refine cw_ild (v := u.2.1 7 pe.toNatClampNeg) (j := pe.toNatClampNeg) hx hb hK hM 7 (by decide) rfl rfl hN0 rfl rfl dX0_isDead_14 ?_
    refine lv_iload_n hx hb dX0_isDead_15 rfl (lv_at hl 2 rfl) ?_
    refine lv_icmp_gt (tgt := 23) hx hb dX0_isDead_16 (by decide) (fun c_16 => ?_) (fun c_16 => ?_)
    · skip
      refine lv_iconst (v := 0) hx hb dX0_isDead_23 (by decide) ?_
      have hF : fX0_isDead u pe da = false := by rw [fX0_isDead, if_neg c_6, if_pos c_16]
      exact zret_ro hx hb hr hlk (by rw [hF]; rfl) dX0_isDead_24
    · skip
      refine lv_iconst (v := 1) hx hb dX0_isDead_19 (by decide) ?_
      refine lv_goto (tgt := 24) hx hb dX0_isDead_20 (by decide) ?_
      have hF : fX0_isDead u pe da = true := by rw [fX0_isDead, if_neg c_6, if_neg c_16]
      exact zret_ro hx hb hr hlk (by rw [hF]; rfl) dX0_isDead_24

def fX0_house (u : St) (ho : Int32) (wo : Int32) : Int32 × St :=
  if (u.1 14) = 8 then ((-1), u) else (if (fX0_isPerson u ho) = true then (if wo < 0 then ((-1), u) else (if wo ≤ 1000000 then (((u.1 14) + 1) - 1, (si (sa (sa u 8 ((u.1 14).toNatClampNeg) ho) 9 ((u.1 14).toNatClampNeg) wo) 14 ((u.1 14) + 1))) else ((-1), u))) else ((-1), u))
def okX0_house (n : Nat) (u : St) (ho : Int32) (wo : Int32) : Prop :=
  (¬ ((u.1 14) = 8) → (fX0_isPerson u ho) = true → ¬ (wo < 0) → wo ≤ 1000000 → vp_in (u.1 14) 8)
set_option maxHeartbeats 4000000 in
theorem metX0_house (l : Launch) (D : va_G) (cA : Nat → ClassId) (o : Nat) (g : Gh) (u : St) (ho : Int32) (wo : Int32) (hok : okX0_house g.1 u ho wo) : CetM l yX0_house cX0_house 3 (some .int) 1 D cA o g u [.ref o, .int ho, .int wo] (some (.int (fX0_house u ho wo).1)) (fX0_house u ho wo).2 := by
  have hN0 := hok
  refine cM_start RX0 (by decide) rfl (Nat.le_of_ble_eq_true rfl) ?_
  intro pg ev s0 mi bl me co hx hb hml hown hts hr hlk hK hM ls hl
  have hl : lv_has ls 3 [(0, .ref o), (1, .int ho), (2, .int wo)] := hl
  have hS : va_S (cF o g) s0.heap s0.heap [] := va_S.rf
  refine lv_aload_n hx hb dX0_house_0 rfl (lv_at hl 0 rfl) ?_
  refine cw_get (v := .int (u.1 14)) hx hb hts hown hK hM 14 (by decide) q203 rfl rfl dX0_house_1 ?_
  refine lv_bipush (v := 8) hx hb dX0_house_4 (by decide) ?_
  refine lv_icmp_eq (tgt := 27) hx hb dX0_house_6 (by decide) (fun c_6 => ?_) (fun c_6 => ?_)
  · skip
    refine lv_iconst (v := (-1)) hx hb dX0_house_27 (by decide) ?_
    have hF : fX0_house u ho wo = ((-1), u) := by rw [fX0_house, if_pos c_6]
    exact cw_iret hx hb hr hlk hM hS (by rw [hF]) (by rw [hF]) dX0_house_28
  · skip
    refine lv_aload_n hx hb dX0_house_9 rfl (lv_at hl 0 rfl) ?_
    refine lv_iload_n hx hb dX0_house_10 rfl (lv_at hl 1 rfl) ?_
    refine ro_call (cw_run (n := 1) (As := [.int ho]) (rest := []) hx hb hml hown hts (metX0_isPerson l D cA o g u ho) q289 q291 qs0 q292 (by decide +kernel) (by decide) (by decide) rfl hK hM hl.1 (Nat.le_of_ble_eq_true rfl) rfl dX0_house_11 ⟨Nat.le_refl _, Nat.le_refl _⟩) ?_
    refine lv_B_eq (tgt := 27) hx hb dX0_house_14 (by decide) (fun c_14 => ?_) (fun c_14 => ?_)
    · skip
      refine lv_iconst (v := (-1)) hx hb dX0_house_27 (by decide) ?_
      have hF : fX0_house u ho wo = ((-1), u) := by rw [fX0_house, if_neg c_6, if_neg (nt_of c_14)]
      exact cw_iret hx hb hr hlk hM hS (by rw [hF]) (by rw [hF]) dX0_house_28
    · skip
      refine lv_iload_n hx hb dX0_house_17 rfl (lv_at hl 2 rfl) ?_
      refine lv_if_lt (tgt := 27) hx hb dX0_house_18 (by decide) (fun c_18 => ?_) (fun c_18 => ?_)
      · skip
        refine lv_iconst (v := (-1)) hx hb dX0_house_27 (by decide) ?_
        have hF : fX0_house u ho wo = ((-1), u) := by rw [fX0_house, if_neg c_6, if_pos c_14, if_pos c_18]
        exact cw_iret hx hb hr hlk hM hS (by rw [hF]) (by rw [hF]) dX0_house_28
      · skip
        refine lv_iload_n hx hb dX0_house_21 rfl (lv_at hl 2 rfl) ?_
        refine lv_ldc (v := 1000000) hx hb hown (hts _ q305) dX0_house_22 ?_
        refine lv_icmp_le (tgt := 29) hx hb dX0_house_24 (by decide) (fun c_24 => ?_) (fun c_24 => ?_)
        · skip
          refine lv_aload_n hx hb dX0_house_29 rfl (lv_at hl 0 rfl) ?_
          refine cw_get (v := .ref (cAd o 8)) hx hb hts hown hK hM 8 (by decide) q196 rfl rfl dX0_house_30 ?_
          refine lv_aload_n hx hb dX0_house_33 rfl (lv_at hl 0 rfl) ?_
          refine cw_get (v := .int (u.1 14)) hx hb hts hown hK hM 14 (by decide) q203 rfl rfl dX0_house_34 ?_
          refine lv_iload_n hx hb dX0_house_37 rfl (lv_at hl 1 rfl) ?_
          refine cw_ist (j := (u.1 14).toNatClampNeg) hx hb hK hM hS 8 (by decide) rfl rfl (hN0 c_6 c_14 c_18 c_24) rfl dX0_house_38 (fun H locs hM hS => ?_)
          refine lv_aload_n hx hb dX0_house_39 rfl (lv_at hl 0 rfl) ?_
          refine cw_get (v := .ref (cAd o 9)) hx hb hts hown hK hM 9 (by decide) q197 rfl rfl dX0_house_40 ?_
          refine lv_aload_n hx hb dX0_house_43 rfl (lv_at hl 0 rfl) ?_
          refine cw_get (v := .int (u.1 14)) hx hb hts hown hK hM 14 (by decide) q203 rfl rfl dX0_house_44 ?_
          refine lv_iload_n hx hb dX0_house_47 rfl (lv_at hl 2 rfl) ?_
          refine cw_ist (j := (u.1 14).toNatClampNeg) hx hb hK hM hS 9 (by decide) rfl rfl (hN0 c_6 c_14 c_18 c_24) rfl dX0_house_48 (fun H locs hM hS => ?_)
          refine lv_aload_n hx hb dX0_house_49 rfl (lv_at hl 0 rfl) ?_
          refine lv_dup hx hb dX0_house_50 rfl ?_
          refine cw_get (v := .int (u.1 14)) hx hb hts hown hK hM 14 (by decide) q203 rfl rfl dX0_house_51 ?_
          refine lv_iconst (v := 1) hx hb dX0_house_54 (by decide) ?_
          refine lv_iadd hx hb dX0_house_55 ?_
          refine cw_puti hx hb hts hown hK hM hS 14 (by decide) q203 rfl rfl rfl rfl dX0_house_56 (fun H locs hM hS => ?_)
          refine lv_aload_n hx hb dX0_house_59 rfl (lv_at hl 0 rfl) ?_
          refine cw_get (v := .int ((u.1 14) + 1)) hx hb hts hown hK hM 14 (by decide) q203 rfl rfl dX0_house_60 ?_
          refine lv_iconst (v := 1) hx hb dX0_house_63 (by decide) ?_
          refine lv_isub hx hb dX0_house_64 ?_
          have hF : fX0_house u ho wo = (((u.1 14) + 1) - 1, (si (sa (sa u 8 ((u.1 14).toNatClampNeg) ho) 9 ((u.1 14).toNatClampNeg) wo) 14 ((u.1 14) + 1))) := by rw [fX0_house, if_neg c_6, if_pos c_14, if_neg c_18, if_pos c_24]
          exact cw_iret hx hb hr hlk hM hS (by rw [hF]) (by rw [hF]) dX0_house_65
        · skip
          refine lv_iconst (v := (-1)) hx hb dX0_house_27 (by decide) ?_
          have hF : fX0_house u ho wo = ((-1), u) := by rw [fX0_house, if_neg c_6, if_pos c_14, if_neg c_18, if_neg c_24]
          exact cw_iret hx hb hr hlk hM hS (by rw [hF]) (by rw [hF]) dX0_house_28

def fX0_level (u : St) (ye : Int32) (le : Int32) : Bool × St :=
  if (fX0_isYear ye) = true then (if le < 1 then (false, u) else (if le ≤ 10000 then (true, (sa u 10 ye.toNatClampNeg le)) else (false, u))) else (false, u)
def okX0_level (n : Nat) (u : St) (ye : Int32) (le : Int32) : Prop :=
  ((fX0_isYear ye) = true → ¬ (le < 1) → le ≤ 10000 → vp_in ye 100)
set_option maxHeartbeats 4000000 in
theorem metX0_level (l : Launch) (D : va_G) (cA : Nat → ClassId) (o : Nat) (g : Gh) (u : St) (ye : Int32) (le : Int32) (hok : okX0_level g.1 u ye le) : CetM l yX0_level cX0_level 3 (some .boolean) 1 D cA o g u [.ref o, .int ye, .int le] (some (.int (b2 (fX0_level u ye le).1))) (fX0_level u ye le).2 := by
  have hN0 := hok
  refine cM_start RX0 (by decide) rfl (Nat.le_of_ble_eq_true rfl) ?_
  intro pg ev s0 mi bl me co hx hb hml hown hts hr hlk hK hM ls hl
  have hl : lv_has ls 3 [(0, .ref o), (1, .int ye), (2, .int le)] := hl
  have hS : va_S (cF o g) s0.heap s0.heap [] := va_S.rf
  refine lv_iload_n hx hb dX0_level_0 rfl (lv_at hl 1 rfl) ?_
  refine ro_call (st_run (n := 1) (As := [.int ye]) (rest := []) hx hb hml hown hts (metX0_isYear l ye) q310 q311 q64 q312 (by decide +kernel) (by decide) (by decide) rfl hl.1 (Nat.le_of_ble_eq_true rfl) rfl dX0_level_1 ⟨Nat.le_refl _, Nat.le_refl _⟩) ?_
  refine lv_B_eq (tgt := 19) hx hb dX0_level_4 (by decide) (fun c_4 => ?_) (fun c_4 => ?_)
  · skip
    refine lv_iconst (v := 0) hx hb dX0_level_19 (by decide) ?_
    have hF : fX0_level u ye le = (false, u) := by rw [fX0_level, if_neg (nt_of c_4)]
    exact cw_zret hx hb hr hlk hM hS (by rw [hF]; rfl) (by rw [hF]) dX0_level_20
  · skip
    refine lv_iload_n hx hb dX0_level_7 rfl (lv_at hl 2 rfl) ?_
    refine lv_iconst (v := 1) hx hb dX0_level_8 (by decide) ?_
    refine lv_icmp_lt (tgt := 19) hx hb dX0_level_9 (by decide) (fun c_9 => ?_) (fun c_9 => ?_)
    · skip
      refine lv_iconst (v := 0) hx hb dX0_level_19 (by decide) ?_
      have hF : fX0_level u ye le = (false, u) := by rw [fX0_level, if_pos c_4, if_pos c_9]
      exact cw_zret hx hb hr hlk hM hS (by rw [hF]; rfl) (by rw [hF]) dX0_level_20
    · skip
      refine lv_iload_n hx hb dX0_level_12 rfl (lv_at hl 2 rfl) ?_
      refine lv_sipush (v := 10000) hx hb dX0_level_13 (by decide) ?_
      refine lv_icmp_le (tgt := 21) hx hb dX0_level_16 (by decide) (fun c_16 => ?_) (fun c_16 => ?_)
      · skip
        refine lv_aload_n hx hb dX0_level_21 rfl (lv_at hl 0 rfl) ?_
        refine cw_get (v := .ref (cAd o 10)) hx hb hts hown hK hM 10 (by decide) q199 rfl rfl dX0_level_22 ?_
        refine lv_iload_n hx hb dX0_level_25 rfl (lv_at hl 1 rfl) ?_
        refine lv_iload_n hx hb dX0_level_26 rfl (lv_at hl 2 rfl) ?_
        refine cw_ist (j := ye.toNatClampNeg) hx hb hK hM hS 10 (by decide) rfl rfl (hN0 c_4 c_9 c_16) rfl dX0_level_27 (fun H locs hM hS => ?_)
        refine lv_iconst (v := 1) hx hb dX0_level_28 (by decide) ?_
        have hF : fX0_level u ye le = (true, (sa u 10 ye.toNatClampNeg le)) := by rw [fX0_level, if_pos c_4, if_neg c_9, if_pos c_16]
        exact cw_zret hx hb hr hlk hM hS (by rw [hF]; rfl) (by rw [hF]) dX0_level_29
      · skip
        refine lv_iconst (v := 0) hx hb dX0_level_19 (by decide) ?_
        have hF : fX0_level u ye le = (false, u) := by rw [fX0_level, if_pos c_4, if_neg c_9, if_neg c_16]
        exact cw_zret hx hb hr hlk hM hS (by rw [hF]; rfl) (by rw [hF]) dX0_level_20

def fX0_inMoney (u : St) (su : Int32) (fr : Int32) (to : Int32) : Int64 :=
  (su.toInt64 * ((u.2.1 10 to.toNatClampNeg).toInt64)) / ((u.2.1 10 fr.toNatClampNeg).toInt64)
def okX0_inMoney (n : Nat) (u : St) (su : Int32) (fr : Int32) (to : Int32) : Prop :=
  (vp_in to 100) ∧ (vp_in fr 100) ∧ (¬ ((u.2.1 10 fr.toNatClampNeg).toInt64) = 0)
set_option maxHeartbeats 4000000 in
theorem metX0_inMoney (l : Launch) (D : va_G) (cA : Nat → ClassId) (o : Nat) (g : Gh) (u : St) (su : Int32) (fr : Int32) (to : Int32) (hok : okX0_inMoney g.1 u su fr to) : CetR l yX0_inMoney cX0_inMoney 4 (some .long) 0 D cA o g u [.ref o, .int su, .int fr, .int to] (some (.long (fX0_inMoney u su fr to))) := by
  obtain ⟨hN0, hN1, hN2⟩ := hok
  refine cM_start RX0 (by decide) rfl (Nat.le_of_ble_eq_true rfl) ?_
  intro pg ev s0 mi bl me co hx hb hml hown hts hr hlk hK hM ls hl
  have hl : lv_has ls 4 [(0, .ref o), (1, .int su), (2, .int fr), (3, .int to)] := hl
  refine lv_iload_n hx hb dX0_inMoney_0 rfl (lv_at hl 1 rfl) ?_
  refine lv_i2l hx hb dX0_inMoney_1 rfl ?_
  refine lv_aload_n hx hb dX0_inMoney_2 rfl (lv_at hl 0 rfl) ?_
  refine cw_get (v := .ref (cAd o 10)) hx hb hts hown hK hM 10 (by decide) q199 rfl rfl dX0_inMoney_3 ?_
  refine lv_iload_n hx hb dX0_inMoney_6 rfl (lv_at hl 3 rfl) ?_
  refine cw_ild (v := u.2.1 10 to.toNatClampNeg) (j := to.toNatClampNeg) hx hb hK hM 10 (by decide) rfl rfl hN0 rfl rfl dX0_inMoney_7 ?_
  refine lv_i2l hx hb dX0_inMoney_8 rfl ?_
  refine lv_lmul hx hb dX0_inMoney_9 ?_
  refine lv_aload_n hx hb dX0_inMoney_10 rfl (lv_at hl 0 rfl) ?_
  refine cw_get (v := .ref (cAd o 10)) hx hb hts hown hK hM 10 (by decide) q199 rfl rfl dX0_inMoney_11 ?_
  refine lv_iload_n hx hb dX0_inMoney_14 rfl (lv_at hl 2 rfl) ?_
  refine cw_ild (v := u.2.1 10 fr.toNatClampNeg) (j := fr.toNatClampNeg) hx hb hK hM 10 (by decide) rfl rfl hN1 rfl rfl dX0_inMoney_15 ?_
  refine lv_i2l hx hb dX0_inMoney_16 rfl ?_
  refine lv_ldiv hx hb dX0_inMoney_17 hN2 ?_
  have hF : fX0_inMoney u su fr to = (su.toInt64 * ((u.2.1 10 to.toNatClampNeg).toInt64)) / ((u.2.1 10 fr.toNatClampNeg).toInt64) := by rw [fX0_inMoney]
  exact lret_ro hx hb hr hlk (by rw [hF]) dX0_inMoney_18

def fX0_money (u : St) (su : Int32) (fr : Int32) (to : Int32) : Int64 :=
  if su < 0 then (-1) else (if 1000000 < su then (-1) else (if (fX0_isYear fr) = true then (if (fX0_isYear to) = true then fX0_inMoney u su fr to else (-1)) else (-1)))
def okX0_money (n : Nat) (u : St) (su : Int32) (fr : Int32) (to : Int32) : Prop :=
  (¬ (su < 0) → ¬ (1000000 < su) → (fX0_isYear fr) = true → (fX0_isYear to) = true → okX0_inMoney n u su fr to)
set_option maxHeartbeats 4000000 in
theorem metX0_money (l : Launch) (D : va_G) (cA : Nat → ClassId) (o : Nat) (g : Gh) (u : St) (su : Int32) (fr : Int32) (to : Int32) (hok : okX0_money g.1 u su fr to) : CetR l yX0_money cX0_money 4 (some .long) 1 D cA o g u [.ref o, .int su, .int fr, .int to] (some (.long (fX0_money u su fr to))) := by
  have hN0 := hok
  refine cM_start RX0 (by decide) rfl (Nat.le_of_ble_eq_true rfl) ?_
  intro pg ev s0 mi bl me co hx hb hml hown hts hr hlk hK hM ls hl
  have hl : lv_has ls 4 [(0, .ref o), (1, .int su), (2, .int fr), (3, .int to)] := hl
  refine lv_iload_n hx hb dX0_money_0 rfl (lv_at hl 1 rfl) ?_
  refine lv_if_lt (tgt := 24) hx hb dX0_money_1 (by decide) (fun c_1 => ?_) (fun c_1 => ?_)
  · skip
    refine lv_ldc2 (v := (-1)) hx hb hown (hts _ q317) dX0_money_24 ?_
    refine lv_goto (tgt := 37) hx hb dX0_money_27 (by decide) ?_
    have hF : fX0_money u su fr to = (-1) := by rw [fX0_money, if_pos c_1]
    exact lret_ro hx hb hr hlk (by rw [hF]) dX0_money_37
  · skip
    refine lv_iload_n hx hb dX0_money_4 rfl (lv_at hl 1 rfl) ?_
    refine lv_ldc (v := 1000000) hx hb hown (hts _ q305) dX0_money_5 ?_
    refine lv_icmp_gt (tgt := 24) hx hb dX0_money_7 (by decide) (fun c_7 => ?_) (fun c_7 => ?_)
    · skip
      refine lv_ldc2 (v := (-1)) hx hb hown (hts _ q317) dX0_money_24 ?_
      refine lv_goto (tgt := 37) hx hb dX0_money_27 (by decide) ?_
      have hF : fX0_money u su fr to = (-1) := by rw [fX0_money, if_neg c_1, if_pos c_7]
      exact lret_ro hx hb hr hlk (by rw [hF]) dX0_money_37
    · skip
      refine lv_iload_n hx hb dX0_money_10 rfl (lv_at hl 2 rfl) ?_
      refine ro_call (st_run (n := 1) (As := [.int fr]) (rest := []) hx hb hml hown hts (metX0_isYear l fr) q310 q311 q64 q312 (by decide +kernel) (by decide) (by decide) rfl hl.1 (Nat.le_of_ble_eq_true rfl) rfl dX0_money_11 ⟨Nat.le_refl _, Nat.le_refl _⟩) ?_
      refine lv_B_eq (tgt := 24) hx hb dX0_money_14 (by decide) (fun c_14 => ?_) (fun c_14 => ?_)
      · skip
        refine lv_ldc2 (v := (-1)) hx hb hown (hts _ q317) dX0_money_24 ?_
        refine lv_goto (tgt := 37) hx hb dX0_money_27 (by decide) ?_
        have hF : fX0_money u su fr to = (-1) := by rw [fX0_money, if_neg c_1, if_neg c_7, if_neg (nt_of c_14)]
        exact lret_ro hx hb hr hlk (by rw [hF]) dX0_money_37
      · skip
        refine lv_iload_n hx hb dX0_money_17 rfl (lv_at hl 3 rfl) ?_
        refine ro_call (st_run (n := 1) (As := [.int to]) (rest := []) hx hb hml hown hts (metX0_isYear l to) q310 q311 q64 q312 (by decide +kernel) (by decide) (by decide) rfl hl.1 (Nat.le_of_ble_eq_true rfl) rfl dX0_money_18 ⟨Nat.le_refl _, Nat.le_refl _⟩) ?_
        refine lv_B_ne (tgt := 30) hx hb dX0_money_21 (by decide) (fun c_21 => ?_) (fun c_21 => ?_)
        · skip
          refine lv_aload_n hx hb dX0_money_30 rfl (lv_at hl 0 rfl) ?_
          refine lv_iload_n hx hb dX0_money_31 rfl (lv_at hl 1 rfl) ?_
          refine lv_iload_n hx hb dX0_money_32 rfl (lv_at hl 2 rfl) ?_
          refine lv_iload_n hx hb dX0_money_33 rfl (lv_at hl 3 rfl) ?_
          refine ro_call (cw_run (n := 3) (As := [.int su, .int fr, .int to]) (rest := []) hx hb hml hown hts (metX0_inMoney l D cA o g u su fr to (hN0 c_1 c_7 c_14 c_21)) q318 q320 qs1 q321 (by decide +kernel) (by decide) (by decide) rfl hK hM hl.1 (Nat.le_of_ble_eq_true rfl) rfl dX0_money_34 ⟨Nat.le_refl _, Nat.le_refl _⟩) ?_
          have hF : fX0_money u su fr to = fX0_inMoney u su fr to := by rw [fX0_money, if_neg c_1, if_neg c_7, if_pos c_14, if_pos c_21]
          exact lret_ro hx hb hr hlk (by rw [hF]) dX0_money_37
        · skip
          refine lv_ldc2 (v := (-1)) hx hb hown (hts _ q317) dX0_money_24 ?_
          refine lv_goto (tgt := 37) hx hb dX0_money_27 (by decide) ?_
          have hF : fX0_money u su fr to = (-1) := by rw [fX0_money, if_neg c_1, if_neg c_7, if_pos c_14, if_neg (nt_of c_21)]
          exact lret_ro hx hb hr hlk (by rw [hF]) dX0_money_37

def fX0_paperAt (u : St) (k : Int32) : Int32 :=
  if k < 0 then (-1) else (if (u.1 15) ≤ k then (-1) else k)
def okX0_paperAt (n : Nat) (u : St) (k : Int32) : Prop :=
  (¬ (k < 0) → ¬ ((u.1 15) ≤ k) → vp_in k 60) ∧ (¬ (k < 0) → ¬ ((u.1 15) ≤ k) → k.toNatClampNeg < n)
set_option maxHeartbeats 4000000 in
theorem metX0_paperAt (l : Launch) (D : va_G) (cA : Nat → ClassId) (o : Nat) (g : Gh) (u : St) (k : Int32) (hok : okX0_paperAt g.1 u k) : CetR l yX0_paperAt cX0_paperAt 2 (some (.object "HomeRoll$Paper")) 0 D cA o g u [.ref o, .int k] (some (va_rf (pr g (fX0_paperAt u k)))) := by
  obtain ⟨hN0, hN1⟩ := hok
  refine cM_start RX0 (by decide) rfl (Nat.le_of_ble_eq_true rfl) ?_
  intro pg ev s0 mi bl me co hx hb hml hown hts hr hlk hK hM ls hl
  have hl : lv_has ls 2 [(0, .ref o), (1, .int k)] := hl
  refine lv_iload_n hx hb dX0_paperAt_0 rfl (lv_at hl 1 rfl) ?_
  refine lv_if_lt (tgt := 21) hx hb dX0_paperAt_1 (by decide) (fun c_1 => ?_) (fun c_1 => ?_)
  · skip
    refine lv_null_q (g := g) hx hb dX0_paperAt_21 ?_
    have hF : fX0_paperAt u k = (-1) := by rw [fX0_paperAt, if_pos c_1]
    exact pret_ro hx hb hr hlk (by rw [hF]) dX0_paperAt_22
  · skip
    refine lv_iload_n hx hb dX0_paperAt_4 rfl (lv_at hl 1 rfl) ?_
    refine lv_aload_n hx hb dX0_paperAt_5 rfl (lv_at hl 0 rfl) ?_
    refine cw_get (v := .int (u.1 15)) hx hb hts hown hK hM 15 (by decide) q204 rfl rfl dX0_paperAt_6 ?_
    refine lv_icmp_ge (tgt := 21) hx hb dX0_paperAt_9 (by decide) (fun c_9 => ?_) (fun c_9 => ?_)
    · skip
      refine lv_null_q (g := g) hx hb dX0_paperAt_21 ?_
      have hF : fX0_paperAt u k = (-1) := by rw [fX0_paperAt, if_neg c_1, if_pos c_9]
      exact pret_ro hx hb hr hlk (by rw [hF]) dX0_paperAt_22
    · skip
      refine lv_aload_n hx hb dX0_paperAt_12 rfl (lv_at hl 0 rfl) ?_
      refine cw_get (v := .ref (cAd o 11)) hx hb hts hown hK hM 11 (by decide) q200 rfl rfl dX0_paperAt_13 ?_
      refine lv_iload_n hx hb dX0_paperAt_16 rfl (lv_at hl 1 rfl) ?_
      refine cw_pap hx hb hK hM (hN0 c_1 c_9) (hN1 c_1 c_9) dX0_paperAt_17 ?_
      refine lv_goto (tgt := 22) hx hb dX0_paperAt_18 (by decide) ?_
      have hF : fX0_paperAt u k = k := by rw [fX0_paperAt, if_neg c_1, if_neg c_9]
      exact pret_ro hx hb hr hlk (by rw [hF]) dX0_paperAt_22

def fX0_isFalse (u : St) (pa : Int32) : Bool × St :=
  if (fX0_paperAt u pa) < 0 then (false, u) else (if (u.2.1 68 ((fX0_paperAt u pa).toNatClampNeg)) < 0 then (true, (sa u 68 ((fX0_paperAt u pa).toNatClampNeg) (u.1 16))) else (false, u))
def okX0_isFalse (n : Nat) (u : St) (pa : Int32) : Prop :=
  (okX0_paperAt n u pa) ∧ (¬ ((fX0_paperAt u pa) < 0) → pIn n (fX0_paperAt u pa))
set_option maxHeartbeats 4000000 in
theorem metX0_isFalse (l : Launch) (D : va_G) (cA : Nat → ClassId) (o : Nat) (g : Gh) (u : St) (pa : Int32) (hok : okX0_isFalse g.1 u pa) : CetM l yX0_isFalse cX0_isFalse 3 (some .boolean) 1 D cA o g u [.ref o, .int pa] (some (.int (b2 (fX0_isFalse u pa).1))) (fX0_isFalse u pa).2 := by
  obtain ⟨hN0, hN1⟩ := hok
  refine cM_start RX0 (by decide) rfl (Nat.le_of_ble_eq_true rfl) ?_
  intro pg ev s0 mi bl me co hx hb hml hown hts hr hlk hK hM ls hl
  have hl : lv_has ls 3 [(0, .ref o), (1, .int pa)] := hl
  have hS : va_S (cF o g) s0.heap s0.heap [] := va_S.rf
  refine lv_aload_n hx hb dX0_isFalse_0 rfl (lv_at hl 0 rfl) ?_
  refine lv_iload_n hx hb dX0_isFalse_1 rfl (lv_at hl 1 rfl) ?_
  refine ro_call (cw_run (n := 1) (As := [.int pa]) (rest := []) hx hb hml hown hts (metX0_paperAt l D cA o g u pa hN0) q380 q382 qs3 q383 (by decide +kernel) (by decide) (by decide) rfl hK hM hl.1 (Nat.le_of_ble_eq_true rfl) rfl dX0_isFalse_2 ⟨Nat.le_refl _, Nat.le_refl _⟩) ?_
  refine lv_astore_nq (lv' := [(2, va_rf (pr g (fX0_paperAt u pa))), (0, .ref o), (1, .int pa)]) hx hb dX0_isFalse_5 rfl hl (by decide) rfl (fun ls hl => ?_)
  refine lv_aload_nq hx hb dX0_isFalse_6 rfl (lv_at hl 0 rfl) ?_
  refine lv_ifnull_q (tgt := 17) hx hb dX0_isFalse_7 (by decide) (fun c_7 => ?_) (fun c_7 => ?_)
  · skip
    refine lv_iconst (v := 0) hx hb dX0_isFalse_17 (by decide) ?_
    have hF : fX0_isFalse u pa = (false, u) := by rw [fX0_isFalse, if_pos c_7]
    exact cw_zret hx hb hr hlk hM hS (by rw [hF]; rfl) (by rw [hF]) dX0_isFalse_18
  · skip
    refine lv_aload_nq hx hb dX0_isFalse_10 rfl (lv_at hl 0 rfl) ?_
    refine cw_pget (v := u.2.1 68 ((fX0_paperAt u pa).toNatClampNeg)) (i := fX0_paperAt u pa) hx hb hts hown hK hM 8 (by decide) (hN1 c_7) q356 rfl rfl dX0_isFalse_11 ?_
    refine lv_if_lt (tgt := 19) hx hb dX0_isFalse_14 (by decide) (fun c_14 => ?_) (fun c_14 => ?_)
    · skip
      refine lv_aload_nq hx hb dX0_isFalse_19 rfl (lv_at hl 0 rfl) ?_
      refine lv_aload_n hx hb dX0_isFalse_20 rfl (lv_at hl 1 rfl) ?_
      refine cw_get (v := .int (u.1 16)) hx hb hts hown hK hM 16 (by decide) q205 rfl rfl dX0_isFalse_21 ?_
      refine cw_pput (i := fX0_paperAt u pa) (j := (fX0_paperAt u pa).toNatClampNeg) hx hb hts hown hK hM hS 8 (by decide) (hN1 c_7) q356 rfl rfl rfl rfl dX0_isFalse_24 (fun H locs hM hS => ?_)
      refine lv_iconst (v := 1) hx hb dX0_isFalse_27 (by decide) ?_
      have hF : fX0_isFalse u pa = (true, (sa u 68 ((fX0_paperAt u pa).toNatClampNeg) (u.1 16))) := by rw [fX0_isFalse, if_neg c_7, if_pos c_14]
      exact cw_zret hx hb hr hlk hM hS (by rw [hF]; rfl) (by rw [hF]) dX0_isFalse_28
    · skip
      refine lv_iconst (v := 0) hx hb dX0_isFalse_17 (by decide) ?_
      have hF : fX0_isFalse u pa = (false, u) := by rw [fX0_isFalse, if_neg c_7, if_neg c_14]
      exact cw_zret hx hb hr hlk hM hS (by rw [hF]; rfl) (by rw [hF]) dX0_isFalse_18

def fX0_later (u : St) (da : Int32) : Int32 × St :=
  if da < 0 then ((-1), u) else (if 1000 < da then ((-1), u) else (if ((u.1 16) + da) ≤ 36499 then ((u.1 16) + da, (si u 16 ((u.1 16) + da))) else ((-1), u)))
set_option maxHeartbeats 4000000 in
theorem metX0_later (l : Launch) (D : va_G) (cA : Nat → ClassId) (o : Nat) (g : Gh) (u : St) (da : Int32) : CetM l yX0_later cX0_later 2 (some .int) 0 D cA o g u [.ref o, .int da] (some (.int (fX0_later u da).1)) (fX0_later u da).2 := by
  refine cM_start RX0 (by decide) rfl (Nat.le_of_ble_eq_true rfl) ?_
  intro pg ev s0 mi bl me co hx hb hml hown hts hr hlk hK hM ls hl
  have hl : lv_has ls 2 [(0, .ref o), (1, .int da)] := hl
  have hS : va_S (cF o g) s0.heap s0.heap [] := va_S.rf
  refine lv_iload_n hx hb dX0_later_0 rfl (lv_at hl 1 rfl) ?_
  refine lv_if_lt (tgt := 22) hx hb dX0_later_1 (by decide) (fun c_1 => ?_) (fun c_1 => ?_)
  · skip
    refine lv_iconst (v := (-1)) hx hb dX0_later_22 (by decide) ?_
    have hF : fX0_later u da = ((-1), u) := by rw [fX0_later, if_pos c_1]
    exact cw_iret hx hb hr hlk hM hS (by rw [hF]) (by rw [hF]) dX0_later_23
  · skip
    refine lv_iload_n hx hb dX0_later_4 rfl (lv_at hl 1 rfl) ?_
    refine lv_sipush (v := 1000) hx hb dX0_later_5 (by decide) ?_
    refine lv_icmp_gt (tgt := 22) hx hb dX0_later_8 (by decide) (fun c_8 => ?_) (fun c_8 => ?_)
    · skip
      refine lv_iconst (v := (-1)) hx hb dX0_later_22 (by decide) ?_
      have hF : fX0_later u da = ((-1), u) := by rw [fX0_later, if_neg c_1, if_pos c_8]
      exact cw_iret hx hb hr hlk hM hS (by rw [hF]) (by rw [hF]) dX0_later_23
    · skip
      refine lv_aload_n hx hb dX0_later_11 rfl (lv_at hl 0 rfl) ?_
      refine cw_get (v := .int (u.1 16)) hx hb hts hown hK hM 16 (by decide) q205 rfl rfl dX0_later_12 ?_
      refine lv_iload_n hx hb dX0_later_15 rfl (lv_at hl 1 rfl) ?_
      refine lv_iadd hx hb dX0_later_16 ?_
      refine lv_ldc (v := 36499) hx hb hown (hts _ q300) dX0_later_17 ?_
      refine lv_icmp_le (tgt := 24) hx hb dX0_later_19 (by decide) (fun c_19 => ?_) (fun c_19 => ?_)
      · skip
        refine lv_aload_n hx hb dX0_later_24 rfl (lv_at hl 0 rfl) ?_
        refine lv_dup hx hb dX0_later_25 rfl ?_
        refine cw_get (v := .int (u.1 16)) hx hb hts hown hK hM 16 (by decide) q205 rfl rfl dX0_later_26 ?_
        refine lv_iload_n hx hb dX0_later_29 rfl (lv_at hl 1 rfl) ?_
        refine lv_iadd hx hb dX0_later_30 ?_
        refine cw_puti hx hb hts hown hK hM hS 16 (by decide) q205 rfl rfl rfl rfl dX0_later_31 (fun H locs hM hS => ?_)
        refine lv_aload_n hx hb dX0_later_34 rfl (lv_at hl 0 rfl) ?_
        refine cw_get (v := .int ((u.1 16) + da)) hx hb hts hown hK hM 16 (by decide) q205 rfl rfl dX0_later_35 ?_
        have hF : fX0_later u da = ((u.1 16) + da, (si u 16 ((u.1 16) + da))) := by rw [fX0_later, if_neg c_1, if_neg c_8, if_pos c_19]
        exact cw_iret hx hb hr hlk hM hS (by rw [hF]) (by rw [hF]) dX0_later_38
      · skip
        refine lv_iconst (v := (-1)) hx hb dX0_later_22 (by decide) ?_
        have hF : fX0_later u da = ((-1), u) := by rw [fX0_later, if_neg c_1, if_neg c_8, if_neg c_19]
        exact cw_iret hx hb hr hlk hM hS (by rw [hF]) (by rw [hF]) dX0_later_23

def lpX0_following_6 (u : St) (ho : Int32) (d : Int32) (k : Int32) (da : Int32) (ha : Int32) : Int32 × Int32 → Nat × Int32 × Int32
  | (be, j) => if (u.1 15) ≤ j then (1, be, j) else (if (u.2.1 61 j.toNatClampNeg) = ho then (if d < (u.2.1 64 j.toNatClampNeg) then (0, be, j + 1) else (if (fX4_counts u j k) = true then (if (u.2.1 64 j.toNatClampNeg) < da then (0, be, j + 1) else (if (u.2.1 64 j.toNatClampNeg) = da then (if ha < (u.2.1 60 j.toNatClampNeg) then (if be < 0 then (0, j, j + 1) else (if (u.2.1 64 be.toNatClampNeg) ≤ (u.2.1 64 j.toNatClampNeg) then (0, be, j + 1) else (0, j, j + 1))) else (0, be, j + 1)) else (if be < 0 then (0, j, j + 1) else (if (u.2.1 64 be.toNatClampNeg) ≤ (u.2.1 64 j.toNatClampNeg) then (0, be, j + 1) else (0, j, j + 1))))) else (0, be, j + 1))) else (0, be, j + 1))
def lpX0_following_6_r (u : St) (ho : Int32) (d : Int32) (k : Int32) (da : Int32) (ha : Int32) : Nat × Int32 × Int32 :=
  wh (lpX0_following_6 u ho d k da ha) 61 ((-1), 0)
def fX0_following (u : St) (ho : Int32) (d : Int32) (k : Int32) (da : Int32) (ha : Int32) : Int32 :=
  (lpX0_following_6_r u ho d k da ha).2.1
def okX0_following (n : Nat) (u : St) (ho : Int32) (d : Int32) (k : Int32) (da : Int32) (ha : Int32) : Prop :=
  ∃ (I_6 : (Int32 × Int32) → Prop), (LOK (lpX0_following_6 u ho d k da ha) 61 ((-1), 0) I_6) ∧ (∀ (be : Int32) (j : Int32), I_6 (be, j) → ¬ ((u.1 15) ≤ j) → vp_in j 60) ∧ (∀ (be : Int32) (j : Int32), I_6 (be, j) → ¬ ((u.1 15) ≤ j) → j.toNatClampNeg < n) ∧ (∀ (be : Int32) (j : Int32), I_6 (be, j) → ¬ ((u.1 15) ≤ j) → pIn n j) ∧ (∀ (be : Int32) (j : Int32), I_6 (be, j) → ¬ ((u.1 15) ≤ j) → (u.2.1 61 j.toNatClampNeg) = ho → ¬ (d < (u.2.1 64 j.toNatClampNeg)) → (fX4_counts u j k) = true → ¬ ((u.2.1 64 j.toNatClampNeg) < da) → ¬ ((u.2.1 64 j.toNatClampNeg) = da) → ¬ (be < 0) → pIn n be) ∧ (∀ (be : Int32) (j : Int32), I_6 (be, j) → ¬ ((u.1 15) ≤ j) → (u.2.1 61 j.toNatClampNeg) = ho → ¬ (d < (u.2.1 64 j.toNatClampNeg)) → (fX4_counts u j k) = true → ¬ ((u.2.1 64 j.toNatClampNeg) < da) → (u.2.1 64 j.toNatClampNeg) = da → ha < (u.2.1 60 j.toNatClampNeg) → ¬ (be < 0) → pIn n be)
set_option maxHeartbeats 4000000 in
theorem metX0_following (l : Launch) (D : va_G) (cA : Nat → ClassId) (o : Nat) (g : Gh) (u : St) (ho : Int32) (d : Int32) (k : Int32) (da : Int32) (ha : Int32) (hok : okX0_following g.1 u ho d k da ha) : CetR l yX0_following cX0_following 9 (some (.object "HomeRoll$Paper")) 1 D cA o g u [.ref o, .int ho, .int d, .int k, .int da, .int ha] (some (va_rf (pr g (fX0_following u ho d k da ha)))) := by
  obtain ⟨I_6, hN0, hN1, hN2, hN3, hN4, hN5⟩ := hok
  refine cM_start RX0 (by decide) rfl (Nat.le_of_ble_eq_true rfl) ?_
  intro pg ev s0 mi bl me co hx hb hml hown hts hr hlk hK hM ls hl
  have hl : lv_has ls 9 [(0, .ref o), (1, .int ho), (2, .int d), (3, .int k), (4, .int da), (5, .int ha)] := hl
  refine lv_null_q (g := g) hx hb dX0_following_0 ?_
  refine lv_astore_q (lv' := [(6, va_rf (pr g (-1))), (0, .ref o), (1, .int ho), (2, .int d), (3, .int k), (4, .int da), (5, .int ha)]) hx hb dX0_following_1 hl (by decide) rfl (fun ls hl => ?_)
  refine lv_iconst (v := 0) hx hb dX0_following_3 (by decide) ?_
  refine lv_istore (lv' := [(7, .int 0), (6, va_rf (pr g (-1))), (0, .ref o), (1, .int ho), (2, .int d), (3, .int k), (4, .int da), (5, .int ha)]) hx hb dX0_following_4 hl (by decide) (by simp [List.filter, va_rf_cat]) (fun ls hl => ?_)
  refine r_loop1 (rest := []) (nL := 9) (r := (lpX0_following_6_r u ho d k da ha)) (lpX0_following_6 u ho d k da ha) I_6 (fun q => [(6, va_rf (pr g q.1)), (7, .int q.2), (0, .ref o), (1, .int ho), (2, .int d), (3, .int k), (4, .int da), (5, .int ha)]) 6 112 61 ((-1), 0) hN0.2.1 hN0.1 hN0.2.2 rfl ?_ (lv_sub hl [1, 0, 2, 3, 4, 5, 6, 7] rfl) ?_
  · skip
    intro ⟨be, j⟩ hI_6 ls hl kb k1
    have hl : lv_has ls 9 [(6, va_rf (pr g be)), (7, .int j), (0, .ref o), (1, .int ho), (2, .int d), (3, .int k), (4, .int da), (5, .int ha)] := hl
    refine lv_iload hx hb dX0_following_6 (lv_at hl 1 rfl) ?_
    refine lv_aload_n hx hb dX0_following_8 rfl (lv_at hl 2 rfl) ?_
    refine cw_get (v := .int (u.1 15)) hx hb hts hown hK hM 15 (by decide) q204 rfl rfl dX0_following_9 ?_
    refine lv_icmp_ge (tgt := 112) hx hb dX0_following_12 (by decide) (fun c_12 => ?_) (fun c_12 => ?_)
    · skip
      have hs : lpX0_following_6 u ho d k da ha (be, j) = (1, be, j) := by rw [lpX0_following_6, if_pos c_12]
      rw [hs] at k1
      exact k1 (show ¬ (1 : Nat) = 0 by decide) _ (lv_sub hl [0, 1, 2, 3, 4, 5, 6, 7] rfl)
    · skip
      refine lv_aload_n hx hb dX0_following_15 rfl (lv_at hl 2 rfl) ?_
      refine cw_get (v := .ref (cAd o 11)) hx hb hts hown hK hM 11 (by decide) q200 rfl rfl dX0_following_16 ?_
      refine lv_iload hx hb dX0_following_19 (lv_at hl 1 rfl) ?_
      refine cw_pap hx hb hK hM (hN1 be j hI_6 c_12) (hN2 be j hI_6 c_12) dX0_following_21 ?_
      refine lv_astore_q (lv' := [(8, va_rf (pr g j)), (6, va_rf (pr g be)), (7, .int j), (0, .ref o), (1, .int ho), (2, .int d), (3, .int k), (4, .int da), (5, .int ha)]) hx hb dX0_following_22 hl (by decide) rfl (fun ls hl => ?_)
      refine lv_aload_q hx hb dX0_following_24 (lv_at hl 0 rfl) ?_
      refine cw_pget (v := u.2.1 61 j.toNatClampNeg) (i := j) hx hb hts hown hK hM 1 (by decide) (hN3 be j hI_6 c_12) q339 rfl rfl dX0_following_26 ?_
      refine lv_iload_n hx hb dX0_following_29 rfl (lv_at hl 4 rfl) ?_
      refine lv_icmp_ne (tgt := 106) hx hb dX0_following_30 (by decide) (fun c_30 => ?_) (fun c_30 => ?_)
      · skip
        refine lv_iinc (v := j + 1) (lv' := [(7, .int (j + 1)), (8, va_rf (pr g j)), (6, va_rf (pr g be)), (0, .ref o), (1, .int ho), (2, .int d), (3, .int k), (4, .int da), (5, .int ha)]) hx hb dX0_following_106 hl (k := 2) rfl (rfl) (by decide) (by simp [List.filter, va_rf_cat]) (fun ls hl => ?_)
        refine lv_goto (tgt := 6) hx hb dX0_following_109 (by decide) ?_
        have hs : lpX0_following_6 u ho d k da ha (be, j) = (0, be, j + 1) := by rw [lpX0_following_6, if_neg c_12, if_neg c_30]
        rw [hs] at kb
        exact kb rfl _ (lv_sub hl [2, 0, 3, 4, 5, 6, 7, 8] rfl)
      · skip
        refine lv_aload_q hx hb dX0_following_33 (lv_at hl 0 rfl) ?_
        refine cw_pget (v := u.2.1 64 j.toNatClampNeg) (i := j) hx hb hts hown hK hM 4 (by decide) (hN3 be j hI_6 c_12) q348 rfl rfl dX0_following_35 ?_
        refine lv_iload_n hx hb dX0_following_38 rfl (lv_at hl 5 rfl) ?_
        refine lv_icmp_gt (tgt := 106) hx hb dX0_following_39 (by decide) (fun c_39 => ?_) (fun c_39 => ?_)
        · skip
          refine lv_iinc (v := j + 1) (lv' := [(7, .int (j + 1)), (8, va_rf (pr g j)), (6, va_rf (pr g be)), (0, .ref o), (1, .int ho), (2, .int d), (3, .int k), (4, .int da), (5, .int ha)]) hx hb dX0_following_106 hl (k := 2) rfl (rfl) (by decide) (by simp [List.filter, va_rf_cat]) (fun ls hl => ?_)
          refine lv_goto (tgt := 6) hx hb dX0_following_109 (by decide) ?_
          have hs : lpX0_following_6 u ho d k da ha (be, j) = (0, be, j + 1) := by rw [lpX0_following_6, if_neg c_12, if_pos c_30, if_pos c_39]
          rw [hs] at kb
          exact kb rfl _ (lv_sub hl [2, 0, 3, 4, 5, 6, 7, 8] rfl)
        · skip
          refine lv_aload_q hx hb dX0_following_42 (lv_at hl 0 rfl) ?_
          refine lv_iload_n hx hb dX0_following_44 rfl (lv_at hl 6 rfl) ?_
          refine cw_pcounts (i := j) (k := k) (rest := []) hx hb hml hown hts q400 (by decide +kernel) (by decide) hK hM (hN3 be j hI_6 c_12) hl.1 (Nat.le_of_ble_eq_true rfl) dX0_following_45 ?_
          refine lv_B_eq (tgt := 106) hx hb dX0_following_48 (by decide) (fun c_48 => ?_) (fun c_48 => ?_)
          · skip
            refine lv_iinc (v := j + 1) (lv' := [(7, .int (j + 1)), (8, va_rf (pr g j)), (6, va_rf (pr g be)), (0, .ref o), (1, .int ho), (2, .int d), (3, .int k), (4, .int da), (5, .int ha)]) hx hb dX0_following_106 hl (k := 2) rfl (rfl) (by decide) (by simp [List.filter, va_rf_cat]) (fun ls hl => ?_)
            refine lv_goto (tgt := 6) hx hb dX0_following_109 (by decide) ?_
            have hs : lpX0_following_6 u ho d k da ha (be, j) = (0, be, j + 1) := by rw [lpX0_following_6, if_neg c_12, if_pos c_30, if_neg c_39, if_neg (nt_of c_48)]
            rw [hs] at kb
            exact kb rfl _ (lv_sub hl [2, 0, 3, 4, 5, 6, 7, 8] rfl)
          · skip
            refine lv_aload_q hx hb dX0_following_51 (lv_at hl 0 rfl) ?_
            refine cw_pget (v := u.2.1 64 j.toNatClampNeg) (i := j) hx hb hts hown hK hM 4 (by decide) (hN3 be j hI_6 c_12) q348 rfl rfl dX0_following_53 ?_
            refine lv_iload hx hb dX0_following_56 (lv_at hl 7 rfl) ?_
            refine lv_icmp_lt (tgt := 106) hx hb dX0_following_58 (by decide) (fun c_58 => ?_) (fun c_58 => ?_)
            · skip
              refine lv_iinc (v := j + 1) (lv' := [(7, .int (j + 1)), (8, va_rf (pr g j)), (6, va_rf (pr g be)), (0, .ref o), (1, .int ho), (2, .int d), (3, .int k), (4, .int da), (5, .int ha)]) hx hb dX0_following_106 hl (k := 2) rfl (rfl) (by decide) (by simp [List.filter, va_rf_cat]) (fun ls hl => ?_)
              refine lv_goto (tgt := 6) hx hb dX0_following_109 (by decide) ?_
              have hs : lpX0_following_6 u ho d k da ha (be, j) = (0, be, j + 1) := by rw [lpX0_following_6, if_neg c_12, if_pos c_30, if_neg c_39, if_pos c_48, if_pos c_58]
              rw [hs] at kb
              exact kb rfl _ (lv_sub hl [2, 0, 3, 4, 5, 6, 7, 8] rfl)
            · skip
              refine lv_aload_q hx hb dX0_following_61 (lv_at hl 0 rfl) ?_
              refine cw_pget (v := u.2.1 64 j.toNatClampNeg) (i := j) hx hb hts hown hK hM 4 (by decide) (hN3 be j hI_6 c_12) q348 rfl rfl dX0_following_63 ?_
              refine lv_iload hx hb dX0_following_66 (lv_at hl 7 rfl) ?_
              refine lv_icmp_ne (tgt := 84) hx hb dX0_following_68 (by decide) (fun c_68 => ?_) (fun c_68 => ?_)
              · skip
                refine lv_aload_q hx hb dX0_following_84 (lv_at hl 1 rfl) ?_
                refine lv_ifnull_q (tgt := 102) hx hb dX0_following_86 (by decide) (fun c_86 => ?_) (fun c_86 => ?_)
                · skip
                  refine lv_aload_q hx hb dX0_following_102 (lv_at hl 0 rfl) ?_
                  refine lv_astore_q (lv' := [(6, va_rf (pr g j)), (8, va_rf (pr g j)), (7, .int j), (0, .ref o), (1, .int ho), (2, .int d), (3, .int k), (4, .int da), (5, .int ha)]) hx hb dX0_following_104 hl (by decide) rfl (fun ls hl => ?_)
                  refine lv_iinc (v := j + 1) (lv' := [(7, .int (j + 1)), (6, va_rf (pr g j)), (8, va_rf (pr g j)), (0, .ref o), (1, .int ho), (2, .int d), (3, .int k), (4, .int da), (5, .int ha)]) hx hb dX0_following_106 hl (k := 2) rfl (rfl) (by decide) (by simp [List.filter, va_rf_cat]) (fun ls hl => ?_)
                  refine lv_goto (tgt := 6) hx hb dX0_following_109 (by decide) ?_
                  have hs : lpX0_following_6 u ho d k da ha (be, j) = (0, j, j + 1) := by rw [lpX0_following_6, if_neg c_12, if_pos c_30, if_neg c_39, if_pos c_48, if_neg c_58, if_neg c_68, if_pos c_86]
                  rw [hs] at kb
                  exact kb rfl _ (lv_sub hl [1, 0, 3, 4, 5, 6, 7, 8] rfl)
                · skip
                  refine lv_aload_q hx hb dX0_following_89 (lv_at hl 0 rfl) ?_
                  refine cw_pget (v := u.2.1 64 j.toNatClampNeg) (i := j) hx hb hts hown hK hM 4 (by decide) (hN3 be j hI_6 c_12) q348 rfl rfl dX0_following_91 ?_
                  refine lv_aload_q hx hb dX0_following_94 (lv_at hl 1 rfl) ?_
                  refine cw_pget (v := u.2.1 64 be.toNatClampNeg) (i := be) hx hb hts hown hK hM 4 (by decide) (hN4 be j hI_6 c_12 c_30 c_39 c_48 c_58 c_68 c_86) q348 rfl rfl dX0_following_96 ?_
                  refine lv_icmp_ge (tgt := 106) hx hb dX0_following_99 (by decide) (fun c_99 => ?_) (fun c_99 => ?_)
                  · skip
                    refine lv_iinc (v := j + 1) (lv' := [(7, .int (j + 1)), (8, va_rf (pr g j)), (6, va_rf (pr g be)), (0, .ref o), (1, .int ho), (2, .int d), (3, .int k), (4, .int da), (5, .int ha)]) hx hb dX0_following_106 hl (k := 2) rfl (rfl) (by decide) (by simp [List.filter, va_rf_cat]) (fun ls hl => ?_)
                    refine lv_goto (tgt := 6) hx hb dX0_following_109 (by decide) ?_
                    have hs : lpX0_following_6 u ho d k da ha (be, j) = (0, be, j + 1) := by rw [lpX0_following_6, if_neg c_12, if_pos c_30, if_neg c_39, if_pos c_48, if_neg c_58, if_neg c_68, if_neg c_86, if_pos c_99]
                    rw [hs] at kb
                    exact kb rfl _ (lv_sub hl [2, 0, 3, 4, 5, 6, 7, 8] rfl)
                  · skip
                    refine lv_aload_q hx hb dX0_following_102 (lv_at hl 0 rfl) ?_
                    refine lv_astore_q (lv' := [(6, va_rf (pr g j)), (8, va_rf (pr g j)), (7, .int j), (0, .ref o), (1, .int ho), (2, .int d), (3, .int k), (4, .int da), (5, .int ha)]) hx hb dX0_following_104 hl (by decide) rfl (fun ls hl => ?_)
                    refine lv_iinc (v := j + 1) (lv' := [(7, .int (j + 1)), (6, va_rf (pr g j)), (8, va_rf (pr g j)), (0, .ref o), (1, .int ho), (2, .int d), (3, .int k), (4, .int da), (5, .int ha)]) hx hb dX0_following_106 hl (k := 2) rfl (rfl) (by decide) (by simp [List.filter, va_rf_cat]) (fun ls hl => ?_)
                    refine lv_goto (tgt := 6) hx hb dX0_following_109 (by decide) ?_
                    have hs : lpX0_following_6 u ho d k da ha (be, j) = (0, j, j + 1) := by rw [lpX0_following_6, if_neg c_12, if_pos c_30, if_neg c_39, if_pos c_48, if_neg c_58, if_neg c_68, if_neg c_86, if_neg c_99]
                    rw [hs] at kb
                    exact kb rfl _ (lv_sub hl [1, 0, 3, 4, 5, 6, 7, 8] rfl)
              · skip
                refine lv_aload_q hx hb dX0_following_71 (lv_at hl 0 rfl) ?_
                refine cw_pget (v := u.2.1 60 j.toNatClampNeg) (i := j) hx hb hts hown hK hM 0 (by decide) (hN3 be j hI_6 c_12) q336 rfl rfl dX0_following_73 ?_
                refine lv_iload hx hb dX0_following_76 (lv_at hl 8 rfl) ?_
                refine lv_icmp_gt (tgt := 84) hx hb dX0_following_78 (by decide) (fun c_78 => ?_) (fun c_78 => ?_)
                · skip
                  refine lv_aload_q hx hb dX0_following_84 (lv_at hl 1 rfl) ?_
                  refine lv_ifnull_q (tgt := 102) hx hb dX0_following_86 (by decide) (fun c_86 => ?_) (fun c_86 => ?_)
                  · skip
                    refine lv_aload_q hx hb dX0_following_102 (lv_at hl 0 rfl) ?_
                    refine lv_astore_q (lv' := [(6, va_rf (pr g j)), (8, va_rf (pr g j)), (7, .int j), (0, .ref o), (1, .int ho), (2, .int d), (3, .int k), (4, .int da), (5, .int ha)]) hx hb dX0_following_104 hl (by decide) rfl (fun ls hl => ?_)
                    refine lv_iinc (v := j + 1) (lv' := [(7, .int (j + 1)), (6, va_rf (pr g j)), (8, va_rf (pr g j)), (0, .ref o), (1, .int ho), (2, .int d), (3, .int k), (4, .int da), (5, .int ha)]) hx hb dX0_following_106 hl (k := 2) rfl (rfl) (by decide) (by simp [List.filter, va_rf_cat]) (fun ls hl => ?_)
                    refine lv_goto (tgt := 6) hx hb dX0_following_109 (by decide) ?_
                    have hs : lpX0_following_6 u ho d k da ha (be, j) = (0, j, j + 1) := by rw [lpX0_following_6, if_neg c_12, if_pos c_30, if_neg c_39, if_pos c_48, if_neg c_58, if_pos c_68, if_pos c_78, if_pos c_86]
                    rw [hs] at kb
                    exact kb rfl _ (lv_sub hl [1, 0, 3, 4, 5, 6, 7, 8] rfl)
                  · skip
                    refine lv_aload_q hx hb dX0_following_89 (lv_at hl 0 rfl) ?_
                    refine cw_pget (v := u.2.1 64 j.toNatClampNeg) (i := j) hx hb hts hown hK hM 4 (by decide) (hN3 be j hI_6 c_12) q348 rfl rfl dX0_following_91 ?_
                    refine lv_aload_q hx hb dX0_following_94 (lv_at hl 1 rfl) ?_
                    refine cw_pget (v := u.2.1 64 be.toNatClampNeg) (i := be) hx hb hts hown hK hM 4 (by decide) (hN5 be j hI_6 c_12 c_30 c_39 c_48 c_58 c_68 c_78 c_86) q348 rfl rfl dX0_following_96 ?_
                    refine lv_icmp_ge (tgt := 106) hx hb dX0_following_99 (by decide) (fun c_99 => ?_) (fun c_99 => ?_)
                    · skip
                      refine lv_iinc (v := j + 1) (lv' := [(7, .int (j + 1)), (8, va_rf (pr g j)), (6, va_rf (pr g be)), (0, .ref o), (1, .int ho), (2, .int d), (3, .int k), (4, .int da), (5, .int ha)]) hx hb dX0_following_106 hl (k := 2) rfl (rfl) (by decide) (by simp [List.filter, va_rf_cat]) (fun ls hl => ?_)
                      refine lv_goto (tgt := 6) hx hb dX0_following_109 (by decide) ?_
                      have hs : lpX0_following_6 u ho d k da ha (be, j) = (0, be, j + 1) := by rw [lpX0_following_6, if_neg c_12, if_pos c_30, if_neg c_39, if_pos c_48, if_neg c_58, if_pos c_68, if_pos c_78, if_neg c_86, if_pos c_99]
                      rw [hs] at kb
                      exact kb rfl _ (lv_sub hl [2, 0, 3, 4, 5, 6, 7, 8] rfl)
                    · skip
                      refine lv_aload_q hx hb dX0_following_102 (lv_at hl 0 rfl) ?_
                      refine lv_astore_q (lv' := [(6, va_rf (pr g j)), (8, va_rf (pr g j)), (7, .int j), (0, .ref o), (1, .int ho), (2, .int d), (3, .int k), (4, .int da), (5, .int ha)]) hx hb dX0_following_104 hl (by decide) rfl (fun ls hl => ?_)
                      refine lv_iinc (v := j + 1) (lv' := [(7, .int (j + 1)), (6, va_rf (pr g j)), (8, va_rf (pr g j)), (0, .ref o), (1, .int ho), (2, .int d), (3, .int k), (4, .int da), (5, .int ha)]) hx hb dX0_following_106 hl (k := 2) rfl (rfl) (by decide) (by simp [List.filter, va_rf_cat]) (fun ls hl => ?_)
                      refine lv_goto (tgt := 6) hx hb dX0_following_109 (by decide) ?_
                      have hs : lpX0_following_6 u ho d k da ha (be, j) = (0, j, j + 1) := by rw [lpX0_following_6, if_neg c_12, if_pos c_30, if_neg c_39, if_pos c_48, if_neg c_58, if_pos c_68, if_pos c_78, if_neg c_86, if_neg c_99]
                      rw [hs] at kb
                      exact kb rfl _ (lv_sub hl [1, 0, 3, 4, 5, 6, 7, 8] rfl)
                · skip
                  refine lv_goto (tgt := 106) hx hb dX0_following_81 (by decide) ?_
                  refine lv_iinc (v := j + 1) (lv' := [(7, .int (j + 1)), (8, va_rf (pr g j)), (6, va_rf (pr g be)), (0, .ref o), (1, .int ho), (2, .int d), (3, .int k), (4, .int da), (5, .int ha)]) hx hb dX0_following_106 hl (k := 2) rfl (rfl) (by decide) (by simp [List.filter, va_rf_cat]) (fun ls hl => ?_)
                  refine lv_goto (tgt := 6) hx hb dX0_following_109 (by decide) ?_
                  have hs : lpX0_following_6 u ho d k da ha (be, j) = (0, be, j + 1) := by rw [lpX0_following_6, if_neg c_12, if_pos c_30, if_neg c_39, if_pos c_48, if_neg c_58, if_pos c_68, if_neg c_78]
                  rw [hs] at kb
                  exact kb rfl _ (lv_sub hl [2, 0, 3, 4, 5, 6, 7, 8] rfl)
  · skip
    intro ls hl
    have hl : lv_has ls 9 [(6, va_rf (pr g ((lpX0_following_6_r u ho d k da ha).2.1))), (7, .int ((lpX0_following_6_r u ho d k da ha).2.2)), (0, .ref o), (1, .int ho), (2, .int d), (3, .int k), (4, .int da), (5, .int ha)] := hl
    refine lv_aload_q hx hb dX0_following_112 (lv_at hl 0 rfl) ?_
    have hF : fX0_following u ho d k da ha = (lpX0_following_6_r u ho d k da ha).2.1 := by rw [fX0_following]
    exact pret_ro hx hb hr hlk (by rw [hF]) dX0_following_114

def fX0_fo0 (u : St) (ho : Int32) (d : Int32) (k : Int32) (ak : Int32) : St :=
  (si (si (si (si (si u 18 (u.2.1 8 ho.toNatClampNeg)) 19 0) 20 (b2 true)) 21 0) 22 0)
def fX0_fgo (u : St) (ho : Int32) (d : Int32) (k : Int32) (ak : Int32) (v : St) (da : Int32) (ha : Int32) (p : Int32) : Bool :=
  if (v.1 18) = (v.2.1 62 p.toNatClampNeg) then true else false
def fX0_fo1 (u : St) (ho : Int32) (d : Int32) (k : Int32) (ak : Int32) (v : St) (da : Int32) (ha : Int32) (p : Int32) : St :=
  if (pSame p ak) = true then (if (fX0_fgo u ho d k ak v da ha p) = true then (si (si v 20 (b2 false)) 21 (v.1 19)) else (if (fX0_fgo u ho d k ak v da ha p) = true then (if (v.1 20) = 0 then (si v 22 ((v.1 22) + 1)) else v) else v)) else (if (fX0_fgo u ho d k ak v da ha p) = true then (if (v.1 20) = 0 then (si v 22 ((v.1 22) + 1)) else v) else v)
def fX0_fo2 (u : St) (ho : Int32) (d : Int32) (k : Int32) (ak : Int32) (v : St) (da : Int32) (ha : Int32) (p : Int32) : St :=
  if (fX0_fgo u ho d k ak v da ha p) = true then (si (si (fX0_fo1 u ho d k ak v da ha p) 18 ((fX0_fo1 u ho d k ak v da ha p).2.1 63 p.toNatClampNeg)) 19 ((fX0_fo1 u ho d k ak v da ha p).2.1 64 p.toNatClampNeg)) else (fX0_fo1 u ho d k ak v da ha p)
def lpX0_follow_49 (u : St) (ho : Int32) (d : Int32) (k : Int32) (ak : Int32) : St × Int32 × Int32 × Int32 → Nat × St × Int32 × Int32 × Int32
  | (v, da, ha, p) => if p < 0 then (1, v, da, ha, p) else (0, (fX0_fo2 u ho d k ak v da ha p), v.2.1 64 p.toNatClampNeg, v.2.1 60 p.toNatClampNeg, fX0_following (fX0_fo2 u ho d k ak v da ha p) ho d k (v.2.1 64 p.toNatClampNeg) (v.2.1 60 p.toNatClampNeg))
def lpX0_follow_49_r (u : St) (ho : Int32) (d : Int32) (k : Int32) (ak : Int32) : Nat × St × Int32 × Int32 × Int32 :=
  wh (lpX0_follow_49 u ho d k ak) 61 ((fX0_fo0 u ho d k ak), (-1), (-1), fX0_following (fX0_fo0 u ho d k ak) ho d k (-1) (-1))
def fX0_follow (u : St) (ho : Int32) (d : Int32) (k : Int32) (ak : Int32) : St :=
  (lpX0_follow_49_r u ho d k ak).2.1
def okX0_follow (n : Nat) (u : St) (ho : Int32) (d : Int32) (k : Int32) (ak : Int32) : Prop :=
  ∃ (I_49 : (St × Int32 × Int32 × Int32) → Prop), (vp_in ho 8) ∧ (okX0_following n (fX0_fo0 u ho d k ak) ho d k (-1) (-1)) ∧ (LOK (lpX0_follow_49 u ho d k ak) 61 ((fX0_fo0 u ho d k ak), (-1), (-1), fX0_following (fX0_fo0 u ho d k ak) ho d k (-1) (-1)) I_49) ∧ (∀ (v : St) (da : Int32) (ha : Int32) (p : Int32), I_49 (v, da, ha, p) → ¬ (p < 0) → pIn n p) ∧ (∀ (v : St) (da : Int32) (ha : Int32) (p : Int32), I_49 (v, da, ha, p) → ¬ (p < 0) → okX0_following n (fX0_fo2 u ho d k ak v da ha p) ho d k (v.2.1 64 p.toNatClampNeg) (v.2.1 60 p.toNatClampNeg)) ∧ (∀ (v : St) (da : Int32) (ha : Int32) (p : Int32), I_49 (v, da, ha, p) → ¬ (p < 0) → pIxn n p) ∧ (∀ (v : St) (da : Int32) (ha : Int32) (p : Int32), I_49 (v, da, ha, p) → ¬ (p < 0) → pIxn n ak)
set_option maxHeartbeats 4000000 in
theorem metX0_follow (l : Launch) (D : va_G) (cA : Nat → ClassId) (o : Nat) (g : Gh) (u : St) (ho : Int32) (d : Int32) (k : Int32) (ak : Int32) (hok : okX0_follow g.1 u ho d k ak) : CetM l yX0_follow cX0_follow 9 none 2 D cA o g u [.ref o, .int ho, .int d, .int k, va_rf (pr g ak)] none (fX0_follow u ho d k ak) := by
  obtain ⟨I_49, hN0, hN1, hN2, hN3, hN4, hN5, hN6⟩ := hok
  refine cM_start RX0 (by decide) rfl (lg_q (vs := [.ref o, .int ho, .int d, .int k]) (Nat.le_of_ble_eq_true rfl)) ?_
  intro pg ev s0 mi bl me co hx hb hml hown hts hr hlk hK hM ls hl
  have hl : lv_has ls 9 [(0, .ref o), (1, .int ho), (2, .int d), (3, .int k), (4, va_rf (pr g ak))] := hl
  have hS : va_S (cF o g) s0.heap s0.heap [] := va_S.rf
  refine lv_aload_n hx hb dX0_follow_0 rfl (lv_at hl 0 rfl) ?_
  refine lv_aload_n hx hb dX0_follow_1 rfl (lv_at hl 0 rfl) ?_
  refine cw_get (v := .ref (cAd o 8)) hx hb hts hown hK hM 8 (by decide) q196 rfl rfl dX0_follow_2 ?_
  refine lv_iload_n hx hb dX0_follow_5 rfl (lv_at hl 1 rfl) ?_
  refine cw_ild (v := u.2.1 8 ho.toNatClampNeg) (j := ho.toNatClampNeg) hx hb hK hM 8 (by decide) rfl rfl hN0 rfl rfl dX0_follow_6 ?_
  refine cw_puti hx hb hts hown hK hM hS 18 (by decide) q207 rfl rfl rfl rfl dX0_follow_7 (fun H locs hM hS => ?_)
  refine lv_aload_n hx hb dX0_follow_10 rfl (lv_at hl 0 rfl) ?_
  refine lv_iconst (v := 0) hx hb dX0_follow_11 (by decide) ?_
  refine cw_puti hx hb hts hown hK hM hS 19 (by decide) q208 rfl rfl rfl rfl dX0_follow_12 (fun H locs hM hS => ?_)
  refine lv_aload_n hx hb dX0_follow_15 rfl (lv_at hl 0 rfl) ?_
  refine lv_iconst (v := 1) hx hb dX0_follow_16 (by decide) ?_
  refine cw_putz (v := true) hx hb hts hown hK hM hS 20 (by decide) q209 rfl rfl rfl rfl dX0_follow_17 (fun H locs hM hS => ?_)
  refine lv_aload_n hx hb dX0_follow_20 rfl (lv_at hl 0 rfl) ?_
  refine lv_iconst (v := 0) hx hb dX0_follow_21 (by decide) ?_
  refine cw_puti hx hb hts hown hK hM hS 21 (by decide) q210 rfl rfl rfl rfl dX0_follow_22 (fun H locs hM hS => ?_)
  refine lv_aload_n hx hb dX0_follow_25 rfl (lv_at hl 0 rfl) ?_
  refine lv_iconst (v := 0) hx hb dX0_follow_26 (by decide) ?_
  refine cw_puti hx hb hts hown hK hM hS 22 (by decide) q211 rfl rfl rfl rfl dX0_follow_27 (fun H locs hM hS => ?_)
  refine lv_iconst (v := (-1)) hx hb dX0_follow_30 (by decide) ?_
  refine lv_istore (lv' := [(5, .int (-1)), (0, .ref o), (1, .int ho), (2, .int d), (3, .int k), (4, va_rf (pr g ak))]) hx hb dX0_follow_31 hl (by decide) (by simp [List.filter, va_rf_cat]) (fun ls hl => ?_)
  refine lv_iconst (v := (-1)) hx hb dX0_follow_33 (by decide) ?_
  refine lv_istore (lv' := [(6, .int (-1)), (5, .int (-1)), (0, .ref o), (1, .int ho), (2, .int d), (3, .int k), (4, va_rf (pr g ak))]) hx hb dX0_follow_34 hl (by decide) rfl (fun ls hl => ?_)
  have hM : CW D cA o g (fX0_fo0 u ho d k ak) _ := hM
  refine lv_aload_n hx hb dX0_follow_36 rfl (lv_at hl 2 rfl) ?_
  refine lv_iload_n hx hb dX0_follow_37 rfl (lv_at hl 3 rfl) ?_
  refine lv_iload_n hx hb dX0_follow_38 rfl (lv_at hl 4 rfl) ?_
  refine lv_iload_n hx hb dX0_follow_39 rfl (lv_at hl 5 rfl) ?_
  refine lv_iload hx hb dX0_follow_40 (lv_at hl 1 rfl) ?_
  refine lv_iload hx hb dX0_follow_42 (lv_at hl 0 rfl) ?_
  refine ro_call (cw_run (n := 5) (As := [.int ho, .int d, .int k, .int (-1), .int (-1)]) (rest := []) hx hb hml hown hts (metX0_following l D cA o g (fX0_fo0 u ho d k ak) ho d k (-1) (-1) hN1) q396 q398 qs5 q399 (by decide +kernel) (by decide) (by decide) rfl hK hM hl.1 (Nat.le_of_ble_eq_true rfl) rfl dX0_follow_44 ⟨Nat.le_refl _, Nat.le_refl _⟩) ?_
  refine lv_astore_q (lv' := [(7, va_rf (pr g (fX0_following (fX0_fo0 u ho d k ak) ho d k (-1) (-1)))), (6, .int (-1)), (5, .int (-1)), (0, .ref o), (1, .int ho), (2, .int d), (3, .int k), (4, va_rf (pr g ak))]) hx hb dX0_follow_47 hl (by decide) rfl (fun ls hl => ?_)
  refine cw_loop1 (rest := []) (nL := 9) (r := (lpX0_follow_49_r u ho d k ak)) (lpX0_follow_49 u ho d k ak) I_49 (fun q => q.1) (fun q => [(5, .int q.2.1), (6, .int q.2.2.1), (7, va_rf (pr g q.2.2.2)), (0, .ref o), (1, .int ho), (2, .int d), (3, .int k), (4, va_rf (pr g ak))]) 49 176 61 ((fX0_fo0 u ho d k ak), (-1), (-1), fX0_following (fX0_fo0 u ho d k ak) ho d k (-1) (-1)) hN2.2.1 hN2.1 hN2.2.2 rfl ?_ hM hS (lv_sub hl [2, 1, 0, 3, 4, 5, 6, 7] rfl) ?_
  · skip
    intro ⟨v, da, ha, p⟩ hI_49 H locs ls hM hS hl kb k1
    have hM : CW D cA o g v H := hM
    have hl : lv_has ls 9 [(5, .int da), (6, .int ha), (7, va_rf (pr g p)), (0, .ref o), (1, .int ho), (2, .int d), (3, .int k), (4, va_rf (pr g ak))] := hl
    refine lv_aload_q hx hb dX0_follow_49 (lv_at hl 2 rfl) ?_
    refine lv_ifnull_q (tgt := 176) hx hb dX0_follow_51 (by decide) (fun c_51 => ?_) (fun c_51 => ?_)
    · skip
      have hs : lpX0_follow_49 u ho d k ak (v, da, ha, p) = (1, v, da, ha, p) := by rw [lpX0_follow_49, if_pos c_51]
      rw [hs] at k1
      exact k1 (show ¬ (1 : Nat) = 0 by decide) _ _ _ hM hS (lv_sub hl [0, 1, 2, 3, 4, 5, 6, 7] rfl)
    · skip
      refine lv_aload_q hx hb dX0_follow_54 (lv_at hl 2 rfl) ?_
      refine cw_pget (v := v.2.1 64 p.toNatClampNeg) (i := p) hx hb hts hown hK hM 4 (by decide) (hN3 v da ha p hI_49 c_51) q348 rfl rfl dX0_follow_56 ?_
      refine lv_istore (lv' := [(5, .int (v.2.1 64 p.toNatClampNeg)), (6, .int ha), (7, va_rf (pr g p)), (0, .ref o), (1, .int ho), (2, .int d), (3, .int k), (4, va_rf (pr g ak))]) hx hb dX0_follow_59 hl (by decide) (by simp [List.filter, va_rf_cat]) (fun ls hl => ?_)
      refine lv_aload_q hx hb dX0_follow_61 (lv_at hl 2 rfl) ?_
      refine cw_pget (v := v.2.1 60 p.toNatClampNeg) (i := p) hx hb hts hown hK hM 0 (by decide) (hN3 v da ha p hI_49 c_51) q336 rfl rfl dX0_follow_63 ?_
      refine lv_istore (lv' := [(6, .int (v.2.1 60 p.toNatClampNeg)), (5, .int (v.2.1 64 p.toNatClampNeg)), (7, va_rf (pr g p)), (0, .ref o), (1, .int ho), (2, .int d), (3, .int k), (4, va_rf (pr g ak))]) hx hb dX0_follow_66 hl (by decide) rfl (fun ls hl => ?_)
      refine lv_aload_n hx hb dX0_follow_68 rfl (lv_at hl 3 rfl) ?_
      refine cw_get (v := .int (v.1 18)) hx hb hts hown hK hM 18 (by decide) q207 rfl rfl dX0_follow_69 ?_
      refine lv_aload_q hx hb dX0_follow_72 (lv_at hl 2 rfl) ?_
      refine cw_pget (v := v.2.1 62 p.toNatClampNeg) (i := p) hx hb hts hown hK hM 2 (by decide) (hN3 v da ha p hI_49 c_51) q342 rfl rfl dX0_follow_74 ?_
      refine w_ji (ls := ls) (rest := []) (E := b2 (fX0_fgo u ho d k ak v da ha p)) 85 ?_ (fun K => ?_)
      · skip
        refine lv_istore (lv' := [(8, .int (b2 (fX0_fgo u ho d k ak v da ha p))), (6, .int (v.2.1 60 p.toNatClampNeg)), (5, .int (v.2.1 64 p.toNatClampNeg)), (7, va_rf (pr g p)), (0, .ref o), (1, .int ho), (2, .int d), (3, .int k), (4, va_rf (pr g ak))]) hx hb dX0_follow_85 hl (by decide) (by simp [List.filter, va_rf_cat]) (fun ls hl => ?_)
        refine w_jc (D := D) (cA := cA) (o := o) (g := g) (H0 := s0.heap) (ls := ls) (rest := []) (E := (fX0_fo1 u ho d k ak v da ha p)) 137 (fun H locs hM hS => ?_) (fun K => ?_)
        · skip
          refine w_jc (D := D) (cA := cA) (o := o) (g := g) (H0 := s0.heap) (ls := ls) (rest := []) (E := (fX0_fo2 u ho d k ak v da ha p)) 160 (fun H locs hM hS => ?_) (fun K => ?_)
          · skip
            refine lv_aload_n hx hb dX0_follow_160 rfl (lv_at hl 4 rfl) ?_
            refine lv_iload_n hx hb dX0_follow_161 rfl (lv_at hl 5 rfl) ?_
            refine lv_iload_n hx hb dX0_follow_162 rfl (lv_at hl 6 rfl) ?_
            refine lv_iload_n hx hb dX0_follow_163 rfl (lv_at hl 7 rfl) ?_
            refine lv_iload hx hb dX0_follow_164 (lv_at hl 2 rfl) ?_
            refine lv_iload hx hb dX0_follow_166 (lv_at hl 1 rfl) ?_
            refine ro_call (cw_run (n := 5) (As := [.int ho, .int d, .int k, .int (v.2.1 64 p.toNatClampNeg), .int (v.2.1 60 p.toNatClampNeg)]) (rest := []) hx hb hml hown hts (metX0_following l D cA o g (fX0_fo2 u ho d k ak v da ha p) ho d k (v.2.1 64 p.toNatClampNeg) (v.2.1 60 p.toNatClampNeg) (hN4 v da ha p hI_49 c_51)) q396 q398 qs5 q399 (by decide +kernel) (by decide) (by decide) rfl hK hM hl.1 (Nat.le_of_ble_eq_true rfl) rfl dX0_follow_168 ⟨Nat.le_refl _, Nat.le_refl _⟩) ?_
            refine lv_astore_q (lv' := [(7, va_rf (pr g (fX0_following (fX0_fo2 u ho d k ak v da ha p) ho d k (v.2.1 64 p.toNatClampNeg) (v.2.1 60 p.toNatClampNeg)))), (8, .int (b2 (fX0_fgo u ho d k ak v da ha p))), (6, .int (v.2.1 60 p.toNatClampNeg)), (5, .int (v.2.1 64 p.toNatClampNeg)), (0, .ref o), (1, .int ho), (2, .int d), (3, .int k), (4, va_rf (pr g ak))]) hx hb dX0_follow_171 hl (by decide) rfl (fun ls hl => ?_)
            refine lv_goto (tgt := 49) hx hb dX0_follow_173 (by decide) ?_
            have hs : lpX0_follow_49 u ho d k ak (v, da, ha, p) = (0, (fX0_fo2 u ho d k ak v da ha p), v.2.1 64 p.toNatClampNeg, v.2.1 60 p.toNatClampNeg, fX0_following (fX0_fo2 u ho d k ak v da ha p) ho d k (v.2.1 64 p.toNatClampNeg) (v.2.1 60 p.toNatClampNeg)) := by rw [lpX0_follow_49, if_neg c_51]
            rw [hs] at kb
            exact kb rfl _ _ _ hM hS (lv_sub hl [3, 2, 0, 4, 5, 6, 7, 8] rfl)
          · skip
            refine lv_iload hx hb dX0_follow_137 (lv_at hl 0 rfl) ?_
            refine lv_B_eq (tgt := 160) hx hb dX0_follow_139 (by decide) (fun c_139 => ?_) (fun c_139 => ?_)
            · skip
              exact K _ _ _ hM hS (by rw [fX0_fo2, if_neg (nt_of c_139)])
            · skip
              refine lv_aload_n hx hb dX0_follow_142 rfl (lv_at hl 4 rfl) ?_
              refine lv_aload_q hx hb dX0_follow_143 (lv_at hl 3 rfl) ?_
              refine cw_pget (v := (fX0_fo1 u ho d k ak v da ha p).2.1 63 p.toNatClampNeg) (i := p) hx hb hts hown hK hM 3 (by decide) (hN3 v da ha p hI_49 c_51) q344 rfl rfl dX0_follow_145 ?_
              refine cw_puti hx hb hts hown hK hM hS 18 (by decide) q207 rfl rfl rfl rfl dX0_follow_148 (fun H locs hM hS => ?_)
              refine lv_aload_n hx hb dX0_follow_151 rfl (lv_at hl 4 rfl) ?_
              refine lv_aload_q hx hb dX0_follow_152 (lv_at hl 3 rfl) ?_
              refine cw_pget (v := (fX0_fo1 u ho d k ak v da ha p).2.1 64 p.toNatClampNeg) (i := p) hx hb hts hown hK hM 4 (by decide) (hN3 v da ha p hI_49 c_51) q348 rfl rfl dX0_follow_154 ?_
              refine cw_puti hx hb hts hown hK hM hS 19 (by decide) q208 rfl rfl rfl rfl dX0_follow_157 (fun H locs hM hS => ?_)
              exact K _ _ _ hM hS (by rw [fX0_fo2, if_pos c_139])
        · skip
          refine lv_aload_q hx hb dX0_follow_87 (lv_at hl 3 rfl) ?_
          refine lv_aload_q hx hb dX0_follow_89 (lv_at hl 8 rfl) ?_
          refine lv_acmp_q (tgt := 115) hx hb hM (hN5 v da ha p hI_49 c_51) (hN6 v da ha p hI_49 c_51) dX0_follow_91 (by decide) (fun c_91 => ?_) (fun c_91 => ?_)
          · skip
            refine lv_iload hx hb dX0_follow_115 (lv_at hl 0 rfl) ?_
            refine lv_B_eq (tgt := 137) hx hb dX0_follow_117 (by decide) (fun c_117 => ?_) (fun c_117 => ?_)
            · skip
              exact K _ _ _ hM hS (by rw [fX0_fo1, if_neg (nt_of c_91), if_neg (nt_of c_117)])
            · skip
              refine lv_aload_n hx hb dX0_follow_120 rfl (lv_at hl 4 rfl) ?_
              refine cw_get (v := .int (v.1 20)) hx hb hts hown hK hM 20 (by decide) q209 rfl rfl dX0_follow_121 ?_
              refine lv_if_ne (tgt := 137) hx hb dX0_follow_124 (by decide) (fun c_124 => ?_) (fun c_124 => ?_)
              · skip
                exact K _ _ _ hM hS (by rw [fX0_fo1, if_neg (nt_of c_91), if_pos c_117, if_neg c_124])
              · skip
                refine lv_aload_n hx hb dX0_follow_127 rfl (lv_at hl 4 rfl) ?_
                refine lv_dup hx hb dX0_follow_128 rfl ?_
                refine cw_get (v := .int (v.1 22)) hx hb hts hown hK hM 22 (by decide) q211 rfl rfl dX0_follow_129 ?_
                refine lv_iconst (v := 1) hx hb dX0_follow_132 (by decide) ?_
                refine lv_iadd hx hb dX0_follow_133 ?_
                refine cw_puti hx hb hts hown hK hM hS 22 (by decide) q211 rfl rfl rfl rfl dX0_follow_134 (fun H locs hM hS => ?_)
                exact K _ _ _ hM hS (by rw [fX0_fo1, if_neg (nt_of c_91), if_pos c_117, if_pos c_124])
          · skip
            refine lv_iload hx hb dX0_follow_94 (lv_at hl 0 rfl) ?_
            refine lv_B_eq (tgt := 115) hx hb dX0_follow_96 (by decide) (fun c_96 => ?_) (fun c_96 => ?_)
            · skip
              refine lv_iload hx hb dX0_follow_115 (lv_at hl 0 rfl) ?_
              refine lv_B_eq (tgt := 137) hx hb dX0_follow_117 (by decide) (fun c_117 => ?_) (fun c_117 => ?_)
              · skip
                exact K _ _ _ hM hS (by rw [fX0_fo1, if_pos c_91, if_neg (nt_of c_96), if_neg (nt_of c_117)])
              · skip
                refine lv_aload_n hx hb dX0_follow_120 rfl (lv_at hl 4 rfl) ?_
                refine cw_get (v := .int (v.1 20)) hx hb hts hown hK hM 20 (by decide) q209 rfl rfl dX0_follow_121 ?_
                refine lv_if_ne (tgt := 137) hx hb dX0_follow_124 (by decide) (fun c_124 => ?_) (fun c_124 => ?_)
                · skip
                  exact K _ _ _ hM hS (by rw [fX0_fo1, if_pos c_91, if_neg (nt_of c_96), if_pos c_117, if_neg c_124])
                · skip
                  refine lv_aload_n hx hb dX0_follow_127 rfl (lv_at hl 4 rfl) ?_
                  refine lv_dup hx hb dX0_follow_128 rfl ?_
                  refine cw_get (v := .int (v.1 22)) hx hb hts hown hK hM 22 (by decide) q211 rfl rfl dX0_follow_129 ?_
                  refine lv_iconst (v := 1) hx hb dX0_follow_132 (by decide) ?_
                  refine lv_iadd hx hb dX0_follow_133 ?_
                  refine cw_puti hx hb hts hown hK hM hS 22 (by decide) q211 rfl rfl rfl rfl dX0_follow_134 (fun H locs hM hS => ?_)
                  exact K _ _ _ hM hS (by rw [fX0_fo1, if_pos c_91, if_neg (nt_of c_96), if_pos c_117, if_pos c_124])
            · skip
              refine lv_aload_n hx hb dX0_follow_99 rfl (lv_at hl 4 rfl) ?_
              refine lv_iconst (v := 0) hx hb dX0_follow_100 (by decide) ?_
              refine cw_putz (v := false) hx hb hts hown hK hM hS 20 (by decide) q209 rfl rfl rfl rfl dX0_follow_101 (fun H locs hM hS => ?_)
              refine lv_aload_n hx hb dX0_follow_104 rfl (lv_at hl 4 rfl) ?_
              refine lv_aload_n hx hb dX0_follow_105 rfl (lv_at hl 4 rfl) ?_
              refine cw_get (v := .int (v.1 19)) hx hb hts hown hK hM 19 (by decide) q208 rfl rfl dX0_follow_106 ?_
              refine cw_puti hx hb hts hown hK hM hS 21 (by decide) q210 rfl rfl rfl rfl dX0_follow_109 (fun H locs hM hS => ?_)
              refine lv_goto (tgt := 137) hx hb dX0_follow_112 (by decide) ?_
              exact K _ _ _ hM hS (by rw [fX0_fo1, if_pos c_91, if_pos c_96])
      · skip
        refine lv_icmp_ne (tgt := 84) hx hb dX0_follow_77 (by decide) (fun c_77 => ?_) (fun c_77 => ?_)
        · skip
          refine lv_iconst (v := 0) hx hb dX0_follow_84 (by decide) ?_
          exact K _ (by rw [fX0_fgo, if_neg c_77]; rfl)
        · skip
          refine lv_iconst (v := 1) hx hb dX0_follow_80 (by decide) ?_
          refine lv_goto (tgt := 85) hx hb dX0_follow_81 (by decide) ?_
          exact K _ (by rw [fX0_fgo, if_pos c_77]; rfl)
  · skip
    intro H locs ls hM hS hl
    have hM : CW D cA o g (lpX0_follow_49_r u ho d k ak).2.1 H := hM
    have hl : lv_has ls 9 [(5, .int ((lpX0_follow_49_r u ho d k ak).2.2.1)), (6, .int ((lpX0_follow_49_r u ho d k ak).2.2.2.1)), (7, va_rf (pr g ((lpX0_follow_49_r u ho d k ak).2.2.2.2))), (0, .ref o), (1, .int ho), (2, .int d), (3, .int k), (4, va_rf (pr g ak))] := hl
    have hF : fX0_follow u ho d k ak = (lpX0_follow_49_r u ho d k ak).2.1 := by rw [fX0_follow]
    exact cw_vret hx hb hr hlk hM hS (by rw [hF]) dX0_follow_176

def fX0_holder (u : St) (ho : Int32) (d : Int32) (k : Int32) : Int32 × St :=
  if (fX0_isHouse u ho) = true then ((fX0_follow u ho d k (-1)).1 18, (fX0_follow u ho d k (-1))) else ((-1), u)
def okX0_holder (n : Nat) (u : St) (ho : Int32) (d : Int32) (k : Int32) : Prop :=
  ((fX0_isHouse u ho) = true → okX0_follow n u ho d k (-1))
set_option maxHeartbeats 4000000 in
theorem metX0_holder (l : Launch) (D : va_G) (cA : Nat → ClassId) (o : Nat) (g : Gh) (u : St) (ho : Int32) (d : Int32) (k : Int32) (hok : okX0_holder g.1 u ho d k) : CetM l yX0_holder cX0_holder 4 (some .int) 3 D cA o g u [.ref o, .int ho, .int d, .int k] (some (.int (fX0_holder u ho d k).1)) (fX0_holder u ho d k).2 := by
  have hN0 := hok
  refine cM_start RX0 (by decide) rfl (Nat.le_of_ble_eq_true rfl) ?_
  intro pg ev s0 mi bl me co hx hb hml hown hts hr hlk hK hM ls hl
  have hl : lv_has ls 4 [(0, .ref o), (1, .int ho), (2, .int d), (3, .int k)] := hl
  have hS : va_S (cF o g) s0.heap s0.heap [] := va_S.rf
  refine lv_aload_n hx hb dX0_holder_0 rfl (lv_at hl 0 rfl) ?_
  refine lv_iload_n hx hb dX0_holder_1 rfl (lv_at hl 1 rfl) ?_
  refine ro_call (cw_run (n := 1) (As := [.int ho]) (rest := []) hx hb hml hown hts (metX0_isHouse l D cA o g u ho) q326 q328 qs2 q329 (by decide +kernel) (by decide) (by decide) rfl hK hM hl.1 (Nat.le_of_ble_eq_true rfl) rfl dX0_holder_2 ⟨Nat.le_refl _, Nat.le_refl _⟩) ?_
  refine lv_B_ne (tgt := 10) hx hb dX0_holder_5 (by decide) (fun c_5 => ?_) (fun c_5 => ?_)
  · skip
    refine lv_aload_n hx hb dX0_holder_10 rfl (lv_at hl 0 rfl) ?_
    refine lv_iload_n hx hb dX0_holder_11 rfl (lv_at hl 1 rfl) ?_
    refine lv_iload_n hx hb dX0_holder_12 rfl (lv_at hl 2 rfl) ?_
    refine lv_iload_n hx hb dX0_holder_13 rfl (lv_at hl 3 rfl) ?_
    refine lv_null_q (g := g) hx hb dX0_holder_14 ?_
    refine cw_call (cw_run (n := 4) (As := [.int ho, .int d, .int k, va_rf (pr g (-1))]) (rest := []) hx hb hml hown hts (metX0_follow l D cA o g u ho d k (-1) (hN0 c_5)) q392 q394 qs4 q395 (by decide +kernel) (by decide) (by decide) rfl hK hM hl.1 (Nat.le_of_ble_eq_true rfl) rfl dX0_holder_15 ⟨Nat.le_refl _, Nat.le_refl _⟩) hS (fun _ h => h) (fun H locs hM _ _ hS => ?_)
    refine lv_aload_n hx hb dX0_holder_18 rfl (lv_at hl 0 rfl) ?_
    refine cw_get (v := .int ((fX0_follow u ho d k (-1)).1 18)) hx hb hts hown hK hM 18 (by decide) q207 rfl rfl dX0_holder_19 ?_
    have hF : fX0_holder u ho d k = ((fX0_follow u ho d k (-1)).1 18, (fX0_follow u ho d k (-1))) := by rw [fX0_holder, if_pos c_5]
    exact cw_iret hx hb hr hlk hM hS (by rw [hF]) (by rw [hF]) dX0_holder_22
  · skip
    refine lv_iconst (v := (-1)) hx hb dX0_holder_8 (by decide) ?_
    have hF : fX0_holder u ho d k = ((-1), u) := by rw [fX0_holder, if_neg (nt_of c_5)]
    exact cw_iret hx hb hr hlk hM hS (by rw [hF]) (by rw [hF]) dX0_holder_9

def fX0_loose (u : St) (pa : Int32) (k : Int32) : Int32 × St :=
  if (fX0_paperAt u pa) < 0 then ((-1), u) else (if (fX4_counts u (fX0_paperAt u pa) k) = true then (b2 (if ((fX0_follow u (u.2.1 61 ((fX0_paperAt u pa).toNatClampNeg)) k k (fX0_paperAt u pa)).1 20) = 0 then false else true), (fX0_follow u (u.2.1 61 ((fX0_paperAt u pa).toNatClampNeg)) k k (fX0_paperAt u pa))) else ((-1), u))
def okX0_loose (n : Nat) (u : St) (pa : Int32) (k : Int32) : Prop :=
  (okX0_paperAt n u pa) ∧ (¬ ((fX0_paperAt u pa) < 0) → pIn n (fX0_paperAt u pa)) ∧ (¬ ((fX0_paperAt u pa) < 0) → (fX4_counts u (fX0_paperAt u pa) k) = true → okX0_follow n u (u.2.1 61 ((fX0_paperAt u pa).toNatClampNeg)) k k (fX0_paperAt u pa))
set_option maxHeartbeats 4000000 in
theorem metX0_loose (l : Launch) (D : va_G) (cA : Nat → ClassId) (o : Nat) (g : Gh) (u : St) (pa : Int32) (k : Int32) (hok : okX0_loose g.1 u pa k) : CetM l yX0_loose cX0_loose 4 (some .int) 3 D cA o g u [.ref o, .int pa, .int k] (some (.int (fX0_loose u pa k).1)) (fX0_loose u pa k).2 := by
  obtain ⟨hN0, hN1, hN2⟩ := hok
  refine cM_start RX0 (by decide) rfl (Nat.le_of_ble_eq_true rfl) ?_
  intro pg ev s0 mi bl me co hx hb hml hown hts hr hlk hK hM ls hl
  have hl : lv_has ls 4 [(0, .ref o), (1, .int pa), (2, .int k)] := hl
  have hS : va_S (cF o g) s0.heap s0.heap [] := va_S.rf
  refine lv_aload_n hx hb dX0_loose_0 rfl (lv_at hl 0 rfl) ?_
  refine lv_iload_n hx hb dX0_loose_1 rfl (lv_at hl 1 rfl) ?_
  refine ro_call (cw_run (n := 1) (As := [.int pa]) (rest := []) hx hb hml hown hts (metX0_paperAt l D cA o g u pa hN0) q380 q382 qs3 q383 (by decide +kernel) (by decide) (by decide) rfl hK hM hl.1 (Nat.le_of_ble_eq_true rfl) rfl dX0_loose_2 ⟨Nat.le_refl _, Nat.le_refl _⟩) ?_
  refine lv_astore_nq (lv' := [(3, va_rf (pr g (fX0_paperAt u pa))), (0, .ref o), (1, .int pa), (2, .int k)]) hx hb dX0_loose_5 rfl hl (by decide) rfl (fun ls hl => ?_)
  refine lv_aload_nq hx hb dX0_loose_6 rfl (lv_at hl 0 rfl) ?_
  refine lv_ifnull_q (tgt := 18) hx hb dX0_loose_7 (by decide) (fun c_7 => ?_) (fun c_7 => ?_)
  · skip
    refine lv_iconst (v := (-1)) hx hb dX0_loose_18 (by decide) ?_
    have hF : fX0_loose u pa k = ((-1), u) := by rw [fX0_loose, if_pos c_7]
    exact cw_iret hx hb hr hlk hM hS (by rw [hF]) (by rw [hF]) dX0_loose_19
  · skip
    refine lv_aload_nq hx hb dX0_loose_10 rfl (lv_at hl 0 rfl) ?_
    refine lv_iload_n hx hb dX0_loose_11 rfl (lv_at hl 3 rfl) ?_
    refine cw_pcounts (i := fX0_paperAt u pa) (k := k) (rest := []) hx hb hml hown hts q400 (by decide +kernel) (by decide) hK hM (hN1 c_7) hl.1 (Nat.le_of_ble_eq_true rfl) dX0_loose_12 ?_
    refine lv_B_ne (tgt := 20) hx hb dX0_loose_15 (by decide) (fun c_15 => ?_) (fun c_15 => ?_)
    · skip
      refine lv_aload_n hx hb dX0_loose_20 rfl (lv_at hl 1 rfl) ?_
      refine lv_aload_nq hx hb dX0_loose_21 rfl (lv_at hl 0 rfl) ?_
      refine cw_pget (v := u.2.1 61 ((fX0_paperAt u pa).toNatClampNeg)) (i := fX0_paperAt u pa) hx hb hts hown hK hM 1 (by decide) (hN1 c_7) q339 rfl rfl dX0_loose_22 ?_
      refine lv_iload_n hx hb dX0_loose_25 rfl (lv_at hl 3 rfl) ?_
      refine lv_iload_n hx hb dX0_loose_26 rfl (lv_at hl 3 rfl) ?_
      refine lv_aload_nq hx hb dX0_loose_27 rfl (lv_at hl 0 rfl) ?_
      refine cw_call (cw_run (n := 4) (As := [.int (u.2.1 61 ((fX0_paperAt u pa).toNatClampNeg)), .int k, .int k, va_rf (pr g (fX0_paperAt u pa))]) (rest := []) hx hb hml hown hts (metX0_follow l D cA o g u (u.2.1 61 ((fX0_paperAt u pa).toNatClampNeg)) k k (fX0_paperAt u pa) (hN2 c_7 c_15)) q392 q394 qs4 q395 (by decide +kernel) (by decide) (by decide) rfl hK hM hl.1 (Nat.le_of_ble_eq_true rfl) rfl dX0_loose_28 ⟨Nat.le_refl _, Nat.le_refl _⟩) hS (fun _ h => h) (fun H locs hM _ _ hS => ?_)
      refine lv_aload_n hx hb dX0_loose_31 rfl (lv_at hl 1 rfl) ?_
      refine w_ji (ls := ls) (rest := []) (E := b2 (if ((fX0_follow u (u.2.1 61 ((fX0_paperAt u pa).toNatClampNeg)) k k (fX0_paperAt u pa)).1 20) = 0 then false else true)) 43 ?_ (fun K => ?_)
      · skip
        have hF : fX0_loose u pa k = (b2 (if ((fX0_follow u (u.2.1 61 ((fX0_paperAt u pa).toNatClampNeg)) k k (fX0_paperAt u pa)).1 20) = 0 then false else true), (fX0_follow u (u.2.1 61 ((fX0_paperAt u pa).toNatClampNeg)) k k (fX0_paperAt u pa))) := by rw [fX0_loose, if_neg c_7, if_pos c_15]
        exact cw_iret hx hb hr hlk hM hS (by rw [hF]) (by rw [hF]) dX0_loose_43
      · skip
        refine cw_get (v := .int ((fX0_follow u (u.2.1 61 ((fX0_paperAt u pa).toNatClampNeg)) k k (fX0_paperAt u pa)).1 20)) hx hb hts hown hK hM 20 (by decide) q209 rfl rfl dX0_loose_32 ?_
        refine lv_if_eq (tgt := 42) hx hb dX0_loose_35 (by decide) (fun c_35 => ?_) (fun c_35 => ?_)
        · skip
          refine lv_iconst (v := 0) hx hb dX0_loose_42 (by decide) ?_
          exact K _ (by rw [if_pos c_35]; rfl)
        · skip
          refine lv_iconst (v := 1) hx hb dX0_loose_38 (by decide) ?_
          refine lv_goto (tgt := 43) hx hb dX0_loose_39 (by decide) ?_
          exact K _ (by rw [if_neg c_35]; rfl)
    · skip
      refine lv_iconst (v := (-1)) hx hb dX0_loose_18 (by decide) ?_
      have hF : fX0_loose u pa k = ((-1), u) := by rw [fX0_loose, if_neg c_7, if_neg (nt_of c_15)]
      exact cw_iret hx hb hr hlk hM hS (by rw [hF]) (by rw [hF]) dX0_loose_19

def fX0_end (u : St) (n : Int32) : Int32 × St :=
  if n < 0 then ((-1), u) else (if n ≤ (u.1 1) then (n, (si u 1 n)) else ((-1), u))
set_option maxHeartbeats 4000000 in
theorem metX0_end (l : Launch) (D : va_G) (cA : Nat → ClassId) (o : Nat) (g : Gh) (u : St) (n : Int32) : CetM l yX0_end cX0_end 2 (some .int) 0 D cA o g u [.ref o, .int n] (some (.int (fX0_end u n).1)) (fX0_end u n).2 := by
  refine cM_start RX0 (by decide) rfl (Nat.le_of_ble_eq_true rfl) ?_
  intro pg ev s0 mi bl me co hx hb hml hown hts hr hlk hK hM ls hl
  have hl : lv_has ls 2 [(0, .ref o), (1, .int n)] := hl
  have hS : va_S (cF o g) s0.heap s0.heap [] := va_S.rf
  refine lv_iload_n hx hb dX0_end_0 rfl (lv_at hl 1 rfl) ?_
  refine lv_if_lt (tgt := 12) hx hb dX0_end_1 (by decide) (fun c_1 => ?_) (fun c_1 => ?_)
  · skip
    refine lv_iconst (v := (-1)) hx hb dX0_end_12 (by decide) ?_
    have hF : fX0_end u n = ((-1), u) := by rw [fX0_end, if_pos c_1]
    exact cw_iret hx hb hr hlk hM hS (by rw [hF]) (by rw [hF]) dX0_end_13
  · skip
    refine lv_iload_n hx hb dX0_end_4 rfl (lv_at hl 1 rfl) ?_
    refine lv_aload_n hx hb dX0_end_5 rfl (lv_at hl 0 rfl) ?_
    refine cw_get (v := .int (u.1 1)) hx hb hts hown hK hM 1 (by decide) q189 rfl rfl dX0_end_6 ?_
    refine lv_icmp_le (tgt := 14) hx hb dX0_end_9 (by decide) (fun c_9 => ?_) (fun c_9 => ?_)
    · skip
      refine lv_aload_n hx hb dX0_end_14 rfl (lv_at hl 0 rfl) ?_
      refine lv_iload_n hx hb dX0_end_15 rfl (lv_at hl 1 rfl) ?_
      refine cw_puti hx hb hts hown hK hM hS 1 (by decide) q189 rfl rfl rfl rfl dX0_end_16 (fun H locs hM hS => ?_)
      refine lv_iload_n hx hb dX0_end_19 rfl (lv_at hl 1 rfl) ?_
      have hF : fX0_end u n = (n, (si u 1 n)) := by rw [fX0_end, if_neg c_1, if_pos c_9]
      exact cw_iret hx hb hr hlk hM hS (by rw [hF]) (by rw [hF]) dX0_end_20
    · skip
      refine lv_iconst (v := (-1)) hx hb dX0_end_12 (by decide) ?_
      have hF : fX0_end u n = ((-1), u) := by rw [fX0_end, if_neg c_1, if_neg c_9]
      exact cw_iret hx hb hr hlk hM hS (by rw [hF]) (by rw [hF]) dX0_end_13

def lpX0_claim_21 (u : St) (pa : Int32) : Int32 → Nat × Int32
  | i => if (u.1 17) ≤ i then (1, i) else (if (u.2.1 12 i.toNatClampNeg) = pa then (2, i) else (0, i + 1))
def lpX0_claim_21_r (u : St) (pa : Int32) : Nat × Int32 :=
  wh (lpX0_claim_21 u pa) 31 0
def fX0_claim (u : St) (pa : Int32) : Int32 × St :=
  if (u.1 17) = 30 then ((-1), u) else (if (fX0_paperAt u pa) < 0 then ((-1), u) else (if (lpX0_claim_21_r u pa).1 = 1 then (((u.1 17) + 1) - 1, (si (sa u 12 ((u.1 17).toNatClampNeg) pa) 17 ((u.1 17) + 1))) else ((-1), u)))
def okX0_claim (n : Nat) (u : St) (pa : Int32) : Prop :=
  ∃ (I_21 : Int32 → Prop), (¬ ((u.1 17) = 30) → okX0_paperAt n u pa) ∧ (¬ ((u.1 17) = 30) → ¬ ((fX0_paperAt u pa) < 0) → LOK (lpX0_claim_21 u pa) 31 0 I_21) ∧ (¬ ((u.1 17) = 30) → ¬ ((fX0_paperAt u pa) < 0) → ∀ (i : Int32), I_21 i → ¬ ((u.1 17) ≤ i) → vp_in i 30) ∧ (¬ ((u.1 17) = 30) → ¬ ((fX0_paperAt u pa) < 0) → (lpX0_claim_21_r u pa).1 = 1 → vp_in (u.1 17) 30)
set_option maxHeartbeats 4000000 in
theorem metX0_claim (l : Launch) (D : va_G) (cA : Nat → ClassId) (o : Nat) (g : Gh) (u : St) (pa : Int32) (hok : okX0_claim g.1 u pa) : CetM l yX0_claim cX0_claim 3 (some .int) 1 D cA o g u [.ref o, .int pa] (some (.int (fX0_claim u pa).1)) (fX0_claim u pa).2 := by
  obtain ⟨I_21, hN0, hN1, hN2, hN3⟩ := hok
  refine cM_start RX0 (by decide) rfl (Nat.le_of_ble_eq_true rfl) ?_
  intro pg ev s0 mi bl me co hx hb hml hown hts hr hlk hK hM ls hl
  have hl : lv_has ls 3 [(0, .ref o), (1, .int pa)] := hl
  have hS : va_S (cF o g) s0.heap s0.heap [] := va_S.rf
  refine lv_aload_n hx hb dX0_claim_0 rfl (lv_at hl 0 rfl) ?_
  refine cw_get (v := .int (u.1 17)) hx hb hts hown hK hM 17 (by decide) q206 rfl rfl dX0_claim_1 ?_
  refine lv_bipush (v := 30) hx hb dX0_claim_4 (by decide) ?_
  refine lv_icmp_eq (tgt := 17) hx hb dX0_claim_6 (by decide) (fun c_6 => ?_) (fun c_6 => ?_)
  · skip
    refine lv_iconst (v := (-1)) hx hb dX0_claim_17 (by decide) ?_
    have hF : fX0_claim u pa = ((-1), u) := by rw [fX0_claim, if_pos c_6]
    exact cw_iret hx hb hr hlk hM hS (by rw [hF]) (by rw [hF]) dX0_claim_18
  · skip
    refine lv_aload_n hx hb dX0_claim_9 rfl (lv_at hl 0 rfl) ?_
    refine lv_iload_n hx hb dX0_claim_10 rfl (lv_at hl 1 rfl) ?_
    refine ro_call (cw_run (n := 1) (As := [.int pa]) (rest := []) hx hb hml hown hts (metX0_paperAt l D cA o g u pa (hN0 c_6)) q380 q382 qs3 q383 (by decide +kernel) (by decide) (by decide) rfl hK hM hl.1 (Nat.le_of_ble_eq_true rfl) rfl dX0_claim_11 ⟨Nat.le_refl _, Nat.le_refl _⟩) ?_
    refine lv_ifnonnull_q (tgt := 19) hx hb dX0_claim_14 (by decide) (fun c_14 => ?_) (fun c_14 => ?_)
    · skip
      refine lv_iconst (v := 0) hx hb dX0_claim_19 (by decide) ?_
      refine lv_istore_n (lv' := [(2, .int 0), (0, .ref o), (1, .int pa)]) hx hb dX0_claim_20 rfl hl (by decide) rfl (fun ls hl => ?_)
      refine r_loop2 (rest := []) (nL := 3) (r := (lpX0_claim_21_r u pa)) (lpX0_claim_21 u pa) I_21 (fun q => [(2, .int q), (0, .ref o), (1, .int pa)]) 21 47 39 31 0 (hN1 c_6 c_14).2.1 (hN1 c_6 c_14).1 (hN1 c_6 c_14).2.2 rfl ?_ (lv_sub hl [0, 1, 2] rfl) ?_ ?_
      · skip
        intro i hI_21 ls hl kb k1 k2
        have hl : lv_has ls 3 [(2, .int i), (0, .ref o), (1, .int pa)] := hl
        refine lv_iload_n hx hb dX0_claim_21 rfl (lv_at hl 0 rfl) ?_
        refine lv_aload_n hx hb dX0_claim_22 rfl (lv_at hl 1 rfl) ?_
        refine cw_get (v := .int (u.1 17)) hx hb hts hown hK hM 17 (by decide) q206 rfl rfl dX0_claim_23 ?_
        refine lv_icmp_ge (tgt := 47) hx hb dX0_claim_26 (by decide) (fun c_26 => ?_) (fun c_26 => ?_)
        · skip
          have hs : lpX0_claim_21 u pa i = (1, i) := by rw [lpX0_claim_21, if_pos c_26]
          rw [hs] at k1
          exact k1 rfl _ (lv_sub hl [0, 1, 2] rfl)
        · skip
          refine lv_aload_n hx hb dX0_claim_29 rfl (lv_at hl 1 rfl) ?_
          refine cw_get (v := .ref (cAd o 12)) hx hb hts hown hK hM 12 (by decide) q201 rfl rfl dX0_claim_30 ?_
          refine lv_iload_n hx hb dX0_claim_33 rfl (lv_at hl 0 rfl) ?_
          refine cw_ild (v := u.2.1 12 i.toNatClampNeg) (j := i.toNatClampNeg) hx hb hK hM 12 (by decide) rfl rfl (hN2 c_6 c_14 i hI_21 c_26) rfl rfl dX0_claim_34 ?_
          refine lv_iload_n hx hb dX0_claim_35 rfl (lv_at hl 2 rfl) ?_
          refine lv_icmp_ne (tgt := 41) hx hb dX0_claim_36 (by decide) (fun c_36 => ?_) (fun c_36 => ?_)
          · skip
            refine lv_iinc (v := i + 1) (lv' := [(2, .int (i + 1)), (0, .ref o), (1, .int pa)]) hx hb dX0_claim_41 hl (k := 0) rfl (rfl) (by decide) rfl (fun ls hl => ?_)
            refine lv_goto (tgt := 21) hx hb dX0_claim_44 (by decide) ?_
            have hs : lpX0_claim_21 u pa i = (0, i + 1) := by rw [lpX0_claim_21, if_neg c_26, if_neg c_36]
            rw [hs] at kb
            exact kb rfl _ (lv_sub hl [0, 1, 2] rfl)
          · skip
            have hs : lpX0_claim_21 u pa i = (2, i) := by rw [lpX0_claim_21, if_neg c_26, if_pos c_36]
            rw [hs] at k2
            exact k2 (show ¬ (2 : Nat) = 0 by decide) (show ¬ (2 : Nat) = 1 by decide) _ (lv_sub hl [0, 1, 2] rfl)
      · skip
        intro hx_21 ls hl
        have hl : lv_has ls 3 [(2, .int ((lpX0_claim_21_r u pa).2)), (0, .ref o), (1, .int pa)] := hl
        have hx_21 : (lpX0_claim_21_r u pa).1 = 1 := hx_21
        refine lv_aload_n hx hb dX0_claim_47 rfl (lv_at hl 1 rfl) ?_
        refine cw_get (v := .ref (cAd o 12)) hx hb hts hown hK hM 12 (by decide) q201 rfl rfl dX0_claim_48 ?_
        refine lv_aload_n hx hb dX0_claim_51 rfl (lv_at hl 1 rfl) ?_
        refine cw_get (v := .int (u.1 17)) hx hb hts hown hK hM 17 (by decide) q206 rfl rfl dX0_claim_52 ?_
        refine lv_iload_n hx hb dX0_claim_55 rfl (lv_at hl 2 rfl) ?_
        refine cw_ist (j := (u.1 17).toNatClampNeg) hx hb hK hM hS 12 (by decide) rfl rfl (hN3 c_6 c_14 hx_21) rfl dX0_claim_56 (fun H locs hM hS => ?_)
        refine lv_aload_n hx hb dX0_claim_57 rfl (lv_at hl 1 rfl) ?_
        refine lv_dup hx hb dX0_claim_58 rfl ?_
        refine cw_get (v := .int (u.1 17)) hx hb hts hown hK hM 17 (by decide) q206 rfl rfl dX0_claim_59 ?_
        refine lv_iconst (v := 1) hx hb dX0_claim_62 (by decide) ?_
        refine lv_iadd hx hb dX0_claim_63 ?_
        refine cw_puti hx hb hts hown hK hM hS 17 (by decide) q206 rfl rfl rfl rfl dX0_claim_64 (fun H locs hM hS => ?_)
        refine lv_aload_n hx hb dX0_claim_67 rfl (lv_at hl 1 rfl) ?_
        refine cw_get (v := .int ((u.1 17) + 1)) hx hb hts hown hK hM 17 (by decide) q206 rfl rfl dX0_claim_68 ?_
        refine lv_iconst (v := 1) hx hb dX0_claim_71 (by decide) ?_
        refine lv_isub hx hb dX0_claim_72 ?_
        have hF : fX0_claim u pa = (((u.1 17) + 1) - 1, (si (sa u 12 ((u.1 17).toNatClampNeg) pa) 17 ((u.1 17) + 1))) := by rw [fX0_claim, if_neg c_6, if_neg c_14, if_pos hx_21]
        exact cw_iret hx hb hr hlk hM hS (by rw [hF]) (by rw [hF]) dX0_claim_73
      · skip
        intro hx_21 ls hl
        have hl : lv_has ls 3 [(2, .int ((lpX0_claim_21_r u pa).2)), (0, .ref o), (1, .int pa)] := hl
        have hx_21 : ¬ (lpX0_claim_21_r u pa).1 = 1 := hx_21
        refine lv_iconst (v := (-1)) hx hb dX0_claim_39 (by decide) ?_
        have hF : fX0_claim u pa = ((-1), u) := by rw [fX0_claim, if_neg c_6, if_neg c_14, if_neg hx_21]
        exact cw_iret hx hb hr hlk hM hS (by rw [hF]) (by rw [hF]) dX0_claim_40
    · skip
      refine lv_iconst (v := (-1)) hx hb dX0_claim_17 (by decide) ?_
      have hF : fX0_claim u pa = ((-1), u) := by rw [fX0_claim, if_neg c_6, if_pos c_14]
      exact cw_iret hx hb hr hlk hM hS (by rw [hF]) (by rw [hF]) dX0_claim_18

def fX0_lk1 (u : St) (cl : Int32) (k : Int32) : St :=
  (fX0_follow u (u.2.1 61 ((u.2.1 12 cl.toNatClampNeg).toNatClampNeg)) k k (u.2.1 12 cl.toNatClampNeg))
def fX0_looks (u : St) (cl : Int32) (k : Int32) : Bool × St :=
  if cl < 0 then (false, u) else (if (u.1 17) ≤ cl then (false, u) else (if (fX4_counts u (u.2.1 12 cl.toNatClampNeg) k) = true then (if ((fX0_lk1 u cl k).1 20) = 0 then (true, (si (si (si (si (si (fX0_lk1 u cl k) 31 (u.2.1 12 cl.toNatClampNeg)) 34 k) 32 ((((fX0_lk1 u cl k).2.1 64 ((u.2.1 12 cl.toNatClampNeg).toNatClampNeg)) - ((fX0_lk1 u cl k).1 21)) / 365)) 33 ((fX0_lk1 u cl k).1 22)) 35 (b2 (if ((fX0_lk1 u cl k).1 18) = ((fX0_lk1 u cl k).2.1 63 ((u.2.1 12 cl.toNatClampNeg).toNatClampNeg)) then true else false)))) else (false, (si (si (si (si (si (fX0_lk1 u cl k) 31 (u.2.1 12 cl.toNatClampNeg)) 34 k) 32 ((((fX0_lk1 u cl k).2.1 64 ((u.2.1 12 cl.toNatClampNeg).toNatClampNeg)) - ((fX0_lk1 u cl k).1 21)) / 365)) 33 ((fX0_lk1 u cl k).1 22)) 35 (b2 (if ((fX0_lk1 u cl k).1 18) = ((fX0_lk1 u cl k).2.1 63 ((u.2.1 12 cl.toNatClampNeg).toNatClampNeg)) then true else false))))) else (false, u)))
def okX0_looks (n : Nat) (u : St) (cl : Int32) (k : Int32) : Prop :=
  (¬ (cl < 0) → ¬ ((u.1 17) ≤ cl) → vp_in cl 30) ∧ (¬ (cl < 0) → ¬ ((u.1 17) ≤ cl) → vp_in (u.2.1 12 cl.toNatClampNeg) 60) ∧ (¬ (cl < 0) → ¬ ((u.1 17) ≤ cl) → (u.2.1 12 cl.toNatClampNeg).toNatClampNeg < n) ∧ (¬ (cl < 0) → ¬ ((u.1 17) ≤ cl) → pIn n (u.2.1 12 cl.toNatClampNeg)) ∧ (¬ (cl < 0) → ¬ ((u.1 17) ≤ cl) → (fX4_counts u (u.2.1 12 cl.toNatClampNeg) k) = true → okX0_follow n u (u.2.1 61 ((u.2.1 12 cl.toNatClampNeg).toNatClampNeg)) k k (u.2.1 12 cl.toNatClampNeg))
set_option maxHeartbeats 4000000 in
theorem metX0_looks (l : Launch) (D : va_G) (cA : Nat → ClassId) (o : Nat) (g : Gh) (u : St) (cl : Int32) (k : Int32) (hok : okX0_looks g.1 u cl k) : CetM l yX0_looks cX0_looks 4 (some .boolean) 3 D cA o g u [.ref o, .int cl, .int k] (some (.int (b2 (fX0_looks u cl k).1))) (fX0_looks u cl k).2 := by
  obtain ⟨hN0, hN1, hN2, hN3, hN4⟩ := hok
  refine cM_start RX0 (by decide) rfl (Nat.le_of_ble_eq_true rfl) ?_
  intro pg ev s0 mi bl me co hx hb hml hown hts hr hlk hK hM ls hl
  have hl : lv_has ls 4 [(0, .ref o), (1, .int cl), (2, .int k)] := hl
  have hS : va_S (cF o g) s0.heap s0.heap [] := va_S.rf
  refine lv_iload_n hx hb dX0_looks_0 rfl (lv_at hl 1 rfl) ?_
  refine lv_if_lt (tgt := 30) hx hb dX0_looks_1 (by decide) (fun c_1 => ?_) (fun c_1 => ?_)
  · skip
    refine lv_iconst (v := 0) hx hb dX0_looks_30 (by decide) ?_
    have hF : fX0_looks u cl k = (false, u) := by rw [fX0_looks, if_pos c_1]
    exact cw_zret hx hb hr hlk hM hS (by rw [hF]; rfl) (by rw [hF]) dX0_looks_31
  · skip
    refine lv_iload_n hx hb dX0_looks_4 rfl (lv_at hl 1 rfl) ?_
    refine lv_aload_n hx hb dX0_looks_5 rfl (lv_at hl 0 rfl) ?_
    refine cw_get (v := .int (u.1 17)) hx hb hts hown hK hM 17 (by decide) q206 rfl rfl dX0_looks_6 ?_
    refine lv_icmp_ge (tgt := 30) hx hb dX0_looks_9 (by decide) (fun c_9 => ?_) (fun c_9 => ?_)
    · skip
      refine lv_iconst (v := 0) hx hb dX0_looks_30 (by decide) ?_
      have hF : fX0_looks u cl k = (false, u) := by rw [fX0_looks, if_neg c_1, if_pos c_9]
      exact cw_zret hx hb hr hlk hM hS (by rw [hF]; rfl) (by rw [hF]) dX0_looks_31
    · skip
      refine lv_aload_n hx hb dX0_looks_12 rfl (lv_at hl 0 rfl) ?_
      refine cw_get (v := .ref (cAd o 11)) hx hb hts hown hK hM 11 (by decide) q200 rfl rfl dX0_looks_13 ?_
      refine lv_aload_n hx hb dX0_looks_16 rfl (lv_at hl 0 rfl) ?_
      refine cw_get (v := .ref (cAd o 12)) hx hb hts hown hK hM 12 (by decide) q201 rfl rfl dX0_looks_17 ?_
      refine lv_iload_n hx hb dX0_looks_20 rfl (lv_at hl 1 rfl) ?_
      refine cw_ild (v := u.2.1 12 cl.toNatClampNeg) (j := cl.toNatClampNeg) hx hb hK hM 12 (by decide) rfl rfl (hN0 c_1 c_9) rfl rfl dX0_looks_21 ?_
      refine cw_pap hx hb hK hM (hN1 c_1 c_9) (hN2 c_1 c_9) dX0_looks_22 ?_
      refine lv_iload_n hx hb dX0_looks_23 rfl (lv_at hl 2 rfl) ?_
      refine cw_pcounts (i := u.2.1 12 cl.toNatClampNeg) (k := k) (rest := []) hx hb hml hown hts q400 (by decide +kernel) (by decide) hK hM (hN3 c_1 c_9) hl.1 (Nat.le_of_ble_eq_true rfl) dX0_looks_24 ?_
      refine lv_B_ne (tgt := 32) hx hb dX0_looks_27 (by decide) (fun c_27 => ?_) (fun c_27 => ?_)
      · skip
        refine lv_aload_n hx hb dX0_looks_32 rfl (lv_at hl 0 rfl) ?_
        refine cw_get (v := .ref (cAd o 11)) hx hb hts hown hK hM 11 (by decide) q200 rfl rfl dX0_looks_33 ?_
        refine lv_aload_n hx hb dX0_looks_36 rfl (lv_at hl 0 rfl) ?_
        refine cw_get (v := .ref (cAd o 12)) hx hb hts hown hK hM 12 (by decide) q201 rfl rfl dX0_looks_37 ?_
        refine lv_iload_n hx hb dX0_looks_40 rfl (lv_at hl 1 rfl) ?_
        refine cw_ild (v := u.2.1 12 cl.toNatClampNeg) (j := cl.toNatClampNeg) hx hb hK hM 12 (by decide) rfl rfl (hN0 c_1 c_9) rfl rfl dX0_looks_41 ?_
        refine cw_pap hx hb hK hM (hN1 c_1 c_9) (hN2 c_1 c_9) dX0_looks_42 ?_
        refine lv_astore_nq (lv' := [(3, va_rf (pr g (u.2.1 12 cl.toNatClampNeg))), (0, .ref o), (1, .int cl), (2, .int k)]) hx hb dX0_looks_43 rfl hl (by decide) rfl (fun ls hl => ?_)
        refine lv_aload_n hx hb dX0_looks_44 rfl (lv_at hl 1 rfl) ?_
        refine lv_aload_nq hx hb dX0_looks_45 rfl (lv_at hl 0 rfl) ?_
        refine cw_pget (v := u.2.1 61 ((u.2.1 12 cl.toNatClampNeg).toNatClampNeg)) (i := u.2.1 12 cl.toNatClampNeg) hx hb hts hown hK hM 1 (by decide) (hN3 c_1 c_9) q339 rfl rfl dX0_looks_46 ?_
        refine lv_iload_n hx hb dX0_looks_49 rfl (lv_at hl 3 rfl) ?_
        refine lv_iload_n hx hb dX0_looks_50 rfl (lv_at hl 3 rfl) ?_
        refine lv_aload_nq hx hb dX0_looks_51 rfl (lv_at hl 0 rfl) ?_
        refine cw_call (cw_run (n := 4) (As := [.int (u.2.1 61 ((u.2.1 12 cl.toNatClampNeg).toNatClampNeg)), .int k, .int k, va_rf (pr g (u.2.1 12 cl.toNatClampNeg))]) (rest := []) hx hb hml hown hts (metX0_follow l D cA o g u (u.2.1 61 ((u.2.1 12 cl.toNatClampNeg).toNatClampNeg)) k k (u.2.1 12 cl.toNatClampNeg) (hN4 c_1 c_9 c_27)) q392 q394 qs4 q395 (by decide +kernel) (by decide) (by decide) rfl hK hM hl.1 (Nat.le_of_ble_eq_true rfl) rfl dX0_looks_52 ⟨Nat.le_refl _, Nat.le_refl _⟩) hS (fun _ h => h) (fun H locs hM _ _ hS => ?_)
        have hM : CW D cA o g (fX0_lk1 u cl k) _ := hM
        refine lv_aload_n hx hb dX0_looks_55 rfl (lv_at hl 1 rfl) ?_
        refine cw_get (v := .ref (cAd o 23)) hx hb hts hown hK hM 23 (by decide) q212 rfl rfl dX0_looks_56 ?_
        refine lv_aload_nq hx hb dX0_looks_59 rfl (lv_at hl 0 rfl) ?_
        refine cw_vputp (v := u.2.1 12 cl.toNatClampNeg) hx hb hts hown hK hM hS q147 dX0_looks_60 (fun H locs hM hS => ?_)
        refine lv_aload_n hx hb dX0_looks_63 rfl (lv_at hl 1 rfl) ?_
        refine cw_get (v := .ref (cAd o 23)) hx hb hts hown hK hM 23 (by decide) q212 rfl rfl dX0_looks_64 ?_
        refine lv_iload_n hx hb dX0_looks_67 rfl (lv_at hl 3 rfl) ?_
        refine cw_vputi (v := k) hx hb hts hown hK hM hS 3 (by decide) (by decide) q153 rfl rfl rfl rfl dX0_looks_68 (fun H locs hM hS => ?_)
        refine lv_aload_n hx hb dX0_looks_71 rfl (lv_at hl 1 rfl) ?_
        refine cw_get (v := .ref (cAd o 23)) hx hb hts hown hK hM 23 (by decide) q212 rfl rfl dX0_looks_72 ?_
        refine lv_aload_nq hx hb dX0_looks_75 rfl (lv_at hl 0 rfl) ?_
        refine cw_pget (v := (fX0_lk1 u cl k).2.1 64 ((u.2.1 12 cl.toNatClampNeg).toNatClampNeg)) (i := u.2.1 12 cl.toNatClampNeg) hx hb hts hown hK hM 4 (by decide) (hN3 c_1 c_9) q348 rfl rfl dX0_looks_76 ?_
        refine lv_aload_n hx hb dX0_looks_79 rfl (lv_at hl 1 rfl) ?_
        refine cw_get (v := .int ((fX0_lk1 u cl k).1 21)) hx hb hts hown hK hM 21 (by decide) q210 rfl rfl dX0_looks_80 ?_
        refine lv_isub hx hb dX0_looks_83 ?_
        refine lv_sipush (v := 365) hx hb dX0_looks_84 (by decide) ?_
        refine lv_idiv hx hb dX0_looks_87 (by decide) ?_
        refine cw_vputi (v := (((fX0_lk1 u cl k).2.1 64 ((u.2.1 12 cl.toNatClampNeg).toNatClampNeg)) - ((fX0_lk1 u cl k).1 21)) / 365) hx hb hts hown hK hM hS 1 (by decide) (by decide) q149 rfl rfl rfl rfl dX0_looks_88 (fun H locs hM hS => ?_)
        refine lv_aload_n hx hb dX0_looks_91 rfl (lv_at hl 1 rfl) ?_
        refine cw_get (v := .ref (cAd o 23)) hx hb hts hown hK hM 23 (by decide) q212 rfl rfl dX0_looks_92 ?_
        refine lv_aload_n hx hb dX0_looks_95 rfl (lv_at hl 1 rfl) ?_
        refine cw_get (v := .int ((fX0_lk1 u cl k).1 22)) hx hb hts hown hK hM 22 (by decide) q211 rfl rfl dX0_looks_96 ?_
        refine cw_vputi (v := (fX0_lk1 u cl k).1 22) hx hb hts hown hK hM hS 2 (by decide) (by decide) q151 rfl rfl rfl rfl dX0_looks_99 (fun H locs hM hS => ?_)
        refine lv_aload_n hx hb dX0_looks_102 rfl (lv_at hl 1 rfl) ?_
        refine cw_get (v := .ref (cAd o 23)) hx hb hts hown hK hM 23 (by decide) q212 rfl rfl dX0_looks_103 ?_
        refine lv_aload_n hx hb dX0_looks_106 rfl (lv_at hl 1 rfl) ?_
        refine w_ji (ls := ls) (rest := [.ref (cAd o 23)]) (E := b2 (if ((fX0_lk1 u cl k).1 18) = ((fX0_lk1 u cl k).2.1 63 ((u.2.1 12 cl.toNatClampNeg).toNatClampNeg)) then true else false)) 122 ?_ (fun K => ?_)
        · skip
          refine cw_vputi (v := b2 (if ((fX0_lk1 u cl k).1 18) = ((fX0_lk1 u cl k).2.1 63 ((u.2.1 12 cl.toNatClampNeg).toNatClampNeg)) then true else false)) hx hb hts hown hK hM hS 4 (by decide) (by decide) q155 rfl rfl (b2_nar _) (b2_fit _) dX0_looks_122 (fun H locs hM hS => ?_)
          refine lv_aload_n hx hb dX0_looks_125 rfl (lv_at hl 1 rfl) ?_
          refine cw_get (v := .int ((fX0_lk1 u cl k).1 20)) hx hb hts hown hK hM 20 (by decide) q209 rfl rfl dX0_looks_126 ?_
          refine lv_if_ne (tgt := 136) hx hb dX0_looks_129 (by decide) (fun c_129 => ?_) (fun c_129 => ?_)
          · skip
            refine lv_iconst (v := 0) hx hb dX0_looks_136 (by decide) ?_
            have hF : fX0_looks u cl k = (false, (si (si (si (si (si (fX0_lk1 u cl k) 31 (u.2.1 12 cl.toNatClampNeg)) 34 k) 32 ((((fX0_lk1 u cl k).2.1 64 ((u.2.1 12 cl.toNatClampNeg).toNatClampNeg)) - ((fX0_lk1 u cl k).1 21)) / 365)) 33 ((fX0_lk1 u cl k).1 22)) 35 (b2 (if ((fX0_lk1 u cl k).1 18) = ((fX0_lk1 u cl k).2.1 63 ((u.2.1 12 cl.toNatClampNeg).toNatClampNeg)) then true else false)))) := by rw [fX0_looks, if_neg c_1, if_neg c_9, if_pos c_27, if_neg c_129]
            exact cw_zret hx hb hr hlk hM hS (by rw [hF]; rfl) (by rw [hF]) dX0_looks_137
          · skip
            refine lv_iconst (v := 1) hx hb dX0_looks_132 (by decide) ?_
            refine lv_goto (tgt := 137) hx hb dX0_looks_133 (by decide) ?_
            have hF : fX0_looks u cl k = (true, (si (si (si (si (si (fX0_lk1 u cl k) 31 (u.2.1 12 cl.toNatClampNeg)) 34 k) 32 ((((fX0_lk1 u cl k).2.1 64 ((u.2.1 12 cl.toNatClampNeg).toNatClampNeg)) - ((fX0_lk1 u cl k).1 21)) / 365)) 33 ((fX0_lk1 u cl k).1 22)) 35 (b2 (if ((fX0_lk1 u cl k).1 18) = ((fX0_lk1 u cl k).2.1 63 ((u.2.1 12 cl.toNatClampNeg).toNatClampNeg)) then true else false)))) := by rw [fX0_looks, if_neg c_1, if_neg c_9, if_pos c_27, if_pos c_129]
            exact cw_zret hx hb hr hlk hM hS (by rw [hF]; rfl) (by rw [hF]) dX0_looks_137
        · skip
          refine cw_get (v := .int ((fX0_lk1 u cl k).1 18)) hx hb hts hown hK hM 18 (by decide) q207 rfl rfl dX0_looks_107 ?_
          refine lv_aload_nq hx hb dX0_looks_110 rfl (lv_at hl 0 rfl) ?_
          refine cw_pget (v := (fX0_lk1 u cl k).2.1 63 ((u.2.1 12 cl.toNatClampNeg).toNatClampNeg)) (i := u.2.1 12 cl.toNatClampNeg) hx hb hts hown hK hM 3 (by decide) (hN3 c_1 c_9) q344 rfl rfl dX0_looks_111 ?_
          refine lv_icmp_ne (tgt := 121) hx hb dX0_looks_114 (by decide) (fun c_114 => ?_) (fun c_114 => ?_)
          · skip
            refine lv_iconst (v := 0) hx hb dX0_looks_121 (by decide) ?_
            exact K _ (by rw [if_neg c_114]; rfl)
          · skip
            refine lv_iconst (v := 1) hx hb dX0_looks_117 (by decide) ?_
            refine lv_goto (tgt := 122) hx hb dX0_looks_118 (by decide) ?_
            exact K _ (by rw [if_pos c_114]; rfl)
      · skip
        refine lv_iconst (v := 0) hx hb dX0_looks_30 (by decide) ?_
        have hF : fX0_looks u cl k = (false, u) := by rw [fX0_looks, if_neg c_1, if_neg c_9, if_neg (nt_of c_27)]
        exact cw_zret hx hb hr hlk hM hS (by rw [hF]; rfl) (by rw [hF]) dX0_looks_31

def fX0_isChild (u : St) (c : Int32) (p : Int32) : Bool :=
  if (u.2.1 5 c.toNatClampNeg) = p then true else (if (u.2.1 6 c.toNatClampNeg) = p then true else false)
def okX0_isChild (n : Nat) (u : St) (c : Int32) (p : Int32) : Prop :=
  (vp_in c 24)
set_option maxHeartbeats 4000000 in
theorem metX0_isChild (l : Launch) (D : va_G) (cA : Nat → ClassId) (o : Nat) (g : Gh) (u : St) (c : Int32) (p : Int32) (hok : okX0_isChild g.1 u c p) : CetR l yX0_isChild cX0_isChild 3 (some .boolean) 0 D cA o g u [.ref o, .int c, .int p] (some (.int (b2 (fX0_isChild u c p)))) := by
  have hN0 := hok
  refine cM_start RX0 (by decide) rfl (Nat.le_of_ble_eq_true rfl) ?_
  intro pg ev s0 mi bl me co hx hb hml hown hts hr hlk hK hM ls hl
  have hl : lv_has ls 3 [(0, .ref o), (1, .int c), (2, .int p)] := hl
  refine lv_aload_n hx hb dX0_isChild_0 rfl (lv_at hl 0 rfl) ?_
  refine cw_get (v := .ref (cAd o 5)) hx hb hts hown hK hM 5 (by decide) q193 rfl rfl dX0_isChild_1 ?_
  refine lv_iload_n hx hb dX0_isChild_4 rfl (lv_at hl 1 rfl) ?_
  refine cw_ild (v := u.2.1 5 c.toNatClampNeg) (j := c.toNatClampNeg) hx hb hK hM 5 (by decide) rfl rfl hN0 rfl rfl dX0_isChild_5 ?_
  refine lv_iload_n hx hb dX0_isChild_6 rfl (lv_at hl 2 rfl) ?_
  refine lv_icmp_eq (tgt := 20) hx hb dX0_isChild_7 (by decide) (fun c_7 => ?_) (fun c_7 => ?_)
  · skip
    refine lv_iconst (v := 1) hx hb dX0_isChild_20 (by decide) ?_
    refine lv_goto (tgt := 25) hx hb dX0_isChild_21 (by decide) ?_
    have hF : fX0_isChild u c p = true := by rw [fX0_isChild, if_pos c_7]
    exact zret_ro hx hb hr hlk (by rw [hF]; rfl) dX0_isChild_25
  · skip
    refine lv_aload_n hx hb dX0_isChild_10 rfl (lv_at hl 0 rfl) ?_
    refine cw_get (v := .ref (cAd o 6)) hx hb hts hown hK hM 6 (by decide) q194 rfl rfl dX0_isChild_11 ?_
    refine lv_iload_n hx hb dX0_isChild_14 rfl (lv_at hl 1 rfl) ?_
    refine cw_ild (v := u.2.1 6 c.toNatClampNeg) (j := c.toNatClampNeg) hx hb hK hM 6 (by decide) rfl rfl hN0 rfl rfl dX0_isChild_15 ?_
    refine lv_iload_n hx hb dX0_isChild_16 rfl (lv_at hl 2 rfl) ?_
    refine lv_icmp_ne (tgt := 24) hx hb dX0_isChild_17 (by decide) (fun c_17 => ?_) (fun c_17 => ?_)
    · skip
      refine lv_iconst (v := 0) hx hb dX0_isChild_24 (by decide) ?_
      have hF : fX0_isChild u c p = false := by rw [fX0_isChild, if_neg c_7, if_neg c_17]
      exact zret_ro hx hb hr hlk (by rw [hF]; rfl) dX0_isChild_25
    · skip
      refine lv_iconst (v := 1) hx hb dX0_isChild_20 (by decide) ?_
      refine lv_goto (tgt := 25) hx hb dX0_isChild_21 (by decide) ?_
      have hF : fX0_isChild u c p = true := by rw [fX0_isChild, if_neg c_7, if_pos c_17]
      exact zret_ro hx hb hr hlk (by rw [hF]; rfl) dX0_isChild_25

def fX0_canHave (u : St) (h : Int32) (oo : Int32) : Bool :=
  if h = oo then true else (if (u.2.1 (40 + h.toNatClampNeg) oo.toNatClampNeg) ≤ 0 then false else true)
def okX0_canHave (n : Nat) (u : St) (h : Int32) (oo : Int32) : Prop :=
  (¬ (h = oo) → vp_in h 8) ∧ (¬ (h = oo) → vp_in oo 8)
set_option maxHeartbeats 4000000 in
theorem metX0_canHave (l : Launch) (D : va_G) (cA : Nat → ClassId) (o : Nat) (g : Gh) (u : St) (h : Int32) (oo : Int32) (hok : okX0_canHave g.1 u h oo) : CetR l yX0_canHave cX0_canHave 3 (some .boolean) 0 D cA o g u [.ref o, .int h, .int oo] (some (.int (b2 (fX0_canHave u h oo)))) := by
  obtain ⟨hN0, hN1⟩ := hok
  refine cM_start RX0 (by decide) rfl (Nat.le_of_ble_eq_true rfl) ?_
  intro pg ev s0 mi bl me co hx hb hml hown hts hr hlk hK hM ls hl
  have hl : lv_has ls 3 [(0, .ref o), (1, .int h), (2, .int oo)] := hl
  refine lv_iload_n hx hb dX0_canHave_0 rfl (lv_at hl 1 rfl) ?_
  refine lv_iload_n hx hb dX0_canHave_1 rfl (lv_at hl 2 rfl) ?_
  refine lv_icmp_eq (tgt := 16) hx hb dX0_canHave_2 (by decide) (fun c_2 => ?_) (fun c_2 => ?_)
  · skip
    refine lv_iconst (v := 1) hx hb dX0_canHave_16 (by decide) ?_
    refine lv_goto (tgt := 21) hx hb dX0_canHave_17 (by decide) ?_
    have hF : fX0_canHave u h oo = true := by rw [fX0_canHave, if_pos c_2]
    exact zret_ro hx hb hr hlk (by rw [hF]; rfl) dX0_canHave_21
  · skip
    refine lv_aload_n hx hb dX0_canHave_5 rfl (lv_at hl 0 rfl) ?_
    refine cw_get (v := .ref (cAd o 28)) hx hb hts hown hK hM 28 (by decide) q217 rfl rfl dX0_canHave_6 ?_
    refine lv_iload_n hx hb dX0_canHave_9 rfl (lv_at hl 1 rfl) ?_
    refine cw_row (j := h.toNatClampNeg) hx hb hK hM 28 40 8 (by decide) (by decide) (cRf_28 cA o g) (hN0 c_2) rfl dX0_canHave_10 ?_
    refine lv_iload_n hx hb dX0_canHave_11 rfl (lv_at hl 2 rfl) ?_
    refine cw_ild (v := u.2.1 (40 + h.toNatClampNeg) oo.toNatClampNeg) (j := oo.toNatClampNeg) hx hb hK hM (40 + h.toNatClampNeg) (row_k40 (i := h) (j := h.toNatClampNeg) (hN0 c_2) rfl).1 (row_k40 (i := h) (j := h.toNatClampNeg) (hN0 c_2) rfl).2.1 (row_k40 (i := h) (j := h.toNatClampNeg) (hN0 c_2) rfl).2.2 (hN1 c_2) rfl rfl dX0_canHave_12 ?_
    refine lv_if_le (tgt := 20) hx hb dX0_canHave_13 (by decide) (fun c_13 => ?_) (fun c_13 => ?_)
    · skip
      refine lv_iconst (v := 0) hx hb dX0_canHave_20 (by decide) ?_
      have hF : fX0_canHave u h oo = false := by rw [fX0_canHave, if_neg c_2, if_pos c_13]
      exact zret_ro hx hb hr hlk (by rw [hF]; rfl) dX0_canHave_21
    · skip
      refine lv_iconst (v := 1) hx hb dX0_canHave_16 (by decide) ?_
      refine lv_goto (tgt := 21) hx hb dX0_canHave_17 (by decide) ?_
      have hF : fX0_canHave u h oo = true := by rw [fX0_canHave, if_neg c_2, if_neg c_13]
      exact zret_ro hx hb hr hlk (by rw [hF]; rfl) dX0_canHave_21

def fX0_want (u : St) (h : Int32) (oo : Int32) (j : Int32) : Int32 × St :=
  if (u.1 30) = 40 then ((-1), u) else (if (fX0_isHouse u h) = true then (if (fX0_isHouse u oo) = true then (if h = oo then ((-1), u) else (if j < 0 then ((-1), u) else (if j ≤ 1000 then ((u.1 30) + 1, (si (sa u (40 + h.toNatClampNeg) oo.toNatClampNeg j) 30 ((u.1 30) + 1))) else ((-1), u)))) else ((-1), u)) else ((-1), u))
def okX0_want (n : Nat) (u : St) (h : Int32) (oo : Int32) (j : Int32) : Prop :=
  (¬ ((u.1 30) = 40) → (fX0_isHouse u h) = true → (fX0_isHouse u oo) = true → ¬ (h = oo) → ¬ (j < 0) → j ≤ 1000 → vp_in h 8) ∧ (¬ ((u.1 30) = 40) → (fX0_isHouse u h) = true → (fX0_isHouse u oo) = true → ¬ (h = oo) → ¬ (j < 0) → j ≤ 1000 → vp_in oo 8)
set_option maxHeartbeats 4000000 in
theorem metX0_want (l : Launch) (D : va_G) (cA : Nat → ClassId) (o : Nat) (g : Gh) (u : St) (h : Int32) (oo : Int32) (j : Int32) (hok : okX0_want g.1 u h oo j) : CetM l yX0_want cX0_want 4 (some .int) 1 D cA o g u [.ref o, .int h, .int oo, .int j] (some (.int (fX0_want u h oo j).1)) (fX0_want u h oo j).2 := by
  obtain ⟨hN0, hN1⟩ := hok
  refine cM_start RX0 (by decide) rfl (Nat.le_of_ble_eq_true rfl) ?_
  intro pg ev s0 mi bl me co hx hb hml hown hts hr hlk hK hM ls hl
  have hl : lv_has ls 4 [(0, .ref o), (1, .int h), (2, .int oo), (3, .int j)] := hl
  have hS : va_S (cF o g) s0.heap s0.heap [] := va_S.rf
  refine lv_aload_n hx hb dX0_want_0 rfl (lv_at hl 0 rfl) ?_
  refine cw_get (v := .int (u.1 30)) hx hb hts hown hK hM 30 (by decide) q219 rfl rfl dX0_want_1 ?_
  refine lv_bipush (v := 40) hx hb dX0_want_4 (by decide) ?_
  refine lv_icmp_eq (tgt := 41) hx hb dX0_want_6 (by decide) (fun c_6 => ?_) (fun c_6 => ?_)
  · skip
    refine lv_iconst (v := (-1)) hx hb dX0_want_41 (by decide) ?_
    have hF : fX0_want u h oo j = ((-1), u) := by rw [fX0_want, if_pos c_6]
    exact cw_iret hx hb hr hlk hM hS (by rw [hF]) (by rw [hF]) dX0_want_42
  · skip
    refine lv_aload_n hx hb dX0_want_9 rfl (lv_at hl 0 rfl) ?_
    refine lv_iload_n hx hb dX0_want_10 rfl (lv_at hl 1 rfl) ?_
    refine ro_call (cw_run (n := 1) (As := [.int h]) (rest := []) hx hb hml hown hts (metX0_isHouse l D cA o g u h) q326 q328 qs2 q329 (by decide +kernel) (by decide) (by decide) rfl hK hM hl.1 (Nat.le_of_ble_eq_true rfl) rfl dX0_want_11 ⟨Nat.le_refl _, Nat.le_refl _⟩) ?_
    refine lv_B_eq (tgt := 41) hx hb dX0_want_14 (by decide) (fun c_14 => ?_) (fun c_14 => ?_)
    · skip
      refine lv_iconst (v := (-1)) hx hb dX0_want_41 (by decide) ?_
      have hF : fX0_want u h oo j = ((-1), u) := by rw [fX0_want, if_neg c_6, if_neg (nt_of c_14)]
      exact cw_iret hx hb hr hlk hM hS (by rw [hF]) (by rw [hF]) dX0_want_42
    · skip
      refine lv_aload_n hx hb dX0_want_17 rfl (lv_at hl 0 rfl) ?_
      refine lv_iload_n hx hb dX0_want_18 rfl (lv_at hl 2 rfl) ?_
      refine ro_call (cw_run (n := 1) (As := [.int oo]) (rest := []) hx hb hml hown hts (metX0_isHouse l D cA o g u oo) q326 q328 qs2 q329 (by decide +kernel) (by decide) (by decide) rfl hK hM hl.1 (Nat.le_of_ble_eq_true rfl) rfl dX0_want_19 ⟨Nat.le_refl _, Nat.le_refl _⟩) ?_
      refine lv_B_eq (tgt := 41) hx hb dX0_want_22 (by decide) (fun c_22 => ?_) (fun c_22 => ?_)
      · skip
        refine lv_iconst (v := (-1)) hx hb dX0_want_41 (by decide) ?_
        have hF : fX0_want u h oo j = ((-1), u) := by rw [fX0_want, if_neg c_6, if_pos c_14, if_neg (nt_of c_22)]
        exact cw_iret hx hb hr hlk hM hS (by rw [hF]) (by rw [hF]) dX0_want_42
      · skip
        refine lv_iload_n hx hb dX0_want_25 rfl (lv_at hl 1 rfl) ?_
        refine lv_iload_n hx hb dX0_want_26 rfl (lv_at hl 2 rfl) ?_
        refine lv_icmp_eq (tgt := 41) hx hb dX0_want_27 (by decide) (fun c_27 => ?_) (fun c_27 => ?_)
        · skip
          refine lv_iconst (v := (-1)) hx hb dX0_want_41 (by decide) ?_
          have hF : fX0_want u h oo j = ((-1), u) := by rw [fX0_want, if_neg c_6, if_pos c_14, if_pos c_22, if_pos c_27]
          exact cw_iret hx hb hr hlk hM hS (by rw [hF]) (by rw [hF]) dX0_want_42
        · skip
          refine lv_iload_n hx hb dX0_want_30 rfl (lv_at hl 3 rfl) ?_
          refine lv_if_lt (tgt := 41) hx hb dX0_want_31 (by decide) (fun c_31 => ?_) (fun c_31 => ?_)
          · skip
            refine lv_iconst (v := (-1)) hx hb dX0_want_41 (by decide) ?_
            have hF : fX0_want u h oo j = ((-1), u) := by rw [fX0_want, if_neg c_6, if_pos c_14, if_pos c_22, if_neg c_27, if_pos c_31]
            exact cw_iret hx hb hr hlk hM hS (by rw [hF]) (by rw [hF]) dX0_want_42
          · skip
            refine lv_iload_n hx hb dX0_want_34 rfl (lv_at hl 3 rfl) ?_
            refine lv_sipush (v := 1000) hx hb dX0_want_35 (by decide) ?_
            refine lv_icmp_le (tgt := 43) hx hb dX0_want_38 (by decide) (fun c_38 => ?_) (fun c_38 => ?_)
            · skip
              refine lv_aload_n hx hb dX0_want_43 rfl (lv_at hl 0 rfl) ?_
              refine cw_get (v := .ref (cAd o 28)) hx hb hts hown hK hM 28 (by decide) q217 rfl rfl dX0_want_44 ?_
              refine lv_iload_n hx hb dX0_want_47 rfl (lv_at hl 1 rfl) ?_
              refine cw_row (j := h.toNatClampNeg) hx hb hK hM 28 40 8 (by decide) (by decide) (cRf_28 cA o g) (hN0 c_6 c_14 c_22 c_27 c_31 c_38) rfl dX0_want_48 ?_
              refine lv_iload_n hx hb dX0_want_49 rfl (lv_at hl 2 rfl) ?_
              refine lv_iload_n hx hb dX0_want_50 rfl (lv_at hl 3 rfl) ?_
              refine cw_ist (j := oo.toNatClampNeg) hx hb hK hM hS (40 + h.toNatClampNeg) (row_k40 (i := h) (j := h.toNatClampNeg) (hN0 c_6 c_14 c_22 c_27 c_31 c_38) rfl).1 (row_k40 (i := h) (j := h.toNatClampNeg) (hN0 c_6 c_14 c_22 c_27 c_31 c_38) rfl).2.1 (row_k40 (i := h) (j := h.toNatClampNeg) (hN0 c_6 c_14 c_22 c_27 c_31 c_38) rfl).2.2 (hN1 c_6 c_14 c_22 c_27 c_31 c_38) rfl dX0_want_51 (fun H locs hM hS => ?_)
              refine lv_aload_n hx hb dX0_want_52 rfl (lv_at hl 0 rfl) ?_
              refine lv_dup hx hb dX0_want_53 rfl ?_
              refine cw_get (v := .int (u.1 30)) hx hb hts hown hK hM 30 (by decide) q219 rfl rfl dX0_want_54 ?_
              refine lv_iconst (v := 1) hx hb dX0_want_57 (by decide) ?_
              refine lv_iadd hx hb dX0_want_58 ?_
              refine cw_puti hx hb hts hown hK hM hS 30 (by decide) q219 rfl rfl rfl rfl dX0_want_59 (fun H locs hM hS => ?_)
              refine lv_aload_n hx hb dX0_want_62 rfl (lv_at hl 0 rfl) ?_
              refine cw_get (v := .int ((u.1 30) + 1)) hx hb hts hown hK hM 30 (by decide) q219 rfl rfl dX0_want_63 ?_
              have hF : fX0_want u h oo j = ((u.1 30) + 1, (si (sa u (40 + h.toNatClampNeg) oo.toNatClampNeg j) 30 ((u.1 30) + 1))) := by rw [fX0_want, if_neg c_6, if_pos c_14, if_pos c_22, if_neg c_27, if_neg c_31, if_pos c_38]
              exact cw_iret hx hb hr hlk hM hS (by rw [hF]) (by rw [hF]) dX0_want_66
            · skip
              refine lv_iconst (v := (-1)) hx hb dX0_want_41 (by decide) ?_
              have hF : fX0_want u h oo j = ((-1), u) := by rw [fX0_want, if_neg c_6, if_pos c_14, if_pos c_22, if_neg c_27, if_neg c_31, if_neg c_38]
              exact cw_iret hx hb hr hlk hM hS (by rw [hF]) (by rw [hF]) dX0_want_42

def lpX0_swap_44 (u : St) (v : St) (h : Int32) (w : St) (z : Int32) : St × Int32 → Nat × St × Int32
  | (x, b) => if (x.1 14) ≤ h then (1, x, b) else (if (x.1 14) ≤ b then (1, x, b) else (if ((z >>> (b &&& 31)) &&& 1) = 0 then (0, x, b + 1) else (if (fX0_canHave x h b) = true then (if (x.2.1 (50 + (h + 1).toNatClampNeg) ((z &&& (((1 : Int32) <<< (b &&& 31)) ^^^ (-1))).toNatClampNeg)) < 0 then (0, x, b + 1) else (0, (sa x (50 + h.toNatClampNeg) z.toNatClampNeg (if (x.2.1 (50 + h.toNatClampNeg) z.toNatClampNeg) < ((x.2.1 (50 + (h + 1).toNatClampNeg) ((z &&& (((1 : Int32) <<< (b &&& 31)) ^^^ (-1))).toNatClampNeg)) + (x.2.1 (40 + h.toNatClampNeg) b.toNatClampNeg)) then ((x.2.1 (50 + (h + 1).toNatClampNeg) ((z &&& (((1 : Int32) <<< (b &&& 31)) ^^^ (-1))).toNatClampNeg)) + (x.2.1 (40 + h.toNatClampNeg) b.toNatClampNeg)) else (x.2.1 (50 + h.toNatClampNeg) z.toNatClampNeg))), b + 1)) else (0, x, b + 1))))
def lpX0_swap_44_r (u : St) (v : St) (h : Int32) (w : St) (z : Int32) : Nat × St × Int32 :=
  wh (lpX0_swap_44 u v h w z) 9 ((sa w (50 + h.toNatClampNeg) z.toNatClampNeg (if h = (w.1 14) then 0 else (-1))), 0)
def lpX0_swap_11 (u : St) (v : St) (h : Int32) : St × Int32 → Nat × St × Int32
  | (w, z) => if ((1 : Int32) <<< ((w.1 14) &&& 31)) ≤ z then (1, w, z) else (0, (lpX0_swap_44_r u v h w z).2.1, z + 1)
def lpX0_swap_11_r (u : St) (v : St) (h : Int32) : Nat × St × Int32 :=
  wh (lpX0_swap_11 u v h) 257 (v, 0)
def lpX0_swap_5 (u : St) : St × Int32 → Nat × St × Int32
  | (v, h) => if h < 0 then (1, v, h) else (0, (lpX0_swap_11_r u v h).2.1, h + (-1))
def lpX0_swap_5_r (u : St) : Nat × St × Int32 :=
  wh (lpX0_swap_5 u) 10 (u, u.1 14)
def fX0_swap (u : St)  : St :=
  (lpX0_swap_5_r u).2.1
def okX0_swap (n : Nat) (u : St)  : Prop :=
  ∃ (I_5 : (St × Int32) → Prop) (I_11 : St → Int32 → (St × Int32) → Prop) (I_44 : St → Int32 → St → Int32 → (St × Int32) → Prop), (LOK (lpX0_swap_5 u) 10 (u, u.1 14) I_5) ∧ (∀ (v : St) (h : Int32), I_5 (v, h) → ¬ (h < 0) → LOK (lpX0_swap_11 u v h) 257 (v, 0) (I_11 v h)) ∧ (∀ (v : St) (h : Int32), I_5 (v, h) → ¬ (h < 0) → ∀ (w : St) (z : Int32), I_11 v h (w, z) → ¬ (((1 : Int32) <<< ((w.1 14) &&& 31)) ≤ z) → vp_in h 9) ∧ (∀ (v : St) (h : Int32), I_5 (v, h) → ¬ (h < 0) → ∀ (w : St) (z : Int32), I_11 v h (w, z) → ¬ (((1 : Int32) <<< ((w.1 14) &&& 31)) ≤ z) → vp_in z 256) ∧ (∀ (v : St) (h : Int32), I_5 (v, h) → ¬ (h < 0) → ∀ (w : St) (z : Int32), I_11 v h (w, z) → ¬ (((1 : Int32) <<< ((w.1 14) &&& 31)) ≤ z) → LOK (lpX0_swap_44 u v h w z) 9 ((sa w (50 + h.toNatClampNeg) z.toNatClampNeg (if h = (w.1 14) then 0 else (-1))), 0) (I_44 v h w z)) ∧ (∀ (v : St) (h : Int32), I_5 (v, h) → ¬ (h < 0) → ∀ (w : St) (z : Int32), I_11 v h (w, z) → ¬ (((1 : Int32) <<< ((w.1 14) &&& 31)) ≤ z) → ∀ (x : St) (b : Int32), I_44 v h w z (x, b) → ¬ ((x.1 14) ≤ h) → ¬ ((x.1 14) ≤ b) → ¬ (((z >>> (b &&& 31)) &&& 1) = 0) → okX0_canHave n x h b) ∧ (∀ (v : St) (h : Int32), I_5 (v, h) → ¬ (h < 0) → ∀ (w : St) (z : Int32), I_11 v h (w, z) → ¬ (((1 : Int32) <<< ((w.1 14) &&& 31)) ≤ z) → ∀ (x : St) (b : Int32), I_44 v h w z (x, b) → ¬ ((x.1 14) ≤ h) → ¬ ((x.1 14) ≤ b) → ¬ (((z >>> (b &&& 31)) &&& 1) = 0) → (fX0_canHave x h b) = true → vp_in (h + 1) 9) ∧ (∀ (v : St) (h : Int32), I_5 (v, h) → ¬ (h < 0) → ∀ (w : St) (z : Int32), I_11 v h (w, z) → ¬ (((1 : Int32) <<< ((w.1 14) &&& 31)) ≤ z) → ∀ (x : St) (b : Int32), I_44 v h w z (x, b) → ¬ ((x.1 14) ≤ h) → ¬ ((x.1 14) ≤ b) → ¬ (((z >>> (b &&& 31)) &&& 1) = 0) → (fX0_canHave x h b) = true → vp_in (z &&& (((1 : Int32) <<< (b &&& 31)) ^^^ (-1))) 256) ∧ (∀ (v : St) (h : Int32), I_5 (v, h) → ¬ (h < 0) → ∀ (w : St) (z : Int32), I_11 v h (w, z) → ¬ (((1 : Int32) <<< ((w.1 14) &&& 31)) ≤ z) → ∀ (x : St) (b : Int32), I_44 v h w z (x, b) → ¬ ((x.1 14) ≤ h) → ¬ ((x.1 14) ≤ b) → ¬ (((z >>> (b &&& 31)) &&& 1) = 0) → (fX0_canHave x h b) = true → ¬ ((x.2.1 (50 + (h + 1).toNatClampNeg) ((z &&& (((1 : Int32) <<< (b &&& 31)) ^^^ (-1))).toNatClampNeg)) < 0) → vp_in h 8) ∧ (∀ (v : St) (h : Int32), I_5 (v, h) → ¬ (h < 0) → ∀ (w : St) (z : Int32), I_11 v h (w, z) → ¬ (((1 : Int32) <<< ((w.1 14) &&& 31)) ≤ z) → ∀ (x : St) (b : Int32), I_44 v h w z (x, b) → ¬ ((x.1 14) ≤ h) → ¬ ((x.1 14) ≤ b) → ¬ (((z >>> (b &&& 31)) &&& 1) = 0) → (fX0_canHave x h b) = true → ¬ ((x.2.1 (50 + (h + 1).toNatClampNeg) ((z &&& (((1 : Int32) <<< (b &&& 31)) ^^^ (-1))).toNatClampNeg)) < 0) → vp_in b 8)
set_option maxHeartbeats 4000000 in
theorem metX0_swap (l : Launch) (D : va_G) (cA : Nat → ClassId) (o : Nat) (g : Gh) (u : St)  (hok : okX0_swap g.1 u) : CetM l yX0_swap cX0_swap 5 none 1 D cA o g u [.ref o] none (fX0_swap u) := by
  obtain ⟨I_5, I_11, I_44, hN0, hN1, hN2, hN3, hN4, hN5, hN6, hN7, hN8, hN9⟩ := hok
  refine cM_start RX0 (by decide) rfl (Nat.le_of_ble_eq_true rfl) ?_
  intro pg ev s0 mi bl me co hx hb hml hown hts hr hlk hK hM ls hl
  have hl : lv_has ls 5 [(0, .ref o)] := hl
  have hS : va_S (cF o g) s0.heap s0.heap [] := va_S.rf
  refine lv_aload_n hx hb dX0_swap_0 rfl (lv_at hl 0 rfl) ?_
  refine cw_get (v := .int (u.1 14)) hx hb hts hown hK hM 14 (by decide) q203 rfl rfl dX0_swap_1 ?_
  refine lv_istore_n (lv' := [(1, .int (u.1 14)), (0, .ref o)]) hx hb dX0_swap_4 rfl hl (by decide) rfl (fun ls hl => ?_)
  refine cw_loop1 (rest := []) (nL := 5) (r := (lpX0_swap_5_r u)) (lpX0_swap_5 u) I_5 (fun q => q.1) (fun q => [(1, .int q.2), (0, .ref o)]) 5 151 10 (u, u.1 14) hN0.2.1 hN0.1 hN0.2.2 rfl ?_ hM hS (lv_sub hl [0, 1] rfl) ?_
  · skip
    intro ⟨v, h⟩ hI_5 H locs ls hM hS hl kb k1
    have hM : CW D cA o g v H := hM
    have hl : lv_has ls 5 [(1, .int h), (0, .ref o)] := hl
    refine lv_iload_n hx hb dX0_swap_5 rfl (lv_at hl 0 rfl) ?_
    refine lv_if_lt (tgt := 151) hx hb dX0_swap_6 (by decide) (fun c_6 => ?_) (fun c_6 => ?_)
    · skip
      have hs : lpX0_swap_5 u (v, h) = (1, v, h) := by rw [lpX0_swap_5, if_pos c_6]
      rw [hs] at k1
      exact k1 (show ¬ (1 : Nat) = 0 by decide) _ _ _ hM hS (lv_sub hl [0, 1] rfl)
    · skip
      refine lv_iconst (v := 0) hx hb dX0_swap_9 (by decide) ?_
      refine lv_istore_n (lv' := [(2, .int 0), (1, .int h), (0, .ref o)]) hx hb dX0_swap_10 rfl hl (by decide) rfl (fun ls hl => ?_)
      refine cw_loop1 (rest := []) (nL := 5) (r := (lpX0_swap_11_r u v h)) (lpX0_swap_11 u v h) (I_11 v h) (fun q => q.1) (fun q => [(2, .int q.2), (1, .int h), (0, .ref o)]) 11 145 257 (v, 0) (hN1 v h hI_5 c_6).2.1 (hN1 v h hI_5 c_6).1 (hN1 v h hI_5 c_6).2.2 rfl ?_ hM hS (lv_sub hl [0, 1, 2] rfl) ?_
      · skip
        intro ⟨w, z⟩ hI_11 H locs ls hM hS hl kb k1
        have hM : CW D cA o g w H := hM
        have hl : lv_has ls 5 [(2, .int z), (1, .int h), (0, .ref o)] := hl
        refine lv_iload_n hx hb dX0_swap_11 rfl (lv_at hl 0 rfl) ?_
        refine lv_iconst (v := 1) hx hb dX0_swap_12 (by decide) ?_
        refine lv_aload_n hx hb dX0_swap_13 rfl (lv_at hl 2 rfl) ?_
        refine cw_get (v := .int (w.1 14)) hx hb hts hown hK hM 14 (by decide) q203 rfl rfl dX0_swap_14 ?_
        refine lv_ishl hx hb dX0_swap_17 ?_
        refine lv_icmp_ge (tgt := 145) hx hb dX0_swap_18 (by decide) (fun c_18 => ?_) (fun c_18 => ?_)
        · skip
          have hs : lpX0_swap_11 u v h (w, z) = (1, w, z) := by rw [lpX0_swap_11, if_pos c_18]
          rw [hs] at k1
          exact k1 (show ¬ (1 : Nat) = 0 by decide) _ _ _ hM hS (lv_sub hl [0, 1, 2] rfl)
        · skip
          refine lv_aload_n hx hb dX0_swap_21 rfl (lv_at hl 2 rfl) ?_
          refine cw_get (v := .ref (cAd o 29)) hx hb hts hown hK hM 29 (by decide) q218 rfl rfl dX0_swap_22 ?_
          refine lv_iload_n hx hb dX0_swap_25 rfl (lv_at hl 1 rfl) ?_
          refine cw_row (j := h.toNatClampNeg) hx hb hK hM 29 50 9 (by decide) (by decide) (cRf_29 cA o g) (hN2 v h hI_5 c_6 w z hI_11 c_18) rfl dX0_swap_26 ?_
          refine lv_iload_n hx hb dX0_swap_27 rfl (lv_at hl 0 rfl) ?_
          refine w_ji (ls := ls) (rest := [.int z, .ref (cAd o (50 + h.toNatClampNeg))]) (E := (if h = (w.1 14) then 0 else (-1))) 41 ?_ (fun K => ?_)
          · skip
            refine cw_ist (j := z.toNatClampNeg) hx hb hK hM hS (50 + h.toNatClampNeg) (row_k50 (i := h) (j := h.toNatClampNeg) (hN2 v h hI_5 c_6 w z hI_11 c_18) rfl).1 (row_k50 (i := h) (j := h.toNatClampNeg) (hN2 v h hI_5 c_6 w z hI_11 c_18) rfl).2.1 (row_k50 (i := h) (j := h.toNatClampNeg) (hN2 v h hI_5 c_6 w z hI_11 c_18) rfl).2.2 (hN3 v h hI_5 c_6 w z hI_11 c_18) rfl dX0_swap_41 (fun H locs hM hS => ?_)
            refine lv_iconst (v := 0) hx hb dX0_swap_42 (by decide) ?_
            refine lv_istore_n (lv' := [(3, .int 0), (2, .int z), (1, .int h), (0, .ref o)]) hx hb dX0_swap_43 rfl hl (by decide) rfl (fun ls hl => ?_)
            refine cw_loop1 (rest := []) (nL := 5) (r := (lpX0_swap_44_r u v h w z)) (lpX0_swap_44 u v h w z) (I_44 v h w z) (fun q => q.1) (fun q => [(3, .int q.2), (2, .int z), (1, .int h), (0, .ref o)]) 44 139 9 ((sa w (50 + h.toNatClampNeg) z.toNatClampNeg (if h = (w.1 14) then 0 else (-1))), 0) (hN4 v h hI_5 c_6 w z hI_11 c_18).2.1 (hN4 v h hI_5 c_6 w z hI_11 c_18).1 (hN4 v h hI_5 c_6 w z hI_11 c_18).2.2 rfl ?_ hM hS (lv_sub hl [0, 1, 2, 3] rfl) ?_
            · skip
              intro ⟨x, b⟩ hI_44 H locs ls hM hS hl kb k1
              have hM : CW D cA o g x H := hM
              have hl : lv_has ls 5 [(3, .int b), (2, .int z), (1, .int h), (0, .ref o)] := hl
              refine lv_iload_n hx hb dX0_swap_44 rfl (lv_at hl 2 rfl) ?_
              refine lv_aload_n hx hb dX0_swap_45 rfl (lv_at hl 3 rfl) ?_
              refine cw_get (v := .int (x.1 14)) hx hb hts hown hK hM 14 (by decide) q203 rfl rfl dX0_swap_46 ?_
              refine lv_icmp_ge (tgt := 139) hx hb dX0_swap_49 (by decide) (fun c_49 => ?_) (fun c_49 => ?_)
              · skip
                have hs : lpX0_swap_44 u v h w z (x, b) = (1, x, b) := by rw [lpX0_swap_44, if_pos c_49]
                rw [hs] at k1
                exact k1 (show ¬ (1 : Nat) = 0 by decide) _ _ _ hM hS (lv_sub hl [0, 1, 2, 3] rfl)
              · skip
                refine lv_iload_n hx hb dX0_swap_52 rfl (lv_at hl 0 rfl) ?_
                refine lv_aload_n hx hb dX0_swap_53 rfl (lv_at hl 3 rfl) ?_
                refine cw_get (v := .int (x.1 14)) hx hb hts hown hK hM 14 (by decide) q203 rfl rfl dX0_swap_54 ?_
                refine lv_icmp_ge (tgt := 139) hx hb dX0_swap_57 (by decide) (fun c_57 => ?_) (fun c_57 => ?_)
                · skip
                  have hs : lpX0_swap_44 u v h w z (x, b) = (1, x, b) := by rw [lpX0_swap_44, if_neg c_49, if_pos c_57]
                  rw [hs] at k1
                  exact k1 (show ¬ (1 : Nat) = 0 by decide) _ _ _ hM hS (lv_sub hl [0, 1, 2, 3] rfl)
                · skip
                  refine lv_iload_n hx hb dX0_swap_60 rfl (lv_at hl 1 rfl) ?_
                  refine lv_iload_n hx hb dX0_swap_61 rfl (lv_at hl 0 rfl) ?_
                  refine lv_ishr hx hb dX0_swap_62 ?_
                  refine lv_iconst (v := 1) hx hb dX0_swap_63 (by decide) ?_
                  refine lv_iand hx hb dX0_swap_64 ?_
                  refine lv_if_eq (tgt := 133) hx hb dX0_swap_65 (by decide) (fun c_65 => ?_) (fun c_65 => ?_)
                  · skip
                    refine lv_iinc (v := b + 1) (lv' := [(3, .int (b + 1)), (2, .int z), (1, .int h), (0, .ref o)]) hx hb dX0_swap_133 hl (k := 0) rfl (rfl) (by decide) rfl (fun ls hl => ?_)
                    refine lv_goto (tgt := 44) hx hb dX0_swap_136 (by decide) ?_
                    have hs : lpX0_swap_44 u v h w z (x, b) = (0, x, b + 1) := by rw [lpX0_swap_44, if_neg c_49, if_neg c_57, if_pos c_65]
                    rw [hs] at kb
                    exact kb rfl _ _ _ hM hS (lv_sub hl [0, 1, 2, 3] rfl)
                  · skip
                    refine lv_aload_n hx hb dX0_swap_68 rfl (lv_at hl 3 rfl) ?_
                    refine lv_iload_n hx hb dX0_swap_69 rfl (lv_at hl 2 rfl) ?_
                    refine lv_iload_n hx hb dX0_swap_70 rfl (lv_at hl 0 rfl) ?_
                    refine ro_call (cw_run (n := 2) (As := [.int h, .int b]) (rest := []) hx hb hml hown hts (metX0_canHave l D cA o g x h b (hN5 v h hI_5 c_6 w z hI_11 c_18 x b hI_44 c_49 c_57 c_65)) q1247 q1249 qs30 q1250 (by decide +kernel) (by decide) (by decide) rfl hK hM hl.1 (Nat.le_of_ble_eq_true rfl) rfl dX0_swap_71 ⟨Nat.le_refl _, Nat.le_refl _⟩) ?_
                    refine lv_B_ne (tgt := 80) hx hb dX0_swap_74 (by decide) (fun c_74 => ?_) (fun c_74 => ?_)
                    · skip
                      refine lv_aload_n hx hb dX0_swap_80 rfl (lv_at hl 3 rfl) ?_
                      refine cw_get (v := .ref (cAd o 29)) hx hb hts hown hK hM 29 (by decide) q218 rfl rfl dX0_swap_81 ?_
                      refine lv_iload_n hx hb dX0_swap_84 rfl (lv_at hl 2 rfl) ?_
                      refine lv_iconst (v := 1) hx hb dX0_swap_85 (by decide) ?_
                      refine lv_iadd hx hb dX0_swap_86 ?_
                      refine cw_row (j := (h + 1).toNatClampNeg) hx hb hK hM 29 50 9 (by decide) (by decide) (cRf_29 cA o g) (hN6 v h hI_5 c_6 w z hI_11 c_18 x b hI_44 c_49 c_57 c_65 c_74) rfl dX0_swap_87 ?_
                      refine lv_iload_n hx hb dX0_swap_88 rfl (lv_at hl 1 rfl) ?_
                      refine lv_iconst (v := 1) hx hb dX0_swap_89 (by decide) ?_
                      refine lv_iload_n hx hb dX0_swap_90 rfl (lv_at hl 0 rfl) ?_
                      refine lv_ishl hx hb dX0_swap_91 ?_
                      refine lv_iconst (v := (-1)) hx hb dX0_swap_92 (by decide) ?_
                      refine lv_ixor hx hb dX0_swap_93 ?_
                      refine lv_iand hx hb dX0_swap_94 ?_
                      refine cw_ild (v := x.2.1 (50 + (h + 1).toNatClampNeg) ((z &&& (((1 : Int32) <<< (b &&& 31)) ^^^ (-1))).toNatClampNeg)) (j := (z &&& (((1 : Int32) <<< (b &&& 31)) ^^^ (-1))).toNatClampNeg) hx hb hK hM (50 + (h + 1).toNatClampNeg) (row_k50 (i := h + 1) (j := (h + 1).toNatClampNeg) (hN6 v h hI_5 c_6 w z hI_11 c_18 x b hI_44 c_49 c_57 c_65 c_74) rfl).1 (row_k50 (i := h + 1) (j := (h + 1).toNatClampNeg) (hN6 v h hI_5 c_6 w z hI_11 c_18 x b hI_44 c_49 c_57 c_65 c_74) rfl).2.1 (row_k50 (i := h + 1) (j := (h + 1).toNatClampNeg) (hN6 v h hI_5 c_6 w z hI_11 c_18 x b hI_44 c_49 c_57 c_65 c_74) rfl).2.2 (hN7 v h hI_5 c_6 w z hI_11 c_18 x b hI_44 c_49 c_57 c_65 c_74) rfl rfl dX0_swap_95 ?_
                      refine lv_istore (lv' := [(4, .int (x.2.1 (50 + (h + 1).toNatClampNeg) ((z &&& (((1 : Int32) <<< (b &&& 31)) ^^^ (-1))).toNatClampNeg))), (3, .int b), (2, .int z), (1, .int h), (0, .ref o)]) hx hb dX0_swap_96 hl (by decide) rfl (fun ls hl => ?_)
                      refine lv_iload hx hb dX0_swap_98 (lv_at hl 0 rfl) ?_
                      refine lv_if_lt (tgt := 133) hx hb dX0_swap_100 (by decide) (fun c_100 => ?_) (fun c_100 => ?_)
                      · skip
                        refine lv_iinc (v := b + 1) (lv' := [(3, .int (b + 1)), (4, .int (x.2.1 (50 + (h + 1).toNatClampNeg) ((z &&& (((1 : Int32) <<< (b &&& 31)) ^^^ (-1))).toNatClampNeg))), (2, .int z), (1, .int h), (0, .ref o)]) hx hb dX0_swap_133 hl (k := 1) rfl (rfl) (by decide) rfl (fun ls hl => ?_)
                        refine lv_goto (tgt := 44) hx hb dX0_swap_136 (by decide) ?_
                        have hs : lpX0_swap_44 u v h w z (x, b) = (0, x, b + 1) := by rw [lpX0_swap_44, if_neg c_49, if_neg c_57, if_neg c_65, if_pos c_74, if_pos c_100]
                        rw [hs] at kb
                        exact kb rfl _ _ _ hM hS (lv_sub hl [0, 2, 3, 4] rfl)
                      · skip
                        refine lv_aload_n hx hb dX0_swap_103 rfl (lv_at hl 4 rfl) ?_
                        refine cw_get (v := .ref (cAd o 29)) hx hb hts hown hK hM 29 (by decide) q218 rfl rfl dX0_swap_104 ?_
                        refine lv_iload_n hx hb dX0_swap_107 rfl (lv_at hl 3 rfl) ?_
                        refine cw_row (j := h.toNatClampNeg) hx hb hK hM 29 50 9 (by decide) (by decide) (cRf_29 cA o g) (hN2 v h hI_5 c_6 w z hI_11 c_18) rfl dX0_swap_108 ?_
                        refine lv_iload_n hx hb dX0_swap_109 rfl (lv_at hl 2 rfl) ?_
                        refine lv_aload_n hx hb dX0_swap_110 rfl (lv_at hl 4 rfl) ?_
                        refine cw_get (v := .ref (cAd o 29)) hx hb hts hown hK hM 29 (by decide) q218 rfl rfl dX0_swap_111 ?_
                        refine lv_iload_n hx hb dX0_swap_114 rfl (lv_at hl 3 rfl) ?_
                        refine cw_row (j := h.toNatClampNeg) hx hb hK hM 29 50 9 (by decide) (by decide) (cRf_29 cA o g) (hN2 v h hI_5 c_6 w z hI_11 c_18) rfl dX0_swap_115 ?_
                        refine lv_iload_n hx hb dX0_swap_116 rfl (lv_at hl 2 rfl) ?_
                        refine cw_ild (v := x.2.1 (50 + h.toNatClampNeg) z.toNatClampNeg) (j := z.toNatClampNeg) hx hb hK hM (50 + h.toNatClampNeg) (row_k50 (i := h) (j := h.toNatClampNeg) (hN2 v h hI_5 c_6 w z hI_11 c_18) rfl).1 (row_k50 (i := h) (j := h.toNatClampNeg) (hN2 v h hI_5 c_6 w z hI_11 c_18) rfl).2.1 (row_k50 (i := h) (j := h.toNatClampNeg) (hN2 v h hI_5 c_6 w z hI_11 c_18) rfl).2.2 (hN3 v h hI_5 c_6 w z hI_11 c_18) rfl rfl dX0_swap_117 ?_
                        refine lv_iload hx hb dX0_swap_118 (lv_at hl 0 rfl) ?_
                        refine lv_aload_n hx hb dX0_swap_120 rfl (lv_at hl 4 rfl) ?_
                        refine cw_get (v := .ref (cAd o 28)) hx hb hts hown hK hM 28 (by decide) q217 rfl rfl dX0_swap_121 ?_
                        refine lv_iload_n hx hb dX0_swap_124 rfl (lv_at hl 3 rfl) ?_
                        refine cw_row (j := h.toNatClampNeg) hx hb hK hM 28 40 8 (by decide) (by decide) (cRf_28 cA o g) (hN8 v h hI_5 c_6 w z hI_11 c_18 x b hI_44 c_49 c_57 c_65 c_74 c_100) rfl dX0_swap_125 ?_
                        refine lv_iload_n hx hb dX0_swap_126 rfl (lv_at hl 1 rfl) ?_
                        refine cw_ild (v := x.2.1 (40 + h.toNatClampNeg) b.toNatClampNeg) (j := b.toNatClampNeg) hx hb hK hM (40 + h.toNatClampNeg) (row_k40 (i := h) (j := h.toNatClampNeg) (hN8 v h hI_5 c_6 w z hI_11 c_18 x b hI_44 c_49 c_57 c_65 c_74 c_100) rfl).1 (row_k40 (i := h) (j := h.toNatClampNeg) (hN8 v h hI_5 c_6 w z hI_11 c_18 x b hI_44 c_49 c_57 c_65 c_74 c_100) rfl).2.1 (row_k40 (i := h) (j := h.toNatClampNeg) (hN8 v h hI_5 c_6 w z hI_11 c_18 x b hI_44 c_49 c_57 c_65 c_74 c_100) rfl).2.2 (hN9 v h hI_5 c_6 w z hI_11 c_18 x b hI_44 c_49 c_57 c_65 c_74 c_100) rfl rfl dX0_swap_127 ?_
                        refine lv_iadd hx hb dX0_swap_128 ?_
                        refine va_mmax (x := x.2.1 (50 + h.toNatClampNeg) z.toNatClampNeg) (y := (x.2.1 (50 + (h + 1).toNatClampNeg) ((z &&& (((1 : Int32) <<< (b &&& 31)) ^^^ (-1))).toNatClampNeg)) + (x.2.1 (40 + h.toNatClampNeg) b.toNatClampNeg)) hx hb (hml.trans hl.1.symm) hown (hts _ q1251) (hts _ q521) (hts _ q79) (hts _ q522) (by decide) (Nat.le_of_ble_eq_true rfl) (Nat.zero_le _) (Nat.zero_le _) dX0_swap_129 ?_
                        refine cw_ist (j := z.toNatClampNeg) hx hb hK hM hS (50 + h.toNatClampNeg) (row_k50 (i := h) (j := h.toNatClampNeg) (hN2 v h hI_5 c_6 w z hI_11 c_18) rfl).1 (row_k50 (i := h) (j := h.toNatClampNeg) (hN2 v h hI_5 c_6 w z hI_11 c_18) rfl).2.1 (row_k50 (i := h) (j := h.toNatClampNeg) (hN2 v h hI_5 c_6 w z hI_11 c_18) rfl).2.2 (hN3 v h hI_5 c_6 w z hI_11 c_18) rfl dX0_swap_132 (fun H locs hM hS => ?_)
                        refine lv_iinc (v := b + 1) (lv' := [(3, .int (b + 1)), (4, .int (x.2.1 (50 + (h + 1).toNatClampNeg) ((z &&& (((1 : Int32) <<< (b &&& 31)) ^^^ (-1))).toNatClampNeg))), (2, .int z), (1, .int h), (0, .ref o)]) hx hb dX0_swap_133 hl (k := 1) rfl (rfl) (by decide) rfl (fun ls hl => ?_)
                        refine lv_goto (tgt := 44) hx hb dX0_swap_136 (by decide) ?_
                        have hs : lpX0_swap_44 u v h w z (x, b) = (0, (sa x (50 + h.toNatClampNeg) z.toNatClampNeg (if (x.2.1 (50 + h.toNatClampNeg) z.toNatClampNeg) < ((x.2.1 (50 + (h + 1).toNatClampNeg) ((z &&& (((1 : Int32) <<< (b &&& 31)) ^^^ (-1))).toNatClampNeg)) + (x.2.1 (40 + h.toNatClampNeg) b.toNatClampNeg)) then ((x.2.1 (50 + (h + 1).toNatClampNeg) ((z &&& (((1 : Int32) <<< (b &&& 31)) ^^^ (-1))).toNatClampNeg)) + (x.2.1 (40 + h.toNatClampNeg) b.toNatClampNeg)) else (x.2.1 (50 + h.toNatClampNeg) z.toNatClampNeg))), b + 1) := by rw [lpX0_swap_44, if_neg c_49, if_neg c_57, if_neg c_65, if_pos c_74, if_neg c_100]
                        rw [hs] at kb
                        exact kb rfl _ _ _ hM hS (lv_sub hl [0, 2, 3, 4] rfl)
                    · skip
                      refine lv_goto (tgt := 133) hx hb dX0_swap_77 (by decide) ?_
                      refine lv_iinc (v := b + 1) (lv' := [(3, .int (b + 1)), (2, .int z), (1, .int h), (0, .ref o)]) hx hb dX0_swap_133 hl (k := 0) rfl (rfl) (by decide) rfl (fun ls hl => ?_)
                      refine lv_goto (tgt := 44) hx hb dX0_swap_136 (by decide) ?_
                      have hs : lpX0_swap_44 u v h w z (x, b) = (0, x, b + 1) := by rw [lpX0_swap_44, if_neg c_49, if_neg c_57, if_neg c_65, if_neg (nt_of c_74)]
                      rw [hs] at kb
                      exact kb rfl _ _ _ hM hS (lv_sub hl [0, 1, 2, 3] rfl)
            · skip
              intro H locs ls hM hS hl
              have hM : CW D cA o g (lpX0_swap_44_r u v h w z).2.1 H := hM
              have hl : lv_has ls 5 [(3, .int ((lpX0_swap_44_r u v h w z).2.2)), (2, .int z), (1, .int h), (0, .ref o)] := hl
              refine lv_iinc (v := z + 1) (lv' := [(2, .int (z + 1)), (3, .int ((lpX0_swap_44_r u v h w z).2.2)), (1, .int h), (0, .ref o)]) hx hb dX0_swap_139 hl (k := 1) rfl (rfl) (by decide) rfl (fun ls hl => ?_)
              refine lv_goto (tgt := 11) hx hb dX0_swap_142 (by decide) ?_
              obtain ⟨xg0, hxg0⟩ : ∃ y : St, y = (lpX0_swap_44_r u v h w z).2.1 := ⟨_, rfl⟩
              rw [← hxg0] at hM
              have hs : lpX0_swap_11 u v h (w, z) = (0, xg0, z + 1) := by rw [lpX0_swap_11, if_neg c_18, hxg0]
              rw [hs] at kb
              exact kb rfl _ _ _ hM hS (lv_sub hl [0, 2, 3] rfl)
          · skip
            refine lv_iload_n hx hb dX0_swap_28 rfl (lv_at hl 1 rfl) ?_
            refine lv_aload_n hx hb dX0_swap_29 rfl (lv_at hl 2 rfl) ?_
            refine cw_get (v := .int (w.1 14)) hx hb hts hown hK hM 14 (by decide) q203 rfl rfl dX0_swap_30 ?_
            refine lv_icmp_ne (tgt := 40) hx hb dX0_swap_33 (by decide) (fun c_33 => ?_) (fun c_33 => ?_)
            · skip
              refine lv_iconst (v := (-1)) hx hb dX0_swap_40 (by decide) ?_
              exact K _ (by rw [if_neg c_33])
            · skip
              refine lv_iconst (v := 0) hx hb dX0_swap_36 (by decide) ?_
              refine lv_goto (tgt := 41) hx hb dX0_swap_37 (by decide) ?_
              exact K _ (by rw [if_pos c_33])
      · skip
        intro H locs ls hM hS hl
        have hM : CW D cA o g (lpX0_swap_11_r u v h).2.1 H := hM
        have hl : lv_has ls 5 [(2, .int ((lpX0_swap_11_r u v h).2.2)), (1, .int h), (0, .ref o)] := hl
        refine lv_iinc (v := h + (-1)) (lv' := [(1, .int (h + (-1))), (2, .int ((lpX0_swap_11_r u v h).2.2)), (0, .ref o)]) hx hb dX0_swap_145 hl (k := 1) rfl (rfl) (by decide) rfl (fun ls hl => ?_)
        refine lv_goto (tgt := 5) hx hb dX0_swap_148 (by decide) ?_
        obtain ⟨xg0, hxg0⟩ : ∃ y : St, y = (lpX0_swap_11_r u v h).2.1 := ⟨_, rfl⟩
        rw [← hxg0] at hM
        have hs : lpX0_swap_5 u (v, h) = (0, xg0, h + (-1)) := by rw [lpX0_swap_5, if_neg c_6, hxg0]
        rw [hs] at kb
        exact kb rfl _ _ _ hM hS (lv_sub hl [0, 2] rfl)
  · skip
    intro H locs ls hM hS hl
    have hM : CW D cA o g (lpX0_swap_5_r u).2.1 H := hM
    have hl : lv_has ls 5 [(1, .int ((lpX0_swap_5_r u).2.2)), (0, .ref o)] := hl
    have hF : fX0_swap u = (lpX0_swap_5_r u).2.1 := by rw [fX0_swap]
    exact cw_vret hx hb hr hlk hM hS (by rw [hF]) dX0_swap_151

def fX0_joy (u : St)  : Int32 × St :=
  ((fX0_swap u).2.1 (50 + 0) ((((1 : Int32) <<< (((fX0_swap u).1 14) &&& 31)) - 1).toNatClampNeg), (fX0_swap u))
def okX0_joy (n : Nat) (u : St)  : Prop :=
  (okX0_swap n u) ∧ (vp_in (((1 : Int32) <<< (((fX0_swap u).1 14) &&& 31)) - 1) 256)
set_option maxHeartbeats 4000000 in
theorem metX0_joy (l : Launch) (D : va_G) (cA : Nat → ClassId) (o : Nat) (g : Gh) (u : St)  (hok : okX0_joy g.1 u) : CetM l yX0_joy cX0_joy 1 (some .int) 2 D cA o g u [.ref o] (some (.int (fX0_joy u).1)) (fX0_joy u).2 := by
  obtain ⟨hN0, hN1⟩ := hok
  refine cM_start RX0 (by decide) rfl (Nat.le_of_ble_eq_true rfl) ?_
  intro pg ev s0 mi bl me co hx hb hml hown hts hr hlk hK hM ls hl
  have hl : lv_has ls 1 [(0, .ref o)] := hl
  have hS : va_S (cF o g) s0.heap s0.heap [] := va_S.rf
  refine lv_aload_n hx hb dX0_joy_0 rfl (lv_at hl 0 rfl) ?_
  refine cw_call (cw_run (n := 0) (As := []) (rest := []) hx hb hml hown hts (metX0_swap l D cA o g u  hN0) q1243 q1245 qs29 q1246 (by decide +kernel) (by decide) (by decide) rfl hK hM hl.1 (Nat.le_of_ble_eq_true rfl) rfl dX0_joy_1 ⟨Nat.le_refl _, Nat.le_refl _⟩) hS (fun _ h => h) (fun H locs hM _ _ hS => ?_)
  refine lv_aload_n hx hb dX0_joy_4 rfl (lv_at hl 0 rfl) ?_
  refine cw_get (v := .ref (cAd o 29)) hx hb hts hown hK hM 29 (by decide) q218 rfl rfl dX0_joy_5 ?_
  refine lv_iconst (v := 0) hx hb dX0_joy_8 (by decide) ?_
  refine cw_row (j := 0) hx hb hK hM 29 50 9 (by decide) (by decide) (cRf_29 cA o g) (by unfold vp_in; decide) (by decide) dX0_joy_9 ?_
  refine lv_iconst (v := 1) hx hb dX0_joy_10 (by decide) ?_
  refine lv_aload_n hx hb dX0_joy_11 rfl (lv_at hl 0 rfl) ?_
  refine cw_get (v := .int ((fX0_swap u).1 14)) hx hb hts hown hK hM 14 (by decide) q203 rfl rfl dX0_joy_12 ?_
  refine lv_ishl hx hb dX0_joy_15 ?_
  refine lv_iconst (v := 1) hx hb dX0_joy_16 (by decide) ?_
  refine lv_isub hx hb dX0_joy_17 ?_
  refine cw_ild (v := (fX0_swap u).2.1 (50 + 0) ((((1 : Int32) <<< (((fX0_swap u).1 14) &&& 31)) - 1).toNatClampNeg)) (j := (((1 : Int32) <<< (((fX0_swap u).1 14) &&& 31)) - 1).toNatClampNeg) hx hb hK hM (50 + 0) (row_k50 (i := 0) (j := 0) (by unfold vp_in; decide) (by decide)).1 (row_k50 (i := 0) (j := 0) (by unfold vp_in; decide) (by decide)).2.1 (row_k50 (i := 0) (j := 0) (by unfold vp_in; decide) (by decide)).2.2 hN1 rfl rfl dX0_joy_18 ?_
  have hF : fX0_joy u = ((fX0_swap u).2.1 (50 + 0) ((((1 : Int32) <<< (((fX0_swap u).1 14) &&& 31)) - 1).toNatClampNeg), (fX0_swap u)) := by rw [fX0_joy]
  exact cw_iret hx hb hr hlk hM hS (by rw [hF]) (by rw [hF]) dX0_joy_19

def lpX0_swap_2_36 (u : St) (ho : Int32) (lf : Int32) (gt : Int32) (h : Int32) : Int32 → Nat × Int32
  | gi => if ((lf >>> (gi &&& 31)) &&& 1) = 0 then (0, gi + 1) else (if (fX0_canHave (fX0_swap u) h gi) = true then (if ((fX0_swap u).2.1 (50 + (h + 1).toNatClampNeg) ((lf &&& (((1 : Int32) <<< (gi &&& 31)) ^^^ (-1))).toNatClampNeg)) < 0 then (0, gi + 1) else (if (((fX0_swap u).2.1 (50 + (h + 1).toNatClampNeg) ((lf &&& (((1 : Int32) <<< (gi &&& 31)) ^^^ (-1))).toNatClampNeg)) + ((fX0_swap u).2.1 (40 + h.toNatClampNeg) gi.toNatClampNeg)) = ((fX0_swap u).2.1 (50 + h.toNatClampNeg) lf.toNatClampNeg) then (1, gi) else (0, gi + 1))) else (0, gi + 1))
def lpX0_swap_2_36_r (u : St) (ho : Int32) (lf : Int32) (gt : Int32) (h : Int32) : Nat × Int32 :=
  wh (lpX0_swap_2_36 u ho lf gt h) 9 0
def lpX0_swap_2_28 (u : St) (ho : Int32) : Int32 × Int32 × Int32 → Nat × Int32 × Int32 × Int32
  | (lf, gt, h) => if ho < h then (1, lf, gt, h) else (0, lf &&& (((1 : Int32) <<< (((lpX0_swap_2_36_r u ho lf gt h).2) &&& 31)) ^^^ (-1)), (lpX0_swap_2_36_r u ho lf gt h).2, h + 1)
def lpX0_swap_2_28_r (u : St) (ho : Int32) : Nat × Int32 × Int32 × Int32 :=
  wh (lpX0_swap_2_28 u ho) 9 (((1 : Int32) <<< (((fX0_swap u).1 14) &&& 31)) - 1, (-1), 0)
def fX0_swap_2 (u : St) (ho : Int32) : Int32 × St :=
  if (fX0_isHouse u ho) = true then ((lpX0_swap_2_28_r u ho).2.2.1, (fX0_swap u)) else ((-1), u)
def okX0_swap_2 (n : Nat) (u : St) (ho : Int32) : Prop :=
  ∃ (I_28 : (Int32 × Int32 × Int32) → Prop) (I_36 : Int32 → Int32 → Int32 → Int32 → Prop), ((fX0_isHouse u ho) = true → okX0_swap n u) ∧ ((fX0_isHouse u ho) = true → LOK (lpX0_swap_2_28 u ho) 9 (((1 : Int32) <<< (((fX0_swap u).1 14) &&& 31)) - 1, (-1), 0) I_28) ∧ ((fX0_isHouse u ho) = true → ∀ (lf : Int32) (gt : Int32) (h : Int32), I_28 (lf, gt, h) → ¬ (ho < h) → LOK (lpX0_swap_2_36 u ho lf gt h) 9 0 (I_36 lf gt h)) ∧ ((fX0_isHouse u ho) = true → ∀ (lf : Int32) (gt : Int32) (h : Int32), I_28 (lf, gt, h) → ¬ (ho < h) → ∀ (gi : Int32), I_36 lf gt h gi → ¬ (((lf >>> (gi &&& 31)) &&& 1) = 0) → okX0_canHave n (fX0_swap u) h gi) ∧ ((fX0_isHouse u ho) = true → ∀ (lf : Int32) (gt : Int32) (h : Int32), I_28 (lf, gt, h) → ¬ (ho < h) → ∀ (gi : Int32), I_36 lf gt h gi → ¬ (((lf >>> (gi &&& 31)) &&& 1) = 0) → (fX0_canHave (fX0_swap u) h gi) = true → vp_in (h + 1) 9) ∧ ((fX0_isHouse u ho) = true → ∀ (lf : Int32) (gt : Int32) (h : Int32), I_28 (lf, gt, h) → ¬ (ho < h) → ∀ (gi : Int32), I_36 lf gt h gi → ¬ (((lf >>> (gi &&& 31)) &&& 1) = 0) → (fX0_canHave (fX0_swap u) h gi) = true → vp_in (lf &&& (((1 : Int32) <<< (gi &&& 31)) ^^^ (-1))) 256) ∧ ((fX0_isHouse u ho) = true → ∀ (lf : Int32) (gt : Int32) (h : Int32), I_28 (lf, gt, h) → ¬ (ho < h) → ∀ (gi : Int32), I_36 lf gt h gi → ¬ (((lf >>> (gi &&& 31)) &&& 1) = 0) → (fX0_canHave (fX0_swap u) h gi) = true → ¬ (((fX0_swap u).2.1 (50 + (h + 1).toNatClampNeg) ((lf &&& (((1 : Int32) <<< (gi &&& 31)) ^^^ (-1))).toNatClampNeg)) < 0) → vp_in h 8) ∧ ((fX0_isHouse u ho) = true → ∀ (lf : Int32) (gt : Int32) (h : Int32), I_28 (lf, gt, h) → ¬ (ho < h) → ∀ (gi : Int32), I_36 lf gt h gi → ¬ (((lf >>> (gi &&& 31)) &&& 1) = 0) → (fX0_canHave (fX0_swap u) h gi) = true → ¬ (((fX0_swap u).2.1 (50 + (h + 1).toNatClampNeg) ((lf &&& (((1 : Int32) <<< (gi &&& 31)) ^^^ (-1))).toNatClampNeg)) < 0) → vp_in gi 8) ∧ ((fX0_isHouse u ho) = true → ∀ (lf : Int32) (gt : Int32) (h : Int32), I_28 (lf, gt, h) → ¬ (ho < h) → ∀ (gi : Int32), I_36 lf gt h gi → ¬ (((lf >>> (gi &&& 31)) &&& 1) = 0) → (fX0_canHave (fX0_swap u) h gi) = true → ¬ (((fX0_swap u).2.1 (50 + (h + 1).toNatClampNeg) ((lf &&& (((1 : Int32) <<< (gi &&& 31)) ^^^ (-1))).toNatClampNeg)) < 0) → vp_in h 9) ∧ ((fX0_isHouse u ho) = true → ∀ (lf : Int32) (gt : Int32) (h : Int32), I_28 (lf, gt, h) → ¬ (ho < h) → ∀ (gi : Int32), I_36 lf gt h gi → ¬ (((lf >>> (gi &&& 31)) &&& 1) = 0) → (fX0_canHave (fX0_swap u) h gi) = true → ¬ (((fX0_swap u).2.1 (50 + (h + 1).toNatClampNeg) ((lf &&& (((1 : Int32) <<< (gi &&& 31)) ^^^ (-1))).toNatClampNeg)) < 0) → vp_in lf 256)
set_option maxHeartbeats 4000000 in
theorem metX0_swap_2 (l : Launch) (D : va_G) (cA : Nat → ClassId) (o : Nat) (g : Gh) (u : St) (ho : Int32) (hok : okX0_swap_2 g.1 u ho) : CetM l yX0_swap_2 cX0_swap_2 5 (some .int) 2 D cA o g u [.ref o, .int ho] (some (.int (fX0_swap_2 u ho).1)) (fX0_swap_2 u ho).2 := by
  obtain ⟨I_28, I_36, hN0, hN1, hN2, hN3, hN4, hN5, hN6, hN7, hN8, hN9⟩ := hok
  refine cM_start RX0 (by decide) rfl (Nat.le_of_ble_eq_true rfl) ?_
  intro pg ev s0 mi bl me co hx hb hml hown hts hr hlk hK hM ls hl
  have hl : lv_has ls 5 [(0, .ref o), (1, .int ho)] := hl
  have hS : va_S (cF o g) s0.heap s0.heap [] := va_S.rf
  refine lv_aload_n hx hb dX0_swap_2_0 rfl (lv_at hl 0 rfl) ?_
  refine lv_iload_n hx hb dX0_swap_2_1 rfl (lv_at hl 1 rfl) ?_
  refine ro_call (cw_run (n := 1) (As := [.int ho]) (rest := []) hx hb hml hown hts (metX0_isHouse l D cA o g u ho) q326 q328 qs2 q329 (by decide +kernel) (by decide) (by decide) rfl hK hM hl.1 (Nat.le_of_ble_eq_true rfl) rfl dX0_swap_2_2 ⟨Nat.le_refl _, Nat.le_refl _⟩) ?_
  refine lv_B_ne (tgt := 10) hx hb dX0_swap_2_5 (by decide) (fun c_5 => ?_) (fun c_5 => ?_)
  · skip
    refine lv_aload_n hx hb dX0_swap_2_10 rfl (lv_at hl 0 rfl) ?_
    refine cw_call (cw_run (n := 0) (As := []) (rest := []) hx hb hml hown hts (metX0_swap l D cA o g u  (hN0 c_5)) q1243 q1245 qs29 q1246 (by decide +kernel) (by decide) (by decide) rfl hK hM hl.1 (Nat.le_of_ble_eq_true rfl) rfl dX0_swap_2_11 ⟨Nat.le_refl _, Nat.le_refl _⟩) hS (fun _ h => h) (fun H locs hM _ _ hS => ?_)
    refine lv_iconst (v := 1) hx hb dX0_swap_2_14 (by decide) ?_
    refine lv_aload_n hx hb dX0_swap_2_15 rfl (lv_at hl 0 rfl) ?_
    refine cw_get (v := .int ((fX0_swap u).1 14)) hx hb hts hown hK hM 14 (by decide) q203 rfl rfl dX0_swap_2_16 ?_
    refine lv_ishl hx hb dX0_swap_2_19 ?_
    refine lv_iconst (v := 1) hx hb dX0_swap_2_20 (by decide) ?_
    refine lv_isub hx hb dX0_swap_2_21 ?_
    refine lv_istore_n (lv' := [(2, .int (((1 : Int32) <<< (((fX0_swap u).1 14) &&& 31)) - 1)), (0, .ref o), (1, .int ho)]) hx hb dX0_swap_2_22 rfl hl (by decide) rfl (fun ls hl => ?_)
    refine lv_iconst (v := (-1)) hx hb dX0_swap_2_23 (by decide) ?_
    refine lv_istore_n (lv' := [(3, .int (-1)), (2, .int (((1 : Int32) <<< (((fX0_swap u).1 14) &&& 31)) - 1)), (0, .ref o), (1, .int ho)]) hx hb dX0_swap_2_24 rfl hl (by decide) rfl (fun ls hl => ?_)
    refine lv_iconst (v := 0) hx hb dX0_swap_2_25 (by decide) ?_
    refine lv_istore (lv' := [(4, .int 0), (3, .int (-1)), (2, .int (((1 : Int32) <<< (((fX0_swap u).1 14) &&& 31)) - 1)), (0, .ref o), (1, .int ho)]) hx hb dX0_swap_2_26 hl (by decide) rfl (fun ls hl => ?_)
    refine r_loop1 (rest := []) (nL := 5) (r := (lpX0_swap_2_28_r u ho)) (lpX0_swap_2_28 u ho) I_28 (fun q => [(2, .int q.1), (3, .int q.2.1), (4, .int q.2.2), (0, .ref o), (1, .int ho)]) 28 133 9 (((1 : Int32) <<< (((fX0_swap u).1 14) &&& 31)) - 1, (-1), 0) (hN1 c_5).2.1 (hN1 c_5).1 (hN1 c_5).2.2 rfl ?_ (lv_sub hl [2, 1, 0, 3, 4] rfl) ?_
    · skip
      intro ⟨lf, gt, h⟩ hI_28 ls hl kb k1
      have hl : lv_has ls 5 [(2, .int lf), (3, .int gt), (4, .int h), (0, .ref o), (1, .int ho)] := hl
      refine lv_iload hx hb dX0_swap_2_28 (lv_at hl 2 rfl) ?_
      refine lv_iload_n hx hb dX0_swap_2_30 rfl (lv_at hl 4 rfl) ?_
      refine lv_icmp_gt (tgt := 133) hx hb dX0_swap_2_31 (by decide) (fun c_31 => ?_) (fun c_31 => ?_)
      · skip
        have hs : lpX0_swap_2_28 u ho (lf, gt, h) = (1, lf, gt, h) := by rw [lpX0_swap_2_28, if_pos c_31]
        rw [hs] at k1
        exact k1 (show ¬ (1 : Nat) = 0 by decide) _ (lv_sub hl [0, 1, 2, 3, 4] rfl)
      · skip
        refine lv_iconst (v := 0) hx hb dX0_swap_2_34 (by decide) ?_
        refine lv_istore_n (lv' := [(3, .int 0), (2, .int lf), (4, .int h), (0, .ref o), (1, .int ho)]) hx hb dX0_swap_2_35 rfl hl (by decide) rfl (fun ls hl => ?_)
        refine r_loop1 (rest := []) (nL := 5) (r := (lpX0_swap_2_36_r u ho lf gt h)) (lpX0_swap_2_36 u ho lf gt h) (I_36 lf gt h) (fun q => [(3, .int q), (2, .int lf), (4, .int h), (0, .ref o), (1, .int ho)]) 36 119 9 0 (hN2 c_5 lf gt h hI_28 c_31).2.1 (hN2 c_5 lf gt h hI_28 c_31).1 (hN2 c_5 lf gt h hI_28 c_31).2.2 rfl ?_ (lv_sub hl [0, 1, 2, 3, 4] rfl) ?_
        · skip
          intro gi hI_36 ls hl kb k1
          have hl : lv_has ls 5 [(3, .int gi), (2, .int lf), (4, .int h), (0, .ref o), (1, .int ho)] := hl
          refine lv_iload_n hx hb dX0_swap_2_36 rfl (lv_at hl 1 rfl) ?_
          refine lv_iload_n hx hb dX0_swap_2_37 rfl (lv_at hl 0 rfl) ?_
          refine lv_ishr hx hb dX0_swap_2_38 ?_
          refine lv_iconst (v := 1) hx hb dX0_swap_2_39 (by decide) ?_
          refine lv_iand hx hb dX0_swap_2_40 ?_
          refine lv_if_eq (tgt := 113) hx hb dX0_swap_2_41 (by decide) (fun c_41 => ?_) (fun c_41 => ?_)
          · skip
            refine lv_iinc (v := gi + 1) (lv' := [(3, .int (gi + 1)), (2, .int lf), (4, .int h), (0, .ref o), (1, .int ho)]) hx hb dX0_swap_2_113 hl (k := 0) rfl (rfl) (by decide) rfl (fun ls hl => ?_)
            refine lv_goto (tgt := 36) hx hb dX0_swap_2_116 (by decide) ?_
            have hs : lpX0_swap_2_36 u ho lf gt h gi = (0, gi + 1) := by rw [lpX0_swap_2_36, if_pos c_41]
            rw [hs] at kb
            exact kb rfl _ (lv_sub hl [0, 1, 2, 3, 4] rfl)
          · skip
            refine lv_aload_n hx hb dX0_swap_2_44 rfl (lv_at hl 3 rfl) ?_
            refine lv_iload hx hb dX0_swap_2_45 (lv_at hl 2 rfl) ?_
            refine lv_iload_n hx hb dX0_swap_2_47 rfl (lv_at hl 0 rfl) ?_
            refine ro_call (cw_run (n := 2) (As := [.int h, .int gi]) (rest := []) hx hb hml hown hts (metX0_canHave l D cA o g (fX0_swap u) h gi (hN3 c_5 lf gt h hI_28 c_31 gi hI_36 c_41)) q1247 q1249 qs30 q1250 (by decide +kernel) (by decide) (by decide) rfl hK hM hl.1 (Nat.le_of_ble_eq_true rfl) rfl dX0_swap_2_48 ⟨Nat.le_refl _, Nat.le_refl _⟩) ?_
            refine lv_B_eq (tgt := 113) hx hb dX0_swap_2_51 (by decide) (fun c_51 => ?_) (fun c_51 => ?_)
            · skip
              refine lv_iinc (v := gi + 1) (lv' := [(3, .int (gi + 1)), (2, .int lf), (4, .int h), (0, .ref o), (1, .int ho)]) hx hb dX0_swap_2_113 hl (k := 0) rfl (rfl) (by decide) rfl (fun ls hl => ?_)
              refine lv_goto (tgt := 36) hx hb dX0_swap_2_116 (by decide) ?_
              have hs : lpX0_swap_2_36 u ho lf gt h gi = (0, gi + 1) := by rw [lpX0_swap_2_36, if_neg c_41, if_neg (nt_of c_51)]
              rw [hs] at kb
              exact kb rfl _ (lv_sub hl [0, 1, 2, 3, 4] rfl)
            · skip
              refine lv_aload_n hx hb dX0_swap_2_54 rfl (lv_at hl 3 rfl) ?_
              refine cw_get (v := .ref (cAd o 29)) hx hb hts hown hK hM 29 (by decide) q218 rfl rfl dX0_swap_2_55 ?_
              refine lv_iload hx hb dX0_swap_2_58 (lv_at hl 2 rfl) ?_
              refine lv_iconst (v := 1) hx hb dX0_swap_2_60 (by decide) ?_
              refine lv_iadd hx hb dX0_swap_2_61 ?_
              refine cw_row (j := (h + 1).toNatClampNeg) hx hb hK hM 29 50 9 (by decide) (by decide) (cRf_29 cA o g) (hN4 c_5 lf gt h hI_28 c_31 gi hI_36 c_41 c_51) rfl dX0_swap_2_62 ?_
              refine lv_iload_n hx hb dX0_swap_2_63 rfl (lv_at hl 1 rfl) ?_
              refine lv_iconst (v := 1) hx hb dX0_swap_2_64 (by decide) ?_
              refine lv_iload_n hx hb dX0_swap_2_65 rfl (lv_at hl 0 rfl) ?_
              refine lv_ishl hx hb dX0_swap_2_66 ?_
              refine lv_iconst (v := (-1)) hx hb dX0_swap_2_67 (by decide) ?_
              refine lv_ixor hx hb dX0_swap_2_68 ?_
              refine lv_iand hx hb dX0_swap_2_69 ?_
              refine cw_ild (v := (fX0_swap u).2.1 (50 + (h + 1).toNatClampNeg) ((lf &&& (((1 : Int32) <<< (gi &&& 31)) ^^^ (-1))).toNatClampNeg)) (j := (lf &&& (((1 : Int32) <<< (gi &&& 31)) ^^^ (-1))).toNatClampNeg) hx hb hK hM (50 + (h + 1).toNatClampNeg) (row_k50 (i := h + 1) (j := (h + 1).toNatClampNeg) (hN4 c_5 lf gt h hI_28 c_31 gi hI_36 c_41 c_51) rfl).1 (row_k50 (i := h + 1) (j := (h + 1).toNatClampNeg) (hN4 c_5 lf gt h hI_28 c_31 gi hI_36 c_41 c_51) rfl).2.1 (row_k50 (i := h + 1) (j := (h + 1).toNatClampNeg) (hN4 c_5 lf gt h hI_28 c_31 gi hI_36 c_41 c_51) rfl).2.2 (hN5 c_5 lf gt h hI_28 c_31 gi hI_36 c_41 c_51) rfl rfl dX0_swap_2_70 ?_
              refine lv_if_lt (tgt := 113) hx hb dX0_swap_2_71 (by decide) (fun c_71 => ?_) (fun c_71 => ?_)
              · skip
                refine lv_iinc (v := gi + 1) (lv' := [(3, .int (gi + 1)), (2, .int lf), (4, .int h), (0, .ref o), (1, .int ho)]) hx hb dX0_swap_2_113 hl (k := 0) rfl (rfl) (by decide) rfl (fun ls hl => ?_)
                refine lv_goto (tgt := 36) hx hb dX0_swap_2_116 (by decide) ?_
                have hs : lpX0_swap_2_36 u ho lf gt h gi = (0, gi + 1) := by rw [lpX0_swap_2_36, if_neg c_41, if_pos c_51, if_pos c_71]
                rw [hs] at kb
                exact kb rfl _ (lv_sub hl [0, 1, 2, 3, 4] rfl)
              · skip
                refine lv_aload_n hx hb dX0_swap_2_74 rfl (lv_at hl 3 rfl) ?_
                refine cw_get (v := .ref (cAd o 29)) hx hb hts hown hK hM 29 (by decide) q218 rfl rfl dX0_swap_2_75 ?_
                refine lv_iload hx hb dX0_swap_2_78 (lv_at hl 2 rfl) ?_
                refine lv_iconst (v := 1) hx hb dX0_swap_2_80 (by decide) ?_
                refine lv_iadd hx hb dX0_swap_2_81 ?_
                refine cw_row (j := (h + 1).toNatClampNeg) hx hb hK hM 29 50 9 (by decide) (by decide) (cRf_29 cA o g) (hN4 c_5 lf gt h hI_28 c_31 gi hI_36 c_41 c_51) rfl dX0_swap_2_82 ?_
                refine lv_iload_n hx hb dX0_swap_2_83 rfl (lv_at hl 1 rfl) ?_
                refine lv_iconst (v := 1) hx hb dX0_swap_2_84 (by decide) ?_
                refine lv_iload_n hx hb dX0_swap_2_85 rfl (lv_at hl 0 rfl) ?_
                refine lv_ishl hx hb dX0_swap_2_86 ?_
                refine lv_iconst (v := (-1)) hx hb dX0_swap_2_87 (by decide) ?_
                refine lv_ixor hx hb dX0_swap_2_88 ?_
                refine lv_iand hx hb dX0_swap_2_89 ?_
                refine cw_ild (v := (fX0_swap u).2.1 (50 + (h + 1).toNatClampNeg) ((lf &&& (((1 : Int32) <<< (gi &&& 31)) ^^^ (-1))).toNatClampNeg)) (j := (lf &&& (((1 : Int32) <<< (gi &&& 31)) ^^^ (-1))).toNatClampNeg) hx hb hK hM (50 + (h + 1).toNatClampNeg) (row_k50 (i := h + 1) (j := (h + 1).toNatClampNeg) (hN4 c_5 lf gt h hI_28 c_31 gi hI_36 c_41 c_51) rfl).1 (row_k50 (i := h + 1) (j := (h + 1).toNatClampNeg) (hN4 c_5 lf gt h hI_28 c_31 gi hI_36 c_41 c_51) rfl).2.1 (row_k50 (i := h + 1) (j := (h + 1).toNatClampNeg) (hN4 c_5 lf gt h hI_28 c_31 gi hI_36 c_41 c_51) rfl).2.2 (hN5 c_5 lf gt h hI_28 c_31 gi hI_36 c_41 c_51) rfl rfl dX0_swap_2_90 ?_
                refine lv_aload_n hx hb dX0_swap_2_91 rfl (lv_at hl 3 rfl) ?_
                refine cw_get (v := .ref (cAd o 28)) hx hb hts hown hK hM 28 (by decide) q217 rfl rfl dX0_swap_2_92 ?_
                refine lv_iload hx hb dX0_swap_2_95 (lv_at hl 2 rfl) ?_
                refine cw_row (j := h.toNatClampNeg) hx hb hK hM 28 40 8 (by decide) (by decide) (cRf_28 cA o g) (hN6 c_5 lf gt h hI_28 c_31 gi hI_36 c_41 c_51 c_71) rfl dX0_swap_2_97 ?_
                refine lv_iload_n hx hb dX0_swap_2_98 rfl (lv_at hl 0 rfl) ?_
                refine cw_ild (v := (fX0_swap u).2.1 (40 + h.toNatClampNeg) gi.toNatClampNeg) (j := gi.toNatClampNeg) hx hb hK hM (40 + h.toNatClampNeg) (row_k40 (i := h) (j := h.toNatClampNeg) (hN6 c_5 lf gt h hI_28 c_31 gi hI_36 c_41 c_51 c_71) rfl).1 (row_k40 (i := h) (j := h.toNatClampNeg) (hN6 c_5 lf gt h hI_28 c_31 gi hI_36 c_41 c_51 c_71) rfl).2.1 (row_k40 (i := h) (j := h.toNatClampNeg) (hN6 c_5 lf gt h hI_28 c_31 gi hI_36 c_41 c_51 c_71) rfl).2.2 (hN7 c_5 lf gt h hI_28 c_31 gi hI_36 c_41 c_51 c_71) rfl rfl dX0_swap_2_99 ?_
                refine lv_iadd hx hb dX0_swap_2_100 ?_
                refine lv_aload_n hx hb dX0_swap_2_101 rfl (lv_at hl 3 rfl) ?_
                refine cw_get (v := .ref (cAd o 29)) hx hb hts hown hK hM 29 (by decide) q218 rfl rfl dX0_swap_2_102 ?_
                refine lv_iload hx hb dX0_swap_2_105 (lv_at hl 2 rfl) ?_
                refine cw_row (j := h.toNatClampNeg) hx hb hK hM 29 50 9 (by decide) (by decide) (cRf_29 cA o g) (hN8 c_5 lf gt h hI_28 c_31 gi hI_36 c_41 c_51 c_71) rfl dX0_swap_2_107 ?_
                refine lv_iload_n hx hb dX0_swap_2_108 rfl (lv_at hl 1 rfl) ?_
                refine cw_ild (v := (fX0_swap u).2.1 (50 + h.toNatClampNeg) lf.toNatClampNeg) (j := lf.toNatClampNeg) hx hb hK hM (50 + h.toNatClampNeg) (row_k50 (i := h) (j := h.toNatClampNeg) (hN8 c_5 lf gt h hI_28 c_31 gi hI_36 c_41 c_51 c_71) rfl).1 (row_k50 (i := h) (j := h.toNatClampNeg) (hN8 c_5 lf gt h hI_28 c_31 gi hI_36 c_41 c_51 c_71) rfl).2.1 (row_k50 (i := h) (j := h.toNatClampNeg) (hN8 c_5 lf gt h hI_28 c_31 gi hI_36 c_41 c_51 c_71) rfl).2.2 (hN9 c_5 lf gt h hI_28 c_31 gi hI_36 c_41 c_51 c_71) rfl rfl dX0_swap_2_109 ?_
                refine lv_icmp_eq (tgt := 119) hx hb dX0_swap_2_110 (by decide) (fun c_110 => ?_) (fun c_110 => ?_)
                · skip
                  have hs : lpX0_swap_2_36 u ho lf gt h gi = (1, gi) := by rw [lpX0_swap_2_36, if_neg c_41, if_pos c_51, if_neg c_71, if_pos c_110]
                  rw [hs] at k1
                  exact k1 (show ¬ (1 : Nat) = 0 by decide) _ (lv_sub hl [0, 1, 2, 3, 4] rfl)
                · skip
                  refine lv_iinc (v := gi + 1) (lv' := [(3, .int (gi + 1)), (2, .int lf), (4, .int h), (0, .ref o), (1, .int ho)]) hx hb dX0_swap_2_113 hl (k := 0) rfl (rfl) (by decide) rfl (fun ls hl => ?_)
                  refine lv_goto (tgt := 36) hx hb dX0_swap_2_116 (by decide) ?_
                  have hs : lpX0_swap_2_36 u ho lf gt h gi = (0, gi + 1) := by rw [lpX0_swap_2_36, if_neg c_41, if_pos c_51, if_neg c_71, if_neg c_110]
                  rw [hs] at kb
                  exact kb rfl _ (lv_sub hl [0, 1, 2, 3, 4] rfl)
        · skip
          intro ls hl
          have hl : lv_has ls 5 [(3, .int ((lpX0_swap_2_36_r u ho lf gt h).2)), (2, .int lf), (4, .int h), (0, .ref o), (1, .int ho)] := hl
          refine lv_iload_n hx hb dX0_swap_2_119 rfl (lv_at hl 1 rfl) ?_
          refine lv_iconst (v := 1) hx hb dX0_swap_2_120 (by decide) ?_
          refine lv_iload_n hx hb dX0_swap_2_121 rfl (lv_at hl 0 rfl) ?_
          refine lv_ishl hx hb dX0_swap_2_122 ?_
          refine lv_iconst (v := (-1)) hx hb dX0_swap_2_123 (by decide) ?_
          refine lv_ixor hx hb dX0_swap_2_124 ?_
          refine lv_iand hx hb dX0_swap_2_125 ?_
          refine lv_istore_n (lv' := [(2, .int (lf &&& (((1 : Int32) <<< (((lpX0_swap_2_36_r u ho lf gt h).2) &&& 31)) ^^^ (-1)))), (3, .int ((lpX0_swap_2_36_r u ho lf gt h).2)), (4, .int h), (0, .ref o), (1, .int ho)]) hx hb dX0_swap_2_126 rfl hl (by decide) rfl (fun ls hl => ?_)
          refine lv_iinc (v := h + 1) (lv' := [(4, .int (h + 1)), (2, .int (lf &&& (((1 : Int32) <<< (((lpX0_swap_2_36_r u ho lf gt h).2) &&& 31)) ^^^ (-1)))), (3, .int ((lpX0_swap_2_36_r u ho lf gt h).2)), (0, .ref o), (1, .int ho)]) hx hb dX0_swap_2_127 hl (k := 2) rfl (rfl) (by decide) rfl (fun ls hl => ?_)
          refine lv_goto (tgt := 28) hx hb dX0_swap_2_130 (by decide) ?_
          have hs : lpX0_swap_2_28 u ho (lf, gt, h) = (0, lf &&& (((1 : Int32) <<< (((lpX0_swap_2_36_r u ho lf gt h).2) &&& 31)) ^^^ (-1)), (lpX0_swap_2_36_r u ho lf gt h).2, h + 1) := by rw [lpX0_swap_2_28, if_neg c_31]
          rw [hs] at kb
          exact kb rfl _ (lv_sub hl [1, 2, 0, 3, 4] rfl)
    · skip
      intro ls hl
      have hl : lv_has ls 5 [(2, .int ((lpX0_swap_2_28_r u ho).2.1)), (3, .int ((lpX0_swap_2_28_r u ho).2.2.1)), (4, .int ((lpX0_swap_2_28_r u ho).2.2.2)), (0, .ref o), (1, .int ho)] := hl
      refine lv_iload_n hx hb dX0_swap_2_133 rfl (lv_at hl 1 rfl) ?_
      have hF : fX0_swap_2 u ho = ((lpX0_swap_2_28_r u ho).2.2.1, (fX0_swap u)) := by rw [fX0_swap_2, if_pos c_5]
      exact cw_iret hx hb hr hlk hM hS (by rw [hF]) (by rw [hF]) dX0_swap_2_134
  · skip
    refine lv_iconst (v := (-1)) hx hb dX0_swap_2_8 (by decide) ?_
    have hF : fX0_swap_2 u ho = ((-1), u) := by rw [fX0_swap_2, if_neg (nt_of c_5)]
    exact cw_iret hx hb hr hlk hM hS (by rw [hF]) (by rw [hF]) dX0_swap_2_9

def cmF : Nat → Int64 → Int64 → Int64
  | 0, a, _ => a
  | n + 1, a, b => if b = 0 then a else cmF n b (a - a / b * b)
def okC : Nat → Int64 → Int64 → Prop
  | 0, _, b => b = 0
  | n + 1, a, b => ¬ b = 0 → okC n b (a - a / b * b)
set_option maxHeartbeats 4000000 in
theorem metX0_common (l : Launch) : ∀ (n : Nat) (a b : Int64), okC n a b → MetS l yX0_common cX0_common 4 (some .long) n [.long a, .long b] (some (.long (cmF n a b))) := by
  intro n
  induction n with
  | zero =>
    intro a b h0
    have h0 : b = 0 := h0
    refine mS_start RX0 (by decide) rfl (Nat.le_of_ble_eq_true rfl) ?_
    intro pg ev s0 mi bl me co hx hb hml hown hts hr hlk ls hl
    have hl : lv_has ls 4 [(0, .long a), (2, .long b)] := hl
    refine lv_lload_n hx hb dX0_common_0 rfl (lv_at hl 1 rfl) ?_
    refine lv_lconst (v := 0) hx hb dX0_common_1 (by decide) ?_
    refine W.lcmp hx hb dX0_common_2 ?_
    refine lv_L_ne (tgt := 10) hx hb dX0_common_3 (by decide) (fun c_3 => absurd h0 c_3) (fun c_3 => ?_)
    refine lv_lload_n hx hb dX0_common_6 rfl (lv_at hl 0 rfl) ?_
    refine lv_goto (tgt := 17) hx hb dX0_common_7 (by decide) ?_
    exact lret_ro hx hb hr hlk (by rw [cmF]) dX0_common_17
  | succ n ih =>
    intro a b h0
    have h0 : ¬ b = 0 → okC n b (a - a / b * b) := h0
    refine mS_start RX0 (by decide) rfl (Nat.le_of_ble_eq_true rfl) ?_
    intro pg ev s0 mi bl me co hx hb hml hown hts hr hlk ls hl
    have hl : lv_has ls 4 [(0, .long a), (2, .long b)] := hl
    refine lv_lload_n hx hb dX0_common_0 rfl (lv_at hl 1 rfl) ?_
    refine lv_lconst (v := 0) hx hb dX0_common_1 (by decide) ?_
    refine W.lcmp hx hb dX0_common_2 ?_
    refine lv_L_ne (tgt := 10) hx hb dX0_common_3 (by decide) (fun c_3 => ?_) (fun c_3 => ?_)
    · refine lv_lload_n hx hb dX0_common_10 rfl (lv_at hl 1 rfl) ?_
      refine lv_lload_n hx hb dX0_common_11 rfl (lv_at hl 0 rfl) ?_
      refine lv_lload_n hx hb dX0_common_12 rfl (lv_at hl 1 rfl) ?_
      refine lv_lrem hx hb dX0_common_13 c_3 ?_
      refine ro_call (st_run (n := 2) (As := [.long b, .long (a - a / b * b)]) (rest := []) hx hb hml hown hts (ih b (a - a / b * b) (h0 c_3)) q1232 q1233 q64 q1234 (by decide +kernel) (Nat.lt_succ_self n) (by decide) rfl hl.1 (Nat.le_of_ble_eq_true rfl) rfl dX0_common_14 ⟨Nat.le_refl _, Nat.le_refl _⟩) ?_
      exact lret_ro hx hb hr hlk (by rw [cmF, if_neg c_3]) dX0_common_17
    · refine lv_lload_n hx hb dX0_common_6 rfl (lv_at hl 0 rfl) ?_
      refine lv_goto (tgt := 17) hx hb dX0_common_7 (by decide) ?_
      exact lret_ro hx hb hr hlk (by rw [cmF, if_pos c_3]) dX0_common_17

def fX0_add (u : St) (c : Int32) (to : Int64) (un : Int64) : St :=
  (sl (sl u 25 c.toNatClampNeg ((((u.2.2 25 c.toNatClampNeg) * (un / (cmF 100 (u.2.2 26 c.toNatClampNeg) un))) + (to * ((u.2.2 26 c.toNatClampNeg) / (cmF 100 (u.2.2 26 c.toNatClampNeg) un)))) / (cmF 100 (((u.2.2 25 c.toNatClampNeg) * (un / (cmF 100 (u.2.2 26 c.toNatClampNeg) un))) + (to * ((u.2.2 26 c.toNatClampNeg) / (cmF 100 (u.2.2 26 c.toNatClampNeg) un)))) (((u.2.2 26 c.toNatClampNeg) / (cmF 100 (u.2.2 26 c.toNatClampNeg) un)) * un)))) 26 c.toNatClampNeg ((((u.2.2 26 c.toNatClampNeg) / (cmF 100 (u.2.2 26 c.toNatClampNeg) un)) * un) / (cmF 100 (((u.2.2 25 c.toNatClampNeg) * (un / (cmF 100 (u.2.2 26 c.toNatClampNeg) un))) + (to * ((u.2.2 26 c.toNatClampNeg) / (cmF 100 (u.2.2 26 c.toNatClampNeg) un)))) (((u.2.2 26 c.toNatClampNeg) / (cmF 100 (u.2.2 26 c.toNatClampNeg) un)) * un))))
def okX0_add (n : Nat) (u : St) (c : Int32) (to : Int64) (un : Int64) : Prop :=
  (vp_in c 24) ∧ (okC 100 (u.2.2 26 c.toNatClampNeg) un) ∧ (¬ (cmF 100 (u.2.2 26 c.toNatClampNeg) un) = 0) ∧ (okC 100 (((u.2.2 25 c.toNatClampNeg) * (un / (cmF 100 (u.2.2 26 c.toNatClampNeg) un))) + (to * ((u.2.2 26 c.toNatClampNeg) / (cmF 100 (u.2.2 26 c.toNatClampNeg) un)))) (((u.2.2 26 c.toNatClampNeg) / (cmF 100 (u.2.2 26 c.toNatClampNeg) un)) * un)) ∧ (¬ (cmF 100 (((u.2.2 25 c.toNatClampNeg) * (un / (cmF 100 (u.2.2 26 c.toNatClampNeg) un))) + (to * ((u.2.2 26 c.toNatClampNeg) / (cmF 100 (u.2.2 26 c.toNatClampNeg) un)))) (((u.2.2 26 c.toNatClampNeg) / (cmF 100 (u.2.2 26 c.toNatClampNeg) un)) * un)) = 0)
set_option maxHeartbeats 4000000 in
theorem metX0_add (l : Launch) (D : va_G) (cA : Nat → ClassId) (o : Nat) (g : Gh) (u : St) (c : Int32) (to : Int64) (un : Int64) (hok : okX0_add g.1 u c to un) : CetM l yX0_add cX0_add 14 none 101 D cA o g u [.ref o, .int c, .long to, .long un] none (fX0_add u c to un) := by
  obtain ⟨hN0, hN1, hN2, hN3, hN4⟩ := hok
  refine cM_start RX0 (by decide) rfl (Nat.le_of_ble_eq_true rfl) ?_
  intro pg ev s0 mi bl me co hx hb hml hown hts hr hlk hK hM ls hl
  have hl : lv_has ls 14 [(0, .ref o), (1, .int c), (2, .long to), (4, .long un)] := hl
  have hS : va_S (cF o g) s0.heap s0.heap [] := va_S.rf
  refine lv_aload_n hx hb dX0_add_0 rfl (lv_at hl 0 rfl) ?_
  refine cw_get (v := .ref (cAd o 26)) hx hb hts hown hK hM 26 (by decide) q215 rfl rfl dX0_add_1 ?_
  refine lv_iload_n hx hb dX0_add_4 rfl (lv_at hl 1 rfl) ?_
  refine cw_lld (v := u.2.2 26 c.toNatClampNeg) (j := c.toNatClampNeg) hx hb hK hM 26 (by decide) rfl rfl hN0 rfl rfl dX0_add_5 ?_
  refine lv_lload hx hb dX0_add_6 (lv_at hl 3 rfl) ?_
  refine ro_call (st_run (n := 2) (As := [.long (u.2.2 26 c.toNatClampNeg), .long un]) (rest := []) hx hb hml hown hts (metX0_common l 100 (u.2.2 26 c.toNatClampNeg) un hN1) q1232 q1233 q64 q1234 (by decide +kernel) (by decide) (by decide) rfl hl.1 (Nat.le_of_ble_eq_true rfl) rfl dX0_add_8 ⟨Nat.le_refl _, Nat.le_refl _⟩) ?_
  refine lv_lstore (lv' := [(6, .long (cmF 100 (u.2.2 26 c.toNatClampNeg) un)), (0, .ref o), (1, .int c), (2, .long to), (4, .long un)]) hx hb dX0_add_11 hl (by decide) rfl (fun ls hl => ?_)
  refine lv_aload_n hx hb dX0_add_13 rfl (lv_at hl 1 rfl) ?_
  refine cw_get (v := .ref (cAd o 25)) hx hb hts hown hK hM 25 (by decide) q214 rfl rfl dX0_add_14 ?_
  refine lv_iload_n hx hb dX0_add_17 rfl (lv_at hl 2 rfl) ?_
  refine cw_lld (v := u.2.2 25 c.toNatClampNeg) (j := c.toNatClampNeg) hx hb hK hM 25 (by decide) rfl rfl hN0 rfl rfl dX0_add_18 ?_
  refine lv_lload hx hb dX0_add_19 (lv_at hl 4 rfl) ?_
  refine lv_lload hx hb dX0_add_21 (lv_at hl 0 rfl) ?_
  refine lv_ldiv hx hb dX0_add_23 hN2 ?_
  refine lv_lmul hx hb dX0_add_24 ?_
  refine lv_lload_n hx hb dX0_add_25 rfl (lv_at hl 3 rfl) ?_
  refine lv_aload_n hx hb dX0_add_26 rfl (lv_at hl 1 rfl) ?_
  refine cw_get (v := .ref (cAd o 26)) hx hb hts hown hK hM 26 (by decide) q215 rfl rfl dX0_add_27 ?_
  refine lv_iload_n hx hb dX0_add_30 rfl (lv_at hl 2 rfl) ?_
  refine cw_lld (v := u.2.2 26 c.toNatClampNeg) (j := c.toNatClampNeg) hx hb hK hM 26 (by decide) rfl rfl hN0 rfl rfl dX0_add_31 ?_
  refine lv_lload hx hb dX0_add_32 (lv_at hl 0 rfl) ?_
  refine lv_ldiv hx hb dX0_add_34 hN2 ?_
  refine lv_lmul hx hb dX0_add_35 ?_
  refine lv_ladd hx hb dX0_add_36 ?_
  refine lv_lstore (lv' := [(8, .long (((u.2.2 25 c.toNatClampNeg) * (un / (cmF 100 (u.2.2 26 c.toNatClampNeg) un))) + (to * ((u.2.2 26 c.toNatClampNeg) / (cmF 100 (u.2.2 26 c.toNatClampNeg) un))))), (6, .long (cmF 100 (u.2.2 26 c.toNatClampNeg) un)), (0, .ref o), (1, .int c), (2, .long to), (4, .long un)]) hx hb dX0_add_37 hl (by decide) rfl (fun ls hl => ?_)
  refine lv_aload_n hx hb dX0_add_39 rfl (lv_at hl 2 rfl) ?_
  refine cw_get (v := .ref (cAd o 26)) hx hb hts hown hK hM 26 (by decide) q215 rfl rfl dX0_add_40 ?_
  refine lv_iload_n hx hb dX0_add_43 rfl (lv_at hl 3 rfl) ?_
  refine cw_lld (v := u.2.2 26 c.toNatClampNeg) (j := c.toNatClampNeg) hx hb hK hM 26 (by decide) rfl rfl hN0 rfl rfl dX0_add_44 ?_
  refine lv_lload hx hb dX0_add_45 (lv_at hl 1 rfl) ?_
  refine lv_ldiv hx hb dX0_add_47 hN2 ?_
  refine lv_lload hx hb dX0_add_48 (lv_at hl 5 rfl) ?_
  refine lv_lmul hx hb dX0_add_50 ?_
  refine lv_lstore (lv' := [(10, .long (((u.2.2 26 c.toNatClampNeg) / (cmF 100 (u.2.2 26 c.toNatClampNeg) un)) * un)), (8, .long (((u.2.2 25 c.toNatClampNeg) * (un / (cmF 100 (u.2.2 26 c.toNatClampNeg) un))) + (to * ((u.2.2 26 c.toNatClampNeg) / (cmF 100 (u.2.2 26 c.toNatClampNeg) un))))), (6, .long (cmF 100 (u.2.2 26 c.toNatClampNeg) un)), (0, .ref o), (1, .int c), (2, .long to), (4, .long un)]) hx hb dX0_add_51 hl (by decide) rfl (fun ls hl => ?_)
  refine lv_lload hx hb dX0_add_53 (lv_at hl 1 rfl) ?_
  refine lv_lload hx hb dX0_add_55 (lv_at hl 0 rfl) ?_
  refine ro_call (st_run (n := 2) (As := [.long (((u.2.2 25 c.toNatClampNeg) * (un / (cmF 100 (u.2.2 26 c.toNatClampNeg) un))) + (to * ((u.2.2 26 c.toNatClampNeg) / (cmF 100 (u.2.2 26 c.toNatClampNeg) un)))), .long (((u.2.2 26 c.toNatClampNeg) / (cmF 100 (u.2.2 26 c.toNatClampNeg) un)) * un)]) (rest := []) hx hb hml hown hts (metX0_common l 100 (((u.2.2 25 c.toNatClampNeg) * (un / (cmF 100 (u.2.2 26 c.toNatClampNeg) un))) + (to * ((u.2.2 26 c.toNatClampNeg) / (cmF 100 (u.2.2 26 c.toNatClampNeg) un)))) (((u.2.2 26 c.toNatClampNeg) / (cmF 100 (u.2.2 26 c.toNatClampNeg) un)) * un) hN3) q1232 q1233 q64 q1234 (by decide +kernel) (by decide) (by decide) rfl hl.1 (Nat.le_of_ble_eq_true rfl) rfl dX0_add_57 ⟨Nat.le_refl _, Nat.le_refl _⟩) ?_
  refine lv_lstore (lv' := [(12, .long (cmF 100 (((u.2.2 25 c.toNatClampNeg) * (un / (cmF 100 (u.2.2 26 c.toNatClampNeg) un))) + (to * ((u.2.2 26 c.toNatClampNeg) / (cmF 100 (u.2.2 26 c.toNatClampNeg) un)))) (((u.2.2 26 c.toNatClampNeg) / (cmF 100 (u.2.2 26 c.toNatClampNeg) un)) * un))), (10, .long (((u.2.2 26 c.toNatClampNeg) / (cmF 100 (u.2.2 26 c.toNatClampNeg) un)) * un)), (8, .long (((u.2.2 25 c.toNatClampNeg) * (un / (cmF 100 (u.2.2 26 c.toNatClampNeg) un))) + (to * ((u.2.2 26 c.toNatClampNeg) / (cmF 100 (u.2.2 26 c.toNatClampNeg) un))))), (6, .long (cmF 100 (u.2.2 26 c.toNatClampNeg) un)), (0, .ref o), (1, .int c), (2, .long to), (4, .long un)]) hx hb dX0_add_60 hl (by decide) rfl (fun ls hl => ?_)
  refine lv_aload_n hx hb dX0_add_62 rfl (lv_at hl 4 rfl) ?_
  refine cw_get (v := .ref (cAd o 25)) hx hb hts hown hK hM 25 (by decide) q214 rfl rfl dX0_add_63 ?_
  refine lv_iload_n hx hb dX0_add_66 rfl (lv_at hl 5 rfl) ?_
  refine lv_lload hx hb dX0_add_67 (lv_at hl 2 rfl) ?_
  refine lv_lload hx hb dX0_add_69 (lv_at hl 0 rfl) ?_
  refine lv_ldiv hx hb dX0_add_71 hN4 ?_
  refine cw_lst (j := c.toNatClampNeg) hx hb hK hM hS 25 (by decide) rfl rfl hN0 rfl dX0_add_72 (fun H locs hM hS => ?_)
  refine lv_aload_n hx hb dX0_add_73 rfl (lv_at hl 4 rfl) ?_
  refine cw_get (v := .ref (cAd o 26)) hx hb hts hown hK hM 26 (by decide) q215 rfl rfl dX0_add_74 ?_
  refine lv_iload_n hx hb dX0_add_77 rfl (lv_at hl 5 rfl) ?_
  refine lv_lload hx hb dX0_add_78 (lv_at hl 1 rfl) ?_
  refine lv_lload hx hb dX0_add_80 (lv_at hl 0 rfl) ?_
  refine lv_ldiv hx hb dX0_add_82 hN4 ?_
  refine cw_lst (j := c.toNatClampNeg) hx hb hK hM hS 26 (by decide) rfl rfl hN0 rfl dX0_add_83 (fun H locs hM hS => ?_)
  have hF : fX0_add u c to un = (sl (sl u 25 c.toNatClampNeg ((((u.2.2 25 c.toNatClampNeg) * (un / (cmF 100 (u.2.2 26 c.toNatClampNeg) un))) + (to * ((u.2.2 26 c.toNatClampNeg) / (cmF 100 (u.2.2 26 c.toNatClampNeg) un)))) / (cmF 100 (((u.2.2 25 c.toNatClampNeg) * (un / (cmF 100 (u.2.2 26 c.toNatClampNeg) un))) + (to * ((u.2.2 26 c.toNatClampNeg) / (cmF 100 (u.2.2 26 c.toNatClampNeg) un)))) (((u.2.2 26 c.toNatClampNeg) / (cmF 100 (u.2.2 26 c.toNatClampNeg) un)) * un)))) 26 c.toNatClampNeg ((((u.2.2 26 c.toNatClampNeg) / (cmF 100 (u.2.2 26 c.toNatClampNeg) un)) * un) / (cmF 100 (((u.2.2 25 c.toNatClampNeg) * (un / (cmF 100 (u.2.2 26 c.toNatClampNeg) un))) + (to * ((u.2.2 26 c.toNatClampNeg) / (cmF 100 (u.2.2 26 c.toNatClampNeg) un)))) (((u.2.2 26 c.toNatClampNeg) / (cmF 100 (u.2.2 26 c.toNatClampNeg) un)) * un)))) := by rw [fX0_add]
  exact cw_vret hx hb hr hlk hM hS (by rw [hF]) dX0_add_84

def lpX0_hand_36 (u : St) (of : Int32) (da : Int32) (v : St) (p : Int32) : St × Int32 → Nat × St × Int32
  | (w, c) => if (w.1 13) ≤ c then (1, w, c) else (0, (sa w 27 p.toNatClampNeg (b2 (if (w.2.1 27 p.toNatClampNeg) = 0 then (if (fX0_isChild w c p) = true then (if (w.2.1 27 c.toNatClampNeg) = 0 then false else true) else false) else true))), c + 1)
def lpX0_hand_36_r (u : St) (of : Int32) (da : Int32) (v : St) (p : Int32) : Nat × St × Int32 :=
  wh (lpX0_hand_36 u of da v p) 25 ((sa v 27 p.toNatClampNeg (b2 (if (fX0_isDead v p da) = true then false else true))), p + 1)
def lpX0_hand_7 (u : St) (of : Int32) (da : Int32) : St × Int32 → Nat × St × Int32
  | (v, p) => if p < 0 then (1, v, p) else (0, (sl (sl (lpX0_hand_36_r u of da v p).2.1 25 p.toNatClampNeg (if p = of then 1 else 0)) 26 p.toNatClampNeg 1), p + (-1))
def lpX0_hand_7_r (u : St) (of : Int32) (da : Int32) : Nat × St × Int32 :=
  wh (lpX0_hand_7 u of da) 25 (u, (u.1 13) - 1)
def lpX0_hand_161 (u : St) (of : Int32) (da : Int32) (v : St) (p : Int32) : Int32 × Int32 → Nat × Int32 × Int32
  | (nn, c) => if (v.1 13) ≤ c then (1, nn, c) else (0, nn + (b2 (if (fX0_isChild v c p) = true then (if (v.2.1 27 c.toNatClampNeg) = 0 then false else true) else false)), c + 1)
def lpX0_hand_161_r (u : St) (of : Int32) (da : Int32) (v : St) (p : Int32) : Nat × Int32 × Int32 :=
  wh (lpX0_hand_161 u of da v p) 25 (0, p + 1)
def lpX0_hand_211 (u : St) (of : Int32) (da : Int32) (v : St) (p : Int32) : St × Int32 → Nat × St × Int32
  | (w, c) => if (w.1 13) ≤ c then (1, w, c) else (if (fX0_isChild w c p) = true then (if (w.2.1 27 c.toNatClampNeg) = 0 then (0, w, c + 1) else (0, (fX0_add w c (w.2.2 25 p.toNatClampNeg) ((w.2.2 26 p.toNatClampNeg) * (((lpX0_hand_161_r u of da v p).2.1).toInt64))), c + 1)) else (0, w, c + 1))
def lpX0_hand_211_r (u : St) (of : Int32) (da : Int32) (v : St) (p : Int32) : Nat × St × Int32 :=
  wh (lpX0_hand_211 u of da v p) 25 (v, p + 1)
def lpX0_hand_122 (u : St) (of : Int32) (da : Int32) : St × Int32 → Nat × St × Int32
  | (v, p) => if (v.1 13) ≤ p then (1, v, p) else (if (v.2.2 25 p.toNatClampNeg) = 0 then (0, v, p + 1) else (if (fX0_isDead v p da) = true then (0, (sl (sl (lpX0_hand_211_r u of da v p).2.1 25 p.toNatClampNeg 0) 26 p.toNatClampNeg 1), p + 1) else (0, v, p + 1)))
def lpX0_hand_122_r (u : St) (of : Int32) (da : Int32) : Nat × St × Int32 :=
  wh (lpX0_hand_122 u of da) 25 ((lpX0_hand_7_r u of da).2.1, 0)
def fX0_hand (u : St) (of : Int32) (da : Int32) : St :=
  (lpX0_hand_122_r u of da).2.1
def okX0_hand (n : Nat) (u : St) (of : Int32) (da : Int32) : Prop :=
  ∃ (I_7 : (St × Int32) → Prop) (I_36 : St → Int32 → (St × Int32) → Prop) (I_122 : (St × Int32) → Prop) (I_161 : St → Int32 → (Int32 × Int32) → Prop) (I_211 : St → Int32 → (St × Int32) → Prop), (LOK (lpX0_hand_7 u of da) 25 (u, (u.1 13) - 1) I_7) ∧ (∀ (v : St) (p : Int32), I_7 (v, p) → ¬ (p < 0) → okX0_isDead n v p da) ∧ (∀ (v : St) (p : Int32), I_7 (v, p) → ¬ (p < 0) → vp_in p 24) ∧ (∀ (v : St) (p : Int32), I_7 (v, p) → ¬ (p < 0) → LOK (lpX0_hand_36 u of da v p) 25 ((sa v 27 p.toNatClampNeg (b2 (if (fX0_isDead v p da) = true then false else true))), p + 1) (I_36 v p)) ∧ (∀ (v : St) (p : Int32), I_7 (v, p) → ¬ (p < 0) → ∀ (w : St) (c : Int32), I_36 v p (w, c) → ¬ ((w.1 13) ≤ c) → (w.2.1 27 p.toNatClampNeg) = 0 → okX0_isChild n w c p) ∧ (∀ (v : St) (p : Int32), I_7 (v, p) → ¬ (p < 0) → ∀ (w : St) (c : Int32), I_36 v p (w, c) → ¬ ((w.1 13) ≤ c) → (w.2.1 27 p.toNatClampNeg) = 0 → (fX0_isChild w c p) = true → vp_in c 24) ∧ (LOK (lpX0_hand_122 u of da) 25 ((lpX0_hand_7_r u of da).2.1, 0) I_122) ∧ (∀ (v : St) (p : Int32), I_122 (v, p) → ¬ ((v.1 13) ≤ p) → vp_in p 24) ∧ (∀ (v : St) (p : Int32), I_122 (v, p) → ¬ ((v.1 13) ≤ p) → ¬ ((v.2.2 25 p.toNatClampNeg) = 0) → okX0_isDead n v p da) ∧ (∀ (v : St) (p : Int32), I_122 (v, p) → ¬ ((v.1 13) ≤ p) → ¬ ((v.2.2 25 p.toNatClampNeg) = 0) → (fX0_isDead v p da) = true → LOK (lpX0_hand_161 u of da v p) 25 (0, p + 1) (I_161 v p)) ∧ (∀ (v : St) (p : Int32), I_122 (v, p) → ¬ ((v.1 13) ≤ p) → ¬ ((v.2.2 25 p.toNatClampNeg) = 0) → (fX0_isDead v p da) = true → ∀ (nn : Int32) (c : Int32), I_161 v p (nn, c) → ¬ ((v.1 13) ≤ c) → okX0_isChild n v c p) ∧ (∀ (v : St) (p : Int32), I_122 (v, p) → ¬ ((v.1 13) ≤ p) → ¬ ((v.2.2 25 p.toNatClampNeg) = 0) → (fX0_isDead v p da) = true → ∀ (nn : Int32) (c : Int32), I_161 v p (nn, c) → ¬ ((v.1 13) ≤ c) → (fX0_isChild v c p) = true → vp_in c 24) ∧ (∀ (v : St) (p : Int32), I_122 (v, p) → ¬ ((v.1 13) ≤ p) → ¬ ((v.2.2 25 p.toNatClampNeg) = 0) → (fX0_isDead v p da) = true → LOK (lpX0_hand_211 u of da v p) 25 (v, p + 1) (I_211 v p)) ∧ (∀ (v : St) (p : Int32), I_122 (v, p) → ¬ ((v.1 13) ≤ p) → ¬ ((v.2.2 25 p.toNatClampNeg) = 0) → (fX0_isDead v p da) = true → ∀ (w : St) (c : Int32), I_211 v p (w, c) → ¬ ((w.1 13) ≤ c) → okX0_isChild n w c p) ∧ (∀ (v : St) (p : Int32), I_122 (v, p) → ¬ ((v.1 13) ≤ p) → ¬ ((v.2.2 25 p.toNatClampNeg) = 0) → (fX0_isDead v p da) = true → ∀ (w : St) (c : Int32), I_211 v p (w, c) → ¬ ((w.1 13) ≤ c) → (fX0_isChild w c p) = true → vp_in c 24) ∧ (∀ (v : St) (p : Int32), I_122 (v, p) → ¬ ((v.1 13) ≤ p) → ¬ ((v.2.2 25 p.toNatClampNeg) = 0) → (fX0_isDead v p da) = true → ∀ (w : St) (c : Int32), I_211 v p (w, c) → ¬ ((w.1 13) ≤ c) → (fX0_isChild w c p) = true → ¬ ((w.2.1 27 c.toNatClampNeg) = 0) → okX0_add n w c (w.2.2 25 p.toNatClampNeg) ((w.2.2 26 p.toNatClampNeg) * (((lpX0_hand_161_r u of da v p).2.1).toInt64)))
set_option maxHeartbeats 4000000 in
theorem metX0_hand (l : Launch) (D : va_G) (cA : Nat → ClassId) (o : Nat) (g : Gh) (u : St) (of : Int32) (da : Int32) (hok : okX0_hand g.1 u of da) : CetM l yX0_hand cX0_hand 6 none 102 D cA o g u [.ref o, .int of, .int da] none (fX0_hand u of da) := by
  obtain ⟨I_7, I_36, I_122, I_161, I_211, hN0, hN1, hN2, hN3, hN4, hN5, hN6, hN7, hN8, hN9, hN10, hN11, hN12, hN13, hN14, hN15⟩ := hok
  refine cM_start RX0 (by decide) rfl (Nat.le_of_ble_eq_true rfl) ?_
  intro pg ev s0 mi bl me co hx hb hml hown hts hr hlk hK hM ls hl
  have hl : lv_has ls 6 [(0, .ref o), (1, .int of), (2, .int da)] := hl
  have hS : va_S (cF o g) s0.heap s0.heap [] := va_S.rf
  refine lv_aload_n hx hb dX0_hand_0 rfl (lv_at hl 0 rfl) ?_
  refine cw_get (v := .int (u.1 13)) hx hb hts hown hK hM 13 (by decide) q202 rfl rfl dX0_hand_1 ?_
  refine lv_iconst (v := 1) hx hb dX0_hand_4 (by decide) ?_
  refine lv_isub hx hb dX0_hand_5 ?_
  refine lv_istore_n (lv' := [(3, .int ((u.1 13) - 1)), (0, .ref o), (1, .int of), (2, .int da)]) hx hb dX0_hand_6 rfl hl (by decide) rfl (fun ls hl => ?_)
  refine cw_loop1 (rest := []) (nL := 6) (r := (lpX0_hand_7_r u of da)) (lpX0_hand_7 u of da) I_7 (fun q => q.1) (fun q => [(3, .int q.2), (0, .ref o), (1, .int of), (2, .int da)]) 7 120 25 (u, (u.1 13) - 1) hN0.2.1 hN0.1 hN0.2.2 rfl ?_ hM hS (lv_sub hl [0, 1, 2, 3] rfl) ?_
  · skip
    intro ⟨v, p⟩ hI_7 H locs ls hM hS hl kb k1
    have hM : CW D cA o g v H := hM
    have hl : lv_has ls 6 [(3, .int p), (0, .ref o), (1, .int of), (2, .int da)] := hl
    refine lv_iload_n hx hb dX0_hand_7 rfl (lv_at hl 0 rfl) ?_
    refine lv_if_lt (tgt := 120) hx hb dX0_hand_8 (by decide) (fun c_8 => ?_) (fun c_8 => ?_)
    · skip
      have hs : lpX0_hand_7 u of da (v, p) = (1, v, p) := by rw [lpX0_hand_7, if_pos c_8]
      rw [hs] at k1
      exact k1 (show ¬ (1 : Nat) = 0 by decide) _ _ _ hM hS (lv_sub hl [0, 1, 2, 3] rfl)
    · skip
      refine lv_aload_n hx hb dX0_hand_11 rfl (lv_at hl 1 rfl) ?_
      refine cw_get (v := .ref (cAd o 27)) hx hb hts hown hK hM 27 (by decide) q216 rfl rfl dX0_hand_12 ?_
      refine lv_iload_n hx hb dX0_hand_15 rfl (lv_at hl 0 rfl) ?_
      refine lv_aload_n hx hb dX0_hand_16 rfl (lv_at hl 1 rfl) ?_
      refine lv_iload_n hx hb dX0_hand_17 rfl (lv_at hl 0 rfl) ?_
      refine lv_iload_n hx hb dX0_hand_18 rfl (lv_at hl 3 rfl) ?_
      refine ro_call (cw_run (n := 2) (As := [.int p, .int da]) (rest := [.int p, .ref (cAd o 27)]) hx hb hml hown hts (metX0_isDead l D cA o g v p da (hN1 v p hI_7 c_8)) q1223 q1196 qs25 q1197 (by decide +kernel) (by decide) (by decide) rfl hK hM hl.1 (Nat.le_of_ble_eq_true rfl) rfl dX0_hand_19 ⟨Nat.le_refl _, Nat.le_refl _⟩) ?_
      refine w_ji (ls := ls) (rest := [.int p, .ref (cAd o 27)]) (E := b2 (if (fX0_isDead v p da) = true then false else true)) 30 ?_ (fun K => ?_)
      · skip
        refine cw_zst (x := (if (fX0_isDead v p da) = true then false else true)) (j := p.toNatClampNeg) hx hb hK hM hS 27 (by decide) rfl rfl (hN2 v p hI_7 c_8) rfl dX0_hand_30 (fun H locs hM hS => ?_)
        refine lv_iload_n hx hb dX0_hand_31 rfl (lv_at hl 0 rfl) ?_
        refine lv_iconst (v := 1) hx hb dX0_hand_32 (by decide) ?_
        refine lv_iadd hx hb dX0_hand_33 ?_
        refine lv_istore (lv' := [(4, .int (p + 1)), (3, .int p), (0, .ref o), (1, .int of), (2, .int da)]) hx hb dX0_hand_34 hl (by decide) rfl (fun ls hl => ?_)
        refine cw_loop1 (rest := []) (nL := 6) (r := (lpX0_hand_36_r u of da v p)) (lpX0_hand_36 u of da v p) (I_36 v p) (fun q => q.1) (fun q => [(4, .int q.2), (3, .int p), (0, .ref o), (1, .int of), (2, .int da)]) 36 91 25 ((sa v 27 p.toNatClampNeg (b2 (if (fX0_isDead v p da) = true then false else true))), p + 1) (hN3 v p hI_7 c_8).2.1 (hN3 v p hI_7 c_8).1 (hN3 v p hI_7 c_8).2.2 rfl ?_ hM hS (lv_sub hl [0, 1, 2, 3, 4] rfl) ?_
        · skip
          intro ⟨w, c⟩ hI_36 H locs ls hM hS hl kb k1
          have hM : CW D cA o g w H := hM
          have hl : lv_has ls 6 [(4, .int c), (3, .int p), (0, .ref o), (1, .int of), (2, .int da)] := hl
          refine lv_iload hx hb dX0_hand_36 (lv_at hl 0 rfl) ?_
          refine lv_aload_n hx hb dX0_hand_38 rfl (lv_at hl 2 rfl) ?_
          refine cw_get (v := .int (w.1 13)) hx hb hts hown hK hM 13 (by decide) q202 rfl rfl dX0_hand_39 ?_
          refine lv_icmp_ge (tgt := 91) hx hb dX0_hand_42 (by decide) (fun c_42 => ?_) (fun c_42 => ?_)
          · skip
            have hs : lpX0_hand_36 u of da v p (w, c) = (1, w, c) := by rw [lpX0_hand_36, if_pos c_42]
            rw [hs] at k1
            exact k1 (show ¬ (1 : Nat) = 0 by decide) _ _ _ hM hS (lv_sub hl [0, 1, 2, 3, 4] rfl)
          · skip
            refine lv_aload_n hx hb dX0_hand_45 rfl (lv_at hl 2 rfl) ?_
            refine cw_get (v := .ref (cAd o 27)) hx hb hts hown hK hM 27 (by decide) q216 rfl rfl dX0_hand_46 ?_
            refine lv_iload_n hx hb dX0_hand_49 rfl (lv_at hl 1 rfl) ?_
            refine lv_aload_n hx hb dX0_hand_50 rfl (lv_at hl 2 rfl) ?_
            refine cw_get (v := .ref (cAd o 27)) hx hb hts hown hK hM 27 (by decide) q216 rfl rfl dX0_hand_51 ?_
            refine lv_iload_n hx hb dX0_hand_54 rfl (lv_at hl 1 rfl) ?_
            refine cw_zld (v := w.2.1 27 p.toNatClampNeg) (j := p.toNatClampNeg) hx hb hK hM 27 (by decide) rfl rfl (hN2 v p hI_7 c_8) rfl rfl dX0_hand_55 ?_
            refine w_ji (ls := ls) (rest := [.int p, .ref (cAd o 27)]) (E := b2 (if (w.2.1 27 p.toNatClampNeg) = 0 then (if (fX0_isChild w c p) = true then (if (w.2.1 27 c.toNatClampNeg) = 0 then false else true) else false) else true)) 84 ?_ (fun K => ?_)
            · skip
              refine cw_zst (x := (if (w.2.1 27 p.toNatClampNeg) = 0 then (if (fX0_isChild w c p) = true then (if (w.2.1 27 c.toNatClampNeg) = 0 then false else true) else false) else true)) (j := p.toNatClampNeg) hx hb hK hM hS 27 (by decide) rfl rfl (hN2 v p hI_7 c_8) rfl dX0_hand_84 (fun H locs hM hS => ?_)
              refine lv_iinc (v := c + 1) (lv' := [(4, .int (c + 1)), (3, .int p), (0, .ref o), (1, .int of), (2, .int da)]) hx hb dX0_hand_85 hl (k := 0) rfl (rfl) (by decide) rfl (fun ls hl => ?_)
              refine lv_goto (tgt := 36) hx hb dX0_hand_88 (by decide) ?_
              have hs : lpX0_hand_36 u of da v p (w, c) = (0, (sa w 27 p.toNatClampNeg (b2 (if (w.2.1 27 p.toNatClampNeg) = 0 then (if (fX0_isChild w c p) = true then (if (w.2.1 27 c.toNatClampNeg) = 0 then false else true) else false) else true))), c + 1) := by rw [lpX0_hand_36, if_neg c_42]
              rw [hs] at kb
              exact kb rfl _ _ _ hM hS (lv_sub hl [0, 1, 2, 3, 4] rfl)
            · skip
              refine lv_if_ne (tgt := 79) hx hb dX0_hand_56 (by decide) (fun c_56 => ?_) (fun c_56 => ?_)
              · skip
                refine lv_iconst (v := 1) hx hb dX0_hand_79 (by decide) ?_
                refine lv_goto (tgt := 84) hx hb dX0_hand_80 (by decide) ?_
                exact K _ (by rw [if_neg c_56]; rfl)
              · skip
                refine lv_aload_n hx hb dX0_hand_59 rfl (lv_at hl 2 rfl) ?_
                refine lv_iload hx hb dX0_hand_60 (lv_at hl 0 rfl) ?_
                refine lv_iload_n hx hb dX0_hand_62 rfl (lv_at hl 1 rfl) ?_
                refine ro_call (cw_run (n := 2) (As := [.int c, .int p]) (rest := [.int p, .ref (cAd o 27)]) hx hb hml hown hts (metX0_isChild l D cA o g w c p (hN4 v p hI_7 c_8 w c hI_36 c_42 c_56)) q1224 q1226 qs27 q1227 (by decide +kernel) (by decide) (by decide) rfl hK hM hl.1 (Nat.le_of_ble_eq_true rfl) rfl dX0_hand_63 ⟨Nat.le_refl _, Nat.le_refl _⟩) ?_
                refine lv_B_eq (tgt := 83) hx hb dX0_hand_66 (by decide) (fun c_66 => ?_) (fun c_66 => ?_)
                · skip
                  refine lv_iconst (v := 0) hx hb dX0_hand_83 (by decide) ?_
                  exact K _ (by rw [if_pos c_56, if_neg (nt_of c_66)]; rfl)
                · skip
                  refine lv_aload_n hx hb dX0_hand_69 rfl (lv_at hl 2 rfl) ?_
                  refine cw_get (v := .ref (cAd o 27)) hx hb hts hown hK hM 27 (by decide) q216 rfl rfl dX0_hand_70 ?_
                  refine lv_iload hx hb dX0_hand_73 (lv_at hl 0 rfl) ?_
                  refine cw_zld (v := w.2.1 27 c.toNatClampNeg) (j := c.toNatClampNeg) hx hb hK hM 27 (by decide) rfl rfl (hN5 v p hI_7 c_8 w c hI_36 c_42 c_56 c_66) rfl rfl dX0_hand_75 ?_
                  refine lv_if_eq (tgt := 83) hx hb dX0_hand_76 (by decide) (fun c_76 => ?_) (fun c_76 => ?_)
                  · skip
                    refine lv_iconst (v := 0) hx hb dX0_hand_83 (by decide) ?_
                    exact K _ (by rw [if_pos c_56, if_pos c_66, if_pos c_76]; rfl)
                  · skip
                    refine lv_iconst (v := 1) hx hb dX0_hand_79 (by decide) ?_
                    refine lv_goto (tgt := 84) hx hb dX0_hand_80 (by decide) ?_
                    exact K _ (by rw [if_pos c_56, if_pos c_66, if_neg c_76]; rfl)
        · skip
          intro H locs ls hM hS hl
          have hM : CW D cA o g (lpX0_hand_36_r u of da v p).2.1 H := hM
          have hl : lv_has ls 6 [(4, .int ((lpX0_hand_36_r u of da v p).2.2)), (3, .int p), (0, .ref o), (1, .int of), (2, .int da)] := hl
          refine lv_aload_n hx hb dX0_hand_91 rfl (lv_at hl 2 rfl) ?_
          refine cw_get (v := .ref (cAd o 25)) hx hb hts hown hK hM 25 (by decide) q214 rfl rfl dX0_hand_92 ?_
          refine lv_iload_n hx hb dX0_hand_95 rfl (lv_at hl 1 rfl) ?_
          refine lv_iload_n hx hb dX0_hand_96 rfl (lv_at hl 1 rfl) ?_
          refine lv_iload_n hx hb dX0_hand_97 rfl (lv_at hl 3 rfl) ?_
          refine w_jl (ls := ls) (rest := [.int p, .ref (cAd o 25)]) (E := (if p = of then 1 else 0)) 106 ?_ (fun K => ?_)
          · skip
            refine cw_lst (j := p.toNatClampNeg) hx hb hK hM hS 25 (by decide) rfl rfl (hN2 v p hI_7 c_8) rfl dX0_hand_106 (fun H locs hM hS => ?_)
            refine lv_aload_n hx hb dX0_hand_107 rfl (lv_at hl 2 rfl) ?_
            refine cw_get (v := .ref (cAd o 26)) hx hb hts hown hK hM 26 (by decide) q215 rfl rfl dX0_hand_108 ?_
            refine lv_iload_n hx hb dX0_hand_111 rfl (lv_at hl 1 rfl) ?_
            refine lv_lconst (v := 1) hx hb dX0_hand_112 (by decide) ?_
            refine cw_lst (j := p.toNatClampNeg) hx hb hK hM hS 26 (by decide) rfl rfl (hN2 v p hI_7 c_8) rfl dX0_hand_113 (fun H locs hM hS => ?_)
            refine lv_iinc (v := p + (-1)) (lv' := [(3, .int (p + (-1))), (4, .int ((lpX0_hand_36_r u of da v p).2.2)), (0, .ref o), (1, .int of), (2, .int da)]) hx hb dX0_hand_114 hl (k := 1) rfl (rfl) (by decide) rfl (fun ls hl => ?_)
            refine lv_goto (tgt := 7) hx hb dX0_hand_117 (by decide) ?_
            have hs : lpX0_hand_7 u of da (v, p) = (0, (sl (sl (lpX0_hand_36_r u of da v p).2.1 25 p.toNatClampNeg (if p = of then 1 else 0)) 26 p.toNatClampNeg 1), p + (-1)) := by rw [lpX0_hand_7, if_neg c_8]
            rw [hs] at kb
            exact kb rfl _ _ _ hM hS (lv_sub hl [0, 2, 3, 4] rfl)
          · skip
            refine lv_icmp_ne (tgt := 105) hx hb dX0_hand_98 (by decide) (fun c_98 => ?_) (fun c_98 => ?_)
            · skip
              refine lv_lconst (v := 0) hx hb dX0_hand_105 (by decide) ?_
              exact K _ (by rw [if_neg c_98])
            · skip
              refine lv_lconst (v := 1) hx hb dX0_hand_101 (by decide) ?_
              refine lv_goto (tgt := 106) hx hb dX0_hand_102 (by decide) ?_
              exact K _ (by rw [if_pos c_98])
      · skip
        refine lv_B_ne (tgt := 29) hx hb dX0_hand_22 (by decide) (fun c_22 => ?_) (fun c_22 => ?_)
        · skip
          refine lv_iconst (v := 0) hx hb dX0_hand_29 (by decide) ?_
          exact K _ (by rw [if_pos c_22]; rfl)
        · skip
          refine lv_iconst (v := 1) hx hb dX0_hand_25 (by decide) ?_
          refine lv_goto (tgt := 30) hx hb dX0_hand_26 (by decide) ?_
          exact K _ (by rw [if_neg (nt_of c_22)]; rfl)
  · skip
    intro H locs ls hM hS hl
    have hM : CW D cA o g (lpX0_hand_7_r u of da).2.1 H := hM
    have hl : lv_has ls 6 [(3, .int ((lpX0_hand_7_r u of da).2.2)), (0, .ref o), (1, .int of), (2, .int da)] := hl
    refine lv_iconst (v := 0) hx hb dX0_hand_120 (by decide) ?_
    refine lv_istore_n (lv' := [(3, .int 0), (0, .ref o), (1, .int of), (2, .int da)]) hx hb dX0_hand_121 rfl hl (by decide) rfl (fun ls hl => ?_)
    refine cw_loop1 (rest := []) (nL := 6) (r := (lpX0_hand_122_r u of da)) (lpX0_hand_122 u of da) I_122 (fun q => q.1) (fun q => [(3, .int q.2), (0, .ref o), (1, .int of), (2, .int da)]) 122 288 25 ((lpX0_hand_7_r u of da).2.1, 0) hN6.2.1 hN6.1 hN6.2.2 rfl ?_ hM hS (lv_sub hl [0, 1, 2, 3] rfl) ?_
    · skip
      intro ⟨v, p⟩ hI_122 H locs ls hM hS hl kb k1
      have hM : CW D cA o g v H := hM
      have hl : lv_has ls 6 [(3, .int p), (0, .ref o), (1, .int of), (2, .int da)] := hl
      refine lv_iload_n hx hb dX0_hand_122 rfl (lv_at hl 0 rfl) ?_
      refine lv_aload_n hx hb dX0_hand_123 rfl (lv_at hl 1 rfl) ?_
      refine cw_get (v := .int (v.1 13)) hx hb hts hown hK hM 13 (by decide) q202 rfl rfl dX0_hand_124 ?_
      refine lv_icmp_ge (tgt := 288) hx hb dX0_hand_127 (by decide) (fun c_127 => ?_) (fun c_127 => ?_)
      · skip
        have hs : lpX0_hand_122 u of da (v, p) = (1, v, p) := by rw [lpX0_hand_122, if_pos c_127]
        rw [hs] at k1
        exact k1 (show ¬ (1 : Nat) = 0 by decide) _ _ _ hM hS (lv_sub hl [0, 1, 2, 3] rfl)
      · skip
        refine lv_aload_n hx hb dX0_hand_130 rfl (lv_at hl 1 rfl) ?_
        refine cw_get (v := .ref (cAd o 25)) hx hb hts hown hK hM 25 (by decide) q214 rfl rfl dX0_hand_131 ?_
        refine lv_iload_n hx hb dX0_hand_134 rfl (lv_at hl 0 rfl) ?_
        refine cw_lld (v := v.2.2 25 p.toNatClampNeg) (j := p.toNatClampNeg) hx hb hK hM 25 (by decide) rfl rfl (hN7 v p hI_122 c_127) rfl rfl dX0_hand_135 ?_
        refine lv_lconst (v := 0) hx hb dX0_hand_136 (by decide) ?_
        refine W.lcmp hx hb dX0_hand_137 ?_
        refine lv_L_eq (tgt := 282) hx hb dX0_hand_138 (by decide) (fun c_138 => ?_) (fun c_138 => ?_)
        · skip
          refine lv_iinc (v := p + 1) (lv' := [(3, .int (p + 1)), (0, .ref o), (1, .int of), (2, .int da)]) hx hb dX0_hand_282 hl (k := 0) rfl (rfl) (by decide) rfl (fun ls hl => ?_)
          refine lv_goto (tgt := 122) hx hb dX0_hand_285 (by decide) ?_
          have hs : lpX0_hand_122 u of da (v, p) = (0, v, p + 1) := by rw [lpX0_hand_122, if_neg c_127, if_pos c_138]
          rw [hs] at kb
          exact kb rfl _ _ _ hM hS (lv_sub hl [0, 1, 2, 3] rfl)
        · skip
          refine lv_aload_n hx hb dX0_hand_141 rfl (lv_at hl 1 rfl) ?_
          refine lv_iload_n hx hb dX0_hand_142 rfl (lv_at hl 0 rfl) ?_
          refine lv_iload_n hx hb dX0_hand_143 rfl (lv_at hl 3 rfl) ?_
          refine ro_call (cw_run (n := 2) (As := [.int p, .int da]) (rest := []) hx hb hml hown hts (metX0_isDead l D cA o g v p da (hN8 v p hI_122 c_127 c_138)) q1223 q1196 qs25 q1197 (by decide +kernel) (by decide) (by decide) rfl hK hM hl.1 (Nat.le_of_ble_eq_true rfl) rfl dX0_hand_144 ⟨Nat.le_refl _, Nat.le_refl _⟩) ?_
          refine lv_B_ne (tgt := 153) hx hb dX0_hand_147 (by decide) (fun c_147 => ?_) (fun c_147 => ?_)
          · skip
            refine lv_iconst (v := 0) hx hb dX0_hand_153 (by decide) ?_
            refine lv_istore (lv' := [(4, .int 0), (3, .int p), (0, .ref o), (1, .int of), (2, .int da)]) hx hb dX0_hand_154 hl (by decide) rfl (fun ls hl => ?_)
            refine lv_iload_n hx hb dX0_hand_156 rfl (lv_at hl 1 rfl) ?_
            refine lv_iconst (v := 1) hx hb dX0_hand_157 (by decide) ?_
            refine lv_iadd hx hb dX0_hand_158 ?_
            refine lv_istore (lv' := [(5, .int (p + 1)), (4, .int 0), (3, .int p), (0, .ref o), (1, .int of), (2, .int da)]) hx hb dX0_hand_159 hl (by decide) rfl (fun ls hl => ?_)
            refine r_loop1 (rest := []) (nL := 6) (r := (lpX0_hand_161_r u of da v p)) (lpX0_hand_161 u of da v p) (I_161 v p) (fun q => [(4, .int q.1), (5, .int q.2), (3, .int p), (0, .ref o), (1, .int of), (2, .int da)]) 161 206 25 (0, p + 1) (hN9 v p hI_122 c_127 c_138 c_147).2.1 (hN9 v p hI_122 c_127 c_138 c_147).1 (hN9 v p hI_122 c_127 c_138 c_147).2.2 rfl ?_ (lv_sub hl [1, 0, 2, 3, 4, 5] rfl) ?_
            · skip
              intro ⟨nn, c⟩ hI_161 ls hl kb k1
              have hl : lv_has ls 6 [(4, .int nn), (5, .int c), (3, .int p), (0, .ref o), (1, .int of), (2, .int da)] := hl
              refine lv_iload hx hb dX0_hand_161 (lv_at hl 1 rfl) ?_
              refine lv_aload_n hx hb dX0_hand_163 rfl (lv_at hl 3 rfl) ?_
              refine cw_get (v := .int (v.1 13)) hx hb hts hown hK hM 13 (by decide) q202 rfl rfl dX0_hand_164 ?_
              refine lv_icmp_ge (tgt := 206) hx hb dX0_hand_167 (by decide) (fun c_167 => ?_) (fun c_167 => ?_)
              · skip
                have hs : lpX0_hand_161 u of da v p (nn, c) = (1, nn, c) := by rw [lpX0_hand_161, if_pos c_167]
                rw [hs] at k1
                exact k1 (show ¬ (1 : Nat) = 0 by decide) _ (lv_sub hl [0, 1, 2, 3, 4, 5] rfl)
              · skip
                refine lv_iload hx hb dX0_hand_170 (lv_at hl 0 rfl) ?_
                refine lv_aload_n hx hb dX0_hand_172 rfl (lv_at hl 3 rfl) ?_
                refine lv_iload hx hb dX0_hand_173 (lv_at hl 1 rfl) ?_
                refine lv_iload_n hx hb dX0_hand_175 rfl (lv_at hl 2 rfl) ?_
                refine ro_call (cw_run (n := 2) (As := [.int c, .int p]) (rest := [.int nn]) hx hb hml hown hts (metX0_isChild l D cA o g v c p (hN10 v p hI_122 c_127 c_138 c_147 nn c hI_161 c_167)) q1224 q1226 qs27 q1227 (by decide +kernel) (by decide) (by decide) rfl hK hM hl.1 (Nat.le_of_ble_eq_true rfl) rfl dX0_hand_176 ⟨Nat.le_refl _, Nat.le_refl _⟩) ?_
                refine w_ji (ls := ls) (rest := [.int nn]) (E := b2 (if (fX0_isChild v c p) = true then (if (v.2.1 27 c.toNatClampNeg) = 0 then false else true) else false)) 197 ?_ (fun K => ?_)
                · skip
                  refine lv_iadd hx hb dX0_hand_197 ?_
                  refine lv_istore (lv' := [(4, .int (nn + (b2 (if (fX0_isChild v c p) = true then (if (v.2.1 27 c.toNatClampNeg) = 0 then false else true) else false)))), (5, .int c), (3, .int p), (0, .ref o), (1, .int of), (2, .int da)]) hx hb dX0_hand_198 hl (by decide) rfl (fun ls hl => ?_)
                  refine lv_iinc (v := c + 1) (lv' := [(5, .int (c + 1)), (4, .int (nn + (b2 (if (fX0_isChild v c p) = true then (if (v.2.1 27 c.toNatClampNeg) = 0 then false else true) else false)))), (3, .int p), (0, .ref o), (1, .int of), (2, .int da)]) hx hb dX0_hand_200 hl (k := 1) rfl (rfl) (by decide) rfl (fun ls hl => ?_)
                  refine lv_goto (tgt := 161) hx hb dX0_hand_203 (by decide) ?_
                  have hs : lpX0_hand_161 u of da v p (nn, c) = (0, nn + (b2 (if (fX0_isChild v c p) = true then (if (v.2.1 27 c.toNatClampNeg) = 0 then false else true) else false)), c + 1) := by rw [lpX0_hand_161, if_neg c_167]
                  rw [hs] at kb
                  exact kb rfl _ (lv_sub hl [1, 0, 2, 3, 4, 5] rfl)
                · skip
                  refine lv_B_eq (tgt := 196) hx hb dX0_hand_179 (by decide) (fun c_179 => ?_) (fun c_179 => ?_)
                  · skip
                    refine lv_iconst (v := 0) hx hb dX0_hand_196 (by decide) ?_
                    exact K _ (by rw [if_neg (nt_of c_179)]; rfl)
                  · skip
                    refine lv_aload_n hx hb dX0_hand_182 rfl (lv_at hl 3 rfl) ?_
                    refine cw_get (v := .ref (cAd o 27)) hx hb hts hown hK hM 27 (by decide) q216 rfl rfl dX0_hand_183 ?_
                    refine lv_iload hx hb dX0_hand_186 (lv_at hl 1 rfl) ?_
                    refine cw_zld (v := v.2.1 27 c.toNatClampNeg) (j := c.toNatClampNeg) hx hb hK hM 27 (by decide) rfl rfl (hN11 v p hI_122 c_127 c_138 c_147 nn c hI_161 c_167 c_179) rfl rfl dX0_hand_188 ?_
                    refine lv_if_eq (tgt := 196) hx hb dX0_hand_189 (by decide) (fun c_189 => ?_) (fun c_189 => ?_)
                    · skip
                      refine lv_iconst (v := 0) hx hb dX0_hand_196 (by decide) ?_
                      exact K _ (by rw [if_pos c_179, if_pos c_189]; rfl)
                    · skip
                      refine lv_iconst (v := 1) hx hb dX0_hand_192 (by decide) ?_
                      refine lv_goto (tgt := 197) hx hb dX0_hand_193 (by decide) ?_
                      exact K _ (by rw [if_pos c_179, if_neg c_189]; rfl)
            · skip
              intro ls hl
              have hl : lv_has ls 6 [(4, .int ((lpX0_hand_161_r u of da v p).2.1)), (5, .int ((lpX0_hand_161_r u of da v p).2.2)), (3, .int p), (0, .ref o), (1, .int of), (2, .int da)] := hl
              refine lv_iload_n hx hb dX0_hand_206 rfl (lv_at hl 2 rfl) ?_
              refine lv_iconst (v := 1) hx hb dX0_hand_207 (by decide) ?_
              refine lv_iadd hx hb dX0_hand_208 ?_
              refine lv_istore (lv' := [(5, .int (p + 1)), (4, .int ((lpX0_hand_161_r u of da v p).2.1)), (3, .int p), (0, .ref o), (1, .int of), (2, .int da)]) hx hb dX0_hand_209 hl (by decide) rfl (fun ls hl => ?_)
              refine cw_loop1 (rest := []) (nL := 6) (r := (lpX0_hand_211_r u of da v p)) (lpX0_hand_211 u of da v p) (I_211 v p) (fun q => q.1) (fun q => [(5, .int q.2), (4, .int ((lpX0_hand_161_r u of da v p).2.1)), (3, .int p), (0, .ref o), (1, .int of), (2, .int da)]) 211 268 25 (v, p + 1) (hN12 v p hI_122 c_127 c_138 c_147).2.1 (hN12 v p hI_122 c_127 c_138 c_147).1 (hN12 v p hI_122 c_127 c_138 c_147).2.2 rfl ?_ hM hS (lv_sub hl [0, 1, 2, 3, 4, 5] rfl) ?_
              · skip
                intro ⟨w, c⟩ hI_211 H locs ls hM hS hl kb k1
                have hM : CW D cA o g w H := hM
                have hl : lv_has ls 6 [(5, .int c), (4, .int ((lpX0_hand_161_r u of da v p).2.1)), (3, .int p), (0, .ref o), (1, .int of), (2, .int da)] := hl
                refine lv_iload hx hb dX0_hand_211 (lv_at hl 0 rfl) ?_
                refine lv_aload_n hx hb dX0_hand_213 rfl (lv_at hl 3 rfl) ?_
                refine cw_get (v := .int (w.1 13)) hx hb hts hown hK hM 13 (by decide) q202 rfl rfl dX0_hand_214 ?_
                refine lv_icmp_ge (tgt := 268) hx hb dX0_hand_217 (by decide) (fun c_217 => ?_) (fun c_217 => ?_)
                · skip
                  have hs : lpX0_hand_211 u of da v p (w, c) = (1, w, c) := by rw [lpX0_hand_211, if_pos c_217]
                  rw [hs] at k1
                  exact k1 (show ¬ (1 : Nat) = 0 by decide) _ _ _ hM hS (lv_sub hl [0, 1, 2, 3, 4, 5] rfl)
                · skip
                  refine lv_aload_n hx hb dX0_hand_220 rfl (lv_at hl 3 rfl) ?_
                  refine lv_iload hx hb dX0_hand_221 (lv_at hl 0 rfl) ?_
                  refine lv_iload_n hx hb dX0_hand_223 rfl (lv_at hl 2 rfl) ?_
                  refine ro_call (cw_run (n := 2) (As := [.int c, .int p]) (rest := []) hx hb hml hown hts (metX0_isChild l D cA o g w c p (hN13 v p hI_122 c_127 c_138 c_147 w c hI_211 c_217)) q1224 q1226 qs27 q1227 (by decide +kernel) (by decide) (by decide) rfl hK hM hl.1 (Nat.le_of_ble_eq_true rfl) rfl dX0_hand_224 ⟨Nat.le_refl _, Nat.le_refl _⟩) ?_
                  refine lv_B_eq (tgt := 262) hx hb dX0_hand_227 (by decide) (fun c_227 => ?_) (fun c_227 => ?_)
                  · skip
                    refine lv_iinc (v := c + 1) (lv' := [(5, .int (c + 1)), (4, .int ((lpX0_hand_161_r u of da v p).2.1)), (3, .int p), (0, .ref o), (1, .int of), (2, .int da)]) hx hb dX0_hand_262 hl (k := 0) rfl (rfl) (by decide) rfl (fun ls hl => ?_)
                    refine lv_goto (tgt := 211) hx hb dX0_hand_265 (by decide) ?_
                    have hs : lpX0_hand_211 u of da v p (w, c) = (0, w, c + 1) := by rw [lpX0_hand_211, if_neg c_217, if_neg (nt_of c_227)]
                    rw [hs] at kb
                    exact kb rfl _ _ _ hM hS (lv_sub hl [0, 1, 2, 3, 4, 5] rfl)
                  · skip
                    refine lv_aload_n hx hb dX0_hand_230 rfl (lv_at hl 3 rfl) ?_
                    refine cw_get (v := .ref (cAd o 27)) hx hb hts hown hK hM 27 (by decide) q216 rfl rfl dX0_hand_231 ?_
                    refine lv_iload hx hb dX0_hand_234 (lv_at hl 0 rfl) ?_
                    refine cw_zld (v := w.2.1 27 c.toNatClampNeg) (j := c.toNatClampNeg) hx hb hK hM 27 (by decide) rfl rfl (hN14 v p hI_122 c_127 c_138 c_147 w c hI_211 c_217 c_227) rfl rfl dX0_hand_236 ?_
                    refine lv_if_eq (tgt := 262) hx hb dX0_hand_237 (by decide) (fun c_237 => ?_) (fun c_237 => ?_)
                    · skip
                      refine lv_iinc (v := c + 1) (lv' := [(5, .int (c + 1)), (4, .int ((lpX0_hand_161_r u of da v p).2.1)), (3, .int p), (0, .ref o), (1, .int of), (2, .int da)]) hx hb dX0_hand_262 hl (k := 0) rfl (rfl) (by decide) rfl (fun ls hl => ?_)
                      refine lv_goto (tgt := 211) hx hb dX0_hand_265 (by decide) ?_
                      have hs : lpX0_hand_211 u of da v p (w, c) = (0, w, c + 1) := by rw [lpX0_hand_211, if_neg c_217, if_pos c_227, if_pos c_237]
                      rw [hs] at kb
                      exact kb rfl _ _ _ hM hS (lv_sub hl [0, 1, 2, 3, 4, 5] rfl)
                    · skip
                      refine lv_aload_n hx hb dX0_hand_240 rfl (lv_at hl 3 rfl) ?_
                      refine lv_iload hx hb dX0_hand_241 (lv_at hl 0 rfl) ?_
                      refine lv_aload_n hx hb dX0_hand_243 rfl (lv_at hl 3 rfl) ?_
                      refine cw_get (v := .ref (cAd o 25)) hx hb hts hown hK hM 25 (by decide) q214 rfl rfl dX0_hand_244 ?_
                      refine lv_iload_n hx hb dX0_hand_247 rfl (lv_at hl 2 rfl) ?_
                      refine cw_lld (v := w.2.2 25 p.toNatClampNeg) (j := p.toNatClampNeg) hx hb hK hM 25 (by decide) rfl rfl (hN7 v p hI_122 c_127) rfl rfl dX0_hand_248 ?_
                      refine lv_aload_n hx hb dX0_hand_249 rfl (lv_at hl 3 rfl) ?_
                      refine cw_get (v := .ref (cAd o 26)) hx hb hts hown hK hM 26 (by decide) q215 rfl rfl dX0_hand_250 ?_
                      refine lv_iload_n hx hb dX0_hand_253 rfl (lv_at hl 2 rfl) ?_
                      refine cw_lld (v := w.2.2 26 p.toNatClampNeg) (j := p.toNatClampNeg) hx hb hK hM 26 (by decide) rfl rfl (hN7 v p hI_122 c_127) rfl rfl dX0_hand_254 ?_
                      refine lv_iload hx hb dX0_hand_255 (lv_at hl 1 rfl) ?_
                      refine lv_i2l hx hb dX0_hand_257 rfl ?_
                      refine lv_lmul hx hb dX0_hand_258 ?_
                      refine cw_call (cw_run (n := 3) (As := [.int c, .long (w.2.2 25 p.toNatClampNeg), .long ((w.2.2 26 p.toNatClampNeg) * (((lpX0_hand_161_r u of da v p).2.1).toInt64))]) (rest := []) hx hb hml hown hts (metX0_add l D cA o g w c (w.2.2 25 p.toNatClampNeg) ((w.2.2 26 p.toNatClampNeg) * (((lpX0_hand_161_r u of da v p).2.1).toInt64)) (hN15 v p hI_122 c_127 c_138 c_147 w c hI_211 c_217 c_227 c_237)) q1228 q1230 qs28 q1231 (by decide +kernel) (by decide) (by decide) rfl hK hM hl.1 (Nat.le_of_ble_eq_true rfl) rfl dX0_hand_259 ⟨Nat.le_refl _, Nat.le_refl _⟩) hS (fun _ h => h) (fun H locs hM _ _ hS => ?_)
                      refine lv_iinc (v := c + 1) (lv' := [(5, .int (c + 1)), (4, .int ((lpX0_hand_161_r u of da v p).2.1)), (3, .int p), (0, .ref o), (1, .int of), (2, .int da)]) hx hb dX0_hand_262 hl (k := 0) rfl (rfl) (by decide) rfl (fun ls hl => ?_)
                      refine lv_goto (tgt := 211) hx hb dX0_hand_265 (by decide) ?_
                      have hs : lpX0_hand_211 u of da v p (w, c) = (0, (fX0_add w c (w.2.2 25 p.toNatClampNeg) ((w.2.2 26 p.toNatClampNeg) * (((lpX0_hand_161_r u of da v p).2.1).toInt64))), c + 1) := by rw [lpX0_hand_211, if_neg c_217, if_pos c_227, if_neg c_237]
                      rw [hs] at kb
                      exact kb rfl _ _ _ hM hS (lv_sub hl [0, 1, 2, 3, 4, 5] rfl)
              · skip
                intro H locs ls hM hS hl
                have hM : CW D cA o g (lpX0_hand_211_r u of da v p).2.1 H := hM
                have hl : lv_has ls 6 [(5, .int ((lpX0_hand_211_r u of da v p).2.2)), (4, .int ((lpX0_hand_161_r u of da v p).2.1)), (3, .int p), (0, .ref o), (1, .int of), (2, .int da)] := hl
                refine lv_aload_n hx hb dX0_hand_268 rfl (lv_at hl 3 rfl) ?_
                refine cw_get (v := .ref (cAd o 25)) hx hb hts hown hK hM 25 (by decide) q214 rfl rfl dX0_hand_269 ?_
                refine lv_iload_n hx hb dX0_hand_272 rfl (lv_at hl 2 rfl) ?_
                refine lv_lconst (v := 0) hx hb dX0_hand_273 (by decide) ?_
                refine cw_lst (j := p.toNatClampNeg) hx hb hK hM hS 25 (by decide) rfl rfl (hN7 v p hI_122 c_127) rfl dX0_hand_274 (fun H locs hM hS => ?_)
                refine lv_aload_n hx hb dX0_hand_275 rfl (lv_at hl 3 rfl) ?_
                refine cw_get (v := .ref (cAd o 26)) hx hb hts hown hK hM 26 (by decide) q215 rfl rfl dX0_hand_276 ?_
                refine lv_iload_n hx hb dX0_hand_279 rfl (lv_at hl 2 rfl) ?_
                refine lv_lconst (v := 1) hx hb dX0_hand_280 (by decide) ?_
                refine cw_lst (j := p.toNatClampNeg) hx hb hK hM hS 26 (by decide) rfl rfl (hN7 v p hI_122 c_127) rfl dX0_hand_281 (fun H locs hM hS => ?_)
                refine lv_iinc (v := p + 1) (lv' := [(3, .int (p + 1)), (5, .int ((lpX0_hand_211_r u of da v p).2.2)), (4, .int ((lpX0_hand_161_r u of da v p).2.1)), (0, .ref o), (1, .int of), (2, .int da)]) hx hb dX0_hand_282 hl (k := 2) rfl (rfl) (by decide) rfl (fun ls hl => ?_)
                refine lv_goto (tgt := 122) hx hb dX0_hand_285 (by decide) ?_
                have hs : lpX0_hand_122 u of da (v, p) = (0, (sl (sl (lpX0_hand_211_r u of da v p).2.1 25 p.toNatClampNeg 0) 26 p.toNatClampNeg 1), p + 1) := by rw [lpX0_hand_122, if_neg c_127, if_neg c_138, if_pos c_147]
                rw [hs] at kb
                exact kb rfl _ _ _ hM hS (lv_sub hl [0, 3, 4, 5] rfl)
          · skip
            refine lv_goto (tgt := 282) hx hb dX0_hand_150 (by decide) ?_
            refine lv_iinc (v := p + 1) (lv' := [(3, .int (p + 1)), (0, .ref o), (1, .int of), (2, .int da)]) hx hb dX0_hand_282 hl (k := 0) rfl (rfl) (by decide) rfl (fun ls hl => ?_)
            refine lv_goto (tgt := 122) hx hb dX0_hand_285 (by decide) ?_
            have hs : lpX0_hand_122 u of da (v, p) = (0, v, p + 1) := by rw [lpX0_hand_122, if_neg c_127, if_neg c_138, if_neg (nt_of c_147)]
            rw [hs] at kb
            exact kb rfl _ _ _ hM hS (lv_sub hl [0, 1, 2, 3] rfl)
    · skip
      intro H locs ls hM hS hl
      have hM : CW D cA o g (lpX0_hand_122_r u of da).2.1 H := hM
      have hl : lv_has ls 6 [(3, .int ((lpX0_hand_122_r u of da).2.2)), (0, .ref o), (1, .int of), (2, .int da)] := hl
      have hF : fX0_hand u of da = (lpX0_hand_122_r u of da).2.1 := by rw [fX0_hand]
      exact cw_vret hx hb hr hlk hM hS (by rw [hF]) dX0_hand_288

def fX0_share (u : St) (of : Int32) (pe : Int32) (da : Int32) (pt : Int32) : Int64 × St :=
  if (fX0_isPerson u of) = true then (if (fX0_isPerson u pe) = true then (if (fX0_isDay da) = true then (if pt < 0 then ((-1), u) else (if pt ≤ 1 then (if pt = 0 then ((fX0_hand u of da).2.2 25 pe.toNatClampNeg, (fX0_hand u of da)) else ((fX0_hand u of da).2.2 26 pe.toNatClampNeg, (fX0_hand u of da))) else ((-1), u))) else ((-1), u)) else ((-1), u)) else ((-1), u)
def okX0_share (n : Nat) (u : St) (of : Int32) (pe : Int32) (da : Int32) (pt : Int32) : Prop :=
  ((fX0_isPerson u of) = true → (fX0_isPerson u pe) = true → (fX0_isDay da) = true → ¬ (pt < 0) → pt ≤ 1 → okX0_hand n u of da) ∧ ((fX0_isPerson u of) = true → (fX0_isPerson u pe) = true → (fX0_isDay da) = true → ¬ (pt < 0) → pt ≤ 1 → ¬ (pt = 0) → vp_in pe 24) ∧ ((fX0_isPerson u of) = true → (fX0_isPerson u pe) = true → (fX0_isDay da) = true → ¬ (pt < 0) → pt ≤ 1 → pt = 0 → vp_in pe 24)
set_option maxHeartbeats 4000000 in
theorem metX0_share (l : Launch) (D : va_G) (cA : Nat → ClassId) (o : Nat) (g : Gh) (u : St) (of : Int32) (pe : Int32) (da : Int32) (pt : Int32) (hok : okX0_share g.1 u of pe da pt) : CetM l yX0_share cX0_share 5 (some .long) 103 D cA o g u [.ref o, .int of, .int pe, .int da, .int pt] (some (.long (fX0_share u of pe da pt).1)) (fX0_share u of pe da pt).2 := by
  obtain ⟨hN0, hN1, hN2⟩ := hok
  refine cM_start RX0 (by decide) rfl (Nat.le_of_ble_eq_true rfl) ?_
  intro pg ev s0 mi bl me co hx hb hml hown hts hr hlk hK hM ls hl
  have hl : lv_has ls 5 [(0, .ref o), (1, .int of), (2, .int pe), (3, .int da), (4, .int pt)] := hl
  have hS : va_S (cF o g) s0.heap s0.heap [] := va_S.rf
  refine lv_aload_n hx hb dX0_share_0 rfl (lv_at hl 0 rfl) ?_
  refine lv_iload_n hx hb dX0_share_1 rfl (lv_at hl 1 rfl) ?_
  refine ro_call (cw_run (n := 1) (As := [.int of]) (rest := []) hx hb hml hown hts (metX0_isPerson l D cA o g u of) q289 q291 qs0 q292 (by decide +kernel) (by decide) (by decide) rfl hK hM hl.1 (Nat.le_of_ble_eq_true rfl) rfl dX0_share_2 ⟨Nat.le_refl _, Nat.le_refl _⟩) ?_
  refine lv_B_eq (tgt := 34) hx hb dX0_share_5 (by decide) (fun c_5 => ?_) (fun c_5 => ?_)
  · skip
    refine lv_ldc2 (v := (-1)) hx hb hown (hts _ q317) dX0_share_34 ?_
    have hF : fX0_share u of pe da pt = ((-1), u) := by rw [fX0_share, if_neg (nt_of c_5)]
    exact cw_lret hx hb hr hlk hM hS (by rw [hF]) (by rw [hF]) dX0_share_37
  · skip
    refine lv_aload_n hx hb dX0_share_8 rfl (lv_at hl 0 rfl) ?_
    refine lv_iload_n hx hb dX0_share_9 rfl (lv_at hl 2 rfl) ?_
    refine ro_call (cw_run (n := 1) (As := [.int pe]) (rest := []) hx hb hml hown hts (metX0_isPerson l D cA o g u pe) q289 q291 qs0 q292 (by decide +kernel) (by decide) (by decide) rfl hK hM hl.1 (Nat.le_of_ble_eq_true rfl) rfl dX0_share_10 ⟨Nat.le_refl _, Nat.le_refl _⟩) ?_
    refine lv_B_eq (tgt := 34) hx hb dX0_share_13 (by decide) (fun c_13 => ?_) (fun c_13 => ?_)
    · skip
      refine lv_ldc2 (v := (-1)) hx hb hown (hts _ q317) dX0_share_34 ?_
      have hF : fX0_share u of pe da pt = ((-1), u) := by rw [fX0_share, if_pos c_5, if_neg (nt_of c_13)]
      exact cw_lret hx hb hr hlk hM hS (by rw [hF]) (by rw [hF]) dX0_share_37
    · skip
      refine lv_iload_n hx hb dX0_share_16 rfl (lv_at hl 3 rfl) ?_
      refine ro_call (st_run (n := 1) (As := [.int da]) (rest := []) hx hb hml hown hts (metX0_isDay l da) q297 q298 q64 q299 (by decide +kernel) (by decide) (by decide) rfl hl.1 (Nat.le_of_ble_eq_true rfl) rfl dX0_share_17 ⟨Nat.le_refl _, Nat.le_refl _⟩) ?_
      refine lv_B_eq (tgt := 34) hx hb dX0_share_20 (by decide) (fun c_20 => ?_) (fun c_20 => ?_)
      · skip
        refine lv_ldc2 (v := (-1)) hx hb hown (hts _ q317) dX0_share_34 ?_
        have hF : fX0_share u of pe da pt = ((-1), u) := by rw [fX0_share, if_pos c_5, if_pos c_13, if_neg (nt_of c_20)]
        exact cw_lret hx hb hr hlk hM hS (by rw [hF]) (by rw [hF]) dX0_share_37
      · skip
        refine lv_iload hx hb dX0_share_23 (lv_at hl 4 rfl) ?_
        refine lv_if_lt (tgt := 34) hx hb dX0_share_25 (by decide) (fun c_25 => ?_) (fun c_25 => ?_)
        · skip
          refine lv_ldc2 (v := (-1)) hx hb hown (hts _ q317) dX0_share_34 ?_
          have hF : fX0_share u of pe da pt = ((-1), u) := by rw [fX0_share, if_pos c_5, if_pos c_13, if_pos c_20, if_pos c_25]
          exact cw_lret hx hb hr hlk hM hS (by rw [hF]) (by rw [hF]) dX0_share_37
        · skip
          refine lv_iload hx hb dX0_share_28 (lv_at hl 4 rfl) ?_
          refine lv_iconst (v := 1) hx hb dX0_share_30 (by decide) ?_
          refine lv_icmp_le (tgt := 38) hx hb dX0_share_31 (by decide) (fun c_31 => ?_) (fun c_31 => ?_)
          · skip
            refine lv_aload_n hx hb dX0_share_38 rfl (lv_at hl 0 rfl) ?_
            refine lv_iload_n hx hb dX0_share_39 rfl (lv_at hl 1 rfl) ?_
            refine lv_iload_n hx hb dX0_share_40 rfl (lv_at hl 3 rfl) ?_
            refine cw_call (cw_run (n := 2) (As := [.int of, .int da]) (rest := []) hx hb hml hown hts (metX0_hand l D cA o g u of da (hN0 c_5 c_13 c_20 c_25 c_31)) q1219 q1221 qs26 q1222 (by decide +kernel) (by decide) (by decide) rfl hK hM hl.1 (Nat.le_of_ble_eq_true rfl) rfl dX0_share_41 ⟨Nat.le_refl _, Nat.le_refl _⟩) hS (fun _ h => h) (fun H locs hM _ _ hS => ?_)
            refine lv_iload hx hb dX0_share_44 (lv_at hl 4 rfl) ?_
            refine lv_if_ne (tgt := 58) hx hb dX0_share_46 (by decide) (fun c_46 => ?_) (fun c_46 => ?_)
            · skip
              refine lv_aload_n hx hb dX0_share_58 rfl (lv_at hl 0 rfl) ?_
              refine cw_get (v := .ref (cAd o 26)) hx hb hts hown hK hM 26 (by decide) q215 rfl rfl dX0_share_59 ?_
              refine lv_iload_n hx hb dX0_share_62 rfl (lv_at hl 2 rfl) ?_
              refine cw_lld (v := (fX0_hand u of da).2.2 26 pe.toNatClampNeg) (j := pe.toNatClampNeg) hx hb hK hM 26 (by decide) rfl rfl (hN1 c_5 c_13 c_20 c_25 c_31 c_46) rfl rfl dX0_share_63 ?_
              have hF : fX0_share u of pe da pt = ((fX0_hand u of da).2.2 26 pe.toNatClampNeg, (fX0_hand u of da)) := by rw [fX0_share, if_pos c_5, if_pos c_13, if_pos c_20, if_neg c_25, if_pos c_31, if_neg c_46]
              exact cw_lret hx hb hr hlk hM hS (by rw [hF]) (by rw [hF]) dX0_share_64
            · skip
              refine lv_aload_n hx hb dX0_share_49 rfl (lv_at hl 0 rfl) ?_
              refine cw_get (v := .ref (cAd o 25)) hx hb hts hown hK hM 25 (by decide) q214 rfl rfl dX0_share_50 ?_
              refine lv_iload_n hx hb dX0_share_53 rfl (lv_at hl 2 rfl) ?_
              refine cw_lld (v := (fX0_hand u of da).2.2 25 pe.toNatClampNeg) (j := pe.toNatClampNeg) hx hb hK hM 25 (by decide) rfl rfl (hN2 c_5 c_13 c_20 c_25 c_31 c_46) rfl rfl dX0_share_54 ?_
              refine lv_goto (tgt := 64) hx hb dX0_share_55 (by decide) ?_
              have hF : fX0_share u of pe da pt = ((fX0_hand u of da).2.2 25 pe.toNatClampNeg, (fX0_hand u of da)) := by rw [fX0_share, if_pos c_5, if_pos c_13, if_pos c_20, if_neg c_25, if_pos c_31, if_pos c_46]
              exact cw_lret hx hb hr hlk hM hS (by rw [hF]) (by rw [hF]) dX0_share_64
          · skip
            refine lv_ldc2 (v := (-1)) hx hb hown (hts _ q317) dX0_share_34 ?_
            have hF : fX0_share u of pe da pt = ((-1), u) := by rw [fX0_share, if_pos c_5, if_pos c_13, if_pos c_20, if_neg c_25, if_neg c_31]
            exact cw_lret hx hb hr hlk hM hS (by rw [hF]) (by rw [hF]) dX0_share_37
