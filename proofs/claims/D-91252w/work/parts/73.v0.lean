/-! What is known of a claim: the constants' methods. By tools/gen_v1.py -/
set_option maxRecDepth 100000
def kof (u : St) (k : Nat) : Int64 := match k with
  | 0 => if u.2.1 65 ((u.1 31).toNatClampNeg) = 1 then 1 else 0
  | 1 => if u.2.1 65 ((u.1 31).toNatClampNeg) = 2 then 1 else 0
  | 2 => fX0_inMoney u (u.2.1 66 ((u.1 31).toNatClampNeg)) (u.2.1 64 ((u.1 31).toNatClampNeg) / 365) 99
  | 3 => (u.2.1 9 (u.2.1 61 ((u.1 31).toNatClampNeg)).toNatClampNeg).toInt64
  | 4 => (u.2.1 64 ((u.1 31).toNatClampNeg) / 365).toInt64
  | 5 => (u.1 32).toInt64
  | 6 => (u.1 33).toInt64
  | 7 => if u.1 35 = 0 then 0 else 1
  | _ => if fX0_isDead u (u.2.1 62 ((u.1 31).toNatClampNeg)) (u.1 34) = true then 1 else 0
/-- a claim can be asked -/
def okK (n : Nat) (u : St) : Prop := pIn n (u.1 31) ∧ vp_in (u.2.1 61 ((u.1 31).toNatClampNeg)) 8 ∧ vp_in (u.2.1 62 ((u.1 31).toNatClampNeg)) 24 ∧ vp_in (u.2.1 64 ((u.1 31).toNatClampNeg) / 365) 100 ∧ ¬ (u.2.1 10 ((u.2.1 64 ((u.1 31).toNatClampNeg) / 365).toNatClampNeg)).toInt64 = 0
def mnL (x y : Int64) : Int64 := if y < x then y else x
def tvK (u : St) (k : Nat) : Int32 := (mnL 2147483647 (kof u k)).toInt32
section V0
variable {p : Program} {l : Launch} {e : Env} {s : State} {m : MethodId} {args : Array Value} {below : List Frame} {meth : Method} {c : Code} {H : Heap} {locs : List Loc} {cells slots : Nat} {pc : Nat} {ls : Array Slot} {rest : List Value} {cc : ByteArray} {κ : Kg} {o : Nat} {g : Gh} {u : St}
theorem c_runVN {own host : String} {y : MethodName} {b : ByteArray} {L d d' n idx nL mc ms : Nat} {ret : Option FieldType} {As : List Value} {v : Option Value} {st0 : List Value} (hexec : p.tables.exec = Jvm.exec) (hb : c.code = cc) (hml : c.maxLocals = nL) (hown : s.vm.findClass own = some m.cls) (hts : ∀ w ∈ lw_all, w.before args s = true)
    (hMet : Met l y (ws_ y b L ret) (rmC d' 0 0) (cP κ.D κ.cA o g u (.ref o :: As)) (rQ v) 0 0 noA) (h1 : Cond.methodLinkNest own idx y host ∈ nwl) (h2 : Cond.instanceMethod y ∈ lw_all) (h3 : Cond.selects RX0 y y ∈ lw_all) (h4 : Cond.initialized y.cls ∈ lw_all) (h5 : Cond.code y b L ret ∈ lw_all)
    (hd : y.cls ≠ "java/lang/invoke/MethodHandle" ∧ y.cls ≠ "java/lang/invoke/VarHandle" ∧ (parseMethodDescriptor y.desc).map (fun d => d.parameters.length) = some n) (hdd : d' < d) (hL : L ≤ 41) (hn : As.length = n) (hK : KZ κ s H) (hM : CW κ.D κ.cA o g u H) (hls : ls.size = nL) (hrest : (rest.map fun v => v.category).sum ≤ 8) (hst : st0 = As.reverse ++ .ref o :: rest) (hdg : decode cc pc = .ok (.invokevirtual idx, 3)) (hf : cells + 0 ≤ mc ∧ slots + 0 ≤ ms) :
    va_Run p l e (rmC d mc ms) s m args below meth c H locs cells slots 0 0 (F0 m pc ls st0) rest (rQ v (Value.ref o :: As).toArray) noA :=
  va_runVN (C := RX0) ⟨hexec, hb, hml, hown, hts⟩ hMet ⟨va_cnB n hts (lw_meth h5) rfl rfl rfl (hK.1.2.1 _ h1) (hts _ h4) hd (rmC_ok hdd hL), hts _ h2, hts _ h3⟩ ⟨cP_blind, ob_recv hK.1.1 (ci := 0) rfl hM.1, fun U hU hW => ⟨rfl, by rw [hU]; exact hM, va_K.moved hW.alike hK.1.1⟩⟩ rfl hn hls hst (lv_room hrest) hdg hf
end V0

set_option maxHeartbeats 4000000 in
theorem metX14_of (l : Launch) (κ : Kg) (o : Nat) (g : Gh) (u : St) (hok : okK g.1 u) : MetU l yX14_of (ws_ yX14_of cX14_of 3 (some .long)) (rmC 1 0 0) (xP κ (CW κ.D κ.cA o g u) [.ref (κ.kn 0), .ref o, .ref (cAd o 23)]) (rQ (some (.long (kof u 0)))) 0 0 noA := by
  refine xU_start RX14 (by decide) rfl (Nat.le_of_ble_eq_true rfl) ?_
  intro pg ev s0 mi bl me co hx hb hml hown hts hr hlk hK hM ls hl
  have hl : lv_has ls 3 [(0, .ref (κ.kn 0)), (1, .ref o), (2, .ref (cAd o 23))] := hl
  refine lv_aload_n hx hb dX14_of_0 rfl (lv_at hl 2 rfl) ?_
  refine cw_vget hx hb hts hown hK.1.1 hM 0 (by decide) q141 rfl rfl dX14_of_1 ?_
  refine cw_pget hx hb hts hown hK.1.1 hM 5 (by decide) hok.1 q350 rfl rfl dX14_of_4 ?_
  refine lv_iconst (v := 1) hx hb dX14_of_7 (by decide) ?_
  refine lv_icmp_ne (tgt := 15) hx hb dX14_of_8 (by decide) (fun c_8 => ?_) (fun c_8 => ?_)
  · skip
    refine lv_lconst (v := 0) hx hb dX14_of_15 (by decide) ?_
    exact lret_ro hx hb hr hlk (show _ = kof u 0 from (if_neg c_8).symm) dX14_of_16
  · skip
    refine lv_lconst (v := 1) hx hb dX14_of_11 (by decide) ?_
    refine lv_goto (tgt := 16) hx hb dX14_of_12 (by decide) ?_
    exact lret_ro hx hb hr hlk (show _ = kof u 0 from (if_pos c_8).symm) dX14_of_16

set_option maxHeartbeats 4000000 in
theorem metX15_of (l : Launch) (κ : Kg) (o : Nat) (g : Gh) (u : St) (hok : okK g.1 u) : MetU l yX15_of (ws_ yX15_of cX15_of 3 (some .long)) (rmC 1 0 0) (xP κ (CW κ.D κ.cA o g u) [.ref (κ.kn 1), .ref o, .ref (cAd o 23)]) (rQ (some (.long (kof u 1)))) 0 0 noA := by
  refine xU_start RX15 (by decide) rfl (Nat.le_of_ble_eq_true rfl) ?_
  intro pg ev s0 mi bl me co hx hb hml hown hts hr hlk hK hM ls hl
  have hl : lv_has ls 3 [(0, .ref (κ.kn 1)), (1, .ref o), (2, .ref (cAd o 23))] := hl
  refine lv_aload_n hx hb dX15_of_0 rfl (lv_at hl 2 rfl) ?_
  refine cw_vget hx hb hts hown hK.1.1 hM 0 (by decide) q142 rfl rfl dX15_of_1 ?_
  refine cw_pget hx hb hts hown hK.1.1 hM 5 (by decide) hok.1 q351 rfl rfl dX15_of_4 ?_
  refine lv_iconst (v := 2) hx hb dX15_of_7 (by decide) ?_
  refine lv_icmp_ne (tgt := 15) hx hb dX15_of_8 (by decide) (fun c_8 => ?_) (fun c_8 => ?_)
  · skip
    refine lv_lconst (v := 0) hx hb dX15_of_15 (by decide) ?_
    exact lret_ro hx hb hr hlk (show _ = kof u 1 from (if_neg c_8).symm) dX15_of_16
  · skip
    refine lv_lconst (v := 1) hx hb dX15_of_11 (by decide) ?_
    refine lv_goto (tgt := 16) hx hb dX15_of_12 (by decide) ?_
    exact lret_ro hx hb hr hlk (show _ = kof u 1 from (if_pos c_8).symm) dX15_of_16

set_option maxHeartbeats 4000000 in
theorem metX17_of (l : Launch) (κ : Kg) (o : Nat) (g : Gh) (u : St) (hok : okK g.1 u) : MetU l yX17_of (ws_ yX17_of cX17_of 3 (some .long)) (rmC 1 0 0) (xP κ (CW κ.D κ.cA o g u) [.ref (κ.kn 2), .ref o, .ref (cAd o 23)]) (rQ (some (.long (kof u 2)))) 0 0 noA := by
  refine xU_start RX17 (by decide) rfl (Nat.le_of_ble_eq_true rfl) ?_
  intro pg ev s0 mi bl me co hx hb hml hown hts hr hlk hK hM ls hl
  have hl : lv_has ls 3 [(0, .ref (κ.kn 2)), (1, .ref o), (2, .ref (cAd o 23))] := hl
  refine lv_aload_n hx hb dX17_of_0 rfl (lv_at hl 1 rfl) ?_
  refine lv_aload_n hx hb dX17_of_1 rfl (lv_at hl 2 rfl) ?_
  refine cw_vget hx hb hts hown hK.1.1 hM 0 (by decide) q144 rfl rfl dX17_of_2 ?_
  refine cw_pget hx hb hts hown hK.1.1 hM 6 (by decide) hok.1 q353 rfl rfl dX17_of_5 ?_
  refine lv_aload_n hx hb dX17_of_8 rfl (lv_at hl 2 rfl) ?_
  refine cw_vget hx hb hts hown hK.1.1 hM 0 (by decide) q144 rfl rfl dX17_of_9 ?_
  refine cw_pget hx hb hts hown hK.1.1 hM 4 (by decide) hok.1 q347 rfl rfl dX17_of_12 ?_
  refine lv_sipush (v := 365) hx hb dX17_of_15 (by decide) ?_
  refine lv_idiv hx hb dX17_of_18 (by decide) ?_
  refine lv_bipush (v := 99) hx hb dX17_of_19 (by decide) ?_
  refine ro_call (c_runVN (n := 3) (As := [.int (u.2.1 66 ((u.1 31).toNatClampNeg)), .int (u.2.1 64 ((u.1 31).toNatClampNeg) / 365), .int 99]) (rest := []) hx hb hml hown hts (metX0_inMoney l κ.D κ.cA o g u _ _ _ ⟨by unfold vp_in; decide, hok.2.2.2.1, hok.2.2.2.2⟩) nq1175 q320 qs1 q64 q321 (by decide +kernel) (by decide) (by decide) rfl hK hM hl.1 (Nat.le_of_ble_eq_true rfl) rfl dX17_of_21 ⟨Nat.le_refl _, Nat.le_refl _⟩) ?_
  exact lret_ro hx hb hr hlk (show _ = kof u 2 from rfl) dX17_of_24

set_option maxHeartbeats 4000000 in
theorem metX19_of (l : Launch) (κ : Kg) (o : Nat) (g : Gh) (u : St) (hok : okK g.1 u) : MetU l yX19_of (ws_ yX19_of cX19_of 3 (some .long)) (rmC 1 0 0) (xP κ (CW κ.D κ.cA o g u) [.ref (κ.kn 3), .ref o, .ref (cAd o 23)]) (rQ (some (.long (kof u 3)))) 0 0 noA := by
  refine xU_start RX19 (by decide) rfl (Nat.le_of_ble_eq_true rfl) ?_
  intro pg ev s0 mi bl me co hx hb hml hown hts hr hlk hK hM ls hl
  have hl : lv_has ls 3 [(0, .ref (κ.kn 3)), (1, .ref o), (2, .ref (cAd o 23))] := hl
  refine lv_aload_n hx hb dX19_of_0 rfl (lv_at hl 1 rfl) ?_
  refine ob_getN (C := RX0) (T := TX0) (N := 31) (ci := 0) (v := .ref (cAd o 9)) hx hb hts in_X0 hown hK.1.1 hM.1 rfl 9 (by decide) (hK.1.2.1 _ nq198) (fun x h => h) rfl dX19_of_1 ?_
  refine lv_aload_n hx hb dX19_of_4 rfl (lv_at hl 2 rfl) ?_
  refine cw_vget hx hb hts hown hK.1.1 hM 0 (by decide) q146 rfl rfl dX19_of_5 ?_
  refine cw_pget hx hb hts hown hK.1.1 hM 1 (by decide) hok.1 q338 rfl rfl dX19_of_8 ?_
  refine cw_ild hx hb hK.1.1 hM 9 (by decide) rfl (n := 8) rfl hok.2.1 rfl rfl dX19_of_11 ?_
  refine lv_i2l hx hb dX19_of_12 rfl ?_
  exact lret_ro hx hb hr hlk (show _ = kof u 3 from rfl) dX19_of_13

set_option maxHeartbeats 4000000 in
theorem metX16_of (l : Launch) (κ : Kg) (o : Nat) (g : Gh) (u : St) (hok : okK g.1 u) : MetU l yX16_of (ws_ yX16_of cX16_of 3 (some .long)) (rmC 1 0 0) (xP κ (CW κ.D κ.cA o g u) [.ref (κ.kn 4), .ref o, .ref (cAd o 23)]) (rQ (some (.long (kof u 4)))) 0 0 noA := by
  refine xU_start RX16 (by decide) rfl (Nat.le_of_ble_eq_true rfl) ?_
  intro pg ev s0 mi bl me co hx hb hml hown hts hr hlk hK hM ls hl
  have hl : lv_has ls 3 [(0, .ref (κ.kn 4)), (1, .ref o), (2, .ref (cAd o 23))] := hl
  refine lv_aload_n hx hb dX16_of_0 rfl (lv_at hl 2 rfl) ?_
  refine cw_vget hx hb hts hown hK.1.1 hM 0 (by decide) q143 rfl rfl dX16_of_1 ?_
  refine cw_pget hx hb hts hown hK.1.1 hM 4 (by decide) hok.1 q346 rfl rfl dX16_of_4 ?_
  refine lv_sipush (v := 365) hx hb dX16_of_7 (by decide) ?_
  refine lv_idiv hx hb dX16_of_10 (by decide) ?_
  refine lv_i2l hx hb dX16_of_11 rfl ?_
  exact lret_ro hx hb hr hlk (show _ = kof u 4 from rfl) dX16_of_12

set_option maxHeartbeats 4000000 in
theorem metX20_of (l : Launch) (κ : Kg) (o : Nat) (g : Gh) (u : St) (hok : okK g.1 u) : MetU l yX20_of (ws_ yX20_of cX20_of 3 (some .long)) (rmC 1 0 0) (xP κ (CW κ.D κ.cA o g u) [.ref (κ.kn 5), .ref o, .ref (cAd o 23)]) (rQ (some (.long (kof u 5)))) 0 0 noA := by
  refine xU_start RX20 (by decide) rfl (Nat.le_of_ble_eq_true rfl) ?_
  intro pg ev s0 mi bl me co hx hb hml hown hts hr hlk hK hM ls hl
  have hl : lv_has ls 3 [(0, .ref (κ.kn 5)), (1, .ref o), (2, .ref (cAd o 23))] := hl
  refine lv_aload_n hx hb dX20_of_0 rfl (lv_at hl 2 rfl) ?_
  refine cw_vget hx hb hts hown hK.1.1 hM 1 (by decide) q148 rfl rfl dX20_of_1 ?_
  refine lv_i2l hx hb dX20_of_4 rfl ?_
  exact lret_ro hx hb hr hlk (show _ = kof u 5 from rfl) dX20_of_5

set_option maxHeartbeats 4000000 in
theorem metX21_of (l : Launch) (κ : Kg) (o : Nat) (g : Gh) (u : St) (hok : okK g.1 u) : MetU l yX21_of (ws_ yX21_of cX21_of 3 (some .long)) (rmC 1 0 0) (xP κ (CW κ.D κ.cA o g u) [.ref (κ.kn 6), .ref o, .ref (cAd o 23)]) (rQ (some (.long (kof u 6)))) 0 0 noA := by
  refine xU_start RX21 (by decide) rfl (Nat.le_of_ble_eq_true rfl) ?_
  intro pg ev s0 mi bl me co hx hb hml hown hts hr hlk hK hM ls hl
  have hl : lv_has ls 3 [(0, .ref (κ.kn 6)), (1, .ref o), (2, .ref (cAd o 23))] := hl
  refine lv_aload_n hx hb dX21_of_0 rfl (lv_at hl 2 rfl) ?_
  refine cw_vget hx hb hts hown hK.1.1 hM 2 (by decide) q150 rfl rfl dX21_of_1 ?_
  refine lv_i2l hx hb dX21_of_4 rfl ?_
  exact lret_ro hx hb hr hlk (show _ = kof u 6 from rfl) dX21_of_5

set_option maxHeartbeats 4000000 in
theorem metX22_of (l : Launch) (κ : Kg) (o : Nat) (g : Gh) (u : St) (hok : okK g.1 u) : MetU l yX22_of (ws_ yX22_of cX22_of 3 (some .long)) (rmC 1 0 0) (xP κ (CW κ.D κ.cA o g u) [.ref (κ.kn 7), .ref o, .ref (cAd o 23)]) (rQ (some (.long (kof u 7)))) 0 0 noA := by
  refine xU_start RX22 (by decide) rfl (Nat.le_of_ble_eq_true rfl) ?_
  intro pg ev s0 mi bl me co hx hb hml hown hts hr hlk hK hM ls hl
  have hl : lv_has ls 3 [(0, .ref (κ.kn 7)), (1, .ref o), (2, .ref (cAd o 23))] := hl
  refine lv_aload_n hx hb dX22_of_0 rfl (lv_at hl 2 rfl) ?_
  refine cw_vget hx hb hts hown hK.1.1 hM 4 (by decide) q154 rfl rfl dX22_of_1 ?_
  refine lv_if_eq (tgt := 11) hx hb dX22_of_4 (by decide) (fun c_4 => ?_) (fun c_4 => ?_)
  · skip
    refine lv_lconst (v := 0) hx hb dX22_of_11 (by decide) ?_
    exact lret_ro hx hb hr hlk (show _ = kof u 7 from (if_pos c_4).symm) dX22_of_12
  · skip
    refine lv_lconst (v := 1) hx hb dX22_of_7 (by decide) ?_
    refine lv_goto (tgt := 12) hx hb dX22_of_8 (by decide) ?_
    exact lret_ro hx hb hr hlk (show _ = kof u 7 from (if_neg c_4).symm) dX22_of_12

set_option maxHeartbeats 4000000 in
theorem metX18_of (l : Launch) (κ : Kg) (o : Nat) (g : Gh) (u : St) (hok : okK g.1 u) : MetU l yX18_of (ws_ yX18_of cX18_of 3 (some .long)) (rmC 1 0 0) (xP κ (CW κ.D κ.cA o g u) [.ref (κ.kn 8), .ref o, .ref (cAd o 23)]) (rQ (some (.long (kof u 8)))) 0 0 noA := by
  refine xU_start RX18 (by decide) rfl (Nat.le_of_ble_eq_true rfl) ?_
  intro pg ev s0 mi bl me co hx hb hml hown hts hr hlk hK hM ls hl
  have hl : lv_has ls 3 [(0, .ref (κ.kn 8)), (1, .ref o), (2, .ref (cAd o 23))] := hl
  refine lv_aload_n hx hb dX18_of_0 rfl (lv_at hl 1 rfl) ?_
  refine lv_aload_n hx hb dX18_of_1 rfl (lv_at hl 2 rfl) ?_
  refine cw_vget hx hb hts hown hK.1.1 hM 0 (by decide) q145 rfl rfl dX18_of_2 ?_
  refine cw_pget hx hb hts hown hK.1.1 hM 2 (by decide) hok.1 q341 rfl rfl dX18_of_5 ?_
  refine lv_aload_n hx hb dX18_of_8 rfl (lv_at hl 2 rfl) ?_
  refine cw_vget hx hb hts hown hK.1.1 hM 3 (by decide) q152 rfl rfl dX18_of_9 ?_
  refine ro_call (c_runVN (n := 2) (As := [.int (u.2.1 62 ((u.1 31).toNatClampNeg)), .int (u.1 34)]) (rest := []) hx hb hml hown hts (metX0_isDead l κ.D κ.cA o g u _ _ hok.2.2.1) nq1194 q1196 qs25 q64 q1197 (by decide +kernel) (by decide) (by decide) rfl hK hM hl.1 (Nat.le_of_ble_eq_true rfl) rfl dX18_of_12 ⟨Nat.le_refl _, Nat.le_refl _⟩) ?_
  refine lv_B_eq (tgt := 22) hx hb dX18_of_15 (by decide) (fun c_15 => ?_) (fun c_15 => ?_)
  · skip
    refine lv_lconst (v := 0) hx hb dX18_of_22 (by decide) ?_
    exact lret_ro hx hb hr hlk (show _ = kof u 8 from (if_neg (by rw [c_15]; decide)).symm) dX18_of_23
  · skip
    refine lv_lconst (v := 1) hx hb dX18_of_18 (by decide) ?_
    refine lv_goto (tgt := 23) hx hb dX18_of_19 (by decide) ?_
    exact lret_ro hx hb hr hlk (show _ = kof u 8 from (if_pos c_15).symm) dX18_of_23

theorem kn_recv {κ : Kg} {s : State} {H : Heap} (hK : KZ κ s H) (k : Nat) (hk : k < 9) : ∃ cell : Cell, H[κ.kn k]? = some cell ∧ cell.vm.isStatics = false ∧ s.vm.findClass (kCl k) = some cell.cls := by
  obtain ⟨cell, h1, h2, h3, -⟩ := hK.2.1.2.2.2.2.1 k hk
  exact ⟨cell, h1, h2, h3⟩
set_option maxHeartbeats 4000000 in
theorem kn_call {p : Program} {l : Launch} {e : Env} {s : State} {m : MethodId} {args : Array Value} {below : List Frame} {meth : Method} {c : Code} {H : Heap} {locs : List Loc} {cells slots : Nat} {Q : State → Prop} {pc nL d mc ms : Nat} {ls : Array Slot} {rest : List Value} {cc : ByteArray} {κ : Kg} {o : Nat} {g : Gh} {u : St} (hexec : p.tables.exec = Jvm.exec) (hb : c.code = cc) (hml : c.maxLocals = nL) (hown : s.vm.findClass RX2 = some m.cls) (hts : ∀ w ∈ lw_all, w.before args s = true) (hK : KZ κ s H) (hM : CW κ.D κ.cA o g u H) (hok : okK g.1 u) (k : Nat) (hk : k < 9) (hdd : 1 < d) (hls : ls.size = nL) (hrest : (rest.map fun v => v.category).sum ≤ 8) (hdg : decode cc pc = .ok (.invokevirtual 54, 3)) (hf : cells + 0 ≤ mc ∧ slots + 0 ≤ ms)
    (kk : W p l e (rmC d mc ms) s m args below meth c H locs cells slots Q (F0 m (pc + 3) ls (.long (kof u k) :: rest))) : W p l e (rmC d mc ms) s m args below meth c H locs cells slots Q (F0 m pc ls (.ref (cAd o 23) :: .ref o :: .ref (κ.kn k) :: rest)) := by
  rcases (show k = 0 ∨ k = 1 ∨ k = 2 ∨ k = 3 ∨ k = 4 ∨ k = 5 ∨ k = 6 ∨ k = 7 ∨ k = 8 by omega) with rfl | rfl | rfl | rfl | rfl | rfl | rfl | rfl | rfl
  · exact ro_call (x_runAU (C := "HomeRoll$Known$1") (x := ⟨"HomeRoll$Known", "of", "(LHomeRoll;LHomeRoll$View;)J"⟩) (n := 2) (As := [.ref o, .ref (cAd o 23)]) (rest := rest) hexec hb hml hown hts (metX14_of l κ o g u hok) q1163 q1165 nq1164 q1167 q1166 q1168 (by decide +kernel) hdd (by decide) rfl hK hM (kn_recv hK 0 (by decide)) hls hrest rfl hdg hf) kk
  · exact ro_call (x_runAU (C := "HomeRoll$Known$2") (x := ⟨"HomeRoll$Known", "of", "(LHomeRoll;LHomeRoll$View;)J"⟩) (n := 2) (As := [.ref o, .ref (cAd o 23)]) (rest := rest) hexec hb hml hown hts (metX15_of l κ o g u hok) q1163 q1165 nq1164 q1170 q1169 q1171 (by decide +kernel) hdd (by decide) rfl hK hM (kn_recv hK 1 (by decide)) hls hrest rfl hdg hf) kk
  · exact ro_call (x_runAU (C := "HomeRoll$Known$3") (x := ⟨"HomeRoll$Known", "of", "(LHomeRoll;LHomeRoll$View;)J"⟩) (n := 2) (As := [.ref o, .ref (cAd o 23)]) (rest := rest) hexec hb hml hown hts (metX17_of l κ o g u hok) q1163 q1165 nq1164 q1173 q1172 q1174 (by decide +kernel) hdd (by decide) rfl hK hM (kn_recv hK 2 (by decide)) hls hrest rfl hdg hf) kk
  · exact ro_call (x_runAU (C := "HomeRoll$Known$4") (x := ⟨"HomeRoll$Known", "of", "(LHomeRoll;LHomeRoll$View;)J"⟩) (n := 2) (As := [.ref o, .ref (cAd o 23)]) (rest := rest) hexec hb hml hown hts (metX19_of l κ o g u hok) q1163 q1165 nq1164 q1177 q1176 q1178 (by decide +kernel) hdd (by decide) rfl hK hM (kn_recv hK 3 (by decide)) hls hrest rfl hdg hf) kk
  · exact ro_call (x_runAU (C := "HomeRoll$Known$5") (x := ⟨"HomeRoll$Known", "of", "(LHomeRoll;LHomeRoll$View;)J"⟩) (n := 2) (As := [.ref o, .ref (cAd o 23)]) (rest := rest) hexec hb hml hown hts (metX16_of l κ o g u hok) q1163 q1165 nq1164 q1180 q1179 q1181 (by decide +kernel) hdd (by decide) rfl hK hM (kn_recv hK 4 (by decide)) hls hrest rfl hdg hf) kk
  · exact ro_call (x_runAU (C := "HomeRoll$Known$6") (x := ⟨"HomeRoll$Known", "of", "(LHomeRoll;LHomeRoll$View;)J"⟩) (n := 2) (As := [.ref o, .ref (cAd o 23)]) (rest := rest) hexec hb hml hown hts (metX20_of l κ o g u hok) q1163 q1165 nq1164 q1183 q1182 q1184 (by decide +kernel) hdd (by decide) rfl hK hM (kn_recv hK 5 (by decide)) hls hrest rfl hdg hf) kk
  · exact ro_call (x_runAU (C := "HomeRoll$Known$7") (x := ⟨"HomeRoll$Known", "of", "(LHomeRoll;LHomeRoll$View;)J"⟩) (n := 2) (As := [.ref o, .ref (cAd o 23)]) (rest := rest) hexec hb hml hown hts (metX21_of l κ o g u hok) q1163 q1165 nq1164 q1186 q1185 q1187 (by decide +kernel) hdd (by decide) rfl hK hM (kn_recv hK 6 (by decide)) hls hrest rfl hdg hf) kk
  · exact ro_call (x_runAU (C := "HomeRoll$Known$8") (x := ⟨"HomeRoll$Known", "of", "(LHomeRoll;LHomeRoll$View;)J"⟩) (n := 2) (As := [.ref o, .ref (cAd o 23)]) (rest := rest) hexec hb hml hown hts (metX22_of l κ o g u hok) q1163 q1165 nq1164 q1189 q1188 q1190 (by decide +kernel) hdd (by decide) rfl hK hM (kn_recv hK 7 (by decide)) hls hrest rfl hdg hf) kk
  · exact ro_call (x_runAU (C := "HomeRoll$Known$9") (x := ⟨"HomeRoll$Known", "of", "(LHomeRoll;LHomeRoll$View;)J"⟩) (n := 2) (As := [.ref o, .ref (cAd o 23)]) (rest := rest) hexec hb hml hown hts (metX18_of l κ o g u hok) q1163 q1165 nq1164 q1192 q1191 q1193 (by decide +kernel) hdd (by decide) rfl hK hM (kn_recv hK 8 (by decide)) hls hrest rfl hdg hf) kk

set_option maxHeartbeats 4000000 in
theorem metX2_told (l : Launch) (κ : Kg) (o : Nat) (g : Gh) (u : St) (k : Nat) (hk : k < 9) (hok : okK g.1 u) : Met l yX2_told (ws_ yX2_told cX2_told 3 (some .int)) (rmC 2 0 0) (xP κ (CW κ.D κ.cA o g u) [.ref (κ.kn k), .ref o, .ref (cAd o 23)]) (rQ (some (.int (tvK u k)))) 0 0 noA := by
  refine xM_start RX2 (by decide) rfl (Nat.le_of_ble_eq_true rfl) ?_
  intro pg ev s0 mi bl me co hx hb hml hown hts hr hlk hnm hK hM ls hl
  have hl : lv_has ls 3 [(0, .ref (κ.kn k)), (1, .ref o), (2, .ref (cAd o 23))] := hl
  refine lv_ldc2 (v := 2147483647) hx hb hown (hts _ q1162) dX2_told_0 ?_
  refine lv_aload_n hx hb dX2_told_3 rfl (lv_at hl 0 rfl) ?_
  refine lv_aload_n hx hb dX2_told_4 rfl (lv_at hl 1 rfl) ?_
  refine lv_aload_n hx hb dX2_told_5 rfl (lv_at hl 2 rfl) ?_
  refine kn_call hx hb hml hown hts hK hM hok k hk (by decide) hl.1 (Nat.le_of_ble_eq_true rfl) dX2_told_6 ⟨Nat.le_refl _, Nat.le_refl _⟩ ?_
  refine va_mmin_long (x := 2147483647) (y := kof u k) hx hb (hml.trans hl.1.symm) hown (hts _ q1198) (hts _ q1199) (hts _ q79) (hts _ q1200) (by decide) (Nat.le_of_ble_eq_true rfl) (Nat.zero_le _) (Nat.zero_le _) dX2_told_9 ?_
  refine W.eq (g2 := F0 mi 12 ls [.long (mnL 2147483647 (kof u k))]) rfl ?_
  refine lv_l2i hx hb dX2_told_12 rfl ?_
  exact iret_ro hx hb hr hlk rfl dX2_told_13
