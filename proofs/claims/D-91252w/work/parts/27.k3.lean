/-! HomeRollModel.<init>. By tools/gen_k3.py -/
set_option maxRecDepth 100000
def u00 : St := (fun _ => 0, fun _ _ => 0, fun _ _ => 0)
def mVp (o n : Nat) (u : St) (k : Nat) : Value := match mKd k with
  | 0 => .int (u.1 k)
  | 1 => .long (u.2.2 k 0)
  | _ => if mIx k < n then .ref (mAd o k) else .null
/-- the model while it is made: its first n arrays -/
def MWp (D : va_G) (cA : Nat → ClassId) (o n : Nat) (u : St) (H : Heap) : Prop := t_OB o (D.1 2) 56 (D.2 2) H (mVp o n u) ∧ (∀ k, k < 56 → 2 ≤ mKd k → mIx k < n → H[mAd o k]? = some (mArr cA u k)) ∧ H.size = o + 1 + n
theorem mVp_ref {o n k : Nat} {u : St} (h : 2 ≤ mKd k) : mVp o n u k = if mIx k < n then .ref (mAd o k) else .null := by
  unfold mVp
  match hk : mKd k with
  | 0 => omega
  | 1 => omega
  | j + 2 => rfl
theorem MWp.all {D : va_G} {cA : Nat → ClassId} {o : Nat} {u : St} {H : Heap} (h : MWp D cA o 34 u H) : MW D cA o u H := by
  refine ⟨h.1.to fun k hk => ?_, fun k hk hd => h.2.1 k hk hd (mIx_lt k hk)⟩
  have := mIx_lt k hk
  unfold mVp mV
  simp only [if_pos this]
  rfl
section MP
variable {p : Program} {l : Launch} {e : Env} {R : Room} {s : State} {m : MethodId} {args : Array Value} {below : List Frame} {meth : Method} {c : Code} {H : Heap} {locs : List Loc} {cells slots : Nat} {Q : State → Prop}
variable {cc : ByteArray} {pc : Nat} {ls : Array Slot} {rest : List Value} {D : va_G} {cA : Nat → ClassId} {o n : Nat} {H0 : Heap} {u : St}
theorem mp_arr (hexec : p.tables.exec = Jvm.exec) (hb : c.code = cc) (hts : ∀ w ∈ lw_all, w.before args s = true) (hown : s.vm.findClass RX3 = some m.cls) (hK : K0 D cA s) (hnm : meth.name = "<init>") (hM : MWp D cA o n u H) (hS : va_S (mA o) H0 H locs)
    {atype : ArrayType} (t0 : Nat) (harr : Cond.arrayClass (newarray.typeOf atype) ∈ lw_all) (ht : (tyCl cA)[t0]? = some (cA t0, newarray.typeOf atype)) (hp : ∀ U cA', va_RA U cA' (newarray.typeOf atype) → U.vm.findClass ("[" ++ (newarray.typeOf atype).toString) = some cA') {i : Int32} {N : Nat} (hi : ¬ i < 0) (hN : i.toNatClampNeg = N) (hbytes : N * componentBytes (newarray.typeOf atype) ≤ 536870912) (hcells : cells + 1 ≤ R.cells) (hslots : slots + N ≤ R.slots) (hdg1 : decode cc pc = .ok (.newarray atype, 2))
    (k : Nat) (hk : k < 56) (hkd : 2 ≤ mKd k) (hix : mIx k = n) (hz : mArr cA u k = arrV (cA t0) N (fun _ => defaultValue (newarray.typeOf atype))) {index : Nat} (hlink : (Cond.fieldLink RX3 index RX3 (TX3 k).2.1 (TX3 k).2.2.1) ∈ lw_all) (hT : (TX3 k).1 = RX3) (hfin : (TX3 k).2.2.2 = true) (hn : ∀ x, narrow (tyX3 k) (.ref x) = .ref x) (hfit : ∀ x, fits (tyX3 k) (.ref x) = true) (hdg2 : decode cc (pc + 2) = .ok (.putfield index, 3))
    (kk : ∀ (H1 : Heap) (locs1 : List Loc), MWp D cA o (n + 1) u H1 → va_S (mA o) H0 H1 locs1 → W p l e R s m args below meth c H1 locs1 (cells + 1) (slots + N) Q (F0 m (pc + 2 + 3) ls rest)) : W p l e R s m args below meth c H locs cells slots Q (F0 m pc ls (.int i :: .ref o :: rest)) := by
  obtain ⟨c1, c2, c3⟩ := hM
  refine ar_new hexec hb hts harr hK t0 ht hp hi hN hbytes hcells hslots hdg1 fun H1 e1 z1 o1 => ?_
  have had : H.size = mAd o k := by unfold mAd; omega
  have ho : o < H.size := by omega
  refine ob_putF (C := RX3) (T := TX3) (N := 56) (ci := 2) hexec hb hts in_X3 tyX3 tyX3_ok nmX3 hown hK (c1.kept (o1 o ho)) (hS.grow (by omega) o1) (mA_o o) rfl k hk hlink (fun x h => by rw [hT] at h; exact h) hfin hnm hT (hn _) (hfit _) hdg2 fun H2 locs2 h1 h2 h3 h4 => ?_
  refine kk H2 locs2 ⟨h1.to fun j hj => ?_, fun j hj hd hl => ?_, by omega⟩ h4
  · unfold updV
    by_cases e : j = k
    · subst e; rw [if_pos rfl, mVp_ref hkd, if_pos (by omega), had]
    · rw [if_neg e]
      unfold mVp
      split <;> first | rfl | skip
      rename_i h0 h1'
      have hd : 2 ≤ mKd j := by
        rcases (show mKd j = 0 ∨ mKd j = 1 ∨ 2 ≤ mKd j by omega) with z | z | z
        · exact absurd z h0
        · exact absurd z h1'
        · exact z
      have hne : mIx j ≠ n := fun z => e (mIx_inj j hj k hk hd hkd (z.trans hix.symm))
      by_cases hlt : mIx j < n
      · rw [if_pos hlt, if_pos (by omega)]
      · rw [if_neg hlt, if_neg (by omega)]
  · by_cases e : j = k
    · subst e; rw [h2 _ (mAd_ne o j), ← had, e1, hz]
    · have hne : mIx j ≠ n := fun z => e (mIx_inj j hj k hk hd hkd (z.trans hix.symm))
      rw [h2 _ (mAd_ne o j), o1 _ (by unfold mAd; omega)]
      exact c2 j hj hd (by omega)
theorem mp_puti (hexec : p.tables.exec = Jvm.exec) (hb : c.code = cc) (hts : ∀ w ∈ lw_all, w.before args s = true) (hown : s.vm.findClass RX3 = some m.cls) (hK : K0 D cA s) (hM : MWp D cA o n u H) (hS : va_S (mA o) H0 H locs) (k : Nat) (hk : k < 56) {index : Nat} (hlink : (Cond.fieldLink RX3 index RX3 (TX3 k).2.1 (TX3 k).2.2.1) ∈ lw_all) (hT : (TX3 k).1 = RX3) (hkd : mKd k = 0) (hty : tyX3 k = .int) (hfin : (TX3 k).2.2.2 = false) {v : Int32} (hdg : decode cc pc = .ok (.putfield index, 3))
    (kk : ∀ (H1 : Heap) (locs1 : List Loc), MWp D cA o n (si u k v) H1 → va_S (mA o) H0 H1 locs1 → W p l e R s m args below meth c H1 locs1 cells slots Q (F0 m (pc + 3) ls rest)) : W p l e R s m args below meth c H locs cells slots Q (F0 m pc ls (.int v :: .ref o :: rest)) := by
  obtain ⟨c1, c2, c3⟩ := hM
  refine ob_put (C := RX3) (T := TX3) (N := 56) (ci := 2) hexec hb hts in_X3 tyX3 tyX3_ok nmX3 hown hK c1 hS (mA_o o) rfl k hk hlink (fun x h => by rw [hT] at h; exact h) hfin (by rw [hty]; rfl) (by rw [hty]; rfl) hdg (fun H1 locs1 h1 h2 hz h3 => kk H1 locs1 ⟨h1.to fun j hj => ?_, fun j hj hd hl => by rw [h2 _ (mAd_ne o j)]; exact c2 j hj hd hl, by omega⟩ h3)
  unfold updV
  by_cases e : j = k
  · subst e; rw [if_pos rfl]; unfold mVp; rw [hkd]; simp [si, upd]
  · rw [if_neg e]; unfold mVp; simp only [si_1, if_neg e]; rfl
end MP
def mU1 : St := si u00 26 (-1)

def lpX3_init_287 : St × Int32 → Nat × St × Int32
  | (v, y) => if 100 ≤ y then (1, v, y) else (0, (sa v 5 y.toNatClampNeg 100), y + 1)
def lpX3_init_287_r : Nat × St × Int32 :=
  wh (lpX3_init_287) 101 (mU1, 0)
def fX3_init : St := lpX3_init_287_r.2.1
def okX3_init : Prop :=
  ∃ (I_287 : (St × Int32) → Prop), (LOK lpX3_init_287 101 (mU1, 0) I_287) ∧ (∀ (v : St) (y : Int32), I_287 (v, y) → ¬ (100 ≤ y) → vp_in y 100)
/-- the model made: nothing else has changed -/
def iQ (D : va_G) (cA : Nat → ClassId) (o : Nat) (u : St) : Array Value → State → Outcome → State → Prop := fun _ st oc t => oc = .returned none ∧ MW D cA o u t.heap ∧ va_F (mA o) st t
set_option maxHeartbeats 4000000 in
theorem metX3_init (l : Launch) (D : va_G) (cA : Nat → ClassId) (o : Nat) (hok : okX3_init) : Met l yX3_init (ws_ yX3_init cX3_init 2 none) (rmC 1 34 7177) (gP D cA (MWp D cA o 0 u00) [.ref o]) (iQ D cA o fX3_init) 34 7177 (mA o) := by
  obtain ⟨I_287, hN0, hN1⟩ := hok
  refine gM_start RX3 (by decide) rfl (Nat.le_of_ble_eq_true rfl) ?_
  intro pg ev s0 mi bl me co hx hb hml hown hts hr hlk hnm hK hM ls hl
  have hl : lv_has ls 2 [(0, .ref o)] := hl
  have hS : va_S (mA o) s0.heap s0.heap [] := va_S.rf
  refine lv_aload_n hx hb dX3_init_0 rfl (lv_at hl 0 rfl) ?_
  refine W.objInit hx hb hown (hts _ q1265) (hts _ q102) (hts _ q103) rfl (by rw [hml]; exact hl.1) rfl dX3_init_1 (Nat.le_of_ble_eq_true rfl) (Nat.le_of_ble_eq_true rfl) ?_
  refine W.eq (g2 := F0 mi 4 ls []) rfl ?_
  refine lv_aload_n hx hb dX3_init_4 rfl (lv_at hl 0 rfl) ?_
  refine lv_bipush (v := 24) hx hb dX3_init_5 (by decide) ?_
  refine mp_arr (atype := .int) (N := 24) hx hb hts hown hK hnm hM hS 0 q170 rfl (fun U k h => h) (by decide) (by decide) (by decide) (Nat.le_of_ble_eq_true rfl) (Nat.le_of_ble_eq_true rfl) dX3_init_7 0 (by decide) (by decide) rfl (by rw [mArr_2 rfl]; rfl) q1266 rfl rfl (fun _ => rfl) (fun _ => rfl) dX3_init_9 (fun H locs hM hS => ?_)
  have hM : MWp D cA o 1 u00 H := hM
  refine W.widen (k := 1) (n := 24) (Nat.le_of_ble_eq_true rfl) (Nat.le_of_ble_eq_true rfl) ?_
  refine lv_aload_n hx hb dX3_init_12 rfl (lv_at hl 0 rfl) ?_
  refine lv_bipush (v := 24) hx hb dX3_init_13 (by decide) ?_
  refine mp_arr (atype := .int) (N := 24) hx hb hts hown hK hnm hM hS 0 q170 rfl (fun U k h => h) (by decide) (by decide) (by decide) (Nat.le_of_ble_eq_true rfl) (Nat.le_of_ble_eq_true rfl) dX3_init_15 1 (by decide) (by decide) rfl (by rw [mArr_2 rfl]; rfl) q1267 rfl rfl (fun _ => rfl) (fun _ => rfl) dX3_init_17 (fun H locs hM hS => ?_)
  have hM : MWp D cA o 2 u00 H := hM
  refine W.widen (k := 2) (n := 48) (Nat.le_of_ble_eq_true rfl) (Nat.le_of_ble_eq_true rfl) ?_
  refine lv_aload_n hx hb dX3_init_20 rfl (lv_at hl 0 rfl) ?_
  refine lv_bipush (v := 24) hx hb dX3_init_21 (by decide) ?_
  refine mp_arr (atype := .int) (N := 24) hx hb hts hown hK hnm hM hS 0 q170 rfl (fun U k h => h) (by decide) (by decide) (by decide) (Nat.le_of_ble_eq_true rfl) (Nat.le_of_ble_eq_true rfl) dX3_init_23 2 (by decide) (by decide) rfl (by rw [mArr_2 rfl]; rfl) q1268 rfl rfl (fun _ => rfl) (fun _ => rfl) dX3_init_25 (fun H locs hM hS => ?_)
  have hM : MWp D cA o 3 u00 H := hM
  refine W.widen (k := 3) (n := 72) (Nat.le_of_ble_eq_true rfl) (Nat.le_of_ble_eq_true rfl) ?_
  refine lv_aload_n hx hb dX3_init_28 rfl (lv_at hl 0 rfl) ?_
  refine lv_bipush (v := 8) hx hb dX3_init_29 (by decide) ?_
  refine mp_arr (atype := .int) (N := 8) hx hb hts hown hK hnm hM hS 0 q170 rfl (fun U k h => h) (by decide) (by decide) (by decide) (Nat.le_of_ble_eq_true rfl) (Nat.le_of_ble_eq_true rfl) dX3_init_31 3 (by decide) (by decide) rfl (by rw [mArr_2 rfl]; rfl) q1269 rfl rfl (fun _ => rfl) (fun _ => rfl) dX3_init_33 (fun H locs hM hS => ?_)
  have hM : MWp D cA o 4 u00 H := hM
  refine W.widen (k := 4) (n := 80) (Nat.le_of_ble_eq_true rfl) (Nat.le_of_ble_eq_true rfl) ?_
  refine lv_aload_n hx hb dX3_init_36 rfl (lv_at hl 0 rfl) ?_
  refine lv_bipush (v := 8) hx hb dX3_init_37 (by decide) ?_
  refine mp_arr (atype := .int) (N := 8) hx hb hts hown hK hnm hM hS 0 q170 rfl (fun U k h => h) (by decide) (by decide) (by decide) (Nat.le_of_ble_eq_true rfl) (Nat.le_of_ble_eq_true rfl) dX3_init_39 4 (by decide) (by decide) rfl (by rw [mArr_2 rfl]; rfl) q1270 rfl rfl (fun _ => rfl) (fun _ => rfl) dX3_init_41 (fun H locs hM hS => ?_)
  have hM : MWp D cA o 5 u00 H := hM
  refine W.widen (k := 5) (n := 88) (Nat.le_of_ble_eq_true rfl) (Nat.le_of_ble_eq_true rfl) ?_
  refine lv_aload_n hx hb dX3_init_44 rfl (lv_at hl 0 rfl) ?_
  refine lv_bipush (v := 100) hx hb dX3_init_45 (by decide) ?_
  refine mp_arr (atype := .int) (N := 100) hx hb hts hown hK hnm hM hS 0 q170 rfl (fun U k h => h) (by decide) (by decide) (by decide) (Nat.le_of_ble_eq_true rfl) (Nat.le_of_ble_eq_true rfl) dX3_init_47 5 (by decide) (by decide) rfl (by rw [mArr_2 rfl]; rfl) q1271 rfl rfl (fun _ => rfl) (fun _ => rfl) dX3_init_49 (fun H locs hM hS => ?_)
  have hM : MWp D cA o 6 u00 H := hM
  refine W.widen (k := 6) (n := 188) (Nat.le_of_ble_eq_true rfl) (Nat.le_of_ble_eq_true rfl) ?_
  refine lv_aload_n hx hb dX3_init_52 rfl (lv_at hl 0 rfl) ?_
  refine lv_bipush (v := 60) hx hb dX3_init_53 (by decide) ?_
  refine mp_arr (atype := .int) (N := 60) hx hb hts hown hK hnm hM hS 0 q170 rfl (fun U k h => h) (by decide) (by decide) (by decide) (Nat.le_of_ble_eq_true rfl) (Nat.le_of_ble_eq_true rfl) dX3_init_55 9 (by decide) (by decide) rfl (by rw [mArr_2 rfl]; rfl) q1275 rfl rfl (fun _ => rfl) (fun _ => rfl) dX3_init_57 (fun H locs hM hS => ?_)
  have hM : MWp D cA o 7 u00 H := hM
  refine W.widen (k := 7) (n := 248) (Nat.le_of_ble_eq_true rfl) (Nat.le_of_ble_eq_true rfl) ?_
  refine lv_aload_n hx hb dX3_init_60 rfl (lv_at hl 0 rfl) ?_
  refine lv_bipush (v := 60) hx hb dX3_init_61 (by decide) ?_
  refine mp_arr (atype := .int) (N := 60) hx hb hts hown hK hnm hM hS 0 q170 rfl (fun U k h => h) (by decide) (by decide) (by decide) (Nat.le_of_ble_eq_true rfl) (Nat.le_of_ble_eq_true rfl) dX3_init_63 10 (by decide) (by decide) rfl (by rw [mArr_2 rfl]; rfl) q1276 rfl rfl (fun _ => rfl) (fun _ => rfl) dX3_init_65 (fun H locs hM hS => ?_)
  have hM : MWp D cA o 8 u00 H := hM
  refine W.widen (k := 8) (n := 308) (Nat.le_of_ble_eq_true rfl) (Nat.le_of_ble_eq_true rfl) ?_
  refine lv_aload_n hx hb dX3_init_68 rfl (lv_at hl 0 rfl) ?_
  refine lv_bipush (v := 60) hx hb dX3_init_69 (by decide) ?_
  refine mp_arr (atype := .int) (N := 60) hx hb hts hown hK hnm hM hS 0 q170 rfl (fun U k h => h) (by decide) (by decide) (by decide) (Nat.le_of_ble_eq_true rfl) (Nat.le_of_ble_eq_true rfl) dX3_init_71 11 (by decide) (by decide) rfl (by rw [mArr_2 rfl]; rfl) q1277 rfl rfl (fun _ => rfl) (fun _ => rfl) dX3_init_73 (fun H locs hM hS => ?_)
  have hM : MWp D cA o 9 u00 H := hM
  refine W.widen (k := 9) (n := 368) (Nat.le_of_ble_eq_true rfl) (Nat.le_of_ble_eq_true rfl) ?_
  refine lv_aload_n hx hb dX3_init_76 rfl (lv_at hl 0 rfl) ?_
  refine lv_bipush (v := 60) hx hb dX3_init_77 (by decide) ?_
  refine mp_arr (atype := .int) (N := 60) hx hb hts hown hK hnm hM hS 0 q170 rfl (fun U k h => h) (by decide) (by decide) (by decide) (Nat.le_of_ble_eq_true rfl) (Nat.le_of_ble_eq_true rfl) dX3_init_79 12 (by decide) (by decide) rfl (by rw [mArr_2 rfl]; rfl) q1278 rfl rfl (fun _ => rfl) (fun _ => rfl) dX3_init_81 (fun H locs hM hS => ?_)
  have hM : MWp D cA o 10 u00 H := hM
  refine W.widen (k := 10) (n := 428) (Nat.le_of_ble_eq_true rfl) (Nat.le_of_ble_eq_true rfl) ?_
  refine lv_aload_n hx hb dX3_init_84 rfl (lv_at hl 0 rfl) ?_
  refine lv_bipush (v := 60) hx hb dX3_init_85 (by decide) ?_
  refine mp_arr (atype := .int) (N := 60) hx hb hts hown hK hnm hM hS 0 q170 rfl (fun U k h => h) (by decide) (by decide) (by decide) (Nat.le_of_ble_eq_true rfl) (Nat.le_of_ble_eq_true rfl) dX3_init_87 13 (by decide) (by decide) rfl (by rw [mArr_2 rfl]; rfl) q1279 rfl rfl (fun _ => rfl) (fun _ => rfl) dX3_init_89 (fun H locs hM hS => ?_)
  have hM : MWp D cA o 11 u00 H := hM
  refine W.widen (k := 11) (n := 488) (Nat.le_of_ble_eq_true rfl) (Nat.le_of_ble_eq_true rfl) ?_
  refine lv_aload_n hx hb dX3_init_92 rfl (lv_at hl 0 rfl) ?_
  refine lv_bipush (v := 60) hx hb dX3_init_93 (by decide) ?_
  refine mp_arr (atype := .int) (N := 60) hx hb hts hown hK hnm hM hS 0 q170 rfl (fun U k h => h) (by decide) (by decide) (by decide) (Nat.le_of_ble_eq_true rfl) (Nat.le_of_ble_eq_true rfl) dX3_init_95 14 (by decide) (by decide) rfl (by rw [mArr_2 rfl]; rfl) q1280 rfl rfl (fun _ => rfl) (fun _ => rfl) dX3_init_97 (fun H locs hM hS => ?_)
  have hM : MWp D cA o 12 u00 H := hM
  refine W.widen (k := 12) (n := 548) (Nat.le_of_ble_eq_true rfl) (Nat.le_of_ble_eq_true rfl) ?_
  refine lv_aload_n hx hb dX3_init_100 rfl (lv_at hl 0 rfl) ?_
  refine lv_bipush (v := 60) hx hb dX3_init_101 (by decide) ?_
  refine mp_arr (atype := .int) (N := 60) hx hb hts hown hK hnm hM hS 0 q170 rfl (fun U k h => h) (by decide) (by decide) (by decide) (Nat.le_of_ble_eq_true rfl) (Nat.le_of_ble_eq_true rfl) dX3_init_103 15 (by decide) (by decide) rfl (by rw [mArr_2 rfl]; rfl) q1281 rfl rfl (fun _ => rfl) (fun _ => rfl) dX3_init_105 (fun H locs hM hS => ?_)
  have hM : MWp D cA o 13 u00 H := hM
  refine W.widen (k := 13) (n := 608) (Nat.le_of_ble_eq_true rfl) (Nat.le_of_ble_eq_true rfl) ?_
  refine lv_aload_n hx hb dX3_init_108 rfl (lv_at hl 0 rfl) ?_
  refine lv_bipush (v := 60) hx hb dX3_init_109 (by decide) ?_
  refine mp_arr (atype := .int) (N := 60) hx hb hts hown hK hnm hM hS 0 q170 rfl (fun U k h => h) (by decide) (by decide) (by decide) (Nat.le_of_ble_eq_true rfl) (Nat.le_of_ble_eq_true rfl) dX3_init_111 16 (by decide) (by decide) rfl (by rw [mArr_2 rfl]; rfl) q1282 rfl rfl (fun _ => rfl) (fun _ => rfl) dX3_init_113 (fun H locs hM hS => ?_)
  have hM : MWp D cA o 14 u00 H := hM
  refine W.widen (k := 14) (n := 668) (Nat.le_of_ble_eq_true rfl) (Nat.le_of_ble_eq_true rfl) ?_
  refine lv_aload_n hx hb dX3_init_116 rfl (lv_at hl 0 rfl) ?_
  refine lv_bipush (v := 60) hx hb dX3_init_117 (by decide) ?_
  refine mp_arr (atype := .int) (N := 60) hx hb hts hown hK hnm hM hS 0 q170 rfl (fun U k h => h) (by decide) (by decide) (by decide) (Nat.le_of_ble_eq_true rfl) (Nat.le_of_ble_eq_true rfl) dX3_init_119 17 (by decide) (by decide) rfl (by rw [mArr_2 rfl]; rfl) q1283 rfl rfl (fun _ => rfl) (fun _ => rfl) dX3_init_121 (fun H locs hM hS => ?_)
  have hM : MWp D cA o 15 u00 H := hM
  refine W.widen (k := 15) (n := 728) (Nat.le_of_ble_eq_true rfl) (Nat.le_of_ble_eq_true rfl) ?_
  refine lv_aload_n hx hb dX3_init_124 rfl (lv_at hl 0 rfl) ?_
  refine lv_bipush (v := 60) hx hb dX3_init_125 (by decide) ?_
  refine mp_arr (atype := .boolean) (N := 60) hx hb hts hown hK hnm hM hS 2 q284 rfl (fun U k h => h) (by decide) (by decide) (by decide) (Nat.le_of_ble_eq_true rfl) (Nat.le_of_ble_eq_true rfl) dX3_init_127 18 (by decide) (by decide) rfl (by rw [mArr_4 rfl]; rfl) q1284 rfl rfl (fun _ => rfl) (fun _ => rfl) dX3_init_129 (fun H locs hM hS => ?_)
  have hM : MWp D cA o 16 u00 H := hM
  refine W.widen (k := 16) (n := 788) (Nat.le_of_ble_eq_true rfl) (Nat.le_of_ble_eq_true rfl) ?_
  refine lv_aload_n hx hb dX3_init_132 rfl (lv_at hl 0 rfl) ?_
  refine lv_sipush (v := 620) hx hb dX3_init_133 (by decide) ?_
  refine mp_arr (atype := .byte) (N := 620) hx hb hts hown hK hnm hM hS 1 q132 rfl (fun U k h => h) (by decide) (by decide) (by decide) (Nat.le_of_ble_eq_true rfl) (Nat.le_of_ble_eq_true rfl) dX3_init_136 21 (by decide) (by decide) rfl (by rw [mArr_3 rfl]; rfl) q1287 rfl rfl (fun _ => rfl) (fun _ => rfl) dX3_init_138 (fun H locs hM hS => ?_)
  have hM : MWp D cA o 17 u00 H := hM
  refine W.widen (k := 17) (n := 1408) (Nat.le_of_ble_eq_true rfl) (Nat.le_of_ble_eq_true rfl) ?_
  refine lv_aload_n hx hb dX3_init_141 rfl (lv_at hl 0 rfl) ?_
  refine lv_sipush (v := 600) hx hb dX3_init_142 (by decide) ?_
  refine mp_arr (atype := .byte) (N := 600) hx hb hts hown hK hnm hM hS 1 q132 rfl (fun U k h => h) (by decide) (by decide) (by decide) (Nat.le_of_ble_eq_true rfl) (Nat.le_of_ble_eq_true rfl) dX3_init_145 22 (by decide) (by decide) rfl (by rw [mArr_3 rfl]; rfl) q1288 rfl rfl (fun _ => rfl) (fun _ => rfl) dX3_init_147 (fun H locs hM hS => ?_)
  have hM : MWp D cA o 18 u00 H := hM
  refine W.widen (k := 18) (n := 2008) (Nat.le_of_ble_eq_true rfl) (Nat.le_of_ble_eq_true rfl) ?_
  refine lv_aload_n hx hb dX3_init_150 rfl (lv_at hl 0 rfl) ?_
  refine lv_iconst (v := (-1)) hx hb dX3_init_151 (by decide) ?_
  refine mp_puti hx hb hts hown hK hM hS 26 (by decide) q1292 rfl rfl rfl rfl dX3_init_152 (fun H locs hM hS => ?_)
  have hM : MWp D cA o 18 mU1 H := hM
  refine lv_aload_n hx hb dX3_init_155 rfl (lv_at hl 0 rfl) ?_
  refine lv_iconst (v := 2) hx hb dX3_init_156 (by decide) ?_
  refine mp_arr (atype := .int) (N := 2) hx hb hts hown hK hnm hM hS 0 q170 rfl (fun U k h => h) (by decide) (by decide) (by decide) (Nat.le_of_ble_eq_true rfl) (Nat.le_of_ble_eq_true rfl) dX3_init_157 32 (by decide) (by decide) rfl (by rw [mArr_2 rfl]; rfl) q1298 rfl rfl (fun _ => rfl) (fun _ => rfl) dX3_init_159 (fun H locs hM hS => ?_)
  have hM : MWp D cA o 19 mU1 H := hM
  refine W.widen (k := 19) (n := 2010) (Nat.le_of_ble_eq_true rfl) (Nat.le_of_ble_eq_true rfl) ?_
  refine lv_aload_n hx hb dX3_init_162 rfl (lv_at hl 0 rfl) ?_
  refine lv_bipush (v := 32) hx hb dX3_init_163 (by decide) ?_
  refine mp_arr (atype := .int) (N := 32) hx hb hts hown hK hnm hM hS 0 q170 rfl (fun U k h => h) (by decide) (by decide) (by decide) (Nat.le_of_ble_eq_true rfl) (Nat.le_of_ble_eq_true rfl) dX3_init_165 33 (by decide) (by decide) rfl (by rw [mArr_2 rfl]; rfl) q1299 rfl rfl (fun _ => rfl) (fun _ => rfl) dX3_init_167 (fun H locs hM hS => ?_)
  have hM : MWp D cA o 20 mU1 H := hM
  refine W.widen (k := 20) (n := 2042) (Nat.le_of_ble_eq_true rfl) (Nat.le_of_ble_eq_true rfl) ?_
  refine lv_aload_n hx hb dX3_init_170 rfl (lv_at hl 0 rfl) ?_
  refine lv_bipush (v := 32) hx hb dX3_init_171 (by decide) ?_
  refine mp_arr (atype := .int) (N := 32) hx hb hts hown hK hnm hM hS 0 q170 rfl (fun U k h => h) (by decide) (by decide) (by decide) (Nat.le_of_ble_eq_true rfl) (Nat.le_of_ble_eq_true rfl) dX3_init_173 34 (by decide) (by decide) rfl (by rw [mArr_2 rfl]; rfl) q1300 rfl rfl (fun _ => rfl) (fun _ => rfl) dX3_init_175 (fun H locs hM hS => ?_)
  have hM : MWp D cA o 21 mU1 H := hM
  refine W.widen (k := 21) (n := 2074) (Nat.le_of_ble_eq_true rfl) (Nat.le_of_ble_eq_true rfl) ?_
  refine lv_aload_n hx hb dX3_init_178 rfl (lv_at hl 0 rfl) ?_
  refine lv_bipush (v := 32) hx hb dX3_init_179 (by decide) ?_
  refine mp_arr (atype := .int) (N := 32) hx hb hts hown hK hnm hM hS 0 q170 rfl (fun U k h => h) (by decide) (by decide) (by decide) (Nat.le_of_ble_eq_true rfl) (Nat.le_of_ble_eq_true rfl) dX3_init_181 35 (by decide) (by decide) rfl (by rw [mArr_2 rfl]; rfl) q1301 rfl rfl (fun _ => rfl) (fun _ => rfl) dX3_init_183 (fun H locs hM hS => ?_)
  have hM : MWp D cA o 22 mU1 H := hM
  refine W.widen (k := 22) (n := 2106) (Nat.le_of_ble_eq_true rfl) (Nat.le_of_ble_eq_true rfl) ?_
  refine lv_aload_n hx hb dX3_init_186 rfl (lv_at hl 0 rfl) ?_
  refine lv_bipush (v := 32) hx hb dX3_init_187 (by decide) ?_
  refine mp_arr (atype := .int) (N := 32) hx hb hts hown hK hnm hM hS 0 q170 rfl (fun U k h => h) (by decide) (by decide) (by decide) (Nat.le_of_ble_eq_true rfl) (Nat.le_of_ble_eq_true rfl) dX3_init_189 36 (by decide) (by decide) rfl (by rw [mArr_2 rfl]; rfl) q1302 rfl rfl (fun _ => rfl) (fun _ => rfl) dX3_init_191 (fun H locs hM hS => ?_)
  have hM : MWp D cA o 23 mU1 H := hM
  refine W.widen (k := 23) (n := 2138) (Nat.le_of_ble_eq_true rfl) (Nat.le_of_ble_eq_true rfl) ?_
  refine lv_aload_n hx hb dX3_init_194 rfl (lv_at hl 0 rfl) ?_
  refine lv_sipush (v := 1200) hx hb dX3_init_195 (by decide) ?_
  refine mp_arr (atype := .int) (N := 1200) hx hb hts hown hK hnm hM hS 0 q170 rfl (fun U k h => h) (by decide) (by decide) (by decide) (Nat.le_of_ble_eq_true rfl) (Nat.le_of_ble_eq_true rfl) dX3_init_198 37 (by decide) (by decide) rfl (by rw [mArr_2 rfl]; rfl) q1303 rfl rfl (fun _ => rfl) (fun _ => rfl) dX3_init_200 (fun H locs hM hS => ?_)
  have hM : MWp D cA o 24 mU1 H := hM
  refine W.widen (k := 24) (n := 3338) (Nat.le_of_ble_eq_true rfl) (Nat.le_of_ble_eq_true rfl) ?_
  refine lv_aload_n hx hb dX3_init_203 rfl (lv_at hl 0 rfl) ?_
  refine lv_sipush (v := 1200) hx hb dX3_init_204 (by decide) ?_
  refine mp_arr (atype := .int) (N := 1200) hx hb hts hown hK hnm hM hS 0 q170 rfl (fun U k h => h) (by decide) (by decide) (by decide) (Nat.le_of_ble_eq_true rfl) (Nat.le_of_ble_eq_true rfl) dX3_init_207 38 (by decide) (by decide) rfl (by rw [mArr_2 rfl]; rfl) q1304 rfl rfl (fun _ => rfl) (fun _ => rfl) dX3_init_209 (fun H locs hM hS => ?_)
  have hM : MWp D cA o 25 mU1 H := hM
  refine W.widen (k := 25) (n := 4538) (Nat.le_of_ble_eq_true rfl) (Nat.le_of_ble_eq_true rfl) ?_
  refine lv_aload_n hx hb dX3_init_212 rfl (lv_at hl 0 rfl) ?_
  refine lv_bipush (v := 60) hx hb dX3_init_213 (by decide) ?_
  refine mp_arr (atype := .int) (N := 60) hx hb hts hown hK hnm hM hS 0 q170 rfl (fun U k h => h) (by decide) (by decide) (by decide) (Nat.le_of_ble_eq_true rfl) (Nat.le_of_ble_eq_true rfl) dX3_init_215 43 (by decide) (by decide) rfl (by rw [mArr_2 rfl]; rfl) q1309 rfl rfl (fun _ => rfl) (fun _ => rfl) dX3_init_217 (fun H locs hM hS => ?_)
  have hM : MWp D cA o 26 mU1 H := hM
  refine W.widen (k := 26) (n := 4598) (Nat.le_of_ble_eq_true rfl) (Nat.le_of_ble_eq_true rfl) ?_
  refine lv_aload_n hx hb dX3_init_220 rfl (lv_at hl 0 rfl) ?_
  refine lv_bipush (v := 100) hx hb dX3_init_221 (by decide) ?_
  refine mp_arr (atype := .int) (N := 100) hx hb hts hown hK hnm hM hS 0 q170 rfl (fun U k h => h) (by decide) (by decide) (by decide) (Nat.le_of_ble_eq_true rfl) (Nat.le_of_ble_eq_true rfl) dX3_init_223 46 (by decide) (by decide) rfl (by rw [mArr_2 rfl]; rfl) q1312 rfl rfl (fun _ => rfl) (fun _ => rfl) dX3_init_225 (fun H locs hM hS => ?_)
  have hM : MWp D cA o 27 mU1 H := hM
  refine W.widen (k := 27) (n := 4698) (Nat.le_of_ble_eq_true rfl) (Nat.le_of_ble_eq_true rfl) ?_
  refine lv_aload_n hx hb dX3_init_228 rfl (lv_at hl 0 rfl) ?_
  refine lv_bipush (v := 9) hx hb dX3_init_229 (by decide) ?_
  refine mp_arr (atype := .int) (N := 9) hx hb hts hown hK hnm hM hS 0 q170 rfl (fun U k h => h) (by decide) (by decide) (by decide) (Nat.le_of_ble_eq_true rfl) (Nat.le_of_ble_eq_true rfl) dX3_init_231 47 (by decide) (by decide) rfl (by rw [mArr_2 rfl]; rfl) q1313 rfl rfl (fun _ => rfl) (fun _ => rfl) dX3_init_233 (fun H locs hM hS => ?_)
  have hM : MWp D cA o 28 mU1 H := hM
  refine W.widen (k := 28) (n := 4707) (Nat.le_of_ble_eq_true rfl) (Nat.le_of_ble_eq_true rfl) ?_
  refine lv_aload_n hx hb dX3_init_236 rfl (lv_at hl 0 rfl) ?_
  refine lv_bipush (v := 30) hx hb dX3_init_237 (by decide) ?_
  refine mp_arr (atype := .int) (N := 30) hx hb hts hown hK hnm hM hS 0 q170 rfl (fun U k h => h) (by decide) (by decide) (by decide) (Nat.le_of_ble_eq_true rfl) (Nat.le_of_ble_eq_true rfl) dX3_init_239 48 (by decide) (by decide) rfl (by rw [mArr_2 rfl]; rfl) q1314 rfl rfl (fun _ => rfl) (fun _ => rfl) dX3_init_241 (fun H locs hM hS => ?_)
  have hM : MWp D cA o 29 mU1 H := hM
  refine W.widen (k := 29) (n := 4737) (Nat.le_of_ble_eq_true rfl) (Nat.le_of_ble_eq_true rfl) ?_
  refine lv_aload_n hx hb dX3_init_244 rfl (lv_at hl 0 rfl) ?_
  refine lv_bipush (v := 24) hx hb dX3_init_245 (by decide) ?_
  refine mp_arr (atype := .long) (N := 24) hx hb hts hown hK hnm hM hS 3 q283 rfl (fun U k h => h) (by decide) (by decide) (by decide) (Nat.le_of_ble_eq_true rfl) (Nat.le_of_ble_eq_true rfl) dX3_init_247 50 (by decide) (by decide) rfl (by rw [mArr_5 rfl]; rfl) q1316 rfl rfl (fun _ => rfl) (fun _ => rfl) dX3_init_249 (fun H locs hM hS => ?_)
  have hM : MWp D cA o 30 mU1 H := hM
  refine W.widen (k := 30) (n := 4761) (Nat.le_of_ble_eq_true rfl) (Nat.le_of_ble_eq_true rfl) ?_
  refine lv_aload_n hx hb dX3_init_252 rfl (lv_at hl 0 rfl) ?_
  refine lv_bipush (v := 24) hx hb dX3_init_253 (by decide) ?_
  refine mp_arr (atype := .long) (N := 24) hx hb hts hown hK hnm hM hS 3 q283 rfl (fun U k h => h) (by decide) (by decide) (by decide) (Nat.le_of_ble_eq_true rfl) (Nat.le_of_ble_eq_true rfl) dX3_init_255 51 (by decide) (by decide) rfl (by rw [mArr_5 rfl]; rfl) q1317 rfl rfl (fun _ => rfl) (fun _ => rfl) dX3_init_257 (fun H locs hM hS => ?_)
  have hM : MWp D cA o 31 mU1 H := hM
  refine W.widen (k := 31) (n := 4785) (Nat.le_of_ble_eq_true rfl) (Nat.le_of_ble_eq_true rfl) ?_
  refine lv_aload_n hx hb dX3_init_260 rfl (lv_at hl 0 rfl) ?_
  refine lv_bipush (v := 24) hx hb dX3_init_261 (by decide) ?_
  refine mp_arr (atype := .boolean) (N := 24) hx hb hts hown hK hnm hM hS 2 q284 rfl (fun U k h => h) (by decide) (by decide) (by decide) (Nat.le_of_ble_eq_true rfl) (Nat.le_of_ble_eq_true rfl) dX3_init_263 52 (by decide) (by decide) rfl (by rw [mArr_4 rfl]; rfl) q1318 rfl rfl (fun _ => rfl) (fun _ => rfl) dX3_init_265 (fun H locs hM hS => ?_)
  have hM : MWp D cA o 32 mU1 H := hM
  refine W.widen (k := 32) (n := 4809) (Nat.le_of_ble_eq_true rfl) (Nat.le_of_ble_eq_true rfl) ?_
  refine lv_aload_n hx hb dX3_init_268 rfl (lv_at hl 0 rfl) ?_
  refine lv_bipush (v := 64) hx hb dX3_init_269 (by decide) ?_
  refine mp_arr (atype := .int) (N := 64) hx hb hts hown hK hnm hM hS 0 q170 rfl (fun U k h => h) (by decide) (by decide) (by decide) (Nat.le_of_ble_eq_true rfl) (Nat.le_of_ble_eq_true rfl) dX3_init_271 53 (by decide) (by decide) rfl (by rw [mArr_2 rfl]; rfl) q1319 rfl rfl (fun _ => rfl) (fun _ => rfl) dX3_init_273 (fun H locs hM hS => ?_)
  have hM : MWp D cA o 33 mU1 H := hM
  refine W.widen (k := 33) (n := 4873) (Nat.le_of_ble_eq_true rfl) (Nat.le_of_ble_eq_true rfl) ?_
  refine lv_aload_n hx hb dX3_init_276 rfl (lv_at hl 0 rfl) ?_
  refine lv_sipush (v := 2304) hx hb dX3_init_277 (by decide) ?_
  refine mp_arr (atype := .int) (N := 2304) hx hb hts hown hK hnm hM hS 0 q170 rfl (fun U k h => h) (by decide) (by decide) (by decide) (Nat.le_of_ble_eq_true rfl) (Nat.le_of_ble_eq_true rfl) dX3_init_280 54 (by decide) (by decide) rfl (by rw [mArr_2 rfl]; rfl) q1320 rfl rfl (fun _ => rfl) (fun _ => rfl) dX3_init_282 (fun H locs hM hS => ?_)
  have hM : MWp D cA o 34 mU1 H := hM
  refine W.widen (k := 34) (n := 7177) (Nat.le_of_ble_eq_true rfl) (Nat.le_of_ble_eq_true rfl) ?_
  have hzz : H.size = o + 35 := hM.2.2
  have hM : MW D cA o mU1 H := hM.all
  refine lv_iconst (v := 0) hx hb dX3_init_285 (by decide) ?_
  refine lv_istore_n (lv' := [(1, .int 0), (0, .ref o)]) hx hb dX3_init_286 rfl hl (by decide) rfl (fun ls hl => ?_)
  refine mw_loop1 (rest := []) (nL := 2) (r := lpX3_init_287_r) lpX3_init_287 I_287 (fun q => q.1) (fun q => [(1, .int q.2), (0, .ref o)]) 287 307 101 (mU1, 0) hN0.2.1 hN0.1 hN0.2.2 rfl ?_ hM hS (lv_sub hl [0, 1] rfl) ?_
  · skip
    intro ⟨v, y⟩ hI_287 H locs ls hM hS hl kb k1
    have hM : MW D cA o v H := hM
    have hl : lv_has ls 2 [(1, .int y), (0, .ref o)] := hl
    refine lv_iload_n hx hb dX3_init_287 rfl (lv_at hl 0 rfl) ?_
    refine lv_bipush (v := 100) hx hb dX3_init_288 (by decide) ?_
    refine lv_icmp_ge (tgt := 307) hx hb dX3_init_290 (by decide) (fun c_290 => ?_) (fun c_290 => ?_)
    · skip
      have hs : lpX3_init_287 (v, y) = (1, v, y) := by rw [lpX3_init_287, if_pos c_290]
      rw [hs] at k1
      exact k1 (show ¬ (1 : Nat) = 0 by decide) _ _ _ hM hS (lv_sub hl [0, 1] rfl)
    · skip
      refine lv_aload_n hx hb dX3_init_293 rfl (lv_at hl 1 rfl) ?_
      refine mw_get (v := .ref (mAd o 5)) hx hb hts hown hK hM 5 (by decide) q1271 rfl rfl dX3_init_294 ?_
      refine lv_iload_n hx hb dX3_init_297 rfl (lv_at hl 0 rfl) ?_
      refine lv_bipush (v := 100) hx hb dX3_init_298 (by decide) ?_
      refine mw_ist (j := y.toNatClampNeg) hx hb hK hM hS 5 (by decide) rfl rfl (hN1 v y hI_287 c_290) rfl dX3_init_300 (fun H locs hM hS => ?_)
      refine lv_iinc (v := y + 1) (lv' := [(1, .int (y + 1)), (0, .ref o)]) hx hb dX3_init_301 hl (k := 0) rfl (rfl) (by decide) rfl (fun ls hl => ?_)
      refine lv_goto (tgt := 287) hx hb dX3_init_304 (by decide) ?_
      have hs : lpX3_init_287 (v, y) = (0, (sa v 5 y.toNatClampNeg 100), y + 1) := by rw [lpX3_init_287, if_neg c_290]
      rw [hs] at kb
      exact kb rfl _ _ _ hM hS (lv_sub hl [0, 1] rfl)
  · skip
    intro H locs ls hM hS hl
    have hM : MW D cA o lpX3_init_287_r.2.1 H := hM
    have hl : lv_has ls 2 [(1, .int (lpX3_init_287_r.2.2)), (0, .ref o)] := hl
    exact W.vret hx hb hr (fun t ht hW => ⟨rfl, by rw [ht]; exact hM, hS.F ht⟩) hS.2.2 dX3_init_307 hlk
