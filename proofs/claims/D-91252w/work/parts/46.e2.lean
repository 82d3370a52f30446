/-! The constructors of tests, lines, view. By tools/gen_e2.py -/
set_option maxRecDepth 100000
section E2
variable {p : Program} {l : Launch} {e : Env} {R : Room} {s : State} {m : MethodId} {args : Array Value} {below : List Frame} {meth : Method} {c : Code} {H : Heap} {locs : List Loc} {cells slots : Nat} {Q : State → Prop}
variable {cc : ByteArray} {pc : Nat} {ls : Array Slot} {rest : List Value} {D : va_G} {cA : Nat → ClassId} {A : Nat → Prop} {a : Nat} {H0 : Heap}
/-- fields of one name, declared by different classes, lie apart -/
theorem fa_apart {C : String} {T : u_T} {N ci : Nat} (hts : ∀ w ∈ lw_all, w.before args s = true) (hin : ∀ w ∈ u_ws C T N, w ∈ lw_all) (ty : Nat → FieldType) (hty : ∀ k, k < N → parseFieldDescriptor (T k).2.2.1 = some (ty k)) (hfa : ∀ k, k < N → (T k).2.2.2 = true) (hnm : ∀ a, a < N → ∀ b, b < N → a ≠ b → (T a).1 ≠ (T b).1 ∨ (T a).2.1 ≠ (T b).2.1) (hK : K0 D cA s) (hc : vwCl[ci]? = some (C, T, N)) : ∀ x y, x < N → y < N → x ≠ y → (D.2 ci) x ≠ (D.2 ci) y := by
  intro x y hx hy hne
  obtain ⟨hS, -⟩ := hK.1 ci _ hc
  obtain ⟨ca, ka, ia, fa, hia, ea⟩ := hS x hx
  obtain ⟨cb, kb, ib, fb, hib, eb⟩ := hS y hy
  rw [← ea, ← eb]
  intro hslot
  have hlx := hts _ (hin _ (u_in_lay hx))
  have hly := hts _ (hin _ (u_in_lay hy))
  unfold u_lay at hlx hly
  rw [if_pos (hfa x hx)] at hlx
  rw [if_pos (hfa y hy)] at hly
  obtain ⟨c1, k1, c1', k1', i1, f1, p1, -, p3, -, -, -, p7, -, d1, p9, p10, p11, -⟩ := Cond.laysFinal_spec hlx
  obtain ⟨c2, k2, c2', k2', i2, f2, r1, -, r3, -, -, -, r7, -, d2, r9, r10, r11, -⟩ := Cond.laysFinal_spec hly
  cases hia.symm.trans p3
  cases hib.symm.trans r3
  cases p1.symm.trans r1
  rw [hslot] at p9
  have hd : d1 = d2 := Option.some.inj (p9.symm.trans r9)
  subst hd
  have hfn : fa.name = fb.name := p11.symm.trans r11
  have hkn : ka.name = kb.name := p10.symm.trans r10
  obtain ⟨kx, m1, m2⟩ := Vm.findClass_spec p7
  obtain ⟨ky, m3, m4⟩ := Vm.findClass_spec r7
  have hkx : kx = ka := Option.some.inj (m1.symm.trans (State.fieldFound?_spec hia).1)
  have hky : ky = kb := Option.some.inj (m3.symm.trans (State.fieldFound?_spec hib).1)
  rw [hkx] at m2
  rw [hky] at m4
  rcases hnm x hx y hy hne with h | h
  · exact h (m2.symm.trans (hkn.trans m4))
  · exact h ((State.fieldFound?_type hia (hty x hx)).1.symm.trans (hfn.trans (State.fieldFound?_type hib (hty y hy)).1))
theorem ob_putFH (hexec : p.tables.exec = Jvm.exec) (hb : c.code = cc) {own ref C : String} {T : u_T} {N ci index : Nat} {V : Nat → Value} (hts : ∀ w ∈ lw_all, w.before args s = true) (hin : ∀ w ∈ u_ws C T N, w ∈ lw_all) (ty0 : Nat → FieldType) (hty : ∀ k, k < N → parseFieldDescriptor (T k).2.2.1 = some (ty0 k)) (hfa : ∀ k, k < N → (T k).2.2.2 = true) (hnm : ∀ a, a < N → ∀ b, b < N → a ≠ b → (T a).1 ≠ (T b).1 ∨ (T a).2.1 ≠ (T b).2.1) (hown : s.vm.findClass own = some m.cls) (hK : K0 D cA s) (hO : t_OB a (D.1 ci) N (D.2 ci) H V) (hS0 : va_S A H0 H locs) (hAa : A a) (hc : vwCl[ci]? = some (C, T, N)) (k : Nat) (hk : k < N) (hlink : (Cond.fieldLink own index ref (T k).2.1 (T k).2.2.1) ∈ lw_all) (hsame : ∀ x, s.fieldFound? (T k).1 (T k).2.1 (T k).2.2.1 = some x → s.fieldFound? ref (T k).2.1 (T k).2.2.1 = some x) (hin2 : meth.name = "<init>") (hdecl : (T k).1 = own) {v : Value} (hn : narrow (ty0 k) v = v) (hfit : fits (ty0 k) v = true)
    (hdg : decode cc pc = .ok (.putfield index, 3)) (kk : ∀ (H1 : Heap) (locs1 : List Loc), t_OB a (D.1 ci) N (D.2 ci) H1 (updV V k v) → (∀ q : Nat, q ≠ a → H1[q]? = H[q]?) → H1.size = H.size → va_S A H0 H1 locs1 → W p l e R s m args below meth c H1 locs1 cells slots Q (F0 m (pc + 3) ls rest)) : W p l e R s m args below meth c H locs cells slots Q (F0 m pc ls (v :: .ref a :: rest)) := by
  have hap := fa_apart hts hin ty0 hty hfa hnm hK hc
  obtain ⟨cell, q1, q2, q3, q4⟩ := hO
  obtain ⟨hS, hfc, kC, hkC, hkind⟩ := hK.1 ci _ hc
  obtain ⟨cf, kf, fi, f, hi, hsl⟩ := hS k hk
  have hlay := hts _ (hin _ (u_in_lay hk))
  unfold u_lay at hlay
  rw [if_pos (hfa k hk)] at hlay
  have hst := (u_facts hfc hkC (u_lays hts hin hk) hi).1
  have hcf : m.cls = cf := by
    obtain ⟨_, _, c', _, _, _, -, -, hf', -, -, -, hown2, -⟩ := Cond.laysFinal_spec hlay
    have e1 : c' = cf := by have := hi.symm.trans hf'; simp at this; exact this.1.symm
    rw [hdecl] at hown2
    rw [← e1]; exact Option.some.inj (hown.symm.trans hown2)
  have h6 := u_fits hfc hkC hkind (Or.inr hlay) hi (hty k hk) hn hfit
  refine W.putFinK hexec hb hown (hts _ hlink) (hsame _ hi) hst hcf hin2 (by rw [q2]; exact h6) q1 q3 (by rw [hsl]; exact k2_hasslot (q4 k hk)) rfl rfl hdg fun H' e1 e2 e3 => ?_
  rw [hsl] at e1 ⊢
  exact kk H' _ ⟨_, e1, q2, q3, t_set q4 hap hk v⟩ e3 e2 (hS0.put e2 e3 hAa)
end E2

theorem faX8 : ∀ k, k < 3 → (TX8 k).2.2.2 = true := by decide +kernel
theorem naX8 : ∀ a, a < 3 → ∀ b, b < 3 → a ≠ b → (TX8 a).1 ≠ (TX8 b).1 ∨ (TX8 a).2.1 ≠ (TX8 b).2.1 := by decide +kernel
set_option maxHeartbeats 4000000 in
theorem metX7_init_X8 (l : Launch) (κ : Kg) (a o : Nat) (V : Nat → Value) : Met l yX7_init (ws_ yX7_init cX7_init 2 none) (rmC 1 0 0) (xP κ (fun H => t_OB a (κ.D.1 6) 3 (κ.D.2 6) H V) [.ref a, .ref o]) (oQ a (κ.D.1 6) 3 (κ.D.2 6) (updV V 0 (.ref o))) 0 0 (fun q => q = a) := by
  refine xM_start RX7 (by decide) rfl (Nat.le_of_ble_eq_true rfl) ?_
  intro pg ev s0 mi bl me co hx hb hml hown hts hr hlk hnm hK hM ls hl
  have hl : lv_has ls 2 [(0, .ref a), (1, .ref o)] := hl
  have hO := hM
  have hS : va_S (fun q => q = a) s0.heap s0.heap [] := va_S.rf
  refine lv_aload_n hx hb dX7_init_0 rfl (lv_at hl 0 rfl) ?_
  refine lv_aload_n hx hb dX7_init_1 rfl (lv_at hl 1 rfl) ?_
  refine ob_putFH (C := RX8) (T := TX8) (N := 3) (ci := 6) (v := .ref o) hx hb hts in_X8 tyX8 tyX8_ok faX8 naX8 hown hK.1.1 hO hS rfl rfl 0 (by decide) q929 (fun x h => h) hnm rfl rfl rfl dX7_init_2 (fun H1 locsH1 hO hqH1 hzH1 hS => ?_)
  refine lv_aload_n hx hb dX7_init_5 rfl (lv_at hl 0 rfl) ?_
  refine W.objInit hx hb hown (hts _ q926) (hts _ q102) (hts _ q103) rfl (by rw [hml]; exact hl.1) rfl dX7_init_6 (Nat.le_of_ble_eq_true rfl) (Nat.le_of_ble_eq_true rfl) ?_
  refine W.eq (g2 := F0 mi 9 ls []) rfl ?_
  exact ob_vret hx hb hr hlk hO (fun k hk => rfl) hS (by omega) dX7_init_9

set_option maxHeartbeats 4000000 in
theorem metX8_init (l : Launch) (κ : Kg) (a o : Nat) (x : Nat) (haB : κ.base ≤ a) : Met l yX8_init (ws_ yX8_init cX8_init 3 none) (rmC 2 0 0) (xP κ (fun H => t_OB a (κ.D.1 6) 3 (κ.D.2 6) H (fun k => defaultValue (tyX8 k))) [.ref a, .ref o, .ref x]) (oQ a (κ.D.1 6) 3 (κ.D.2 6) (vp_V [.ref o, .ref x, .ref o])) 0 0 (fun q => q = a) := by
  refine xM_start RX8 (by decide) rfl (Nat.le_of_ble_eq_true rfl) ?_
  intro pg ev s0 mi bl me co hx hb hml hown hts hr hlk hnm hK hM ls hl
  have hl : lv_has ls 3 [(0, .ref a), (1, .ref o), (2, .ref x)] := hl
  have hO := hM
  have hS : va_S (fun q => q = a) s0.heap s0.heap [] := va_S.rf
  refine lv_aload_n hx hb dX8_init_0 rfl (lv_at hl 0 rfl) ?_
  refine lv_aload_n hx hb dX8_init_1 rfl (lv_at hl 1 rfl) ?_
  refine ob_putFH (C := RX8) (T := TX8) (N := 3) (ci := 6) (v := .ref o) hx hb hts in_X8 tyX8 tyX8_ok faX8 naX8 hown hK.1.1 hO hS rfl rfl 2 (by decide) q928 (fun x h => h) hnm rfl rfl rfl dX8_init_2 (fun H1 locsH1 hO hqH1 hzH1 hS => ?_)
  have hK1 : KZ κ s0 H1 := hK.to (fun q hq => hqH1 q (by omega)) (by have := hK.2.2; omega)
  refine lv_aload_n hx hb dX8_init_5 rfl (lv_at hl 0 rfl) ?_
  refine lv_aload_n hx hb dX8_init_6 rfl (lv_at hl 1 rfl) ?_
  refine ob_calledO (x_runIN (n := 1) (As := [.ref o]) (rest := []) hx hb hml hown hts (metX7_init_X8 l κ a o _) nq923 q924 q88 q925 rfl (by decide +kernel) (by decide) (by decide) rfl hK1 hO hl.1 (Nat.le_of_ble_eq_true rfl) rfl dX8_init_7 ⟨Nat.zero_le _, Nat.zero_le _⟩) hS rfl (fun H2 locs2 hO hzH2 hqH2 hS => ?_)
  refine lv_aload_n hx hb dX8_init_10 rfl (lv_at hl 0 rfl) ?_
  refine lv_aload_n hx hb dX8_init_11 rfl (lv_at hl 2 rfl) ?_
  refine ob_putFH (C := RX8) (T := TX8) (N := 3) (ci := 6) (v := .ref x) hx hb hts in_X8 tyX8 tyX8_ok faX8 naX8 hown hK.1.1 hO hS rfl rfl 1 (by decide) q927 (fun x h => h) hnm rfl rfl rfl dX8_init_12 (fun H3 locsH3 hO hqH3 hzH3 hS => ?_)
  exact ob_vret hx hb hr hlk hO (fun k hk => by rcases (show k = 0 ∨ k = 1 ∨ k = 2 by omega) with rfl | rfl | rfl <;> rfl) hS (by omega) dX8_init_15

theorem faX9 : ∀ k, k < 3 → (TX9 k).2.2.2 = true := by decide +kernel
theorem naX9 : ∀ a, a < 3 → ∀ b, b < 3 → a ≠ b → (TX9 a).1 ≠ (TX9 b).1 ∨ (TX9 a).2.1 ≠ (TX9 b).2.1 := by decide +kernel
set_option maxHeartbeats 4000000 in
theorem metX7_init_X9 (l : Launch) (κ : Kg) (a o : Nat) (V : Nat → Value) : Met l yX7_init (ws_ yX7_init cX7_init 2 none) (rmC 1 0 0) (xP κ (fun H => t_OB a (κ.D.1 7) 3 (κ.D.2 7) H V) [.ref a, .ref o]) (oQ a (κ.D.1 7) 3 (κ.D.2 7) (updV V 0 (.ref o))) 0 0 (fun q => q = a) := by
  refine xM_start RX7 (by decide) rfl (Nat.le_of_ble_eq_true rfl) ?_
  intro pg ev s0 mi bl me co hx hb hml hown hts hr hlk hnm hK hM ls hl
  have hl : lv_has ls 2 [(0, .ref a), (1, .ref o)] := hl
  have hO := hM
  have hS : va_S (fun q => q = a) s0.heap s0.heap [] := va_S.rf
  refine lv_aload_n hx hb dX7_init_0 rfl (lv_at hl 0 rfl) ?_
  refine lv_aload_n hx hb dX7_init_1 rfl (lv_at hl 1 rfl) ?_
  refine ob_putFH (C := RX9) (T := TX9) (N := 3) (ci := 7) (v := .ref o) hx hb hts in_X9 tyX9 tyX9_ok faX9 naX9 hown hK.1.1 hO hS rfl rfl 0 (by decide) q929 (fun x h => h) hnm rfl rfl rfl dX7_init_2 (fun H1 locsH1 hO hqH1 hzH1 hS => ?_)
  refine lv_aload_n hx hb dX7_init_5 rfl (lv_at hl 0 rfl) ?_
  refine W.objInit hx hb hown (hts _ q926) (hts _ q102) (hts _ q103) rfl (by rw [hml]; exact hl.1) rfl dX7_init_6 (Nat.le_of_ble_eq_true rfl) (Nat.le_of_ble_eq_true rfl) ?_
  refine W.eq (g2 := F0 mi 9 ls []) rfl ?_
  exact ob_vret hx hb hr hlk hO (fun k hk => rfl) hS (by omega) dX7_init_9

set_option maxHeartbeats 4000000 in
theorem metX9_init (l : Launch) (κ : Kg) (a o : Nat) (n : Int32) (haB : κ.base ≤ a) : Met l yX9_init (ws_ yX9_init cX9_init 3 none) (rmC 2 0 0) (xP κ (fun H => t_OB a (κ.D.1 7) 3 (κ.D.2 7) H (fun k => defaultValue (tyX9 k))) [.ref a, .ref o, .int n]) (oQ a (κ.D.1 7) 3 (κ.D.2 7) (vp_V [.ref o, .int n, .ref o])) 0 0 (fun q => q = a) := by
  refine xM_start RX9 (by decide) rfl (Nat.le_of_ble_eq_true rfl) ?_
  intro pg ev s0 mi bl me co hx hb hml hown hts hr hlk hnm hK hM ls hl
  have hl : lv_has ls 3 [(0, .ref a), (1, .ref o), (2, .int n)] := hl
  have hO := hM
  have hS : va_S (fun q => q = a) s0.heap s0.heap [] := va_S.rf
  refine lv_aload_n hx hb dX9_init_0 rfl (lv_at hl 0 rfl) ?_
  refine lv_aload_n hx hb dX9_init_1 rfl (lv_at hl 1 rfl) ?_
  refine ob_putFH (C := RX9) (T := TX9) (N := 3) (ci := 7) (v := .ref o) hx hb hts in_X9 tyX9 tyX9_ok faX9 naX9 hown hK.1.1 hO hS rfl rfl 2 (by decide) q952 (fun x h => h) hnm rfl rfl rfl dX9_init_2 (fun H1 locsH1 hO hqH1 hzH1 hS => ?_)
  have hK1 : KZ κ s0 H1 := hK.to (fun q hq => hqH1 q (by omega)) (by have := hK.2.2; omega)
  refine lv_aload_n hx hb dX9_init_5 rfl (lv_at hl 0 rfl) ?_
  refine lv_aload_n hx hb dX9_init_6 rfl (lv_at hl 1 rfl) ?_
  refine ob_calledO (x_runIN (n := 1) (As := [.ref o]) (rest := []) hx hb hml hown hts (metX7_init_X9 l κ a o _) nq950 q924 q88 q925 rfl (by decide +kernel) (by decide) (by decide) rfl hK1 hO hl.1 (Nat.le_of_ble_eq_true rfl) rfl dX9_init_7 ⟨Nat.zero_le _, Nat.zero_le _⟩) hS rfl (fun H2 locs2 hO hzH2 hqH2 hS => ?_)
  refine lv_aload_n hx hb dX9_init_10 rfl (lv_at hl 0 rfl) ?_
  refine lv_iload_n hx hb dX9_init_11 rfl (lv_at hl 2 rfl) ?_
  refine ob_putFH (C := RX9) (T := TX9) (N := 3) (ci := 7) (v := .int n) hx hb hts in_X9 tyX9 tyX9_ok faX9 naX9 hown hK.1.1 hO hS rfl rfl 1 (by decide) q951 (fun x h => h) hnm rfl rfl rfl dX9_init_12 (fun H3 locsH3 hO hqH3 hzH3 hS => ?_)
  exact ob_vret hx hb hr hlk hO (fun k hk => by rcases (show k = 0 ∨ k = 1 ∨ k = 2 by omega) with rfl | rfl | rfl <;> rfl) hS (by omega) dX9_init_15

theorem faX10 : ∀ k, k < 3 → (TX10 k).2.2.2 = true := by decide +kernel
theorem naX10 : ∀ a, a < 3 → ∀ b, b < 3 → a ≠ b → (TX10 a).1 ≠ (TX10 b).1 ∨ (TX10 a).2.1 ≠ (TX10 b).2.1 := by decide +kernel
set_option maxHeartbeats 4000000 in
theorem metX7_init_X10 (l : Launch) (κ : Kg) (a o : Nat) (V : Nat → Value) : Met l yX7_init (ws_ yX7_init cX7_init 2 none) (rmC 1 0 0) (xP κ (fun H => t_OB a (κ.D.1 8) 3 (κ.D.2 8) H V) [.ref a, .ref o]) (oQ a (κ.D.1 8) 3 (κ.D.2 8) (updV V 0 (.ref o))) 0 0 (fun q => q = a) := by
  refine xM_start RX7 (by decide) rfl (Nat.le_of_ble_eq_true rfl) ?_
  intro pg ev s0 mi bl me co hx hb hml hown hts hr hlk hnm hK hM ls hl
  have hl : lv_has ls 2 [(0, .ref a), (1, .ref o)] := hl
  have hO := hM
  have hS : va_S (fun q => q = a) s0.heap s0.heap [] := va_S.rf
  refine lv_aload_n hx hb dX7_init_0 rfl (lv_at hl 0 rfl) ?_
  refine lv_aload_n hx hb dX7_init_1 rfl (lv_at hl 1 rfl) ?_
  refine ob_putFH (C := RX10) (T := TX10) (N := 3) (ci := 8) (v := .ref o) hx hb hts in_X10 tyX10 tyX10_ok faX10 naX10 hown hK.1.1 hO hS rfl rfl 0 (by decide) q929 (fun x h => h) hnm rfl rfl rfl dX7_init_2 (fun H1 locsH1 hO hqH1 hzH1 hS => ?_)
  refine lv_aload_n hx hb dX7_init_5 rfl (lv_at hl 0 rfl) ?_
  refine W.objInit hx hb hown (hts _ q926) (hts _ q102) (hts _ q103) rfl (by rw [hml]; exact hl.1) rfl dX7_init_6 (Nat.le_of_ble_eq_true rfl) (Nat.le_of_ble_eq_true rfl) ?_
  refine W.eq (g2 := F0 mi 9 ls []) rfl ?_
  exact ob_vret hx hb hr hlk hO (fun k hk => rfl) hS (by omega) dX7_init_9

set_option maxHeartbeats 4000000 in
theorem metX10_init (l : Launch) (κ : Kg) (a o : Nat) (x : Nat) (haB : κ.base ≤ a) : Met l yX10_init (ws_ yX10_init cX10_init 3 none) (rmC 2 0 0) (xP κ (fun H => t_OB a (κ.D.1 8) 3 (κ.D.2 8) H (fun k => defaultValue (tyX10 k))) [.ref a, .ref o, .ref x]) (oQ a (κ.D.1 8) 3 (κ.D.2 8) (vp_V [.ref o, .ref x, .ref o])) 0 0 (fun q => q = a) := by
  refine xM_start RX10 (by decide) rfl (Nat.le_of_ble_eq_true rfl) ?_
  intro pg ev s0 mi bl me co hx hb hml hown hts hr hlk hnm hK hM ls hl
  have hl : lv_has ls 3 [(0, .ref a), (1, .ref o), (2, .ref x)] := hl
  have hO := hM
  have hS : va_S (fun q => q = a) s0.heap s0.heap [] := va_S.rf
  refine lv_aload_n hx hb dX10_init_0 rfl (lv_at hl 0 rfl) ?_
  refine lv_aload_n hx hb dX10_init_1 rfl (lv_at hl 1 rfl) ?_
  refine ob_putFH (C := RX10) (T := TX10) (N := 3) (ci := 8) (v := .ref o) hx hb hts in_X10 tyX10 tyX10_ok faX10 naX10 hown hK.1.1 hO hS rfl rfl 2 (by decide) q966 (fun x h => h) hnm rfl rfl rfl dX10_init_2 (fun H1 locsH1 hO hqH1 hzH1 hS => ?_)
  have hK1 : KZ κ s0 H1 := hK.to (fun q hq => hqH1 q (by omega)) (by have := hK.2.2; omega)
  refine lv_aload_n hx hb dX10_init_5 rfl (lv_at hl 0 rfl) ?_
  refine lv_aload_n hx hb dX10_init_6 rfl (lv_at hl 1 rfl) ?_
  refine ob_calledO (x_runIN (n := 1) (As := [.ref o]) (rest := []) hx hb hml hown hts (metX7_init_X10 l κ a o _) nq964 q924 q88 q925 rfl (by decide +kernel) (by decide) (by decide) rfl hK1 hO hl.1 (Nat.le_of_ble_eq_true rfl) rfl dX10_init_7 ⟨Nat.zero_le _, Nat.zero_le _⟩) hS rfl (fun H2 locs2 hO hzH2 hqH2 hS => ?_)
  refine lv_aload_n hx hb dX10_init_10 rfl (lv_at hl 0 rfl) ?_
  refine lv_aload_n hx hb dX10_init_11 rfl (lv_at hl 2 rfl) ?_
  refine ob_putFH (C := RX10) (T := TX10) (N := 3) (ci := 8) (v := .ref x) hx hb hts in_X10 tyX10 tyX10_ok faX10 naX10 hown hK.1.1 hO hS rfl rfl 1 (by decide) q965 (fun x h => h) hnm rfl rfl rfl dX10_init_12 (fun H3 locsH3 hO hqH3 hzH3 hS => ?_)
  exact ob_vret hx hb hr hlk hO (fun k hk => by rcases (show k = 0 ∨ k = 1 ∨ k = 2 by omega) with rfl | rfl | rfl <;> rfl) hS (by omega) dX10_init_15

theorem faX11 : ∀ k, k < 5 → (TX11 k).2.2.2 = true := by decide +kernel
theorem naX11 : ∀ a, a < 5 → ∀ b, b < 5 → a ≠ b → (TX11 a).1 ≠ (TX11 b).1 ∨ (TX11 a).2.1 ≠ (TX11 b).2.1 := by decide +kernel
set_option maxHeartbeats 4000000 in
theorem metX7_init_X11 (l : Launch) (κ : Kg) (a o : Nat) (V : Nat → Value) : Met l yX7_init (ws_ yX7_init cX7_init 2 none) (rmC 1 0 0) (xP κ (fun H => t_OB a (κ.D.1 9) 5 (κ.D.2 9) H V) [.ref a, .ref o]) (oQ a (κ.D.1 9) 5 (κ.D.2 9) (updV V 0 (.ref o))) 0 0 (fun q => q = a) := by
  refine xM_start RX7 (by decide) rfl (Nat.le_of_ble_eq_true rfl) ?_
  intro pg ev s0 mi bl me co hx hb hml hown hts hr hlk hnm hK hM ls hl
  have hl : lv_has ls 2 [(0, .ref a), (1, .ref o)] := hl
  have hO := hM
  have hS : va_S (fun q => q = a) s0.heap s0.heap [] := va_S.rf
  refine lv_aload_n hx hb dX7_init_0 rfl (lv_at hl 0 rfl) ?_
  refine lv_aload_n hx hb dX7_init_1 rfl (lv_at hl 1 rfl) ?_
  refine ob_putFH (C := RX11) (T := TX11) (N := 5) (ci := 9) (v := .ref o) hx hb hts in_X11 tyX11 tyX11_ok faX11 naX11 hown hK.1.1 hO hS rfl rfl 0 (by decide) q929 (fun x h => h) hnm rfl rfl rfl dX7_init_2 (fun H1 locsH1 hO hqH1 hzH1 hS => ?_)
  refine lv_aload_n hx hb dX7_init_5 rfl (lv_at hl 0 rfl) ?_
  refine W.objInit hx hb hown (hts _ q926) (hts _ q102) (hts _ q103) rfl (by rw [hml]; exact hl.1) rfl dX7_init_6 (Nat.le_of_ble_eq_true rfl) (Nat.le_of_ble_eq_true rfl) ?_
  refine W.eq (g2 := F0 mi 9 ls []) rfl ?_
  exact ob_vret hx hb hr hlk hO (fun k hk => rfl) hS (by omega) dX7_init_9

set_option maxHeartbeats 4000000 in
theorem metX11_init (l : Launch) (κ : Kg) (a o : Nat) (x : Nat) (sg : Int32) (y : Nat) (haB : κ.base ≤ a) : Met l yX11_init (ws_ yX11_init cX11_init 5 none) (rmC 2 0 0) (xP κ (fun H => t_OB a (κ.D.1 9) 5 (κ.D.2 9) H (fun k => defaultValue (tyX11 k))) [.ref a, .ref o, .ref x, .int sg, .ref y]) (oQ a (κ.D.1 9) 5 (κ.D.2 9) (vp_V [.ref o, .ref x, .ref y, .int sg, .ref o])) 0 0 (fun q => q = a) := by
  refine xM_start RX11 (by decide) rfl (Nat.le_of_ble_eq_true rfl) ?_
  intro pg ev s0 mi bl me co hx hb hml hown hts hr hlk hnm hK hM ls hl
  have hl : lv_has ls 5 [(0, .ref a), (1, .ref o), (2, .ref x), (3, .int sg), (4, .ref y)] := hl
  have hO := hM
  have hS : va_S (fun q => q = a) s0.heap s0.heap [] := va_S.rf
  refine lv_aload_n hx hb dX11_init_0 rfl (lv_at hl 0 rfl) ?_
  refine lv_aload_n hx hb dX11_init_1 rfl (lv_at hl 1 rfl) ?_
  refine ob_putFH (C := RX11) (T := TX11) (N := 5) (ci := 9) (v := .ref o) hx hb hts in_X11 tyX11 tyX11_ok faX11 naX11 hown hK.1.1 hO hS rfl rfl 4 (by decide) q982 (fun x h => h) hnm rfl rfl rfl dX11_init_2 (fun H1 locsH1 hO hqH1 hzH1 hS => ?_)
  have hK1 : KZ κ s0 H1 := hK.to (fun q hq => hqH1 q (by omega)) (by have := hK.2.2; omega)
  refine lv_aload_n hx hb dX11_init_5 rfl (lv_at hl 0 rfl) ?_
  refine lv_aload_n hx hb dX11_init_6 rfl (lv_at hl 1 rfl) ?_
  refine ob_calledO (x_runIN (n := 1) (As := [.ref o]) (rest := []) hx hb hml hown hts (metX7_init_X11 l κ a o _) nq978 q924 q88 q925 rfl (by decide +kernel) (by decide) (by decide) rfl hK1 hO hl.1 (Nat.le_of_ble_eq_true rfl) rfl dX11_init_7 ⟨Nat.zero_le _, Nat.zero_le _⟩) hS rfl (fun H2 locs2 hO hzH2 hqH2 hS => ?_)
  refine lv_aload_n hx hb dX11_init_10 rfl (lv_at hl 0 rfl) ?_
  refine lv_aload_n hx hb dX11_init_11 rfl (lv_at hl 2 rfl) ?_
  refine ob_putFH (C := RX11) (T := TX11) (N := 5) (ci := 9) (v := .ref x) hx hb hts in_X11 tyX11 tyX11_ok faX11 naX11 hown hK.1.1 hO hS rfl rfl 1 (by decide) q979 (fun x h => h) hnm rfl rfl rfl dX11_init_12 (fun H3 locsH3 hO hqH3 hzH3 hS => ?_)
  refine lv_aload_n hx hb dX11_init_15 rfl (lv_at hl 0 rfl) ?_
  refine lv_iload_n hx hb dX11_init_16 rfl (lv_at hl 3 rfl) ?_
  refine ob_putFH (C := RX11) (T := TX11) (N := 5) (ci := 9) (v := .int sg) hx hb hts in_X11 tyX11 tyX11_ok faX11 naX11 hown hK.1.1 hO hS rfl rfl 3 (by decide) q981 (fun x h => h) hnm rfl rfl rfl dX11_init_17 (fun H4 locsH4 hO hqH4 hzH4 hS => ?_)
  refine lv_aload_n hx hb dX11_init_20 rfl (lv_at hl 0 rfl) ?_
  refine lv_aload hx hb dX11_init_21 (lv_at hl 4 rfl) ?_
  refine ob_putFH (C := RX11) (T := TX11) (N := 5) (ci := 9) (v := .ref y) hx hb hts in_X11 tyX11 tyX11_ok faX11 naX11 hown hK.1.1 hO hS rfl rfl 2 (by decide) q980 (fun x h => h) hnm rfl rfl rfl dX11_init_23 (fun H5 locsH5 hO hqH5 hzH5 hS => ?_)
  exact ob_vret hx hb hr hlk hO (fun k hk => by rcases (show k = 0 ∨ k = 1 ∨ k = 2 ∨ k = 3 ∨ k = 4 by omega) with rfl | rfl | rfl | rfl | rfl <;> rfl) hS (by omega) dX11_init_26

theorem faX12 : ∀ k, k < 4 → (TX12 k).2.2.2 = true := by decide +kernel
theorem naX12 : ∀ a, a < 4 → ∀ b, b < 4 → a ≠ b → (TX12 a).1 ≠ (TX12 b).1 ∨ (TX12 a).2.1 ≠ (TX12 b).2.1 := by decide +kernel
set_option maxHeartbeats 4000000 in
theorem metX7_init_X12 (l : Launch) (κ : Kg) (a o : Nat) (V : Nat → Value) : Met l yX7_init (ws_ yX7_init cX7_init 2 none) (rmC 1 0 0) (xP κ (fun H => t_OB a (κ.D.1 10) 4 (κ.D.2 10) H V) [.ref a, .ref o]) (oQ a (κ.D.1 10) 4 (κ.D.2 10) (updV V 0 (.ref o))) 0 0 (fun q => q = a) := by
  refine xM_start RX7 (by decide) rfl (Nat.le_of_ble_eq_true rfl) ?_
  intro pg ev s0 mi bl me co hx hb hml hown hts hr hlk hnm hK hM ls hl
  have hl : lv_has ls 2 [(0, .ref a), (1, .ref o)] := hl
  have hO := hM
  have hS : va_S (fun q => q = a) s0.heap s0.heap [] := va_S.rf
  refine lv_aload_n hx hb dX7_init_0 rfl (lv_at hl 0 rfl) ?_
  refine lv_aload_n hx hb dX7_init_1 rfl (lv_at hl 1 rfl) ?_
  refine ob_putFH (C := RX12) (T := TX12) (N := 4) (ci := 10) (v := .ref o) hx hb hts in_X12 tyX12 tyX12_ok faX12 naX12 hown hK.1.1 hO hS rfl rfl 0 (by decide) q929 (fun x h => h) hnm rfl rfl rfl dX7_init_2 (fun H1 locsH1 hO hqH1 hzH1 hS => ?_)
  refine lv_aload_n hx hb dX7_init_5 rfl (lv_at hl 0 rfl) ?_
  refine W.objInit hx hb hown (hts _ q926) (hts _ q102) (hts _ q103) rfl (by rw [hml]; exact hl.1) rfl dX7_init_6 (Nat.le_of_ble_eq_true rfl) (Nat.le_of_ble_eq_true rfl) ?_
  refine W.eq (g2 := F0 mi 9 ls []) rfl ?_
  exact ob_vret hx hb hr hlk hO (fun k hk => rfl) hS (by omega) dX7_init_9

set_option maxHeartbeats 4000000 in
theorem metX12_init (l : Launch) (κ : Kg) (a o : Nat) (x : Nat) (al : Bool) (haB : κ.base ≤ a) : Met l yX12_init (ws_ yX12_init cX12_init 4 none) (rmC 2 0 0) (xP κ (fun H => t_OB a (κ.D.1 10) 4 (κ.D.2 10) H (fun k => defaultValue (tyX12 k))) [.ref a, .ref o, .ref x, .int (b2 al)]) (oQ a (κ.D.1 10) 4 (κ.D.2 10) (vp_V [.ref o, .ref x, .int (b2 al), .ref o])) 0 0 (fun q => q = a) := by
  refine xM_start RX12 (by decide) rfl (Nat.le_of_ble_eq_true rfl) ?_
  intro pg ev s0 mi bl me co hx hb hml hown hts hr hlk hnm hK hM ls hl
  have hl : lv_has ls 4 [(0, .ref a), (1, .ref o), (2, .ref x), (3, .int (b2 al))] := hl
  have hO := hM
  have hS : va_S (fun q => q = a) s0.heap s0.heap [] := va_S.rf
  refine lv_aload_n hx hb dX12_init_0 rfl (lv_at hl 0 rfl) ?_
  refine lv_aload_n hx hb dX12_init_1 rfl (lv_at hl 1 rfl) ?_
  refine ob_putFH (C := RX12) (T := TX12) (N := 4) (ci := 10) (v := .ref o) hx hb hts in_X12 tyX12 tyX12_ok faX12 naX12 hown hK.1.1 hO hS rfl rfl 3 (by decide) q1072 (fun x h => h) hnm rfl rfl rfl dX12_init_2 (fun H1 locsH1 hO hqH1 hzH1 hS => ?_)
  have hK1 : KZ κ s0 H1 := hK.to (fun q hq => hqH1 q (by omega)) (by have := hK.2.2; omega)
  refine lv_aload_n hx hb dX12_init_5 rfl (lv_at hl 0 rfl) ?_
  refine lv_aload_n hx hb dX12_init_6 rfl (lv_at hl 1 rfl) ?_
  refine ob_calledO (x_runIN (n := 1) (As := [.ref o]) (rest := []) hx hb hml hown hts (metX7_init_X12 l κ a o _) nq1069 q924 q88 q925 rfl (by decide +kernel) (by decide) (by decide) rfl hK1 hO hl.1 (Nat.le_of_ble_eq_true rfl) rfl dX12_init_7 ⟨Nat.zero_le _, Nat.zero_le _⟩) hS rfl (fun H2 locs2 hO hzH2 hqH2 hS => ?_)
  refine lv_aload_n hx hb dX12_init_10 rfl (lv_at hl 0 rfl) ?_
  refine lv_aload_n hx hb dX12_init_11 rfl (lv_at hl 2 rfl) ?_
  refine ob_putFH (C := RX12) (T := TX12) (N := 4) (ci := 10) (v := .ref x) hx hb hts in_X12 tyX12 tyX12_ok faX12 naX12 hown hK.1.1 hO hS rfl rfl 1 (by decide) q1070 (fun x h => h) hnm rfl rfl rfl dX12_init_12 (fun H3 locsH3 hO hqH3 hzH3 hS => ?_)
  refine lv_aload_n hx hb dX12_init_15 rfl (lv_at hl 0 rfl) ?_
  refine lv_iload_n hx hb dX12_init_16 rfl (lv_at hl 3 rfl) ?_
  refine ob_putFH (C := RX12) (T := TX12) (N := 4) (ci := 10) (v := .int (b2 al)) hx hb hts in_X12 tyX12 tyX12_ok faX12 naX12 hown hK.1.1 hO hS rfl rfl 2 (by decide) q1071 (fun x h => h) hnm rfl (b2_nar al) (by cases al <;> rfl) dX12_init_17 (fun H4 locsH4 hO hqH4 hzH4 hS => ?_)
  exact ob_vret hx hb hr hlk hO (fun k hk => by rcases (show k = 0 ∨ k = 1 ∨ k = 2 ∨ k = 3 by omega) with rfl | rfl | rfl | rfl <;> rfl) hS (by omega) dX12_init_20

set_option maxHeartbeats 4000000 in
theorem metX13_init (l : Launch) (κ : Kg) (a x : Nat) (d pt : Int32) : Met l yX13_init (ws_ yX13_init cX13_init 4 none) (rmC 1 0 0) (xP κ (fun H => t_OB a (κ.D.1 11) 3 (κ.D.2 11) H (fun k => defaultValue (tyX13 k))) [.ref a, .ref x, .int d, .int pt]) (oQ a (κ.D.1 11) 3 (κ.D.2 11) (vp_V [.ref x, .int d, .int pt])) 0 0 (fun q => q = a) := by
  refine xM_start RX13 (by decide) rfl (Nat.le_of_ble_eq_true rfl) ?_
  intro pg ev s0 mi bl me co hx hb hml hown hts hr hlk hnm hK hM ls hl
  have hl : lv_has ls 4 [(0, .ref a), (1, .ref x), (2, .int d), (3, .int pt)] := hl
  have hO := hM
  have hS : va_S (fun q => q = a) s0.heap s0.heap [] := va_S.rf
  refine lv_aload_n hx hb dX13_init_0 rfl (lv_at hl 0 rfl) ?_
  refine W.objInit hx hb hown (hts _ q1092) (hts _ q102) (hts _ q103) rfl (by rw [hml]; exact hl.1) rfl dX13_init_1 (Nat.le_of_ble_eq_true rfl) (Nat.le_of_ble_eq_true rfl) ?_
  refine W.eq (g2 := F0 mi 4 ls []) rfl ?_
  refine lv_aload_n hx hb dX13_init_4 rfl (lv_at hl 0 rfl) ?_
  refine lv_aload_n hx hb dX13_init_5 rfl (lv_at hl 1 rfl) ?_
  refine ob_putF (C := RX13) (T := TX13) (N := 3) (ci := 11) (v := .ref x) hx hb hts in_X13 tyX13 tyX13_ok nmX13 hown hK.1.1 hO hS rfl rfl 0 (by decide) q1093 (fun x h => h) rfl hnm rfl rfl rfl dX13_init_6 (fun H1 locsH1 hO hqH1 hzH1 hS => ?_)
  refine lv_aload_n hx hb dX13_init_9 rfl (lv_at hl 0 rfl) ?_
  refine lv_iload_n hx hb dX13_init_10 rfl (lv_at hl 2 rfl) ?_
  refine ob_putF (C := RX13) (T := TX13) (N := 3) (ci := 11) (v := .int d) hx hb hts in_X13 tyX13 tyX13_ok nmX13 hown hK.1.1 hO hS rfl rfl 1 (by decide) q1095 (fun x h => h) rfl hnm rfl rfl rfl dX13_init_11 (fun H2 locsH2 hO hqH2 hzH2 hS => ?_)
  refine lv_aload_n hx hb dX13_init_14 rfl (lv_at hl 0 rfl) ?_
  refine lv_iload_n hx hb dX13_init_15 rfl (lv_at hl 3 rfl) ?_
  refine ob_putF (C := RX13) (T := TX13) (N := 3) (ci := 11) (v := .int pt) hx hb hts in_X13 tyX13 tyX13_ok nmX13 hown hK.1.1 hO hS rfl rfl 2 (by decide) q1097 (fun x h => h) rfl hnm rfl rfl rfl dX13_init_16 (fun H3 locsH3 hO hqH3 hzH3 hS => ?_)
  exact ob_vret hx hb hr hlk hO (fun k hk => by rcases (show k = 0 ∨ k = 1 ∨ k = 2 by omega) with rfl | rfl | rfl <;> rfl) hS (by omega) dX13_init_19

set_option maxHeartbeats 4000000 in
theorem metX1_init (l : Launch) (κ : Kg) (a o : Nat) : Met l yX1_init (ws_ yX1_init cX1_init 2 none) (rmC 1 0 0) (xP κ (fun H => t_OB a (κ.D.1 1) 6 (κ.D.2 1) H (fun k => defaultValue (tyX1 k))) [.ref a, .ref o]) (oQ a (κ.D.1 1) 6 (κ.D.2 1) (vp_V [.null, .int 0, .int 0, .int 0, .int 0, .ref o])) 0 0 (fun q => q = a) := by
  refine xM_start RX1 (by decide) rfl (Nat.le_of_ble_eq_true rfl) ?_
  intro pg ev s0 mi bl me co hx hb hml hown hts hr hlk hnm hK hM ls hl
  have hl : lv_has ls 2 [(0, .ref a), (1, .ref o)] := hl
  have hO := hM
  have hS : va_S (fun q => q = a) s0.heap s0.heap [] := va_S.rf
  refine lv_aload_n hx hb dX1_init_0 rfl (lv_at hl 0 rfl) ?_
  refine lv_aload_n hx hb dX1_init_1 rfl (lv_at hl 1 rfl) ?_
  refine ob_putF (C := RX1) (T := TX1) (N := 6) (ci := 1) (v := .ref o) hx hb hts in_X1 tyX1 tyX1_ok nmX1 hown hK.1.1 hO hS rfl rfl 5 (by decide) q156 (fun x h => h) rfl hnm rfl rfl rfl dX1_init_2 (fun H1 locsH1 hO hqH1 hzH1 hS => ?_)
  refine lv_aload_n hx hb dX1_init_5 rfl (lv_at hl 0 rfl) ?_
  refine W.objInit hx hb hown (hts _ q140) (hts _ q102) (hts _ q103) rfl (by rw [hml]; exact hl.1) rfl dX1_init_6 (Nat.le_of_ble_eq_true rfl) (Nat.le_of_ble_eq_true rfl) ?_
  refine W.eq (g2 := F0 mi 9 ls []) rfl ?_
  exact ob_vret hx hb hr hlk hO (fun k hk => by rcases (show k = 0 ∨ k = 1 ∨ k = 2 ∨ k = 3 ∨ k = 4 ∨ k = 5 by omega) with rfl | rfl | rfl | rfl | rfl | rfl <;> rfl) hS (by omega) dX1_init_9
