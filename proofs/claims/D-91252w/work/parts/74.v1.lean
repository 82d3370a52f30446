/-! The tests' values. By tools/gen_v2.py -/
set_option maxRecDepth 100000
theorem joinS_all {al : Bool} {n : Nat} {fs : Nat → Sm} {e : Nat → Int32} (h : ∀ k, k < n → (!decide (fs k e = 0)) = al) : joinS al n fs e = b2 al := by
  unfold joinS
  cases al with
  | true =>
    rw [if_pos rfl]
    congr 1
    exact List.all_eq_true.mpr (fun k hk => h k (List.mem_range.mp hk))
  | false =>
    rw [if_neg (by decide)]
    congr 1
    cases hz : (List.range n).any (fun k => !decide (fs k e = 0)) with
    | false => rfl
    | true =>
      obtain ⟨k, hk, hk2⟩ := List.any_eq_true.mp hz
      rw [h k (List.mem_range.mp hk)] at hk2
      cases hk2
theorem joinS_one {al : Bool} {n k : Nat} {fs : Nat → Sm} {e : Nat → Int32} (hk : k < n) (h : (!decide (fs k e = 0)) = !al) : joinS al n fs e = b2 (!al) := by
  unfold joinS
  cases al with
  | true =>
    rw [if_pos rfl]
    congr 1
    cases hz : (List.range n).all (fun k => !decide (fs k e = 0)) with
    | false => rfl
    | true =>
      have := List.all_eq_true.mp hz k (List.mem_range.mpr hk)
      rw [this] at h
      cases h
  | false =>
    rw [if_neg (by decide)]
    congr 1
    exact List.any_eq_true.mpr ⟨k, List.mem_range.mpr hk, h⟩
theorem bn_ne {a b : Bool} (h : ¬ a = b) : a = !b := by cases a <;> cases b <;> first | rfl | exact absurd rfl h
theorem join_end {al is : Bool} {n k : Nat} {fs : Nat → Sm} {e : Nat → Int32} (hI : is = al → ∀ k1, k1 < k → (!decide (fs k1 e = 0)) = al) (hJ : ¬ is = al → joinS al n fs e = b2 is) (h : k = n ∨ ¬ is = al) : b2 is = joinS al n fs e := by
  by_cases hq : is = al
  · rcases h with h | h
    · rw [joinS_all (fun j hj => hI hq j (by omega)), hq]
    · exact absurd hq h
  · exact (hJ hq).symm
/-- the call of a test's value, of whatever class it is -/
def EvC (l : Launch) (κ : Kg) (o : Nat) (g : Gh) (u : St) (S : Nat → Prop) (dp : Nat) : Prop :=
  ∀ (p : Program) (e : Env) (s : State) (m : MethodId) (args : Array Value) (below : List Frame) (meth : Method) (c : Code) (H : Heap) (locs : List Loc) (cells slots : Nat) (Q : State → Prop) (pc nL d mc ms : Nat) (ls : Array Slot) (rest : List Value) (cc : ByteArray) (own : String) (idx a : Nat) (f : Sm), p.tables.exec = Jvm.exec → c.code = cc → c.maxLocals = nL → s.vm.findClass own = some m.cls → (∀ w ∈ lw_all, w.before args s = true) → KZ κ s H → CW κ.D κ.cA o g u H → ExT κ o S H dp a f → Cond.methodLink own idx ⟨"HomeRoll$Ex", "of", "(LHomeRoll$View;)I"⟩ ∈ lw_all → 4 + dp < d → ls.size = nL → (rest.map fun v => v.category).sum ≤ 8 → decode cc pc = .ok (.invokevirtual idx, 3) → cells ≤ mc ∧ slots ≤ ms →
    W p l e (rmC d mc ms) s m args below meth c H locs cells slots Q (F0 m (pc + 3) ls (.int (f (tvK u)) :: rest)) → W p l e (rmC d mc ms) s m args below meth c H locs cells slots Q (F0 m pc ls (.ref (cAd o 23) :: .ref a :: rest))

set_option maxHeartbeats 4000000 in
theorem metX9_of (l : Launch) (κ : Kg) (o : Nat) (g : Gh) (u : St) (a : Nat) (n : Int32) : MetU l yX9_of (ws_ yX9_of cX9_of 2 (some .int)) (rmC 0 0 0) (xP κ (fun H => t_OB a (κ.D.1 7) 3 (κ.D.2 7) H (vp_V [.ref o, .int n, .ref o])) [.ref a, .ref (cAd o 23)]) (rQ (some (.int (n)))) 0 0 noA := by
  refine xU_start RX9 (by decide) rfl (Nat.le_of_ble_eq_true rfl) ?_
  intro pg ev s0 mi bl me co hx hb hml hown hts hr hlk hK hM ls hl
  have hl : lv_has ls 2 [(0, .ref a), (1, .ref (cAd o 23))] := hl
  have hO := hM
  refine lv_aload_n hx hb dX9_of_0 rfl (lv_at hl 0 rfl) ?_
  refine ob_get (C := RX9) (T := TX9) (N := 3) (ci := 7) (v := .int n) hx hb hts in_X9 hown hK.1.1 hO rfl 1 (by decide) q951 (fun x h => h) rfl dX9_of_1 ?_
  exact iret_ro hx hb hr hlk rfl dX9_of_4

set_option maxHeartbeats 4000000 in
theorem kn_told {p : Program} {l : Launch} {e : Env} {s : State} {m : MethodId} {args : Array Value} {below : List Frame} {meth : Method} {c : Code} {H : Heap} {locs : List Loc} {cells slots : Nat} {Q : State → Prop} {pc nL d mc ms idx : Nat} {own : String} {ls : Array Slot} {rest : List Value} {cc : ByteArray} {κ : Kg} {o : Nat} {g : Gh} {u : St} (hexec : p.tables.exec = Jvm.exec) (hb : c.code = cc) (hml : c.maxLocals = nL) (hown : s.vm.findClass own = some m.cls) (hts : ∀ w ∈ lw_all, w.before args s = true) (hK : KZ κ s H) (hM : CW κ.D κ.cA o g u H) (hok : okK g.1 u) (k : Nat) (hk : k < 9) (h1 : Cond.methodLink own idx yX2_told ∈ lw_all) (hdd : 2 < d) (hls : ls.size = nL) (hrest : (rest.map fun v => v.category).sum ≤ 8) (hdg : decode cc pc = .ok (.invokevirtual idx, 3)) (hf : cells + 0 ≤ mc ∧ slots + 0 ≤ ms)
    (kk : W p l e (rmC d mc ms) s m args below meth c H locs cells slots Q (F0 m (pc + 3) ls (.int (tvK u k) :: rest))) : W p l e (rmC d mc ms) s m args below meth c H locs cells slots Q (F0 m pc ls (.ref (cAd o 23) :: .ref o :: .ref (κ.kn k) :: rest)) := by
  rcases (show k = 0 ∨ k = 1 ∨ k = 2 ∨ k = 3 ∨ k = 4 ∨ k = 5 ∨ k = 6 ∨ k = 7 ∨ k = 8 by omega) with rfl | rfl | rfl | rfl | rfl | rfl | rfl | rfl | rfl
  · exact ro_call (x_runU (C := "HomeRoll$Known$1") (n := 2) (As := [.ref o, .ref (cAd o 23)]) (rest := rest) hexec hb hml hown hts (metX2_told l κ o g u 0 (by decide) hok) h1 q1151 q1150 (hts _ q1152) q70 q1161 (by decide +kernel) hdd (by decide) rfl hK hM (kn_recv hK 0 (by decide)) hls hrest rfl hdg hf) kk
  · exact ro_call (x_runU (C := "HomeRoll$Known$2") (n := 2) (As := [.ref o, .ref (cAd o 23)]) (rest := rest) hexec hb hml hown hts (metX2_told l κ o g u 1 (by decide) hok) h1 q1151 q1150 (hts _ q1153) q70 q1161 (by decide +kernel) hdd (by decide) rfl hK hM (kn_recv hK 1 (by decide)) hls hrest rfl hdg hf) kk
  · exact ro_call (x_runU (C := "HomeRoll$Known$3") (n := 2) (As := [.ref o, .ref (cAd o 23)]) (rest := rest) hexec hb hml hown hts (metX2_told l κ o g u 2 (by decide) hok) h1 q1151 q1150 (hts _ q1154) q70 q1161 (by decide +kernel) hdd (by decide) rfl hK hM (kn_recv hK 2 (by decide)) hls hrest rfl hdg hf) kk
  · exact ro_call (x_runU (C := "HomeRoll$Known$4") (n := 2) (As := [.ref o, .ref (cAd o 23)]) (rest := rest) hexec hb hml hown hts (metX2_told l κ o g u 3 (by decide) hok) h1 q1151 q1150 (hts _ q1155) q70 q1161 (by decide +kernel) hdd (by decide) rfl hK hM (kn_recv hK 3 (by decide)) hls hrest rfl hdg hf) kk
  · exact ro_call (x_runU (C := "HomeRoll$Known$5") (n := 2) (As := [.ref o, .ref (cAd o 23)]) (rest := rest) hexec hb hml hown hts (metX2_told l κ o g u 4 (by decide) hok) h1 q1151 q1150 (hts _ q1156) q70 q1161 (by decide +kernel) hdd (by decide) rfl hK hM (kn_recv hK 4 (by decide)) hls hrest rfl hdg hf) kk
  · exact ro_call (x_runU (C := "HomeRoll$Known$6") (n := 2) (As := [.ref o, .ref (cAd o 23)]) (rest := rest) hexec hb hml hown hts (metX2_told l κ o g u 5 (by decide) hok) h1 q1151 q1150 (hts _ q1157) q70 q1161 (by decide +kernel) hdd (by decide) rfl hK hM (kn_recv hK 5 (by decide)) hls hrest rfl hdg hf) kk
  · exact ro_call (x_runU (C := "HomeRoll$Known$7") (n := 2) (As := [.ref o, .ref (cAd o 23)]) (rest := rest) hexec hb hml hown hts (metX2_told l κ o g u 6 (by decide) hok) h1 q1151 q1150 (hts _ q1158) q70 q1161 (by decide +kernel) hdd (by decide) rfl hK hM (kn_recv hK 6 (by decide)) hls hrest rfl hdg hf) kk
  · exact ro_call (x_runU (C := "HomeRoll$Known$8") (n := 2) (As := [.ref o, .ref (cAd o 23)]) (rest := rest) hexec hb hml hown hts (metX2_told l κ o g u 7 (by decide) hok) h1 q1151 q1150 (hts _ q1159) q70 q1161 (by decide +kernel) hdd (by decide) rfl hK hM (kn_recv hK 7 (by decide)) hls hrest rfl hdg hf) kk
  · exact ro_call (x_runU (C := "HomeRoll$Known$9") (n := 2) (As := [.ref o, .ref (cAd o 23)]) (rest := rest) hexec hb hml hown hts (metX2_told l κ o g u 8 (by decide) hok) h1 q1151 q1150 (hts _ q1160) q70 q1161 (by decide +kernel) hdd (by decide) rfl hK hM (kn_recv hK 8 (by decide)) hls hrest rfl hdg hf) kk

set_option maxHeartbeats 4000000 in
theorem metX10_of (l : Launch) (κ : Kg) (o : Nat) (g : Gh) (u : St) (a k : Nat) (hk : k < 9) (hok : okK g.1 u) : MetU l yX10_of (ws_ yX10_of cX10_of 2 (some .int)) (rmC 3 0 0) (xP κ (fun H => CW κ.D κ.cA o g u H ∧ t_OB a (κ.D.1 8) 3 (κ.D.2 8) H (vp_V [.ref o, .ref (κ.kn k), .ref o])) [.ref a, .ref (cAd o 23)]) (rQ (some (.int (tvK u k)))) 0 0 noA := by
  refine xU_start RX10 (by decide) rfl (Nat.le_of_ble_eq_true rfl) ?_
  intro pg ev s0 mi bl me co hx hb hml hown hts hr hlk hK hM ls hl
  have hl : lv_has ls 2 [(0, .ref a), (1, .ref (cAd o 23))] := hl
  obtain ⟨hC, hO⟩ := hM
  refine lv_aload_n hx hb dX10_of_0 rfl (lv_at hl 0 rfl) ?_
  refine ob_get (C := RX10) (T := TX10) (N := 3) (ci := 8) (v := .ref (κ.kn k)) hx hb hts in_X10 hown hK.1.1 hO rfl 1 (by decide) q965 (fun x h => h) rfl dX10_of_1 ?_
  refine lv_aload_n hx hb dX10_of_4 rfl (lv_at hl 0 rfl) ?_
  refine ob_get (C := RX10) (T := TX10) (N := 3) (ci := 8) (v := .ref o) hx hb hts in_X10 hown hK.1.1 hO rfl 2 (by decide) q966 (fun x h => h) rfl dX10_of_5 ?_
  refine lv_aload_n hx hb dX10_of_8 rfl (lv_at hl 1 rfl) ?_
  refine kn_told hx hb hml hown hts hK hC hok k hk q1149 (by decide) hl.1 (Nat.le_of_ble_eq_true rfl) dX10_of_9 ⟨Nat.le_refl _, Nat.le_refl _⟩ ?_
  exact iret_ro hx hb hr hlk rfl dX10_of_12

set_option maxHeartbeats 4000000 in
theorem metX8_of (l : Launch) (κ : Kg) (o : Nat) (g : Gh) (u : St) (S : Nat → Prop) (dp : Nat) (hE : EvC l κ o g u S dp) (a x : Nat) (f : Sm) : MetU l yX8_of (ws_ yX8_of cX8_of 2 (some .int)) (rmC (5 + dp) 0 0) (xP κ (fun H => CW κ.D κ.cA o g u H ∧ t_OB a (κ.D.1 6) 3 (κ.D.2 6) H (vp_V [.ref o, .ref x, .ref o]) ∧ ExT κ o S H dp x f) [.ref a, .ref (cAd o 23)]) (rQ (some (.int (b2 (decide (f (tvK u) = 0)))))) 0 0 noA := by
  refine xU_start RX8 (by decide) rfl (Nat.le_of_ble_eq_true rfl) ?_
  intro pg ev s0 mi bl me co hx hb hml hown hts hr hlk hK hM ls hl
  have hl : lv_has ls 2 [(0, .ref a), (1, .ref (cAd o 23))] := hl
  obtain ⟨hC, hO, hX⟩ := hM
  refine lv_aload_n hx hb dX8_of_0 rfl (lv_at hl 0 rfl) ?_
  refine ob_get (C := RX8) (T := TX8) (N := 3) (ci := 6) (v := .ref x) hx hb hts in_X8 hown hK.1.1 hO rfl 1 (by decide) q927 (fun x h => h) rfl dX8_of_1 ?_
  refine lv_aload_n hx hb dX8_of_4 rfl (lv_at hl 1 rfl) ?_
  refine hE _ _ _ _ _ _ _ _ _ _ _ _ _ _ _ _ _ _ _ _ _ _ _ _ _ hx hb hml hown hts hK hC hX q1144 (by omega) hl.1 (Nat.le_of_ble_eq_true rfl) dX8_of_5 ⟨Nat.zero_le _, Nat.zero_le _⟩ ?_
  refine lv_if_ne (tgt := 15) hx hb dX8_of_8 (by decide) (fun c_8 => ?_) (fun c_8 => ?_)
  · skip
    refine lv_iconst (v := 0) hx hb dX8_of_15 (by decide) ?_
    exact iret_ro hx hb hr hlk (show _ = b2 (decide (f (tvK u) = 0)) from by rw [decide_eq_false c_8]; rfl) dX8_of_16
  · skip
    refine lv_iconst (v := 1) hx hb dX8_of_11 (by decide) ?_
    refine lv_goto (tgt := 16) hx hb dX8_of_12 (by decide) ?_
    exact iret_ro hx hb hr hlk (show _ = b2 (decide (f (tvK u) = 0)) from by rw [decide_eq_true c_8]; rfl) dX8_of_16

set_option maxHeartbeats 4000000 in
theorem metX11_of (l : Launch) (κ : Kg) (o : Nat) (g : Gh) (u : St) (S : Nat → Prop) (dp : Nat) (hE : EvC l κ o g u S dp) (a x y : Nat) (sg : Int32) (f h : Sm) : MetU l yX11_of (ws_ yX11_of cX11_of 4 (some .int)) (rmC (5 + dp) 0 0) (xP κ (fun H => CW κ.D κ.cA o g u H ∧ t_OB a (κ.D.1 9) 5 (κ.D.2 9) H (vp_V [.ref o, .ref x, .ref y, .int sg, .ref o]) ∧ ExT κ o S H dp x f ∧ ExT κ o S H dp y h) [.ref a, .ref (cAd o 23)]) (rQ (some (.int (bin sg (f (tvK u)) (h (tvK u)))))) 0 0 noA := by
  refine xU_start RX11 (by decide) rfl (Nat.le_of_ble_eq_true rfl) ?_
  intro pg ev s0 mi bl me co hx hb hml hown hts hr hlk hK hM ls hl
  have hl : lv_has ls 4 [(0, .ref a), (1, .ref (cAd o 23))] := hl
  obtain ⟨hC, hO, hX, hY⟩ := hM
  refine lv_aload_n hx hb dX11_of_0 rfl (lv_at hl 0 rfl) ?_
  refine ob_get (C := RX11) (T := TX11) (N := 5) (ci := 9) (v := .ref x) hx hb hts in_X11 hown hK.1.1 hO rfl 1 (by decide) q979 (fun x h => h) rfl dX11_of_1 ?_
  refine lv_aload_n hx hb dX11_of_4 rfl (lv_at hl 1 rfl) ?_
  refine hE _ _ _ _ _ _ _ _ _ _ _ _ _ _ _ _ _ _ _ _ _ _ _ _ _ hx hb hml hown hts hK hC hX q1135 (by omega) hl.1 (Nat.le_of_ble_eq_true rfl) dX11_of_5 ⟨Nat.zero_le _, Nat.zero_le _⟩ ?_
  refine lv_istore_n (lv' := [(2, .int (f (tvK u))), (0, .ref a), (1, .ref (cAd o 23))]) hx hb dX11_of_8 rfl hl (by decide) rfl (fun ls hl => ?_)
  refine lv_aload_n hx hb dX11_of_9 rfl (lv_at hl 1 rfl) ?_
  refine ob_get (C := RX11) (T := TX11) (N := 5) (ci := 9) (v := .ref y) hx hb hts in_X11 hown hK.1.1 hO rfl 2 (by decide) q980 (fun x h => h) rfl dX11_of_10 ?_
  refine lv_aload_n hx hb dX11_of_13 rfl (lv_at hl 2 rfl) ?_
  refine hE _ _ _ _ _ _ _ _ _ _ _ _ _ _ _ _ _ _ _ _ _ _ _ _ _ hx hb hml hown hts hK hC hY q1135 (by omega) hl.1 (Nat.le_of_ble_eq_true rfl) dX11_of_14 ⟨Nat.zero_le _, Nat.zero_le _⟩ ?_
  refine lv_istore_n (lv' := [(3, .int (h (tvK u))), (2, .int (f (tvK u))), (0, .ref a), (1, .ref (cAd o 23))]) hx hb dX11_of_17 rfl hl (by decide) rfl (fun ls hl => ?_)
  refine lv_aload_n hx hb dX11_of_18 rfl (lv_at hl 2 rfl) ?_
  refine ob_get (C := RX11) (T := TX11) (N := 5) (ci := 9) (v := .int sg) hx hb hts in_X11 hown hK.1.1 hO rfl 3 (by decide) q981 (fun x h => h) rfl dX11_of_19 ?_
  by_cases e_22_0 : sg = 43
  · skip
    refine lv_lookup (tgt := 64) (off := 42) hx hb dX11_of_22 (by decide) (by rw [e_22_0]; decide) (by decide) ?_
    refine lv_iload_n hx hb dX11_of_64 rfl (lv_at hl 1 rfl) ?_
    refine lv_iload_n hx hb dX11_of_65 rfl (lv_at hl 0 rfl) ?_
    refine lv_iadd hx hb dX11_of_66 ?_
    exact iret_ro hx hb hr hlk (show _ = bin sg (f (tvK u)) (h (tvK u)) from by unfold bin; first | (simp_all; done) | (simp_all [b2]; done)) dX11_of_67
  by_cases e_22_1 : sg = 45
  · skip
    refine lv_lookup (tgt := 68) (off := 46) hx hb dX11_of_22 (by decide) (by rw [e_22_1]; decide) (by decide) ?_
    refine lv_iload_n hx hb dX11_of_68 rfl (lv_at hl 1 rfl) ?_
    refine lv_iload_n hx hb dX11_of_69 rfl (lv_at hl 0 rfl) ?_
    refine lv_isub hx hb dX11_of_70 ?_
    exact iret_ro hx hb hr hlk (show _ = bin sg (f (tvK u)) (h (tvK u)) from by unfold bin; first | (simp_all; done) | (simp_all [b2]; done)) dX11_of_71
  by_cases e_22_2 : sg = 60
  · skip
    refine lv_lookup (tgt := 72) (off := 50) hx hb dX11_of_22 (by decide) (by rw [e_22_2]; decide) (by decide) ?_
    refine lv_iload_n hx hb dX11_of_72 rfl (lv_at hl 1 rfl) ?_
    refine lv_iload_n hx hb dX11_of_73 rfl (lv_at hl 0 rfl) ?_
    refine lv_icmp_ge (tgt := 81) hx hb dX11_of_74 (by decide) (fun c_74 => ?_) (fun c_74 => ?_)
    · skip
      refine lv_iconst (v := 0) hx hb dX11_of_81 (by decide) ?_
      exact iret_ro hx hb hr hlk (show _ = bin sg (f (tvK u)) (h (tvK u)) from by unfold bin; first | (simp_all; done) | (simp_all [b2]; done)) dX11_of_82
    · skip
      refine lv_iconst (v := 1) hx hb dX11_of_77 (by decide) ?_
      refine lv_goto (tgt := 82) hx hb dX11_of_78 (by decide) ?_
      exact iret_ro hx hb hr hlk (show _ = bin sg (f (tvK u)) (h (tvK u)) from by unfold bin; first | (simp_all; done) | (simp_all [b2]; done)) dX11_of_82
  by_cases e_22_3 : sg = 62
  · skip
    refine lv_lookup (tgt := 83) (off := 61) hx hb dX11_of_22 (by decide) (by rw [e_22_3]; decide) (by decide) ?_
    refine lv_iload_n hx hb dX11_of_83 rfl (lv_at hl 1 rfl) ?_
    refine lv_iload_n hx hb dX11_of_84 rfl (lv_at hl 0 rfl) ?_
    refine lv_icmp_le (tgt := 92) hx hb dX11_of_85 (by decide) (fun c_85 => ?_) (fun c_85 => ?_)
    · skip
      refine lv_iconst (v := 0) hx hb dX11_of_92 (by decide) ?_
      exact iret_ro hx hb hr hlk (show _ = bin sg (f (tvK u)) (h (tvK u)) from by unfold bin; first | (simp_all; done) | (simp_all [b2]; done)) dX11_of_93
    · skip
      refine lv_iconst (v := 1) hx hb dX11_of_88 (by decide) ?_
      refine lv_goto (tgt := 93) hx hb dX11_of_89 (by decide) ?_
      exact iret_ro hx hb hr hlk (show _ = bin sg (f (tvK u)) (h (tvK u)) from by unfold bin; first | (simp_all; done) | (simp_all [b2]; done)) dX11_of_93
  refine lv_lookup (tgt := 94) (off := 72) hx hb dX11_of_22 (by decide) (by rw [lv_osw (k := 43) e_22_0 (by decide)]; rw [lv_osw (k := 45) e_22_1 (by decide)]; rw [lv_osw (k := 60) e_22_2 (by decide)]; rw [lv_osw (k := 62) e_22_3 (by decide)]; rfl) (by decide) ?_
  refine lv_iload_n hx hb dX11_of_94 rfl (lv_at hl 1 rfl) ?_
  refine lv_iload_n hx hb dX11_of_95 rfl (lv_at hl 0 rfl) ?_
  refine lv_icmp_ne (tgt := 103) hx hb dX11_of_96 (by decide) (fun c_96 => ?_) (fun c_96 => ?_)
  · skip
    refine lv_iconst (v := 0) hx hb dX11_of_103 (by decide) ?_
    exact iret_ro hx hb hr hlk (show _ = bin sg (f (tvK u)) (h (tvK u)) from by unfold bin; first | (simp_all; done) | (simp_all [b2]; done)) dX11_of_104
  · skip
    refine lv_iconst (v := 1) hx hb dX11_of_99 (by decide) ?_
    refine lv_goto (tgt := 104) hx hb dX11_of_100 (by decide) ?_
    exact iret_ro hx hb hr hlk (show _ = bin sg (f (tvK u)) (h (tvK u)) from by unfold bin; first | (simp_all; done) | (simp_all [b2]; done)) dX11_of_104

set_option maxHeartbeats 4000000 in
theorem join_loop (l : Launch) (κ : Kg) (o : Nat) (g : Gh) (u : St) (S : Nat → Prop) (dp : Nat) (hE : EvC l κ o g u S dp) (a li x c n : Nat) (al : Bool) (es : Nat → Nat) (fs : Nat → Sm) {pg : Program} {ev : Env} {s0 : State} {mi : MethodId} {bl : List Frame} {me : Method} {co : Code} (hx : pg.tables.exec = Jvm.exec) (hb : co.code = cX12_of) (hml : co.maxLocals = 4) (hown : s0.vm.findClass RX12 = some mi.cls) (hts : ∀ w ∈ lw_all, w.before #[.ref a, .ref (cAd o 23)] s0 = true) (hr : me.sig.returnType = some .int) (hlk : me.locks = false) (hK : KZ κ s0 s0.heap) (hC : CW κ.D κ.cA o g u s0.heap) (hO : t_OB a (κ.D.1 10) 4 (κ.D.2 10) s0.heap (vp_V [.ref o, .ref li, .int (b2 al), .ref o])) (hL : LA κ li x c n es s0.heap) (hF : ∀ j, j < n → ExT κ o S s0.heap dp (es j) (fs j)) :
    ∀ (j k : Nat) (is : Bool) (ls : Array Slot), k ≤ n → k + j = n + 1 → (is = al → ∀ k1, k1 < k → (!decide (fs k1 (tvK u) = 0)) = al) → (¬ is = al → joinS al n fs (tvK u) = b2 is) → lv_has ls 4 [(2, .int (b2 is)), (3, .int (nI k)), (0, .ref a), (1, .ref (cAd o 23))] →
      W pg l ev (rmC (5 + dp) 0 0) s0 mi #[.ref a, .ref (cAd o 23)] bl me co s0.heap [] 0 0 (MQ bl (rQ (some (.int (joinS al n fs (tvK u))))) #[.ref a, .ref (cAd o 23)] s0 0 0 noA) (F0 mi 7 ls []) := by
  intro j
  induction j with
  | zero => intro k is ls hk0 hkj; omega
  | succ j ih =>
    intro k is ls hk0 hkj hI hJ hl
    refine lv_iload_n hx hb dX12_of_7 rfl (lv_at hl 1 rfl) ?_
    refine lv_aload_n hx hb dX12_of_8 rfl (lv_at hl 2 rfl) ?_
    refine ob_get (C := RX12) (T := TX12) (N := 4) (ci := 10) (v := .ref li) hx hb hts in_X12 hown hK.1.1 hO rfl 1 (by decide) q1070 (fun x h => h) rfl dX12_of_9 ?_
    refine ro_call (g_runV (n := 0) (As := []) (rest := [.int (nI k)]) hx hb hml hown hts (metJ2_size l κ li x c n es) q1138 q743 q744 q67 q745 (by decide +kernel) (by omega) (by decide) rfl hK.1.1 hL (ob_recv hK.1.1 rfl hL.1.choose_spec) hl.1 (Nat.le_of_ble_eq_true rfl) rfl dX12_of_12 ⟨Nat.le_refl _, Nat.le_refl _⟩) ?_
    refine lv_icmp_ge (tgt := 56) hx hb dX12_of_15 (by decide) (fun c_15 => ?_) (fun c_15 => ?_)
    · skip
      refine lv_iload_n hx hb dX12_of_56 rfl (lv_at hl 0 rfl) ?_
      refine lv_B_eq (tgt := 64) hx hb dX12_of_57 (by decide) (fun c_57 => ?_) (fun c_57 => ?_)
      · skip
        refine lv_iconst (v := 0) hx hb dX12_of_64 (by decide) ?_
        have hz : k = n ∨ ¬ is = al := by first | exact Or.inr (fun z => c_23 (by rw [z])) | exact Or.inl (Nat.le_antisymm hk0 (Nat.not_lt.mp (fun z => absurd c_15 (Int32.not_le.mpr (nI_lt z (by have := hL.2.2; omega))))))
        have his : b2 is = 0 := by rw [c_57]; rfl
        exact iret_ro hx hb hr hlk (show _ = joinS al n fs (tvK u) from by rw [← join_end hI hJ hz, his]) dX12_of_65
      · skip
        refine lv_iconst (v := 1) hx hb dX12_of_60 (by decide) ?_
        refine lv_goto (tgt := 65) hx hb dX12_of_61 (by decide) ?_
        have hz : k = n ∨ ¬ is = al := by first | exact Or.inr (fun z => c_23 (by rw [z])) | exact Or.inl (Nat.le_antisymm hk0 (Nat.not_lt.mp (fun z => absurd c_15 (Int32.not_le.mpr (nI_lt z (by have := hL.2.2; omega))))))
        have his : b2 is = 1 := by rw [c_57]; rfl
        exact iret_ro hx hb hr hlk (show _ = joinS al n fs (tvK u) from by rw [← join_end hI hJ hz, his]) dX12_of_65
    · skip
      refine lv_iload_n hx hb dX12_of_18 rfl (lv_at hl 0 rfl) ?_
      refine lv_aload_n hx hb dX12_of_19 rfl (lv_at hl 2 rfl) ?_
      refine ob_get (C := RX12) (T := TX12) (N := 4) (ci := 10) (v := .int (b2 al)) hx hb hts in_X12 hown hK.1.1 hO rfl 2 (by decide) q1071 (fun x h => h) rfl dX12_of_20 ?_
      refine lv_icmp_ne (tgt := 56) hx hb dX12_of_23 (by decide) (fun c_23 => ?_) (fun c_23 => ?_)
      · skip
        refine lv_iload_n hx hb dX12_of_56 rfl (lv_at hl 0 rfl) ?_
        refine lv_B_eq (tgt := 64) hx hb dX12_of_57 (by decide) (fun c_57 => ?_) (fun c_57 => ?_)
        · skip
          refine lv_iconst (v := 0) hx hb dX12_of_64 (by decide) ?_
          have hz : k = n ∨ ¬ is = al := by first | exact Or.inr (fun z => c_23 (by rw [z])) | exact Or.inl (Nat.le_antisymm hk0 (Nat.not_lt.mp (fun z => absurd c_15 (Int32.not_le.mpr (nI_lt z (by have := hL.2.2; omega))))))
          have his : b2 is = 0 := by rw [c_57]; rfl
          exact iret_ro hx hb hr hlk (show _ = joinS al n fs (tvK u) from by rw [← join_end hI hJ hz, his]) dX12_of_65
        · skip
          refine lv_iconst (v := 1) hx hb dX12_of_60 (by decide) ?_
          refine lv_goto (tgt := 65) hx hb dX12_of_61 (by decide) ?_
          have hz : k = n ∨ ¬ is = al := by first | exact Or.inr (fun z => c_23 (by rw [z])) | exact Or.inl (Nat.le_antisymm hk0 (Nat.not_lt.mp (fun z => absurd c_15 (Int32.not_le.mpr (nI_lt z (by have := hL.2.2; omega))))))
          have his : b2 is = 1 := by rw [c_57]; rfl
          exact iret_ro hx hb hr hlk (show _ = joinS al n fs (tvK u) from by rw [← join_end hI hJ hz, his]) dX12_of_65
      · skip
        refine lv_aload_n hx hb dX12_of_26 rfl (lv_at hl 2 rfl) ?_
        refine ob_get (C := RX12) (T := TX12) (N := 4) (ci := 10) (v := .ref li) hx hb hts in_X12 hown hK.1.1 hO rfl 1 (by decide) q1070 (fun x h => h) rfl dX12_of_27 ?_
        refine lv_iload_n hx hb dX12_of_30 rfl (lv_at hl 1 rfl) ?_
        have hkn : k < n := Nat.not_le.mp (fun z => c_15 (nI_le z (by have := hL.2.2; omega)))
        refine ro_call (g_runV (n := 1) (As := [.int (nI k)]) (rest := []) hx hb hml hown hts (metJ2_get l κ li x c n k es hkn) q1139 q1052 q1053 q67 q1054 (by decide +kernel) (by omega) (by decide) rfl hK.1.1 hL (ob_recv hK.1.1 rfl hL.1.choose_spec) hl.1 (Nat.le_of_ble_eq_true rfl) rfl dX12_of_31 ⟨Nat.le_refl _, Nat.le_refl _⟩) ?_
        obtain ⟨C, hCn, hCr⟩ := (hF k hkn).cast hK.1
        refine va_castY hx hb hown (hts _ q1140) hCn hCr dX12_of_34 ?_
        refine lv_aload_n hx hb dX12_of_37 rfl (lv_at hl 3 rfl) ?_
        refine hE _ _ _ _ _ _ _ _ _ _ _ _ _ _ _ _ _ _ _ _ _ _ _ _ _ hx hb hml hown hts hK hC (hF k hkn) q1141 (by omega) hl.1 (Nat.le_of_ble_eq_true rfl) dX12_of_38 ⟨Nat.zero_le _, Nat.zero_le _⟩ ?_
        refine lv_if_eq (tgt := 48) hx hb dX12_of_41 (by decide) (fun c_41 => ?_) (fun c_41 => ?_)
        · skip
          refine lv_iconst (v := 0) hx hb dX12_of_48 (by decide) ?_
          refine lv_istore_n (lv' := [(2, .int 0), (3, .int (nI k)), (0, .ref a), (1, .ref (cAd o 23))]) hx hb dX12_of_49 rfl hl (by decide) rfl (fun ls hl => ?_)
          refine lv_iinc (v := nI (k + 1)) (lv' := [(3, .int (nI (k + 1))), (2, .int 0), (0, .ref a), (1, .ref (cAd o 23))]) hx hb dX12_of_50 hl (k := 1) rfl (nI_1 _) (by decide) rfl (fun ls hl => ?_)
          refine lv_goto (tgt := 7) hx hb dX12_of_53 (by decide) ?_
          have hbk : (!decide (fs k (tvK u) = 0)) = false := by rw [decide_eq_true c_41]; rfl
          exact ih (k + 1) false ls (by omega) (by omega) (fun hz k1 hk1 => by by_cases hq : k1 = k; (· rw [hq, hbk]; exact hz); (· exact hI (b2_inj.mp c_23) k1 (by omega))) (fun hz => by rw [bn_ne hz]; exact joinS_one hkn (by rw [hbk]; exact bn_ne hz)) (lv_sub hl [1, 0, 2, 3] rfl)
        · skip
          refine lv_iconst (v := 1) hx hb dX12_of_44 (by decide) ?_
          refine lv_goto (tgt := 49) hx hb dX12_of_45 (by decide) ?_
          refine lv_istore_n (lv' := [(2, .int 1), (3, .int (nI k)), (0, .ref a), (1, .ref (cAd o 23))]) hx hb dX12_of_49 rfl hl (by decide) rfl (fun ls hl => ?_)
          refine lv_iinc (v := nI (k + 1)) (lv' := [(3, .int (nI (k + 1))), (2, .int 1), (0, .ref a), (1, .ref (cAd o 23))]) hx hb dX12_of_50 hl (k := 1) rfl (nI_1 _) (by decide) rfl (fun ls hl => ?_)
          refine lv_goto (tgt := 7) hx hb dX12_of_53 (by decide) ?_
          have hbk : (!decide (fs k (tvK u) = 0)) = true := by rw [decide_eq_false c_41]; rfl
          exact ih (k + 1) true ls (by omega) (by omega) (fun hz k1 hk1 => by by_cases hq : k1 = k; (· rw [hq, hbk]; exact hz); (· exact hI (b2_inj.mp c_23) k1 (by omega))) (fun hz => by rw [bn_ne hz]; exact joinS_one hkn (by rw [hbk]; exact bn_ne hz)) (lv_sub hl [1, 0, 2, 3] rfl)

set_option maxHeartbeats 4000000 in
theorem metX12_of (l : Launch) (κ : Kg) (o : Nat) (g : Gh) (u : St) (S : Nat → Prop) (dp : Nat) (hE : EvC l κ o g u S dp) (a li x c n : Nat) (al : Bool) (es : Nat → Nat) (fs : Nat → Sm) : MetU l yX12_of (ws_ yX12_of cX12_of 4 (some .int)) (rmC (5 + dp) 0 0) (xP κ (fun H => CW κ.D κ.cA o g u H ∧ t_OB a (κ.D.1 10) 4 (κ.D.2 10) H (vp_V [.ref o, .ref li, .int (b2 al), .ref o]) ∧ LA κ li x c n es H ∧ ∀ j, j < n → ExT κ o S H dp (es j) (fs j)) [.ref a, .ref (cAd o 23)]) (rQ (some (.int (joinS al n fs (tvK u))))) 0 0 noA := by
  refine xU_start RX12 (by decide) rfl (Nat.le_of_ble_eq_true rfl) ?_
  intro pg ev s0 mi bl me co hx hb hml hown hts hr hlk hK hM ls hl
  have hl : lv_has ls 4 [(0, .ref a), (1, .ref (cAd o 23))] := hl
  obtain ⟨hC, hO, hL, hF⟩ := hM
  refine lv_aload_n hx hb dX12_of_0 rfl (lv_at hl 0 rfl) ?_
  refine ob_get (C := RX12) (T := TX12) (N := 4) (ci := 10) (v := .int (b2 al)) hx hb hts in_X12 hown hK.1.1 hO rfl 2 (by decide) q1071 (fun x h => h) rfl dX12_of_1 ?_
  refine lv_istore_n (lv' := [(2, .int (b2 al)), (0, .ref a), (1, .ref (cAd o 23))]) hx hb dX12_of_4 rfl hl (by decide) rfl (fun ls hl => ?_)
  refine lv_iconst (v := 0) hx hb dX12_of_5 (by decide) ?_
  refine lv_istore_n (lv' := [(3, .int 0), (2, .int (b2 al)), (0, .ref a), (1, .ref (cAd o 23))]) hx hb dX12_of_6 rfl hl (by decide) rfl (fun ls hl => ?_)
  exact join_loop l κ o g u S dp hE a li x c n al es fs hx hb hml hown hts hr hlk hK hC hO hL hF (n + 1) 0 al ls (Nat.zero_le _) (Nat.zero_add _) (fun _ k1 hk1 => absurd hk1 (Nat.not_lt_zero _)) (fun hz => absurd rfl hz) (lv_sub hl [1, 0, 2, 3] rfl)

set_option maxHeartbeats 4000000 in
theorem ev_all (l : Launch) (κ : Kg) (o : Nat) (g : Gh) (u : St) (hok : okK g.1 u) (S : Nat → Prop) : ∀ dp : Nat, EvC l κ o g u S dp
  | 0 => fun p e s m args below meth c H locs cells slots Q pc nL d mc ms ls rest cc own idx a f hx hb hml hown hts hK hC hE => absurd hE id
  | dp + 1 => by
    have ih := ev_all l κ o g u hok S dp
    intro p e s m args below meth c H locs cells slots Q pc nL d mc ms ls rest cc own idx a f hx hb hml hown hts hK hC hE hlink hdd hls hrest hdg hf kk
    obtain ⟨h1, h⟩ := hE
    rcases h with ⟨n, h2, h3⟩ | ⟨k, h2, h3, h4⟩ | ⟨x, g1, h2, h3, h4⟩ | ⟨x, y, sg, g1, g2, h2, h3, h4, h5⟩ | ⟨li, x, c1, n, al, es, fs, h2, h3, h4, h5, h6, h7⟩
    · subst h3
      exact ro_call (x_runAU (C := "HomeRoll$Plain") (x := ⟨"HomeRoll$Ex", "of", "(LHomeRoll$View;)I"⟩) (n := 1) (As := [.ref (cAd o 23)]) (rest := rest) hx hb hml hown hts (metX9_of l κ o g u a n) hlink q1131 nq1130 q1145 q1203 q1146 (by decide +kernel) (by omega) (by decide) rfl hK h2 (ob_recv hK.1.1 (ci := 7) rfl h2) hls hrest rfl hdg hf) kk
    · subst h4
      exact ro_call (x_runAU (C := "HomeRoll$Term") (x := ⟨"HomeRoll$Ex", "of", "(LHomeRoll$View;)I"⟩) (n := 1) (As := [.ref (cAd o 23)]) (rest := rest) hx hb hml hown hts (metX10_of l κ o g u a k h2 hok) hlink q1131 nq1130 q1147 q1204 q1148 (by decide +kernel) (by omega) (by decide) rfl hK ⟨hC, h3⟩ (ob_recv hK.1.1 (ci := 8) rfl h3) hls hrest rfl hdg hf) kk
    · subst h4
      exact ro_call (x_runAU (C := "HomeRoll$Not") (x := ⟨"HomeRoll$Ex", "of", "(LHomeRoll$View;)I"⟩) (n := 1) (As := [.ref (cAd o 23)]) (rest := rest) hx hb hml hown hts (metX8_of l κ o g u S dp ih a x g1) hlink q1131 nq1130 q1142 q1202 q1143 (by decide +kernel) (by omega) (by decide) rfl hK ⟨hC, h2, h3⟩ (ob_recv hK.1.1 (ci := 6) rfl h2) hls hrest rfl hdg hf) kk
    · subst h5
      exact ro_call (x_runAU (C := "HomeRoll$Both") (x := ⟨"HomeRoll$Ex", "of", "(LHomeRoll$View;)I"⟩) (n := 1) (As := [.ref (cAd o 23)]) (rest := rest) hx hb hml hown hts (metX11_of l κ o g u S dp ih a x y sg g1 g2) hlink q1131 nq1130 q1133 q1132 q1134 (by decide +kernel) (by omega) (by decide) rfl hK ⟨hC, h2, h3, h4⟩ (ob_recv hK.1.1 (ci := 9) rfl h2) hls hrest rfl hdg hf) kk
    · subst h7
      exact ro_call (x_runAU (C := "HomeRoll$Join") (x := ⟨"HomeRoll$Ex", "of", "(LHomeRoll$View;)I"⟩) (n := 1) (As := [.ref (cAd o 23)]) (rest := rest) hx hb hml hown hts (metX12_of l κ o g u S dp ih a li x c1 n al es fs) hlink q1131 nq1130 q1136 q1201 q1137 (by decide +kernel) (by omega) (by decide) rfl hK ⟨hC, h4, h5, h6⟩ (ob_recv hK.1.1 (ci := 10) rfl h4) hls hrest rfl hdg hf) kk
