/-! STRINGS: rows for statics, byte arrays, calls of inherited and super's methods, in the context. Own work. -/
set_option maxRecDepth 100000
section S0
variable {p : Program} {l : Launch} {e : Env} {R : Room} {s : State} {m : MethodId} {args : Array Value} {below : List Frame} {meth : Method} {c : Code} {H : Heap} {locs : List Loc} {cells slots : Nat} {Q : State → Prop}
variable {cc : ByteArray} {pc : Nat} {ls : Array Slot} {rest : List Value} {κ : Kg} {P : Heap → Prop} {a : Nat} {H0 : Heap} {A : Nat → Prop}
theorem x_gets (hexec : p.tables.exec = Jvm.exec) (hb : c.code = cc) {C n d own ref : String} {v : Value} {index : Nat} (hZ : va_Z C n d v A s H) (hown : s.vm.findClass own = some m.cls) (hts : ∀ w ∈ lw_all, w.before args s = true) (hlink : Cond.fieldLink own index ref n d ∈ lw_all) (hsame : ∀ x, s.fieldFound? C n d = some x → s.fieldFound? ref n d = some x) (hdg : decode cc pc = .ok (.getstatic index, 3))
    (kk : W p l e R s m args below meth c H locs cells slots Q (F0 m (pc + 3) ls (v :: rest))) : W p l e R s m args below meth c H locs cells slots Q (F0 m pc ls rest) := by
  obtain ⟨cf, kf, fi, f, a, cell, h1, h2, h3, h4, h5, h6, h7, h8⟩ := hZ
  exact W.gets hexec hb hown (hts _ hlink) (hsame _ h1) h2 h3 h4 h5 (fun e => by rw [e] at h6; cases h6) h7 rfl hdg kk
theorem ba_len (hexec : p.tables.exec = Jvm.exec) (hb : c.code = cc) {n : Nat} {f : Nat → Int32} (hB : BA s H a n f) (hdg : decode cc pc = .ok (.arraylength, 1))
    (kk : W p l e R s m args below meth c H locs cells slots Q (F0 m (pc + 1) ls (.int (nI n) :: rest))) : W p l e R s m args below meth c H locs cells slots Q (F0 m pc ls (.ref a :: rest)) := by
  obtain ⟨cell, h1, h2, h3, h4, h5, h6⟩ := hB
  exact W.alen (n := nI n) hexec hb h1 h2 h5 rfl rfl hdg kk
theorem ba_ld (hexec : p.tables.exec = Jvm.exec) (hb : c.code = cc) {n j : Nat} {f : Nat → Int32} (hB : BA s H a n f) (hj : j < n) (hn : n < 2 ^ 31) (hdg : decode cc pc = .ok (.baload, 1))
    (kk : W p l e R s m args below meth c H locs cells slots Q (F0 m (pc + 1) ls (.int (f j) :: rest))) : W p l e R s m args below meth c H locs cells slots Q (F0 m pc ls (.int (nI j) :: .ref a :: rest)) := by
  obtain ⟨cell, h1, h2, h3, h4, h5, h6⟩ := hB
  refine W.bald (v := .int (f j)) hexec hb h1 h2 h3 ?_ (by rw [nI_clamp (by omega)]; exact h6 j hj) rfl rfl hdg kk
  rintro (z | z)
  · exact nI_pos (by omega) z
  · rw [nI_clamp (by omega)] at z; omega
theorem BA.of_arr (hK : K0 κ.D κ.cA s) {n : Nat} {f : Nat → Int32} (h : H[a]? = some (arrV (κ.cA 1) n (fun j => .int (f j)))) : BA s H a n f :=
  ⟨_, h, (hK.2 1 _ rfl).1 n _, (fun q => by cases q), by rw [arrV_size]; exact Nat.le_refl _, (by rw [arrV_size]), fun j hj => arrV_read _ _ hj⟩
/-- an inherited method of a builder -/
theorem x_runU {own C : String} {y : MethodName} {b : ByteArray} {L d d' n idx nL mc ms mc' ms' : Nat} {ret : Option FieldType} {As : List Value} {Qc : Array Value → State → Outcome → State → Prop} {free : Addr → Prop} {st0 : List Value} (hexec : p.tables.exec = Jvm.exec) (hb : c.code = cc) (hml : c.maxLocals = nL) (hown : s.vm.findClass own = some m.cls) (hts : ∀ w ∈ lw_all, w.before args s = true)
    (hMet : Met l y (ws_ y b L ret) (rmC d' mc' ms') (xP κ P (.ref a :: As)) Qc mc' ms' free) (h1 : Cond.methodLink own idx y ∈ lw_all) (h0 : Cond.sameMethod y.cls y.cls y.name y.desc ∈ lw_all) (h2 : Cond.instanceMethod y ∈ lw_all) (h3 : (Cond.selects C y y).before args s = true) (h4 : Cond.initialized y.cls ∈ lw_all) (h5 : Cond.code y b L ret ∈ lw_all)
    (hd : y.cls ≠ "java/lang/invoke/MethodHandle" ∧ y.cls ≠ "java/lang/invoke/VarHandle" ∧ (parseMethodDescriptor y.desc).map (fun d => d.parameters.length) = some n) (hdd : d' < d) (hL : L ≤ 41) (hn : As.length = n) (hK : KZ κ s H) (hM : P H) (hrecv : ∃ cell : Cell, H[a]? = some cell ∧ cell.vm.isStatics = false ∧ s.vm.findClass C = some cell.cls) (hls : ls.size = nL) (hrest : (rest.map fun v => v.category).sum ≤ 8) (hst : st0 = As.reverse ++ .ref a :: rest) (hdg : decode cc pc = .ok (.invokevirtual idx, 3)) (hf : cells + mc' ≤ mc ∧ slots + ms' ≤ ms) :
    va_Run p l e (rmC d mc ms) s m args below meth c H locs cells slots mc' ms' (F0 m pc ls st0) rest (Qc (Value.ref a :: As).toArray) free :=
  va_runU (C := C) (owner := y.cls) ⟨hexec, hb, hml, hown, hts⟩ hMet (va_cwU (x := y) (Ts := Cond.selects C y y :: lw_all) n (fun w hw => by rcases List.mem_cons.mp hw with rfl | h; (· exact h3); (· exact hts _ h)) (fun w hw => by
    unfold va_wsU at hw
    rcases List.mem_append.mp hw with h | h
    · simp only [List.mem_cons, List.not_mem_nil, or_false] at h
      rcases h with rfl | rfl | rfl | rfl | rfl
      · exact ⟨List.mem_cons_of_mem _ h1, (lw_self _ h1).2⟩
      · exact ⟨List.mem_cons_of_mem _ h0, (lw_self _ h0).2⟩
      · exact ⟨List.mem_cons_self, good_of_word rfl⟩
      · exact ⟨List.mem_cons_of_mem _ h2, (lw_self _ h2).2⟩
      · exact ⟨List.mem_cons_of_mem _ h4, (lw_self _ h4).2⟩
    · exact ⟨List.mem_cons_of_mem _ (lw_meth h5 w h).1, (lw_meth h5 w h).2⟩) rfl rfl rfl rfl hd (rmC_ok hdd hL)) ⟨xP_blind, hrecv, fun U hU hW => ⟨rfl, by rw [hU]; exact hM, hK.pre hU hW⟩⟩ rfl hn hls hst (lv_room hrest) hdg hf
/-- super's method -/
theorem x_runSU {own C : String} {cC : ClassId} {y : MethodName} {b : ByteArray} {L d d' n idx nL mc ms mc' ms' : Nat} {ret : Option FieldType} {As : List Value} {Qc : Array Value → State → Outcome → State → Prop} {free : Addr → Prop} {st0 : List Value} (hat : ClassAt s C cC) (hexec : p.tables.exec = Jvm.exec) (hb : c.code = cc) (hml : c.maxLocals = nL) (hown : s.vm.findClass own = some m.cls) (hts : ∀ w ∈ lw_all, w.before args s = true)
    (hMet : Met l y (ws_ y b L ret) (rmC d' mc' ms') (xP κ P (.ref a :: As)) Qc mc' ms' free) (h1 : Cond.methodLink own idx y ∈ lw_all) (h0 : Cond.sameMethod y.cls y.cls y.name y.desc ∈ lw_all) (h2 : Cond.instanceMethod y ∈ lw_all) (h3 : Cond.superclass own y.cls ∈ lw_all) (h4 : Cond.initialized y.cls ∈ lw_all) (h5 : Cond.code y b L ret ∈ lw_all)
    (hd : y.name ≠ "<init>" ∧ (parseMethodDescriptor y.desc).map (fun d => d.parameters.length) = some n) (hdd : d' < d) (hL : L ≤ 41) (hn : As.length = n) (hK : KZ κ s H) (hM : P H) (hrecv : ∃ cell : Cell, H[a]? = some cell ∧ cell.vm.isStatics = false ∧ s.vm.findClass C = some cell.cls) (hls : ls.size = nL) (hrest : (rest.map fun v => v.category).sum ≤ 8) (hst : st0 = As.reverse ++ .ref a :: rest) (hdg : decode cc pc = .ok (.invokespecial idx, 3)) (hf : cells + mc' ≤ mc ∧ slots + ms' ≤ ms) :
    va_Run p l e (rmC d mc ms) s m args below meth c H locs cells slots mc' ms' (F0 m pc ls st0) rest (Qc (Value.ref a :: As).toArray) free :=
  va_runSU (C := C) hat ⟨hexec, hb, hml, hown, hts⟩ hMet (va_cwSU n hts (fun w hw => by
    unfold va_wsSU at hw
    rcases List.mem_append.mp hw with h | h
    · simp only [List.mem_cons, List.not_mem_nil, or_false] at h
      rcases h with rfl | rfl | rfl | rfl | rfl
      · exact lw_self _ h1
      · exact lw_self _ h0
      · exact lw_self _ h3
      · exact lw_self _ h2
      · exact lw_self _ h4
    · exact lw_meth h5 w h) rfl rfl rfl hd (rmC_ok hdd hL)) ⟨xP_blind, hrecv, fun U hU hW => ⟨rfl, by rw [hU]; exact hM, hK.pre hU hW⟩⟩ rfl hn hls hst (lv_room hrest) hdg hf
end S0
/-- a builder at b: 8 bytes at v, n of them taken by t -/
def SB (κ : Kg) (b v n : Nat) (t : Nat → Int32) (H : Heap) : Prop := t_OB b (κ.D.1 13) 4 (κ.D.2 13) H (vp_V [.ref v, .int 0, .int 0, .int (nI n)]) ∧ H[v]? = some (arrV (κ.cA 1) 8 (fun j => .int (if j < n then t j else 0))) ∧ b ≠ v
/-- a letter -/
def isL (c : Int32) : Prop := ∃ k : Nat, k < 128 ∧ c = nI k
theorem isL.b {c : Int32} (h : isL c) : c.toInt8.toInt32 = c := by
  obtain ⟨k, hk, rfl⟩ := h
  revert k; decide +kernel
theorem isL.fit {c : Int32} (h : isL c) : fits .byte (.int c) = true := by
  obtain ⟨k, hk, rfl⟩ := h
  revert k; decide +kernel
theorem isL.m {c : Int32} (h : isL c) : c &&& 255 = c := by
  obtain ⟨k, hk, rfl⟩ := h
  revert k; decide +kernel
theorem isL.le {c : Int32} (h : isL c) : ¬ (255 : Int32) < c := by
  obtain ⟨k, hk, rfl⟩ := h
  revert k; decide +kernel
/-- a String of n letters t -/
def WS (κ : Kg) (w v n : Nat) (t : Nat → Int32) (h z : Int32) (H : Heap) : Prop := SO κ.D H w v h z ∧ H[v]? = some (arrV (κ.cA 1) n (fun j => .int (t j)))
theorem WS.kept {κ : Kg} {w v n : Nat} {t : Nat → Int32} {h z : Int32} {H H1 : Heap} (q : WS κ w v n t h z H) (h1 : H1[w]? = H[w]?) (h2 : H1[v]? = H[v]?) : WS κ w v n t h z H1 := ⟨q.1.kept h1, by rw [h2]; exact q.2⟩
