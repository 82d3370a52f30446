/-! THE CONTEXT's cells: statics, String constants, the enum's constants; contracts and calls in the context. By tools/gen_x2.py -/
set_option maxRecDepth 100000
def oldA (κ : Kg) : Nat → Prop := fun q => κ.base ≤ q
def kNm (k : Nat) : String := (["FORCED", "GIVEN", "PRICE", "WORTH", "YEAR_OF", "HELD", "HANDS", "LIVES", "DEAD"] : List String).getD k ""
def kCl (k : Nat) : String := (["HomeRoll$Known$1", "HomeRoll$Known$2", "HomeRoll$Known$3", "HomeRoll$Known$4", "HomeRoll$Known$5", "HomeRoll$Known$6", "HomeRoll$Known$7", "HomeRoll$Known$8", "HomeRoll$Known$9"] : List String).getD k ""
def sByt : List (List Int32) := [[], [59, 40, 41, 60, 62, 61, 43, 45], [119, 104, 101, 110], [102, 111, 114, 99, 101, 100], [103, 105, 118, 101, 110], [112, 114, 105, 99, 101], [119, 111, 114, 116, 104], [121, 101, 97, 114], [104, 101, 108, 100], [104, 97, 110, 100, 115], [108, 105, 118, 101, 115], [100, 101, 97, 100], [110, 111, 116], [97, 110, 100], [111, 114], [100, 111], [98, 97, 99, 107], [111, 116, 104, 101, 114], [109, 111, 110, 101, 121], [110, 111, 110, 101]]
def sLen (i : Nat) : Nat := (sByt.getD i []).length
def sAt (i j : Nat) : Int32 := (sByt.getD i []).getD j 0
/-- a byte array: n bytes f -/
def BA (U : State) (H : Heap) (v n : Nat) (f : Nat → Int32) : Prop := ∃ cell : Cell, H[v]? = some cell ∧ U.isArrayOf cell .byte ∧ cell.vm ≠ .unknown ∧ n ≤ cell.slots.size ∧ cell.slots.size.toInt32 = Int32.ofNat n ∧ ∀ j : Nat, j < n → cell.slots[j]? = some (.int (f j))
/-- a String's object: its bytes at v, its hash -/
def SO (D : va_G) (H : Heap) (a v : Nat) (h z : Int32) : Prop := t_OB a (D.1 14) 4 (D.2 14) H (vp_V [.ref v, .int 0, .int h, .int z])
/-- a cell that is known by its class and values, with whatever the machine keeps beside it -/
def t_OC (a : Nat) (cC : ClassId) (N : Nat) (iS : Nat → Nat) (H : Heap) (V : Nat → Value) : Prop := ∃ cell : Cell, H[a]? = some cell ∧ cell.cls = cC ∧ (cell.vm ≠ .unknown ∧ cell.vm.isStatics = false) ∧ ∀ k, k < N → cell.slots[iS k]? = some (V k)
theorem t_OC.kept {a : Nat} {cC : ClassId} {N : Nat} {iS : Nat → Nat} {H H1 : Heap} {V : Nat → Value} (h : t_OC a cC N iS H V) (hq : H1[a]? = H[a]?) : t_OC a cC N iS H1 V := by
  obtain ⟨cell, h1, h2⟩ := h
  exact ⟨cell, by rw [hq]; exact h1, h2⟩
theorem t_OC.of {a : Nat} {cC : ClassId} {N : Nat} {iS : Nat → Nat} {H : Heap} {V : Nat → Value} (h : t_OB a cC N iS H V) : t_OC a cC N iS H V := by
  obtain ⟨cell, h1, h2, h3, h4⟩ := h
  exact ⟨cell, h1, h2, ⟨by rw [h3]; exact fun z => by cases z, by rw [h3]; rfl⟩, h4⟩
/-- a String constant's object -/
def SK (D : va_G) (H : Heap) (a v : Nat) (h z : Int32) : Prop := t_OC a (D.1 14) 4 (D.2 14) H (vp_V [.ref v, .int 0, .int h, .int z])
section OC
variable {p : Program} {l : Launch} {e : Env} {R : Room} {s : State} {m : MethodId} {args : Array Value} {below : List Frame} {meth : Method} {c : Code} {H : Heap} {locs : List Loc} {cells slots : Nat} {Q : State → Prop}
variable {cc : ByteArray} {pc : Nat} {ls : Array Slot} {rest : List Value} {D : va_G} {cA : Nat → ClassId} {a : Nat}
theorem oc_get (hexec : p.tables.exec = Jvm.exec) (hb : c.code = cc) {own ref C : String} {T : u_T} {N ci index : Nat} {V : Nat → Value} (hts : ∀ w ∈ lw_all, w.before args s = true) (hin : ∀ w ∈ u_ws C T N, w ∈ lw_all) (hown : s.vm.findClass own = some m.cls) (hK : K0 D cA s) (hO : t_OC a (D.1 ci) N (D.2 ci) H V) (hc : vwCl[ci]? = some (C, T, N)) (k : Nat) (hk : k < N) (hlink : (Cond.fieldLink own index ref (T k).2.1 (T k).2.2.1) ∈ lw_all) (hsame : ∀ x, s.fieldFound? (T k).1 (T k).2.1 (T k).2.2.1 = some x → s.fieldFound? ref (T k).2.1 (T k).2.2.1 = some x) {v : Value} (hv : V k = v) (hdg : decode cc pc = .ok (.getfield index, 3))
    (kk : W p l e R s m args below meth c H locs cells slots Q (F0 m (pc + 3) ls (v :: rest))) : W p l e R s m args below meth c H locs cells slots Q (F0 m pc ls (.ref a :: rest)) := by
  obtain ⟨cell, q1, q2, q3, q4⟩ := hO
  obtain ⟨hS, hfc, kC, hkC, hkind⟩ := hK.1 ci _ hc
  obtain ⟨cf, kf, fi, f, hi, hsl⟩ := hS k hk
  refine W.getf hexec hb hown (hts _ hlink) (hsame _ hi) (u_facts hfc hkC (u_lays hts hin hk) hi).1 q1 q3.1 (v := v) ?_ rfl rfl hdg kk
  rw [hsl, q4 k hk, hv]
theorem oc_recv {ci N : Nat} {C : String} {T : u_T} {V : Nat → Value} (hK : K0 D cA s) (hc : vwCl[ci]? = some (C, T, N)) (hO : t_OC a (D.1 ci) N (D.2 ci) H V) : ∃ cell : Cell, H[a]? = some cell ∧ cell.vm.isStatics = false ∧ s.vm.findClass C = some cell.cls := by
  obtain ⟨cell, g1, g2, g3, -⟩ := hO
  exact ⟨cell, g1, g3.2, by rw [g2]; exact (hK.1 ci _ hc).2.1⟩
end OC
def KS (κ : Kg) (U : State) (H : Heap) : Prop :=
  va_Z "java/lang/String" "COMPACT_STRINGS" "Z" (.int 1) (oldA κ) U H ∧ va_Zq "java/lang/Throwable" "UNASSIGNED_STACK" "[Ljava/lang/StackTraceElement;" (oldA κ) U H ∧ va_Zq "java/lang/Throwable" "SUPPRESSED_SENTINEL" "Ljava/util/List;" (oldA κ) U H ∧
  (∀ k, k < 9 → va_Z "HomeRoll$Known" (kNm k) "LHomeRoll$Known;" (.ref (κ.kn k)) (oldA κ) U H) ∧ (∀ k, k < 9 → va_O (kCl k) (κ.kn k) (oldA κ) U H) ∧
  (∀ i, i < 20 → (∃ h z, SK κ.D H (κ.sK i) (κ.sV i) h z) ∧ BA U H (κ.sV i) (sLen i) (sAt i) ∧ κ.sK i < κ.base ∧ κ.sV i < κ.base)
theorem BA.moved {u U : State} {H : Heap} {v n : Nat} {f : Nat → Int32} (hvm : u.vm.Alike U.vm) (h : BA u H v n f) : BA U H v n f := by
  obtain ⟨cell, h1, h2, h3⟩ := h
  exact ⟨cell, h1, State.isArrayOf_alike hvm h2, h3⟩
theorem BA.kept {U : State} {H H1 : Heap} {v n : Nat} {f : Nat → Int32} (h : BA U H v n f) (hq : H1[v]? = H[v]?) : BA U H1 v n f := by
  obtain ⟨cell, h1, h2⟩ := h
  exact ⟨cell, by rw [hq]; exact h1, h2⟩
theorem KS.move {κ : Kg} {u U : State} {H H1 : Heap} (hvm : u.vm.Alike U.vm) (hq : ∀ q : Nat, q < κ.base → H1[q]? = H[q]?) (h : KS κ u H) : KS κ U H1 := by
  obtain ⟨h1, h2, h3, h4, h5, h6⟩ := h
  have hk : ∀ a : Nat, a < H.size → ¬ oldA κ a → H1[a]? = H[a]? := fun a _ ha => hq a (by unfold oldA at ha; omega)
  exact ⟨(va_Z.moved hvm h1).kept hk, (va_Zq.moved hvm h2).kept hk, (va_Zq.moved hvm h3).kept hk, fun k hk9 => (va_Z.moved hvm (h4 k hk9)).kept hk, fun k hk9 => (va_O.moved hvm (h5 k hk9)).kept hk, fun i hi => ⟨(h6 i hi).1.imp fun h ⟨z, q⟩ => ⟨z, q.kept (hq _ (h6 i hi).2.2.1)⟩, ((h6 i hi).2.1.moved hvm).kept (hq _ (h6 i hi).2.2.2), (h6 i hi).2.2⟩⟩
theorem KS.at {κ : Kg} {s : State} {H : Heap} {A : Nat → Prop} {locs : List Loc} (h : KS κ s s.heap) (hs : κ.base ≤ s.heap.size) (hS : va_S A s.heap H locs) (hA : ∀ q, A q → κ.base ≤ q) : KS κ s H :=
  h.move (Vm.Alike.refl _) (fun q hq => hS.2.1 q (by omega) (fun z => by have := hA q z; omega))
/-- the whole context at a state -/
def KZ (κ : Kg) (U : State) (H : Heap) : Prop := KX κ U ∧ KS κ U H ∧ κ.base ≤ H.size
def xP (κ : Kg) (P : Heap → Prop) (av : List Value) : Array Value → State → Prop := fun v U => v = av.toArray ∧ P U.heap ∧ KZ κ U U.heap
theorem xP_blind {κ : Kg} {P : Heap → Prop} {av : List Value} : FrameBlind (xP κ P av) := fun a U g mk h => ⟨h.1, h.2.1, KX.same (u := U) (U := U.calling g mk a) rfl h.2.2.1, KS.move (u := U) (U := U.calling g mk a) (Vm.Alike.refl U.vm) (fun _ _ => rfl) h.2.2.2.1, h.2.2.2.2⟩
section XM
variable {p : Program} {l : Launch} {e : Env} {R : Room} {s : State} {m : MethodId} {args : Array Value} {below : List Frame} {meth : Method} {c : Code} {H : Heap} {locs : List Loc} {cells slots : Nat} {Q : State → Prop}
variable {cc : ByteArray} {pc : Nat} {ls : Array Slot} {rest : List Value} {κ : Kg} {P : Heap → Prop} {a : Nat} {H0 : Heap}
theorem KZ.pre {U : State} (h : KZ κ s H) (hU : U.heap = H) (hW : s.WarmedH U.vm) : KZ κ U U.heap := ⟨h.1.warm hW, by rw [hU]; exact h.2.1.move hW.alike (fun _ _ => rfl), by rw [hU]; exact h.2.2⟩
theorem KZ.to {H1 : Heap} (h : KZ κ s H) (hq : ∀ q : Nat, q < κ.base → H1[q]? = H[q]?) (hz : κ.base ≤ H1.size) : KZ κ s H1 := ⟨h.1, h.2.1.move (Vm.Alike.refl _) hq, hz⟩
theorem xM_start {y : MethodName} {b : ByteArray} {L d mc ms : Nat} {ret : Option FieldType} {av : List Value} {Qc : Array Value → State → Outcome → State → Prop} {free : Addr → Prop} (own : String) (hy : plainName y.cls = true) (hyc : y.cls = own) (hn : (lg_sl av).length ≤ L)
    (body : ∀ (p : Program) (e : Env) (s : State) (m : MethodId) (below : List Frame) (meth : Method) (c : Code), p.tables.exec = Jvm.exec → c.code = b → c.maxLocals = L → s.vm.findClass own = some m.cls → (∀ w ∈ lw_all, w.before av.toArray s = true) → meth.sig.returnType = ret → meth.locks = false → meth.name = y.name → KZ κ s s.heap → P s.heap → ∀ ls : Array Slot, lv_has ls L (lv_args 0 av) → W p l e (rmC d mc ms) s m av.toArray below meth c s.heap [] 0 0 (MQ below Qc av.toArray s mc ms free) (F0 m 0 ls [])) :
    Met l y (ws_ y b L ret) (rmC d mc ms) (xP κ P av) Qc mc ms free := by
  refine Met.ofW (cc := b) (maxL := L) (ret := ret) hy rfl ?_
  intro p e s m args below meth c s₁ B hml hv
  obtain ⟨rfl, hM, hK⟩ := hv
  have hts := atoms_spec (ws := ws_ y b L ret) B.pre
  have hts : ∀ w ∈ lw_all, w.before _ s = true := fun w h => hts w (List.mem_cons_of_mem _ h)
  have hown : s.vm.findClass own = some m.cls := by rw [← hyc]; exact findClass_of_methodNamed B.named
  rw [lg_entry_eq]
  exact body p e s m below meth c B.exec B.bytes hml hown hts B.returns B.notSynchronized (name_of_methodNamed B.named B.method).1 hK hM _ (lv_entry av hn)
/-- the same for a method that may throw -/
theorem xT_start {y : MethodName} {b : ByteArray} {L d mc ms : Nat} {ret : Option FieldType} {av : List Value} {Qc : Array Value → State → Outcome → State → Prop} {free : Addr → Prop} (own : String) (hy : plainName y.cls = true) (hyc : y.cls = own) (hn : (lg_sl av).length ≤ L)
    (body : ∀ (p : Program) (e : Env) (s : State) (m : MethodId) (below : List Frame) (meth : Method) (c : Code), p.tables.exec = Jvm.exec → c.code = b → c.maxLocals = L → (∀ x ∈ c.exceptionTable.toList, False) → s.vm.findClass own = some m.cls → (∀ w ∈ lw_all, w.before av.toArray s = true) → meth.sig.returnType = ret → meth.locks = false → KZ κ s s.heap → P s.heap → ∀ ls : Array Slot, lv_has ls L (lv_args 0 av) → W p l e (rmC d mc ms) s m av.toArray below meth c s.heap [] 0 0 (MQT below Qc av.toArray s mc ms free) (F0 m 0 ls [])) :
    MetT l y (ws_ y b L ret) (rmC d mc ms) (xP κ P av) Qc mc ms free := by
  refine MetT.ofW (cc := b) (maxL := L) (ret := ret) hy rfl ?_
  intro p e s m args below meth c s₁ B hml hnh hv
  obtain ⟨rfl, hM, hK⟩ := hv
  have hts := atoms_spec (ws := ws_ y b L ret) B.pre
  have hts : ∀ w ∈ lw_all, w.before _ s = true := fun w h => hts w (List.mem_cons_of_mem _ h)
  have hown : s.vm.findClass own = some m.cls := by rw [← hyc]; exact findClass_of_methodNamed B.named
  rw [lg_entry_eq]
  exact body p e s m below meth c B.exec B.bytes hml hnh hown hts B.returns B.notSynchronized hK hM _ (lv_entry av hn)
/-- calls -/
theorem x_runV {own C : String} {y : MethodName} {b : ByteArray} {L d d' n idx nL mc ms mc' ms' : Nat} {ret : Option FieldType} {As : List Value} {Qc : Array Value → State → Outcome → State → Prop} {free : Addr → Prop} {st0 : List Value} (hexec : p.tables.exec = Jvm.exec) (hb : c.code = cc) (hml : c.maxLocals = nL) (hown : s.vm.findClass own = some m.cls) (hts : ∀ w ∈ lw_all, w.before args s = true)
    (hMet : Met l y (ws_ y b L ret) (rmC d' mc' ms') (xP κ P (.ref a :: As)) Qc mc' ms' free) (h1 : Cond.methodLink own idx y ∈ lw_all) (h2 : Cond.instanceMethod y ∈ lw_all) (h3 : Cond.selects C y y ∈ lw_all) (h4 : Cond.initialized C ∈ lw_all) (h5 : Cond.code y b L ret ∈ lw_all)
    (hd : y.cls = C ∧ y.cls ≠ "java/lang/invoke/MethodHandle" ∧ y.cls ≠ "java/lang/invoke/VarHandle" ∧ (parseMethodDescriptor y.desc).map (fun d => d.parameters.length) = some n) (hdd : d' < d) (hL : L ≤ 41) (hn : As.length = n) (hK : KZ κ s H) (hM : P H) (hrecv : ∃ cell : Cell, H[a]? = some cell ∧ cell.vm.isStatics = false ∧ s.vm.findClass C = some cell.cls) (hls : ls.size = nL) (hrest : (rest.map fun v => v.category).sum ≤ 8) (hst : st0 = As.reverse ++ .ref a :: rest) (hdg : decode cc pc = .ok (.invokevirtual idx, 3)) (hf : cells + mc' ≤ mc ∧ slots + ms' ≤ ms) :
    va_Run p l e (rmC d mc ms) s m args below meth c H locs cells slots mc' ms' (F0 m pc ls st0) rest (Qc (Value.ref a :: As).toArray) free :=
  va_runV ⟨hexec, hb, hml, hown, hts⟩ hMet (cwV n hts (lw_V h1 h2 h3 h4 h5) rfl rfl rfl hd (rmC_ok hdd hL)) ⟨xP_blind, hrecv, fun U hU hW => ⟨rfl, by rw [hU]; exact hM, hK.pre hU hW⟩⟩ rfl hn hls hst (lv_room hrest) hdg hf
theorem x_runI {own : String} {y : MethodName} {b : ByteArray} {L d d' n idx nL mc ms mc' ms' : Nat} {As : List Value} {Qc : Array Value → State → Outcome → State → Prop} {free : Addr → Prop} {st0 : List Value} (hexec : p.tables.exec = Jvm.exec) (hb : c.code = cc) (hml : c.maxLocals = nL) (hown : s.vm.findClass own = some m.cls) (hts : ∀ w ∈ lw_all, w.before args s = true)
    (hMet : Met l y (ws_ y b L none) (rmC d' mc' ms') (xP κ P (.ref a :: As)) Qc mc' ms' free) (h1 : Cond.methodLink own idx y ∈ lw_all) (h2 : Cond.instanceMethod y ∈ lw_all) (h4 : Cond.initialized y.cls ∈ lw_all) (h5 : Cond.code y b L none ∈ lw_all) (hy : y.name = "<init>")
    (hd : y.cls ≠ "java/lang/invoke/MethodHandle" ∧ y.cls ≠ "java/lang/invoke/VarHandle" ∧ (parseMethodDescriptor y.desc).map (fun d => d.parameters.length) = some n) (hdd : d' < d) (hL : L ≤ 41) (hn : As.length = n) (hK : KZ κ s H) (hM : P H) (hls : ls.size = nL) (hrest : (rest.map fun v => v.category).sum ≤ 8) (hst : st0 = As.reverse ++ .ref a :: rest) (hdg : decode cc pc = .ok (.invokespecial idx, 3)) (hf : cells + mc' ≤ mc ∧ slots + ms' ≤ ms) :
    va_Run p l e (rmC d mc ms) s m args below meth c H locs cells slots mc' ms' (F0 m pc ls st0) rest (Qc (Value.ref a :: As).toArray) free :=
  va_runI ⟨hexec, hb, hml, hown, hts⟩ hMet (cwI n hts (lw_meth h5) rfl rfl rfl (hts _ h4) (hts _ h1) (hts _ h2) hy hd (rmC_ok hdd hL)) ⟨xP_blind, fun U hU hW => ⟨rfl, by rw [hU]; exact hM, hK.pre hU hW⟩⟩ rfl hn hls hst (lv_room hrest) hdg hf
/-- a nest mate's private constructor -/
theorem x_runIN {own host : String} {y : MethodName} {b : ByteArray} {L d d' n idx nL mc ms mc' ms' : Nat} {As : List Value} {Qc : Array Value → State → Outcome → State → Prop} {free : Addr → Prop} {st0 : List Value} (hexec : p.tables.exec = Jvm.exec) (hb : c.code = cc) (hml : c.maxLocals = nL) (hown : s.vm.findClass own = some m.cls) (hts : ∀ w ∈ lw_all, w.before args s = true)
    (hMet : Met l y (ws_ y b L none) (rmC d' mc' ms') (xP κ P (.ref a :: As)) Qc mc' ms' free) (h1 : Cond.methodLinkNest own idx y host ∈ nwl) (h2 : Cond.instanceMethod y ∈ lw_all) (h4 : Cond.initialized y.cls ∈ lw_all) (h5 : Cond.code y b L none ∈ lw_all) (hy : y.name = "<init>")
    (hd : y.cls ≠ "java/lang/invoke/MethodHandle" ∧ y.cls ≠ "java/lang/invoke/VarHandle" ∧ (parseMethodDescriptor y.desc).map (fun d => d.parameters.length) = some n) (hdd : d' < d) (hL : L ≤ 41) (hn : As.length = n) (hK : KZ κ s H) (hM : P H) (hls : ls.size = nL) (hrest : (rest.map fun v => v.category).sum ≤ 8) (hst : st0 = As.reverse ++ .ref a :: rest) (hdg : decode cc pc = .ok (.invokespecial idx, 3)) (hf : cells + mc' ≤ mc ∧ slots + ms' ≤ ms) :
    va_Run p l e (rmC d mc ms) s m args below meth c H locs cells slots mc' ms' (F0 m pc ls st0) rest (Qc (Value.ref a :: As).toArray) free :=
  va_runIN ⟨hexec, hb, hml, hown, hts⟩ hMet ⟨va_cnB n hts (lw_meth h5) rfl rfl rfl (hK.1.2.1 _ h1) (hts _ h4) hd (rmC_ok hdd hL), hy, hts _ h2⟩ ⟨xP_blind, fun U hU hW => ⟨rfl, by rw [hU]; exact hM, hK.pre hU hW⟩⟩ rfl hn hls hst (lv_room hrest) hdg hf
theorem x_runS {own : String} {y : MethodName} {b : ByteArray} {L d d' n idx nL mc ms mc' ms' : Nat} {ret : Option FieldType} {As : List Value} {Qc : Array Value → State → Outcome → State → Prop} {free : Addr → Prop} {st0 : List Value} (hexec : p.tables.exec = Jvm.exec) (hb : c.code = cc) (hml : c.maxLocals = nL) (hown : s.vm.findClass own = some m.cls) (hts : ∀ w ∈ lw_all, w.before args s = true)
    (hMet : Met l y (ws_ y b L ret) (rmC d' mc' ms') (xP κ P As) Qc mc' ms' free) (h1 : Cond.methodLink own idx y ∈ lw_all) (h2 : Cond.static y ∈ lw_all) (h3 : Cond.initialized y.cls ∈ lw_all) (h5 : Cond.code y b L ret ∈ lw_all)
    (hd : y.cls ≠ "java/lang/invoke/MethodHandle" ∧ y.cls ≠ "java/lang/invoke/VarHandle" ∧ (parseMethodDescriptor y.desc).map (fun d => d.parameters.length) = some n) (hdd : d' < d) (hL : L ≤ 41) (hn : As.length = n) (hK : KZ κ s H) (hM : P H) (hls : ls.size = nL) (hrest : (rest.map fun v => v.category).sum ≤ 8) (hst : st0 = As.reverse ++ rest) (hdg : decode cc pc = .ok (.invokestatic idx, 3)) (hf : cells + mc' ≤ mc ∧ slots + ms' ≤ ms) :
    va_Run p l e (rmC d mc ms) s m args below meth c H locs cells slots mc' ms' (F0 m pc ls st0) rest (Qc As.toArray) free :=
  va_runS ⟨hexec, hb, hml, hown, hts⟩ hMet (va_cwS n hts (lw_S h1 h2 h3 h5) rfl rfl rfl hd (rmC_ok hdd hL)) ⟨xP_blind, fun U hU hW => ⟨rfl, by rw [hU]; exact hM, hK.pre hU hW⟩⟩ rfl hn hls hst (lv_room hrest) hdg hf
/-- behind any call that returns: what it said -/
theorem x_called {st0 : List Value} {Qa : State → Outcome → State → Prop} {free : Addr → Prop} {mc ms : Nat} (hr : va_Run p l e R s m args below meth c H locs cells slots mc ms (F0 m pc ls st0) rest Qa free)
    (kk : ∀ (v : Option Value) (st₀ t : State) (L : List Loc), st₀.heap = H → Qa st₀ (.returned v) t → s.vm.Alike t.vm → (∀ q ∈ L, free q.base) → W p l e R s m args below meth c t.heap (locs ++ L) (cells + mc) (slots + ms) Q (F0 m (pc + 3) ls (v.toList ++ rest))) : W p l e R s m args below meth c H locs cells slots Q (F0 m pc ls st0) := by
  intro T hT X
  obtain ⟨v, st₀, t, T', L, h0, X', hL, e1, e2, hq, st⟩ := hr T hT X
  obtain ⟨t2, a1, b1⟩ := kk v st₀ t L h0 hq (by rw [← e2]; exact X'.warmed.alike) hL T' e1 X'
  exact ⟨t2, st t2 a1, b1⟩
end XM

