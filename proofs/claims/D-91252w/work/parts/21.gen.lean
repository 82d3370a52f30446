/-! METHODS OVER ANY WORLD: start, call; an object's own methods. Own work. -/
set_option maxRecDepth 100000
def gP (D : va_G) (cA : Nat → ClassId) (P : Heap → Prop) (av : List Value) : Array Value → State → Prop := fun v U => v = av.toArray ∧ P U.heap ∧ K0 D cA U
section GEN
variable {p : Program} {l : Launch} {e : Env} {R : Room} {s : State} {m : MethodId} {args : Array Value} {below : List Frame} {meth : Method} {c : Code} {H : Heap} {locs : List Loc} {cells slots : Nat} {Q : State → Prop}
variable {cc : ByteArray} {pc : Nat} {ls : Array Slot} {rest : List Value} {D : va_G} {cA : Nat → ClassId} {P : Heap → Prop} {a : Nat} {H0 : Heap}
theorem gP_blind {av : List Value} : FrameBlind (gP D cA P av) := fun a U g mk h => ⟨h.1, h.2.1, va_K.moved (u := U) (U := U.calling g mk a) (Vm.Alike.refl U.vm) h.2.2⟩
theorem gM_start {y : MethodName} {b : ByteArray} {L d mc ms : Nat} {ret : Option FieldType} {av : List Value} {Qc : Array Value → State → Outcome → State → Prop} {free : Addr → Prop} (own : String) (hy : plainName y.cls = true) (hyc : y.cls = own) (hn : (lg_sl av).length ≤ L)
    (body : ∀ (p : Program) (e : Env) (s : State) (m : MethodId) (below : List Frame) (meth : Method) (c : Code), p.tables.exec = Jvm.exec → c.code = b → c.maxLocals = L → s.vm.findClass own = some m.cls → (∀ w ∈ lw_all, w.before av.toArray s = true) → meth.sig.returnType = ret → meth.locks = false → meth.name = y.name → K0 D cA s → P s.heap → ∀ ls : Array Slot, lv_has ls L (lv_args 0 av) → W p l e (rmC d mc ms) s m av.toArray below meth c s.heap [] 0 0 (MQ below Qc av.toArray s mc ms free) (F0 m 0 ls [])) :
    Met l y (ws_ y b L ret) (rmC d mc ms) (gP D cA P av) Qc mc ms free := by
  refine Met.ofW (cc := b) (maxL := L) (ret := ret) hy rfl ?_
  intro p e s m args below meth c s₁ B hml hv
  obtain ⟨rfl, hM, hK⟩ := hv
  have hts := atoms_spec (ws := ws_ y b L ret) B.pre
  have hts : ∀ w ∈ lw_all, w.before _ s = true := fun w h => hts w (List.mem_cons_of_mem _ h)
  have hown : s.vm.findClass own = some m.cls := by rw [← hyc]; exact findClass_of_methodNamed B.named
  rw [lg_entry_eq]
  exact body p e s m below meth c B.exec B.bytes hml hown hts B.returns B.notSynchronized (name_of_methodNamed B.named B.method).1 hK hM _ (lv_entry av hn)
/-- a call of an object's own method, from a method of any class -/
theorem g_runV {own C : String} {y : MethodName} {b : ByteArray} {L d d' n idx nL mc ms mc' ms' : Nat} {ret : Option FieldType} {As : List Value} {Qc : Array Value → State → Outcome → State → Prop} {free : Addr → Prop} {st0 : List Value} (hexec : p.tables.exec = Jvm.exec) (hb : c.code = cc) (hml : c.maxLocals = nL) (hown : s.vm.findClass own = some m.cls) (hts : ∀ w ∈ lw_all, w.before args s = true)
    (hMet : Met l y (ws_ y b L ret) (rmC d' mc' ms') (gP D cA P (.ref a :: As)) Qc mc' ms' free) (h1 : Cond.methodLink own idx y ∈ lw_all) (h2 : Cond.instanceMethod y ∈ lw_all) (h3 : Cond.selects C y y ∈ lw_all) (h4 : Cond.initialized C ∈ lw_all) (h5 : Cond.code y b L ret ∈ lw_all)
    (hd : y.cls = C ∧ y.cls ≠ "java/lang/invoke/MethodHandle" ∧ y.cls ≠ "java/lang/invoke/VarHandle" ∧ (parseMethodDescriptor y.desc).map (fun d => d.parameters.length) = some n) (hdd : d' < d) (hL : L ≤ 41) (hn : As.length = n) (hK : K0 D cA s) (hM : P H) (hrecv : ∃ cell : Cell, H[a]? = some cell ∧ cell.vm.isStatics = false ∧ s.vm.findClass C = some cell.cls) (hls : ls.size = nL) (hrest : (rest.map fun v => v.category).sum ≤ 8) (hst : st0 = As.reverse ++ .ref a :: rest) (hdg : decode cc pc = .ok (.invokevirtual idx, 3)) (hf : cells + mc' ≤ mc ∧ slots + ms' ≤ ms) :
    va_Run p l e (rmC d mc ms) s m args below meth c H locs cells slots mc' ms' (F0 m pc ls st0) rest (Qc (Value.ref a :: As).toArray) free :=
  va_runV ⟨hexec, hb, hml, hown, hts⟩ hMet (cwV n hts (lw_V h1 h2 h3 h4 h5) rfl rfl rfl hd (rmC_ok hdd hL)) ⟨gP_blind, hrecv, fun U hU hW => ⟨rfl, by rw [hU]; exact hM, va_K.moved hW.alike hK⟩⟩ rfl hn hls hst (lv_room hrest) hdg hf
/-- an object as a receiver -/
theorem ob_recv {ci N : Nat} {C : String} {T : u_T} {V : Nat → Value} (hK : K0 D cA s) (hc : vwCl[ci]? = some (C, T, N)) (hO : t_OB a (D.1 ci) N (D.2 ci) H V) : ∃ cell : Cell, H[a]? = some cell ∧ cell.vm.isStatics = false ∧ s.vm.findClass C = some cell.cls := by
  obtain ⟨cell, g1, g2, g3, -⟩ := hO
  exact ⟨cell, g1, by rw [g3]; rfl, by rw [g2]; exact (hK.1 ci _ hc).2.1⟩
end GEN
