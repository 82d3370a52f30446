/-! A method with handlers: what it catches. The component's law field. Own work. -/
set_option maxRecDepth 100000
section CA
variable {p : Program} {l : Launch} {e : Env} {R : Room} {s : State} {m : MethodId} {args : Array Value} {below : List Frame} {meth : Method} {c : Code} {H : Heap} {locs : List Loc} {cells slots : Nat} {Q : State → Prop}
theorem asg_self (vm : Vm) (k : ClassId) : vm.assignable k k = true := by
  show vm.assignableAux (255 + 1) k k = true
  rw [Vm.assignableAux, Bool.or_eq_true, beq_iff_eq]
  exact Or.inl rfl
/-- the search for a handler: the first row covers the place, its class (not looked up yet, or known) is the object's own -/
theorem fh_link {Qh : Handler → Pre} {E : CtlPost} {d : Bool} {acts : List Action} {u : State} {f : JFrame} {a : Addr} (hm : u.vm.method? f.method = some meth) (hc : meth.code = some c) {x : ExceptionTableEntry} {xs : List ExceptionTableEntry} (htab : c.exceptionTable.toList = x :: xs) (hcov : covers x f.pc = true) (h0 : x.catchType ≠ 0) {cell : Cell} (hl : u.vm.ClassLinks e.platform f.method.cls x.catchType cell.cls) (hcell : u.heap[a]? = some cell) (hobj : ∀ k, cell.vm ≠ .statics k) (hk : ∃ k, u.vm.classes[cell.cls]? = some k) :
    wp (findHandler f a) Qh E e d acts u ↔ Qh (.found x.handlerPc) d acts (u.setVm (u.vm.noted f.method.cls x.catchType (.cls cell.cls))) := by
  rw [W.findHandler_eq hm hc, htab]
  simp only [covers] at hcov
  obtain ⟨g1, g2⟩ := (resolveClass_links e.toSetting hl).op (op := VmOp.resolveClass f.method.cls x.catchType) rfl
  obtain ⟨k1, hk1⟩ := hk
  obtain ⟨k2, hk2, -⟩ := ((Vm.Alike.refl u.vm).noted f.method.cls x.catchType (.cls cell.cls)).2.2 _ _ hk1
  simp [findHandler.go, hcov, h0, g1, g2, hcell, hobj, hk2, asg_self, VmOp.dirties, VmOp.acts]
/-- the step from the note of the exception to the handler -/
theorem st_link {T tg : State} {g : JFrame} {a : Addr} {pc : Nat} {vm1 : Vm} (h : At T g.method c below) (hf : ∀ (Qh : Handler → Pre) (E : CtlPost) (d : Bool) (acts : List Action), wp (findHandler g a) Qh E e d acts ((T.setTop g).pushFrame (.throwing a)) ↔ Qh (.found pc) d acts (((T.setTop g).pushFrame (.throwing a)).setVm vm1)) (hr : Steps p.tables e below ((T.setVm vm1).setTop { g with pc := pc, stack := [.ref a] }) tg) : Steps p.tables e below ((T.setTop g).pushFrame (.throwing a)) tg := by
  obtain ⟨h1, h2⟩ := h.throwing a
  obtain ⟨g0, hg0⟩ := Option.isSome_iff_exists.mp h.top
  obtain ⟨r, hT⟩ := State.topJava?_eq_some.mp hg0
  refine Steps.head h1 h2 ?_
  rw [stepThread_throwing (frames_entered h.top _)]
  have key : ∀ fs : List Frame, (stepThrowing e ((T.setTop g).pushFrame (.throwing a)) a (.java g :: fs)).1 = (((T.setTop g).pushFrame (.throwing a)).setVm vm1).setFrames (.java { g with pc := pc, stack := [.ref a] } :: fs) := by
    intro fs
    simp only [stepThrowing, searchFrame, vmDo]
    generalize hz : Sem.go _ e false [] ((T.setTop g).pushFrame (.throwing a)) = z
    obtain ⟨as, rfl, -⟩ := Sem.eq_ok_of hz (a := Handler.found pc) (s' := ((T.setTop g).pushFrame (.throwing a)).setVm vm1) (acts' := []) (by simp [hf _ _ _ _])
    rfl
  rw [key]
  have hT1 : (T.setVm vm1).frames = .java g0 :: r := hT
  rw [State.setTop_of_frames _ hT1] at hr
  have e1 : (((T.setTop g).pushFrame (.throwing a)).setVm vm1).setFrames (.java { g with pc := pc, stack := [.ref a] } :: T.frames.tail) = (T.setVm vm1).setFrames (.java { g with pc := pc, stack := [.ref a] } :: r) := by
    rw [hT, List.tail_cons, State.pushFrame, State.setTop_of_frames _ hT]
    show (((T.setVm vm1).setFrames (.java g :: r)).setFrames _).setFrames _ = _
    rw [State.setFrames_setFrames, State.setFrames_setFrames]
  rw [e1]
  exact hr
variable {cc : ByteArray} {pc nL mc ms : Nat} {ls : Array Slot} {rest : List Value}
/-- behind a call that may throw, in a method whose first handler takes the exception -/
theorem t_catch {free : Addr → Prop} {Qa : State → Outcome → State → Prop} {st0 : List Value} {own name : String} {x : ExceptionTableEntry} {xs : List ExceptionTableEntry} (hr : RunT p l e R s m args below meth c H locs cells slots mc ms (F0 m pc ls st0) rest Qa free) (hown : s.vm.findClass own = some m.cls) (htab : c.exceptionTable.toList = x :: xs) (hcov : covers x pc = true) (h0 : x.catchType ≠ 0) (hlink : (Cond.classLink own x.catchType name).before args s = true)
    (hthrow : ∀ (a : Addr) (st₀ t : State) (locs1 : List Loc), st₀.heap = H → s.vm.Alike t.vm → Qa st₀ (.threw a) t → (∃ L, locs1 = locs ++ L ∧ ∀ q ∈ L, free q.base) → (∃ cell : Cell, t.heap[a]? = some cell ∧ cell.vm.isStatics = false ∧ s.vm.findClass name = some cell.cls) ∧ W p l e R s m args below meth c t.heap locs1 (cells + mc) (slots + ms) Q (F0 m x.handlerPc ls [.ref a]))
    (kk : ∀ (v : Option Value) (st₀ t : State) (locs1 : List Loc), st₀.heap = H → s.vm.Alike t.vm → Qa st₀ (.returned v) t → (∃ L, locs1 = locs ++ L ∧ ∀ q ∈ L, free q.base) → W p l e R s m args below meth c t.heap locs1 (cells + mc) (slots + ms) Q (F0 m (pc + 3) ls (v.toList ++ rest))) :
    W p l e R s m args below meth c H locs cells slots Q (F0 m pc ls st0) := by
  intro T hT X
  obtain ⟨o, st₀, t, T', L, h1, X', hL, e1, e2, hq, hv, hx⟩ := hr T hT X
  have hal : s.vm.Alike t.vm := by rw [← e2]; exact X'.warmed.alike
  cases o with
  | returned v =>
    obtain ⟨t2, a1, b1⟩ := kk v st₀ t (locs ++ L) h1 hal hq ⟨L, rfl, hL⟩ T' e1 X'
    exact ⟨t2, hv v rfl t2 a1, b1⟩
  | threw a =>
    obtain ⟨⟨cell, hc1, hc2, hc3⟩, hW⟩ := hthrow a st₀ t (locs ++ L) h1 hal hq ⟨L, rfl, hL⟩
    obtain ⟨c1, hcl1, hcl⟩ := Cond.classLink_spec hown hlink e.platform (by rw [X'.admits.platform])
    cases hc3.symm.trans hcl1
    obtain ⟨dk, _, _, kt, hd, _, _, _, _, hkt, _, hopen⟩ := hcl.here
    have hW1 : s.WarmedH (T'.vm.noted m.cls x.catchType (.cls cell.cls)) := X'.warmed.noted hd hopen (State.rightAt_cls hcl)
    obtain ⟨kt1, hkt1, -⟩ := X'.warmed.alike.2.2 _ _ hkt
    obtain ⟨t2, a1, b1⟩ := hW (T'.setVm (T'.vm.noted m.cls x.catchType (.cls cell.cls))) e1 (X'.noted hW1)
    refine ⟨t2, hx a rfl t2 (st_link (g := { F0 m pc ls st0 with stack := rest }) (pc := x.handlerPc) (vm1 := T'.vm.noted m.cls x.catchType (.cls cell.cls)) X'.here (fun Qh E d acts => ?_) a1), b1⟩
    exact fh_link (f := { F0 m pc ls st0 with stack := rest }) (u := (T'.setTop { F0 m pc ls st0 with stack := rest }).pushFrame (.throwing a)) (meth := meth) (c := c) X'.method' X'.code htab hcov h0 (cell := cell) (X'.warmed.classLinks hcl) (by show T'.heap[a]? = some cell; rw [e1]; exact hc1) (VmData.ne_statics_of hc2) ⟨kt1, hkt1⟩
end CA
section WS9
variable {κ : Kg} {P : Heap → Prop} {l : Launch}
/-- a method with handlers begins -/
theorem xW_start {y : MethodName} {b : ByteArray} {L d mc ms : Nat} {ret : Option FieldType} {hh : List (Nat × Nat × Nat × Nat)} {av : List Value} {Qc : Array Value → State → Outcome → State → Prop} {free : Addr → Prop} (own : String) (hy : plainName y.cls = true) (hyc : y.cls = own) (hn : (lg_sl av).length ≤ L)
    (body : ∀ (p : Program) (e : Env) (s : State) (m : MethodId) (below : List Frame) (meth : Method) (c : Code), p.tables.exec = Jvm.exec → c.code = b → c.maxLocals = L → c.exceptionTable.toList.map (fun h => (h.startPc, h.endPc, h.handlerPc, h.catchType)) = hh → s.vm.findClass own = some m.cls → (∀ w ∈ lw_all, w.before av.toArray s = true) → meth.sig.returnType = ret → meth.locks = false → KZ κ s s.heap → P s.heap → ∀ ls : Array Slot, lv_has ls L (lv_args 0 av) → W p l e (rmC d mc ms) s m av.toArray below meth c s.heap [] 0 0 (MQ below Qc av.toArray s mc ms free) (F0 m 0 ls [])) :
    Met l y (wsW_ y b L ret hh) (rmC d mc ms) (xP κ P av) Qc mc ms free := by
  refine va_MetW (cc := b) (maxL := L) (ret := ret) (hh := hh) hy rfl ?_
  intro p e s m args below meth c s₁ B hml hv
  obtain ⟨rfl, hM, hK⟩ := hv
  have hts := atoms_spec (ws := wsW_ y b L ret hh) B.pre
  obtain ⟨m9, meth9, c9, n1, n2, n3, -, -, n6, -⟩ := Cond.codeWith_spec (hts _ List.mem_cons_self)
  cases B.named.symm.trans n1
  cases B.method.symm.trans n2
  cases (Stand.of_body B).code.symm.trans n3
  have hts : ∀ w ∈ lw_all, w.before _ s = true := fun w h => hts w (List.mem_cons_of_mem _ h)
  have hown : s.vm.findClass own = some m.cls := by rw [← hyc]; exact findClass_of_methodNamed B.named
  rw [lg_entry_eq]
  exact body p e s m below meth c B.exec B.bytes hml n6 hown hts B.returns B.notSynchronized hK hM _ (lv_entry av hn)
end WS9
def glw (g : Gh) (al : Nat) : Gh := (g.1, g.2.1, al, g.2.2.2)
theorem CW.putl {D : va_G} {cA : Nat → ClassId} {o : Nat} {g : Gh} {u : St} {H H1 : Heap} {al : Nat} (h : CW D cA o g u H) (hh : t_OB o (D.1 0) 31 (D.2 0) H1 (updV (cV o g u) 4 (.ref al))) (hq : ∀ q : Nat, q ≠ o → H1[q]? = H[q]?) : CW D cA o (glw g al) u H1 := by
  obtain ⟨h1, h2, h3, h4, h5, h6, h7⟩ := h
  refine ⟨hh.to fun j hj => ?_, (h2.kept (hq _ (cAd_ne k23.1 k23.2.1 k23.2.2))).to fun j hj => rfl, fun j hj a b => ?_, fun j hj a => ?_, fun i hi => (h5 i hi).kept (hq _ (by have := h6 i hi; omega)), h6, h7⟩
  · unfold updV
    by_cases e : j = 4
    · subst e; rw [if_pos rfl]; rfl
    · rw [if_neg e]
      rcases (show j = 0 ∨ j = 1 ∨ j = 2 ∨ j = 3 ∨ j = 5 ∨ j = 6 ∨ j = 7 ∨ j = 8 ∨ j = 9 ∨ j = 10 ∨ j = 11 ∨ j = 12 ∨ j = 13 ∨ j = 14 ∨ j = 15 ∨ j = 16 ∨ j = 17 ∨ j = 18 ∨ j = 19 ∨ j = 20 ∨ j = 21 ∨ j = 22 ∨ j = 23 ∨ j = 24 ∨ j = 25 ∨ j = 26 ∨ j = 27 ∨ j = 28 ∨ j = 29 ∨ j = 30 by omega) with rfl | rfl | rfl | rfl | rfl | rfl | rfl | rfl | rfl | rfl | rfl | rfl | rfl | rfl | rfl | rfl | rfl | rfl | rfl | rfl | rfl | rfl | rfl | rfl | rfl | rfl | rfl | rfl | rfl | rfl <;> rfl
  · rw [hq _ (cAd_ne hj a (by omega)), h3 j hj a b]
  · rw [hq _ (cAd_ne hj (by omega) (by omega)), h4 j hj a]; rfl
/-- where a method of the component with the JDK's world stands -/
def LZ (κ : Kg) (o : Nat) (g : Gh) (u : St) (s : State) (H : Heap) (locs : List Loc) : Prop := KZ κ s H ∧ CW κ.D κ.cA o g u H ∧ (s.heap.size ≤ H.size ∧ ∀ q : Nat, q < s.heap.size → ¬ cF o g q → H[q]? = s.heap[q]?) ∧ ∀ x ∈ locs, κ.base ≤ x.base
theorem cF_ge {o : Nat} {g : Gh} {D : va_G} {cA : Nat → ClassId} {u : St} {H : Heap} (h : CW D cA o g u H) {q : Nat} (hq : cF o g q) : o ≤ q ∧ q < H.size := by
  rcases hq with h1 | ⟨i, hi, rfl⟩
  · refine ⟨h1.1, ?_⟩
    have h35 : H[cAd o 58]? = some (cArr cA u 58) := h.2.2.1 58 (by decide) (by decide) (by decide)
    have := (Array.getElem?_eq_some_iff.mp h35).1
    have e : cAd o 58 = o + 35 := rfl
    omega
  · exact ⟨by have := h.2.2.2.2.2.1 i hi; omega, (h.2.2.2.2.1 i hi).lt⟩
section L0
variable {p : Program} {l : Launch} {e : Env} {R : Room} {s : State} {m : MethodId} {args : Array Value} {below : List Frame} {meth : Method} {c : Code} {H : Heap} {locs : List Loc} {cells slots : Nat} {Q : State → Prop}
variable {cc : ByteArray} {pc : Nat} {ls : Array Slot} {rest : List Value} {κ : Kg} {o : Nat} {g : Gh} {u : St}
theorem LZ.va (h : LZ κ o g u s H locs) (hoB : κ.base ≤ o) : va_S (fun q => κ.base ≤ q) s.heap H locs := ⟨h.2.2.1.1, fun q h1 h2 => h.2.2.1.2 q h1 (fun z => h2 (by have := (cF_ge h.2.1 z).1; omega)), h.2.2.2⟩
theorem ls_puti (hexec : p.tables.exec = Jvm.exec) (hb : c.code = cc) (hts : ∀ w ∈ lw_all, w.before args s = true) (hown : s.vm.findClass RX0 = some m.cls) (hL : LZ κ o g u s H locs) (hoB : κ.base ≤ o) (k : Nat) (hk : k < 31) {index : Nat} (hlink : (Cond.fieldLink RX0 index RX0 (TX0 k).2.1 (TX0 k).2.2.1) ∈ lw_all) (hT : (TX0 k).1 = RX0) (hkd : cKd k = 0) (hty : tyX0 k = .int) (hfin : (TX0 k).2.2.2 = false) {v : Int32} (hdg : decode cc pc = .ok (.putfield index, 3))
    (kk : ∀ (H1 : Heap) (locs1 : List Loc), LZ κ o g (si u k v) s H1 locs1 → (∀ q : Nat, q ≠ o → H1[q]? = H[q]?) → H1.size = H.size → W p l e R s m args below meth c H1 locs1 cells slots Q (F0 m (pc + 3) ls rest)) : W p l e R s m args below meth c H locs cells slots Q (F0 m pc ls (.int v :: .ref o :: rest)) :=
  ob_put (C := RX0) (T := TX0) (N := 31) (ci := 0) hexec hb hts in_X0 tyX0 tyX0_ok nmX0 hown hL.1.1.1 hL.2.1.1 (hL.va hoB) hoB rfl k hk hlink (fun x h => by rw [hT] at h; exact h) hfin (by rw [hty]; rfl) (by rw [hty]; rfl) hdg (fun H1 locs1 h1 h2 hz h3 => kk H1 locs1 ⟨hL.1.to (fun q hq => h2 q (by omega)) (by have := hL.1.2.2; omega), hL.2.1.puti hk (by omega) h1 h2, ⟨by rw [hz]; exact hL.2.2.1.1, fun q g1 g2 => (h2 q (fun z => g2 (z ▸ cF_o o g))).trans (hL.2.2.1.2 q g1 g2)⟩, h3.2.2⟩ h2 hz)
theorem ls_putl (hexec : p.tables.exec = Jvm.exec) (hb : c.code = cc) (hts : ∀ w ∈ lw_all, w.before args s = true) (hown : s.vm.findClass RX0 = some m.cls) (hL : LZ κ o g u s H locs) (hoB : κ.base ≤ o) {al : Nat} (hdg : decode cc pc = .ok (.putfield 22, 3))
    (kk : ∀ (H1 : Heap) (locs1 : List Loc), LZ κ o (glw g al) u s H1 locs1 → (∀ q : Nat, q ≠ o → H1[q]? = H[q]?) → H1.size = H.size → W p l e R s m args below meth c H1 locs1 cells slots Q (F0 m (pc + 3) ls rest)) : W p l e R s m args below meth c H locs cells slots Q (F0 m pc ls (.ref al :: .ref o :: rest)) :=
  ob_put (C := RX0) (T := TX0) (N := 31) (ci := 0) hexec hb hts in_X0 tyX0 tyX0_ok nmX0 hown hL.1.1.1 hL.2.1.1 (hL.va hoB) hoB rfl 4 (by decide) q192 (fun x h => h) rfl rfl rfl hdg (fun H1 locs1 h1 h2 hz h3 => kk H1 locs1 ⟨hL.1.to (fun q hq => h2 q (by omega)) (by have := hL.1.2.2; omega), hL.2.1.putl h1 h2, ⟨by rw [hz]; exact hL.2.2.1.1, fun q g1 g2 => (h2 q (fun z => g2 (z ▸ cF_o o g))).trans (hL.2.2.1.2 q g1 g2)⟩, h3.2.2⟩ h2 hz)
theorem LZ.new {H1 : Heap} {L : List Loc} (h : LZ κ o g u s H locs) (hz : H.size ≤ H1.size) (hq : ∀ q : Nat, q < H.size → H1[q]? = H[q]?) (hL : ∀ x ∈ L, κ.base ≤ x.base) : LZ κ o g u s H1 (locs ++ L) := ⟨h.1.to (fun q hh => hq q (by have := h.1.2.2; omega)) (by have := h.1.2.2; omega), h.2.1.kept (fun q hh => hq q (cF_ge h.2.1 hh).2), ⟨Nat.le_trans h.2.2.1.1 hz, fun q g1 g2 => (hq q (Nat.lt_of_lt_of_le g1 h.2.2.1.1)).trans (h.2.2.1.2 q g1 g2)⟩, lc_app h.2.2.2 hL⟩
end L0
theorem CW.tape {κ : Kg} {o : Nat} {g : Gh} {u : St} {H : Heap} (h : CW κ.D κ.cA o g u H) {n : Nat} (hn : u.1 1 = nI n) (h6 : n ≤ 600) : TW κ o (n, u.2.1 0) H := ⟨⟨_, h.1, rfl, by show Value.int (u.1 1) = _; rw [hn]⟩, h.2.2.1 0 (by decide) (by decide) (by decide), h6⟩
