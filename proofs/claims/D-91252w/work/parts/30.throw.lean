/-! METHODS THAT MAY THROW: contracts with both outcomes, calls of them, the throw itself. Own work over the library's Stand, StandAthrow, CatchAt. -/
set_option maxRecDepth 100000
def FET (first t : State) (L : List Loc) (k n : Nat) : Prop := first.WarmedH t.vm ∧ first.sameButNew ({ t with vm := first.vm } : State) L k n
def MetT (l : Launch) (y : MethodName) (ws : List Cond) (rm : Room) (Pc : Array Value → State → Prop) (Qc : Array Value → State → Outcome → State → Prop) (mc ms : Nat) (free : Addr → Prop) : Prop :=
  MetFree l y (headSpec ws rm) Pc (fun _ _ _ _ _ => True) (fun a st o t => Qc a st o t ∧ ∃ L, FET st t L mc ms ∧ ∀ q ∈ L, free q.base)
def MQT (below : List Frame) (Qc : Array Value → State → Outcome → State → Prop) (a : Array Value) (s : State) (mc ms : Nat) (free : Addr → Prop) : State → Prop := fun t =>
  ∃ o, t.status = .running ∧ Ended t below o ∧ Qc a s o t ∧ ∃ L, FET s t L mc ms ∧ ∀ q ∈ L, free q.base
section TH
variable {p : Program} {l : Launch} {e : Env} {R : Room} {s : State} {m : MethodId} {args : Array Value} {below : List Frame} {meth : Method} {c : Code} {H : Heap} {locs : List Loc} {cells slots : Nat} {Q : State → Prop}
theorem W.mono {Q2 : State → Prop} {g : JFrame} (h : ∀ t, Q t → Q2 t) (k : W p l e R s m args below meth c H locs cells slots Q g) : W p l e R s m args below meth c H locs cells slots Q2 g := by
  intro T hT X
  obtain ⟨t, a, b⟩ := k T hT X
  exact ⟨t, a, h t b⟩
theorem MQT.of {Qc : Array Value → State → Outcome → State → Prop} {a : Array Value} {mc ms : Nat} {free : Addr → Prop} {t : State} (h : MQ below Qc a s mc ms free t) : MQT below Qc a s mc ms free t := by
  obtain ⟨o, h1, h2, h3, L, h4, h5⟩ := h
  exact ⟨o, h1, h2, h3, L, ⟨h4.2.1, h4.2.2⟩, h5⟩
theorem MetT.ofW {y : MethodName} {ws ws' : List Cond} {rm : Room} {Pc : Array Value → State → Prop} {Qc : Array Value → State → Outcome → State → Prop} {mc ms : Nat} {free : Addr → Prop} {cc : ByteArray} {maxL : Nat} {ret : Option FieldType}
    (hy : plainName y.cls = true) (hw : ws = Cond.code y cc maxL ret :: ws')
    (body : ∀ p e s m args below meth c s₁, BodyLoose p l y (headSpec ws rm) cc maxL ret e s m args below meth c s₁ → c.maxLocals = maxL → (∀ x ∈ c.exceptionTable.toList, False) → Pc args s →
      W p l e (headSpec ws rm).room s m args below meth c s.heap [] 0 0 (MQT below Qc args s mc ms free) (entryFrame m args maxL)) : MetT l y ws rm Pc Qc mc ms free := by
  refine MetFree.of_bodyS (code := cc) (maxLocals := maxL) (ret := ret) hy ?_ ?_
  · intro args s m h hn
    obtain ⟨meth, c, h1, h2, h3, h4, h5, h6, -, -⟩ := Cond.code_spec hn (atoms_spec (ws := ws) h _ (by rw [hw]; exact List.mem_cons_self))
    exact ⟨meth, c, h1, h2, h3, h4, h5, h6⟩
  · intro p e s m args below meth c s₁ B hml hP _
    have hh0 : s₁.heap = s.heap := by rw [B.state]; rfl
    have X := Stand.of_body B
    obtain ⟨meth', c', h1, h2, -, -, -, -, h7, -⟩ := Cond.code_spec B.named (atoms_spec (ws := ws) B.pre _ (by rw [hw]; exact List.mem_cons_self))
    cases B.method.symm.trans h1
    cases X.code.symm.trans h2
    obtain ⟨t, a1, o, b1, b2, b3⟩ := body p e s m args below meth c s₁ B hml (fun x hx => by
      have e1 : c.exceptionTable = #[] := Array.isEmpty_iff.mp h7
      rw [e1] at hx; cases hx) hP s₁ hh0 X
    exact ⟨t, o, a1, b1, b2, ⟨b3.1, b3.2⟩⟩
/-- the throw -/
theorem W.throw {cc : ByteArray} {Qc : Array Value → State → Outcome → State → Prop} {free : Addr → Prop} {x : Addr} {pc : Nat} {ls : Array Slot} {rest : List Value} (hexec : p.tables.exec = Jvm.exec) (hb : c.code = cc) (hnh : ∀ x ∈ c.exceptionTable.toList, False)
    (hq : ∀ t : State, t.heap = H → s.WarmedH t.vm → Qc args s (.threw x) t) (hf : ∀ q ∈ locs, free q.base) (hdg : decode cc pc = .ok (.athrow, 1)) (hlocks : meth.locks = false) :
    W p l e R s m args below meth c H locs cells slots (MQT below Qc args s cells slots free) (F0 m pc ls (.ref x :: rest)) := by
  intro T hT X
  subst hb
  obtain ⟨hwalk, hrun, hended, hW, hsame⟩ := X.athrowLeaves hexec (g := F0 m pc ls (.ref x :: rest)) rfl rfl rfl (fun y hy => (hnh y hy).elim) (a := x) (rest := rest) rfl hdg hlocks
  exact ⟨_, hwalk, .threw x, hrun, hended, hq _ hT hW, locs, ⟨hW, hsame⟩, hf⟩
end TH
section BT
variable {l : Launch} {R : Room} {p : Program} {e : Env} {below : List Frame} {s : State} {sargs : Array Value} {y : MethodName} {len W : Nat}
def ThenT (p : Program) (e : Env) (below : List Frame) (T0 U' : State) (g : JFrame) (len : Nat) : Outcome → Prop
  | .returned v => Steps p.tables e below T0 (U'.setTop { g with pc := g.pc + len, stack := v.toList ++ g.stack })
  | .threw x => Steps p.tables e below T0 ((U'.setTop g).pushFrame (.throwing x))
def BackT (l : Launch) (R : Room) (p : Program) (e : Env) (below : List Frame) (s : State) (sargs : Array Value) (y : MethodName) (len W : Nat) (Pc : Array Value → State → Prop) (Qc : Array Value → State → Outcome → State → Prop) (mc ms : Nat) (free : Addr → Prop) : Prop :=
  ∀ (m : MethodId) (meth : Method) (c : Code) (A : Pt) (g : JFrame) (ig : Instr) (mk : MethodId) (a : Array Value),
    Stand p l e R s m sargs below meth c A.U A.locs A.cells A.slots → g.method = m → g.locals.size = c.maxLocals → decode c.code g.pc = .ok (ig, len) →
    2 * g.monitorRoom + (g.stack.map fun v => v.category).sum ≤ W → A.U.methodNamed? y = some mk → PreOf R mc ms Pc A a →
    ∃ (o : Outcome) (t U' : State) (L : List Loc) (g' : JFrame) (mk' : MethodId), Stand p l e R s m sargs below meth c U' (A.locs ++ L) (A.cells + mc) (A.slots + ms) ∧ U'.heap = t.heap ∧ U'.vm = t.vm ∧ (∀ q ∈ L, free q.base) ∧ Qc a (A.U.calling g' mk' a) o t ∧ ThenT p e below (doInvoke e (A.U.setTop g) [] mk a).1 U' g len o
theorem backT_of {ws : List Cond} {rm : Room} {Pc : Array Value → State → Prop} {Qc : Array Value → State → Outcome → State → Prop} {mc ms : Nat} {free : Addr → Prop} {bytes : ByteArray} {maxL : Nat} {ret : Option FieldType}
    (hM : MetT l y ws rm Pc Qc mc ms free) (hblind : FrameBlind Pc) (hrc : rm.cells = mc) (hrs : rm.slots = ms)
    (hframes : rm.frames + 1 ≤ R.frames) (hlocals : W + (maxL + 11) + rm.locals ≤ R.locals)
    (hws : ∀ w ∈ ws, ∀ a' U, s.WarmedH U.vm → w.before a' U = true) (hcode : Cond.code y bytes maxL ret ∈ ws) (hinit : ∀ a' U, s.WarmedH U.vm → (Cond.initialized y.cls).before a' U = true) :
    BackT l R p e below s sargs y len W Pc Qc mc ms free := by
  intro m meth c A g ig mk a X hg hsize hdg hW hn hp
  obtain ⟨U, Ls, c0, s0⟩ := A
  dsimp only [Pt.U, Pt.locs, Pt.cells, Pt.slots] at X hn ⊢
  have h1 : (headSpec ws rm).pre.before a U = true := atoms_intro fun w hw => hws w hw _ _ X.warmed
  have h2 : (Cond.code y bytes maxL ret).before a U = true := hws _ hcode _ _ X.warmed
  have h3 : (Cond.initialized y.cls).before a U = true := hinit _ _ X.warmed
  have h4 : c0 + rm.cells ≤ R.cells := by rw [hrc]; exact hp.1
  have h5 : s0 + rm.slots ≤ R.slots := by rw [hrs]; exact hp.2.1
  obtain ⟨methY, cY, hmY, hcY, -, hlY, -, -, -, -⟩ := Cond.code_spec hn h2
  obtain ⟨kY, hkY, -⟩ := className_of_methodNamed hn
  have hinitY : kY.init = .initialized := Cond.initialized_spec (findClass_of_methodNamed hn) hkY h3
  have h : At U g.method c below := by rw [hg]; exact X.here
  have happ : (headSpec ws rm).appliesLoose y e.platform (U.calling g mk a) = true :=
    Spec.appliesLoose_calling (g := g) h hdg hn hkY hinitY
      (X.room_calling (g := g) (R' := rm) hsize hmY hcY hframes (by rw [hlY]; omega) h4 h5) h1
  obtain ⟨mid, hmid⟩ := h.above
  have hfr : (U.setTop g).frames = (.java g :: mid) ++ below := by rw [State.frames_setTop' g h.top, hmid]; rfl
  obtain ⟨o, s₂, hsteps, -, hend, hq⟩ := Steps.callFree hM p X.admits X.cas X.clock (acts := []) hfr happ (hblind _ _ _ _ hp.2.2) trivial
  obtain ⟨hq', L, hfe, hL⟩ : Qc a (U.calling g mk a) o s₂ ∧ ∃ L, FET (U.calling g mk a) s₂ L mc ms ∧ ∀ q ∈ L, free q.base := hq
  rw [State.frames_setTop' g h.top] at hend
  obtain ⟨hW₂, e2, q2, q3, q4, q5, q6⟩ := id hfe
  have e3 : s₂ = ({ (U.calling g mk a).setFrames s₂.frames with heap := s₂.heap, slotsUsed := s₂.slotsUsed } : State).setVm s₂.vm := by
    have : s₂ = ({ s₂ with vm := (U.calling g mk a).vm } : State).setVm s₂.vm := rfl
    rw [e2] at this
    exact this
  have hW' : U.WarmedH s₂.vm := hW₂
  obtain ⟨g₀, hg0⟩ := Option.isSome_iff_exists.mp h.top
  obtain ⟨r, hr⟩ := State.topJava?_eq_some.mp hg0
  have hr' : (({ U with heap := s₂.heap, slotsUsed := s₂.slotsUsed } : State).setVm s₂.vm).frames = .java g₀ :: r := hr
  have hsame : U.sameButNew ({ U with heap := s₂.heap, slotsUsed := s₂.slotsUsed } : State) L mc ms := by
    refine ⟨?_, q2, q3, q4, q5, q6⟩
    obtain ⟨t, ht, -⟩ := State.frames_cons hr
    show ({ U with heap := s₂.heap, slotsUsed := s₂.slotsUsed } : State) = { U.setFrames U.frames with heap := s₂.heap, slotsUsed := s₂.slotsUsed }
    rw [State.setFrames_self ht]
  refine ⟨o, s₂, (({ U with heap := s₂.heap, slotsUsed := s₂.slotsUsed } : State).setVm s₂.vm), L, g, mk, ?_, rfl, rfl, hL, hq', ?_⟩
  · subst hg
    exact ⟨X.admits, X.cas, X.clock, X.frames, X.room, X.hears, X.method, X.code, (X.here.setHeapUsed s₂.heap s₂.slotsUsed).setVm hW'.alike, X.tail, State.WarmedH.trans X.warmed hW', X.limits, X.bytes, X.same.trans (hsame.setVm s.vm)⟩
  · cases o with
    | returned v =>
      obtain ⟨c₂, i₂, len₂, hc₂, hd₂, hf₂⟩ := hend
      have hcc : c₂ = c := by
        have h1 : s₂.code? g.method = U.code? g.method := by
          rw [State.code?_eq, State.code?_eq, hW'.alike.method?]
        exact Option.some.inj (hc₂.symm.trans (h1.trans h.code))
      subst hcc
      have hlen : len₂ = len := by rw [hdg] at hd₂; cases hd₂; rfl
      subst hlen
      have hs₂ : s₂ = (({ U with heap := s₂.heap, slotsUsed := s₂.slotsUsed } : State).setVm s₂.vm).setTop { g with pc := g.pc + len₂, stack := v.toList ++ g.stack } := by
        refine e3.trans ?_
        rw [hf₂, State.calling_eq h.top, State.setFrames_setFrames, State.setTop_of_frames _ hr', hr]
        rfl
      show Steps p.tables e below _ _
      rw [← hs₂]
      exact hsteps
    | threw x =>
      have hf₂ : s₂.frames = .throwing x :: .java g :: U.frames.tail := hend
      have hs₂ : s₂ = ((({ U with heap := s₂.heap, slotsUsed := s₂.slotsUsed } : State).setVm s₂.vm).setTop g).pushFrame (.throwing x) := by
        refine e3.trans ?_
        rw [hf₂, State.calling_eq h.top, State.setFrames_setFrames, State.pushFrame, State.frames_setTop _ hr', State.setTop_of_frames _ hr', State.setFrames_setFrames, hr]
        rfl
      show Steps p.tables e below _ _
      rw [← hs₂]
      exact hsteps
end BT
section CT
variable {p : Program} {l : Launch} {e : Env} {R : Room} {s : State} {m : MethodId} {args : Array Value} {below : List Frame} {meth : Method} {c : Code} {H : Heap} {locs : List Loc} {cells slots : Nat} {Q : State → Prop}
/-- what a call of a method that may throw does: it comes back, or the note of the exception lies over the caller's frame -/
def RunT (p : Program) (l : Launch) (e : Env) (R : Room) (s : State) (m : MethodId) (args : Array Value) (below : List Frame) (meth : Method) (c : Code) (H : Heap) (locs : List Loc) (cells slots mc ms : Nat) (g : JFrame) (rest : List Value) (Qa : State → Outcome → State → Prop) (free : Addr → Prop) : Prop :=
  ∀ T : State, T.heap = H → Stand p l e R s m args below meth c T locs cells slots → ∃ (o : Outcome) (st₀ t T' : State) (L : List Loc), st₀.heap = H ∧ Stand p l e R s m args below meth c T' (locs ++ L) (cells + mc) (slots + ms) ∧ (∀ q ∈ L, free q.base) ∧ T'.heap = t.heap ∧ T'.vm = t.vm ∧ Qa st₀ o t ∧
    (∀ v, o = .returned v → Goes p e below T g T' { g with pc := g.pc + 3, stack := v.toList ++ rest }) ∧
    (∀ x, o = .threw x → ∀ tg, Steps p.tables e below ((T'.setTop { g with stack := rest }).pushFrame (.throwing x)) tg → Steps p.tables e below (T.setTop g) tg)
variable {y : MethodName} {bytes cc : ByteArray} {maxL nL mc ms n index : Nat} {ret : Option FieldType} {ws : List Cond} {rm : Room} {Pc : Array Value → State → Prop} {Qc : Array Value → State → Outcome → State → Prop} {free : Addr → Prop} {Ts : List Cond} {own C : String} {b : Addr} {As rest : List Value} {g : JFrame}
theorem callBackT (cb : CallB R s args own index y bytes maxL ret ws rm mc ms n) (hM : MetT l y ws rm Pc Qc mc ms free) (hbl : FrameBlind Pc) : BackT l R p e below s args y 3 8 Pc Qc mc ms free := by
  obtain ⟨hrc, hrs, hfr, hlo, hws, hcw, -, hini, -⟩ := cb
  exact backT_of (bytes := bytes) (maxL := maxL) (ret := ret) hM hbl hrc hrs hfr hlo hws hcw (fun a' U hW => word_at hW (Or.inl (by first | rfl | simp [Cond.onTables, Cond.keeps, Cond.steady])) hini)
theorem runT_V (S : CallFix p m c cc nL s args Ts own) (hM : MetT l y ws rm Pc Qc mc ms free) (cw : CallW R s args own C index y bytes maxL ret ws rm mc ms n) (hp : PreV s H C b Pc As)
    (hg : g.method = m) (hn : As.length = n) (hsize : g.locals.size = nL) (hstack : g.stack = As.reverse ++ .ref b :: rest) (hW : 2 * g.monitorRoom + (rest.map fun v => v.category).sum ≤ 8) (hdg : decode cc g.pc = .ok (.invokevirtual index, 3)) (hf : cells + mc ≤ R.cells ∧ slots + ms ≤ R.slots) :
    RunT p l e R s m args below meth c H locs cells slots mc ms g rest (Qc (Value.ref b :: As).toArray) free := by
  have hK : BackT l R p e below s args y 3 8 Pc Qc mc ms free := callBackT cw.1 hM hp.1
  obtain ⟨⟨-, -, -, -, -, -, hcode, -, hy, hlen, hl⟩, hinst, hsel⟩ := cw
  obtain ⟨hexec, hb, hml, hown, -⟩ := S
  obtain ⟨-, ⟨cellB, hcB, hobj, hcls⟩, hPc⟩ := hp
  intro T hT X
  subst hb
  obtain ⟨mk, methM, hnamed, hmethM, hstM, habM⟩ := Cond.instanceMethod_spec hinst
  obtain ⟨methM', cM, hmethM', -, -, -, -, -, -, hsigM⟩ := Cond.code_spec hnamed hcode
  cases hmethM.symm.trans hmethM'
  obtain ⟨c2, r2, m2, q1, q2, q3, q4, kP, hkP, hkPi⟩ := Cond.selects_spec hsel
  cases hcls.symm.trans q1
  cases (State.methodFound?_of_named hnamed hy).symm.trans q2
  cases hnamed.symm.trans q3
  have hselP : selectMethod e.platform s.vm cellB.cls mk = .method mk := by rw [Launch.admits_selectMethod X.admits]; exact q4
  obtain ⟨vm₁, X₁, hstep₁⟩ := X.invokevirtual hexec hown hl hnamed hmethM hstM hkP hkPi hy (a := b) (cell := cellB) (by rw [hT]; exact hcB)
    (fun z h => by rw [h] at hobj; cases hobj) hselP hmethM habM hkP hkPi (g := g) hg (argsL := As) (rest := rest) (hn.trans (hlen _ hsigM)) hstack hdg
  obtain ⟨o, t, U', L, g', mk', X', e1, e2, hL, hq, st⟩ := hK m meth c ⟨T.setVm vm₁, locs, cells, slots⟩ { g with stack := rest } (.invokevirtual index) mk (Value.ref b :: As).toArray X₁ hg (hsize.trans hml.symm) hdg hW (X₁.named hnamed) ⟨hf.1, hf.2, hPc (T.setVm vm₁) hT X₁.warmed⟩
  refine ⟨o, _, t, U', L, ?_, X', hL, e1, e2, hq, fun v hv => ?_, fun x hx tg htg => ?_⟩
  · show (T.setVm vm₁).heap = H
    exact hT
  · subst hv
    exact fun tg htg => hstep₁ _ fun acts => by rw [doInvoke_state]; exact Steps.trans st htg
  · subst hx
    exact hstep₁ _ fun acts => by rw [doInvoke_state]; exact Steps.trans st htg
/-- behind such a call, in a method without handlers: the exception goes on -/
theorem t_call {free0 : Addr → Prop} {Q0 : Array Value → State → Outcome → State → Prop} {Qa : State → Outcome → State → Prop} {pc mc0 ms0 : Nat} {ls : Array Slot} {st0 : List Value} (hr : RunT p l e R s m args below meth c H locs cells slots mc ms (F0 m pc ls st0) rest Qa free) (hnh : ∀ x ∈ c.exceptionTable.toList, False) (hlocks : meth.locks = false)
    (hthrow : ∀ (x : Addr) (st₀ t : State) (locs1 : List Loc), st₀.heap = H → s.vm.Alike t.vm → Qa st₀ (.threw x) t → (∃ L, locs1 = locs ++ L ∧ ∀ q ∈ L, free q.base) → (∀ t' : State, t'.heap = t.heap → s.WarmedH t'.vm → Q0 args s (.threw x) t') ∧ (∀ q ∈ locs1, free0 q.base) ∧ cells + mc ≤ mc0 ∧ slots + ms ≤ ms0)
    (kk : ∀ (v : Option Value) (st₀ t : State) (locs1 : List Loc), st₀.heap = H → s.vm.Alike t.vm → Qa st₀ (.returned v) t → (∃ L, locs1 = locs ++ L ∧ ∀ q ∈ L, free q.base) → W p l e R s m args below meth c t.heap locs1 (cells + mc) (slots + ms) (MQT below Q0 args s mc0 ms0 free0) (F0 m (pc + 3) ls (v.toList ++ rest))) :
    W p l e R s m args below meth c H locs cells slots (MQT below Q0 args s mc0 ms0 free0) (F0 m pc ls st0) := by
  intro T hT X
  obtain ⟨o, st₀, t, T', L, h0, X', hL, e1, e2, hq, hv, hx⟩ := hr T hT X
  have hal : s.vm.Alike t.vm := by rw [← e2]; exact X'.warmed.alike
  cases o with
  | returned v =>
    obtain ⟨t2, a1, b1⟩ := kk v st₀ t (locs ++ L) h0 hal hq ⟨L, rfl, hL⟩ T' e1 X'
    exact ⟨t2, hv v rfl t2 a1, b1⟩
  | threw x =>
    obtain ⟨k1, k2, k3, k4⟩ := hthrow x st₀ t (locs ++ L) h0 hal hq ⟨L, rfl, hL⟩
    have X'' := stand_widen X' k3 k4
    obtain ⟨hw, hrun, hended, hW, hsame⟩ := X''.leaveThrown x (g := { F0 m pc ls st0 with stack := rest }) rfl rfl rfl (fun y hy => (hnh y hy).elim) hlocks
    exact ⟨_, hx x rfl _ hw, .threw x, hrun, hended, k1 _ (by show T'.heap = t.heap; exact e1) hW, locs ++ L, ⟨hW, hsame⟩, k2⟩
end CT
