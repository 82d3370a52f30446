/-! METHODS OF A CLASS OF WHICH NOTHING SAYS THAT IT IS INITIALISED (an enum constant's own body): contracts, calls. Calls of what is declared without a body. Own work. -/
set_option maxRecDepth 100000
def MetU (l : Launch) (y : MethodName) (ws : List Cond) (rm : Room) (Pc : Array Value → State → Prop) (Qc : Array Value → State → Outcome → State → Prop) (mc ms : Nat) (free : Addr → Prop) : Prop :=
  ∀ (p : Program) (e : Env), l.admits e → FairCas e.choices → FairClock e.choices → ∀ (s : State) (m : MethodId) (args : Array Value) (below : List Frame), s.frames = .invoking m args :: below →
    (s.status = .running ∧ s.curStatus? = some .runnable ∧ s.alone = true ∧ s.methodNamed? y = some m ∧ s.hears m below = true ∧ s.hasRoom e.platform rm = true ∧ (headSpec ws rm).pre.before args s = true) → Pc args s →
    ∃ (n : Nat) (o : Outcome), (∀ k, k < n → Within (stepsAlone p.tables e k s) below) ∧ (stepsAlone p.tables e n s).status = .running ∧ Ended (stepsAlone p.tables e n s) below o ∧ Qc args s o (stepsAlone p.tables e n s) ∧ ∃ L, FET s (stepsAlone p.tables e n s) L mc ms ∧ ∀ q ∈ L, free q.base
section MU
variable {l : Launch}
theorem MetU.ofW {y : MethodName} {ws ws' : List Cond} {rm : Room} {Pc : Array Value → State → Prop} {Qc : Array Value → State → Outcome → State → Prop} {mc ms : Nat} {free : Addr → Prop} {cc : ByteArray} {maxL : Nat} {ret : Option FieldType}
    (hy : plainName y.cls = true) (hw : ws = Cond.code y cc maxL ret :: ws')
    (body : ∀ (p : Program) (e : Env) (s : State) (m : MethodId) (args : Array Value) (below : List Frame) (meth : Method) (c : Code), p.tables.exec = Jvm.exec → s.methodNamed? y = some m → s.vm.method? m = some meth → c.code = cc → c.maxLocals = maxL → meth.sig.returnType = ret → meth.locks = false → (headSpec ws rm).pre.before args s = true → Pc args s →
      W p l e rm s m args below meth c s.heap [] 0 0 (MQT below Qc args s mc ms free) (entryFrame m args maxL)) : MetU l y ws rm Pc Qc mc ms free := by
  intro p e ha hc hk s m args below hf ⟨hrun, hable, halone, hname, hhears, hroom, hpre⟩ hP
  obtain ⟨meth, c, hmeth, hcode, hbytes, hlocals, hret, hlocks, -, -⟩ := Cond.code_spec hname (atoms_spec (ws := ws) hpre _ (by rw [hw]; exact List.mem_cons_self))
  have hcur := State.cur_lt_of_frames hf
  have hf1 : (s.setFrames (.java (entryFrame m args maxL) :: below)).frames = .java (entryFrame m args maxL) :: below := State.frames_setFrames _ hcur
  have ht1 := State.topJava?_of_frames hf1
  have hAt : At (s.setFrames (.java (entryFrame m args maxL) :: below)) m c below :=
    ⟨by rw [ht1]; rfl, ⟨[], by rw [hf1]; rfl⟩, hrun, by simpa using hable, by simpa using halone, by rw [State.code?_eq]; simp [State.setFrames, hmeth, hcode], State.plainMethod.of_named (s := s) (plainFor_of_name hy) hname hmeth⟩
  have hstep : (stepThread p.tables e s).1 = (s.setFrames (.java (entryFrame m args maxL) :: below)).setTop (entryFrame m args maxL) := by
    have hfull : e.platform.stackFull (s.setFrames below).me (s.setFrames below).frames c.maxLocals = false := by
      obtain ⟨-, h1, -, h2⟩ := State.hasRoom_stack hroom
      rw [hf, List.length_cons] at h1
      rw [State.localsInUse_invoking hf hmeth hcode] at h2
      have hw := stackUse_le_stackWeight below
      rw [State.frames_setFrames _ hcur]
      exact Platform.stackFull_eq_false (by rw [State.stackLimits_setFrames]; omega) (by rw [State.stackLimits_setFrames]; omega)
    rw [stepThread_invoking hf, (doInvoke_java (s := s.setFrames below) (e := e) (meth := meth) (code := c) hmeth hcode hlocks hfull).1, State.setTop_self ht1]
    simp only [State.pushFrame, State.frames_setFrames _ hcur, State.setFrames_setFrames, hlocals, entryFrame]
  obtain ⟨t0, ht0, -⟩ := State.frames_cons hf
  have X : Stand p l e rm s m args below meth c (s.setFrames (.java (entryFrame m args maxL) :: below)) [] 0 0 :=
    ⟨ha, hc, hk, hf, hroom, hhears, hmeth, hcode, hAt, by rw [hf1]; rfl, State.WarmedH.refl s, by rw [State.stackLimits_setFrames], by rw [State.stackBytes_setFrames], (State.sameButNew.refl s ht0).setFrames (.java (entryFrame m args maxL) :: below) hcur⟩
  obtain ⟨s2, hs, o, hr, he, hp⟩ := body p e s m args below meth c (by cases p <;> rfl) hname hmeth hbytes hlocals hret hlocks hpre hP (s.setFrames (.java (entryFrame m args maxL) :: below)) rfl X
  obtain ⟨n, hn, hw2⟩ := Steps.head (tb := p.tables) (e := e) ⟨hrun, hable, halone⟩ ⟨[.invoking m args], hf, by simp, by simp⟩ (hstep ▸ hs)
  exact ⟨n, o, hw2, hn ▸ hr, hn ▸ he, hn ▸ hp⟩
variable {R : Room} {p : Program} {e : Env} {below : List Frame} {s : State} {sargs : Array Value} {y : MethodName} {len W : Nat}
theorem backU_of {ws : List Cond} {rm : Room} {Pc : Array Value → State → Prop} {Qc : Array Value → State → Outcome → State → Prop} {mc ms : Nat} {free : Addr → Prop} {bytes : ByteArray} {maxL : Nat} {ret : Option FieldType}
    (hM : MetU l y ws rm Pc Qc mc ms free) (hnt : ∀ a st x t, ¬ Qc a st (.threw x) t) (hblind : FrameBlind Pc) (hrc : rm.cells = mc) (hrs : rm.slots = ms)
    (hframes : rm.frames + 1 ≤ R.frames) (hlocals : W + (maxL + 11) + rm.locals ≤ R.locals)
    (hws : ∀ w ∈ ws, ∀ a' U, s.WarmedH U.vm → w.before a' U = true) (hcode : Cond.code y bytes maxL ret ∈ ws) :
    Back l R p e below s sargs y len W (PreOf R mc ms Pc) (PostOf Qc mc ms free) := by
  intro m meth c A g ig mk a X hg hsize hdg hW hn hp
  obtain ⟨U, Ls, c0, s0⟩ := A
  dsimp only [Pt.U, Pt.locs, Pt.cells, Pt.slots] at X hn ⊢
  have h1 : (headSpec ws rm).pre.before a U = true := atoms_intro fun w hw => hws w hw _ _ X.warmed
  have h2 : (Cond.code y bytes maxL ret).before a U = true := hws _ hcode _ _ X.warmed
  have h4 : c0 + rm.cells ≤ R.cells := by rw [hrc]; exact hp.1
  have h5 : s0 + rm.slots ≤ R.slots := by rw [hrs]; exact hp.2.1
  obtain ⟨methY, cY, hmY, hcY, -, hlY, -, -, -, -⟩ := Cond.code_spec hn h2
  have h : At U g.method c below := by rw [hg]; exact X.here
  obtain ⟨mid, hmid⟩ := h.above
  have hfr : (U.setTop g).frames = (.java g :: mid) ++ below := by rw [State.frames_setTop' g h.top, hmid]; rfl
  have hfc : (U.calling g mk a).frames = .invoking mk a :: .java g :: U.frames.tail := State.frames_calling h.top g mk a
  have hcode1 : (U.calling g mk a).code? g.method = some c := by
    have := h.code
    rw [State.code?_eq] at this ⊢
    simpa [State.calling, State.pushFrame, State.setFrames] using this
  have happ : (U.calling g mk a).status = .running ∧ (U.calling g mk a).curStatus? = some .runnable ∧ (U.calling g mk a).alone = true ∧ (U.calling g mk a).methodNamed? y = some mk ∧ (U.calling g mk a).hears mk (.java g :: U.frames.tail) = true ∧ (U.calling g mk a).hasRoom e.platform rm = true ∧ (headSpec ws rm).pre.before a (U.calling g mk a) = true :=
    ⟨h.running, by simpa [State.calling] using h.runnable, by simpa [State.calling] using h.alone, hn, by simp [State.hears, hcode1, hdg, Except.toOption], X.room_calling (g := g) (R' := rm) hsize hmY hcY hframes (by rw [hlY]; omega) h4 h5, by rw [State.calling_eq h.top, Cond.before_setFrames]; exact h1⟩
  obtain ⟨n, o, hw, hr, he, hq, L, hfe, hL⟩ := hM p e X.admits X.cas X.clock (U.calling g mk a) mk a (.java g :: U.frames.tail) hfc happ (hblind _ _ _ _ hp.2.2)
  have hsf : (U.setTop g).frames = .java g :: U.frames.tail := State.frames_setTop' g h.top
  obtain ⟨t0, ht0, -⟩ := State.frames_cons hsf
  have hstep : (stepThread p.tables e (U.calling g mk a)).1 = (doInvoke e (U.setTop g) [] mk a).1 := by
    show (stepThread p.tables e ((U.setTop g).pushFrame (.invoking mk a))).1 = _
    rw [stepThread_invoking (show ((U.setTop g).pushFrame (.invoking mk a)).frames = .invoking mk a :: (U.setTop g).frames by rw [hsf]; exact hfc), doInvoke_state e (U.setTop g) [], State.pushFrame, State.setFrames_setFrames, State.setFrames_self ht0]
  have hgo : (U.calling g mk a).goesOn := ⟨happ.1, happ.2.1, happ.2.2.1⟩
  obtain ⟨s₂, hsteps, hend, hq, hfe⟩ : ∃ s₂, Steps p.tables e below (doInvoke e (U.setTop g) [] mk a).1 s₂ ∧ Ended s₂ (.java g :: U.frames.tail) o ∧ Qc a (U.calling g mk a) o s₂ ∧ FET (U.calling g mk a) s₂ L mc ms := by
    cases n with
    | zero => exact absurd ⟨[.invoking mk a], hfc, by simp, by simp⟩ he.not_within
    | succ k =>
      rw [stepsAlone_succ _ hgo, hstep] at he hq hfe
      refine ⟨_, ⟨k, rfl, fun j hj => ?_⟩, he, hq, hfe⟩
      have h9 := hw (j + 1) (by omega)
      rw [stepsAlone_succ _ hgo, hstep, show Frame.java g :: U.frames.tail = (.java g :: mid) ++ below by rw [hmid]; rfl] at h9
      exact h9.weaken
  obtain ⟨hW₂, e2, q2, q3, q4, q5, q6⟩ := id hfe
  have e3 : s₂ = ({ (U.calling g mk a).setFrames s₂.frames with heap := s₂.heap, slotsUsed := s₂.slotsUsed } : State).setVm s₂.vm := by
    have : s₂ = ({ s₂ with vm := (U.calling g mk a).vm } : State).setVm s₂.vm := rfl
    rw [e2] at this
    exact this
  have hW' : U.WarmedH s₂.vm := hW₂
  obtain ⟨g₀, hg0⟩ := Option.isSome_iff_exists.mp h.top
  obtain ⟨r, hrr⟩ := State.topJava?_eq_some.mp hg0
  have hr' : (({ U with heap := s₂.heap, slotsUsed := s₂.slotsUsed } : State).setVm s₂.vm).frames = .java g₀ :: r := hrr
  have hsame : U.sameButNew ({ U with heap := s₂.heap, slotsUsed := s₂.slotsUsed } : State) L mc ms := by
    refine ⟨?_, q2, q3, q4, q5, q6⟩
    obtain ⟨t, ht, -⟩ := State.frames_cons hrr
    show ({ U with heap := s₂.heap, slotsUsed := s₂.slotsUsed } : State) = { U.setFrames U.frames with heap := s₂.heap, slotsUsed := s₂.slotsUsed }
    rw [State.setFrames_self ht]
  cases o with
  | threw x => exact absurd hq (hnt _ _ _ _)
  | returned v =>
    refine ⟨v, ((({ U with heap := s₂.heap, slotsUsed := s₂.slotsUsed } : State).setVm s₂.vm), Ls ++ L, c0 + mc, s0 + ms), ?_, ⟨g, mk, s₂, L, rfl, rfl, hq, rfl, hL, rfl, rfl⟩, ?_⟩
    · subst hg
      exact ⟨X.admits, X.cas, X.clock, X.frames, X.room, X.hears, X.method, X.code, (X.here.setHeapUsed s₂.heap s₂.slotsUsed).setVm hW'.alike, X.tail, State.WarmedH.trans X.warmed hW', X.limits, X.bytes, X.same.trans (hsame.setVm s.vm)⟩
    · obtain ⟨c₂, i₂, len₂, hc₂, hd₂, hf₂⟩ := hend
      have hcc : c₂ = c := by
        have h1 : s₂.code? g.method = U.code? g.method := by
          rw [State.code?_eq, State.code?_eq, hW'.alike.method?]
        exact Option.some.inj (hc₂.symm.trans (h1.trans h.code))
      subst hcc
      have hlen : len₂ = len := by rw [hdg] at hd₂; cases hd₂; rfl
      subst hlen
      have hs₂ : s₂ = (({ U with heap := s₂.heap, slotsUsed := s₂.slotsUsed } : State).setVm s₂.vm).setTop { g with pc := g.pc + len₂, stack := v.toList ++ g.stack } := by
        refine e3.trans ?_
        rw [hf₂, State.calling_eq h.top, State.setFrames_setFrames, State.setTop_of_frames _ hr', hrr]
        rfl
      show Steps p.tables e below _ _
      rw [← hs₂]
      exact hsteps
end MU
section XU
variable {κ : Kg} {P : Heap → Prop} {l : Launch}
theorem xU_start {y : MethodName} {b : ByteArray} {L d mc ms : Nat} {ret : Option FieldType} {av : List Value} {Qc : Array Value → State → Outcome → State → Prop} {free : Addr → Prop} (own : String) (hy : plainName y.cls = true) (hyc : y.cls = own) (hn : (lg_sl av).length ≤ L)
    (body : ∀ (p : Program) (e : Env) (s : State) (m : MethodId) (below : List Frame) (meth : Method) (c : Code), p.tables.exec = Jvm.exec → c.code = b → c.maxLocals = L → s.vm.findClass own = some m.cls → (∀ w ∈ lw_all, w.before av.toArray s = true) → meth.sig.returnType = ret → meth.locks = false → KZ κ s s.heap → P s.heap → ∀ ls : Array Slot, lv_has ls L (lv_args 0 av) → W p l e (rmC d mc ms) s m av.toArray below meth c s.heap [] 0 0 (MQ below Qc av.toArray s mc ms free) (F0 m 0 ls [])) :
    MetU l y (ws_ y b L ret) (rmC d mc ms) (xP κ P av) Qc mc ms free := by
  refine MetU.ofW (cc := b) (maxL := L) (ret := ret) hy rfl ?_
  intro p e s m args below meth c hx hnm hm hb hml hr hlk hpre hv
  obtain ⟨rfl, hM, hK⟩ := hv
  have hts := atoms_spec (ws := ws_ y b L ret) hpre
  have hts : ∀ w ∈ lw_all, w.before _ s = true := fun w h => hts w (List.mem_cons_of_mem _ h)
  have hown : s.vm.findClass own = some m.cls := by rw [← hyc]; exact findClass_of_methodNamed hnm
  rw [lg_entry_eq]
  exact W.mono (fun _ => MQT.of) (body p e s m below meth c hx hb hml hown hts hr hlk hK hM _ (lv_entry av hn))
variable {p : Program} {e : Env} {s : State} {m : MethodId} {args : Array Value} {below : List Frame} {meth : Method} {c : Code} {H : Heap} {locs : List Loc} {cells slots : Nat} {pc a : Nat} {ls : Array Slot} {rest : List Value} {cc : ByteArray}
/-- a call of x, declared without a body; the object's class C has y for it -/
theorem x_runAU {own C : String} {x y : MethodName} {b : ByteArray} {L d d' n idx nL mc ms mc' ms' : Nat} {ret : Option FieldType} {As : List Value} {v : Option Value} {free : Addr → Prop} {st0 : List Value} (hexec : p.tables.exec = Jvm.exec) (hb : c.code = cc) (hml : c.maxLocals = nL) (hown : s.vm.findClass own = some m.cls) (hts : ∀ w ∈ lw_all, w.before args s = true)
    (hMet : MetU l y (ws_ y b L ret) (rmC d' mc' ms') (xP κ P (.ref a :: As)) (rQ v) mc' ms' free) (h1 : Cond.methodLink own idx x ∈ lw_all) (h0 : Cond.sameMethod x.cls x.cls x.name x.desc ∈ lw_all) (hx2 : Cond.declares x ∈ nwl) (h2 : Cond.instanceMethod y ∈ lw_all) (h3 : Cond.selects C x y ∈ lw_all) (h5 : Cond.code y b L ret ∈ lw_all)
    (hd : x.cls ≠ "java/lang/invoke/MethodHandle" ∧ x.cls ≠ "java/lang/invoke/VarHandle" ∧ (parseMethodDescriptor x.desc).map (fun d => d.parameters.length) = some n) (hdd : d' < d) (hL : L ≤ 41) (hn : As.length = n) (hK : KZ κ s H) (hM : P H) (hrecv : ∃ cell : Cell, H[a]? = some cell ∧ cell.vm.isStatics = false ∧ s.vm.findClass C = some cell.cls) (hls : ls.size = nL) (hrest : (rest.map fun v => v.category).sum ≤ 8) (hst : st0 = As.reverse ++ .ref a :: rest) (hdg : decode cc pc = .ok (.invokevirtual idx, 3)) (hf : cells + mc' ≤ mc ∧ slots + ms' ≤ ms) :
    va_Run p l e (rmC d mc ms) s m args below meth c H locs cells slots mc' ms' (F0 m pc ls st0) rest (rQ v (Value.ref a :: As).toArray) free := by
  have hR := rmC_ok (mc := mc) (ms := ms) (mc' := mc') (ms' := ms') hdd hL
  have hwa : ∀ w ∈ ws_ y b L ret, w.before args s = true := fun w hw => by
    rcases List.mem_cons.mp hw with z | z
    · rw [z]; exact hts _ h5
    · exact hts _ z
  have hB : Back l (rmC d mc ms) p e below s args y 3 8 (PreOf (rmC d mc ms) mc' ms' (xP κ P (.ref a :: As))) (PostOf (rQ v) mc' ms' free) := backU_of (bytes := b) (maxL := L) (ret := ret) hMet (fun a st x t h => by cases h.1) xP_blind rfl rfl hR.1 hR.2 (fun w hw a' U hW => word_at hW (lw_meth h5 w hw).2 (hwa w hw)) List.mem_cons_self
  obtain ⟨cellB, hcB, hoB, hclB⟩ := hrecv
  subst hb
  intro T hT X
  obtain ⟨v2, vm₁, ⟨U', l2, c2, s2⟩, hW₁, X', ⟨g', mk, t, L2, e1, e2, hq, g1, hL2, g2, g3⟩, st⟩ := va_callVU X hexec (C := C) (owner := x.cls) (x := x) (y := y) (bytes := b) (maxL := L) (ret := ret) hown (hts _ h1) (hts _ h0) (va_Decl.abs (hK.1.2.1 _ hx2)) ⟨hd.1, hd.2.1⟩ (hts _ h3) (hts _ h2) (hts _ h5) hB (b := a) (cellB := cellB) (by rw [hT]; exact hcB) hoB hclB (g := F0 m pc ls st0) rfl (hls.trans hml.symm) (argsL := As) (rest := rest) (fun sig h => by rw [hn]; have := hd.2.2; rw [h] at this; exact (Option.some.inj this).symm) hst (lv_room hrest) hdg
    (fun vm₁ hW₁ => ⟨hf.1, hf.2, ⟨rfl, by show P T.heap; rw [hT]; exact hM, hK.pre hT hW₁⟩⟩)
  dsimp only [Pt.U, Pt.locs, Pt.cells, Pt.slots] at X' e1 e2 g1 g2 g3 st
  subst g1; subst g2; subst g3
  exact ⟨v2, (T.setVm vm₁).calling g' mk (Value.ref a :: As).toArray, t, U', L2, hT, X', hL2, e1, e2, hq, st⟩
end XU
