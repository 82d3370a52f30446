/-! TWO DIMENSIONS OF INTS AT ONCE: own row for multianewarray. Own work. -/
set_option maxRecDepth 100000
def AOI (U : State) : Prop := (Cond.arrayOver (.array .int)).before #[] U = true
theorem AOI.get {U : State} (h : AOI U) : ∃ (comp c : ClassId) (k : Class), U.vm.findClass "[I" = some comp ∧ U.vm.classes[c]? = some k ∧ k.kind = .array comp (.array .int) ∧ U.vm.findClass "[[I" = some c := by
  unfold AOI at h
  simp only [Cond.before, Cond.holds, Cond.value, beq_iff_eq] at h
  have e1 : (FieldType.array .int).toString = "[I" := by decide +kernel
  rw [e1] at h
  cases hc : U.vm.findClass "[I" with
  | none => simp [hc] at h
  | some comp =>
    simp only [hc, Option.bind_some, Option.bind_eq_some_iff, Option.map_eq_some_iff] at h
    obtain ⟨c, hi, k, hk, hb⟩ := h
    obtain ⟨hlt, hp, -⟩ := Array.findIdx?_eq_some_iff_getElem.mp hi
    have hkk : U.vm.classes[c] = k := (Array.getElem?_eq_some_iff.mp hk).2
    rw [hkk] at hp
    cases hkind : k.kind with
    | array component ty =>
      rw [hkind] at hb hp
      simp at hb hp
      exact ⟨comp, c, k, rfl, hk, by rw [hkind, hp, hb.1], hb.2⟩
    | _ => rw [hkind] at hb; simp at hb
def AOG (U : State) : Prop := ∃ (comp c : ClassId) (k : Class), U.vm.findClass "[I" = some comp ∧ U.vm.classes[c]? = some k ∧ k.kind = .array comp (.array .int) ∧ U.vm.findClass "[[I" = some c
theorem AOG.moved {u U : State} (hvm : u.vm.Alike U.vm) (h : AOG u) : AOG U := by
  obtain ⟨comp, c, k, h1, h2, h3, h4⟩ := h
  obtain ⟨k', hk', he⟩ := hvm.2.2 _ _ h2
  exact ⟨comp, c, k', by rw [hvm.findClass]; exact h1, hk', by rw [he]; exact h3, by rw [hvm.findClass]; exact h4⟩
/-- the table and its first i rows -/
def mkR (T : State) (cO cI : ClassId) (N M : Nat) : Nat → State
  | 0 => T.pushCell (arrV cO N (fun _ => .null))
  | i + 1 => ((mkR T cO cI N M i).pushCell (arrV cI M (fun _ => .int 0))).setCell T.heap.size (arrV cO N (fun j => if j < i + 1 then .ref (T.heap.size + 1 + j) else .null))
theorem mkR_f (T : State) (cO cI : ClassId) (N M : Nat) : ∀ i, (mkR T cO cI N M i).heap.size = T.heap.size + 1 + i ∧ (mkR T cO cI N M i).heap[T.heap.size]? = some (arrV cO N (fun j => if j < i then .ref (T.heap.size + 1 + j) else .null)) ∧ (mkR T cO cI N M i).vm = T.vm ∧ (mkR T cO cI N M i).slotsUsed = T.slotsUsed + N + i * M
  | 0 => by
    refine ⟨by simp [mkR], ?_, rfl, by simp [mkR, arrV_size]⟩
    rw [mkR, State.heap_pushCell_size]
    congr 2
  | i + 1 => by
    obtain ⟨a, b, d, u⟩ := mkR_f T cO cI N M i
    have hlt : T.heap.size < (mkR T cO cI N M i).heap.size := by omega
    have hb' : ((mkR T cO cI N M i).pushCell (arrV cI M (fun _ => .int 0))).heap[T.heap.size]? = some (arrV cO N (fun j => if j < i then .ref (T.heap.size + 1 + j) else .null)) := by rw [State.heap_pushCell_of_lt (h := hlt)]; exact b
    refine ⟨?_, State.heap_setCell_self hb', by simp [mkR, d], ?_⟩
    · simp [mkR, State.setCell, a]; omega
    · simp [mkR, u, arrV_size, Nat.succ_mul]; omega
theorem mkR_top (T : State) (f : JFrame) (cO cI : ClassId) (N M : Nat) : ∀ i, mkR (T.setTop f) cO cI N M i = (mkR T cO cI N M i).setTop f
  | 0 => rfl
  | i + 1 => by simp only [mkR, mkR_top T f cO cI N M i, State.heap_setTop, State.pushCell_setTop, State.setCell_setTop]
theorem mkR_old (T : State) (cO cI : ClassId) (N M : Nat) {a : Nat} (ha : a < T.heap.size) : ∀ i, (mkR T cO cI N M i).heap[a]? = T.heap[a]?
  | 0 => State.heap_pushCell_of_lt _ _ ha
  | i + 1 => by
    have f1 := (mkR_f T cO cI N M i).1
    have hlt : a < (mkR T cO cI N M i).heap.size := by omega
    show (((mkR T cO cI N M i).pushCell _).setCell T.heap.size _).heap[a]? = _
    rw [State.heap_setCell_other (Nat.ne_of_gt ha), State.heap_pushCell_of_lt (h := hlt)]
    exact mkR_old T cO cI N M ha i
theorem mkR_row (T : State) (cO cI : ClassId) (N M : Nat) : ∀ i j, j < i → (mkR T cO cI N M i).heap[T.heap.size + 1 + j]? = some (arrV cI M (fun _ => .int 0))
  | 0, _, h => absurd h (Nat.not_lt_zero _)
  | i + 1, j, h => by
    have f1 := (mkR_f T cO cI N M i).1
    show (((mkR T cO cI N M i).pushCell _).setCell T.heap.size _).heap[T.heap.size + 1 + j]? = _
    rw [State.heap_setCell_other (show T.heap.size ≠ T.heap.size + 1 + j by omega)]
    by_cases hj : j = i
    · subst hj
      rw [← f1]
      exact State.heap_pushCell_size _ _
    · have hlt : T.heap.size + 1 + j < (mkR T cO cI N M i).heap.size := by omega
      rw [State.heap_pushCell_of_lt (h := hlt)]
      exact mkR_row T cO cI N M i j (by omega)
section MU
variable {E : CtlPost} {e : Env} {d : Bool} {acts : List Action} {s : State}
theorem mu_arr {c comp : ClassId} {k : Class} {type : FieldType} {len : Nat} {init : Value} (hk : s.vm.classes[c]? = some k) (hkind : k.kind = .array comp type) (hlimit : ¬ len > e.platform.arrayLengthLimit) (hheap : ¬ len * componentBytes type > e.platform.maxHeapBytes) (hfit : fits type init = true) (hdef : init.isDefault = true) {Q : Addr → Pre} (h1 : s.heap.size < e.platform.maxCells) (h2 : s.slotsUsed + len ≤ e.platform.maxSlots) (hq : Q s.heap.size d acts (s.pushCell (arrV c len (fun _ => init)))) : wp (Jvm.newArray c len init) Q E e d acts s := by
  rw [← arrV_new] at hq
  have hfits : ∀ i v, (Array.replicate len init)[i]? = some v → s.fitsSlot c .none i v = true := by
    intro i v hv
    simp only [Array.getElem?_replicate] at hv
    split at hv
    · cases hv; simp [State.fitsSlot, State.slotType?, hk, hkind, hfit]
    · cases hv
  have hda : allocActs (Array.replicate len init) s.heap.size acts = acts := by
    have hall : ((Array.replicate len init).all (·.isDefault)) = true := by
      rw [Array.all_replicate]; split <;> simp [hdef]
    unfold allocActs; rw [if_pos hall]
  simp only [Jvm.newArray, Jvm.arrayFits, wp_bind', _root_.Jvm.W.ask, _root_.Jvm.W.ite, hlimit, if_false, wp_pure', _root_.Jvm.W.theClass, hk, hkind, hheap, _root_.Jvm.W.alloc, _root_.Jvm.W.stop, Option.some.injEq, exists_eq_left', Array.size_replicate, hda]
  rw [if_neg (by omega)]
  exact ⟨h1, h2, hfits, hq⟩
theorem mu_row {comp cc : ClassId} {kc : Class} {m : Int32} {M : Nat} (hM : m.toNatClampNeg = M) (hkc : s.vm.classes[comp]? = some kc) (hkindc : kc.kind = .array cc .int) (hm : ¬ m < 0) (hl2 : ¬ M > e.platform.arrayLengthLimit) (hh2 : ¬ M * componentBytes .int > e.platform.maxHeapBytes) (h1 : s.heap.size < e.platform.maxCells) (h2 : s.slotsUsed + M ≤ e.platform.maxSlots) {Q : Addr → Pre} (hq : Q s.heap.size d acts (s.pushCell (arrV comp M (fun _ => .int 0)))) : wp (multianewarray.make comp [m]) Q E e d acts s := by
  subst hM
  rw [multianewarray.make]
  simp only [wp_bind', _root_.Jvm.W.ite, hm, if_false, wp_pure', _root_.Jvm.W.theClass, hkc, hkindc, Option.some.injEq, exists_eq_left']
  exact mu_arr hkc hkindc hl2 hh2 rfl rfl h1 h2 hq
theorem mu_make {c comp cc : ClassId} {k kc : Class} {n m : Int32} {N M : Nat} (hN : n.toNatClampNeg = N) (hM : m.toNatClampNeg = M) (hk : s.vm.classes[c]? = some k) (hkind : k.kind = .array comp (.array .int)) (hkc : s.vm.classes[comp]? = some kc) (hkindc : kc.kind = .array cc .int) (hn : ¬ n < 0) (hm : ¬ m < 0) (hl1 : ¬ N > e.platform.arrayLengthLimit) (hh1 : ¬ N * componentBytes (.array .int) > e.platform.maxHeapBytes) (hl2 : ¬ M > e.platform.arrayLengthLimit) (hh2 : ¬ M * componentBytes .int > e.platform.maxHeapBytes) (hc : s.heap.size + 1 + N ≤ e.platform.maxCells) (hs : s.slotsUsed + N + N * M ≤ e.platform.maxSlots) {Q : Addr → Pre} (hq : ∀ d' acts', Q s.heap.size d' acts' (mkR s c comp N M N)) : wp (multianewarray.make c [n, m]) Q E e d acts s := by
  subst hN
  have hfind : ([m].find? (· < 0)) = none := by simp [hm]
  have h0 : 0 ≤ n.toNatClampNeg * M := Nat.zero_le _
  rw [multianewarray.make]
  simp only [wp_bind', _root_.Jvm.W.ite, hn, if_false, wp_pure', _root_.Jvm.W.theClass, hk, hkind, Option.some.injEq, exists_eq_left']
  refine mu_arr hk hkind hl1 hh1 rfl rfl (by omega) (by omega) ?_
  simp only [hfind]
  rw [ite_self, wp_bind', Std.Legacy.Range.forIn_eq_forIn_range']
  have hsz : ([:n.toNatClampNeg] : Std.Legacy.Range).size = n.toNatClampNeg := by simp [Std.Legacy.Range.size]
  rw [hsz]
  show wp (forIn (List.range' 0 n.toNatClampNeg 1) PUnit.unit _) _ E e d acts _
  refine wp_forIn_inv (fun rest t => ∃ i j, i + j = n.toNatClampNeg ∧ rest = List.range' i j ∧ t = mkR s c comp n.toNatClampNeg M i) _ _ ⟨0, n.toNatClampNeg, by omega, rfl, rfl⟩ ?_ ?_
  · rintro x rest t d' acts' Q' ⟨i, j, hij, hl, rfl⟩ hnext
    cases j with
    | zero => cases hl
    | succ j =>
      rw [List.range'_succ] at hl
      injection hl with hx hrest
      subst hx
      obtain ⟨f1, f2, f3, f4⟩ := mkR_f s c comp n.toNatClampNeg M x
      have hmul : x * M + M ≤ n.toNatClampNeg * M := by
        have := Nat.mul_le_mul_right M (show x + 1 ≤ n.toNatClampNeg by omega)
        rw [Nat.succ_mul] at this; exact this
      simp only [wp_bind']
      refine mu_row hM (by rw [f3]; exact hkc) hkindc hm hl2 hh2 (by rw [f1]; omega) (by rw [f4]; omega) ?_
      have hlt0 : s.heap.size < (mkR s c comp n.toNatClampNeg M x).heap.size := by rw [f1]; omega
      simp only [wp_bind', _root_.Jvm.W.writeLoc, wp_pure']
      refine ⟨arrV c n.toNatClampNeg (fun j => if j < x then .ref (s.heap.size + 1 + j) else .null), by rw [State.heap_pushCell_of_lt (h := hlt0)]; exact f2, (by intro h; cases h), by rw [arrV_size]; omega, ?_, hnext _ _ _ ⟨x + 1, j, by omega, hrest, ?_⟩⟩
      · show State.fitsSlot _ c .none x _ = true
        simp [State.fitsSlot, State.slotType?, f3, hk, hkind]
        rfl
      · rw [arrV_store, f1, mkR]
        congr 2
        funext q
        unfold updV
        by_cases e : q = x
        · rw [if_pos e, if_pos (by omega), e]
        · rw [if_neg e]
          dsimp only
          by_cases z : q < x
          · rw [if_pos z, if_pos (by omega)]
          · rw [if_neg z, if_neg (by omega)]
  · rintro t d' acts' ⟨i, j, hij, hl, rfl⟩
    cases j with
    | zero =>
      have hi : i = n.toNatClampNeg := by omega
      subst hi
      simp only [wp_pure']
      exact hq _ _
    | succ j => rw [List.range'_succ] at hl; cases hl
end MU
section MV
variable {p : Program} {l : Launch} {e : Env} {R : Room} {s : State} {m : MethodId} {args : Array Value} {below : List Frame} {meth : Method} {c : Code} {H : Heap} {T : State} {locs : List Loc} {cells slots : Nat} {Q : State → Prop}
variable {cc : ByteArray} {pc : Nat} {ls : Array Slot} {rest : List Value} {D : va_G} {cA : Nat → ClassId}
theorem mu_std (X : Stand p l e R s m args below meth c T locs cells slots) (cO cI : ClassId) (N M : Nat) : ∀ i, Stand p l e R s m args below meth c (mkR T cO cI N M i) (locs ++ (List.range i).map fun j => ⟨T.heap.size, j⟩) (cells + 1 + i) (slots + N + i * M)
  | 0 => by
    have h := X.pushed (arrV cO N (fun _ => .null))
    rw [arrV_size] at h
    simpa [mkR] using h
  | i + 1 => by
    have Xi := mu_std X cO cI N M i
    obtain ⟨f1, f2, f3, f4⟩ := mkR_f T cO cI N M i
    have hlt0 : T.heap.size < (mkR T cO cI N M i).heap.size := by rw [f1]; omega
    have hcell : ((mkR T cO cI N M i).pushCell (arrV cI M (fun _ => .int 0))).heap[T.heap.size]? = some (arrV cO N (fun j => if j < i then .ref (T.heap.size + 1 + j) else .null)) := by rw [State.heap_pushCell_of_lt (h := hlt0)]; exact f2
    have h := (Xi.pushed (arrV cI M (fun _ => .int 0))).stored hcell i (.ref (T.heap.size + 1 + i))
    rw [arrV_size, arrV_store] at h
    have e0 : updV (fun j => if j < i then Value.ref (T.heap.size + 1 + j) else .null) i (.ref (T.heap.size + 1 + i)) = (fun j => if j < i + 1 then Value.ref (T.heap.size + 1 + j) else .null) := by
      funext q
      unfold updV
      by_cases e : q = i
      · rw [if_pos e, if_pos (by omega), e]
      · rw [if_neg e]
        dsimp only
        by_cases z : q < i
        · rw [if_pos z, if_pos (by omega)]
        · rw [if_neg z, if_neg (by omega)]
    rw [e0] at h
    have e2 : (locs ++ (List.range (i + 1)).map fun j => (⟨T.heap.size, j⟩ : Loc)) = (locs ++ (List.range i).map fun j => (⟨T.heap.size, j⟩ : Loc)) ++ [⟨T.heap.size, i⟩] := by simp [List.range_succ, List.append_assoc]
    have e3 : slots + N + (i + 1) * M = slots + N + i * M + M := by rw [Nat.succ_mul]; omega
    rw [e2, e3]
    exact h
theorem mu_new (hexec : p.tables.exec = Jvm.exec) (hb : c.code = cc) {own : String} {index : Nat} (hown : s.vm.findClass own = some m.cls) (hclink : (Cond.classLink own index "[[I").before args s = true) (hAO : AOG s) (harr : (Cond.arrayClass .int).before args s = true) (hK : K0 D cA s) {n k : Int32} {N M : Nat} (hn : ¬ n < 0) (hk : ¬ k < 0) (hN : n.toNatClampNeg = N) (hM : k.toNatClampNeg = M) (hN9 : N ≤ 1000) (hM9 : M ≤ 1000) (hcells : cells + (1 + N) ≤ R.cells) (hslots : slots + (N + N * M) ≤ R.slots) (hnew : s.heap.size ≤ H.size) (hdg : decode cc pc = .ok (.multianewarray index 2, 4))
    (kk : ∀ H1 : Heap, H1[H.size]? = some (arrV (cA 7) N (fun j => if j < N then .ref (H.size + 1 + j) else .null)) → (∀ j, j < N → H1[H.size + 1 + j]? = some (arrV (cA 0) M (fun _ => .int 0))) → H1.size = H.size + 1 + N → (∀ q : Nat, q < H.size → H1[q]? = H[q]?) → W p l e R s m args below meth c H1 locs (cells + 1 + N) (slots + N + N * M) Q (F0 m (pc + 4) ls (.ref H.size :: rest))) : W p l e R s m args below meth c H locs cells slots Q (F0 m pc ls (.int k :: .int n :: rest)) := by
  intro T hT X
  obtain ⟨comp, c7, k7, g1, g2, g3, g4⟩ := hAO
  obtain ⟨comp', kC, ccI, g5, g6, g7⟩ := Cond.arrayClass_spec harr
  have g5 : s.vm.findClass "[I" = some comp' := g5
  cases g1.symm.trans g5
  have e0 : cA 0 = comp := Option.some.inj ((show s.vm.findClass "[I" = some (cA 0) from (hK.2 0 _ rfl).2).symm.trans g1)
  have e7 : cA 7 = c7 := Option.some.inj ((show s.vm.findClass "[[I" = some (cA 7) from (hK.2 7 _ rfl).2).symm.trans g4)
  have hpl : e.platform.magicAccessors = ({} : Platform).magicAccessors := by rw [X.admits.platform]
  obtain ⟨c0, hfc0, hcl⟩ := Cond.classLink_spec hown hclink e.platform hpl
  cases g4.symm.trans hfc0
  obtain ⟨hg₁, hwarm₁, hready₁⟩ := State.classEntry (e := e) X.warmed hcl
  generalize T.vm.noted m.cls index (.cls c7) = vm₁ at hg₁ hwarm₁ hready₁
  obtain ⟨k7', h7', he7⟩ := hwarm₁.alike.2.2 _ _ g2
  obtain ⟨kC', hC', heC⟩ := hwarm₁.alike.2.2 _ _ g6
  have X₁ := X.noted hwarm₁
  obtain ⟨hr1, hr2⟩ := X.roomAbove hcells hslots
  have XF := mu_std X₁ c7 comp N M N
  have hTs : (T.setVm vm₁).heap = H := hT
  obtain ⟨f1, f2, f3, f4⟩ := mkR_f (T.setVm vm₁) c7 comp N M N
  rw [hTs] at f1 f2
  obtain ⟨t, a, b⟩ := W.forget (L := (List.range N).map fun j => (⟨H.size, j⟩ : Loc)) (fun q hq => by
    obtain ⟨j, -, rfl⟩ := List.mem_map.mp hq
    exact hnew) (kk (mkR (T.setVm vm₁) c7 comp N M N).heap (by rw [e7]; exact f2) (fun j hj => by
      have := mkR_row (T.setVm vm₁) c7 comp N M N j hj
      rw [hTs] at this
      rw [e0]; exact this) f1 (fun q hq => by
      have := mkR_old (T.setVm vm₁) c7 comp N M (a := q) (by rw [hTs]; exact hq) N
      rw [hTs] at this
      exact this)) (mkR (T.setVm vm₁) c7 comp N M N) rfl (by rw [hTs] at XF; exact XF)
  refine ⟨t, ?_, b⟩
  have hl1 : ¬ N > e.platform.arrayLengthLimit := by rw [Launch.admits_arrayLengthLimit X.admits]; omega
  have hh1 : ¬ N * componentBytes (.array .int) > e.platform.maxHeapBytes := by
    rw [Launch.admits_maxHeapBytes X.admits]; show ¬ N * 4 > 536870912; omega
  have hl2 : ¬ M > e.platform.arrayLengthLimit := by rw [Launch.admits_arrayLengthLimit X.admits]; omega
  have hh2 : ¬ M * componentBytes .int > e.platform.maxHeapBytes := by rw [Launch.admits_maxHeapBytes X.admits]; show ¬ M * 4 > 536870912; omega
  jvm_step X.here [hexec, hb, hdg]
  simp only [multianewarray.sem, wp_bind', _root_.Jvm.W.resolveClassAt_links (State.method?_setTop (F0 m pc ls (.int k :: .int n :: rest)) X.here.top) hg₁]
  rw [_root_.Jvm.W.popN, if_neg (by decide)]
  refine ⟨F0 m pc ls (.int k :: .int n :: rest), State.topJava?_setTop' (s := T.setVm vm₁) _ X.here.top, [.int n, .int k], rest, rfl, rfl, ?_⟩
  simp only [List.mapM_cons, List.mapM_nil, wp_bind', wp_pure']
  refine mu_make hN hM (k := k7') (kc := kC') (comp := comp) (cc := ccI) h7' (by rw [he7]; exact g3) hC' (by rw [heC]; exact g7) hn hk hl1 hh1 hl2 hh2 (by show T.heap.size + 1 + _ ≤ _; omega) (by show T.slotsUsed + _ + _ ≤ _; omega) (fun d' acts' => ?_)
  have eS : ((T.setTop (F0 m pc ls (.int k :: .int n :: rest))).setVm vm₁).setTop { F0 m pc ls (.int k :: .int n :: rest) with stack := rest } = (T.setVm vm₁).setTop { F0 m pc ls (.int k :: .int n :: rest) with stack := rest } := by
    show ((T.setVm vm₁).setTop _).setTop _ = _
    rw [State.setTop_setTop]
  rw [eS, mkR_top]
  simp only [wp_bind', _root_.Jvm.W.mark, _root_.Jvm.W.pushRef, State.topJava?_setTop' _ XF.here.top, Option.some.injEq, exists_eq_left', State.setTop_setTop, State.heap_setTop]
  intro acts
  simp [jvm, XF.here.top]
  have hTz : T.heap.size = H.size := by rw [hT]
  rw [hTz]
  exact a
end MV
