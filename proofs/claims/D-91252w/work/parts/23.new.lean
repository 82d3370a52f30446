/-! NEW CELLS: rows that make objects and arrays and write them, without a place in the list of what was written. Own work. -/
set_option maxRecDepth 100000
section NEW
variable {p : Program} {l : Launch} {e : Env} {R : Room} {s : State} {m : MethodId} {args : Array Value} {below : List Frame} {meth : Method} {c : Code} {H : Heap} {locs : List Loc} {cells slots : Nat} {Q : State → Prop}
variable {cc : ByteArray} {pc : Nat} {ls : Array Slot} {rest : List Value} {D : va_G} {cA : Nat → ClassId} {A : Nat → Prop} {a : Nat} {H0 : Heap}
theorem va_S.grow {H1 : Heap} (hS : va_S A H0 H locs) (hz : H.size ≤ H1.size) (ho : ∀ q : Nat, q < H.size → H1[q]? = H[q]?) : va_S A H0 H1 locs :=
  ⟨Nat.le_trans hS.1 hz, fun q h1 h2 => (ho q (Nat.lt_of_lt_of_le h1 hS.1)).trans (hS.2.1 q h1 h2), hS.2.2⟩
theorem va_S.newer {H1 : Heap} (hS : va_S A H0 H locs) (hz : H1.size = H.size) (ha : H0.size ≤ a) (ho : ∀ q : Nat, q ≠ a → H1[q]? = H[q]?) : va_S A H0 H1 locs :=
  ⟨by rw [hz]; exact hS.1, fun q h1 h2 => (ho q (by omega)).trans (hS.2.1 q h1 h2), hS.2.2⟩
/-- a new object -/
theorem ob_new (hexec : p.tables.exec = Jvm.exec) (hb : c.code = cc) {own C : String} {T : u_T} {N ci index : Nat} (hts : ∀ w ∈ lw_all, w.before args s = true) (hin : ∀ w ∈ u_ws C T N, w ∈ lw_all) (ty : Nat → FieldType) (hty : ∀ k, k < N → parseFieldDescriptor (T k).2.2.1 = some (ty k)) (hown : s.vm.findClass own = some m.cls) (hcl : Cond.classLink own index C ∈ lw_all) (hinst : Cond.instantiable C N ∈ lw_all) (hini : Cond.initialized C ∈ lw_all)
    (hK : K0 D cA s) (hc : vwCl[ci]? = some (C, T, N)) (hcells : cells + 1 ≤ R.cells) (hslots : slots + N ≤ R.slots) (hdg : decode cc pc = .ok (.new index, 3))
    (kk : ∀ H1 : Heap, t_OB H.size (D.1 ci) N (D.2 ci) H1 (fun k => defaultValue (ty k)) → H1.size = H.size + 1 → (∀ q : Nat, q < H.size → H1[q]? = H[q]?) → W p l e R s m args below meth c H1 locs (cells + 1) (slots + N) Q (F0 m (pc + 3) ls (.ref H.size :: rest))) : W p l e R s m args below meth c H locs cells slots Q (F0 m pc ls rest) := by
  have hKn := hK.1 ci _ hc
  refine W.newcK hexec hb hown (hts _ hcl) (hts _ hinst) (hts _ hini) rfl hdg hcells hslots hKn.2.1 rfl fun H1 kC hkC e1 z1 o1 => ?_
  exact kk H1 (u_born ty hts hin hKn hkC e1 hty) z1 o1
/-- a new array of numbers; t0: its place among the array classes -/
theorem ar_new (hexec : p.tables.exec = Jvm.exec) (hb : c.code = cc) {atype : ArrayType} (hts : ∀ w ∈ lw_all, w.before args s = true) (harr : Cond.arrayClass (newarray.typeOf atype) ∈ lw_all) (hK : K0 D cA s) (t0 : Nat) (ht : (tyCl cA)[t0]? = some (cA t0, newarray.typeOf atype)) (hp : ∀ U cA', va_RA U cA' (newarray.typeOf atype) → U.vm.findClass ("[" ++ (newarray.typeOf atype).toString) = some cA') {n : Int32} {N : Nat} (hn : ¬ n < 0) (hN : n.toNatClampNeg = N) (hbytes : N * componentBytes (newarray.typeOf atype) ≤ 536870912) (hcells : cells + 1 ≤ R.cells) (hslots : slots + N ≤ R.slots) (hdg : decode cc pc = .ok (.newarray atype, 2))
    (kk : ∀ H1 : Heap, H1[H.size]? = some (arrV (cA t0) N (fun _ => defaultValue (newarray.typeOf atype))) → H1.size = H.size + 1 → (∀ q : Nat, q < H.size → H1[q]? = H[q]?) → W p l e R s m args below meth c H1 locs (cells + 1) (slots + N) Q (F0 m (pc + 2) ls (.ref H.size :: rest))) : W p l e R s m args below meth c H locs cells slots Q (F0 m pc ls (.int n :: rest)) := by
  refine va_newaK hexec hb (hts _ harr) rfl hdg rfl hn hN hbytes hcells hslots rfl fun H1 cA1 e1 z1 o1 hAr hNm => ?_
  have h2 := hp s _ (hK.2 t0 _ ht).2
  have : cA1 = cA t0 := Option.some.inj (hNm.symm.trans h2)
  subst this
  exact kk H1 e1 z1 o1
theorem ra_int {U : State} {k : ClassId} (h : va_RA U k .int) : U.vm.findClass ("[" ++ (FieldType.int).toString) = some k := h
/-- writes into new cells -/
theorem ar_istN (hexec : p.tables.exec = Jvm.exec) (hb : c.code = cc) (hK : K0 D cA s) {n : Nat} {f : Nat → Int32} (ha : H[a]? = some (arrV (cA 0) n (fun j => .int (f j)))) (hnew : s.heap.size ≤ a) {i x : Int32} (hin : vp_in i n) (hdg : decode cc pc = .ok (.iastore, 1))
    (kk : ∀ (H1 : Heap), H1[a]? = some (arrV (cA 0) n (fun j => .int (upd f i.toNatClampNeg x j))) → (∀ q : Nat, q ≠ a → H1[q]? = H[q]?) → H1.size = H.size → W p l e R s m args below meth c H1 locs cells slots Q (F0 m (pc + 1) ls rest)) : W p l e R s m args below meth c H locs cells slots Q (F0 m pc ls (.int x :: .int i :: .ref a :: rest)) := by
  refine W.iast hexec hb ha ((hK.2 0 _ rfl).1 n _) (fun q => by cases q) (by rw [arrV_size]; exact hin) rfl rfl hdg fun H1 e z oq => ?_
  refine W.forget (fun q hq => by rw [List.mem_singleton.mp hq]; exact hnew) (kk H1 ?_ oq z)
  rw [e, arrV_store]
  congr 2
  funext q
  by_cases hq : q = i.toNatClampNeg
  · subst hq; simp [updV, upd]
  · simp [updV, upd, hq]
end NEW
/-! the component with an array of its own making -/
def CX (D : va_G) (cA : Nat → ClassId) (o : Nat) (g : Gh) (H0 : Heap) (t n : Nat) (f : Nat → Int32) (u : St) (H : Heap) : Prop := CW D cA o g u H ∧ H[t]? = some (arrV (cA 0) n (fun j => .int (f j))) ∧ H0.size ≤ t ∧ ¬ cF o g t
section CXL
variable {D : va_G} {cA : Nat → ClassId} {o : Nat} {g : Gh} {u : St} {H H1 : Heap}
theorem CW.lt (h : CW D cA o g u H) : ∀ q, cF o g q → q < H.size := by
  intro q hq
  rcases hq with ⟨h1, h2, -⟩ | ⟨i, hi, rfl⟩
  · have hc := h.2.2.1 58 (by decide) (by decide) (by decide)
    have := (Array.getElem?_eq_some_iff.mp hc).1
    have e : cAd o 58 = o + 35 := by unfold cAd; rfl
    omega
  · obtain ⟨cell, hc, -⟩ := h.2.2.2.2.1 i hi
    exact (Array.getElem?_eq_some_iff.mp hc).1
theorem CW.grow (h : CW D cA o g u H) (ho : ∀ q : Nat, q < H.size → H1[q]? = H[q]?) : CW D cA o g u H1 := h.kept (fun q hq => ho q (h.lt q hq))
end CXL
section CXR
variable {p : Program} {l : Launch} {e : Env} {R : Room} {s : State} {m : MethodId} {args : Array Value} {below : List Frame} {meth : Method} {c : Code} {H : Heap} {locs : List Loc} {cells slots : Nat} {Q : State → Prop}
variable {cc : ByteArray} {pc : Nat} {ls : Array Slot} {rest : List Value} {D : va_G} {cA : Nat → ClassId} {A : Nat → Prop} {o t n : Nat} {f : Nat → Int32} {g : Gh} {H0 : Heap} {u : St}
theorem cx_new (hexec : p.tables.exec = Jvm.exec) (hb : c.code = cc) (hts : ∀ w ∈ lw_all, w.before args s = true) (harr : Cond.arrayClass .int ∈ lw_all) (hK : K0 D cA s) (hM : CW D cA o g u H) (hS : va_S (cF o g) H0 H locs) {i : Int32} (hn : ¬ i < 0) (hN : i.toNatClampNeg = n) (hbytes : n * 4 ≤ 536870912) (hcells : cells + 1 ≤ R.cells) (hslots : slots + n ≤ R.slots) (hdg : decode cc pc = .ok (.newarray .int, 2))
    (kk : ∀ (t : Nat) (H1 : Heap), CX D cA o g H0 t n (fun _ => 0) u H1 → va_S (cF o g) H0 H1 locs → W p l e R s m args below meth c H1 locs (cells + 1) (slots + n) Q (F0 m (pc + 2) ls (.ref t :: rest))) : W p l e R s m args below meth c H locs cells slots Q (F0 m pc ls (.int i :: rest)) := by
  refine ar_new (atype := .int) hexec hb hts harr hK 0 rfl (fun U k h => h) hn hN hbytes hcells hslots hdg fun H1 e1 z1 o1 => ?_
  exact kk H.size H1 ⟨hM.grow o1, e1, hS.1, fun h => Nat.lt_irrefl _ (hM.lt _ h)⟩ (hS.grow (by omega) o1)
theorem cx_tst (hexec : p.tables.exec = Jvm.exec) (hb : c.code = cc) (hK : K0 D cA s) (hM : CX D cA o g s.heap t n f u H) (hS : va_S (cF o g) s.heap H locs) {i x : Int32} {j : Nat} (hin : vp_in i n) (hj : i.toNatClampNeg = j) (hdg : decode cc pc = .ok (.iastore, 1))
    (kk : ∀ (H1 : Heap), CX D cA o g s.heap t n (upd f j x) u H1 → va_S (cF o g) s.heap H1 locs → W p l e R s m args below meth c H1 locs cells slots Q (F0 m (pc + 1) ls rest)) : W p l e R s m args below meth c H locs cells slots Q (F0 m pc ls (.int x :: .int i :: .ref t :: rest)) := by
  subst hj
  refine ar_istN hexec hb hK hM.2.1 hM.2.2.1 hin hdg fun H1 e1 o1 z1 => ?_
  exact kk H1 ⟨hM.1.kept (fun q hq => o1 q (fun e => hM.2.2.2 (e ▸ hq))), e1, hM.2.2.1, hM.2.2.2⟩ (hS.newer z1 hM.2.2.1 o1)
theorem cx_tld (hexec : p.tables.exec = Jvm.exec) (hb : c.code = cc) (hK : K0 D cA s) (hM : CX D cA o g H0 t n f u H) {i : Int32} {j : Nat} (hin : vp_in i n) (hj : i.toNatClampNeg = j) (hdg : decode cc pc = .ok (.iaload, 1))
    (kk : W p l e R s m args below meth c H locs cells slots Q (F0 m (pc + 1) ls (.int (f j) :: rest))) : W p l e R s m args below meth c H locs cells slots Q (F0 m pc ls (.int i :: .ref t :: rest)) := by
  subst hj
  exact ar_ild hexec hb hK hM.2.1 hin hdg kk
theorem cx_tlen (hexec : p.tables.exec = Jvm.exec) (hb : c.code = cc) (hK : K0 D cA s) (hM : CX D cA o g H0 t n f u H) {v : Int32} (hv : Int32.ofNat n = v) (hdg : decode cc pc = .ok (.arraylength, 1))
    (kk : W p l e R s m args below meth c H locs cells slots Q (F0 m (pc + 1) ls (.int v :: rest))) : W p l e R s m args below meth c H locs cells slots Q (F0 m pc ls (.ref t :: rest)) :=
  W.alen (ty := .int) hexec hb hM.2.1 ((hK.2 0 _ rfl).1 n _) (by rw [arrV_size]; exact hv) rfl rfl hdg kk
theorem cx_get (hexec : p.tables.exec = Jvm.exec) (hb : c.code = cc) (hts : ∀ w ∈ lw_all, w.before args s = true) (hown : s.vm.findClass RX0 = some m.cls) (hK : K0 D cA s) (hM : CX D cA o g H0 t n f u H) (k : Nat) (hk : k < 31) {index : Nat} (hlink : (Cond.fieldLink RX0 index RX0 (TX0 k).2.1 (TX0 k).2.2.1) ∈ lw_all) (hT : (TX0 k).1 = RX0) {v : Value} (hv : cV o g u k = v) (hdg : decode cc pc = .ok (.getfield index, 3))
    (kk : W p l e R s m args below meth c H locs cells slots Q (F0 m (pc + 3) ls (v :: rest))) : W p l e R s m args below meth c H locs cells slots Q (F0 m pc ls (.ref o :: rest)) := cw_get hexec hb hts hown hK hM.1 k hk hlink hT hv hdg kk
theorem cx_puti (hexec : p.tables.exec = Jvm.exec) (hb : c.code = cc) (hts : ∀ w ∈ lw_all, w.before args s = true) (hown : s.vm.findClass RX0 = some m.cls) (hK : K0 D cA s) (hM : CX D cA o g H0 t n f u H) (hS : va_S (cF o g) H0 H locs) (k : Nat) (hk : k < 31) {index : Nat} (hlink : (Cond.fieldLink RX0 index RX0 (TX0 k).2.1 (TX0 k).2.2.1) ∈ lw_all) (hT : (TX0 k).1 = RX0) (hkd : cKd k = 0) (hty : tyX0 k = .int) (hfin : (TX0 k).2.2.2 = false) {v : Int32} (hdg : decode cc pc = .ok (.putfield index, 3))
    (kk : ∀ (H1 : Heap) (locs1 : List Loc), CX D cA o g H0 t n f (si u k v) H1 → va_S (cF o g) H0 H1 locs1 → W p l e R s m args below meth c H1 locs1 cells slots Q (F0 m (pc + 3) ls rest)) : W p l e R s m args below meth c H locs cells slots Q (F0 m pc ls (.int v :: .ref o :: rest)) :=
  ob_put (C := RX0) (T := TX0) (N := 31) (ci := 0) hexec hb hts in_X0 tyX0 tyX0_ok nmX0 hown hK hM.1.1 hS (cF_o o g) rfl k hk hlink (fun x h => by rw [hT] at h; exact h) hfin (by rw [hty]; rfl) (by rw [hty]; rfl) hdg (fun H1 locs1 h1 h2 _ h3 => kk H1 locs1 ⟨hM.1.puti hk (by omega) h1 h2, by rw [h2 t (fun e => hM.2.2.2 (by rw [e]; exact cF_o o g))]; exact hM.2.1, hM.2.2⟩ h3)
theorem cx_bst (hexec : p.tables.exec = Jvm.exec) (hb : c.code = cc) (hK : K0 D cA s) (hM : CX D cA o g H0 t n f u H) (hS : va_S (cF o g) H0 H locs) (k : Nat) (hk : k < 60) (hkd : cKd k = 3) {i x : Int32} {n' j : Nat} (hn : cLn k = n') (hin : vp_in i n') (hj : i.toNatClampNeg = j) (hdg : decode cc pc = .ok (.bastore, 1))
    (kk : ∀ (H1 : Heap) (locs1 : List Loc), CX D cA o g H0 t n f (sa u k j x.toInt8.toInt32) H1 → va_S (cF o g) H0 H1 locs1 → W p l e R s m args below meth c H1 locs1 cells slots Q (F0 m (pc + 1) ls rest)) : W p l e R s m args below meth c H locs cells slots Q (F0 m pc ls (.int x :: .int i :: .ref (cAd o k) :: rest)) := by
  subst hj
  exact ar_bst (f := u.2.1 k) hexec hb hK (by rw [hM.1.2.2.1 k hk (by omega) (by omega), cArr_3 hkd]) hS (cF_k hk (by omega) (by omega)) (by rw [hn]; exact hin) hdg (fun H1 locs1 h1 h2 _ h3 => kk H1 locs1 ⟨hM.1.sta hk (by omega) (by omega) (by rw [h1, cArr_3 hkd, sa_row]) h2, by rw [h2 t (fun e => hM.2.2.2 (by rw [e]; exact cF_k hk (by omega) (by omega)))]; exact hM.2.1, hM.2.2⟩ h3)
theorem cx_iret {v V : Int32} {u' : St} {mc ms : Nat} (hexec : p.tables.exec = Jvm.exec) (hb : c.code = cc) (hr : meth.sig.returnType = some .int) (hlocks : meth.locks = false) (hM : CW D cA o g u H) (hS : va_S (cF o g) s.heap H locs) (h1 : cells ≤ mc) (h2 : slots ≤ ms) (hv : v = V) (hu : u = u') (hdg : decode cc pc = .ok (.ireturn, 1)) : W p l e R s m args below meth c H locs cells slots (MQ below (cQ D cA o g (some (.int V)) u') args s mc ms (cF o g)) (F0 m pc ls [.int v]) := by
  subst hv; subst hu
  refine W.widen h1 h2 ?_
  exact W.iret hexec hb hr (fun t ht hW => ⟨rfl, by rw [ht]; exact hM, hS.F ht⟩) hS.2.2 hdg hlocks
end CXR
section CXLOOPS
variable {p : Program} {l : Launch} {e : Env} {R : Room} {s : State} {m : MethodId} {args : Array Value} {below : List Frame} {meth : Method} {c : Code} {H : Heap} {locs : List Loc} {cells slots : Nat} {Q : State → Prop}
variable {ls : Array Slot} {rest : List Value} {D : va_G} {cA : Nat → ClassId} {o : Nat} {g : Gh} {H0 : Heap} {S : Type} {nL tt nn : Nat} {ff : Nat → Int32}
theorem cx_loop1 (f : S → Nat × S) (I : S → Prop) (us : S → St) (lf : S → List (Nat × Value)) (h x1 n : Nat) (a0 : S) (hI : ∀ a, I a → (f a).1 = 0 → I (f a).2) (h0 : I a0) (hf : ¬ (wh f n a0).1 = 0) {r : Nat × S} (hr : wh f n a0 = r)
    (body : ∀ a, I a → ∀ (H : Heap) (locs : List Loc) (ls : Array Slot), CX D cA o g H0 tt nn ff (us a) H → va_S (cF o g) H0 H locs → lv_has ls nL (lf a) →
      ((f a).1 = 0 → ∀ (H : Heap) (locs : List Loc) (ls : Array Slot), CX D cA o g H0 tt nn ff (us (f a).2) H → va_S (cF o g) H0 H locs → lv_has ls nL (lf (f a).2) → W p l e R s m args below meth c H locs cells slots Q (F0 m h ls rest)) →
      (¬ (f a).1 = 0 → ∀ (H : Heap) (locs : List Loc) (ls : Array Slot), CX D cA o g H0 tt nn ff (us (f a).2) H → va_S (cF o g) H0 H locs → lv_has ls nL (lf (f a).2) → W p l e R s m args below meth c H locs cells slots Q (F0 m x1 ls rest)) → W p l e R s m args below meth c H locs cells slots Q (F0 m h ls rest))
    (hM : CX D cA o g H0 tt nn ff (us a0) H) (hS : va_S (cF o g) H0 H locs) (hl : lv_has ls nL (lf a0))
    (k1 : ∀ (H : Heap) (locs : List Loc) (ls : Array Slot), CX D cA o g H0 tt nn ff (us (wh f n a0).2) H → va_S (cF o g) H0 H locs → lv_has ls nL (lf (wh f n a0).2) → W p l e R s m args below meth c H locs cells slots Q (F0 m x1 ls rest)) : W p l e R s m args below meth c H locs cells slots Q (F0 m h ls rest) := by
  subst hr
  exact wh_loop f I (fun a => ∀ (H : Heap) (locs : List Loc) (ls : Array Slot), CX D cA o g H0 tt nn ff (us a) H → va_S (cF o g) H0 H locs → lv_has ls nL (lf a) → W p l e R s m args below meth c H locs cells slots Q (F0 m h ls rest)) (fun _ a => ∀ (H : Heap) (locs : List Loc) (ls : Array Slot), CX D cA o g H0 tt nn ff (us a) H → va_S (cF o g) H0 H locs → lv_has ls nL (lf a) → W p l e R s m args below meth c H locs cells slots Q (F0 m x1 ls rest)) hI
    (fun a ha kb kx H locs ls hM hS hl => body a ha H locs ls hM hS hl kb kx) n a0 h0 hf k1 H locs ls hM hS hl
end CXLOOPS
