/-! java.util.ArrayList: <init>, add, with what they call. By tools/gen_j2.py -/
set_option maxRecDepth 100000
section JR
variable {p : Program} {l : Launch} {e : Env} {R : Room} {s : State} {m : MethodId} {args : Array Value} {below : List Frame} {meth : Method} {c : Code} {H : Heap} {locs : List Loc} {cells slots : Nat} {Q : State → Prop}
variable {cc : ByteArray} {pc : Nat} {ls : Array Slot} {rest : List Value} {D : va_G} {cA : Nat → ClassId} {A : Nat → Prop} {a : Nat} {H0 : Heap}
theorem st_runI {own : String} {y : MethodName} {b : ByteArray} {L d d' n idx nL mc ms : Nat} {As : List Value} {v : Option Value} {st0 : List Value} (hexec : p.tables.exec = Jvm.exec) (hb : c.code = cc) (hml : c.maxLocals = nL) (hown : s.vm.findClass own = some m.cls) (hts : ∀ w ∈ lw_all, w.before args s = true)
    (hMet : MetS l y b L none d' (.ref a :: As) v) (h1 : Cond.methodLink own idx y ∈ lw_all) (h2 : Cond.instanceMethod y ∈ lw_all) (h4 : Cond.initialized y.cls ∈ lw_all) (h5 : Cond.code y b L none ∈ lw_all) (hy : y.name = "<init>")
    (hd : y.cls ≠ "java/lang/invoke/MethodHandle" ∧ y.cls ≠ "java/lang/invoke/VarHandle" ∧ (parseMethodDescriptor y.desc).map (fun d => d.parameters.length) = some n) (hdd : d' < d) (hL : L ≤ 41) (hn : As.length = n) (hls : ls.size = nL) (hrest : (rest.map fun v => v.category).sum ≤ 8) (hst : st0 = As.reverse ++ .ref a :: rest) (hdg : decode cc pc = .ok (.invokespecial idx, 3)) (hf : cells ≤ mc ∧ slots ≤ ms) :
    va_Run p l e (rmC d mc ms) s m args below meth c H locs cells slots 0 0 (F0 m pc ls st0) rest (rQ v (Value.ref a :: As).toArray) noA :=
  va_runI ⟨hexec, hb, hml, hown, hts⟩ hMet (cwI n hts (lw_meth h5) rfl rfl rfl (hts _ h4) (hts _ h1) (hts _ h2) hy hd (rmC_ok hdd hL)) ⟨fun a U g mk h => h, fun U hU hW => rfl⟩ rfl hn hls hst (lv_room hrest) hdg hf
/-- a new array of references -/
theorem aq_new (hexec : p.tables.exec = Jvm.exec) (hb : c.code = cc) {own C : String} {index : Nat} (hown : s.vm.findClass own = some m.cls) (hts : ∀ w ∈ lw_all, w.before args s = true) (hclink : Cond.classLink own index C ∈ lw_all) (hover : va_AO C s) (hK : K0 D cA s) (t0 : Nat) (ht : (tyCl cA)[t0]? = some (cA t0, .object C)) {n : Int32} {N : Nat} (hn : ¬ n < 0) (hN : n.toNatClampNeg = N) (hbytes : N * 4 ≤ 536870912) (hcells : cells + 1 ≤ R.cells) (hslots : slots + N ≤ R.slots) (hdg : decode cc pc = .ok (.anewarray index, 3))
    (kk : ∀ H1 : Heap, H1[H.size]? = some (arrV (cA t0) N (fun _ => .null)) → H1.size = H.size + 1 → (∀ q : Nat, q < H.size → H1[q]? = H[q]?) → W p l e R s m args below meth c H1 locs (cells + 1) (slots + N) Q (F0 m (pc + 3) ls (.ref H.size :: rest))) : W p l e R s m args below meth c H locs cells slots Q (F0 m pc ls (.int n :: rest)) := by
  subst hN
  refine W.anew hexec hb hown (hts _ hclink) (va_AO.use hover) rfl hdg rfl hn hbytes hcells hslots fun cA' kA comp f1 f2 f3 f4 => ?_
  obtain ⟨-, -, -, -, -, h4⟩ := (hK.2 t0 _ ht).2
  have : cA' = cA t0 := Option.some.inj (f1.symm.trans h4)
  subst this
  generalize hH1 : H.push ({ cls := cA t0, slots := Array.replicate n.toNatClampNeg .null, vm := .none } : Cell) = H1
  exact kk H1 (by rw [← hH1, Array.getElem?_push_size, ← arrV_new]) (by rw [← hH1, Array.size_push]) (fun q hq => by rw [← hH1, Array.getElem?_push, if_neg (Nat.ne_of_lt hq)])
/-- a reference is written into an array of objects -/
theorem aq_st (hexec : p.tables.exec = Jvm.exec) (hb : c.code = cc) (hK : K0 D cA s) {n v : Nat} {F : Nat → Value} (ha : H[a]? = some (arrV (cA 4) n F)) (hr : va_Any "java/lang/Object" s H v) {i : Int32} (hin : vp_in i n) (hdg : decode cc pc = .ok (.aastore, 1))
    (kk : ∀ H1 : Heap, H1[a]? = some (arrV (cA 4) n (updV F i.toNatClampNeg (.ref v))) → H1.size = H.size → (∀ q : Nat, q ≠ a → H1[q]? = H[q]?) → W p l e R s m args below meth c H1 (locs ++ [⟨a, i.toNatClampNeg⟩]) cells slots Q (F0 m (pc + 1) ls rest)) : W p l e R s m args below meth c H locs cells slots Q (F0 m pc ls (.ref v :: .int i :: .ref a :: rest)) := by
  have hlt : i.toNatClampNeg < n := Nat.not_le.mp fun q => hin (Or.inr q)
  have h0 : ¬ i < 0 := fun q => hin (Or.inl q)
  obtain ⟨cellV, g1, g2, ⟨kC, hkC⟩, hasg⟩ := hr
  obtain ⟨kA, comp, k1, k2, k3, -⟩ := (hK.2 4 _ rfl).2
  obtain ⟨kO, hkO, -⟩ := Vm.findClass_spec k3
  refine W.aast hexec hb ha (fun q h => by cases h) (fun h => by cases h) k1 k2 rfl hkO ⟨h0, by show _ < (arrV _ _ _).slots.size; rw [arrV_size]; exact hlt⟩ g1 (fun q h => by rw [h] at g2; cases g2) hkC (hasg _ k3) rfl rfl hdg fun H1 e z oq => ?_
  exact kk H1 (by rw [e, arrV_store]) z oq
end JR
/-- an element of a list: an object of one of the classes of tests and lines -/
def isOb (κ : Kg) (H : Heap) (y : Nat) : Prop := ∃ (cell : Cell) (ci : Nat), H[y]? = some cell ∧ cell.vm = .none ∧ 6 ≤ ci ∧ ci ≤ 11 ∧ cell.cls = κ.D.1 ci
theorem isOb.kept {κ : Kg} {H H1 : Heap} {y : Nat} (h : isOb κ H y) (hq : H1[y]? = H[y]?) : isOb κ H1 y := by
  obtain ⟨cell, ci, h1, h2⟩ := h
  exact ⟨cell, ci, by rw [hq]; exact h1, h2⟩
theorem isOb.any {κ : Kg} {s : State} {H : Heap} {y : Nat} (hX : KX κ s) (h : isOb κ H y) : va_Any "java/lang/Object" s H y := by
  obtain ⟨cell, ci, h1, h2, h3, h4, h5⟩ := h
  have hk : ∀ (C : String) (T : u_T) (N : Nat), vwCl[ci]? = some (C, T, N) → Cond.castable C "java/lang/Object" ∈ nwl → va_Any "java/lang/Object" s H y := by
    intro C T N hc hw
    obtain ⟨hfc, kC, hkC, -⟩ := (hX.1.1 ci _ hc).2
    refine ⟨cell, h1, by rw [h2]; rfl, ⟨kC, by rw [h5]; exact hkC⟩, fun comp hcomp => ?_⟩
    obtain ⟨c3, t3, w1, w2, w3⟩ := Cond.castable_spec (hX.2.1 _ hw)
    cases hfc.symm.trans w1
    cases hcomp.symm.trans w2
    rw [h5]; exact w3
  rcases (show ci = 6 ∨ ci = 7 ∨ ci = 8 ∨ ci = 9 ∨ ci = 10 ∨ ci = 11 by omega) with rfl | rfl | rfl | rfl | rfl | rfl
  · exact hk _ _ _ rfl nq1731
  · exact hk _ _ _ rfl nq1732
  · exact hk _ _ _ rfl nq1733
  · exact hk _ _ _ rfl nq1734
  · exact hk _ _ _ rfl nq1735
  · exact hk _ _ _ rfl nq1736
def capG (c : Nat) : Nat := c + max 1 (c / 2)

set_option maxHeartbeats 4000000 in
theorem metJ0_init (l : Launch) (a : Nat) : MetS l yJ0_init cJ0_init 1 none 1 [.ref a] none := by
  refine mS_start RJ0 (by decide) rfl (Nat.le_of_ble_eq_true rfl) ?_
  intro pg ev s0 mi bl me co hx hb hml hown hts hr hlk ls hl
  have hl : lv_has ls 1 [(0, .ref a)] := hl
  refine lv_aload_n hx hb dJ0_init_0 rfl (lv_at hl 0 rfl) ?_
  refine W.objInit hx hb hown (hts _ q115) (hts _ q102) (hts _ q103) rfl (by rw [hml]; exact hl.1) rfl dJ0_init_1 (Nat.le_of_ble_eq_true rfl) (Nat.le_of_ble_eq_true rfl) ?_
  refine W.eq (g2 := F0 mi 4 ls []) rfl ?_
  exact W.vret hx hb hr (fun t ht hW => ⟨rfl, ht⟩) (fun q h => by cases h) dJ0_init_4 hlk

set_option maxHeartbeats 4000000 in
theorem metJ1_init (l : Launch) (D : va_G) (cA : Nat → ClassId) (a : Nat) : Met l yJ1_init (ws_ yJ1_init cJ1_init 1 none) (rmC 2 0 0) (gP D cA (fun H => t_OB a (D.1 12) 3 (D.2 12) H (fun k => defaultValue (tyJ2 k))) [.ref a]) (oQ a (D.1 12) 3 (D.2 12) (fun k => defaultValue (tyJ2 k))) 0 0 (fun q => q = a) := by
  refine gM_start RJ1 (by decide) rfl (Nat.le_of_ble_eq_true rfl) ?_
  intro pg ev s0 mi bl me co hx hb hml hown hts hr hlk hnm hK hM ls hl
  have hl : lv_has ls 1 [(0, .ref a)] := hl
  have hS : va_S (fun q => q = a) s0.heap s0.heap [] := va_S.rf
  refine lv_aload_n hx hb dJ1_init_0 rfl (lv_at hl 0 rfl) ?_
  refine ro_call (st_runI (n := 0) (As := []) (rest := []) hx hb hml hown hts (metJ0_init l a) q112 q113 q65 q114 rfl (by decide +kernel) (by decide) (by decide) rfl hl.1 (Nat.le_of_ble_eq_true rfl) rfl dJ1_init_1 ⟨Nat.le_refl _, Nat.le_refl _⟩) ?_
  refine lv_aload_n hx hb dJ1_init_4 rfl (lv_at hl 0 rfl) ?_
  refine lv_iconst (v := 0) hx hb dJ1_init_5 (by decide) ?_
  refine ob_put (C := RJ2) (T := TJ2) (N := 3) (ci := 12) hx hb hts in_J2 tyJ2 tyJ2_ok nmJ2 hown hK hM hS rfl rfl 0 (by decide) q122 (fun x h => h) rfl rfl rfl dJ1_init_6 (fun H locs hM hq hz1 hS => ?_)
  exact ob_vret hx hb hr hlk hM (fun k hk => by rcases (show k = 0 ∨ k = 1 ∨ k = 2 by omega) with rfl | rfl | rfl <;> rfl) hS hz1 dJ1_init_9

/-- a list made: empty, n places -/
def lQ (κ : Kg) (a n : Nat) : Array Value → State → Outcome → State → Prop := fun _ st oc t => oc = .returned none ∧ (∀ es, LA κ a st.heap.size n 0 es t.heap) ∧ t.heap.size = st.heap.size + 1 ∧ ∀ q : Nat, q < st.heap.size → q ≠ a → t.heap[q]? = st.heap[q]?
section JR2
variable {p : Program} {l : Launch} {e : Env} {R : Room} {s : State} {m : MethodId} {args : Array Value} {below : List Frame} {meth : Method} {c : Code} {H : Heap} {locs : List Loc} {cells slots : Nat} {Q : State → Prop}
variable {pc : Nat} {ls : Array Slot} {rest : List Value} {a : Nat}
/-- behind a constructor's call on an old object -/
theorem ob_calledO {st0 : List Value} {cC : ClassId} {N : Nat} {iS : Nat → Nat} {V : Nat → Value} {ar : Array Value} {A : Nat → Prop} {H0 : Heap} (hr : va_Run p l e R s m args below meth c H locs cells slots 0 0 (F0 m pc ls st0) rest (oQ a cC N iS V ar) (fun q => q = a)) (hS : va_S A H0 H locs) (hA : A a)
    (kk : ∀ (H1 : Heap) (locs1 : List Loc), t_OB a cC N iS H1 V → H1.size = H.size → (∀ q : Nat, q ≠ a → H1[q]? = H[q]?) → va_S A H0 H1 locs1 → W p l e R s m args below meth c H1 locs1 cells slots Q (F0 m (pc + 3) ls rest)) : W p l e R s m args below meth c H locs cells slots Q (F0 m pc ls st0) := by
  intro T hT X
  obtain ⟨v', st₀, t, T', L, h0, X', hL, e1, e2, ⟨hv, hB, ⟨hz, hk⟩, hzz⟩, st⟩ := hr T hT X
  cases hv
  rw [h0] at hz hk hzz
  have hq : ∀ q : Nat, q ≠ a → t.heap[q]? = H[q]? := fun q hq => by
    by_cases hlt : q < H.size
    · exact hk q hlt hq
    · rw [Array.getElem?_eq_none (by omega), Array.getElem?_eq_none (by omega)]
  obtain ⟨t2, a1, b1⟩ := kk T'.heap (locs ++ L) (by rw [e1]; exact hB) (by rw [e1]; exact hzz) (fun q h => by rw [e1]; exact hq q h) ⟨by rw [e1, hzz]; exact hS.1, fun q h1 h2 => by rw [e1, hq q (fun z => h2 (z ▸ hA))]; exact hS.2.1 q h1 h2, fun q hq2 => by
    rcases List.mem_append.mp hq2 with h | h
    · exact hS.2.2 q h
    · rw [show q.base = a from hL q h]; exact hA⟩ T' rfl X'
  exact ⟨t2, st t2 a1, b1⟩
end JR2

set_option maxHeartbeats 4000000 in
theorem metJ2_init (l : Launch) (κ : Kg) (a n : Nat) (hn0 : 0 < n) (hn : n < 1000) : Met l yJ2_init (ws_ yJ2_init cJ2_init 2 none) (rmC 3 1 n) (xP κ (fun H => t_OB a (κ.D.1 12) 3 (κ.D.2 12) H (fun k => defaultValue (tyJ2 k))) [.ref a, .int (nI n)]) (lQ κ a n) 1 n (fun q => q = a) := by
  refine xM_start RJ2 (by decide) rfl (Nat.le_of_ble_eq_true rfl) ?_
  intro pg ev s0 mi bl me co hx hb hml hown hts hr hlk hnm hK hM ls hl
  have hl : lv_has ls 2 [(0, .ref a), (1, .int (nI n))] := hl
  have hS : va_S (fun q => q = a) s0.heap s0.heap [] := va_S.rf
  refine lv_aload_n hx hb dJ2_init_0 rfl (lv_at hl 0 rfl) ?_
  refine ob_calledO (g_runI (n := 0) (As := []) (rest := []) hx hb hml hown hts (metJ1_init l κ.D κ.cA a) q109 q110 q66 q111 rfl (by decide +kernel) (by decide) (by decide) rfl hK.1.1 hM hl.1 (Nat.le_of_ble_eq_true rfl) rfl dJ2_init_1 ⟨Nat.zero_le _, Nat.zero_le _⟩) hS rfl (fun H locs hM hz0 hq0 hS => ?_)
  refine lv_iload_n hx hb dJ2_init_4 rfl (lv_at hl 1 rfl) ?_
  refine lv_if_le (tgt := 19) hx hb dJ2_init_5 (by decide) (fun c_5 => ?_) (fun c_5 => ?_)
  · skip
    exact absurd c_5 (nI_nle hn0 (by omega))
  · skip
    refine lv_aload_n hx hb dJ2_init_8 rfl (lv_at hl 0 rfl) ?_
    refine lv_iload_n hx hb dJ2_init_9 rfl (lv_at hl 1 rfl) ?_
    refine aq_new (N := n) hx hb hown hts q116 hK.1.2.2.1.1 hK.1.1 4 rfl (nI_pos (by omega)) (nI_clamp (by omega)) (by omega) (by show 0 + 1 ≤ 1; omega) (by show 0 + n ≤ n; omega) dJ2_init_10 (fun H1 hX hz1 ho1 => ?_)
    have hOa : a < H.size := by obtain ⟨cell, hc, -⟩ := hM; exact (Array.getElem?_eq_some_iff.mp hc).1
    have hM := hM.kept (ho1 a hOa)
    have hS := hS.grow (by omega) ho1
    refine ob_put (C := RJ2) (T := TJ2) (N := 3) (ci := 12) (v := .ref H.size) hx hb hts in_J2 tyJ2 tyJ2_ok nmJ2 hown hK.1.1 hM hS rfl rfl 1 (by decide) q120 (fun x h => h) rfl rfl rfl dJ2_init_13 (fun H2 locs2 hM hq2 hz2 hS => ?_)
    refine lv_goto (tgt := 60) hx hb dJ2_init_16 (by decide) ?_
    refine W.widen (k := 1) (n := n) (by omega) (by omega) ?_
    exact W.vret hx hb hr (fun t ht hW => ⟨rfl, fun es => ⟨⟨0, by rw [ht]; exact hM.to fun k hk => by rcases (show k = 0 ∨ k = 1 ∨ k = 2 by omega) with rfl | rfl | rfl <;> first | rfl | (show Value.ref _ = Value.ref _; rw [hz0])⟩, by rw [ht, ← hz0, hq2 _ (by omega), hX]; congr 2, by omega, by omega⟩, by rw [ht]; omega, fun q h1 h2 => by rw [ht, hq2 q h2, ho1 q (by omega), hq0 q h2]⟩) hS.2.2 dJ2_init_60 hlk
