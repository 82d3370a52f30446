/-! CONSTRUCTORS of one object; a new paper. By tools/gen_k1.py -/
set_option maxRecDepth 100000
/-- a constructor's end: the object holds V, nothing else has changed -/
def oQ (a : Nat) (cC : ClassId) (N : Nat) (iS : Nat → Nat) (V : Nat → Value) : Array Value → State → Outcome → State → Prop := fun _ st oc t => oc = .returned none ∧ t_OB a cC N iS t.heap V ∧ va_F (fun q => q = a) st t ∧ t.heap.size = st.heap.size
section OC
variable {p : Program} {l : Launch} {e : Env} {R : Room} {s : State} {m : MethodId} {args : Array Value} {below : List Frame} {meth : Method} {c : Code} {H : Heap} {locs : List Loc} {cells slots : Nat} {Q : State → Prop}
variable {cc : ByteArray} {pc : Nat} {ls : Array Slot} {rest : List Value} {D : va_G} {cA : Nat → ClassId} {A : Nat → Prop} {a : Nat} {H0 : Heap}
theorem ob_vret {cC : ClassId} {N : Nat} {iS : Nat → Nat} {V V2 : Nat → Value} (hexec : p.tables.exec = Jvm.exec) (hb : c.code = cc) (hr : meth.sig.returnType = none) (hlocks : meth.locks = false) (hM : t_OB a cC N iS H V) (hV : ∀ k, k < N → V k = V2 k) (hS : va_S (fun q => q = a) s.heap H locs) (hz : H.size = s.heap.size) (hdg : decode cc pc = .ok (.return_, 1)) : W p l e R s m args below meth c H locs cells slots (MQ below (oQ a cC N iS V2) args s cells slots (fun q => q = a)) (F0 m pc ls []) :=
  W.vret hexec hb hr (fun t ht hW => ⟨rfl, by rw [ht]; exact hM.to hV, hS.F ht, by rw [ht]; exact hz⟩) hS.2.2 hdg hlocks
/-- a call of a constructor -/
theorem g_runI {own : String} {y : MethodName} {b : ByteArray} {L d d' n idx nL mc ms mc' ms' : Nat} {As : List Value} {P : Heap → Prop} {Qc : Array Value → State → Outcome → State → Prop} {free : Addr → Prop} {st0 : List Value} (hexec : p.tables.exec = Jvm.exec) (hb : c.code = cc) (hml : c.maxLocals = nL) (hown : s.vm.findClass own = some m.cls) (hts : ∀ w ∈ lw_all, w.before args s = true)
    (hMet : Met l y (ws_ y b L none) (rmC d' mc' ms') (gP D cA P (.ref a :: As)) Qc mc' ms' free) (h1 : Cond.methodLink own idx y ∈ lw_all) (h2 : Cond.instanceMethod y ∈ lw_all) (h4 : Cond.initialized y.cls ∈ lw_all) (h5 : Cond.code y b L none ∈ lw_all) (hy : y.name = "<init>")
    (hd : y.cls ≠ "java/lang/invoke/MethodHandle" ∧ y.cls ≠ "java/lang/invoke/VarHandle" ∧ (parseMethodDescriptor y.desc).map (fun d => d.parameters.length) = some n) (hdd : d' < d) (hL : L ≤ 41) (hn : As.length = n) (hK : K0 D cA s) (hM : P H) (hls : ls.size = nL) (hrest : (rest.map fun v => v.category).sum ≤ 8) (hst : st0 = As.reverse ++ .ref a :: rest) (hdg : decode cc pc = .ok (.invokespecial idx, 3)) (hf : cells + mc' ≤ mc ∧ slots + ms' ≤ ms) :
    va_Run p l e (rmC d mc ms) s m args below meth c H locs cells slots mc' ms' (F0 m pc ls st0) rest (Qc (Value.ref a :: As).toArray) free :=
  va_runI ⟨hexec, hb, hml, hown, hts⟩ hMet (cwI n hts (lw_meth h5) rfl rfl rfl (hts _ h4) (hts _ h1) (hts _ h2) hy hd (rmC_ok hdd hL)) ⟨gP_blind, fun U hU hW => ⟨rfl, by rw [hU]; exact hM, va_K.moved hW.alike hK⟩⟩ rfl hn hls hst (lv_room hrest) hdg hf
/-- behind a constructor of a new object -/
theorem ob_called {st0 : List Value} {cC : ClassId} {N : Nat} {iS : Nat → Nat} {V : Nat → Value} {ar : Array Value} (hr : va_Run p l e R s m args below meth c H locs cells slots 0 0 (F0 m pc ls st0) rest (oQ a cC N iS V ar) (fun q => q = a)) (hnew : s.heap.size ≤ a)
    (kk : ∀ H1 : Heap, t_OB a cC N iS H1 V → H1.size = H.size → (∀ q : Nat, q ≠ a → H1[q]? = H[q]?) → W p l e R s m args below meth c H1 locs cells slots Q (F0 m (pc + 3) ls rest)) : W p l e R s m args below meth c H locs cells slots Q (F0 m pc ls st0) := by
  intro T hT X
  obtain ⟨v', st₀, t, T', L, h0, X', hL, e1, e2, ⟨hv, hB, ⟨hz, hk⟩, hzz⟩, st⟩ := hr T hT X
  cases hv
  rw [h0] at hz hk hzz
  have hq : ∀ q : Nat, q ≠ a → t.heap[q]? = H[q]? := fun q hq => by
    by_cases hlt : q < H.size
    · exact hk q hlt hq
    · rw [Array.getElem?_eq_none (by omega), Array.getElem?_eq_none (by omega)]
  obtain ⟨t2, a1, b1⟩ := kk T'.heap (by rw [e1]; exact hB) (by rw [e1]; exact hzz) (fun q h => by rw [e1]; exact hq q h) T' rfl (Stand.forget X' (fun x h => by rw [show x.base = a from hL x h]; exact hnew))
  exact ⟨t2, st t2 a1, b1⟩
end OC

def pF (nu ho fr to da so pr fo : Int32) (k : Nat) : Int32 := ([nu, ho, fr, to, da, so, pr, fo, -1] : List Int32).getD k 0

set_option maxHeartbeats 4000000 in
theorem metX4_init (l : Launch) (D : va_G) (cA : Nat → ClassId) (a : Nat) (nu : Int32) (ho : Int32) (fr : Int32) (to : Int32) (da : Int32) (so : Int32) (pr : Int32) (fo : Int32) : Met l yX4_init (ws_ yX4_init cX4_init 9 none) (rmC 1 0 0) (gP D cA (fun H => t_OB a (D.1 3) 9 (D.2 3) H (fun k => defaultValue (tyX4 k))) [.ref a, .int nu, .int ho, .int fr, .int to, .int da, .int so, .int pr, .int fo]) (oQ a (D.1 3) 9 (D.2 3) (fun k => .int (pF nu ho fr to da so pr fo k))) 0 0 (fun q => q = a) := by
  refine gM_start RX4 (by decide) rfl (Nat.le_of_ble_eq_true rfl) ?_
  intro pg ev s0 mi bl me co hx hb hml hown hts hr hlk hnm hK hM ls hl
  have hl : lv_has ls 9 [(0, .ref a), (1, .int nu), (2, .int ho), (3, .int fr), (4, .int to), (5, .int da), (6, .int so), (7, .int pr), (8, .int fo)] := hl
  have hS : va_S (fun q => q = a) s0.heap s0.heap [] := va_S.rf
  have hz : s0.heap.size = s0.heap.size := rfl
  refine lv_aload_n hx hb dX4_init_0 rfl (lv_at hl 0 rfl) ?_
  refine W.objInit hx hb hown (hts _ q334) (hts _ q102) (hts _ q103) rfl (by rw [hml]; exact hl.1) rfl dX4_init_1 (Nat.le_of_ble_eq_true rfl) (Nat.le_of_ble_eq_true rfl) ?_
  refine W.eq (g2 := F0 mi 4 ls []) rfl ?_
  refine lv_aload_n hx hb dX4_init_4 rfl (lv_at hl 0 rfl) ?_
  refine lv_iconst (v := (-1)) hx hb dX4_init_5 (by decide) ?_
  refine ob_put (C := RX4) (T := TX4) (N := 9) (ci := 3) hx hb hts in_X4 tyX4 tyX4_ok nmX4 hown hK hM hS rfl rfl 8 (by decide) q355 (fun x h => h) rfl rfl rfl dX4_init_6 (fun H locs hM hq hz1 hS => ?_)
  have hz : _ = _ := hz1.trans hz
  refine lv_aload_n hx hb dX4_init_9 rfl (lv_at hl 0 rfl) ?_
  refine lv_iload_n hx hb dX4_init_10 rfl (lv_at hl 1 rfl) ?_
  refine ob_putF (C := RX4) (T := TX4) (N := 9) (ci := 3) hx hb hts in_X4 tyX4 tyX4_ok nmX4 hown hK hM hS rfl rfl 0 (by decide) q335 (fun x h => h) rfl hnm rfl rfl rfl dX4_init_11 (fun H locs hM hq hz1 hS => ?_)
  have hz : _ = _ := hz1.trans hz
  refine lv_aload_n hx hb dX4_init_14 rfl (lv_at hl 0 rfl) ?_
  refine lv_iload_n hx hb dX4_init_15 rfl (lv_at hl 2 rfl) ?_
  refine ob_putF (C := RX4) (T := TX4) (N := 9) (ci := 3) hx hb hts in_X4 tyX4 tyX4_ok nmX4 hown hK hM hS rfl rfl 1 (by decide) q337 (fun x h => h) rfl hnm rfl rfl rfl dX4_init_16 (fun H locs hM hq hz1 hS => ?_)
  have hz : _ = _ := hz1.trans hz
  refine lv_aload_n hx hb dX4_init_19 rfl (lv_at hl 0 rfl) ?_
  refine lv_iload_n hx hb dX4_init_20 rfl (lv_at hl 3 rfl) ?_
  refine ob_putF (C := RX4) (T := TX4) (N := 9) (ci := 3) hx hb hts in_X4 tyX4 tyX4_ok nmX4 hown hK hM hS rfl rfl 2 (by decide) q340 (fun x h => h) rfl hnm rfl rfl rfl dX4_init_21 (fun H locs hM hq hz1 hS => ?_)
  have hz : _ = _ := hz1.trans hz
  refine lv_aload_n hx hb dX4_init_24 rfl (lv_at hl 0 rfl) ?_
  refine lv_iload hx hb dX4_init_25 (lv_at hl 4 rfl) ?_
  refine ob_putF (C := RX4) (T := TX4) (N := 9) (ci := 3) hx hb hts in_X4 tyX4 tyX4_ok nmX4 hown hK hM hS rfl rfl 3 (by decide) q343 (fun x h => h) rfl hnm rfl rfl rfl dX4_init_27 (fun H locs hM hq hz1 hS => ?_)
  have hz : _ = _ := hz1.trans hz
  refine lv_aload_n hx hb dX4_init_30 rfl (lv_at hl 0 rfl) ?_
  refine lv_iload hx hb dX4_init_31 (lv_at hl 5 rfl) ?_
  refine ob_putF (C := RX4) (T := TX4) (N := 9) (ci := 3) hx hb hts in_X4 tyX4 tyX4_ok nmX4 hown hK hM hS rfl rfl 4 (by decide) q345 (fun x h => h) rfl hnm rfl rfl rfl dX4_init_33 (fun H locs hM hq hz1 hS => ?_)
  have hz : _ = _ := hz1.trans hz
  refine lv_aload_n hx hb dX4_init_36 rfl (lv_at hl 0 rfl) ?_
  refine lv_iload hx hb dX4_init_37 (lv_at hl 6 rfl) ?_
  refine ob_putF (C := RX4) (T := TX4) (N := 9) (ci := 3) hx hb hts in_X4 tyX4 tyX4_ok nmX4 hown hK hM hS rfl rfl 5 (by decide) q349 (fun x h => h) rfl hnm rfl rfl rfl dX4_init_39 (fun H locs hM hq hz1 hS => ?_)
  have hz : _ = _ := hz1.trans hz
  refine lv_aload_n hx hb dX4_init_42 rfl (lv_at hl 0 rfl) ?_
  refine lv_iload hx hb dX4_init_43 (lv_at hl 7 rfl) ?_
  refine ob_putF (C := RX4) (T := TX4) (N := 9) (ci := 3) hx hb hts in_X4 tyX4 tyX4_ok nmX4 hown hK hM hS rfl rfl 6 (by decide) q352 (fun x h => h) rfl hnm rfl rfl rfl dX4_init_45 (fun H locs hM hq hz1 hS => ?_)
  have hz : _ = _ := hz1.trans hz
  refine lv_aload_n hx hb dX4_init_48 rfl (lv_at hl 0 rfl) ?_
  refine lv_iload hx hb dX4_init_49 (lv_at hl 8 rfl) ?_
  refine ob_putF (C := RX4) (T := TX4) (N := 9) (ci := 3) hx hb hts in_X4 tyX4 tyX4_ok nmX4 hown hK hM hS rfl rfl 7 (by decide) q354 (fun x h => h) rfl hnm rfl rfl rfl dX4_init_51 (fun H locs hM hq hz1 hS => ?_)
  have hz : _ = _ := hz1.trans hz
  exact ob_vret hx hb hr hlk hM (fun k hk => by rcases (show k = 0 ∨ k = 1 ∨ k = 2 ∨ k = 3 ∨ k = 4 ∨ k = 5 ∨ k = 6 ∨ k = 7 ∨ k = 8 by omega) with rfl | rfl | rfl | rfl | rfl | rfl | rfl | rfl | rfl <;> rfl) hS hz dX4_init_54
