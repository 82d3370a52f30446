/-! Reader: is, isTerm, wrong, deep. By tools/gen_r3.py -/
set_option maxRecDepth 100000
def isW (τ : Tp) (p i : Nat) : Bool := decide (ts τ p = 1) && eqT (tl τ p) (lt τ p) i
def isTm (τ : Tp) (p : Nat) : Bool := decide (ts τ p = 2) || (decide (ts τ p = 1) && (fnd (tl τ p) (lt τ p)).isSome)
def eKd (τ : Tp) (p : Nat) : Int32 := if ts τ p = 3 then 1 else 2
theorem ts1 {τ : Tp} {p : Nat} (h : ts τ p = 1) : 0 < tl τ p ∧ tl τ p ≤ 8 ∧ te τ p = ws τ p + tl τ p := by
  by_cases h1 : he τ (ws τ p) < 0
  · rw [(tk_end h1).1] at h; exact absurd h (by decide)
  · cases h2 : isLt (he τ (ws τ p)) with
    | true =>
      by_cases h3 : 8 < tl τ p
      · rw [(tk_w3 h1 h2 h3).1] at h; exact absurd h (by decide)
      · refine ⟨?_, by omega, (tk_w h1 h2 h3).2⟩
        unfold tl
        rw [rn_eq isLt_n, h2]
        simp
    | false =>
      cases h4 : isDg (he τ (ws τ p)) with
      | true =>
        by_cases h5 : 7 < dn τ p ∨ isLt (he τ (ws τ p + dn τ p)) = true
        · rw [(tk_n3 h1 h2 h4 h5).1] at h; exact absurd h (by decide)
        · rw [(tk_n h1 h2 h4 h5).1] at h; exact absurd h (by decide)
      | false =>
        cases h6 : isSg (he τ (ws τ p)) with
        | true => rw [(tk_s h1 h2 h4 h6).1] at h; exact absurd h (isSg_12 h6).1
        | false => rw [(tk_b h1 h2 h4 h6).1] at h; exact absurd h (by decide)
/-- an end of a reader's method that reads: the text's hash may have been written -/
def isQ (κ : Kg) (o : Nat) (τ : Tp) (r p : Nat) (tm : Int32) (w al : Nat) (v : Option Value) : Array Value → State → Outcome → State → Prop := fun _ st oc t => oc = .returned v ∧ RT κ o τ r p tm w al t.heap ∧ t.heap.size = st.heap.size ∧ ∀ q : Nat, ¬ (q = w ∧ κ.base ≤ q) → t.heap[q]? = st.heap[q]?
/-- what a reader's method leaves as it was -/
def FrR (κ : Kg) (r w : Nat) (H H1 : Heap) : Prop := H.size ≤ H1.size ∧ ∀ q : Nat, q < H.size → q ≠ r → ¬ (q = w ∧ κ.base ≤ q) → H1[q]? = H[q]?
/-- an exception's object -/
def WO (κ : Kg) (x : Nat) (kd : Int32) (pl : Nat) (H : Heap) : Prop := t_OB x (κ.D.1 5) 8 (κ.D.2 5) H (wrF kd (nI pl))
def wrQ (κ : Kg) (τ : Tp) (p : Nat) : Array Value → State → Outcome → State → Prop := fun _ st oc t => oc = .returned (some (.ref st.heap.size)) ∧ WO κ st.heap.size (eKd τ p) (ws τ p) t.heap ∧ t.heap.size = st.heap.size + 1 ∧ ∀ q : Nat, q < st.heap.size → t.heap[q]? = st.heap[q]?
section R3
variable {p : Program} {l : Launch} {e : Env} {R : Room} {s : State} {m : MethodId} {args : Array Value} {below : List Frame} {meth : Method} {c : Code} {H : Heap} {locs : List Loc} {cells slots : Nat} {Q : State → Prop}
variable {cc : ByteArray} {pc : Nat} {ls : Array Slot} {rest : List Value} {κ : Kg} {P : Heap → Prop} {a : Nat} {H0 : Heap} {A : Nat → Prop}
theorem x_runT {own C : String} {y : MethodName} {b : ByteArray} {L d d' n idx nL mc ms mc' ms' : Nat} {ret : Option FieldType} {As : List Value} {Qc : Array Value → State → Outcome → State → Prop} {free : Addr → Prop} {st0 : List Value} (hexec : p.tables.exec = Jvm.exec) (hb : c.code = cc) (hml : c.maxLocals = nL) (hown : s.vm.findClass own = some m.cls) (hts : ∀ w ∈ lw_all, w.before args s = true)
    (hMet : MetT l y (ws_ y b L ret) (rmC d' mc' ms') (xP κ P (.ref a :: As)) Qc mc' ms' free) (h1 : Cond.methodLink own idx y ∈ lw_all) (h2 : Cond.instanceMethod y ∈ lw_all) (h3 : Cond.selects C y y ∈ lw_all) (h4 : Cond.initialized C ∈ lw_all) (h5 : Cond.code y b L ret ∈ lw_all)
    (hd : y.cls = C ∧ y.cls ≠ "java/lang/invoke/MethodHandle" ∧ y.cls ≠ "java/lang/invoke/VarHandle" ∧ (parseMethodDescriptor y.desc).map (fun d => d.parameters.length) = some n) (hdd : d' < d) (hL : L ≤ 41) (hn : As.length = n) (hK : KZ κ s H) (hM : P H) (hrecv : ∃ cell : Cell, H[a]? = some cell ∧ cell.vm.isStatics = false ∧ s.vm.findClass C = some cell.cls) (hls : ls.size = nL) (hrest : (rest.map fun v => v.category).sum ≤ 8) (hst : st0 = As.reverse ++ .ref a :: rest) (hdg : decode cc pc = .ok (.invokevirtual idx, 3)) (hf : cells + mc' ≤ mc ∧ slots + ms' ≤ ms) :
    RunT p l e (rmC d mc ms) s m args below meth c H locs cells slots mc' ms' (F0 m pc ls st0) rest (Qc (Value.ref a :: As).toArray) free :=
  runT_V ⟨hexec, hb, hml, hown, hts⟩ hMet (cwV n hts (lw_V h1 h2 h3 h4 h5) rfl rfl rfl hd (rmC_ok hdd hL)) ⟨xP_blind, hrecv, fun U hU hW => ⟨rfl, by rw [hU]; exact hM, hK.pre hU hW⟩⟩ rfl hn hls hst (lv_room hrest) hdg hf
end R3

set_option maxHeartbeats 4000000 in
theorem metX5_is (l : Launch) (κ : Kg) (o : Nat) (τ : Tp) (r p : Nat) (tm : Int32) (w al : Nat) (i : Nat) (hi : i < 20) : Met l yX5_is (ws_ yX5_is cX5_is 2 (some .boolean)) (rmC 2 0 0) (xP κ (RT κ o τ r p tm w al) [.ref r, .ref (κ.sK i)]) (rQ (some (.int (b2 (isW τ p i))))) 0 0 noA := by
  refine xM_start RX5 (by decide) rfl (Nat.le_of_ble_eq_true rfl) ?_
  intro pg ev s0 mi bl me co hx hb hml hown hts hr hlk hnm hK hM ls hl
  have hl : lv_has ls 2 [(0, .ref r), (1, .ref (κ.sK i))] := hl
  have hM0 := hM
  obtain ⟨hT, ⟨nu, hO, hnu⟩, hwd, hpm⟩ := hM
  refine lv_aload_n hx hb dX5_is_0 rfl (lv_at hl 0 rfl) ?_
  refine ob_get (C := RX5) (T := TX5) (N := 8) (ci := 4) (v := .int (ts τ p)) hx hb hts in_X5 hown hK.1.1 hO rfl 1 (by decide) q431 (fun x h => h) rfl dX5_is_1 ?_
  refine lv_iconst (v := 1) hx hb dX5_is_4 (by decide) ?_
  refine lv_icmp_ne (tgt := 23) hx hb dX5_is_5 (by decide) (fun c_5 => ?_) (fun c_5 => ?_)
  · skip
    refine lv_iconst (v := 0) hx hb dX5_is_23 (by decide) ?_
    exact zret_ro (V := isW τ p i) hx hb hr hlk (by unfold isW; first | (rw [decide_eq_false c_5]; rfl) | (rw [decide_eq_true c_5, c_16]; rfl)) dX5_is_24
  · skip
    refine lv_aload_n hx hb dX5_is_8 rfl (lv_at hl 0 rfl) ?_
    refine ob_get (C := RX5) (T := TX5) (N := 8) (ci := 4) (v := .ref w) hx hb hts in_X5 hown hK.1.1 hO rfl 5 (by decide) q435 (fun x h => h) rfl dX5_is_9 ?_
    refine lv_aload_n hx hb dX5_is_12 rfl (lv_at hl 1 rfl) ?_
    obtain ⟨hwB, v, h, z, hWS, hho, hvr⟩ := hwd c_5
    refine ro_call (x_runV (n := 1) (As := [.ref (κ.sK i)]) (rest := []) hx hb hml hown hts (metJ5_equals l κ w v (tl τ p) i (lt τ p) h z (ts1 c_5).2.1 hi hwB) q734 q735 q736 q76 q737 (by decide +kernel) (by decide) (by decide) rfl hK hWS (ob_recv hK.1.1 rfl hWS.1) hl.1 (Nat.le_of_ble_eq_true rfl) rfl dX5_is_13 ⟨Nat.le_refl _, Nat.le_refl _⟩) ?_
    refine lv_B_eq (tgt := 23) hx hb dX5_is_16 (by decide) (fun c_16 => ?_) (fun c_16 => ?_)
    · skip
      refine lv_iconst (v := 0) hx hb dX5_is_23 (by decide) ?_
      exact zret_ro (V := isW τ p i) hx hb hr hlk (by unfold isW; first | (rw [decide_eq_false c_5]; rfl) | (rw [decide_eq_true c_5, c_16]; rfl)) dX5_is_24
    · skip
      refine lv_iconst (v := 1) hx hb dX5_is_19 (by decide) ?_
      refine lv_goto (tgt := 24) hx hb dX5_is_20 (by decide) ?_
      exact zret_ro (V := isW τ p i) hx hb hr hlk (by unfold isW; first | (rw [decide_eq_false c_5]; rfl) | (rw [decide_eq_true c_5, c_16]; rfl)) dX5_is_24

theorem ws_ne {κ : Kg} {s : State} {H : Heap} {w v : Nat} {h z : Int32} {V : Nat → Value} (hK : K0 κ.D κ.cA s) (hW : SO κ.D H w v h z) (hO : t_OB w (κ.D.1 4) 8 (κ.D.2 4) H V) : False := by
  obtain ⟨c1, a1, a2, -⟩ := hW
  obtain ⟨c2, b1, b2, -⟩ := hO
  cases a1.symm.trans b1
  exact dcl_ne hK (i := 4) (j := 14) rfl rfl (by decide) (b2.symm.trans a2)
theorem tw_ne {κ : Kg} {s : State} {H : Heap} {o w v : Nat} {τ : Tp} {h z : Int32} (hK : K0 κ.D κ.cA s) (hT : TW κ o τ H) (hW : SO κ.D H w v h z) : o ≠ w ∧ o + 1 ≠ w := by
  obtain ⟨c1, a1, a2, -⟩ := hW
  constructor
  · intro e
    obtain ⟨⟨V, ⟨c2, b1, b2, -⟩, -⟩, -⟩ := hT
    rw [e] at b1
    cases a1.symm.trans b1
    exact dcl_ne hK (i := 0) (j := 14) rfl rfl (by decide) (b2.symm.trans a2)
  · intro e
    have b1 := hT.2.1
    rw [e] at b1
    cases a1.symm.trans b1
    exact dar1_ne hK (i := 14) rfl (by decide) a2.symm

set_option maxHeartbeats 4000000 in
theorem metX5_isTerm (l : Launch) (κ : Kg) (o : Nat) (τ : Tp) (r p : Nat) (tm : Int32) (w al : Nat) : Met l yX5_isTerm (ws_ yX5_isTerm cX5_isTerm 1 (some .boolean)) (rmC 5 0 0) (xP κ (RT κ o τ r p tm w al) [.ref r]) (isQ κ o τ r p tm w al (some (.int (b2 (isTm τ p))))) 0 0 (fun q => κ.base ≤ q) := by
  refine xM_start RX5 (by decide) rfl (Nat.le_of_ble_eq_true rfl) ?_
  intro pg ev s0 mi bl me co hx hb hml hown hts hr hlk hnm hK hM ls hl
  have hl : lv_has ls 1 [(0, .ref r)] := hl
  have hM0 := hM
  obtain ⟨hT, ⟨nu, hO, hnu⟩, hwd, hpm⟩ := hM
  refine lv_aload_n hx hb dX5_isTerm_0 rfl (lv_at hl 0 rfl) ?_
  refine ob_get (C := RX5) (T := TX5) (N := 8) (ci := 4) (v := .int (ts τ p)) hx hb hts in_X5 hown hK.1.1 hO rfl 1 (by decide) q431 (fun x h => h) rfl dX5_isTerm_1 ?_
  refine lv_iconst (v := 2) hx hb dX5_isTerm_4 (by decide) ?_
  refine lv_icmp_eq (tgt := 26) hx hb dX5_isTerm_5 (by decide) (fun c_5 => ?_) (fun c_5 => ?_)
  · skip
    refine lv_iconst (v := 1) hx hb dX5_isTerm_26 (by decide) ?_
    refine lv_goto (tgt := 31) hx hb dX5_isTerm_27 (by decide) ?_
    refine W.widen (k := 0) (n := 0) (by omega) (by omega) ?_
    exact W.zret hx hb hr rfl (fun t ht hW => ⟨by rw [show isTm τ p = true from by unfold isTm; rw [decide_eq_true c_5]; rfl]; rfl, by rw [ht]; exact hM0, by rw [ht], fun q hq => by rw [ht]⟩) (fun q h => by cases h) dX5_isTerm_31 hlk
  · skip
    refine lv_aload_n hx hb dX5_isTerm_8 rfl (lv_at hl 0 rfl) ?_
    refine ob_get (C := RX5) (T := TX5) (N := 8) (ci := 4) (v := .int (ts τ p)) hx hb hts in_X5 hown hK.1.1 hO rfl 1 (by decide) q431 (fun x h => h) rfl dX5_isTerm_9 ?_
    refine lv_iconst (v := 1) hx hb dX5_isTerm_12 (by decide) ?_
    refine lv_icmp_ne (tgt := 30) hx hb dX5_isTerm_13 (by decide) (fun c_13 => ?_) (fun c_13 => ?_)
    · skip
      refine lv_iconst (v := 0) hx hb dX5_isTerm_30 (by decide) ?_
      refine W.widen (k := 0) (n := 0) (by omega) (by omega) ?_
      exact W.zret hx hb hr rfl (fun t ht hW => ⟨by rw [show isTm τ p = false from by unfold isTm; rw [decide_eq_false c_5, decide_eq_false c_13]; rfl]; rfl, by rw [ht]; exact hM0, by rw [ht], fun q hq => by rw [ht]⟩) (fun q h => by cases h) dX5_isTerm_31 hlk
    · skip
      refine lv_aload_n hx hb dX5_isTerm_16 rfl (lv_at hl 0 rfl) ?_
      refine ob_get (C := RX5) (T := TX5) (N := 8) (ci := 4) (v := .ref w) hx hb hts in_X5 hown hK.1.1 hO rfl 5 (by decide) q435 (fun x h => h) rfl dX5_isTerm_17 ?_
      obtain ⟨hwB, v, h, z, hWS, hho, hvr⟩ := hwd c_13
      refine x_called (x_runS (n := 1) (As := [.ref w]) (rest := []) hx hb hml hown hts (metX2_find l κ w v (tl τ p) (lt τ p) h z (ts1 c_13).1 (ts1 c_13).2.1 hwB) q829 q830 q70 q831 (by decide +kernel) (by decide) (by decide) rfl hK ⟨hWS, hho⟩ hl.1 (Nat.le_of_ble_eq_true rfl) rfl dX5_isTerm_20 ⟨Nat.le_refl _, Nat.le_refl _⟩) (fun v2 st t L hst hq hvm hL => ?_)
      obtain ⟨hv, ⟨h2, z2, hW2, hho2⟩, hq3, hq4⟩ := hq
      cases hv
      rw [hst] at hq3 hq4
      have hwr : r ≠ w := fun z => ws_ne hK.1.1 hWS.1 (z ▸ hO)
      have hwo := tw_ne hK.1.1 hT hWS.1
      have hM1 : RT κ o τ r p tm w al t.heap := ⟨hT.kept (hq4 _ hwo.1) (hq4 _ hwo.2), ⟨nu, hO.kept (hq4 r hwr), hnu⟩, fun _ => ⟨hwB, v, h2, z2, hW2, hho2, hvr⟩, hpm.1, by have := hpm.2; omega⟩
      refine W.eq (g2 := F0 mi 23 ls [va_rf ((fnd (tl τ p) (lt τ p)).map κ.kn)]) rfl ?_
      cases hfd : fnd (tl τ p) (lt τ p) with
      | none =>
        refine lv_ifnullN (tgt := 30) hx hb dX5_isTerm_23 (by decide) ?_
        refine lv_iconst (v := 0) hx hb dX5_isTerm_30 (by decide) ?_
        exact W.zret hx hb hr rfl (fun t ht hW => ⟨by rw [show isTm τ p = false from by unfold isTm; rw [decide_eq_false c_5, decide_eq_true c_13, hfd]; rfl]; rfl, by rw [ht]; exact hM1, by rw [ht]; exact hq3, fun q hq => by rw [ht]; exact hq4 q (fun z => hq ⟨z, by omega⟩)⟩) (fun q hq => by rw [show q.base = w from hL q hq]; exact hwB) dX5_isTerm_31 hlk
      | some kf =>
        refine lv_ifnull (x := κ.kn kf) hx hb dX5_isTerm_23 ?_
        refine lv_iconst (v := 1) hx hb dX5_isTerm_26 (by decide) ?_
        refine lv_goto (tgt := 31) hx hb dX5_isTerm_27 (by decide) ?_
        exact W.zret hx hb hr rfl (fun t ht hW => ⟨by rw [show isTm τ p = true from by unfold isTm; rw [decide_eq_false c_5, decide_eq_true c_13, hfd]; rfl]; rfl, by rw [ht]; exact hM1, by rw [ht]; exact hq3, fun q hq => by rw [ht]; exact hq4 q (fun z => hq ⟨z, by omega⟩)⟩) (fun q hq => by rw [show q.base = w from hL q hq]; exact hwB) dX5_isTerm_31 hlk

set_option maxHeartbeats 4000000 in
theorem metX5_wrong (l : Launch) (κ : Kg) (o : Nat) (τ : Tp) (r p : Nat) (tm : Int32) (w al : Nat) : Met l yX5_wrong (ws_ yX5_wrong cX5_wrong 1 (some (.object "HomeRoll$Wrong"))) (rmC 4 1 8) (xP κ (RT κ o τ r p tm w al) [.ref r]) (wrQ κ τ p) 1 8 noA := by
  refine xM_start RX5 (by decide) rfl (Nat.le_of_ble_eq_true rfl) ?_
  intro pg ev s0 mi bl me co hx hb hml hown hts hr hlk hnm hK hM ls hl
  have hl : lv_has ls 1 [(0, .ref r)] := hl
  have hM0 := hM
  obtain ⟨hT, ⟨nu, hO, hnu⟩, hwd, hpm⟩ := hM
  refine ob_new (C := RX6) (T := TX6) (N := 8) (ci := 5) hx hb hts in_X6 tyX6 tyX6_ok hown q750 q751 q87 hK.1.1 rfl (by show 0 + 1 ≤ 1; omega) (by show 0 + 8 ≤ 8; omega) dX5_wrong_0 (fun H1 hN hz1 ho1 => ?_)
  have hO := hO.kept (ho1 r hO.lt)
  have hK1 : KZ κ s0 H1 := hK.to (fun q hq => ho1 q (by have := hK.2.2; omega)) (by have := hK.2.2; omega)
  refine lv_dup hx hb dX5_wrong_3 rfl ?_
  refine lv_aload_n hx hb dX5_wrong_4 rfl (lv_at hl 0 rfl) ?_
  refine ob_get (C := RX5) (T := TX5) (N := 8) (ci := 4) (v := .int (ts τ p)) hx hb hts in_X5 hown hK.1.1 hO rfl 1 (by decide) q431 (fun x h => h) rfl dX5_wrong_5 ?_
  refine lv_iconst (v := 3) hx hb dX5_wrong_8 (by decide) ?_
  refine lv_icmp_ne (tgt := 16) hx hb dX5_wrong_9 (by decide) (fun c_9 => ?_) (fun c_9 => ?_)
  · skip
    refine lv_iconst (v := 2) hx hb dX5_wrong_16 (by decide) ?_
    refine lv_aload_n hx hb dX5_wrong_17 rfl (lv_at hl 0 rfl) ?_
    refine ob_get (C := RX5) (T := TX5) (N := 8) (ci := 4) (v := .int (nI (ws τ p))) hx hb hts in_X5 hown hK.1.1 hO rfl 2 (by decide) q432 (fun x h => h) rfl dX5_wrong_18 ?_
    refine ob_called (x_runI (n := 2) (As := [.int 2, .int (nI (ws τ p))]) (rest := [.ref s0.heap.size]) hx hb hml hown hts (metX6_init l κ s0.heap.size 2 (nI (ws τ p)) hK.2.2) q787 q788 q87 q789 rfl (by decide +kernel) (by decide) (by decide) rfl hK1 hN hl.1 (Nat.le_of_ble_eq_true rfl) rfl dX5_wrong_21 ⟨by show 0 + 1 + 0 ≤ 1; omega, by show 0 + 8 + 0 ≤ 8; omega⟩) (Nat.le_refl _) (fun H2 hN hz2 hq2 => ?_)
    exact W.aret hx hb hr (Or.inl ⟨_, rfl⟩) (Or.inr ⟨_, rfl⟩) (fun t ht hW => ⟨rfl, by rw [ht, show eKd τ p = 2 from if_neg c_9]; exact hN, by rw [ht]; omega, fun q hq => by rw [ht, hq2 q (by omega), ho1 q hq]⟩) (fun q h => by cases h) dX5_wrong_24 hlk
  · skip
    refine lv_iconst (v := 1) hx hb dX5_wrong_12 (by decide) ?_
    refine lv_goto (tgt := 17) hx hb dX5_wrong_13 (by decide) ?_
    refine lv_aload_n hx hb dX5_wrong_17 rfl (lv_at hl 0 rfl) ?_
    refine ob_get (C := RX5) (T := TX5) (N := 8) (ci := 4) (v := .int (nI (ws τ p))) hx hb hts in_X5 hown hK.1.1 hO rfl 2 (by decide) q432 (fun x h => h) rfl dX5_wrong_18 ?_
    refine ob_called (x_runI (n := 2) (As := [.int 1, .int (nI (ws τ p))]) (rest := [.ref s0.heap.size]) hx hb hml hown hts (metX6_init l κ s0.heap.size 1 (nI (ws τ p)) hK.2.2) q787 q788 q87 q789 rfl (by decide +kernel) (by decide) (by decide) rfl hK1 hN hl.1 (Nat.le_of_ble_eq_true rfl) rfl dX5_wrong_21 ⟨by show 0 + 1 + 0 ≤ 1; omega, by show 0 + 8 + 0 ≤ 8; omega⟩) (Nat.le_refl _) (fun H2 hN hz2 hq2 => ?_)
    exact W.aret hx hb hr (Or.inl ⟨_, rfl⟩) (Or.inr ⟨_, rfl⟩) (fun t ht hW => ⟨rfl, by rw [ht, show eKd τ p = 1 from if_pos c_9]; exact hN, by rw [ht]; omega, fun q hq => by rw [ht, hq2 q (by omega), ho1 q hq]⟩) (fun q h => by cases h) dX5_wrong_24 hlk
