/-! java.lang.StringBuilder.toString, with String's constructor. By tools/gen_s3.py -/
set_option maxRecDepth 100000
section S3
variable {p : Program} {l : Launch} {e : Env} {R : Room} {s : State} {m : MethodId} {args : Array Value} {below : List Frame} {meth : Method} {c : Code} {H : Heap} {locs : List Loc} {cells slots : Nat} {Q : State → Prop}
variable {cc : ByteArray} {pc : Nat} {ls : Array Slot} {rest : List Value} {κ : Kg} {P : Heap → Prop} {a : Nat} {H0 : Heap} {A : Nat → Prop}
/-- a method that an heir's own one overrides -/
theorem x_runO {own C : String} {x y : MethodName} {b b0 : ByteArray} {L L0 d d' n idx nL mc ms mc' ms' : Nat} {ret ret0 : Option FieldType} {As : List Value} {Qc : Array Value → State → Outcome → State → Prop} {free : Addr → Prop} {st0 : List Value} (hexec : p.tables.exec = Jvm.exec) (hb : c.code = cc) (hml : c.maxLocals = nL) (hown : s.vm.findClass own = some m.cls) (hts : ∀ w ∈ lw_all, w.before args s = true)
    (hMet : Met l y (ws_ y b L ret) (rmC d' mc' ms') (xP κ P (.ref a :: As)) Qc mc' ms' free) (h1 : Cond.methodLink own idx x ∈ lw_all) (h0 : Cond.sameMethod x.cls x.cls x.name x.desc ∈ lw_all) (hx2 : Cond.instanceMethod x ∈ lw_all) (hx5 : Cond.code x b0 L0 ret0 ∈ lw_all) (h2 : Cond.instanceMethod y ∈ lw_all) (h3 : Cond.selects C x y ∈ lw_all) (h4 : Cond.initialized y.cls ∈ lw_all) (h5 : Cond.code y b L ret ∈ lw_all)
    (hd : x.cls ≠ "java/lang/invoke/MethodHandle" ∧ x.cls ≠ "java/lang/invoke/VarHandle" ∧ (parseMethodDescriptor x.desc).map (fun d => d.parameters.length) = some n) (hdd : d' < d) (hL : L ≤ 41) (hn : As.length = n) (hK : KZ κ s H) (hM : P H) (hrecv : ∃ cell : Cell, H[a]? = some cell ∧ cell.vm.isStatics = false ∧ s.vm.findClass C = some cell.cls) (hls : ls.size = nL) (hrest : (rest.map fun v => v.category).sum ≤ 8) (hst : st0 = As.reverse ++ .ref a :: rest) (hdg : decode cc pc = .ok (.invokevirtual idx, 3)) (hf : cells + mc' ≤ mc ∧ slots + ms' ≤ ms) :
    va_Run p l e (rmC d mc ms) s m args below meth c H locs cells slots mc' ms' (F0 m pc ls st0) rest (Qc (Value.ref a :: As).toArray) free :=
  va_runU (C := C) (owner := x.cls) ⟨hexec, hb, hml, hown, hts⟩ hMet (va_cwO (x := x) n hts (fun w hw => by
    unfold va_wsO at hw
    rcases List.mem_append.mp hw with h | h
    · simp only [List.mem_cons, List.not_mem_nil, or_false] at h
      rcases h with rfl | rfl | rfl | rfl | rfl | rfl
      · exact lw_self _ h1
      · exact lw_self _ h0
      · exact lw_self _ hx2
      · exact lw_self _ h3
      · exact lw_self _ h2
      · exact lw_self _ h4
    · exact lw_meth h5 w h) rfl rfl rfl hx5 hd (rmC_ok hdd hL)) ⟨xP_blind, hrecv, fun U hU hW => ⟨rfl, by rw [hU]; exact hM, hK.pre hU hW⟩⟩ rfl hn hls hst (lv_room hrest) hdg hf
end S3
/-- the letters of a text, none behind its end -/
def cutT (n : Nat) (t : Nat → Int32) : Nat → Int32 := fun j => if j < n then t j else 0
theorem cutT2 (n : Nat) (t : Nat → Int32) : (fun j => Value.int (if j < n then (if j < n then t j else 0) else 0)) = fun j => Value.int (cutT n t j) := by
  funext j; unfold cutT; by_cases h : j < n <;> simp only [h, if_true, if_false]
theorem cutT_fit {n : Nat} {t : Nat → Int32} (h : ∀ j, j < n → isL (t j)) (j : Nat) : fits .byte (.int (if j < n then t j else 0)) = true := by
  by_cases hj : j < n
  · rw [if_pos hj]; exact (h j hj).fit
  · rw [if_neg hj]; rfl
def tiP (κ : Kg) (w b v n sz : Nat) (tt : Nat → Int32) (H : Heap) : Prop := H.size = sz ∧ t_OB w (κ.D.1 14) 4 (κ.D.2 14) H (fun k => defaultValue (tyJ5 k)) ∧ SB κ b v n tt H ∧ w ≠ b ∧ w ≠ v
def tiQ (κ : Kg) (w n : Nat) (tt : Nat → Int32) : Array Value → State → Outcome → State → Prop := fun _ st oc t => oc = .returned none ∧ WS κ w st.heap.size n (cutT n tt) 0 0 t.heap ∧ t.heap.size = st.heap.size + 1 ∧ ∀ q : Nat, q < st.heap.size → q ≠ w → t.heap[q]? = st.heap[q]?
def fr4 (w v sz : Nat) : Nat → Prop := fun q => q = w ∨ q = v ∨ sz ≤ q

set_option maxHeartbeats 4000000 in
theorem metJ4_length (l : Launch) (κ : Kg) (b v n : Nat) (tt : Nat → Int32) : Met l yJ4_length (ws_ yJ4_length cJ4_length 1 (some .int)) (rmC 1 0 0) (xP κ (SB κ b v n tt) [.ref b]) (rQ (some (.int (nI n)))) 0 0 noA := by
  refine xM_start RJ4 (by decide) rfl (Nat.le_of_ble_eq_true rfl) ?_
  intro pg ev s0 mi bl me co hx hb hml hown hts hr hlk hnm hK hM ls hl
  have hl : lv_has ls 1 [(0, .ref b)] := hl
  refine lv_aload_n hx hb dJ4_length_0 rfl (lv_at hl 0 rfl) ?_
  refine ro_call (x_runSU (C := RJ4) (n := 0) (As := []) (rest := []) (classAt hK.1.1 (ci := 13) rfl) hx hb hml hown hts (metJ3_length l κ b v n tt) q619 q615 q614 q501 q74 q620 (by decide +kernel) (by decide) (by decide) rfl hK hM (ob_recv hK.1.1 rfl hM.1) hl.1 (Nat.le_of_ble_eq_true rfl) rfl dJ4_length_1 ⟨Nat.le_refl _, Nat.le_refl _⟩) ?_
  exact iret_ro hx hb hr hlk rfl dJ4_length_4

set_option maxHeartbeats 4000000 in
theorem metJ5_init_2 (l : Launch) (κ : Kg) (w b v n sz : Nat) (tt : Nat → Int32) (hn : n ≤ 8) (hL0 : ∀ j, j < n → isL (tt j)) (hwB : κ.base ≤ w) : Met l yJ5_init_2 (ws_ yJ5_init_2 cJ5_init_2 5 none) (rmC 3 1 n) (xP κ (tiP κ w b v n sz tt) [.ref w, .ref b, .null]) (tiQ κ w n tt) 1 n (fr4 w v sz) := by
  refine xM_start RJ5 (by decide) rfl (Nat.le_of_ble_eq_true rfl) ?_
  intro pg ev s0 mi bl me co hx hb hml hown hts hr hlk hnm hK hM ls hl
  have hl : lv_has ls 5 [(0, .ref w), (1, .ref b), (2, .null)] := hl
  obtain ⟨hsz, hW0, hB, hwb, hwv⟩ := hM
  subst hsz
  have hW00 := hW0
  have hB0 := hB
  obtain ⟨hO, hX, hbv⟩ := hB0
  have hS : va_S (fr4 w v s0.heap.size) s0.heap s0.heap [] := va_S.rf
  refine lv_aload_n hx hb dJ5_init_2_0 rfl (lv_at hl 0 rfl) ?_
  refine W.objInit hx hb hown (hts _ q607) (hts _ q102) (hts _ q103) rfl (by rw [hml]; exact hl.1) rfl dJ5_init_2_1 (Nat.le_of_ble_eq_true rfl) (Nat.le_of_ble_eq_true rfl) ?_
  refine W.eq (g2 := F0 mi 4 ls []) rfl ?_
  refine lv_aload_n hx hb dJ5_init_2_4 rfl (lv_at hl 1 rfl) ?_
  refine ro_call (x_runU (C := RJ4) (n := 0) (As := []) (rest := []) hx hb hml hown hts (metJ3_getValue l κ b v n tt) q608 q610 q609 (hts _ q611) q74 q612 (by decide +kernel) (by decide) (by decide) rfl hK hB (ob_recv hK.1.1 rfl hO) hl.1 (Nat.le_of_ble_eq_true rfl) rfl dJ5_init_2_5 ⟨Nat.zero_le _, Nat.zero_le _⟩) ?_
  refine lv_astore_n (lv' := [(3, .ref v), (0, .ref w), (1, .ref b), (2, .null)]) hx hb dJ5_init_2_8 rfl hl (by decide) rfl (fun ls hl => ?_)
  refine lv_aload_n hx hb dJ5_init_2_9 rfl (lv_at hl 2 rfl) ?_
  refine ro_call (x_runO (C := RJ4) (x := yJ3_length) (n := 0) (As := []) (rest := []) hx hb hml hown hts (metJ4_length l κ b v n tt) q613 q615 q614 q620 q617 q616 q75 q618 (by decide +kernel) (by decide) (by decide) rfl hK hB (ob_recv hK.1.1 rfl hO) hl.1 (Nat.le_of_ble_eq_true rfl) rfl dJ5_init_2_10 ⟨Nat.zero_le _, Nat.zero_le _⟩) ?_
  refine lv_istore (lv' := [(4, .int (nI n)), (3, .ref v), (0, .ref w), (1, .ref b), (2, .null)]) hx hb dJ5_init_2_13 hl (by decide) rfl (fun ls hl => ?_)
  refine lv_aload_n hx hb dJ5_init_2_15 rfl (lv_at hl 3 rfl) ?_
  refine ro_call (x_runU (C := RJ4) (n := 0) (As := []) (rest := []) hx hb hml hown hts (metJ3_isLatin1 l κ b v n tt) q621 q544 q543 (hts _ q545) q74 q546 (by decide +kernel) (by decide) (by decide) rfl hK hB (ob_recv hK.1.1 rfl hO) hl.1 (Nat.le_of_ble_eq_true rfl) rfl dJ5_init_2_16 ⟨Nat.zero_le _, Nat.zero_le _⟩) ?_
  refine lv_if_eq (tgt := 41) hx hb dJ5_init_2_19 (by decide) (fun c_19 => ?_) (fun c_19 => ?_)
  · skip
    exact absurd c_19 (by decide)
  · skip
    refine lv_aload_n hx hb dJ5_init_2_22 rfl (lv_at hl 2 rfl) ?_
    refine lv_iconst (v := 0) hx hb dJ5_init_2_23 (by decide) ?_
    refine ob_putF (C := RJ5) (T := TJ5) (N := 4) (ci := 14) (v := .int 0) hx hb hts in_J5 tyJ5 tyJ5_ok nmJ5 hown hK.1.1 hW0 hS (Or.inl rfl) rfl 1 (by decide) q646 (fun x h => h) rfl hnm rfl rfl rfl dJ5_init_2_24 (fun H1 locsH1 hW0 hqH1 hzH1 hS => ?_)
    have hK1 : KZ κ s0 H1 := hK.to (fun q hq => hqH1 q (by omega)) (by have := hK.2.2; omega)
    have hX1 : H1[v]? = some (arrV (κ.cA 1) 8 (fun j => .int (if j < n then tt j else 0))) := by rw [hqH1 v (Ne.symm hwv)]; exact hX
    refine lv_aload_n hx hb dJ5_init_2_27 rfl (lv_at hl 2 rfl) ?_
    refine lv_aload_n hx hb dJ5_init_2_28 rfl (lv_at hl 1 rfl) ?_
    refine lv_iconst (v := 0) hx hb dJ5_init_2_29 (by decide) ?_
    refine lv_iload hx hb dJ5_init_2_30 (lv_at hl 0 rfl) ?_
    refine x_called (x_runS (n := 3) (As := [.ref v, .int 0, .int (nI n)]) (rest := [.ref w]) hx hb hml hown hts (metJ9_copyOfRange l κ v n s0.heap.size (fun j => if j < n then tt j else 0) hn (cutT_fit hL0)) q622 q623 q80 q624 (by decide +kernel) (by decide) (by decide) rfl hK1 ⟨hzH1, hX1⟩ hl.1 (Nat.le_of_ble_eq_true rfl) rfl dJ5_init_2_32 ⟨by show 0 + 1 ≤ 1; omega, by show 0 + n ≤ n; omega⟩) (fun v2 st t L hst hq hvm hL => ?_)
    obtain ⟨hv, hq2, hq3, hq4⟩ := hq
    cases hv
    rw [hst, hzH1] at hq2 hq3 hq4
    refine W.eq (g2 := F0 mi 35 ls (.ref s0.heap.size :: [.ref w])) (by rw [hst, hzH1]; rfl) ?_
    rw [cutT2] at hq2
    have hwl : w < s0.heap.size := by obtain ⟨cell, hc, -⟩ := hW00; exact (Array.getElem?_eq_some_iff.mp hc).1
    have hW0 := hW0.kept (hq4 w hwl)
    have hS : va_S (fr4 w v s0.heap.size) s0.heap t.heap (locsH1 ++ L) := ⟨by omega, fun q h1 h2 => by rw [hq4 q h1]; exact hqH1 q (fun z => h2 (Or.inl z)), fun q hq => by rcases List.mem_append.mp hq with z | z; (· exact hS.2.2 q z); (· exact Or.inr (hL q z))⟩
    refine ob_putF (C := RJ5) (T := TJ5) (N := 4) (ci := 14) (v := .ref s0.heap.size) hx hb hts in_J5 tyJ5 tyJ5_ok nmJ5 hown hK.1.1 hW0 hS (Or.inl rfl) rfl 0 (by decide) q645 (fun x h => h) rfl hnm rfl rfl rfl dJ5_init_2_35 (fun H2 locsH2 hW0 hqH2 hzH2 hS => ?_)
    refine lv_goto (tgt := 97) hx hb dJ5_init_2_38 (by decide) ?_
    refine W.widen (k := 1) (n := n) (by omega) (by omega) ?_
    exact W.vret hx hb hr (fun t2 ht hW => ⟨rfl, ⟨by rw [ht]; exact hW0.to fun k hk => by rcases (show k = 0 ∨ k = 1 ∨ k = 2 ∨ k = 3 by omega) with rfl | rfl | rfl | rfl <;> rfl, by rw [ht, hqH2 _ (by omega)]; exact hq2⟩, by rw [ht]; omega, fun q h1 h2 => by rw [ht, hqH2 q h2, hq4 q h1, hqH1 q h2]⟩) hS.2.2 dJ5_init_2_97 hlk

set_option maxHeartbeats 4000000 in
theorem metJ5_init (l : Launch) (κ : Kg) (w b v n sz : Nat) (tt : Nat → Int32) (hn : n ≤ 8) (hL0 : ∀ j, j < n → isL (tt j)) (hwB : κ.base ≤ w) : Met l yJ5_init (ws_ yJ5_init cJ5_init 2 none) (rmC 4 1 n) (xP κ (tiP κ w b v n sz tt) [.ref w, .ref b]) (tiQ κ w n tt) 1 n (fr4 w v sz) := by
  refine xM_start RJ5 (by decide) rfl (Nat.le_of_ble_eq_true rfl) ?_
  intro pg ev s0 mi bl me co hx hb hml hown hts hr hlk hnm hK hM ls hl
  have hl : lv_has ls 2 [(0, .ref w), (1, .ref b)] := hl
  have hsz : s0.heap.size = sz := hM.1
  refine lv_aload_n hx hb dJ5_init_0 rfl (lv_at hl 0 rfl) ?_
  refine lv_aload_n hx hb dJ5_init_1 rfl (lv_at hl 1 rfl) ?_
  refine lv_null hx hb dJ5_init_2 ?_
  refine x_called (x_runI (n := 2) (As := [.ref b, .null]) (rest := []) hx hb hml hown hts (metJ5_init_2 l κ w b v n s0.heap.size tt hn hL0 hwB) q604 q605 q76 q606 rfl (by decide +kernel) (by decide) (by decide) rfl hK ⟨rfl, hM.2⟩ hl.1 (Nat.le_of_ble_eq_true rfl) rfl dJ5_init_3 ⟨by show 0 + 1 ≤ 1; omega, by show 0 + n ≤ n; omega⟩) (fun v2 st t L hst hq hvm hL => ?_)
  obtain ⟨hv, hq2, hq3, hq4⟩ := hq
  cases hv
  rw [hst] at hq2 hq3 hq4
  refine W.eq (g2 := F0 mi 6 ls []) rfl ?_
  refine W.widen (k := 1) (n := n) (by omega) (by omega) ?_
  exact W.vret hx hb hr (fun t2 ht hW => ⟨rfl, by rw [ht]; exact hq2, by rw [ht]; exact hq3, fun q h1 h2 => by rw [ht]; exact hq4 q h1 h2⟩) (fun q hq => by have := hL q hq; rw [hsz] at this; exact this) dJ5_init_6 hlk

def tsP (κ : Kg) (b v n sz : Nat) (tt : Nat → Int32) (H : Heap) : Prop := H.size = sz ∧ SB κ b v n tt H
/-- toString: the text at the heap's old end -/
def tsQ (κ : Kg) (n : Nat) (tt : Nat → Int32) : Array Value → State → Outcome → State → Prop := fun _ st oc t => oc = .returned (some (.ref st.heap.size)) ∧ WS κ st.heap.size (st.heap.size + 1) n (cutT n tt) 0 0 t.heap ∧ t.heap.size = st.heap.size + 2 ∧ ∀ q : Nat, q < st.heap.size → t.heap[q]? = st.heap[q]?

set_option maxHeartbeats 4000000 in
theorem metJ4_toString (l : Launch) (κ : Kg) (b v n sz : Nat) (tt : Nat → Int32) (hn : n ≤ 8) (hL0 : ∀ j, j < n → isL (tt j)) : Met l yJ4_toString (ws_ yJ4_toString cJ4_toString 1 (some (.object "java/lang/String"))) (rmC 5 2 (n + 4)) (xP κ (tsP κ b v n sz tt) [.ref b]) (tsQ κ n tt) 2 (n + 4) (frX v sz) := by
  refine xM_start RJ4 (by decide) rfl (Nat.le_of_ble_eq_true rfl) ?_
  intro pg ev s0 mi bl me co hx hb hml hown hts hr hlk hnm hK hM ls hl
  have hl : lv_has ls 1 [(0, .ref b)] := hl
  obtain ⟨hsz, hO, hX, hbv⟩ := hM
  subst hsz
  refine ob_new (C := RJ5) (T := TJ5) (N := 4) (ci := 14) hx hb hts in_J5 tyJ5 tyJ5_ok hown q599 q600 q76 hK.1.1 rfl (by show 0 + 1 ≤ 2; omega) (by show 0 + 4 ≤ n + 4; omega) dJ4_toString_0 (fun H1 hW0 hz1 ho1 => ?_)
  have hbl : b < s0.heap.size := by obtain ⟨cell, hc, -⟩ := hO; exact (Array.getElem?_eq_some_iff.mp hc).1
  have hvl : v < s0.heap.size := (Array.getElem?_eq_some_iff.mp hX).1
  have hK1 : KZ κ s0 H1 := hK.to (fun q hq => ho1 q (by have := hK.2.2; omega)) (by have := hK.2.2; omega)
  refine lv_dup hx hb dJ4_toString_3 rfl ?_
  refine lv_aload_n hx hb dJ4_toString_4 rfl (lv_at hl 0 rfl) ?_
  refine x_called (x_runI (n := 1) (As := [.ref b]) (rest := [.ref s0.heap.size]) hx hb hml hown hts (metJ5_init l κ s0.heap.size b v n (s0.heap.size + 1) tt hn hL0 hK.2.2) q601 q602 q76 q603 rfl (by decide +kernel) (by decide) (by decide) rfl hK1 ⟨hz1, hW0, ⟨hO.kept (ho1 b hbl), by rw [ho1 v hvl]; exact hX, hbv⟩, by omega, by omega⟩ hl.1 (Nat.le_of_ble_eq_true rfl) rfl dJ4_toString_5 ⟨by show 0 + 1 + 1 ≤ 2; omega, by show 0 + 4 + n ≤ n + 4; omega⟩) (fun v2 st t L hst hq hvm hL => ?_)
  obtain ⟨hv, hq2, hq3, hq4⟩ := hq
  cases hv
  rw [hst, hz1] at hq2 hq3
  rw [hst] at hq4
  refine W.eq (g2 := F0 mi 8 ls [.ref s0.heap.size]) rfl ?_
  refine W.widen (k := 2) (n := n + 4) (by omega) (by omega) ?_
  exact W.aret hx hb hr (Or.inl ⟨_, rfl⟩) (Or.inr ⟨_, rfl⟩) (fun t2 ht hW => ⟨rfl, by rw [ht]; exact hq2, by rw [ht]; omega, fun q h1 => by rw [ht, hq4 q (by omega) (by omega), ho1 q h1]⟩) (fun q hq => by have h := hL q hq; unfold fr4 at h; unfold frX; rcases h with z | z | z; (· exact Or.inr (by omega)); (· exact Or.inl z); (· exact Or.inr (by omega))) dJ4_toString_8 hlk
