/-! java.lang.StringBuilder: <init>, append. By tools/gen_s1.py -/
set_option maxRecDepth 100000

/-- a builder made -/
def sbQ (κ : Kg) (b : Nat) : Array Value → State → Outcome → State → Prop := fun _ st oc t => oc = .returned none ∧ (∀ tt, SB κ b st.heap.size 0 tt t.heap) ∧ t.heap.size = st.heap.size + 1 ∧ ∀ q : Nat, q < st.heap.size → q ≠ b → t.heap[q]? = st.heap[q]?

set_option maxHeartbeats 4000000 in
theorem metJ3_init (l : Launch) (κ : Kg) (b : Nat) : Met l yJ3_init (ws_ yJ3_init cJ3_init 2 none) (rmC 1 1 8) (xP κ (fun H => t_OB b (κ.D.1 13) 4 (κ.D.2 13) H (fun k => defaultValue (tyJ4 k))) [.ref b, .int 8]) (sbQ κ b) 1 8 (fun q => q = b) := by
  refine xM_start RJ3 (by decide) rfl (Nat.le_of_ble_eq_true rfl) ?_
  intro pg ev s0 mi bl me co hx hb hml hown hts hr hlk hnm hK hM ls hl
  have hl : lv_has ls 2 [(0, .ref b), (1, .int 8)] := hl
  have hO := hM
  have hS : va_S (fun q => q = b) s0.heap s0.heap [] := va_S.rf
  refine lv_aload_n hx hb dJ3_init_0 rfl (lv_at hl 0 rfl) ?_
  refine W.objInit hx hb hown (hts _ q479) (hts _ q102) (hts _ q103) rfl (by rw [hml]; exact hl.1) rfl dJ3_init_1 (Nat.le_of_ble_eq_true rfl) (Nat.le_of_ble_eq_true rfl) ?_
  refine W.eq (g2 := F0 mi 4 ls []) rfl ?_
  refine x_gets (v := .int 1) hx hb hK.2.1.1 hown hts q480 (fun x h => h) dJ3_init_4 ?_
  refine lv_if_eq (tgt := 25) hx hb dJ3_init_7 (by decide) (fun c_7 => ?_) (fun c_7 => ?_)
  · skip
    exact absurd c_7 (by decide)
  · skip
    refine lv_aload_n hx hb dJ3_init_10 rfl (lv_at hl 0 rfl) ?_
    refine lv_iload_n hx hb dJ3_init_11 rfl (lv_at hl 1 rfl) ?_
    refine ar_new (atype := .byte) (N := 8) hx hb hts q132 hK.1.1 1 rfl (fun U k h => h) (by decide) (by decide) (by decide) (by show 0 + 1 ≤ 1; omega) (by show 0 + 8 ≤ 8; omega) dJ3_init_12 (fun H1 hX hz1 ho1 => ?_)
    have hOa : b < s0.heap.size := by obtain ⟨cell, hc, -⟩ := hO; exact (Array.getElem?_eq_some_iff.mp hc).1
    have hO := hO.kept (ho1 b hOa)
    have hS := hS.grow (by omega) ho1
    refine ob_put (C := RJ4) (T := TJ4) (N := 4) (ci := 13) (v := .ref s0.heap.size) hx hb hts in_J4 tyJ4 tyJ4_ok nmJ4 hown hK.1.1 hO hS rfl rfl 0 (by decide) q489 (fun x h => h) rfl rfl rfl dJ3_init_14 (fun H2 locsH2 hO hqH2 hzH2 hS => ?_)
    refine lv_aload_n hx hb dJ3_init_17 rfl (lv_at hl 0 rfl) ?_
    refine lv_iconst (v := 0) hx hb dJ3_init_18 (by decide) ?_
    refine ob_put (C := RJ4) (T := TJ4) (N := 4) (ci := 13) (v := .int 0) hx hb hts in_J4 tyJ4 tyJ4_ok nmJ4 hown hK.1.1 hO hS rfl rfl 1 (by decide) q490 (fun x h => h) rfl rfl rfl dJ3_init_19 (fun H3 locsH3 hO hqH3 hzH3 hS => ?_)
    refine lv_goto (tgt := 38) hx hb dJ3_init_22 (by decide) ?_
    refine W.widen (k := 1) (n := 8) (by omega) (by omega) ?_
    exact W.vret hx hb hr (fun t ht hW => ⟨rfl, fun tt => ⟨by rw [ht]; exact hO.to fun k hk => by rcases (show k = 0 ∨ k = 1 ∨ k = 2 ∨ k = 3 by omega) with rfl | rfl | rfl | rfl <;> rfl, by rw [ht, hqH3 _ (by omega), hqH2 _ (by omega), hX]; rfl, by omega⟩, by rw [ht]; omega, fun q h1 h2 => by rw [ht, hqH3 q h2, hqH2 q h2, ho1 q (by omega)]⟩) hS.2.2 dJ3_init_38 hlk

set_option maxHeartbeats 4000000 in
theorem metJ4_init (l : Launch) (κ : Kg) (b : Nat) : Met l yJ4_init (ws_ yJ4_init cJ4_init 2 none) (rmC 2 1 8) (xP κ (fun H => t_OB b (κ.D.1 13) 4 (κ.D.2 13) H (fun k => defaultValue (tyJ4 k))) [.ref b, .int 8]) (sbQ κ b) 1 8 (fun q => q = b) := by
  refine xM_start RJ4 (by decide) rfl (Nat.le_of_ble_eq_true rfl) ?_
  intro pg ev s0 mi bl me co hx hb hml hown hts hr hlk hnm hK hM ls hl
  have hl : lv_has ls 2 [(0, .ref b), (1, .int 8)] := hl
  refine lv_aload_n hx hb dJ4_init_0 rfl (lv_at hl 0 rfl) ?_
  refine lv_iload_n hx hb dJ4_init_1 rfl (lv_at hl 1 rfl) ?_
  refine x_called (x_runI (n := 1) (As := [.int 8]) (rest := []) hx hb hml hown hts (metJ3_init l κ b) q476 q477 q74 q478 rfl (by decide +kernel) (by decide) (by decide) rfl hK hM hl.1 (Nat.le_of_ble_eq_true rfl) rfl dJ4_init_2 ⟨by decide, by decide⟩) (fun v st t L hst hq hvm hL => ?_)
  obtain ⟨hv, hq2, hq3, hq4⟩ := hq
  cases hv
  rw [hst] at hq2 hq3 hq4
  refine W.eq (g2 := F0 mi 5 ls []) rfl ?_
  refine W.widen (k := 1) (n := 8) (by omega) (by omega) ?_
  exact W.vret hx hb hr (fun t2 ht hW => ⟨rfl, fun tt => by rw [ht]; exact hq2 tt, by rw [ht]; exact hq3, fun q h1 h2 => by rw [ht]; exact hq4 q h1 h2⟩) (fun q hq => hL q hq) dJ4_init_5 hlk

set_option maxHeartbeats 4000000 in
theorem metJ3_ensureCapacityInternal (l : Launch) (κ : Kg) (b v n : Nat) (tt : Nat → Int32) (hn : n < 8) : Met l yJ3_ensureCapacityInternal (ws_ yJ3_ensureCapacityInternal cJ3_ensureCapacityInternal 3 none) (rmC 0 0 0) (xP κ (SB κ b v n tt) [.ref b, .int (nI (n + 1))]) (rQ none) 0 0 noA := by
  refine xM_start RJ3 (by decide) rfl (Nat.le_of_ble_eq_true rfl) ?_
  intro pg ev s0 mi bl me co hx hb hml hown hts hr hlk hnm hK hM ls hl
  have hl : lv_has ls 3 [(0, .ref b), (1, .int (nI (n + 1)))] := hl
  have hle : ∀ n, n < 8 → nI (n + 1) - nI 8 ≤ 0 := by decide +kernel
  obtain ⟨hO, hX, hbv⟩ := hM
  refine lv_aload_n hx hb dJ3_ensureCapacityInternal_0 rfl (lv_at hl 0 rfl) ?_
  refine ob_get (C := RJ4) (T := TJ4) (N := 4) (ci := 13) (v := .ref v) hx hb hts in_J4 hown hK.1.1 hO rfl 0 (by decide) q489 (fun x h => h) rfl dJ3_ensureCapacityInternal_1 ?_
  refine W.alen (n := nI 8) (ty := .byte) hx hb hX ((hK.1.1.2 1 _ rfl).1 8 _) (by rw [arrV_size]; rfl) rfl rfl dJ3_ensureCapacityInternal_4 ?_
  refine W.eq (g2 := F0 mi 5 ls [.int (nI 8)]) rfl ?_
  refine lv_aload_n hx hb dJ3_ensureCapacityInternal_5 rfl (lv_at hl 0 rfl) ?_
  refine ob_get (C := RJ4) (T := TJ4) (N := 4) (ci := 13) (v := .int 0) hx hb hts in_J4 hown hK.1.1 hO rfl 1 (by decide) q490 (fun x h => h) rfl dJ3_ensureCapacityInternal_6 ?_
  refine lv_ishr hx hb dJ3_ensureCapacityInternal_9 ?_
  refine v_eqi (show nI 8 >>> ((0 : Int32) &&& 31) = nI 8 by decide) ?_
  refine lv_istore_n (lv' := [(2, .int (nI 8)), (0, .ref b), (1, .int (nI (n + 1)))]) hx hb dJ3_ensureCapacityInternal_10 rfl hl (by decide) rfl (fun ls hl => ?_)
  refine lv_iload_n hx hb dJ3_ensureCapacityInternal_11 rfl (lv_at hl 2 rfl) ?_
  refine lv_iload_n hx hb dJ3_ensureCapacityInternal_12 rfl (lv_at hl 0 rfl) ?_
  refine lv_isub hx hb dJ3_ensureCapacityInternal_13 ?_
  refine lv_if_le (tgt := 38) hx hb dJ3_ensureCapacityInternal_14 (by decide) (fun c_14 => ?_) (fun c_14 => ?_)
  · skip
    exact W.vret hx hb hr (fun t ht hW => ⟨rfl, ht⟩) (fun q h => by cases h) dJ3_ensureCapacityInternal_38 hlk
  · skip
    exact absurd (hle n hn) c_14

set_option maxHeartbeats 4000000 in
theorem metJ3_isLatin1 (l : Launch) (κ : Kg) (b v n : Nat) (tt : Nat → Int32) : Met l yJ3_isLatin1 (ws_ yJ3_isLatin1 cJ3_isLatin1 1 (some .boolean)) (rmC 0 0 0) (xP κ (SB κ b v n tt) [.ref b]) (rQ (some (.int 1))) 0 0 noA := by
  refine xM_start RJ3 (by decide) rfl (Nat.le_of_ble_eq_true rfl) ?_
  intro pg ev s0 mi bl me co hx hb hml hown hts hr hlk hnm hK hM ls hl
  have hl : lv_has ls 1 [(0, .ref b)] := hl
  obtain ⟨hO, hX, hbv⟩ := hM
  refine x_gets (v := .int 1) hx hb hK.2.1.1 hown hts q480 (fun x h => h) dJ3_isLatin1_0 ?_
  refine lv_if_eq (tgt := 17) hx hb dJ3_isLatin1_3 (by decide) (fun c_3 => ?_) (fun c_3 => ?_)
  · skip
    exact absurd c_3 (by decide)
  · skip
    refine lv_aload_n hx hb dJ3_isLatin1_6 rfl (lv_at hl 0 rfl) ?_
    refine ob_get (C := RJ4) (T := TJ4) (N := 4) (ci := 13) (v := .int 0) hx hb hts in_J4 hown hK.1.1 hO rfl 1 (by decide) q490 (fun x h => h) rfl dJ3_isLatin1_7 ?_
    refine lv_if_ne (tgt := 17) hx hb dJ3_isLatin1_10 (by decide) (fun c_10 => ?_) (fun c_10 => ?_)
    · skip
      exact absurd rfl c_10
    · skip
      refine lv_iconst (v := 1) hx hb dJ3_isLatin1_13 (by decide) ?_
      refine lv_goto (tgt := 18) hx hb dJ3_isLatin1_14 (by decide) ?_
      exact W.zret hx hb hr rfl (fun t ht hW => ⟨rfl, ht⟩) (fun q h => by cases h) dJ3_isLatin1_18 hlk

set_option maxHeartbeats 4000000 in
theorem metJ3_getValue (l : Launch) (κ : Kg) (b v n : Nat) (tt : Nat → Int32) : Met l yJ3_getValue (ws_ yJ3_getValue cJ3_getValue 1 (some (.array .byte))) (rmC 0 0 0) (xP κ (SB κ b v n tt) [.ref b]) (rQ (some (.ref v))) 0 0 noA := by
  refine xM_start RJ3 (by decide) rfl (Nat.le_of_ble_eq_true rfl) ?_
  intro pg ev s0 mi bl me co hx hb hml hown hts hr hlk hnm hK hM ls hl
  have hl : lv_has ls 1 [(0, .ref b)] := hl
  obtain ⟨hO, hX, hbv⟩ := hM
  refine lv_aload_n hx hb dJ3_getValue_0 rfl (lv_at hl 0 rfl) ?_
  refine ob_get (C := RJ4) (T := TJ4) (N := 4) (ci := 13) (v := .ref v) hx hb hts in_J4 hown hK.1.1 hO rfl 0 (by decide) q489 (fun x h => h) rfl dJ3_getValue_1 ?_
  exact W.aret hx hb hr (Or.inr ⟨_, rfl⟩) (Or.inr ⟨_, rfl⟩) (fun t ht hW => ⟨rfl, ht⟩) (fun q h => by cases h) dJ3_getValue_4 hlk

set_option maxHeartbeats 4000000 in
theorem metJ3_length (l : Launch) (κ : Kg) (b v n : Nat) (tt : Nat → Int32) : Met l yJ3_length (ws_ yJ3_length cJ3_length 1 (some .int)) (rmC 0 0 0) (xP κ (SB κ b v n tt) [.ref b]) (rQ (some (.int (nI n)))) 0 0 noA := by
  refine xM_start RJ3 (by decide) rfl (Nat.le_of_ble_eq_true rfl) ?_
  intro pg ev s0 mi bl me co hx hb hml hown hts hr hlk hnm hK hM ls hl
  have hl : lv_has ls 1 [(0, .ref b)] := hl
  obtain ⟨hO, hX, hbv⟩ := hM
  refine lv_aload_n hx hb dJ3_length_0 rfl (lv_at hl 0 rfl) ?_
  refine ob_get (C := RJ4) (T := TJ4) (N := 4) (ci := 13) (v := .int (nI n)) hx hb hts in_J4 hown hK.1.1 hO rfl 3 (by decide) q492 (fun x h => h) rfl dJ3_length_1 ?_
  exact iret_ro hx hb hr hlk rfl dJ3_length_4

set_option maxHeartbeats 4000000 in
theorem metJ10_canEncode (l : Launch) (x : Int32) (hx255 : ¬ (255 : Int32) < x) : MetS l yJ10_canEncode cJ10_canEncode 1 (some .boolean) 0 [.int x] (some (.int 1)) := by
  refine mS_start RJ10 (by decide) rfl (Nat.le_of_ble_eq_true rfl) ?_
  intro pg ev s0 mi bl me co hx hb hml hown hts hr hlk ls hl
  have hl : lv_has ls 1 [(0, .int x)] := hl
  refine lv_iload_n hx hb dJ10_canEncode_0 rfl (lv_at hl 0 rfl) ?_
  refine lv_sipush (v := 255) hx hb dJ10_canEncode_1 (by decide) ?_
  refine lv_icmp_gt (tgt := 11) hx hb dJ10_canEncode_4 (by decide) (fun c_4 => ?_) (fun c_4 => ?_)
  · skip
    exact absurd c_4 hx255
  · skip
    refine lv_iconst (v := 1) hx hb dJ10_canEncode_7 (by decide) ?_
    refine lv_goto (tgt := 12) hx hb dJ10_canEncode_8 (by decide) ?_
    exact W.zret hx hb hr rfl (fun t ht hW => ⟨rfl, ht⟩) (fun q h => by cases h) dJ10_canEncode_12 hlk

/-- a letter behind the others -/
def apQ (κ : Kg) (b v n : Nat) (tt : Nat → Int32) (x : Int32) : Array Value → State → Outcome → State → Prop := fun _ st oc t => oc = .returned (some (.ref b)) ∧ SB κ b v (n + 1) (upd tt n x) t.heap ∧ t.heap.size = st.heap.size ∧ ∀ q : Nat, q ≠ b → q ≠ v → t.heap[q]? = st.heap[q]?
theorem ap_fn (tt : Nat → Int32) (n : Nat) (x : Int32) : (fun j => Value.int (upd (fun j => if j < n then tt j else 0) n x j)) = fun j => Value.int (if j < n + 1 then upd tt n x j else 0) := by
  funext j
  unfold upd
  by_cases h : j = n
  · subst h; simp
  · by_cases h2 : j < n
    · simp only [if_neg h, if_pos h2, if_pos (show j < n + 1 by omega)]
    · simp only [if_neg h, if_neg h2, if_neg (show ¬ j < n + 1 by omega)]

set_option maxHeartbeats 4000000 in
theorem metJ3_append (l : Launch) (κ : Kg) (b v n : Nat) (tt : Nat → Int32) (x : Int32) (hn : n < 8) (hx0 : isL x) : Met l yJ3_append (ws_ yJ3_append cJ3_append 2 (some (.object "java/lang/AbstractStringBuilder"))) (rmC 1 0 0) (xP κ (SB κ b v n tt) [.ref b, .int x]) (apQ κ b v n tt x) 0 0 (fun q => q = b ∨ q = v) := by
  refine xM_start RJ3 (by decide) rfl (Nat.le_of_ble_eq_true rfl) ?_
  intro pg ev s0 mi bl me co hx hb hml hown hts hr hlk hnm hK hM ls hl
  have hl : lv_has ls 2 [(0, .ref b), (1, .int x)] := hl
  have hB := hM
  obtain ⟨hO, hX, hbv⟩ := hM
  have hS : va_S (fun q => q = b ∨ q = v) s0.heap s0.heap [] := va_S.rf
  refine lv_aload_n hx hb dJ3_append_0 rfl (lv_at hl 0 rfl) ?_
  refine lv_aload_n hx hb dJ3_append_1 rfl (lv_at hl 0 rfl) ?_
  refine ob_get (C := RJ4) (T := TJ4) (N := 4) (ci := 13) (v := .int (nI n)) hx hb hts in_J4 hown hK.1.1 hO rfl 3 (by decide) q492 (fun x h => h) rfl dJ3_append_2 ?_
  refine lv_iconst (v := 1) hx hb dJ3_append_5 (by decide) ?_
  refine lv_iadd hx hb dJ3_append_6 ?_
  refine v_eqi (nI_1 n) ?_
  refine ro_call (x_runU (C := RJ4) (n := 1) (As := [.int (nI (n + 1))]) (rest := []) hx hb hml hown hts (metJ3_ensureCapacityInternal l κ b v n tt hn) q509 q1702 q511 (va_Nw.use rfl hK.1.2.2.1.2.2.2) q74 q512 (by decide +kernel) (by decide) (by decide) rfl hK hB (ob_recv hK.1.1 rfl hO) hl.1 (Nat.le_of_ble_eq_true rfl) rfl dJ3_append_7 ⟨Nat.le_refl _, Nat.le_refl _⟩) ?_
  refine lv_aload_n hx hb dJ3_append_10 rfl (lv_at hl 0 rfl) ?_
  refine ro_call (x_runU (C := RJ4) (n := 0) (As := []) (rest := []) hx hb hml hown hts (metJ3_isLatin1 l κ b v n tt) q542 q544 q543 (hts _ q545) q74 q546 (by decide +kernel) (by decide) (by decide) rfl hK hB (ob_recv hK.1.1 rfl hO) hl.1 (Nat.le_of_ble_eq_true rfl) rfl dJ3_append_11 ⟨Nat.le_refl _, Nat.le_refl _⟩) ?_
  refine lv_if_eq (tgt := 45) hx hb dJ3_append_14 (by decide) (fun c_14 => ?_) (fun c_14 => ?_)
  · skip
    exact absurd c_14 (by decide)
  · skip
    refine lv_iload_n hx hb dJ3_append_17 rfl (lv_at hl 1 rfl) ?_
    refine ro_call (st_run (n := 1) (As := [.int x]) (rest := []) hx hb hml hown hts (metJ10_canEncode l x hx0.le) q547 q548 q82 q549 (by decide +kernel) (by decide) (by decide) rfl hl.1 (Nat.le_of_ble_eq_true rfl) rfl dJ3_append_18 ⟨Nat.le_refl _, Nat.le_refl _⟩) ?_
    refine lv_if_eq (tgt := 45) hx hb dJ3_append_21 (by decide) (fun c_21 => ?_) (fun c_21 => ?_)
    · skip
      exact absurd c_21 (by decide)
    · skip
      refine lv_aload_n hx hb dJ3_append_24 rfl (lv_at hl 0 rfl) ?_
      refine ob_get (C := RJ4) (T := TJ4) (N := 4) (ci := 13) (v := .ref v) hx hb hts in_J4 hown hK.1.1 hO rfl 0 (by decide) q489 (fun x h => h) rfl dJ3_append_25 ?_
      refine lv_aload_n hx hb dJ3_append_28 rfl (lv_at hl 0 rfl) ?_
      refine lv_dup hx hb dJ3_append_29 rfl ?_
      refine ob_get (C := RJ4) (T := TJ4) (N := 4) (ci := 13) (v := .int (nI n)) hx hb hts in_J4 hown hK.1.1 hO rfl 3 (by decide) q492 (fun x h => h) rfl dJ3_append_30 ?_
      refine lv_dup_x1 hx hb dJ3_append_33 rfl rfl ?_
      refine lv_iconst (v := 1) hx hb dJ3_append_34 (by decide) ?_
      refine lv_iadd hx hb dJ3_append_35 ?_
      refine v_eqi (nI_1 n) ?_
      refine ob_put (C := RJ4) (T := TJ4) (N := 4) (ci := 13) (v := .int (nI (n + 1))) hx hb hts in_J4 tyJ4 tyJ4_ok nmJ4 hown hK.1.1 hO hS (Or.inl rfl) rfl 3 (by decide) q492 (fun x h => h) rfl rfl rfl dJ3_append_36 (fun H1 locsH1 hO hqH1 hzH1 hS => ?_)
      have hX := (hqH1 v (Ne.symm hbv)).trans hX
      refine lv_iload_n hx hb dJ3_append_39 rfl (lv_at hl 1 rfl) ?_
      refine lv_i2b hx hb dJ3_append_40 hx0.b ?_
      refine ar_bst hx hb hK.1.1 hX hS (Or.inr rfl) (nI_in hn (by decide)) dJ3_append_41 (fun H2 locs2 hX hq2 hz2 hS => ?_)
      rw [nI_clamp (by omega), hx0.b, ap_fn] at hX
      have hO := hO.kept (hq2 b hbv)
      refine lv_goto (tgt := 75) hx hb dJ3_append_42 (by decide) ?_
      refine lv_aload_n hx hb dJ3_append_75 rfl (lv_at hl 0 rfl) ?_
      exact W.aret hx hb hr (Or.inl ⟨_, rfl⟩) (Or.inr ⟨_, rfl⟩) (fun t ht hW => ⟨rfl, ⟨by rw [ht]; exact hO.to fun k hk => by rcases (show k = 0 ∨ k = 1 ∨ k = 2 ∨ k = 3 by omega) with rfl | rfl | rfl | rfl <;> rfl, by rw [ht]; exact hX, hbv⟩, by rw [ht]; omega, fun q h1 h2 => by rw [ht, hq2 q h2, hqH1 q h1]⟩) hS.2.2 dJ3_append_76 hlk

theorem classAt {D : va_G} {cA : Nat → ClassId} {s : State} (hK : K0 D cA s) {ci : Nat} {C : String} {Tt : u_T} {N : Nat} (hc : vwCl[ci]? = some (C, Tt, N)) : ClassAt s C (D.1 ci) := (hK.1 ci _ hc).2

set_option maxHeartbeats 4000000 in
theorem metJ4_append (l : Launch) (κ : Kg) (b v n : Nat) (tt : Nat → Int32) (x : Int32) (hn : n < 8) (hx0 : isL x) : Met l yJ4_append (ws_ yJ4_append cJ4_append 2 (some (.object "java/lang/StringBuilder"))) (rmC 2 0 0) (xP κ (SB κ b v n tt) [.ref b, .int x]) (apQ κ b v n tt x) 0 0 (fun q => q = b ∨ q = v) := by
  refine xM_start RJ4 (by decide) rfl (Nat.le_of_ble_eq_true rfl) ?_
  intro pg ev s0 mi bl me co hx hb hml hown hts hr hlk hnm hK hM ls hl
  have hl : lv_has ls 2 [(0, .ref b), (1, .int x)] := hl
  have hB := hM
  obtain ⟨hO, hX, hbv⟩ := hM
  refine lv_aload_n hx hb dJ4_append_0 rfl (lv_at hl 0 rfl) ?_
  refine lv_iload_n hx hb dJ4_append_1 rfl (lv_at hl 1 rfl) ?_
  refine x_called (x_runSU (C := RJ4) (n := 1) (As := [.int x]) (rest := []) (classAt hK.1.1 (ci := 13) rfl) hx hb hml hown hts (metJ3_append l κ b v n tt x hn hx0) q506 q1701 q507 q501 q74 q508 (by decide +kernel) (by decide) (by decide) rfl hK hB (ob_recv hK.1.1 rfl hO) hl.1 (Nat.le_of_ble_eq_true rfl) rfl dJ4_append_2 ⟨Nat.le_refl _, Nat.le_refl _⟩) (fun v st t L hst hq hvm hL => ?_)
  obtain ⟨hv, hq2, hq3, hq4⟩ := hq
  cases hv
  rw [hst] at hq3 hq4
  refine W.eq (g2 := F0 mi 5 ls [.ref b]) rfl ?_
  refine lv_pop hx hb dJ4_append_5 rfl ?_
  refine lv_aload_n hx hb dJ4_append_6 rfl (lv_at hl 0 rfl) ?_
  exact W.aret hx hb hr (Or.inl ⟨_, rfl⟩) (Or.inr ⟨_, rfl⟩) (fun t2 ht hW => ⟨rfl, by rw [ht]; exact hq2, by rw [ht]; exact hq3, fun q h1 h2 => by rw [ht]; exact hq4 q h1 h2⟩) (fun q hq => hL q hq) dJ4_append_7 hlk
