/-! String.indexOf over the signs. By tools/gen_s7.py -/
set_option maxRecDepth 100000
/-- where a letter stands among the signs -/
def ixC (x : Nat) : Int32 := match (List.range 8).find? (fun j => sAt 1 j == (nI x).toInt8.toInt32) with
  | some j => nI j
  | none => -1
theorem ixC_s {x k : Nat} (hk : k < 8) (h : sAt 1 k = (nI x).toInt8.toInt32) (hI : ∀ j, j < k → ¬ sAt 1 j = (nI x).toInt8.toInt32) : ixC x = nI k := by
  unfold ixC
  rw [List.find?_range_eq_some.mpr ⟨by rw [h]; exact beq_self_eq_true _, List.mem_range.mpr hk, fun j hj => by simp [hI j hj]⟩]
theorem ixC_n {x : Nat} (hI : ∀ j, j < 8 → ¬ sAt 1 j = (nI x).toInt8.toInt32) : ixC x = -1 := by
  unfold ixC
  rw [List.find?_eq_none.mpr (fun j hj => by simp [hI j (List.mem_range.mp hj)])]
theorem cE_hi : ∀ x, x < 256 → ¬ (255 : Int32) < nI x := by decide +kernel
theorem sLen_1 : sLen 1 = 8 := by decide +kernel

set_option maxHeartbeats 4000000 in
theorem metJ10_canEncode_2 (l : Launch) (x : Nat) (hx256 : x < 256) : MetS l yJ10_canEncode_2 cJ10_canEncode_2 1 (some .boolean) 0 [.int (nI x)] (some (.int 1)) := by
  refine mS_start RJ10 (by decide) rfl (Nat.le_of_ble_eq_true rfl) ?_
  intro pg ev s0 mi bl me co hx hb hml hown hts hr hlk ls hl
  have hl : lv_has ls 1 [(0, .int (nI x))] := hl
  refine lv_iload_n hx hb dJ10_canEncode_2_0 rfl (lv_at hl 0 rfl) ?_
  refine lv_if_lt (tgt := 15) hx hb dJ10_canEncode_2_1 (by decide) (fun c_1 => ?_) (fun c_1 => ?_)
  · skip
    exact absurd c_1 (nI_pos (by omega))
  · skip
    refine lv_iload_n hx hb dJ10_canEncode_2_4 rfl (lv_at hl 0 rfl) ?_
    refine lv_sipush (v := 255) hx hb dJ10_canEncode_2_5 (by decide) ?_
    refine lv_icmp_gt (tgt := 15) hx hb dJ10_canEncode_2_8 (by decide) (fun c_8 => ?_) (fun c_8 => ?_)
    · skip
      exact absurd c_8 (cE_hi x hx256)
    · skip
      refine lv_iconst (v := 1) hx hb dJ10_canEncode_2_11 (by decide) ?_
      refine lv_goto (tgt := 16) hx hb dJ10_canEncode_2_12 (by decide) ?_
      exact W.zret hx hb hr rfl (fun t ht hW => ⟨rfl, ht⟩) (fun q h => by cases h) dJ10_canEncode_2_16 hlk

set_option maxHeartbeats 4000000 in
theorem metJ10_indexOfChar (l : Launch) (κ : Kg) (x : Nat) : Met l yJ10_indexOfChar (ws_ yJ10_indexOfChar cJ10_indexOfChar 6 (some .int)) (rmC 0 0 0) (xP κ (fun _ => True) [.ref (κ.sV 1), .int (nI x), .int 0, .int (nI 8)]) (rQ (some (.int (ixC x)))) 0 0 noA := by
  refine xM_start RJ10 (by decide) rfl (Nat.le_of_ble_eq_true rfl) ?_
  intro pg ev s0 mi bl me co hx hb hml hown hts hr hlk hnm hK hM ls hl
  have hl : lv_has ls 6 [(0, .ref (κ.sV 1)), (1, .int (nI x)), (2, .int 0), (3, .int (nI 8))] := hl
  have hB := (hK.2.1.2.2.2.2.2 1 (by decide)).2.1
  rw [sLen_1] at hB
  refine lv_iload_n hx hb dJ10_indexOfChar_0 rfl (lv_at hl 1 rfl) ?_
  refine lv_i2b hx hb dJ10_indexOfChar_1 rfl ?_
  refine lv_istore (lv' := [(4, .int ((nI x).toInt8.toInt32)), (0, .ref (κ.sV 1)), (1, .int (nI x)), (2, .int 0), (3, .int (nI 8))]) hx hb dJ10_indexOfChar_2 hl (by decide) rfl (fun ls hl => ?_)
  refine lv_iload_n hx hb dJ10_indexOfChar_4 rfl (lv_at hl 3 rfl) ?_
  refine lv_istore (lv' := [(5, .int 0), (4, .int ((nI x).toInt8.toInt32)), (0, .ref (κ.sV 1)), (1, .int (nI x)), (2, .int 0), (3, .int (nI 8))]) hx hb dJ10_indexOfChar_5 hl (by decide) rfl (fun ls hl => ?_)
  refine w_loop (n := 8) (nL := 6) (Inv := fun k => ∀ j, j < k → ¬ sAt 1 j = (nI x).toInt8.toInt32) (lv := fun k => [(5, .int (nI (k))), (4, .int ((nI x).toInt8.toInt32)), (0, .ref (κ.sV 1)), (1, .int (nI x)), (2, .int 0), (3, .int (nI 8))]) 0 (by omega) (fun j hj => absurd hj (Nat.not_lt_zero j)) (lv_sub hl [0, 1, 2, 3, 4, 5] rfl) (fun k ls hk hI hl ih => ?_)
  have hl : lv_has ls 6 [(5, .int (nI (k))), (4, .int ((nI x).toInt8.toInt32)), (0, .ref (κ.sV 1)), (1, .int (nI x)), (2, .int 0), (3, .int (nI 8))] := hl
  refine lv_iload hx hb dJ10_indexOfChar_7 (lv_at hl 0 rfl) ?_
  refine lv_iload_n hx hb dJ10_indexOfChar_9 rfl (lv_at hl 5 rfl) ?_
  refine lv_icmp_ge (tgt := 31) hx hb dJ10_indexOfChar_10 (by decide) (fun c_10 => ?_) (fun c_10 => ?_)
  · skip
    refine lv_iconst (v := (-1)) hx hb dJ10_indexOfChar_31 (by decide) ?_
    exact W.iret hx hb hr (fun t ht hW => ⟨by rw [ixC_n (fun j hj => hI j (by have := (nI_leI (a := 8) (b := k) (by omega) (by omega)).mp c_10; omega))], ht⟩) (fun q h => by cases h) dJ10_indexOfChar_32 hlk
  · skip
    refine lv_aload_n hx hb dJ10_indexOfChar_13 rfl (lv_at hl 2 rfl) ?_
    refine lv_iload hx hb dJ10_indexOfChar_14 (lv_at hl 0 rfl) ?_
    have hkn : k < 8 := Nat.lt_of_not_le (fun z => c_10 (nI_le z (by omega)))
    refine ba_ld hx hb hB hkn (by omega) dJ10_indexOfChar_16 ?_
    refine lv_iload hx hb dJ10_indexOfChar_17 (lv_at hl 1 rfl) ?_
    refine lv_icmp_ne (tgt := 25) hx hb dJ10_indexOfChar_19 (by decide) (fun c_19 => ?_) (fun c_19 => ?_)
    · skip
      refine lv_iinc (v := nI (k + 1)) (lv' := [(5, .int (nI (k + 1))), (4, .int ((nI x).toInt8.toInt32)), (0, .ref (κ.sV 1)), (1, .int (nI x)), (2, .int 0), (3, .int (nI 8))]) hx hb dJ10_indexOfChar_25 hl (k := 0) rfl (nI_1 k) (by decide) rfl (fun ls hl => ?_)
      refine lv_goto (tgt := 7) hx hb dJ10_indexOfChar_28 (by decide) ?_
      exact ih ls hkn (fun j hj => by rcases Nat.lt_succ_iff_lt_or_eq.mp hj with z | z; (· exact hI j z); (· subst z; exact c_19)) (lv_sub hl [0, 1, 2, 3, 4, 5] rfl)
    · skip
      refine lv_iload hx hb dJ10_indexOfChar_22 (lv_at hl 0 rfl) ?_
      exact W.iret hx hb hr (fun t ht hW => ⟨by rw [ixC_s hkn c_19 hI], ht⟩) (fun q h => by cases h) dJ10_indexOfChar_24 hlk

set_option maxHeartbeats 4000000 in
theorem metJ10_indexOf (l : Launch) (κ : Kg) (x : Nat) (hx256 : x < 256) : Met l yJ10_indexOf (ws_ yJ10_indexOf cJ10_indexOf 4 (some .int)) (rmC 1 0 0) (xP κ (fun _ => True) [.ref (κ.sV 1), .int (nI x), .int 0, .int (nI 8)]) (rQ (some (.int (ixC x)))) 0 0 noA := by
  refine xM_start RJ10 (by decide) rfl (Nat.le_of_ble_eq_true rfl) ?_
  intro pg ev s0 mi bl me co hx hb hml hown hts hr hlk hnm hK hM ls hl
  have hl : lv_has ls 4 [(0, .ref (κ.sV 1)), (1, .int (nI x)), (2, .int 0), (3, .int (nI 8))] := hl
  have hB := (hK.2.1.2.2.2.2.2 1 (by decide)).2.1
  rw [sLen_1] at hB
  refine lv_iload_n hx hb dJ10_indexOf_0 rfl (lv_at hl 1 rfl) ?_
  refine ro_call (st_run (n := 1) (As := [.int (nI x)]) (rest := []) hx hb hml hown hts (metJ10_canEncode_2 l x hx256) q686 q687 q82 q688 (by decide +kernel) (by decide) (by decide) rfl hl.1 (Nat.le_of_ble_eq_true rfl) rfl dJ10_indexOf_1 ⟨Nat.le_refl _, Nat.le_refl _⟩) ?_
  refine lv_if_ne (tgt := 9) hx hb dJ10_indexOf_4 (by decide) (fun c_4 => ?_) (fun c_4 => ?_)
  · skip
    refine lv_iload_n hx hb dJ10_indexOf_9 rfl (lv_at hl 2 rfl) ?_
    refine lv_iconst (v := 0) hx hb dJ10_indexOf_10 (by decide) ?_
    refine va_mmax (x := 0) (y := 0) hx hb (hml.trans hl.1.symm) hown (hts _ q689) (hts _ q521) (hts _ q79) (hts _ q522) (by decide) (Nat.le_of_ble_eq_true rfl) (Nat.zero_le _) (Nat.zero_le _) dJ10_indexOf_11 ?_
    refine v_eqi (show (if (0 : Int32) < 0 then (0 : Int32) else 0) = 0 by decide) ?_
    refine lv_istore_n (lv' := [(2, .int 0), (0, .ref (κ.sV 1)), (1, .int (nI x)), (3, .int (nI 8))]) hx hb dJ10_indexOf_14 rfl hl (by decide) rfl (fun ls hl => ?_)
    refine lv_iload_n hx hb dJ10_indexOf_15 rfl (lv_at hl 3 rfl) ?_
    refine lv_aload_n hx hb dJ10_indexOf_16 rfl (lv_at hl 1 rfl) ?_
    refine ba_len hx hb hB dJ10_indexOf_17 ?_
    refine va_mmin (x := nI 8) (y := nI 8) hx hb (hml.trans hl.1.symm) hown (hts _ q690) (hts _ q537) (hts _ q79) (hts _ q538) (by decide) (Nat.le_of_ble_eq_true rfl) (Nat.zero_le _) (Nat.zero_le _) dJ10_indexOf_18 ?_
    refine v_eqi (show (if nI 8 < nI 8 then nI 8 else nI 8) = nI 8 by decide) ?_
    refine lv_istore_n (lv' := [(3, .int (nI 8)), (2, .int 0), (0, .ref (κ.sV 1)), (1, .int (nI x))]) hx hb dJ10_indexOf_21 rfl hl (by decide) rfl (fun ls hl => ?_)
    refine lv_iload_n hx hb dJ10_indexOf_22 rfl (lv_at hl 1 rfl) ?_
    refine lv_iload_n hx hb dJ10_indexOf_23 rfl (lv_at hl 0 rfl) ?_
    refine lv_icmp_lt (tgt := 29) hx hb dJ10_indexOf_24 (by decide) (fun c_24 => ?_) (fun c_24 => ?_)
    · skip
      refine lv_aload_n hx hb dJ10_indexOf_29 rfl (lv_at hl 2 rfl) ?_
      refine lv_iload_n hx hb dJ10_indexOf_30 rfl (lv_at hl 3 rfl) ?_
      refine lv_iload_n hx hb dJ10_indexOf_31 rfl (lv_at hl 1 rfl) ?_
      refine lv_iload_n hx hb dJ10_indexOf_32 rfl (lv_at hl 0 rfl) ?_
      refine ro_call (x_runS (n := 4) (As := [.ref (κ.sV 1), .int (nI x), .int 0, .int (nI 8)]) (rest := []) hx hb hml hown hts (metJ10_indexOfChar l κ x) q691 q692 q82 q693 (by decide +kernel) (by decide) (by decide) rfl hK trivial hl.1 (Nat.le_of_ble_eq_true rfl) rfl dJ10_indexOf_33 ⟨Nat.le_refl _, Nat.le_refl _⟩) ?_
      exact W.iret hx hb hr (fun t ht hW => ⟨rfl, ht⟩) (fun q h => by cases h) dJ10_indexOf_36 hlk
    · skip
      exact absurd (by decide) c_24
  · skip
    exact absurd c_4 (by decide)

set_option maxHeartbeats 4000000 in
theorem metJ5_coder (l : Launch) (κ : Kg) : Met l yJ5_coder (ws_ yJ5_coder cJ5_coder 1 (some .byte)) (rmC 0 0 0) (xP κ (fun _ => True) [.ref (κ.sK 1)]) (rQ (some (.int 0))) 0 0 noA := by
  refine xM_start RJ5 (by decide) rfl (Nat.le_of_ble_eq_true rfl) ?_
  intro pg ev s0 mi bl me co hx hb hml hown hts hr hlk hnm hK hM ls hl
  have hl : lv_has ls 1 [(0, .ref (κ.sK 1))] := hl
  obtain ⟨hh, zz, hC⟩ := (hK.2.1.2.2.2.2.2 1 (by decide)).1
  have hC : t_OC (κ.sK 1) (κ.D.1 14) 4 (κ.D.2 14) s0.heap (vp_V [.ref (κ.sV 1), .int 0, .int hh, .int zz]) := hC
  refine x_gets (v := .int 1) hx hb hK.2.1.1 hown hts q631 (fun x h => h) dJ5_coder_0 ?_
  refine lv_if_eq (tgt := 13) hx hb dJ5_coder_3 (by decide) (fun c_3 => ?_) (fun c_3 => ?_)
  · skip
    exact absurd c_3 (by decide)
  · skip
    refine lv_aload_n hx hb dJ5_coder_6 rfl (lv_at hl 0 rfl) ?_
    refine oc_get (C := RJ5) (T := TJ5) (N := 4) (ci := 14) (v := .int 0) hx hb hts in_J5 hown hK.1.1 hC rfl 1 (by decide) q646 (fun x h => h) rfl dJ5_coder_7 ?_
    refine lv_goto (tgt := 14) hx hb dJ5_coder_10 (by decide) ?_
    exact W.zret hx hb hr rfl (fun t ht hW => ⟨rfl, ht⟩) (fun q h => by cases h) dJ5_coder_14 hlk

set_option maxHeartbeats 4000000 in
theorem metJ5_length (l : Launch) (κ : Kg) : Met l yJ5_length (ws_ yJ5_length cJ5_length 1 (some .int)) (rmC 1 0 0) (xP κ (fun _ => True) [.ref (κ.sK 1)]) (rQ (some (.int (nI 8)))) 0 0 noA := by
  refine xM_start RJ5 (by decide) rfl (Nat.le_of_ble_eq_true rfl) ?_
  intro pg ev s0 mi bl me co hx hb hml hown hts hr hlk hnm hK hM ls hl
  have hl : lv_has ls 1 [(0, .ref (κ.sK 1))] := hl
  have hB := (hK.2.1.2.2.2.2.2 1 (by decide)).2.1
  rw [sLen_1] at hB
  obtain ⟨hh, zz, hC⟩ := (hK.2.1.2.2.2.2.2 1 (by decide)).1
  have hC : t_OC (κ.sK 1) (κ.D.1 14) 4 (κ.D.2 14) s0.heap (vp_V [.ref (κ.sV 1), .int 0, .int hh, .int zz]) := hC
  refine lv_aload_n hx hb dJ5_length_0 rfl (lv_at hl 0 rfl) ?_
  refine oc_get (C := RJ5) (T := TJ5) (N := 4) (ci := 14) (v := .ref (κ.sV 1)) hx hb hts in_J5 hown hK.1.1 hC rfl 0 (by decide) q645 (fun x h => h) rfl dJ5_length_1 ?_
  refine ba_len hx hb hB dJ5_length_4 ?_
  refine lv_aload_n hx hb dJ5_length_5 rfl (lv_at hl 0 rfl) ?_
  refine ro_call (x_runV (n := 0) (As := []) (rest := [.int (nI 8)]) hx hb hml hown hts (metJ5_coder l κ) q679 q680 q681 q76 q682 (by decide +kernel) (by decide) (by decide) rfl hK trivial (oc_recv hK.1.1 rfl hC) hl.1 (Nat.le_of_ble_eq_true rfl) rfl dJ5_length_6 ⟨Nat.le_refl _, Nat.le_refl _⟩) ?_
  refine lv_ishr hx hb dJ5_length_9 ?_
  refine v_eqi (show nI 8 >>> ((0 : Int32) &&& 31) = nI 8 by decide) ?_
  exact W.iret hx hb hr (fun t ht hW => ⟨rfl, ht⟩) (fun q h => by cases h) dJ5_length_10 hlk

set_option maxHeartbeats 4000000 in
theorem metJ5_indexOf_2 (l : Launch) (κ : Kg) (x : Nat) (hx256 : x < 256) : Met l yJ5_indexOf_2 (ws_ yJ5_indexOf_2 cJ5_indexOf_2 3 (some .int)) (rmC 2 0 0) (xP κ (fun _ => True) [.ref (κ.sK 1), .int (nI x), .int 0]) (rQ (some (.int (ixC x)))) 0 0 noA := by
  refine xM_start RJ5 (by decide) rfl (Nat.le_of_ble_eq_true rfl) ?_
  intro pg ev s0 mi bl me co hx hb hml hown hts hr hlk hnm hK hM ls hl
  have hl : lv_has ls 3 [(0, .ref (κ.sK 1)), (1, .int (nI x)), (2, .int 0)] := hl
  obtain ⟨hh, zz, hC⟩ := (hK.2.1.2.2.2.2.2 1 (by decide)).1
  have hC : t_OC (κ.sK 1) (κ.D.1 14) 4 (κ.D.2 14) s0.heap (vp_V [.ref (κ.sV 1), .int 0, .int hh, .int zz]) := hC
  refine lv_aload_n hx hb dJ5_indexOf_2_0 rfl (lv_at hl 0 rfl) ?_
  refine ro_call (x_runV (n := 0) (As := []) (rest := []) hx hb hml hown hts (metJ5_isLatin1 l κ (κ.sK 1) (κ.sV 1) hh zz) q671 q672 q673 q76 q674 (by decide +kernel) (by decide) (by decide) rfl hK hC (oc_recv hK.1.1 rfl hC) hl.1 (Nat.le_of_ble_eq_true rfl) rfl dJ5_indexOf_2_1 ⟨Nat.le_refl _, Nat.le_refl _⟩) ?_
  refine lv_if_eq (tgt := 23) hx hb dJ5_indexOf_2_4 (by decide) (fun c_4 => ?_) (fun c_4 => ?_)
  · skip
    exact absurd c_4 (by decide)
  · skip
    refine lv_aload_n hx hb dJ5_indexOf_2_7 rfl (lv_at hl 0 rfl) ?_
    refine oc_get (C := RJ5) (T := TJ5) (N := 4) (ci := 14) (v := .ref (κ.sV 1)) hx hb hts in_J5 hown hK.1.1 hC rfl 0 (by decide) q645 (fun x h => h) rfl dJ5_indexOf_2_8 ?_
    refine lv_iload_n hx hb dJ5_indexOf_2_11 rfl (lv_at hl 1 rfl) ?_
    refine lv_iload_n hx hb dJ5_indexOf_2_12 rfl (lv_at hl 2 rfl) ?_
    refine lv_aload_n hx hb dJ5_indexOf_2_13 rfl (lv_at hl 0 rfl) ?_
    refine ro_call (x_runV (n := 0) (As := []) (rest := [.int 0, .int (nI x), .ref (κ.sV 1)]) hx hb hml hown hts (metJ5_length l κ) q675 q676 q677 q76 q678 (by decide +kernel) (by decide) (by decide) rfl hK trivial (oc_recv hK.1.1 rfl hC) hl.1 (Nat.le_of_ble_eq_true rfl) rfl dJ5_indexOf_2_14 ⟨Nat.le_refl _, Nat.le_refl _⟩) ?_
    refine ro_call (x_runS (n := 4) (As := [.ref (κ.sV 1), .int (nI x), .int 0, .int (nI 8)]) (rest := []) hx hb hml hown hts (metJ10_indexOf l κ x hx256) q683 q684 q82 q685 (by decide +kernel) (by decide) (by decide) rfl hK trivial hl.1 (Nat.le_of_ble_eq_true rfl) rfl dJ5_indexOf_2_17 ⟨Nat.le_refl _, Nat.le_refl _⟩) ?_
    refine lv_goto (tgt := 36) hx hb dJ5_indexOf_2_20 (by decide) ?_
    exact W.iret hx hb hr (fun t ht hW => ⟨rfl, ht⟩) (fun q h => by cases h) dJ5_indexOf_2_36 hlk

set_option maxHeartbeats 4000000 in
theorem metJ5_indexOf (l : Launch) (κ : Kg) (x : Nat) (hx256 : x < 256) : Met l yJ5_indexOf (ws_ yJ5_indexOf cJ5_indexOf 2 (some .int)) (rmC 3 0 0) (xP κ (fun _ => True) [.ref (κ.sK 1), .int (nI x)]) (rQ (some (.int (ixC x)))) 0 0 noA := by
  refine xM_start RJ5 (by decide) rfl (Nat.le_of_ble_eq_true rfl) ?_
  intro pg ev s0 mi bl me co hx hb hml hown hts hr hlk hnm hK hM ls hl
  have hl : lv_has ls 2 [(0, .ref (κ.sK 1)), (1, .int (nI x))] := hl
  obtain ⟨hh, zz, hC⟩ := (hK.2.1.2.2.2.2.2 1 (by decide)).1
  have hC : t_OC (κ.sK 1) (κ.D.1 14) 4 (κ.D.2 14) s0.heap (vp_V [.ref (κ.sV 1), .int 0, .int hh, .int zz]) := hC
  refine lv_aload_n hx hb dJ5_indexOf_0 rfl (lv_at hl 0 rfl) ?_
  refine lv_iload_n hx hb dJ5_indexOf_1 rfl (lv_at hl 1 rfl) ?_
  refine lv_iconst (v := 0) hx hb dJ5_indexOf_2 (by decide) ?_
  refine ro_call (x_runV (n := 2) (As := [.int (nI x), .int 0]) (rest := []) hx hb hml hown hts (metJ5_indexOf_2 l κ x hx256) q667 q668 q669 q76 q670 (by decide +kernel) (by decide) (by decide) rfl hK trivial (oc_recv hK.1.1 rfl hC) hl.1 (Nat.le_of_ble_eq_true rfl) rfl dJ5_indexOf_3 ⟨Nat.le_refl _, Nat.le_refl _⟩) ?_
  exact W.iret hx hb hr (fun t ht hW => ⟨rfl, ht⟩) (fun q h => by cases h) dJ5_indexOf_6 hlk
