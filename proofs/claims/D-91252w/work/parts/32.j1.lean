/-! java.util.ArrayList: size, get, <init>, add. By tools/gen_j1.py -/
set_option maxRecDepth 100000
/-- a list at a: its array at x of c places, n of them taken by es -/
def LA (κ : Kg) (a x c n : Nat) (es : Nat → Nat) (H : Heap) : Prop := (∃ md : Int32, t_OB a (κ.D.1 12) 3 (κ.D.2 12) H (vp_V [.int md, .ref x, .int (nI n)])) ∧ H[x]? = some (arrV (κ.cA 4) c (fun j => va_rf (if j < n then some (es j) else none))) ∧ n ≤ c ∧ c < 1048576
theorem LA.kept {κ : Kg} {a x c n : Nat} {es : Nat → Nat} {H H1 : Heap} (h : LA κ a x c n es H) (h1 : H1[a]? = H[a]?) (h2 : H1[x]? = H[x]?) : LA κ a x c n es H1 := ⟨h.1.imp fun md q => q.kept h1, by rw [h2]; exact h.2.1, h.2.2⟩

set_option maxHeartbeats 4000000 in
theorem metJ11_checkIndex (l : Launch) (i n : Nat) (hi : i < n) (hn : n < 2 ^ 31) : MetS l yJ11_checkIndex cJ11_checkIndex 3 (some .int) 0 [.int (nI i), .int (nI n), .null] (some (.int (nI i))) := by
  refine mS_start RJ11 (by decide) rfl (Nat.le_of_ble_eq_true rfl) ?_
  intro pg ev s0 mi bl me co hx hb hml hown hts hr hlk ls hl
  have hl : lv_has ls 3 [(0, .int (nI i)), (1, .int (nI n)), (2, .null)] := hl
  refine lv_iload_n hx hb dJ11_checkIndex_0 rfl (lv_at hl 0 rfl) ?_
  refine lv_if_lt (tgt := 9) hx hb dJ11_checkIndex_1 (by decide) (fun c_1 => ?_) (fun c_1 => ?_)
  · skip
    exact absurd c_1 (nI_pos (by omega))
  · skip
    refine lv_iload_n hx hb dJ11_checkIndex_4 rfl (lv_at hl 0 rfl) ?_
    refine lv_iload_n hx hb dJ11_checkIndex_5 rfl (lv_at hl 1 rfl) ?_
    refine lv_icmp_lt (tgt := 16) hx hb dJ11_checkIndex_6 (by decide) (fun c_6 => ?_) (fun c_6 => ?_)
    · skip
      refine lv_iload_n hx hb dJ11_checkIndex_16 rfl (lv_at hl 0 rfl) ?_
      exact iret_ro hx hb hr hlk rfl dJ11_checkIndex_17
    · skip
      exact absurd (nI_lt hi (by omega)) c_6

set_option maxHeartbeats 4000000 in
theorem metJ15_checkIndex (l : Launch) (i n : Nat) (hi : i < n) (hn : n < 2 ^ 31) : MetS l yJ15_checkIndex cJ15_checkIndex 2 (some .int) 1 [.int (nI i), .int (nI n)] (some (.int (nI i))) := by
  refine mS_start RJ15 (by decide) rfl (Nat.le_of_ble_eq_true rfl) ?_
  intro pg ev s0 mi bl me co hx hb hml hown hts hr hlk ls hl
  have hl : lv_has ls 2 [(0, .int (nI i)), (1, .int (nI n))] := hl
  refine lv_iload_n hx hb dJ15_checkIndex_0 rfl (lv_at hl 0 rfl) ?_
  refine lv_iload_n hx hb dJ15_checkIndex_1 rfl (lv_at hl 1 rfl) ?_
  refine lv_null hx hb dJ15_checkIndex_2 ?_
  refine ro_call (st_run (n := 3) (As := [.int (nI i), .int (nI n), .null]) (rest := []) hx hb hml hown hts (metJ11_checkIndex l i n hi hn) q1058 q593 q83 q594 (by decide +kernel) (by decide) (by decide) rfl hl.1 (Nat.le_of_ble_eq_true rfl) rfl dJ15_checkIndex_3 ⟨Nat.le_refl _, Nat.le_refl _⟩) ?_
  exact iret_ro hx hb hr hlk rfl dJ15_checkIndex_6

set_option maxHeartbeats 4000000 in
theorem metJ2_size (l : Launch) (κ : Kg) (a x c n : Nat) (es : Nat → Nat) : Met l yJ2_size (ws_ yJ2_size cJ2_size 1 (some .int)) (rmC 0 0 0) (gP κ.D κ.cA (LA κ a x c n es) [.ref a]) (rQ (some (.int (nI n)))) 0 0 noA := by
  refine gM_start RJ2 (by decide) rfl (Nat.le_of_ble_eq_true rfl) ?_
  intro pg ev s0 mi bl me co hx hb hml hown hts hr hlk hnm hK hM ls hl
  have hl : lv_has ls 1 [(0, .ref a)] := hl
  obtain ⟨⟨md, hO⟩, hX, hnc, hc⟩ := hM
  refine lv_aload_n hx hb dJ2_size_0 rfl (lv_at hl 0 rfl) ?_
  refine ob_get (C := RJ2) (T := TJ2) (N := 3) (ci := 12) (v := .int (nI n)) hx hb hts in_J2 hown hK hO rfl 2 (by decide) q121 (fun x h => h) rfl dJ2_size_1 ?_
  exact iret_ro hx hb hr hlk rfl dJ2_size_4

set_option maxHeartbeats 4000000 in
theorem metJ2_elementData (l : Launch) (κ : Kg) (a x c n i : Nat) (es : Nat → Nat) (hi : i < n) : Met l yJ2_elementData (ws_ yJ2_elementData cJ2_elementData 2 (some (.object "java/lang/Object"))) (rmC 0 0 0) (gP κ.D κ.cA (LA κ a x c n es) [.ref a, .int (nI i)]) (rQ (some (.ref (es i)))) 0 0 noA := by
  refine gM_start RJ2 (by decide) rfl (Nat.le_of_ble_eq_true rfl) ?_
  intro pg ev s0 mi bl me co hx hb hml hown hts hr hlk hnm hK hM ls hl
  have hl : lv_has ls 2 [(0, .ref a), (1, .int (nI i))] := hl
  obtain ⟨⟨md, hO⟩, hX, hnc, hc⟩ := hM
  refine lv_aload_n hx hb dJ2_elementData_0 rfl (lv_at hl 0 rfl) ?_
  refine ob_get (C := RJ2) (T := TJ2) (N := 3) (ci := 12) (v := .ref x) hx hb hts in_J2 hown hK hO rfl 1 (by decide) q120 (fun x h => h) rfl dJ2_elementData_1 ?_
  refine lv_iload_n hx hb dJ2_elementData_4 rfl (lv_at hl 1 rfl) ?_
  refine W.aald (v := .ref (es i)) (ty := .object "java/lang/Object") hx hb hX ((hK.2 4 _ rfl).1 c _) rfl (fun q => by cases q) (by rw [arrV_size]; exact nI_in (Nat.lt_of_lt_of_le hi hnc) (by omega)) (by rw [nI_clamp (by omega), arrV_read _ _ (Nat.lt_of_lt_of_le hi hnc), if_pos hi]; rfl) rfl rfl dJ2_elementData_5 ?_
  refine W.eq (g2 := F0 mi 6 ls [.ref (es i)]) rfl ?_
  exact W.aret hx hb hr (Or.inl ⟨_, rfl⟩) (Or.inr ⟨_, rfl⟩) (fun t ht hW => ⟨rfl, ht⟩) (fun q h => by cases h) dJ2_elementData_6 hlk

set_option maxHeartbeats 4000000 in
theorem metJ2_get (l : Launch) (κ : Kg) (a x c n i : Nat) (es : Nat → Nat) (hi : i < n) : Met l yJ2_get (ws_ yJ2_get cJ2_get 2 (some (.object "java/lang/Object"))) (rmC 2 0 0) (gP κ.D κ.cA (LA κ a x c n es) [.ref a, .int (nI i)]) (rQ (some (.ref (es i)))) 0 0 noA := by
  refine gM_start RJ2 (by decide) rfl (Nat.le_of_ble_eq_true rfl) ?_
  intro pg ev s0 mi bl me co hx hb hml hown hts hr hlk hnm hK hM ls hl
  have hl : lv_has ls 2 [(0, .ref a), (1, .int (nI i))] := hl
  obtain ⟨⟨md, hO⟩, hX, hnc, hc⟩ := hM
  refine lv_iload_n hx hb dJ2_get_0 rfl (lv_at hl 1 rfl) ?_
  refine lv_aload_n hx hb dJ2_get_1 rfl (lv_at hl 0 rfl) ?_
  refine ob_get (C := RJ2) (T := TJ2) (N := 3) (ci := 12) (v := .int (nI n)) hx hb hts in_J2 hown hK hO rfl 2 (by decide) q121 (fun x h => h) rfl dJ2_get_2 ?_
  refine ro_call (st_run (n := 2) (As := [.int (nI i), .int (nI n)]) (rest := []) hx hb hml hown hts (metJ15_checkIndex l i n hi (by omega)) q1055 q1056 q93 q1057 (by decide +kernel) (by decide) (by decide) rfl hl.1 (Nat.le_of_ble_eq_true rfl) rfl dJ2_get_5 ⟨Nat.le_refl _, Nat.le_refl _⟩) ?_
  refine lv_pop hx hb dJ2_get_8 rfl ?_
  refine lv_aload_n hx hb dJ2_get_9 rfl (lv_at hl 0 rfl) ?_
  refine lv_iload_n hx hb dJ2_get_10 rfl (lv_at hl 1 rfl) ?_
  refine ro_call (g_runV (n := 1) (As := [.int (nI i)]) (rest := []) hx hb hml hown hts (metJ2_elementData l κ a x c n i es hi) q1059 q1060 q1061 q67 q1062 (by decide +kernel) (by decide) (by decide) rfl hK ⟨⟨md, hO⟩, hX, hnc, hc⟩ (ob_recv hK rfl hO) hl.1 (Nat.le_of_ble_eq_true rfl) rfl dJ2_get_11 ⟨Nat.le_refl _, Nat.le_refl _⟩) ?_
  exact W.aret hx hb hr (Or.inl ⟨_, rfl⟩) (Or.inr ⟨_, rfl⟩) (fun t ht hW => ⟨rfl, ht⟩) (fun q h => by cases h) dJ2_get_14 hlk
