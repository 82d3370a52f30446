/-! java.lang.String.hashCode; Known.find. By tools/gen_s5.py -/
set_option maxRecDepth 100000

set_option maxHeartbeats 4000000 in
theorem metJ7_signedHashCode (l : Launch) (κ : Kg) (v n : Nat) (t : Nat → Int32) (hn : n ≤ 8) : Met l yJ7_signedHashCode (ws_ yJ7_signedHashCode cJ7_signedHashCode 6 (some .int)) (rmC 0 0 0) (xP κ (fun H => H[v]? = some (arrV (κ.cA 1) n (fun j => .int (t j)))) [.int 0, .ref v, .int 0, .int (nI n)]) (rQ (some (.int (hsh t n)))) 0 0 noA := by
  refine xM_start RJ7 (by decide) rfl (Nat.le_of_ble_eq_true rfl) ?_
  intro pg ev s0 mi bl me co hx hb hml hown hts hr hlk hnm hK hM ls hl
  have hl : lv_has ls 6 [(0, .int 0), (1, .ref v), (2, .int 0), (3, .int (nI n))] := hl
  have hA := BA.of_arr hK.1.1 hM
  refine lv_iload_n hx hb dJ7_signedHashCode_0 rfl (lv_at hl 2 rfl) ?_
  refine lv_iload_n hx hb dJ7_signedHashCode_1 rfl (lv_at hl 3 rfl) ?_
  refine lv_iadd hx hb dJ7_signedHashCode_2 ?_
  refine v_eqi (show (0 : Int32) + nI n = nI n from Int32.zero_add _) ?_
  refine lv_istore (lv' := [(4, .int (nI n)), (0, .int 0), (1, .ref v), (2, .int 0), (3, .int (nI n))]) hx hb dJ7_signedHashCode_3 hl (by decide) rfl (fun ls hl => ?_)
  refine lv_iload_n hx hb dJ7_signedHashCode_5 rfl (lv_at hl 3 rfl) ?_
  refine lv_istore (lv' := [(5, .int 0), (4, .int (nI n)), (0, .int 0), (1, .ref v), (2, .int 0), (3, .int (nI n))]) hx hb dJ7_signedHashCode_6 hl (by decide) rfl (fun ls hl => ?_)
  refine w_loop (n := n) (nL := 6) (Inv := fun k => True) (lv := fun k => [(5, .int (nI (k))), (0, .int (hsh t (k))), (4, .int (nI n)), (1, .ref v), (2, .int 0), (3, .int (nI n))]) 0 (by omega) trivial (lv_sub hl [0, 2, 1, 3, 4, 5] rfl) (fun k ls hk hI hl ih => ?_)
  have hl : lv_has ls 6 [(5, .int (nI (k))), (0, .int (hsh t (k))), (4, .int (nI n)), (1, .ref v), (2, .int 0), (3, .int (nI n))] := hl
  refine lv_iload hx hb dJ7_signedHashCode_8 (lv_at hl 0 rfl) ?_
  refine lv_iload hx hb dJ7_signedHashCode_10 (lv_at hl 2 rfl) ?_
  refine lv_icmp_ge (tgt := 35) hx hb dJ7_signedHashCode_12 (by decide) (fun c_12 => ?_) (fun c_12 => ?_)
  · skip
    refine lv_iload_n hx hb dJ7_signedHashCode_35 rfl (lv_at hl 1 rfl) ?_
    exact W.iret hx hb hr (fun t ht hW => ⟨by rw [show k = n by have := (nI_leI (a := n) (b := k) (by omega) (by omega)).mp c_12; omega], ht⟩) (fun q h => by cases h) dJ7_signedHashCode_36 hlk
  · skip
    refine lv_bipush (v := 31) hx hb dJ7_signedHashCode_15 (by decide) ?_
    refine lv_iload_n hx hb dJ7_signedHashCode_17 rfl (lv_at hl 1 rfl) ?_
    refine lv_imul hx hb dJ7_signedHashCode_18 ?_
    refine lv_aload_n hx hb dJ7_signedHashCode_19 rfl (lv_at hl 3 rfl) ?_
    refine lv_iload hx hb dJ7_signedHashCode_20 (lv_at hl 0 rfl) ?_
    have hkn : k < n := Nat.lt_of_not_le (fun z => c_12 (nI_le z (by omega)))
    refine ba_ld hx hb hA hkn (by omega) dJ7_signedHashCode_22 ?_
    refine lv_sipush (v := 255) hx hb dJ7_signedHashCode_23 (by decide) ?_
    refine lv_iand hx hb dJ7_signedHashCode_26 ?_
    refine lv_iadd hx hb dJ7_signedHashCode_27 ?_
    refine v_eqi (show 31 * hsh t k + (t k &&& 255) = hsh t (k + 1) from rfl) ?_
    refine lv_istore_n (lv' := [(0, .int (hsh t (k + 1))), (5, .int (nI (k))), (4, .int (nI n)), (1, .ref v), (2, .int 0), (3, .int (nI n))]) hx hb dJ7_signedHashCode_28 rfl hl (by decide) rfl (fun ls hl => ?_)
    refine lv_iinc (v := nI (k + 1)) (lv' := [(5, .int (nI (k + 1))), (0, .int (hsh t (k + 1))), (4, .int (nI n)), (1, .ref v), (2, .int 0), (3, .int (nI n))]) hx hb dJ7_signedHashCode_29 hl (k := 1) rfl (nI_1 k) (by decide) rfl (fun ls hl => ?_)
    refine lv_goto (tgt := 8) hx hb dJ7_signedHashCode_32 (by decide) ?_
    exact ih ls hkn trivial (lv_sub hl [0, 1, 2, 3, 4, 5] rfl)

set_option maxHeartbeats 4000000 in
theorem metJ7_vectorizedHashCode (l : Launch) (κ : Kg) (v n : Nat) (t : Nat → Int32) (hn : n ≤ 8) : Met l yJ7_vectorizedHashCode (ws_ yJ7_vectorizedHashCode cJ7_vectorizedHashCode 5 (some .int)) (rmC 1 0 0) (xP κ (fun H => H[v]? = some (arrV (κ.cA 1) n (fun j => .int (t j)))) [.ref v, .int 0, .int (nI n), .int 0, .int 4]) (rQ (some (.int (hsh t n)))) 0 0 noA := by
  refine xM_start RJ7 (by decide) rfl (Nat.le_of_ble_eq_true rfl) ?_
  intro pg ev s0 mi bl me co hx hb hml hown hts hr hlk hnm hK hM ls hl
  have hl : lv_has ls 5 [(0, .ref v), (1, .int 0), (2, .int (nI n)), (3, .int 0), (4, .int 4)] := hl
  refine lv_iload hx hb dJ7_vectorizedHashCode_0 (lv_at hl 4 rfl) ?_
  refine lv_tableIn (off := 42) (tgt := 44) hx hb dJ7_vectorizedHashCode_2 (by decide) (by decide) rfl (by decide) ?_
  refine lv_iload_n hx hb dJ7_vectorizedHashCode_44 rfl (lv_at hl 3 rfl) ?_
  refine lv_aload_n hx hb dJ7_vectorizedHashCode_45 rfl (lv_at hl 0 rfl) ?_
  refine va_castE hx hb hown (hts _ q842) ⟨_, hM, rfl, (hK.1.1.2 1 _ rfl).2⟩ dJ7_vectorizedHashCode_46 ?_
  refine lv_iload_n hx hb dJ7_vectorizedHashCode_49 rfl (lv_at hl 1 rfl) ?_
  refine lv_iload_n hx hb dJ7_vectorizedHashCode_50 rfl (lv_at hl 2 rfl) ?_
  refine ro_call (x_runS (n := 4) (As := [.int 0, .ref v, .int 0, .int (nI n)]) (rest := []) hx hb hml hown hts (metJ7_signedHashCode l κ v n t hn) q843 q844 q78 q845 (by decide +kernel) (by decide) (by decide) rfl hK hM hl.1 (Nat.le_of_ble_eq_true rfl) rfl dJ7_vectorizedHashCode_51 ⟨Nat.zero_le _, Nat.zero_le _⟩) ?_
  refine lv_goto (tgt := 157) hx hb dJ7_vectorizedHashCode_54 (by decide) ?_
  exact W.iret hx hb hr (fun t ht hW => ⟨rfl, ht⟩) (fun q h => by cases h) dJ7_vectorizedHashCode_157 hlk

set_option maxHeartbeats 4000000 in
theorem metJ10_hashCode (l : Launch) (κ : Kg) (v n : Nat) (t : Nat → Int32) (hn0 : 0 < n) (hn : n ≤ 8) : Met l yJ10_hashCode (ws_ yJ10_hashCode cJ10_hashCode 1 (some .int)) (rmC 2 0 0) (xP κ (fun H => H[v]? = some (arrV (κ.cA 1) n (fun j => .int (t j)))) [.ref v]) (rQ (some (.int (hsh t n)))) 0 0 noA := by
  refine xM_start RJ10 (by decide) rfl (Nat.le_of_ble_eq_true rfl) ?_
  intro pg ev s0 mi bl me co hx hb hml hown hts hr hlk hnm hK hM ls hl
  have hl : lv_has ls 1 [(0, .ref v)] := hl
  have hA := BA.of_arr hK.1.1 hM
  refine lv_aload_n hx hb dJ10_hashCode_0 rfl (lv_at hl 0 rfl) ?_
  refine ba_len hx hb hA dJ10_hashCode_1 ?_
  by_cases h1 : n = 1
  · subst h1
    refine lv_lookup (off := 30) (tgt := 32) hx hb dJ10_hashCode_2 (by decide) (by decide) (by decide) ?_
    refine lv_aload_n hx hb dJ10_hashCode_32 rfl (lv_at hl 0 rfl) ?_
    refine lv_iconst (v := 0) hx hb dJ10_hashCode_33 (by decide) ?_
    refine ba_ld (j := 0) hx hb hA (by omega) (by omega) dJ10_hashCode_34 ?_
    refine lv_sipush (v := 255) hx hb dJ10_hashCode_35 (by decide) ?_
    refine lv_iand hx hb dJ10_hashCode_38 ?_
    refine v_eqi (show t 0 &&& 255 = hsh t 1 from (Int32.zero_add _).symm) ?_
    refine lv_goto (tgt := 51) hx hb dJ10_hashCode_39 (by decide) ?_
    exact W.iret hx hb hr (fun t ht hW => ⟨rfl, ht⟩) (fun q h => by cases h) dJ10_hashCode_51 hlk
  · refine lv_lookup (off := 40) (tgt := 42) hx hb dJ10_hashCode_2 (by decide) ((lv_osw (k := 0) (fun z => by have := (nI_eq (a := n) (b := 0) (by omega) (by decide)).mp z; omega) rfl).trans ((lv_osw (k := 1) (fun z => h1 ((nI_eq (a := n) (b := 1) (by omega) (by decide)).mp z)) rfl).trans rfl)) (by decide) ?_
    refine lv_aload_n hx hb dJ10_hashCode_42 rfl (lv_at hl 0 rfl) ?_
    refine lv_iconst (v := 0) hx hb dJ10_hashCode_43 (by decide) ?_
    refine lv_aload_n hx hb dJ10_hashCode_44 rfl (lv_at hl 0 rfl) ?_
    refine ba_len hx hb hA dJ10_hashCode_45 ?_
    refine lv_iconst (v := 0) hx hb dJ10_hashCode_46 (by decide) ?_
    refine lv_iconst (v := 4) hx hb dJ10_hashCode_47 (by decide) ?_
    refine ro_call (x_runS (n := 5) (As := [.ref v, .int 0, .int (nI n), .int 0, .int 4]) (rest := []) hx hb hml hown hts (metJ7_vectorizedHashCode l κ v n t hn) q839 q840 q78 q841 (by decide +kernel) (by decide) (by decide) rfl hK hM hl.1 (Nat.le_of_ble_eq_true rfl) rfl dJ10_hashCode_48 ⟨Nat.zero_le _, Nat.zero_le _⟩) ?_
    exact W.iret hx hb hr (fun t ht hW => ⟨rfl, ht⟩) (fun q h => by cases h) dJ10_hashCode_51 hlk

set_option maxHeartbeats 4000000 in
theorem metJ5_isLatin1 (l : Launch) (κ : Kg) (w v : Nat) (h z : Int32) : Met l yJ5_isLatin1 (ws_ yJ5_isLatin1 cJ5_isLatin1 1 (some .boolean)) (rmC 0 0 0) (xP κ (fun H => SK κ.D H w v h z) [.ref w]) (rQ (some (.int 1))) 0 0 noA := by
  refine xM_start RJ5 (by decide) rfl (Nat.le_of_ble_eq_true rfl) ?_
  intro pg ev s0 mi bl me co hx hb hml hown hts hr hlk hnm hK hM ls hl
  have hl : lv_has ls 1 [(0, .ref w)] := hl
  have hM : t_OC w (κ.D.1 14) 4 (κ.D.2 14) s0.heap (vp_V [.ref v, .int 0, .int h, .int z]) := hM
  refine x_gets (v := .int 1) hx hb hK.2.1.1 hown hts q631 (fun x h => h) dJ5_isLatin1_0 ?_
  refine lv_if_eq (tgt := 17) hx hb dJ5_isLatin1_3 (by decide) (fun c_3 => ?_) (fun c_3 => ?_)
  · skip
    exact absurd c_3 (by decide)
  · skip
    refine lv_aload_n hx hb dJ5_isLatin1_6 rfl (lv_at hl 0 rfl) ?_
    refine oc_get (C := RJ5) (T := TJ5) (N := 4) (ci := 14) (v := .int 0) hx hb hts in_J5 hown hK.1.1 hM rfl 1 (by decide) q646 (fun x h => h) rfl dJ5_isLatin1_7 ?_
    refine lv_if_ne (tgt := 17) hx hb dJ5_isLatin1_10 (by decide) (fun c_10 => ?_) (fun c_10 => ?_)
    · skip
      exact absurd rfl c_10
    · skip
      refine lv_iconst (v := 1) hx hb dJ5_isLatin1_13 (by decide) ?_
      refine lv_goto (tgt := 18) hx hb dJ5_isLatin1_14 (by decide) ?_
      exact W.zret hx hb hr rfl (fun t ht hW => ⟨rfl, ht⟩) (fun q h => by cases h) dJ5_isLatin1_18 hlk

/-- what the hash's fields may hold -/
def HO (n : Nat) (t : Nat → Int32) (h z : Int32) : Prop := (h = 0 ∧ z = 0) ∨ (h = hsh t n ∧ (h = 0 → z = 1))
/-- an end that answers v, a text's hash may have been written -/
def hsQ (κ : Kg) (w v n : Nat) (t : Nat → Int32) (r : Option Value) : Array Value → State → Outcome → State → Prop := fun _ st oc u => oc = .returned r ∧ (∃ h z, WS κ w v n t h z u.heap ∧ HO n t h z) ∧ u.heap.size = st.heap.size ∧ ∀ q : Nat, q ≠ w → u.heap[q]? = st.heap[q]?

theorem dar1_ne {D : va_G} {cA : Nat → ClassId} {s : State} (hK : K0 D cA s) {i : Nat} {C : String} {Tt : u_T} {N : Nat} (hi : vwCl[i]? = some (C, Tt, N)) (h : C ≠ "[B") : D.1 i ≠ cA 1 := by
  intro e
  obtain ⟨k, h1, h2⟩ := Vm.findClass_spec (hK.1 i _ hi).2.1
  have hb : s.vm.findClass "[B" = some (cA 1) := (hK.2 1 _ rfl).2
  obtain ⟨k2, h3, h4⟩ := Vm.findClass_spec hb
  have h1 : s.vm.classes[D.1 i]? = some k := h1
  rw [e] at h1
  have h5 : k = k2 := Option.some.inj (h1.symm.trans h3)
  exact h (h2.symm.trans (by rw [h5]; exact h4))
theorem hs_1 {n : Nat} {t : Nat → Int32} {h z : Int32} (hho : HO n t h z) (c : ¬ h = 0) : h = hsh t n := by rcases hho with q | q; (· exact absurd q.1 c); (· exact q.1)
theorem hs_2 {n : Nat} {t : Nat → Int32} {h z : Int32} (hho : HO n t h z) (c2 : ¬ z = 0) : h = hsh t n := by rcases hho with q | q; (· exact absurd q.2 c2); (· exact q.1)

set_option maxHeartbeats 4000000 in
theorem metJ5_hashCode (l : Launch) (κ : Kg) (w v n : Nat) (t : Nat → Int32) (h z : Int32) (hn0 : 0 < n) (hn : n ≤ 8) : Met l yJ5_hashCode (ws_ yJ5_hashCode cJ5_hashCode 2 (some .int)) (rmC 3 0 0) (xP κ (fun H => WS κ w v n t h z H ∧ HO n t h z) [.ref w]) (hsQ κ w v n t (some (.int (hsh t n)))) 0 0 (fun q => q = w) := by
  refine xM_start RJ5 (by decide) rfl (Nat.le_of_ble_eq_true rfl) ?_
  intro pg ev s0 mi bl me co hx hb hml hown hts hr hlk hnm hK hM ls hl
  have hl : lv_has ls 2 [(0, .ref w)] := hl
  obtain ⟨⟨hO, hX⟩, hho⟩ := hM
  have hO : t_OB w (κ.D.1 14) 4 (κ.D.2 14) s0.heap (vp_V [.ref v, .int 0, .int h, .int z]) := hO
  have hwv : v ≠ w := by
    intro e
    obtain ⟨cell, c1, c2, -⟩ := hO
    rw [e, c1] at hX
    cases hX
    exact dar1_ne hK.1.1 (i := 14) rfl (by decide) c2.symm
  have hS : va_S (fun q => q = w) s0.heap s0.heap [] := va_S.rf
  refine lv_aload_n hx hb dJ5_hashCode_0 rfl (lv_at hl 0 rfl) ?_
  refine ob_get (C := RJ5) (T := TJ5) (N := 4) (ci := 14) (v := .int h) hx hb hts in_J5 hown hK.1.1 hO rfl 2 (by decide) q647 (fun x h => h) rfl dJ5_hashCode_1 ?_
  refine lv_istore_n (lv' := [(1, .int h), (0, .ref w)]) hx hb dJ5_hashCode_4 rfl hl (by decide) rfl (fun ls hl => ?_)
  refine lv_iload_n hx hb dJ5_hashCode_5 rfl (lv_at hl 0 rfl) ?_
  refine lv_if_ne (tgt := 58) hx hb dJ5_hashCode_6 (by decide) (fun c_6 => ?_) (fun c_6 => ?_)
  · skip
    refine lv_iload_n hx hb dJ5_hashCode_58 rfl (lv_at hl 0 rfl) ?_
    exact W.iret hx hb hr (fun u hu hW => ⟨by rw [hs_1 hho c_6], ⟨h, z, by rw [hu]; exact ⟨hO, hX⟩, hho⟩, by rw [hu], fun q hq => by rw [hu]⟩) hS.2.2 dJ5_hashCode_59 hlk
  · skip
    refine lv_aload_n hx hb dJ5_hashCode_9 rfl (lv_at hl 1 rfl) ?_
    refine ob_get (C := RJ5) (T := TJ5) (N := 4) (ci := 14) (v := .int z) hx hb hts in_J5 hown hK.1.1 hO rfl 3 (by decide) q648 (fun x h => h) rfl dJ5_hashCode_10 ?_
    refine lv_if_ne (tgt := 58) hx hb dJ5_hashCode_13 (by decide) (fun c_13 => ?_) (fun c_13 => ?_)
    · skip
      refine lv_iload_n hx hb dJ5_hashCode_58 rfl (lv_at hl 0 rfl) ?_
      exact W.iret hx hb hr (fun u hu hW => ⟨by rw [hs_2 hho c_13], ⟨h, z, by rw [hu]; exact ⟨hO, hX⟩, hho⟩, by rw [hu], fun q hq => by rw [hu]⟩) hS.2.2 dJ5_hashCode_59 hlk
    · skip
      refine lv_aload_n hx hb dJ5_hashCode_16 rfl (lv_at hl 1 rfl) ?_
      refine ro_call (x_runV (n := 0) (As := []) (rest := []) hx hb hml hown hts (metJ5_isLatin1 l κ w v h z) q671 q672 q673 q76 q674 (by decide +kernel) (by decide) (by decide) rfl hK (t_OC.of hO) (ob_recv hK.1.1 rfl hO) hl.1 (Nat.le_of_ble_eq_true rfl) rfl dJ5_hashCode_17 ⟨Nat.le_refl _, Nat.le_refl _⟩) ?_
      refine lv_if_eq (tgt := 33) hx hb dJ5_hashCode_20 (by decide) (fun c_20 => ?_) (fun c_20 => ?_)
      · skip
        exact absurd c_20 (by decide)
      · skip
        refine lv_aload_n hx hb dJ5_hashCode_23 rfl (lv_at hl 1 rfl) ?_
        refine ob_get (C := RJ5) (T := TJ5) (N := 4) (ci := 14) (v := .ref v) hx hb hts in_J5 hown hK.1.1 hO rfl 0 (by decide) q645 (fun x h => h) rfl dJ5_hashCode_24 ?_
        refine ro_call (x_runS (n := 1) (As := [.ref v]) (rest := []) hx hb hml hown hts (metJ10_hashCode l κ v n t hn0 hn) q836 q837 q82 q838 (by decide +kernel) (by decide) (by decide) rfl hK hX hl.1 (Nat.le_of_ble_eq_true rfl) rfl dJ5_hashCode_27 ⟨Nat.zero_le _, Nat.zero_le _⟩) ?_
        refine lv_goto (tgt := 40) hx hb dJ5_hashCode_30 (by decide) ?_
        refine lv_istore_n (lv' := [(1, .int (hsh t n)), (0, .ref w)]) hx hb dJ5_hashCode_40 rfl hl (by decide) rfl (fun ls hl => ?_)
        refine lv_iload_n hx hb dJ5_hashCode_41 rfl (lv_at hl 0 rfl) ?_
        refine lv_if_ne (tgt := 53) hx hb dJ5_hashCode_42 (by decide) (fun c_42 => ?_) (fun c_42 => ?_)
        · skip
          refine lv_aload_n hx hb dJ5_hashCode_53 rfl (lv_at hl 1 rfl) ?_
          refine lv_iload_n hx hb dJ5_hashCode_54 rfl (lv_at hl 0 rfl) ?_
          refine ob_put (C := RJ5) (T := TJ5) (N := 4) (ci := 14) (v := .int (hsh t n)) hx hb hts in_J5 tyJ5 tyJ5_ok nmJ5 hown hK.1.1 hO hS rfl rfl 2 (by decide) q647 (fun x h => h) rfl rfl rfl dJ5_hashCode_55 (fun H1 locsH1 hO hqH1 hzH1 hS => ?_)
          refine lv_iload_n hx hb dJ5_hashCode_58 rfl (lv_at hl 0 rfl) ?_
          exact W.iret hx hb hr (fun u hu hW => ⟨rfl, ⟨hsh t n, z, by rw [hu]; exact ⟨hO.to fun k hk => by rcases (show k = 0 ∨ k = 1 ∨ k = 2 ∨ k = 3 by omega) with rfl | rfl | rfl | rfl <;> rfl, by rw [hqH1 v hwv]; exact hX⟩, Or.inr ⟨rfl, fun q => absurd q c_42⟩⟩, by rw [hu]; exact hzH1, fun q hq => by rw [hu]; exact hqH1 q hq⟩) hS.2.2 dJ5_hashCode_59 hlk
        · skip
          refine lv_aload_n hx hb dJ5_hashCode_45 rfl (lv_at hl 1 rfl) ?_
          refine lv_iconst (v := 1) hx hb dJ5_hashCode_46 (by decide) ?_
          refine ob_put (C := RJ5) (T := TJ5) (N := 4) (ci := 14) (v := .int 1) hx hb hts in_J5 tyJ5 tyJ5_ok nmJ5 hown hK.1.1 hO hS rfl rfl 3 (by decide) q648 (fun x h => h) rfl rfl rfl dJ5_hashCode_47 (fun H1 locsH1 hO hqH1 hzH1 hS => ?_)
          refine lv_goto (tgt := 58) hx hb dJ5_hashCode_50 (by decide) ?_
          refine lv_iload_n hx hb dJ5_hashCode_58 rfl (lv_at hl 0 rfl) ?_
          exact W.iret hx hb hr (fun u hu hW => ⟨rfl, ⟨h, 1, by rw [hu]; exact ⟨hO.to fun k hk => by rcases (show k = 0 ∨ k = 1 ∨ k = 2 ∨ k = 3 by omega) with rfl | rfl | rfl | rfl <;> rfl, by rw [hqH1 v hwv]; exact hX⟩, Or.inr ⟨by rw [c_6, c_42], fun _ => rfl⟩⟩, by rw [hu]; exact hzH1, fun q hq => by rw [hu]; exact hqH1 q hq⟩) hS.2.2 dJ5_hashCode_59 hlk
