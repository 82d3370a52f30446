/-! Reader.next. By tools/gen_r2.py -/
set_option maxRecDepth 100000
theorem upd_self (tt : Nat → Int32) (n : Nat) : upd tt n (tt n) = tt := by
  funext j; unfold upd
  by_cases h : j = n
  · rw [if_pos h, h]
  · rw [if_neg h]
theorem SB.ext {κ : Kg} {b v n : Nat} {t t' : Nat → Int32} {H : Heap} (h : SB κ b v n t H) (e : t = t') : SB κ b v n t' H := e ▸ h
theorem sb_min {κ : Kg} {b v k : Nat} {t : Nat → Int32} {H : Heap} (h : SB κ b v (min k 8) t H) (h8 : 8 ≤ k) : SB κ b v (min (k + 1) 8) t H := by
  have e : min k 8 = min (k + 1) 8 := by omega
  rw [← e]; exact h
theorem WS.ext {κ : Kg} {w v n n' : Nat} {t t' : Nat → Int32} {h z : Int32} {H : Heap} (q : WS κ w v n t h z H) (e1 : n = n') (e : t = t') : WS κ w v n' t' h z H := by subst e1; subst e; exact q

set_option maxHeartbeats 4000000 in
theorem metX5_next (l : Launch) (κ : Kg) (o : Nat) (τ : Tp) (r p : Nat) (so pl nu tm : Int32) (w al : Nat) (hro : o + 1 < r) (hrB : κ.base ≤ r) (hp : p ≤ τ.1) : Met l yX5_next (ws_ yX5_next cX5_next 4 none) (rmC 6 4 24) (xP κ (fun H => HR κ o τ r p so pl nu tm w al H ∧ w < H.size) [.ref r]) (nxQ κ o τ r p tm w al) 4 24 (fun q => κ.base ≤ q) := by
  refine xM_start RX5 (by decide) rfl (Nat.le_of_ble_eq_true rfl) ?_
  intro pg ev s0 mi bl me co hx hb hml hown hts hr hlk hnm hK hM ls hl
  have hl : lv_has ls 4 [(0, .ref r)] := hl
  obtain ⟨hM, hwl⟩ := hM
  have hrl : r < s0.heap.size := t_OB.lt hM.2
  have hol : o + 1 < s0.heap.size := hM.1.lt
  have hR0 : κ.base ≤ s0.heap.size := hK.2.2
  have hm6 := hM.1.2.2
  have hsp := rn_le (τ := τ) (P := isSp) p
  refine w_loopH (n := rn τ isSp p) (nL := 4) (Inv := fun k H locs => RM κ o τ r s0 (rV (nI (p + k)) so pl nu tm w al o) H locs ∧ H.size = s0.heap.size) (lv := fun k => [(0, .ref r)]) 0 (Nat.zero_le _) ⟨⟨hK, hM.1, hM.2, va_S.rf⟩, rfl⟩ (lv_sub hl [0] rfl) (fun k ls H locs hk hI hl ih => ?_)
  have hl : lv_has ls 4 [(0, .ref r)] := hl
  obtain ⟨hR, hz⟩ := hI
  refine lv_aload_n hx hb dX5_next_0 rfl (lv_at hl 0 rfl) ?_
  refine lv_iconst (v := 0) hx hb dX5_next_1 (by decide) ?_
  refine ro_call (x_runV (n := 1) (As := [.int (nI 0)]) (rest := []) hx hb hml hown hts (metX5_here l κ o τ r (p + k) so pl nu tm w al 0 (by omega)) q463 q465 qs7 q73 q466 (by decide +kernel) (by decide) (by decide) rfl hR.1 ⟨hR.2.1, hR.2.2.1⟩ (ob_recv hR.1.1.1 rfl hR.2.2.1) hl.1 (Nat.le_of_ble_eq_true rfl) rfl dX5_next_2 ⟨by omega, by omega⟩) ?_
  refine lv_bipush (v := 32) hx hb dX5_next_5 (by decide) ?_
  refine lv_icmp_eq (tgt := 20) hx hb dX5_next_7 (by decide) (fun c_7 => ?_) (fun c_7 => ?_)
  · skip
    refine lv_aload_n hx hb dX5_next_20 rfl (lv_at hl 0 rfl) ?_
    refine lv_dup hx hb dX5_next_21 rfl ?_
    refine ob_get (C := RX5) (T := TX5) (N := 8) (ci := 4) (v := .int (nI (p + k))) hx hb hts in_X5 hown hR.1.1.1 hR.2.2.1 rfl 0 (by decide) q430 (fun x h => h) rfl dX5_next_22 ?_
    refine lv_iconst (v := 1) hx hb dX5_next_25 (by decide) ?_
    refine lv_iadd hx hb dX5_next_26 ?_
    refine v_eqi (nI_1 (p + k)) ?_
    refine rd_put (V' := (rV (nI (p + k + 1)) so pl nu tm w al o)) hx hb hts hown hR hro hrB 0 (by decide) q430 rfl rfl rfl rfl (fun j hj => by rcases (show j = 0 ∨ j = 1 ∨ j = 2 ∨ j = 3 ∨ j = 4 ∨ j = 5 ∨ j = 6 ∨ j = 7 by omega) with rfl | rfl | rfl | rfl | rfl | rfl | rfl | rfl <;> rfl) dX5_next_27 (fun H locs hR hz1 hq1 => ?_)
    have hz : _ = _ := hz1.trans hz
    refine lv_goto (tgt := 0) hx hb dX5_next_30 (by decide) ?_
    exact ih ls _ _ (rn_lt isSp_n hk (by first | exact isSp_1 c_7 | exact isSp_2 c_17)) ⟨hR, by omega⟩ (lv_sub hl [0] rfl)
  · skip
    refine lv_aload_n hx hb dX5_next_10 rfl (lv_at hl 0 rfl) ?_
    refine lv_iconst (v := 0) hx hb dX5_next_11 (by decide) ?_
    refine ro_call (x_runV (n := 1) (As := [.int (nI 0)]) (rest := []) hx hb hml hown hts (metX5_here l κ o τ r (p + k) so pl nu tm w al 0 (by omega)) q463 q465 qs7 q73 q466 (by decide +kernel) (by decide) (by decide) rfl hR.1 ⟨hR.2.1, hR.2.2.1⟩ (ob_recv hR.1.1.1 rfl hR.2.2.1) hl.1 (Nat.le_of_ble_eq_true rfl) rfl dX5_next_12 ⟨by omega, by omega⟩) ?_
    refine lv_bipush (v := 10) hx hb dX5_next_15 (by decide) ?_
    refine lv_icmp_ne (tgt := 33) hx hb dX5_next_17 (by decide) (fun c_17 => ?_) (fun c_17 => ?_)
    · skip
      have hpk : p + k = ws τ p := by unfold ws; rw [rn_ex hk (isSp_f c_7 c_17)]
      rw [hpk] at hR
      have hwm := ws_le hp
      have htm := tl_le hp
      have hdm := dn_le hp
      refine lv_aload_n hx hb dX5_next_33 rfl (lv_at hl 0 rfl) ?_
      refine lv_aload_n hx hb dX5_next_34 rfl (lv_at hl 0 rfl) ?_
      refine ob_get (C := RX5) (T := TX5) (N := 8) (ci := 4) (v := .int (nI (ws τ p))) hx hb hts in_X5 hown hR.1.1.1 hR.2.2.1 rfl 0 (by decide) q430 (fun x h => h) rfl dX5_next_35 ?_
      refine rd_put (V' := (rV (nI (ws τ p)) so (nI (ws τ p)) nu tm w al o)) hx hb hts hown hR hro hrB 2 (by decide) q432 rfl rfl rfl rfl (fun j hj => by rcases (show j = 0 ∨ j = 1 ∨ j = 2 ∨ j = 3 ∨ j = 4 ∨ j = 5 ∨ j = 6 ∨ j = 7 by omega) with rfl | rfl | rfl | rfl | rfl | rfl | rfl | rfl <;> rfl) dX5_next_38 (fun H locs hR hz1 hq1 => ?_)
      have hz : _ = _ := hz1.trans hz
      refine lv_aload_n hx hb dX5_next_41 rfl (lv_at hl 0 rfl) ?_
      refine lv_iconst (v := 0) hx hb dX5_next_42 (by decide) ?_
      refine ro_call (x_runV (n := 1) (As := [.int (nI 0)]) (rest := []) hx hb hml hown hts (metX5_here l κ o τ r (ws τ p) so (nI (ws τ p)) nu tm w al 0 (by omega)) q463 q465 qs7 q73 q466 (by decide +kernel) (by decide) (by decide) rfl hR.1 ⟨hR.2.1, hR.2.2.1⟩ (ob_recv hR.1.1.1 rfl hR.2.2.1) hl.1 (Nat.le_of_ble_eq_true rfl) rfl dX5_next_43 ⟨by omega, by omega⟩) ?_
      refine lv_istore_n (lv' := [(1, .int (he τ ((ws τ p)))), (0, .ref r)]) hx hb dX5_next_46 rfl hl (by decide) rfl (fun ls hl => ?_)
      refine lv_iconst (v := 0) hx hb dX5_next_47 (by decide) ?_
      refine lv_istore_n (lv' := [(2, .int 0), (1, .int (he τ ((ws τ p)))), (0, .ref r)]) hx hb dX5_next_48 rfl hl (by decide) rfl (fun ls hl => ?_)
      refine lv_aload_n hx hb dX5_next_49 rfl (lv_at hl 2 rfl) ?_
      refine lv_iconst (v := 3) hx hb dX5_next_50 (by decide) ?_
      refine rd_put (V' := (rV (nI (ws τ p)) 3 (nI (ws τ p)) nu tm w al o)) hx hb hts hown hR hro hrB 1 (by decide) q431 rfl rfl rfl rfl (fun j hj => by rcases (show j = 0 ∨ j = 1 ∨ j = 2 ∨ j = 3 ∨ j = 4 ∨ j = 5 ∨ j = 6 ∨ j = 7 by omega) with rfl | rfl | rfl | rfl | rfl | rfl | rfl | rfl <;> rfl) dX5_next_51 (fun H locs hR hz1 hq1 => ?_)
      have hz : _ = _ := hz1.trans hz
      refine lv_iload_n hx hb dX5_next_54 rfl (lv_at hl 1 rfl) ?_
      refine lv_if_ge (tgt := 66) hx hb dX5_next_55 (by decide) (fun c_55 => ?_) (fun c_55 => ?_)
      · skip
        refine lv_aload_n hx hb dX5_next_66 rfl (lv_at hl 2 rfl) ?_
        refine lv_iconst (v := 0) hx hb dX5_next_67 (by decide) ?_
        refine ro_call (x_runV (n := 1) (As := [.int (nI 0)]) (rest := []) hx hb hml hown hts (metX5_isLetter l κ o τ r (ws τ p) 3 (nI (ws τ p)) nu tm w al 0 (by omega)) q467 q469 qs8 q73 q470 (by decide +kernel) (by decide) (by decide) rfl hR.1 ⟨hR.2.1, hR.2.2.1⟩ (ob_recv hR.1.1.1 rfl hR.2.2.1) hl.1 (Nat.le_of_ble_eq_true rfl) rfl dX5_next_68 ⟨by omega, by omega⟩) ?_
        refine lv_B_eq (tgt := 138) hx hb dX5_next_71 (by decide) (fun c_71 => ?_) (fun c_71 => ?_)
        · skip
          refine lv_aload_n hx hb dX5_next_138 rfl (lv_at hl 2 rfl) ?_
          refine lv_iconst (v := 0) hx hb dX5_next_139 (by decide) ?_
          refine ro_call (x_runV (n := 1) (As := [.int (nI 0)]) (rest := []) hx hb hml hown hts (metX5_isDigit l κ o τ r (ws τ p) 3 (nI (ws τ p)) nu tm w al 0 (by omega)) q658 q660 qs9 q73 q661 (by decide +kernel) (by decide) (by decide) rfl hR.1 ⟨hR.2.1, hR.2.2.1⟩ (ob_recv hR.1.1.1 rfl hR.2.2.1) hl.1 (Nat.le_of_ble_eq_true rfl) rfl dX5_next_140 ⟨by omega, by omega⟩) ?_
          refine lv_B_eq (tgt := 214) hx hb dX5_next_143 (by decide) (fun c_143 => ?_) (fun c_143 => ?_)
          · skip
            refine va_ldcS hx hb hown (sR_1 hR.1.1) dX5_next_214 ?_
            refine lv_iload_n hx hb dX5_next_216 rfl (lv_at hl 1 rfl) ?_
            obtain ⟨hcm, xc, hxc, exc⟩ := he_lt (show ¬ he τ (ws τ p) < 0 from fun z => Int32.not_lt.mpr c_55 z)
            obtain ⟨hh, zz, hC⟩ := (hR.1.2.1.2.2.2.2.2 1 (by decide)).1
            refine ro_call (x_runV (n := 1) (As := [.int (nI xc)]) (rest := []) hx hb hml hown hts (metJ5_indexOf l κ xc hxc) q663 q664 q665 q76 q666 (by decide +kernel) (by decide) (by decide) rfl hR.1 trivial (oc_recv hR.1.1.1 rfl hC) hl.1 (Nat.le_of_ble_eq_true rfl) (by rw [exc]; rfl) dX5_next_217 ⟨by omega, by omega⟩) ?_
            have hsg := ixC_sg xc hxc
            rw [← exc] at hsg
            refine lv_if_lt (tgt := 230) hx hb dX5_next_220 (by decide) (fun c_220 => ?_) (fun c_220 => ?_)
            · skip
              refine lv_aload_n hx hb dX5_next_230 rfl (lv_at hl 2 rfl) ?_
              refine lv_dup hx hb dX5_next_231 rfl ?_
              refine ob_get (C := RX5) (T := TX5) (N := 8) (ci := 4) (v := .int (nI (ws τ p))) hx hb hts in_X5 hown hR.1.1.1 hR.2.2.1 rfl 0 (by decide) q430 (fun x h => h) rfl dX5_next_232 ?_
              refine lv_iload_n hx hb dX5_next_235 rfl (lv_at hl 0 rfl) ?_
              refine lv_iadd hx hb dX5_next_236 ?_
              refine v_eqi (show nI (ws τ p) + nI 0 = nI (ws τ p + 0) from nI_add _ _) ?_
              refine rd_put (V' := (rV (nI (ws τ p + 0)) 3 (nI (ws τ p)) nu tm w al o)) hx hb hts hown hR hro hrB 0 (by decide) q430 rfl rfl rfl rfl (fun j hj => by rcases (show j = 0 ∨ j = 1 ∨ j = 2 ∨ j = 3 ∨ j = 4 ∨ j = 5 ∨ j = 6 ∨ j = 7 by omega) with rfl | rfl | rfl | rfl | rfl | rfl | rfl | rfl <;> rfl) dX5_next_237 (fun H locs hR hz1 hq1 => ?_)
              have hz : _ = _ := hz1.trans hz
              have htk := tk_b (τ := τ) (p := p) (Int32.not_lt.mpr c_55) c_71 c_143 (by rw [hsg]; simp [c_220])
              refine W.widen (k := 4) (n := 24) (by omega) (by omega) ?_
              exact W.vret hx hb hr (fun t ht hW => ⟨rfl, ⟨w, ⟨by rw [ht]; exact hR.2.1, ⟨_, by rw [ht, htk.1, htk.2]; exact hR.2.2.1, fun z => absurd (htk.1.symm.trans z) (by decide)⟩, fun z => absurd (htk.1.symm.trans z) (by decide), hp, by rw [ht]; omega⟩, Or.inl rfl⟩, by rw [ht]; omega, by rw [ht]; omega, fun q h1 h2 => by rw [ht]; exact hR.2.2.2.2.1 q h1 (fun z => by rcases z with z | z <;> omega)⟩) (fun x hx => by rcases hR.2.2.2.2.2 x hx with z | z <;> (show κ.base ≤ x.base; omega)) dX5_next_240 hlk
            · skip
              refine lv_aload_n hx hb dX5_next_223 rfl (lv_at hl 2 rfl) ?_
              refine lv_iload_n hx hb dX5_next_224 rfl (lv_at hl 1 rfl) ?_
              refine rd_put (V' := (rV (nI (ws τ p)) (he τ (ws τ p)) (nI (ws τ p)) nu tm w al o)) hx hb hts hown hR hro hrB 1 (by decide) q431 rfl rfl rfl rfl (fun j hj => by rcases (show j = 0 ∨ j = 1 ∨ j = 2 ∨ j = 3 ∨ j = 4 ∨ j = 5 ∨ j = 6 ∨ j = 7 by omega) with rfl | rfl | rfl | rfl | rfl | rfl | rfl | rfl <;> rfl) dX5_next_225 (fun H locs hR hz1 hq1 => ?_)
              have hz : _ = _ := hz1.trans hz
              refine lv_iconst (v := 1) hx hb dX5_next_228 (by decide) ?_
              refine lv_istore_n (lv' := [(2, .int 1), (1, .int (he τ ((ws τ p)))), (0, .ref r)]) hx hb dX5_next_229 rfl hl (by decide) rfl (fun ls hl => ?_)
              refine lv_aload_n hx hb dX5_next_230 rfl (lv_at hl 2 rfl) ?_
              refine lv_dup hx hb dX5_next_231 rfl ?_
              refine ob_get (C := RX5) (T := TX5) (N := 8) (ci := 4) (v := .int (nI (ws τ p))) hx hb hts in_X5 hown hR.1.1.1 hR.2.2.1 rfl 0 (by decide) q430 (fun x h => h) rfl dX5_next_232 ?_
              refine lv_iload_n hx hb dX5_next_235 rfl (lv_at hl 0 rfl) ?_
              refine lv_iadd hx hb dX5_next_236 ?_
              refine v_eqi (show nI (ws τ p) + nI 1 = nI (ws τ p + 1) from nI_add _ _) ?_
              refine rd_put (V' := (rV (nI (ws τ p + 1)) (he τ (ws τ p)) (nI (ws τ p)) nu tm w al o)) hx hb hts hown hR hro hrB 0 (by decide) q430 rfl rfl rfl rfl (fun j hj => by rcases (show j = 0 ∨ j = 1 ∨ j = 2 ∨ j = 3 ∨ j = 4 ∨ j = 5 ∨ j = 6 ∨ j = 7 by omega) with rfl | rfl | rfl | rfl | rfl | rfl | rfl | rfl <;> rfl) dX5_next_237 (fun H locs hR hz1 hq1 => ?_)
              have hz : _ = _ := hz1.trans hz
              have hsg2 : isSg (he τ (ws τ p)) = true := by rw [hsg]; simp [c_220]
              have htk := tk_s (τ := τ) (p := p) (Int32.not_lt.mpr c_55) c_71 c_143 hsg2
              have h12 := isSg_12 hsg2
              refine W.widen (k := 4) (n := 24) (by omega) (by omega) ?_
              exact W.vret hx hb hr (fun t ht hW => ⟨rfl, ⟨w, ⟨by rw [ht]; exact hR.2.1, ⟨_, by rw [ht, htk.1, htk.2]; exact hR.2.2.1, fun z => absurd (htk.1.symm.trans z) h12.2.1⟩, fun z => absurd (htk.1.symm.trans z) h12.1, hp, by rw [ht]; omega⟩, Or.inl rfl⟩, by rw [ht]; omega, by rw [ht]; omega, fun q h1 h2 => by rw [ht]; exact hR.2.2.2.2.1 q h1 (fun z => by rcases z with z | z <;> omega)⟩) (fun x hx => by rcases hR.2.2.2.2.2 x hx with z | z <;> (show κ.base ≤ x.base; omega)) dX5_next_240 hlk
          · skip
            refine lv_aload_n hx hb dX5_next_146 rfl (lv_at hl 2 rfl) ?_
            refine lv_iconst (v := 0) hx hb dX5_next_147 (by decide) ?_
            refine rd_put (V' := (rV (nI (ws τ p)) 3 (nI (ws τ p)) 0 tm w al o)) hx hb hts hown hR hro hrB 3 (by decide) q433 rfl rfl rfl rfl (fun j hj => by rcases (show j = 0 ∨ j = 1 ∨ j = 2 ∨ j = 3 ∨ j = 4 ∨ j = 5 ∨ j = 6 ∨ j = 7 by omega) with rfl | rfl | rfl | rfl | rfl | rfl | rfl | rfl <;> rfl) dX5_next_148 (fun H locs hR hz1 hq1 => ?_)
            have hz : _ = _ := hz1.trans hz
            refine w_loopH (n := dn τ p) (nL := 4) (Inv := fun k H locs => RM κ o τ r s0 (rV (nI (ws τ p)) 3 (nI (ws τ p)) (nmF τ (ws τ p) (min k 7)) tm w al o) H locs ∧ H.size = s0.heap.size) (lv := fun k => [(2, .int (nI (k))), (1, .int (he τ (ws τ p))), (0, .ref r)]) 0 (Nat.zero_le _) ⟨hR, by omega⟩ (lv_sub hl [0, 1, 2] rfl) (fun k ls H locs hk hI hl ih => ?_)
            have hl : lv_has ls 4 [(2, .int (nI (k))), (1, .int (he τ (ws τ p))), (0, .ref r)] := hl
            obtain ⟨hR, hz⟩ := hI
            refine lv_aload_n hx hb dX5_next_151 rfl (lv_at hl 2 rfl) ?_
            refine lv_iload_n hx hb dX5_next_152 rfl (lv_at hl 0 rfl) ?_
            refine ro_call (x_runV (n := 1) (As := [.int (nI k)]) (rest := []) hx hb hml hown hts (metX5_isDigit l κ o τ r (ws τ p) 3 (nI (ws τ p)) (nmF τ (ws τ p) (min k 7)) tm w al k (by omega)) q658 q660 qs9 q73 q661 (by decide +kernel) (by decide) (by decide) rfl hR.1 ⟨hR.2.1, hR.2.2.1⟩ (ob_recv hR.1.1.1 rfl hR.2.2.1) hl.1 (Nat.le_of_ble_eq_true rfl) rfl dX5_next_153 ⟨by omega, by omega⟩) ?_
            refine lv_B_eq (tgt := 191) hx hb dX5_next_156 (by decide) (fun c_156 => ?_) (fun c_156 => ?_)
            · skip
              refine lv_iload_n hx hb dX5_next_191 rfl (lv_at hl 0 rfl) ?_
              refine lv_bipush (v := 7) hx hb dX5_next_192 (by decide) ?_
              refine lv_icmp_gt (tgt := 205) hx hb dX5_next_194 (by decide) (fun c_194 => ?_) (fun c_194 => ?_)
              · skip
                have hdk : dn τ p = k := rn_ex hk c_156
                have htk := tk_n3 (τ := τ) (p := p) (Int32.not_lt.mpr c_55) c_71 c_143 (by first | exact Or.inl (by rw [hdk]; exact (nI_ltI (a := 7) (b := k) (by decide) (by omega)).mp c_194) | exact Or.inr (by rw [hdk]; exact c_202))
                refine W.widen (k := 4) (n := 24) (by omega) (by omega) ?_
                exact W.vret hx hb hr (fun t ht hW => ⟨rfl, ⟨w, ⟨by rw [ht]; exact hR.2.1, ⟨_, by rw [ht, htk.1, htk.2]; exact hR.2.2.1, fun z => absurd (htk.1.symm.trans z) (by decide)⟩, fun z => absurd (htk.1.symm.trans z) (by decide), hp, by rw [ht]; omega⟩, Or.inl rfl⟩, by rw [ht]; omega, by rw [ht]; omega, fun q h1 h2 => by rw [ht]; exact hR.2.2.2.2.1 q h1 (fun z => by rcases z with z | z <;> omega)⟩) (fun x hx => by rcases hR.2.2.2.2.2 x hx with z | z <;> (show κ.base ≤ x.base; omega)) dX5_next_205 hlk
              · skip
                refine lv_aload_n hx hb dX5_next_197 rfl (lv_at hl 2 rfl) ?_
                refine lv_iload_n hx hb dX5_next_198 rfl (lv_at hl 0 rfl) ?_
                refine ro_call (x_runV (n := 1) (As := [.int (nI k)]) (rest := []) hx hb hml hown hts (metX5_isLetter l κ o τ r (ws τ p) 3 (nI (ws τ p)) (nmF τ (ws τ p) (min k 7)) tm w al k (by omega)) q467 q469 qs8 q73 q470 (by decide +kernel) (by decide) (by decide) rfl hR.1 ⟨hR.2.1, hR.2.2.1⟩ (ob_recv hR.1.1.1 rfl hR.2.2.1) hl.1 (Nat.le_of_ble_eq_true rfl) rfl dX5_next_199 ⟨by omega, by omega⟩) ?_
                refine lv_B_eq (tgt := 206) hx hb dX5_next_202 (by decide) (fun c_202 => ?_) (fun c_202 => ?_)
                · skip
                  refine lv_aload_n hx hb dX5_next_206 rfl (lv_at hl 2 rfl) ?_
                  refine lv_iconst (v := 2) hx hb dX5_next_207 (by decide) ?_
                  refine rd_put (V' := (rV (nI (ws τ p)) 2 (nI (ws τ p)) (nmF τ (ws τ p) (min k 7)) tm w al o)) hx hb hts hown hR hro hrB 1 (by decide) q431 rfl rfl rfl rfl (fun j hj => by rcases (show j = 0 ∨ j = 1 ∨ j = 2 ∨ j = 3 ∨ j = 4 ∨ j = 5 ∨ j = 6 ∨ j = 7 by omega) with rfl | rfl | rfl | rfl | rfl | rfl | rfl | rfl <;> rfl) dX5_next_208 (fun H locs hR hz1 hq1 => ?_)
                  have hz : _ = _ := hz1.trans hz
                  refine lv_goto (tgt := 230) hx hb dX5_next_211 (by decide) ?_
                  refine lv_aload_n hx hb dX5_next_230 rfl (lv_at hl 2 rfl) ?_
                  refine lv_dup hx hb dX5_next_231 rfl ?_
                  refine ob_get (C := RX5) (T := TX5) (N := 8) (ci := 4) (v := .int (nI (ws τ p))) hx hb hts in_X5 hown hR.1.1.1 hR.2.2.1 rfl 0 (by decide) q430 (fun x h => h) rfl dX5_next_232 ?_
                  refine lv_iload_n hx hb dX5_next_235 rfl (lv_at hl 0 rfl) ?_
                  refine lv_iadd hx hb dX5_next_236 ?_
                  refine v_eqi (show nI (ws τ p) + nI k = nI (ws τ p + k) from nI_add _ _) ?_
                  refine rd_put (V' := (rV (nI (ws τ p + k)) 2 (nI (ws τ p)) (nmF τ (ws τ p) (min k 7)) tm w al o)) hx hb hts hown hR hro hrB 0 (by decide) q430 rfl rfl rfl rfl (fun j hj => by rcases (show j = 0 ∨ j = 1 ∨ j = 2 ∨ j = 3 ∨ j = 4 ∨ j = 5 ∨ j = 6 ∨ j = 7 by omega) with rfl | rfl | rfl | rfl | rfl | rfl | rfl | rfl <;> rfl) dX5_next_237 (fun H locs hR hz1 hq1 => ?_)
                  have hz : _ = _ := hz1.trans hz
                  have hdk : dn τ p = k := rn_ex hk c_156
                  have hk7 : k ≤ 7 := (nI_leI (a := k) (b := 7) (by omega) (by decide)).mp (Int32.not_lt.mp c_194)
                  have htk := tk_n (τ := τ) (p := p) (Int32.not_lt.mpr c_55) c_71 c_143 (by rw [hdk]; rintro (z | z); (· omega); (· rw [c_202] at z; cases z))
                  rw [← hdk] at hR
                  refine W.widen (k := 4) (n := 24) (by omega) (by omega) ?_
                  exact W.vret hx hb hr (fun t ht hW => ⟨rfl, ⟨w, ⟨by rw [ht]; exact hR.2.1, ⟨_, by rw [ht, htk.1, htk.2]; exact hR.2.2.1, fun z => by show nmF τ (ws τ p) (min (dn τ p) 7) = _; unfold tn; rw [Nat.min_eq_left (by omega)]⟩, fun z => absurd (htk.1.symm.trans z) (by decide), hp, by rw [ht]; omega⟩, Or.inl rfl⟩, by rw [ht]; omega, by rw [ht]; omega, fun q h1 h2 => by rw [ht]; exact hR.2.2.2.2.1 q h1 (fun z => by rcases z with z | z <;> omega)⟩) (fun x hx => by rcases hR.2.2.2.2.2 x hx with z | z <;> (show κ.base ≤ x.base; omega)) dX5_next_240 hlk
                · skip
                  have hdk : dn τ p = k := rn_ex hk c_156
                  have htk := tk_n3 (τ := τ) (p := p) (Int32.not_lt.mpr c_55) c_71 c_143 (by first | exact Or.inl (by rw [hdk]; exact (nI_ltI (a := 7) (b := k) (by decide) (by omega)).mp c_194) | exact Or.inr (by rw [hdk]; exact c_202))
                  refine W.widen (k := 4) (n := 24) (by omega) (by omega) ?_
                  exact W.vret hx hb hr (fun t ht hW => ⟨rfl, ⟨w, ⟨by rw [ht]; exact hR.2.1, ⟨_, by rw [ht, htk.1, htk.2]; exact hR.2.2.1, fun z => absurd (htk.1.symm.trans z) (by decide)⟩, fun z => absurd (htk.1.symm.trans z) (by decide), hp, by rw [ht]; omega⟩, Or.inl rfl⟩, by rw [ht]; omega, by rw [ht]; omega, fun q h1 h2 => by rw [ht]; exact hR.2.2.2.2.1 q h1 (fun z => by rcases z with z | z <;> omega)⟩) (fun x hx => by rcases hR.2.2.2.2.2 x hx with z | z <;> (show κ.base ≤ x.base; omega)) dX5_next_205 hlk
            · skip
              refine lv_iload_n hx hb dX5_next_159 rfl (lv_at hl 0 rfl) ?_
              refine lv_bipush (v := 7) hx hb dX5_next_160 (by decide) ?_
              refine lv_icmp_ge (tgt := 185) hx hb dX5_next_162 (by decide) (fun c_162 => ?_) (fun c_162 => ?_)
              · skip
                have hkl : k < dn τ p := rn_lt isDg_n hk c_156
                have e7 : min k 7 = min (k + 1) 7 := by have := (nI_leI (a := 7) (b := k) (by decide) (by omega)).mp c_162; omega
                rw [e7] at hR
                refine lv_iinc (v := nI (k + 1)) (lv' := [(2, .int (nI (k + 1))), (1, .int (he τ (ws τ p))), (0, .ref r)]) hx hb dX5_next_185 hl (k := 0) rfl (nI_1 k) (by decide) rfl (fun ls hl => ?_)
                refine lv_goto (tgt := 151) hx hb dX5_next_188 (by decide) ?_
                exact ih ls _ _ hkl ⟨hR, by omega⟩ (lv_sub hl [0, 1, 2] rfl)
              · skip
                refine lv_aload_n hx hb dX5_next_165 rfl (lv_at hl 2 rfl) ?_
                refine lv_bipush (v := 10) hx hb dX5_next_166 (by decide) ?_
                refine lv_aload_n hx hb dX5_next_168 rfl (lv_at hl 2 rfl) ?_
                have h7 : k < 7 := Nat.lt_of_not_le (fun z => c_162 (nI_le (a := 7) (b := k) z (by omega)))
                rw [Nat.min_eq_left (Nat.le_of_lt h7)] at hR
                refine ob_get (C := RX5) (T := TX5) (N := 8) (ci := 4) (v := .int (nmF τ (ws τ p) k)) hx hb hts in_X5 hown hR.1.1.1 hR.2.2.1 rfl 3 (by decide) q433 (fun x h => h) rfl dX5_next_169 ?_
                refine lv_imul hx hb dX5_next_172 ?_
                refine lv_aload_n hx hb dX5_next_173 rfl (lv_at hl 2 rfl) ?_
                refine lv_iload_n hx hb dX5_next_174 rfl (lv_at hl 0 rfl) ?_
                refine ro_call (x_runV (n := 1) (As := [.int (nI k)]) (rest := [.int (10 * nmF τ (ws τ p) k), .ref r]) hx hb hml hown hts (metX5_here l κ o τ r (ws τ p) 3 (nI (ws τ p)) (nmF τ (ws τ p) k) tm w al k (by omega)) q463 q465 qs7 q73 q466 (by decide +kernel) (by decide) (by decide) rfl hR.1 ⟨hR.2.1, hR.2.2.1⟩ (ob_recv hR.1.1.1 rfl hR.2.2.1) hl.1 (Nat.le_of_ble_eq_true rfl) rfl dX5_next_175 ⟨by omega, by omega⟩) ?_
                refine lv_iadd hx hb dX5_next_178 ?_
                refine lv_bipush (v := 48) hx hb dX5_next_179 (by decide) ?_
                refine lv_isub hx hb dX5_next_181 ?_
                refine rd_put (V' := (rV (nI (ws τ p)) 3 (nI (ws τ p)) (nmF τ (ws τ p) (k + 1)) tm w al o)) hx hb hts hown hR hro hrB 3 (by decide) q433 rfl rfl rfl rfl (fun j hj => by rcases (show j = 0 ∨ j = 1 ∨ j = 2 ∨ j = 3 ∨ j = 4 ∨ j = 5 ∨ j = 6 ∨ j = 7 by omega) with rfl | rfl | rfl | rfl | rfl | rfl | rfl | rfl <;> rfl) dX5_next_182 (fun H locs hR hz1 hq1 => ?_)
                have hz : _ = _ := hz1.trans hz
                have hR : RM κ o τ r s0 (rV (nI (ws τ p)) 3 (nI (ws τ p)) (nmF τ (ws τ p) (min (k + 1) 7)) tm w al o) H locs := by rw [Nat.min_eq_left h7]; exact hR
                have hkl : k < dn τ p := rn_lt isDg_n hk c_156
                refine lv_iinc (v := nI (k + 1)) (lv' := [(2, .int (nI (k + 1))), (1, .int (he τ (ws τ p))), (0, .ref r)]) hx hb dX5_next_185 hl (k := 0) rfl (nI_1 k) (by decide) rfl (fun ls hl => ?_)
                refine lv_goto (tgt := 151) hx hb dX5_next_188 (by decide) ?_
                exact ih ls _ _ hkl ⟨hR, by omega⟩ (lv_sub hl [0, 1, 2] rfl)
        · skip
          refine ob_new (C := RJ4) (T := TJ4) (N := 4) (ci := 13) hx hb hts in_J4 tyJ4 tyJ4_ok hown q471 q472 q75 hR.1.1.1 rfl (by show 0 + 1 ≤ 4; omega) (by show 0 + 4 ≤ 24; omega) dX5_next_74 (fun H1 hB0 hz1 ho1 => ?_)
          have hR1 := hR.grow (L := []) hrl hol hR0 (by omega) (fun q hq => ho1 q (by omega)) (fun x hx => by cases hx)
          rw [List.append_nil] at hR1
          refine lv_dup hx hb dX5_next_77 rfl ?_
          refine lv_bipush (v := 8) hx hb dX5_next_78 (by decide) ?_
          refine x_called (x_runI (n := 1) (As := [.int 8]) (rest := [.ref H.size]) hx hb hml hown hts (metJ4_init l κ H.size) q473 q474 q75 q475 rfl (by decide +kernel) (by decide) (by decide) rfl hR1.1 hB0 hl.1 (Nat.le_of_ble_eq_true rfl) rfl dX5_next_80 ⟨by show 0 + 1 + 1 ≤ 4; omega, by show 0 + 4 + 8 ≤ 24; omega⟩) (fun v2 st t L hst hq hvm hL => ?_)
          obtain ⟨hv, hq2, hq3, hq4⟩ := hq
          cases hv
          rw [hst] at hq2 hq3 hq4
          refine W.eq (g2 := F0 mi 83 ls [.ref H.size]) rfl ?_
          have hR2 := hR1.grow (H1 := t.heap) (L := L) hrl hol hR0 (by omega) (fun q hq => hq4 q (by omega) (by omega)) (fun x hx => by rw [show x.base = H.size from hL x hx]; omega)
          have hSB : SB κ H.size H1.size 0 (fun j => he τ (ws τ p + j)) t.heap := hq2 _
          have hzB : H.size = s0.heap.size := hz
          have hz3 : t.heap.size = s0.heap.size + 2 := by omega
          generalize hbB : H.size = b at *
          generalize hvB : H1.size = vb at *
          have hbs : b = s0.heap.size := by omega
          have hvs : vb = s0.heap.size + 1 := by omega
          have hR := hR2
          refine lv_astore_n (lv' := [(3, .ref b), (2, .int 0), (1, .int (he τ ((ws τ p)))), (0, .ref r)]) hx hb dX5_next_83 rfl hl (by decide) rfl (fun ls hl => ?_)
          have hqq3 : ∀ q : Nat, q < s0.heap.size → q ≠ r → t.heap[q]? = s0.heap[q]? := fun q h1 h2 => hR.2.2.2.2.1 q h1 (fun z => by rcases z with z | z <;> omega)
          refine w_loopH (n := tl τ p) (nL := 4) (Inv := fun k H locs => RM κ o τ r s0 (rV (nI (ws τ p)) 3 (nI (ws τ p)) nu tm w al o) H locs ∧ SB κ b vb (min k 8) (fun j => he τ (ws τ p + j)) H ∧ H.size = s0.heap.size + 2 ∧ ∀ q : Nat, q < s0.heap.size → q ≠ r → H[q]? = s0.heap[q]?) (lv := fun k => [(2, .int (nI (k))), (3, .ref b), (1, .int (he τ (ws τ p))), (0, .ref r)]) 0 (Nat.zero_le _) ⟨hR, hSB, hz3, hqq3⟩ (lv_sub hl [1, 0, 2, 3] rfl) (fun k ls H locs hk hI hl ih => ?_)
          have hl : lv_has ls 4 [(2, .int (nI (k))), (3, .ref b), (1, .int (he τ (ws τ p))), (0, .ref r)] := hl
          obtain ⟨hR, hSB, hz, hqq⟩ := hI
          refine lv_aload_n hx hb dX5_next_84 rfl (lv_at hl 3 rfl) ?_
          refine lv_iload_n hx hb dX5_next_85 rfl (lv_at hl 0 rfl) ?_
          refine ro_call (x_runV (n := 1) (As := [.int (nI k)]) (rest := []) hx hb hml hown hts (metX5_isLetter l κ o τ r (ws τ p) 3 (nI (ws τ p)) nu tm w al k (by omega)) q467 q469 qs8 q73 q470 (by decide +kernel) (by decide) (by decide) rfl hR.1 ⟨hR.2.1, hR.2.2.1⟩ (ob_recv hR.1.1.1 rfl hR.2.2.1) hl.1 (Nat.le_of_ble_eq_true rfl) rfl dX5_next_86 ⟨by omega, by omega⟩) ?_
          refine lv_B_eq (tgt := 115) hx hb dX5_next_89 (by decide) (fun c_89 => ?_) (fun c_89 => ?_)
          · skip
            refine lv_iload_n hx hb dX5_next_115 rfl (lv_at hl 0 rfl) ?_
            refine lv_bipush (v := 8) hx hb dX5_next_116 (by decide) ?_
            refine lv_icmp_le (tgt := 122) hx hb dX5_next_118 (by decide) (fun c_118 => ?_) (fun c_118 => ?_)
            · skip
              refine lv_aload_n hx hb dX5_next_122 rfl (lv_at hl 3 rfl) ?_
              refine lv_aload_n hx hb dX5_next_123 rfl (lv_at hl 1 rfl) ?_
              have hkt : tl τ p = k := rn_ex hk c_89
              have hk8 : k ≤ 8 := (nI_leI (a := k) (b := 8) (by omega) (by decide)).mp c_118
              rw [Nat.min_eq_left hk8] at hSB
              refine x_called (x_runV (n := 0) (As := []) (rest := [.ref r]) hx hb hml hown hts (metJ4_toString l κ b vb k H.size (fun j => he τ (ws τ p + j)) hk8 (fun j hj => isLt_L (rn_at (P := isLt) (show j < rn τ isLt (ws τ p) by rw [show rn τ isLt (ws τ p) = k from hkt]; exact hj)))) q595 q596 q597 q75 q598 (by decide +kernel) (by decide) (by decide) rfl hR.1 ⟨rfl, hSB⟩ (ob_recv hR.1.1.1 rfl hSB.1) hl.1 (Nat.le_of_ble_eq_true rfl) rfl dX5_next_124 ⟨by show 2 + 2 ≤ 4; omega, by show 12 + (k + 4) ≤ 24; omega⟩) (fun v2 st t L hst hq hvm hL => ?_)
              obtain ⟨hv, hWS, hq3, hq4⟩ := hq
              cases hv
              rw [hst] at hWS hq3 hq4
              refine W.eq (g2 := F0 mi 127 ls [.ref H.size, .ref r]) (by rw [hst]; rfl) ?_
              have hqq : ∀ q : Nat, q < s0.heap.size → q ≠ r → t.heap[q]? = s0.heap[q]? := fun q h1 h2 => by rw [hq4 q (by omega)]; exact hqq q h1 h2
              have hR := hR.grow (H1 := t.heap) (L := L) hrl hol hR0 (by omega) (fun q hq => hq4 q (by omega)) (fun x hx => by have := hL x hx; rcases this with z | z <;> omega)
              have hzt : H.size = s0.heap.size + 2 := hz
              generalize hwB : H.size = wn at *
              have hz : t.heap.size = s0.heap.size + 4 := by omega
              have hWS := hWS.ext hkt.symm (show cutT k (fun j => he τ (ws τ p + j)) = lt τ p by unfold lt; rw [hkt])
              refine rd_put (V' := (rV (nI (ws τ p)) 3 (nI (ws τ p)) nu tm wn al o)) hx hb hts hown hR hro hrB 5 (by decide) q435 rfl rfl rfl rfl (fun j hj => by rcases (show j = 0 ∨ j = 1 ∨ j = 2 ∨ j = 3 ∨ j = 4 ∨ j = 5 ∨ j = 6 ∨ j = 7 by omega) with rfl | rfl | rfl | rfl | rfl | rfl | rfl | rfl <;> rfl) dX5_next_127 (fun H locs hR hz1 hq1 => ?_)
              have hz : _ = _ := hz1.trans hz
              have hqq : ∀ q : Nat, q < s0.heap.size → q ≠ r → H[q]? = s0.heap[q]? := fun q h1 h2 => by rw [hq1 q h2]; exact hqq q h1 h2
              have hWS := hWS.kept (hq1 wn (by omega)) (hq1 (wn + 1) (by omega))
              refine lv_aload_n hx hb dX5_next_130 rfl (lv_at hl 3 rfl) ?_
              refine lv_iconst (v := 1) hx hb dX5_next_131 (by decide) ?_
              refine rd_put (V' := (rV (nI (ws τ p)) 1 (nI (ws τ p)) nu tm wn al o)) hx hb hts hown hR hro hrB 1 (by decide) q431 rfl rfl rfl rfl (fun j hj => by rcases (show j = 0 ∨ j = 1 ∨ j = 2 ∨ j = 3 ∨ j = 4 ∨ j = 5 ∨ j = 6 ∨ j = 7 by omega) with rfl | rfl | rfl | rfl | rfl | rfl | rfl | rfl <;> rfl) dX5_next_132 (fun H locs hR hz1 hq1 => ?_)
              have hz : _ = _ := hz1.trans hz
              have hqq : ∀ q : Nat, q < s0.heap.size → q ≠ r → H[q]? = s0.heap[q]? := fun q h1 h2 => by rw [hq1 q h2]; exact hqq q h1 h2
              have hWS := hWS.kept (hq1 wn (by omega)) (hq1 (wn + 1) (by omega))
              refine lv_goto (tgt := 230) hx hb dX5_next_135 (by decide) ?_
              refine lv_aload_n hx hb dX5_next_230 rfl (lv_at hl 3 rfl) ?_
              refine lv_dup hx hb dX5_next_231 rfl ?_
              refine ob_get (C := RX5) (T := TX5) (N := 8) (ci := 4) (v := .int (nI (ws τ p))) hx hb hts in_X5 hown hR.1.1.1 hR.2.2.1 rfl 0 (by decide) q430 (fun x h => h) rfl dX5_next_232 ?_
              refine lv_iload_n hx hb dX5_next_235 rfl (lv_at hl 0 rfl) ?_
              refine lv_iadd hx hb dX5_next_236 ?_
              refine v_eqi (show nI (ws τ p) + nI k = nI (ws τ p + k) from nI_add _ _) ?_
              refine rd_put (V' := (rV (nI (ws τ p + k)) 1 (nI (ws τ p)) nu tm wn al o)) hx hb hts hown hR hro hrB 0 (by decide) q430 rfl rfl rfl rfl (fun j hj => by rcases (show j = 0 ∨ j = 1 ∨ j = 2 ∨ j = 3 ∨ j = 4 ∨ j = 5 ∨ j = 6 ∨ j = 7 by omega) with rfl | rfl | rfl | rfl | rfl | rfl | rfl | rfl <;> rfl) dX5_next_237 (fun H locs hR hz1 hq1 => ?_)
              have hz : _ = _ := hz1.trans hz
              have hqq : ∀ q : Nat, q < s0.heap.size → q ≠ r → H[q]? = s0.heap[q]? := fun q h1 h2 => by rw [hq1 q h2]; exact hqq q h1 h2
              have hWS := hWS.kept (hq1 wn (by omega)) (hq1 (wn + 1) (by omega))
              have htk := tk_w (τ := τ) (p := p) (Int32.not_lt.mpr c_55) c_71 (by omega)
              rw [← hkt] at hR
              refine W.widen (k := 4) (n := 24) (by omega) (by omega) ?_
              exact W.vret hx hb hr (fun t ht hW => ⟨rfl, ⟨wn, ⟨by rw [ht]; exact hR.2.1, ⟨_, by rw [ht, htk.1, htk.2]; exact hR.2.2.1, fun z => absurd (htk.1.symm.trans z) (by decide)⟩, fun z => ⟨by omega, wn + 1, 0, 0, by rw [ht]; exact hWS, Or.inl ⟨rfl, rfl⟩, by omega⟩, hp, by rw [ht]; omega⟩, Or.inr (by omega)⟩, by rw [ht]; omega, by rw [ht]; omega, fun q h1 h2 => by rw [ht]; exact hqq q h1 h2⟩) (fun x hx => by rcases hR.2.2.2.2.2 x hx with z | z <;> (show κ.base ≤ x.base; omega)) dX5_next_240 hlk
            · skip
              have hkt : tl τ p = k := rn_ex hk c_89
              have htk := tk_w3 (τ := τ) (p := p) (Int32.not_lt.mpr c_55) c_71 (by rw [hkt]; exact Nat.lt_of_not_le (fun z => c_118 (nI_le (a := k) (b := 8) z (by decide))))
              refine W.widen (k := 4) (n := 24) (by omega) (by omega) ?_
              exact W.vret hx hb hr (fun t ht hW => ⟨rfl, ⟨w, ⟨by rw [ht]; exact hR.2.1, ⟨_, by rw [ht, htk.1, htk.2]; exact hR.2.2.1, fun z => absurd (htk.1.symm.trans z) (by decide)⟩, fun z => absurd (htk.1.symm.trans z) (by decide), hp, by rw [ht]; omega⟩, Or.inl rfl⟩, by rw [ht]; omega, by rw [ht]; omega, fun q h1 h2 => by rw [ht]; exact hqq q h1 h2⟩) (fun x hx => by rcases hR.2.2.2.2.2 x hx with z | z <;> (show κ.base ≤ x.base; omega)) dX5_next_121 hlk
          · skip
            refine lv_iload_n hx hb dX5_next_92 rfl (lv_at hl 0 rfl) ?_
            refine lv_bipush (v := 8) hx hb dX5_next_93 (by decide) ?_
            refine lv_icmp_ge (tgt := 109) hx hb dX5_next_95 (by decide) (fun c_95 => ?_) (fun c_95 => ?_)
            · skip
              have hkl : k < tl τ p := rn_lt isLt_n hk c_89
              have hSB := sb_min hSB ((nI_leI (a := 8) (b := k) (by decide) (by omega)).mp c_95)
              refine lv_iinc (v := nI (k + 1)) (lv' := [(2, .int (nI (k + 1))), (3, .ref b), (1, .int (he τ (ws τ p))), (0, .ref r)]) hx hb dX5_next_109 hl (k := 0) rfl (nI_1 k) (by decide) rfl (fun ls hl => ?_)
              refine lv_goto (tgt := 84) hx hb dX5_next_112 (by decide) ?_
              exact ih ls _ _ hkl ⟨hR, hSB, by omega, hqq⟩ (lv_sub hl [0, 1, 2, 3] rfl)
            · skip
              refine lv_aload_n hx hb dX5_next_98 rfl (lv_at hl 1 rfl) ?_
              refine lv_aload_n hx hb dX5_next_99 rfl (lv_at hl 3 rfl) ?_
              refine lv_iload_n hx hb dX5_next_100 rfl (lv_at hl 0 rfl) ?_
              refine ro_call (x_runV (n := 1) (As := [.int (nI k)]) (rest := [.ref b]) hx hb hml hown hts (metX5_here l κ o τ r (ws τ p) 3 (nI (ws τ p)) nu tm w al k (by omega)) q463 q465 qs7 q73 q466 (by decide +kernel) (by decide) (by decide) rfl hR.1 ⟨hR.2.1, hR.2.2.1⟩ (ob_recv hR.1.1.1 rfl hR.2.2.1) hl.1 (Nat.le_of_ble_eq_true rfl) rfl dX5_next_101 ⟨by omega, by omega⟩) ?_
              refine lv_i2c hx hb dX5_next_104 (isLt_L c_89).c ?_
              have h8 : k < 8 := Nat.lt_of_not_le (fun z => c_95 (nI_le (a := 8) (b := k) z (by omega)))
              rw [Nat.min_eq_left (Nat.le_of_lt h8)] at hSB
              refine x_called (x_runV (n := 1) (As := [.int (he τ (ws τ p + k))]) (rest := []) hx hb hml hown hts (metJ4_append l κ b vb k (fun j => he τ (ws τ p + j)) _ h8 (isLt_L c_89)) q502 q503 q504 q75 q505 (by decide +kernel) (by decide) (by decide) rfl hR.1 hSB (ob_recv hR.1.1.1 rfl hSB.1) hl.1 (Nat.le_of_ble_eq_true rfl) rfl dX5_next_105 ⟨by show 2 + 0 ≤ 4; omega, by show 12 + 0 ≤ 24; omega⟩) (fun v2 st t L hst hq hvm hL => ?_)
              obtain ⟨hv, hSB, hq3, hq4⟩ := hq
              cases hv
              rw [hst] at hq3 hq4
              refine W.eq (g2 := F0 mi 108 ls [.ref b]) rfl ?_
              rw [upd_self (fun j => he τ (ws τ p + j)) k] at hSB
              have hSB : SB κ b vb (min (k + 1) 8) (fun j => he τ (ws τ p + j)) t.heap := by rw [Nat.min_eq_left h8]; exact hSB
              have hqq : ∀ q : Nat, q < s0.heap.size → q ≠ r → t.heap[q]? = s0.heap[q]? := fun q h1 h2 => by rw [hq4 q (by omega) (by omega)]; exact hqq q h1 h2
              have hR := hR.grow (H1 := t.heap) (L := L) hrl hol hR0 (by omega) (fun q hq => hq4 q (by omega) (by omega)) (fun x hx => by rcases hL x hx with z | z <;> (rw [z]; omega))
              refine lv_pop hx hb dX5_next_108 rfl ?_
              have hkl : k < tl τ p := rn_lt isLt_n hk c_89
              refine lv_iinc (v := nI (k + 1)) (lv' := [(2, .int (nI (k + 1))), (3, .ref b), (1, .int (he τ (ws τ p))), (0, .ref r)]) hx hb dX5_next_109 hl (k := 0) rfl (nI_1 k) (by decide) rfl (fun ls hl => ?_)
              refine lv_goto (tgt := 84) hx hb dX5_next_112 (by decide) ?_
              exact ih ls _ _ hkl ⟨hR, hSB, by omega, hqq⟩ (lv_sub hl [0, 1, 2, 3] rfl)
      · skip
        refine lv_aload_n hx hb dX5_next_58 rfl (lv_at hl 2 rfl) ?_
        refine lv_iconst (v := 0) hx hb dX5_next_59 (by decide) ?_
        refine rd_put (V' := (rV (nI (ws τ p)) 0 (nI (ws τ p)) nu tm w al o)) hx hb hts hown hR hro hrB 1 (by decide) q431 rfl rfl rfl rfl (fun j hj => by rcases (show j = 0 ∨ j = 1 ∨ j = 2 ∨ j = 3 ∨ j = 4 ∨ j = 5 ∨ j = 6 ∨ j = 7 by omega) with rfl | rfl | rfl | rfl | rfl | rfl | rfl | rfl <;> rfl) dX5_next_60 (fun H locs hR hz1 hq1 => ?_)
        have hz : _ = _ := hz1.trans hz
        refine lv_goto (tgt := 230) hx hb dX5_next_63 (by decide) ?_
        refine lv_aload_n hx hb dX5_next_230 rfl (lv_at hl 2 rfl) ?_
        refine lv_dup hx hb dX5_next_231 rfl ?_
        refine ob_get (C := RX5) (T := TX5) (N := 8) (ci := 4) (v := .int (nI (ws τ p))) hx hb hts in_X5 hown hR.1.1.1 hR.2.2.1 rfl 0 (by decide) q430 (fun x h => h) rfl dX5_next_232 ?_
        refine lv_iload_n hx hb dX5_next_235 rfl (lv_at hl 0 rfl) ?_
        refine lv_iadd hx hb dX5_next_236 ?_
        refine v_eqi (show nI (ws τ p) + nI 0 = nI (ws τ p + 0) from nI_add _ _) ?_
        refine rd_put (V' := (rV (nI (ws τ p + 0)) 0 (nI (ws τ p)) nu tm w al o)) hx hb hts hown hR hro hrB 0 (by decide) q430 rfl rfl rfl rfl (fun j hj => by rcases (show j = 0 ∨ j = 1 ∨ j = 2 ∨ j = 3 ∨ j = 4 ∨ j = 5 ∨ j = 6 ∨ j = 7 by omega) with rfl | rfl | rfl | rfl | rfl | rfl | rfl | rfl <;> rfl) dX5_next_237 (fun H locs hR hz1 hq1 => ?_)
        have hz : _ = _ := hz1.trans hz
        have htk := tk_end (τ := τ) (p := p) (Int32.not_le.mp c_55)
        refine W.widen (k := 4) (n := 24) (by omega) (by omega) ?_
        exact W.vret hx hb hr (fun t ht hW => ⟨rfl, ⟨w, ⟨by rw [ht]; exact hR.2.1, ⟨_, by rw [ht, htk.1, htk.2]; exact hR.2.2.1, fun z => absurd (htk.1.symm.trans z) (by decide)⟩, fun z => absurd (htk.1.symm.trans z) (by decide), hp, by rw [ht]; omega⟩, Or.inl rfl⟩, by rw [ht]; omega, by rw [ht]; omega, fun q h1 h2 => by rw [ht]; exact hR.2.2.2.2.1 q h1 (fun z => by rcases z with z | z <;> omega)⟩) (fun x hx => by rcases hR.2.2.2.2.2 x hx with z | z <;> (show κ.base ≤ x.base; omega)) dX5_next_240 hlk
    · skip
      refine lv_aload_n hx hb dX5_next_20 rfl (lv_at hl 0 rfl) ?_
      refine lv_dup hx hb dX5_next_21 rfl ?_
      refine ob_get (C := RX5) (T := TX5) (N := 8) (ci := 4) (v := .int (nI (p + k))) hx hb hts in_X5 hown hR.1.1.1 hR.2.2.1 rfl 0 (by decide) q430 (fun x h => h) rfl dX5_next_22 ?_
      refine lv_iconst (v := 1) hx hb dX5_next_25 (by decide) ?_
      refine lv_iadd hx hb dX5_next_26 ?_
      refine v_eqi (nI_1 (p + k)) ?_
      refine rd_put (V' := (rV (nI (p + k + 1)) so pl nu tm w al o)) hx hb hts hown hR hro hrB 0 (by decide) q430 rfl rfl rfl rfl (fun j hj => by rcases (show j = 0 ∨ j = 1 ∨ j = 2 ∨ j = 3 ∨ j = 4 ∨ j = 5 ∨ j = 6 ∨ j = 7 by omega) with rfl | rfl | rfl | rfl | rfl | rfl | rfl | rfl <;> rfl) dX5_next_27 (fun H locs hR hz1 hq1 => ?_)
      have hz : _ = _ := hz1.trans hz
      refine lv_goto (tgt := 0) hx hb dX5_next_30 (by decide) ?_
      exact ih ls _ _ (rn_lt isSp_n hk (by first | exact isSp_1 c_7 | exact isSp_2 c_17)) ⟨hR, by omega⟩ (lv_sub hl [0] rfl)
