/-! Reader.term. By tools/gen_r6.py -/
set_option maxRecDepth 100000
theorem pT_err {τ : Tp} {p tm : Nat} (h : ¬ (isTm τ p = true ∧ ¬ tm = 80)) : (pTerm τ p tm).1 = eR τ p := if_neg h
theorem pT_ok {τ : Tp} {p tm : Nat} (h1 : isTm τ p = true) (h2 : ¬ tm = 80) : (pTerm τ p tm).1 = .ok (tSem τ p, te τ p, tm + 1) := if_pos ⟨h1, h2⟩
theorem tS_n {τ : Tp} {p : Nat} (h : ts τ p = 2) : tSem τ p = fun _ => tn τ p := by unfold tSem; rw [if_pos h]
theorem tS_k {τ : Tp} {p k : Nat} (h : ¬ ts τ p = 2) (hk : fnd (tl τ p) (lt τ p) = some k) : tSem τ p = fun e => e k := by unfold tSem; rw [if_neg h, hk]
theorem isTm_w {τ : Tp} {p : Nat} (h : isTm τ p = true) (h2 : ¬ ts τ p = 2) : ts τ p = 1 ∧ ∃ k, fnd (tl τ p) (lt τ p) = some k := by
  unfold isTm at h
  rw [decide_eq_false h2, Bool.false_or, Bool.and_eq_true] at h
  exact ⟨of_decide_eq_true h.1, Option.isSome_iff_exists.mp h.2⟩

theorem PS.hash {s : State} {κ : Kg} {o r al : Nat} {τ : Tp} {P tm w w0 : Nat} {H H1 : Heap} {locs L : List Loc} (h : PS κ o τ r s w0 al P tm w H locs) (h1 : ts τ P = 1) (hwB : κ.base ≤ w) (hz : H1.size = H.size) (hq : ∀ q : Nat, q ≠ w → H1[q]? = H[q]?) (hW : ∃ v h z, WS κ w v (tl τ P) (lt τ P) h z H1 ∧ HO (tl τ P) (lt τ P) h z ∧ v ≠ r) (hL2 : ∀ x ∈ L, κ.base ≤ x.base) : PS κ o τ r s w0 al P tm w H1 (locs ++ L) := by
  obtain ⟨hK, ⟨hT, ⟨nu, hO, hnu⟩, hwd, hp, hw⟩, hF, hww, hL⟩ := h
  obtain ⟨-, v, h, z, hWS, -⟩ := hwd h1
  have hF2 : FrR κ r w H H1 := ⟨by omega, fun q _ _ h3 => hq q (fun e => h3 ⟨e, by omega⟩)⟩
  have hwo := tw_ne hK.1.1 hT hWS.1
  have hwr : r ≠ w := fun e => by rw [← e] at hWS; exact ws_ne hK.1.1 hWS.1 hO
  exact ⟨hK.to (fun q h => hq q (by omega)) (by have := hK.2.2; omega), ⟨hT.kept (hq _ hwo.1) (hq _ hwo.2), ⟨nu, hO.kept (hq r hwr), hnu⟩, fun _ => ⟨hwB, hW⟩, hp, by omega⟩, hF.trans hww hF2, hww, lc_app hL hL2⟩

set_option maxHeartbeats 4000000 in
theorem metX5_term (l : Launch) (κ : Kg) (o : Nat) (τ : Tp) (r p tm : Nat) (w al : Nat) (hro : o + 1 < r) (hrB : κ.base ≤ r) (htm : tm ≤ 80) : MetT l yX5_term (ws_ yX5_term cX5_term 2 (some (.object "HomeRoll$Ex"))) (rmC 7 5 27) (xP κ (RT κ o τ r p (nI tm) w al) [.ref r]) (prQ κ o τ r w al tm 0 (pTerm τ p tm).1) 5 27 (fun q => κ.base ≤ q) := by
  refine xT_start RX5 (by decide) rfl (Nat.le_of_ble_eq_true rfl) ?_
  intro pg ev s0 mi bl me co hx hb hml hnh hown hts hr hlk hK hM ls hl
  have hl : lv_has ls 2 [(0, .ref r)] := hl
  have hP : PS κ o τ r s0 w al p tm w s0.heap [] := ⟨hK, hM, FrR.rf, Or.inl rfl, fun x h => by cases h⟩
  refine lv_aload_n hx hb dX5_term_0 rfl (lv_at hl 0 rfl) ?_
  refine ps_isTerm hx hb hml hown hts hP hrB (by decide) hl.1 (Nat.le_of_ble_eq_true rfl) dX5_term_1 ⟨Nat.zero_le _, Nat.zero_le _⟩ (fun H1 locs1 hP hF1 => ?_)
  refine lv_B_eq (tgt := 16) hx hb dX5_term_4 (by decide) (fun c_4 => ?_) (fun c_4 => ?_)
  · skip
    refine lv_aload_n hx hb dX5_term_16 rfl (lv_at hl 0 rfl) ?_
    exact ps_wrong hx hb hml hnh hlk hown hts hP (by decide) hl.1 dX5_term_17 dX5_term_20 ⟨by show 0 + 1 ≤ _; omega, by show 0 + 8 ≤ _; omega⟩ ⟨by omega, by omega⟩ (fun oc t hq => by show prQ κ o τ r w al tm 0 (pTerm τ p tm).1 _ s0 oc t; rw [pT_err (by first | (rw [c_4]; simp; done) | (intro z; exact z.2 ((nI_eq (a := tm) (b := 80) (by omega) (by decide)).mp c_13)))]; exact hq)
  · skip
    refine lv_aload_n hx hb dX5_term_7 rfl (lv_at hl 0 rfl) ?_
    obtain ⟨nu, hO, hnu⟩ := hP.ob
    refine ob_get (C := RX5) (T := TX5) (N := 8) (ci := 4) (v := .int (nI tm)) hx hb hts in_X5 hown hP.1.1.1 hO rfl 4 (by decide) q434 (fun x h => h) rfl dX5_term_8 ?_
    refine lv_bipush (v := 80) hx hb dX5_term_11 (by decide) ?_
    refine lv_icmp_ne (tgt := 21) hx hb dX5_term_13 (by decide) (fun c_13 => ?_) (fun c_13 => ?_)
    · skip
      refine lv_aload_n hx hb dX5_term_21 rfl (lv_at hl 0 rfl) ?_
      refine lv_dup hx hb dX5_term_22 rfl ?_
      obtain ⟨nu, hO, hnu⟩ := hP.ob
      refine ob_get (C := RX5) (T := TX5) (N := 8) (ci := 4) (v := .int (nI tm)) hx hb hts in_X5 hown hP.1.1.1 hO rfl 4 (by decide) q434 (fun x h => h) rfl dX5_term_23 ?_
      refine lv_iconst (v := 1) hx hb dX5_term_26 (by decide) ?_
      refine lv_iadd hx hb dX5_term_27 ?_
      refine v_eqi (nI_1 tm) ?_
      refine ps_terms (tm' := tm + 1) hx hb hown hts hP hro hrB dX5_term_28 (fun H2 locs2 hP hF2 => ?_)
      have h80 : ¬ tm = 80 := fun z => c_13 (by rw [z]; rfl)
      have hsb := hK.2.2
      refine lv_aload_n hx hb dX5_term_31 rfl (lv_at hl 0 rfl) ?_
      obtain ⟨nu, hO, hnu⟩ := hP.ob
      refine ob_get (C := RX5) (T := TX5) (N := 8) (ci := 4) (v := .int (ts τ p)) hx hb hts in_X5 hown hP.1.1.1 hO rfl 1 (by decide) q431 (fun x h => h) rfl dX5_term_32 ?_
      refine lv_iconst (v := 2) hx hb dX5_term_35 (by decide) ?_
      refine lv_icmp_ne (tgt := 57) hx hb dX5_term_36 (by decide) (fun c_36 => ?_) (fun c_36 => ?_)
      · skip
        have hP0 := hP
        refine ob_new (C := RX10) (T := TX10) (N := 3) (ci := 8) hx hb hts in_X10 tyX10 tyX10_ok hown q959 q960 q91 hP.1.1.1 rfl (by show 0 + 1 ≤ 5; omega) (by show 0 + 3 ≤ 27; omega) dX5_term_57 (fun H3 hN hz3 ho3 => ?_)
        have hP := hP.new (H1 := H3) (by omega) ho3
        refine lv_dup hx hb dX5_term_60 rfl ?_
        refine lv_aload_n hx hb dX5_term_61 rfl (lv_at hl 0 rfl) ?_
        obtain ⟨nu, hO, hnu⟩ := hP.ob
        refine ob_get (C := RX5) (T := TX5) (N := 8) (ci := 4) (v := .ref o) hx hb hts in_X5 hown hP.1.1.1 hO rfl 7 (by decide) q437 (fun x h => h) rfl dX5_term_62 ?_
        refine lv_aload_n hx hb dX5_term_65 rfl (lv_at hl 0 rfl) ?_
        obtain ⟨nu, hO, hnu⟩ := hP.ob
        refine ob_get (C := RX5) (T := TX5) (N := 8) (ci := 4) (v := .ref w) hx hb hts in_X5 hown hP.1.1.1 hO rfl 5 (by decide) q435 (fun x h => h) rfl dX5_term_66 ?_
        obtain ⟨h1, kf, hkf⟩ := isTm_w c_4 c_36
        obtain ⟨hwB, v, h, z, hWS, hho, hvr⟩ := hP.2.1.2.2.1 h1
        refine x_called (x_runS (n := 1) (As := [.ref w]) (rest := [.ref o, .ref H2.size, .ref H2.size]) hx hb hml hown hts (metX2_find l κ w v (tl τ p) (lt τ p) h z (ts1 h1).1 (ts1 h1).2.1 hwB) q829 q830 q70 q831 (by decide +kernel) (by decide) (by decide) rfl hP.1 ⟨hWS, hho⟩ hl.1 (Nat.le_of_ble_eq_true rfl) rfl dX5_term_69 ⟨by show 0 + 1 + 0 ≤ 5; omega, by show 0 + 3 + 0 ≤ 27; omega⟩) (fun v2 st t L hst hq hvm hL => ?_)
        obtain ⟨hv, ⟨h2, z2, hW2, hho2⟩, hq3, hq4⟩ := hq
        cases hv
        rw [hst] at hq3 hq4
        have hP := hP.hash h1 hwB hq3 hq4 ⟨v, h2, z2, hW2, hho2, hvr⟩ (fun x hx => by rw [show x.base = w from hL x hx]; exact hwB)
        have hwl := hP0.2.1.2.2.2.2
        have hN := hN.kept (hq4 H2.size (by omega))
        refine W.eq (g2 := F0 mi 72 ls [.ref (κ.kn kf), .ref o, .ref H2.size, .ref H2.size]) (by rw [hkf]; rfl) ?_
        have hNo := hN
        refine ob_called (x_runI (n := 2) (As := [.ref o, .ref (κ.kn kf)]) (rest := [.ref H2.size]) hx hb hml hown hts (metX10_init l κ H2.size o (κ.kn kf) (Nat.le_trans hsb hP0.2.2.1.1)) q961 q962 q91 q963 rfl (by decide +kernel) (by decide) (by decide) rfl hP.1 hN hl.1 (Nat.le_of_ble_eq_true rfl) rfl dX5_term_72 ⟨by show 0 + 1 + 0 ≤ 5; omega, by show 0 + 3 + 0 ≤ 27; omega⟩) hP0.2.2.1.1 (fun H4 hN hz4 hq4 => ?_)
        have hP := hP.obj (H1 := H4) (isOb.of hNo (by decide) (by decide)) hP0.2.2.1.1 hz4 hq4 hsb
        have hE : ∀ (S : Nat → Prop), S H2.size → ExT κ o S H4 1 H2.size (tSem τ p) := fun S hs => ⟨hs, Or.inr (Or.inl ⟨kf, fnd_lt hkf, hN, tS_k c_36 hkf⟩)⟩
        refine lv_astore_n (lv' := [(1, .ref H2.size), (0, .ref r)]) hx hb dX5_term_75 rfl hl (by decide) rfl (fun ls hl => ?_)
        refine lv_aload_n hx hb dX5_term_76 rfl (lv_at hl 1 rfl) ?_
        have hz24 : H2.size < H4.size := by omega
        refine ps_next hx hb hml hown hts hP hro hrB (by decide) hl.1 (Nat.le_of_ble_eq_true rfl) dX5_term_77 ⟨by show _ + 4 ≤ 5; omega, by show _ + 24 ≤ 27; omega⟩ (fun H5 locs5 w5 hP hF5 hw5 => ?_)
        refine lv_aload_n hx hb dX5_term_80 rfl (lv_at hl 0 rfl) ?_
        refine W.widen (k := 5) (n := 27) (by omega) (by omega) ?_
        refine W.mono (fun _ => MQT.of) ?_
        have hwl := hP0.2.1.2.2.2.2
        have hTR : TR κ o r w H4 H2.size (tSem τ p) 1 H2.size H4.size := ⟨w, hE _ ⟨Nat.le_refl _, hz24, by omega⟩, Or.inl rfl, Nat.le_refl _, hP0.rl⟩
        have hTR := hTR.step hF5 hw5
        exact W.aret hx hb hr (Or.inl ⟨_, rfl⟩) (Or.inr ⟨_, rfl⟩) (fun t ht hW => by show prQ κ o τ r w al tm 0 (pTerm τ p tm).1 _ s0 _ t; rw [pT_ok c_4 h80]; exact ⟨_, w5, rfl, by rw [ht]; exact hP.2.1, hP.2.2.2.1, by rw [ht]; exact hTR.fin hP0.2.2.1.1 (by show 1 ≤ tm + 1 - tm + 0; omega), by rw [ht]; exact hP.2.2.1⟩) hP.2.2.2.2 dX5_term_81 hlk
      · skip
        have hP0 := hP
        refine ob_new (C := RX9) (T := TX9) (N := 3) (ci := 7) hx hb hts in_X9 tyX9 tyX9_ok hown q945 q946 q90 hP.1.1.1 rfl (by show 0 + 1 ≤ 5; omega) (by show 0 + 3 ≤ 27; omega) dX5_term_39 (fun H3 hN hz3 ho3 => ?_)
        have hP := hP.new (H1 := H3) (by omega) ho3
        refine lv_dup hx hb dX5_term_42 rfl ?_
        refine lv_aload_n hx hb dX5_term_43 rfl (lv_at hl 0 rfl) ?_
        obtain ⟨nu, hO, hnu⟩ := hP.ob
        refine ob_get (C := RX5) (T := TX5) (N := 8) (ci := 4) (v := .ref o) hx hb hts in_X5 hown hP.1.1.1 hO rfl 7 (by decide) q437 (fun x h => h) rfl dX5_term_44 ?_
        refine lv_aload_n hx hb dX5_term_47 rfl (lv_at hl 0 rfl) ?_
        obtain ⟨nu, hO, hnu⟩ := hP.ob
        have hO := hnu c_36 ▸ hO
        refine ob_get (C := RX5) (T := TX5) (N := 8) (ci := 4) (v := .int (tn τ p)) hx hb hts in_X5 hown hP.1.1.1 hO rfl 3 (by decide) q433 (fun x h => h) rfl dX5_term_48 ?_
        have hNo := hN
        refine ob_called (x_runI (n := 2) (As := [.ref o, .int (tn τ p)]) (rest := [.ref H2.size]) hx hb hml hown hts (metX9_init l κ H2.size o (tn τ p) (Nat.le_trans hsb hP0.2.2.1.1)) q947 q948 q90 q949 rfl (by decide +kernel) (by decide) (by decide) rfl hP.1 hN hl.1 (Nat.le_of_ble_eq_true rfl) rfl dX5_term_51 ⟨by show 0 + 1 + 0 ≤ 5; omega, by show 0 + 3 + 0 ≤ 27; omega⟩) hP0.2.2.1.1 (fun H4 hN hz4 hq4 => ?_)
        have hP := hP.obj (H1 := H4) (isOb.of hNo (by decide) (by decide)) hP0.2.2.1.1 hz4 hq4 hsb
        have hTS : tSem τ p = fun _ => tn τ p := tS_n c_36
        have hE : ∀ (S : Nat → Prop), S H2.size → ExT κ o S H4 1 H2.size (tSem τ p) := fun S hs => ⟨hs, Or.inl ⟨_, hN, hTS⟩⟩
        refine lv_goto (tgt := 75) hx hb dX5_term_54 (by decide) ?_
        refine lv_astore_n (lv' := [(1, .ref H2.size), (0, .ref r)]) hx hb dX5_term_75 rfl hl (by decide) rfl (fun ls hl => ?_)
        refine lv_aload_n hx hb dX5_term_76 rfl (lv_at hl 1 rfl) ?_
        have hz24 : H2.size < H4.size := by omega
        refine ps_next hx hb hml hown hts hP hro hrB (by decide) hl.1 (Nat.le_of_ble_eq_true rfl) dX5_term_77 ⟨by show _ + 4 ≤ 5; omega, by show _ + 24 ≤ 27; omega⟩ (fun H5 locs5 w5 hP hF5 hw5 => ?_)
        refine lv_aload_n hx hb dX5_term_80 rfl (lv_at hl 0 rfl) ?_
        refine W.widen (k := 5) (n := 27) (by omega) (by omega) ?_
        refine W.mono (fun _ => MQT.of) ?_
        have hwl := hP0.2.1.2.2.2.2
        have hTR : TR κ o r w H4 H2.size (tSem τ p) 1 H2.size H4.size := ⟨w, hE _ ⟨Nat.le_refl _, hz24, by omega⟩, Or.inl rfl, Nat.le_refl _, hP0.rl⟩
        have hTR := hTR.step hF5 hw5
        exact W.aret hx hb hr (Or.inl ⟨_, rfl⟩) (Or.inr ⟨_, rfl⟩) (fun t ht hW => by show prQ κ o τ r w al tm 0 (pTerm τ p tm).1 _ s0 _ t; rw [pT_ok c_4 h80]; exact ⟨_, w5, rfl, by rw [ht]; exact hP.2.1, hP.2.2.2.1, by rw [ht]; exact hTR.fin hP0.2.2.1.1 (by show 1 ≤ tm + 1 - tm + 0; omega), by rw [ht]; exact hP.2.2.1⟩) hP.2.2.2.2 dX5_term_81 hlk
    · skip
      refine lv_aload_n hx hb dX5_term_16 rfl (lv_at hl 0 rfl) ?_
      exact ps_wrong hx hb hml hnh hlk hown hts hP (by decide) hl.1 dX5_term_17 dX5_term_20 ⟨by show 0 + 1 ≤ _; omega, by show 0 + 8 ≤ _; omega⟩ ⟨by omega, by omega⟩ (fun oc t hq => by show prQ κ o τ r w al tm 0 (pTerm τ p tm).1 _ s0 oc t; rw [pT_err (by first | (rw [c_4]; simp; done) | (intro z; exact z.2 ((nI_eq (a := tm) (b := 80) (by omega) (by decide)).mp c_13)))]; exact hq)
