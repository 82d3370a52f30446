/-! Reader.one; one, both, either for every nesting. By tools/gen_rb.py -/
set_option maxRecDepth 100000
theorem pOne_d {τ : Tp} {e d p tm : Nat} (hd : d + e = 5) (h : dpOk τ p d = false) : pOne τ (e + 1) p tm = (eR τ p, 1, 8) := by
  rw [pOne, show 6 - (e + 1) = d by omega, if_neg (by rw [h]; decide)]
theorem pOne_n {τ : Tp} {e d p tm : Nat} (hd : d + e = 5) (h : dpOk τ p d = true) (h2 : isW τ p 12 = true) : pOne τ (e + 1) p tm = ((match (pOne τ e (te τ p) tm).1 with | .error q => .error q | .ok q => .ok (fun v => b2 (decide (q.1 v = 0)), q.2)), 6 + (pOne τ e (te τ p) tm).2.1, 35 + (pOne τ e (te τ p) tm).2.2) := by
  rw [pOne, show 6 - (e + 1) = d by omega, if_pos h, if_pos h2]
  cases (pOne τ e (te τ p) tm).1 <;> rfl
theorem pOne_e {τ : Tp} {e d p tm : Nat} (hd : d + e = 5) (h : dpOk τ p d = true) (h2 : isW τ p 12 = false) (h3 : ts τ p = 40) : pOne τ (e + 1) p tm = (match (pEi τ e (pOne τ e) (te τ p) tm).1 with
    | .error q => (.error q, 5 + (pEi τ e (pOne τ e) (te τ p) tm).2.1, 32 + (pEi τ e (pOne τ e) (te τ p) tm).2.2)
    | .ok q => (if ts τ q.2.1 = 41 then .ok (q.1, te τ q.2.1, q.2.2) else eR τ q.2.1, 5 + (pEi τ e (pOne τ e) (te τ p) tm).2.1 + 4, 32 + (pEi τ e (pOne τ e) (te τ p) tm).2.2 + 24)) := by
  rw [pOne, show 6 - (e + 1) = d by omega, if_pos h, if_neg (by rw [h2]; decide), if_pos h3]
  cases (pEi τ e (pOne τ e) (te τ p) tm).1 <;> rfl
theorem pOne_s {τ : Tp} {e d p tm : Nat} (hd : d + e = 5) (h : dpOk τ p d = true) (h2 : isW τ p 12 = false) (h3 : ¬ ts τ p = 40) : pOne τ (e + 1) p tm = (match (pSum τ p tm).1 with
        | .error q => (.error q, 1 + (pSum τ p tm).2.1, 8 + (pSum τ p tm).2.2)
        | .ok q => if ts τ q.2.1 = 60 ∨ ts τ q.2.1 = 62 ∨ ts τ q.2.1 = 61 then
            (match (pSum τ (te τ q.2.1) q.2.2).1 with
            | .error q2 => (.error q2, 1 + (pSum τ p tm).2.1 + 5 + (pSum τ (te τ q.2.1) q.2.2).2.1, 8 + (pSum τ p tm).2.2 + 29 + (pSum τ (te τ q.2.1) q.2.2).2.2)
            | .ok q2 => (.ok (fun v => bin (ts τ q.2.1) (q.1 v) (q2.1 v), q2.2), 1 + (pSum τ p tm).2.1 + 5 + (pSum τ (te τ q.2.1) q.2.2).2.1, 8 + (pSum τ p tm).2.2 + 29 + (pSum τ (te τ q.2.1) q.2.2).2.2))
          else (.ok q, 1 + (pSum τ p tm).2.1, 8 + (pSum τ p tm).2.2)) := by
  rw [pOne, show 6 - (e + 1) = d by omega, if_pos h, if_neg (by rw [h2]; decide), if_neg h3]
  cases (pSum τ p tm).1 with
  | error q => rfl
  | ok q =>
    dsimp only
    split
    · cases (pSum τ (te τ q.2.1) q.2.2).1 <;> rfl
    · rfl
theorem pOne_ge {τ : Tp} {e p tm : Nat} : 1 ≤ (pOne τ (e + 1) p tm).2.1 ∧ 8 ≤ (pOne τ (e + 1) p tm).2.2 := by
  rw [pOne]
  repeat' split
  all_goals first | exact ⟨Nat.le_refl _, Nat.le_refl _⟩ | (dsimp only; omega)

set_option maxHeartbeats 8000000 in
theorem metX5_one_s (l : Launch) (κ : Kg) (o : Nat) (τ : Tp) (r al e d : Nat) (hd5 : d + e = 5) (hro : o + 1 < r) (hrB : κ.base ≤ r)
    (hOne : ∀ p tm w, tm ≤ 80 → MetT l yX5_one (ws_ yX5_one cX5_one 4 (some (.object "HomeRoll$Ex"))) (rmC (9 + 3 * e) (pOne τ e p tm).2.1 (pOne τ e p tm).2.2) (xP κ (RT κ o τ r p (nI tm) w al) [.ref r, .int (nI (d + 1))]) (prQ κ o τ r w al tm e (pOne τ e p tm).1) (pOne τ e p tm).2.1 (pOne τ e p tm).2.2 (fun q => κ.base ≤ q))
    (hEi : ∀ p tm w, tm ≤ 80 → MetT l yX5_either (ws_ yX5_either cX5_either 3 (some (.object "HomeRoll$Ex"))) (rmC (11 + 3 * e) (pEi τ e (pOne τ e) p tm).2.1 (pEi τ e (pOne τ e) p tm).2.2) (xP κ (RT κ o τ r p (nI tm) w al) [.ref r, .int (nI (d + 1))]) (prQ κ o τ r w al tm e (pEi τ e (pOne τ e) p tm).1) (pEi τ e (pOne τ e) p tm).2.1 (pEi τ e (pOne τ e) p tm).2.2 (fun q => κ.base ≤ q)) (p tm w : Nat) (htm : tm ≤ 80) :
    MetT l yX5_one (ws_ yX5_one cX5_one 4 (some (.object "HomeRoll$Ex"))) (rmC (12 + 3 * e) (pOne τ (e + 1) p tm).2.1 (pOne τ (e + 1) p tm).2.2) (xP κ (RT κ o τ r p (nI tm) w al) [.ref r, .int (nI d)]) (prQ κ o τ r w al tm (e + 1) (pOne τ (e + 1) p tm).1) (pOne τ (e + 1) p tm).2.1 (pOne τ (e + 1) p tm).2.2 (fun q => κ.base ≤ q) := by
  refine xT_start RX5 (by decide) rfl (Nat.le_of_ble_eq_true rfl) ?_
  intro pg ev s0 mi bl me co hx hb hml hnh hown hts hr hlk hK hM ls hl
  have hl : lv_has ls 4 [(0, .ref r), (1, .int (nI d))] := hl
  have hP : PS κ o τ r s0 w al p tm w s0.heap [] := ⟨hK, hM, FrR.rf, Or.inl rfl, fun x h => by cases h⟩
  have hP0 := hP
  have hrs := hP.rl
  have hsb0 : κ.base ≤ s0.heap.size := hK.2.2
  have hgd := pOne_ge (τ := τ) (e := e) (p := p) (tm := tm)
  refine lv_aload_n hx hb dX5_one_0 rfl (lv_at hl 0 rfl) ?_
  refine lv_iload_n hx hb dX5_one_1 rfl (lv_at hl 1 rfl) ?_
  refine ps_deep hx hb hml hnh hlk hown hts hP hrB (by omega) (by omega) hl.1 (Nat.le_of_ble_eq_true rfl) dX5_one_2 ⟨by show 0 + 1 ≤ (pOne τ (e + 1) p tm).2.1; omega, by show 0 + 8 ≤ (pOne τ (e + 1) p tm).2.2; omega⟩ ⟨by omega, by omega⟩ (fun hf oc t her => by show prQ κ o τ r w al tm (e + 1) (pOne τ (e + 1) p tm).1 _ s0 oc t; rw [pOne_d hd5 hf]; exact her) (fun hdok H0 locs0 hP hF0 hz0 => ?_)
  refine lv_aload_n hx hb dX5_one_5 rfl (lv_at hl 0 rfl) ?_
  refine va_ldcS hx hb hown (sR_12 hP.1.1) dX5_one_6 ?_
  refine ps_is hx hb hml hown hts hP 12 (by decide) (by omega) hl.1 (Nat.le_of_ble_eq_true rfl) dX5_one_8 ⟨by omega, by omega⟩ ?_
  refine lv_B_eq (tgt := 37) hx hb dX5_one_11 (by decide) (fun c_11 => ?_) (fun c_11 => ?_)
  · skip
    refine lv_aload_n hx hb dX5_one_37 rfl (lv_at hl 0 rfl) ?_
    obtain ⟨nu, hO, hnu⟩ := hP.ob
    refine ob_get (C := RX5) (T := TX5) (N := 8) (ci := 4) (v := .int (ts τ p)) hx hb hts in_X5 hown hP.1.1.1 hO rfl 1 (by decide) q431 (fun x h => h) rfl dX5_one_38 ?_
    refine lv_bipush (v := 40) hx hb dX5_one_41 (by decide) ?_
    refine lv_icmp_ne (tgt := 78) hx hb dX5_one_43 (by decide) (fun c_43 => ?_) (fun c_43 => ?_)
    · skip
      refine lv_aload_n hx hb dX5_one_78 rfl (lv_at hl 0 rfl) ?_
      have hnW : isW τ p 12 = false := c_11
      have hEq := pOne_s (tm := tm) hd5 hdok hnW c_43
      have hge2 : 1 + (pSum τ p tm).2.1 ≤ (pOne τ (e + 1) p tm).2.1 ∧ 8 + (pSum τ p tm).2.2 ≤ (pOne τ (e + 1) p tm).2.2 := by
        rw [hEq]
        cases (pSum τ p tm).1 with
        | error q => exact ⟨Nat.le_refl _, Nat.le_refl _⟩
        | ok q =>
          dsimp only
          split
          · split
            · exact ⟨by show _ ≤ 1 + (pSum τ p tm).2.1 + 5 + _; omega, by show _ ≤ 8 + (pSum τ p tm).2.2 + 29 + _; omega⟩
            · exact ⟨by show _ ≤ 1 + (pSum τ p tm).2.1 + 5 + _; omega, by show _ ≤ 8 + (pSum τ p tm).2.2 + 29 + _; omega⟩
          · exact ⟨Nat.le_refl _, Nat.le_refl _⟩
      refine ps_call (n := 0) (As := []) (rest := []) hx hb hml hnh hlk hown hts hP hrB (metX5_sum l κ o τ r p tm w al hro hrB htm) q937 q939 qs18 q940 (by decide +kernel) (by omega) (by decide) rfl hl.1 (Nat.le_of_ble_eq_true rfl) rfl dX5_one_79 ⟨by show 0 + 1 + (pSum τ p tm).2.1 ≤ (pOne τ (e + 1) p tm).2.1; omega, by show 0 + 8 + (pSum τ p tm).2.2 ≤ (pOne τ (e + 1) p tm).2.2; omega⟩ ⟨by omega, by omega⟩ (fun q hq oc t her => by show prQ κ o τ r w al tm (e + 1) (pOne τ (e + 1) p tm).1 _ s0 oc t; rw [hEq, hq]; exact her) (fun q hq H2 locs2 a w2 hP hF2 hw2 hE => ?_)
      rw [hq] at hEq
      have hEq : (pOne τ (e + 1) p tm) = if ts τ q.2.1 = 60 ∨ ts τ q.2.1 = 62 ∨ ts τ q.2.1 = 61 then _ else _ := hEq
      have hq1 := pSum_tm htm hq
      have hr0 := hP0.rl
      have hs2 := hP0.2.2.1.1
      have hE := TR.of hE (show r < H0.size by omega)
      refine lv_astore_n (lv' := [(2, .ref a), (0, .ref r), (1, .int (nI d))]) hx hb dX5_one_82 rfl hl (by decide) rfl (fun ls hl => ?_)
      refine lv_aload_n hx hb dX5_one_83 rfl (lv_at hl 1 rfl) ?_
      obtain ⟨nu, hO, hnu⟩ := hP.ob
      refine ob_get (C := RX5) (T := TX5) (N := 8) (ci := 4) (v := .int (ts τ q.2.1)) hx hb hts in_X5 hown hP.1.1.1 hO rfl 1 (by decide) q431 (fun x h => h) rfl dX5_one_84 ?_
      refine lv_bipush (v := 60) hx hb dX5_one_87 (by decide) ?_
      refine lv_icmp_eq (tgt := 112) hx hb dX5_one_89 (by decide) (fun c_89 => ?_) (fun c_89 => ?_)
      · skip
        refine lv_aload_n hx hb dX5_one_112 rfl (lv_at hl 1 rfl) ?_
        have hcmp : ts τ q.2.1 = 60 ∨ ts τ q.2.1 = 62 ∨ ts τ q.2.1 = 61 := by first | exact Or.inl c_89 | exact Or.inr (Or.inl c_98) | exact Or.inr (Or.inr c_107)
        rw [if_pos hcmp] at hEq
        have hge2 : 1 + (pSum τ p tm).2.1 + 5 + (pSum τ (te τ q.2.1) q.2.2).2.1 ≤ (pOne τ (e + 1) p tm).2.1 ∧ 8 + (pSum τ p tm).2.2 + 29 + (pSum τ (te τ q.2.1) q.2.2).2.2 ≤ (pOne τ (e + 1) p tm).2.2 := by
          rw [hEq]
          cases (pSum τ (te τ q.2.1) q.2.2).1 with
          | error q => exact ⟨Nat.le_refl _, Nat.le_refl _⟩
          | ok q => exact ⟨Nat.le_refl _, Nat.le_refl _⟩
        obtain ⟨nu, hO, hnu⟩ := hP.ob
        refine ob_get (C := RX5) (T := TX5) (N := 8) (ci := 4) (v := .int (ts τ q.2.1)) hx hb hts in_X5 hown hP.1.1.1 hO rfl 1 (by decide) q431 (fun x h => h) rfl dX5_one_113 ?_
        refine lv_istore_n (lv' := [(3, .int (ts τ q.2.1)), (2, .ref a), (0, .ref r), (1, .int (nI d))]) hx hb dX5_one_116 rfl hl (by decide) rfl (fun ls hl => ?_)
        refine lv_aload_n hx hb dX5_one_117 rfl (lv_at hl 2 rfl) ?_
        refine ps_next hx hb hml hown hts hP hro hrB (by omega) hl.1 (Nat.le_of_ble_eq_true rfl) dX5_one_118 ⟨by show 0 + 1 + (pSum τ p tm).2.1 + 4 ≤ _; omega, by show 0 + 8 + (pSum τ p tm).2.2 + 24 ≤ _; omega⟩ (fun H3 locs3 w3 hP hF3 hw3 => ?_)
        have hE := hE.step hF3 hw3
        have hE1 := hE.hi
        have hw3l := hP.2.1.2.2.2.2
        have hr1 := hP.rl
        have hs1 := hP.2.2.1.1
        refine ob_new (C := RX11) (T := TX11) (N := 5) (ci := 9) hx hb hts in_X11 tyX11 tyX11_ok hown q973 q974 q92 hP.1.1.1 rfl (by show 0 + 1 + (pSum τ p tm).2.1 + 4 + 1 ≤ (pOne τ (e + 1) p tm).2.1; omega) (by show 0 + 8 + (pSum τ p tm).2.2 + 24 + 5 ≤ (pOne τ (e + 1) p tm).2.2; omega) dX5_one_121 (fun H4 hN hz4 ho4 => ?_)
        have hP := hP.new (H1 := H4) (by omega) ho4
        have hE := hE.new (H1 := H4) (by omega) ho4
        refine lv_dup hx hb dX5_one_124 rfl ?_
        refine lv_aload_n hx hb dX5_one_125 rfl (lv_at hl 2 rfl) ?_
        obtain ⟨nu, hO, hnu⟩ := hP.ob
        refine ob_get (C := RX5) (T := TX5) (N := 8) (ci := 4) (v := .ref o) hx hb hts in_X5 hown hP.1.1.1 hO rfl 7 (by decide) q437 (fun x h => h) rfl dX5_one_126 ?_
        refine lv_aload_n hx hb dX5_one_129 rfl (lv_at hl 1 rfl) ?_
        refine lv_iload_n hx hb dX5_one_130 rfl (lv_at hl 0 rfl) ?_
        refine lv_aload_n hx hb dX5_one_131 rfl (lv_at hl 2 rfl) ?_
        refine ps_call (n := 0) (As := []) (rest := [.int (ts τ q.2.1), .ref a, .ref o, .ref H3.size, .ref H3.size]) hx hb hml hnh hlk hown hts hP hrB (metX5_sum l κ o τ r (te τ q.2.1) q.2.2 w3 al hro hrB hq1.2) q937 q939 qs18 q940 (by decide +kernel) (by omega) (by decide) rfl hl.1 (Nat.le_of_ble_eq_true rfl) rfl dX5_one_132 ⟨by show 0 + 1 + (pSum τ p tm).2.1 + 4 + 1 + (pSum τ (te τ q.2.1) q.2.2).2.1 ≤ (pOne τ (e + 1) p tm).2.1; omega, by show 0 + 8 + (pSum τ p tm).2.2 + 24 + 5 + (pSum τ (te τ q.2.1) q.2.2).2.2 ≤ (pOne τ (e + 1) p tm).2.2; omega⟩ ⟨by omega, by omega⟩ (fun q hq oc t her => by show prQ κ o τ r w al tm (e + 1) (pOne τ (e + 1) p tm).1 _ s0 oc t; rw [hEq, hq]; exact her) (fun q2 hq2 H5 locs5 b w5 hP hF5 hw5 hEb => ?_)
        rw [hq2] at hEq
        have hq3 := pSum_tm hq1.2 hq2
        have hE := hE.step hF5 hw5
        have hEb := TR.of hEb (show r < H4.size by omega)
        have hN := hN.kept (hF5.2 H3.size (by omega) (by omega) (by omega))
        have hN0 := hN
        have hF51 := hF5.1
        refine ob_called (x_runI (n := 4) (As := [.ref o, .ref a, .int (ts τ q.2.1), .ref b]) (rest := [.ref H3.size]) hx hb hml hown hts (metX11_init l κ H3.size o a (ts τ q.2.1) b (by omega)) q975 q976 q92 q977 rfl (by decide +kernel) (by omega) (by decide) rfl hP.1 hN hl.1 (Nat.le_of_ble_eq_true rfl) rfl dX5_one_135 ⟨by show 0 + 1 + (pSum τ p tm).2.1 + 4 + 1 + (pSum τ (te τ q.2.1) q.2.2).2.1 + 0 ≤ _; omega, by show 0 + 8 + (pSum τ p tm).2.2 + 24 + 5 + (pSum τ (te τ q.2.1) q.2.2).2.2 + 0 ≤ _; omega⟩) hs1 (fun H6 hN hz6 hq6 => ?_)
        have hP := hP.obj (H1 := H6) (isOb.of hN0 (by decide) (by decide)) hs1 hz6 hq6 hsb0
        have hE := hE.obj (x := H3.size) (Or.inr hE1) hz6 hq6
        have hEb := hEb.obj (x := H3.size) (Or.inl (by omega)) hz6 hq6
        have hw5l := hP.2.1.2.2.2.2
        have hE2 : ExT κ o (FP s0.heap.size H6.size w5) H6 (q2.2.2 - tm + (e + 1)) H3.size (fun v => bin (ts τ q.2.1) (q.1 v) (q2.1 v)) := by
          obtain ⟨d0, hd0⟩ : ∃ d0, q2.2.2 - tm + (e + 1) = d0 + 1 := ⟨q2.2.2 - tm + e, by omega⟩
          rw [hd0]
          exact ⟨⟨hs1, by omega, by rcases hw5 with z | z <;> omega⟩, Or.inr (Or.inr (Or.inr (Or.inl ⟨a, b, _, _, _, hN, hE.fin (by omega) (by omega), hEb.fin (by omega) (by omega), rfl⟩)))⟩
        have hEq2 : (pOne τ (e + 1) p tm).1 = .ok (fun v => bin (ts τ q.2.1) (q.1 v) (q2.1 v), q2.2) := by rw [hEq]
        refine W.widen (k := (pOne τ (e + 1) p tm).2.1) (n := (pOne τ (e + 1) p tm).2.2) (by omega) (by omega) ?_
        refine W.mono (fun _ => MQT.of) ?_
        exact W.aret hx hb hr (Or.inl ⟨_, rfl⟩) (Or.inr ⟨_, rfl⟩) (fun t ht hW => by show prQ κ o τ r w al tm (e + 1) (pOne τ (e + 1) p tm).1 _ s0 _ t; rw [hEq2]; exact ⟨_, w5, rfl, by rw [ht]; exact hP.2.1, hP.2.2.2.1, by rw [ht]; exact hE2, by rw [ht]; exact hP.2.2.1⟩) hP.2.2.2.2 dX5_one_138 hlk
      · skip
        refine lv_aload_n hx hb dX5_one_92 rfl (lv_at hl 1 rfl) ?_
        obtain ⟨nu, hO, hnu⟩ := hP.ob
        refine ob_get (C := RX5) (T := TX5) (N := 8) (ci := 4) (v := .int (ts τ q.2.1)) hx hb hts in_X5 hown hP.1.1.1 hO rfl 1 (by decide) q431 (fun x h => h) rfl dX5_one_93 ?_
        refine lv_bipush (v := 62) hx hb dX5_one_96 (by decide) ?_
        refine lv_icmp_eq (tgt := 112) hx hb dX5_one_98 (by decide) (fun c_98 => ?_) (fun c_98 => ?_)
        · skip
          refine lv_aload_n hx hb dX5_one_112 rfl (lv_at hl 1 rfl) ?_
          have hcmp : ts τ q.2.1 = 60 ∨ ts τ q.2.1 = 62 ∨ ts τ q.2.1 = 61 := by first | exact Or.inl c_89 | exact Or.inr (Or.inl c_98) | exact Or.inr (Or.inr c_107)
          rw [if_pos hcmp] at hEq
          have hge2 : 1 + (pSum τ p tm).2.1 + 5 + (pSum τ (te τ q.2.1) q.2.2).2.1 ≤ (pOne τ (e + 1) p tm).2.1 ∧ 8 + (pSum τ p tm).2.2 + 29 + (pSum τ (te τ q.2.1) q.2.2).2.2 ≤ (pOne τ (e + 1) p tm).2.2 := by
            rw [hEq]
            cases (pSum τ (te τ q.2.1) q.2.2).1 with
            | error q => exact ⟨Nat.le_refl _, Nat.le_refl _⟩
            | ok q => exact ⟨Nat.le_refl _, Nat.le_refl _⟩
          obtain ⟨nu, hO, hnu⟩ := hP.ob
          refine ob_get (C := RX5) (T := TX5) (N := 8) (ci := 4) (v := .int (ts τ q.2.1)) hx hb hts in_X5 hown hP.1.1.1 hO rfl 1 (by decide) q431 (fun x h => h) rfl dX5_one_113 ?_
          refine lv_istore_n (lv' := [(3, .int (ts τ q.2.1)), (2, .ref a), (0, .ref r), (1, .int (nI d))]) hx hb dX5_one_116 rfl hl (by decide) rfl (fun ls hl => ?_)
          refine lv_aload_n hx hb dX5_one_117 rfl (lv_at hl 2 rfl) ?_
          refine ps_next hx hb hml hown hts hP hro hrB (by omega) hl.1 (Nat.le_of_ble_eq_true rfl) dX5_one_118 ⟨by show 0 + 1 + (pSum τ p tm).2.1 + 4 ≤ _; omega, by show 0 + 8 + (pSum τ p tm).2.2 + 24 ≤ _; omega⟩ (fun H3 locs3 w3 hP hF3 hw3 => ?_)
          have hE := hE.step hF3 hw3
          have hE1 := hE.hi
          have hw3l := hP.2.1.2.2.2.2
          have hr1 := hP.rl
          have hs1 := hP.2.2.1.1
          refine ob_new (C := RX11) (T := TX11) (N := 5) (ci := 9) hx hb hts in_X11 tyX11 tyX11_ok hown q973 q974 q92 hP.1.1.1 rfl (by show 0 + 1 + (pSum τ p tm).2.1 + 4 + 1 ≤ (pOne τ (e + 1) p tm).2.1; omega) (by show 0 + 8 + (pSum τ p tm).2.2 + 24 + 5 ≤ (pOne τ (e + 1) p tm).2.2; omega) dX5_one_121 (fun H4 hN hz4 ho4 => ?_)
          have hP := hP.new (H1 := H4) (by omega) ho4
          have hE := hE.new (H1 := H4) (by omega) ho4
          refine lv_dup hx hb dX5_one_124 rfl ?_
          refine lv_aload_n hx hb dX5_one_125 rfl (lv_at hl 2 rfl) ?_
          obtain ⟨nu, hO, hnu⟩ := hP.ob
          refine ob_get (C := RX5) (T := TX5) (N := 8) (ci := 4) (v := .ref o) hx hb hts in_X5 hown hP.1.1.1 hO rfl 7 (by decide) q437 (fun x h => h) rfl dX5_one_126 ?_
          refine lv_aload_n hx hb dX5_one_129 rfl (lv_at hl 1 rfl) ?_
          refine lv_iload_n hx hb dX5_one_130 rfl (lv_at hl 0 rfl) ?_
          refine lv_aload_n hx hb dX5_one_131 rfl (lv_at hl 2 rfl) ?_
          refine ps_call (n := 0) (As := []) (rest := [.int (ts τ q.2.1), .ref a, .ref o, .ref H3.size, .ref H3.size]) hx hb hml hnh hlk hown hts hP hrB (metX5_sum l κ o τ r (te τ q.2.1) q.2.2 w3 al hro hrB hq1.2) q937 q939 qs18 q940 (by decide +kernel) (by omega) (by decide) rfl hl.1 (Nat.le_of_ble_eq_true rfl) rfl dX5_one_132 ⟨by show 0 + 1 + (pSum τ p tm).2.1 + 4 + 1 + (pSum τ (te τ q.2.1) q.2.2).2.1 ≤ (pOne τ (e + 1) p tm).2.1; omega, by show 0 + 8 + (pSum τ p tm).2.2 + 24 + 5 + (pSum τ (te τ q.2.1) q.2.2).2.2 ≤ (pOne τ (e + 1) p tm).2.2; omega⟩ ⟨by omega, by omega⟩ (fun q hq oc t her => by show prQ κ o τ r w al tm (e + 1) (pOne τ (e + 1) p tm).1 _ s0 oc t; rw [hEq, hq]; exact her) (fun q2 hq2 H5 locs5 b w5 hP hF5 hw5 hEb => ?_)
          rw [hq2] at hEq
          have hq3 := pSum_tm hq1.2 hq2
          have hE := hE.step hF5 hw5
          have hEb := TR.of hEb (show r < H4.size by omega)
          have hN := hN.kept (hF5.2 H3.size (by omega) (by omega) (by omega))
          have hN0 := hN
          have hF51 := hF5.1
          refine ob_called (x_runI (n := 4) (As := [.ref o, .ref a, .int (ts τ q.2.1), .ref b]) (rest := [.ref H3.size]) hx hb hml hown hts (metX11_init l κ H3.size o a (ts τ q.2.1) b (by omega)) q975 q976 q92 q977 rfl (by decide +kernel) (by omega) (by decide) rfl hP.1 hN hl.1 (Nat.le_of_ble_eq_true rfl) rfl dX5_one_135 ⟨by show 0 + 1 + (pSum τ p tm).2.1 + 4 + 1 + (pSum τ (te τ q.2.1) q.2.2).2.1 + 0 ≤ _; omega, by show 0 + 8 + (pSum τ p tm).2.2 + 24 + 5 + (pSum τ (te τ q.2.1) q.2.2).2.2 + 0 ≤ _; omega⟩) hs1 (fun H6 hN hz6 hq6 => ?_)
          have hP := hP.obj (H1 := H6) (isOb.of hN0 (by decide) (by decide)) hs1 hz6 hq6 hsb0
          have hE := hE.obj (x := H3.size) (Or.inr hE1) hz6 hq6
          have hEb := hEb.obj (x := H3.size) (Or.inl (by omega)) hz6 hq6
          have hw5l := hP.2.1.2.2.2.2
          have hE2 : ExT κ o (FP s0.heap.size H6.size w5) H6 (q2.2.2 - tm + (e + 1)) H3.size (fun v => bin (ts τ q.2.1) (q.1 v) (q2.1 v)) := by
            obtain ⟨d0, hd0⟩ : ∃ d0, q2.2.2 - tm + (e + 1) = d0 + 1 := ⟨q2.2.2 - tm + e, by omega⟩
            rw [hd0]
            exact ⟨⟨hs1, by omega, by rcases hw5 with z | z <;> omega⟩, Or.inr (Or.inr (Or.inr (Or.inl ⟨a, b, _, _, _, hN, hE.fin (by omega) (by omega), hEb.fin (by omega) (by omega), rfl⟩)))⟩
          have hEq2 : (pOne τ (e + 1) p tm).1 = .ok (fun v => bin (ts τ q.2.1) (q.1 v) (q2.1 v), q2.2) := by rw [hEq]
          refine W.widen (k := (pOne τ (e + 1) p tm).2.1) (n := (pOne τ (e + 1) p tm).2.2) (by omega) (by omega) ?_
          refine W.mono (fun _ => MQT.of) ?_
          exact W.aret hx hb hr (Or.inl ⟨_, rfl⟩) (Or.inr ⟨_, rfl⟩) (fun t ht hW => by show prQ κ o τ r w al tm (e + 1) (pOne τ (e + 1) p tm).1 _ s0 _ t; rw [hEq2]; exact ⟨_, w5, rfl, by rw [ht]; exact hP.2.1, hP.2.2.2.1, by rw [ht]; exact hE2, by rw [ht]; exact hP.2.2.1⟩) hP.2.2.2.2 dX5_one_138 hlk
        · skip
          refine lv_aload_n hx hb dX5_one_101 rfl (lv_at hl 1 rfl) ?_
          obtain ⟨nu, hO, hnu⟩ := hP.ob
          refine ob_get (C := RX5) (T := TX5) (N := 8) (ci := 4) (v := .int (ts τ q.2.1)) hx hb hts in_X5 hown hP.1.1.1 hO rfl 1 (by decide) q431 (fun x h => h) rfl dX5_one_102 ?_
          refine lv_bipush (v := 61) hx hb dX5_one_105 (by decide) ?_
          refine lv_icmp_eq (tgt := 112) hx hb dX5_one_107 (by decide) (fun c_107 => ?_) (fun c_107 => ?_)
          · skip
            refine lv_aload_n hx hb dX5_one_112 rfl (lv_at hl 1 rfl) ?_
            have hcmp : ts τ q.2.1 = 60 ∨ ts τ q.2.1 = 62 ∨ ts τ q.2.1 = 61 := by first | exact Or.inl c_89 | exact Or.inr (Or.inl c_98) | exact Or.inr (Or.inr c_107)
            rw [if_pos hcmp] at hEq
            have hge2 : 1 + (pSum τ p tm).2.1 + 5 + (pSum τ (te τ q.2.1) q.2.2).2.1 ≤ (pOne τ (e + 1) p tm).2.1 ∧ 8 + (pSum τ p tm).2.2 + 29 + (pSum τ (te τ q.2.1) q.2.2).2.2 ≤ (pOne τ (e + 1) p tm).2.2 := by
              rw [hEq]
              cases (pSum τ (te τ q.2.1) q.2.2).1 with
              | error q => exact ⟨Nat.le_refl _, Nat.le_refl _⟩
              | ok q => exact ⟨Nat.le_refl _, Nat.le_refl _⟩
            obtain ⟨nu, hO, hnu⟩ := hP.ob
            refine ob_get (C := RX5) (T := TX5) (N := 8) (ci := 4) (v := .int (ts τ q.2.1)) hx hb hts in_X5 hown hP.1.1.1 hO rfl 1 (by decide) q431 (fun x h => h) rfl dX5_one_113 ?_
            refine lv_istore_n (lv' := [(3, .int (ts τ q.2.1)), (2, .ref a), (0, .ref r), (1, .int (nI d))]) hx hb dX5_one_116 rfl hl (by decide) rfl (fun ls hl => ?_)
            refine lv_aload_n hx hb dX5_one_117 rfl (lv_at hl 2 rfl) ?_
            refine ps_next hx hb hml hown hts hP hro hrB (by omega) hl.1 (Nat.le_of_ble_eq_true rfl) dX5_one_118 ⟨by show 0 + 1 + (pSum τ p tm).2.1 + 4 ≤ _; omega, by show 0 + 8 + (pSum τ p tm).2.2 + 24 ≤ _; omega⟩ (fun H3 locs3 w3 hP hF3 hw3 => ?_)
            have hE := hE.step hF3 hw3
            have hE1 := hE.hi
            have hw3l := hP.2.1.2.2.2.2
            have hr1 := hP.rl
            have hs1 := hP.2.2.1.1
            refine ob_new (C := RX11) (T := TX11) (N := 5) (ci := 9) hx hb hts in_X11 tyX11 tyX11_ok hown q973 q974 q92 hP.1.1.1 rfl (by show 0 + 1 + (pSum τ p tm).2.1 + 4 + 1 ≤ (pOne τ (e + 1) p tm).2.1; omega) (by show 0 + 8 + (pSum τ p tm).2.2 + 24 + 5 ≤ (pOne τ (e + 1) p tm).2.2; omega) dX5_one_121 (fun H4 hN hz4 ho4 => ?_)
            have hP := hP.new (H1 := H4) (by omega) ho4
            have hE := hE.new (H1 := H4) (by omega) ho4
            refine lv_dup hx hb dX5_one_124 rfl ?_
            refine lv_aload_n hx hb dX5_one_125 rfl (lv_at hl 2 rfl) ?_
            obtain ⟨nu, hO, hnu⟩ := hP.ob
            refine ob_get (C := RX5) (T := TX5) (N := 8) (ci := 4) (v := .ref o) hx hb hts in_X5 hown hP.1.1.1 hO rfl 7 (by decide) q437 (fun x h => h) rfl dX5_one_126 ?_
            refine lv_aload_n hx hb dX5_one_129 rfl (lv_at hl 1 rfl) ?_
            refine lv_iload_n hx hb dX5_one_130 rfl (lv_at hl 0 rfl) ?_
            refine lv_aload_n hx hb dX5_one_131 rfl (lv_at hl 2 rfl) ?_
            refine ps_call (n := 0) (As := []) (rest := [.int (ts τ q.2.1), .ref a, .ref o, .ref H3.size, .ref H3.size]) hx hb hml hnh hlk hown hts hP hrB (metX5_sum l κ o τ r (te τ q.2.1) q.2.2 w3 al hro hrB hq1.2) q937 q939 qs18 q940 (by decide +kernel) (by omega) (by decide) rfl hl.1 (Nat.le_of_ble_eq_true rfl) rfl dX5_one_132 ⟨by show 0 + 1 + (pSum τ p tm).2.1 + 4 + 1 + (pSum τ (te τ q.2.1) q.2.2).2.1 ≤ (pOne τ (e + 1) p tm).2.1; omega, by show 0 + 8 + (pSum τ p tm).2.2 + 24 + 5 + (pSum τ (te τ q.2.1) q.2.2).2.2 ≤ (pOne τ (e + 1) p tm).2.2; omega⟩ ⟨by omega, by omega⟩ (fun q hq oc t her => by show prQ κ o τ r w al tm (e + 1) (pOne τ (e + 1) p tm).1 _ s0 oc t; rw [hEq, hq]; exact her) (fun q2 hq2 H5 locs5 b w5 hP hF5 hw5 hEb => ?_)
            rw [hq2] at hEq
            have hq3 := pSum_tm hq1.2 hq2
            have hE := hE.step hF5 hw5
            have hEb := TR.of hEb (show r < H4.size by omega)
            have hN := hN.kept (hF5.2 H3.size (by omega) (by omega) (by omega))
            have hN0 := hN
            have hF51 := hF5.1
            refine ob_called (x_runI (n := 4) (As := [.ref o, .ref a, .int (ts τ q.2.1), .ref b]) (rest := [.ref H3.size]) hx hb hml hown hts (metX11_init l κ H3.size o a (ts τ q.2.1) b (by omega)) q975 q976 q92 q977 rfl (by decide +kernel) (by omega) (by decide) rfl hP.1 hN hl.1 (Nat.le_of_ble_eq_true rfl) rfl dX5_one_135 ⟨by show 0 + 1 + (pSum τ p tm).2.1 + 4 + 1 + (pSum τ (te τ q.2.1) q.2.2).2.1 + 0 ≤ _; omega, by show 0 + 8 + (pSum τ p tm).2.2 + 24 + 5 + (pSum τ (te τ q.2.1) q.2.2).2.2 + 0 ≤ _; omega⟩) hs1 (fun H6 hN hz6 hq6 => ?_)
            have hP := hP.obj (H1 := H6) (isOb.of hN0 (by decide) (by decide)) hs1 hz6 hq6 hsb0
            have hE := hE.obj (x := H3.size) (Or.inr hE1) hz6 hq6
            have hEb := hEb.obj (x := H3.size) (Or.inl (by omega)) hz6 hq6
            have hw5l := hP.2.1.2.2.2.2
            have hE2 : ExT κ o (FP s0.heap.size H6.size w5) H6 (q2.2.2 - tm + (e + 1)) H3.size (fun v => bin (ts τ q.2.1) (q.1 v) (q2.1 v)) := by
              obtain ⟨d0, hd0⟩ : ∃ d0, q2.2.2 - tm + (e + 1) = d0 + 1 := ⟨q2.2.2 - tm + e, by omega⟩
              rw [hd0]
              exact ⟨⟨hs1, by omega, by rcases hw5 with z | z <;> omega⟩, Or.inr (Or.inr (Or.inr (Or.inl ⟨a, b, _, _, _, hN, hE.fin (by omega) (by omega), hEb.fin (by omega) (by omega), rfl⟩)))⟩
            have hEq2 : (pOne τ (e + 1) p tm).1 = .ok (fun v => bin (ts τ q.2.1) (q.1 v) (q2.1 v), q2.2) := by rw [hEq]
            refine W.widen (k := (pOne τ (e + 1) p tm).2.1) (n := (pOne τ (e + 1) p tm).2.2) (by omega) (by omega) ?_
            refine W.mono (fun _ => MQT.of) ?_
            exact W.aret hx hb hr (Or.inl ⟨_, rfl⟩) (Or.inr ⟨_, rfl⟩) (fun t ht hW => by show prQ κ o τ r w al tm (e + 1) (pOne τ (e + 1) p tm).1 _ s0 _ t; rw [hEq2]; exact ⟨_, w5, rfl, by rw [ht]; exact hP.2.1, hP.2.2.2.1, by rw [ht]; exact hE2, by rw [ht]; exact hP.2.2.1⟩) hP.2.2.2.2 dX5_one_138 hlk
          · skip
            refine lv_aload_n hx hb dX5_one_110 rfl (lv_at hl 0 rfl) ?_
            have hcmp : ¬ (ts τ q.2.1 = 60 ∨ ts τ q.2.1 = 62 ∨ ts τ q.2.1 = 61) := by rintro (z | z | z); (· exact c_89 z); (· exact c_98 z); (· exact c_107 z)
            rw [if_neg hcmp] at hEq
            have hEq2 : (pOne τ (e + 1) p tm).1 = .ok q := by rw [hEq]
            refine W.widen (k := (pOne τ (e + 1) p tm).2.1) (n := (pOne τ (e + 1) p tm).2.2) (by omega) (by omega) ?_
            refine W.mono (fun _ => MQT.of) ?_
            exact W.aret hx hb hr (Or.inl ⟨_, rfl⟩) (Or.inr ⟨_, rfl⟩) (fun t ht hW => by show prQ κ o τ r w al tm (e + 1) (pOne τ (e + 1) p tm).1 _ s0 _ t; rw [hEq2]; exact ⟨_, w2, rfl, by rw [ht]; exact hP.2.1, hP.2.2.2.1, by rw [ht]; exact hE.fin (by omega) (by omega), by rw [ht]; exact hP.2.2.1⟩) hP.2.2.2.2 dX5_one_111 hlk
    · skip
      refine lv_aload_n hx hb dX5_one_46 rfl (lv_at hl 0 rfl) ?_
      have hnW : isW τ p 12 = false := c_11
      have hEq := pOne_e (tm := tm) hd5 hdok hnW c_43
      have hge2 : 5 + (pEi τ e (pOne τ e) (te τ p) tm).2.1 ≤ (pOne τ (e + 1) p tm).2.1 ∧ 32 + (pEi τ e (pOne τ e) (te τ p) tm).2.2 ≤ (pOne τ (e + 1) p tm).2.2 := by
        rw [hEq]
        cases (pEi τ e (pOne τ e) (te τ p) tm).1 with
        | error q => exact ⟨Nat.le_refl _, Nat.le_refl _⟩
        | ok q => exact ⟨by show _ ≤ 5 + (pEi τ e (pOne τ e) (te τ p) tm).2.1 + 4; omega, by show _ ≤ 32 + (pEi τ e (pOne τ e) (te τ p) tm).2.2 + 24; omega⟩
      refine ps_next hx hb hml hown hts hP hro hrB (by omega) hl.1 (Nat.le_of_ble_eq_true rfl) dX5_one_47 ⟨by show 0 + 1 + 4 ≤ _; omega, by show 0 + 8 + 24 ≤ _; omega⟩ (fun H1 locs1 w2 hP hF1 hw2 => ?_)
      have hr1 := hP.rl
      have hs1 := hP.2.2.1.1
      refine lv_aload_n hx hb dX5_one_50 rfl (lv_at hl 0 rfl) ?_
      refine lv_iload_n hx hb dX5_one_51 rfl (lv_at hl 1 rfl) ?_
      refine lv_iconst (v := 1) hx hb dX5_one_52 (by decide) ?_
      refine lv_iadd hx hb dX5_one_53 ?_
      refine v_eqi (nI_1 d) ?_
      refine ps_call (n := 1) (As := [.int (nI (d + 1))]) (rest := []) hx hb hml hnh hlk hown hts hP hrB (hEi (te τ p) tm w2 htm) q817 q819 qs13 q820 (by decide +kernel) (by omega) (by decide) rfl hl.1 (Nat.le_of_ble_eq_true rfl) rfl dX5_one_54 ⟨by show 0 + 1 + 4 + (pEi τ e (pOne τ e) (te τ p) tm).2.1 ≤ (pOne τ (e + 1) p tm).2.1; omega, by show 0 + 8 + 24 + (pEi τ e (pOne τ e) (te τ p) tm).2.2 ≤ (pOne τ (e + 1) p tm).2.2; omega⟩ ⟨by omega, by omega⟩ (fun q hq oc t her => by show prQ κ o τ r w al tm (e + 1) (pOne τ (e + 1) p tm).1 _ s0 oc t; rw [hEq, hq]; exact her) (fun q hq H3 locs3 a w3 hP hF3 hw3 hE => ?_)
      rw [hq] at hEq
      have hq1 := pEi_tm (pOne_tm e) _ _ q htm hq
      have hE := TR.of hE (show r < H1.size by omega)
      have g1 : (pOne τ (e + 1) p tm).2.1 = 5 + (pEi τ e (pOne τ e) (te τ p) tm).2.1 + 4 := by rw [hEq]
      have g2 : (pOne τ (e + 1) p tm).2.2 = 32 + (pEi τ e (pOne τ e) (te τ p) tm).2.2 + 24 := by rw [hEq]
      have hEq3 : (pOne τ (e + 1) p tm).1 = if ts τ q.2.1 = 41 then .ok (q.1, te τ q.2.1, q.2.2) else eR τ q.2.1 := by rw [hEq]
      refine lv_astore_n (lv' := [(2, .ref a), (0, .ref r), (1, .int (nI d))]) hx hb dX5_one_57 rfl hl (by decide) rfl (fun ls hl => ?_)
      refine lv_aload_n hx hb dX5_one_58 rfl (lv_at hl 1 rfl) ?_
      obtain ⟨nu, hO, hnu⟩ := hP.ob
      refine ob_get (C := RX5) (T := TX5) (N := 8) (ci := 4) (v := .int (ts τ q.2.1)) hx hb hts in_X5 hown hP.1.1.1 hO rfl 1 (by decide) q431 (fun x h => h) rfl dX5_one_59 ?_
      refine lv_bipush (v := 41) hx hb dX5_one_62 (by decide) ?_
      refine lv_icmp_eq (tgt := 72) hx hb dX5_one_64 (by decide) (fun c_64 => ?_) (fun c_64 => ?_)
      · skip
        refine lv_aload_n hx hb dX5_one_72 rfl (lv_at hl 1 rfl) ?_
        have hEq2 : (pOne τ (e + 1) p tm).1 = .ok (q.1, te τ q.2.1, q.2.2) := by rw [hEq3]; exact if_pos c_64
        refine ps_next hx hb hml hown hts hP hro hrB (by omega) hl.1 (Nat.le_of_ble_eq_true rfl) dX5_one_73 ⟨by show 0 + 1 + 4 + (pEi τ e (pOne τ e) (te τ p) tm).2.1 + 4 ≤ _; omega, by show 0 + 8 + 24 + (pEi τ e (pOne τ e) (te τ p) tm).2.2 + 24 ≤ _; omega⟩ (fun H4 locs4 w4 hP hF4 hw4 => ?_)
        have hE := hE.step hF4 hw4
        refine lv_aload_n hx hb dX5_one_76 rfl (lv_at hl 0 rfl) ?_
        refine W.widen (k := (pOne τ (e + 1) p tm).2.1) (n := (pOne τ (e + 1) p tm).2.2) (by omega) (by omega) ?_
        refine W.mono (fun _ => MQT.of) ?_
        exact W.aret hx hb hr (Or.inl ⟨_, rfl⟩) (Or.inr ⟨_, rfl⟩) (fun t ht hW => by show prQ κ o τ r w al tm (e + 1) (pOne τ (e + 1) p tm).1 _ s0 _ t; rw [hEq2]; exact ⟨_, w4, rfl, by rw [ht]; exact hP.2.1, hP.2.2.2.1, by rw [ht]; exact hE.fin (by omega) (by show q.2.2 - tm + e ≤ q.2.2 - tm + (e + 1); omega), by rw [ht]; exact hP.2.2.1⟩) hP.2.2.2.2 dX5_one_77 hlk
      · skip
        refine lv_aload_n hx hb dX5_one_67 rfl (lv_at hl 1 rfl) ?_
        exact ps_wrong hx hb hml hnh hlk hown hts hP (by omega) hl.1 dX5_one_68 dX5_one_71 ⟨by show 0 + 1 + 4 + (pEi τ e (pOne τ e) (te τ p) tm).2.1 + 1 ≤ _; omega, by show 0 + 8 + 24 + (pEi τ e (pOne τ e) (te τ p) tm).2.2 + 8 ≤ _; omega⟩ ⟨by omega, by omega⟩ (fun oc t hq => by show prQ κ o τ r w al tm (e + 1) (pOne τ (e + 1) p tm).1 _ s0 oc t; rw [hEq3, if_neg c_64]; exact hq)
  · skip
    refine lv_aload_n hx hb dX5_one_14 rfl (lv_at hl 0 rfl) ?_
    have hEq := pOne_n (tm := tm) hd5 hdok c_11
    have g1 : (pOne τ (e + 1) p tm).2.1 = 6 + (pOne τ e (te τ p) tm).2.1 := by rw [hEq]
    have g2 : (pOne τ (e + 1) p tm).2.2 = 35 + (pOne τ e (te τ p) tm).2.2 := by rw [hEq]
    refine ps_next hx hb hml hown hts hP hro hrB (by omega) hl.1 (Nat.le_of_ble_eq_true rfl) dX5_one_15 ⟨by show 0 + 1 + 4 ≤ _; omega, by show 0 + 8 + 24 ≤ _; omega⟩ (fun H1 locs1 w2 hP hF1 hw2 => ?_)
    have hw2l := hP.2.1.2.2.2.2
    have hr1 := hP.rl
    have hs1 := hP.2.2.1.1
    refine ob_new (C := RX8) (T := TX8) (N := 3) (ci := 6) hx hb hts in_X8 tyX8 tyX8_ok hown q918 q919 q89 hP.1.1.1 rfl (by show 0 + 1 + 4 + 1 ≤ (pOne τ (e + 1) p tm).2.1; omega) (by show 0 + 8 + 24 + 3 ≤ (pOne τ (e + 1) p tm).2.2; omega) dX5_one_18 (fun H2 hN hz2 ho2 => ?_)
    have hP := hP.new (H1 := H2) (by omega) ho2
    refine lv_dup hx hb dX5_one_21 rfl ?_
    refine lv_aload_n hx hb dX5_one_22 rfl (lv_at hl 0 rfl) ?_
    obtain ⟨nu, hO, hnu⟩ := hP.ob
    refine ob_get (C := RX5) (T := TX5) (N := 8) (ci := 4) (v := .ref o) hx hb hts in_X5 hown hP.1.1.1 hO rfl 7 (by decide) q437 (fun x h => h) rfl dX5_one_23 ?_
    refine lv_aload_n hx hb dX5_one_26 rfl (lv_at hl 0 rfl) ?_
    refine lv_iload_n hx hb dX5_one_27 rfl (lv_at hl 1 rfl) ?_
    refine lv_iconst (v := 1) hx hb dX5_one_28 (by decide) ?_
    refine lv_iadd hx hb dX5_one_29 ?_
    refine v_eqi (nI_1 d) ?_
    refine ps_call (n := 1) (As := [.int (nI (d + 1))]) (rest := [.ref o, .ref H1.size, .ref H1.size]) hx hb hml hnh hlk hown hts hP hrB (hOne (te τ p) tm w2 htm) q914 q916 qs17 q917 (by decide +kernel) (by omega) (by decide) rfl hl.1 (Nat.le_of_ble_eq_true rfl) rfl dX5_one_30 ⟨by show 0 + 1 + 4 + 1 + (pOne τ e (te τ p) tm).2.1 ≤ (pOne τ (e + 1) p tm).2.1; omega, by show 0 + 8 + 24 + 3 + (pOne τ e (te τ p) tm).2.2 ≤ (pOne τ (e + 1) p tm).2.2; omega⟩ ⟨by omega, by omega⟩ (fun q hq oc t her => by show prQ κ o τ r w al tm (e + 1) (pOne τ (e + 1) p tm).1 _ s0 oc t; rw [hEq, hq]; exact her) (fun q hq H3 locs3 b w3 hP hF3 hw3 hEb => ?_)
    rw [hq] at hEq
    have hq1 := pOne_tm e _ _ q htm hq
    have hEb := TR.of hEb (show r < H2.size by omega)
    have hN := hN.kept (hF3.2 H1.size (by omega) (by omega) (by omega))
    have hN0 := hN
    have hF31 := hF3.1
    refine ob_called (x_runI (n := 2) (As := [.ref o, .ref b]) (rest := [.ref H1.size]) hx hb hml hown hts (metX8_init l κ H1.size o b (by omega)) q920 q921 q89 q922 rfl (by decide +kernel) (by omega) (by decide) rfl hP.1 hN hl.1 (Nat.le_of_ble_eq_true rfl) rfl dX5_one_33 ⟨by show 0 + 1 + 4 + 1 + (pOne τ e (te τ p) tm).2.1 + 0 ≤ _; omega, by show 0 + 8 + 24 + 3 + (pOne τ e (te τ p) tm).2.2 + 0 ≤ _; omega⟩) hs1 (fun H4 hN hz4 hq4 => ?_)
    have hP := hP.obj (H1 := H4) (isOb.of hN0 (by decide) (by decide)) hs1 hz4 hq4 hsb0
    have hEb := hEb.obj (x := H1.size) (Or.inl (by omega)) hz4 hq4
    have hw3l := hP.2.1.2.2.2.2
    have hE2 : ExT κ o (FP s0.heap.size H4.size w3) H4 (q.2.2 - tm + (e + 1)) H1.size (fun v => b2 (decide (q.1 v = 0))) := by
      rw [show q.2.2 - tm + (e + 1) = (q.2.2 - tm + e) + 1 by omega]
      exact ⟨⟨hs1, by omega, by rcases hw3 with z | z <;> omega⟩, Or.inr (Or.inr (Or.inl ⟨b, _, hN, hEb.fin (by omega) (Nat.le_refl _), rfl⟩))⟩
    have hEq2 : (pOne τ (e + 1) p tm).1 = .ok (fun v => b2 (decide (q.1 v = 0)), q.2) := by rw [hEq]
    refine W.widen (k := (pOne τ (e + 1) p tm).2.1) (n := (pOne τ (e + 1) p tm).2.2) (by omega) (by omega) ?_
    refine W.mono (fun _ => MQT.of) ?_
    exact W.aret hx hb hr (Or.inl ⟨_, rfl⟩) (Or.inr ⟨_, rfl⟩) (fun t ht hW => by show prQ κ o τ r w al tm (e + 1) (pOne τ (e + 1) p tm).1 _ s0 _ t; rw [hEq2]; exact ⟨_, w3, rfl, by rw [ht]; exact hP.2.1, hP.2.2.2.1, by rw [ht]; exact hE2, by rw [ht]; exact hP.2.2.1⟩) hP.2.2.2.2 dX5_one_36 hlk

set_option maxHeartbeats 4000000 in
theorem metX5_one_0 (l : Launch) (κ : Kg) (o : Nat) (τ : Tp) (r al : Nat) (hro : o + 1 < r) (hrB : κ.base ≤ r) (p tm w : Nat) (htm : tm ≤ 80) :
    MetT l yX5_one (ws_ yX5_one cX5_one 4 (some (.object "HomeRoll$Ex"))) (rmC 9 (pOne τ 0 p tm).2.1 (pOne τ 0 p tm).2.2) (xP κ (RT κ o τ r p (nI tm) w al) [.ref r, .int (nI 6)]) (prQ κ o τ r w al tm 0 (pOne τ 0 p tm).1) (pOne τ 0 p tm).2.1 (pOne τ 0 p tm).2.2 (fun q => κ.base ≤ q) := by
  refine xT_start RX5 (by decide) rfl (Nat.le_of_ble_eq_true rfl) ?_
  intro pg ev s0 mi bl me co hx hb hml hnh hown hts hr hlk hK hM ls hl
  have hl : lv_has ls 4 [(0, .ref r), (1, .int (nI 6))] := hl
  have hP : PS κ o τ r s0 w al p tm w s0.heap [] := ⟨hK, hM, FrR.rf, Or.inl rfl, fun x h => by cases h⟩
  refine lv_aload_n hx hb dX5_one_0 rfl (lv_at hl 0 rfl) ?_
  refine lv_iload_n hx hb dX5_one_1 rfl (lv_at hl 1 rfl) ?_
  refine ps_deep hx hb hml hnh hlk hown hts hP hrB (Nat.le_refl 6) (by omega) hl.1 (Nat.le_of_ble_eq_true rfl) dX5_one_2 ⟨Nat.le_refl _, Nat.le_refl _⟩ ⟨Nat.le_refl _, Nat.le_refl _⟩ (fun hf oc t her => her) (fun hdok H0 locs0 hP hF0 hz0 => ?_)
  unfold dpOk at hdok
  exact absurd hdok (by simp)

theorem metX5_ei_of (l : Launch) (κ : Kg) (o : Nat) (τ : Tp) (r al e d : Nat) (hd6 : d + e = 6) (hro : o + 1 < r) (hrB : κ.base ≤ r)
    (hOne : ∀ p tm w, tm ≤ 80 → MetT l yX5_one (ws_ yX5_one cX5_one 4 (some (.object "HomeRoll$Ex"))) (rmC (9 + 3 * e) (pOne τ e p tm).2.1 (pOne τ e p tm).2.2) (xP κ (RT κ o τ r p (nI tm) w al) [.ref r, .int (nI d)]) (prQ κ o τ r w al tm e (pOne τ e p tm).1) (pOne τ e p tm).2.1 (pOne τ e p tm).2.2 (fun q => κ.base ≤ q)) (p tm w : Nat) (htm : tm ≤ 80) :
    MetT l yX5_either (ws_ yX5_either cX5_either 3 (some (.object "HomeRoll$Ex"))) (rmC (11 + 3 * e) (pEi τ e (pOne τ e) p tm).2.1 (pEi τ e (pOne τ e) p tm).2.2) (xP κ (RT κ o τ r p (nI tm) w al) [.ref r, .int (nI d)]) (prQ κ o τ r w al tm e (pEi τ e (pOne τ e) p tm).1) (pEi τ e (pOne τ e) p tm).2.1 (pEi τ e (pOne τ e) p tm).2.2 (fun q => κ.base ≤ q) := by
  rw [pEi_d hd6]
  exact metX5_either l κ o τ r al e d (10 + 3 * e) (11 + 3 * e) hro hrB (by omega) (by omega) (by omega) (pLst τ 13 true (pOne τ e)) (fun p tm q h1 h2 => pLst_tm (pOne_tm e) p tm q h1 h2) (fun p tm w h => metX5_both l κ o τ r al e d (9 + 3 * e) (10 + 3 * e) hro hrB (by omega) (by omega) (pOne τ e) (pOne_tm e) hOne p tm w h) p tm w htm
theorem metX5_one (l : Launch) (κ : Kg) (o : Nat) (τ : Tp) (r al : Nat) (hro : o + 1 < r) (hrB : κ.base ≤ r) : ∀ (e d : Nat), d + e = 6 → ∀ p tm w, tm ≤ 80 → MetT l yX5_one (ws_ yX5_one cX5_one 4 (some (.object "HomeRoll$Ex"))) (rmC (9 + 3 * e) (pOne τ e p tm).2.1 (pOne τ e p tm).2.2) (xP κ (RT κ o τ r p (nI tm) w al) [.ref r, .int (nI d)]) (prQ κ o τ r w al tm e (pOne τ e p tm).1) (pOne τ e p tm).2.1 (pOne τ e p tm).2.2 (fun q => κ.base ≤ q)
  | 0, d, hd, p, tm, w, h => by
    have : d = 6 := by omega
    subst this
    exact metX5_one_0 l κ o τ r al hro hrB p tm w h
  | e + 1, d, hd, p, tm, w, h => by
    have ih := metX5_one l κ o τ r al hro hrB e (d + 1) (by omega)
    have h1 := metX5_one_s l κ o τ r al e d (by omega) hro hrB ih (fun p tm w h => metX5_ei_of l κ o τ r al e (d + 1) (by omega) hro hrB ih p tm w h) p tm w h
    rw [show 9 + 3 * (e + 1) = 12 + 3 * e by omega]
    exact h1
/-- a test as a line's text begins it -/
theorem metX5_ei0 (l : Launch) (κ : Kg) (o : Nat) (τ : Tp) (r al : Nat) (hro : o + 1 < r) (hrB : κ.base ≤ r) (p tm w : Nat) (htm : tm ≤ 80) :
    MetT l yX5_either (ws_ yX5_either cX5_either 3 (some (.object "HomeRoll$Ex"))) (rmC 29 (pEither τ 6 p tm).2.1 (pEither τ 6 p tm).2.2) (xP κ (RT κ o τ r p (nI tm) w al) [.ref r, .int (nI 0)]) (prQ κ o τ r w al tm 6 (pEither τ 6 p tm).1) (pEither τ 6 p tm).2.1 (pEither τ 6 p tm).2.2 (fun q => κ.base ≤ q) := metX5_ei_of l κ o τ r al 6 0 rfl hro hrB (metX5_one l κ o τ r al hro hrB 6 0 rfl) p tm w htm
