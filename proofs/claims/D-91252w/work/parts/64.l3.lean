/-! Reader.both, Reader.either: whole. By tools/gen_ra.py -/
set_option maxRecDepth 100000
theorem updS_0 (f : Sm) : updS (fun _ => f) 0 f = fun _ => f := by
  funext j
  unfold updS
  split <;> rfl

set_option maxHeartbeats 4000000 in
theorem metX5_both (l : Launch) (κ : Kg) (o : Nat) (τ : Tp) (r al e0 d dE dM : Nat) (hro : o + 1 < r) (hrB : κ.base ≤ r) (hdE : dE < dM) (hd9 : 8 < dE) (el : Nat → Nat → PO) (hel : ∀ (p tm : Nat) (q : Sm × Nat × Nat), tm ≤ 80 → (el p tm).1 = .ok q → tm < q.2.2 ∧ q.2.2 ≤ 80)
    (hEl : ∀ p tm w, tm ≤ 80 → MetT l yX5_one (ws_ yX5_one cX5_one 4 (some (.object "HomeRoll$Ex"))) (rmC dE (el p tm).2.1 (el p tm).2.2) (xP κ (RT κ o τ r p (nI tm) w al) [.ref r, .int (nI d)]) (prQ κ o τ r w al tm e0 (el p tm).1) (el p tm).2.1 (el p tm).2.2 (fun q => κ.base ≤ q)) (p tm w : Nat) (htm : tm ≤ 80) :
    MetT l yX5_both (ws_ yX5_both cX5_both 3 (some (.object "HomeRoll$Ex"))) (rmC dM (pLst τ 13 true el p tm).2.1 (pLst τ 13 true el p tm).2.2) (xP κ (RT κ o τ r p (nI tm) w al) [.ref r, .int (nI d)]) (prQ κ o τ r w al tm e0 (pLst τ 13 true el p tm).1) (pLst τ 13 true el p tm).2.1 (pLst τ 13 true el p tm).2.2 (fun q => κ.base ≤ q) := by
  refine xT_start RX5 (by decide) rfl (Nat.le_of_ble_eq_true rfl) ?_
  intro pg ev s0 mi bl me co hx hb hml hnh hown hts hr hlk hK hM ls hl
  have hl : lv_has ls 3 [(0, .ref r), (1, .int (nI d))] := hl
  have hP : PS κ o τ r s0 w al p tm w s0.heap [] := ⟨hK, hM, FrR.rf, Or.inl rfl, fun x h => by cases h⟩
  have hrs := hP.rl
  have hsb0 : κ.base ≤ s0.heap.size := hK.2.2
  have hge := pLst_ge (τ := τ) (kw := 13) (al := true) (el := el) p tm
  have hP0 := hP
  have hs0 := hP.2.2.1.1
  refine ob_new (C := RJ2) (T := TJ2) (N := 3) (ci := 12) hx hb hts in_J2 tyJ2 tyJ2_ok hown q428 q105 q67 hP.1.1.1 rfl (by show 0 + 1 ≤ (pLst τ 13 true el p tm).2.1; omega) (by show 0 + 3 ≤ (pLst τ 13 true el p tm).2.2; omega) dX5_both_0 (fun H1 hN hz1 ho1 => ?_)
  have hP := hP.new (H1 := H1) (by omega) ho1
  refine lv_dup hx hb dX5_both_3 rfl ?_
  refine lv_iconst (v := 2) hx hb dX5_both_4 (by decide) ?_
  refine x_called (x_runI (n := 1) (As := [.int (nI 2)]) (rest := [.ref s0.heap.size]) hx hb hml hown hts (metJ2_init l κ s0.heap.size 2 (by decide) (by decide)) q429 q107 q67 q108 rfl (by decide +kernel) (by omega) (by decide) rfl hP.1 hN hl.1 (Nat.le_of_ble_eq_true rfl) rfl dX5_both_5 ⟨by show 0 + 1 + 1 ≤ (pLst τ 13 true el p tm).2.1; omega, by show 0 + 3 + 2 ≤ (pLst τ 13 true el p tm).2.2; omega⟩) (fun v2 st t1 L1 hst hq hvm hL => ?_)
  obtain ⟨hv, hLA, hz2, hq2⟩ := hq
  cases hv
  rw [hst] at hLA hz2 hq2
  refine W.eq (g2 := F0 mi 8 ls [.ref s0.heap.size]) rfl ?_
  have hwl := hP0.2.1.2.2.2.2
  have hrl0 := hP0.rl
  have hsb1 : κ.base ≤ s0.heap.size := hP0.1.2.2
  have hP := hP0.new (H1 := t1.heap) (by omega) (fun q h => (hq2 q (by omega) (by omega)).trans (ho1 q h))
  have hP : PS κ o τ r s0 w al p tm w t1.heap ([] ++ L1) := ⟨hP.1, hP.2.1, hP.2.2.1, hP.2.2.2.1, lc_app hP.2.2.2.2 (fun x hx => by rw [show x.base = s0.heap.size from hL x hx]; exact hsb1)⟩
  have hLs0 : ∀ (fs : Nat → Sm) (dp : Nat), LTs κ o r w t1.heap s0.heap.size H1.size 2 0 (fun _ => 0) fs dp s0.heap.size := fun fs dp => ⟨hLA _, by decide, by omega, by omega, by omega, by omega, hrs, fun j hj => absurd hj (Nat.not_lt_zero _)⟩
  refine lv_astore_n (lv' := [(2, .ref s0.heap.size), (0, .ref r), (1, .int (nI d))]) hx hb dX5_both_8 rfl hl (by decide) rfl (fun ls hl => ?_)
  refine lv_aload_n hx hb dX5_both_9 rfl (lv_at hl 0 rfl) ?_
  refine lv_aload_n hx hb dX5_both_10 rfl (lv_at hl 1 rfl) ?_
  refine lv_iload_n hx hb dX5_both_11 rfl (lv_at hl 2 rfl) ?_
  refine ps_call (n := 1) (As := [.int (nI d)]) (rest := [.ref s0.heap.size]) hx hb hml hnh hlk hown hts hP hrB (hEl p tm w htm) q914 q916 qs17 q917 (by decide +kernel) hdE (by decide) rfl hl.1 (Nat.le_of_ble_eq_true rfl) rfl dX5_both_12 ⟨by show 0 + 1 + 1 + _ ≤ (pLst τ 13 true el p tm).2.1; omega, by show 0 + 3 + 2 + _ ≤ (pLst τ 13 true el p tm).2.2; omega⟩ ⟨by omega, by omega⟩ (fun q hq oc t her => by show prQ κ o τ r w al tm e0 (pLst τ 13 true el p tm).1 _ s0 oc t; unfold pLst; rw [hq]; exact her) (fun q hq H3 locs3 b w3 hP hF3 hw3 hEb => ?_)
  have hge3 := hge.2.2 q hq
  obtain ⟨hq1, hq80⟩ := hel _ _ q htm hq
  have hLs := (hLs0 (fun _ => q.1) 0).step hF3 hw3
  have hll := hLs.1.lt
  have hs1 := hP.2.2.1.1
  have hEb := TR.of hEb (show r < t1.heap.size by omega)
  have hw3l := hP.2.1.2.2.2.2
  have hF31 := hF3.1
  refine x_called (x_runV (n := 1) (As := [.ref b]) (rest := []) hx hb hml hown hts (metJ2_add l κ s0.heap.size H1.size 2 0 H3.size b (fun _ => 0) (by decide) (by decide) hsb1) q993 q994 q995 q67 q996 (by decide +kernel) (by omega) (by decide) rfl hP.1 ⟨rfl, hLs.1, fun j hj => absurd hj (Nat.not_lt_zero _), by obtain ⟨wx, g1, -⟩ := hEb; exact g1.ob⟩ (ob_recv hP.1.1.1 rfl hLs.1.1.choose_spec) hl.1 (Nat.le_of_ble_eq_true rfl) rfl dX5_both_15 ⟨by show 0 + 1 + 1 + _ + 1 ≤ (pLst τ 13 true el p tm).2.1; omega, by show 0 + 3 + 2 + _ + capG 0 ≤ (pLst τ 13 true el p tm).2.2; omega⟩) (fun v2 st t L hst hq2 hvm hL => ?_)
  obtain ⟨hv, ⟨x', c', hLA2, hx'⟩, hz3, hz4, hq4⟩ := hq2
  cases hv
  rw [hst] at hx' hz3 hz4 hq4
  refine W.eq (g2 := F0 mi 18 ls [.int 1]) rfl ?_
  have hP := hP.lst (H1 := t.heap) (L := L) hLs.1 (by omega) (by omega) hsb0 hz3 hq4 (fun y hy => by rcases hL y hy with z | z | z <;> omega)
  have hLs := hLs.add (dp' := q.2.2 - tm - 0 + e0) (hEb.deep (by omega)) (by omega) (by omega) (by omega) hw3l (by omega) hLA2 hx' hz3 hq4 (by omega)
  refine lv_pop hx hb dX5_both_18 rfl ?_
  have hT : lstL τ 13 true el (81 - q.2.2) 1 (updS (fun _ => q.1) 0 q.1) q.2.1 q.2.2 (0 + 1 + 1 + (el p tm).2.1 + 1) (0 + 3 + 2 + (el p tm).2.2 + capG 0) = (pLst τ 13 true el p tm) := by rw [updS_0, show 0 + 1 + 1 + (el p tm).2.1 + 1 = 2 + (el p tm).2.1 + 1 by omega, show 0 + 3 + 2 + (el p tm).2.2 + capG 0 = 5 + (el p tm).2.2 + capG 0 by omega]; unfold pLst; rw [hq]
  exact both_loop l κ o τ r tm w al e0 d dE dM hro hrB hdE hd9 el hel hEl (pLst τ 13 true el p tm) hx hb hml hnh hown hts hr hlk hrs hsb0 (81 - q.2.2) 1 (va_up (fun _ => 0) 0 b) (updS (fun _ => q.1) 0 q.1) q.2.1 q.2.2 w3 s0.heap.size x' c' t.heap _ ls _ _ (Nat.le_refl 1) (by omega) (by omega) (by omega) hT hP hLs (lv_sub hl [0, 1, 2] rfl)

set_option maxHeartbeats 4000000 in
theorem metX5_either (l : Launch) (κ : Kg) (o : Nat) (τ : Tp) (r al e0 d dE dM : Nat) (hro : o + 1 < r) (hrB : κ.base ≤ r) (hdE : dE < dM) (hd9 : 8 < dE) (hd6 : d ≤ 6) (el : Nat → Nat → PO) (hel : ∀ (p tm : Nat) (q : Sm × Nat × Nat), tm ≤ 80 → (el p tm).1 = .ok q → tm < q.2.2 ∧ q.2.2 ≤ 80)
    (hEl : ∀ p tm w, tm ≤ 80 → MetT l yX5_both (ws_ yX5_both cX5_both 3 (some (.object "HomeRoll$Ex"))) (rmC dE (el p tm).2.1 (el p tm).2.2) (xP κ (RT κ o τ r p (nI tm) w al) [.ref r, .int (nI d)]) (prQ κ o τ r w al tm e0 (el p tm).1) (el p tm).2.1 (el p tm).2.2 (fun q => κ.base ≤ q)) (p tm w : Nat) (htm : tm ≤ 80) :
    MetT l yX5_either (ws_ yX5_either cX5_either 3 (some (.object "HomeRoll$Ex"))) (rmC dM (pEd τ d el p tm).2.1 (pEd τ d el p tm).2.2) (xP κ (RT κ o τ r p (nI tm) w al) [.ref r, .int (nI d)]) (prQ κ o τ r w al tm e0 (pEd τ d el p tm).1) (pEd τ d el p tm).2.1 (pEd τ d el p tm).2.2 (fun q => κ.base ≤ q) := by
  refine xT_start RX5 (by decide) rfl (Nat.le_of_ble_eq_true rfl) ?_
  intro pg ev s0 mi bl me co hx hb hml hnh hown hts hr hlk hK hM ls hl
  have hl : lv_has ls 3 [(0, .ref r), (1, .int (nI d))] := hl
  have hP : PS κ o τ r s0 w al p tm w s0.heap [] := ⟨hK, hM, FrR.rf, Or.inl rfl, fun x h => by cases h⟩
  have hrs := hP.rl
  have hsb0 : κ.base ≤ s0.heap.size := hK.2.2
  have hge := pLst_ge (τ := τ) (kw := 14) (al := false) (el := el) p tm
  have hgd := pEd_ge (τ := τ) (d := d) (el := el) (p := p) (tm := tm)
  refine lv_aload_n hx hb dX5_either_0 rfl (lv_at hl 0 rfl) ?_
  refine lv_iload_n hx hb dX5_either_1 rfl (lv_at hl 1 rfl) ?_
  refine ps_deep hx hb hml hnh hlk hown hts hP hrB hd6 (by omega) hl.1 (Nat.le_of_ble_eq_true rfl) dX5_either_2 ⟨by show 0 + 1 ≤ (pEd τ d el p tm).2.1; omega, by show 0 + 8 ≤ (pEd τ d el p tm).2.2; omega⟩ ⟨by omega, by omega⟩ (fun hf oc t her => by show prQ κ o τ r w al tm e0 (pEd τ d el p tm).1 _ s0 oc t; rw [pEd_f hf]; exact her) (fun hdok H0 locs0 hP hF0 hz0 => ?_)
  have hPE := pEd_t (el := el) (tm := tm) hdok
  have hg1 : (pEd τ d el p tm).2.1 = 1 + (pLst τ 14 false el p tm).2.1 := by rw [hPE]
  have hg2 : (pEd τ d el p tm).2.2 = 8 + (pLst τ 14 false el p tm).2.2 := by rw [hPE]
  have hP0 := hP
  have hs0 := hP.2.2.1.1
  refine ob_new (C := RJ2) (T := TJ2) (N := 3) (ci := 12) hx hb hts in_J2 tyJ2 tyJ2_ok hown q428 q105 q67 hP.1.1.1 rfl (by show 0 + 1 + 1 ≤ (pEd τ d el p tm).2.1; omega) (by show 0 + 8 + 3 ≤ (pEd τ d el p tm).2.2; omega) dX5_either_5 (fun H1 hN hz1 ho1 => ?_)
  have hP := hP.new (H1 := H1) (by omega) ho1
  refine lv_dup hx hb dX5_either_8 rfl ?_
  refine lv_iconst (v := 2) hx hb dX5_either_9 (by decide) ?_
  refine x_called (x_runI (n := 1) (As := [.int (nI 2)]) (rest := [.ref H0.size]) hx hb hml hown hts (metJ2_init l κ H0.size 2 (by decide) (by decide)) q429 q107 q67 q108 rfl (by decide +kernel) (by omega) (by decide) rfl hP.1 hN hl.1 (Nat.le_of_ble_eq_true rfl) rfl dX5_either_10 ⟨by show 0 + 1 + 1 + 1 ≤ (pEd τ d el p tm).2.1; omega, by show 0 + 8 + 3 + 2 ≤ (pEd τ d el p tm).2.2; omega⟩) (fun v2 st t1 L1 hst hq hvm hL => ?_)
  obtain ⟨hv, hLA, hz2, hq2⟩ := hq
  cases hv
  rw [hst] at hLA hz2 hq2
  refine W.eq (g2 := F0 mi 13 ls [.ref H0.size]) rfl ?_
  have hwl := hP0.2.1.2.2.2.2
  have hrl0 := hP0.rl
  have hsb1 : κ.base ≤ H0.size := hP0.1.2.2
  have hP := hP0.new (H1 := t1.heap) (by omega) (fun q h => (hq2 q (by omega) (by omega)).trans (ho1 q h))
  have hP : PS κ o τ r s0 w al p tm w t1.heap (locs0 ++ L1) := ⟨hP.1, hP.2.1, hP.2.2.1, hP.2.2.2.1, lc_app hP.2.2.2.2 (fun x hx => by rw [show x.base = H0.size from hL x hx]; exact hsb1)⟩
  have hLs0 : ∀ (fs : Nat → Sm) (dp : Nat), LTs κ o r w t1.heap H0.size H1.size 2 0 (fun _ => 0) fs dp s0.heap.size := fun fs dp => ⟨hLA _, by decide, by omega, by omega, by omega, by omega, hrs, fun j hj => absurd hj (Nat.not_lt_zero _)⟩
  refine lv_astore_n (lv' := [(2, .ref H0.size), (0, .ref r), (1, .int (nI d))]) hx hb dX5_either_13 rfl hl (by decide) rfl (fun ls hl => ?_)
  refine lv_aload_n hx hb dX5_either_14 rfl (lv_at hl 0 rfl) ?_
  refine lv_aload_n hx hb dX5_either_15 rfl (lv_at hl 1 rfl) ?_
  refine lv_iload_n hx hb dX5_either_16 rfl (lv_at hl 2 rfl) ?_
  refine ps_call (n := 1) (As := [.int (nI d)]) (rest := [.ref H0.size]) hx hb hml hnh hlk hown hts hP hrB (hEl p tm w htm) q910 q912 qs16 q913 (by decide +kernel) hdE (by decide) rfl hl.1 (Nat.le_of_ble_eq_true rfl) rfl dX5_either_17 ⟨by show 0 + 1 + 1 + 1 + _ ≤ (pEd τ d el p tm).2.1; omega, by show 0 + 8 + 3 + 2 + _ ≤ (pEd τ d el p tm).2.2; omega⟩ ⟨by omega, by omega⟩ (fun q hq oc t her => by show prQ κ o τ r w al tm e0 (pEd τ d el p tm).1 _ s0 oc t; rw [hPE]; show prQ κ o τ r w al tm e0 (pLst τ 14 false el p tm).1 _ s0 oc t; unfold pLst; rw [hq]; exact her) (fun q hq H3 locs3 b w3 hP hF3 hw3 hEb => ?_)
  have hge3 := hge.2.2 q hq
  obtain ⟨hq1, hq80⟩ := hel _ _ q htm hq
  have hLs := (hLs0 (fun _ => q.1) 0).step hF3 hw3
  have hll := hLs.1.lt
  have hs1 := hP.2.2.1.1
  have hEb := TR.of hEb (show r < t1.heap.size by omega)
  have hw3l := hP.2.1.2.2.2.2
  have hF31 := hF3.1
  refine x_called (x_runV (n := 1) (As := [.ref b]) (rest := []) hx hb hml hown hts (metJ2_add l κ H0.size H1.size 2 0 H3.size b (fun _ => 0) (by decide) (by decide) hsb1) q993 q994 q995 q67 q996 (by decide +kernel) (by omega) (by decide) rfl hP.1 ⟨rfl, hLs.1, fun j hj => absurd hj (Nat.not_lt_zero _), by obtain ⟨wx, g1, -⟩ := hEb; exact g1.ob⟩ (ob_recv hP.1.1.1 rfl hLs.1.1.choose_spec) hl.1 (Nat.le_of_ble_eq_true rfl) rfl dX5_either_20 ⟨by show 0 + 1 + 1 + 1 + _ + 1 ≤ (pEd τ d el p tm).2.1; omega, by show 0 + 8 + 3 + 2 + _ + capG 0 ≤ (pEd τ d el p tm).2.2; omega⟩) (fun v2 st t L hst hq2 hvm hL => ?_)
  obtain ⟨hv, ⟨x', c', hLA2, hx'⟩, hz3, hz4, hq4⟩ := hq2
  cases hv
  rw [hst] at hx' hz3 hz4 hq4
  refine W.eq (g2 := F0 mi 23 ls [.int 1]) rfl ?_
  have hP := hP.lst (H1 := t.heap) (L := L) hLs.1 (by omega) (by omega) hsb0 hz3 hq4 (fun y hy => by rcases hL y hy with z | z | z <;> omega)
  have hLs := hLs.add (dp' := q.2.2 - tm - 0 + e0) (hEb.deep (by omega)) (by omega) (by omega) (by omega) hw3l (by omega) hLA2 hx' hz3 hq4 (by omega)
  refine lv_pop hx hb dX5_either_23 rfl ?_
  have hT : lstL τ 14 false el (81 - q.2.2) 1 (updS (fun _ => q.1) 0 q.1) q.2.1 q.2.2 (0 + 1 + 1 + 1 + (el p tm).2.1 + 1) (0 + 8 + 3 + 2 + (el p tm).2.2 + capG 0) = (pEd τ d el p tm) := by rw [updS_0, hPE, show 0 + 1 + 1 + 1 + (el p tm).2.1 + 1 = 1 + (2 + (el p tm).2.1 + 1) by omega, show 0 + 8 + 3 + 2 + (el p tm).2.2 + capG 0 = 8 + (5 + (el p tm).2.2 + capG 0) by omega, lstL_add]; unfold pLst; rw [hq]
  exact either_loop l κ o τ r tm w al e0 d dE dM hro hrB hdE hd9 el hel hEl (pEd τ d el p tm) hx hb hml hnh hown hts hr hlk hrs hsb0 (81 - q.2.2) 1 (va_up (fun _ => 0) 0 b) (updS (fun _ => q.1) 0 q.1) q.2.1 q.2.2 w3 H0.size x' c' t.heap _ ls _ _ (Nat.le_refl 1) (by omega) (by omega) (by omega) hT hP hLs (lv_sub hl [0, 1, 2] rfl)
