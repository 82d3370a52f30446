/-! Reader.sum. By tools/gen_r7.py -/
set_option maxRecDepth 100000
def sumL (τ : Tp) : Nat → Sm → Nat → Nat → Nat → Nat → PO
  | 0, f, p, tm, ca, sa => (.ok (f, p, tm), ca, sa)
  | k + 1, f, p, tm, ca, sa => if ts τ p = 43 ∨ ts τ p = 45 then
      (match (pTerm τ (te τ p) tm).1 with
      | .error q => (.error q, ca + 10, sa + 56)
      | .ok q => sumL τ k (fun e => bin (ts τ p) (f e) (q.1 e)) q.2.1 q.2.2 (ca + 10) (sa + 56))
    else (.ok (f, p, tm), ca, sa)
def pSum (τ : Tp) (p tm : Nat) : PO := match (pTerm τ p tm).1 with
  | .error q => (.error q, 5, 27)
  | .ok q => sumL τ (81 - q.2.2) q.1 q.2.1 q.2.2 5 27
theorem sumL_ge {τ : Tp} : ∀ (k : Nat) (f : Sm) (p tm ca sa : Nat), ca ≤ (sumL τ k f p tm ca sa).2.1 ∧ sa ≤ (sumL τ k f p tm ca sa).2.2
  | 0, _, _, _, _, _ => ⟨Nat.le_refl _, Nat.le_refl _⟩
  | k + 1, f, p, tm, ca, sa => by
    rw [sumL]
    split
    · split
      · exact ⟨by show ca ≤ ca + 10; omega, by show sa ≤ sa + 56; omega⟩
      · rename_i q _
        have := sumL_ge (τ := τ) k (fun e => bin (ts τ p) (f e) (q.1 e)) q.2.1 q.2.2 (ca + 10) (sa + 56)
        exact ⟨by omega, by omega⟩
    · exact ⟨Nat.le_refl _, Nat.le_refl _⟩
theorem pT_inv {τ : Tp} {p tm : Nat} {q : Sm × Nat × Nat} (h : (pTerm τ p tm).1 = .ok q) : q.2.2 = tm + 1 ∧ ¬ tm = 80 := by
  by_cases hc : isTm τ p = true ∧ ¬ tm = 80
  · rw [pT_ok hc.1 hc.2] at h
    cases h
    exact ⟨rfl, hc.2⟩
  · rw [pT_err hc] at h
    cases h

set_option maxHeartbeats 4000000 in
theorem sum_loop (l : Launch) (κ : Kg) (o : Nat) (τ : Tp) (r tm w al : Nat) (hro : o + 1 < r) (hrB : κ.base ≤ r) (TT : PO) {pg : Program} {ev : Env} {s0 : State} {mi : MethodId} {bl : List Frame} {me : Method} {co : Code} (hx : pg.tables.exec = Jvm.exec) (hb : co.code = cX5_sum) (hml : co.maxLocals = 3) (hnh : ∀ x ∈ co.exceptionTable.toList, False) (hown : s0.vm.findClass RX5 = some mi.cls) (hts : ∀ w ∈ lw_all, w.before #[.ref r] s0 = true) (hr : me.sig.returnType = some (.object "HomeRoll$Ex")) (hlk : me.locks = false) (hrs : r < s0.heap.size) (hsb0 : κ.base ≤ s0.heap.size) :
    ∀ (k : Nat) (f : Sm) (P tm1 w1 a lo hi : Nat) (H : Heap) (locs : List Loc) (ls : Array Slot) (cells slots : Nat), tm1 + k = 81 → tm1 ≤ 80 → tm < tm1 → sumL τ k f P tm1 cells slots = TT → PS κ o τ r s0 w al P tm1 w1 H locs → TR κ o r w1 H a f (tm1 - tm) lo hi → s0.heap.size ≤ lo → lv_has ls 3 [(1, .ref a), (0, .ref r)] →
      W pg l ev (rmC 8 TT.2.1 TT.2.2) s0 mi #[.ref r] bl me co H locs cells slots (MQT bl (prQ κ o τ r w al tm 0 TT.1) #[.ref r] s0 TT.2.1 TT.2.2 (fun q => κ.base ≤ q)) (F0 mi 5 ls []) := by
  intro k
  induction k with
  | zero => intro f P tm1 w1 a lo hi H locs ls cells slots h1 h2; omega
  | succ k ih =>
    intro f P tm1 w1 a lo hi H locs ls cells slots hk h80 htm hT hP hE hlo hl
    refine lv_aload_n hx hb dX5_sum_5 rfl (lv_at hl 1 rfl) ?_
    obtain ⟨nu, hO, hnu⟩ := hP.ob
    refine ob_get (C := RX5) (T := TX5) (N := 8) (ci := 4) (v := .int (ts τ P)) hx hb hts in_X5 hown hP.1.1.1 hO rfl 1 (by decide) q431 (fun x h => h) rfl dX5_sum_6 ?_
    refine lv_bipush (v := 43) hx hb dX5_sum_9 (by decide) ?_
    refine lv_icmp_eq (tgt := 23) hx hb dX5_sum_11 (by decide) (fun c_11 => ?_) (fun c_11 => ?_)
    · skip
      refine lv_aload_n hx hb dX5_sum_23 rfl (lv_at hl 1 rfl) ?_
      have hsg : ts τ P = 43 ∨ ts τ P = 45 := by first | exact Or.inl c_11 | exact Or.inr c_20
      rw [sumL, if_pos hsg] at hT
      have hge : cells + 10 ≤ TT.2.1 ∧ slots + 56 ≤ TT.2.2 := by
        cases hpt : (pTerm τ (te τ P) tm1).1 with
        | error q => rw [hpt] at hT; rw [← hT]; exact ⟨Nat.le_refl _, Nat.le_refl _⟩
        | ok q => rw [hpt] at hT; rw [← hT]; exact sumL_ge _ _ _ _ _ _
      obtain ⟨nu, hO, hnu⟩ := hP.ob
      refine ob_get (C := RX5) (T := TX5) (N := 8) (ci := 4) (v := .int (ts τ P)) hx hb hts in_X5 hown hP.1.1.1 hO rfl 1 (by decide) q431 (fun x h => h) rfl dX5_sum_24 ?_
      refine lv_istore_n (lv' := [(2, .int (ts τ P)), (1, .ref a), (0, .ref r)]) hx hb dX5_sum_27 rfl hl (by decide) rfl (fun ls hl => ?_)
      refine lv_aload_n hx hb dX5_sum_28 rfl (lv_at hl 2 rfl) ?_
      refine ps_next hx hb hml hown hts hP hro hrB (by decide) hl.1 (Nat.le_of_ble_eq_true rfl) dX5_sum_29 ⟨by omega, by omega⟩ (fun H1 locs1 w2 hP hF1 hw2 => ?_)
      have hE := hE.step hF1 hw2
      have hhi : hi ≤ H1.size := hE.choose_spec.2.2.1
      have hw2l := hP.2.1.2.2.2.2
      have hr1 := hP.rl
      have hs1 := hP.2.2.1.1
      refine ob_new (C := RX11) (T := TX11) (N := 5) (ci := 9) hx hb hts in_X11 tyX11 tyX11_ok hown q973 q974 q92 hP.1.1.1 rfl (by show cells + 4 + 1 ≤ TT.2.1; omega) (by show slots + 24 + 5 ≤ TT.2.2; omega) dX5_sum_32 (fun H2 hN hz2 ho2 => ?_)
      have hP := hP.new (H1 := H2) (by omega) ho2
      have hE := hE.new (H1 := H2) (by omega) ho2
      refine lv_dup hx hb dX5_sum_35 rfl ?_
      refine lv_aload_n hx hb dX5_sum_36 rfl (lv_at hl 2 rfl) ?_
      obtain ⟨nu, hO, hnu⟩ := hP.ob
      refine ob_get (C := RX5) (T := TX5) (N := 8) (ci := 4) (v := .ref o) hx hb hts in_X5 hown hP.1.1.1 hO rfl 7 (by decide) q437 (fun x h => h) rfl dX5_sum_37 ?_
      refine lv_aload_n hx hb dX5_sum_40 rfl (lv_at hl 1 rfl) ?_
      refine lv_iload_n hx hb dX5_sum_41 rfl (lv_at hl 0 rfl) ?_
      refine lv_aload_n hx hb dX5_sum_42 rfl (lv_at hl 2 rfl) ?_
      refine ps_call (n := 0) (As := []) (rest := [.int (ts τ P), .ref a, .ref o, .ref H1.size, .ref H1.size]) hx hb hml hnh hlk hown hts hP hrB (metX5_term l κ o τ r (te τ P) tm1 w2 al hro hrB h80) q941 q943 qs19 q944 (by decide +kernel) (by decide) (by decide) rfl hl.1 (Nat.le_of_ble_eq_true rfl) rfl dX5_sum_43 ⟨by show cells + 4 + 1 + 5 ≤ TT.2.1; omega, by show slots + 24 + 5 + 27 ≤ TT.2.2; omega⟩ ⟨by omega, by omega⟩ (fun q hq oc t her => by show prQ κ o τ r w al tm 0 TT.1 _ s0 oc t; rw [hq] at hT; rw [← hT]; exact her) (fun q hq H3 locs3 b w3 hP hF3 hw3 hEb => ?_)
      rw [hq] at hT
      obtain ⟨hq1, hq80⟩ := pT_inv hq
      have hE := hE.step hF3 hw3
      have hEb := TR.of hEb (show r < H2.size by omega)
      have hN := hN.kept (hF3.2 H1.size (by omega) (by omega) (by omega))
      have hN0 := hN
      have hsb : κ.base ≤ s0.heap.size := hsb0
      refine ob_called (x_runI (n := 4) (As := [.ref o, .ref a, .int (ts τ P), .ref b]) (rest := [.ref H1.size]) hx hb hml hown hts (metX11_init l κ H1.size o a (ts τ P) b (by omega)) q975 q976 q92 q977 rfl (by decide +kernel) (by decide) (by decide) rfl hP.1 hN hl.1 (Nat.le_of_ble_eq_true rfl) rfl dX5_sum_46 ⟨by show cells + 4 + 1 + 5 + 0 ≤ TT.2.1; omega, by show slots + 24 + 5 + 27 + 0 ≤ TT.2.2; omega⟩) hs1 (fun H4 hN hz4 hq4 => ?_)
      have hF31 := hF3.1
      have hP := hP.obj (H1 := H4) (isOb.of hN0 (by decide) (by decide)) hs1 hz4 hq4 hsb
      have hE := hE.obj (x := H1.size) (Or.inr hhi) hz4 hq4
      have hEb := hEb.obj (x := H1.size) (Or.inl (by omega)) hz4 hq4
      have hw3l := hP.2.1.2.2.2.2
      have hE2 : TR κ o r w3 H4 H1.size (fun e => bin (ts τ P) (f e) (q.1 e)) (q.2.2 - tm) s0.heap.size H4.size := by
        refine TR.of ?_ hrs
        obtain ⟨d0, hd0⟩ : ∃ d0, q.2.2 - tm = d0 + 1 := ⟨tm1 - tm, by omega⟩
        rw [hd0]
        exact ⟨⟨hs1, by omega, by rcases hw3 with z | z <;> omega⟩, Or.inr (Or.inr (Or.inr (Or.inl ⟨a, b, _, _, _, hN, hE.fin hlo (by omega), hEb.fin (by omega) (by omega), rfl⟩)))⟩
      refine lv_astore_n (lv' := [(1, .ref H1.size), (2, .int (ts τ P)), (0, .ref r)]) hx hb dX5_sum_49 rfl hl (by decide) rfl (fun ls hl => ?_)
      refine lv_goto (tgt := 5) hx hb dX5_sum_50 (by decide) ?_
      exact ih _ _ _ w3 H1.size s0.heap.size H4.size H4 locs3 ls _ _ (by omega) (by omega) (by omega) hT hP hE2 (Nat.le_refl _) (lv_sub hl [0, 2] rfl)
    · skip
      refine lv_aload_n hx hb dX5_sum_14 rfl (lv_at hl 1 rfl) ?_
      obtain ⟨nu, hO, hnu⟩ := hP.ob
      refine ob_get (C := RX5) (T := TX5) (N := 8) (ci := 4) (v := .int (ts τ P)) hx hb hts in_X5 hown hP.1.1.1 hO rfl 1 (by decide) q431 (fun x h => h) rfl dX5_sum_15 ?_
      refine lv_bipush (v := 45) hx hb dX5_sum_18 (by decide) ?_
      refine lv_icmp_ne (tgt := 53) hx hb dX5_sum_20 (by decide) (fun c_20 => ?_) (fun c_20 => ?_)
      · skip
        refine lv_aload_n hx hb dX5_sum_53 rfl (lv_at hl 0 rfl) ?_
        have hsg : ¬ (ts τ P = 43 ∨ ts τ P = 45) := by rintro (z | z); (· exact c_11 z); (· exact c_20 z)
        rw [sumL, if_neg hsg] at hT
        have hge : cells ≤ TT.2.1 ∧ slots ≤ TT.2.2 := by rw [← hT]; exact ⟨Nat.le_refl _, Nat.le_refl _⟩
        refine W.widen (k := TT.2.1) (n := TT.2.2) hge.1 hge.2 ?_
        refine W.mono (fun _ => MQT.of) ?_
        exact W.aret hx hb hr (Or.inl ⟨_, rfl⟩) (Or.inr ⟨_, rfl⟩) (fun t ht hW => by show prQ κ o τ r w al tm 0 TT.1 _ s0 _ t; rw [← hT]; exact ⟨_, w1, rfl, by rw [ht]; exact hP.2.1, hP.2.2.2.1, by rw [ht]; exact hE.fin hlo (by show tm1 - tm ≤ tm1 - tm + 0; omega), by rw [ht]; exact hP.2.2.1⟩) hP.2.2.2.2 dX5_sum_54 hlk
      · skip
        refine lv_aload_n hx hb dX5_sum_23 rfl (lv_at hl 1 rfl) ?_
        have hsg : ts τ P = 43 ∨ ts τ P = 45 := by first | exact Or.inl c_11 | exact Or.inr c_20
        rw [sumL, if_pos hsg] at hT
        have hge : cells + 10 ≤ TT.2.1 ∧ slots + 56 ≤ TT.2.2 := by
          cases hpt : (pTerm τ (te τ P) tm1).1 with
          | error q => rw [hpt] at hT; rw [← hT]; exact ⟨Nat.le_refl _, Nat.le_refl _⟩
          | ok q => rw [hpt] at hT; rw [← hT]; exact sumL_ge _ _ _ _ _ _
        obtain ⟨nu, hO, hnu⟩ := hP.ob
        refine ob_get (C := RX5) (T := TX5) (N := 8) (ci := 4) (v := .int (ts τ P)) hx hb hts in_X5 hown hP.1.1.1 hO rfl 1 (by decide) q431 (fun x h => h) rfl dX5_sum_24 ?_
        refine lv_istore_n (lv' := [(2, .int (ts τ P)), (1, .ref a), (0, .ref r)]) hx hb dX5_sum_27 rfl hl (by decide) rfl (fun ls hl => ?_)
        refine lv_aload_n hx hb dX5_sum_28 rfl (lv_at hl 2 rfl) ?_
        refine ps_next hx hb hml hown hts hP hro hrB (by decide) hl.1 (Nat.le_of_ble_eq_true rfl) dX5_sum_29 ⟨by omega, by omega⟩ (fun H1 locs1 w2 hP hF1 hw2 => ?_)
        have hE := hE.step hF1 hw2
        have hhi : hi ≤ H1.size := hE.choose_spec.2.2.1
        have hw2l := hP.2.1.2.2.2.2
        have hr1 := hP.rl
        have hs1 := hP.2.2.1.1
        refine ob_new (C := RX11) (T := TX11) (N := 5) (ci := 9) hx hb hts in_X11 tyX11 tyX11_ok hown q973 q974 q92 hP.1.1.1 rfl (by show cells + 4 + 1 ≤ TT.2.1; omega) (by show slots + 24 + 5 ≤ TT.2.2; omega) dX5_sum_32 (fun H2 hN hz2 ho2 => ?_)
        have hP := hP.new (H1 := H2) (by omega) ho2
        have hE := hE.new (H1 := H2) (by omega) ho2
        refine lv_dup hx hb dX5_sum_35 rfl ?_
        refine lv_aload_n hx hb dX5_sum_36 rfl (lv_at hl 2 rfl) ?_
        obtain ⟨nu, hO, hnu⟩ := hP.ob
        refine ob_get (C := RX5) (T := TX5) (N := 8) (ci := 4) (v := .ref o) hx hb hts in_X5 hown hP.1.1.1 hO rfl 7 (by decide) q437 (fun x h => h) rfl dX5_sum_37 ?_
        refine lv_aload_n hx hb dX5_sum_40 rfl (lv_at hl 1 rfl) ?_
        refine lv_iload_n hx hb dX5_sum_41 rfl (lv_at hl 0 rfl) ?_
        refine lv_aload_n hx hb dX5_sum_42 rfl (lv_at hl 2 rfl) ?_
        refine ps_call (n := 0) (As := []) (rest := [.int (ts τ P), .ref a, .ref o, .ref H1.size, .ref H1.size]) hx hb hml hnh hlk hown hts hP hrB (metX5_term l κ o τ r (te τ P) tm1 w2 al hro hrB h80) q941 q943 qs19 q944 (by decide +kernel) (by decide) (by decide) rfl hl.1 (Nat.le_of_ble_eq_true rfl) rfl dX5_sum_43 ⟨by show cells + 4 + 1 + 5 ≤ TT.2.1; omega, by show slots + 24 + 5 + 27 ≤ TT.2.2; omega⟩ ⟨by omega, by omega⟩ (fun q hq oc t her => by show prQ κ o τ r w al tm 0 TT.1 _ s0 oc t; rw [hq] at hT; rw [← hT]; exact her) (fun q hq H3 locs3 b w3 hP hF3 hw3 hEb => ?_)
        rw [hq] at hT
        obtain ⟨hq1, hq80⟩ := pT_inv hq
        have hE := hE.step hF3 hw3
        have hEb := TR.of hEb (show r < H2.size by omega)
        have hN := hN.kept (hF3.2 H1.size (by omega) (by omega) (by omega))
        have hN0 := hN
        have hsb : κ.base ≤ s0.heap.size := hsb0
        refine ob_called (x_runI (n := 4) (As := [.ref o, .ref a, .int (ts τ P), .ref b]) (rest := [.ref H1.size]) hx hb hml hown hts (metX11_init l κ H1.size o a (ts τ P) b (by omega)) q975 q976 q92 q977 rfl (by decide +kernel) (by decide) (by decide) rfl hP.1 hN hl.1 (Nat.le_of_ble_eq_true rfl) rfl dX5_sum_46 ⟨by show cells + 4 + 1 + 5 + 0 ≤ TT.2.1; omega, by show slots + 24 + 5 + 27 + 0 ≤ TT.2.2; omega⟩) hs1 (fun H4 hN hz4 hq4 => ?_)
        have hF31 := hF3.1
        have hP := hP.obj (H1 := H4) (isOb.of hN0 (by decide) (by decide)) hs1 hz4 hq4 hsb
        have hE := hE.obj (x := H1.size) (Or.inr hhi) hz4 hq4
        have hEb := hEb.obj (x := H1.size) (Or.inl (by omega)) hz4 hq4
        have hw3l := hP.2.1.2.2.2.2
        have hE2 : TR κ o r w3 H4 H1.size (fun e => bin (ts τ P) (f e) (q.1 e)) (q.2.2 - tm) s0.heap.size H4.size := by
          refine TR.of ?_ hrs
          obtain ⟨d0, hd0⟩ : ∃ d0, q.2.2 - tm = d0 + 1 := ⟨tm1 - tm, by omega⟩
          rw [hd0]
          exact ⟨⟨hs1, by omega, by rcases hw3 with z | z <;> omega⟩, Or.inr (Or.inr (Or.inr (Or.inl ⟨a, b, _, _, _, hN, hE.fin hlo (by omega), hEb.fin (by omega) (by omega), rfl⟩)))⟩
        refine lv_astore_n (lv' := [(1, .ref H1.size), (2, .int (ts τ P)), (0, .ref r)]) hx hb dX5_sum_49 rfl hl (by decide) rfl (fun ls hl => ?_)
        refine lv_goto (tgt := 5) hx hb dX5_sum_50 (by decide) ?_
        exact ih _ _ _ w3 H1.size s0.heap.size H4.size H4 locs3 ls _ _ (by omega) (by omega) (by omega) hT hP hE2 (Nat.le_refl _) (lv_sub hl [0, 2] rfl)

set_option maxHeartbeats 4000000 in
theorem metX5_sum (l : Launch) (κ : Kg) (o : Nat) (τ : Tp) (r p tm : Nat) (w al : Nat) (hro : o + 1 < r) (hrB : κ.base ≤ r) (htm : tm ≤ 80) : MetT l yX5_sum (ws_ yX5_sum cX5_sum 3 (some (.object "HomeRoll$Ex"))) (rmC 8 (pSum τ p tm).2.1 (pSum τ p tm).2.2) (xP κ (RT κ o τ r p (nI tm) w al) [.ref r]) (prQ κ o τ r w al tm 0 (pSum τ p tm).1) (pSum τ p tm).2.1 (pSum τ p tm).2.2 (fun q => κ.base ≤ q) := by
  refine xT_start RX5 (by decide) rfl (Nat.le_of_ble_eq_true rfl) ?_
  intro pg ev s0 mi bl me co hx hb hml hnh hown hts hr hlk hK hM ls hl
  have hl : lv_has ls 3 [(0, .ref r)] := hl
  have hP : PS κ o τ r s0 w al p tm w s0.heap [] := ⟨hK, hM, FrR.rf, Or.inl rfl, fun x h => by cases h⟩
  have hrs := hP.rl
  have hge : 5 ≤ (pSum τ p tm).2.1 ∧ 27 ≤ (pSum τ p tm).2.2 := by
    unfold pSum
    split
    · exact ⟨Nat.le_refl _, Nat.le_refl _⟩
    · exact sumL_ge _ _ _ _ _ _
  refine lv_aload_n hx hb dX5_sum_0 rfl (lv_at hl 0 rfl) ?_
  refine ps_call (n := 0) (As := []) (rest := []) hx hb hml hnh hlk hown hts hP hrB (metX5_term l κ o τ r p tm w al hro hrB htm) q941 q943 qs19 q944 (by decide +kernel) (by decide) (by decide) rfl hl.1 (Nat.le_of_ble_eq_true rfl) rfl dX5_sum_1 ⟨by show 0 + 5 ≤ (pSum τ p tm).2.1; omega, by show 0 + 27 ≤ (pSum τ p tm).2.2; omega⟩ ⟨by omega, by omega⟩ (fun q hq oc t her => by show prQ κ o τ r w al tm 0 (pSum τ p tm).1 _ s0 oc t; unfold pSum; rw [hq]; exact her) (fun q hq H1 locs1 a w1 hP hF1 hw1 hE => ?_)
  obtain ⟨hq1, hq80⟩ := pT_inv hq
  refine lv_astore_n (lv' := [(1, .ref a), (0, .ref r)]) hx hb dX5_sum_4 rfl hl (by decide) rfl (fun ls hl => ?_)
  exact sum_loop l κ o τ r tm w al hro hrB (pSum τ p tm) hx hb hml hnh hown hts hr hlk hrs hK.2.2 (81 - q.2.2) q.1 q.2.1 q.2.2 w1 a s0.heap.size H1.size H1 locs1 ls _ _ (by omega) (by omega) (by omega) (by unfold pSum; rw [hq]) hP (TR.of hE hrs) (Nat.le_refl _) hl
