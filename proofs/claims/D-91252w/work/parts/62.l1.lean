/-! Reader.both, Reader.either: the loops. By tools/gen_r8.py -/
set_option maxRecDepth 100000
theorem lstL_ge {τ : Tp} {kw : Nat} {al : Bool} {el : Nat → Nat → PO} : ∀ (k n : Nat) (fs : Nat → Sm) (p tm ca sa : Nat), ca + 1 ≤ (lstL τ kw al el k n fs p tm ca sa).2.1 ∧ sa + 4 ≤ (lstL τ kw al el k n fs p tm ca sa).2.2 ∨ ∃ q, (lstL τ kw al el k n fs p tm ca sa).1 = .error q ∧ ca + 4 ≤ (lstL τ kw al el k n fs p tm ca sa).2.1 ∧ sa + 24 ≤ (lstL τ kw al el k n fs p tm ca sa).2.2
  | 0, _, _, _, _, _, _ => Or.inl ⟨Nat.le_refl _, Nat.le_refl _⟩
  | k + 1, n, fs, p, tm, ca, sa => by
    rw [lstL]
    split
    · split
      · rename_i q _
        exact Or.inl ⟨by show ca + 1 ≤ ca + 4 + _; omega, by show sa + 4 ≤ sa + 24 + _; omega⟩
      · rename_i q _
        rcases lstL_ge (τ := τ) (kw := kw) (al := al) (el := el) k (n + 1) (updS fs n q.1) q.2.1 q.2.2 (ca + 4 + (el (te τ p) tm).2.1 + 1) (sa + 24 + (el (te τ p) tm).2.2 + capG n) with h | ⟨q2, h1, h2⟩
        · exact Or.inl ⟨by omega, by omega⟩
        · exact Or.inl ⟨by omega, by omega⟩
    · exact Or.inl ⟨Nat.le_refl _, Nat.le_refl _⟩
theorem lstL_g {τ : Tp} {kw : Nat} {al : Bool} {el : Nat → Nat → PO} (k n : Nat) (fs : Nat → Sm) (p tm ca sa : Nat) : ca + 1 ≤ (lstL τ kw al el k n fs p tm ca sa).2.1 ∧ sa + 4 ≤ (lstL τ kw al el k n fs p tm ca sa).2.2 := by
  rcases lstL_ge (τ := τ) (kw := kw) (al := al) (el := el) k n fs p tm ca sa with h | ⟨q, h1, h2⟩
  · exact h
  · exact ⟨by omega, by omega⟩

theorem ExT.cast {κ : Kg} {o : Nat} {S : Nat → Prop} {H : Heap} {s : State} (hX : KX κ s) : ∀ {d a : Nat} {f : Sm}, ExT κ o S H d a f → ∃ C, va_Nw (.castable C "HomeRoll$Ex") s ∧ ∃ cell : Cell, H[a]? = some cell ∧ cell.vm.isStatics = false ∧ s.vm.findClass C = some cell.cls
  | 0, _, _, h => absurd h id
  | d + 1, a, f, ⟨h1, h⟩ => by
    rcases h with ⟨n, h2, h3⟩ | ⟨k, h2, h3, h4⟩ | ⟨x, g, h2, h3, h4⟩ | ⟨x, y, sg, g, g', h2, h3, h4, h5⟩ | ⟨li, x, c, n, al, es, fs, h2, h3, h4, h5, h6, h7⟩
    · exact ⟨_, hX.2.1 _ nq1709, ob_recv hX.1 (ci := 7) rfl h2⟩
    · exact ⟨_, hX.2.1 _ nq1710, ob_recv hX.1 (ci := 8) rfl h3⟩
    · exact ⟨_, hX.2.1 _ nq1708, ob_recv hX.1 (ci := 6) rfl h2⟩
    · exact ⟨_, hX.2.1 _ nq1706, ob_recv hX.1 (ci := 9) rfl h2⟩
    · exact ⟨_, hX.2.1 _ nq1707, ob_recv hX.1 (ci := 10) rfl h4⟩

set_option maxHeartbeats 4000000 in
theorem both_loop (l : Launch) (κ : Kg) (o : Nat) (τ : Tp) (r tm w al e0 d dE dM : Nat) (hro : o + 1 < r) (hrB : κ.base ≤ r) (hdE : dE < dM) (hd9 : 8 < dE) (el : Nat → Nat → PO) (hel : ∀ (p tm : Nat) (q : Sm × Nat × Nat), tm ≤ 80 → (el p tm).1 = .ok q → tm < q.2.2 ∧ q.2.2 ≤ 80)
    (hEl : ∀ p tm w, tm ≤ 80 → MetT l yX5_one (ws_ yX5_one cX5_one 4 (some (.object "HomeRoll$Ex"))) (rmC dE (el p tm).2.1 (el p tm).2.2) (xP κ (RT κ o τ r p (nI tm) w al) [.ref r, .int (nI d)]) (prQ κ o τ r w al tm e0 (el p tm).1) (el p tm).2.1 (el p tm).2.2 (fun q => κ.base ≤ q))
    (TT : PO) {pg : Program} {ev : Env} {s0 : State} {mi : MethodId} {bl : List Frame} {me : Method} {co : Code} (hx : pg.tables.exec = Jvm.exec) (hb : co.code = cX5_both) (hml : co.maxLocals = 3) (hnh : ∀ x ∈ co.exceptionTable.toList, False) (hown : s0.vm.findClass RX5 = some mi.cls) (hts : ∀ w ∈ lw_all, w.before #[.ref r, .int (nI d)] s0 = true) (hr : me.sig.returnType = some (.object "HomeRoll$Ex")) (hlk : me.locks = false) (hrs : r < s0.heap.size) (hsb0 : κ.base ≤ s0.heap.size) :
    ∀ (k n : Nat) (es : Nat → Nat) (fs : Nat → Sm) (P tm1 w1 li x c : Nat) (H : Heap) (locs : List Loc) (ls : Array Slot) (cells slots : Nat), 1 ≤ n → n ≤ tm1 - tm → 81 ≤ tm1 + k → tm1 ≤ 80 → lstL τ 13 true el k n fs P tm1 cells slots = TT → PS κ o τ r s0 w al P tm1 w1 H locs → LTs κ o r w1 H li x c n es fs (tm1 - tm - (n - 1) + e0) s0.heap.size → lv_has ls 3 [(2, .ref li), (0, .ref r), (1, .int (nI d))] →
      W pg l ev (rmC dM TT.2.1 TT.2.2) s0 mi #[.ref r, .int (nI d)] bl me co H locs cells slots (MQT bl (prQ κ o τ r w al tm e0 TT.1) #[.ref r, .int (nI d)] s0 TT.2.1 TT.2.2 (fun q => κ.base ≤ q)) (F0 mi 19 ls []) := by
  intro k
  induction k with
  | zero => intro n es fs P tm1 w1 li x c H locs ls cells slots h1 h2 h3 h4; omega
  | succ k ih =>
    intro n es fs P tm1 w1 li x c H locs ls cells slots hn1 hnt hk h80 hT hP hLs hl
    have hgT := lstL_g (τ := τ) (kw := 13) (al := true) (el := el) (k + 1) n fs P tm1 cells slots
    rw [hT] at hgT
    refine lv_aload_n hx hb dX5_both_19 rfl (lv_at hl 1 rfl) ?_
    refine va_ldcS hx hb hown (sR_13 hP.1.1) dX5_both_20 ?_
    refine ps_is hx hb hml hown hts hP 13 (by decide) (by omega) hl.1 (Nat.le_of_ble_eq_true rfl) dX5_both_22 ⟨by omega, by omega⟩ ?_
    refine lv_B_eq (tgt := 45) hx hb dX5_both_25 (by decide) (fun c_25 => ?_) (fun c_25 => ?_)
    · skip
      refine lv_aload_n hx hb dX5_both_45 rfl (lv_at hl 0 rfl) ?_
      rw [lstL, if_neg (by rw [c_25]; decide)] at hT
      have hge : cells + 1 ≤ TT.2.1 ∧ slots + 4 ≤ TT.2.2 := by rw [← hT]; exact ⟨Nat.le_refl _, Nat.le_refl _⟩
      refine ro_call (g_runV (n := 0) (As := []) (rest := []) hx hb hml hown hts (metJ2_size l κ li x c n es) q742 q743 q744 q67 q745 (by decide +kernel) (by omega) (by decide) rfl hP.1.1.1 hLs.1 (ob_recv hP.1.1.1 rfl hLs.1.1.choose_spec) hl.1 (Nat.le_of_ble_eq_true rfl) rfl dX5_both_46 ⟨by omega, by omega⟩) ?_
      refine lv_iconst (v := 1) hx hb dX5_both_49 (by decide) ?_
      refine lv_icmp_ne (tgt := 64) hx hb dX5_both_50 (by decide) (fun c_50 => ?_) (fun c_50 => ?_)
      · skip
        have hP0 := hP
        have hLs0 := hLs
        refine ob_new (C := RX12) (T := TX12) (N := 4) (ci := 10) hx hb hts in_X12 tyX12 tyX12_ok hown q1064 q1065 q94 hP.1.1.1 rfl (by show cells + 1 ≤ TT.2.1; omega) (by show slots + 4 ≤ TT.2.2; omega) dX5_both_64 (fun H1 hN hz1 ho1 => ?_)
        have hP := hP.new (H1 := H1) (by omega) ho1
        have hLs := hLs.new (H1 := H1) (by omega) ho1
        have hNo := hN
        refine lv_dup hx hb dX5_both_67 rfl ?_
        refine lv_aload_n hx hb dX5_both_68 rfl (lv_at hl 1 rfl) ?_
        obtain ⟨nu, hO, hnu⟩ := hP.ob
        refine ob_get (C := RX5) (T := TX5) (N := 8) (ci := 4) (v := .ref o) hx hb hts in_X5 hown hP.1.1.1 hO rfl 7 (by decide) q437 (fun x h => h) rfl dX5_both_69 ?_
        refine lv_aload_n hx hb dX5_both_72 rfl (lv_at hl 0 rfl) ?_
        refine lv_iconst (v := 1) hx hb dX5_both_73 (by decide) ?_
        refine ob_called (x_runI (n := 3) (As := [.ref o, .ref li, .int (b2 true)]) (rest := [.ref H.size]) hx hb hml hown hts (metX12_init l κ H.size o li true (by have := hP0.2.2.1.1; omega)) q1066 q1067 q94 q1068 rfl (by decide +kernel) (by omega) (by decide) rfl hP.1 hN hl.1 (Nat.le_of_ble_eq_true rfl) rfl dX5_both_74 ⟨by show cells + 1 + 0 ≤ TT.2.1; omega, by show slots + 4 + 0 ≤ TT.2.2; omega⟩) hP0.2.2.1.1 (fun H2 hN hz2 hq2 => ?_)
        have hP := hP.obj (H1 := H2) (isOb.of hNo (by decide) (by decide)) hP0.2.2.1.1 hz2 hq2 hsb0
        refine W.widen (k := TT.2.1) (n := TT.2.2) (by omega) (by omega) ?_
        refine W.mono (fun _ => MQT.of) ?_
        have hn2 : ¬ n = 1 := fun z => c_50 (by rw [z]; rfl)
        have hll := hLs0.1.lt
        have hwl := hP0.2.1.2.2.2.2
        have hE : ExT κ o (FP s0.heap.size H2.size w1) H2 (tm1 - tm + e0) H.size (joinS true n fs) := by
          obtain ⟨d0, hd0⟩ : ∃ d0, tm1 - tm + e0 = d0 + 1 := ⟨tm1 - tm + e0 - 1, by omega⟩
          rw [hd0]
          refine ⟨⟨hP0.2.2.1.1, by omega, by omega⟩, Or.inr (Or.inr (Or.inr (Or.inr ⟨li, x, c, n, true, es, fs, ⟨hLs.2.2.1, by omega, hLs.2.2.2.2.1⟩, ⟨hLs.2.2.2.1, by omega, hLs.2.2.2.2.2.1⟩, hN, hLs.1.kept (hq2 _ (by omega)) (hq2 _ (by omega)), fun j hj => ?_, rfl⟩)))⟩
          obtain ⟨lo, hi, g1, g2, g3, g4⟩ := hLs0.2.2.2.2.2.2.2 j hj
          have ghi := g1.hi
          exact ((g1.new (H1 := H1) (by omega) ho1).obj (x := H.size) (Or.inr ghi) hz2 hq2).fin g2 (by omega)
        exact W.aret hx hb hr (Or.inl ⟨_, rfl⟩) (Or.inr ⟨_, rfl⟩) (fun t ht hW => by show prQ κ o τ r w al tm e0 TT.1 _ s0 _ t; rw [← hT, if_neg hn2]; exact ⟨_, w1, rfl, by rw [ht]; exact hP.2.1, hP.2.2.2.1, by rw [ht]; exact hE, by rw [ht]; exact hP.2.2.1⟩) hP.2.2.2.2 dX5_both_77 hlk
      · skip
        refine lv_aload_n hx hb dX5_both_53 rfl (lv_at hl 0 rfl) ?_
        refine lv_iconst (v := 0) hx hb dX5_both_54 (by decide) ?_
        have hn1e : n = 1 := (nI_eq (a := n) (b := 1) (by omega) (by decide)).mp c_50
        subst hn1e
        refine ro_call (g_runV (n := 1) (As := [.int (nI 0)]) (rest := []) hx hb hml hown hts (metJ2_get l κ li x c 1 0 es (by decide)) q1051 q1052 q1053 q67 q1054 (by decide +kernel) (by omega) (by decide) rfl hP.1.1.1 hLs.1 (ob_recv hP.1.1.1 rfl hLs.1.1.choose_spec) hl.1 (Nat.le_of_ble_eq_true rfl) rfl dX5_both_55 ⟨by omega, by omega⟩) ?_
        obtain ⟨lo, hi, hTr, hlo, -⟩ := hLs.2.2.2.2.2.2.2 0 (by decide)
        obtain ⟨C, hCn, hCr⟩ := (hTr.fin (lo' := lo) (Nat.le_refl _) (Nat.le_refl _)).cast hP.1.1
        refine va_castY hx hb hown (hts _ q1063) hCn hCr dX5_both_58 ?_
        refine lv_goto (tgt := 77) hx hb dX5_both_61 (by decide) ?_
        refine W.widen (k := TT.2.1) (n := TT.2.2) (by omega) (by omega) ?_
        refine W.mono (fun _ => MQT.of) ?_
        exact W.aret hx hb hr (Or.inl ⟨_, rfl⟩) (Or.inr ⟨_, rfl⟩) (fun t ht hW => by show prQ κ o τ r w al tm e0 TT.1 _ s0 _ t; rw [← hT]; exact ⟨_, w1, rfl, by rw [ht]; exact hP.2.1, hP.2.2.2.1, by rw [ht]; exact hTr.fin hlo (by show tm1 - tm - (1 - 1) + e0 ≤ tm1 - tm + e0; omega), by rw [ht]; exact hP.2.2.1⟩) hP.2.2.2.2 dX5_both_77 hlk
    · skip
      refine lv_aload_n hx hb dX5_both_28 rfl (lv_at hl 1 rfl) ?_
      rw [lstL, if_pos c_25] at hT
      have hge2 : cells + 4 + (el (te τ P) tm1).2.1 ≤ TT.2.1 ∧ slots + 24 + (el (te τ P) tm1).2.2 ≤ TT.2.2 ∧ ∀ q, (el (te τ P) tm1).1 = .ok q → cells + 4 + (el (te τ P) tm1).2.1 + 1 + 1 ≤ TT.2.1 ∧ slots + 24 + (el (te τ P) tm1).2.2 + capG n + 4 ≤ TT.2.2 := by
        cases hpt : (el (te τ P) tm1).1 with
        | error q => rw [hpt] at hT; rw [← hT]; exact ⟨Nat.le_refl _, Nat.le_refl _, fun q h => by cases h⟩
        | ok q =>
          rw [hpt] at hT
          have h := lstL_g (τ := τ) (kw := 13) (al := true) (el := el) k (n + 1) (updS fs n q.1) q.2.1 q.2.2 (cells + 4 + (el (te τ P) tm1).2.1 + 1) (slots + 24 + (el (te τ P) tm1).2.2 + capG n)
          rw [show lstL τ 13 true el k (n + 1) (updS fs n q.1) q.2.1 q.2.2 (cells + 4 + (el (te τ P) tm1).2.1 + 1) (slots + 24 + (el (te τ P) tm1).2.2 + capG n) = TT from hT] at h
          exact ⟨by omega, by omega, fun _ _ => ⟨by omega, by omega⟩⟩
      refine ps_next hx hb hml hown hts hP hro hrB (by omega) hl.1 (Nat.le_of_ble_eq_true rfl) dX5_both_29 ⟨by omega, by omega⟩ (fun H1 locs1 w2 hP hF1 hw2 => ?_)
      have hLs := hLs.step hF1 hw2
      refine lv_aload_n hx hb dX5_both_32 rfl (lv_at hl 0 rfl) ?_
      refine lv_aload_n hx hb dX5_both_33 rfl (lv_at hl 1 rfl) ?_
      refine lv_iload_n hx hb dX5_both_34 rfl (lv_at hl 2 rfl) ?_
      refine ps_call (n := 1) (As := [.int (nI d)]) (rest := [.ref li]) hx hb hml hnh hlk hown hts hP hrB (hEl (te τ P) tm1 w2 h80) q914 q916 qs17 q917 (by decide +kernel) hdE (by decide) rfl hl.1 (Nat.le_of_ble_eq_true rfl) rfl dX5_both_35 ⟨by show cells + 4 + _ ≤ TT.2.1; omega, by show slots + 24 + _ ≤ TT.2.2; omega⟩ ⟨by omega, by omega⟩ (fun q hq oc t her => by show prQ κ o τ r w al tm e0 TT.1 _ s0 oc t; rw [hq] at hT; rw [← hT]; exact her) (fun q hq H3 locs3 b w3 hP hF3 hw3 hEb => ?_)
      rw [hq] at hT
      have hge3 := hge2.2.2 q hq
      obtain ⟨hq1, hq80⟩ := hel _ _ q h80 hq
      have hll := hLs.1.lt
      have hLs := hLs.step hF3 hw3
      have hli := hLs.2.2.1
      have hxi := hLs.2.2.2.1
      have hs1 := hP.2.2.1.1
      have hEb := TR.of hEb (show r < H1.size by omega)
      have hw3l := hP.2.1.2.2.2.2
      have hF31 := hF3.1
      have hc400 : n < 400000 := by omega
      refine x_called (x_runV (n := 1) (As := [.ref b]) (rest := []) hx hb hml hown hts (metJ2_add l κ li x c n H3.size b es hLs.2.1 hc400 (by have := hLs.2.2.1; omega)) q993 q994 q995 q67 q996 (by decide +kernel) (by omega) (by decide) rfl hP.1 ⟨rfl, hLs.1, fun j hj => by obtain ⟨lo, hi, ⟨wx, g1, -⟩, -⟩ := hLs.2.2.2.2.2.2.2 j hj; exact g1.ob, by obtain ⟨wx, g1, -⟩ := hEb; exact g1.ob⟩ (ob_recv hP.1.1.1 rfl hLs.1.1.choose_spec) hl.1 (Nat.le_of_ble_eq_true rfl) rfl dX5_both_38 ⟨by show cells + 4 + _ + 1 ≤ TT.2.1; omega, by show slots + 24 + _ + capG n ≤ TT.2.2; omega⟩) (fun v2 st t L hst hq2 hvm hL => ?_)
      obtain ⟨hv, ⟨x', c', hLA, hx'⟩, hz3, hz4, hq4⟩ := hq2
      cases hv
      rw [hst] at hx' hz3 hz4 hq4
      refine W.eq (g2 := F0 mi 41 ls [.int 1]) rfl ?_
      have hP := hP.lst (H1 := t.heap) (L := L) hLs.1 hLs.2.2.1 hLs.2.2.2.1 hsb0 hz3 hq4 (fun y hy => by rcases hL y hy with z | z | z; (· rw [z]; have := hLs.2.2.1; omega); (· rw [z]; have := hLs.2.2.2.1; omega); (· omega))
      have hLs := hLs.add (dp' := q.2.2 - tm - n + e0) (hEb.deep (by omega)) (by omega) (by omega) (by omega) hw3l (by omega) hLA hx' hz3 hq4 (by omega)
      refine lv_pop hx hb dX5_both_41 rfl ?_
      refine lv_goto (tgt := 19) hx hb dX5_both_42 (by decide) ?_
      exact ih (n + 1) (va_up es n b) (updS fs n q.1) q.2.1 q.2.2 w3 li x' c' t.heap _ ls _ _ (by omega) (by omega) (by omega) (by omega) hT hP hLs (lv_sub hl [0, 1, 2] rfl)

set_option maxHeartbeats 4000000 in
theorem either_loop (l : Launch) (κ : Kg) (o : Nat) (τ : Tp) (r tm w al e0 d dE dM : Nat) (hro : o + 1 < r) (hrB : κ.base ≤ r) (hdE : dE < dM) (hd9 : 8 < dE) (el : Nat → Nat → PO) (hel : ∀ (p tm : Nat) (q : Sm × Nat × Nat), tm ≤ 80 → (el p tm).1 = .ok q → tm < q.2.2 ∧ q.2.2 ≤ 80)
    (hEl : ∀ p tm w, tm ≤ 80 → MetT l yX5_both (ws_ yX5_both cX5_both 3 (some (.object "HomeRoll$Ex"))) (rmC dE (el p tm).2.1 (el p tm).2.2) (xP κ (RT κ o τ r p (nI tm) w al) [.ref r, .int (nI d)]) (prQ κ o τ r w al tm e0 (el p tm).1) (el p tm).2.1 (el p tm).2.2 (fun q => κ.base ≤ q))
    (TT : PO) {pg : Program} {ev : Env} {s0 : State} {mi : MethodId} {bl : List Frame} {me : Method} {co : Code} (hx : pg.tables.exec = Jvm.exec) (hb : co.code = cX5_either) (hml : co.maxLocals = 3) (hnh : ∀ x ∈ co.exceptionTable.toList, False) (hown : s0.vm.findClass RX5 = some mi.cls) (hts : ∀ w ∈ lw_all, w.before #[.ref r, .int (nI d)] s0 = true) (hr : me.sig.returnType = some (.object "HomeRoll$Ex")) (hlk : me.locks = false) (hrs : r < s0.heap.size) (hsb0 : κ.base ≤ s0.heap.size) :
    ∀ (k n : Nat) (es : Nat → Nat) (fs : Nat → Sm) (P tm1 w1 li x c : Nat) (H : Heap) (locs : List Loc) (ls : Array Slot) (cells slots : Nat), 1 ≤ n → n ≤ tm1 - tm → 81 ≤ tm1 + k → tm1 ≤ 80 → lstL τ 14 false el k n fs P tm1 cells slots = TT → PS κ o τ r s0 w al P tm1 w1 H locs → LTs κ o r w1 H li x c n es fs (tm1 - tm - (n - 1) + e0) s0.heap.size → lv_has ls 3 [(2, .ref li), (0, .ref r), (1, .int (nI d))] →
      W pg l ev (rmC dM TT.2.1 TT.2.2) s0 mi #[.ref r, .int (nI d)] bl me co H locs cells slots (MQT bl (prQ κ o τ r w al tm e0 TT.1) #[.ref r, .int (nI d)] s0 TT.2.1 TT.2.2 (fun q => κ.base ≤ q)) (F0 mi 24 ls []) := by
  intro k
  induction k with
  | zero => intro n es fs P tm1 w1 li x c H locs ls cells slots h1 h2 h3 h4; omega
  | succ k ih =>
    intro n es fs P tm1 w1 li x c H locs ls cells slots hn1 hnt hk h80 hT hP hLs hl
    have hgT := lstL_g (τ := τ) (kw := 14) (al := false) (el := el) (k + 1) n fs P tm1 cells slots
    rw [hT] at hgT
    refine lv_aload_n hx hb dX5_either_24 rfl (lv_at hl 1 rfl) ?_
    refine va_ldcS hx hb hown (sR_14 hP.1.1) dX5_either_25 ?_
    refine ps_is hx hb hml hown hts hP 14 (by decide) (by omega) hl.1 (Nat.le_of_ble_eq_true rfl) dX5_either_27 ⟨by omega, by omega⟩ ?_
    refine lv_B_eq (tgt := 50) hx hb dX5_either_30 (by decide) (fun c_30 => ?_) (fun c_30 => ?_)
    · skip
      refine lv_aload_n hx hb dX5_either_50 rfl (lv_at hl 0 rfl) ?_
      rw [lstL, if_neg (by rw [c_30]; decide)] at hT
      have hge : cells + 1 ≤ TT.2.1 ∧ slots + 4 ≤ TT.2.2 := by rw [← hT]; exact ⟨Nat.le_refl _, Nat.le_refl _⟩
      refine ro_call (g_runV (n := 0) (As := []) (rest := []) hx hb hml hown hts (metJ2_size l κ li x c n es) q742 q743 q744 q67 q745 (by decide +kernel) (by omega) (by decide) rfl hP.1.1.1 hLs.1 (ob_recv hP.1.1.1 rfl hLs.1.1.choose_spec) hl.1 (Nat.le_of_ble_eq_true rfl) rfl dX5_either_51 ⟨by omega, by omega⟩) ?_
      refine lv_iconst (v := 1) hx hb dX5_either_54 (by decide) ?_
      refine lv_icmp_ne (tgt := 69) hx hb dX5_either_55 (by decide) (fun c_55 => ?_) (fun c_55 => ?_)
      · skip
        have hP0 := hP
        have hLs0 := hLs
        refine ob_new (C := RX12) (T := TX12) (N := 4) (ci := 10) hx hb hts in_X12 tyX12 tyX12_ok hown q1064 q1065 q94 hP.1.1.1 rfl (by show cells + 1 ≤ TT.2.1; omega) (by show slots + 4 ≤ TT.2.2; omega) dX5_either_69 (fun H1 hN hz1 ho1 => ?_)
        have hP := hP.new (H1 := H1) (by omega) ho1
        have hLs := hLs.new (H1 := H1) (by omega) ho1
        have hNo := hN
        refine lv_dup hx hb dX5_either_72 rfl ?_
        refine lv_aload_n hx hb dX5_either_73 rfl (lv_at hl 1 rfl) ?_
        obtain ⟨nu, hO, hnu⟩ := hP.ob
        refine ob_get (C := RX5) (T := TX5) (N := 8) (ci := 4) (v := .ref o) hx hb hts in_X5 hown hP.1.1.1 hO rfl 7 (by decide) q437 (fun x h => h) rfl dX5_either_74 ?_
        refine lv_aload_n hx hb dX5_either_77 rfl (lv_at hl 0 rfl) ?_
        refine lv_iconst (v := 0) hx hb dX5_either_78 (by decide) ?_
        refine ob_called (x_runI (n := 3) (As := [.ref o, .ref li, .int (b2 false)]) (rest := [.ref H.size]) hx hb hml hown hts (metX12_init l κ H.size o li false (by have := hP0.2.2.1.1; omega)) q1066 q1067 q94 q1068 rfl (by decide +kernel) (by omega) (by decide) rfl hP.1 hN hl.1 (Nat.le_of_ble_eq_true rfl) rfl dX5_either_79 ⟨by show cells + 1 + 0 ≤ TT.2.1; omega, by show slots + 4 + 0 ≤ TT.2.2; omega⟩) hP0.2.2.1.1 (fun H2 hN hz2 hq2 => ?_)
        have hP := hP.obj (H1 := H2) (isOb.of hNo (by decide) (by decide)) hP0.2.2.1.1 hz2 hq2 hsb0
        refine W.widen (k := TT.2.1) (n := TT.2.2) (by omega) (by omega) ?_
        refine W.mono (fun _ => MQT.of) ?_
        have hn2 : ¬ n = 1 := fun z => c_55 (by rw [z]; rfl)
        have hll := hLs0.1.lt
        have hwl := hP0.2.1.2.2.2.2
        have hE : ExT κ o (FP s0.heap.size H2.size w1) H2 (tm1 - tm + e0) H.size (joinS false n fs) := by
          obtain ⟨d0, hd0⟩ : ∃ d0, tm1 - tm + e0 = d0 + 1 := ⟨tm1 - tm + e0 - 1, by omega⟩
          rw [hd0]
          refine ⟨⟨hP0.2.2.1.1, by omega, by omega⟩, Or.inr (Or.inr (Or.inr (Or.inr ⟨li, x, c, n, false, es, fs, ⟨hLs.2.2.1, by omega, hLs.2.2.2.2.1⟩, ⟨hLs.2.2.2.1, by omega, hLs.2.2.2.2.2.1⟩, hN, hLs.1.kept (hq2 _ (by omega)) (hq2 _ (by omega)), fun j hj => ?_, rfl⟩)))⟩
          obtain ⟨lo, hi, g1, g2, g3, g4⟩ := hLs0.2.2.2.2.2.2.2 j hj
          have ghi := g1.hi
          exact ((g1.new (H1 := H1) (by omega) ho1).obj (x := H.size) (Or.inr ghi) hz2 hq2).fin g2 (by omega)
        exact W.aret hx hb hr (Or.inl ⟨_, rfl⟩) (Or.inr ⟨_, rfl⟩) (fun t ht hW => by show prQ κ o τ r w al tm e0 TT.1 _ s0 _ t; rw [← hT, if_neg hn2]; exact ⟨_, w1, rfl, by rw [ht]; exact hP.2.1, hP.2.2.2.1, by rw [ht]; exact hE, by rw [ht]; exact hP.2.2.1⟩) hP.2.2.2.2 dX5_either_82 hlk
      · skip
        refine lv_aload_n hx hb dX5_either_58 rfl (lv_at hl 0 rfl) ?_
        refine lv_iconst (v := 0) hx hb dX5_either_59 (by decide) ?_
        have hn1e : n = 1 := (nI_eq (a := n) (b := 1) (by omega) (by decide)).mp c_55
        subst hn1e
        refine ro_call (g_runV (n := 1) (As := [.int (nI 0)]) (rest := []) hx hb hml hown hts (metJ2_get l κ li x c 1 0 es (by decide)) q1051 q1052 q1053 q67 q1054 (by decide +kernel) (by omega) (by decide) rfl hP.1.1.1 hLs.1 (ob_recv hP.1.1.1 rfl hLs.1.1.choose_spec) hl.1 (Nat.le_of_ble_eq_true rfl) rfl dX5_either_60 ⟨by omega, by omega⟩) ?_
        obtain ⟨lo, hi, hTr, hlo, -⟩ := hLs.2.2.2.2.2.2.2 0 (by decide)
        obtain ⟨C, hCn, hCr⟩ := (hTr.fin (lo' := lo) (Nat.le_refl _) (Nat.le_refl _)).cast hP.1.1
        refine va_castY hx hb hown (hts _ q1063) hCn hCr dX5_either_63 ?_
        refine lv_goto (tgt := 82) hx hb dX5_either_66 (by decide) ?_
        refine W.widen (k := TT.2.1) (n := TT.2.2) (by omega) (by omega) ?_
        refine W.mono (fun _ => MQT.of) ?_
        exact W.aret hx hb hr (Or.inl ⟨_, rfl⟩) (Or.inr ⟨_, rfl⟩) (fun t ht hW => by show prQ κ o τ r w al tm e0 TT.1 _ s0 _ t; rw [← hT]; exact ⟨_, w1, rfl, by rw [ht]; exact hP.2.1, hP.2.2.2.1, by rw [ht]; exact hTr.fin hlo (by show tm1 - tm - (1 - 1) + e0 ≤ tm1 - tm + e0; omega), by rw [ht]; exact hP.2.2.1⟩) hP.2.2.2.2 dX5_either_82 hlk
    · skip
      refine lv_aload_n hx hb dX5_either_33 rfl (lv_at hl 1 rfl) ?_
      rw [lstL, if_pos c_30] at hT
      have hge2 : cells + 4 + (el (te τ P) tm1).2.1 ≤ TT.2.1 ∧ slots + 24 + (el (te τ P) tm1).2.2 ≤ TT.2.2 ∧ ∀ q, (el (te τ P) tm1).1 = .ok q → cells + 4 + (el (te τ P) tm1).2.1 + 1 + 1 ≤ TT.2.1 ∧ slots + 24 + (el (te τ P) tm1).2.2 + capG n + 4 ≤ TT.2.2 := by
        cases hpt : (el (te τ P) tm1).1 with
        | error q => rw [hpt] at hT; rw [← hT]; exact ⟨Nat.le_refl _, Nat.le_refl _, fun q h => by cases h⟩
        | ok q =>
          rw [hpt] at hT
          have h := lstL_g (τ := τ) (kw := 14) (al := false) (el := el) k (n + 1) (updS fs n q.1) q.2.1 q.2.2 (cells + 4 + (el (te τ P) tm1).2.1 + 1) (slots + 24 + (el (te τ P) tm1).2.2 + capG n)
          rw [show lstL τ 14 false el k (n + 1) (updS fs n q.1) q.2.1 q.2.2 (cells + 4 + (el (te τ P) tm1).2.1 + 1) (slots + 24 + (el (te τ P) tm1).2.2 + capG n) = TT from hT] at h
          exact ⟨by omega, by omega, fun _ _ => ⟨by omega, by omega⟩⟩
      refine ps_next hx hb hml hown hts hP hro hrB (by omega) hl.1 (Nat.le_of_ble_eq_true rfl) dX5_either_34 ⟨by omega, by omega⟩ (fun H1 locs1 w2 hP hF1 hw2 => ?_)
      have hLs := hLs.step hF1 hw2
      refine lv_aload_n hx hb dX5_either_37 rfl (lv_at hl 0 rfl) ?_
      refine lv_aload_n hx hb dX5_either_38 rfl (lv_at hl 1 rfl) ?_
      refine lv_iload_n hx hb dX5_either_39 rfl (lv_at hl 2 rfl) ?_
      refine ps_call (n := 1) (As := [.int (nI d)]) (rest := [.ref li]) hx hb hml hnh hlk hown hts hP hrB (hEl (te τ P) tm1 w2 h80) q910 q912 qs16 q913 (by decide +kernel) hdE (by decide) rfl hl.1 (Nat.le_of_ble_eq_true rfl) rfl dX5_either_40 ⟨by show cells + 4 + _ ≤ TT.2.1; omega, by show slots + 24 + _ ≤ TT.2.2; omega⟩ ⟨by omega, by omega⟩ (fun q hq oc t her => by show prQ κ o τ r w al tm e0 TT.1 _ s0 oc t; rw [hq] at hT; rw [← hT]; exact her) (fun q hq H3 locs3 b w3 hP hF3 hw3 hEb => ?_)
      rw [hq] at hT
      have hge3 := hge2.2.2 q hq
      obtain ⟨hq1, hq80⟩ := hel _ _ q h80 hq
      have hll := hLs.1.lt
      have hLs := hLs.step hF3 hw3
      have hli := hLs.2.2.1
      have hxi := hLs.2.2.2.1
      have hs1 := hP.2.2.1.1
      have hEb := TR.of hEb (show r < H1.size by omega)
      have hw3l := hP.2.1.2.2.2.2
      have hF31 := hF3.1
      have hc400 : n < 400000 := by omega
      refine x_called (x_runV (n := 1) (As := [.ref b]) (rest := []) hx hb hml hown hts (metJ2_add l κ li x c n H3.size b es hLs.2.1 hc400 (by have := hLs.2.2.1; omega)) q993 q994 q995 q67 q996 (by decide +kernel) (by omega) (by decide) rfl hP.1 ⟨rfl, hLs.1, fun j hj => by obtain ⟨lo, hi, ⟨wx, g1, -⟩, -⟩ := hLs.2.2.2.2.2.2.2 j hj; exact g1.ob, by obtain ⟨wx, g1, -⟩ := hEb; exact g1.ob⟩ (ob_recv hP.1.1.1 rfl hLs.1.1.choose_spec) hl.1 (Nat.le_of_ble_eq_true rfl) rfl dX5_either_43 ⟨by show cells + 4 + _ + 1 ≤ TT.2.1; omega, by show slots + 24 + _ + capG n ≤ TT.2.2; omega⟩) (fun v2 st t L hst hq2 hvm hL => ?_)
      obtain ⟨hv, ⟨x', c', hLA, hx'⟩, hz3, hz4, hq4⟩ := hq2
      cases hv
      rw [hst] at hx' hz3 hz4 hq4
      refine W.eq (g2 := F0 mi 46 ls [.int 1]) rfl ?_
      have hP := hP.lst (H1 := t.heap) (L := L) hLs.1 hLs.2.2.1 hLs.2.2.2.1 hsb0 hz3 hq4 (fun y hy => by rcases hL y hy with z | z | z; (· rw [z]; have := hLs.2.2.1; omega); (· rw [z]; have := hLs.2.2.2.1; omega); (· omega))
      have hLs := hLs.add (dp' := q.2.2 - tm - n + e0) (hEb.deep (by omega)) (by omega) (by omega) (by omega) hw3l (by omega) hLA hx' hz3 hq4 (by omega)
      refine lv_pop hx hb dX5_either_46 rfl ?_
      refine lv_goto (tgt := 24) hx hb dX5_either_47 (by decide) ?_
      exact ih (n + 1) (va_up es n b) (updS fs n q.1) q.2.1 q.2.2 w3 li x' c' t.heap _ ls _ _ (by omega) (by omega) (by omega) (by omega) hT hP hLs (lv_sub hl [0, 1, 2] rfl)
