/-! Reader.deep; the tests as trees; the reader's grammar over positions. By tools/gen_r4.py -/
set_option maxRecDepth 100000
def dpOk (τ : Tp) (p d : Nat) : Bool := (isTm τ p || decide (ts τ p = 40) || isW τ p 12) && decide (d < 6)
/-- an end by an exception -/
def erQ (κ : Kg) (r w : Nat) (kd : Int32) (pl : Nat) (st : State) (oc : Outcome) (t : State) : Prop := ∃ x, oc = .threw x ∧ WO κ x kd pl t.heap ∧ st.heap.size ≤ x ∧ FrR κ r w st.heap t.heap
def dpQ (κ : Kg) (o : Nat) (τ : Tp) (r p : Nat) (tm : Int32) (w al d : Nat) : Array Value → State → Outcome → State → Prop := fun ar st oc t => (dpOk τ p d = true ∧ isQ κ o τ r p tm w al none ar st oc t) ∨ (dpOk τ p d = false ∧ erQ κ r w (eKd τ p) (ws τ p) st oc t)
theorem FrR.rf {κ : Kg} {r w : Nat} {H : Heap} : FrR κ r w H H := ⟨Nat.le_refl _, fun _ _ _ _ => rfl⟩
/-- behind a method that only reads -/
theorem FrR.is {κ : Kg} {r w : Nat} {H H1 H2 : Heap} (h : FrR κ r w H H1) (hz : H2.size = H1.size) (hq : ∀ q : Nat, ¬ (q = w ∧ κ.base ≤ q) → H2[q]? = H1[q]?) : FrR κ r w H H2 := ⟨by rw [hz]; exact h.1, fun q h1 h2 h3 => by rw [hq q h3]; exact h.2 q h1 h2 h3⟩
theorem FrR.new {κ : Kg} {r w : Nat} {H H1 H2 : Heap} (h : FrR κ r w H H1) (hz : H1.size ≤ H2.size) (hq : ∀ q : Nat, q < H1.size → H2[q]? = H1[q]?) : FrR κ r w H H2 := ⟨Nat.le_trans h.1 hz, fun q h1 h2 h3 => by rw [hq q (Nat.lt_of_lt_of_le h1 h.1)]; exact h.2 q h1 h2 h3⟩
/-- two steps; the word may be a new one in between -/
theorem FrR.trans {κ : Kg} {r w w' : Nat} {H H1 H2 : Heap} (h : FrR κ r w H H1) (hw : w' = w ∨ H.size ≤ w') (h2 : FrR κ r w' H1 H2) : FrR κ r w H H2 := ⟨Nat.le_trans h.1 h2.1, fun q g1 g2 g3 => by
  rw [h2.2 q (Nat.lt_of_lt_of_le g1 h.1) g2 (fun z => by rcases hw with e | e; (· exact g3 ⟨by rw [z.1, e], z.2⟩); (· omega))]
  exact h.2 q g1 g2 g3⟩
theorem KZ.fr {κ : Kg} {s : State} {r w : Nat} {H H1 : Heap} (hK : KZ κ s H) (hrB : κ.base ≤ r) (h : FrR κ r w H H1) : KZ κ s H1 := hK.to (fun q hq => h.2 q (by have := hK.2.2; omega) (by omega) (by omega)) (by have := hK.2.2; have := h.1; omega)

theorem lc_app {B : Nat} {locs L : List Loc} (h1 : ∀ x ∈ locs, B ≤ x.base) (h2 : ∀ x ∈ L, B ≤ x.base) : ∀ x ∈ locs ++ L, B ≤ x.base := fun x hx => by
  rcases List.mem_append.mp hx with h | h
  · exact h1 x h
  · exact h2 x h
theorem lc_no {B : Nat} {locs L : List Loc} (h1 : ∀ x ∈ locs, B ≤ x.base) (h2 : ∀ x ∈ L, noA x.base) : ∀ x ∈ locs ++ L, B ≤ x.base := fun x hx => by
  rcases List.mem_append.mp hx with h | h
  · exact h1 x h
  · exact absurd (h2 x h) id

set_option maxHeartbeats 4000000 in
theorem metX5_deep (l : Launch) (κ : Kg) (o : Nat) (τ : Tp) (r p : Nat) (tm : Int32) (w al : Nat) (d : Nat) (hd : d ≤ 6) : MetT l yX5_deep (ws_ yX5_deep cX5_deep 2 none) (rmC 6 1 8) (xP κ (RT κ o τ r p tm w al) [.ref r, .int (nI d)]) (dpQ κ o τ r p tm w al d) 1 8 (fun q => κ.base ≤ q) := by
  refine xT_start RX5 (by decide) rfl (Nat.le_of_ble_eq_true rfl) ?_
  intro pg ev s0 mi bl me co hx hb hml hnh hown hts hr hlk hK hM ls hl
  have hl : lv_has ls 2 [(0, .ref r), (1, .int (nI d))] := hl
  have hF : FrR κ r w s0.heap s0.heap := FrR.rf
  have hLc : ∀ x ∈ ([] : List Loc), κ.base ≤ x.base := fun x h => by cases h
  refine lv_aload_n hx hb dX5_deep_0 rfl (lv_at hl 0 rfl) ?_
  refine x_called (x_runV (n := 0) (As := []) (rest := []) hx hb hml hown hts (metX5_isTerm l κ o τ r p tm w al) q825 q827 qs15 q73 q828 (by decide +kernel) (by decide) (by decide) rfl hK hM (ob_recv hK.1.1 rfl hM.2.1.choose_spec.1) hl.1 (Nat.le_of_ble_eq_true rfl) rfl dX5_deep_1 ⟨Nat.zero_le _, Nat.zero_le _⟩) (fun v2 st t L hst hq hvm hL => ?_)
  obtain ⟨hv, hM, hq3, hq4⟩ := hq
  cases hv
  rw [hst] at hq3 hq4
  refine W.eq (g2 := F0 mi 4 ls (.int (b2 (isTm τ p)) :: [])) rfl ?_
  have hF := hF.is hq3 hq4
  have hK : KZ κ s0 t.heap := hK.to (fun q hq => hq4 q (by omega)) (by have := hK.2.2; omega)
  have hLc := lc_app hLc hL
  refine lv_B_ne (tgt := 25) hx hb dX5_deep_4 (by decide) (fun c_4 => ?_) (fun c_4 => ?_)
  · skip
    refine lv_iload_n hx hb dX5_deep_25 rfl (lv_at hl 1 rfl) ?_
    refine lv_bipush (v := 6) hx hb dX5_deep_26 (by decide) ?_
    refine lv_icmp_lt (tgt := 36) hx hb dX5_deep_28 (by decide) (fun c_28 => ?_) (fun c_28 => ?_)
    · skip
      refine W.widen (k := 1) (n := 8) (by omega) (by omega) ?_
      refine W.mono (fun _ => MQT.of) ?_
      have hd6 : d < 6 := (nI_ltI (a := d) (b := 6) (by omega) (by decide)).mp c_28
      exact W.vret hx hb hr (fun t2 ht hW => Or.inl ⟨by first | (simp [dpOk, c_4, hd6]; done) | (simp [dpOk, c_13, hd6]; done) | (simp [dpOk, c_22, hd6]; done), rfl, by rw [ht]; exact hM, by rw [ht]; exact hq3, fun q hq => by rw [ht]; exact hq4 q hq⟩) hLc dX5_deep_36 hlk
    · skip
      refine lv_aload_n hx hb dX5_deep_31 rfl (lv_at hl 0 rfl) ?_
      refine x_called (x_runV (n := 0) (As := []) (rest := []) hx hb hml hown hts (metX5_wrong l κ o τ r p tm w al) q746 q748 qs11 q73 q749 (by decide +kernel) (by decide) (by decide) rfl hK hM (ob_recv hK.1.1 rfl hM.2.1.choose_spec.1) hl.1 (Nat.le_of_ble_eq_true rfl) rfl dX5_deep_32 ⟨by show 0 + 0 + 1 ≤ 1; omega, by show 0 + 0 + 8 ≤ 8; omega⟩) (fun v2 st tw L hst hq hvm hL => ?_)
      obtain ⟨hv, hWO, hq3, hq4⟩ := hq
      cases hv
      rw [hst] at hWO hq3 hq4
      refine W.eq (g2 := F0 mi 35 ls [.ref t.heap.size]) (by rw [hst]; rfl) ?_
      have hFo := hF
      have hF := hF.new (by omega) hq4
      have hLc := lc_no hLc hL
      refine W.widen (k := 1) (n := 8) (by omega) (by omega) ?_
      exact W.throw hx hb hnh (fun t2 ht hW => Or.inr ⟨by first | (simp [dpOk, c_4, c_13, c_22]; done) | (simp [dpOk, show ¬ d < 6 from fun z => c_28 (nI_lt (a := d) (b := 6) z (by decide))]; done), _, rfl, by rw [ht]; exact hWO, by have := hFo.1; omega, by rw [ht]; exact hF⟩) hLc dX5_deep_35 hlk
  · skip
    refine lv_aload_n hx hb dX5_deep_7 rfl (lv_at hl 0 rfl) ?_
    refine ob_get (C := RX5) (T := TX5) (N := 8) (ci := 4) (v := .int (ts τ p)) hx hb hts in_X5 hown hK.1.1 hM.2.1.choose_spec.1 rfl 1 (by decide) q431 (fun x h => h) rfl dX5_deep_8 ?_
    refine lv_bipush (v := 40) hx hb dX5_deep_11 (by decide) ?_
    refine lv_icmp_eq (tgt := 25) hx hb dX5_deep_13 (by decide) (fun c_13 => ?_) (fun c_13 => ?_)
    · skip
      refine lv_iload_n hx hb dX5_deep_25 rfl (lv_at hl 1 rfl) ?_
      refine lv_bipush (v := 6) hx hb dX5_deep_26 (by decide) ?_
      refine lv_icmp_lt (tgt := 36) hx hb dX5_deep_28 (by decide) (fun c_28 => ?_) (fun c_28 => ?_)
      · skip
        refine W.widen (k := 1) (n := 8) (by omega) (by omega) ?_
        refine W.mono (fun _ => MQT.of) ?_
        have hd6 : d < 6 := (nI_ltI (a := d) (b := 6) (by omega) (by decide)).mp c_28
        exact W.vret hx hb hr (fun t2 ht hW => Or.inl ⟨by first | (simp [dpOk, c_4, hd6]; done) | (simp [dpOk, c_13, hd6]; done) | (simp [dpOk, c_22, hd6]; done), rfl, by rw [ht]; exact hM, by rw [ht]; exact hq3, fun q hq => by rw [ht]; exact hq4 q hq⟩) hLc dX5_deep_36 hlk
      · skip
        refine lv_aload_n hx hb dX5_deep_31 rfl (lv_at hl 0 rfl) ?_
        refine x_called (x_runV (n := 0) (As := []) (rest := []) hx hb hml hown hts (metX5_wrong l κ o τ r p tm w al) q746 q748 qs11 q73 q749 (by decide +kernel) (by decide) (by decide) rfl hK hM (ob_recv hK.1.1 rfl hM.2.1.choose_spec.1) hl.1 (Nat.le_of_ble_eq_true rfl) rfl dX5_deep_32 ⟨by show 0 + 0 + 1 ≤ 1; omega, by show 0 + 0 + 8 ≤ 8; omega⟩) (fun v2 st tw L hst hq hvm hL => ?_)
        obtain ⟨hv, hWO, hq3, hq4⟩ := hq
        cases hv
        rw [hst] at hWO hq3 hq4
        refine W.eq (g2 := F0 mi 35 ls [.ref t.heap.size]) (by rw [hst]; rfl) ?_
        have hFo := hF
        have hF := hF.new (by omega) hq4
        have hLc := lc_no hLc hL
        refine W.widen (k := 1) (n := 8) (by omega) (by omega) ?_
        exact W.throw hx hb hnh (fun t2 ht hW => Or.inr ⟨by first | (simp [dpOk, c_4, c_13, c_22]; done) | (simp [dpOk, show ¬ d < 6 from fun z => c_28 (nI_lt (a := d) (b := 6) z (by decide))]; done), _, rfl, by rw [ht]; exact hWO, by have := hFo.1; omega, by rw [ht]; exact hF⟩) hLc dX5_deep_35 hlk
    · skip
      refine lv_aload_n hx hb dX5_deep_16 rfl (lv_at hl 0 rfl) ?_
      refine va_ldcS hx hb hown (sR_12 hK.1) dX5_deep_17 ?_
      refine ro_call (x_runV (n := 1) (As := [.ref (κ.sK 12)]) (rest := []) hx hb hml hown hts (metX5_is l κ o τ r p tm w al 12 (by decide)) q730 q732 qs10 q73 q733 (by decide +kernel) (by decide) (by decide) rfl hK hM (ob_recv hK.1.1 rfl hM.2.1.choose_spec.1) hl.1 (Nat.le_of_ble_eq_true rfl) rfl dX5_deep_19 ⟨Nat.zero_le _, Nat.zero_le _⟩) ?_
      refine lv_B_eq (tgt := 31) hx hb dX5_deep_22 (by decide) (fun c_22 => ?_) (fun c_22 => ?_)
      · skip
        refine lv_aload_n hx hb dX5_deep_31 rfl (lv_at hl 0 rfl) ?_
        refine x_called (x_runV (n := 0) (As := []) (rest := []) hx hb hml hown hts (metX5_wrong l κ o τ r p tm w al) q746 q748 qs11 q73 q749 (by decide +kernel) (by decide) (by decide) rfl hK hM (ob_recv hK.1.1 rfl hM.2.1.choose_spec.1) hl.1 (Nat.le_of_ble_eq_true rfl) rfl dX5_deep_32 ⟨by show 0 + 0 + 1 ≤ 1; omega, by show 0 + 0 + 8 ≤ 8; omega⟩) (fun v2 st tw L hst hq hvm hL => ?_)
        obtain ⟨hv, hWO, hq3, hq4⟩ := hq
        cases hv
        rw [hst] at hWO hq3 hq4
        refine W.eq (g2 := F0 mi 35 ls [.ref t.heap.size]) (by rw [hst]; rfl) ?_
        have hFo := hF
        have hF := hF.new (by omega) hq4
        have hLc := lc_no hLc hL
        refine W.widen (k := 1) (n := 8) (by omega) (by omega) ?_
        exact W.throw hx hb hnh (fun t2 ht hW => Or.inr ⟨by first | (simp [dpOk, c_4, c_13, c_22]; done) | (simp [dpOk, show ¬ d < 6 from fun z => c_28 (nI_lt (a := d) (b := 6) z (by decide))]; done), _, rfl, by rw [ht]; exact hWO, by have := hFo.1; omega, by rw [ht]; exact hF⟩) hLc dX5_deep_35 hlk
      · skip
        refine lv_iload_n hx hb dX5_deep_25 rfl (lv_at hl 1 rfl) ?_
        refine lv_bipush (v := 6) hx hb dX5_deep_26 (by decide) ?_
        refine lv_icmp_lt (tgt := 36) hx hb dX5_deep_28 (by decide) (fun c_28 => ?_) (fun c_28 => ?_)
        · skip
          refine W.widen (k := 1) (n := 8) (by omega) (by omega) ?_
          refine W.mono (fun _ => MQT.of) ?_
          have hd6 : d < 6 := (nI_ltI (a := d) (b := 6) (by omega) (by decide)).mp c_28
          exact W.vret hx hb hr (fun t2 ht hW => Or.inl ⟨by first | (simp [dpOk, c_4, hd6]; done) | (simp [dpOk, c_13, hd6]; done) | (simp [dpOk, c_22, hd6]; done), rfl, by rw [ht]; exact hM, by rw [ht]; exact hq3, fun q hq => by rw [ht]; exact hq4 q hq⟩) hLc dX5_deep_36 hlk
        · skip
          refine lv_aload_n hx hb dX5_deep_31 rfl (lv_at hl 0 rfl) ?_
          refine x_called (x_runV (n := 0) (As := []) (rest := []) hx hb hml hown hts (metX5_wrong l κ o τ r p tm w al) q746 q748 qs11 q73 q749 (by decide +kernel) (by decide) (by decide) rfl hK hM (ob_recv hK.1.1 rfl hM.2.1.choose_spec.1) hl.1 (Nat.le_of_ble_eq_true rfl) rfl dX5_deep_32 ⟨by show 0 + 0 + 1 ≤ 1; omega, by show 0 + 0 + 8 ≤ 8; omega⟩) (fun v2 st tw L hst hq hvm hL => ?_)
          obtain ⟨hv, hWO, hq3, hq4⟩ := hq
          cases hv
          rw [hst] at hWO hq3 hq4
          refine W.eq (g2 := F0 mi 35 ls [.ref t.heap.size]) (by rw [hst]; rfl) ?_
          have hFo := hF
          have hF := hF.new (by omega) hq4
          have hLc := lc_no hLc hL
          refine W.widen (k := 1) (n := 8) (by omega) (by omega) ?_
          exact W.throw hx hb hnh (fun t2 ht hW => Or.inr ⟨by first | (simp [dpOk, c_4, c_13, c_22]; done) | (simp [dpOk, show ¬ d < 6 from fun z => c_28 (nI_lt (a := d) (b := 6) z (by decide))]; done), _, rfl, by rw [ht]; exact hWO, by have := hFo.1; omega, by rw [ht]; exact hF⟩) hLc dX5_deep_35 hlk
