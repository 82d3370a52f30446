/-! java.util.ArrayList.add. By tools/gen_j5.py -/
set_option maxRecDepth 100000
theorem dcl_ne {D : va_G} {cA : Nat → ClassId} {s : State} (hK : K0 D cA s) {i j : Nat} {C C' : String} {T T' : u_T} {N N' : Nat} (hi : vwCl[i]? = some (C, T, N)) (hj : vwCl[j]? = some (C', T', N')) (h : C ≠ C') : D.1 i ≠ D.1 j := by
  intro e
  obtain ⟨k, h1, h2⟩ := Vm.findClass_spec (hK.1 i _ hi).2.1
  obtain ⟨k', h3, h4⟩ := Vm.findClass_spec (hK.1 j _ hj).2.1
  have e2 : D.1 j = D.1 i := e.symm
  have h3 : s.vm.classes[D.1 j]? = some k' := h3
  rw [e2] at h3
  have h5 : k = k' := Option.some.inj (h1.symm.trans h3)
  exact h (h2.symm.trans (by rw [h5]; exact h4))
theorem dar_ne {D : va_G} {cA : Nat → ClassId} {s : State} (hK : K0 D cA s) {i : Nat} {r : vw_C} (hi : vwCl[i]? = some r) : D.1 i ≠ cA 4 := by
  intro e
  obtain ⟨-, kC, h1, h2⟩ := (hK.1 i _ hi).2
  obtain ⟨kA, comp, h3, h4, -⟩ := (hK.2 4 _ rfl).2
  have h3 : s.vm.classes[cA 4]? = some kA := h3
  rw [← e] at h3
  have h5 : kC = kA := Option.some.inj (h1.symm.trans h3)
  rw [h5, h4] at h2
  cases h2
theorem LA.ne {κ : Kg} {s : State} {a x c n : Nat} {es : Nat → Nat} {H : Heap} (hK : K0 κ.D κ.cA s) (h : LA κ a x c n es H) : a ≠ x := by
  intro e
  obtain ⟨⟨md, cell, h1, h2, -⟩, h3, -⟩ := h
  rw [← e, h1] at h3
  have h4 : cell = _ := Option.some.inj h3
  rw [h4] at h2
  exact dar_ne hK (i := 12) rfl h2.symm
theorem isOb.ne {κ : Kg} {s : State} {y a i : Nat} {N : Nat} {V : Nat → Value} {H : Heap} {C : String} {T : u_T} (hK : K0 κ.D κ.cA s) (h : isOb κ H y) (hc : vwCl[i]? = some (C, T, N)) (hC : ∀ ci C' T' N', 6 ≤ ci → ci ≤ 11 → vwCl[ci]? = some (C', T', N') → C' ≠ C) (hO : t_OB a (κ.D.1 i) N (κ.D.2 i) H V) : y ≠ a := by
  intro e
  obtain ⟨cell, ci, h1, h2, h3, h4, h5⟩ := h
  obtain ⟨cell2, g1, g2, -⟩ := hO
  rw [e, g1] at h1
  cases h1
  have hne : ∀ (C' : String) (T' : u_T) (N' : Nat), vwCl[ci]? = some (C', T', N') → False := fun C' T' N' hc' => dcl_ne hK hc' hc (hC ci C' T' N' h3 h4 hc') (h5.symm.trans g2)
  rcases (show ci = 6 ∨ ci = 7 ∨ ci = 8 ∨ ci = 9 ∨ ci = 10 ∨ ci = 11 by omega) with rfl | rfl | rfl | rfl | rfl | rfl <;> exact hne _ _ _ rfl
theorem nm_ex (C : String) (h : ([RX8, RX9, RX10, RX11, RX12, RX13] : List String).all (fun x => x ≠ C) = true) : ∀ ci C' (T' : u_T) (N' : Nat), 6 ≤ ci → ci ≤ 11 → vwCl[ci]? = some (C', T', N') → C' ≠ C := by
  intro ci C' T' N' h1 h2 h3
  simp only [List.all_cons, List.all_nil, Bool.and_true, Bool.and_eq_true, decide_eq_true_eq] at h
  rcases (show ci = 6 ∨ ci = 7 ∨ ci = 8 ∨ ci = 9 ∨ ci = 10 ∨ ci = 11 by omega) with rfl | rfl | rfl | rfl | rfl | rfl <;> cases h3
  · exact h.1
  · exact h.2.1
  · exact h.2.2.1
  · exact h.2.2.2.1
  · exact h.2.2.2.2.1
  · exact h.2.2.2.2.2
def adP (κ : Kg) (a x c n sz e : Nat) (es : Nat → Nat) (H : Heap) : Prop := H.size = sz ∧ LA κ a x c n es H ∧ (∀ j, j < n → isOb κ H (es j)) ∧ isOb κ H e

set_option maxHeartbeats 4000000 in
theorem metJ2_add_2 (l : Launch) (κ : Kg) (a x c n sz e : Nat) (es : Nat → Nat) (hc0 : 0 < c) (hn : n < 400000) : Met l yJ2_add_2 (ws_ yJ2_add_2 cJ2_add_2 4 none) (rmC 5 1 (capG n)) (xP κ (adP κ a x c n sz e es) [.ref a, .ref e, .ref x, .int (nI n)]) (adQ κ a x n e es none) 1 (capG n) (fr3 a x sz) := by
  refine xM_start RJ2 (by decide) rfl (Nat.le_of_ble_eq_true rfl) ?_
  intro pg ev s0 mi bl me co hx hb hml hown hts hr hlk hnm hK hM ls hl
  have hl : lv_has ls 4 [(0, .ref a), (1, .ref e), (2, .ref x), (3, .int (nI n))] := hl
  obtain ⟨hsz, hLA, hE, hEe⟩ := hM
  have hne := hLA.ne hK.1.1
  obtain ⟨⟨md, hO⟩, hX, hnc, hcb⟩ := hLA
  subst hsz
  have hea : e ≠ a := hEe.ne hK.1.1 (i := 12) rfl (nm_ex _ (by decide)) hO
  have hal : a < s0.heap.size := by obtain ⟨cell, hc, -⟩ := hO; exact (Array.getElem?_eq_some_iff.mp hc).1
  have hel : e < s0.heap.size := by obtain ⟨cell, ci, hc, -⟩ := hEe; exact (Array.getElem?_eq_some_iff.mp hc).1
  refine lv_iload_n hx hb dJ2_add_2_0 rfl (lv_at hl 3 rfl) ?_
  refine lv_aload_n hx hb dJ2_add_2_1 rfl (lv_at hl 2 rfl) ?_
  refine W.alen (n := nI c) (ty := .object "java/lang/Object") hx hb hX ((hK.1.1.2 4 _ rfl).1 c _) (by rw [arrV_size]; rfl) rfl rfl dJ2_add_2_2 ?_
  refine W.eq (g2 := F0 mi 3 ls [.int (nI c), .int (nI n)]) rfl ?_
  refine lv_icmp_ne (tgt := 11) hx hb dJ2_add_2_3 (by decide) (fun c_3 => ?_) (fun c_3 => ?_)
  · skip
    refine lv_aload_n hx hb dJ2_add_2_11 rfl (lv_at hl 2 rfl) ?_
    refine lv_iload_n hx hb dJ2_add_2_12 rfl (lv_at hl 3 rfl) ?_
    refine lv_aload_n hx hb dJ2_add_2_13 rfl (lv_at hl 1 rfl) ?_
    refine aq_st (n := c) hx hb hK.1.1 hX (hEe.any hK.1) (nI_in (show n < c from Nat.lt_of_le_of_ne hnc (fun z => c_3 (by rw [z]))) (by omega)) dJ2_add_2_14 (fun H1 hX1 hz1 hq1 => ?_)
    have hX1 : H1[x]? = some (arrV (κ.cA 4) c (fun j => va_rf (if j < n + 1 then some (va_up es n e j) else none))) := by rw [hX1, nI_clamp (by omega), ad_row]
    have hO := hO.kept (hq1 a hne)
    have hS : va_S (fr3 a x s0.heap.size) s0.heap H1 [⟨x, (nI n).toNatClampNeg⟩] := ⟨by omega, fun q h1 h2 => hq1 q (fun z => h2 (Or.inr (Or.inl z))), fun q hq => by rw [List.mem_singleton.mp hq]; exact Or.inr (Or.inl rfl)⟩
    refine lv_aload_n hx hb dJ2_add_2_15 rfl (lv_at hl 0 rfl) ?_
    refine lv_iload_n hx hb dJ2_add_2_16 rfl (lv_at hl 3 rfl) ?_
    refine lv_iconst (v := 1) hx hb dJ2_add_2_17 (by decide) ?_
    refine lv_iadd hx hb dJ2_add_2_18 ?_
    refine v_eqi (nI_1 n) ?_
    refine ob_put (C := RJ2) (T := TJ2) (N := 3) (ci := 12) (v := .int (nI (n + 1))) hx hb hts in_J2 tyJ2 tyJ2_ok nmJ2 hown hK.1.1 hO hS (Or.inl rfl) rfl 2 (by decide) q121 (fun x h => h) rfl rfl rfl dJ2_add_2_19 (fun H2 locs2 hO hq4 hz4 hS => ?_)
    refine W.widen (k := 1) (n := capG n) (by omega) (by omega) ?_
    exact W.vret hx hb hr (fun t ht hW => ⟨rfl, ⟨x, c, ⟨⟨md, by rw [ht]; exact hO.to fun k hk => by rcases (show k = 0 ∨ k = 1 ∨ k = 2 by omega) with rfl | rfl | rfl <;> rfl⟩, by rw [ht, hq4 x (Ne.symm hne)]; exact hX1, Nat.lt_of_le_of_ne hnc (fun z => c_3 (by rw [z])), hcb⟩, Or.inl rfl⟩, by rw [ht]; omega, by rw [ht]; omega, fun q h1 h2 h3 => by rw [ht, hq4 q h2]; exact hq1 q h3⟩) hS.2.2 dJ2_add_2_22 hlk
  · skip
    refine lv_aload_n hx hb dJ2_add_2_6 rfl (lv_at hl 0 rfl) ?_
    have hcn : c = n := ((nI_eq (by omega) (by omega)).mp c_3).symm
    subst hcn
    refine x_called (x_runV (n := 0) (As := []) (rest := []) hx hb hml hown hts (metJ2_grow l κ a x c s0.heap.size es hc0 (by omega)) q1001 q1003 qs21 q67 q1004 (by decide +kernel) (by decide) (by decide) rfl hK ⟨rfl, ⟨⟨md, hO⟩, hX, hnc, hcb⟩, hE⟩ (ob_recv hK.1.1 rfl hO) hl.1 (Nat.le_of_ble_eq_true rfl) rfl dJ2_add_2_7 ⟨by show 0 + 1 ≤ 1; omega, by show 0 + capG c ≤ capG c; omega⟩) (fun v st t L hst hq hvm hL => ?_)
    obtain ⟨hv, ⟨⟨md2, hO⟩, hX, hnc2, hcb2⟩, hq2, hq3⟩ := hq
    cases hv
    rw [hst] at hO hX hq2 hq3
    refine W.eq (g2 := F0 mi 10 ls [.ref s0.heap.size]) (by rw [hst]; rfl) ?_
    refine lv_astore_n (lv' := [(2, .ref s0.heap.size), (0, .ref a), (1, .ref e), (3, .int (nI c))]) hx hb dJ2_add_2_10 rfl hl (by decide) rfl (fun ls hl => ?_)
    refine lv_aload_n hx hb dJ2_add_2_11 rfl (lv_at hl 0 rfl) ?_
    refine lv_iload_n hx hb dJ2_add_2_12 rfl (lv_at hl 3 rfl) ?_
    refine lv_aload_n hx hb dJ2_add_2_13 rfl (lv_at hl 2 rfl) ?_
    refine aq_st (n := capG c) hx hb hK.1.1 hX ((hEe.kept (hq3 e hel hea)).any hK.1) (nI_in (show c < capG c from (capG_le).2) (by have := @capG_le c; omega)) dJ2_add_2_14 (fun H1 hX1 hz1 hq1 => ?_)
    have hX1 : H1[s0.heap.size]? = some (arrV (κ.cA 4) (capG c) (fun j => va_rf (if j < c + 1 then some (va_up es c e j) else none))) := by rw [hX1, nI_clamp (by omega), ad_row]
    have hO := hO.kept (hq1 a (by omega))
    have hS : va_S (fr3 a x s0.heap.size) s0.heap H1 (([] ++ L) ++ [⟨s0.heap.size, (nI c).toNatClampNeg⟩]) := ⟨by omega, fun q h1 h2 => by rw [hq1 q (by omega)]; exact hq3 q h1 (fun z => h2 (Or.inl z)), fun q hq => by rcases List.mem_append.mp hq with z | z; (· exact hL q (by simpa using z)); (· rw [List.mem_singleton.mp z]; exact Or.inr (Or.inr (Nat.le_refl _)))⟩
    refine lv_aload_n hx hb dJ2_add_2_15 rfl (lv_at hl 1 rfl) ?_
    refine lv_iload_n hx hb dJ2_add_2_16 rfl (lv_at hl 3 rfl) ?_
    refine lv_iconst (v := 1) hx hb dJ2_add_2_17 (by decide) ?_
    refine lv_iadd hx hb dJ2_add_2_18 ?_
    refine v_eqi (nI_1 c) ?_
    refine ob_put (C := RJ2) (T := TJ2) (N := 3) (ci := 12) (v := .int (nI (c + 1))) hx hb hts in_J2 tyJ2 tyJ2_ok nmJ2 hown hK.1.1 hO hS (Or.inl rfl) rfl 2 (by decide) q121 (fun x h => h) rfl rfl rfl dJ2_add_2_19 (fun H2 locs2 hO hq4 hz4 hS => ?_)
    refine W.widen (k := 1) (n := capG c) (by omega) (by omega) ?_
    exact W.vret hx hb hr (fun t2 ht hW => ⟨rfl, ⟨s0.heap.size, capG c, ⟨⟨md2, by rw [ht]; exact hO.to fun k hk => by rcases (show k = 0 ∨ k = 1 ∨ k = 2 by omega) with rfl | rfl | rfl <;> rfl⟩, by rw [ht, hq4 _ (by omega)]; exact hX1, (capG_le).2, hcb2⟩, Or.inr (Nat.le_refl _)⟩, by rw [ht]; omega, by rw [ht]; omega, fun q h1 h2 h3 => by rw [ht, hq4 q h2, hq1 q (by omega)]; exact hq3 q h1 h2⟩) hS.2.2 dJ2_add_2_22 hlk

set_option maxHeartbeats 4000000 in
theorem metJ2_add (l : Launch) (κ : Kg) (a x c n sz e : Nat) (es : Nat → Nat) (hc0 : 0 < c) (hn : n < 400000) (hba : κ.base ≤ a) : Met l yJ2_add (ws_ yJ2_add cJ2_add 2 (some .boolean)) (rmC 6 1 (capG n)) (xP κ (adP κ a x c n sz e es) [.ref a, .ref e]) (adQ κ a x n e es (some (.int 1))) 1 (capG n) (fr3 a x sz) := by
  refine xM_start RJ2 (by decide) rfl (Nat.le_of_ble_eq_true rfl) ?_
  intro pg ev s0 mi bl me co hx hb hml hown hts hr hlk hnm hK hM ls hl
  have hl : lv_has ls 2 [(0, .ref a), (1, .ref e)] := hl
  obtain ⟨hsz, hLA, hE, hEe⟩ := hM
  have hne := hLA.ne hK.1.1
  obtain ⟨⟨md, hO⟩, hX, hnc, hcb⟩ := hLA
  have hO0 := hO
  subst hsz
  have hea : e ≠ a := hEe.ne hK.1.1 (i := 12) rfl (nm_ex _ (by decide)) hO
  have hab : κ.base ≤ a := hba
  have hS : va_S (fr3 a x s0.heap.size) s0.heap s0.heap [] := va_S.rf
  refine lv_aload_n hx hb dJ2_add_0 rfl (lv_at hl 0 rfl) ?_
  refine lv_dup hx hb dJ2_add_1 rfl ?_
  refine ob_get (C := RJ2) (T := TJ2) (N := 3) (ci := 12) (v := .int md) hx hb hts in_J2 hown hK.1.1 hO rfl 0 (by decide) q123 (u_same (hts _ q124)) rfl dJ2_add_2 ?_
  refine lv_iconst (v := 1) hx hb dJ2_add_5 (by decide) ?_
  refine lv_iadd hx hb dJ2_add_6 ?_
  refine ob_put (C := RJ2) (T := TJ2) (N := 3) (ci := 12) (v := .int (md + 1)) hx hb hts in_J2 tyJ2 tyJ2_ok nmJ2 hown hK.1.1 hO hS (Or.inl rfl) rfl 0 (by decide) q123 (u_same (hts _ q124)) rfl rfl rfl dJ2_add_7 (fun H1 locs1 hO hq1 hz1 hS => ?_)
  have hK1 : KZ κ s0 H1 := hK.to (fun q hq => hq1 q (by omega)) (by have := hK.2.2; omega)
  have hX1 : H1[x]? = some (arrV (κ.cA 4) c (fun j => va_rf (if j < n then some (es j) else none))) := by rw [hq1 x (Ne.symm hne)]; exact hX
  have hO : t_OB a (κ.D.1 12) 3 (κ.D.2 12) H1 (vp_V [.int (md + 1), .ref x, .int (nI n)]) := hO.to fun k hk => by rcases (show k = 0 ∨ k = 1 ∨ k = 2 by omega) with rfl | rfl | rfl <;> rfl
  refine lv_aload_n hx hb dJ2_add_10 rfl (lv_at hl 0 rfl) ?_
  refine lv_aload_n hx hb dJ2_add_11 rfl (lv_at hl 1 rfl) ?_
  refine lv_aload_n hx hb dJ2_add_12 rfl (lv_at hl 0 rfl) ?_
  refine ob_get (C := RJ2) (T := TJ2) (N := 3) (ci := 12) (v := .ref x) hx hb hts in_J2 hown hK.1.1 hO rfl 1 (by decide) q120 (fun x h => h) rfl dJ2_add_13 ?_
  refine lv_aload_n hx hb dJ2_add_16 rfl (lv_at hl 0 rfl) ?_
  refine ob_get (C := RJ2) (T := TJ2) (N := 3) (ci := 12) (v := .int (nI n)) hx hb hts in_J2 hown hK.1.1 hO rfl 2 (by decide) q121 (fun x h => h) rfl dJ2_add_17 ?_
  refine x_called (x_runV (n := 3) (As := [.ref e, .ref x, .int (nI n)]) (rest := []) hx hb hml hown hts (metJ2_add_2 l κ a x c n s0.heap.size e es hc0 hn) q997 q999 qs20 q67 q1000 (by decide +kernel) (by decide) (by decide) rfl hK1 ⟨hz1, ⟨⟨md + 1, hO⟩, hX1, hnc, hcb⟩, fun j hj => (hE j hj).kept (hq1 _ ((hE j hj).ne hK.1.1 (i := 12) rfl (nm_ex _ (by decide)) hO0)), hEe.kept (hq1 e hea)⟩ (ob_recv hK.1.1 rfl hO) hl.1 (Nat.le_of_ble_eq_true rfl) rfl dJ2_add_20 ⟨by show 0 + 1 ≤ 1; omega, by show 0 + capG n ≤ capG n; omega⟩) (fun v st t L hst hq hvm hL => ?_)
  obtain ⟨hv, hq2, hq3, hq5, hq4⟩ := hq
  cases hv
  rw [hst] at hq2 hq3 hq4 hq5
  refine W.eq (g2 := F0 mi 23 ls []) rfl ?_
  refine lv_iconst (v := 1) hx hb dJ2_add_23 (by decide) ?_
  refine W.widen (k := 1) (n := capG n) (by omega) (by omega) ?_
  exact W.zret hx hb hr rfl (fun t2 ht hW => ⟨rfl, by rw [ht]; obtain ⟨x2, c2, h1, h2⟩ := hq2; exact ⟨x2, c2, h1, h2.imp id (fun z => by omega)⟩, by rw [ht]; omega, by rw [ht]; omega, fun q h1 h2 h3 => by rw [ht, hq4 q (by omega) h2 h3]; exact hq1 q h2⟩) (fun q hq => by rcases List.mem_append.mp hq with z | z; (· exact hS.2.2 q z); (· exact hL q z)) dJ2_add_24 hlk
