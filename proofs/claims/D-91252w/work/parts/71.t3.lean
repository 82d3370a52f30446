/-! Reader's constructor; HomeRoll.law. By tools/gen_f1.py -/
set_option maxRecDepth 100000
/-- a reader made -/
def rdQ (κ : Kg) (r o : Nat) : Array Value → State → Outcome → State → Prop := fun _ st oc t => oc = .returned none ∧ t_OB r (κ.D.1 4) 8 (κ.D.2 4) t.heap (rV 0 0 0 0 0 (κ.sK 0) st.heap.size o) ∧ (∀ es, LA κ st.heap.size (st.heap.size + 1) 2 0 es t.heap) ∧ t.heap.size = st.heap.size + 2 ∧ ∀ q : Nat, q < st.heap.size → q ≠ r → t.heap[q]? = st.heap[q]?
theorem LZ.fresh {κ : Kg} {o : Nat} {g : Gh} {u : St} {s : State} {H H1 : Heap} {locs locs1 : List Loc} (h : LZ κ o g u s H locs) (hz : H.size ≤ H1.size) (hq : ∀ q : Nat, q < H.size → H1[q]? = H[q]?) (hL : ∀ x ∈ locs1, κ.base ≤ x.base) : LZ κ o g u s H1 locs1 := by
  have h1 := h.new (L := []) hz hq (fun x h => by cases h)
  exact ⟨h1.1, h1.2.1, h1.2.2.1, hL⟩
theorem tab_3 {t : List ExceptionTableEntry} {a b c d : Nat} {r : List (Nat × Nat × Nat × Nat)} (h : t.map (fun h => (h.startPc, h.endPc, h.handlerPc, h.catchType)) = (a, b, c, d) :: r) : ∃ x xs, t = x :: xs ∧ x.startPc = a ∧ x.endPc = b ∧ x.handlerPc = c ∧ x.catchType = d := by
  cases t with
  | nil => cases h
  | cons x xs =>
    rw [List.map_cons] at h
    have h1 := (List.cons.inj h).1
    injection h1 with h2 h3
    injection h3 with h4 h5
    injection h5 with h6 h7
    exact ⟨x, xs, rfl, h2, h4, h6, h7⟩
def lwO (u : St) : St := si (si (si u 2 0) 3 (-1)) 1 0
def lwE (u : St) (kd pl : Int32) : St := si (si (si (si (si u 2 0) 3 (-1)) 2 kd) 3 pl) 1 0
/-- an end of law -/
def lwQ (κ : Kg) (o : Nat) (g : Gh) (u : St) (res : Except (Int32 × Nat) (Nat × (Nat → Ln))) : Array Value → State → Outcome → State → Prop := fun _ st oc t => match res with
  | .error q => oc = .returned (some (.int (-1))) ∧ CW κ.D κ.cA o g (lwE u q.1 (nI q.2)) t.heap ∧ va_F (cF o g) st t
  | .ok q => oc = .returned (some (.int (nI q.1))) ∧ ∃ al, CW κ.D κ.cA o (glw g al) (lwO u) t.heap ∧ LW κ o (fun q => st.heap.size < q ∧ q < t.heap.size) t.heap al q.1 q.2 ∧ va_F (cF o g) st t

set_option maxHeartbeats 4000000 in
theorem metX5_init (l : Launch) (κ : Kg) (r o : Nat) (hrB : κ.base ≤ r) : Met l yX5_init (ws_ yX5_init cX5_init 2 none) (rmC 4 2 5) (xP κ (fun H => t_OB r (κ.D.1 4) 8 (κ.D.2 4) H (fun k => defaultValue (tyX5 k))) [.ref r, .ref o]) (rdQ κ r o) 2 5 (fun q => κ.base ≤ q) := by
  refine xM_start RX5 (by decide) rfl (Nat.le_of_ble_eq_true rfl) ?_
  intro pg ev s0 mi bl me co hx hb hml hown hts hr hlk hnm hK hM ls hl
  have hl : lv_has ls 2 [(0, .ref r), (1, .ref o)] := hl
  have hO := hM
  have hrl := hM.lt
  have hsb := hK.2.2
  have hS : va_S (fun q => κ.base ≤ q) s0.heap s0.heap [] := va_S.rf
  refine lv_aload_n hx hb dX5_init_0 rfl (lv_at hl 0 rfl) ?_
  refine lv_aload_n hx hb dX5_init_1 rfl (lv_at hl 1 rfl) ?_
  refine ob_putF (C := RX5) (T := TX5) (N := 8) (ci := 4) (v := .ref o) hx hb hts in_X5 tyX5 tyX5_ok nmX5 hown hK.1.1 hO hS hrB rfl 7 (by decide) q437 (fun x h => h) rfl hnm rfl rfl rfl dX5_init_2 (fun H1 locsH1 hO hqH1 hzH1 hS => ?_)
  refine lv_aload_n hx hb dX5_init_5 rfl (lv_at hl 0 rfl) ?_
  refine W.objInit hx hb hown (hts _ q426) (hts _ q102) (hts _ q103) rfl (by rw [hml]; exact hl.1) rfl dX5_init_6 (Nat.le_of_ble_eq_true rfl) (Nat.le_of_ble_eq_true rfl) ?_
  refine W.eq (g2 := F0 mi 9 ls []) rfl ?_
  refine lv_aload_n hx hb dX5_init_9 rfl (lv_at hl 0 rfl) ?_
  refine va_ldcS hx hb hown (sR_0 hK.1) dX5_init_10 ?_
  refine ob_put (C := RX5) (T := TX5) (N := 8) (ci := 4) (v := .ref (κ.sK 0)) hx hb hts in_X5 tyX5 tyX5_ok nmX5 hown hK.1.1 hO hS hrB rfl 5 (by decide) q435 (fun x h => h) rfl rfl rfl dX5_init_12 (fun H2 locsH2 hO hqH2 hzH2 hS => ?_)
  refine lv_aload_n hx hb dX5_init_15 rfl (lv_at hl 0 rfl) ?_
  refine ob_new (C := RJ2) (T := TJ2) (N := 3) (ci := 12) hx hb hts in_J2 tyJ2 tyJ2_ok hown q428 q105 q67 hK.1.1 rfl (by show 0 + 1 ≤ 2; omega) (by show 0 + 3 ≤ 5; omega) dX5_init_16 (fun H3 hN hz3 ho3 => ?_)
  have hO := hO.kept (ho3 r (by omega))
  have hK3 : KZ κ s0 H3 := hK.to (fun q hq => by rw [ho3 q (by omega), hqH2 q (by omega), hqH1 q (by omega)]) (by omega)
  refine lv_dup hx hb dX5_init_19 rfl ?_
  refine lv_iconst (v := 2) hx hb dX5_init_20 (by decide) ?_
  refine x_called (x_runI (n := 1) (As := [.int (nI 2)]) (rest := [.ref H2.size, .ref r]) hx hb hml hown hts (metJ2_init l κ H2.size 2 (by decide) (by decide)) q429 q107 q67 q108 rfl (by decide +kernel) (by decide) (by decide) rfl hK3 hN hl.1 (Nat.le_of_ble_eq_true rfl) rfl dX5_init_21 ⟨by show 0 + 1 + 1 ≤ 2; omega, by show 0 + 3 + 2 ≤ 5; omega⟩) (fun v2 st t L hst hq hvm hL => ?_)
  obtain ⟨hv, hLA, hz4, hq4⟩ := hq
  cases hv
  rw [hst] at hLA hz4 hq4
  refine W.eq (g2 := F0 mi 24 ls [.ref H2.size, .ref r]) rfl ?_
  have hO := hO.kept (hq4 r (by omega) (by omega))
  have hS : va_S (fun q => κ.base ≤ q) s0.heap t.heap (locsH2 ++ L) := ⟨by omega, fun q h1 h2 => by rw [hq4 q (by omega) (by omega), ho3 q (by omega)]; exact hS.2.1 q h1 h2, lc_app hS.2.2 (fun x hx => by rw [show x.base = H2.size from hL x hx]; omega)⟩
  refine ob_putF (C := RX5) (T := TX5) (N := 8) (ci := 4) (v := .ref H2.size) hx hb hts in_X5 tyX5 tyX5_ok nmX5 hown hK.1.1 hO hS hrB rfl 6 (by decide) q436 (fun x h => h) rfl hnm rfl rfl rfl dX5_init_24 (fun H5 locsH5 hO hqH5 hzH5 hS => ?_)
  have e2 : s0.heap.size = H2.size := by omega
  exact W.vret hx hb hr (fun t2 ht hW => ⟨rfl, by rw [ht, e2]; exact hO.to (fun k hk => by rcases (show k = 0 ∨ k = 1 ∨ k = 2 ∨ k = 3 ∨ k = 4 ∨ k = 5 ∨ k = 6 ∨ k = 7 by omega) with rfl | rfl | rfl | rfl | rfl | rfl | rfl | rfl <;> rfl), fun es => by rw [ht, e2]; have h1 := hLA es; rw [hz3] at h1; have h2 := h1.lt; exact h1.kept (hqH5 _ (by omega)) (hqH5 _ (by omega)), by rw [ht]; omega, fun q h1 h2 => by rw [ht, hqH5 q h2, hq4 q (by omega) (by omega), ho3 q (by omega), hqH2 q h2, hqH1 q h2]⟩) hS.2.2 dX5_init_27 hlk

set_option maxHeartbeats 4000000 in
theorem metX0_law (l : Launch) (κ : Kg) (o : Nat) (g : Gh) (u : St) (n : Nat) (hoB : κ.base ≤ o) (hn : u.1 1 = nI n) (h6 : n ≤ 600) : Met l yX0_law (wsW_ yX0_law cX0_law 4 (some .int) [(10, 33, 40, 193), (10, 33, 66, 0), (40, 59, 66, 0)]) (rmC 31 (3 + (pText (n, u.2.1 0)).2.1) (13 + (pText (n, u.2.1 0)).2.2)) (xP κ (CW κ.D κ.cA o g u) [.ref o]) (lwQ κ o g u (pText (n, u.2.1 0)).1) (3 + (pText (n, u.2.1 0)).2.1) (13 + (pText (n, u.2.1 0)).2.2) (fun q => κ.base ≤ q) := by
  refine xW_start RX0 (by decide) rfl (Nat.le_of_ble_eq_true rfl) ?_
  intro pg ev s0 mi bl me co hx hb hml hhh hown hts hr hlk hK hM ls hl
  have hl : lv_has ls 4 [(0, .ref o)] := hl
  have hZ : LZ κ o g u s0 s0.heap [] := ⟨hK, hM, ⟨Nat.le_refl _, fun _ _ _ => rfl⟩, fun x h => by cases h⟩
  refine lv_aload_n hx hb dX0_law_0 rfl (lv_at hl 0 rfl) ?_
  refine lv_iconst (v := 0) hx hb dX0_law_1 (by decide) ?_
  refine ls_puti hx hb hts hown hZ hoB 2 (by decide) q190 rfl rfl rfl rfl dX0_law_2 (fun H1 locsH1 hZ hqH1 hzH1 => ?_)
  refine lv_aload_n hx hb dX0_law_5 rfl (lv_at hl 0 rfl) ?_
  refine lv_iconst (v := (-1)) hx hb dX0_law_6 (by decide) ?_
  refine ls_puti hx hb hts hown hZ hoB 3 (by decide) q191 rfl rfl rfl rfl dX0_law_7 (fun H2 locsH2 hZ hqH2 hzH2 => ?_)
  have hTW0 : TW κ o (n, u.2.1 0) s0.heap := hM.tape hn h6
  refine lv_aload_n hx hb dX0_law_10 rfl (lv_at hl 0 rfl) ?_
  refine ob_new (C := RX5) (T := TX5) (N := 8) (ci := 4) hx hb hts in_X5 tyX5 tyX5_ok hown q421 q422 q73 hZ.1.1.1 rfl (by show 0 + 1 ≤ 3 + _; omega) (by show 0 + 8 ≤ 13 + _; omega) dX0_law_11 (fun H3 hN hz3 ho3 => ?_)
  have hsb := hK.2.2
  have hK3 : KZ κ s0 H3 := hZ.1.to (fun q hq => ho3 q (by omega)) (by omega)
  refine lv_dup hx hb dX0_law_14 rfl ?_
  refine lv_aload_n hx hb dX0_law_15 rfl (lv_at hl 0 rfl) ?_
  refine x_called (x_runIN (n := 1) (As := [.ref o]) (rest := [.ref H2.size, .ref o]) hx hb hml hown hts (metX5_init l κ H2.size o (by omega)) nq423 q424 q73 q425 rfl (by decide +kernel) (by decide) (by decide) rfl hK3 hN hl.1 (Nat.le_of_ble_eq_true rfl) rfl dX0_law_16 ⟨by show 0 + 1 + 2 ≤ 3 + _; omega, by show 0 + 8 + 5 ≤ 13 + _; omega⟩) (fun v2 st t L hst hq hvm hL => ?_)
  obtain ⟨hv, hO, hLA, hz4, hq4⟩ := hq
  cases hv
  rw [hst] at hO hLA hz4 hq4
  refine W.eq (g2 := F0 mi 19 ls [.ref H2.size, .ref o]) rfl ?_
  have hho : ∀ q : Nat, q < H2.size → t.heap[q]? = H2[q]? := fun q h => (hq4 q (by omega) (by omega)).trans (ho3 q h)
  have hZt := hZ.fresh (H1 := t.heap) (locs1 := locsH2 ++ L) (by omega) hho (lc_app hZ.2.2.2 hL)
  have hTW : TW κ o (n, u.2.1 0) t.heap := hZt.2.1.tape (u := si (si u 2 0) 3 (-1)) (n := n) (by show (if (1 : Nat) = 3 then (-1 : Int32) else if (1 : Nat) = 2 then 0 else u.1 1) = nI n; rw [if_neg (by decide), if_neg (by decide)]; exact hn) h6
  have hkb : κ.sK 0 < κ.base := (hK.2.1.2.2.2.2.2 0 (by decide)).2.2.1
  have hro : o + 1 < H2.size := by have := hTW0.lt; omega
  obtain ⟨x, xs, htab, hx1, hx2, hx3, hx4⟩ := tab_3 hhh
  have hLL : LLn κ o H2.size (κ.sK 0) t.heap H3.size (H3.size + 1) 2 0 (fun _ => 0) (fun _ => (fun _ => 0, 0, 0)) := ⟨hLA _, by decide, by omega, by omega, by omega, by omega, fun j hj => absurd hj (Nat.not_lt_zero _)⟩
  have hM5 : HR κ o (n, u.2.1 0) H2.size 0 0 0 0 0 (κ.sK 0) H3.size t.heap ∧ κ.sK 0 < t.heap.size ∧ LLn κ o H2.size (κ.sK 0) t.heap H3.size (H3.size + 1) 2 0 (fun _ => 0) (fun _ => (fun _ => 0, 0, 0)) := ⟨⟨hTW, hO⟩, by omega, hLL⟩
  refine t_catch (x := x) (xs := xs) (x_runT (n := 0) (As := []) (rest := [.ref o]) hx hb hml hown hts (metX5_text l κ o (n, u.2.1 0) H2.size (H3.size + 1) 0 0 0 (κ.sK 0) H3.size hro (by omega) hkb) q455 q456 q457 q73 q458 (by decide +kernel) (by decide) (by decide) rfl hZt.1 hM5 (ob_recv hZt.1.1.1 rfl hO) hl.1 (Nat.le_of_ble_eq_true rfl) rfl dX0_law_19 ⟨by show 0 + 1 + 2 + _ ≤ 3 + _; omega, by show 0 + 8 + 5 + _ ≤ 13 + _; omega⟩) hown htab (by unfold covers; rw [hx1, hx2]; rfl) (by rw [hx4]; decide) (by rw [hx4]; exact hts _ q420) (fun a st2 t2 locs2 hst2 hal2 hq2 hL2 => ?_) (fun v st2 t2 locs2 hst2 hal2 hq2 hL2 => ?_)
  · obtain ⟨L2, rfl, hL2b⟩ := hL2
    cases hres : (pText (n, u.2.1 0)).1 with
    | ok qq => rw [hres] at hq2; cases hq2.1
    | error qq =>
      rw [hres] at hq2
      obtain ⟨x9, e9, hWO, hxr, hfr, hsz⟩ := hq2
      cases e9
      rw [hst2] at hfr hsz
      have hZ := hZ.fresh (H1 := t2.heap) (locs1 := (locsH2 ++ L) ++ L2) (by omega) (fun q h => (hfr q h).trans (hho q h)) (lc_app hZt.2.2.2 hL2b)
      refine ⟨ob_recv hZ.1.1.1 (ci := 5) rfl hWO, ?_⟩
      rw [hx3]
      have hWO : t_OB a (κ.D.1 5) 8 (κ.D.2 5) t2.heap (wrF qq.1 (nI qq.2)) := hWO
      refine lv_astore_n (lv' := [(1, .ref a), (0, .ref o)]) hx hb dX0_law_40 rfl hl (by decide) rfl (fun ls hl => ?_)
      refine lv_aload_n hx hb dX0_law_41 rfl (lv_at hl 1 rfl) ?_
      refine lv_aload_n hx hb dX0_law_42 rfl (lv_at hl 0 rfl) ?_
      refine ob_get (C := RX6) (T := TX6) (N := 8) (ci := 5) (v := .int qq.1) hx hb hts in_X6 hown hZ.1.1.1 hWO rfl 6 (by decide) q797 (fun x h => h) rfl dX0_law_43 ?_
      refine ls_puti hx hb hts hown hZ hoB 2 (by decide) q190 rfl rfl rfl rfl dX0_law_46 (fun H5 locsH5 hZ hqH5 hzH5 => ?_)
      have hWO := hWO.kept (hqH5 a (by omega))
      refine lv_aload_n hx hb dX0_law_49 rfl (lv_at hl 1 rfl) ?_
      refine lv_aload_n hx hb dX0_law_50 rfl (lv_at hl 0 rfl) ?_
      refine ob_get (C := RX6) (T := TX6) (N := 8) (ci := 5) (v := .int (nI qq.2)) hx hb hts in_X6 hown hZ.1.1.1 hWO rfl 7 (by decide) q799 (fun x h => h) rfl dX0_law_51 ?_
      refine ls_puti hx hb hts hown hZ hoB 3 (by decide) q191 rfl rfl rfl rfl dX0_law_54 (fun H6 locsH6 hZ hqH6 hzH6 => ?_)
      refine lv_iconst (v := (-1)) hx hb dX0_law_57 (by decide) ?_
      refine lv_istore_n (lv' := [(2, .int (-1)), (1, .ref a), (0, .ref o)]) hx hb dX0_law_58 rfl hl (by decide) rfl (fun ls hl => ?_)
      refine lv_aload_n hx hb dX0_law_59 rfl (lv_at hl 2 rfl) ?_
      refine lv_iconst (v := 0) hx hb dX0_law_60 (by decide) ?_
      refine ls_puti hx hb hts hown hZ hoB 1 (by decide) q189 rfl rfl rfl rfl dX0_law_61 (fun H7 locsH7 hZ hqH7 hzH7 => ?_)
      refine lv_iload_n hx hb dX0_law_64 rfl (lv_at hl 0 rfl) ?_
      refine W.widen (k := 3 + (pText (n, u.2.1 0)).2.1) (n := 13 + (pText (n, u.2.1 0)).2.2) (by show 0 + 1 + 2 + _ ≤ _; omega) (by show 0 + 8 + 5 + _ ≤ _; omega) ?_
      exact W.iret hx hb hr (fun t9 ht hW => ⟨rfl, by rw [ht]; exact hZ.2.1, ⟨by rw [ht]; exact hZ.2.2.1.1, fun q h1 h2 => by rw [ht]; exact hZ.2.2.1.2 q h1 h2⟩⟩) hZ.2.2.2 dX0_law_65 hlk
  · obtain ⟨L2, rfl, hL2b⟩ := hL2
    cases hres : (pText (n, u.2.1 0)).1 with
    | error qq => obtain ⟨x9, e9, -⟩ := (show tErQ κ H2.size qq.1 qq.2 st2 (.returned v) t2 by rw [hres] at hq2; exact hq2); cases e9
    | ok qq =>
      rw [hres] at hq2
      obtain ⟨hv, hLW, hfr, hsz⟩ := hq2
      cases hv
      rw [hst2] at hfr hsz
      have hZ := hZ.fresh (H1 := t2.heap) (locs1 := (locsH2 ++ L) ++ L2) (by omega) (fun q h => (hfr q h).trans (hho q h)) (lc_app hZt.2.2.2 hL2b)
      refine W.eq (g2 := F0 mi 22 ls [.ref H3.size, .ref o]) rfl ?_
      refine ls_putl hx hb hts hown hZ hoB dX0_law_22 (fun H5 locsH5 hZ hqH5 hzH5 => ?_)
      have hLW := hLW.kept (S' := fun q => H2.size < q ∧ q < t2.heap.size) (H1 := H5) (fun q h => hqH5 q (by omega)) (fun q h => h)
      obtain ⟨xl, cl, el, hLA5, -⟩ := id hLW
      refine lv_aload_n hx hb dX0_law_25 rfl (lv_at hl 0 rfl) ?_
      refine ob_get (C := RX0) (T := TX0) (N := 31) (ci := 0) (v := .ref H3.size) hx hb hts in_X0 hown hZ.1.1.1 hZ.2.1.1 rfl 4 (by decide) q192 (fun x h => h) rfl dX0_law_26 ?_
      refine ro_call (g_runV (n := 0) (As := []) (rest := []) hx hb hml hown hts (metJ2_size l κ H3.size xl cl qq.1 el) q1106 q743 q744 q67 q745 (by decide +kernel) (by decide) (by decide) rfl hZ.1.1.1 hLA5 (ob_recv hZ.1.1.1 rfl hLA5.1.choose_spec) hl.1 (Nat.le_of_ble_eq_true rfl) rfl dX0_law_29 ⟨by show 0 + 1 + 2 + _ ≤ 3 + _; omega, by show 0 + 8 + 5 + _ ≤ 13 + _; omega⟩) ?_
      refine lv_istore_n (lv' := [(1, .int (nI qq.1)), (0, .ref o)]) hx hb dX0_law_32 rfl hl (by decide) rfl (fun ls hl => ?_)
      refine lv_aload_n hx hb dX0_law_33 rfl (lv_at hl 1 rfl) ?_
      refine lv_iconst (v := 0) hx hb dX0_law_34 (by decide) ?_
      refine ls_puti hx hb hts hown hZ hoB 1 (by decide) q189 rfl rfl rfl rfl dX0_law_35 (fun H6 locsH6 hZ hqH6 hzH6 => ?_)
      have hLW := hLW.kept (S' := fun q => H2.size < q ∧ q < t2.heap.size) (H1 := H6) (fun q h => hqH6 q (by omega)) (fun q h => h)
      refine lv_iload_n hx hb dX0_law_38 rfl (lv_at hl 0 rfl) ?_
      refine W.widen (k := 3 + (pText (n, u.2.1 0)).2.1) (n := 13 + (pText (n, u.2.1 0)).2.2) (by show 0 + 1 + 2 + _ ≤ _; omega) (by show 0 + 8 + 5 + _ ≤ _; omega) ?_
      exact W.iret hx hb hr (fun t9 ht hW => ⟨rfl, H3.size, by rw [ht]; exact hZ.2.1, by rw [ht]; exact hLW.kept (fun q h => rfl) (fun q h => ⟨by omega, by omega⟩), ⟨by rw [ht]; exact hZ.2.2.1.1, fun q h1 h2 => by rw [ht]; exact hZ.2.2.1.2 q h1 h2⟩⟩) hZ.2.2.2 dX0_law_39 hlk
