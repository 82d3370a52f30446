/-! java.util.ArrayList.add: copyOf, grow, add. By tools/gen_j4.py -/
set_option maxRecDepth 100000
theorem arr_name {κ : Kg} {s : State} (hK : K0 κ.D κ.cA s) : s.vm.findClass "[Ljava/lang/Object;" = some (κ.cA 4) := va_nmO (hK.2 4 _ rfl).2 rfl
def fr3 (a x sz : Nat) : Nat → Prop := fun q => q = a ∨ q = x ∨ sz ≤ q
/-- a full list grown -/
def grQ (κ : Kg) (a c n : Nat) (es : Nat → Nat) : Array Value → State → Outcome → State → Prop := fun _ st oc t => oc = .returned (some (.ref st.heap.size)) ∧ LA κ a st.heap.size (capG c) n es t.heap ∧ t.heap.size = st.heap.size + 1 ∧ ∀ q : Nat, q < st.heap.size → q ≠ a → t.heap[q]? = st.heap[q]?
def grP (κ : Kg) (a x c n sz : Nat) (es : Nat → Nat) (H : Heap) : Prop := H.size = sz ∧ LA κ a x c n es H ∧ ∀ j, j < n → isOb κ H (es j)
/-- a list with one more -/
def adQ (κ : Kg) (a x n e : Nat) (es : Nat → Nat) (v : Option Value) : Array Value → State → Outcome → State → Prop := fun _ st oc t => oc = .returned v ∧ (∃ x' c', LA κ a x' c' (n + 1) (va_up es n e) t.heap ∧ (x' = x ∨ st.heap.size ≤ x')) ∧ st.heap.size ≤ t.heap.size ∧ t.heap.size ≤ st.heap.size + 1 ∧ ∀ q : Nat, q < st.heap.size → q ≠ a → q ≠ x → t.heap[q]? = st.heap[q]?
theorem ad_row {n e : Nat} {es : Nat → Nat} : updV (fun j => va_rf (if j < n then some (es j) else none)) n (.ref e) = fun j => va_rf (if j < n + 1 then some (va_up es n e j) else none) := by
  funext j
  unfold updV va_up
  by_cases h : j = n
  · subst h; rw [if_pos rfl, if_pos (by omega), if_pos rfl]; rfl
  · rw [if_neg h]
    show va_rf (if j < n then some (es j) else none) = _
    by_cases h2 : j < n
    · rw [if_pos h2, if_pos (by omega), if_neg h]
    · rw [if_neg h2, if_neg (by omega)]
theorem capG_le {c : Nat} : capG c ≤ 2 * c + 1 ∧ c < capG c := by unfold capG; omega

set_option maxHeartbeats 4000000 in
theorem metJ9_copyOf_2 (l : Launch) (κ : Kg) (x c c' sz : Nat) (f : Nat → Option Nat) (hcc : c ≤ c') (hc' : c' < 1000000) : Met l yJ9_copyOf_2 (ws_ yJ9_copyOf_2 cJ9_copyOf_2 2 (some (.array (.object "java/lang/Object")))) (rmC 2 1 c') (xP κ (cpP κ x c sz f) [.ref x, .int (nI c')]) (cpQ κ x c c' f) 1 c' (frX x sz) := by
  refine xM_start RJ9 (by decide) rfl (Nat.le_of_ble_eq_true rfl) ?_
  intro pg ev s0 mi bl me co hx hb hml hown hts hr hlk hnm hK hM ls hl
  have hl : lv_has ls 2 [(0, .ref x), (1, .int (nI c'))] := hl
  obtain ⟨hsz, hX, hE⟩ := hM
  subst hsz
  refine lv_aload_n hx hb dJ9_copyOf_2_0 rfl (lv_at hl 0 rfl) ?_
  refine lv_iload_n hx hb dJ9_copyOf_2_1 rfl (lv_at hl 1 rfl) ?_
  refine lv_aload_n hx hb dJ9_copyOf_2_2 rfl (lv_at hl 0 rfl) ?_
  refine va_getC (C := "[Ljava/lang/Object;") (mi := κ.mi) hx hb (hml.trans hl.1.symm) hown (hts _ q1015) (va_Nw.use rfl (hK.1.2.1 _ nq1749)) (hts _ q1748) (hts _ q1016) (hts _ q1043) hK.1.2.2.2.1 ⟨_, hX, rfl, arr_name hK.1.1⟩ (by show 1 ≤ 2; omega) (Nat.le_of_ble_eq_true rfl) dJ9_copyOf_2_3 ?_
  refine x_called (x_runS (n := 3) (As := [.ref x, .int (nI c'), .ref κ.mi]) (rest := []) hx hb hml hown hts (metJ9_copyOf_3 l κ x c c' s0.heap.size f hcc hc') q1044 q1045 q80 q1046 (by decide +kernel) (by decide) (by decide) rfl hK ⟨rfl, hX, hE⟩ hl.1 (Nat.le_of_ble_eq_true rfl) rfl dJ9_copyOf_2_6 ⟨by show 0 + 1 ≤ 1; omega, by show 0 + c' ≤ c'; omega⟩) (fun v st t L hst hq hvm hL => ?_)
  obtain ⟨hv, hq1, hq2, hq3⟩ := hq
  cases hv
  rw [hst] at hq1 hq2 hq3
  refine W.eq (g2 := F0 mi 9 ls [.ref s0.heap.size]) (by rw [hst]; rfl) ?_
  refine W.widen (k := 1) (n := c') (by omega) (by omega) ?_
  exact W.aret hx hb hr (Or.inr ⟨_, rfl⟩) (Or.inr ⟨_, rfl⟩) (fun t2 ht hW => ⟨rfl, by rw [ht]; exact hq1, by rw [ht]; exact hq2, fun q h => by rw [ht]; exact hq3 q h⟩) (fun q hq => hL q hq) dJ9_copyOf_2_9 hlk

set_option maxHeartbeats 4000000 in
theorem metJ2_grow_2 (l : Launch) (κ : Kg) (a x c sz : Nat) (es : Nat → Nat) (hc0 : 0 < c) (hc : c < 400000) : Met l yJ2_grow_2 (ws_ yJ2_grow_2 cJ2_grow_2 4 (some (.array (.object "java/lang/Object")))) (rmC 3 1 (capG c)) (xP κ (grP κ a x c c sz es) [.ref a, .int (nI (c + 1))]) (grQ κ a c c es) 1 (capG c) (fr3 a x sz) := by
  refine xM_start RJ2 (by decide) rfl (Nat.le_of_ble_eq_true rfl) ?_
  intro pg ev s0 mi bl me co hx hb hml hown hts hr hlk hnm hK hM ls hl
  have hl : lv_has ls 4 [(0, .ref a), (1, .int (nI (c + 1)))] := hl
  obtain ⟨hsz, ⟨⟨md, hO⟩, hX, hnc, hcb⟩, hE⟩ := hM
  subst hsz
  refine lv_aload_n hx hb dJ2_grow_2_0 rfl (lv_at hl 0 rfl) ?_
  refine ob_get (C := RJ2) (T := TJ2) (N := 3) (ci := 12) (v := .ref x) hx hb hts in_J2 hown hK.1.1 hO rfl 1 (by decide) q120 (fun x h => h) rfl dJ2_grow_2_1 ?_
  refine W.alen (n := nI c) (ty := .object "java/lang/Object") hx hb hX ((hK.1.1.2 4 _ rfl).1 c _) (by rw [arrV_size]; rfl) rfl rfl dJ2_grow_2_4 ?_
  refine W.eq (g2 := F0 mi 5 ls [.int (nI c)]) rfl ?_
  refine lv_istore_n (lv' := [(2, .int (nI c)), (0, .ref a), (1, .int (nI (c + 1)))]) hx hb dJ2_grow_2_5 rfl hl (by decide) rfl (fun ls hl => ?_)
  refine lv_iload_n hx hb dJ2_grow_2_6 rfl (lv_at hl 0 rfl) ?_
  refine lv_if_gt (tgt := 20) hx hb dJ2_grow_2_7 (by decide) (fun c_7 => ?_) (fun c_7 => ?_)
  · skip
    refine lv_iload_n hx hb dJ2_grow_2_20 rfl (lv_at hl 0 rfl) ?_
    refine lv_iload_n hx hb dJ2_grow_2_21 rfl (lv_at hl 2 rfl) ?_
    refine lv_iload_n hx hb dJ2_grow_2_22 rfl (lv_at hl 0 rfl) ?_
    refine lv_isub hx hb dJ2_grow_2_23 ?_
    refine v_eqi (show nI (c + 1) - nI c = nI 1 by rw [pk_sub (by omega)]; congr 1; omega) ?_
    refine lv_iload_n hx hb dJ2_grow_2_24 rfl (lv_at hl 0 rfl) ?_
    refine lv_iconst (v := 1) hx hb dJ2_grow_2_25 (by decide) ?_
    refine lv_ishr hx hb dJ2_grow_2_26 ?_
    refine v_eqi (show nI c >>> ((1 : Int32) &&& 31) = nI (c / 2) by rw [pk_shrN (by omega) _ 1 (by decide)]) ?_
    refine ro_call (st_run (n := 3) (As := [.int (nI c), .int (nI 1), .int (nI (c / 2))]) (rest := []) hx hb hml hown hts (metJ7_newLength l c 1 (c / 2) (by omega) (by omega)) q1011 q518 q78 q519 (by decide +kernel) (by decide) (by decide) rfl hl.1 (Nat.le_of_ble_eq_true rfl) rfl dJ2_grow_2_27 ⟨Nat.zero_le _, Nat.zero_le _⟩) ?_
    refine lv_istore_n (lv' := [(3, .int (nI (capG c))), (2, .int (nI c)), (0, .ref a), (1, .int (nI (c + 1)))]) hx hb dJ2_grow_2_30 rfl hl (by decide) rfl (fun ls hl => ?_)
    refine lv_aload_n hx hb dJ2_grow_2_31 rfl (lv_at hl 2 rfl) ?_
    refine lv_aload_n hx hb dJ2_grow_2_32 rfl (lv_at hl 2 rfl) ?_
    refine ob_get (C := RJ2) (T := TJ2) (N := 3) (ci := 12) (v := .ref x) hx hb hts in_J2 hown hK.1.1 hO rfl 1 (by decide) q120 (fun x h => h) rfl dJ2_grow_2_33 ?_
    refine lv_iload_n hx hb dJ2_grow_2_36 rfl (lv_at hl 0 rfl) ?_
    refine x_called (x_runS (n := 2) (As := [.ref x, .int (nI (capG c))]) (rest := [.ref a]) hx hb hml hown hts (metJ9_copyOf_2 l κ x c (capG c) s0.heap.size (fun j => if j < c then some (es j) else none) (by have := @capG_le c; omega) (by have := @capG_le c; omega)) q1012 q1013 q80 q1014 (by decide +kernel) (by decide) (by decide) rfl hK ⟨rfl, hX, fun j hj y hy => by have hy : (if j < c then some (es j) else none) = some y := hy; rw [if_pos hj] at hy; cases hy; exact hE j hj⟩ hl.1 (Nat.le_of_ble_eq_true rfl) rfl dJ2_grow_2_37 ⟨by show 0 + 1 ≤ 1; omega, by show 0 + capG c ≤ capG c; omega⟩) (fun v st t L hst hq hvm hL => ?_)
    obtain ⟨hv, hq1, hq2, hq3⟩ := hq
    cases hv
    rw [hst] at hq1 hq2 hq3
    refine W.eq (g2 := F0 mi 40 ls [.ref s0.heap.size, .ref a]) (by rw [hst]; rfl) ?_
    have hal : a < s0.heap.size := by obtain ⟨cell, hc, -⟩ := hO; exact (Array.getElem?_eq_some_iff.mp hc).1
    have hO := hO.kept (hq3 a hal)
    have hS : va_S (fr3 a x s0.heap.size) s0.heap t.heap ([] ++ L) := ⟨by omega, fun q h1 _ => hq3 q h1, fun q hq => by rcases hL q (by simpa using hq) with z | z; (· exact Or.inr (Or.inl z)); (· exact Or.inr (Or.inr z))⟩
    refine lv_dup_x1 hx hb dJ2_grow_2_40 rfl rfl ?_
    refine ob_put (C := RJ2) (T := TJ2) (N := 3) (ci := 12) (v := .ref s0.heap.size) hx hb hts in_J2 tyJ2 tyJ2_ok nmJ2 hown hK.1.1 hO hS (Or.inl rfl) rfl 1 (by decide) q120 (fun x h => h) rfl rfl rfl dJ2_grow_2_41 (fun H2 locs2 hO hq4 hz4 hS => ?_)
    refine W.widen (k := 1) (n := capG c) (by omega) (by omega) ?_
    exact W.aret hx hb hr (Or.inr ⟨_, rfl⟩) (Or.inr ⟨_, rfl⟩) (fun t2 ht hW => ⟨rfl, ⟨⟨md, by rw [ht]; exact hO.to fun k hk => by rcases (show k = 0 ∨ k = 1 ∨ k = 2 by omega) with rfl | rfl | rfl <;> rfl⟩, by rw [ht, hq4 _ (by omega), hq1]; congr 2; funext j; by_cases h : j < c <;> simp [h], by have := @capG_le c; omega, by have := @capG_le c; omega⟩, by rw [ht]; omega, fun q h h2 => by rw [ht, hq4 q h2]; exact hq3 q h⟩) hS.2.2 dJ2_grow_2_44 hlk
  · skip
    exact absurd (show (0 : Int32) < nI c from nI_lt (a := 0) hc0 (by omega)) c_7

set_option maxHeartbeats 4000000 in
theorem metJ2_grow (l : Launch) (κ : Kg) (a x c sz : Nat) (es : Nat → Nat) (hc0 : 0 < c) (hc : c < 400000) : Met l yJ2_grow (ws_ yJ2_grow cJ2_grow 1 (some (.array (.object "java/lang/Object")))) (rmC 4 1 (capG c)) (xP κ (grP κ a x c c sz es) [.ref a]) (grQ κ a c c es) 1 (capG c) (fr3 a x sz) := by
  refine xM_start RJ2 (by decide) rfl (Nat.le_of_ble_eq_true rfl) ?_
  intro pg ev s0 mi bl me co hx hb hml hown hts hr hlk hnm hK hM ls hl
  have hl : lv_has ls 1 [(0, .ref a)] := hl
  obtain ⟨hsz, ⟨⟨md, hO⟩, hX, hnc, hcb⟩, hE⟩ := hM
  subst hsz
  refine lv_aload_n hx hb dJ2_grow_0 rfl (lv_at hl 0 rfl) ?_
  refine lv_aload_n hx hb dJ2_grow_1 rfl (lv_at hl 0 rfl) ?_
  refine ob_get (C := RJ2) (T := TJ2) (N := 3) (ci := 12) (v := .int (nI c)) hx hb hts in_J2 hown hK.1.1 hO rfl 2 (by decide) q121 (fun x h => h) rfl dJ2_grow_2 ?_
  refine lv_iconst (v := 1) hx hb dJ2_grow_5 (by decide) ?_
  refine lv_iadd hx hb dJ2_grow_6 ?_
  refine v_eqi (nI_1 c) ?_
  refine x_called (x_runV (n := 1) (As := [.int (nI (c + 1))]) (rest := []) hx hb hml hown hts (metJ2_grow_2 l κ a x c s0.heap.size es hc0 hc) q1005 q1007 qs22 q67 q1008 (by decide +kernel) (by decide) (by decide) rfl hK ⟨rfl, ⟨⟨md, hO⟩, hX, hnc, hcb⟩, hE⟩ (ob_recv hK.1.1 rfl hO) hl.1 (Nat.le_of_ble_eq_true rfl) rfl dJ2_grow_7 ⟨by show 0 + 1 ≤ 1; omega, by show 0 + capG c ≤ capG c; omega⟩) (fun v st t L hst hq hvm hL => ?_)
  obtain ⟨hv, hq1, hq2, hq3⟩ := hq
  cases hv
  rw [hst] at hq1 hq2 hq3
  refine W.eq (g2 := F0 mi 10 ls [.ref s0.heap.size]) (by rw [hst]; rfl) ?_
  refine W.widen (k := 1) (n := capG c) (by omega) (by omega) ?_
  exact W.aret hx hb hr (Or.inr ⟨_, rfl⟩) (Or.inr ⟨_, rfl⟩) (fun t2 ht hW => ⟨rfl, by rw [ht]; exact hq1, by rw [ht]; exact hq2, fun q h h2 => by rw [ht]; exact hq3 q h h2⟩) (fun q hq => hL q hq) dJ2_grow_10 hlk
