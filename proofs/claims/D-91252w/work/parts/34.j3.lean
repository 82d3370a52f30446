/-! java.util.ArrayList.add, with what it calls. By tools/gen_j3.py -/
set_option maxRecDepth 100000
theorem mx_n {m q : Nat} (hm : m < 2 ^ 31) (hq : q < 2 ^ 31) : (if nI m < nI q then nI q else nI m) = nI (max m q) := by
  by_cases h : m < q
  · rw [if_pos (nI_lt h hq), Nat.max_eq_right (by omega)]
  · rw [if_neg (nI_nlt (by omega) hm), Nat.max_eq_left (by omega)]
theorem mn_n {m q : Nat} (h : m ≤ q) (hq : q < 2 ^ 31) : (if nI q < nI m then nI q else nI m) = nI m := if_neg (nI_nlt h hq)
theorem w_size {p : Program} {l : Launch} {e : Env} {R : Room} {s : State} {m : MethodId} {args : Array Value} {below : List Frame} {meth : Method} {c : Code} {H : Heap} {locs : List Loc} {cells slots : Nat} {Q : State → Prop} {g : JFrame} (kk : H.size ≤ s.heap.size + cells → W p l e R s m args below meth c H locs cells slots Q g) : W p l e R s m args below meth c H locs cells slots Q g := fun T hT X => kk (by rw [← hT]; exact X.heapSize) T hT X
theorem nI_lit : (2147483639 : Int32) = nI 2147483639 := by decide

set_option maxHeartbeats 4000000 in
theorem metJ7_newLength (l : Launch) (a m q : Nat) (h0 : 0 < m) (h : a + max m q < 2 ^ 30) : MetS l yJ7_newLength cJ7_newLength 4 (some .int) 1 [.int (nI a), .int (nI m), .int (nI q)] (some (.int (nI (a + max m q)))) := by
  refine mS_start RJ7 (by decide) rfl (Nat.le_of_ble_eq_true rfl) ?_
  intro pg ev s0 mi bl me co hx hb hml hown hts hr hlk ls hl
  have hl : lv_has ls 4 [(0, .int (nI a)), (1, .int (nI m)), (2, .int (nI q))] := hl
  refine lv_iload_n hx hb dJ7_newLength_0 rfl (lv_at hl 0 rfl) ?_
  refine lv_iload_n hx hb dJ7_newLength_1 rfl (lv_at hl 1 rfl) ?_
  refine lv_iload_n hx hb dJ7_newLength_2 rfl (lv_at hl 2 rfl) ?_
  refine va_mmax (x := nI m) (y := nI q) hx hb (hml.trans hl.1.symm) hown (hts _ q520) (hts _ q521) (hts _ q79) (hts _ q522) (by decide) (Nat.le_of_ble_eq_true rfl) (Nat.zero_le _) (Nat.zero_le _) dJ7_newLength_3 ?_
  refine v_eqi (mx_n (by omega) (by omega)) ?_
  refine lv_iadd hx hb dJ7_newLength_6 ?_
  refine v_eqi (nI_add a (max m q)) ?_
  refine lv_istore_n (lv' := [(3, .int (nI (a + max m q))), (0, .int (nI a)), (1, .int (nI m)), (2, .int (nI q))]) hx hb dJ7_newLength_7 rfl hl (by decide) rfl (fun ls hl => ?_)
  refine lv_iconst (v := 0) hx hb dJ7_newLength_8 (by decide) ?_
  refine lv_iload_n hx hb dJ7_newLength_9 rfl (lv_at hl 0 rfl) ?_
  refine lv_icmp_ge (tgt := 21) hx hb dJ7_newLength_10 (by decide) (fun c_10 => ?_) (fun c_10 => ?_)
  · skip
    exact absurd c_10 (nI_nle (by omega) (by omega))
  · skip
    refine lv_iload_n hx hb dJ7_newLength_13 rfl (lv_at hl 0 rfl) ?_
    refine lv_ldc (v := 2147483639) hx hb hown (hts _ q523) dJ7_newLength_14 ?_
    refine lv_icmp_gt (tgt := 21) hx hb dJ7_newLength_16 (by decide) (fun c_16 => ?_) (fun c_16 => ?_)
    · skip
      exact absurd c_16 (fun z => by rw [nI_lit] at z; have := (nI_ltI (a := 2147483639) (by decide) (by omega)).mp z; omega)
    · skip
      refine lv_iload_n hx hb dJ7_newLength_19 rfl (lv_at hl 0 rfl) ?_
      exact iret_ro hx hb hr hlk rfl dJ7_newLength_20

/-- an array copied into a longer one: the new one at the heap's old end -/
def cpQ (κ : Kg) (x c c' : Nat) (f : Nat → Option Nat) : Array Value → State → Outcome → State → Prop := fun _ st oc t => oc = .returned (some (.ref st.heap.size)) ∧ t.heap[st.heap.size]? = some (arrV (κ.cA 4) c' (fun j => va_rf (if j < c then f j else none))) ∧ t.heap.size = st.heap.size + 1 ∧ ∀ q : Nat, q < st.heap.size → t.heap[q]? = st.heap[q]?
def cpP (κ : Kg) (x c sz : Nat) (f : Nat → Option Nat) (H : Heap) : Prop := H.size = sz ∧ H[x]? = some (arrV (κ.cA 4) c (fun j => va_rf (f j))) ∧ ∀ j, j < c → ∀ y, f j = some y → isOb κ H y
def frX (x sz : Nat) : Nat → Prop := fun q => q = x ∨ sz ≤ q

set_option maxHeartbeats 4000000 in
theorem metJ9_copyOf_3 (l : Launch) (κ : Kg) (x c c' sz : Nat) (f : Nat → Option Nat) (hcc : c ≤ c') (hc' : c' < 1000000) : Met l yJ9_copyOf_3 (ws_ yJ9_copyOf_3 cJ9_copyOf_3 4 (some (.array (.object "java/lang/Object")))) (rmC 1 1 c') (xP κ (cpP κ x c sz f) [.ref x, .int (nI c'), .ref κ.mi]) (cpQ κ x c c' f) 1 c' (frX x sz) := by
  refine xM_start RJ9 (by decide) rfl (Nat.le_of_ble_eq_true rfl) ?_
  intro pg ev s0 mi bl me co hx hb hml hown hts hr hlk hnm hK hM ls hl
  have hl : lv_has ls 4 [(0, .ref x), (1, .int (nI c')), (2, .ref κ.mi)] := hl
  obtain ⟨hsz, hX, hE⟩ := hM
  subst hsz
  refine lv_aload_n hx hb dJ9_copyOf_3_0 rfl (lv_at hl 2 rfl) ?_
  refine va_ldcM hx hb hown (hts _ q1047) hK.1.2.2.2.1 dJ9_copyOf_3_1 ?_
  refine lv_acmp_ne (rx := some κ.mi) (ry := some κ.mi) (tgt := 13) hx hb dJ9_copyOf_3_3 (by decide) (fun h => absurd rfl h) (fun _ => ?_)
  refine lv_iload_n hx hb dJ9_copyOf_3_6 rfl (lv_at hl 1 rfl) ?_
  refine aq_new (N := c') hx hb hown hts q1048 hK.1.2.2.1.1 hK.1.1 4 rfl (nI_pos (by omega)) (nI_clamp (by omega)) (by omega) (by show 0 + 1 ≤ 1; omega) (by show 0 + c' ≤ c'; omega) dJ9_copyOf_3_7 (fun H1 hY hz1 ho1 => ?_)
  have hxl : x < s0.heap.size := (Array.getElem?_eq_some_iff.mp hX).1
  have hX1 : H1[x]? = some (arrV (κ.cA 4) c (fun j => va_rf (f j))) := by rw [ho1 x hxl]; exact hX
  refine lv_goto (tgt := 24) hx hb dJ9_copyOf_3_10 (by decide) ?_
  refine lv_astore_n (lv' := [(3, .ref s0.heap.size), (0, .ref x), (1, .int (nI c')), (2, .ref κ.mi)]) hx hb dJ9_copyOf_3_24 rfl hl (by decide) rfl (fun ls hl => ?_)
  refine lv_aload_n hx hb dJ9_copyOf_3_25 rfl (lv_at hl 1 rfl) ?_
  refine lv_iconst (v := 0) hx hb dJ9_copyOf_3_26 (by decide) ?_
  refine lv_aload_n hx hb dJ9_copyOf_3_27 rfl (lv_at hl 0 rfl) ?_
  refine lv_iconst (v := 0) hx hb dJ9_copyOf_3_28 (by decide) ?_
  refine lv_aload_n hx hb dJ9_copyOf_3_29 rfl (lv_at hl 1 rfl) ?_
  refine W.alen (n := nI c) (ty := .object "java/lang/Object") hx hb hX1 ((hK.1.1.2 4 _ rfl).1 c _) (by rw [arrV_size]; rfl) rfl rfl dJ9_copyOf_3_30 ?_
  refine W.eq (g2 := F0 mi 31 ls [.int (nI c), .int 0, .ref s0.heap.size, .int 0, .ref x]) rfl ?_
  refine lv_iload_n hx hb dJ9_copyOf_3_31 rfl (lv_at hl 2 rfl) ?_
  refine va_mmin (x := nI c) (y := nI c') hx hb (hml.trans hl.1.symm) hown (hts _ q536) (hts _ q537) (hts _ q79) (hts _ q538) (Nat.le_refl 1) (Nat.le_of_ble_eq_true rfl) (by show 0 + 1 ≤ 1; omega) (by show 0 + c' ≤ c'; omega) dJ9_copyOf_3_32 ?_
  refine v_eqi (mn_n hcc (by omega)) ?_
  have hP : va_P κ.D vwCl [(x, .inl (κ.cA 4, c, .inr (.inr (.inr (.inr f))))), (s0.heap.size, .inl (κ.cA 4, c', .inr (.inr (.inr (.inr (fun _ => none))))))] H1 := by
    intro k q hq
    match k, hq with
    | 0, hq => cases hq; exact hX1
    | 1, hq => cases hq; exact hY
    | k + 2, hq => simp at hq
  have hD : va_D (frX x s0.heap.size) [(x, .inl (κ.cA 4, c, .inr (.inr (.inr (.inr f))))), (s0.heap.size, .inl (κ.cA 4, c', .inr (.inr (.inr (.inr (fun _ => none))))))] := by
    refine ⟨fun i j p q hp hq e => ?_, fun k q hq => ?_⟩
    · match i, hp, j, hq with
      | 0, hp, 0, hq => rfl
      | 1, hp, 1, hq => rfl
      | 0, hp, 1, hq => cases hp; cases hq; exact absurd e (by show x ≠ s0.heap.size; omega)
      | 1, hp, 0, hq => cases hp; cases hq; exact absurd e (by show s0.heap.size ≠ x; omega)
      | i + 2, hp, _, _ => simp at hp
      | 0, _, j + 2, hq => simp at hq
      | 1, _, j + 2, hq => simp at hq
    · match k, hq with
      | 0, hq => cases hq; exact Or.inl rfl
      | 1, hq => cases hq; exact Or.inr (Nat.le_refl _)
      | k + 2, hq => simp at hq
  refine va_copyM hx hb (hml.trans hl.1.symm) hown (hts _ q539) (hts _ q541) (hts _ q540) (hts _ q81) hK.1.1 hP hD (va_S.rf (H0 := H1)) 0 1 4 4 rfl rfl rfl rfl (by decide) (by decide) (nI_pos (by omega)) (by rw [nI_clamp (by omega)]; show 0 + c ≤ c; omega) (by rw [nI_clamp (by omega)]; show 0 + c ≤ c'; omega) (fun i hi y hy => ?_) (Nat.le_refl 1) (by show _ ≤ 60; decide) dJ9_copyOf_3_35 (fun H2 locs2 hP2 hD2 hS2 => ?_)
  · rw [nI_clamp (by omega)] at hi
    have hy : f i = some y := by have := hy; rw [show (0 : Int32).toNatClampNeg + i = i by show 0 + i = i; omega] at this; exact this
    exact ((hE i hi y hy).kept (ho1 y (by obtain ⟨cell, ci, hc, -⟩ := hE i hi y hy; exact (Array.getElem?_eq_some_iff.mp hc).1))).any hK.1
  refine lv_aload_n hx hb dJ9_copyOf_3_38 rfl (lv_at hl 0 rfl) ?_
  have hY2 : H2[s0.heap.size]? = some (arrV (κ.cA 4) c' (fun j => va_rf (if j < c then f j else none))) := by
    have h := hP2 1 _ rfl
    have h : H2[s0.heap.size]? = some (arrV (κ.cA 4) c' (fun j => va_rf (va_cpy f (fun _ => none) 0 0 (nI c).toNatClampNeg j))) := h
    rw [h, nI_clamp (by omega)]
    congr 2; funext j; congr 1; unfold va_cpy
    by_cases hj : j < c
    · rw [if_pos ⟨Nat.zero_le _, by omega⟩, if_pos hj]; congr 1; omega
    · rw [if_neg (by omega), if_neg hj]
  have hX2 : H2[x]? = H1[x]? := by
    have h := hP2 0 _ rfl
    have h : H2[x]? = some (arrV (κ.cA 4) c (fun j => va_rf (f j))) := h
    rw [h, hX1]
  refine w_size (fun hZ2 => ?_)
  have hz2 : H2.size = s0.heap.size + 1 := by have h1 := hS2.1; omega
  refine W.widen (k := 1) (n := c') (by omega) (by omega) ?_
  exact W.aret hx hb hr (Or.inr ⟨_, rfl⟩) (Or.inr ⟨_, rfl⟩) (fun t ht hW => ⟨rfl, by rw [ht]; exact hY2, by rw [ht]; exact hz2, fun q hq => by rw [ht]; by_cases e : q = x; (· rw [e, hX2, ho1 x hxl]); (· rw [hS2.2.1 q (by omega) (fun z => by rcases z with z | z <;> omega), ho1 q hq])⟩) hS2.2.2 dJ9_copyOf_3_39 hlk
