/-! java.lang.StringBuilder.toString, with what it calls. By tools/gen_s2.py -/
set_option maxRecDepth 100000

set_option maxHeartbeats 4000000 in
theorem metJ9_checkLength (l : Launch) (n : Nat) (hn : n < 2 ^ 31) : MetS l yJ9_checkLength cJ9_checkLength 2 none 0 [.int 0, .int (nI n)] none := by
  refine mS_start RJ9 (by decide) rfl (Nat.le_of_ble_eq_true rfl) ?_
  intro pg ev s0 mi bl me co hx hb hml hown hts hr hlk ls hl
  have hl : lv_has ls 2 [(0, .int 0), (1, .int (nI n))] := hl
  refine lv_iload_n hx hb dJ9_checkLength_0 rfl (lv_at hl 1 rfl) ?_
  refine lv_iload_n hx hb dJ9_checkLength_1 rfl (lv_at hl 0 rfl) ?_
  refine lv_icmp_ge (tgt := 37) hx hb dJ9_checkLength_2 (by decide) (fun c_2 => ?_) (fun c_2 => ?_)
  · skip
    exact W.vret hx hb hr (fun t ht hW => ⟨rfl, ht⟩) (fun q h => by cases h) dJ9_checkLength_37 hlk
  · skip
    exact absurd (nI_pos' (by omega)) c_2

/-- n of 8 bytes copied: the new array at the heap's old end -/
def crQ (κ : Kg) (n : Nat) (f : Nat → Int32) : Array Value → State → Outcome → State → Prop := fun _ st oc t => oc = .returned (some (.ref st.heap.size)) ∧ t.heap[st.heap.size]? = some (arrV (κ.cA 1) n (fun j => .int (if j < n then f j else 0))) ∧ t.heap.size = st.heap.size + 1 ∧ ∀ q : Nat, q < st.heap.size → t.heap[q]? = st.heap[q]?
def crP (κ : Kg) (x sz : Nat) (f : Nat → Int32) (H : Heap) : Prop := H.size = sz ∧ H[x]? = some (arrV (κ.cA 1) 8 (fun j => .int (f j)))

set_option maxHeartbeats 4000000 in
theorem metJ9_copyOfRangeByte (l : Launch) (κ : Kg) (x n sz : Nat) (f : Nat → Int32) (hn : n ≤ 8) (hf : ∀ j, fits .byte (.int (f j)) = true) : Met l yJ9_copyOfRangeByte (ws_ yJ9_copyOfRangeByte cJ9_copyOfRangeByte 5 (some (.array .byte))) (rmC 1 1 n) (xP κ (crP κ x sz f) [.ref x, .int 0, .int (nI n)]) (crQ κ n f) 1 n (frX x sz) := by
  refine xM_start RJ9 (by decide) rfl (Nat.le_of_ble_eq_true rfl) ?_
  intro pg ev s0 mi bl me co hx hb hml hown hts hr hlk hnm hK hM ls hl
  have hl : lv_has ls 5 [(0, .ref x), (1, .int 0), (2, .int (nI n))] := hl
  obtain ⟨hsz, hX⟩ := hM
  subst hsz
  refine lv_iload_n hx hb dJ9_copyOfRangeByte_0 rfl (lv_at hl 1 rfl) ?_
  refine lv_iload_n hx hb dJ9_copyOfRangeByte_1 rfl (lv_at hl 2 rfl) ?_
  refine ro_call (st_run (n := 2) (As := [.int 0, .int (nI n)]) (rest := []) hx hb hml hown hts (metJ9_checkLength l n (by omega)) q628 q629 q80 q630 (by decide +kernel) (by decide) (by decide) rfl hl.1 (Nat.le_of_ble_eq_true rfl) rfl dJ9_copyOfRangeByte_2 ⟨Nat.zero_le _, Nat.zero_le _⟩) ?_
  refine lv_iload_n hx hb dJ9_copyOfRangeByte_5 rfl (lv_at hl 2 rfl) ?_
  refine lv_iload_n hx hb dJ9_copyOfRangeByte_6 rfl (lv_at hl 1 rfl) ?_
  refine lv_isub hx hb dJ9_copyOfRangeByte_7 ?_
  refine v_eqi (show nI n - 0 = nI n from Int32.sub_zero _) ?_
  refine lv_istore_n (lv' := [(3, .int (nI n)), (0, .ref x), (1, .int 0), (2, .int (nI n))]) hx hb dJ9_copyOfRangeByte_8 rfl hl (by decide) rfl (fun ls hl => ?_)
  refine lv_iload_n hx hb dJ9_copyOfRangeByte_9 rfl (lv_at hl 0 rfl) ?_
  refine ar_new (atype := .byte) (N := n) hx hb hts q132 hK.1.1 1 rfl (fun U k h => h) (nI_pos (by omega)) (nI_clamp (by omega)) (by show n * 1 ≤ _; omega) (by show 0 + 1 ≤ 1; omega) (by show 0 + n ≤ n; omega) dJ9_copyOfRangeByte_10 (fun H1 hY hz1 ho1 => ?_)
  have hxl : x < s0.heap.size := (Array.getElem?_eq_some_iff.mp hX).1
  have hX1 : H1[x]? = some (arrV (κ.cA 1) 8 (fun j => .int (f j))) := by rw [ho1 x hxl]; exact hX
  refine lv_astore (lv' := [(4, .ref s0.heap.size), (3, .int (nI n)), (0, .ref x), (1, .int 0), (2, .int (nI n))]) hx hb dJ9_copyOfRangeByte_12 hl (by decide) rfl (fun ls hl => ?_)
  refine lv_aload_n hx hb dJ9_copyOfRangeByte_14 rfl (lv_at hl 2 rfl) ?_
  refine lv_iload_n hx hb dJ9_copyOfRangeByte_15 rfl (lv_at hl 3 rfl) ?_
  refine lv_aload hx hb dJ9_copyOfRangeByte_16 (lv_at hl 0 rfl) ?_
  refine lv_iconst (v := 0) hx hb dJ9_copyOfRangeByte_18 (by decide) ?_
  refine lv_aload_n hx hb dJ9_copyOfRangeByte_19 rfl (lv_at hl 2 rfl) ?_
  refine W.alen (n := nI 8) (ty := .byte) hx hb hX1 ((hK.1.1.2 1 _ rfl).1 8 _) (by rw [arrV_size]; rfl) rfl rfl dJ9_copyOfRangeByte_20 ?_
  refine W.eq (g2 := F0 mi 21 ls [.int (nI 8), .int 0, .ref s0.heap.size, .int 0, .ref x]) rfl ?_
  refine lv_iload_n hx hb dJ9_copyOfRangeByte_21 rfl (lv_at hl 3 rfl) ?_
  refine lv_isub hx hb dJ9_copyOfRangeByte_22 ?_
  refine v_eqi (show nI 8 - 0 = nI 8 from Int32.sub_zero _) ?_
  refine lv_iload_n hx hb dJ9_copyOfRangeByte_23 rfl (lv_at hl 1 rfl) ?_
  refine va_mmin (x := nI 8) (y := nI n) hx hb (hml.trans hl.1.symm) hown (hts _ q536) (hts _ q537) (hts _ q79) (hts _ q538) (by show 1 ≤ 1; omega) (Nat.le_of_ble_eq_true rfl) (by show 0 + 1 ≤ 1; omega) (by show 0 + n ≤ n; omega) dJ9_copyOfRangeByte_24 ?_
  refine v_eqi (show (if nI n < nI 8 then nI n else nI 8) = nI n from (by by_cases h : n = 8; (· subst h; rfl); (· exact if_pos (nI_lt (by omega) (by decide))))) ?_
  have hP : va_P κ.D vwCl [(x, .inl (κ.cA 1, 8, .inl f)), (s0.heap.size, .inl (κ.cA 1, n, .inl (fun _ => 0)))] H1 := by
    intro k q hq
    match k, hq with
    | 0, hq => cases hq; exact hX1
    | 1, hq => cases hq; exact hY
    | k + 2, hq => simp at hq
  have hD : va_D (frX x s0.heap.size) [(x, .inl (κ.cA 1, 8, .inl f)), (s0.heap.size, .inl (κ.cA 1, n, .inl (fun _ => 0)))] := by
    refine ⟨fun i j p q hp hq e => ?_, fun k q hq => ?_⟩
    · match i, hp, j, hq with
      | 0, hp, 0, hq => rfl
      | 1, hp, 1, hq => rfl
      | 0, hp, 1, hq => cases hp; cases hq; exact absurd e (by show x ≠ s0.heap.size; omega)
      | 1, hp, 0, hq => cases hp; cases hq; exact absurd e (by show s0.heap.size ≠ x; omega)
      | i + 2, hp, _, _ => simp at hp
      | 0, _, j + 2, hq => simp at hq
      | 1, _, j + 2, hq => simp at hq
    · match k, hq with
      | 0, hq => cases hq; exact Or.inl rfl
      | 1, hq => cases hq; exact Or.inr (Nat.le_refl _)
      | k + 2, hq => simp at hq
  refine va_copyi hx hb (hml.trans hl.1.symm) hown (hts _ q539) (hts _ q541) (hts _ q540) (hts _ q81) hK.1.1 hP hD (va_S.rf (H0 := H1)) 0 1 1 1 rfl rfl rfl rfl rfl (by decide) (by decide) (nI_pos (by omega)) (by rw [nI_clamp (by omega)]; show 0 + n ≤ 8; omega) (by rw [nI_clamp (by omega)]; show 0 + n ≤ n; omega) (fun i hi => hf _) (by show 1 ≤ 1; omega) (by show _ ≤ 60 * 1; decide) dJ9_copyOfRangeByte_27 (fun H2 locs2 hP2 hD2 hS2 => ?_)
  refine lv_aload hx hb dJ9_copyOfRangeByte_30 (lv_at hl 0 rfl) ?_
  have hY2 : H2[s0.heap.size]? = some (arrV (κ.cA 1) n (fun j => .int (if j < n then f j else 0))) := by
    have h := hP2 1 _ rfl
    have h : H2[s0.heap.size]? = some (arrV (κ.cA 1) n (fun j => .int (va_cpy f (fun _ => 0) 0 0 (nI n).toNatClampNeg j))) := h
    rw [h, nI_clamp (by omega)]
    congr 2; funext j; congr 1; unfold va_cpy
    by_cases hj : j < n
    · rw [if_pos ⟨Nat.zero_le _, by omega⟩, if_pos hj]; congr 1; omega
    · rw [if_neg (by omega), if_neg hj]
  have hX2 : H2[x]? = H1[x]? := by
    have h := hP2 0 _ rfl
    have h : H2[x]? = some (arrV (κ.cA 1) 8 (fun j => .int (f j))) := h
    rw [h, hX1]
  refine w_size (fun hZ2 => ?_)
  have hz2 : H2.size = s0.heap.size + 1 := by have h1 := hS2.1; omega
  refine W.widen (k := 1) (n := n) (by omega) (by omega) ?_
  exact W.aret hx hb hr (Or.inr ⟨_, rfl⟩) (Or.inr ⟨_, rfl⟩) (fun t ht hW => ⟨rfl, by rw [ht]; exact hY2, by rw [ht]; exact hz2, fun q hq => by rw [ht]; by_cases e : q = x; (· rw [e, hX2, ho1 x hxl]); (· rw [hS2.2.1 q (by omega) (fun z => by rcases z with z | z <;> omega), ho1 q hq])⟩) hS2.2.2 dJ9_copyOfRangeByte_32 hlk

theorem cr_fit {f : Nat → Int32} {cI : ClassId} (hf : ∀ j, fits .byte (.int (f j)) = true) {i : Nat} {v : Value} (hv : (vp_cell cI (8, .inl f)).slots[i]? = some v) : fits .byte v = true := by
  have h : (arrV cI 8 (fun j => Value.int (f j))).slots[i]? = some v := hv
  have hi : i < 8 := by
    have := (Array.getElem?_eq_some_iff.mp h).1
    rw [arrV_size] at this; exact this
  rw [arrV_read _ _ hi] at h
  cases h
  exact hf i
theorem cr_8 {cI : ClassId} (f : Nat → Int32) : some (arrV cI 8 (fun j => Value.int (f j))) = some (arrV cI 8 (fun j => Value.int (if j < 8 then f j else 0))) := by
  congr 1

set_option maxHeartbeats 4000000 in
theorem metJ9_copyOfRange (l : Launch) (κ : Kg) (x n sz : Nat) (f : Nat → Int32) (hn : n ≤ 8) (hf : ∀ j, fits .byte (.int (f j)) = true) : Met l yJ9_copyOfRange (ws_ yJ9_copyOfRange cJ9_copyOfRange 3 (some (.array .byte))) (rmC 2 1 n) (xP κ (crP κ x sz f) [.ref x, .int 0, .int (nI n)]) (crQ κ n f) 1 n (frX x sz) := by
  refine xM_start RJ9 (by decide) rfl (Nat.le_of_ble_eq_true rfl) ?_
  intro pg ev s0 mi bl me co hx hb hml hown hts hr hlk hnm hK hM ls hl
  have hl : lv_has ls 3 [(0, .ref x), (1, .int 0), (2, .int (nI n))] := hl
  obtain ⟨hsz, hX⟩ := hM
  subst hsz
  refine lv_iload_n hx hb dJ9_copyOfRange_0 rfl (lv_at hl 1 rfl) ?_
  refine lv_if_ne (tgt := 10) hx hb dJ9_copyOfRange_1 (by decide) (fun c_1 => ?_) (fun c_1 => ?_)
  · skip
    exact absurd rfl c_1
  · skip
    refine lv_iload_n hx hb dJ9_copyOfRange_4 rfl (lv_at hl 2 rfl) ?_
    refine lv_aload_n hx hb dJ9_copyOfRange_5 rfl (lv_at hl 0 rfl) ?_
    refine W.alen (n := nI 8) (ty := .byte) hx hb hX ((hK.1.1.2 1 _ rfl).1 8 _) (by rw [arrV_size]; rfl) rfl rfl dJ9_copyOfRange_6 ?_
    refine W.eq (g2 := F0 mi 7 ls [.int (nI 8), .int (nI n)]) rfl ?_
    refine lv_icmp_eq (tgt := 17) hx hb dJ9_copyOfRange_7 (by decide) (fun c_7 => ?_) (fun c_7 => ?_)
    · skip
      refine lv_aload_n hx hb dJ9_copyOfRange_17 rfl (lv_at hl 0 rfl) ?_
      have h8 : n = 8 := (nI_eq (by omega) (by decide)).mp c_7
      subst h8
      have hP : va_P κ.D vwCl [(x, .inl (κ.cA 1, 8, .inl f))] s0.heap := by
        intro k q hq
        match k, hq with
        | 0, hq => cases hq; exact hX
        | k + 1, hq => simp at hq
      have hD : va_D (frX x s0.heap.size) [(x, .inl (κ.cA 1, 8, .inl f))] := by
        refine ⟨fun i j p q hp hq e => ?_, fun k q hq => ?_⟩
        · match i, hp, j, hq with
          | 0, hp, 0, hq => rfl
          | i + 1, hp, _, _ => simp at hp
          | 0, _, j + 1, hq => simp at hq
        · match k, hq with
          | 0, hq => cases hq; exact Or.inl rfl
          | k + 1, hq => simp at hq
      refine va_clone (x := (8, .inl f)) hx hb (hml.trans hl.1.symm) hown (hts _ q531) (hts _ q532) (hts _ q178) (hts _ q179) (hts _ q533) (hK.1.2.1 _ nq534) hK.1.1 hP hD (va_S.rf (H0 := s0.heap)) (fun q h => Or.inr h) 0 1 rfl rfl (hK.1.1.2 1 _ rfl).2 (fun i v hv => cr_fit hf hv) (by decide) (by show _ ≤ 60 * 2; decide) (by show 0 + 1 ≤ 1; omega) (by show 0 + 8 ≤ 8; omega) dJ9_copyOfRange_18 (fun y H1 hK1 hP1 hD1 hS1 => ?_)
      refine w_size (fun hZ => ?_)
      have hX1 : H1[x]? = some (arrV (κ.cA 1) 8 (fun j => .int (f j))) := hP1 0 _ rfl
      have hY1 : H1[y]? = some (arrV (κ.cA 1) 8 (fun j => .int (f j))) := hP1 1 _ rfl
      have hyx : y ≠ x := fun z => absurd (hD1.1 1 0 _ _ rfl rfl z) (by decide)
      have hyl : y < H1.size := (Array.getElem?_eq_some_iff.mp hY1).1
      have hyA : y = x ∨ s0.heap.size ≤ y := hD1.2 1 _ rfl
      have hye : y = s0.heap.size := by rcases hyA with z | z; (· exact absurd z hyx); (· omega)
      subst hye
      refine va_castE hx hb hown (hts _ q535) ⟨_, hY1, rfl, (hK.1.1.2 1 _ rfl).2⟩ dJ9_copyOfRange_21 ?_
      refine W.widen (k := 1) (n := 8) (by omega) (by omega) ?_
      exact W.aret hx hb hr (Or.inr ⟨_, rfl⟩) (Or.inr ⟨_, rfl⟩) (fun t ht hW => ⟨rfl, by rw [ht, hY1]; exact cr_8 f, by rw [ht]; omega, fun q hq => by rw [ht]; by_cases e : q = x; (· rw [e, hX1, hX]); (· exact hS1.2.1 q hq (fun z => by rcases z with z | z <;> omega))⟩) hS1.2.2 dJ9_copyOfRange_24 hlk
    · skip
      refine lv_aload_n hx hb dJ9_copyOfRange_10 rfl (lv_at hl 0 rfl) ?_
      refine lv_iload_n hx hb dJ9_copyOfRange_11 rfl (lv_at hl 1 rfl) ?_
      refine lv_iload_n hx hb dJ9_copyOfRange_12 rfl (lv_at hl 2 rfl) ?_
      refine x_called (x_runS (n := 3) (As := [.ref x, .int 0, .int (nI n)]) (rest := []) hx hb hml hown hts (metJ9_copyOfRangeByte l κ x n s0.heap.size f hn hf) q625 q626 q80 q627 (by decide +kernel) (by decide) (by decide) rfl hK ⟨rfl, hX⟩ hl.1 (Nat.le_of_ble_eq_true rfl) rfl dJ9_copyOfRange_13 ⟨by show 0 + 1 ≤ 1; omega, by show 0 + n ≤ n; omega⟩) (fun v st t L hst hq hvm hL => ?_)
      obtain ⟨hv, hq2, hq3, hq4⟩ := hq
      cases hv
      rw [hst] at hq2 hq3 hq4
      refine W.eq (g2 := F0 mi 16 ls [.ref s0.heap.size]) (by rw [hst]; rfl) ?_
      refine W.widen (k := 1) (n := n) (by omega) (by omega) ?_
      exact W.aret hx hb hr (Or.inr ⟨_, rfl⟩) (Or.inr ⟨_, rfl⟩) (fun t2 ht hW => ⟨rfl, by rw [ht]; exact hq2, by rw [ht]; exact hq3, fun q hq => by rw [ht]; exact hq4 q hq⟩) (fun q hq => hL q hq) dJ9_copyOfRange_16 hlk
