/-! java.lang.String: equals, hashCode. By tools/gen_s4.py -/
set_option maxRecDepth 100000
section S4
variable {p : Program} {l : Launch} {e : Env} {R : Room} {s : State} {m : MethodId} {args : Array Value} {below : List Frame} {meth : Method} {c : Code} {H : Heap} {locs : List Loc} {cells slots : Nat} {Q : State → Prop} {pc nL : Nat} {rest : List Value}
/-- a loop that counts up to n, over a heap that stays -/
theorem w_loop {n : Nat} {Inv : Nat → Prop} {lv : Nat → List (Nat × Value)} {ls : Array Slot} (k0 : Nat) (h0 : k0 ≤ n) (hI : Inv k0) (hl : lv_has ls nL (lv k0))
    (body : ∀ (k : Nat) (ls : Array Slot), k ≤ n → Inv k → lv_has ls nL (lv k) → (∀ ls : Array Slot, k < n → Inv (k + 1) → lv_has ls nL (lv (k + 1)) → W p l e R s m args below meth c H locs cells slots Q (F0 m pc ls rest)) → W p l e R s m args below meth c H locs cells slots Q (F0 m pc ls rest)) : W p l e R s m args below meth c H locs cells slots Q (F0 m pc ls rest) := by
  have : ∀ (f k : Nat) (ls : Array Slot), n - k < f → k ≤ n → Inv k → lv_has ls nL (lv k) → W p l e R s m args below meth c H locs cells slots Q (F0 m pc ls rest) := by
    intro f
    induction f with
    | zero => intro k ls h; omega
    | succ f ih => exact fun k ls h hk hI hl => body k ls hk hI hl (fun ls h2 hI hl => ih (k + 1) ls (by omega) (by omega) hI hl)
  exact this (n - k0 + 1) k0 ls (by omega) h0 hI hl
end S4
/-- the text of n letters is the constant i -/
def eqT (n : Nat) (t : Nat → Int32) (i : Nat) : Bool := decide (n = sLen i ∧ ∀ j, j < n → t j = sAt i j)
theorem sLen_le : ∀ i, i < 20 → sLen i ≤ 8 := by decide +kernel
theorem eqT_t {n : Nat} {t : Nat → Int32} {i : Nat} (h1 : n = sLen i) (h2 : ∀ j, j < n → t j = sAt i j) : eqT n t i = true := decide_eq_true ⟨h1, h2⟩
theorem eqT_n {n : Nat} {t : Nat → Int32} {i : Nat} (h1 : ¬ n = sLen i) : eqT n t i = false := decide_eq_false fun z => h1 z.1
theorem eqT_f {n : Nat} {t : Nat → Int32} {i j : Nat} (hj : j < n) (h : ¬ t j = sAt i j) : eqT n t i = false := decide_eq_false fun z => h (z.2 j hj)
theorem eqT_e {n : Nat} {t : Nat → Int32} {i : Nat} (h : eqT n t i = true) : n = sLen i ∧ ∀ j, j < n → t j = sAt i j := of_decide_eq_true h
/-- the hash of the first k letters -/
def hsh (t : Nat → Int32) : Nat → Int32
  | 0 => 0
  | k + 1 => 31 * hsh t k + (t k &&& 255)
theorem hsh_ext {t t' : Nat → Int32} : ∀ {k : Nat}, (∀ j, j < k → t j = t' j) → hsh t k = hsh t' k
  | 0, _ => rfl
  | k + 1, h => by rw [hsh, hsh, hsh_ext (fun j hj => h j (by omega)), h k (by omega)]

set_option maxHeartbeats 4000000 in
theorem metJ10_equals (l : Launch) (κ : Kg) (v n i : Nat) (t : Nat → Int32) (hn : n ≤ 8) (hi : i < 20) : Met l yJ10_equals (ws_ yJ10_equals cJ10_equals 3 (some .boolean)) (rmC 0 0 0) (xP κ (fun H => H[v]? = some (arrV (κ.cA 1) n (fun j => .int (t j)))) [.ref v, .ref (κ.sV i)]) (rQ (some (.int (b2 (eqT n t i))))) 0 0 noA := by
  refine xM_start RJ10 (by decide) rfl (Nat.le_of_ble_eq_true rfl) ?_
  intro pg ev s0 mi bl me co hx hb hml hown hts hr hlk hnm hK hM ls hl
  have hl : lv_has ls 3 [(0, .ref v), (1, .ref (κ.sV i))] := hl
  have hA := BA.of_arr hK.1.1 hM
  have hB := (hK.2.1.2.2.2.2.2 i hi).2.1
  have hs8 := sLen_le i hi
  refine lv_aload_n hx hb dJ10_equals_0 rfl (lv_at hl 0 rfl) ?_
  refine ba_len hx hb hA dJ10_equals_1 ?_
  refine lv_aload_n hx hb dJ10_equals_2 rfl (lv_at hl 1 rfl) ?_
  refine ba_len hx hb hB dJ10_equals_3 ?_
  refine lv_icmp_ne (tgt := 34) hx hb dJ10_equals_4 (by decide) (fun c_4 => ?_) (fun c_4 => ?_)
  · skip
    have hns : ¬ n = sLen i := fun z => c_4 (by rw [z])
    refine lv_iconst (v := 0) hx hb dJ10_equals_34 (by decide) ?_
    exact W.zret hx hb hr rfl (fun t ht hW => ⟨by rw [eqT_n hns]; rfl, ht⟩) (fun q h => by cases h) dJ10_equals_35 hlk
  · skip
    have hns : n = sLen i := (nI_eq (by omega) (by omega)).mp c_4
    refine lv_iconst (v := 0) hx hb dJ10_equals_7 (by decide) ?_
    refine lv_istore_n (lv' := [(2, .int 0), (0, .ref v), (1, .ref (κ.sV i))]) hx hb dJ10_equals_8 rfl hl (by decide) rfl (fun ls hl => ?_)
    refine w_loop (n := n) (nL := 3) (Inv := fun k => ∀ j, j < k → t j = sAt i j) (lv := fun k => [(2, .int (nI (k))), (0, .ref v), (1, .ref (κ.sV i))]) 0 (by omega) (fun j hj => absurd hj (Nat.not_lt_zero j)) (lv_sub hl [0, 1, 2] rfl) (fun k ls hk hI hl ih => ?_)
    have hl : lv_has ls 3 [(2, .int (nI (k))), (0, .ref v), (1, .ref (κ.sV i))] := hl
    refine lv_iload_n hx hb dJ10_equals_9 rfl (lv_at hl 0 rfl) ?_
    refine lv_aload_n hx hb dJ10_equals_10 rfl (lv_at hl 1 rfl) ?_
    refine ba_len hx hb hA dJ10_equals_11 ?_
    refine lv_icmp_ge (tgt := 32) hx hb dJ10_equals_12 (by decide) (fun c_12 => ?_) (fun c_12 => ?_)
    · skip
      refine lv_iconst (v := 1) hx hb dJ10_equals_32 (by decide) ?_
      exact W.zret hx hb hr rfl (fun t ht hW => ⟨by rw [eqT_t hns (fun j hj => hI j (by have := (nI_leI (a := n) (b := k) (by omega) (by omega)).mp c_12; omega))]; rfl, ht⟩) (fun q h => by cases h) dJ10_equals_33 hlk
    · skip
      refine lv_aload_n hx hb dJ10_equals_15 rfl (lv_at hl 1 rfl) ?_
      refine lv_iload_n hx hb dJ10_equals_16 rfl (lv_at hl 0 rfl) ?_
      have hkn : k < n := Nat.lt_of_not_le (fun z => c_12 (nI_le z (by omega)))
      refine ba_ld hx hb hA hkn (by omega) dJ10_equals_17 ?_
      refine lv_aload_n hx hb dJ10_equals_18 rfl (lv_at hl 2 rfl) ?_
      refine lv_iload_n hx hb dJ10_equals_19 rfl (lv_at hl 0 rfl) ?_
      refine ba_ld hx hb hB (by omega) (by omega) dJ10_equals_20 ?_
      refine lv_icmp_eq (tgt := 26) hx hb dJ10_equals_21 (by decide) (fun c_21 => ?_) (fun c_21 => ?_)
      · skip
        refine lv_iinc (v := nI (k + 1)) (lv' := [(2, .int (nI (k + 1))), (0, .ref v), (1, .ref (κ.sV i))]) hx hb dJ10_equals_26 hl (k := 0) rfl (nI_1 k) (by decide) rfl (fun ls hl => ?_)
        refine lv_goto (tgt := 9) hx hb dJ10_equals_29 (by decide) ?_
        exact ih ls (by omega) (fun j hj => by rcases Nat.lt_succ_iff_lt_or_eq.mp hj with z | z; (· exact hI j z); (· subst z; exact c_21)) (lv_sub hl [0, 1, 2] rfl)
      · skip
        refine lv_iconst (v := 0) hx hb dJ10_equals_24 (by decide) ?_
        exact W.zret hx hb hr rfl (fun t ht hW => ⟨by rw [eqT_f hkn c_21]; rfl, ht⟩) (fun q h => by cases h) dJ10_equals_25 hlk

set_option maxHeartbeats 4000000 in
theorem metJ5_equals (l : Launch) (κ : Kg) (w v n i : Nat) (t : Nat → Int32) (h z : Int32) (hn : n ≤ 8) (hi : i < 20) (hwB : κ.base ≤ w) : Met l yJ5_equals (ws_ yJ5_equals cJ5_equals 3 (some .boolean)) (rmC 1 0 0) (xP κ (WS κ w v n t h z) [.ref w, .ref (κ.sK i)]) (rQ (some (.int (b2 (eqT n t i))))) 0 0 noA := by
  refine xM_start RJ5 (by decide) rfl (Nat.le_of_ble_eq_true rfl) ?_
  intro pg ev s0 mi bl me co hx hb hml hown hts hr hlk hnm hK hM ls hl
  have hl : lv_has ls 3 [(0, .ref w), (1, .ref (κ.sK i))] := hl
  obtain ⟨⟨hh, zz, hC⟩, hBC, hk1, hk2⟩ := (hK.2.1.2.2.2.2.2 i hi)
  have hC : t_OC (κ.sK i) (κ.D.1 14) 4 (κ.D.2 14) s0.heap (vp_V [.ref (κ.sV i), .int 0, .int hh, .int zz]) := hC
  refine lv_aload_n hx hb dJ5_equals_0 rfl (lv_at hl 0 rfl) ?_
  refine lv_aload_n hx hb dJ5_equals_1 rfl (lv_at hl 1 rfl) ?_
  refine lv_acmp_ne (rx := some w) (ry := some (κ.sK i)) (tgt := 7) hx hb dJ5_equals_2 (by decide) (fun _ => ?_) (fun h => absurd (Option.some.inj h) (by omega))
  refine lv_aload_n hx hb dJ5_equals_7 rfl (lv_at hl 1 rfl) ?_
  refine va_instE hx hb hown (hts _ q738) (oc_recv hK.1.1 rfl hC) dJ5_equals_8 ?_
  refine lv_if_eq (tgt := 54) hx hb dJ5_equals_11 (by decide) (fun c_11 => ?_) (fun c_11 => ?_)
  · skip
    exact absurd c_11 (by decide)
  · skip
    refine lv_aload_n hx hb dJ5_equals_14 rfl (lv_at hl 1 rfl) ?_
    refine va_castE hx hb hown (hts _ q738) (oc_recv hK.1.1 rfl hC) dJ5_equals_15 ?_
    refine lv_astore_n (lv' := [(2, .ref (κ.sK i)), (0, .ref w), (1, .ref (κ.sK i))]) hx hb dJ5_equals_18 rfl hl (by decide) rfl (fun ls hl => ?_)
    refine x_gets (v := .int 1) hx hb hK.2.1.1 hown hts q631 (fun x h => h) dJ5_equals_19 ?_
    refine lv_if_eq (tgt := 36) hx hb dJ5_equals_22 (by decide) (fun c_22 => ?_) (fun c_22 => ?_)
    · skip
      exact absurd c_22 (by decide)
    · skip
      refine lv_aload_n hx hb dJ5_equals_25 rfl (lv_at hl 1 rfl) ?_
      refine ob_get (C := RJ5) (T := TJ5) (N := 4) (ci := 14) (v := .int 0) hx hb hts in_J5 hown hK.1.1 hM.1 rfl 1 (by decide) q646 (fun x h => h) rfl dJ5_equals_26 ?_
      refine lv_aload_n hx hb dJ5_equals_29 rfl (lv_at hl 0 rfl) ?_
      refine oc_get (C := RJ5) (T := TJ5) (N := 4) (ci := 14) (v := .int 0) hx hb hts in_J5 hown hK.1.1 hC rfl 1 (by decide) q646 (fun x h => h) rfl dJ5_equals_30 ?_
      refine lv_icmp_ne (tgt := 54) hx hb dJ5_equals_33 (by decide) (fun c_33 => ?_) (fun c_33 => ?_)
      · skip
        exact absurd rfl c_33
      · skip
        refine lv_aload_n hx hb dJ5_equals_36 rfl (lv_at hl 1 rfl) ?_
        refine ob_get (C := RJ5) (T := TJ5) (N := 4) (ci := 14) (v := .ref v) hx hb hts in_J5 hown hK.1.1 hM.1 rfl 0 (by decide) q645 (fun x h => h) rfl dJ5_equals_37 ?_
        refine lv_aload_n hx hb dJ5_equals_40 rfl (lv_at hl 0 rfl) ?_
        refine oc_get (C := RJ5) (T := TJ5) (N := 4) (ci := 14) (v := .ref (κ.sV i)) hx hb hts in_J5 hown hK.1.1 hC rfl 0 (by decide) q645 (fun x h => h) rfl dJ5_equals_41 ?_
        refine ro_call (x_runS (n := 2) (As := [.ref v, .ref (κ.sV i)]) (rest := []) hx hb hml hown hts (metJ10_equals l κ v n i t hn hi) q739 q740 q82 q741 (by decide +kernel) (by decide) (by decide) rfl hK hM.2 hl.1 (Nat.le_of_ble_eq_true rfl) rfl dJ5_equals_44 ⟨Nat.zero_le _, Nat.zero_le _⟩) ?_
        refine lv_B_eq (tgt := 54) hx hb dJ5_equals_47 (by decide) (fun c_47 => ?_) (fun c_47 => ?_)
        · skip
          refine lv_iconst (v := 0) hx hb dJ5_equals_54 (by decide) ?_
          exact W.zret hx hb hr rfl (fun t ht hW => ⟨by rw [c_47]; rfl, ht⟩) (fun q h => by cases h) dJ5_equals_55 hlk
        · skip
          refine lv_iconst (v := 1) hx hb dJ5_equals_50 (by decide) ?_
          refine lv_goto (tgt := 55) hx hb dJ5_equals_51 (by decide) ?_
          exact W.zret hx hb hr rfl (fun t ht hW => ⟨by rw [c_47]; rfl, ht⟩) (fun q h => by cases h) dJ5_equals_55 hlk
