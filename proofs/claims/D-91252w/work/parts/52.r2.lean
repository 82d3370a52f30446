/-! READER.next: laws of tokens, rows for writes into the reader. Own work. -/
set_option maxRecDepth 100000
theorem rn_lt {τ : Tp} {P : Int32 → Bool} (hP : P (-1) = false) {p k : Nat} (hk : k ≤ rn τ P p) (h : P (he τ (p + k)) = true) : k < rn τ P p := by
  rcases Nat.lt_or_ge k (rn τ P p) with h1 | h1
  · exact h1
  · have e : rn τ P p = k := by omega
    rw [rn_end hP k p e] at h; cases h
theorem rn_ex {τ : Tp} {P : Int32 → Bool} {p k : Nat} (hk : k ≤ rn τ P p) (h : P (he τ (p + k)) = false) : rn τ P p = k := by
  rcases Nat.lt_or_ge k (rn τ P p) with h1 | h1
  · rw [rn_at h1] at h; cases h
  · omega
theorem isSp_1 {x : Int32} (h : x = 32) : isSp x = true := by subst h; decide
theorem isSp_2 {x : Int32} (h : x = 10) : isSp x = true := by subst h; decide
theorem isSp_f {x : Int32} (h : ¬ x = 32) (h2 : ¬ x = 10) : isSp x = false := by simp [isSp, h, h2]
theorem isL.c {c : Int32} (h : isL c) : (c.toUInt32 % 65536).toInt32 = c := by
  obtain ⟨k, hk, rfl⟩ := h
  revert k; decide +kernel
theorem ws_le {τ : Tp} {p : Nat} (hp : p ≤ τ.1) : ws τ p ≤ τ.1 := by
  have := rn_le (τ := τ) (P := isSp) p
  unfold ws; omega
theorem tl_le {τ : Tp} {p : Nat} (hp : p ≤ τ.1) : ws τ p + tl τ p ≤ τ.1 := by
  have h1 := ws_le hp
  have := rn_le (τ := τ) (P := isLt) (ws τ p)
  unfold tl; omega
theorem dn_le {τ : Tp} {p : Nat} (hp : p ≤ τ.1) : ws τ p + dn τ p ≤ τ.1 := by
  have h1 := ws_le hp
  have := rn_le (τ := τ) (P := isDg) (ws τ p)
  unfold dn; omega
theorem tk_end {τ : Tp} {p : Nat} (h : he τ (ws τ p) < 0) : ts τ p = 0 ∧ te τ p = ws τ p := by unfold ts te; simp only [if_pos h, and_self]
theorem tk_w3 {τ : Tp} {p : Nat} (h : ¬ he τ (ws τ p) < 0) (h1 : isLt (he τ (ws τ p)) = true) (h2 : 8 < tl τ p) : ts τ p = 3 ∧ te τ p = ws τ p := by unfold ts te; simp only [if_neg h, if_pos h1, if_pos h2, and_self]
theorem tk_w {τ : Tp} {p : Nat} (h : ¬ he τ (ws τ p) < 0) (h1 : isLt (he τ (ws τ p)) = true) (h2 : ¬ 8 < tl τ p) : ts τ p = 1 ∧ te τ p = ws τ p + tl τ p := by unfold ts te; simp only [if_neg h, if_pos h1, if_neg h2, and_self]
theorem tk_n3 {τ : Tp} {p : Nat} (h : ¬ he τ (ws τ p) < 0) (h1 : isLt (he τ (ws τ p)) = false) (h2 : isDg (he τ (ws τ p)) = true) (h3 : 7 < dn τ p ∨ isLt (he τ (ws τ p + dn τ p)) = true) : ts τ p = 3 ∧ te τ p = ws τ p := by unfold ts te; simp only [if_neg h, h1, if_pos h2, if_pos h3, Bool.false_eq_true, if_false, and_self]
theorem tk_n {τ : Tp} {p : Nat} (h : ¬ he τ (ws τ p) < 0) (h1 : isLt (he τ (ws τ p)) = false) (h2 : isDg (he τ (ws τ p)) = true) (h3 : ¬ (7 < dn τ p ∨ isLt (he τ (ws τ p + dn τ p)) = true)) : ts τ p = 2 ∧ te τ p = ws τ p + dn τ p := by unfold ts te; simp only [if_neg h, h1, if_pos h2, if_neg h3, Bool.false_eq_true, if_false, and_self]
theorem tk_s {τ : Tp} {p : Nat} (h : ¬ he τ (ws τ p) < 0) (h1 : isLt (he τ (ws τ p)) = false) (h2 : isDg (he τ (ws τ p)) = false) (h3 : isSg (he τ (ws τ p)) = true) : ts τ p = he τ (ws τ p) ∧ te τ p = ws τ p + 1 := by unfold ts te; simp only [if_neg h, h1, h2, if_pos h3, Bool.false_eq_true, if_false, and_self]
theorem tk_b {τ : Tp} {p : Nat} (h : ¬ he τ (ws τ p) < 0) (h1 : isLt (he τ (ws τ p)) = false) (h2 : isDg (he τ (ws τ p)) = false) (h3 : isSg (he τ (ws τ p)) = false) : ts τ p = 3 ∧ te τ p = ws τ p := by unfold ts te; simp only [if_neg h, h1, h2, h3, Bool.false_eq_true, if_false, and_self]
theorem ixC_sg : ∀ x, x < 256 → (isSg (nI x) = !decide (ixC x < 0)) := by decide +kernel
theorem isSg_12 {x : Int32} (h : isSg x = true) : ¬ x = 1 ∧ ¬ x = 2 ∧ ¬ x = 0 ∧ ¬ x = 3 := by
  refine ⟨?_, ?_, ?_, ?_⟩ <;> (intro z; subst z; revert h; decide)
section R2
variable {p : Program} {l : Launch} {e : Env} {R : Room} {s : State} {m : MethodId} {args : Array Value} {below : List Frame} {meth : Method} {c : Code} {H : Heap} {locs : List Loc} {cells slots : Nat} {Q : State → Prop}
variable {cc : ByteArray} {pc nL : Nat} {ls : Array Slot} {rest : List Value} {κ : Kg} {o r : Nat} {τ : Tp}
/-- a loop that counts up to n -/
theorem w_loopH {n : Nat} {Inv : Nat → Heap → List Loc → Prop} {lv : Nat → List (Nat × Value)} {ls : Array Slot} (k0 : Nat) (h0 : k0 ≤ n) (hI : Inv k0 H locs) (hl : lv_has ls nL (lv k0))
    (body : ∀ (k : Nat) (ls : Array Slot) (H : Heap) (locs : List Loc), k ≤ n → Inv k H locs → lv_has ls nL (lv k) → (∀ (ls : Array Slot) (H : Heap) (locs : List Loc), k < n → Inv (k + 1) H locs → lv_has ls nL (lv (k + 1)) → W p l e R s m args below meth c H locs cells slots Q (F0 m pc ls rest)) → W p l e R s m args below meth c H locs cells slots Q (F0 m pc ls rest)) : W p l e R s m args below meth c H locs cells slots Q (F0 m pc ls rest) := by
  have : ∀ (f k : Nat) (ls : Array Slot) (H : Heap) (locs : List Loc), n - k < f → k ≤ n → Inv k H locs → lv_has ls nL (lv k) → W p l e R s m args below meth c H locs cells slots Q (F0 m pc ls rest) := by
    intro f
    induction f with
    | zero => intro k ls H locs h; omega
    | succ f ih => exact fun k ls H locs h hk hI hl => body k ls H locs hk hI hl (fun ls H locs h2 hI hl => ih (k + 1) ls H locs (by omega) (by omega) hI hl)
  exact this (n - k0 + 1) k0 ls H locs (by omega) h0 hI hl
/-- what the reader's methods may write -/
def rFr (r sz : Nat) : Nat → Prop := fun q => q = r ∨ sz ≤ q
/-- where the reader's methods stand -/
def RM (κ : Kg) (o : Nat) (τ : Tp) (r : Nat) (s : State) (V : Nat → Value) (H : Heap) (locs : List Loc) : Prop := KZ κ s H ∧ TW κ o τ H ∧ t_OB r (κ.D.1 4) 8 (κ.D.2 4) H V ∧ va_S (rFr r s.heap.size) s.heap H locs
theorem rd_put (hexec : p.tables.exec = Jvm.exec) (hb : c.code = cc) {V V' : Nat → Value} {index : Nat} (hts : ∀ w ∈ lw_all, w.before args s = true) (hown : s.vm.findClass RX5 = some m.cls) (hM : RM κ o τ r s V H locs) (hro : o + 1 < r) (hrB : κ.base ≤ r) (k : Nat) (hk : k < 8) (hlink : (Cond.fieldLink RX5 index RX5 (TX5 k).2.1 (TX5 k).2.2.1) ∈ lw_all) (hd : (TX5 k).1 = RX5) (hfin : (TX5 k).2.2.2 = false) {v : Value} (hn : narrow (tyX5 k) v = v) (hfit : fits (tyX5 k) v = true) (hV : ∀ j, j < 8 → updV V k v j = V' j)
    (hdg : decode cc pc = .ok (.putfield index, 3)) (kk : ∀ (H1 : Heap) (locs1 : List Loc), RM κ o τ r s V' H1 locs1 → H1.size = H.size → (∀ q : Nat, q ≠ r → H1[q]? = H[q]?) → W p l e R s m args below meth c H1 locs1 cells slots Q (F0 m (pc + 3) ls rest)) : W p l e R s m args below meth c H locs cells slots Q (F0 m pc ls (v :: .ref r :: rest)) := by
  obtain ⟨hK, hT, hO, hS⟩ := hM
  refine ob_put (C := RX5) (T := TX5) (N := 8) (ci := 4) (v := v) hexec hb hts in_X5 tyX5 tyX5_ok nmX5 hown hK.1.1 hO hS (Or.inl rfl) rfl k hk hlink (fun x h => by rw [hd] at h; exact h) hfin hn hfit hdg (fun H1 locs1 hO1 hq hz hS1 => ?_)
  exact kk H1 locs1 ⟨hK.to (fun q hq2 => hq q (by omega)) (by have := hK.2.2; omega), hT.kept (hq o (by omega)) (hq (o + 1) (by omega)), hO1.to hV, hS1⟩ hz hq
theorem RM.grow {V : Nat → Value} {H1 : Heap} {L : List Loc} (h : RM κ o τ r s V H locs) (hr : r < s.heap.size) (ho : o + 1 < s.heap.size) (hsz : κ.base ≤ s.heap.size) (hz : s.heap.size ≤ H1.size) (hq : ∀ q : Nat, q < s.heap.size → H1[q]? = H[q]?) (hL : ∀ x ∈ L, s.heap.size ≤ x.base) : RM κ o τ r s V H1 (locs ++ L) := by
  obtain ⟨hK, hT, hO, hS⟩ := h
  refine ⟨hK.to (fun q h => hq q (by omega)) (by omega), hT.kept (hq o (by omega)) (hq _ ho), hO.kept (hq r hr), hz, fun q h1 h2 => by rw [hq q h1]; exact hS.2.1 q h1 h2, fun x hx => ?_⟩
  rcases List.mem_append.mp hx with h | h
  · exact hS.2.2 x h
  · exact Or.inr (hL x h)
end R2
def rV (a so pl nu tm : Int32) (w al o : Nat) : Nat → Value := vp_V [.int a, .int so, .int pl, .int nu, .int tm, .ref w, .ref al, .ref o]
/-- the reader stands at the token at p; w its word -/
def RT (κ : Kg) (o : Nat) (τ : Tp) (r p : Nat) (tm : Int32) (w al : Nat) (H : Heap) : Prop := TW κ o τ H ∧ (∃ nu, t_OB r (κ.D.1 4) 8 (κ.D.2 4) H (rV (nI (te τ p)) (ts τ p) (nI (ws τ p)) nu tm w al o) ∧ (ts τ p = 2 → nu = tn τ p)) ∧ (ts τ p = 1 → κ.base ≤ w ∧ ∃ v h z, WS κ w v (tl τ p) (lt τ p) h z H ∧ HO (tl τ p) (lt τ p) h z ∧ v ≠ r) ∧ p ≤ τ.1 ∧ w < H.size
/-- next -/
def nxQ (κ : Kg) (o : Nat) (τ : Tp) (r p : Nat) (tm : Int32) (w al : Nat) : Array Value → State → Outcome → State → Prop := fun _ st oc t => oc = .returned none ∧ (∃ w', RT κ o τ r p tm w' al t.heap ∧ (w' = w ∨ st.heap.size ≤ w')) ∧ st.heap.size ≤ t.heap.size ∧ t.heap.size ≤ st.heap.size + 4 ∧ ∀ q : Nat, q < st.heap.size → q ≠ r → t.heap[q]? = st.heap[q]?
