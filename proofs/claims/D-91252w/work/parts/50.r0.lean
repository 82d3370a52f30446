/-! THE READER: tape, tokens by position, the reader's object. Own work. -/
set_option maxRecDepth 100000
/-- a tape: how much of it, its bytes -/
abbrev Tp : Type := Nat × (Nat → Int32)
def he (τ : Tp) (p : Nat) : Int32 := if p < τ.1 then τ.2 p &&& 255 else -1
def isLt (x : Int32) : Bool := !decide (x < 97) && !decide (122 < x)
def isDg (x : Int32) : Bool := !decide (x < 48) && !decide (57 < x)
def isSp (x : Int32) : Bool := decide (x = 32) || decide (x = 10)
def isSg (x : Int32) : Bool := decide (x = 59) || decide (x = 40) || decide (x = 41) || decide (x = 60) || decide (x = 62) || decide (x = 61) || decide (x = 43) || decide (x = 45)
def runF (τ : Tp) (P : Int32 → Bool) : Nat → Nat → Nat
  | 0, _ => 0
  | k + 1, p => if P (he τ p) then runF τ P k (p + 1) + 1 else 0
/-- how many of a kind stand from p on -/
def rn (τ : Tp) (P : Int32 → Bool) (p : Nat) : Nat := runF τ P (τ.1 - p) p
theorem he_out {τ : Tp} {p : Nat} (h : ¬ p < τ.1) : he τ p = -1 := if_neg h
theorem rn_eq {τ : Tp} {P : Int32 → Bool} (hP : P (-1) = false) (p : Nat) : rn τ P p = if P (he τ p) then rn τ P (p + 1) + 1 else 0 := by
  unfold rn
  by_cases h : p < τ.1
  · obtain ⟨d, hd⟩ : ∃ d, τ.1 - p = d + 1 := ⟨τ.1 - p - 1, by omega⟩
    rw [hd, runF, show τ.1 - (p + 1) = d by omega]
  · rw [he_out h, hP, show τ.1 - p = 0 by omega]
    rfl
theorem runF_le {τ : Tp} {P : Int32 → Bool} : ∀ (k p : Nat), runF τ P k p ≤ k
  | 0, _ => Nat.le_refl _
  | k + 1, p => by
    rw [runF]
    split
    · have := runF_le (τ := τ) (P := P) k (p + 1); omega
    · omega
theorem rn_le {τ : Tp} {P : Int32 → Bool} (p : Nat) : rn τ P p ≤ τ.1 - p := runF_le _ _
theorem runF_at {τ : Tp} {P : Int32 → Bool} : ∀ (k p j : Nat), j < runF τ P k p → P (he τ (p + j)) = true
  | 0, _, _, h => by simp [runF] at h
  | k + 1, p, j, h => by
    rw [runF] at h
    split at h
    · rename_i h1
      cases j with
      | zero => exact h1
      | succ j =>
        have := runF_at (τ := τ) (P := P) k (p + 1) j (by omega)
        rw [show p + (j + 1) = p + 1 + j by omega]; exact this
    · omega
theorem rn_at {τ : Tp} {P : Int32 → Bool} {p j : Nat} (h : j < rn τ P p) : P (he τ (p + j)) = true := runF_at _ _ _ h
theorem rn_end {τ : Tp} {P : Int32 → Bool} (hP : P (-1) = false) : ∀ (d p : Nat), rn τ P p = d → P (he τ (p + d)) = false
  | 0, p, h => by
    rw [rn_eq hP] at h
    cases h2 : P (he τ p) with
    | false => rfl
    | true => rw [h2] at h; simp at h
  | d + 1, p, h => by
    rw [rn_eq hP] at h
    cases h2 : P (he τ p) with
    | false => rw [h2] at h; simp at h
    | true =>
      rw [h2] at h
      have := rn_end hP d (p + 1) (by simpa using h)
      rw [show p + (d + 1) = p + 1 + d by omega]; exact this
/-- n of a kind, then none -/
theorem rn_is {τ : Tp} {P : Int32 → Bool} (hP : P (-1) = false) : ∀ (n p : Nat), (∀ j, j < n → P (he τ (p + j)) = true) → P (he τ (p + n)) = false → rn τ P p = n
  | 0, p, _, h => by rw [rn_eq hP, show P (he τ p) = false from h]; rfl
  | n + 1, p, h1, h2 => by
    rw [rn_eq hP, show P (he τ p) = true from h1 0 (by omega), if_pos rfl, rn_is hP n (p + 1) (fun j hj => by have := h1 (j + 1) (by omega); rw [show p + 1 + j = p + (j + 1) by omega]; exact this) (by rw [show p + 1 + n = p + (n + 1) by omega]; exact h2)]
theorem he_lt {τ : Tp} {p : Nat} (h : ¬ he τ p < 0) : p < τ.1 ∧ ∃ j : Nat, j < 256 ∧ he τ p = nI j := by
  by_cases hp : p < τ.1
  · refine ⟨hp, ?_⟩
    obtain ⟨j, hj, e⟩ := pk_andE (τ.2 p) (m := 255) 8 (by decide)
    exact ⟨j, by omega, by unfold he; rw [if_pos hp]; exact e⟩
  · rw [he_out hp] at h; exact absurd (by decide) h
theorem isLt_n : isLt (-1) = false := by decide
theorem isDg_n : isDg (-1) = false := by decide
theorem isSp_n : isSp (-1) = false := by decide
theorem isLt_p {x : Int32} (h : isLt x = true) : ¬ x < 0 := by
  intro z
  simp only [isLt, Bool.and_eq_true, Bool.not_eq_true', decide_eq_false_iff_not] at h
  refine h.1 ?_
  rw [Int32.lt_iff_toInt_lt] at z ⊢
  have : (97 : Int32).toInt = 97 := by decide
  have : (0 : Int32).toInt = 0 := by decide
  omega
theorem isDg_p {x : Int32} (h : isDg x = true) : ¬ x < 0 := by
  intro z
  simp only [isDg, Bool.and_eq_true, Bool.not_eq_true', decide_eq_false_iff_not] at h
  refine h.1 ?_
  rw [Int32.lt_iff_toInt_lt] at z ⊢
  have : (48 : Int32).toInt = 48 := by decide
  have : (0 : Int32).toInt = 0 := by decide
  omega
/-- a letter on the tape is a letter of a text -/
theorem isLt_L {τ : Tp} {p : Nat} (h : isLt (he τ p) = true) : isL (he τ p) := by
  obtain ⟨hp, j, hj, e⟩ := he_lt (isLt_p h)
  rw [e] at h
  have : ∀ j, j < 256 → isLt (nI j) = true → j < 128 := by decide +kernel
  exact ⟨j, this j hj h, e⟩
/-! tokens -/
def ws (τ : Tp) (p : Nat) : Nat := p + rn τ isSp p
def tl (τ : Tp) (p : Nat) : Nat := rn τ isLt (ws τ p)
def dn (τ : Tp) (p : Nat) : Nat := rn τ isDg (ws τ p)
def lt (τ : Tp) (p : Nat) : Nat → Int32 := cutT (tl τ p) (fun j => he τ (ws τ p + j))
def nmF (τ : Tp) (q : Nat) : Nat → Int32
  | 0 => 0
  | k + 1 => 10 * nmF τ q k + he τ (q + k) - 48
def tn (τ : Tp) (p : Nat) : Int32 := nmF τ (ws τ p) (dn τ p)
def ts (τ : Tp) (p : Nat) : Int32 :=
  if he τ (ws τ p) < 0 then 0 else if isLt (he τ (ws τ p)) then (if 8 < tl τ p then 3 else 1)
  else if isDg (he τ (ws τ p)) then (if 7 < dn τ p ∨ isLt (he τ (ws τ p + dn τ p)) = true then 3 else 2)
  else if isSg (he τ (ws τ p)) then he τ (ws τ p) else 3
def te (τ : Tp) (p : Nat) : Nat :=
  if he τ (ws τ p) < 0 then ws τ p else if isLt (he τ (ws τ p)) then (if 8 < tl τ p then ws τ p else ws τ p + tl τ p)
  else if isDg (he τ (ws τ p)) then (if 7 < dn τ p ∨ isLt (he τ (ws τ p + dn τ p)) = true then ws τ p else ws τ p + dn τ p)
  else if isSg (he τ (ws τ p)) then ws τ p + 1 else ws τ p
/-! worlds -/
def TW (κ : Kg) (o : Nat) (τ : Tp) (H : Heap) : Prop := (∃ V, t_OB o (κ.D.1 0) 31 (κ.D.2 0) H V ∧ V 0 = .ref (o + 1) ∧ V 1 = .int (nI τ.1)) ∧ H[o + 1]? = some (arrV (κ.cA 1) 600 (fun j => .int (τ.2 j))) ∧ τ.1 ≤ 600
theorem TW.kept {κ : Kg} {o : Nat} {τ : Tp} {H H1 : Heap} (h : TW κ o τ H) (h1 : H1[o]? = H[o]?) (h2 : H1[o + 1]? = H[o + 1]?) : TW κ o τ H1 := ⟨h.1.imp fun V q => ⟨q.1.kept h1, q.2⟩, by rw [h2]; exact h.2.1, h.2.2⟩
theorem TW.lt {κ : Kg} {o : Nat} {τ : Tp} {H : Heap} (h : TW κ o τ H) : o + 1 < H.size := (Array.getElem?_eq_some_iff.mp h.2.1).1
/-- the reader's object -/
def RO (κ : Kg) (r : Nat) (a so pl nu tm : Int32) (w al o : Nat) (H : Heap) : Prop := t_OB r (κ.D.1 4) 8 (κ.D.2 4) H (vp_V [.int a, .int so, .int pl, .int nu, .int tm, .ref w, .ref al, .ref o])
theorem t_OB.lt {a : Nat} {cC : ClassId} {N : Nat} {iS : Nat → Nat} {V : Nat → Value} {H : Heap} (h : t_OB a cC N iS H V) : a < H.size := by
  obtain ⟨cell, hc, -⟩ := h
  exact (Array.getElem?_eq_some_iff.mp hc).1
section R0
variable {p : Program} {l : Launch} {e : Env} {R : Room} {s : State} {m : MethodId} {args : Array Value} {below : List Frame} {meth : Method} {c : Code} {H : Heap} {locs : List Loc} {cells slots : Nat} {Q : State → Prop}
variable {cc : ByteArray} {pc : Nat} {ls : Array Slot} {rest : List Value} {D : va_G} {cA : Nat → ClassId} {A : Nat → Prop} {a : Nat} {H0 : Heap}
/-- a private field of a nest mate -/
theorem ob_getN (hexec : p.tables.exec = Jvm.exec) (hb : c.code = cc) {own ref C host : String} {T : u_T} {N ci index : Nat} {V : Nat → Value} (hts : ∀ w ∈ lw_all, w.before args s = true) (hin : ∀ w ∈ u_ws C T N, w ∈ lw_all) (hown : s.vm.findClass own = some m.cls) (hK : K0 D cA s) (hO : t_OB a (D.1 ci) N (D.2 ci) H V) (hc : vwCl[ci]? = some (C, T, N)) (k : Nat) (hk : k < N) (hlink : va_Nw (Cond.fieldLinkNest own index ref (T k).2.1 (T k).2.2.1 host) s) (hsame : ∀ x, s.fieldFound? (T k).1 (T k).2.1 (T k).2.2.1 = some x → s.fieldFound? ref (T k).2.1 (T k).2.2.1 = some x) {v : Value} (hv : V k = v) (hdg : decode cc pc = .ok (.getfield index, 3))
    (kk : W p l e R s m args below meth c H locs cells slots Q (F0 m (pc + 3) ls (v :: rest))) : W p l e R s m args below meth c H locs cells slots Q (F0 m pc ls (.ref a :: rest)) := by
  obtain ⟨cell, q1, q2, q3, q4⟩ := hO
  obtain ⟨hS, hfc, kC, hkC, hkind⟩ := hK.1 ci _ hc
  obtain ⟨cf, kf, fi, f, hi, hsl⟩ := hS k hk
  refine va_Wgetf hexec hb hown (va_Nw.use rfl hlink) (hsame _ hi) (u_facts hfc hkC (u_lays hts hin hk) hi).1 q1 (by rw [q3]; exact fun h => by cases h) (v := v) ?_ rfl rfl hdg kk
  rw [hsl, q4 k hk, hv]
end R0
