/-! TESTS as trees on the heap; the reader's grammar over positions, with its cost. Own work. -/
set_option maxRecDepth 100000
/-- what a test says, by the values of the nine terms -/
abbrev Sm : Type := (Nat → Int32) → Int32
def bin (sg x y : Int32) : Int32 := if sg = 43 then x + y else if sg = 45 then x - y else if sg = 60 then b2 (decide (x < y)) else if sg = 62 then b2 (decide (y < x)) else b2 (decide (x = y))
def joinS (al : Bool) (n : Nat) (fs : Nat → Sm) : Sm := fun e => b2 (if al then (List.range n).all (fun k => !decide (fs k e = 0)) else (List.range n).any (fun k => !decide (fs k e = 0)))
def ExT (κ : Kg) (o : Nat) (S : Nat → Prop) (H : Heap) : Nat → Nat → Sm → Prop
  | 0, _, _ => False
  | d + 1, a, f => S a ∧ ((∃ n : Int32, t_OB a (κ.D.1 7) 3 (κ.D.2 7) H (vp_V [.ref o, .int n, .ref o]) ∧ f = fun _ => n) ∨
    (∃ k : Nat, k < 9 ∧ t_OB a (κ.D.1 8) 3 (κ.D.2 8) H (vp_V [.ref o, .ref (κ.kn k), .ref o]) ∧ f = fun e => e k) ∨
    (∃ (x : Nat) (g : Sm), t_OB a (κ.D.1 6) 3 (κ.D.2 6) H (vp_V [.ref o, .ref x, .ref o]) ∧ ExT κ o S H d x g ∧ f = fun e => b2 (decide (g e = 0))) ∨
    (∃ (x y : Nat) (sg : Int32) (g h : Sm), t_OB a (κ.D.1 9) 5 (κ.D.2 9) H (vp_V [.ref o, .ref x, .ref y, .int sg, .ref o]) ∧ ExT κ o S H d x g ∧ ExT κ o S H d y h ∧ f = fun e => bin sg (g e) (h e)) ∨
    (∃ (li x c n : Nat) (al : Bool) (es : Nat → Nat) (fs : Nat → Sm), S li ∧ S x ∧ t_OB a (κ.D.1 10) 4 (κ.D.2 10) H (vp_V [.ref o, .ref li, .int (b2 al), .ref o]) ∧ LA κ li x c n es H ∧ (∀ j, j < n → ExT κ o S H d (es j) (fs j)) ∧ f = joinS al n fs))
theorem ExT.kept {κ : Kg} {o : Nat} {S S' : Nat → Prop} {H H1 : Heap} (hq : ∀ q, S q → H1[q]? = H[q]?) (hS : ∀ q, S q → S' q) : ∀ {d d' a : Nat} {f : Sm}, ExT κ o S H d a f → d ≤ d' → ExT κ o S' H1 d' a f
  | 0, _, _, _, h, _ => absurd h id
  | d + 1, 0, _, _, _, hd => absurd hd (by omega)
  | d + 1, d' + 1, a, f, ⟨h1, h⟩, hd => by
    refine ⟨hS _ h1, ?_⟩
    rcases h with ⟨n, h2, h3⟩ | ⟨k, h2, h3, h4⟩ | ⟨x, g, h2, h3, h4⟩ | ⟨x, y, sg, g, g', h2, h3, h4, h5⟩ | ⟨li, x, c, n, al, es, fs, h2, h3, h4, h5, h6, h7⟩
    · exact Or.inl ⟨n, h2.kept (hq _ h1), h3⟩
    · exact Or.inr (Or.inl ⟨k, h2, h3.kept (hq _ h1), h4⟩)
    · exact Or.inr (Or.inr (Or.inl ⟨x, g, h2.kept (hq _ h1), ExT.kept hq hS h3 (by omega), h4⟩))
    · exact Or.inr (Or.inr (Or.inr (Or.inl ⟨x, y, sg, g, g', h2.kept (hq _ h1), ExT.kept hq hS h3 (by omega), ExT.kept hq hS h4 (by omega), h5⟩)))
    · exact Or.inr (Or.inr (Or.inr (Or.inr ⟨li, x, c, n, al, es, fs, hS _ h2, hS _ h3, h4.kept (hq _ h1), h5.kept (hq _ h2) (hq _ h3), fun j hj => ExT.kept hq hS (h6 j hj) (by omega), h7⟩)))
theorem isOb.of {κ : Kg} {H : Heap} {a ci N : Nat} {iS : Nat → Nat} {V : Nat → Value} (h : t_OB a (κ.D.1 ci) N iS H V) (h1 : 6 ≤ ci) (h2 : ci ≤ 11) : isOb κ H a := by
  obtain ⟨cell, a1, a2, a3, -⟩ := h
  exact ⟨cell, ci, a1, a3, h1, h2, a2⟩
theorem ExT.ob {κ : Kg} {o : Nat} {S : Nat → Prop} {H : Heap} : ∀ {d a : Nat} {f : Sm}, ExT κ o S H d a f → isOb κ H a
  | 0, _, _, h => absurd h id
  | d + 1, a, f, ⟨h1, h⟩ => by
    rcases h with ⟨n, h2, h3⟩ | ⟨k, h2, h3, h4⟩ | ⟨x, g, h2, h3, h4⟩ | ⟨x, y, sg, g, g', h2, h3, h4, h5⟩ | ⟨li, x, c, n, al, es, fs, h2, h3, h4, h5, h6, h7⟩
    · exact isOb.of h2 (by decide) (by decide)
    · exact isOb.of h3 (by decide) (by decide)
    · exact isOb.of h2 (by decide) (by decide)
    · exact isOb.of h2 (by decide) (by decide)
    · exact isOb.of h4 (by decide) (by decide)
/-- cells from lo on up to hi, but for the word -/
def FP (lo hi wx : Nat) : Nat → Prop := fun q => lo ≤ q ∧ q < hi ∧ q ≠ wx
theorem ExT.step {κ : Kg} {o r wx wc lo hi : Nat} {H H2 : Heap} {d a : Nat} {f : Sm} (h : ExT κ o (FP lo hi wx) H d a f) (hW : wc = wx ∨ hi ≤ wc) (hr : r < lo) (hhi : hi ≤ H.size) (hF : FrR κ r wc H H2) : ExT κ o (FP lo hi wx) H2 d a f :=
  ExT.kept (fun q hq => hF.2 q (by have := hq.2.1; omega) (by have := hq.1; omega) (fun z => by
    rcases hW with e | e
    · exact hq.2.2 (by rw [z.1, e])
    · have := hq.2.1; omega)) (fun _ h => h) h (Nat.le_refl _)
theorem ExT.wide {κ : Kg} {o wx wc lo hi lo' hi' : Nat} {H : Heap} {d d' a : Nat} {f : Sm} (h : ExT κ o (FP lo hi wx) H d a f) (hW : wc = wx ∨ hi ≤ wc) (h1 : lo' ≤ lo) (h2 : hi ≤ hi') (hd : d ≤ d') : ExT κ o (FP lo' hi' wc) H d' a f :=
  ExT.kept (fun _ _ => rfl) (fun q hq => ⟨by have := hq.1; omega, by have := hq.2.1; omega, fun z => by
    rcases hW with e | e
    · exact hq.2.2 (by rw [z, e])
    · have := hq.2.1; omega⟩) h hd
theorem FrR.nx {κ : Kg} {r w : Nat} {H H1 H2 : Heap} (h : FrR κ r w H H1) (hz : H1.size ≤ H2.size) (hq : ∀ q : Nat, q < H1.size → q ≠ r → H2[q]? = H1[q]?) : FrR κ r w H H2 := ⟨Nat.le_trans h.1 hz, fun q h1 h2 h3 => by rw [hq q (Nat.lt_of_lt_of_le h1 h.1) h2]; exact h.2 q h1 h2 h3⟩
theorem te_le {τ : Tp} {p : Nat} (hp : p ≤ τ.1) : te τ p ≤ τ.1 := by
  have h1 := ws_le hp
  have h2 := tl_le hp
  have h3 := dn_le hp
  unfold te
  split
  · exact h1
  · rename_i h0
    have hlt := (he_lt h0).1
    split
    · split <;> omega
    · split
      · split <;> omega
      · split <;> omega
theorem te_ge {τ : Tp} {p : Nat} : p ≤ te τ p := by
  have h1 : p ≤ ws τ p := by unfold ws; omega
  unfold te
  split
  · exact h1
  · split
    · split <;> omega
    · split
      · split <;> omega
      · split <;> omega
/-! the grammar -/
/-- what a method of the reader does: an error's kind and place, or what it read, the token it then stands at, how many terms; cells and slots it takes -/
abbrev PO : Type := (Except (Int32 × Nat) (Sm × Nat × Nat)) × Nat × Nat
def prQ (κ : Kg) (o : Nat) (τ : Tp) (r w al tm e : Nat) (res : Except (Int32 × Nat) (Sm × Nat × Nat)) : Array Value → State → Outcome → State → Prop := fun _ st oc t => match res with
  | .error q => erQ κ r w q.1 q.2 st oc t
  | .ok q => ∃ a w', oc = .returned (some (.ref a)) ∧ RT κ o τ r q.2.1 (nI q.2.2) w' al t.heap ∧ (w' = w ∨ st.heap.size ≤ w') ∧ ExT κ o (FP st.heap.size t.heap.size w') t.heap (q.2.2 - tm + e) a q.1 ∧ FrR κ r w st.heap t.heap
def eR (τ : Tp) (p : Nat) : Except (Int32 × Nat) (Sm × Nat × Nat) := .error (eKd τ p, ws τ p)
def tSem (τ : Tp) (p : Nat) : Sm := if ts τ p = 2 then fun _ => tn τ p else match fnd (tl τ p) (lt τ p) with
  | some k => fun e => e k
  | none => fun _ => 0
def pTerm (τ : Tp) (p tm : Nat) : PO := (if isTm τ p = true ∧ ¬ tm = 80 then .ok (tSem τ p, te τ p, tm + 1) else eR τ p, 5, 27)
theorem fnd_lt {n : Nat} {t : Nat → Int32} {k : Nat} (h : fnd n t = some k) : k < 9 := List.mem_range.mp (List.mem_of_find?_eq_some h)
