/-! A LIST of tests under way. Own work. -/
set_option maxRecDepth 100000
theorem tob_ne {κ : Kg} {s : State} {H : Heap} {a b i j N N' : Nat} {C C' : String} {T T' : u_T} {V V' : Nat → Value} (hK : K0 κ.D κ.cA s) (hi : vwCl[i]? = some (C, T, N)) (hj : vwCl[j]? = some (C', T', N')) (hC : C ≠ C') (h1 : t_OB a (κ.D.1 i) N (κ.D.2 i) H V) (h2 : t_OB b (κ.D.1 j) N' (κ.D.2 j) H V') : a ≠ b := by
  intro e
  subst e
  obtain ⟨c1, a1, a2, -⟩ := h1
  obtain ⟨c2, b1, b2, -⟩ := h2
  cases a1.symm.trans b1
  exact dcl_ne hK hi hj hC (a2.symm.trans b2)
theorem toa_ne {κ : Kg} {s : State} {H : Heap} {a x i N n : Nat} {C : String} {T : u_T} {V : Nat → Value} {f : Nat → Value} (hK : K0 κ.D κ.cA s) (hi : vwCl[i]? = some (C, T, N)) (h1 : t_OB a (κ.D.1 i) N (κ.D.2 i) H V) (h2 : H[x]? = some (arrV (κ.cA 4) n f)) : a ≠ x := by
  intro e
  subst e
  obtain ⟨c1, a1, a2, -⟩ := h1
  cases a1.symm.trans h2
  exact dar_ne hK hi a2.symm
theorem tob_nb {κ : Kg} {s : State} {H : Heap} {a x i N n : Nat} {C : String} {T : u_T} {V : Nat → Value} {f : Nat → Value} (hK : K0 κ.D κ.cA s) (hi : vwCl[i]? = some (C, T, N)) (hC : C ≠ "[B") (h1 : t_OB a (κ.D.1 i) N (κ.D.2 i) H V) (h2 : H[x]? = some (arrV (κ.cA 1) n f)) : a ≠ x := by
  intro e
  subst e
  obtain ⟨c1, a1, a2, -⟩ := h1
  cases a1.symm.trans h2
  exact dar1_ne hK hi hC a2.symm
theorem aab_ne {κ : Kg} {s : State} {H : Heap} {a x n n' : Nat} {f g : Nat → Value} (hK : K0 κ.D κ.cA s) (h1 : H[a]? = some (arrV (κ.cA 4) n f)) (h2 : H[x]? = some (arrV (κ.cA 1) n' g)) : a ≠ x := by
  intro e
  subst e
  rw [h1] at h2
  have e2 : (arrV (κ.cA 4) n f).cls = (arrV (κ.cA 1) n' g).cls := by rw [Option.some.inj h2]
  have e3 : κ.cA 4 = κ.cA 1 := e2
  have hb : s.vm.findClass "[B" = some (κ.cA 1) := (hK.2 1 _ rfl).2
  have ho : s.vm.findClass "[Ljava/lang/Object;" = some (κ.cA 4) := arr_name hK
  obtain ⟨k1, a1, a2⟩ := Vm.findClass_spec hb
  obtain ⟨k2, b1, b2⟩ := Vm.findClass_spec ho
  rw [e3] at b1
  have : k1 = k2 := Option.some.inj (a1.symm.trans b1)
  rw [this, b2] at a2
  exact absurd a2 (by decide)
theorem PS.lst {κ : Kg} {o r al : Nat} {τ : Tp} {s : State} {P tm w w0 : Nat} {H H1 : Heap} {locs L : List Loc} {li x c n : Nat} {es : Nat → Nat} (h : PS κ o τ r s w0 al P tm w H locs) (hLA : LA κ li x c n es H) (hli : s.heap.size ≤ li) (hx : s.heap.size ≤ x) (hsb : κ.base ≤ s.heap.size) (hz : H.size ≤ H1.size) (hq : ∀ q : Nat, q < H.size → q ≠ li → q ≠ x → H1[q]? = H[q]?) (hL2 : ∀ y ∈ L, κ.base ≤ y.base) : PS κ o τ r s w0 al P tm w H1 (locs ++ L) := by
  obtain ⟨hK, ⟨hT, ⟨nu, hO, hnu⟩, hwd, hp, hw⟩, hF, hww, hL⟩ := h
  have hb := hK.2.2
  obtain ⟨⟨V, hV, hV2⟩, hX, hm⟩ := id hT
  obtain ⟨⟨md, hl⟩, hxa, -⟩ := hLA
  have hol := hT.lt
  refine ⟨hK.to (fun q h => hq q (by omega) (by omega) (by omega)) (by omega), ⟨hT.kept (hq _ (by omega) (Ne.symm (tob_ne hK.1.1 (i := 12) (j := 0) rfl rfl (by decide) hl hV)) (toa_ne hK.1.1 (i := 0) rfl hV hxa)) (hq _ hol (Ne.symm (tob_nb hK.1.1 (i := 12) rfl (by decide) hl hX)) (Ne.symm (aab_ne hK.1.1 hxa hX))), ⟨nu, hO.kept (hq _ hO.lt (Ne.symm (tob_ne hK.1.1 (i := 12) (j := 4) rfl rfl (by decide) hl hO)) (toa_ne hK.1.1 (i := 4) rfl hO hxa)), hnu⟩, fun h1 => ?_, hp, by omega⟩, ⟨Nat.le_trans hF.1 hz, fun q h1 h2 h3 => by rw [hq q (Nat.lt_of_lt_of_le h1 hF.1) (by omega) (by omega)]; exact hF.2 q h1 h2 h3⟩, hww, lc_app hL hL2⟩
  obtain ⟨hB, v, h, z, hWS, hho, hv⟩ := hwd h1
  have hW1 : t_OB w (κ.D.1 14) 4 (κ.D.2 14) H (vp_V [.ref v, .int 0, .int h, .int z]) := hWS.1
  exact ⟨hB, v, h, z, hWS.kept (hq _ hw (Ne.symm (tob_ne hK.1.1 (i := 12) (j := 14) rfl rfl (by decide) hl hW1)) (toa_ne hK.1.1 (i := 14) rfl hW1 hxa)) (hq _ (Array.getElem?_eq_some_iff.mp hWS.2).1 (Ne.symm (tob_nb hK.1.1 (i := 12) rfl (by decide) hl hWS.2)) (Ne.symm (aab_ne hK.1.1 hxa hWS.2))), hho, hv⟩
/-- a list of n tests fs at li, its array at x; all of it behind lo0 -/
def LTs (κ : Kg) (o r w : Nat) (H : Heap) (li x c n : Nat) (es : Nat → Nat) (fs : Nat → Sm) (dp lo0 : Nat) : Prop := LA κ li x c n es H ∧ 0 < c ∧ lo0 ≤ li ∧ lo0 ≤ x ∧ li ≠ w ∧ x ≠ w ∧ r < lo0 ∧ ∀ j, j < n → ∃ lo hi, TR κ o r w H (es j) (fs j) dp lo hi ∧ lo0 ≤ lo ∧ (li < lo ∨ hi ≤ li) ∧ (x < lo ∨ hi ≤ x)
theorem LA.lt {κ : Kg} {a x c n : Nat} {es : Nat → Nat} {H : Heap} (h : LA κ a x c n es H) : a < H.size ∧ x < H.size := by
  obtain ⟨⟨md, h1⟩, h2, -⟩ := h
  exact ⟨h1.lt, (Array.getElem?_eq_some_iff.mp h2).1⟩
theorem LTs.step {κ : Kg} {o r w w1 : Nat} {H H1 : Heap} {li x c n : Nat} {es : Nat → Nat} {fs : Nat → Sm} {dp lo0 : Nat} (h : LTs κ o r w H li x c n es fs dp lo0) (hF : FrR κ r w H H1) (hw : w1 = w ∨ H.size ≤ w1) : LTs κ o r w1 H1 li x c n es fs dp lo0 := by
  obtain ⟨h1, h2, h3, h4, h5, h6, h7, h8⟩ := h
  obtain ⟨l1, l2⟩ := h1.lt
  refine ⟨h1.kept (hF.2 _ l1 (by omega) (fun z => h5 z.1)) (hF.2 _ l2 (by omega) (fun z => h6 z.1)), h2, h3, h4, by omega, by omega, h7, fun j hj => ?_⟩
  obtain ⟨lo, hi, g1, g2⟩ := h8 j hj
  exact ⟨lo, hi, g1.step hF hw, g2⟩
theorem LTs.new {κ : Kg} {o r w : Nat} {H H1 : Heap} {li x c n : Nat} {es : Nat → Nat} {fs : Nat → Sm} {dp lo0 : Nat} (h : LTs κ o r w H li x c n es fs dp lo0) (hz : H.size ≤ H1.size) (hq : ∀ q : Nat, q < H.size → H1[q]? = H[q]?) : LTs κ o r w H1 li x c n es fs dp lo0 := by
  obtain ⟨h1, h2, h3, h4, h5, h6, h7, h8⟩ := h
  obtain ⟨l1, l2⟩ := h1.lt
  refine ⟨h1.kept (hq _ l1) (hq _ l2), h2, h3, h4, h5, h6, h7, fun j hj => ?_⟩
  obtain ⟨lo, hi, g1, g2⟩ := h8 j hj
  exact ⟨lo, hi, g1.new hz hq, g2⟩
theorem TR.lst {κ : Kg} {o r w li x : Nat} {H H1 : Heap} {a : Nat} {f : Sm} {dp lo hi : Nat} (h : TR κ o r w H a f dp lo hi) (hl : li < lo ∨ hi ≤ li) (hx : x < lo ∨ hi ≤ x) (hz : H.size ≤ H1.size) (hq : ∀ q : Nat, q < H.size → q ≠ li → q ≠ x → H1[q]? = H[q]?) : TR κ o r w H1 a f dp lo hi := by
  obtain ⟨wx, h1, h2, h3, h4⟩ := h
  exact ⟨wx, ExT.kept (fun q z => hq q (by have := z.2.1; omega) (by have := z.1; have := z.2.1; omega) (by have := z.1; have := z.2.1; omega)) (fun _ z => z) h1 (Nat.le_refl _), h2, by omega, h4⟩
theorem TR.deep {κ : Kg} {o r w : Nat} {H : Heap} {a : Nat} {f : Sm} {dp dp' lo hi : Nat} (h : TR κ o r w H a f dp lo hi) (hd : dp ≤ dp') : TR κ o r w H a f dp' lo hi := by
  obtain ⟨wx, h1, h2⟩ := h
  exact ⟨wx, ExT.kept (fun _ _ => rfl) (fun _ z => z) h1 hd, h2⟩
theorem TR.hi {κ : Kg} {o r w : Nat} {H : Heap} {a : Nat} {f : Sm} {dp lo hi : Nat} (h : TR κ o r w H a f dp lo hi) : hi ≤ H.size := by
  obtain ⟨wx, -, -, h3, -⟩ := h
  exact h3
/-- one more test in the list -/
theorem LTs.add {κ : Kg} {o r w : Nat} {H H1 : Heap} {li x x' c c' n e : Nat} {es : Nat → Nat} {fs : Nat → Sm} {f : Sm} {dp dp' lo0 lo hi : Nat} (h : LTs κ o r w H li x c n es fs dp lo0) (hT : TR κ o r w H e f dp' lo hi) (hlo : lo0 ≤ lo) (hl : li < lo) (hx : x < lo) (hwl : w < H.size) (hd : dp ≤ dp') (hLA : LA κ li x' c' (n + 1) (va_up es n e) H1) (hx' : x' = x ∨ H.size ≤ x') (hz : H.size ≤ H1.size) (hq : ∀ q : Nat, q < H.size → q ≠ li → q ≠ x → H1[q]? = H[q]?) (hs : lo0 ≤ H.size) : LTs κ o r w H1 li x' c' (n + 1) (va_up es n e) (updS fs n f) dp' lo0 := by
  obtain ⟨h1, h2, h3, h4, h5, h6, h7, h8⟩ := h
  have hThi := hT.hi
  refine ⟨hLA, by have := hLA.2.2.1; omega, h3, by omega, h5, by omega, h7, fun j hj => ?_⟩
  unfold va_up updS
  by_cases hjn : j = n
  · rw [if_pos hjn, if_pos hjn]
    exact ⟨lo, hi, hT.lst (Or.inl hl) (Or.inl hx) hz hq, hlo, Or.inl hl, by omega⟩
  · rw [if_neg hjn, if_neg hjn]
    obtain ⟨lo2, hi2, g1, g2, g3, g4⟩ := h8 j (by omega)
    have := g1.hi
    exact ⟨lo2, hi2, (g1.lst g3 g4 hz hq).deep hd, g2, g3, by rcases hx' with z | z; (· rw [z]; exact g4); (· exact Or.inr (by omega))⟩
