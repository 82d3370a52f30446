/-! THE COMPONENT's WORLD: HomeRoll at o, its cells right behind it, its papers anywhere behind the block; rows for its methods. Own work. -/
set_option maxRecDepth 100000
/-- ghosts: how many papers, where they lie, where the law's list lies, where the constants lie -/
abbrev Gh : Type := Nat × (Nat → Nat) × Nat × (Nat → Nat)
/-- kinds: 0 int, 1 boolean, 2 ints, 3 bytes, 4 booleans, 5 longs, 6 the law, 7 the view, 8 references; 40.. the rows of joys, 50.. those of most -/
def cKd (k : Nat) : Nat := ([3, 0, 0, 0, 6, 2, 2, 2, 2, 2, 2, 8, 2, 0, 0, 0, 0, 0, 0, 0, 1, 0, 0, 7, 8, 5, 5, 4, 8, 8, 0, 0, 0, 0, 0, 0, 0, 0, 0, 0, 2, 2, 2, 2, 2, 2, 2, 2, 0, 0, 2, 2, 2, 2, 2, 2, 2, 2, 2, 0] : List Nat).getD k 0
def cLn (k : Nat) : Nat := ([600, 0, 0, 0, 0, 24, 24, 24, 8, 8, 100, 60, 30, 0, 0, 0, 0, 0, 0, 0, 0, 0, 0, 0, 9, 24, 24, 24, 8, 9, 0, 0, 0, 0, 0, 0, 0, 0, 0, 0, 8, 8, 8, 8, 8, 8, 8, 8, 0, 0, 256, 256, 256, 256, 256, 256, 256, 256, 256, 0] : List Nat).getD k 0
def cOf (k : Nat) : Nat := ([1, 0, 0, 0, 0, 4, 5, 6, 7, 8, 9, 10, 11, 0, 0, 0, 0, 0, 0, 0, 0, 0, 0, 12, 13, 14, 15, 16, 17, 26, 0, 0, 0, 0, 0, 0, 0, 0, 0, 0, 18, 19, 20, 21, 22, 23, 24, 25, 0, 0, 27, 28, 29, 30, 31, 32, 33, 34, 35, 0] : List Nat).getD k 0
def cAd (o k : Nat) : Nat := o + cOf k
/-- a paper by its number; below 0: null -/
def pr (g : Gh) (i : Int32) : Option Nat := if i < 0 then none else some (g.2.1 i.toNatClampNeg)
def cV (o : Nat) (g : Gh) (u : St) (k : Nat) : Value := match cKd k with
  | 0 => .int (u.1 k)
  | 1 => .int (u.1 k)
  | 6 => .ref g.2.2.1
  | _ => .ref (cAd o k)
def vV (o : Nat) (g : Gh) (u : St) (k : Nat) : Value := match k with
  | 0 => va_rf (pr g (u.1 31))
  | 1 => .int (u.1 32)
  | 2 => .int (u.1 33)
  | 3 => .int (u.1 34)
  | 4 => .int (u.1 35)
  | _ => .ref o
def pV (u : St) (i k : Nat) : Value := .int (u.2.1 (60 + k) i)
def cArr (cA : Nat → ClassId) (u : St) (k : Nat) : Cell := match cKd k with
  | 2 => arrV (cA 0) (cLn k) (fun j => .int (u.2.1 k j))
  | 3 => arrV (cA 1) (cLn k) (fun j => .int (u.2.1 k j))
  | 4 => arrV (cA 2) (cLn k) (fun j => .int (u.2.1 k j))
  | _ => arrV (cA 3) (cLn k) (fun j => .long (u.2.2 k j))
def cRf (cA : Nat → ClassId) (o : Nat) (g : Gh) (k : Nat) : Cell :=
  if k = 11 then arrV (cA 5) 60 (fun j => va_rf (if j < g.1 then some (g.2.1 j) else none))
  else if k = 24 then arrV (cA 6) 9 (fun j => .ref (g.2.2.2 j))
  else if k = 28 then arrV (cA 7) 8 (fun j => .ref (cAd o (40 + j)))
  else arrV (cA 7) 9 (fun j => .ref (cAd o (50 + j)))
def CW (D : va_G) (cA : Nat → ClassId) (o : Nat) (g : Gh) (u : St) (H : Heap) : Prop :=
  t_OB o (D.1 0) 31 (D.2 0) H (cV o g u) ∧ t_OB (cAd o 23) (D.1 1) 6 (D.2 1) H (vV o g u) ∧ (∀ k, k < 60 → 2 ≤ cKd k → cKd k ≤ 5 → H[cAd o k]? = some (cArr cA u k)) ∧ (∀ k, k < 60 → cKd k = 8 → H[cAd o k]? = some (cRf cA o g k)) ∧
  (∀ i, i < g.1 → t_OB (g.2.1 i) (D.1 3) 9 (D.2 3) H (pV u i)) ∧ (∀ i, i < g.1 → o + 36 ≤ g.2.1 i) ∧ (∀ i j, i < g.1 → j < g.1 → g.2.1 i = g.2.1 j → i = j)
/-- what the component may write: its block (but for the first law's list) and its papers -/
def cF (o : Nat) (g : Gh) : Nat → Prop := fun q => (o ≤ q ∧ q < o + 36 ∧ q ≠ o + 2 ∧ q ≠ o + 3) ∨ ∃ i, i < g.1 ∧ q = g.2.1 i
theorem cOf_lt : ∀ k, k < 60 → 2 ≤ cKd k → ¬ cKd k = 6 → 1 ≤ cOf k ∧ cOf k < 36 ∧ cOf k ≠ 2 ∧ cOf k ≠ 3 := by decide +kernel
theorem cOf_inj0 : ∀ k, k < 60 → ∀ j, j < 60 → (2 ≤ cKd k ∧ ¬ cKd k = 6 ∧ 2 ≤ cKd j ∧ ¬ cKd j = 6 ∧ cOf k = cOf j) → k = j := by decide +kernel
theorem cOf_inj (k : Nat) (hk : k < 60) (j : Nat) (hj : j < 60) (h1 : 2 ≤ cKd k) (h2 : ¬ cKd k = 6) (h3 : 2 ≤ cKd j) (h4 : ¬ cKd j = 6) (h5 : cOf k = cOf j) : k = j := cOf_inj0 k hk j hj ⟨h1, h2, h3, h4, h5⟩
theorem cRf_11 (cA : Nat → ClassId) (o : Nat) (g : Gh) : cRf cA o g 11 = arrV (cA 5) 60 (fun j => va_rf (if j < g.1 then some (g.2.1 j) else none)) := by unfold cRf; rw [if_pos rfl]
theorem cRf_24 (cA : Nat → ClassId) (o : Nat) (g : Gh) : cRf cA o g 24 = arrV (cA 6) 9 (fun j => .ref (g.2.2.2 j)) := by unfold cRf; rw [if_neg (by decide), if_pos rfl]
theorem cRf_28 (cA : Nat → ClassId) (o : Nat) (g : Gh) : cRf cA o g 28 = arrV (cA 7) 8 (fun j => .ref (cAd o (40 + j))) := by unfold cRf; rw [if_neg (by decide), if_neg (by decide), if_pos rfl]
theorem cRf_29 (cA : Nat → ClassId) (o : Nat) (g : Gh) : cRf cA o g 29 = arrV (cA 7) 9 (fun j => .ref (cAd o (50 + j))) := by unfold cRf; rw [if_neg (by decide), if_neg (by decide), if_neg (by decide)]
theorem cF_o (o : Nat) (g : Gh) : cF o g o := Or.inl ⟨Nat.le_refl _, by omega, by omega, by omega⟩
theorem cF_k {o k : Nat} {g : Gh} (hk : k < 60) (h2 : 2 ≤ cKd k) (h6 : ¬ cKd k = 6) : cF o g (cAd o k) := by
  have := cOf_lt k hk h2 h6
  exact Or.inl ⟨by unfold cAd; omega, by unfold cAd; omega, by unfold cAd; omega, by unfold cAd; omega⟩
theorem cF_p {o i : Nat} {g : Gh} (hi : i < g.1) : cF o g (g.2.1 i) := Or.inr ⟨i, hi, rfl⟩
theorem cAd_ne {o k : Nat} (hk : k < 60) (h2 : 2 ≤ cKd k) (h6 : ¬ cKd k = 6) : cAd o k ≠ o := by
  have := cOf_lt k hk h2 h6
  unfold cAd; omega
theorem cAd_inj {o k j : Nat} (hk : k < 60) (hj : j < 60) (h1 : 2 ≤ cKd k) (h2 : ¬ cKd k = 6) (h3 : 2 ≤ cKd j) (h4 : ¬ cKd j = 6) (h : cAd o k = cAd o j) : k = j := cOf_inj k hk j hj h1 h2 h3 h4 (by unfold cAd at h; omega)
theorem cAd_p {o k i : Nat} {g : Gh} (hk : k < 60) (h2 : 2 ≤ cKd k) (h6 : ¬ cKd k = 6) (h : o + 36 ≤ g.2.1 i) : g.2.1 i ≠ cAd o k := by
  have := cOf_lt k hk h2 h6
  unfold cAd; omega
theorem k23 : (23 : Nat) < 60 ∧ 2 ≤ cKd 23 ∧ ¬ cKd 23 = 6 := by decide
/-- an index of a paper or below 0; an index of a paper -/
def pIxn (n : Nat) (i : Int32) : Prop := i < 0 ∨ i.toNatClampNeg < n
def pIn (n : Nat) (i : Int32) : Prop := ¬ i < 0 ∧ i.toNatClampNeg < n
theorem va_rf_cat (r : Option Nat) : (va_rf r).category = 1 := by cases r <;> rfl
theorem lg_q {vs : List Value} {r : Option Nat} {n : Nat} (h : (lg_sl vs).length + 1 ≤ n) : (lg_sl (vs ++ [va_rf r])).length ≤ n := by
  unfold lg_sl at h ⊢
  rw [List.flatMap_append, List.length_append]
  have e : (List.flatMap (fun v => if v.category = 2 then [Slot.val v, Slot.second] else [Slot.val v]) [va_rf r]).length = 1 := by simp [va_rf_cat]
  omega
section CWL
variable {D : va_G} {cA : Nat → ClassId} {o : Nat} {g : Gh} {u : St} {H H1 : Heap}
theorem CW.kept (h : CW D cA o g u H) (hq : ∀ q, cF o g q → H1[q]? = H[q]?) : CW D cA o g u H1 := by
  obtain ⟨h1, h2, h3, h4, h5, h6, h7⟩ := h
  refine ⟨h1.kept (hq _ (cF_o o g)), h2.kept (hq _ (cF_k k23.1 k23.2.1 k23.2.2)), fun k hk a b => ?_, fun k hk a => ?_, fun i hi => (h5 i hi).kept (hq _ (cF_p hi)), h6, h7⟩
  · rw [hq _ (cF_k hk a (by omega))]; exact h3 k hk a b
  · rw [hq _ (cF_k hk (by omega) (by omega))]; exact h4 k hk a
/-- a number of the object is written -/
theorem CW.puti {k : Nat} {v : Int32} (h : CW D cA o g u H) (hk : k < 31) (hkd : cKd k ≤ 1) (hh : t_OB o (D.1 0) 31 (D.2 0) H1 (updV (cV o g u) k (.int v))) (hq : ∀ q : Nat, q ≠ o → H1[q]? = H[q]?) : CW D cA o g (si u k v) H1 := by
  obtain ⟨h1, h2, h3, h4, h5, h6, h7⟩ := h
  refine ⟨hh.to fun j hj => ?_, (h2.kept (hq _ (cAd_ne k23.1 k23.2.1 k23.2.2))).to fun j hj => ?_, fun j hj a b => ?_, fun j hj a => ?_, fun i hi => (h5 i hi).kept (hq _ (by have := h6 i hi; omega)), h6, h7⟩
  · unfold updV
    by_cases e : j = k
    · subst e; rw [if_pos rfl]; unfold cV
      rcases (show cKd j = 0 ∨ cKd j = 1 by omega) with z | z <;> rw [z] <;> simp [si, upd]
    · rw [if_neg e]; unfold cV; simp only [si_1, if_neg e]
  · have e1 : ∀ i, 31 ≤ i → (si u k v).1 i = u.1 i := fun i hi => by rw [si_1, if_neg (by omega)]
    unfold vV
    rw [e1 31 (by omega), e1 32 (by omega), e1 33 (by omega), e1 34 (by omega), e1 35 (by omega)]
  · rw [hq _ (cAd_ne hj a (by omega)), h3 j hj a b]; rfl
  · rw [hq _ (cAd_ne hj (by omega) (by omega)), h4 j hj a]
/-- a number of the view -/
theorem CW.putv {k : Nat} {v : Int32} (h : CW D cA o g u H) (hk : 1 ≤ k) (hk5 : k < 5) (hh : t_OB (cAd o 23) (D.1 1) 6 (D.2 1) H1 (updV (vV o g u) k (.int v))) (hq : ∀ q : Nat, q ≠ cAd o 23 → H1[q]? = H[q]?) : CW D cA o g (si u (31 + k) v) H1 := by
  obtain ⟨h1, h2, h3, h4, h5, h6, h7⟩ := h
  refine ⟨(h1.kept (hq _ (Ne.symm (cAd_ne k23.1 k23.2.1 k23.2.2)))).to fun j hj => ?_, hh.to fun j hj => ?_, fun j hj a b => ?_, fun j hj a => ?_, fun i hi => (h5 i hi).kept (hq _ (cAd_p k23.1 k23.2.1 k23.2.2 (h6 i hi))), h6, h7⟩
  · unfold cV; simp only [si_1, if_neg (show ¬ j = 31 + k by omega)]
  · unfold updV vV
    rcases (show k = 1 ∨ k = 2 ∨ k = 3 ∨ k = 4 by omega) with rfl | rfl | rfl | rfl <;>
    rcases (show j = 0 ∨ j = 1 ∨ j = 2 ∨ j = 3 ∨ j = 4 ∨ j = 5 by omega) with rfl | rfl | rfl | rfl | rfl | rfl <;> simp [si_1]
  · rw [hq _ (fun z => by have := cAd_inj hj k23.1 a (by omega) k23.2.1 k23.2.2 z; subst this; revert b; decide), h3 j hj a b]; rfl
  · rw [hq _ (fun z => by have := cAd_inj hj k23.1 (by omega) (by omega) k23.2.1 k23.2.2 z; subst this; revert a; decide), h4 j hj a]
/-- the view's paper -/
theorem CW.putvp {v : Int32} (h : CW D cA o g u H) (hh : t_OB (cAd o 23) (D.1 1) 6 (D.2 1) H1 (updV (vV o g u) 0 (va_rf (pr g v)))) (hq : ∀ q : Nat, q ≠ cAd o 23 → H1[q]? = H[q]?) : CW D cA o g (si u 31 v) H1 := by
  obtain ⟨h1, h2, h3, h4, h5, h6, h7⟩ := h
  refine ⟨(h1.kept (hq _ (Ne.symm (cAd_ne k23.1 k23.2.1 k23.2.2)))).to fun j hj => ?_, hh.to fun j hj => ?_, fun j hj a b => ?_, fun j hj a => ?_, fun i hi => (h5 i hi).kept (hq _ (cAd_p k23.1 k23.2.1 k23.2.2 (h6 i hi))), h6, h7⟩
  · unfold cV; simp only [si_1, if_neg (show ¬ j = 31 by omega)]
  · unfold updV vV
    rcases (show j = 0 ∨ j = 1 ∨ j = 2 ∨ j = 3 ∨ j = 4 ∨ j = 5 by omega) with rfl | rfl | rfl | rfl | rfl | rfl <;> simp [si_1]
  · rw [hq _ (fun z => by have := cAd_inj hj k23.1 a (by omega) k23.2.1 k23.2.2 z; subst this; revert b; decide), h3 j hj a b]; rfl
  · rw [hq _ (fun z => by have := cAd_inj hj k23.1 (by omega) (by omega) k23.2.1 k23.2.2 z; subst this; revert a; decide), h4 j hj a]
/-- an array of ints, bytes, booleans -/
theorem CW.sta {k i : Nat} {v : Int32} (h : CW D cA o g u H) (hk : k < 60) (hkd : 2 ≤ cKd k) (hkd5 : cKd k ≤ 4) (hh : H1[cAd o k]? = some (cArr cA (sa u k i v) k)) (hq : ∀ q : Nat, q ≠ cAd o k → H1[q]? = H[q]?) : CW D cA o g (sa u k i v) H1 := by
  obtain ⟨h1, h2, h3, h4, h5, h6, h7⟩ := h
  have hk6 : ¬ cKd k = 6 := by omega
  refine ⟨(h1.kept (hq _ (Ne.symm (cAd_ne hk hkd hk6)))).to fun j hj => rfl, (h2.kept (hq _ (fun z => ?_))).to fun j hj => rfl, fun j hj a b => ?_, fun j hj a => ?_, fun x hx => ((h5 x hx).kept (hq _ (cAd_p hk hkd hk6 (h6 x hx)))).to fun j hj => ?_, h6, h7⟩
  · have := cAd_inj hk k23.1 hkd hk6 k23.2.1 k23.2.2 z.symm; subst this; revert hkd5; decide
  · by_cases e : j = k
    · subst e; exact hh
    · rw [hq _ (fun z => e (cAd_inj hj hk a (by omega) hkd hk6 z)), h3 j hj a b]
      unfold cArr; simp only [sa_2, sa_3, e, false_and, if_false]
  · rw [hq _ (fun z => by have := cAd_inj hj hk (by omega) (by omega) hkd hk6 z; subst this; omega), h4 j hj a]
  · unfold pV; rw [sa_2, if_neg (fun z => by omega)]
/-- an array of longs -/
theorem CW.stl {k i : Nat} {v : Int64} (h : CW D cA o g u H) (hk : k < 60) (hkd : cKd k = 5) (hh : H1[cAd o k]? = some (cArr cA (sl u k i v) k)) (hq : ∀ q : Nat, q ≠ cAd o k → H1[q]? = H[q]?) : CW D cA o g (sl u k i v) H1 := by
  obtain ⟨h1, h2, h3, h4, h5, h6, h7⟩ := h
  have hk2 : 2 ≤ cKd k := by omega
  have hk6 : ¬ cKd k = 6 := by omega
  refine ⟨(h1.kept (hq _ (Ne.symm (cAd_ne hk hk2 hk6)))).to fun j hj => rfl, (h2.kept (hq _ (fun z => ?_))).to fun j hj => rfl, fun j hj a b => ?_, fun j hj a => ?_, fun x hx => ((h5 x hx).kept (hq _ (cAd_p hk hk2 hk6 (h6 x hx)))).to fun j hj => rfl, h6, h7⟩
  · have := cAd_inj hk k23.1 hk2 hk6 k23.2.1 k23.2.2 z.symm; subst this; revert hkd; decide
  · by_cases e : j = k
    · subst e; exact hh
    · rw [hq _ (fun z => e (cAd_inj hj hk a (by omega) hk2 hk6 z)), h3 j hj a b]
      unfold cArr; simp only [sl_2, sl_3, e, false_and, if_false]
  · rw [hq _ (fun z => by have := cAd_inj hj hk (by omega) (by omega) hk2 hk6 z; subst this; omega), h4 j hj a]
/-- a paper's number is written -/
theorem CW.putp {k i : Nat} {v : Int32} (h : CW D cA o g u H) (hi : i < g.1) (hk : k < 9) (hh : t_OB (g.2.1 i) (D.1 3) 9 (D.2 3) H1 (updV (pV u i) k (.int v))) (hq : ∀ q : Nat, q ≠ g.2.1 i → H1[q]? = H[q]?) : CW D cA o g (sa u (60 + k) i v) H1 := by
  obtain ⟨h1, h2, h3, h4, h5, h6, h7⟩ := h
  have hp := h6 i hi
  refine ⟨(h1.kept (hq _ (by omega))).to fun j hj => rfl, (h2.kept (hq _ (Ne.symm (cAd_p k23.1 k23.2.1 k23.2.2 hp)))).to fun j hj => rfl, fun j hj a b => ?_, fun j hj a => ?_, fun x hx => ?_, h6, h7⟩
  · rw [hq _ (Ne.symm (cAd_p hj a (by omega) hp)), h3 j hj a b]
    unfold cArr; simp only [sa_2, sa_3, show ¬ j = 60 + k by omega, false_and, if_false]
  · rw [hq _ (Ne.symm (cAd_p hj (by omega) (by omega) hp)), h4 j hj a]
  · by_cases e : x = i
    · subst e
      refine hh.to fun j hj => ?_
      unfold updV pV
      rw [sa_2]
      by_cases e2 : j = k
      · subst e2; rw [if_pos rfl, if_pos ⟨rfl, rfl⟩]
      · rw [if_neg e2, if_neg (fun z => by omega)]
    · refine ((h5 x hx).kept (hq _ (fun z => e (h7 x i hx hi z)))).to fun j hj => ?_
      unfold pV; rw [sa_2, if_neg (fun z => e z.2)]
end CWL
/-- a method's start and end -/
def cP (D : va_G) (cA : Nat → ClassId) (o : Nat) (g : Gh) (u : St) (av : List Value) : Array Value → State → Prop := fun v U => v = av.toArray ∧ CW D cA o g u U.heap ∧ K0 D cA U
theorem cP_blind {D : va_G} {cA : Nat → ClassId} {o : Nat} {g : Gh} {u : St} {av : List Value} : FrameBlind (cP D cA o g u av) := fun a U gf mk h => ⟨h.1, h.2.1, va_K.moved (u := U) (U := U.calling gf mk a) (Vm.Alike.refl U.vm) h.2.2⟩
def cQ (D : va_G) (cA : Nat → ClassId) (o : Nat) (g : Gh) (v : Option Value) (u' : St) : Array Value → State → Outcome → State → Prop := fun _ st oc t => oc = .returned v ∧ CW D cA o g u' t.heap ∧ va_F (cF o g) st t
/-- contracts: of a method that reads alone; of one that writes; of a static one without a world -/
abbrev CetR (l : Launch) (y : MethodName) (b : ByteArray) (L : Nat) (ret : Option FieldType) (d : Nat) (D : va_G) (cA : Nat → ClassId) (o : Nat) (g : Gh) (u : St) (av : List Value) (v : Option Value) : Prop := Met l y (ws_ y b L ret) (rmC d 0 0) (cP D cA o g u av) (rQ v) 0 0 noA
abbrev CetM (l : Launch) (y : MethodName) (b : ByteArray) (L : Nat) (ret : Option FieldType) (d : Nat) (D : va_G) (cA : Nat → ClassId) (o : Nat) (g : Gh) (u : St) (av : List Value) (v : Option Value) (u' : St) : Prop := Met l y (ws_ y b L ret) (rmC d 0 0) (cP D cA o g u av) (cQ D cA o g v u') 0 0 (cF o g)

section CROWS
variable {p : Program} {l : Launch} {e : Env} {R : Room} {s : State} {m : MethodId} {args : Array Value} {below : List Frame} {meth : Method} {c : Code} {H : Heap} {locs : List Loc} {cells slots : Nat} {Q : State → Prop}
variable {cc : ByteArray} {pc : Nat} {ls : Array Slot} {rest : List Value} {D : va_G} {cA : Nat → ClassId} {A : Nat → Prop} {o : Nat} {g : Gh} {H0 : Heap} {u : St}
theorem cM_start {y : MethodName} {b : ByteArray} {L d : Nat} {ret : Option FieldType} {av : List Value} {Qc : Array Value → State → Outcome → State → Prop} {free : Addr → Prop} (own : String) (hy : plainName y.cls = true) (hyc : y.cls = own) (hn : (lg_sl av).length ≤ L)
    (body : ∀ (p : Program) (e : Env) (s : State) (m : MethodId) (below : List Frame) (meth : Method) (c : Code), p.tables.exec = Jvm.exec → c.code = b → c.maxLocals = L → s.vm.findClass own = some m.cls → (∀ w ∈ lw_all, w.before av.toArray s = true) → meth.sig.returnType = ret → meth.locks = false → K0 D cA s → CW D cA o g u s.heap → ∀ ls : Array Slot, lv_has ls L (lv_args 0 av) → W p l e (rmC d 0 0) s m av.toArray below meth c s.heap [] 0 0 (MQ below Qc av.toArray s 0 0 free) (F0 m 0 ls [])) :
    Met l y (ws_ y b L ret) (rmC d 0 0) (cP D cA o g u av) Qc 0 0 free := by
  refine Met.ofW (cc := b) (maxL := L) (ret := ret) hy rfl ?_
  intro p e s m args below meth c s₁ B hml hv
  obtain ⟨rfl, hM, hK⟩ := hv
  have hts := atoms_spec (ws := ws_ y b L ret) B.pre
  have hts : ∀ w ∈ lw_all, w.before _ s = true := fun w h => hts w (List.mem_cons_of_mem _ h)
  have hown : s.vm.findClass own = some m.cls := by rw [← hyc]; exact findClass_of_methodNamed B.named
  rw [lg_entry_eq]
  exact body p e s m below meth c B.exec B.bytes hml hown hts B.returns B.notSynchronized hK hM _ (lv_entry av hn)
theorem cw_get (hexec : p.tables.exec = Jvm.exec) (hb : c.code = cc) (hts : ∀ w ∈ lw_all, w.before args s = true) (hown : s.vm.findClass RX0 = some m.cls) (hK : K0 D cA s) (hM : CW D cA o g u H) (k : Nat) (hk : k < 31) {index : Nat} (hlink : (Cond.fieldLink RX0 index RX0 (TX0 k).2.1 (TX0 k).2.2.1) ∈ lw_all) (hT : (TX0 k).1 = RX0) {v : Value} (hv : cV o g u k = v) (hdg : decode cc pc = .ok (.getfield index, 3))
    (kk : W p l e R s m args below meth c H locs cells slots Q (F0 m (pc + 3) ls (v :: rest))) : W p l e R s m args below meth c H locs cells slots Q (F0 m pc ls (.ref o :: rest)) :=
  ob_get (C := RX0) (T := TX0) (N := 31) (ci := 0) hexec hb hts in_X0 hown hK hM.1 rfl k hk hlink (fun x h => by rw [hT] at h; exact h) hv hdg kk
theorem cw_puti (hexec : p.tables.exec = Jvm.exec) (hb : c.code = cc) (hts : ∀ w ∈ lw_all, w.before args s = true) (hown : s.vm.findClass RX0 = some m.cls) (hK : K0 D cA s) (hM : CW D cA o g u H) (hS : va_S (cF o g) H0 H locs) (k : Nat) (hk : k < 31) {index : Nat} (hlink : (Cond.fieldLink RX0 index RX0 (TX0 k).2.1 (TX0 k).2.2.1) ∈ lw_all) (hT : (TX0 k).1 = RX0) (hkd : cKd k = 0) (hty : tyX0 k = .int) (hfin : (TX0 k).2.2.2 = false) {v : Int32} (hdg : decode cc pc = .ok (.putfield index, 3))
    (kk : ∀ (H1 : Heap) (locs1 : List Loc), CW D cA o g (si u k v) H1 → va_S (cF o g) H0 H1 locs1 → W p l e R s m args below meth c H1 locs1 cells slots Q (F0 m (pc + 3) ls rest)) : W p l e R s m args below meth c H locs cells slots Q (F0 m pc ls (.int v :: .ref o :: rest)) :=
  ob_put (C := RX0) (T := TX0) (N := 31) (ci := 0) hexec hb hts in_X0 tyX0 tyX0_ok nmX0 hown hK hM.1 hS (cF_o o g) rfl k hk hlink (fun x h => by rw [hT] at h; exact h) hfin (by rw [hty]; rfl) (by rw [hty]; rfl) hdg (fun H1 locs1 h1 h2 _ h3 => kk H1 locs1 (hM.puti hk (by omega) h1 h2) h3)
theorem cw_putz (hexec : p.tables.exec = Jvm.exec) (hb : c.code = cc) (hts : ∀ w ∈ lw_all, w.before args s = true) (hown : s.vm.findClass RX0 = some m.cls) (hK : K0 D cA s) (hM : CW D cA o g u H) (hS : va_S (cF o g) H0 H locs) (k : Nat) (hk : k < 31) {index : Nat} (hlink : (Cond.fieldLink RX0 index RX0 (TX0 k).2.1 (TX0 k).2.2.1) ∈ lw_all) (hT : (TX0 k).1 = RX0) (hkd : cKd k = 1) (hty : tyX0 k = .boolean) (hfin : (TX0 k).2.2.2 = false) {v : Bool} (hdg : decode cc pc = .ok (.putfield index, 3))
    (kk : ∀ (H1 : Heap) (locs1 : List Loc), CW D cA o g (si u k (b2 v)) H1 → va_S (cF o g) H0 H1 locs1 → W p l e R s m args below meth c H1 locs1 cells slots Q (F0 m (pc + 3) ls rest)) : W p l e R s m args below meth c H locs cells slots Q (F0 m pc ls (.int (b2 v) :: .ref o :: rest)) :=
  ob_put (C := RX0) (T := TX0) (N := 31) (ci := 0) hexec hb hts in_X0 tyX0 tyX0_ok nmX0 hown hK hM.1 hS (cF_o o g) rfl k hk hlink (fun x h => by rw [hT] at h; exact h) hfin (by rw [hty]; exact b2_nar v) (by rw [hty]; cases v <;> rfl) hdg (fun H1 locs1 h1 h2 _ h3 => kk H1 locs1 (hM.puti hk (by omega) h1 h2) h3)
theorem cArr_2 {k : Nat} (h : cKd k = 2) : cArr cA u k = arrV (cA 0) (cLn k) (fun j => .int (u.2.1 k j)) := by unfold cArr; rw [h]; rfl
theorem cArr_3 {k : Nat} (h : cKd k = 3) : cArr cA u k = arrV (cA 1) (cLn k) (fun j => .int (u.2.1 k j)) := by unfold cArr; rw [h]; rfl
theorem cArr_4 {k : Nat} (h : cKd k = 4) : cArr cA u k = arrV (cA 2) (cLn k) (fun j => .int (u.2.1 k j)) := by unfold cArr; rw [h]; rfl
theorem cArr_5 {k : Nat} (h : cKd k = 5) : cArr cA u k = arrV (cA 3) (cLn k) (fun j => .long (u.2.2 k j)) := by unfold cArr; rw [h]; rfl
theorem cw_ild (hexec : p.tables.exec = Jvm.exec) (hb : c.code = cc) (hK : K0 D cA s) (hM : CW D cA o g u H) (k : Nat) (hk : k < 60) (hkd : cKd k = 2) {i : Int32} {n j : Nat} {v : Int32} (hn : cLn k = n) (hin : vp_in i n) (hj : i.toNatClampNeg = j) (hv : u.2.1 k j = v) (hdg : decode cc pc = .ok (.iaload, 1))
    (kk : W p l e R s m args below meth c H locs cells slots Q (F0 m (pc + 1) ls (.int v :: rest))) : W p l e R s m args below meth c H locs cells slots Q (F0 m pc ls (.int i :: .ref (cAd o k) :: rest)) := by
  subst hj; subst hv
  exact ar_ild (f := u.2.1 k) hexec hb hK (by rw [hM.2.2.1 k hk (by omega) (by omega), cArr_2 hkd]) (by rw [hn]; exact hin) hdg kk
theorem cw_bld (hexec : p.tables.exec = Jvm.exec) (hb : c.code = cc) (hK : K0 D cA s) (hM : CW D cA o g u H) (k : Nat) (hk : k < 60) (hkd : cKd k = 3) {i : Int32} {n j : Nat} {v : Int32} (hn : cLn k = n) (hin : vp_in i n) (hj : i.toNatClampNeg = j) (hv : u.2.1 k j = v) (hdg : decode cc pc = .ok (.baload, 1))
    (kk : W p l e R s m args below meth c H locs cells slots Q (F0 m (pc + 1) ls (.int v :: rest))) : W p l e R s m args below meth c H locs cells slots Q (F0 m pc ls (.int i :: .ref (cAd o k) :: rest)) := by
  subst hj; subst hv
  exact ar_bld (f := u.2.1 k) hexec hb hK (by rw [hM.2.2.1 k hk (by omega) (by omega), cArr_3 hkd]) (by rw [hn]; exact hin) hdg kk
theorem cw_zld (hexec : p.tables.exec = Jvm.exec) (hb : c.code = cc) (hK : K0 D cA s) (hM : CW D cA o g u H) (k : Nat) (hk : k < 60) (hkd : cKd k = 4) {i : Int32} {n j : Nat} {v : Int32} (hn : cLn k = n) (hin : vp_in i n) (hj : i.toNatClampNeg = j) (hv : u.2.1 k j = v) (hdg : decode cc pc = .ok (.baload, 1))
    (kk : W p l e R s m args below meth c H locs cells slots Q (F0 m (pc + 1) ls (.int v :: rest))) : W p l e R s m args below meth c H locs cells slots Q (F0 m pc ls (.int i :: .ref (cAd o k) :: rest)) := by
  subst hj; subst hv
  exact ar_zld (f := u.2.1 k) hexec hb hK (by rw [hM.2.2.1 k hk (by omega) (by omega), cArr_4 hkd]) (by rw [hn]; exact hin) hdg kk
theorem cw_lld (hexec : p.tables.exec = Jvm.exec) (hb : c.code = cc) (hK : K0 D cA s) (hM : CW D cA o g u H) (k : Nat) (hk : k < 60) (hkd : cKd k = 5) {i : Int32} {n j : Nat} {v : Int64} (hn : cLn k = n) (hin : vp_in i n) (hj : i.toNatClampNeg = j) (hv : u.2.2 k j = v) (hdg : decode cc pc = .ok (.laload, 1))
    (kk : W p l e R s m args below meth c H locs cells slots Q (F0 m (pc + 1) ls (.long v :: rest))) : W p l e R s m args below meth c H locs cells slots Q (F0 m pc ls (.int i :: .ref (cAd o k) :: rest)) := by
  subst hj; subst hv
  exact ar_lld (f := u.2.2 k) hexec hb hK (by rw [hM.2.2.1 k hk (by omega) (by omega), cArr_5 hkd]) (by rw [hn]; exact hin) hdg kk
theorem cw_ist (hexec : p.tables.exec = Jvm.exec) (hb : c.code = cc) (hK : K0 D cA s) (hM : CW D cA o g u H) (hS : va_S (cF o g) H0 H locs) (k : Nat) (hk : k < 60) (hkd : cKd k = 2) {i x : Int32} {n j : Nat} (hn : cLn k = n) (hin : vp_in i n) (hj : i.toNatClampNeg = j) (hdg : decode cc pc = .ok (.iastore, 1))
    (kk : ∀ (H1 : Heap) (locs1 : List Loc), CW D cA o g (sa u k j x) H1 → va_S (cF o g) H0 H1 locs1 → W p l e R s m args below meth c H1 locs1 cells slots Q (F0 m (pc + 1) ls rest)) : W p l e R s m args below meth c H locs cells slots Q (F0 m pc ls (.int x :: .int i :: .ref (cAd o k) :: rest)) := by
  subst hj
  exact ar_ist (f := u.2.1 k) hexec hb hK (by rw [hM.2.2.1 k hk (by omega) (by omega), cArr_2 hkd]) hS (cF_k hk (by omega) (by omega)) (by rw [hn]; exact hin) hdg (fun H1 locs1 h1 h2 _ h3 => kk H1 locs1 (hM.sta hk (by omega) (by omega) (by rw [h1, cArr_2 hkd, sa_row]) h2) h3)
theorem cw_bst (hexec : p.tables.exec = Jvm.exec) (hb : c.code = cc) (hK : K0 D cA s) (hM : CW D cA o g u H) (hS : va_S (cF o g) H0 H locs) (k : Nat) (hk : k < 60) (hkd : cKd k = 3) {i x : Int32} {n j : Nat} (hn : cLn k = n) (hin : vp_in i n) (hj : i.toNatClampNeg = j) (hdg : decode cc pc = .ok (.bastore, 1))
    (kk : ∀ (H1 : Heap) (locs1 : List Loc), CW D cA o g (sa u k j x.toInt8.toInt32) H1 → va_S (cF o g) H0 H1 locs1 → W p l e R s m args below meth c H1 locs1 cells slots Q (F0 m (pc + 1) ls rest)) : W p l e R s m args below meth c H locs cells slots Q (F0 m pc ls (.int x :: .int i :: .ref (cAd o k) :: rest)) := by
  subst hj
  exact ar_bst (f := u.2.1 k) hexec hb hK (by rw [hM.2.2.1 k hk (by omega) (by omega), cArr_3 hkd]) hS (cF_k hk (by omega) (by omega)) (by rw [hn]; exact hin) hdg (fun H1 locs1 h1 h2 _ h3 => kk H1 locs1 (hM.sta hk (by omega) (by omega) (by rw [h1, cArr_3 hkd, sa_row]) h2) h3)
theorem cw_zst (hexec : p.tables.exec = Jvm.exec) (hb : c.code = cc) (hK : K0 D cA s) (hM : CW D cA o g u H) (hS : va_S (cF o g) H0 H locs) (k : Nat) (hk : k < 60) (hkd : cKd k = 4) {i : Int32} {x : Bool} {n j : Nat} (hn : cLn k = n) (hin : vp_in i n) (hj : i.toNatClampNeg = j) (hdg : decode cc pc = .ok (.bastore, 1))
    (kk : ∀ (H1 : Heap) (locs1 : List Loc), CW D cA o g (sa u k j (b2 x)) H1 → va_S (cF o g) H0 H1 locs1 → W p l e R s m args below meth c H1 locs1 cells slots Q (F0 m (pc + 1) ls rest)) : W p l e R s m args below meth c H locs cells slots Q (F0 m pc ls (.int (b2 x) :: .int i :: .ref (cAd o k) :: rest)) := by
  subst hj
  exact ar_zst (f := u.2.1 k) hexec hb hK (by rw [hM.2.2.1 k hk (by omega) (by omega), cArr_4 hkd]) hS (cF_k hk (by omega) (by omega)) (by rw [hn]; exact hin) hdg (fun H1 locs1 h1 h2 _ h3 => kk H1 locs1 (hM.sta hk (by omega) (by omega) (by rw [h1, cArr_4 hkd, sa_row]) h2) h3)
theorem cw_lst (hexec : p.tables.exec = Jvm.exec) (hb : c.code = cc) (hK : K0 D cA s) (hM : CW D cA o g u H) (hS : va_S (cF o g) H0 H locs) (k : Nat) (hk : k < 60) (hkd : cKd k = 5) {i : Int32} {x : Int64} {n j : Nat} (hn : cLn k = n) (hin : vp_in i n) (hj : i.toNatClampNeg = j) (hdg : decode cc pc = .ok (.lastore, 1))
    (kk : ∀ (H1 : Heap) (locs1 : List Loc), CW D cA o g (sl u k j x) H1 → va_S (cF o g) H0 H1 locs1 → W p l e R s m args below meth c H1 locs1 cells slots Q (F0 m (pc + 1) ls rest)) : W p l e R s m args below meth c H locs cells slots Q (F0 m pc ls (.long x :: .int i :: .ref (cAd o k) :: rest)) := by
  subst hj
  exact ar_lst (f := u.2.2 k) hexec hb hK (by rw [hM.2.2.1 k hk (by omega) (by omega), cArr_5 hkd]) hS (cF_k hk (by omega) (by omega)) (by rw [hn]; exact hin) hdg (fun H1 locs1 h1 h2 _ h3 => kk H1 locs1 (hM.stl hk hkd (by rw [h1, cArr_5 hkd, sl_row]) h2) h3)
/-- a row of an array of rows -/
theorem cw_row (hexec : p.tables.exec = Jvm.exec) (hb : c.code = cc) (hK : K0 D cA s) (hM : CW D cA o g u H) (k k0 n : Nat) (hk : k < 60) (hkd : cKd k = 8) (hrf : cRf cA o g k = arrV (cA 7) n (fun j => .ref (cAd o (k0 + j)))) {i : Int32} {j : Nat} (hin : vp_in i n) (hj : i.toNatClampNeg = j) (hdg : decode cc pc = .ok (.aaload, 1))
    (kk : W p l e R s m args below meth c H locs cells slots Q (F0 m (pc + 1) ls (.ref (cAd o (k0 + j)) :: rest))) : W p l e R s m args below meth c H locs cells slots Q (F0 m pc ls (.int i :: .ref (cAd o k) :: rest)) := by
  subst hj
  have hlt : i.toNatClampNeg < n := Nat.not_le.mp fun q => hin (Or.inr q)
  exact W.aald (v := .ref (cAd o (k0 + i.toNatClampNeg))) (ty := .array .int) hexec hb (by rw [hM.2.2.2.1 k hk hkd, hrf]) ((hK.2 7 _ rfl).1 n _) rfl (fun q => by cases q) (by rw [arrV_size]; exact hin) (by rw [arrV_read _ _ hlt]) rfl rfl hdg kk
/-- a paper of the array -/
theorem cw_pap (hexec : p.tables.exec = Jvm.exec) (hb : c.code = cc) (hK : K0 D cA s) (hM : CW D cA o g u H) {i : Int32} (hin : vp_in i 60) (hlt : i.toNatClampNeg < g.1) (hdg : decode cc pc = .ok (.aaload, 1))
    (kk : W p l e R s m args below meth c H locs cells slots Q (F0 m (pc + 1) ls (va_rf (pr g i) :: rest))) : W p l e R s m args below meth c H locs cells slots Q (F0 m pc ls (.int i :: .ref (cAd o 11) :: rest)) := by
  have h60 : i.toNatClampNeg < 60 := Nat.not_le.mp fun q => hin (Or.inr q)
  have hc : H[cAd o 11]? = some (arrV (cA 5) 60 (fun j => va_rf (if j < g.1 then some (g.2.1 j) else none))) := by rw [hM.2.2.2.1 11 (by decide) (by decide), cRf_11]
  exact W.aald (v := va_rf (pr g i)) (ty := .object "HomeRoll$Paper") hexec hb hc ((hK.2 5 _ rfl).1 60 _) rfl (fun q => by cases q) (by rw [arrV_size]; exact hin) (by rw [arrV_read _ _ h60, if_pos hlt, pr, if_neg (fun q => hin (Or.inl q))]) rfl rfl hdg kk
/-- a constant of the array -/
theorem cw_all (hexec : p.tables.exec = Jvm.exec) (hb : c.code = cc) (hK : K0 D cA s) (hM : CW D cA o g u H) {i : Int32} {j : Nat} (hin : vp_in i 9) (hj : i.toNatClampNeg = j) (hdg : decode cc pc = .ok (.aaload, 1))
    (kk : W p l e R s m args below meth c H locs cells slots Q (F0 m (pc + 1) ls (.ref (g.2.2.2 j) :: rest))) : W p l e R s m args below meth c H locs cells slots Q (F0 m pc ls (.int i :: .ref (cAd o 24) :: rest)) := by
  subst hj
  have hlt : i.toNatClampNeg < 9 := Nat.not_le.mp fun q => hin (Or.inr q)
  have hc : H[cAd o 24]? = some (arrV (cA 6) 9 (fun j => .ref (g.2.2.2 j))) := by rw [hM.2.2.2.1 24 (by decide) (by decide), cRf_24]
  exact W.aald (v := .ref (g.2.2.2 i.toNatClampNeg)) (ty := .object "HomeRoll$Known") hexec hb hc ((hK.2 6 _ rfl).1 9 _) rfl (fun q => by cases q) (by rw [arrV_size]; exact hin) (by rw [arrV_read _ _ hlt]) rfl rfl hdg kk
theorem cw_alen (hexec : p.tables.exec = Jvm.exec) (hb : c.code = cc) (hK : K0 D cA s) (hM : CW D cA o g u H) (hdg : decode cc pc = .ok (.arraylength, 1))
    (kk : W p l e R s m args below meth c H locs cells slots Q (F0 m (pc + 1) ls (.int 9 :: rest))) : W p l e R s m args below meth c H locs cells slots Q (F0 m pc ls (.ref (cAd o 24) :: rest)) :=
  W.alen (ty := .object "HomeRoll$Known") hexec hb (show H[cAd o 24]? = some (arrV (cA 6) 9 (fun j => .ref (g.2.2.2 j))) by rw [hM.2.2.2.1 24 (by decide) (by decide), cRf_24]) ((hK.2 6 _ rfl).1 9 _) (by rw [arrV_size]; decide) rfl rfl hdg kk
/-- the view's fields -/
theorem cw_vget (hexec : p.tables.exec = Jvm.exec) (hb : c.code = cc) (hts : ∀ w ∈ lw_all, w.before args s = true) {own : String} (hown : s.vm.findClass own = some m.cls) (hK : K0 D cA s) (hM : CW D cA o g u H) (k : Nat) (hk : k < 6) {index : Nat} (hlink : (Cond.fieldLink own index RX1 (TX1 k).2.1 (TX1 k).2.2.1) ∈ lw_all) (hT : (TX1 k).1 = RX1) {v : Value} (hv : vV o g u k = v) (hdg : decode cc pc = .ok (.getfield index, 3))
    (kk : W p l e R s m args below meth c H locs cells slots Q (F0 m (pc + 3) ls (v :: rest))) : W p l e R s m args below meth c H locs cells slots Q (F0 m pc ls (.ref (cAd o 23) :: rest)) :=
  ob_get (C := RX1) (T := TX1) (N := 6) (ci := 1) hexec hb hts in_X1 hown hK hM.2.1 rfl k hk hlink (fun x h => by rw [hT] at h; exact h) hv hdg kk
theorem cw_vputi (hexec : p.tables.exec = Jvm.exec) (hb : c.code = cc) (hts : ∀ w ∈ lw_all, w.before args s = true) {own : String} (hown : s.vm.findClass own = some m.cls) (hK : K0 D cA s) (hM : CW D cA o g u H) (hS : va_S (cF o g) H0 H locs) (k : Nat) (hk1 : 1 ≤ k) (hk : k < 5) {index : Nat} (hlink : (Cond.fieldLink own index RX1 (TX1 k).2.1 (TX1 k).2.2.1) ∈ lw_all) (hT : (TX1 k).1 = RX1) (hfin : (TX1 k).2.2.2 = false) {v : Int32} (hn : narrow (tyX1 k) (.int v) = .int v) (hf : fits (tyX1 k) (.int v) = true) (hdg : decode cc pc = .ok (.putfield index, 3))
    (kk : ∀ (H1 : Heap) (locs1 : List Loc), CW D cA o g (si u (31 + k) v) H1 → va_S (cF o g) H0 H1 locs1 → W p l e R s m args below meth c H1 locs1 cells slots Q (F0 m (pc + 3) ls rest)) : W p l e R s m args below meth c H locs cells slots Q (F0 m pc ls (.int v :: .ref (cAd o 23) :: rest)) :=
  ob_put (C := RX1) (T := TX1) (N := 6) (ci := 1) hexec hb hts in_X1 tyX1 tyX1_ok nmX1 hown hK hM.2.1 hS (cF_k k23.1 k23.2.1 k23.2.2) rfl k (by omega) hlink (fun x h => by rw [hT] at h; exact h) hfin hn hf hdg (fun H1 locs1 h1 h2 _ h3 => kk H1 locs1 (hM.putv hk1 hk h1 h2) h3)
theorem cw_vputp (hexec : p.tables.exec = Jvm.exec) (hb : c.code = cc) (hts : ∀ w ∈ lw_all, w.before args s = true) {own : String} (hown : s.vm.findClass own = some m.cls) (hK : K0 D cA s) (hM : CW D cA o g u H) (hS : va_S (cF o g) H0 H locs) {index : Nat} (hlink : (Cond.fieldLink own index RX1 (TX1 0).2.1 (TX1 0).2.2.1) ∈ lw_all) {v : Int32} (hdg : decode cc pc = .ok (.putfield index, 3))
    (kk : ∀ (H1 : Heap) (locs1 : List Loc), CW D cA o g (si u 31 v) H1 → va_S (cF o g) H0 H1 locs1 → W p l e R s m args below meth c H1 locs1 cells slots Q (F0 m (pc + 3) ls rest)) : W p l e R s m args below meth c H locs cells slots Q (F0 m pc ls (va_rf (pr g v) :: .ref (cAd o 23) :: rest)) :=
  ob_put (C := RX1) (T := TX1) (N := 6) (ci := 1) (v := va_rf (pr g v)) hexec hb hts in_X1 tyX1 tyX1_ok nmX1 hown hK hM.2.1 hS (cF_k k23.1 k23.2.1 k23.2.2) rfl 0 (by decide) hlink (fun x h => h) rfl (by cases pr g v <;> rfl) (by cases pr g v <;> rfl) hdg (fun H1 locs1 h1 h2 _ h3 => kk H1 locs1 (hM.putvp h1 h2) h3)
/-- a paper's fields -/
theorem pr_some {i : Int32} (h0 : ¬ i < 0) : pr g i = some (g.2.1 i.toNatClampNeg) := by rw [pr, if_neg h0]
theorem cw_pget (hexec : p.tables.exec = Jvm.exec) (hb : c.code = cc) (hts : ∀ w ∈ lw_all, w.before args s = true) {own : String} (hown : s.vm.findClass own = some m.cls) (hK : K0 D cA s) (hM : CW D cA o g u H) (k : Nat) (hk : k < 9) {i : Int32} (h0 : pIn g.1 i) {index : Nat} (hlink : (Cond.fieldLink own index RX4 (TX4 k).2.1 (TX4 k).2.2.1) ∈ lw_all) (hT : (TX4 k).1 = RX4) {v : Int32} (hv : u.2.1 (60 + k) i.toNatClampNeg = v) (hdg : decode cc pc = .ok (.getfield index, 3))
    (kk : W p l e R s m args below meth c H locs cells slots Q (F0 m (pc + 3) ls (.int v :: rest))) : W p l e R s m args below meth c H locs cells slots Q (F0 m pc ls (va_rf (pr g i) :: rest)) := by
  subst hv
  rw [pr_some h0.1]
  exact ob_get (C := RX4) (T := TX4) (N := 9) (ci := 3) hexec hb hts in_X4 hown hK (hM.2.2.2.2.1 _ h0.2) rfl k hk hlink (fun x h => by rw [hT] at h; exact h) rfl hdg kk
theorem cw_pput (hexec : p.tables.exec = Jvm.exec) (hb : c.code = cc) (hts : ∀ w ∈ lw_all, w.before args s = true) {own : String} (hown : s.vm.findClass own = some m.cls) (hK : K0 D cA s) (hM : CW D cA o g u H) (hS : va_S (cF o g) H0 H locs) (k : Nat) (hk : k < 9) {i : Int32} (h0 : pIn g.1 i) {index : Nat} (hlink : (Cond.fieldLink own index RX4 (TX4 k).2.1 (TX4 k).2.2.1) ∈ lw_all) (hT : (TX4 k).1 = RX4) (hfin : (TX4 k).2.2.2 = false) (hty : tyX4 k = .int) {v : Int32} {j : Nat} (hj : i.toNatClampNeg = j) (hdg : decode cc pc = .ok (.putfield index, 3))
    (kk : ∀ (H1 : Heap) (locs1 : List Loc), CW D cA o g (sa u (60 + k) j v) H1 → va_S (cF o g) H0 H1 locs1 → W p l e R s m args below meth c H1 locs1 cells slots Q (F0 m (pc + 3) ls rest)) : W p l e R s m args below meth c H locs cells slots Q (F0 m pc ls (.int v :: va_rf (pr g i) :: rest)) := by
  subst hj
  rw [pr_some h0.1]
  exact ob_put (C := RX4) (T := TX4) (N := 9) (ci := 3) hexec hb hts in_X4 tyX4 tyX4_ok nmX4 hown hK (hM.2.2.2.2.1 _ h0.2) hS (cF_p h0.2) rfl k hk hlink (fun x h => by rw [hT] at h; exact h) hfin (by rw [hty]; rfl) (by rw [hty]; rfl) hdg (fun H1 locs1 h1 h2 _ h3 => kk H1 locs1 (hM.putp h0.2 hk h1 h2) h3)
/-- a null or a paper on the stack, in a local -/
theorem lv_aload_q (hexec : p.tables.exec = Jvm.exec) (hb : c.code = cc) {i : Nat} {r : Option Nat} (hdg : decode cc pc = .ok (.aload i, 2)) (hl : ls[i]? = some (.val (va_rf r)))
    (k : W p l e R s m args below meth c H locs cells slots Q (F0 m (pc + 2) ls (va_rf r :: rest))) : W p l e R s m args below meth c H locs cells slots Q (F0 m pc ls rest) := by
  cases r with
  | none => exact lv_aloadN hexec hb hdg hl k
  | some x => exact lv_aload hexec hb hdg hl k
theorem lv_aload_nq (hexec : p.tables.exec = Jvm.exec) (hb : c.code = cc) {k : Fin 4} {i : Nat} {r : Option Nat} (hdg : decode cc pc = .ok (.aload_n k, 1)) (hi : (k : Nat) = i) (hl : ls[i]? = some (.val (va_rf r)))
    (kk : W p l e R s m args below meth c H locs cells slots Q (F0 m (pc + 1) ls (va_rf r :: rest))) : W p l e R s m args below meth c H locs cells slots Q (F0 m pc ls rest) := by
  cases r with
  | none => exact lv_aload_nN hexec hb hdg hi hl kk
  | some x => exact lv_aload_n hexec hb hdg hi hl kk
theorem lv_astore_q (hexec : p.tables.exec = Jvm.exec) (hb : c.code = cc) {i nL : Nat} {r : Option Nat} {lv lv' : List (Nat × Value)} (hdg : decode cc pc = .ok (.astore i, 2)) (h : lv_has ls nL lv) (hn : i < nL) (hl : (i, va_rf r) :: lv.filter (fun q => !(q.1 == i) && !(q.1 + 1 == i && q.2.category == 2)) = lv')
    (kk : ∀ ls' : Array Slot, lv_has ls' nL lv' → W p l e R s m args below meth c H locs cells slots Q (F0 m (pc + 2) ls' rest)) : W p l e R s m args below meth c H locs cells slots Q (F0 m pc ls (va_rf r :: rest)) := by
  cases r with
  | none => exact lv_astoreN hexec hb hdg h hn hl kk
  | some x => exact lv_astore hexec hb hdg h hn hl kk
theorem lv_astore_nq (hexec : p.tables.exec = Jvm.exec) (hb : c.code = cc) {k : Fin 4} {i nL : Nat} {r : Option Nat} {lv lv' : List (Nat × Value)} (hdg : decode cc pc = .ok (.astore_n k, 1)) (hi : (k : Nat) = i) (h : lv_has ls nL lv) (hn : i < nL) (hl : (i, va_rf r) :: lv.filter (fun q => !(q.1 == i) && !(q.1 + 1 == i && q.2.category == 2)) = lv')
    (kk : ∀ ls' : Array Slot, lv_has ls' nL lv' → W p l e R s m args below meth c H locs cells slots Q (F0 m (pc + 1) ls' rest)) : W p l e R s m args below meth c H locs cells slots Q (F0 m pc ls (va_rf r :: rest)) := by
  cases r with
  | none => exact lv_astore_nN hexec hb hdg hi h hn hl kk
  | some x => exact lv_astore_n hexec hb hdg hi h hn hl kk
theorem lv_ifnull_q (hexec : p.tables.exec = Jvm.exec) (hb : c.code = cc) {i : Int32} {off : Int} {tgt : Nat} (hdg : decode cc pc = .ok (.ifnull off, 3)) (ht : (pc : Int) + off = (tgt : Int))
    (kt : i < 0 → W p l e R s m args below meth c H locs cells slots Q (F0 m tgt ls rest)) (kf : ¬ i < 0 → W p l e R s m args below meth c H locs cells slots Q (F0 m (pc + 3) ls rest)) : W p l e R s m args below meth c H locs cells slots Q (F0 m pc ls (va_rf (pr g i) :: rest)) := by
  by_cases h : i < 0
  · rw [pr, if_pos h]; exact lv_ifnullN hexec hb hdg ht (kt h)
  · rw [pr, if_neg h]; exact lv_ifnull hexec hb hdg (kf h)
theorem lv_ifnonnull_q (hexec : p.tables.exec = Jvm.exec) (hb : c.code = cc) {i : Int32} {off : Int} {tgt : Nat} (hdg : decode cc pc = .ok (.ifnonnull off, 3)) (ht : (pc : Int) + off = (tgt : Int))
    (kt : ¬ i < 0 → W p l e R s m args below meth c H locs cells slots Q (F0 m tgt ls rest)) (kf : i < 0 → W p l e R s m args below meth c H locs cells slots Q (F0 m (pc + 3) ls rest)) : W p l e R s m args below meth c H locs cells slots Q (F0 m pc ls (va_rf (pr g i) :: rest)) := by
  by_cases h : i < 0
  · rw [pr, if_pos h]; exact lv_ifnonnullN hexec hb hdg (kf h)
  · rw [pr, if_neg h]; exact lv_ifnonnull hexec hb hdg ht (kt h)
theorem b2_fit (b : Bool) : fits .boolean (.int (b2 b)) = true := by cases b <;> rfl
theorem row_d40 : ∀ j, j < 8 → 40 + j < 60 ∧ cKd (40 + j) = 2 ∧ cLn (40 + j) = 8 := by decide +kernel
theorem row_d50 : ∀ j, j < 9 → 50 + j < 60 ∧ cKd (50 + j) = 2 ∧ cLn (50 + j) = 256 := by decide +kernel
theorem row_k40 {i : Int32} {j : Nat} (h : vp_in i 8) (hj : i.toNatClampNeg = j) : 40 + j < 60 ∧ cKd (40 + j) = 2 ∧ cLn (40 + j) = 8 := row_d40 j (by rw [← hj]; exact Nat.not_le.mp fun q => h (Or.inr q))
theorem row_k50 {i : Int32} {j : Nat} (h : vp_in i 9) (hj : i.toNatClampNeg = j) : 50 + j < 60 ∧ cKd (50 + j) = 2 ∧ cLn (50 + j) = 256 := row_d50 j (by rw [← hj]; exact Nat.not_le.mp fun q => h (Or.inr q))
theorem lv_null_q (hexec : p.tables.exec = Jvm.exec) (hb : c.code = cc) (hdg : decode cc pc = .ok (.aconst_null, 1)) (k : W p l e R s m args below meth c H locs cells slots Q (F0 m (pc + 1) ls (va_rf (pr g (-1)) :: rest))) : W p l e R s m args below meth c H locs cells slots Q (F0 m pc ls rest) :=
  lv_null hexec hb hdg (by rw [pr, if_pos (by decide)] at k; exact k)
theorem pret_ro {i I : Int32} {nm : String} (hexec : p.tables.exec = Jvm.exec) (hb : c.code = cc) (hr : meth.sig.returnType = some (.object nm)) (hlocks : meth.locks = false) (hv : i = I) (hdg : decode cc pc = .ok (.areturn, 1)) : W p l e R s m args below meth c s.heap [] 0 0 (MQ below (rQ (some (va_rf (pr g I)))) args s 0 0 noA) (F0 m pc ls [va_rf (pr g i)]) := by
  subst hv
  exact W.aret hexec hb hr (Or.inl ⟨_, rfl⟩) (by cases pr g i with
    | none => exact Or.inl rfl
    | some a => exact Or.inr ⟨a, rfl⟩) (fun t ht hW => ⟨rfl, ht⟩) (fun q h => by cases h) hdg hlocks
/-- two papers by their numbers: the same one -/
def pSame (i j : Int32) : Bool := if i < 0 then (if j < 0 then true else false) else (if j < 0 then false else (if i = j then true else false))
theorem pr_eq (hM : CW D cA o g u H) {i j : Int32} (hi : pIxn g.1 i) (hj : pIxn g.1 j) : pr g i = pr g j ↔ pSame i j = true := by
  unfold pr pSame
  by_cases h1 : i < 0
  · by_cases h2 : j < 0
    · simp [h1, h2]
    · simp [h1, h2]
  · by_cases h2 : j < 0
    · simp [h1, h2]
    · simp only [if_neg h1, if_neg h2, Option.some.injEq]
      have q1 := hi.resolve_left h1
      have q2 := hj.resolve_left h2
      constructor
      · intro z
        have e := hM.2.2.2.2.2.2 _ _ q1 q2 z
        have e2 : i = j := by
          rw [Int32.lt_iff_toInt_lt, Int32.toInt_zero] at h1 h2
          unfold Int32.toNatClampNeg at e
          exact Int32.toInt_inj.mp (by omega)
        rw [if_pos e2]
      · intro z
        by_cases e : i = j
        · rw [e]
        · rw [if_neg e] at z; cases z
theorem lv_acmp_q (hexec : p.tables.exec = Jvm.exec) (hb : c.code = cc) (hM : CW D cA o g u H) {i j : Int32} (hi : pIxn g.1 i) (hj : pIxn g.1 j) {off : Int} {tgt : Nat} (hdg : decode cc pc = .ok (.if_acmp .ne off, 3)) (ht : (pc : Int) + off = (tgt : Int))
    (kt : pSame i j = false → W p l e R s m args below meth c H locs cells slots Q (F0 m tgt ls rest)) (kf : pSame i j = true → W p l e R s m args below meth c H locs cells slots Q (F0 m (pc + 3) ls rest)) : W p l e R s m args below meth c H locs cells slots Q (F0 m pc ls (va_rf (pr g j) :: va_rf (pr g i) :: rest)) :=
  lv_acmp_ne hexec hb hdg ht (fun h => kt (by cases e : pSame i j with
    | false => rfl
    | true => exact absurd ((pr_eq hM hi hj).mpr e) h)) (fun h => kf ((pr_eq hM hi hj).mp h))
/-- returns of a method that writes -/
theorem cw_iret {v V : Int32} {u' : St} (hexec : p.tables.exec = Jvm.exec) (hb : c.code = cc) (hr : meth.sig.returnType = some .int) (hlocks : meth.locks = false) (hM : CW D cA o g u H) (hS : va_S (cF o g) s.heap H locs) (hv : v = V) (hu : u = u') (hdg : decode cc pc = .ok (.ireturn, 1)) : W p l e R s m args below meth c H locs 0 0 (MQ below (cQ D cA o g (some (.int V)) u') args s 0 0 (cF o g)) (F0 m pc ls [.int v]) := by
  subst hv; subst hu
  exact W.iret hexec hb hr (fun t ht hW => ⟨rfl, by rw [ht]; exact hM, hS.F ht⟩) hS.2.2 hdg hlocks
theorem cw_zret {v : Int32} {V : Bool} {u' : St} (hexec : p.tables.exec = Jvm.exec) (hb : c.code = cc) (hr : meth.sig.returnType = some .boolean) (hlocks : meth.locks = false) (hM : CW D cA o g u H) (hS : va_S (cF o g) s.heap H locs) (hv : v = b2 V) (hu : u = u') (hdg : decode cc pc = .ok (.ireturn, 1)) : W p l e R s m args below meth c H locs 0 0 (MQ below (cQ D cA o g (some (.int (b2 V))) u') args s 0 0 (cF o g)) (F0 m pc ls [.int v]) := by
  subst hv; subst hu
  exact W.zret hexec hb hr (b2_nar V) (fun t ht hW => ⟨rfl, by rw [ht]; exact hM, hS.F ht⟩) hS.2.2 hdg hlocks
theorem cw_lret {v V : Int64} {u' : St} (hexec : p.tables.exec = Jvm.exec) (hb : c.code = cc) (hr : meth.sig.returnType = some .long) (hlocks : meth.locks = false) (hM : CW D cA o g u H) (hS : va_S (cF o g) s.heap H locs) (hv : v = V) (hu : u = u') (hdg : decode cc pc = .ok (.lreturn, 1)) : W p l e R s m args below meth c H locs 0 0 (MQ below (cQ D cA o g (some (.long V)) u') args s 0 0 (cF o g)) (F0 m pc ls [.long v]) := by
  subst hv; subst hu
  exact W.lret hexec hb hr (fun t ht hW => ⟨rfl, by rw [ht]; exact hM, hS.F ht⟩) hS.2.2 hdg hlocks
theorem cw_vret {u' : St} (hexec : p.tables.exec = Jvm.exec) (hb : c.code = cc) (hr : meth.sig.returnType = none) (hlocks : meth.locks = false) (hM : CW D cA o g u H) (hS : va_S (cF o g) s.heap H locs) (hu : u = u') (hdg : decode cc pc = .ok (.return_, 1)) : W p l e R s m args below meth c H locs 0 0 (MQ below (cQ D cA o g none u') args s 0 0 (cF o g)) (F0 m pc ls []) := by
  subst hu
  exact W.vret hexec hb hr (fun t ht hW => ⟨rfl, by rw [ht]; exact hM, hS.F ht⟩) hS.2.2 hdg hlocks
/-- the receiver -/
theorem cw_recv (hK : K0 D cA s) (hM : CW D cA o g u H) : ∃ cell : Cell, H[o]? = some cell ∧ cell.vm.isStatics = false ∧ s.vm.findClass RX0 = some cell.cls := by
  obtain ⟨cell, g1, g2, g3, -⟩ := hM.1
  exact ⟨cell, g1, by rw [g3]; rfl, by rw [g2]; exact (hK.1 0 _ rfl).2.1⟩
/-- a call of the model's own method, from a method of any class -/
theorem cw_run {own : String} {y : MethodName} {b : ByteArray} {L d d' n idx nL mc ms : Nat} {ret : Option FieldType} {As : List Value} {Qc : Array Value → State → Outcome → State → Prop} {free : Addr → Prop} {st0 : List Value} (hexec : p.tables.exec = Jvm.exec) (hb : c.code = cc) (hml : c.maxLocals = nL) (hown : s.vm.findClass own = some m.cls) (hts : ∀ w ∈ lw_all, w.before args s = true)
    (hMet : Met l y (ws_ y b L ret) (rmC d' 0 0) (cP D cA o g u (.ref o :: As)) Qc 0 0 free) (h1 : Cond.methodLink own idx y ∈ lw_all) (h2 : Cond.instanceMethod y ∈ lw_all) (h3 : Cond.selects RX0 y y ∈ lw_all) (h5 : Cond.code y b L ret ∈ lw_all)
    (hd : y.cls = RX0 ∧ y.cls ≠ "java/lang/invoke/MethodHandle" ∧ y.cls ≠ "java/lang/invoke/VarHandle" ∧ (parseMethodDescriptor y.desc).map (fun d => d.parameters.length) = some n) (hdd : d' < d) (hL : L ≤ 41) (hn : As.length = n) (hK : K0 D cA s) (hM : CW D cA o g u H) (hls : ls.size = nL) (hrest : (rest.map fun v => v.category).sum ≤ 8) (hst : st0 = As.reverse ++ .ref o :: rest) (hdg : decode cc pc = .ok (.invokevirtual idx, 3)) (hf : cells ≤ mc ∧ slots ≤ ms) :
    va_Run p l e (rmC d mc ms) s m args below meth c H locs cells slots 0 0 (F0 m pc ls st0) rest (Qc (Value.ref o :: As).toArray) free :=
  va_runV ⟨hexec, hb, hml, hown, hts⟩ hMet (cwV n hts (lw_V h1 h2 h3 q64 h5) rfl rfl rfl hd (rmC_ok hdd hL)) ⟨cP_blind, cw_recv hK hM, fun U hU hW => ⟨rfl, by rw [hU]; exact hM, va_K.moved hW.alike hK⟩⟩ rfl hn hls hst (lv_room hrest) hdg hf
/-- behind a call of a writing method of the model -/
theorem cw_call {st0 : List Value} {v : Option Value} {u' : St} {ar : Array Value} (hr : va_Run p l e R s m args below meth c H locs cells slots 0 0 (F0 m pc ls st0) rest (cQ D cA o g v u' ar) (cF o g)) (hS : va_S A H0 H locs) (hA : ∀ q, cF o g q → A q)
    (kk : ∀ (H1 : Heap) (locs1 : List Loc), CW D cA o g u' H1 → (∀ q : Nat, q < H.size → ¬ cF o g q → H1[q]? = H[q]?) → H.size ≤ H1.size → va_S A H0 H1 locs1 → W p l e R s m args below meth c H1 locs1 cells slots Q (F0 m (pc + 3) ls (v.toList ++ rest))) : W p l e R s m args below meth c H locs cells slots Q (F0 m pc ls st0) := by
  intro T hT X
  obtain ⟨v', st₀, t, T', L, h0, X', hL, e1, e2, ⟨hv, hB, hz, hk⟩, st⟩ := hr T hT X
  cases hv
  rw [h0] at hz hk
  obtain ⟨t2, a1, b1⟩ := kk T'.heap (locs ++ L) (by rw [e1]; exact hB) (fun q h1 h2 => by rw [e1]; exact hk q h1 h2) (by rw [e1]; exact hz)
    ⟨Nat.le_trans hS.1 (by rw [e1]; exact hz), fun q h1 h2 => by rw [e1, hk q (Nat.lt_of_lt_of_le h1 hS.1) (fun z => h2 (hA q z))]; exact hS.2.1 q h1 h2, fun q hq => by
      rcases List.mem_append.mp hq with h | h
      · exact hS.2.2 q h
      · exact hA _ (hL q h)⟩ T' rfl X'
  exact ⟨t2, st t2 a1, b1⟩
end CROWS

section CJOIN
variable {p : Program} {l : Launch} {e : Env} {R : Room} {s : State} {m : MethodId} {args : Array Value} {below : List Frame} {meth : Method} {c : Code} {H : Heap} {locs : List Loc} {cells slots : Nat} {Q : State → Prop}
variable {ls : Array Slot} {rest : List Value} {D : va_G} {cA : Nat → ClassId} {o : Nat} {g : Gh} {H0 : Heap} {fr : JFrame}
/-- a state of the model comes together -/
theorem w_jc (pcJ : Nat) {E : St} (k : ∀ (H : Heap) (locs : List Loc), CW D cA o g E H → va_S (cF o g) H0 H locs → W p l e R s m args below meth c H locs cells slots Q (F0 m pcJ ls rest))
    (b : (∀ (u : St) (H : Heap) (locs : List Loc), CW D cA o g u H → va_S (cF o g) H0 H locs → u = E → W p l e R s m args below meth c H locs cells slots Q (F0 m pcJ ls rest)) → W p l e R s m args below meth c H locs cells slots Q fr) : W p l e R s m args below meth c H locs cells slots Q fr := b (fun v H locs h1 h2 h => k H locs (by rw [← h]; exact h1) h2)
end CJOIN

section CLOOPS
variable {p : Program} {l : Launch} {e : Env} {R : Room} {s : State} {m : MethodId} {args : Array Value} {below : List Frame} {meth : Method} {c : Code} {H : Heap} {locs : List Loc} {cells slots : Nat} {Q : State → Prop}
variable {ls : Array Slot} {rest : List Value} {D : va_G} {cA : Nat → ClassId} {o : Nat} {g : Gh} {H0 : Heap} {S : Type} {nL : Nat}
theorem cw_loop1 (f : S → Nat × S) (I : S → Prop) (us : S → St) (lf : S → List (Nat × Value)) (h x1 n : Nat) (a0 : S) (hI : ∀ a, I a → (f a).1 = 0 → I (f a).2) (h0 : I a0) (hf : ¬ (wh f n a0).1 = 0) {r : Nat × S} (hr : wh f n a0 = r)
    (body : ∀ a, I a → ∀ (H : Heap) (locs : List Loc) (ls : Array Slot), CW D cA o g (us a) H → va_S (cF o g) H0 H locs → lv_has ls nL (lf a) →
      ((f a).1 = 0 → ∀ (H : Heap) (locs : List Loc) (ls : Array Slot), CW D cA o g (us (f a).2) H → va_S (cF o g) H0 H locs → lv_has ls nL (lf (f a).2) → W p l e R s m args below meth c H locs cells slots Q (F0 m h ls rest)) →
      (¬ (f a).1 = 0 → ∀ (H : Heap) (locs : List Loc) (ls : Array Slot), CW D cA o g (us (f a).2) H → va_S (cF o g) H0 H locs → lv_has ls nL (lf (f a).2) → W p l e R s m args below meth c H locs cells slots Q (F0 m x1 ls rest)) → W p l e R s m args below meth c H locs cells slots Q (F0 m h ls rest))
    (hM : CW D cA o g (us a0) H) (hS : va_S (cF o g) H0 H locs) (hl : lv_has ls nL (lf a0))
    (k1 : ∀ (H : Heap) (locs : List Loc) (ls : Array Slot), CW D cA o g (us (wh f n a0).2) H → va_S (cF o g) H0 H locs → lv_has ls nL (lf (wh f n a0).2) → W p l e R s m args below meth c H locs cells slots Q (F0 m x1 ls rest)) : W p l e R s m args below meth c H locs cells slots Q (F0 m h ls rest) := by
  subst hr
  exact wh_loop f I (fun a => ∀ (H : Heap) (locs : List Loc) (ls : Array Slot), CW D cA o g (us a) H → va_S (cF o g) H0 H locs → lv_has ls nL (lf a) → W p l e R s m args below meth c H locs cells slots Q (F0 m h ls rest)) (fun _ a => ∀ (H : Heap) (locs : List Loc) (ls : Array Slot), CW D cA o g (us a) H → va_S (cF o g) H0 H locs → lv_has ls nL (lf a) → W p l e R s m args below meth c H locs cells slots Q (F0 m x1 ls rest)) hI
    (fun a ha kb kx H locs ls hM hS hl => body a ha H locs ls hM hS hl kb kx) n a0 h0 hf k1 H locs ls hM hS hl
theorem cw_loop2 (f : S → Nat × S) (I : S → Prop) (us : S → St) (lf : S → List (Nat × Value)) (h x1 x2 n : Nat) (a0 : S) (hI : ∀ a, I a → (f a).1 = 0 → I (f a).2) (h0 : I a0) (hf : ¬ (wh f n a0).1 = 0) {r : Nat × S} (hr : wh f n a0 = r)
    (body : ∀ a, I a → ∀ (H : Heap) (locs : List Loc) (ls : Array Slot), CW D cA o g (us a) H → va_S (cF o g) H0 H locs → lv_has ls nL (lf a) →
      ((f a).1 = 0 → ∀ (H : Heap) (locs : List Loc) (ls : Array Slot), CW D cA o g (us (f a).2) H → va_S (cF o g) H0 H locs → lv_has ls nL (lf (f a).2) → W p l e R s m args below meth c H locs cells slots Q (F0 m h ls rest)) →
      ((f a).1 = 1 → ∀ (H : Heap) (locs : List Loc) (ls : Array Slot), CW D cA o g (us (f a).2) H → va_S (cF o g) H0 H locs → lv_has ls nL (lf (f a).2) → W p l e R s m args below meth c H locs cells slots Q (F0 m x1 ls rest)) →
      (¬ (f a).1 = 0 → ¬ (f a).1 = 1 → ∀ (H : Heap) (locs : List Loc) (ls : Array Slot), CW D cA o g (us (f a).2) H → va_S (cF o g) H0 H locs → lv_has ls nL (lf (f a).2) → W p l e R s m args below meth c H locs cells slots Q (F0 m x2 ls rest)) → W p l e R s m args below meth c H locs cells slots Q (F0 m h ls rest))
    (hM : CW D cA o g (us a0) H) (hS : va_S (cF o g) H0 H locs) (hl : lv_has ls nL (lf a0))
    (k1 : r.1 = 1 → ∀ (H : Heap) (locs : List Loc) (ls : Array Slot), CW D cA o g (us r.2) H → va_S (cF o g) H0 H locs → lv_has ls nL (lf r.2) → W p l e R s m args below meth c H locs cells slots Q (F0 m x1 ls rest))
    (k2 : ¬ (wh f n a0).1 = 1 → ∀ (H : Heap) (locs : List Loc) (ls : Array Slot), CW D cA o g (us (wh f n a0).2) H → va_S (cF o g) H0 H locs → lv_has ls nL (lf (wh f n a0).2) → W p l e R s m args below meth c H locs cells slots Q (F0 m x2 ls rest)) : W p l e R s m args below meth c H locs cells slots Q (F0 m h ls rest) := by
  subst hr
  exact wh_loop f I (fun a => ∀ (H : Heap) (locs : List Loc) (ls : Array Slot), CW D cA o g (us a) H → va_S (cF o g) H0 H locs → lv_has ls nL (lf a) → W p l e R s m args below meth c H locs cells slots Q (F0 m h ls rest)) (fun j a => (j = 1 → ∀ (H : Heap) (locs : List Loc) (ls : Array Slot), CW D cA o g (us a) H → va_S (cF o g) H0 H locs → lv_has ls nL (lf a) → W p l e R s m args below meth c H locs cells slots Q (F0 m x1 ls rest)) ∧ (¬ j = 1 → ∀ (H : Heap) (locs : List Loc) (ls : Array Slot), CW D cA o g (us a) H → va_S (cF o g) H0 H locs → lv_has ls nL (lf a) → W p l e R s m args below meth c H locs cells slots Q (F0 m x2 ls rest))) hI
    (fun a ha kb kx H locs ls hM hS hl => body a ha H locs ls hM hS hl kb (fun h1 => (kx (by rw [h1]; decide)).1 h1) (fun h1 h2 => (kx h1).2 h2)) n a0 h0 hf ⟨k1, k2⟩ H locs ls hM hS hl
end CLOOPS
