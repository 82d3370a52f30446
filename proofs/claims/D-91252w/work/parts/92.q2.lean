/-! THE PLAIN LAW, 13: a claim looked at. Own work. -/
set_option maxRecDepth 100000
def lk65 (W : St) (pp k : Int32) : Int32 × Int32 × Int32 × Int32 → Nat × Int32 × Int32 × Int32 × Int32
  | (cm, hn, bd, ix) => if (W.1 20) ≤ ix then (1, cm, hn, bd, ix) else (if (W.2.1 17 ix.toNatClampNeg) = pp then (0, cm, hn, 1, ix + 1) else (if bd = 0 then (if (W.2.1 18 ((W.2.1 17 ix.toNatClampNeg).toNatClampNeg)) = 0 then (if (W.2.1 11 ((W.2.1 17 ix.toNatClampNeg).toNatClampNeg)) = (W.2.1 10 (pp.toNatClampNeg)) then (0, W.2.1 12 ((W.2.1 17 ix.toNatClampNeg).toNatClampNeg), hn, bd, ix + 1) else (if bd = 0 then (0, cm, hn, bd, ix + 1) else (if (W.2.1 18 ((W.2.1 17 ix.toNatClampNeg).toNatClampNeg)) = 0 then (if k < (W.2.1 12 ((W.2.1 17 ix.toNatClampNeg).toNatClampNeg)) then (0, cm, hn, bd, ix + 1) else (0, cm, hn + 1, bd, ix + 1)) else (0, cm, hn, bd, ix + 1)))) else (if bd = 0 then (0, cm, hn, bd, ix + 1) else (if (W.2.1 18 ((W.2.1 17 ix.toNatClampNeg).toNatClampNeg)) = 0 then (if k < (W.2.1 12 ((W.2.1 17 ix.toNatClampNeg).toNatClampNeg)) then (0, cm, hn, bd, ix + 1) else (0, cm, hn + 1, bd, ix + 1)) else (0, cm, hn, bd, ix + 1)))) else (if bd = 0 then (0, cm, hn, bd, ix + 1) else (if (W.2.1 18 ((W.2.1 17 ix.toNatClampNeg).toNatClampNeg)) = 0 then (if k < (W.2.1 12 ((W.2.1 17 ix.toNatClampNeg).toNatClampNeg)) then (0, cm, hn, bd, ix + 1) else (0, cm, hn + 1, bd, ix + 1)) else (0, cm, hn, bd, ix + 1)))))
theorem lk65_eq (u : St) (cl k : Int32) : lpX3_look_65 u cl k = lk65 (fX3_lk1 u cl k) ((fX3_lk0 u cl k).2.1 48 cl.toNatClampNeg) k := by
  funext x
  obtain ⟨a, b, c, d⟩ := x
  rfl
/-- since when, as the model finds it -/
def caF (fs fp : Int32) (F T D : Nat → Int32) (l : Nat → Nat) : Nat → Int32
  | 0 => 0
  | i + 1 => if lsF fs F T l i = false ∧ T (l i) = fp then D (l i) else caF fs fp F T D l i
theorem cm_sn {fs fp : Int32} {F T D : Nat → Int32} {l : Nat → Nat} : ∀ i, hlF fs F T l i = fp → caF fs fp F T D l i = snF fs F T D l i
  | 0, _ => rfl
  | i + 1, h => by
    rw [hlF] at h
    rw [caF, snF]
    by_cases c : F (l i) = hlF fs F T l i
    · rw [if_pos c] at h
      have hl : lsF fs F T l i = false := by unfold lsF; rw [decide_eq_true c]; rfl
      rw [if_pos c, if_pos ⟨hl, h⟩]
    · rw [if_neg c] at h
      have hl : lsF fs F T l i = true := by unfold lsF; rw [decide_eq_false c]; rfl
      rw [if_neg c, if_neg (by rw [hl]; rintro ⟨z, -⟩; cases z)]
      exact cm_sn i h
def I65 (fs : Int32) (W : St) (m m1 t : Nat) (l : Nat → Nat) (x : Int32 × Int32 × Int32 × Int32) : Prop := ∃ i : Nat, i ≤ m ∧ x.2.2.2 = nI i ∧ x.2.2.1 = b2 (decide (t < i)) ∧ x.1 = caF fs (W.2.1 10 (l t)) (W.2.1 10) (W.2.1 11) (W.2.1 12) l (min i t) ∧ x.2.1 = nI (bhF fs (W.2.1 10) (W.2.1 11) l t (min i m1))
theorem b2_0d {p : Prop} {h : Decidable p} : b2 (decide p) = 0 ↔ ¬ p := by rw [b2_0]; exact decide_eq_false_iff_not
theorem i65_step {fs k : Int32} {W : St} {m m1 n t : Nat} {l : Nat → Nat} {q : Nat → Bool} (hn : n ≤ 60) (hm : m ≤ n) (hm1 : m1 ≤ m) (hE : EN q (d3 W) n m l) (ht : t < m1) (h20 : W.1 20 = nI m) (h17 : ∀ j, j < m → W.2.1 17 j = nI (l j)) (h18 : ∀ j, j < m → W.2.1 18 (l j) = b2 (lsF fs (W.2.1 10) (W.2.1 11) l j)) (g2 : ∀ i, i < m1 → d3 W (l i) ≤ k.toInt) (g3 : ∀ i, m1 ≤ i → i < m → k.toInt < d3 W (l i)) : ∀ x, I65 fs W m m1 t l x → (lk65 W (nI (l t)) k x).1 = 0 → I65 fs W m m1 t l (lk65 W (nI (l t)) k x).2 ∧ 60 - (lk65 W (nI (l t)) k x).2.2.2.2.toNatClampNeg < 60 - x.2.2.2.toNatClampNeg := by
  rintro ⟨cm, hh, bd, ix⟩ ⟨i, hi, hix0, hbd0, hcm0, hhn0⟩
  have hix : ix = nI i := hix0
  have hbd : bd = b2 (decide (t < i)) := hbd0
  have hcm : cm = caF fs (W.2.1 10 (l t)) (W.2.1 10) (W.2.1 11) (W.2.1 12) l (min i t) := hcm0
  have hhn : hh = nI (bhF fs (W.2.1 10) (W.2.1 11) l t (min i m1)) := hhn0
  subst hix
  unfold lk65
  dsimp only
  rw [h20]
  by_cases c1 : nI m ≤ nI i
  · simp only [if_pos c1]; intro z; cases z
  · simp only [if_neg c1]
    rw [t_le, nI_i (by omega), nI_i (by omega)] at c1
    have him : i < m := by omega
    have hl := (hE.1 i him).1
    have hlt := (hE.1 t (by omega)).1
    have hmu : 60 - (nI (i + 1)).toNatClampNeg < 60 - i := by rw [nN (by omega)]; omega
    rw [nN (by omega), h17 i him, nN (by omega), nN (by omega), h18 i him, nI_1]
    have key : ∀ cm2 hh2 bd2 : Int32, bd2 = b2 (decide (t < i + 1)) → cm2 = caF fs (W.2.1 10 (l t)) (W.2.1 10) (W.2.1 11) (W.2.1 12) l (min (i + 1) t) → hh2 = nI (bhF fs (W.2.1 10) (W.2.1 11) l t (min (i + 1) m1)) → I65 fs W m m1 t l (cm2, hh2, bd2, nI (i + 1)) := fun cm2 hh2 bd2 e1 e2 e3 => ⟨i + 1, by omega, rfl, e1, e2, e3⟩
    by_cases c2 : nI (l i) = nI (l t)
    · have hit : i = t := hE.inj him (by omega) ((nI_eq (by omega) (by omega)).mp c2)
      simp only [if_pos c2]
      intro _
      refine ⟨key cm hh 1 ?_ ?_ ?_, hmu⟩
      · rw [decide_eq_true (by omega)]; rfl
      · rw [hcm, show min i t = min (i + 1) t by omega]
      · rw [hhn, show min i m1 = i by omega, show min (i + 1) m1 = i + 1 by omega, bhF_0 _ _ _ _ t i (by omega), bhF_0 _ _ _ _ t (i + 1) (by omega)]
    · have hit : ¬ i = t := fun z => c2 (by rw [z])
      simp only [if_neg c2]
      by_cases c3 : i < t
      · have hb0 : bd = 0 := by rw [hbd]; exact b2_0d.mpr (by omega)
        have hbn : bd = b2 (decide (t < i + 1)) := by rw [hbd, decide_eq_false (by omega), decide_eq_false (by omega)]
        have hhn2 : hh = nI (bhF fs (W.2.1 10) (W.2.1 11) l t (min (i + 1) m1)) := by rw [hhn, show min i m1 = i by omega, show min (i + 1) m1 = i + 1 by omega, bhF_0 _ _ _ _ t i (by omega), bhF_0 _ _ _ _ t (i + 1) (by omega)]
        have hc1 : caF fs (W.2.1 10 (l t)) (W.2.1 10) (W.2.1 11) (W.2.1 12) l (min (i + 1) t) = if lsF fs (W.2.1 10) (W.2.1 11) l i = false ∧ W.2.1 11 (l i) = W.2.1 10 (l t) then W.2.1 12 (l i) else cm := by
          rw [show min (i + 1) t = i + 1 by omega, caF, hcm, show min i t = i by omega]
        simp only [if_pos hb0]
        by_cases c4 : lsF fs (W.2.1 10) (W.2.1 11) l i = false
        · by_cases c5 : W.2.1 11 (l i) = W.2.1 10 (l t)
          · rw [if_pos ⟨c4, c5⟩] at hc1
            simp only [if_pos (show b2 (lsF fs (W.2.1 10) (W.2.1 11) l i) = 0 by rw [c4]; rfl), if_pos c5]
            intro _
            exact ⟨key _ _ _ hbn hc1.symm hhn2, hmu⟩
          · rw [if_neg (fun z => c5 z.2)] at hc1
            simp only [if_pos (show b2 (lsF fs (W.2.1 10) (W.2.1 11) l i) = 0 by rw [c4]; rfl), if_neg c5]
            intro _
            exact ⟨key _ _ _ hbn hc1.symm hhn2, hmu⟩
        · rw [if_neg (fun z => c4 z.1)] at hc1
          simp only [if_neg (show ¬ b2 (lsF fs (W.2.1 10) (W.2.1 11) l i) = 0 from fun z => c4 (b2_0.mp z))]
          intro _
          exact ⟨key _ _ _ hbn hc1.symm hhn2, hmu⟩
      · have hb0 : ¬ bd = 0 := by rw [hbd]; exact fun z => b2_0d.mp z (by omega)
        have hbn : bd = b2 (decide (t < i + 1)) := by rw [hbd, decide_eq_true (by omega), decide_eq_true (by omega)]
        have hcm2 : cm = caF fs (W.2.1 10 (l t)) (W.2.1 10) (W.2.1 11) (W.2.1 12) l (min (i + 1) t) := by rw [hcm, show min i t = min (i + 1) t by omega]
        simp only [if_neg hb0]
        by_cases c6 : i < m1
        · have hk : ¬ k < W.2.1 12 (l i) := by rw [t_lt]; have := g2 i c6; unfold d3 at this; omega
          have hh1 : bhF fs (W.2.1 10) (W.2.1 11) l t (min (i + 1) m1) = if t < i ∧ lsF fs (W.2.1 10) (W.2.1 11) l i = false then bhF fs (W.2.1 10) (W.2.1 11) l t i + 1 else bhF fs (W.2.1 10) (W.2.1 11) l t i := by rw [show min (i + 1) m1 = i + 1 by omega, bhF]
          rw [show min i m1 = i by omega] at hhn
          simp only [if_neg hk]
          by_cases c4 : lsF fs (W.2.1 10) (W.2.1 11) l i = false
          · rw [if_pos ⟨by omega, c4⟩] at hh1
            simp only [if_pos (show b2 (lsF fs (W.2.1 10) (W.2.1 11) l i) = 0 by rw [c4]; rfl)]
            intro _
            exact ⟨key _ _ _ hbn hcm2 (by rw [hh1, hhn, nI_1]), hmu⟩
          · rw [if_neg (fun z => c4 z.2)] at hh1
            simp only [if_neg (show ¬ b2 (lsF fs (W.2.1 10) (W.2.1 11) l i) = 0 from fun z => c4 (b2_0.mp z))]
            intro _
            exact ⟨key _ _ _ hbn hcm2 (by rw [hh1, hhn]), hmu⟩
        · have hk : k < W.2.1 12 (l i) := by rw [t_lt]; exact g3 i (by omega) him
          have hh1 : hh = nI (bhF fs (W.2.1 10) (W.2.1 11) l t (min (i + 1) m1)) := by rw [hhn, show min i m1 = min (i + 1) m1 by omega]
          simp only [if_pos hk]
          by_cases c4 : b2 (lsF fs (W.2.1 10) (W.2.1 11) l i) = 0
          · simp only [if_pos c4]
            intro _
            exact ⟨key _ _ _ hbn hcm2 hh1, hmu⟩
          · simp only [if_neg c4]
            intro _
            exact ⟨key _ _ _ hbn hcm2 hh1, hmu⟩
