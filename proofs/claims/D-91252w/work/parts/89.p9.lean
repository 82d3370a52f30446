/-! THE PLAIN LAW, 10: the component follows a house, whole. Own work. -/
set_option maxRecDepth 100000
def FW (u w : St) : Prop := (∀ k, ¬ (18 ≤ k ∧ k ≤ 22) → w.1 k = u.1 k) ∧ w.2 = u.2
theorem FW.si {u w : St} (h : FW u w) {k : Nat} (hk : 18 ≤ k ∧ k ≤ 22) (x : Int32) : FW u (si w k x) := ⟨fun j hj => by rw [si_1, if_neg (by omega)]; exact h.1 j hj, h.2⟩
theorem FW.rf {u : St} : FW u u := ⟨fun _ _ => rfl, rfl⟩
theorem fo0_fw (u : St) (ho d k ak : Int32) : FW u (fX0_fo0 u ho d k ak) := ((((FW.rf.si (by decide) _).si (by decide) _).si (by decide) _).si (by decide) _).si (by decide) _
theorem fo1_fw {u u0 : St} {ho d k ak da ha p : Int32} {w : St} (h : FW u w) : FW u (fX0_fo1 u0 ho d k ak w da ha p) := by
  unfold fX0_fo1
  repeat' split
  all_goals first | exact h | exact (h.si (by decide) _).si (by decide) _ | exact h.si (by decide) _
theorem fo2_fw {u u0 : St} {ho d k ak da ha p : Int32} {w : St} (h : FW u w) : FW u (fX0_fo2 u0 ho d k ak w da ha p) := by
  unfold fX0_fo2
  split
  · exact ((fo1_fw h).si (by decide) _).si (by decide) _
  · exact fo1_fw h
/-- the component's state behind e papers of the line -/
def fW (u : St) (ho d k ak : Int32) (l : Nat → Nat) : Nat → St
  | 0 => fX0_fo0 u ho d k ak
  | e + 1 => fX0_fo2 u ho d k ak (fW u ho d k ak l e) 0 0 (nI (l e))
theorem fW_fw (u : St) (ho d k ak : Int32) (l : Nat → Nat) : ∀ e, FW u (fW u ho d k ak l e)
  | 0 => fo0_fw u ho d k ak
  | e + 1 => fo2_fw (fW_fw u ho d k ak l e)
section FOL
variable {v u : St} {n m : Nat} {Hn P : Int} {l : Nat → Nat} {ho d k : Int32}
theorem cnt_eq (hq : IVq n Hn P v.2.1 u.2.1) {w : St} (hw : FW u w) {p : Nat} (hp : p < n) (hn : n ≤ 60) (k : Int32) : fX4_counts w (nI p) k = fX3_counts v (nI p) k := by
  obtain ⟨a0, a1, a2, a3, a4, a5, a6, a7, a8, -⟩ := hq p hp
  unfold fX4_counts fX4_cn fX3_counts
  rw [nN (by omega), hw.2]
  show (if k < u.2.1 67 p then _ else if u.2.1 68 p < 0 then _ else if u.2.1 68 p ≤ k then _ else _) = _
  rw [a7, a8]
theorem cd_iff (hq : IVq n Hn P v.2.1 u.2.1) {w : St} (hw : FW u w) (hn : n ≤ 60) {p : Nat} (hp : p < n) {da ha : Int32} : cd w ho d k da ha p ↔ q3 v ho k p = true ∧ d3 v p ≤ d.toInt ∧ (da.toInt < d3 v p ∨ (d3 v p = da.toInt ∧ ha.toInt < p)) := by
  obtain ⟨a0, a1, a2, a3, a4, a5, a6, a7, a8, -⟩ := hq p hp
  unfold cd q3 d0 d3
  rw [cnt_eq hq hw hp hn k, hw.2, a1, a4, Bool.and_eq_true, decide_eq_true_iff]
  constructor
  · rintro ⟨z1, z2, z3, z4⟩; exact ⟨⟨z1, z3⟩, z2, z4⟩
  · rintro ⟨⟨z1, z3⟩, z2, z4⟩; exact ⟨z1, z2, z3, z4⟩
theorem d0_eq (hq : IVq n Hn P v.2.1 u.2.1) {w : St} (hw : FW u w) {p : Nat} (hp : p < n) : d0 w p = d3 v p := by
  unfold d0 d3
  rw [hw.2, (hq p hp).2.2.2.2.1]
theorem bef_d {D D' : Nat → Int} {p q : Nat} (h1 : D p = D' p) (h2 : D q = D' q) (h : bef D p q) : bef D' p q := by unfold bef at *; omega
/-- what comes next behind e papers -/
def nxE (v : St) (m : Nat) (l : Nat → Nat) (d : Int32) (e : Nat) : Int32 := if e < m ∧ d3 v (l e) ≤ d.toInt then nI (l e) else -1
theorem fol_e (hq : IVq n Hn P v.2.1 u.2.1) (hE : EN (q3 v ho k) (d3 v) n m l) (hn : n ≤ 60) (h15 : u.1 15 = nI n) {w : St} (hw : FW u w) (e : Nat) {da ha : Int32} (hda : ∀ p, p < n → ((da.toInt < d3 v p ∨ (d3 v p = da.toInt ∧ ha.toInt < p)) ↔ ∀ i, i < e → i < m → bef (d3 v) (l i) p)) : fX0_following w ho d k da ha = nxE v m l d e ∧ okX0_following n w ho d k da ha := by
  have h15w : w.1 15 = nI n := (hw.1 15 (by decide)).trans h15
  have h60 : ∀ p, p < n → w.2.1 60 p = nI p := fun p hp => by rw [hw.2]; exact (hq p hp).1
  obtain ⟨hf, hok⟩ := f0_following (u := w) (ho := ho) (d := d) (k := k) (da := da) (ha := ha) h15w hn h60
  refine ⟨?_, hok⟩
  unfold nxE
  by_cases c : e < m ∧ d3 v (l e) ≤ d.toInt
  · rw [if_pos c]
    obtain ⟨hl1, hl2⟩ := hE.1 e c.1
    have hce : cd w ho d k da ha (l e) := (cd_iff hq hw hn hl1).mpr ⟨hl2, c.2, (hda _ hl1).mpr (fun i hi him => hE.2.1 i e hi c.1)⟩
    rcases hf with ⟨-, z⟩ | ⟨b, hb, hr, hcb, hmin⟩
    · exact absurd hce (z _ hl1)
    · rw [hr]
      obtain ⟨qb, db, kb⟩ := (cd_iff hq hw hn hb).mp hcb
      obtain ⟨j, hj, hjb⟩ := hE.2.2 b hb qb
      have hbe := (hda b hb).mp kb
      have hej : ¬ j < e := fun z => by have := hbe j z hj; rw [hjb] at this; exact bef_irr this
      rcases hmin (l e) hl1 hce with z | z
      · rw [z]
      · by_cases hje : j = e
        · rw [← hjb, hje]
        · have := hE.2.1 e j (by omega) hj
          rw [hjb] at this
          exact absurd (bef_tr this (bef_d (d0_eq hq hw hb) (d0_eq hq hw hl1) z)) bef_irr
  · rw [if_neg c]
    rcases hf with ⟨z, -⟩ | ⟨b, hb, hr, hcb, hmin⟩
    · exact z
    · exfalso
      obtain ⟨qb, db, kb⟩ := (cd_iff hq hw hn hb).mp hcb
      obtain ⟨j, hj, hjb⟩ := hE.2.2 b hb qb
      have hbe := (hda b hb).mp kb
      have hej : ¬ j < e := fun z => by have := hbe j z hj; rw [hjb] at this; exact bef_irr this
      apply c
      refine ⟨by omega, ?_⟩
      by_cases hje : j = e
      · rw [← hje, hjb]; exact db
      · have := hE.2.1 e j (by omega) hj
        rw [hjb] at this
        unfold bef at this
        omega
theorem key_0 (hq : IVq n Hn P v.2.1 u.2.1) (p : Nat) (hp : p < n) : (((-1 : Int32).toInt < d3 v p ∨ (d3 v p = (-1 : Int32).toInt ∧ (-1 : Int32).toInt < p)) ↔ ∀ i, i < 0 → i < m → bef (d3 v) (l i) p) := by
  have := (hq p hp).2.2.2.2.2.2.2.2.2.2.2.2.1
  unfold rg at this
  rw [k_m1]
  exact ⟨fun _ i hi => absurd hi (Nat.not_lt_zero _), fun _ => Or.inl (by unfold d3; omega)⟩
theorem key_s (hq : IVq n Hn P v.2.1 u.2.1) (hE : EN (q3 v ho k) (d3 v) n m l) (hn : n ≤ 60) {w : St} (hw : FW u w) {e : Nat} (he : e < m) (p : Nat) (hp : p < n) : (((w.2.1 64 (l e)).toInt < d3 v p ∨ (d3 v p = (w.2.1 64 (l e)).toInt ∧ (w.2.1 60 (l e)).toInt < p)) ↔ ∀ i, i < e + 1 → i < m → bef (d3 v) (l i) p) := by
  have hl := (hE.1 e he).1
  have e1 : (w.2.1 64 (l e)).toInt = d3 v (l e) := d0_eq hq hw hl
  have e2 : (w.2.1 60 (l e)).toInt = (l e : Int) := by rw [hw.2, (hq _ hl).1, nI_i (by omega)]
  rw [e1, e2]
  constructor
  · intro z i hi him
    have hb : bef (d3 v) (l e) p := by unfold bef; omega
    by_cases hie : i = e
    · rw [hie]; exact hb
    · exact bef_tr (hE.2.1 i e (by omega) he) hb
  · intro z
    have := z e (by omega) he
    unfold bef at this
    omega
theorem l49 (ak : Int32) (hq : IVq n Hn P v.2.1 u.2.1) (hE : EN (q3 v ho k) (d3 v) n m l) (hn : n ≤ 60) (hm : m ≤ n) (h15 : u.1 15 = nI n) : ∀ (j e : Nat) (da ha : Int32), e ≤ m → m - e < j → (∀ i, i < e → d3 v (l i) ≤ d.toInt) → ∃ (m' : Nat) (da' ha' : Int32), e ≤ m' ∧ m' ≤ m ∧ (∀ i, i < m' → d3 v (l i) ≤ d.toInt) ∧ (m' = m ∨ d.toInt < d3 v (l m')) ∧ wh (lpX0_follow_49 u ho d k ak) j (fW u ho d k ak l e, da, ha, nxE v m l d e) = (1, fW u ho d k ak l m', da', ha', -1) := by
  intro j
  induction j with
  | zero => intro e da ha _ h; omega
  | succ j ih =>
    intro e da ha he hj hd
    rw [wh_s]
    by_cases c : e < m ∧ d3 v (l e) ≤ d.toInt
    · have hl := (hE.1 e c.1).1
      have hnx : nxE v m l d e = nI (l e) := if_pos c
      have hw := fW_fw u ho d k ak l e
      have hf : lpX0_follow_49 u ho d k ak (fW u ho d k ak l e, da, ha, nI (l e)) = (0, fW u ho d k ak l (e + 1), (fW u ho d k ak l e).2.1 64 (l e), (fW u ho d k ak l e).2.1 60 (l e), nxE v m l d (e + 1)) := by
        unfold lpX0_follow_49
        dsimp only
        rw [if_neg (by rw [t_lt, nI_i (by omega), k_0]; omega), nN (by omega)]
        have hw2 : FW u (fX0_fo2 u ho d k ak (fW u ho d k ak l e) da ha (nI (l e))) := fo2_fw hw
        have e64 : (fW u ho d k ak l e).2.1 64 (l e) = (fX0_fo2 u ho d k ak (fW u ho d k ak l e) da ha (nI (l e))).2.1 64 (l e) := by rw [hw.2, hw2.2]
        have e60 : (fW u ho d k ak l e).2.1 60 (l e) = (fX0_fo2 u ho d k ak (fW u ho d k ak l e) da ha (nI (l e))).2.1 60 (l e) := by rw [hw.2, hw2.2]
        rw [e64, e60, (fol_e hq hE hn h15 hw2 (e + 1) (fun p hp => key_s hq hE hn hw2 c.1 p hp)).1]
        rfl
      rw [hnx, hf, if_pos rfl]
      obtain ⟨m', da', ha', g1, g2, g3, g4, g5⟩ := ih (e + 1) _ _ (by omega) (by omega) (fun i hi => by by_cases z : i = e; (· rw [z]; exact c.2); (· exact hd i (by omega)))
      exact ⟨m', da', ha', by omega, g2, g3, g4, g5⟩
    · have hnx : nxE v m l d e = -1 := if_neg c
      have hf : lpX0_follow_49 u ho d k ak (fW u ho d k ak l e, da, ha, -1) = (1, fW u ho d k ak l e, da, ha, -1) := by
        unfold lpX0_follow_49
        dsimp only
        rw [if_pos (by decide)]
      rw [hnx, hf, if_neg (by show ¬ (1 : Nat) = 0; decide)]
      exact ⟨e, da, ha, Nat.le_refl _, he, hd, by omega, rfl⟩
/-- the component's follow -/
theorem f0_follow (ak : Int32) (hq : IVq n Hn P v.2.1 u.2.1) (hE : EN (q3 v ho k) (d3 v) n m l) (hn : n ≤ 60) (hm : m ≤ n) (h15 : u.1 15 = nI n) : ∃ m' : Nat, m' ≤ m ∧ (∀ i, i < m' → d3 v (l i) ≤ d.toInt) ∧ (m' = m ∨ d.toInt < d3 v (l m')) ∧ fX0_follow u ho d k ak = fW u ho d k ak l m' ∧ (vp_in ho 8 → pIxn n ak → okX0_follow n u ho d k ak) := by
  have h0 := fol_e (d := d) hq hE hn h15 (fo0_fw u ho d k ak) 0 (da := -1) (ha := -1) (key_0 hq)
  obtain ⟨m', da', ha', g1, g2, g3, g4, g5⟩ := l49 (d := d) ak hq hE hn hm h15 61 0 (-1) (-1) (Nat.zero_le _) (by omega) (fun i hi => absurd hi (Nat.not_lt_zero _))
  have hr : lpX0_follow_49_r u ho d k ak = (1, fW u ho d k ak l m', da', ha', -1) := by
    show wh (lpX0_follow_49 u ho d k ak) 61 (fX0_fo0 u ho d k ak, -1, -1, fX0_following (fX0_fo0 u ho d k ak) ho d k (-1) (-1)) = _
    rw [h0.1]; exact g5
  refine ⟨m', g2, g3, g4, by unfold fX0_follow; rw [hr], fun hho hak => ?_⟩
  have hIs : ∀ x : St × Int32 × Int32 × Int32, (∃ e, e ≤ m ∧ x.1 = fW u ho d k ak l e ∧ x.2.2.2 = nxE v m l d e) → ¬ x.2.2.2 < 0 → ∃ e, e < m ∧ x.1 = fW u ho d k ak l e ∧ x.2.2.2 = nI (l e) := by
    rintro ⟨w, da, ha, p⟩ ⟨e, he, h1, h2⟩ hz
    have h2 : p = nxE v m l d e := h2
    unfold nxE at h2
    by_cases c : e < m ∧ d3 v (l e) ≤ d.toInt
    · rw [if_pos c] at h2; exact ⟨e, c.1, h1, h2⟩
    · rw [if_neg c] at h2; exact absurd (by show p < 0; rw [h2]; decide) hz
  refine ⟨fun x => ∃ e, e ≤ m ∧ x.1 = fW u ho d k ak l e ∧ x.2.2.2 = nxE v m l d e, hho, h0.2, ⟨⟨0, Nat.zero_le _, rfl, h0.1⟩, fun x hx hz => ?_, ?_⟩, ?_, ?_, ?_, ?_⟩
  · obtain ⟨w, da, ha, p⟩ := x
    by_cases c : p < 0
    · exfalso
      revert hz
      unfold lpX0_follow_49
      dsimp only
      rw [if_pos c]
      intro z; cases z
    · obtain ⟨e, he, h1, h2⟩ := hIs _ hx c
      have h1 : w = fW u ho d k ak l e := h1
      have h2 : p = nI (l e) := h2
      subst h1
      subst h2
      have hl := (hE.1 e he).1
      have hw := fW_fw u ho d k ak l e
      refine ⟨e + 1, by omega, ?_, ?_⟩
      · unfold lpX0_follow_49
        dsimp only
        rw [if_neg c]
        rfl
      · unfold lpX0_follow_49
        dsimp only
        rw [if_neg c, nN (by omega)]
        have hw2 : FW u (fX0_fo2 u ho d k ak (fW u ho d k ak l e) da ha (nI (l e))) := fo2_fw hw
        have e64 : (fW u ho d k ak l e).2.1 64 (l e) = (fX0_fo2 u ho d k ak (fW u ho d k ak l e) da ha (nI (l e))).2.1 64 (l e) := by rw [hw.2, hw2.2]
        have e60 : (fW u ho d k ak l e).2.1 60 (l e) = (fX0_fo2 u ho d k ak (fW u ho d k ak l e) da ha (nI (l e))).2.1 60 (l e) := by rw [hw.2, hw2.2]
        show fX0_following _ ho d k _ _ = _
        rw [e64, e60]
        exact (fol_e hq hE hn h15 hw2 (e + 1) (fun p hp => key_s hq hE hn hw2 he p hp)).1
  · rw [show wh (lpX0_follow_49 u ho d k ak) 61 (fX0_fo0 u ho d k ak, -1, -1, fX0_following (fX0_fo0 u ho d k ak) ho d k (-1) (-1)) = _ from hr]
    show ¬ (1 : Nat) = 0
    decide
  · rintro w da ha p hx hz
    obtain ⟨e, he, h1, h2⟩ := hIs _ hx hz
    have h2 : p = nI (l e) := h2
    have hl := (hE.1 e he).1
    rw [h2]; exact ⟨by rw [t_lt, nI_i (by omega), k_0]; omega, by rw [nN (by omega)]; omega⟩
  · rintro w da ha p hx hz
    obtain ⟨e, he, h1, h2⟩ := hIs _ hx hz
    have h1 : w = fW u ho d k ak l e := h1
    have h2 : p = nI (l e) := h2
    subst h1
    subst h2
    have hl := (hE.1 e he).1
    have hw := fW_fw u ho d k ak l e
    rw [nN (by omega)]
    have hw2 : FW u (fX0_fo2 u ho d k ak (fW u ho d k ak l e) da ha (nI (l e))) := fo2_fw hw
    have e64 : (fW u ho d k ak l e).2.1 64 (l e) = (fX0_fo2 u ho d k ak (fW u ho d k ak l e) da ha (nI (l e))).2.1 64 (l e) := by rw [hw.2, hw2.2]
    have e60 : (fW u ho d k ak l e).2.1 60 (l e) = (fX0_fo2 u ho d k ak (fW u ho d k ak l e) da ha (nI (l e))).2.1 60 (l e) := by rw [hw.2, hw2.2]
    rw [e64, e60]
    exact (fol_e hq hE hn h15 hw2 (e + 1) (fun p hp => key_s hq hE hn hw2 he p hp)).2
  · rintro w da ha p hx hz
    obtain ⟨e, he, h1, h2⟩ := hIs _ hx hz
    have h2 : p = nI (l e) := h2
    have hl := (hE.1 e he).1
    rw [h2]; exact Or.inr (by rw [nN (by omega)]; omega)
  · rintro w da ha p hx hz
    exact hak
end FOL
