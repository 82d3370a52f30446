/-! THE PLAIN LAW, 1: how the two states go together; the small calls. Own work. -/
set_option maxRecDepth 100000
theorem k_m1 : (-1 : Int32).toInt = -1 := rfl
theorem k_0 : (0 : Int32).toInt = 0 := rfl
theorem k_1 : (1 : Int32).toInt = 1 := rfl
theorem k_2 : (2 : Int32).toInt = 2 := rfl
theorem k_8 : (8 : Int32).toInt = 8 := rfl
theorem k_20 : (20 : Int32).toInt = 20 := rfl
theorem k_24 : (24 : Int32).toInt = 24 := rfl
theorem k_30 : (30 : Int32).toInt = 30 := rfl
theorem k_40 : (40 : Int32).toInt = 40 := rfl
theorem k_60 : (60 : Int32).toInt = 60 := rfl
theorem k_100 : (100 : Int32).toInt = 100 := rfl
theorem k_365 : (365 : Int32).toInt = 365 := rfl
theorem k_600 : (600 : Int32).toInt = 600 := rfl
theorem k_1000 : (1000 : Int32).toInt = 1000 := rfl
theorem k_10000 : (10000 : Int32).toInt = 10000 := rfl
theorem k_36499 : (36499 : Int32).toInt = 36499 := rfl
theorem k_mil : (1000000 : Int32).toInt = 1000000 := rfl
theorem t_eq {a b : Int32} : a = b ↔ a.toInt = b.toInt := Int32.toInt_inj.symm
theorem t_lt {a b : Int32} : a < b ↔ a.toInt < b.toInt := Int32.lt_iff_toInt_lt
theorem t_le {a b : Int32} : a ≤ b ↔ a.toInt ≤ b.toInt := Int32.le_iff_toInt_le
theorem t_nat (a : Int32) : a.toNatClampNeg = a.toInt.toNat := rfl
theorem t_add {a b : Int32} (h1 : -2147483648 ≤ a.toInt + b.toInt) (h2 : a.toInt + b.toInt ≤ 2147483647) : (a + b).toInt = a.toInt + b.toInt := by
  rw [Int32.toInt_add]
  exact Int.bmod_eq_of_le (by omega) (by omega)
theorem t_sub {a b : Int32} (h1 : -2147483648 ≤ a.toInt - b.toInt) (h2 : a.toInt - b.toInt ≤ 2147483647) : (a - b).toInt = a.toInt - b.toInt := by
  rw [Int32.toInt_sub]
  exact Int.bmod_eq_of_le (by omega) (by omega)
theorem t_rg (a : Int32) : -2147483648 ≤ a.toInt ∧ a.toInt ≤ 2147483647 := ⟨Int32.le_toInt a, by have := Int32.toInt_lt a; omega⟩
theorem sa_o {u : St} {k j k' : Nat} {x : Int32} (h : ¬ k' = k) : (sa u k j x).2.1 k' = u.2.1 k' := by
  show (if k' = k then _ else u.2.1 k') = _
  rw [if_neg h]
theorem sa_s {u : St} {k j : Nat} {x : Int32} : (sa u k j x).2.1 k = upd (u.2.1 k) j x := by
  show (if k = k then _ else u.2.1 k) = _
  rw [if_pos rfl]
theorem upd_s (f : Nat → Int32) (k : Nat) (x : Int32) : upd f k x k = x := if_pos rfl
theorem upd_o {f : Nat → Int32} {k j : Nat} {x : Int32} (h : ¬ j = k) : upd f k x j = f j := if_neg h
def rg (x : Int32) (a b : Int) : Prop := a ≤ x.toInt ∧ x.toInt ≤ b
/-- people: mother, father, death -/
def IVp (P : Int) (m0 m1 m2 c0 c1 c2 : Nat → Int32) : Prop := ∀ j : Nat, (j : Int) < P → c0 j = m0 j ∧ c1 j = m1 j ∧ c2 j = m2 j ∧ rg (m0 j) (-1) (j - 1) ∧ rg (m1 j) (-1) (j - 1) ∧ rg (m2 j) (-1) 36499
/-- houses: first holder, worth -/
def IVh (Hn P : Int) (m3 m4 c3 c4 : Nat → Int32) : Prop := ∀ j : Nat, (j : Int) < Hn → c3 j = m3 j ∧ c4 j = m4 j ∧ rg (m3 j) 0 (P - 1) ∧ rg (m4 j) 0 1000000
def IVl (m5 c5 : Nat → Int32) : Prop := ∀ j : Nat, j < 100 → c5 j = m5 j ∧ rg (m5 j) 1 10000
/-- papers: house, from, to, day, sort, price, found, false from -/
def IVq (n : Nat) (Hn P : Int) (m c : Nat → Nat → Int32) : Prop := ∀ j : Nat, j < n → c 60 j = nI j ∧ c 61 j = m 9 j ∧ c 62 j = m 10 j ∧ c 63 j = m 11 j ∧ c 64 j = m 12 j ∧ c 65 j = m 13 j ∧ c 66 j = m 14 j ∧ c 67 j = m 15 j ∧ c 68 j = m 16 j ∧ rg (m 9 j) 0 (Hn - 1) ∧ rg (m 10 j) 0 (P - 1) ∧ rg (m 11 j) 0 (P - 1) ∧ rg (m 12 j) 0 36499 ∧ rg (m 14 j) 0 1000000 ∧ rg (m 15 j) 0 36499 ∧ (m 12 j).toInt ≤ (m 15 j).toInt ∧ rg (m 16 j) (-1) 36499
def IVc (C : Int) (n : Nat) (m c : Nat → Int32) : Prop := ∀ j : Nat, (j : Int) < C → c j = m j ∧ rg (m j) 0 (n - 1)
def IVt (L : Int) (m c : Nat → Int32) : Prop := ∀ j : Nat, (j : Int) < L → c j = m j
def IVj (m : Nat → Int32) (c : Nat → Nat → Int32) : Prop := ∀ h g : Nat, h < 8 → g < 8 → c (40 + h) g = m (8 * h + g) ∧ rg (m (8 * h + g)) 0 1000
def IVs (v u : St) (n : Nat) : Prop := (u.1 13 = v.1 6 ∧ rg (v.1 6) 0 24) ∧ (u.1 14 = v.1 7 ∧ rg (v.1 7) 0 8) ∧ (u.1 15 = v.1 19 ∧ v.1 19 = nI n ∧ n ≤ 60) ∧ (u.1 16 = v.1 8 ∧ rg (v.1 8) 0 36499) ∧ (u.1 17 = v.1 49 ∧ rg (v.1 49) 0 30) ∧ (u.1 30 = v.1 55 ∧ rg (v.1 55) 0 40) ∧ (u.1 1 = v.1 23 ∧ rg (v.1 23) 0 600) ∧ (u.1 2 = v.1 25 ∧ u.1 3 = v.1 26) ∧ pIxn n (u.1 31)
/-- the model's state v and the component's u go together; n papers -/
def IV (v u : St) (n : Nat) : Prop := IVs v u n ∧ IVp (v.1 6).toInt (v.2.1 0) (v.2.1 1) (v.2.1 2) (u.2.1 5) (u.2.1 6) (u.2.1 7) ∧ IVh (v.1 7).toInt (v.1 6).toInt (v.2.1 3) (v.2.1 4) (u.2.1 8) (u.2.1 9) ∧ IVl (v.2.1 5) (u.2.1 10) ∧ IVq n (v.1 7).toInt (v.1 6).toInt v.2.1 u.2.1 ∧ IVc (v.1 49).toInt n (v.2.1 48) (u.2.1 12) ∧ IVt (v.1 23).toInt (v.2.1 21) (u.2.1 0) ∧ IVj (v.2.1 53) u.2.1
theorem IVq.kept {n : Nat} {Hn P : Int} {m c m' c' : Nat → Nat → Int32} (h : IVq n Hn P m c) (hm : ∀ k, 9 ≤ k → k ≤ 16 → m' k = m k) (hc : ∀ k, 60 ≤ k → k ≤ 68 → c' k = c k) : IVq n Hn P m' c' := by
  intro j hj
  rw [hm 9 (by decide) (by decide), hm 10 (by decide) (by decide), hm 11 (by decide) (by decide), hm 12 (by decide) (by decide), hm 13 (by decide) (by decide), hm 14 (by decide) (by decide), hm 15 (by decide) (by decide), hm 16 (by decide) (by decide), hc 60 (by decide) (by decide), hc 61 (by decide) (by decide), hc 62 (by decide) (by decide), hc 63 (by decide) (by decide), hc 64 (by decide) (by decide), hc 65 (by decide) (by decide), hc 66 (by decide) (by decide), hc 67 (by decide) (by decide), hc 68 (by decide) (by decide)]
  exact h j hj
theorem IVj.kept {m : Nat → Int32} {c c' : Nat → Nat → Int32} (h : IVj m c) (hc : ∀ k, 40 ≤ k → k < 48 → c' k = c k) : IVj m c' := by
  intro a b ha hb
  rw [hc (40 + a) (by omega) (by omega)]
  exact h a b ha hb
theorem IVq.wide {n : Nat} {Hn Hn' P P' : Int} {m c : Nat → Nat → Int32} (h : IVq n Hn P m c) (h1 : Hn ≤ Hn') (h2 : P ≤ P') : IVq n Hn' P' m c := by
  intro j hj
  obtain ⟨a0, a1, a2, a3, a4, a5, a6, a7, a8, b1, b2, b3, b4⟩ := h j hj
  exact ⟨a0, a1, a2, a3, a4, a5, a6, a7, a8, ⟨b1.1, by have := b1.2; omega⟩, ⟨b2.1, by have := b2.2; omega⟩, ⟨b3.1, by have := b3.2; omega⟩, b4⟩
theorem IVh.wide {Hn P P' : Int} {m3 m4 c3 c4 : Nat → Int32} (h : IVh Hn P m3 m4 c3 c4) (h2 : P ≤ P') : IVh Hn P' m3 m4 c3 c4 := by
  intro j hj
  obtain ⟨a1, a2, b1, b2⟩ := h j hj
  exact ⟨a1, a2, ⟨b1.1, by have := b1.2; omega⟩, b2⟩
/-- behind calls that write what isn't spoken of here -/
theorem IV.keep {v u v' u' : St} {n : Nat} (h : IV v u n) (h1 : ∀ k, k = 6 ∨ k = 7 ∨ k = 8 ∨ k = 19 ∨ k = 23 ∨ k = 25 ∨ k = 26 ∨ k = 49 ∨ k = 55 → v'.1 k = v.1 k) (h2 : ∀ k, k ≤ 5 ∨ (9 ≤ k ∧ k ≤ 16) ∨ k = 21 ∨ k = 48 ∨ k = 53 → v'.2.1 k = v.2.1 k) (h3 : ∀ k, (1 ≤ k ∧ k ≤ 3) ∨ (13 ≤ k ∧ k ≤ 17) ∨ k = 30 → u'.1 k = u.1 k) (h4 : ∀ k, k = 0 ∨ (5 ≤ k ∧ k ≤ 10) ∨ k = 12 ∨ (40 ≤ k ∧ k < 48) ∨ (60 ≤ k ∧ k ≤ 68) → u'.2.1 k = u.2.1 k) (h5 : pIxn n (u'.1 31)) : IV v' u' n := by
  obtain ⟨⟨s1, s2, s3, s4, s5, s6, s7, s8, s9⟩, hp, hh, hl, hq, hc, ht, hj⟩ := h
  refine ⟨⟨?_, ?_, ?_, ?_, ?_, ?_, ?_, ?_, h5⟩, ?_, ?_, ?_, ?_, ?_, ?_, ?_⟩
  · rw [h1 6 (by omega), h3 13 (by omega)]; exact s1
  · rw [h1 7 (by omega), h3 14 (by omega)]; exact s2
  · rw [h1 19 (by omega), h3 15 (by omega)]; exact s3
  · rw [h1 8 (by omega), h3 16 (by omega)]; exact s4
  · rw [h1 49 (by omega), h3 17 (by omega)]; exact s5
  · rw [h1 55 (by omega), h3 30 (by omega)]; exact s6
  · rw [h1 23 (by omega), h3 1 (by omega)]; exact s7
  · rw [h1 25 (by omega), h1 26 (by omega), h3 2 (by omega), h3 3 (by omega)]; exact s8
  · rw [h1 6 (by omega), h2 0 (by omega), h2 1 (by omega), h2 2 (by omega), h4 5 (by omega), h4 6 (by omega), h4 7 (by omega)]; exact hp
  · rw [h1 6 (by omega), h1 7 (by omega), h2 3 (by omega), h2 4 (by omega), h4 8 (by omega), h4 9 (by omega)]; exact hh
  · rw [h2 5 (by omega), h4 10 (by omega)]; exact hl
  · rw [h1 6 (by omega), h1 7 (by omega)]; exact hq.kept (fun k a b => h2 k (by omega)) (fun k a b => h4 k (by omega))
  · rw [h1 49 (by omega), h2 48 (by omega), h4 12 (by omega)]; exact hc
  · rw [h1 23 (by omega), h2 21 (by omega), h4 0 (by omega)]; exact ht
  · rw [h2 53 (by omega)]; exact hj.kept (fun k a b => h4 k (by omega))
/-! small tests -/
theorem isP0 {u : St} {p : Int32} : fX0_isPerson u p = true ↔ 0 ≤ p.toInt ∧ p.toInt < (u.1 13).toInt := by
  unfold fX0_isPerson
  simp only [t_lt, t_le, k_0]
  repeat' split
  all_goals first | (simp; omega) | (constructor <;> intro h <;> first | omega | cases h)
theorem isP3 {v : St} {p : Int32} : fX3_isPerson v p = true ↔ 0 ≤ p.toInt ∧ p.toInt < (v.1 6).toInt := by
  unfold fX3_isPerson
  simp only [t_lt, t_le, k_0]
  repeat' split
  all_goals first | (simp; omega) | (constructor <;> intro h <;> first | omega | cases h)
theorem isH0 {u : St} {p : Int32} : fX0_isHouse u p = true ↔ 0 ≤ p.toInt ∧ p.toInt < (u.1 14).toInt := by
  unfold fX0_isHouse
  simp only [t_lt, t_le, k_0]
  repeat' split
  all_goals first | (simp; omega) | (constructor <;> intro h <;> first | omega | cases h)
theorem isH3 {v : St} {p : Int32} : fX3_isHouse v p = true ↔ 0 ≤ p.toInt ∧ p.toInt < (v.1 7).toInt := by
  unfold fX3_isHouse
  simp only [t_lt, t_le, k_0]
  repeat' split
  all_goals first | (simp; omega) | (constructor <;> intro h <;> first | omega | cases h)
theorem isD0 {d : Int32} : fX0_isDay d = true ↔ 0 ≤ d.toInt ∧ d.toInt ≤ 36499 := by
  unfold fX0_isDay
  simp only [t_lt, t_le, k_0, k_36499]
  repeat' split
  all_goals first | (simp; omega) | (constructor <;> intro h <;> first | omega | cases h)
theorem isD3 {d : Int32} : fX3_isDay d = true ↔ 0 ≤ d.toInt ∧ d.toInt ≤ 36499 := by
  unfold fX3_isDay
  simp only [t_lt, t_le, k_0, k_36499]
  repeat' split
  all_goals first | (simp; omega) | (constructor <;> intro h <;> first | omega | cases h)
theorem isY0 {d : Int32} : fX0_isYear d = true ↔ 0 ≤ d.toInt ∧ d.toInt < 100 := by
  unfold fX0_isYear
  simp only [t_lt, t_le, k_0, k_100]
  repeat' split
  all_goals first | (simp; omega) | (constructor <;> intro h <;> first | omega | cases h)
theorem isY3 {d : Int32} : fX3_isYear d = true ↔ 0 ≤ d.toInt ∧ d.toInt < 100 := by
  unfold fX3_isYear
  simp only [t_lt, t_le, k_0, k_100]
  repeat' split
  all_goals first | (simp; omega) | (constructor <;> intro h <;> first | omega | cases h)
theorem isS3 {d : Int32} : fX3_isSum d = true ↔ 0 ≤ d.toInt ∧ d.toInt ≤ 1000000 := by
  unfold fX3_isSum
  simp only [t_lt, t_le, k_0, k_mil]
  repeat' split
  all_goals first | (simp; omega) | (constructor <;> intro h <;> first | omega | cases h)
theorem isQ3 {v : St} {p : Int32} : fX3_isPaper v p = true ↔ 0 ≤ p.toInt ∧ p.toInt < (v.1 19).toInt := by
  unfold fX3_isPaper
  simp only [t_lt, t_le, k_0]
  repeat' split
  all_goals first | (simp; omega) | (constructor <;> intro h <;> first | omega | cases h)
/-! person -/
def pOk (p mo fa : Int32) : Prop := ¬ p.toInt = 24 ∧ -1 ≤ mo.toInt ∧ mo.toInt < p.toInt ∧ -1 ≤ fa.toInt ∧ fa.toInt < p.toInt
theorem f3_person {v : St} {mo fa : Int32} : (pOk (v.1 6) mo fa ∧ fX3_person v mo fa = (v.1 6 + 1 - 1, si (sa (sa (sa v 0 ((v.1 6).toNatClampNeg) mo) 1 ((v.1 6).toNatClampNeg) fa) 2 ((v.1 6).toNatClampNeg) (-1)) 6 (v.1 6 + 1))) ∨ (¬ pOk (v.1 6) mo fa ∧ fX3_person v mo fa = (-1, v)) := by
  unfold fX3_person pOk
  simp only [t_lt, t_le, t_eq, k_m1, k_24]
  repeat' split
  all_goals first | exact Or.inr ⟨by omega, rfl⟩ | exact Or.inl ⟨by omega, rfl⟩
theorem f0_person {u : St} {mo fa : Int32} (h0 : 0 ≤ (u.1 13).toInt) : (pOk (u.1 13) mo fa ∧ fX0_person u mo fa = (u.1 13 + 1 - 1, si (sa (sa (sa u 5 ((u.1 13).toNatClampNeg) mo) 6 ((u.1 13).toNatClampNeg) fa) 7 ((u.1 13).toNatClampNeg) (-1)) 13 (u.1 13 + 1))) ∨ (¬ pOk (u.1 13) mo fa ∧ fX0_person u mo fa = (-1, u)) := by
  unfold fX0_person pOk
  simp only [isP0, t_lt, t_le, t_eq, k_m1, k_24]
  repeat' split
  all_goals first | exact Or.inr ⟨by omega, rfl⟩ | exact Or.inl ⟨by omega, rfl⟩
theorem IVp.add {P : Int} {m0 m1 m2 c0 c1 c2 : Nat → Int32} (h : IVp P m0 m1 m2 c0 c1 c2) {p : Nat} (hp : (p : Int) = P) {mo fa : Int32} (h1 : rg mo (-1) (P - 1)) (h2 : rg fa (-1) (P - 1)) : IVp (P + 1) (upd m0 p mo) (upd m1 p fa) (upd m2 p (-1)) (upd c0 p mo) (upd c1 p fa) (upd c2 p (-1)) := by
  intro j hj
  by_cases e : j = p
  · subst e
    rw [upd_s, upd_s, upd_s, upd_s, upd_s, upd_s]
    exact ⟨rfl, rfl, rfl, ⟨h1.1, by have := h1.2; omega⟩, ⟨h2.1, by have := h2.2; omega⟩, by decide, by decide⟩
  · rw [upd_o e, upd_o e, upd_o e, upd_o e, upd_o e, upd_o e]
    exact h j (by omega)
theorem p_person {v u : St} {n : Nat} (mo fa : Int32) (h : IV v u n) : (fX3_person v mo fa).1 = (fX0_person u mo fa).1 ∧ IV (fX3_person v mo fa).2 (fX0_person u mo fa).2 n ∧ okX3_person v mo fa ∧ okX0_person n u mo fa := by
  obtain ⟨⟨s1, s2, s3, s4, s5, s6, s7, s8, s9⟩, hp, hh, hl, hq, hc, ht, hj⟩ := id h
  obtain ⟨e13, hr⟩ := s1
  have hr2 := hr
  unfold rg at hr
  have hv : ¬ (v.1 6) = 24 → vp_in (v.1 6) 24 := fun z => by rw [vp_in_iff]; rw [t_eq, k_24] at z; omega
  have hu : ¬ (u.1 13) = 24 → vp_in (u.1 13) 24 := fun z => by rw [e13] at z ⊢; exact hv z
  refine ⟨?_, ?_, fun _ _ _ _ z => hv z, fun z _ _ => hu z, fun z _ _ _ => hu z, fun z _ _ _ => hu z, fun z _ _ _ _ => hu z⟩
  all_goals
    rcases f3_person (v := v) (mo := mo) (fa := fa) with ⟨a, e⟩ | ⟨a, e⟩ <;> rcases f0_person (u := u) (mo := mo) (fa := fa) (by rw [e13]; omega) with ⟨b, e1⟩ | ⟨b, e1⟩
  · rw [e, e1, e13]
  · rw [e13] at b; exact absurd a b
  · rw [e13] at b; exact absurd b a
  · rw [e, e1]
  · rw [e, e1]
    obtain ⟨a1, a2, a3, a4, a5⟩ := a
    have e6 : (v.1 6 + 1).toInt = (v.1 6).toInt + 1 := t_add (by rw [k_1]; omega) (by rw [k_1]; omega)
    have hpn : ((v.1 6).toNatClampNeg : Int) = (v.1 6).toInt := by rw [t_nat]; omega
    refine ⟨⟨?_, ?_, ?_, ?_, ?_, ?_, ?_, ?_, ?_⟩, ?_, ?_, ?_, ?_, ?_, ?_, ?_⟩
    · simp only [si_1, if_pos]; exact ⟨by rw [e13], by unfold rg; omega⟩
    · simpa [si_1, sa_1] using s2
    · simpa [si_1, sa_1] using s3
    · simpa [si_1, sa_1] using s4
    · simpa [si_1, sa_1] using s5
    · simpa [si_1, sa_1] using s6
    · simpa [si_1, sa_1] using s7
    · simpa [si_1, sa_1] using s8
    · simpa [si_1, sa_1] using s9
    · simp only [si_1, if_pos, e6, si_2]
      have := hp.add hpn (mo := mo) (fa := fa) ⟨a2, by omega⟩ ⟨a4, by omega⟩
      simpa [sa_o, sa_s, e13] using this
    · simp only [si_1, if_pos, e6]; simpa [si_1, sa_1, si_2, sa_o] using hh.wide (P' := (v.1 6).toInt + 1) (by omega)
    · simpa [si_2, sa_o] using hl
    · simp only [si_1, if_pos, e6]
      have := (hq.wide (Hn' := (v.1 7).toInt) (P' := (v.1 6).toInt + 1) (Int.le_refl _) (by omega))
      simpa [si_1, sa_1] using this.kept (m' := (si (sa (sa (sa v 0 ((v.1 6).toNatClampNeg) mo) 1 ((v.1 6).toNatClampNeg) fa) 2 ((v.1 6).toNatClampNeg) (-1)) 6 (v.1 6 + 1)).2.1) (c' := (si (sa (sa (sa u 5 ((u.1 13).toNatClampNeg) mo) 6 ((u.1 13).toNatClampNeg) fa) 7 ((u.1 13).toNatClampNeg) (-1)) 13 (u.1 13 + 1)).2.1) (fun k a b => by rw [si_2, sa_o (by omega), sa_o (by omega), sa_o (by omega)]) (fun k a b => by rw [si_2, sa_o (by omega), sa_o (by omega), sa_o (by omega)])
    · simpa [si_1, sa_1, si_2, sa_o] using hc
    · simpa [si_1, sa_1, si_2, sa_o] using ht
    · simpa [si_2, sa_o] using hj.kept (c' := (si (sa (sa (sa u 5 ((u.1 13).toNatClampNeg) mo) 6 ((u.1 13).toNatClampNeg) fa) 7 ((u.1 13).toNatClampNeg) (-1)) 13 (u.1 13 + 1)).2.1) (fun k a b => by rw [si_2, sa_o (by omega), sa_o (by omega), sa_o (by omega)])
  · rw [e13] at b; exact absurd a b
  · rw [e13] at b; exact absurd b a
  · rw [e, e1]; exact h
