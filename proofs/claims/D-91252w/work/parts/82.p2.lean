/-! THE PLAIN LAW, 3: isFalse, want, claim, paper. Own work. -/
set_option maxRecDepth 100000
theorem pA0 {u : St} {k : Int32} : fX0_paperAt u k = if 0 ≤ k.toInt ∧ k.toInt < (u.1 15).toInt then k else -1 := by
  unfold fX0_paperAt
  simp only [t_lt, t_le, k_0]
  repeat' split
  all_goals first | rfl | (exfalso; omega)
theorem okPA {v u : St} {n : Nat} (k : Int32) (h : IV v u n) : okX0_paperAt n u k := by
  obtain ⟨e15, e19, hn⟩ := h.1.2.2.1
  have : (v.1 19).toInt = n := by rw [e19]; exact nI_toInt (by omega)
  refine ⟨fun z1 z2 => ?_, fun z1 z2 => ?_⟩
  · rw [e15] at z2; rw [t_lt, k_0] at z1; rw [t_le] at z2; rw [vp_in_iff]; omega
  · rw [e15] at z2; rw [t_lt, k_0] at z1; rw [t_le] at z2; rw [t_nat]; omega
theorem IVq.flag {n : Nat} {Hn P : Int} {m c : Nat → Nat → Int32} (h : IVq n Hn P m c) (p : Nat) {x : Int32} (hx : rg x (-1) 36499) {m' c' : Nat → Nat → Int32} (hm : ∀ k, 9 ≤ k → k ≤ 15 → m' k = m k) (hm16 : m' 16 = upd (m 16) p x) (hc : ∀ k, 60 ≤ k → k ≤ 67 → c' k = c k) (hc68 : c' 68 = upd (c 68) p x) : IVq n Hn P m' c' := by
  intro j hj
  rw [hm 9 (by decide) (by decide), hm 10 (by decide) (by decide), hm 11 (by decide) (by decide), hm 12 (by decide) (by decide), hm 13 (by decide) (by decide), hm 14 (by decide) (by decide), hm 15 (by decide) (by decide), hm16, hc 60 (by decide) (by decide), hc 61 (by decide) (by decide), hc 62 (by decide) (by decide), hc 63 (by decide) (by decide), hc 64 (by decide) (by decide), hc 65 (by decide) (by decide), hc 66 (by decide) (by decide), hc 67 (by decide) (by decide), hc68]
  obtain ⟨a0, a1, a2, a3, a4, a5, a6, a7, a8, b1, b2, b3, b4, b5, b6, b65, b7⟩ := h j hj
  by_cases e : j = p
  · subst e
    rw [upd_s, upd_s]
    exact ⟨a0, a1, a2, a3, a4, a5, a6, a7, rfl, b1, b2, b3, b4, b5, b6, b65, hx⟩
  · rw [upd_o e, upd_o e]
    exact ⟨a0, a1, a2, a3, a4, a5, a6, a7, a8, b1, b2, b3, b4, b5, b6, b65, b7⟩
theorem p_isFalse {v u : St} {n : Nat} (pa : Int32) (h : IV v u n) : (fX3_isFalse v pa).1 = (fX0_isFalse u pa).1 ∧ IV (fX3_isFalse v pa).2 (fX0_isFalse u pa).2 n ∧ okX3_isFalse v pa ∧ okX0_isFalse n u pa := by
  obtain ⟨e15, e19, hn⟩ := h.1.2.2.1
  have e19i : (v.1 19).toInt = n := by rw [e19]; exact nI_toInt (by omega)
  obtain ⟨e16, hr⟩ := h.1.2.2.2.1
  unfold rg at hr
  have h68 : 0 ≤ pa.toInt → pa.toInt < n → (u.2.1 68 pa.toNatClampNeg).toInt = (v.2.1 16 pa.toNatClampNeg).toInt := fun z1 z2 => by rw [(h.2.2.2.2.1 pa.toNatClampNeg (by rw [t_nat]; omega)).2.2.2.2.2.2.2.2.1]
  have hcs : (fX3_isFalse v pa = (false, v) ∧ fX0_isFalse u pa = (false, u)) ∨ (0 ≤ pa.toInt ∧ pa.toInt < n ∧ fX3_isFalse v pa = (true, sa v 16 pa.toNatClampNeg (v.1 8)) ∧ fX0_isFalse u pa = (true, sa u 68 pa.toNatClampNeg (v.1 8))) := by
    unfold fX3_isFalse fX0_isFalse
    rw [pA0, e15, e16, e19i]
    by_cases c : 0 ≤ pa.toInt ∧ pa.toInt < n
    · rw [if_pos c, if_pos (by rw [isQ3, e19i]; exact c), if_neg (show ¬ pa < 0 by rw [t_lt, k_0]; omega)]
      simp only [t_lt, k_0]
      have := h68 c.1 c.2
      repeat' split
      all_goals first | exact Or.inl ⟨rfl, rfl⟩ | exact Or.inr ⟨by omega, by omega, rfl, rfl⟩ | (exfalso; omega)
    · rw [if_neg c, if_neg (by rw [isQ3, e19i]; exact c), if_pos (show (-1 : Int32) < 0 by decide)]
      exact Or.inl ⟨rfl, rfl⟩
  refine and_assoc.mp ⟨?_, fun z => by rw [isQ3, e19i] at z; rw [vp_in_iff]; omega, okPA pa h, fun z => ?_⟩
  · rcases hcs with ⟨e1, e2⟩ | ⟨a1, a2, e1, e2⟩
    · rw [e1, e2]; exact ⟨rfl, h⟩
    · rw [e1, e2]
      obtain ⟨hs, hp, hh, hl, hq, hc, ht, hj⟩ := h
      exact ⟨rfl, hs, by simpa [sa_o, sa_1] using hp, by simpa [sa_o, sa_1] using hh, by simpa [sa_o] using hl, hq.flag pa.toNatClampNeg (x := v.1 8) ⟨by omega, hr.2⟩ (fun k a b => sa_o (by omega)) sa_s (fun k a b => sa_o (by omega)) sa_s, by simpa [sa_o, sa_1] using hc, by simpa [sa_o, sa_1] using ht, by simpa [sa_o] using hj.kept (c' := (sa u 68 pa.toNatClampNeg (v.1 8)).2.1) (fun k a b => sa_o (by omega))⟩
  · refine ⟨z, ?_⟩
    rw [pA0, e15, e19i] at z ⊢
    split at z
    · rename_i c
      rw [if_pos c, t_nat]; omega
    · exact absurd (show (-1 : Int32) < 0 by decide) z
/-! want -/
theorem IVj.put {m : Nat → Int32} {c c' : Nat → Nat → Int32} (h : IVj m c) {a b : Nat} {x : Int32} (ha : a < 8) (hb : b < 8) (hx : rg x 0 1000) (hc : ∀ k, 40 ≤ k → k < 48 → k ≠ 40 + a → c' k = c k) (hca : c' (40 + a) = upd (c (40 + a)) b x) : IVj (upd m (8 * a + b) x) c' := by
  intro p q hp hq
  by_cases e : p = a
  · subst e
    rw [hca]
    by_cases e2 : q = b
    · subst e2
      rw [upd_s, upd_s]; exact ⟨rfl, hx⟩
    · rw [upd_o e2, upd_o (by omega)]; exact h p q hp hq
  · rw [hc (40 + p) (by omega) (by omega) (by omega), upd_o (by omega)]
    exact h p q hp hq
theorem t_8 {a b : Int32} (h1 : 0 ≤ a.toInt) (h2 : a.toInt < 8) (h3 : 0 ≤ b.toInt) (h4 : b.toInt < 8) : (8 * a + b).toInt = 8 * a.toInt + b.toInt := by
  have e : (8 * a).toInt = 8 * a.toInt := by
    rw [Int32.toInt_mul, k_8]
    exact Int.bmod_eq_of_le (by omega) (by omega)
  rw [t_add (by omega) (by omega), e]
theorem p_want {v u : St} {n : Nat} (a b j : Int32) (h : IV v u n) : (fX3_want v a b j).1 = (fX0_want u a b j).1 ∧ IV (fX3_want v a b j).2 (fX0_want u a b j).2 n ∧ okX3_want v a b j ∧ okX0_want n u a b j := by
  obtain ⟨⟨s1, s2, s3, s4, s5, s6, s7, s8, s9⟩, hp, hh, hl, hq, hc, ht, hj⟩ := id h
  obtain ⟨e14, hr⟩ := s2
  have hr0 := hr
  obtain ⟨e30, hw⟩ := s6
  unfold rg at hr hw
  have h7 : ∀ x : Int32, fX3_isHouse v x = true → 0 ≤ x.toInt ∧ x.toInt < 8 := fun x z => by rw [isH3] at z; omega
  have h0 : ∀ x : Int32, fX0_isHouse u x = true → 0 ≤ x.toInt ∧ x.toInt < 8 := fun x z => by rw [isH0, e14] at z; omega
  have hcs : (fX3_want v a b j = (-1, v) ∧ fX0_want u a b j = (-1, u)) ∨ (0 ≤ a.toInt ∧ a.toInt < 8 ∧ 0 ≤ b.toInt ∧ b.toInt < 8 ∧ 0 ≤ j.toInt ∧ j.toInt ≤ 1000 ∧ (v.1 55).toInt < 40 ∧ fX3_want v a b j = (v.1 55 + 1, si (sa v 53 ((8 * a + b).toNatClampNeg) j) 55 (v.1 55 + 1)) ∧ fX0_want u a b j = (v.1 55 + 1, si (sa u (40 + a.toNatClampNeg) b.toNatClampNeg j) 30 (v.1 55 + 1))) := by
    unfold fX3_want fX0_want
    simp only [isH0, isH3, t_lt, t_le, t_eq, k_0, k_40, k_1000, e14, e30]
    repeat' split
    all_goals first | exact Or.inl ⟨rfl, rfl⟩ | exact Or.inr ⟨by omega, by omega, by omega, by omega, by omega, by omega, by omega, rfl, rfl⟩ | (exfalso; omega)
  refine and_assoc.mp ⟨?_, fun z1 z2 _ _ _ _ => by have := h7 a z1; have := h7 b z2; rw [vp_in_iff, t_8 (by omega) (by omega) (by omega) (by omega)]; omega, fun _ z1 z2 _ _ _ => by rw [vp_in_iff]; exact h0 a z1, fun _ z1 z2 _ _ _ => by rw [vp_in_iff]; exact h0 b z2⟩
  rcases hcs with ⟨e1, e2⟩ | ⟨a1, a2, a3, a4, a5, a6, a7, e1, e2⟩
  · rw [e1, e2]; exact ⟨rfl, h⟩
  · rw [e1, e2]
    have e55 : (v.1 55 + 1).toInt = (v.1 55).toInt + 1 := t_add (by rw [k_1]; omega) (by rw [k_1]; omega)
    have ean : a.toNatClampNeg < 8 := by rw [t_nat]; omega
    have ebn : b.toNatClampNeg < 8 := by rw [t_nat]; omega
    have eab : (8 * a + b).toNatClampNeg = 8 * a.toNatClampNeg + b.toNatClampNeg := by rw [t_nat, t_8 a1 a2 a3 a4, t_nat, t_nat]; omega
    have hko : ∀ k, ¬ k = 40 + a.toNatClampNeg → (si (sa u (40 + a.toNatClampNeg) b.toNatClampNeg j) 30 (v.1 55 + 1)).2.1 k = u.2.1 k := fun k hk => by rw [si_2, sa_o hk]
    refine ⟨rfl, ⟨?_, ?_, ?_, ?_, ?_, ?_, ?_, ?_, ?_⟩, ?_, ?_, ?_, ?_, ?_, ?_, ?_⟩
    · simpa [si_1, sa_1] using s1
    · simp only [si_1, sa_1]; exact ⟨e14, hr0⟩
    · simpa [si_1, sa_1] using s3
    · simpa [si_1, sa_1] using s4
    · simpa [si_1, sa_1] using s5
    · simp only [si_1, if_pos]; exact ⟨trivial, by unfold rg; omega⟩
    · simpa [si_1, sa_1] using s7
    · simpa [si_1, sa_1] using s8
    · simpa [si_1, sa_1] using s9
    · rw [hko 5 (by omega), hko 6 (by omega), hko 7 (by omega)]; simpa [si_1, sa_1, si_2, sa_o] using hp
    · rw [hko 8 (by omega), hko 9 (by omega)]; simpa [si_1, sa_1, si_2, sa_o] using hh
    · rw [hko 10 (by omega)]; simpa [si_2, sa_o] using hl
    · exact hq.kept (fun k a b => by rw [si_2, sa_o (by omega)]) (fun k a b => hko k (by omega))
    · rw [hko 12 (by omega)]; simpa [si_1, sa_1, si_2, sa_o] using hc
    · rw [hko 0 (by omega)]; simpa [si_1, sa_1, si_2, sa_o] using ht
    · rw [si_2, sa_s, eab]
      exact hj.put ean ebn ⟨a5, a6⟩ (fun k _ _ hk => hko k hk) (by rw [si_2, sa_s])
/-! claim -/
/-- which number comes first among the first C -/
theorem cl_loop {C : Int32} {f : Nat → Int32} {pa : Int32} (hC : 0 ≤ C.toInt) (h30 : C.toInt ≤ 30) : ∀ (j : Nat) (i : Int32), 0 ≤ i.toInt → i.toInt ≤ C.toInt → C.toInt - i.toInt < j → ∀ F : Int32 → Nat × Int32, (∀ i, F i = if C ≤ i then (1, i) else (if f i.toNatClampNeg = pa then (2, i) else (0, i + 1))) → ¬ (wh F j i).1 = 0 := by
  intro j
  induction j with
  | zero => intro i h1 h2 h3; omega
  | succ j ih =>
    intro i h1 h2 h3 F hF
    rw [wh_s, hF i]
    by_cases c1 : C ≤ i
    · rw [if_pos c1, if_neg (show ¬ (1 : Nat) = 0 by decide)]; exact (show ¬ (1 : Nat) = 0 by decide)
    · rw [if_neg c1]
      by_cases c2 : f i.toNatClampNeg = pa
      · rw [if_pos c2, if_neg (show ¬ (2 : Nat) = 0 by decide)]; exact (show ¬ (2 : Nat) = 0 by decide)
      · rw [if_neg c2, if_pos rfl]
        rw [t_le] at c1
        have e : (i + 1).toInt = i.toInt + 1 := t_add (by rw [k_1]; omega) (by rw [k_1]; omega)
        exact ih (i + 1) (by omega) (by omega) (by omega) F hF
theorem wh_cong {S : Type} {F G : S → Nat × S} {I : S → Prop} (hI : ∀ a, I a → (F a).1 = 0 → I (F a).2) (he : ∀ a, I a → F a = G a) : ∀ (n : Nat) (a : S), I a → wh F n a = wh G n a := by
  intro n
  induction n with
  | zero => intro a _; rw [wh_0, wh_0]
  | succ n ih =>
    intro a ha
    rw [wh_s, wh_s, ← he a ha]
    by_cases c : (F a).1 = 0
    · rw [if_pos c, if_pos c]; exact ih _ (hI a ha c)
    · rw [if_neg c, if_neg c]
theorem IVc.add {C : Int} {n : Nat} {m c : Nat → Int32} (h : IVc C n m c) {p : Nat} (hp : (p : Int) = C) {x : Int32} (hx : rg x 0 (n - 1)) : IVc (C + 1) n (upd m p x) (upd c p x) := by
  intro j hj
  by_cases e : j = p
  · subst e
    rw [upd_s, upd_s]; exact ⟨rfl, hx⟩
  · rw [upd_o e, upd_o e]; exact h j (by omega)
theorem p_claim {v u : St} {n : Nat} (pa : Int32) (h : IV v u n) : (fX3_claim v pa).1 = (fX0_claim u pa).1 ∧ IV (fX3_claim v pa).2 (fX0_claim u pa).2 n ∧ okX3_claim v pa ∧ okX0_claim n u pa := by
  obtain ⟨⟨s1, s2, s3, s4, s5, s6, s7, s8, s9⟩, hp, hh, hl, hq, hc, ht, hj⟩ := id h
  obtain ⟨e15, e19, hn⟩ := s3
  have e19i : (v.1 19).toInt = n := by rw [e19]; exact nI_toInt (by omega)
  obtain ⟨e17, hr⟩ := s5
  have hr0 := hr
  unfold rg at hr
  have hstep : ∀ i : Int32, 0 ≤ i.toInt ∧ i.toInt ≤ (v.1 49).toInt → ¬ (v.1 49) ≤ i → 0 ≤ (i + 1).toInt ∧ (i + 1).toInt ≤ (v.1 49).toInt := fun i hi z => by
    rw [t_le] at z
    rw [t_add (by rw [k_1]; omega) (by rw [k_1]; omega), k_1]; omega
  have hI3 : ∀ i : Int32, (0 ≤ i.toInt ∧ i.toInt ≤ (v.1 49).toInt) → (lpX3_claim_21 v pa i).1 = 0 → (0 ≤ (lpX3_claim_21 v pa i).2.toInt ∧ (lpX3_claim_21 v pa i).2.toInt ≤ (v.1 49).toInt) := fun i hi => by
    unfold lpX3_claim_21
    by_cases c1 : (v.1 49) ≤ i
    · rw [if_pos c1]; intro z; cases z
    · rw [if_neg c1]
      by_cases c2 : v.2.1 48 i.toNatClampNeg = pa
      · rw [if_pos c2]; intro z; cases z
      · rw [if_neg c2]; intro _; exact hstep i hi c1
  have heq : ∀ i : Int32, (0 ≤ i.toInt ∧ i.toInt ≤ (v.1 49).toInt) → lpX3_claim_21 v pa i = lpX0_claim_21 u pa i := fun i hi => by
    unfold lpX3_claim_21 lpX0_claim_21
    rw [e17]
    by_cases c1 : (v.1 49) ≤ i
    · rw [if_pos c1, if_pos c1]
    · rw [if_neg c1, if_neg c1]
      rw [t_le] at c1
      rw [(hc i.toNatClampNeg (by rw [t_nat]; omega)).1]
  have hr21 : lpX3_claim_21_r v pa = lpX0_claim_21_r u pa := wh_cong (I := fun i => 0 ≤ i.toInt ∧ i.toInt ≤ (v.1 49).toInt) hI3 heq 31 0 (by show 0 ≤ (0 : Int32).toInt ∧ (0 : Int32).toInt ≤ _; rw [k_0]; omega)
  have hz3 : ¬ (wh (lpX3_claim_21 v pa) 31 0).1 = 0 := cl_loop (C := v.1 49) (f := v.2.1 48) hr.1 hr.2 31 0 (by rw [k_0]; omega) (by rw [k_0]; omega) (by rw [k_0]; omega) _ (fun i => rfl)
  have hL3 : LOK (lpX3_claim_21 v pa) 31 0 (fun i => 0 ≤ i.toInt ∧ i.toInt ≤ (v.1 49).toInt) := ⟨by show 0 ≤ (0 : Int32).toInt ∧ (0 : Int32).toInt ≤ _; rw [k_0]; omega, hI3, hz3⟩
  have hL0 : LOK (lpX0_claim_21 u pa) 31 0 (fun i => 0 ≤ i.toInt ∧ i.toInt ≤ (v.1 49).toInt) := ⟨by show 0 ≤ (0 : Int32).toInt ∧ (0 : Int32).toInt ≤ _; rw [k_0]; omega, fun a ha z => by rw [← heq a ha] at z ⊢; exact hI3 a ha z, by rw [← wh_cong (I := fun i => 0 ≤ i.toInt ∧ i.toInt ≤ (v.1 49).toInt) hI3 heq 31 0 (by show 0 ≤ (0 : Int32).toInt ∧ (0 : Int32).toInt ≤ _; rw [k_0]; omega)]; exact hz3⟩
  have hin : ∀ i : Int32, (0 ≤ i.toInt ∧ i.toInt ≤ (v.1 49).toInt) → ¬ (v.1 49) ≤ i → vp_in i 30 := fun i hi z => by rw [t_le] at z; rw [vp_in_iff]; omega
  have h49 : ¬ (v.1 49) = 30 → vp_in (v.1 49) 30 := fun z => by rw [t_eq, k_30] at z; rw [vp_in_iff]; omega
  have hcs : (fX3_claim v pa = (-1, v) ∧ fX0_claim u pa = (-1, u)) ∨ (0 ≤ pa.toInt ∧ pa.toInt < n ∧ (v.1 49).toInt < 30 ∧ fX3_claim v pa = (v.1 49 + 1 - 1, si (sa v 48 ((v.1 49).toNatClampNeg) pa) 49 (v.1 49 + 1)) ∧ fX0_claim u pa = (v.1 49 + 1 - 1, si (sa u 12 ((v.1 49).toNatClampNeg) pa) 17 (v.1 49 + 1))) := by
    unfold fX3_claim fX0_claim
    rw [pA0, e15, e17, e19i, hr21]
    by_cases c : 0 ≤ pa.toInt ∧ pa.toInt < n
    · rw [if_pos c, if_pos (show fX3_isPaper v pa = true by rw [isQ3, e19i]; exact c), if_neg (show ¬ pa < 0 by rw [t_lt, k_0]; omega)]
      by_cases c2 : v.1 49 = 30
      · rw [if_pos c2, if_pos c2]; exact Or.inl ⟨rfl, rfl⟩
      · rw [if_neg c2, if_neg c2]
        rw [t_eq, k_30] at c2
        split
        · exact Or.inr ⟨c.1, c.2, by omega, rfl, rfl⟩
        · exact Or.inl ⟨rfl, rfl⟩
    · rw [if_neg c, if_neg (show ¬ fX3_isPaper v pa = true by rw [isQ3, e19i]; exact c), if_pos (show (-1 : Int32) < 0 by decide)]
      refine Or.inl ⟨rfl, ?_⟩
      split <;> rfl
  refine and_assoc.mp ⟨?_, ⟨_, fun _ _ => hL3, fun _ _ i hi z => hin i hi z, fun _ z _ => h49 z⟩, ⟨_, fun _ => okPA pa h, fun _ _ => hL0, fun _ _ i hi z => hin i hi (by rw [← e17]; exact z), fun z _ _ => by rw [e17] at z ⊢; exact h49 z⟩⟩
  rcases hcs with ⟨e1, e2⟩ | ⟨a1, a2, a3, e1, e2⟩
  · rw [e1, e2]; exact ⟨rfl, h⟩
  · rw [e1, e2]
    have e49 : (v.1 49 + 1).toInt = (v.1 49).toInt + 1 := t_add (by rw [k_1]; omega) (by rw [k_1]; omega)
    have hpn : ((v.1 49).toNatClampNeg : Int) = (v.1 49).toInt := by rw [t_nat]; omega
    refine ⟨rfl, ⟨?_, ?_, ?_, ?_, ?_, ?_, ?_, ?_, ?_⟩, ?_, ?_, ?_, ?_, ?_, ?_, ?_⟩
    · simpa [si_1, sa_1] using s1
    · simpa [si_1, sa_1] using s2
    · simp only [si_1, sa_1]; exact ⟨e15, e19, hn⟩
    · simpa [si_1, sa_1] using s4
    · simp only [si_1, if_pos]; exact ⟨trivial, by unfold rg; omega⟩
    · simpa [si_1, sa_1] using s6
    · simpa [si_1, sa_1] using s7
    · simpa [si_1, sa_1] using s8
    · simpa [si_1, sa_1] using s9
    · simpa [si_1, sa_1, si_2, sa_o] using hp
    · simpa [si_1, sa_1, si_2, sa_o] using hh
    · simpa [si_2, sa_o] using hl
    · exact hq.kept (fun k a b => by rw [si_2, sa_o (by omega)]) (fun k a b => by rw [si_2, sa_o (by omega)])
    · simp only [si_1, if_pos, e49]
      simpa [si_2, sa_s] using hc.add hpn (x := pa) ⟨a1, by omega⟩
    · simpa [si_1, sa_1, si_2, sa_o] using ht
    · simpa [si_2, sa_o] using hj.kept (c' := (si (sa u 12 ((v.1 49).toNatClampNeg) pa) 17 (v.1 49 + 1)).2.1) (fun k a b => by rw [si_2, sa_o (by omega)])
