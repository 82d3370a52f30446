/-! THE PLAIN LAW, 4: paper, feed. Own work. -/
set_option maxRecDepth 100000
theorem IVc.wide {C : Int} {n n' : Nat} {m c : Nat → Int32} (h : IVc C n m c) (hn : n ≤ n') : IVc C n' m c := by
  intro j hj
  obtain ⟨a, b⟩ := h j hj
  exact ⟨a, b.1, by have := b.2; omega⟩
theorem pset_p {u : St} {n k : Nat} {f : Nat → Int32} (h1 : 60 ≤ k) (h2 : k < 69) (j : Nat) : (pset u n f).2.1 k j = if j = n then f (k - 60) else u.2.1 k j := by
  show (if 60 ≤ k ∧ k < 69 ∧ j = n then f (k - 60) else u.2.1 k j) = _
  by_cases e : j = n
  · rw [if_pos e, if_pos ⟨h1, h2, e⟩]
  · rw [if_neg e, if_neg (fun z => e z.2.2)]
theorem pset_o {u : St} {n k : Nat} {f : Nat → Int32} (h : k < 60 ∨ 69 ≤ k) : (pset u n f).2.1 k = u.2.1 k := by
  funext j
  show (if 60 ≤ k ∧ k < 69 ∧ j = n then f (k - 60) else u.2.1 k j) = _
  rw [if_neg (by omega)]
def qOk (Hn P td pm ho fr to da so pr : Int32) : Prop := 0 ≤ ho.toInt ∧ ho.toInt < Hn.toInt ∧ 0 ≤ fr.toInt ∧ fr.toInt < P.toInt ∧ 0 ≤ to.toInt ∧ to.toInt < P.toInt ∧ ¬ fr.toInt = to.toInt ∧ 0 ≤ da.toInt ∧ da.toInt ≤ td.toInt ∧ 0 ≤ so.toInt ∧ so.toInt ≤ 2 ∧ 0 ≤ pr.toInt ∧ pr.toInt ≤ 1000000 ∧ ¬ pm.toInt = 60
theorem f3_paper {v : St} {ho fr to da so pr : Int32} : (qOk (v.1 7) (v.1 6) (v.1 8) (v.1 19) ho fr to da so pr ∧ fX3_paper v ho fr to da so pr = (v.1 19 + 1 - 1, si (sa (sa (sa (sa (sa (sa (sa (sa v 9 ((v.1 19).toNatClampNeg) ho) 10 ((v.1 19).toNatClampNeg) fr) 11 ((v.1 19).toNatClampNeg) to) 12 ((v.1 19).toNatClampNeg) da) 13 ((v.1 19).toNatClampNeg) so) 14 ((v.1 19).toNatClampNeg) pr) 15 ((v.1 19).toNatClampNeg) (v.1 8)) 16 ((v.1 19).toNatClampNeg) (-1)) 19 (v.1 19 + 1))) ∨ (¬ qOk (v.1 7) (v.1 6) (v.1 8) (v.1 19) ho fr to da so pr ∧ fX3_paper v ho fr to da so pr = (-1, v)) := by
  unfold fX3_paper qOk
  by_cases c1 : fX3_isHouse v ho = true
  case neg => rw [if_neg c1]; rw [isH3] at c1; exact Or.inr ⟨by omega, rfl⟩
  rw [if_pos c1]; rw [isH3] at c1
  by_cases c2 : fX3_isPerson v fr = true
  case neg => rw [if_neg c2]; rw [isP3] at c2; exact Or.inr ⟨by omega, rfl⟩
  rw [if_pos c2]; rw [isP3] at c2
  by_cases c3 : fX3_isPerson v to = true
  case neg => rw [if_neg c3]; rw [isP3] at c3; exact Or.inr ⟨by omega, rfl⟩
  rw [if_pos c3]; rw [isP3] at c3
  by_cases c4 : fr = to
  case pos => rw [if_pos c4]; rw [t_eq] at c4; exact Or.inr ⟨by omega, rfl⟩
  rw [if_neg c4]; rw [t_eq] at c4
  by_cases c5 : da < 0
  case pos => rw [if_pos c5]; rw [t_lt, k_0] at c5; exact Or.inr ⟨by omega, rfl⟩
  rw [if_neg c5]; rw [t_lt, k_0] at c5
  by_cases c6 : v.1 8 < da
  case pos => rw [if_pos c6]; rw [t_lt] at c6; exact Or.inr ⟨by omega, rfl⟩
  rw [if_neg c6]; rw [t_lt] at c6
  by_cases c7 : so < 0
  case pos => rw [if_pos c7]; rw [t_lt, k_0] at c7; exact Or.inr ⟨by omega, rfl⟩
  rw [if_neg c7]; rw [t_lt, k_0] at c7
  by_cases c8 : (2 : Int32) < so
  case pos => rw [if_pos c8]; rw [t_lt, k_2] at c8; exact Or.inr ⟨by omega, rfl⟩
  rw [if_neg c8]; rw [t_lt, k_2] at c8
  by_cases c9 : fX3_isSum pr = true
  case neg => rw [if_neg c9]; rw [isS3] at c9; exact Or.inr ⟨by omega, rfl⟩
  rw [if_pos c9]; rw [isS3] at c9
  by_cases c10 : v.1 19 = 60
  case pos => rw [if_pos c10]; rw [t_eq, k_60] at c10; exact Or.inr ⟨by omega, rfl⟩
  rw [if_neg c10]; rw [t_eq, k_60] at c10
  exact Or.inl ⟨by omega, rfl⟩
theorem f0_paper {u : St} {n : Nat} {ho fr to da so pr : Int32} : (qOk (u.1 14) (u.1 13) (u.1 16) (u.1 15) ho fr to da so pr ∧ fX0_paper n u ho fr to da so pr = (true, u.1 15 + 1 - 1, si (pset u n (pF (u.1 15) ho fr to da so pr (u.1 16))) 15 (u.1 15 + 1))) ∨ (¬ qOk (u.1 14) (u.1 13) (u.1 16) (u.1 15) ho fr to da so pr ∧ fX0_paper n u ho fr to da so pr = (false, -1, u)) := by
  unfold fX0_paper qOk
  by_cases c10 : u.1 15 = 60
  case pos => rw [if_pos c10]; rw [t_eq, k_60] at c10; exact Or.inr ⟨by omega, rfl⟩
  rw [if_neg c10]; rw [t_eq, k_60] at c10
  by_cases c1 : fX0_isHouse u ho = true
  case neg => rw [if_neg c1]; rw [isH0] at c1; exact Or.inr ⟨by omega, rfl⟩
  rw [if_pos c1]; rw [isH0] at c1
  by_cases c2 : fX0_isPerson u fr = true
  case neg => rw [if_neg c2]; rw [isP0] at c2; exact Or.inr ⟨by omega, rfl⟩
  rw [if_pos c2]; rw [isP0] at c2
  by_cases c3 : fX0_isPerson u to = true
  case neg => rw [if_neg c3]; rw [isP0] at c3; exact Or.inr ⟨by omega, rfl⟩
  rw [if_pos c3]; rw [isP0] at c3
  by_cases c4 : fr = to
  case pos => rw [if_pos c4]; rw [t_eq] at c4; exact Or.inr ⟨by omega, rfl⟩
  rw [if_neg c4]; rw [t_eq] at c4
  by_cases c5 : da < 0
  case pos => rw [if_pos c5]; rw [t_lt, k_0] at c5; exact Or.inr ⟨by omega, rfl⟩
  rw [if_neg c5]; rw [t_lt, k_0] at c5
  by_cases c6 : u.1 16 < da
  case pos => rw [if_pos c6]; rw [t_lt] at c6; exact Or.inr ⟨by omega, rfl⟩
  rw [if_neg c6]; rw [t_lt] at c6
  by_cases c7 : so < 0
  case pos => rw [if_pos c7]; rw [t_lt, k_0] at c7; exact Or.inr ⟨by omega, rfl⟩
  rw [if_neg c7]; rw [t_lt, k_0] at c7
  by_cases c8 : (2 : Int32) < so
  case pos => rw [if_pos c8]; rw [t_lt, k_2] at c8; exact Or.inr ⟨by omega, rfl⟩
  rw [if_neg c8]; rw [t_lt, k_2] at c8
  by_cases c9 : pr < 0
  case pos => rw [if_pos c9]; rw [t_lt, k_0] at c9; exact Or.inr ⟨by omega, rfl⟩
  rw [if_neg c9]; rw [t_lt, k_0] at c9
  by_cases c11 : pr ≤ 1000000
  case neg => rw [if_neg c11]; rw [t_le, k_mil] at c11; exact Or.inr ⟨by omega, rfl⟩
  rw [if_pos c11]; rw [t_le, k_mil] at c11
  exact Or.inl ⟨by omega, rfl⟩
theorem c_paper {v u : St} {n : Nat} (ho fr to da so pr : Int32) (h : IV v u n) : (fX3_paper v ho fr to da so pr = (-1, v) ∧ fX0_paper n u ho fr to da so pr = (false, -1, u)) ∨ (0 ≤ ho.toInt ∧ ho.toInt < (v.1 7).toInt ∧ 0 ≤ fr.toInt ∧ fr.toInt < (v.1 6).toInt ∧ 0 ≤ to.toInt ∧ to.toInt < (v.1 6).toInt ∧ 0 ≤ da.toInt ∧ da.toInt ≤ (v.1 8).toInt ∧ 0 ≤ pr.toInt ∧ pr.toInt ≤ 1000000 ∧ n < 60 ∧
    fX3_paper v ho fr to da so pr = (v.1 19 + 1 - 1, si (sa (sa (sa (sa (sa (sa (sa (sa v 9 ((v.1 19).toNatClampNeg) ho) 10 ((v.1 19).toNatClampNeg) fr) 11 ((v.1 19).toNatClampNeg) to) 12 ((v.1 19).toNatClampNeg) da) 13 ((v.1 19).toNatClampNeg) so) 14 ((v.1 19).toNatClampNeg) pr) 15 ((v.1 19).toNatClampNeg) (v.1 8)) 16 ((v.1 19).toNatClampNeg) (-1)) 19 (v.1 19 + 1)) ∧
    fX0_paper n u ho fr to da so pr = (true, v.1 19 + 1 - 1, si (pset u n (pF (v.1 19) ho fr to da so pr (v.1 8))) 15 (v.1 19 + 1))) := by
  obtain ⟨⟨⟨e13, -⟩, ⟨e14, -⟩, ⟨e15, e19, hn⟩, ⟨e16, -⟩, -⟩, -⟩ := h
  have e19i : (v.1 19).toInt = n := by rw [e19]; exact nI_toInt (by omega)
  rcases f3_paper (v := v) (ho := ho) (fr := fr) (to := to) (da := da) (so := so) (pr := pr) with ⟨a, e1⟩ | ⟨a, e1⟩ <;> rcases f0_paper (u := u) (n := n) (ho := ho) (fr := fr) (to := to) (da := da) (so := so) (pr := pr) with ⟨b, e2⟩ | ⟨b, e2⟩
  · rw [e15, e16] at e2
    unfold qOk at a
    exact Or.inr ⟨by omega, by omega, by omega, by omega, by omega, by omega, by omega, by omega, by omega, by omega, by omega, e1, e2⟩
  · rw [e13, e14, e15, e16] at b; exact absurd a b
  · rw [e13, e14, e15, e16] at b; exact absurd b a
  · exact Or.inl ⟨e1, e2⟩
theorem p_paper {v u : St} {n : Nat} (ho fr to da so pr : Int32) (h : IV v u n) : (fX3_paper v ho fr to da so pr).1 = (fX0_paper n u ho fr to da so pr).2.1 ∧ IV (fX3_paper v ho fr to da so pr).2 (fX0_paper n u ho fr to da so pr).2.2 (if (fX0_paper n u ho fr to da so pr).1 = true then n + 1 else n) ∧ okX3_paper v ho fr to da so pr ∧ okX0_paper n u ho fr to da so pr := by
  obtain ⟨⟨s1, s2, s3, s4, s5, s6, s7, s8, s9⟩, hp, hh, hl, hq, hc, ht, hj⟩ := id h
  obtain ⟨e15, e19, hn⟩ := s3
  have e19i : (v.1 19).toInt = n := by rw [e19]; exact nI_toInt (by omega)
  have hpn : (v.1 19).toNatClampNeg = n := by rw [t_nat]; omega
  have h19 : ¬ (v.1 19) = 60 → vp_in (v.1 19) 60 := fun z => by rw [t_eq, k_60] at z; rw [vp_in_iff]; omega
  refine and_assoc.mp ⟨?_, fun _ _ _ _ _ _ _ _ _ z => h19 z, fun _ _ _ _ _ _ _ _ _ _ _ => s9, fun _ _ _ _ _ _ _ _ _ _ _ => by rw [e15]; exact hpn, fun z _ _ _ _ _ _ _ _ _ _ => by rw [e15] at z ⊢; exact h19 z⟩
  rcases c_paper ho fr to da so pr h with ⟨e1, e2⟩ | ⟨a1, a2, a3, a4, a5, a6, a7, a8, a9, a10, a11, e1, e2⟩
  · rw [e1, e2]; exact ⟨rfl, h⟩
  · rw [e1, e2]
    refine ⟨rfl, ?_⟩
    rw [if_pos rfl]
    have hr8 := s4.2
    unfold rg at hr8
    have e6n : v.1 19 + 1 = nI (n + 1) := by rw [e19]; exact nI_1 n
    have hm : ∀ k, k < 9 ∨ 16 < k → (si (sa (sa (sa (sa (sa (sa (sa (sa v 9 ((v.1 19).toNatClampNeg) ho) 10 ((v.1 19).toNatClampNeg) fr) 11 ((v.1 19).toNatClampNeg) to) 12 ((v.1 19).toNatClampNeg) da) 13 ((v.1 19).toNatClampNeg) so) 14 ((v.1 19).toNatClampNeg) pr) 15 ((v.1 19).toNatClampNeg) (v.1 8)) 16 ((v.1 19).toNatClampNeg) (-1)) 19 (v.1 19 + 1)).2.1 k = v.2.1 k := fun k hk => by
      rw [si_2, sa_o (by omega), sa_o (by omega), sa_o (by omega), sa_o (by omega), sa_o (by omega), sa_o (by omega), sa_o (by omega), sa_o (by omega)]
    have hu : ∀ k, k < 60 → (si (pset u n (pF (v.1 19) ho fr to da so pr (v.1 8))) 15 (v.1 19 + 1)).2.1 k = u.2.1 k := fun k hk => by rw [si_2, pset_o (Or.inl hk)]
    refine ⟨⟨?_, ?_, ?_, ?_, ?_, ?_, ?_, ?_, ?_⟩, ?_, ?_, ?_, ?_, ?_, ?_, ?_⟩
    · simp only [si_1, sa_1, pset]; exact s1
    · simp only [si_1, sa_1, pset]; exact s2
    · simp only [si_1, if_pos]; exact ⟨trivial, e6n, by omega⟩
    · simp only [si_1, sa_1, pset]; exact s4
    · simp only [si_1, sa_1, pset]; exact s5
    · simp only [si_1, sa_1, pset]; exact s6
    · simp only [si_1, sa_1, pset]; exact s7
    · simp only [si_1, sa_1, pset]; exact s8
    · simp only [si_1, pset]
      rcases s9 with z | z
      · exact Or.inl z
      · exact Or.inr (Nat.lt_of_lt_of_le z (Nat.le_succ n))
    · rw [hm 0 (by decide), hm 1 (by decide), hm 2 (by decide), hu 5 (by decide), hu 6 (by decide), hu 7 (by decide)]; exact hp
    · rw [hm 3 (by decide), hm 4 (by decide), hu 8 (by decide), hu 9 (by decide)]; exact hh
    · rw [hm 5 (by decide), hu 10 (by decide)]; exact hl
    · intro j hj1
      have hq1 : IVq n (v.1 7).toInt (v.1 6).toInt v.2.1 u.2.1 := hq
      simp only [si_2, pset_p (show 60 ≤ 60 by decide) (show 60 < 69 by decide), pset_p (show 60 ≤ 61 by decide) (show 61 < 69 by decide), pset_p (show 60 ≤ 62 by decide) (show 62 < 69 by decide), pset_p (show 60 ≤ 63 by decide) (show 63 < 69 by decide), pset_p (show 60 ≤ 64 by decide) (show 64 < 69 by decide), pset_p (show 60 ≤ 65 by decide) (show 65 < 69 by decide), pset_p (show 60 ≤ 66 by decide) (show 66 < 69 by decide), pset_p (show 60 ≤ 67 by decide) (show 67 < 69 by decide), pset_p (show 60 ≤ 68 by decide) (show 68 < 69 by decide), sa_2, hpn]
      by_cases e : j = n
      · subst e
        simp only [if_true, and_true, true_and]
        exact ⟨e19, rfl, rfl, rfl, rfl, rfl, rfl, rfl, rfl, ⟨a1, by show ho.toInt ≤ (v.1 7).toInt - 1; omega⟩, ⟨a3, by show fr.toInt ≤ (v.1 6).toInt - 1; omega⟩, ⟨a5, by show to.toInt ≤ (v.1 6).toInt - 1; omega⟩, ⟨a7, by show da.toInt ≤ 36499; omega⟩, ⟨a9, a10⟩, ⟨hr8.1, hr8.2⟩, a8, by decide, by decide⟩
      · simp only [e, if_false, and_false]
        exact hq1 j (by omega)
    · simp only [si_1, sa_1]
      rw [hm 48 (by decide), hu 12 (by decide)]; exact hc.wide (by omega)
    · simp only [si_1, sa_1]
      rw [hm 21 (by decide), hu 0 (by decide)]; exact ht
    · rw [hm 53 (by decide)]; exact hj.kept (fun k a b => hu k (by omega))
/-! feed -/
theorem nI_i {k : Nat} (h : k < 2147483648) : (nI k).toInt = (k : Int) := nI_toInt (by omega)
def bM (a b c d e : Int32) (q : Nat) : Int32 := (((fX3_fw (u00) a b c d e u00 (nI q)) >>> ((24 - (8 * ((nI q) &&& 3))) &&& 31)).toInt8.toInt32).toInt8.toInt32
def bC (a b c d e : Int32) (q : Nat) : Int32 := (((fX0_fd a b c d e (q / 4)) >>> ((nI (24 - 8 * (q % 4))) &&& 31)).toInt8.toInt32).toInt8.toInt32
theorem bMC (a b c d e : Int32) : ∀ q, q < 20 → bM a b c d e q = bC a b c d e q := by
  intro q hq
  rcases (show q = 0 ∨ q = 1 ∨ q = 2 ∨ q = 3 ∨ q = 4 ∨ q = 5 ∨ q = 6 ∨ q = 7 ∨ q = 8 ∨ q = 9 ∨ q = 10 ∨ q = 11 ∨ q = 12 ∨ q = 13 ∨ q = 14 ∨ q = 15 ∨ q = 16 ∨ q = 17 ∨ q = 18 ∨ q = 19 by omega) with rfl | rfl | rfl | rfl | rfl | rfl | rfl | rfl | rfl | rfl | rfl | rfl | rfl | rfl | rfl | rfl | rfl | rfl | rfl | rfl <;> rfl
def tm3 (v : St) (a b c d e : Int32) : Nat → St
  | 0 => v
  | q + 1 => sa (tm3 v a b c d e q) 21 ((v.1 23 + nI q).toNatClampNeg) (bM a b c d e q)
def tm0 (u : St) (a b c d e : Int32) : Nat → St
  | 0 => u
  | q + 1 => si (sa (tm0 u a b c d e q) 0 (((tm0 u a b c d e q).1 1).toNatClampNeg) (bC a b c d e q)) 1 ((tm0 u a b c d e q).1 1 + 1)
theorem tm3_1 (v : St) (a b c d e : Int32) : ∀ q, (tm3 v a b c d e q).1 = v.1 ∧ (tm3 v a b c d e q).2.2 = v.2.2 ∧ ∀ k, ¬ k = 21 → (tm3 v a b c d e q).2.1 k = v.2.1 k
  | 0 => ⟨rfl, rfl, fun _ _ => rfl⟩
  | q + 1 => by
    obtain ⟨h1, h2, h3⟩ := tm3_1 v a b c d e q
    exact ⟨h1, h2, fun k hk => by rw [tm3, sa_o hk]; exact h3 k hk⟩
theorem tm0_1 (u : St) (a b c d e : Int32) {T : Nat} (hT : u.1 1 = nI T) : ∀ q, (tm0 u a b c d e q).1 1 = nI (T + q) ∧ (∀ k, ¬ k = 1 → (tm0 u a b c d e q).1 k = u.1 k) ∧ ∀ k, ¬ k = 0 → (tm0 u a b c d e q).2.1 k = u.2.1 k
  | 0 => ⟨hT, fun _ _ => rfl, fun _ _ => rfl⟩
  | q + 1 => by
    obtain ⟨h1, h2, h3⟩ := tm0_1 u a b c d e hT q
    refine ⟨?_, fun k hk => ?_, fun k hk => ?_⟩
    · rw [tm0, si_1, if_pos rfl, h1]; exact nI_1 _
    · rw [tm0, si_1, if_neg hk]; exact h2 k hk
    · rw [tm0, si_2, sa_o hk]; exact h3 k hk
theorem tm_t {v u : St} {a b c d e : Int32} {T : Nat} (hT0 : u.1 1 = nI T) (hT3 : v.1 23 = nI T) (h6 : T ≤ 600) (h : ∀ j : Nat, j < T → u.2.1 0 j = v.2.1 21 j) : ∀ q, q ≤ 20 → ∀ j : Nat, j < T + q → (tm0 u a b c d e q).2.1 0 j = (tm3 v a b c d e q).2.1 21 j
  | 0, _, j, hj => h j hj
  | q + 1, hq, j, hj => by
    have ih := tm_t (a := a) (b := b) (c := c) (d := d) (e := e) hT0 hT3 h6 h q (by omega)
    rw [tm0, tm3, si_2, sa_s, sa_s, (tm0_1 u a b c d e hT0 q).1, hT3]
    have e1 : (nI T + nI q).toNatClampNeg = T + q := by
      rw [t_nat, t_add (by rw [nI_i (by omega), nI_i (by omega)]; omega) (by rw [nI_i (by omega), nI_i (by omega)]; omega), nI_i (by omega), nI_i (by omega)]; omega
    have e2 : (nI (T + q)).toNatClampNeg = T + q := by rw [t_nat, nI_i (by omega)]; omega
    rw [e1, e2]
    by_cases ej : j = T + q
    · rw [ej, upd_s, upd_s, bMC a b c d e q (by omega)]
    · rw [upd_o ej, upd_o ej]; exact ih j (by omega)
theorem l3_feed (v : St) (a b c d e : Int32) : ∀ j q, j + q = 20 → wh (lpX3_feed_18 v a b c d e) (j + 1) (tm3 v a b c d e q, nI q) = (1, tm3 v a b c d e 20, 20) := by
  intro j
  induction j with
  | zero =>
    intro q hq
    have : q = 20 := by omega
    subst this
    rw [wh_s]
    rfl
  | succ j ih =>
    intro q hq
    rw [wh_s]
    have hlt : ¬ (20 : Int32) ≤ nI q := by rw [t_le, k_20, nI_i (by omega)]; omega
    have hf : lpX3_feed_18 v a b c d e (tm3 v a b c d e q, nI q) = (0, tm3 v a b c d e (q + 1), nI (q + 1)) := by
      show (if (20 : Int32) ≤ nI q then _ else _) = _
      rw [if_neg hlt, nI_1]
      show (0, sa (tm3 v a b c d e q) 21 (((tm3 v a b c d e q).1 23 + nI q).toNatClampNeg) _, _) = _
      rw [(tm3_1 v a b c d e q).1]
      rfl
    rw [hf, if_pos rfl]
    exact ih (q + 1) (by omega)
