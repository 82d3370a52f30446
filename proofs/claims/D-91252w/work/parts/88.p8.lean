/-! THE PLAIN LAW, 9: the component follows a house. Own work. -/
set_option maxRecDepth 100000
def d0 (u : St) (p : Nat) : Int := (u.2.1 64 p).toInt
/-- a paper that may come next -/
def cd (u : St) (ho d k da ha : Int32) (p : Nat) : Prop := u.2.1 61 p = ho ∧ d0 u p ≤ d.toInt ∧ fX4_counts u (nI p) k = true ∧ (da.toInt < d0 u p ∨ (d0 u p = da.toInt ∧ ha.toInt < p))
def I6 (u : St) (ho d k da ha : Int32) (n : Nat) (x : Int32 × Int32) : Prop := ∃ j : Nat, j ≤ n ∧ x.2 = nI j ∧ ((x.1 = -1 ∧ ∀ p, p < j → ¬ cd u ho d k da ha p) ∨ (∃ b, b < j ∧ x.1 = nI b ∧ cd u ho d k da ha b ∧ ∀ c, c < j → cd u ho d k da ha c → c = b ∨ bef (d0 u) b c))
theorem i6_step {u : St} {ho d k da ha : Int32} {n : Nat} (h15 : u.1 15 = nI n) (hn : n ≤ 60) (h60 : ∀ p, p < n → u.2.1 60 p = nI p) : ∀ x, I6 u ho d k da ha n x → (lpX0_following_6 u ho d k da ha x).1 = 0 → I6 u ho d k da ha n (lpX0_following_6 u ho d k da ha x).2 ∧ 60 - (lpX0_following_6 u ho d k da ha x).2.2.toNatClampNeg < 60 - x.2.toNatClampNeg := by
  rintro ⟨be, jj⟩ ⟨j, hj, hjj, hb⟩
  have hjj : jj = nI j := hjj
  subst hjj
  have hb : (be = -1 ∧ ∀ p, p < j → ¬ cd u ho d k da ha p) ∨ (∃ b, b < j ∧ be = nI b ∧ cd u ho d k da ha b ∧ ∀ c, c < j → cd u ho d k da ha c → c = b ∨ bef (d0 u) b c) := hb
  unfold lpX0_following_6
  dsimp only
  rw [h15]
  by_cases c1 : nI n ≤ nI j
  · simp only [if_pos c1]; intro z; cases z
  · simp only [if_neg c1]
    rw [t_le, nI_i (by omega), nI_i (by omega)] at c1
    have hjn : j < n := by omega
    rw [nN (by omega), nI_1, h60 j hjn]
    have hmu : 60 - (nI (j + 1)).toNatClampNeg < 60 - j := by rw [nN (by omega)]; omega
    -- no candidate: the best stays
    have stay : ¬ cd u ho d k da ha j → I6 u ho d k da ha n (be, nI (j + 1)) := fun hc => by
      refine ⟨j + 1, by omega, rfl, ?_⟩
      rcases hb with ⟨e1, e2⟩ | ⟨b, e1, e2, e3, e4⟩
      · exact Or.inl ⟨e1, fun p hp => by by_cases z : p = j; (· rw [z]; exact hc); (· exact e2 p (by omega))⟩
      · exact Or.inr ⟨b, by omega, e2, e3, fun c hc2 hcc => by by_cases z : c = j; (· rw [z] at hcc; exact absurd hcc hc); (· exact e4 c (by omega) hcc)⟩
    -- a candidate
    have take : cd u ho d k da ha j → I6 u ho d k da ha n (if be < 0 then nI j else if u.2.1 64 be.toNatClampNeg ≤ u.2.1 64 j then be else nI j, nI (j + 1)) := fun hc => by
      refine ⟨j + 1, by omega, rfl, Or.inr ?_⟩
      rcases hb with ⟨e1, e2⟩ | ⟨b, e1, e2, e3, e4⟩
      · refine ⟨j, by omega, ?_, hc, fun c hc2 hcc => ?_⟩
        · show (if be < 0 then _ else _) = _
          rw [if_pos (by rw [e1]; decide)]
        · by_cases z : c = j
          · exact Or.inl z
          · exact absurd hcc (e2 c (by omega))
      · have hbe : ¬ be < 0 := by rw [e2, t_lt, nI_i (by omega), k_0]; omega
        by_cases c2 : u.2.1 64 b ≤ u.2.1 64 j
        · refine ⟨b, by omega, ?_, e3, fun c hc2 hcc => ?_⟩
          · show (if be < 0 then _ else _) = _
            rw [if_neg hbe, e2, nN (by omega), if_pos c2]
          · by_cases z : c = j
            · rw [z]
              rw [t_le] at c2
              exact Or.inr (by unfold bef d0; omega)
            · exact e4 c (by omega) hcc
        · refine ⟨j, by omega, ?_, hc, fun c hc2 hcc => ?_⟩
          · show (if be < 0 then _ else _) = _
            rw [if_neg hbe, e2, nN (by omega), if_neg c2]
          · by_cases z : c = j
            · exact Or.inl z
            · rw [t_le] at c2
              have hjb : bef (d0 u) j b := by unfold bef d0; omega
              rcases e4 c (by omega) hcc with z2 | z2
              · rw [z2]; exact Or.inr hjb
              · exact Or.inr (bef_tr hjb z2)
    by_cases q1 : u.2.1 61 j = ho
    · simp only [if_pos q1]
      by_cases q2 : d < u.2.1 64 j
      · simp only [if_pos q2]
        intro _
        rw [t_lt] at q2
        exact ⟨stay (fun z => by have := z.2.1; unfold d0 at this; omega), hmu⟩
      · simp only [if_neg q2]
        rw [t_lt] at q2
        by_cases q3 : fX4_counts u (nI j) k = true
        · simp only [if_pos q3]
          by_cases q4 : u.2.1 64 j < da
          · simp only [if_pos q4]
            intro _
            rw [t_lt] at q4
            exact ⟨stay (fun z => by have := z.2.2.2; unfold d0 at this; omega), hmu⟩
          · simp only [if_neg q4]
            rw [t_lt] at q4
            have fin : cd u ho d k da ha j → (if be < 0 then ((0, nI j, nI (j + 1)) : Nat × Int32 × Int32) else if u.2.1 64 be.toNatClampNeg ≤ u.2.1 64 j then (0, be, nI (j + 1)) else (0, nI j, nI (j + 1))).1 = 0 → I6 u ho d k da ha n (if be < 0 then ((0, nI j, nI (j + 1)) : Nat × Int32 × Int32) else if u.2.1 64 be.toNatClampNeg ≤ u.2.1 64 j then (0, be, nI (j + 1)) else (0, nI j, nI (j + 1))).2 ∧ 60 - (if be < 0 then ((0, nI j, nI (j + 1)) : Nat × Int32 × Int32) else if u.2.1 64 be.toNatClampNeg ≤ u.2.1 64 j then (0, be, nI (j + 1)) else (0, nI j, nI (j + 1))).2.2.toNatClampNeg < 60 - j := fun hc _ => by
              have := take hc
              by_cases r1 : be < 0
              · simp only [if_pos r1] at this ⊢; exact ⟨this, hmu⟩
              · simp only [if_neg r1] at this ⊢
                by_cases r2 : u.2.1 64 be.toNatClampNeg ≤ u.2.1 64 j
                · simp only [if_pos r2] at this ⊢; exact ⟨this, hmu⟩
                · simp only [if_neg r2] at this ⊢; exact ⟨this, hmu⟩
            by_cases q5 : u.2.1 64 j = da
            · simp only [if_pos q5]
              by_cases q6 : ha < nI j
              · simp only [if_pos q6]
                rw [t_lt, nI_i (by omega)] at q6
                rw [← q5]
                rw [t_eq] at q5
                rw [← t_eq] at q5
                exact (by rw [q5] at fin ⊢; exact fin ⟨q1, by unfold d0; omega, q3, Or.inr ⟨by unfold d0; rw [q5], q6⟩⟩)
              · simp only [if_neg q6]
                intro _
                rw [t_lt, nI_i (by omega)] at q6
                exact ⟨stay (fun z => by have := z.2.2.2; rw [t_eq] at q5; unfold d0 at this; omega), hmu⟩
            · simp only [if_neg q5]
              rw [t_eq] at q5
              exact fin ⟨q1, by unfold d0; omega, q3, Or.inl (by unfold d0; omega)⟩
        · simp only [if_neg q3]
          intro _
          exact ⟨stay (fun z => q3 z.2.2.1), hmu⟩
    · simp only [if_neg q1]
      intro _
      exact ⟨stay (fun z => q1 z.1), hmu⟩
theorem i6_init {u : St} {ho d k da ha : Int32} {n : Nat} : I6 u ho d k da ha n (-1, 0) := ⟨0, Nat.zero_le _, rfl, Or.inl ⟨rfl, fun p hp => absurd hp (Nat.not_lt_zero _)⟩⟩
/-- the paper that comes next -/
theorem f0_following {u : St} {ho d k da ha : Int32} {n : Nat} (h15 : u.1 15 = nI n) (hn : n ≤ 60) (h60 : ∀ p, p < n → u.2.1 60 p = nI p) : ((fX0_following u ho d k da ha = -1 ∧ ∀ p, p < n → ¬ cd u ho d k da ha p) ∨ (∃ b, b < n ∧ fX0_following u ho d k da ha = nI b ∧ cd u ho d k da ha b ∧ ∀ c, c < n → cd u ho d k da ha c → c = b ∨ bef (d0 u) b c)) ∧ okX0_following n u ho d k da ha := by
  refine ⟨?_, I6 u ho d k da ha n, LOK.of (μ := fun x => 60 - x.2.toNatClampNeg) i6_init (fun x hx hz => i6_step h15 hn h60 x hx hz) (by show 60 - _ < 61; omega), ?_, ?_, ?_, ?_, ?_⟩
  · obtain ⟨b, h1, h2, h3⟩ := wh_run (lpX0_following_6 u ho d k da ha) (I6 u ho d k da ha n) (fun x => 60 - x.2.toNatClampNeg) (fun x hx hz => i6_step h15 hn h60 x hx hz) 61 (-1, 0) i6_init (by show 60 - _ < 61; omega)
    obtain ⟨be, jj⟩ := b
    obtain ⟨j, hj, hjj, hb⟩ := h1
    have hjj : jj = nI j := hjj
    subst hjj
    have hx : lpX0_following_6 u ho d k da ha (be, nI j) = (1, be, nI j) ∧ j = n := by
      revert h2
      unfold lpX0_following_6
      dsimp only
      rw [h15]
      by_cases c1 : nI n ≤ nI j
      · simp only [if_pos c1]
        intro _
        rw [t_le, nI_i (by omega), nI_i (by omega)] at c1
        exact ⟨trivial, by omega⟩
      · simp only [if_neg c1]
        intro z
        exfalso
        revert z
        repeat' split
        all_goals (intro z; first | exact absurd rfl z | exact absurd trivial z)
    obtain ⟨hx1, rfl⟩ := hx
    have hr : fX0_following u ho d k da ha = be := by
      show (wh (lpX0_following_6 u ho d k da ha) 61 (-1, 0)).2.1 = _
      rw [h3, hx1]
    rw [hr]
    exact hb
  · rintro be j2 ⟨j, hj, hjj, -⟩ hz
    have hjj : j2 = nI j := hjj
    rw [h15, hjj, t_le, nI_i (by omega), nI_i (by omega)] at hz
    rw [hjj]; exact vp_in_nI (by omega) (by decide)
  · rintro be j2 ⟨j, hj, hjj, -⟩ hz
    have hjj : j2 = nI j := hjj
    rw [h15, hjj, t_le, nI_i (by omega), nI_i (by omega)] at hz
    rw [hjj, nN (by omega)]; omega
  · rintro be j2 ⟨j, hj, hjj, -⟩ hz
    have hjj : j2 = nI j := hjj
    rw [h15, hjj, t_le, nI_i (by omega), nI_i (by omega)] at hz
    rw [hjj]; exact ⟨by rw [t_lt, nI_i (by omega), k_0]; omega, by rw [nN (by omega)]; omega⟩
  · rintro be j2 ⟨j, hj, hjj, hb⟩ hz _ _ _ _ _ hbe
    rcases hb with ⟨e1, -⟩ | ⟨b, e1, e2, -⟩
    · exact absurd (by rw [show be = -1 from e1]; decide) hbe
    · rw [show be = nI b from e2]; exact ⟨by rw [t_lt, nI_i (by omega), k_0]; omega, by rw [nN (by omega)]; omega⟩
  · rintro be j2 ⟨j, hj, hjj, hb⟩ hz _ _ _ _ _ _ hbe
    rcases hb with ⟨e1, -⟩ | ⟨b, e1, e2, -⟩
    · exact absurd (by rw [show be = -1 from e1]; decide) hbe
    · rw [show be = nI b from e2]; exact ⟨by rw [t_lt, nI_i (by omega), k_0]; omega, by rw [nN (by omega)]; omega⟩
