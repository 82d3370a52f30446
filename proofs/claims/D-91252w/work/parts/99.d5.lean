/-! THE PLAIN LAW, 44: lineFor, ruling, sum, about. Own work. -/
set_option maxRecDepth 100000
theorem n_600 {a c : Nat} (ha : a < 100) (hc : c < 100000) : 600 * nI a + nI c = nI (600 * a + c) := by
  have e : (600 * nI a).toInt = 600 * (a : Int) := by
    rw [Int32.toInt_mul, nI_i (by omega), k_600]
    exact Int.bmod_eq_of_le (by omega) (by omega)
  rw [t_eq, t_add (by rw [e, nI_i (by omega)]; omega) (by rw [e, nI_i (by omega)]; omega), e, nI_i (by omega), nI_i (by omega)]
  omega
section LF
variable {v : St} {b n : Nat} {lns : Nat → Ln} {K : List (Int32 × Int32)}
theorem LNs.lj (h39 : v.1 39 = nI b) (hb : b < 2) (hK : K.length ≤ 600) (hC : CDr (v.2.1 37) (v.2.1 38) (600 * b) K) (hL : LNs (v.2.1 33) (v.2.1 34) (v.2.1 35) (v.2.1 36) b n lns K) (hn : n ≤ 16) {j : Nat} (hj : j < n) : ∃ off Kj, LJ v b (16 * b + j) off Kj (lns j).1 := by
  obtain ⟨A, B, Kj, g1, g2, g3, g4, -, -⟩ := hL j hj
  have hlen : K.length = A.length + (Kj.length + B.length) := by rw [g1, List.length_append, List.length_append]
  rw [g1] at hC
  have c1 := (CDr_app A hC).1
  have c2 := (CDr_app Kj c1).2
  refine ⟨600 * b + B.length, Kj, h39, hb, by omega, by omega, by omega, ?_, ?_, c2, g4⟩
  · rw [h39, g2, n_600 (by omega) (by omega)]
  · rw [h39, g3, n_600 (by omega) (by omega)]; congr 1; omega
theorem LJ.kept {x : St} {ln off : Nat} {Kj : List (Int32 × Int32)} {f : Sm} (h : LJ v b ln off Kj f) (h1 : x.1 = v.1) (h2 : ∀ k, ¬ k = 46 → x.2.1 k = v.2.1 k) : LJ x b ln off Kj f := by
  obtain ⟨g1, g2, g3, g3', g4, g5, g6, g7, g8⟩ := h
  exact ⟨by rw [h1]; exact g1, g2, g3, g3', g4, by rw [h1, h2 35 (by decide)]; exact g5, by rw [h1, h2 36 (by decide)]; exact g6, by rw [h2 37 (by decide), h2 38 (by decide)]; exact g7, g8⟩
def ILF (v : St) (b n : Nat) (lns : Nat → Ln) (x : St × Int32) : Prop := ∃ j, j ≤ n ∧ x.2 = nI (16 * b + j) ∧ x.1.1 = v.1 ∧ (∀ k, ¬ k = 46 → x.1.2.1 k = v.2.1 k) ∧ lnF lns (v.2.1 47) (n - j) j = lnF lns (v.2.1 47) n 0
theorem ilf_step (h39 : v.1 39 = nI b) (hb : b < 2) (h32 : v.2.1 32 b = nI n) (hn : n ≤ 16) (hj : ∀ j, j < n → ∃ off Kj, LJ v b (16 * b + j) off Kj (lns j).1) {u0 : St} : ∀ x, ILF v b n lns x → (lpX3_lineFor_8 u0 x).1 = 0 → ILF v b n lns (lpX3_lineFor_8 u0 x).2 ∧ 16 * b + n - (lpX3_lineFor_8 u0 x).2.2.toNatClampNeg < 16 * b + n - x.2.toNatClampNeg := by
  rintro ⟨x, ln⟩ ⟨j, a1, a2, a3, a4, a5⟩
  replace a2 : ln = nI (16 * b + j) := a2
  replace a3 : x.1 = v.1 := a3
  replace a4 : ∀ k, ¬ k = 46 → x.2.1 k = v.2.1 k := a4
  subst a2
  unfold lpX3_lineFor_8
  dsimp only
  rw [a3, h39, nN (by omega), a4 32 (by decide), h32, n_16 (by omega) (by omega)]
  by_cases c1 : nI (16 * b + n) ≤ nI (16 * b + j)
  · rw [if_pos c1]; intro y; cases y
  · rw [if_neg c1]
    rw [n_le (by omega) (by omega)] at c1
    obtain ⟨off, Kj, hJ⟩ := hj j (by omega)
    obtain ⟨r1, r2, r3⟩ := ho_run (hJ.kept a3 a4)
    by_cases c2 : (fX3_holds x (nI (16 * b + j))).1 = true
    · rw [if_pos c2]; intro y; cases y
    · rw [if_neg c2]
      intro _
      rw [nI_1]
      refine ⟨⟨j + 1, by omega, rfl, r2.trans a3, fun k hk => (r3 k hk).trans (a4 k hk), ?_⟩, by rw [nN (by omega), nN (by omega)]; omega⟩
      rw [← a5, show n - j = (n - (j + 1)) + 1 by omega, lnF]
      rw [r1, a4 47 (by decide)] at c2
      have c3 : (lns j).1 (v.2.1 47) = 0 := by
        by_cases z : (lns j).1 (v.2.1 47) = 0
        · exact z
        · rw [decide_eq_false z] at c2; exact absurd rfl c2
      rw [if_pos c3]
theorem lf_run (h39 : v.1 39 = nI b) (hb : b < 2) (h32 : v.2.1 32 b = nI n) (hn : n ≤ 16) (hj : ∀ j, j < n → ∃ off Kj, LJ v b (16 * b + j) off Kj (lns j).1) : okX3_lineFor v ∧ (fX3_lineFor v).1 = (match lnF lns (v.2.1 47) n 0 with | none => -1 | some i => nI (16 * b + i)) ∧ (fX3_lineFor v).2.1 = v.1 ∧ (∀ k, ¬ k = 46 → (fX3_lineFor v).2.2.1 k = v.2.1 k) ∧ (∀ i, lnF lns (v.2.1 47) n 0 = some i → i < n) := by
  have e0 : 16 * v.1 39 = nI (16 * b) := by
    have := n_16 (show b < 100 by omega) (show 0 < 100000 by omega)
    rw [show nI 0 = 0 from rfl, Int32.add_zero, Nat.add_zero] at this
    rw [h39]; exact this
  have i0 : ILF v b n lns (v, 16 * v.1 39) := ⟨0, Nat.zero_le _, e0, rfl, fun _ _ => rfl, rfl⟩
  have hst := ilf_step (u0 := v) h39 hb h32 hn hj
  have hmu : 16 * b + n - (16 * v.1 39).toNatClampNeg < 17 := by rw [e0, nN (by omega)]; omega
  have lok : LOK (lpX3_lineFor_8 v) 17 (v, 16 * v.1 39) (ILF v b n lns) := LOK.of (μ := fun x => 16 * b + n - x.2.toNatClampNeg) i0 hst hmu
  have ok : okX3_lineFor v := by
    refine ⟨ILF v b n lns, lok, ?_, ?_⟩
    · rintro x ln ⟨j, a1, a2, a3, a4, a5⟩
      replace a3 : x.1 = v.1 := a3
      rw [a3, h39, vp_in_iff, nI_i (by omega)]; omega
    · rintro x ln ⟨j, a1, a2, a3, a4, a5⟩ c1
      replace a2 : ln = nI (16 * b + j) := a2
      replace a3 : x.1 = v.1 := a3
      replace a4 : ∀ k, ¬ k = 46 → x.2.1 k = v.2.1 k := a4
      rw [a3, h39, nN (by omega), a4 32 (by decide), h32, n_16 (by omega) (by omega), a2, n_le (by omega) (by omega)] at c1
      obtain ⟨off, Kj, hJ⟩ := hj j (by omega)
      rw [a2]
      exact ho_ok (hJ.kept a3 a4)
  obtain ⟨x, h1, h2, h3⟩ := wh_run (lpX3_lineFor_8 v) (ILF v b n lns) (fun x => 16 * b + n - x.2.toNatClampNeg) hst 17 _ i0 hmu
  refine ⟨ok, ?_⟩
  obtain ⟨x, ln⟩ := x
  obtain ⟨j, a1, a2, a3, a4, a5⟩ := h1
  replace a2 : ln = nI (16 * b + j) := a2
  replace a3 : x.1 = v.1 := a3
  replace a4 : ∀ k, ¬ k = 46 → x.2.1 k = v.2.1 k := a4
  subst a2
  have eF : lpX3_lineFor_8 v (x, nI (16 * b + j)) = if nI (16 * b + n) ≤ nI (16 * b + j) then (1, x, nI (16 * b + j)) else (if (fX3_holds x (nI (16 * b + j))).1 = true then (2, (fX3_holds x (nI (16 * b + j))).2, nI (16 * b + j)) else (0, (fX3_holds x (nI (16 * b + j))).2, nI (16 * b + j) + 1)) := by
    unfold lpX3_lineFor_8
    dsimp only
    rw [show x.1 39 = nI b by rw [a3]; exact h39, nN (by omega), a4 32 (by decide), h32, n_16 (by omega) (by omega)]
  unfold fX3_lineFor lpX3_lineFor_8_r
  rw [h3]
  revert h2
  rw [eF]
  by_cases c1 : nI (16 * b + n) ≤ nI (16 * b + j)
  · simp only [if_pos c1]
    intro _
    rw [n_le (by omega) (by omega)] at c1
    have ej : j = n := by omega
    subst ej
    rw [Nat.sub_self, lnF] at a5
    rw [← a5]
    exact ⟨rfl, a3, a4, fun i z => by cases z⟩
  · simp only [if_neg c1]
    rw [n_le (by omega) (by omega)] at c1
    obtain ⟨off, Kj, hJ⟩ := hj j (by omega)
    obtain ⟨r1, r2, r3⟩ := ho_run (hJ.kept a3 a4)
    by_cases c2 : (fX3_holds x (nI (16 * b + j))).1 = true
    · simp only [if_pos c2]
      intro _
      rw [r1, a4 47 (by decide)] at c2
      have c3 : ¬ (lns j).1 (v.2.1 47) = 0 := fun z => by rw [decide_eq_true z] at c2; cases c2
      rw [show n - j = (n - (j + 1)) + 1 by omega, lnF, if_neg c3] at a5
      rw [← a5]
      exact ⟨rfl, r2.trans a3, fun k hk => (r3 k hk).trans (a4 k hk), fun i z => by cases z; omega⟩
    · simp only [if_neg c2]
      intro y; exact absurd trivial y
end LF
section RU
variable {v u : St} {n n0 : Nat} {lns : Nat → Ln}
theorem lnF_ext {e e' : Nat → Int32} (h : ∀ i, (lns i).1 e = (lns i).1 e') : ∀ j k, lnF lns e j k = lnF lns e' j k
  | 0, _ => rfl
  | j + 1, k => by rw [lnF, lnF, h k, lnF_ext h j (k + 1)]
/-- the line that answers, for the model -/
theorem lf_LM (hM : LM v n0 lns) : okX3_lineFor v ∧ LM (fX3_lineFor v).2 n0 lns ∧ (fX3_lineFor v).2.1 = v.1 ∧ (∀ k, ¬ k = 46 → (fX3_lineFor v).2.2.1 k = v.2.1 k) ∧ (match lnF lns (v.2.1 47) n0 0 with
    | none => (fX3_lineFor v).1 = -1
    | some i => ∃ j : Nat, j < 32 ∧ (fX3_lineFor v).1 = nI j ∧ (fX3_lineFor v).2.2.1 33 j = (lns i).2.1 ∧ (fX3_lineFor v).2.2.1 34 j = (lns i).2.2) := by
  have hM0 := hM
  obtain ⟨b, K, a1, a2, a3, a4, a5, a6, a7⟩ := hM
  obtain ⟨r1, r2, r3, r4, r5⟩ := lf_run a1 a2 a3 a4 (fun j hj => LNs.lj a1 a2 a5 a6 a7 a4 hj)
  refine ⟨r1, hM0.kept (by rw [r3]) (fun k x1 x2 => r4 k (by omega)), r3, r4, ?_⟩
  cases hl : lnF lns (v.2.1 47) n0 0 with
  | none => rw [hl] at r2; exact r2
  | some i =>
    rw [hl] at r2
    have hi := r5 i hl
    obtain ⟨A, B, Kj, g1, g2, g3, g4, g5, g6⟩ := a7 i hi
    exact ⟨16 * b + i, by omega, r2, by rw [r4 33 (by decide)]; exact g5, by rw [r4 34 (by decide)]; exact g6⟩
theorem lnV (hM : LM v n0 lns) {e : Nat → Int32} (h : ∀ j, j < 9 → v.2.1 47 j = e j) : lnF lns (v.2.1 47) n0 0 = lnF lns e n0 0 := by
  obtain ⟨b, K, a1, a2, a3, a4, a5, a6, a7⟩ := hM
  have key : ∀ i, i < n0 → (lns i).1 (v.2.1 47) = (lns i).1 e := fun i hi => by
    obtain ⟨A, B, Kj, g1, g2, g3, g4, g5, g6⟩ := a7 i hi
    have ee : ∀ (K : List (Int32 × Int32)) s, evR (v.2.1 47) s K = evR e s K := by
      intro K s
      induction K with
      | nil => rfl
      | cons x r ih =>
        rw [evR, evR, ih]
        congr 1
        funext s'
        unfold stp
        by_cases q : 0 ≤ x.2.toInt ∧ x.2.toInt < 9
        · rw [h x.2.toNatClampNeg (by rw [t_nat]; omega)]
        · rw [if_neg q, if_neg q]
    have h1 := g4.1 (v.2.1 47) []
    have h2 := g4.1 e []
    rw [ee, h2] at h1
    injection h1 with h1
    injection h1 with h1
    exact h1.symm
  have go : ∀ j k, k + j ≤ n0 → lnF lns (v.2.1 47) j k = lnF lns e j k := by
    intro j
    induction j with
    | zero => intro k _; rfl
    | succ j ih =>
      intro k hk
      rw [lnF, lnF, key k (by omega), ih (k + 1) (by omega)]
  exact go n0 0 (by omega)
theorem p_ruling (cl k : Int32) (h : IV v u n) (hM : LM v n0 lns) : (fX3_ruling v cl k).1 = (fX0_ruling u n0 lns cl k).1 ∧ IV (fX3_ruling v cl k).2 (fX0_ruling u n0 lns cl k).2 n ∧ LM (fX3_ruling v cl k).2 n0 lns ∧ okX3_ruling v cl k := by
  obtain ⟨l1, l2, l3, l4, l5, l6⟩ := p_look cl k h
  have hM1 : LM (fX3_look v cl k).2 n0 lns := hM.kept (l5.1 39 (by decide)) (fun k x1 x2 => l5.2.1 k (by omega) (by omega) (by omega))
  obtain ⟨r1, r2, r3, r4, r5⟩ := lf_LM hM1
  unfold fX3_ruling fX0_ruling okX3_ruling
  by_cases c : (fX3_look v cl k).1 = true
  · obtain ⟨t1, t2⟩ := l6 c
    rw [if_pos c, if_pos (l1.symm.trans c)]
    have ev := lnV hM1 t1
    have iv : IV (fX3_lineFor (fX3_look v cl k).2).2 (fX0_looks u cl k).2 n := l2.keep (fun k _ => by rw [r3]) (fun k hk => r4 k (by omega)) (fun _ _ => rfl) (fun _ _ => rfl) l2.1.2.2.2.2.2.2.2.2
    rw [← ev]
    cases hl : lnF lns ((fX3_look v cl k).2.2.1 47) n0 0 with
    | none =>
      rw [hl] at r5
      have r5 : (fX3_lineFor (fX3_look v cl k).2).1 = -1 := r5
      rw [r5, if_neg (by decide)]
      exact ⟨rfl, iv, r2, l3, fun _ => r1, fun _ z => absurd z (by decide)⟩
    | some i =>
      rw [hl] at r5
      obtain ⟨j, j1, j2, j3, j4⟩ := r5
      rw [j2, if_pos (by rw [t_le, k_0, nI_i (by omega)]; omega), nN (by omega)]
      exact ⟨j3, iv, r2, l3, fun _ => r1, fun _ _ => by rw [vp_in_iff, nI_i (by omega)]; omega⟩
  · rw [if_neg c, if_neg (fun z => c (l1.trans z))]
    exact ⟨rfl, l2, hM1, l3, fun z => absurd z c, fun z => absurd z c⟩
theorem p_sum (cl k : Int32) (h : IV v u n) (hM : LM v n0 lns) : (fX3_sum v cl k).1 = (fX0_sum u n0 lns cl k).1 ∧ IV (fX3_sum v cl k).2 (fX0_sum u n0 lns cl k).2 n ∧ LM (fX3_sum v cl k).2 n0 lns ∧ okX3_sum v cl k := by
  obtain ⟨l1, l2, l3, l4, l5, l6⟩ := p_look cl k h
  have hM1 : LM (fX3_look v cl k).2 n0 lns := hM.kept (l5.1 39 (by decide)) (fun k x1 x2 => l5.2.1 k (by omega) (by omega) (by omega))
  obtain ⟨r1, r2, r3, r4, r5⟩ := lf_LM hM1
  unfold fX3_sum fX0_sum okX3_sum
  by_cases c : (fX3_look v cl k).1 = true
  · obtain ⟨t1, t2⟩ := l6 c
    rw [if_pos c, if_pos (l1.symm.trans c)]
    have ev := lnV hM1 t1
    have iv : IV (fX3_lineFor (fX3_look v cl k).2).2 (fX0_looks u cl k).2 n := l2.keep (fun k _ => by rw [r3]) (fun k hk => r4 k (by omega)) (fun _ _ => rfl) (fun _ _ => rfl) l2.1.2.2.2.2.2.2.2.2
    rw [← ev]
    cases hl : lnF lns ((fX3_look v cl k).2.2.1 47) n0 0 with
    | none =>
      rw [hl] at r5
      have r5 : (fX3_lineFor (fX3_look v cl k).2).1 = -1 := r5
      rw [r5, if_neg (by decide)]
      exact ⟨rfl, iv, r2, l3, fun _ => r1, fun _ z => absurd z (by decide)⟩
    | some i =>
      rw [hl] at r5
      obtain ⟨j, j1, j2, j3, j4⟩ := r5
      rw [j2, if_pos (by rw [t_le, k_0, nI_i (by omega)]; omega), nN (by omega)]
      refine ⟨?_, iv, r2, l3, fun _ => r1, fun _ _ => by rw [vp_in_iff, nI_i (by omega)]; omega⟩
      dsimp only
      rw [r4 47 (by decide), t1 3 (by decide), j4]
      have e3 : tvK (fX0_looks u cl k).2 3 = (fX0_looks u cl k).2.2.1 9 (((fX0_looks u cl k).2.2.1 61 (((fX0_looks u cl k).2.1 31).toNatClampNeg)).toNatClampNeg) := mn_i _
      rw [e3]
  · rw [if_neg c, if_neg (fun z => c (l1.trans z))]
    exact ⟨rfl, l2, hM1, l3, fun z => absurd z c, fun z => absurd z c⟩
theorem p_about (w : Int32) (h : IV v u n) (hM : LM v n0 lns) : fX3_about v w = fX0_about u n0 w ∧ okX3_about v w := by
  obtain ⟨⟨s1, s2, s3, s4, s5, s6, s7, s8, s9⟩, -⟩ := h
  obtain ⟨b, K, a1, a2, a3, a4, a5, a6, a7⟩ := hM
  refine ⟨?_, fun _ => by rw [a1, vp_in_iff, nI_i (by omega)]; omega⟩
  unfold fX3_about fX0_about
  rw [s1.1, s2.1, s3.1, s4.1, s5.1, s6.1, s7.1, a1, nN (by omega), a3]
end RU
