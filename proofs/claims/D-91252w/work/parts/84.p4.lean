/-! THE PLAIN LAW, 5: feed. Own work. -/
set_option maxRecDepth 100000
/-- one byte of the component's loop -/
def fb (w : St) (x k : Int32) : St := si (sa w 0 ((w.1 1).toNatClampNeg) (((x >>> (k &&& 31)).toInt8.toInt32).toInt8.toInt32)) 1 (w.1 1 + 1)
theorem l72 (u : St) (a b c d e : Int32) (w0 : St) (i : Int32) (w : St) : wh (lpX0_feed_72 u a b c d e w0 i) 5 (w, 24) = (1, fb (fb (fb (fb w (fX0_fd a b c d e i.toNatClampNeg) 24) (fX0_fd a b c d e i.toNatClampNeg) 16) (fX0_fd a b c d e i.toNatClampNeg) 8) (fX0_fd a b c d e i.toNatClampNeg) 0, -8) := by
  have st : ∀ (x : St) (k : Int32), ¬ k < 0 → lpX0_feed_72 u a b c d e w0 i (x, k) = (0, fb x (fX0_fd a b c d e i.toNatClampNeg) k, k + (-8)) := fun x k hk => by
    show (if k < 0 then _ else _) = _
    rw [if_neg hk]
    rfl
  rw [wh_s, st w 24 (by decide), if_pos rfl, wh_s, show (24 : Int32) + (-8) = 16 from rfl, st _ 16 (by decide), if_pos rfl, wh_s, show (16 : Int32) + (-8) = 8 from rfl, st _ 8 (by decide), if_pos rfl, wh_s, show (8 : Int32) + (-8) = 0 from rfl, st _ 0 (by decide), if_pos rfl, wh_s]
  rfl
theorem tm0_fb (u : St) (a b c d e : Int32) (q i : Nat) (k : Int32) (hi : q / 4 = i) (hk : nI (24 - 8 * (q % 4)) = k) : fb (tm0 u a b c d e q) (fX0_fd a b c d e i) k = tm0 u a b c d e (q + 1) := by
  subst hi
  subst hk
  rfl
theorem l72_t (u : St) (a b c d e : Int32) (w0 : St) (i : Nat) (hi : i < 5) : wh (lpX0_feed_72 u a b c d e w0 (nI i)) 5 (tm0 u a b c d e (4 * i), 24) = (1, tm0 u a b c d e (4 * i + 4), -8) := by
  rw [l72, show (nI i).toNatClampNeg = i by rw [t_nat, nI_i (by omega)]; omega]
  rw [tm0_fb u a b c d e (4 * i) i 24 (by omega) (by rw [show 4 * i % 4 = 0 by omega]; rfl), tm0_fb u a b c d e (4 * i + 1) i 16 (by omega) (by rw [show (4 * i + 1) % 4 = 1 by omega]; rfl), tm0_fb u a b c d e (4 * i + 1 + 1) i 8 (by omega) (by rw [show (4 * i + 1 + 1) % 4 = 2 by omega]; rfl), tm0_fb u a b c d e (4 * i + 1 + 1 + 1) i 0 (by omega) (by rw [show (4 * i + 1 + 1 + 1) % 4 = 3 by omega]; rfl)]
theorem l54 (u : St) (a b c d e : Int32) : ∀ j i, j + i = 5 → wh (lpX0_feed_54 u a b c d e) (j + 1) (tm0 u a b c d e (4 * i), nI i) = (1, tm0 u a b c d e 20, 5) := by
  intro j
  induction j with
  | zero =>
    intro i hi
    have : i = 5 := by omega
    subst this
    rw [wh_s]
    rfl
  | succ j ih =>
    intro i hi
    rw [wh_s]
    have hlt : ¬ (5 : Int32) ≤ nI i := by rw [t_le, show (5 : Int32).toInt = 5 from rfl, nI_i (by omega)]; omega
    have hf : lpX0_feed_54 u a b c d e (tm0 u a b c d e (4 * i), nI i) = (0, tm0 u a b c d e (4 * (i + 1)), nI (i + 1)) := by
      show (if (5 : Int32) ≤ nI i then _ else _) = _
      rw [if_neg hlt, nI_1]
      show (0, (wh (lpX0_feed_72 u a b c d e (tm0 u a b c d e (4 * i)) (nI i)) 5 (tm0 u a b c d e (4 * i), 24)).2.1, nI (i + 1)) = _
      rw [l72_t u a b c d e _ i (by omega)]
      rfl
    rw [hf, if_pos rfl]
    exact ih (i + 1) (by omega)
theorem p_feed {v u : St} {n : Nat} (a b c d e : Int32) (h : IV v u n) : (fX3_feed v a b c d e).1 = (fX0_feed u a b c d e).1 ∧ IV (fX3_feed v a b c d e).2 (fX0_feed u a b c d e).2 n ∧ okX3_feed v a b c d e ∧ okX0_feed n u a b c d e := by
  obtain ⟨⟨s1, s2, s3, s4, s5, s6, s7, s8, s9⟩, hp, hh, hl, hq, hc, ht, hj⟩ := id h
  obtain ⟨e1, hr⟩ := s7
  unfold rg at hr
  obtain ⟨T, hT⟩ : ∃ T : Nat, (v.1 23).toInt = T := ⟨(v.1 23).toInt.toNat, by omega⟩
  have hT3 : v.1 23 = nI T := t_eq.mpr (by rw [nI_i (by omega)]; exact hT)
  have hT0 : u.1 1 = nI T := by rw [e1, hT3]
  have ea : (v.1 23 + 20).toInt = T + 20 := by rw [t_add (by rw [k_20]; omega) (by rw [k_20]; omega), hT, k_20]
  have hl3 : lpX3_feed_18_r v a b c d e = (1, tm3 v a b c d e 20, 20) := l3_feed v a b c d e 20 0 rfl
  have hl0 : lpX0_feed_54_r u a b c d e = (1, tm0 u a b c d e 20, 5) := l54 u a b c d e 5 0 rfl
  have hth : ∀ j : Nat, j < T → u.2.1 0 j = v.2.1 21 j := fun j hj1 => ht j (by omega)
  have e20 : v.1 23 + 20 = nI (T + 20) := by rw [hT3]; exact t_eq.mpr (by rw [t_add (by rw [nI_i (by omega), k_20]; omega) (by rw [nI_i (by omega), k_20]; omega), nI_i (by omega), nI_i (by omega), k_20]; omega)
  refine and_assoc.mp ⟨?_, ?_, ?_⟩
  · unfold fX3_feed fX0_feed
    rw [hl3, hl0, e1]
    by_cases c1 : v.1 23 + 20 ≤ 600
    · rw [if_pos c1, if_pos c1]
      rw [t_le, ea, k_600] at c1
      obtain ⟨h1, h2, h3⟩ := tm3_1 v a b c d e 20
      obtain ⟨g1, g2, g3⟩ := tm0_1 u a b c d e hT0 20
      have e3 : (tm3 v a b c d e 20).1 23 + 20 = nI (T + 20) := by rw [h1]; exact e20
      refine ⟨by show (tm3 v a b c d e 20).1 23 + 20 = (tm0 u a b c d e 20).1 1; rw [e3, g1], ?_⟩
      show IV (si (tm3 v a b c d e 20) 23 ((tm3 v a b c d e 20).1 23 + 20)) (tm0 u a b c d e 20) n
      rw [e3]
      have k3 : ∀ k, ¬ k = 23 → (si (tm3 v a b c d e 20) 23 (nI (T + 20))).1 k = v.1 k := fun k hk => by rw [si_1, if_neg hk, h1]
      have k3a : ∀ k, ¬ k = 21 → (si (tm3 v a b c d e 20) 23 (nI (T + 20))).2.1 k = v.2.1 k := fun k hk => by rw [si_2]; exact h3 k hk
      refine ⟨⟨?_, ?_, ?_, ?_, ?_, ?_, ?_, ?_, ?_⟩, ?_, ?_, ?_, ?_, ?_, ?_, ?_⟩
      · rw [k3 6 (by decide), g2 13 (by decide)]; exact s1
      · rw [k3 7 (by decide), g2 14 (by decide)]; exact s2
      · rw [k3 19 (by decide), g2 15 (by decide)]; exact s3
      · rw [k3 8 (by decide), g2 16 (by decide)]; exact s4
      · rw [k3 49 (by decide), g2 17 (by decide)]; exact s5
      · rw [k3 55 (by decide), g2 30 (by decide)]; exact s6
      · rw [g1, si_1, if_pos rfl]; exact ⟨rfl, by unfold rg; rw [nI_i (by omega)]; omega⟩
      · rw [k3 25 (by decide), k3 26 (by decide), g2 2 (by decide), g2 3 (by decide)]; exact s8
      · rw [g2 31 (by decide)]; exact s9
      · rw [k3 6 (by decide), k3a 0 (by decide), k3a 1 (by decide), k3a 2 (by decide), g3 5 (by decide), g3 6 (by decide), g3 7 (by decide)]; exact hp
      · rw [k3 6 (by decide), k3 7 (by decide), k3a 3 (by decide), k3a 4 (by decide), g3 8 (by decide), g3 9 (by decide)]; exact hh
      · rw [k3a 5 (by decide), g3 10 (by decide)]; exact hl
      · rw [k3 6 (by decide), k3 7 (by decide)]; exact hq.kept (fun k a b => k3a k (by omega)) (fun k a b => g3 k (by omega))
      · rw [k3 49 (by decide), k3a 48 (by decide), g3 12 (by decide)]; exact hc
      · rw [si_1, if_pos rfl, nI_i (by omega), si_2]
        exact fun j hj1 => tm_t hT0 hT3 (by omega) hth 20 (by decide) j (by omega)
      · rw [k3a 53 (by decide)]; exact hj.kept (fun k a b => g3 k (by omega))
    · rw [if_neg c1, if_neg c1]; exact ⟨rfl, h⟩
  · refine ⟨fun x => x.1.1 23 = nI T ∧ 0 ≤ x.2.toInt ∧ x.2.toInt ≤ 20, fun _ => ⟨⟨hT3, by show 0 ≤ (0 : Int32).toInt; decide, by show (0 : Int32).toInt ≤ 20; decide⟩, fun x hx hz => ?_, ?_⟩, fun _ w k hx hz => ?_⟩
    · obtain ⟨w, k⟩ := x
      revert hz
      show (if (20 : Int32) ≤ k then (1, w, k) else _ : Nat × St × Int32).1 = 0 → _
      unfold lpX3_feed_18
      by_cases c1 : (20 : Int32) ≤ k
      · simp only [if_pos c1]; intro z; cases z
      · simp only [if_neg c1]
        intro _
        rw [t_le, k_20] at c1
        have hk0 : 0 ≤ k.toInt := hx.2.1
        have e9 : (k + 1).toInt = k.toInt + 1 := t_add (by rw [k_1]; omega) (by rw [k_1]; omega)
        exact ⟨hx.1, by show 0 ≤ (k + 1).toInt; omega, by show (k + 1).toInt ≤ 20; omega⟩
    · rw [show wh (lpX3_feed_18 v a b c d e) 21 (v, 0) = _ from hl3]
      exact (show ¬ (1 : Nat) = 0 by decide)
    · obtain ⟨h1, h2, h3⟩ := hx
      have h1 : w.1 23 = nI T := h1
      have h2 : 0 ≤ k.toInt := h2
      rw [t_le, k_20] at hz
      rw [h1, vp_in_iff, t_add (by rw [nI_i (by omega)]; omega) (by rw [nI_i (by omega)]; omega), nI_i (by omega)]
      omega
  · refine ⟨fun x => ∃ i : Nat, i ≤ 5 ∧ x.2 = nI i ∧ (x.1.1 1) = nI (T + 4 * i), fun w i x => ∃ r : Nat, r ≤ 4 ∧ x.2.toInt = 24 - 8 * r ∧ (x.1.1 1).toInt = (w.1 1).toInt + r, fun _ => ⟨⟨0, by decide, rfl, hT0⟩, fun x hx hz => ?_, ?_⟩, fun _ w i hx hz => ?_, fun c1 w i hx hz => ⟨⟨0, by decide, rfl, by simp⟩, fun x hx2 hz2 => ?_, ?_⟩, fun c1 w i hx hz x k hx2 hz2 => ?_⟩
    · obtain ⟨w, i⟩ := x
      obtain ⟨j, hj5, hji, hjt⟩ := hx
      have hji : i = nI j := hji
      have hjt : w.1 1 = nI (T + 4 * j) := hjt
      subst hji
      revert hz
      unfold lpX0_feed_54
      by_cases c1 : (5 : Int32) ≤ nI j
      · simp only [if_pos c1]; intro z; cases z
      · simp only [if_neg c1]
        intro _
        rw [t_le, show (5 : Int32).toInt = 5 from rfl, nI_i (by omega)] at c1
        refine ⟨j + 1, by omega, nI_1 j, ?_⟩
        show (wh (lpX0_feed_72 u a b c d e w (nI j)) 5 (w, 24)).2.1.1 1 = _
        rw [l72]
        show w.1 1 + 1 + 1 + 1 + 1 = _
        rw [hjt, nI_1, nI_1, nI_1, nI_1]
        congr 1
    · rw [show wh (lpX0_feed_54 u a b c d e) 6 (u, 0) = _ from hl0]
      exact (show ¬ (1 : Nat) = 0 by decide)
    · obtain ⟨j, hj5, hji, hjt⟩ := hx
      have hji : i = nI j := hji
      rw [hji, t_le, show (5 : Int32).toInt = 5 from rfl, nI_i (by omega)] at hz
      rw [hji]
      exact vp_in_nI (by omega) (by decide)
    · obtain ⟨x, k⟩ := x
      obtain ⟨r, hr4, hrk, hrx⟩ := hx2
      have hrk : k.toInt = 24 - 8 * r := hrk
      have hrx : (x.1 1).toInt = (w.1 1).toInt + r := hrx
      obtain ⟨j, hj5, hji, hjt⟩ := hx
      have hjt : w.1 1 = nI (T + 4 * j) := hjt
      have hwt : (w.1 1).toInt = T + 4 * j := by rw [hjt, nI_i (by omega)]; omega
      revert hz2
      unfold lpX0_feed_72
      by_cases c2 : k < 0
      · simp only [if_pos c2]; intro z; cases z
      · simp only [if_neg c2]
        intro _
        rw [t_lt, k_0] at c2
        refine ⟨r + 1, by omega, ?_, ?_⟩
        · show (k + (-8)).toInt = _
          rw [t_add (by rw [show (-8 : Int32).toInt = -8 from rfl]; omega) (by rw [show (-8 : Int32).toInt = -8 from rfl]; omega), show (-8 : Int32).toInt = -8 from rfl]; omega
        · show (x.1 1 + 1).toInt = _
          rw [t_add (by rw [k_1]; omega) (by rw [k_1]; omega), k_1]; omega
    · rw [l72]
      exact (show ¬ (1 : Nat) = 0 by decide)
    · obtain ⟨r, hr4, hrk, hrx⟩ := hx2
      have hrk : k.toInt = 24 - 8 * r := hrk
      have hrx : (x.1 1).toInt = (w.1 1).toInt + r := hrx
      obtain ⟨j, hj5, hji, hjt⟩ := hx
      have hjt : w.1 1 = nI (T + 4 * j) := hjt
      have hji : i = nI j := hji
      rw [hji, t_le, show (5 : Int32).toInt = 5 from rfl, nI_i (by omega)] at hz
      have hwt : (w.1 1).toInt = T + 4 * j := by rw [hjt, nI_i (by omega)]; omega
      rw [t_lt, k_0] at hz2
      rw [e1, t_le, ea, k_600] at c1
      rw [vp_in_iff]
      omega
