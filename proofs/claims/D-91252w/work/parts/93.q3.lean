/-! THE PLAIN LAW, 14: what is told of a claim. Own work. -/
set_option maxRecDepth 100000
theorem t_d365 {d : Int32} (h : 0 ≤ d.toInt) : (d / 365).toInt = d.toInt / 365 := by
  rw [Int32.toInt_div, k_365, Int.tdiv_eq_ediv_of_nonneg h]
  have := t_rg d
  exact Int.bmod_eq_of_le (by omega) (by omega)
theorem l_le {a b : Int64} : a ≤ b ↔ a.toInt ≤ b.toInt := Int64.le_iff_toInt_le
theorem l_lt {a b : Int64} : a < b ↔ a.toInt < b.toInt := Int64.lt_iff_toInt_lt
theorem l_eq {a b : Int64} : a = b ↔ a.toInt = b.toInt := Int64.toInt_inj.symm
theorem mn_eq (x : Int64) : (mnL 2147483647 x).toInt32 = if x ≤ 2147483647 then x.toInt32 else 2147483647 := by
  unfold mnL
  by_cases c : x < 2147483647
  · rw [if_pos c, if_pos (by rw [l_lt] at c; rw [l_le]; omega)]
  · rw [if_neg c]
    by_cases c2 : x ≤ 2147483647
    · rw [if_pos c2]
      have : x = 2147483647 := by rw [l_lt] at c; rw [l_le] at c2; rw [l_eq]; omega
      rw [this]
    · rw [if_neg c2]; rfl
theorem mn_i (x : Int32) : (mnL 2147483647 x.toInt64).toInt32 = x := by
  rw [mn_eq, if_pos (by rw [l_le, Int32.toInt_toInt64, show (2147483647 : Int64).toInt = 2147483647 from rfl]; exact (t_rg x).2), Int32.toInt32_toInt64]
theorem mn_b (b : Bool) : (mnL 2147483647 (if b = true then 1 else 0)).toInt32 = b2 b := by cases b <;> rfl
theorem f3_F3 {v : St} {ho d k : Int32} {n : Nat} (h19 : v.1 19 = nI n) (hn : n ≤ 60) : F3 v (fX3_follow v ho d k).2 := by
  obtain ⟨w, m, l, e1, -, -, -, hF, -⟩ := f3_follow (v := v) (ho := ho) (d := d) (k := k) h19 hn
  rw [e1]; exact hF
theorem F3.rf {v : St} : F3 v v := ⟨fun _ _ => rfl, fun _ _ _ => rfl, rfl⟩
theorem F3.tr {v w x : St} (h1 : F3 v w) (h2 : F3 w x) : F3 v x := ⟨fun k hk => (h2.1 k hk).trans (h1.1 k hk), fun k a b => (h2.2.1 k a b).trans (h1.2.1 k a b), h2.2.2.trans h1.2.2⟩
theorem loose_F3 {v : St} {pa k : Int32} {n : Nat} (h19 : v.1 19 = nI n) (hn : n ≤ 60) : F3 v (fX3_loose v pa k).2 := by
  unfold fX3_loose
  repeat' split
  all_goals first | exact F3.rf | exact f3_F3 h19 hn
/-- what the model's look leaves as it was -/
def F4 (v w : St) : Prop := (∀ k, ¬ k = 20 → w.1 k = v.1 k) ∧ (∀ k, ¬ k = 17 → ¬ k = 18 → ¬ k = 47 → w.2.1 k = v.2.1 k) ∧ w.2.2 = v.2.2
theorem F3.f4 {v w : St} (h : F3 v w) : F4 v w := ⟨h.1, fun k a b _ => h.2.1 k a b, h.2.2⟩
/-- what the component's looks leaves as it was -/
def FV (u w : St) : Prop := (∀ k, ¬ (18 ≤ k ∧ k ≤ 22) → ¬ (31 ≤ k ∧ k ≤ 35) → w.1 k = u.1 k) ∧ w.2 = u.2
theorem IV.look {v u w x : St} {n : Nat} (h : IV v u n) (hF : F4 v w) (hV : FV u x) (hp : pIxn n (x.1 31)) : IV w x n := h.keep (fun k hk => hF.1 k (by omega)) (fun k hk => hF.2.1 k (by omega) (by omega) (by omega)) (fun k hk => hV.1 k (by omega) (by omega)) (fun k hk => by rw [hV.2]) hp
/-- the nine answers, as the model writes them -/
def told9 (W : St) (x0 x1 x2 x3 x4 x5 x6 x7 x8 : Int32) : St := sa (sa (sa (sa (sa (sa (sa (sa (sa W 47 0 x0) 47 1 x1) 47 2 x2) 47 3 x3) 47 4 x4) 47 5 x5) 47 6 x6) 47 7 x7) 47 8 x8
theorem told9_F {W : St} {x0 x1 x2 x3 x4 x5 x6 x7 x8 : Int32} : F4 W (told9 W x0 x1 x2 x3 x4 x5 x6 x7 x8) := ⟨fun _ _ => rfl, fun k _ _ h => by unfold told9; rw [sa_o h, sa_o h, sa_o h, sa_o h, sa_o h, sa_o h, sa_o h, sa_o h, sa_o h], rfl⟩
theorem told9_j {W : St} {x0 x1 x2 x3 x4 x5 x6 x7 x8 : Int32} {f : Nat → Int32} (h0 : x0 = f 0) (h1 : x1 = f 1) (h2 : x2 = f 2) (h3 : x3 = f 3) (h4 : x4 = f 4) (h5 : x5 = f 5) (h6 : x6 = f 6) (h7 : x7 = f 7) (h8 : x8 = f 8) : ∀ j, j < 9 → (told9 W x0 x1 x2 x3 x4 x5 x6 x7 x8).2.1 47 j = f j := by
  intro j hj
  subst h0; subst h1; subst h2; subst h3; subst h4; subst h5; subst h6; subst h7; subst h8
  unfold told9
  rw [sa_s, sa_s, sa_s, sa_s, sa_s, sa_s, sa_s, sa_s, sa_s]
  rcases (show j = 0 ∨ j = 1 ∨ j = 2 ∨ j = 3 ∨ j = 4 ∨ j = 5 ∨ j = 6 ∨ j = 7 ∨ j = 8 by omega) with rfl | rfl | rfl | rfl | rfl | rfl | rfl | rfl | rfl <;> rfl
/-- the component's view, as looks writes it -/
def vw5 (x : St) (p k he ha li : Int32) : St := si (si (si (si (si x 31 p) 34 k) 32 he) 33 ha) 35 li
theorem vw5_F {u x : St} {p k he ha li : Int32} (h : FW u x) : FV u (vw5 x p k he ha li) := ⟨fun j h1 h2 => by unfold vw5; rw [si_1, if_neg (by omega), si_1, if_neg (by omega), si_1, if_neg (by omega), si_1, if_neg (by omega), si_1, if_neg (by omega)]; exact h.1 j h1, h.2⟩
