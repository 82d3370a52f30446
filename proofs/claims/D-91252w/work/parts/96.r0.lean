/-! THE PLAIN LAW, 17: term; sets of houses as numbers. Own work. -/
set_option maxRecDepth 100000
theorem p_term {v u : St} {n : Nat} (cl te k : Int32) (h : IV v u n) : (fX3_term v cl te k).1 = (fX0_term u cl te k).1 ∧ IV (fX3_term v cl te k).2 (fX0_term u cl te k).2 n ∧ okX3_term v cl te k ∧ (F4 v (fX3_term v cl te k).2) ∧ okX0_looks n u cl k ∧ ((fX0_looks u cl k).1 = true → okK n (fX0_looks u cl k).2) := by
  obtain ⟨l1, l2, l3, l4, l5, l6⟩ := p_look cl k h
  have k9 : (9 : Int32).toInt = 9 := rfl
  have h89 : (8 : Int32) < te ↔ (9 : Int32) ≤ te := by rw [t_lt, t_le, k_8, k9]; omega
  have hok : okX3_term v cl te k := ⟨fun _ _ => l3, fun z1 z2 _ => by rw [t_lt, k_0] at z1; rw [t_lt, k_8] at z2; rw [vp_in_iff]; omega⟩
  have hkk : (fX0_looks u cl k).1 = true → okK n (fX0_looks u cl k).2 := fun z => (l6 (l1.trans z)).2
  unfold fX3_term fX0_term
  by_cases c1 : te < 0
  · rw [if_pos c1, if_pos c1]; exact ⟨rfl, h, hok, F3.rf.f4, l4, hkk⟩
  · rw [if_neg c1, if_neg c1]
    by_cases c2 : (8 : Int32) < te
    · rw [if_pos c2, if_pos (h89.mp c2)]; exact ⟨rfl, h, hok, F3.rf.f4, l4, hkk⟩
    · rw [if_neg c2, if_neg (fun z => c2 (h89.mpr z))]
      by_cases c3 : (fX3_look v cl k).1 = true
      · rw [if_pos c3, if_pos (l1.symm.trans c3)]
        exact ⟨(l6 c3).1 _ (by rw [t_lt, k_0] at c1; rw [t_lt, k_8] at c2; rw [t_nat]; omega), l2, hok, l5, l4, hkk⟩
      · rw [if_neg c3, if_neg (fun z => c3 (l1.trans z))]
        exact ⟨rfl, l2, hok, l5, l4, hkk⟩
/-! bits -/
def bit (z g : Nat) : Bool := decide (z / 2 ^ g % 2 = 1)
def on (z g : Nat) : Nat := if bit z g = true then z else z + 2 ^ g
def off (z g : Nat) : Nat := if bit z g = true then z - 2 ^ g else z
theorem sh_bit0 : ∀ z, z < 256 → ∀ g, g < 8 → ((nI z >>> (nI g &&& 31)) &&& 1) = b2 (bit z g) := by decide +kernel
theorem sh_on0 : ∀ z, z < 256 → ∀ g, g < 8 → (nI z ||| ((1 : Int32) <<< (nI g &&& 31))) = nI (on z g) := by decide +kernel
theorem sh_off0 : ∀ z, z < 256 → ∀ g, g < 8 → (nI z &&& (((1 : Int32) <<< (nI g &&& 31)) ^^^ (-1))) = nI (off z g) := by decide +kernel
theorem sh_pow : ∀ h, h < 9 → ((1 : Int32) <<< (nI h &&& 31)) = nI (2 ^ h) := by decide +kernel
/-- the sets below 2^h: the rest of a set -/
theorem rest_bit : ∀ h, h < 9 → ∀ z, z < 2 ^ h → ∀ g, g < h → bit (2 ^ h - 1 - z) g = !bit z g := by decide +kernel
theorem rest_on : ∀ h, h < 9 → ∀ z, z < 2 ^ h → ∀ g, g < h → bit z g = false → on z g < 2 ^ h ∧ 2 ^ h - 1 - on z g = off (2 ^ h - 1 - z) g := by decide +kernel
theorem off_lt : ∀ h, h < 9 → ∀ z, z < 2 ^ h → ∀ g, g < h → off z g < 2 ^ h := by decide +kernel
theorem off_bit : ∀ h, h < 9 → ∀ z, z < 2 ^ h → ∀ g, g < h → ∀ j, j < h → bit (off z g) j = (bit z j && !decide (j = g)) := by decide +kernel
theorem full_bit : ∀ h, h < 9 → ∀ g, g < h → bit (2 ^ h - 1) g = true := by decide +kernel
