/-! Known.find. By tools/gen_s6.py -/
set_option maxRecDepth 100000
theorem osw_hit {x k : Int32} {a o d : Int} {r : List (Int × Int)} (h : x = k) (hk : k.toInt = a) : Op.lookupswitch.offset ((a, o) :: r) d x.toInt = o := by
  subst h
  rw [hk]
  unfold Op.lookupswitch.offset
  simp
/-- which of the terms a text names -/
def fnd (n : Nat) (t : Nat → Int32) : Option Nat := (List.range 9).find? (fun k => eqT n t (3 + k))
def hvK (k : Nat) : Int32 := hsh (sAt (3 + k)) (sLen (3 + k))
theorem eqT_h {n : Nat} {t : Nat → Int32} {k : Nat} (h : eqT n t (3 + k) = true) : hsh t n = hvK k := by
  obtain ⟨h1, h2⟩ := eqT_e h
  unfold hvK
  rw [← h1]
  exact hsh_ext h2
theorem hvK_inj : ∀ a, a < 9 → ∀ b, b < 9 → hvK a = hvK b → a = b := by decide +kernel
theorem fnd_s {n : Nat} {t : Nat → Int32} {k : Nat} (hk : k < 9) (h : eqT n t (3 + k) = true) : fnd n t = some k := by
  unfold fnd
  cases hf : (List.range 9).find? (fun k => eqT n t (3 + k)) with
  | none => exact absurd h (by have := List.find?_eq_none.mp hf k (List.mem_range.mpr hk); simpa using this)
  | some j =>
    have h1 := List.find?_some hf
    have h2 := List.mem_range.mp (List.mem_of_find?_eq_some hf)
    rw [hvK_inj j h2 k hk ((eqT_h h1).symm.trans (eqT_h h))]
theorem fnd_n {n : Nat} {t : Nat → Int32} (h : ∀ k, k < 9 → eqT n t (3 + k) = false) : fnd n t = none := by
  unfold fnd
  rw [List.find?_eq_none]
  intro k hk
  rw [h k (List.mem_range.mp hk)]; simp
theorem fnd_no {n : Nat} {t : Nat → Int32} {k0 : Nat} {x : Int32} (h0 : k0 < 9) (hx : hvK k0 = x) (hv : hsh t n = x) (he : eqT n t (3 + k0) = false) : fnd n t = none := fnd_n fun k hk => by
  cases h : eqT n t (3 + k) with
  | false => rfl
  | true =>
    have : k = k0 := hvK_inj k hk k0 h0 ((eqT_h h).symm.trans (hv.trans hx.symm))
    rw [this, he] at h
    cases h
theorem fnd_nn {n : Nat} {t : Nat → Int32} (h : ∀ k, k < 9 → ¬ hsh t n = hvK k) : fnd n t = none := fnd_n fun k hk => by
  cases h2 : eqT n t (3 + k) with
  | false => rfl
  | true => exact absurd (eqT_h h2) (h k hk)

theorem sR_0 {κ : Kg} {s : State} (h : KX κ s) : vk_R "HomeRoll$Reader" 15 "" (κ.sK 0) s := h.2.2.2.2 0 ("HomeRoll$Reader", 15, "") rfl
theorem sR_1 {κ : Kg} {s : State} (h : KX κ s) : vk_R "HomeRoll$Reader" 72 ";()<>=+-" (κ.sK 1) s := h.2.2.2.2 1 ("HomeRoll$Reader", 72, ";()<>=+-") rfl
theorem sR_2 {κ : Kg} {s : State} (h : KX κ s) : vk_R "HomeRoll$Reader" 91 "when" (κ.sK 2) s := h.2.2.2.2 2 ("HomeRoll$Reader", 91, "when") rfl
theorem sR_3 {κ : Kg} {s : State} (h : KX κ s) : vk_R "HomeRoll$Known" 70 "forced" (κ.sK 3) s := h.2.2.2.2 3 ("HomeRoll$Known", 70, "forced") rfl
theorem sR_4 {κ : Kg} {s : State} (h : KX κ s) : vk_R "HomeRoll$Known" 76 "given" (κ.sK 4) s := h.2.2.2.2 4 ("HomeRoll$Known", 76, "given") rfl
theorem sR_5 {κ : Kg} {s : State} (h : KX κ s) : vk_R "HomeRoll$Known" 78 "price" (κ.sK 5) s := h.2.2.2.2 5 ("HomeRoll$Known", 78, "price") rfl
theorem sR_6 {κ : Kg} {s : State} (h : KX κ s) : vk_R "HomeRoll$Known" 80 "worth" (κ.sK 6) s := h.2.2.2.2 6 ("HomeRoll$Known", 80, "worth") rfl
theorem sR_7 {κ : Kg} {s : State} (h : KX κ s) : vk_R "HomeRoll$Known" 82 "year" (κ.sK 7) s := h.2.2.2.2 7 ("HomeRoll$Known", 82, "year") rfl
theorem sR_8 {κ : Kg} {s : State} (h : KX κ s) : vk_R "HomeRoll$Known" 84 "held" (κ.sK 8) s := h.2.2.2.2 8 ("HomeRoll$Known", 84, "held") rfl
theorem sR_9 {κ : Kg} {s : State} (h : KX κ s) : vk_R "HomeRoll$Known" 86 "hands" (κ.sK 9) s := h.2.2.2.2 9 ("HomeRoll$Known", 86, "hands") rfl
theorem sR_10 {κ : Kg} {s : State} (h : KX κ s) : vk_R "HomeRoll$Known" 88 "lives" (κ.sK 10) s := h.2.2.2.2 10 ("HomeRoll$Known", 88, "lives") rfl
theorem sR_11 {κ : Kg} {s : State} (h : KX κ s) : vk_R "HomeRoll$Known" 90 "dead" (κ.sK 11) s := h.2.2.2.2 11 ("HomeRoll$Known", 90, "dead") rfl
theorem sR_12 {κ : Kg} {s : State} (h : KX κ s) : vk_R "HomeRoll$Reader" 137 "not" (κ.sK 12) s := h.2.2.2.2 12 ("HomeRoll$Reader", 137, "not") rfl
theorem sR_13 {κ : Kg} {s : State} (h : KX κ s) : vk_R "HomeRoll$Reader" 161 "and" (κ.sK 13) s := h.2.2.2.2 13 ("HomeRoll$Reader", 161, "and") rfl
theorem sR_14 {κ : Kg} {s : State} (h : KX κ s) : vk_R "HomeRoll$Reader" 145 "or" (κ.sK 14) s := h.2.2.2.2 14 ("HomeRoll$Reader", 145, "or") rfl
theorem sR_15 {κ : Kg} {s : State} (h : KX κ s) : vk_R "HomeRoll$Reader" 109 "do" (κ.sK 15) s := h.2.2.2.2 15 ("HomeRoll$Reader", 109, "do") rfl
theorem sR_16 {κ : Kg} {s : State} (h : KX κ s) : vk_R "HomeRoll$Reader" 111 "back" (κ.sK 16) s := h.2.2.2.2 16 ("HomeRoll$Reader", 111, "back") rfl
theorem sR_17 {κ : Kg} {s : State} (h : KX κ s) : vk_R "HomeRoll$Reader" 113 "other" (κ.sK 17) s := h.2.2.2.2 17 ("HomeRoll$Reader", 113, "other") rfl
theorem sR_18 {κ : Kg} {s : State} (h : KX κ s) : vk_R "HomeRoll$Reader" 115 "money" (κ.sK 18) s := h.2.2.2.2 18 ("HomeRoll$Reader", 115, "money") rfl
theorem sR_19 {κ : Kg} {s : State} (h : KX κ s) : vk_R "HomeRoll$Reader" 117 "none" (κ.sK 19) s := h.2.2.2.2 19 ("HomeRoll$Reader", 117, "none") rfl
set_option maxHeartbeats 4000000 in
theorem metX2_find (l : Launch) (κ : Kg) (w v n : Nat) (t : Nat → Int32) (h z : Int32) (hn0 : 0 < n) (hn : n ≤ 8) (hwB : κ.base ≤ w) : Met l yX2_find (ws_ yX2_find cX2_find 3 (some (.object "HomeRoll$Known"))) (rmC 4 0 0) (xP κ (fun H => WS κ w v n t h z H ∧ HO n t h z) [.ref w]) (hsQ κ w v n t (some (va_rf ((fnd n t).map κ.kn)))) 0 0 (fun q => q = w) := by
  refine xM_start RX2 (by decide) rfl (Nat.le_of_ble_eq_true rfl) ?_
  intro pg ev s0 mi bl me co hx hb hml hown hts hr hlk hnm hK hM ls hl
  have hl : lv_has ls 3 [(0, .ref w)] := hl
  refine lv_aload_n hx hb dX2_find_0 rfl (lv_at hl 0 rfl) ?_
  refine lv_astore_n (lv' := [(1, .ref w), (0, .ref w)]) hx hb dX2_find_1 rfl hl (by decide) rfl (fun ls hl => ?_)
  refine lv_iconst (v := (-1)) hx hb dX2_find_2 (by decide) ?_
  refine lv_istore_n (lv' := [(2, .int (-1)), (1, .ref w), (0, .ref w)]) hx hb dX2_find_3 rfl hl (by decide) rfl (fun ls hl => ?_)
  refine lv_aload_n hx hb dX2_find_4 rfl (lv_at hl 1 rfl) ?_
  refine x_called (x_runV (n := 0) (As := []) (rest := []) hx hb hml hown hts (metJ5_hashCode l κ w v n t h z hn0 hn) q832 q833 q834 q76 q835 (by decide +kernel) (by decide) (by decide) rfl hK hM (ob_recv hK.1.1 rfl hM.1.1) hl.1 (Nat.le_of_ble_eq_true rfl) rfl dX2_find_5 ⟨Nat.le_refl _, Nat.le_refl _⟩) (fun v2 st u L hst hq hvm hL => ?_)
  obtain ⟨hv, ⟨h2, z2, hW2, hho2⟩, hq3, hq4⟩ := hq
  cases hv
  rw [hst] at hq3 hq4
  refine W.eq (g2 := F0 mi 8 ls [.int (hsh t n)]) rfl ?_
  have hK : KZ κ s0 u.heap := hK.to (fun q hq => hq4 q (by omega)) (by have := hK.2.2; omega)
  by_cases x_0 : hsh t n = (-1268788519 : Int32)
  · refine lv_lookup (off := 84) (tgt := 92) hx hb dX2_find_8 (by decide +kernel) ((osw_hit (k := (-1268788519 : Int32)) x_0 (by decide +kernel))) (by decide) ?_
    refine lv_aload_n hx hb dX2_find_92 rfl (lv_at hl 1 rfl) ?_
    refine va_ldcS hx hb hown (sR_3 hK.1) dX2_find_93 ?_
    refine ro_call (x_runV (n := 1) (As := [.ref (κ.sK 3)]) (rest := []) hx hb hml hown hts (metJ5_equals l κ w v n 3 t h2 z2 hn (by decide) hwB) q882 q735 q736 q76 q737 (by decide +kernel) (by decide) (by decide) rfl hK hW2 (ob_recv hK.1.1 rfl hW2.1) hl.1 (Nat.le_of_ble_eq_true rfl) rfl dX2_find_95 ⟨Nat.le_refl _, Nat.le_refl _⟩) ?_
    refine lv_B_eq (tgt := 218) hx hb dX2_find_98 (by decide) (fun c_98 => ?_) (fun c_98 => ?_)
    · skip
      refine lv_iload_n hx hb dX2_find_218 rfl (lv_at hl 0 rfl) ?_
      refine lv_tableOut (tgt := 304) hx hb dX2_find_219 (by decide) (by decide) ?_
      refine lv_null hx hb dX2_find_304 ?_
      exact W.aret hx hb hr (Or.inl ⟨_, rfl⟩) (Or.inl rfl) (fun u2 hu hW => ⟨by rw [fnd_no (k0 := 0) (by decide) (by decide +kernel) x_0 c_98]; rfl, ⟨h2, z2, by rw [hu]; exact hW2, hho2⟩, by rw [hu]; exact hq3, fun q hq => by rw [hu]; exact hq4 q hq⟩) (fun q hq => hL q hq) dX2_find_305 hlk
    · skip
      refine lv_iconst (v := 0) hx hb dX2_find_101 (by decide) ?_
      refine lv_istore_n (lv' := [(2, .int 0), (1, .ref w), (0, .ref w)]) hx hb dX2_find_102 rfl hl (by decide) rfl (fun ls hl => ?_)
      refine lv_goto (tgt := 218) hx hb dX2_find_103 (by decide) ?_
      refine lv_iload_n hx hb dX2_find_218 rfl (lv_at hl 0 rfl) ?_
      refine lv_tableIn (off := 49) (tgt := 268) hx hb dX2_find_219 (by decide) (by decide) rfl (by decide) ?_
      refine x_gets (v := .ref (κ.kn 0)) hx hb (hK.2.1.2.2.2.1 0 (by decide)) hown hts q891 (fun x h => h) dX2_find_268 ?_
      exact W.aret hx hb hr (Or.inl ⟨_, rfl⟩) (Or.inr ⟨_, rfl⟩) (fun u2 hu hW => ⟨by rw [fnd_s (k := 0) (by decide) c_98]; rfl, ⟨h2, z2, by rw [hu]; exact hW2, hho2⟩, by rw [hu]; exact hq3, fun q hq => by rw [hu]; exact hq4 q hq⟩) (fun q hq => hL q hq) dX2_find_271 hlk
  by_cases x_8 : hsh t n = (3079268 : Int32)
  · refine lv_lookup (off := 198) (tgt := 206) hx hb dX2_find_8 (by decide +kernel) ((lv_osw (k := (-1268788519 : Int32)) x_0 (by decide +kernel)).trans (osw_hit (k := (3079268 : Int32)) x_8 (by decide +kernel))) (by decide) ?_
    refine lv_aload_n hx hb dX2_find_206 rfl (lv_at hl 1 rfl) ?_
    refine va_ldcS hx hb hown (sR_11 hK.1) dX2_find_207 ?_
    refine ro_call (x_runV (n := 1) (As := [.ref (κ.sK 11)]) (rest := []) hx hb hml hown hts (metJ5_equals l κ w v n 11 t h2 z2 hn (by decide) hwB) q882 q735 q736 q76 q737 (by decide +kernel) (by decide) (by decide) rfl hK hW2 (ob_recv hK.1.1 rfl hW2.1) hl.1 (Nat.le_of_ble_eq_true rfl) rfl dX2_find_209 ⟨Nat.le_refl _, Nat.le_refl _⟩) ?_
    refine lv_B_eq (tgt := 218) hx hb dX2_find_212 (by decide) (fun c_212 => ?_) (fun c_212 => ?_)
    · skip
      refine lv_iload_n hx hb dX2_find_218 rfl (lv_at hl 0 rfl) ?_
      refine lv_tableOut (tgt := 304) hx hb dX2_find_219 (by decide) (by decide) ?_
      refine lv_null hx hb dX2_find_304 ?_
      exact W.aret hx hb hr (Or.inl ⟨_, rfl⟩) (Or.inl rfl) (fun u2 hu hW => ⟨by rw [fnd_no (k0 := 8) (by decide) (by decide +kernel) x_8 c_212]; rfl, ⟨h2, z2, by rw [hu]; exact hW2, hho2⟩, by rw [hu]; exact hq3, fun q hq => by rw [hu]; exact hq4 q hq⟩) (fun q hq => hL q hq) dX2_find_305 hlk
    · skip
      refine lv_bipush (v := 8) hx hb dX2_find_215 (by decide) ?_
      refine lv_istore_n (lv' := [(2, .int 8), (1, .ref w), (0, .ref w)]) hx hb dX2_find_217 rfl hl (by decide) rfl (fun ls hl => ?_)
      refine lv_iload_n hx hb dX2_find_218 rfl (lv_at hl 0 rfl) ?_
      refine lv_tableIn (off := 81) (tgt := 300) hx hb dX2_find_219 (by decide) (by decide) rfl (by decide) ?_
      refine x_gets (v := .ref (κ.kn 8)) hx hb (hK.2.1.2.2.2.1 8 (by decide)) hown hts q907 (fun x h => h) dX2_find_300 ?_
      exact W.aret hx hb hr (Or.inl ⟨_, rfl⟩) (Or.inr ⟨_, rfl⟩) (fun u2 hu hW => ⟨by rw [fnd_s (k := 8) (by decide) c_212]; rfl, ⟨h2, z2, by rw [hu]; exact hW2, hho2⟩, by rw [hu]; exact hq3, fun q hq => by rw [hu]; exact hq4 q hq⟩) (fun q hq => hL q hq) dX2_find_303 hlk
  by_cases x_5 : hsh t n = (3198773 : Int32)
  · refine lv_lookup (off := 154) (tgt := 162) hx hb dX2_find_8 (by decide +kernel) ((lv_osw (k := (-1268788519 : Int32)) x_0 (by decide +kernel)).trans ((lv_osw (k := (3079268 : Int32)) x_8 (by decide +kernel)).trans (osw_hit (k := (3198773 : Int32)) x_5 (by decide +kernel)))) (by decide) ?_
    refine lv_aload_n hx hb dX2_find_162 rfl (lv_at hl 1 rfl) ?_
    refine va_ldcS hx hb hown (sR_8 hK.1) dX2_find_163 ?_
    refine ro_call (x_runV (n := 1) (As := [.ref (κ.sK 8)]) (rest := []) hx hb hml hown hts (metJ5_equals l κ w v n 8 t h2 z2 hn (by decide) hwB) q882 q735 q736 q76 q737 (by decide +kernel) (by decide) (by decide) rfl hK hW2 (ob_recv hK.1.1 rfl hW2.1) hl.1 (Nat.le_of_ble_eq_true rfl) rfl dX2_find_165 ⟨Nat.le_refl _, Nat.le_refl _⟩) ?_
    refine lv_B_eq (tgt := 218) hx hb dX2_find_168 (by decide) (fun c_168 => ?_) (fun c_168 => ?_)
    · skip
      refine lv_iload_n hx hb dX2_find_218 rfl (lv_at hl 0 rfl) ?_
      refine lv_tableOut (tgt := 304) hx hb dX2_find_219 (by decide) (by decide) ?_
      refine lv_null hx hb dX2_find_304 ?_
      exact W.aret hx hb hr (Or.inl ⟨_, rfl⟩) (Or.inl rfl) (fun u2 hu hW => ⟨by rw [fnd_no (k0 := 5) (by decide) (by decide +kernel) x_5 c_168]; rfl, ⟨h2, z2, by rw [hu]; exact hW2, hho2⟩, by rw [hu]; exact hq3, fun q hq => by rw [hu]; exact hq4 q hq⟩) (fun q hq => hL q hq) dX2_find_305 hlk
    · skip
      refine lv_iconst (v := 5) hx hb dX2_find_171 (by decide) ?_
      refine lv_istore_n (lv' := [(2, .int 5), (1, .ref w), (0, .ref w)]) hx hb dX2_find_172 rfl hl (by decide) rfl (fun ls hl => ?_)
      refine lv_goto (tgt := 218) hx hb dX2_find_173 (by decide) ?_
      refine lv_iload_n hx hb dX2_find_218 rfl (lv_at hl 0 rfl) ?_
      refine lv_tableIn (off := 69) (tgt := 288) hx hb dX2_find_219 (by decide) (by decide) rfl (by decide) ?_
      refine x_gets (v := .ref (κ.kn 5)) hx hb (hK.2.1.2.2.2.1 5 (by decide)) hown hts q901 (fun x h => h) dX2_find_288 ?_
      exact W.aret hx hb hr (Or.inl ⟨_, rfl⟩) (Or.inr ⟨_, rfl⟩) (fun u2 hu hW => ⟨by rw [fnd_s (k := 5) (by decide) c_168]; rfl, ⟨h2, z2, by rw [hu]; exact hW2, hho2⟩, by rw [hu]; exact hq3, fun q hq => by rw [hu]; exact hq4 q hq⟩) (fun q hq => hL q hq) dX2_find_291 hlk
  by_cases x_4 : hsh t n = (3704893 : Int32)
  · refine lv_lookup (off := 140) (tgt := 148) hx hb dX2_find_8 (by decide +kernel) ((lv_osw (k := (-1268788519 : Int32)) x_0 (by decide +kernel)).trans ((lv_osw (k := (3079268 : Int32)) x_8 (by decide +kernel)).trans ((lv_osw (k := (3198773 : Int32)) x_5 (by decide +kernel)).trans (osw_hit (k := (3704893 : Int32)) x_4 (by decide +kernel))))) (by decide) ?_
    refine lv_aload_n hx hb dX2_find_148 rfl (lv_at hl 1 rfl) ?_
    refine va_ldcS hx hb hown (sR_7 hK.1) dX2_find_149 ?_
    refine ro_call (x_runV (n := 1) (As := [.ref (κ.sK 7)]) (rest := []) hx hb hml hown hts (metJ5_equals l κ w v n 7 t h2 z2 hn (by decide) hwB) q882 q735 q736 q76 q737 (by decide +kernel) (by decide) (by decide) rfl hK hW2 (ob_recv hK.1.1 rfl hW2.1) hl.1 (Nat.le_of_ble_eq_true rfl) rfl dX2_find_151 ⟨Nat.le_refl _, Nat.le_refl _⟩) ?_
    refine lv_B_eq (tgt := 218) hx hb dX2_find_154 (by decide) (fun c_154 => ?_) (fun c_154 => ?_)
    · skip
      refine lv_iload_n hx hb dX2_find_218 rfl (lv_at hl 0 rfl) ?_
      refine lv_tableOut (tgt := 304) hx hb dX2_find_219 (by decide) (by decide) ?_
      refine lv_null hx hb dX2_find_304 ?_
      exact W.aret hx hb hr (Or.inl ⟨_, rfl⟩) (Or.inl rfl) (fun u2 hu hW => ⟨by rw [fnd_no (k0 := 4) (by decide) (by decide +kernel) x_4 c_154]; rfl, ⟨h2, z2, by rw [hu]; exact hW2, hho2⟩, by rw [hu]; exact hq3, fun q hq => by rw [hu]; exact hq4 q hq⟩) (fun q hq => hL q hq) dX2_find_305 hlk
    · skip
      refine lv_iconst (v := 4) hx hb dX2_find_157 (by decide) ?_
      refine lv_istore_n (lv' := [(2, .int 4), (1, .ref w), (0, .ref w)]) hx hb dX2_find_158 rfl hl (by decide) rfl (fun ls hl => ?_)
      refine lv_goto (tgt := 218) hx hb dX2_find_159 (by decide) ?_
      refine lv_iload_n hx hb dX2_find_218 rfl (lv_at hl 0 rfl) ?_
      refine lv_tableIn (off := 65) (tgt := 284) hx hb dX2_find_219 (by decide) (by decide) rfl (by decide) ?_
      refine x_gets (v := .ref (κ.kn 4)) hx hb (hK.2.1.2.2.2.1 4 (by decide)) hown hts q899 (fun x h => h) dX2_find_284 ?_
      exact W.aret hx hb hr (Or.inl ⟨_, rfl⟩) (Or.inr ⟨_, rfl⟩) (fun u2 hu hW => ⟨by rw [fnd_s (k := 4) (by decide) c_154]; rfl, ⟨h2, z2, by rw [hu]; exact hW2, hho2⟩, by rw [hu]; exact hq3, fun q hq => by rw [hu]; exact hq4 q hq⟩) (fun q hq => hL q hq) dX2_find_287 hlk
  by_cases x_1 : hsh t n = (98367357 : Int32)
  · refine lv_lookup (off := 98) (tgt := 106) hx hb dX2_find_8 (by decide +kernel) ((lv_osw (k := (-1268788519 : Int32)) x_0 (by decide +kernel)).trans ((lv_osw (k := (3079268 : Int32)) x_8 (by decide +kernel)).trans ((lv_osw (k := (3198773 : Int32)) x_5 (by decide +kernel)).trans ((lv_osw (k := (3704893 : Int32)) x_4 (by decide +kernel)).trans (osw_hit (k := (98367357 : Int32)) x_1 (by decide +kernel)))))) (by decide) ?_
    refine lv_aload_n hx hb dX2_find_106 rfl (lv_at hl 1 rfl) ?_
    refine va_ldcS hx hb hown (sR_4 hK.1) dX2_find_107 ?_
    refine ro_call (x_runV (n := 1) (As := [.ref (κ.sK 4)]) (rest := []) hx hb hml hown hts (metJ5_equals l κ w v n 4 t h2 z2 hn (by decide) hwB) q882 q735 q736 q76 q737 (by decide +kernel) (by decide) (by decide) rfl hK hW2 (ob_recv hK.1.1 rfl hW2.1) hl.1 (Nat.le_of_ble_eq_true rfl) rfl dX2_find_109 ⟨Nat.le_refl _, Nat.le_refl _⟩) ?_
    refine lv_B_eq (tgt := 218) hx hb dX2_find_112 (by decide) (fun c_112 => ?_) (fun c_112 => ?_)
    · skip
      refine lv_iload_n hx hb dX2_find_218 rfl (lv_at hl 0 rfl) ?_
      refine lv_tableOut (tgt := 304) hx hb dX2_find_219 (by decide) (by decide) ?_
      refine lv_null hx hb dX2_find_304 ?_
      exact W.aret hx hb hr (Or.inl ⟨_, rfl⟩) (Or.inl rfl) (fun u2 hu hW => ⟨by rw [fnd_no (k0 := 1) (by decide) (by decide +kernel) x_1 c_112]; rfl, ⟨h2, z2, by rw [hu]; exact hW2, hho2⟩, by rw [hu]; exact hq3, fun q hq => by rw [hu]; exact hq4 q hq⟩) (fun q hq => hL q hq) dX2_find_305 hlk
    · skip
      refine lv_iconst (v := 1) hx hb dX2_find_115 (by decide) ?_
      refine lv_istore_n (lv' := [(2, .int 1), (1, .ref w), (0, .ref w)]) hx hb dX2_find_116 rfl hl (by decide) rfl (fun ls hl => ?_)
      refine lv_goto (tgt := 218) hx hb dX2_find_117 (by decide) ?_
      refine lv_iload_n hx hb dX2_find_218 rfl (lv_at hl 0 rfl) ?_
      refine lv_tableIn (off := 53) (tgt := 272) hx hb dX2_find_219 (by decide) (by decide) rfl (by decide) ?_
      refine x_gets (v := .ref (κ.kn 1)) hx hb (hK.2.1.2.2.2.1 1 (by decide)) hown hts q893 (fun x h => h) dX2_find_272 ?_
      exact W.aret hx hb hr (Or.inl ⟨_, rfl⟩) (Or.inr ⟨_, rfl⟩) (fun u2 hu hW => ⟨by rw [fnd_s (k := 1) (by decide) c_112]; rfl, ⟨h2, z2, by rw [hu]; exact hW2, hho2⟩, by rw [hu]; exact hq3, fun q hq => by rw [hu]; exact hq4 q hq⟩) (fun q hq => hL q hq) dX2_find_275 hlk
  by_cases x_6 : hsh t n = (99044836 : Int32)
  · refine lv_lookup (off := 168) (tgt := 176) hx hb dX2_find_8 (by decide +kernel) ((lv_osw (k := (-1268788519 : Int32)) x_0 (by decide +kernel)).trans ((lv_osw (k := (3079268 : Int32)) x_8 (by decide +kernel)).trans ((lv_osw (k := (3198773 : Int32)) x_5 (by decide +kernel)).trans ((lv_osw (k := (3704893 : Int32)) x_4 (by decide +kernel)).trans ((lv_osw (k := (98367357 : Int32)) x_1 (by decide +kernel)).trans (osw_hit (k := (99044836 : Int32)) x_6 (by decide +kernel))))))) (by decide) ?_
    refine lv_aload_n hx hb dX2_find_176 rfl (lv_at hl 1 rfl) ?_
    refine va_ldcS hx hb hown (sR_9 hK.1) dX2_find_177 ?_
    refine ro_call (x_runV (n := 1) (As := [.ref (κ.sK 9)]) (rest := []) hx hb hml hown hts (metJ5_equals l κ w v n 9 t h2 z2 hn (by decide) hwB) q882 q735 q736 q76 q737 (by decide +kernel) (by decide) (by decide) rfl hK hW2 (ob_recv hK.1.1 rfl hW2.1) hl.1 (Nat.le_of_ble_eq_true rfl) rfl dX2_find_179 ⟨Nat.le_refl _, Nat.le_refl _⟩) ?_
    refine lv_B_eq (tgt := 218) hx hb dX2_find_182 (by decide) (fun c_182 => ?_) (fun c_182 => ?_)
    · skip
      refine lv_iload_n hx hb dX2_find_218 rfl (lv_at hl 0 rfl) ?_
      refine lv_tableOut (tgt := 304) hx hb dX2_find_219 (by decide) (by decide) ?_
      refine lv_null hx hb dX2_find_304 ?_
      exact W.aret hx hb hr (Or.inl ⟨_, rfl⟩) (Or.inl rfl) (fun u2 hu hW => ⟨by rw [fnd_no (k0 := 6) (by decide) (by decide +kernel) x_6 c_182]; rfl, ⟨h2, z2, by rw [hu]; exact hW2, hho2⟩, by rw [hu]; exact hq3, fun q hq => by rw [hu]; exact hq4 q hq⟩) (fun q hq => hL q hq) dX2_find_305 hlk
    · skip
      refine lv_bipush (v := 6) hx hb dX2_find_185 (by decide) ?_
      refine lv_istore_n (lv' := [(2, .int 6), (1, .ref w), (0, .ref w)]) hx hb dX2_find_187 rfl hl (by decide) rfl (fun ls hl => ?_)
      refine lv_goto (tgt := 218) hx hb dX2_find_188 (by decide) ?_
      refine lv_iload_n hx hb dX2_find_218 rfl (lv_at hl 0 rfl) ?_
      refine lv_tableIn (off := 73) (tgt := 292) hx hb dX2_find_219 (by decide) (by decide) rfl (by decide) ?_
      refine x_gets (v := .ref (κ.kn 6)) hx hb (hK.2.1.2.2.2.1 6 (by decide)) hown hts q903 (fun x h => h) dX2_find_292 ?_
      exact W.aret hx hb hr (Or.inl ⟨_, rfl⟩) (Or.inr ⟨_, rfl⟩) (fun u2 hu hW => ⟨by rw [fnd_s (k := 6) (by decide) c_182]; rfl, ⟨h2, z2, by rw [hu]; exact hW2, hho2⟩, by rw [hu]; exact hq3, fun q hq => by rw [hu]; exact hq4 q hq⟩) (fun q hq => hL q hq) dX2_find_295 hlk
  by_cases x_7 : hsh t n = (102984967 : Int32)
  · refine lv_lookup (off := 183) (tgt := 191) hx hb dX2_find_8 (by decide +kernel) ((lv_osw (k := (-1268788519 : Int32)) x_0 (by decide +kernel)).trans ((lv_osw (k := (3079268 : Int32)) x_8 (by decide +kernel)).trans ((lv_osw (k := (3198773 : Int32)) x_5 (by decide +kernel)).trans ((lv_osw (k := (3704893 : Int32)) x_4 (by decide +kernel)).trans ((lv_osw (k := (98367357 : Int32)) x_1 (by decide +kernel)).trans ((lv_osw (k := (99044836 : Int32)) x_6 (by decide +kernel)).trans (osw_hit (k := (102984967 : Int32)) x_7 (by decide +kernel)))))))) (by decide) ?_
    refine lv_aload_n hx hb dX2_find_191 rfl (lv_at hl 1 rfl) ?_
    refine va_ldcS hx hb hown (sR_10 hK.1) dX2_find_192 ?_
    refine ro_call (x_runV (n := 1) (As := [.ref (κ.sK 10)]) (rest := []) hx hb hml hown hts (metJ5_equals l κ w v n 10 t h2 z2 hn (by decide) hwB) q882 q735 q736 q76 q737 (by decide +kernel) (by decide) (by decide) rfl hK hW2 (ob_recv hK.1.1 rfl hW2.1) hl.1 (Nat.le_of_ble_eq_true rfl) rfl dX2_find_194 ⟨Nat.le_refl _, Nat.le_refl _⟩) ?_
    refine lv_B_eq (tgt := 218) hx hb dX2_find_197 (by decide) (fun c_197 => ?_) (fun c_197 => ?_)
    · skip
      refine lv_iload_n hx hb dX2_find_218 rfl (lv_at hl 0 rfl) ?_
      refine lv_tableOut (tgt := 304) hx hb dX2_find_219 (by decide) (by decide) ?_
      refine lv_null hx hb dX2_find_304 ?_
      exact W.aret hx hb hr (Or.inl ⟨_, rfl⟩) (Or.inl rfl) (fun u2 hu hW => ⟨by rw [fnd_no (k0 := 7) (by decide) (by decide +kernel) x_7 c_197]; rfl, ⟨h2, z2, by rw [hu]; exact hW2, hho2⟩, by rw [hu]; exact hq3, fun q hq => by rw [hu]; exact hq4 q hq⟩) (fun q hq => hL q hq) dX2_find_305 hlk
    · skip
      refine lv_bipush (v := 7) hx hb dX2_find_200 (by decide) ?_
      refine lv_istore_n (lv' := [(2, .int 7), (1, .ref w), (0, .ref w)]) hx hb dX2_find_202 rfl hl (by decide) rfl (fun ls hl => ?_)
      refine lv_goto (tgt := 218) hx hb dX2_find_203 (by decide) ?_
      refine lv_iload_n hx hb dX2_find_218 rfl (lv_at hl 0 rfl) ?_
      refine lv_tableIn (off := 77) (tgt := 296) hx hb dX2_find_219 (by decide) (by decide) rfl (by decide) ?_
      refine x_gets (v := .ref (κ.kn 7)) hx hb (hK.2.1.2.2.2.1 7 (by decide)) hown hts q905 (fun x h => h) dX2_find_296 ?_
      exact W.aret hx hb hr (Or.inl ⟨_, rfl⟩) (Or.inr ⟨_, rfl⟩) (fun u2 hu hW => ⟨by rw [fnd_s (k := 7) (by decide) c_197]; rfl, ⟨h2, z2, by rw [hu]; exact hW2, hho2⟩, by rw [hu]; exact hq3, fun q hq => by rw [hu]; exact hq4 q hq⟩) (fun q hq => hL q hq) dX2_find_299 hlk
  by_cases x_2 : hsh t n = (106934601 : Int32)
  · refine lv_lookup (off := 112) (tgt := 120) hx hb dX2_find_8 (by decide +kernel) ((lv_osw (k := (-1268788519 : Int32)) x_0 (by decide +kernel)).trans ((lv_osw (k := (3079268 : Int32)) x_8 (by decide +kernel)).trans ((lv_osw (k := (3198773 : Int32)) x_5 (by decide +kernel)).trans ((lv_osw (k := (3704893 : Int32)) x_4 (by decide +kernel)).trans ((lv_osw (k := (98367357 : Int32)) x_1 (by decide +kernel)).trans ((lv_osw (k := (99044836 : Int32)) x_6 (by decide +kernel)).trans ((lv_osw (k := (102984967 : Int32)) x_7 (by decide +kernel)).trans (osw_hit (k := (106934601 : Int32)) x_2 (by decide +kernel))))))))) (by decide) ?_
    refine lv_aload_n hx hb dX2_find_120 rfl (lv_at hl 1 rfl) ?_
    refine va_ldcS hx hb hown (sR_5 hK.1) dX2_find_121 ?_
    refine ro_call (x_runV (n := 1) (As := [.ref (κ.sK 5)]) (rest := []) hx hb hml hown hts (metJ5_equals l κ w v n 5 t h2 z2 hn (by decide) hwB) q882 q735 q736 q76 q737 (by decide +kernel) (by decide) (by decide) rfl hK hW2 (ob_recv hK.1.1 rfl hW2.1) hl.1 (Nat.le_of_ble_eq_true rfl) rfl dX2_find_123 ⟨Nat.le_refl _, Nat.le_refl _⟩) ?_
    refine lv_B_eq (tgt := 218) hx hb dX2_find_126 (by decide) (fun c_126 => ?_) (fun c_126 => ?_)
    · skip
      refine lv_iload_n hx hb dX2_find_218 rfl (lv_at hl 0 rfl) ?_
      refine lv_tableOut (tgt := 304) hx hb dX2_find_219 (by decide) (by decide) ?_
      refine lv_null hx hb dX2_find_304 ?_
      exact W.aret hx hb hr (Or.inl ⟨_, rfl⟩) (Or.inl rfl) (fun u2 hu hW => ⟨by rw [fnd_no (k0 := 2) (by decide) (by decide +kernel) x_2 c_126]; rfl, ⟨h2, z2, by rw [hu]; exact hW2, hho2⟩, by rw [hu]; exact hq3, fun q hq => by rw [hu]; exact hq4 q hq⟩) (fun q hq => hL q hq) dX2_find_305 hlk
    · skip
      refine lv_iconst (v := 2) hx hb dX2_find_129 (by decide) ?_
      refine lv_istore_n (lv' := [(2, .int 2), (1, .ref w), (0, .ref w)]) hx hb dX2_find_130 rfl hl (by decide) rfl (fun ls hl => ?_)
      refine lv_goto (tgt := 218) hx hb dX2_find_131 (by decide) ?_
      refine lv_iload_n hx hb dX2_find_218 rfl (lv_at hl 0 rfl) ?_
      refine lv_tableIn (off := 57) (tgt := 276) hx hb dX2_find_219 (by decide) (by decide) rfl (by decide) ?_
      refine x_gets (v := .ref (κ.kn 2)) hx hb (hK.2.1.2.2.2.1 2 (by decide)) hown hts q895 (fun x h => h) dX2_find_276 ?_
      exact W.aret hx hb hr (Or.inl ⟨_, rfl⟩) (Or.inr ⟨_, rfl⟩) (fun u2 hu hW => ⟨by rw [fnd_s (k := 2) (by decide) c_126]; rfl, ⟨h2, z2, by rw [hu]; exact hW2, hho2⟩, by rw [hu]; exact hq3, fun q hq => by rw [hu]; exact hq4 q hq⟩) (fun q hq => hL q hq) dX2_find_279 hlk
  by_cases x_3 : hsh t n = (113319054 : Int32)
  · refine lv_lookup (off := 126) (tgt := 134) hx hb dX2_find_8 (by decide +kernel) ((lv_osw (k := (-1268788519 : Int32)) x_0 (by decide +kernel)).trans ((lv_osw (k := (3079268 : Int32)) x_8 (by decide +kernel)).trans ((lv_osw (k := (3198773 : Int32)) x_5 (by decide +kernel)).trans ((lv_osw (k := (3704893 : Int32)) x_4 (by decide +kernel)).trans ((lv_osw (k := (98367357 : Int32)) x_1 (by decide +kernel)).trans ((lv_osw (k := (99044836 : Int32)) x_6 (by decide +kernel)).trans ((lv_osw (k := (102984967 : Int32)) x_7 (by decide +kernel)).trans ((lv_osw (k := (106934601 : Int32)) x_2 (by decide +kernel)).trans (osw_hit (k := (113319054 : Int32)) x_3 (by decide +kernel)))))))))) (by decide) ?_
    refine lv_aload_n hx hb dX2_find_134 rfl (lv_at hl 1 rfl) ?_
    refine va_ldcS hx hb hown (sR_6 hK.1) dX2_find_135 ?_
    refine ro_call (x_runV (n := 1) (As := [.ref (κ.sK 6)]) (rest := []) hx hb hml hown hts (metJ5_equals l κ w v n 6 t h2 z2 hn (by decide) hwB) q882 q735 q736 q76 q737 (by decide +kernel) (by decide) (by decide) rfl hK hW2 (ob_recv hK.1.1 rfl hW2.1) hl.1 (Nat.le_of_ble_eq_true rfl) rfl dX2_find_137 ⟨Nat.le_refl _, Nat.le_refl _⟩) ?_
    refine lv_B_eq (tgt := 218) hx hb dX2_find_140 (by decide) (fun c_140 => ?_) (fun c_140 => ?_)
    · skip
      refine lv_iload_n hx hb dX2_find_218 rfl (lv_at hl 0 rfl) ?_
      refine lv_tableOut (tgt := 304) hx hb dX2_find_219 (by decide) (by decide) ?_
      refine lv_null hx hb dX2_find_304 ?_
      exact W.aret hx hb hr (Or.inl ⟨_, rfl⟩) (Or.inl rfl) (fun u2 hu hW => ⟨by rw [fnd_no (k0 := 3) (by decide) (by decide +kernel) x_3 c_140]; rfl, ⟨h2, z2, by rw [hu]; exact hW2, hho2⟩, by rw [hu]; exact hq3, fun q hq => by rw [hu]; exact hq4 q hq⟩) (fun q hq => hL q hq) dX2_find_305 hlk
    · skip
      refine lv_iconst (v := 3) hx hb dX2_find_143 (by decide) ?_
      refine lv_istore_n (lv' := [(2, .int 3), (1, .ref w), (0, .ref w)]) hx hb dX2_find_144 rfl hl (by decide) rfl (fun ls hl => ?_)
      refine lv_goto (tgt := 218) hx hb dX2_find_145 (by decide) ?_
      refine lv_iload_n hx hb dX2_find_218 rfl (lv_at hl 0 rfl) ?_
      refine lv_tableIn (off := 61) (tgt := 280) hx hb dX2_find_219 (by decide) (by decide) rfl (by decide) ?_
      refine x_gets (v := .ref (κ.kn 3)) hx hb (hK.2.1.2.2.2.1 3 (by decide)) hown hts q897 (fun x h => h) dX2_find_280 ?_
      exact W.aret hx hb hr (Or.inl ⟨_, rfl⟩) (Or.inr ⟨_, rfl⟩) (fun u2 hu hW => ⟨by rw [fnd_s (k := 3) (by decide) c_140]; rfl, ⟨h2, z2, by rw [hu]; exact hW2, hho2⟩, by rw [hu]; exact hq3, fun q hq => by rw [hu]; exact hq4 q hq⟩) (fun q hq => hL q hq) dX2_find_283 hlk
  refine lv_lookup (off := 210) (tgt := 218) hx hb dX2_find_8 (by decide +kernel) ((lv_osw (k := (-1268788519 : Int32)) x_0 (by decide +kernel)).trans ((lv_osw (k := (3079268 : Int32)) x_8 (by decide +kernel)).trans ((lv_osw (k := (3198773 : Int32)) x_5 (by decide +kernel)).trans ((lv_osw (k := (3704893 : Int32)) x_4 (by decide +kernel)).trans ((lv_osw (k := (98367357 : Int32)) x_1 (by decide +kernel)).trans ((lv_osw (k := (99044836 : Int32)) x_6 (by decide +kernel)).trans ((lv_osw (k := (102984967 : Int32)) x_7 (by decide +kernel)).trans ((lv_osw (k := (106934601 : Int32)) x_2 (by decide +kernel)).trans ((lv_osw (k := (113319054 : Int32)) x_3 (by decide +kernel)).trans (rfl)))))))))) (by decide) ?_
  refine lv_iload_n hx hb dX2_find_218 rfl (lv_at hl 0 rfl) ?_
  refine lv_tableOut (tgt := 304) hx hb dX2_find_219 (by decide) (by decide) ?_
  refine lv_null hx hb dX2_find_304 ?_
  have fd_all : ∀ k, k < 9 → ¬ hsh t n = hvK k := by
    intro k hk q
    rcases (show k = 0 ∨ k = 1 ∨ k = 2 ∨ k = 3 ∨ k = 4 ∨ k = 5 ∨ k = 6 ∨ k = 7 ∨ k = 8 by omega) with rfl | rfl | rfl | rfl | rfl | rfl | rfl | rfl | rfl
    · exact x_0 (q.trans (by decide +kernel))
    · exact x_1 (q.trans (by decide +kernel))
    · exact x_2 (q.trans (by decide +kernel))
    · exact x_3 (q.trans (by decide +kernel))
    · exact x_4 (q.trans (by decide +kernel))
    · exact x_5 (q.trans (by decide +kernel))
    · exact x_6 (q.trans (by decide +kernel))
    · exact x_7 (q.trans (by decide +kernel))
    · exact x_8 (q.trans (by decide +kernel))
  exact W.aret hx hb hr (Or.inl ⟨_, rfl⟩) (Or.inl rfl) (fun u2 hu hW => ⟨by rw [fnd_nn fd_all]; rfl, ⟨h2, z2, by rw [hu]; exact hW2, hho2⟩, by rw [hu]; exact hq3, fun q hq => by rw [hu]; exact hq4 q hq⟩) (fun q hq => hL q hq) dX2_find_305 hlk
