/-! THE MODEL: shares and swaps, by tools/gen_m3.py -/
set_option maxRecDepth 100000

def lpX3_handDown_36 (u : St) (of : Int32) (da : Int32) (v : St) (p : Int32) : St × Int32 → Nat × St × Int32
  | (w, c) => if (w.1 6) ≤ c then (1, w, c) else (0, (sa w 52 p.toNatClampNeg (b2 (if (w.2.1 52 p.toNatClampNeg) = 0 then (if (fX3_isChild w c p) = true then (if (w.2.1 52 c.toNatClampNeg) = 0 then false else true) else false) else true))), c + 1)
def lpX3_handDown_36_r (u : St) (of : Int32) (da : Int32) (v : St) (p : Int32) : Nat × St × Int32 :=
  wh (lpX3_handDown_36 u of da v p) 25 ((sa v 52 p.toNatClampNeg (b2 (if (fX3_isDead v p da) = true then false else true))), p + 1)
def lpX3_handDown_7 (u : St) (of : Int32) (da : Int32) : St × Int32 → Nat × St × Int32
  | (v, p) => if p < 0 then (1, v, p) else (0, (sl (sl (lpX3_handDown_36_r u of da v p).2.1 50 p.toNatClampNeg 0) 51 p.toNatClampNeg 1), p + (-1))
def lpX3_handDown_7_r (u : St) (of : Int32) (da : Int32) : Nat × St × Int32 :=
  wh (lpX3_handDown_7 u of da) 25 (u, (u.1 6) - 1)
def lpX3_handDown_159 (u : St) (of : Int32) (da : Int32) (v : St) (p : Int32) : Int32 × Int32 → Nat × Int32 × Int32
  | (n, c) => if (v.1 6) ≤ c then (1, n, c) else (0, n + (b2 (if (fX3_isChild v c p) = true then (if (v.2.1 52 c.toNatClampNeg) = 0 then false else true) else false)), c + 1)
def lpX3_handDown_159_r (u : St) (of : Int32) (da : Int32) (v : St) (p : Int32) : Nat × Int32 × Int32 :=
  wh (lpX3_handDown_159 u of da v p) 25 (0, p + 1)
def lpX3_handDown_209 (u : St) (of : Int32) (da : Int32) (v : St) (p : Int32) : St × Int32 → Nat × St × Int32
  | (w, c) => if (w.1 6) ≤ c then (1, w, c) else (if (fX3_isChild w c p) = true then (if (w.2.1 52 c.toNatClampNeg) = 0 then (0, w, c + 1) else (0, (fX3_gets w c (w.2.2 50 p.toNatClampNeg) ((w.2.2 51 p.toNatClampNeg) * (((lpX3_handDown_159_r u of da v p).2.1).toInt64))), c + 1)) else (0, w, c + 1))
def lpX3_handDown_209_r (u : St) (of : Int32) (da : Int32) (v : St) (p : Int32) : Nat × St × Int32 :=
  wh (lpX3_handDown_209 u of da v p) 25 (v, p + 1)
def lpX3_handDown_120 (u : St) (of : Int32) (da : Int32) : St × Int32 → Nat × St × Int32
  | (v, p) => if (v.1 6) ≤ p then (1, v, p) else (if (v.2.2 50 p.toNatClampNeg) = 0 then (0, v, p + 1) else (if (fX3_isDead v p da) = true then (0, (sl (sl (lpX3_handDown_209_r u of da v p).2.1 50 p.toNatClampNeg 0) 51 p.toNatClampNeg 1), p + 1) else (0, v, p + 1)))
def lpX3_handDown_120_r (u : St) (of : Int32) (da : Int32) : Nat × St × Int32 :=
  wh (lpX3_handDown_120 u of da) 25 ((sl (lpX3_handDown_7_r u of da).2.1 50 of.toNatClampNeg 1), of)
def fX3_handDown (u : St) (of : Int32) (da : Int32) : St :=
  (lpX3_handDown_120_r u of da).2.1
def okX3_handDown (u : St) (of : Int32) (da : Int32) : Prop :=
  ∃ (I_7 : (St × Int32) → Prop) (I_36 : St → Int32 → (St × Int32) → Prop) (I_120 : (St × Int32) → Prop) (I_159 : St → Int32 → (Int32 × Int32) → Prop) (I_209 : St → Int32 → (St × Int32) → Prop), (LOK (lpX3_handDown_7 u of da) 25 (u, (u.1 6) - 1) I_7) ∧ (∀ (v : St) (p : Int32), I_7 (v, p) → ¬ (p < 0) → okX3_isDead v p da) ∧ (∀ (v : St) (p : Int32), I_7 (v, p) → ¬ (p < 0) → vp_in p 24) ∧ (∀ (v : St) (p : Int32), I_7 (v, p) → ¬ (p < 0) → LOK (lpX3_handDown_36 u of da v p) 25 ((sa v 52 p.toNatClampNeg (b2 (if (fX3_isDead v p da) = true then false else true))), p + 1) (I_36 v p)) ∧ (∀ (v : St) (p : Int32), I_7 (v, p) → ¬ (p < 0) → ∀ (w : St) (c : Int32), I_36 v p (w, c) → ¬ ((w.1 6) ≤ c) → (w.2.1 52 p.toNatClampNeg) = 0 → okX3_isChild w c p) ∧ (∀ (v : St) (p : Int32), I_7 (v, p) → ¬ (p < 0) → ∀ (w : St) (c : Int32), I_36 v p (w, c) → ¬ ((w.1 6) ≤ c) → (w.2.1 52 p.toNatClampNeg) = 0 → (fX3_isChild w c p) = true → vp_in c 24) ∧ (vp_in of 24) ∧ (LOK (lpX3_handDown_120 u of da) 25 ((sl (lpX3_handDown_7_r u of da).2.1 50 of.toNatClampNeg 1), of) I_120) ∧ (∀ (v : St) (p : Int32), I_120 (v, p) → ¬ ((v.1 6) ≤ p) → vp_in p 24) ∧ (∀ (v : St) (p : Int32), I_120 (v, p) → ¬ ((v.1 6) ≤ p) → ¬ ((v.2.2 50 p.toNatClampNeg) = 0) → okX3_isDead v p da) ∧ (∀ (v : St) (p : Int32), I_120 (v, p) → ¬ ((v.1 6) ≤ p) → ¬ ((v.2.2 50 p.toNatClampNeg) = 0) → (fX3_isDead v p da) = true → LOK (lpX3_handDown_159 u of da v p) 25 (0, p + 1) (I_159 v p)) ∧ (∀ (v : St) (p : Int32), I_120 (v, p) → ¬ ((v.1 6) ≤ p) → ¬ ((v.2.2 50 p.toNatClampNeg) = 0) → (fX3_isDead v p da) = true → ∀ (n : Int32) (c : Int32), I_159 v p (n, c) → ¬ ((v.1 6) ≤ c) → okX3_isChild v c p) ∧ (∀ (v : St) (p : Int32), I_120 (v, p) → ¬ ((v.1 6) ≤ p) → ¬ ((v.2.2 50 p.toNatClampNeg) = 0) → (fX3_isDead v p da) = true → ∀ (n : Int32) (c : Int32), I_159 v p (n, c) → ¬ ((v.1 6) ≤ c) → (fX3_isChild v c p) = true → vp_in c 24) ∧ (∀ (v : St) (p : Int32), I_120 (v, p) → ¬ ((v.1 6) ≤ p) → ¬ ((v.2.2 50 p.toNatClampNeg) = 0) → (fX3_isDead v p da) = true → LOK (lpX3_handDown_209 u of da v p) 25 (v, p + 1) (I_209 v p)) ∧ (∀ (v : St) (p : Int32), I_120 (v, p) → ¬ ((v.1 6) ≤ p) → ¬ ((v.2.2 50 p.toNatClampNeg) = 0) → (fX3_isDead v p da) = true → ∀ (w : St) (c : Int32), I_209 v p (w, c) → ¬ ((w.1 6) ≤ c) → okX3_isChild w c p) ∧ (∀ (v : St) (p : Int32), I_120 (v, p) → ¬ ((v.1 6) ≤ p) → ¬ ((v.2.2 50 p.toNatClampNeg) = 0) → (fX3_isDead v p da) = true → ∀ (w : St) (c : Int32), I_209 v p (w, c) → ¬ ((w.1 6) ≤ c) → (fX3_isChild w c p) = true → vp_in c 24) ∧ (∀ (v : St) (p : Int32), I_120 (v, p) → ¬ ((v.1 6) ≤ p) → ¬ ((v.2.2 50 p.toNatClampNeg) = 0) → (fX3_isDead v p da) = true → ∀ (w : St) (c : Int32), I_209 v p (w, c) → ¬ ((w.1 6) ≤ c) → (fX3_isChild w c p) = true → ¬ ((w.2.1 52 c.toNatClampNeg) = 0) → okX3_gets w c (w.2.2 50 p.toNatClampNeg) ((w.2.2 51 p.toNatClampNeg) * (((lpX3_handDown_159_r u of da v p).2.1).toInt64)))
set_option maxHeartbeats 4000000 in
theorem metX3_handDown (l : Launch) (D : va_G) (cA : Nat → ClassId) (o : Nat) (u : St) (of : Int32) (da : Int32) (hok : okX3_handDown u of da) : MetM l yX3_handDown cX3_handDown 6 none 2 D cA o u [.ref o, .int of, .int da] none (fX3_handDown u of da) := by
  obtain ⟨I_7, I_36, I_120, I_159, I_209, hN0, hN1, hN2, hN3, hN4, hN5, hN6, hN7, hN8, hN9, hN10, hN11, hN12, hN13, hN14, hN15, hN16⟩ := hok
  refine mM_start RX3 (by decide) rfl (Nat.le_of_ble_eq_true rfl) ?_
  intro pg ev s0 mi bl me co hx hb hml hown hts hr hlk hK hM ls hl
  have hl : lv_has ls 6 [(0, .ref o), (1, .int of), (2, .int da)] := hl
  have hS : va_S (mA o) s0.heap s0.heap [] := va_S.rf
  refine lv_aload_n hx hb dX3_handDown_0 rfl (lv_at hl 0 rfl) ?_
  refine mw_get (v := .int (u.1 6)) hx hb hts hown hK hM 6 (by decide) q1272 rfl rfl dX3_handDown_1 ?_
  refine lv_iconst (v := 1) hx hb dX3_handDown_4 (by decide) ?_
  refine lv_isub hx hb dX3_handDown_5 ?_
  refine lv_istore_n (lv' := [(3, .int ((u.1 6) - 1)), (0, .ref o), (1, .int of), (2, .int da)]) hx hb dX3_handDown_6 rfl hl (by decide) rfl (fun ls hl => ?_)
  refine mw_loop1 (rest := []) (nL := 6) (r := (lpX3_handDown_7_r u of da)) (lpX3_handDown_7 u of da) I_7 (fun q => q.1) (fun q => [(3, .int q.2), (0, .ref o), (1, .int of), (2, .int da)]) 7 111 25 (u, (u.1 6) - 1) hN0.2.1 hN0.1 hN0.2.2 rfl ?_ hM hS (lv_sub hl [0, 1, 2, 3] rfl) ?_
  · skip
    intro ⟨v, p⟩ hI_7 H locs ls hM hS hl kb k1
    have hM : MW D cA o v H := hM
    have hl : lv_has ls 6 [(3, .int p), (0, .ref o), (1, .int of), (2, .int da)] := hl
    refine lv_iload_n hx hb dX3_handDown_7 rfl (lv_at hl 0 rfl) ?_
    refine lv_if_lt (tgt := 111) hx hb dX3_handDown_8 (by decide) (fun c_8 => ?_) (fun c_8 => ?_)
    · skip
      have hs : lpX3_handDown_7 u of da (v, p) = (1, v, p) := by rw [lpX3_handDown_7, if_pos c_8]
      rw [hs] at k1
      exact k1 (show ¬ (1 : Nat) = 0 by decide) _ _ _ hM hS (lv_sub hl [0, 1, 2, 3] rfl)
    · skip
      refine lv_aload_n hx hb dX3_handDown_11 rfl (lv_at hl 1 rfl) ?_
      refine mw_get (v := .ref (mAd o 52)) hx hb hts hown hK hM 52 (by decide) q1318 rfl rfl dX3_handDown_12 ?_
      refine lv_iload_n hx hb dX3_handDown_15 rfl (lv_at hl 0 rfl) ?_
      refine lv_aload_n hx hb dX3_handDown_16 rfl (lv_at hl 1 rfl) ?_
      refine lv_iload_n hx hb dX3_handDown_17 rfl (lv_at hl 0 rfl) ?_
      refine lv_iload_n hx hb dX3_handDown_18 rfl (lv_at hl 3 rfl) ?_
      refine ro_call (mw_run (n := 2) (As := [.int p, .int da]) (rest := [.int p, .ref (mAd o 52)]) hx hb hml hown hts (metX3_isDead l D cA o v p da (hN1 v p hI_7 c_8)) q1626 q1628 qs55 q1629 (by decide +kernel) (by decide) (by decide) rfl hK hM hl.1 (Nat.le_of_ble_eq_true rfl) rfl dX3_handDown_19 ⟨Nat.le_refl _, Nat.le_refl _⟩) ?_
      refine w_ji (ls := ls) (rest := [.int p, .ref (mAd o 52)]) (E := b2 (if (fX3_isDead v p da) = true then false else true)) 30 ?_ (fun K => ?_)
      · skip
        refine mw_zst (x := (if (fX3_isDead v p da) = true then false else true)) (j := p.toNatClampNeg) hx hb hK hM hS 52 (by decide) rfl rfl (hN2 v p hI_7 c_8) rfl dX3_handDown_30 (fun H locs hM hS => ?_)
        refine lv_iload_n hx hb dX3_handDown_31 rfl (lv_at hl 0 rfl) ?_
        refine lv_iconst (v := 1) hx hb dX3_handDown_32 (by decide) ?_
        refine lv_iadd hx hb dX3_handDown_33 ?_
        refine lv_istore (lv' := [(4, .int (p + 1)), (3, .int p), (0, .ref o), (1, .int of), (2, .int da)]) hx hb dX3_handDown_34 hl (by decide) rfl (fun ls hl => ?_)
        refine mw_loop1 (rest := []) (nL := 6) (r := (lpX3_handDown_36_r u of da v p)) (lpX3_handDown_36 u of da v p) (I_36 v p) (fun q => q.1) (fun q => [(4, .int q.2), (3, .int p), (0, .ref o), (1, .int of), (2, .int da)]) 36 91 25 ((sa v 52 p.toNatClampNeg (b2 (if (fX3_isDead v p da) = true then false else true))), p + 1) (hN3 v p hI_7 c_8).2.1 (hN3 v p hI_7 c_8).1 (hN3 v p hI_7 c_8).2.2 rfl ?_ hM hS (lv_sub hl [0, 1, 2, 3, 4] rfl) ?_
        · skip
          intro ⟨w, c⟩ hI_36 H locs ls hM hS hl kb k1
          have hM : MW D cA o w H := hM
          have hl : lv_has ls 6 [(4, .int c), (3, .int p), (0, .ref o), (1, .int of), (2, .int da)] := hl
          refine lv_iload hx hb dX3_handDown_36 (lv_at hl 0 rfl) ?_
          refine lv_aload_n hx hb dX3_handDown_38 rfl (lv_at hl 2 rfl) ?_
          refine mw_get (v := .int (w.1 6)) hx hb hts hown hK hM 6 (by decide) q1272 rfl rfl dX3_handDown_39 ?_
          refine lv_icmp_ge (tgt := 91) hx hb dX3_handDown_42 (by decide) (fun c_42 => ?_) (fun c_42 => ?_)
          · skip
            have hs : lpX3_handDown_36 u of da v p (w, c) = (1, w, c) := by rw [lpX3_handDown_36, if_pos c_42]
            rw [hs] at k1
            exact k1 (show ¬ (1 : Nat) = 0 by decide) _ _ _ hM hS (lv_sub hl [0, 1, 2, 3, 4] rfl)
          · skip
            refine lv_aload_n hx hb dX3_handDown_45 rfl (lv_at hl 2 rfl) ?_
            refine mw_get (v := .ref (mAd o 52)) hx hb hts hown hK hM 52 (by decide) q1318 rfl rfl dX3_handDown_46 ?_
            refine lv_iload_n hx hb dX3_handDown_49 rfl (lv_at hl 1 rfl) ?_
            refine lv_aload_n hx hb dX3_handDown_50 rfl (lv_at hl 2 rfl) ?_
            refine mw_get (v := .ref (mAd o 52)) hx hb hts hown hK hM 52 (by decide) q1318 rfl rfl dX3_handDown_51 ?_
            refine lv_iload_n hx hb dX3_handDown_54 rfl (lv_at hl 1 rfl) ?_
            refine mw_zld (v := w.2.1 52 p.toNatClampNeg) (j := p.toNatClampNeg) hx hb hK hM 52 (by decide) rfl rfl (hN2 v p hI_7 c_8) rfl rfl dX3_handDown_55 ?_
            refine w_ji (ls := ls) (rest := [.int p, .ref (mAd o 52)]) (E := b2 (if (w.2.1 52 p.toNatClampNeg) = 0 then (if (fX3_isChild w c p) = true then (if (w.2.1 52 c.toNatClampNeg) = 0 then false else true) else false) else true)) 84 ?_ (fun K => ?_)
            · skip
              refine mw_zst (x := (if (w.2.1 52 p.toNatClampNeg) = 0 then (if (fX3_isChild w c p) = true then (if (w.2.1 52 c.toNatClampNeg) = 0 then false else true) else false) else true)) (j := p.toNatClampNeg) hx hb hK hM hS 52 (by decide) rfl rfl (hN2 v p hI_7 c_8) rfl dX3_handDown_84 (fun H locs hM hS => ?_)
              refine lv_iinc (v := c + 1) (lv' := [(4, .int (c + 1)), (3, .int p), (0, .ref o), (1, .int of), (2, .int da)]) hx hb dX3_handDown_85 hl (k := 0) rfl (rfl) (by decide) rfl (fun ls hl => ?_)
              refine lv_goto (tgt := 36) hx hb dX3_handDown_88 (by decide) ?_
              have hs : lpX3_handDown_36 u of da v p (w, c) = (0, (sa w 52 p.toNatClampNeg (b2 (if (w.2.1 52 p.toNatClampNeg) = 0 then (if (fX3_isChild w c p) = true then (if (w.2.1 52 c.toNatClampNeg) = 0 then false else true) else false) else true))), c + 1) := by rw [lpX3_handDown_36, if_neg c_42]
              rw [hs] at kb
              exact kb rfl _ _ _ hM hS (lv_sub hl [0, 1, 2, 3, 4] rfl)
            · skip
              refine lv_if_ne (tgt := 79) hx hb dX3_handDown_56 (by decide) (fun c_56 => ?_) (fun c_56 => ?_)
              · skip
                refine lv_iconst (v := 1) hx hb dX3_handDown_79 (by decide) ?_
                refine lv_goto (tgt := 84) hx hb dX3_handDown_80 (by decide) ?_
                exact K _ (by rw [if_neg c_56]; rfl)
              · skip
                refine lv_aload_n hx hb dX3_handDown_59 rfl (lv_at hl 2 rfl) ?_
                refine lv_iload hx hb dX3_handDown_60 (lv_at hl 0 rfl) ?_
                refine lv_iload_n hx hb dX3_handDown_62 rfl (lv_at hl 1 rfl) ?_
                refine ro_call (mw_run (n := 2) (As := [.int c, .int p]) (rest := [.int p, .ref (mAd o 52)]) hx hb hml hown hts (metX3_isChild l D cA o w c p (hN4 v p hI_7 c_8 w c hI_36 c_42 c_56)) q1658 q1660 qs59 q1661 (by decide +kernel) (by decide) (by decide) rfl hK hM hl.1 (Nat.le_of_ble_eq_true rfl) rfl dX3_handDown_63 ⟨Nat.le_refl _, Nat.le_refl _⟩) ?_
                refine lv_B_eq (tgt := 83) hx hb dX3_handDown_66 (by decide) (fun c_66 => ?_) (fun c_66 => ?_)
                · skip
                  refine lv_iconst (v := 0) hx hb dX3_handDown_83 (by decide) ?_
                  exact K _ (by rw [if_pos c_56, if_neg (nt_of c_66)]; rfl)
                · skip
                  refine lv_aload_n hx hb dX3_handDown_69 rfl (lv_at hl 2 rfl) ?_
                  refine mw_get (v := .ref (mAd o 52)) hx hb hts hown hK hM 52 (by decide) q1318 rfl rfl dX3_handDown_70 ?_
                  refine lv_iload hx hb dX3_handDown_73 (lv_at hl 0 rfl) ?_
                  refine mw_zld (v := w.2.1 52 c.toNatClampNeg) (j := c.toNatClampNeg) hx hb hK hM 52 (by decide) rfl rfl (hN5 v p hI_7 c_8 w c hI_36 c_42 c_56 c_66) rfl rfl dX3_handDown_75 ?_
                  refine lv_if_eq (tgt := 83) hx hb dX3_handDown_76 (by decide) (fun c_76 => ?_) (fun c_76 => ?_)
                  · skip
                    refine lv_iconst (v := 0) hx hb dX3_handDown_83 (by decide) ?_
                    exact K _ (by rw [if_pos c_56, if_pos c_66, if_pos c_76]; rfl)
                  · skip
                    refine lv_iconst (v := 1) hx hb dX3_handDown_79 (by decide) ?_
                    refine lv_goto (tgt := 84) hx hb dX3_handDown_80 (by decide) ?_
                    exact K _ (by rw [if_pos c_56, if_pos c_66, if_neg c_76]; rfl)
        · skip
          intro H locs ls hM hS hl
          have hM : MW D cA o (lpX3_handDown_36_r u of da v p).2.1 H := hM
          have hl : lv_has ls 6 [(4, .int ((lpX3_handDown_36_r u of da v p).2.2)), (3, .int p), (0, .ref o), (1, .int of), (2, .int da)] := hl
          refine lv_aload_n hx hb dX3_handDown_91 rfl (lv_at hl 2 rfl) ?_
          refine mw_get (v := .ref (mAd o 50)) hx hb hts hown hK hM 50 (by decide) q1316 rfl rfl dX3_handDown_92 ?_
          refine lv_iload_n hx hb dX3_handDown_95 rfl (lv_at hl 1 rfl) ?_
          refine lv_lconst (v := 0) hx hb dX3_handDown_96 (by decide) ?_
          refine mw_lst (j := p.toNatClampNeg) hx hb hK hM hS 50 (by decide) rfl rfl (hN2 v p hI_7 c_8) rfl dX3_handDown_97 (fun H locs hM hS => ?_)
          refine lv_aload_n hx hb dX3_handDown_98 rfl (lv_at hl 2 rfl) ?_
          refine mw_get (v := .ref (mAd o 51)) hx hb hts hown hK hM 51 (by decide) q1317 rfl rfl dX3_handDown_99 ?_
          refine lv_iload_n hx hb dX3_handDown_102 rfl (lv_at hl 1 rfl) ?_
          refine lv_lconst (v := 1) hx hb dX3_handDown_103 (by decide) ?_
          refine mw_lst (j := p.toNatClampNeg) hx hb hK hM hS 51 (by decide) rfl rfl (hN2 v p hI_7 c_8) rfl dX3_handDown_104 (fun H locs hM hS => ?_)
          refine lv_iinc (v := p + (-1)) (lv' := [(3, .int (p + (-1))), (4, .int ((lpX3_handDown_36_r u of da v p).2.2)), (0, .ref o), (1, .int of), (2, .int da)]) hx hb dX3_handDown_105 hl (k := 1) rfl (rfl) (by decide) rfl (fun ls hl => ?_)
          refine lv_goto (tgt := 7) hx hb dX3_handDown_108 (by decide) ?_
          have hs : lpX3_handDown_7 u of da (v, p) = (0, (sl (sl (lpX3_handDown_36_r u of da v p).2.1 50 p.toNatClampNeg 0) 51 p.toNatClampNeg 1), p + (-1)) := by rw [lpX3_handDown_7, if_neg c_8]
          rw [hs] at kb
          exact kb rfl _ _ _ hM hS (lv_sub hl [0, 2, 3, 4] rfl)
      · skip
        refine lv_B_ne (tgt := 29) hx hb dX3_handDown_22 (by decide) (fun c_22 => ?_) (fun c_22 => ?_)
        · skip
          refine lv_iconst (v := 0) hx hb dX3_handDown_29 (by decide) ?_
          exact K _ (by rw [if_pos c_22]; rfl)
        · skip
          refine lv_iconst (v := 1) hx hb dX3_handDown_25 (by decide) ?_
          refine lv_goto (tgt := 30) hx hb dX3_handDown_26 (by decide) ?_
          exact K _ (by rw [if_neg (nt_of c_22)]; rfl)
  · skip
    intro H locs ls hM hS hl
    have hM : MW D cA o (lpX3_handDown_7_r u of da).2.1 H := hM
    have hl : lv_has ls 6 [(3, .int ((lpX3_handDown_7_r u of da).2.2)), (0, .ref o), (1, .int of), (2, .int da)] := hl
    refine lv_aload_n hx hb dX3_handDown_111 rfl (lv_at hl 1 rfl) ?_
    refine mw_get (v := .ref (mAd o 50)) hx hb hts hown hK hM 50 (by decide) q1316 rfl rfl dX3_handDown_112 ?_
    refine lv_iload_n hx hb dX3_handDown_115 rfl (lv_at hl 2 rfl) ?_
    refine lv_lconst (v := 1) hx hb dX3_handDown_116 (by decide) ?_
    refine mw_lst (j := of.toNatClampNeg) hx hb hK hM hS 50 (by decide) rfl rfl hN6 rfl dX3_handDown_117 (fun H locs hM hS => ?_)
    refine lv_iload_n hx hb dX3_handDown_118 rfl (lv_at hl 2 rfl) ?_
    refine lv_istore_n (lv' := [(3, .int of), (0, .ref o), (1, .int of), (2, .int da)]) hx hb dX3_handDown_119 rfl hl (by decide) rfl (fun ls hl => ?_)
    refine mw_loop1 (rest := []) (nL := 6) (r := (lpX3_handDown_120_r u of da)) (lpX3_handDown_120 u of da) I_120 (fun q => q.1) (fun q => [(3, .int q.2), (0, .ref o), (1, .int of), (2, .int da)]) 120 286 25 ((sl (lpX3_handDown_7_r u of da).2.1 50 of.toNatClampNeg 1), of) hN7.2.1 hN7.1 hN7.2.2 rfl ?_ hM hS (lv_sub hl [0, 1, 2, 3] rfl) ?_
    · skip
      intro ⟨v, p⟩ hI_120 H locs ls hM hS hl kb k1
      have hM : MW D cA o v H := hM
      have hl : lv_has ls 6 [(3, .int p), (0, .ref o), (1, .int of), (2, .int da)] := hl
      refine lv_iload_n hx hb dX3_handDown_120 rfl (lv_at hl 0 rfl) ?_
      refine lv_aload_n hx hb dX3_handDown_121 rfl (lv_at hl 1 rfl) ?_
      refine mw_get (v := .int (v.1 6)) hx hb hts hown hK hM 6 (by decide) q1272 rfl rfl dX3_handDown_122 ?_
      refine lv_icmp_ge (tgt := 286) hx hb dX3_handDown_125 (by decide) (fun c_125 => ?_) (fun c_125 => ?_)
      · skip
        have hs : lpX3_handDown_120 u of da (v, p) = (1, v, p) := by rw [lpX3_handDown_120, if_pos c_125]
        rw [hs] at k1
        exact k1 (show ¬ (1 : Nat) = 0 by decide) _ _ _ hM hS (lv_sub hl [0, 1, 2, 3] rfl)
      · skip
        refine lv_aload_n hx hb dX3_handDown_128 rfl (lv_at hl 1 rfl) ?_
        refine mw_get (v := .ref (mAd o 50)) hx hb hts hown hK hM 50 (by decide) q1316 rfl rfl dX3_handDown_129 ?_
        refine lv_iload_n hx hb dX3_handDown_132 rfl (lv_at hl 0 rfl) ?_
        refine mw_lld (v := v.2.2 50 p.toNatClampNeg) (j := p.toNatClampNeg) hx hb hK hM 50 (by decide) rfl rfl (hN8 v p hI_120 c_125) rfl rfl dX3_handDown_133 ?_
        refine lv_lconst (v := 0) hx hb dX3_handDown_134 (by decide) ?_
        refine W.lcmp hx hb dX3_handDown_135 ?_
        refine lv_L_eq (tgt := 280) hx hb dX3_handDown_136 (by decide) (fun c_136 => ?_) (fun c_136 => ?_)
        · skip
          refine lv_iinc (v := p + 1) (lv' := [(3, .int (p + 1)), (0, .ref o), (1, .int of), (2, .int da)]) hx hb dX3_handDown_280 hl (k := 0) rfl (rfl) (by decide) rfl (fun ls hl => ?_)
          refine lv_goto (tgt := 120) hx hb dX3_handDown_283 (by decide) ?_
          have hs : lpX3_handDown_120 u of da (v, p) = (0, v, p + 1) := by rw [lpX3_handDown_120, if_neg c_125, if_pos c_136]
          rw [hs] at kb
          exact kb rfl _ _ _ hM hS (lv_sub hl [0, 1, 2, 3] rfl)
        · skip
          refine lv_aload_n hx hb dX3_handDown_139 rfl (lv_at hl 1 rfl) ?_
          refine lv_iload_n hx hb dX3_handDown_140 rfl (lv_at hl 0 rfl) ?_
          refine lv_iload_n hx hb dX3_handDown_141 rfl (lv_at hl 3 rfl) ?_
          refine ro_call (mw_run (n := 2) (As := [.int p, .int da]) (rest := []) hx hb hml hown hts (metX3_isDead l D cA o v p da (hN9 v p hI_120 c_125 c_136)) q1626 q1628 qs55 q1629 (by decide +kernel) (by decide) (by decide) rfl hK hM hl.1 (Nat.le_of_ble_eq_true rfl) rfl dX3_handDown_142 ⟨Nat.le_refl _, Nat.le_refl _⟩) ?_
          refine lv_B_ne (tgt := 151) hx hb dX3_handDown_145 (by decide) (fun c_145 => ?_) (fun c_145 => ?_)
          · skip
            refine lv_iconst (v := 0) hx hb dX3_handDown_151 (by decide) ?_
            refine lv_istore (lv' := [(4, .int 0), (3, .int p), (0, .ref o), (1, .int of), (2, .int da)]) hx hb dX3_handDown_152 hl (by decide) rfl (fun ls hl => ?_)
            refine lv_iload_n hx hb dX3_handDown_154 rfl (lv_at hl 1 rfl) ?_
            refine lv_iconst (v := 1) hx hb dX3_handDown_155 (by decide) ?_
            refine lv_iadd hx hb dX3_handDown_156 ?_
            refine lv_istore (lv' := [(5, .int (p + 1)), (4, .int 0), (3, .int p), (0, .ref o), (1, .int of), (2, .int da)]) hx hb dX3_handDown_157 hl (by decide) rfl (fun ls hl => ?_)
            refine r_loop1 (rest := []) (nL := 6) (r := (lpX3_handDown_159_r u of da v p)) (lpX3_handDown_159 u of da v p) (I_159 v p) (fun q => [(4, .int q.1), (5, .int q.2), (3, .int p), (0, .ref o), (1, .int of), (2, .int da)]) 159 204 25 (0, p + 1) (hN10 v p hI_120 c_125 c_136 c_145).2.1 (hN10 v p hI_120 c_125 c_136 c_145).1 (hN10 v p hI_120 c_125 c_136 c_145).2.2 rfl ?_ (lv_sub hl [1, 0, 2, 3, 4, 5] rfl) ?_
            · skip
              intro ⟨n, c⟩ hI_159 ls hl kb k1
              have hl : lv_has ls 6 [(4, .int n), (5, .int c), (3, .int p), (0, .ref o), (1, .int of), (2, .int da)] := hl
              refine lv_iload hx hb dX3_handDown_159 (lv_at hl 1 rfl) ?_
              refine lv_aload_n hx hb dX3_handDown_161 rfl (lv_at hl 3 rfl) ?_
              refine mw_get (v := .int (v.1 6)) hx hb hts hown hK hM 6 (by decide) q1272 rfl rfl dX3_handDown_162 ?_
              refine lv_icmp_ge (tgt := 204) hx hb dX3_handDown_165 (by decide) (fun c_165 => ?_) (fun c_165 => ?_)
              · skip
                have hs : lpX3_handDown_159 u of da v p (n, c) = (1, n, c) := by rw [lpX3_handDown_159, if_pos c_165]
                rw [hs] at k1
                exact k1 (show ¬ (1 : Nat) = 0 by decide) _ (lv_sub hl [0, 1, 2, 3, 4, 5] rfl)
              · skip
                refine lv_iload hx hb dX3_handDown_168 (lv_at hl 0 rfl) ?_
                refine lv_aload_n hx hb dX3_handDown_170 rfl (lv_at hl 3 rfl) ?_
                refine lv_iload hx hb dX3_handDown_171 (lv_at hl 1 rfl) ?_
                refine lv_iload_n hx hb dX3_handDown_173 rfl (lv_at hl 2 rfl) ?_
                refine ro_call (mw_run (n := 2) (As := [.int c, .int p]) (rest := [.int n]) hx hb hml hown hts (metX3_isChild l D cA o v c p (hN11 v p hI_120 c_125 c_136 c_145 n c hI_159 c_165)) q1658 q1660 qs59 q1661 (by decide +kernel) (by decide) (by decide) rfl hK hM hl.1 (Nat.le_of_ble_eq_true rfl) rfl dX3_handDown_174 ⟨Nat.le_refl _, Nat.le_refl _⟩) ?_
                refine w_ji (ls := ls) (rest := [.int n]) (E := b2 (if (fX3_isChild v c p) = true then (if (v.2.1 52 c.toNatClampNeg) = 0 then false else true) else false)) 195 ?_ (fun K => ?_)
                · skip
                  refine lv_iadd hx hb dX3_handDown_195 ?_
                  refine lv_istore (lv' := [(4, .int (n + (b2 (if (fX3_isChild v c p) = true then (if (v.2.1 52 c.toNatClampNeg) = 0 then false else true) else false)))), (5, .int c), (3, .int p), (0, .ref o), (1, .int of), (2, .int da)]) hx hb dX3_handDown_196 hl (by decide) rfl (fun ls hl => ?_)
                  refine lv_iinc (v := c + 1) (lv' := [(5, .int (c + 1)), (4, .int (n + (b2 (if (fX3_isChild v c p) = true then (if (v.2.1 52 c.toNatClampNeg) = 0 then false else true) else false)))), (3, .int p), (0, .ref o), (1, .int of), (2, .int da)]) hx hb dX3_handDown_198 hl (k := 1) rfl (rfl) (by decide) rfl (fun ls hl => ?_)
                  refine lv_goto (tgt := 159) hx hb dX3_handDown_201 (by decide) ?_
                  have hs : lpX3_handDown_159 u of da v p (n, c) = (0, n + (b2 (if (fX3_isChild v c p) = true then (if (v.2.1 52 c.toNatClampNeg) = 0 then false else true) else false)), c + 1) := by rw [lpX3_handDown_159, if_neg c_165]
                  rw [hs] at kb
                  exact kb rfl _ (lv_sub hl [1, 0, 2, 3, 4, 5] rfl)
                · skip
                  refine lv_B_eq (tgt := 194) hx hb dX3_handDown_177 (by decide) (fun c_177 => ?_) (fun c_177 => ?_)
                  · skip
                    refine lv_iconst (v := 0) hx hb dX3_handDown_194 (by decide) ?_
                    exact K _ (by rw [if_neg (nt_of c_177)]; rfl)
                  · skip
                    refine lv_aload_n hx hb dX3_handDown_180 rfl (lv_at hl 3 rfl) ?_
                    refine mw_get (v := .ref (mAd o 52)) hx hb hts hown hK hM 52 (by decide) q1318 rfl rfl dX3_handDown_181 ?_
                    refine lv_iload hx hb dX3_handDown_184 (lv_at hl 1 rfl) ?_
                    refine mw_zld (v := v.2.1 52 c.toNatClampNeg) (j := c.toNatClampNeg) hx hb hK hM 52 (by decide) rfl rfl (hN12 v p hI_120 c_125 c_136 c_145 n c hI_159 c_165 c_177) rfl rfl dX3_handDown_186 ?_
                    refine lv_if_eq (tgt := 194) hx hb dX3_handDown_187 (by decide) (fun c_187 => ?_) (fun c_187 => ?_)
                    · skip
                      refine lv_iconst (v := 0) hx hb dX3_handDown_194 (by decide) ?_
                      exact K _ (by rw [if_pos c_177, if_pos c_187]; rfl)
                    · skip
                      refine lv_iconst (v := 1) hx hb dX3_handDown_190 (by decide) ?_
                      refine lv_goto (tgt := 195) hx hb dX3_handDown_191 (by decide) ?_
                      exact K _ (by rw [if_pos c_177, if_neg c_187]; rfl)
            · skip
              intro ls hl
              have hl : lv_has ls 6 [(4, .int ((lpX3_handDown_159_r u of da v p).2.1)), (5, .int ((lpX3_handDown_159_r u of da v p).2.2)), (3, .int p), (0, .ref o), (1, .int of), (2, .int da)] := hl
              refine lv_iload_n hx hb dX3_handDown_204 rfl (lv_at hl 2 rfl) ?_
              refine lv_iconst (v := 1) hx hb dX3_handDown_205 (by decide) ?_
              refine lv_iadd hx hb dX3_handDown_206 ?_
              refine lv_istore (lv' := [(5, .int (p + 1)), (4, .int ((lpX3_handDown_159_r u of da v p).2.1)), (3, .int p), (0, .ref o), (1, .int of), (2, .int da)]) hx hb dX3_handDown_207 hl (by decide) rfl (fun ls hl => ?_)
              refine mw_loop1 (rest := []) (nL := 6) (r := (lpX3_handDown_209_r u of da v p)) (lpX3_handDown_209 u of da v p) (I_209 v p) (fun q => q.1) (fun q => [(5, .int q.2), (4, .int ((lpX3_handDown_159_r u of da v p).2.1)), (3, .int p), (0, .ref o), (1, .int of), (2, .int da)]) 209 266 25 (v, p + 1) (hN13 v p hI_120 c_125 c_136 c_145).2.1 (hN13 v p hI_120 c_125 c_136 c_145).1 (hN13 v p hI_120 c_125 c_136 c_145).2.2 rfl ?_ hM hS (lv_sub hl [0, 1, 2, 3, 4, 5] rfl) ?_
              · skip
                intro ⟨w, c⟩ hI_209 H locs ls hM hS hl kb k1
                have hM : MW D cA o w H := hM
                have hl : lv_has ls 6 [(5, .int c), (4, .int ((lpX3_handDown_159_r u of da v p).2.1)), (3, .int p), (0, .ref o), (1, .int of), (2, .int da)] := hl
                refine lv_iload hx hb dX3_handDown_209 (lv_at hl 0 rfl) ?_
                refine lv_aload_n hx hb dX3_handDown_211 rfl (lv_at hl 3 rfl) ?_
                refine mw_get (v := .int (w.1 6)) hx hb hts hown hK hM 6 (by decide) q1272 rfl rfl dX3_handDown_212 ?_
                refine lv_icmp_ge (tgt := 266) hx hb dX3_handDown_215 (by decide) (fun c_215 => ?_) (fun c_215 => ?_)
                · skip
                  have hs : lpX3_handDown_209 u of da v p (w, c) = (1, w, c) := by rw [lpX3_handDown_209, if_pos c_215]
                  rw [hs] at k1
                  exact k1 (show ¬ (1 : Nat) = 0 by decide) _ _ _ hM hS (lv_sub hl [0, 1, 2, 3, 4, 5] rfl)
                · skip
                  refine lv_aload_n hx hb dX3_handDown_218 rfl (lv_at hl 3 rfl) ?_
                  refine lv_iload hx hb dX3_handDown_219 (lv_at hl 0 rfl) ?_
                  refine lv_iload_n hx hb dX3_handDown_221 rfl (lv_at hl 2 rfl) ?_
                  refine ro_call (mw_run (n := 2) (As := [.int c, .int p]) (rest := []) hx hb hml hown hts (metX3_isChild l D cA o w c p (hN14 v p hI_120 c_125 c_136 c_145 w c hI_209 c_215)) q1658 q1660 qs59 q1661 (by decide +kernel) (by decide) (by decide) rfl hK hM hl.1 (Nat.le_of_ble_eq_true rfl) rfl dX3_handDown_222 ⟨Nat.le_refl _, Nat.le_refl _⟩) ?_
                  refine lv_B_eq (tgt := 260) hx hb dX3_handDown_225 (by decide) (fun c_225 => ?_) (fun c_225 => ?_)
                  · skip
                    refine lv_iinc (v := c + 1) (lv' := [(5, .int (c + 1)), (4, .int ((lpX3_handDown_159_r u of da v p).2.1)), (3, .int p), (0, .ref o), (1, .int of), (2, .int da)]) hx hb dX3_handDown_260 hl (k := 0) rfl (rfl) (by decide) rfl (fun ls hl => ?_)
                    refine lv_goto (tgt := 209) hx hb dX3_handDown_263 (by decide) ?_
                    have hs : lpX3_handDown_209 u of da v p (w, c) = (0, w, c + 1) := by rw [lpX3_handDown_209, if_neg c_215, if_neg (nt_of c_225)]
                    rw [hs] at kb
                    exact kb rfl _ _ _ hM hS (lv_sub hl [0, 1, 2, 3, 4, 5] rfl)
                  · skip
                    refine lv_aload_n hx hb dX3_handDown_228 rfl (lv_at hl 3 rfl) ?_
                    refine mw_get (v := .ref (mAd o 52)) hx hb hts hown hK hM 52 (by decide) q1318 rfl rfl dX3_handDown_229 ?_
                    refine lv_iload hx hb dX3_handDown_232 (lv_at hl 0 rfl) ?_
                    refine mw_zld (v := w.2.1 52 c.toNatClampNeg) (j := c.toNatClampNeg) hx hb hK hM 52 (by decide) rfl rfl (hN15 v p hI_120 c_125 c_136 c_145 w c hI_209 c_215 c_225) rfl rfl dX3_handDown_234 ?_
                    refine lv_if_eq (tgt := 260) hx hb dX3_handDown_235 (by decide) (fun c_235 => ?_) (fun c_235 => ?_)
                    · skip
                      refine lv_iinc (v := c + 1) (lv' := [(5, .int (c + 1)), (4, .int ((lpX3_handDown_159_r u of da v p).2.1)), (3, .int p), (0, .ref o), (1, .int of), (2, .int da)]) hx hb dX3_handDown_260 hl (k := 0) rfl (rfl) (by decide) rfl (fun ls hl => ?_)
                      refine lv_goto (tgt := 209) hx hb dX3_handDown_263 (by decide) ?_
                      have hs : lpX3_handDown_209 u of da v p (w, c) = (0, w, c + 1) := by rw [lpX3_handDown_209, if_neg c_215, if_pos c_225, if_pos c_235]
                      rw [hs] at kb
                      exact kb rfl _ _ _ hM hS (lv_sub hl [0, 1, 2, 3, 4, 5] rfl)
                    · skip
                      refine lv_aload_n hx hb dX3_handDown_238 rfl (lv_at hl 3 rfl) ?_
                      refine lv_iload hx hb dX3_handDown_239 (lv_at hl 0 rfl) ?_
                      refine lv_aload_n hx hb dX3_handDown_241 rfl (lv_at hl 3 rfl) ?_
                      refine mw_get (v := .ref (mAd o 50)) hx hb hts hown hK hM 50 (by decide) q1316 rfl rfl dX3_handDown_242 ?_
                      refine lv_iload_n hx hb dX3_handDown_245 rfl (lv_at hl 2 rfl) ?_
                      refine mw_lld (v := w.2.2 50 p.toNatClampNeg) (j := p.toNatClampNeg) hx hb hK hM 50 (by decide) rfl rfl (hN8 v p hI_120 c_125) rfl rfl dX3_handDown_246 ?_
                      refine lv_aload_n hx hb dX3_handDown_247 rfl (lv_at hl 3 rfl) ?_
                      refine mw_get (v := .ref (mAd o 51)) hx hb hts hown hK hM 51 (by decide) q1317 rfl rfl dX3_handDown_248 ?_
                      refine lv_iload_n hx hb dX3_handDown_251 rfl (lv_at hl 2 rfl) ?_
                      refine mw_lld (v := w.2.2 51 p.toNatClampNeg) (j := p.toNatClampNeg) hx hb hK hM 51 (by decide) rfl rfl (hN8 v p hI_120 c_125) rfl rfl dX3_handDown_252 ?_
                      refine lv_iload hx hb dX3_handDown_253 (lv_at hl 1 rfl) ?_
                      refine lv_i2l hx hb dX3_handDown_255 rfl ?_
                      refine lv_lmul hx hb dX3_handDown_256 ?_
                      refine mw_call (mw_run (n := 3) (As := [.int c, .long (w.2.2 50 p.toNatClampNeg), .long ((w.2.2 51 p.toNatClampNeg) * (((lpX3_handDown_159_r u of da v p).2.1).toInt64))]) (rest := []) hx hb hml hown hts (metX3_gets l D cA o w c (w.2.2 50 p.toNatClampNeg) ((w.2.2 51 p.toNatClampNeg) * (((lpX3_handDown_159_r u of da v p).2.1).toInt64)) (hN16 v p hI_120 c_125 c_136 c_145 w c hI_209 c_215 c_225 c_235)) q1662 q1664 qs60 q1665 (by decide +kernel) (by decide) (by decide) rfl hK hM hl.1 (Nat.le_of_ble_eq_true rfl) rfl dX3_handDown_257 ⟨Nat.le_refl _, Nat.le_refl _⟩) hS (fun _ h => h) (fun H locs hM _ _ hS => ?_)
                      refine lv_iinc (v := c + 1) (lv' := [(5, .int (c + 1)), (4, .int ((lpX3_handDown_159_r u of da v p).2.1)), (3, .int p), (0, .ref o), (1, .int of), (2, .int da)]) hx hb dX3_handDown_260 hl (k := 0) rfl (rfl) (by decide) rfl (fun ls hl => ?_)
                      refine lv_goto (tgt := 209) hx hb dX3_handDown_263 (by decide) ?_
                      have hs : lpX3_handDown_209 u of da v p (w, c) = (0, (fX3_gets w c (w.2.2 50 p.toNatClampNeg) ((w.2.2 51 p.toNatClampNeg) * (((lpX3_handDown_159_r u of da v p).2.1).toInt64))), c + 1) := by rw [lpX3_handDown_209, if_neg c_215, if_pos c_225, if_neg c_235]
                      rw [hs] at kb
                      exact kb rfl _ _ _ hM hS (lv_sub hl [0, 1, 2, 3, 4, 5] rfl)
              · skip
                intro H locs ls hM hS hl
                have hM : MW D cA o (lpX3_handDown_209_r u of da v p).2.1 H := hM
                have hl : lv_has ls 6 [(5, .int ((lpX3_handDown_209_r u of da v p).2.2)), (4, .int ((lpX3_handDown_159_r u of da v p).2.1)), (3, .int p), (0, .ref o), (1, .int of), (2, .int da)] := hl
                refine lv_aload_n hx hb dX3_handDown_266 rfl (lv_at hl 3 rfl) ?_
                refine mw_get (v := .ref (mAd o 50)) hx hb hts hown hK hM 50 (by decide) q1316 rfl rfl dX3_handDown_267 ?_
                refine lv_iload_n hx hb dX3_handDown_270 rfl (lv_at hl 2 rfl) ?_
                refine lv_lconst (v := 0) hx hb dX3_handDown_271 (by decide) ?_
                refine mw_lst (j := p.toNatClampNeg) hx hb hK hM hS 50 (by decide) rfl rfl (hN8 v p hI_120 c_125) rfl dX3_handDown_272 (fun H locs hM hS => ?_)
                refine lv_aload_n hx hb dX3_handDown_273 rfl (lv_at hl 3 rfl) ?_
                refine mw_get (v := .ref (mAd o 51)) hx hb hts hown hK hM 51 (by decide) q1317 rfl rfl dX3_handDown_274 ?_
                refine lv_iload_n hx hb dX3_handDown_277 rfl (lv_at hl 2 rfl) ?_
                refine lv_lconst (v := 1) hx hb dX3_handDown_278 (by decide) ?_
                refine mw_lst (j := p.toNatClampNeg) hx hb hK hM hS 51 (by decide) rfl rfl (hN8 v p hI_120 c_125) rfl dX3_handDown_279 (fun H locs hM hS => ?_)
                refine lv_iinc (v := p + 1) (lv' := [(3, .int (p + 1)), (5, .int ((lpX3_handDown_209_r u of da v p).2.2)), (4, .int ((lpX3_handDown_159_r u of da v p).2.1)), (0, .ref o), (1, .int of), (2, .int da)]) hx hb dX3_handDown_280 hl (k := 2) rfl (rfl) (by decide) rfl (fun ls hl => ?_)
                refine lv_goto (tgt := 120) hx hb dX3_handDown_283 (by decide) ?_
                have hs : lpX3_handDown_120 u of da (v, p) = (0, (sl (sl (lpX3_handDown_209_r u of da v p).2.1 50 p.toNatClampNeg 0) 51 p.toNatClampNeg 1), p + 1) := by rw [lpX3_handDown_120, if_neg c_125, if_neg c_136, if_pos c_145]
                rw [hs] at kb
                exact kb rfl _ _ _ hM hS (lv_sub hl [0, 3, 4, 5] rfl)
          · skip
            refine lv_goto (tgt := 280) hx hb dX3_handDown_148 (by decide) ?_
            refine lv_iinc (v := p + 1) (lv' := [(3, .int (p + 1)), (0, .ref o), (1, .int of), (2, .int da)]) hx hb dX3_handDown_280 hl (k := 0) rfl (rfl) (by decide) rfl (fun ls hl => ?_)
            refine lv_goto (tgt := 120) hx hb dX3_handDown_283 (by decide) ?_
            have hs : lpX3_handDown_120 u of da (v, p) = (0, v, p + 1) := by rw [lpX3_handDown_120, if_neg c_125, if_neg c_136, if_neg (nt_of c_145)]
            rw [hs] at kb
            exact kb rfl _ _ _ hM hS (lv_sub hl [0, 1, 2, 3] rfl)
    · skip
      intro H locs ls hM hS hl
      have hM : MW D cA o (lpX3_handDown_120_r u of da).2.1 H := hM
      have hl : lv_has ls 6 [(3, .int ((lpX3_handDown_120_r u of da).2.2)), (0, .ref o), (1, .int of), (2, .int da)] := hl
      have hF : fX3_handDown u of da = (lpX3_handDown_120_r u of da).2.1 := by rw [fX3_handDown]
      exact mw_vret hx hb hr hlk hM hS (by rw [hF]) dX3_handDown_286

def fX3_share (u : St) (of : Int32) (pe : Int32) (da : Int32) (pt : Int32) : Int64 × St :=
  if (fX3_isPerson u of) = true then (if (fX3_isPerson u pe) = true then (if (fX3_isDay da) = true then (if pt < 0 then ((-1), u) else (if pt ≤ 1 then (if pt = 0 then ((fX3_handDown u of da).2.2 50 pe.toNatClampNeg, (fX3_handDown u of da)) else ((fX3_handDown u of da).2.2 51 pe.toNatClampNeg, (fX3_handDown u of da))) else ((-1), u))) else ((-1), u)) else ((-1), u)) else ((-1), u)
def okX3_share (u : St) (of : Int32) (pe : Int32) (da : Int32) (pt : Int32) : Prop :=
  ((fX3_isPerson u of) = true → (fX3_isPerson u pe) = true → (fX3_isDay da) = true → ¬ (pt < 0) → pt ≤ 1 → okX3_handDown u of da) ∧ ((fX3_isPerson u of) = true → (fX3_isPerson u pe) = true → (fX3_isDay da) = true → ¬ (pt < 0) → pt ≤ 1 → ¬ (pt = 0) → vp_in pe 24) ∧ ((fX3_isPerson u of) = true → (fX3_isPerson u pe) = true → (fX3_isDay da) = true → ¬ (pt < 0) → pt ≤ 1 → pt = 0 → vp_in pe 24)
set_option maxHeartbeats 4000000 in
theorem metX3_share (l : Launch) (D : va_G) (cA : Nat → ClassId) (o : Nat) (u : St) (of : Int32) (pe : Int32) (da : Int32) (pt : Int32) (hok : okX3_share u of pe da pt) : MetM l yX3_share cX3_share 5 (some .long) 3 D cA o u [.ref o, .int of, .int pe, .int da, .int pt] (some (.long (fX3_share u of pe da pt).1)) (fX3_share u of pe da pt).2 := by
  obtain ⟨hN0, hN1, hN2⟩ := hok
  refine mM_start RX3 (by decide) rfl (Nat.le_of_ble_eq_true rfl) ?_
  intro pg ev s0 mi bl me co hx hb hml hown hts hr hlk hK hM ls hl
  have hl : lv_has ls 5 [(0, .ref o), (1, .int of), (2, .int pe), (3, .int da), (4, .int pt)] := hl
  have hS : va_S (mA o) s0.heap s0.heap [] := va_S.rf
  refine lv_aload_n hx hb dX3_share_0 rfl (lv_at hl 0 rfl) ?_
  refine lv_iload_n hx hb dX3_share_1 rfl (lv_at hl 1 rfl) ?_
  refine ro_call (mw_run (n := 1) (As := [.int of]) (rest := []) hx hb hml hown hts (metX3_isPerson l D cA o u of) q1443 q1445 qs31 q1446 (by decide +kernel) (by decide) (by decide) rfl hK hM hl.1 (Nat.le_of_ble_eq_true rfl) rfl dX3_share_2 ⟨Nat.le_refl _, Nat.le_refl _⟩) ?_
  refine lv_B_eq (tgt := 34) hx hb dX3_share_5 (by decide) (fun c_5 => ?_) (fun c_5 => ?_)
  · skip
    refine lv_ldc2 (v := (-1)) hx hb hown (hts _ q1474) dX3_share_34 ?_
    have hF : fX3_share u of pe da pt = ((-1), u) := by rw [fX3_share, if_neg (nt_of c_5)]
    exact mw_lret hx hb hr hlk hM hS (by rw [hF]) (by rw [hF]) dX3_share_37
  · skip
    refine lv_aload_n hx hb dX3_share_8 rfl (lv_at hl 0 rfl) ?_
    refine lv_iload_n hx hb dX3_share_9 rfl (lv_at hl 2 rfl) ?_
    refine ro_call (mw_run (n := 1) (As := [.int pe]) (rest := []) hx hb hml hown hts (metX3_isPerson l D cA o u pe) q1443 q1445 qs31 q1446 (by decide +kernel) (by decide) (by decide) rfl hK hM hl.1 (Nat.le_of_ble_eq_true rfl) rfl dX3_share_10 ⟨Nat.le_refl _, Nat.le_refl _⟩) ?_
    refine lv_B_eq (tgt := 34) hx hb dX3_share_13 (by decide) (fun c_13 => ?_) (fun c_13 => ?_)
    · skip
      refine lv_ldc2 (v := (-1)) hx hb hown (hts _ q1474) dX3_share_34 ?_
      have hF : fX3_share u of pe da pt = ((-1), u) := by rw [fX3_share, if_pos c_5, if_neg (nt_of c_13)]
      exact mw_lret hx hb hr hlk hM hS (by rw [hF]) (by rw [hF]) dX3_share_37
    · skip
      refine lv_iload_n hx hb dX3_share_16 rfl (lv_at hl 3 rfl) ?_
      refine ro_call (st_run (n := 1) (As := [.int da]) (rest := []) hx hb hml hown hts (metX3_isDay l da) q1447 q1448 q71 q1449 (by decide +kernel) (by decide) (by decide) rfl hl.1 (Nat.le_of_ble_eq_true rfl) rfl dX3_share_17 ⟨Nat.le_refl _, Nat.le_refl _⟩) ?_
      refine lv_B_eq (tgt := 34) hx hb dX3_share_20 (by decide) (fun c_20 => ?_) (fun c_20 => ?_)
      · skip
        refine lv_ldc2 (v := (-1)) hx hb hown (hts _ q1474) dX3_share_34 ?_
        have hF : fX3_share u of pe da pt = ((-1), u) := by rw [fX3_share, if_pos c_5, if_pos c_13, if_neg (nt_of c_20)]
        exact mw_lret hx hb hr hlk hM hS (by rw [hF]) (by rw [hF]) dX3_share_37
      · skip
        refine lv_iload hx hb dX3_share_23 (lv_at hl 4 rfl) ?_
        refine lv_if_lt (tgt := 34) hx hb dX3_share_25 (by decide) (fun c_25 => ?_) (fun c_25 => ?_)
        · skip
          refine lv_ldc2 (v := (-1)) hx hb hown (hts _ q1474) dX3_share_34 ?_
          have hF : fX3_share u of pe da pt = ((-1), u) := by rw [fX3_share, if_pos c_5, if_pos c_13, if_pos c_20, if_pos c_25]
          exact mw_lret hx hb hr hlk hM hS (by rw [hF]) (by rw [hF]) dX3_share_37
        · skip
          refine lv_iload hx hb dX3_share_28 (lv_at hl 4 rfl) ?_
          refine lv_iconst (v := 1) hx hb dX3_share_30 (by decide) ?_
          refine lv_icmp_le (tgt := 38) hx hb dX3_share_31 (by decide) (fun c_31 => ?_) (fun c_31 => ?_)
          · skip
            refine lv_aload_n hx hb dX3_share_38 rfl (lv_at hl 0 rfl) ?_
            refine lv_iload_n hx hb dX3_share_39 rfl (lv_at hl 1 rfl) ?_
            refine lv_iload_n hx hb dX3_share_40 rfl (lv_at hl 3 rfl) ?_
            refine mw_call (mw_run (n := 2) (As := [.int of, .int da]) (rest := []) hx hb hml hown hts (metX3_handDown l D cA o u of da (hN0 c_5 c_13 c_20 c_25 c_31)) q1654 q1656 qs58 q1657 (by decide +kernel) (by decide) (by decide) rfl hK hM hl.1 (Nat.le_of_ble_eq_true rfl) rfl dX3_share_41 ⟨Nat.le_refl _, Nat.le_refl _⟩) hS (fun _ h => h) (fun H locs hM _ _ hS => ?_)
            refine lv_iload hx hb dX3_share_44 (lv_at hl 4 rfl) ?_
            refine lv_if_ne (tgt := 58) hx hb dX3_share_46 (by decide) (fun c_46 => ?_) (fun c_46 => ?_)
            · skip
              refine lv_aload_n hx hb dX3_share_58 rfl (lv_at hl 0 rfl) ?_
              refine mw_get (v := .ref (mAd o 51)) hx hb hts hown hK hM 51 (by decide) q1317 rfl rfl dX3_share_59 ?_
              refine lv_iload_n hx hb dX3_share_62 rfl (lv_at hl 2 rfl) ?_
              refine mw_lld (v := (fX3_handDown u of da).2.2 51 pe.toNatClampNeg) (j := pe.toNatClampNeg) hx hb hK hM 51 (by decide) rfl rfl (hN1 c_5 c_13 c_20 c_25 c_31 c_46) rfl rfl dX3_share_63 ?_
              have hF : fX3_share u of pe da pt = ((fX3_handDown u of da).2.2 51 pe.toNatClampNeg, (fX3_handDown u of da)) := by rw [fX3_share, if_pos c_5, if_pos c_13, if_pos c_20, if_neg c_25, if_pos c_31, if_neg c_46]
              exact mw_lret hx hb hr hlk hM hS (by rw [hF]) (by rw [hF]) dX3_share_64
            · skip
              refine lv_aload_n hx hb dX3_share_49 rfl (lv_at hl 0 rfl) ?_
              refine mw_get (v := .ref (mAd o 50)) hx hb hts hown hK hM 50 (by decide) q1316 rfl rfl dX3_share_50 ?_
              refine lv_iload_n hx hb dX3_share_53 rfl (lv_at hl 2 rfl) ?_
              refine mw_lld (v := (fX3_handDown u of da).2.2 50 pe.toNatClampNeg) (j := pe.toNatClampNeg) hx hb hK hM 50 (by decide) rfl rfl (hN2 c_5 c_13 c_20 c_25 c_31 c_46) rfl rfl dX3_share_54 ?_
              refine lv_goto (tgt := 64) hx hb dX3_share_55 (by decide) ?_
              have hF : fX3_share u of pe da pt = ((fX3_handDown u of da).2.2 50 pe.toNatClampNeg, (fX3_handDown u of da)) := by rw [fX3_share, if_pos c_5, if_pos c_13, if_pos c_20, if_neg c_25, if_pos c_31, if_pos c_46]
              exact mw_lret hx hb hr hlk hM hS (by rw [hF]) (by rw [hF]) dX3_share_64
          · skip
            refine lv_ldc2 (v := (-1)) hx hb hown (hts _ q1474) dX3_share_34 ?_
            have hF : fX3_share u of pe da pt = ((-1), u) := by rw [fX3_share, if_pos c_5, if_pos c_13, if_pos c_20, if_neg c_25, if_neg c_31]
            exact mw_lret hx hb hr hlk hM hS (by rw [hF]) (by rw [hF]) dX3_share_37

