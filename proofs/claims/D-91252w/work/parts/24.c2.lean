/-! THE COMPONENT: feed, by tools/gen_c2.py -/
set_option maxRecDepth 100000

def fX0_fd (a b c d e : Int32) : Nat → Int32 := upd (upd (upd (upd (upd (fun _ => 0) 0 a) 1 b) 2 c) 3 d) 4 e
def lpX0_feed_72 (u : St) (a : Int32) (b : Int32) (c : Int32) (d : Int32) (e : Int32) (v : St) (i : Int32) : St × Int32 → Nat × St × Int32
  | (w, k) => if k < 0 then (1, w, k) else (0, (si (sa w 0 ((w.1 1).toNatClampNeg) ((((fX0_fd a b c d e i.toNatClampNeg) >>> (k &&& 31)).toInt8.toInt32).toInt8.toInt32)) 1 ((w.1 1) + 1)), k + (-8))
def lpX0_feed_72_r (u : St) (a : Int32) (b : Int32) (c : Int32) (d : Int32) (e : Int32) (v : St) (i : Int32) : Nat × St × Int32 :=
  wh (lpX0_feed_72 u a b c d e v i) 5 (v, 24)
def lpX0_feed_54 (u : St) (a : Int32) (b : Int32) (c : Int32) (d : Int32) (e : Int32) : St × Int32 → Nat × St × Int32
  | (v, i) => if 5 ≤ i then (1, v, i) else (0, (lpX0_feed_72_r u a b c d e v i).2.1, i + 1)
def lpX0_feed_54_r (u : St) (a : Int32) (b : Int32) (c : Int32) (d : Int32) (e : Int32) : Nat × St × Int32 :=
  wh (lpX0_feed_54 u a b c d e) 6 (u, 0)
def fX0_feed (u : St) (a : Int32) (b : Int32) (c : Int32) (d : Int32) (e : Int32) : Int32 × St :=
  if ((u.1 1) + 20) ≤ 600 then ((lpX0_feed_54_r u a b c d e).2.1.1 1, (lpX0_feed_54_r u a b c d e).2.1) else ((-1), u)
def okX0_feed (n : Nat) (u : St) (a : Int32) (b : Int32) (c : Int32) (d : Int32) (e : Int32) : Prop :=
  ∃ (I_54 : (St × Int32) → Prop) (I_72 : St → Int32 → (St × Int32) → Prop), (((u.1 1) + 20) ≤ 600 → LOK (lpX0_feed_54 u a b c d e) 6 (u, 0) I_54) ∧ (((u.1 1) + 20) ≤ 600 → ∀ (v : St) (i : Int32), I_54 (v, i) → ¬ (5 ≤ i) → vp_in i 5) ∧ (((u.1 1) + 20) ≤ 600 → ∀ (v : St) (i : Int32), I_54 (v, i) → ¬ (5 ≤ i) → LOK (lpX0_feed_72 u a b c d e v i) 5 (v, 24) (I_72 v i)) ∧ (((u.1 1) + 20) ≤ 600 → ∀ (v : St) (i : Int32), I_54 (v, i) → ¬ (5 ≤ i) → ∀ (w : St) (k : Int32), I_72 v i (w, k) → ¬ (k < 0) → vp_in (w.1 1) 600)
set_option maxHeartbeats 4000000 in
theorem metX0_feed (l : Launch) (D : va_G) (cA : Nat → ClassId) (o : Nat) (g : Gh) (u : St) (a : Int32) (b : Int32) (c : Int32) (d : Int32) (e : Int32) (hok : okX0_feed g.1 u a b c d e) : Met l yX0_feed (ws_ yX0_feed cX0_feed 12 (some .int)) (rmC 0 1 5) (gP D cA (CW D cA o g u) [.ref o, .int a, .int b, .int c, .int d, .int e]) (cQ D cA o g (some (.int (fX0_feed u a b c d e).1)) (fX0_feed u a b c d e).2) 1 5 (cF o g) := by
  obtain ⟨I_54, I_72, hN0, hN1, hN2, hN3⟩ := hok
  refine gM_start RX0 (by decide) rfl (Nat.le_of_ble_eq_true rfl) ?_
  intro pg ev s0 mi bl me co hx hb hml hown hts hr hlk hnm hK hM ls hl
  have hl : lv_has ls 12 [(0, .ref o), (1, .int a), (2, .int b), (3, .int c), (4, .int d), (5, .int e)] := hl
  have hS : va_S (cF o g) s0.heap s0.heap [] := va_S.rf
  refine lv_aload_n hx hb dX0_feed_0 rfl (lv_at hl 0 rfl) ?_
  refine cw_get (v := .int (u.1 1)) hx hb hts hown hK hM 1 (by decide) q189 rfl rfl dX0_feed_1 ?_
  refine lv_bipush (v := 20) hx hb dX0_feed_4 (by decide) ?_
  refine lv_iadd hx hb dX0_feed_6 ?_
  refine lv_sipush (v := 600) hx hb dX0_feed_7 (by decide) ?_
  refine lv_icmp_le (tgt := 15) hx hb dX0_feed_10 (by decide) (fun c_10 => ?_) (fun c_10 => ?_)
  · skip
    refine lv_iconst (v := 5) hx hb dX0_feed_15 (by decide) ?_
    refine cx_new (n := 5) hx hb hts q170 hK hM hS (by decide) (by decide) (by decide) (Nat.le_of_ble_eq_true rfl) (Nat.le_of_ble_eq_true rfl) dX0_feed_16 (fun tt H hM hS => ?_)
    refine lv_dup hx hb dX0_feed_18 rfl ?_
    refine lv_iconst (v := 0) hx hb dX0_feed_19 (by decide) ?_
    refine lv_iload_n hx hb dX0_feed_20 rfl (lv_at hl 1 rfl) ?_
    refine cx_tst (j := 0) hx hb hK hM hS (by unfold vp_in; decide) (by decide) dX0_feed_21 (fun H hM hS => ?_)
    refine lv_dup hx hb dX0_feed_22 rfl ?_
    refine lv_iconst (v := 1) hx hb dX0_feed_23 (by decide) ?_
    refine lv_iload_n hx hb dX0_feed_24 rfl (lv_at hl 2 rfl) ?_
    refine cx_tst (j := 1) hx hb hK hM hS (by unfold vp_in; decide) (by decide) dX0_feed_25 (fun H hM hS => ?_)
    refine lv_dup hx hb dX0_feed_26 rfl ?_
    refine lv_iconst (v := 2) hx hb dX0_feed_27 (by decide) ?_
    refine lv_iload_n hx hb dX0_feed_28 rfl (lv_at hl 3 rfl) ?_
    refine cx_tst (j := 2) hx hb hK hM hS (by unfold vp_in; decide) (by decide) dX0_feed_29 (fun H hM hS => ?_)
    refine lv_dup hx hb dX0_feed_30 rfl ?_
    refine lv_iconst (v := 3) hx hb dX0_feed_31 (by decide) ?_
    refine lv_iload hx hb dX0_feed_32 (lv_at hl 4 rfl) ?_
    refine cx_tst (j := 3) hx hb hK hM hS (by unfold vp_in; decide) (by decide) dX0_feed_34 (fun H hM hS => ?_)
    refine lv_dup hx hb dX0_feed_35 rfl ?_
    refine lv_iconst (v := 4) hx hb dX0_feed_36 (by decide) ?_
    refine lv_iload hx hb dX0_feed_37 (lv_at hl 5 rfl) ?_
    refine cx_tst (j := 4) hx hb hK hM hS (by unfold vp_in; decide) (by decide) dX0_feed_39 (fun H hM hS => ?_)
    refine lv_astore (lv' := [(6, .ref tt), (0, .ref o), (1, .int a), (2, .int b), (3, .int c), (4, .int d), (5, .int e)]) hx hb dX0_feed_40 hl (by decide) rfl (fun ls hl => ?_)
    refine lv_aload hx hb dX0_feed_42 (lv_at hl 0 rfl) ?_
    refine lv_astore (lv' := [(7, .ref tt), (6, .ref tt), (0, .ref o), (1, .int a), (2, .int b), (3, .int c), (4, .int d), (5, .int e)]) hx hb dX0_feed_44 hl (by decide) rfl (fun ls hl => ?_)
    refine lv_aload hx hb dX0_feed_46 (lv_at hl 0 rfl) ?_
    refine cx_tlen (v := 5) hx hb hK hM (by decide) dX0_feed_48 ?_
    refine lv_istore (lv' := [(8, .int 5), (7, .ref tt), (6, .ref tt), (0, .ref o), (1, .int a), (2, .int b), (3, .int c), (4, .int d), (5, .int e)]) hx hb dX0_feed_49 hl (by decide) rfl (fun ls hl => ?_)
    refine lv_iconst (v := 0) hx hb dX0_feed_51 (by decide) ?_
    refine lv_istore (lv' := [(9, .int 0), (8, .int 5), (7, .ref tt), (6, .ref tt), (0, .ref o), (1, .int a), (2, .int b), (3, .int c), (4, .int d), (5, .int e)]) hx hb dX0_feed_52 hl (by decide) rfl (fun ls hl => ?_)
    refine cx_loop1 (rest := []) (nL := 12) (r := (lpX0_feed_54_r u a b c d e)) (lpX0_feed_54 u a b c d e) I_54 (fun q => q.1) (fun q => [(9, .int q.2), (8, .int 5), (7, .ref tt), (6, .ref tt), (0, .ref o), (1, .int a), (2, .int b), (3, .int c), (4, .int d), (5, .int e)]) 54 114 6 (u, 0) (hN0 c_10).2.1 (hN0 c_10).1 (hN0 c_10).2.2 rfl ?_ hM hS (lv_sub hl [0, 1, 2, 3, 4, 5, 6, 7, 8, 9] rfl) ?_
    · skip
      intro ⟨v, i⟩ hI_54 H locs ls hM hS hl kb k1
      have hM : CX D cA o g s0.heap tt 5 (fX0_fd a b c d e) v H := hM
      have hl : lv_has ls 12 [(9, .int i), (8, .int 5), (7, .ref tt), (6, .ref tt), (0, .ref o), (1, .int a), (2, .int b), (3, .int c), (4, .int d), (5, .int e)] := hl
      refine lv_iload hx hb dX0_feed_54 (lv_at hl 0 rfl) ?_
      refine lv_iload hx hb dX0_feed_56 (lv_at hl 1 rfl) ?_
      refine lv_icmp_ge (tgt := 114) hx hb dX0_feed_58 (by decide) (fun c_58 => ?_) (fun c_58 => ?_)
      · skip
        have hs : lpX0_feed_54 u a b c d e (v, i) = (1, v, i) := by rw [lpX0_feed_54, if_pos c_58]
        rw [hs] at k1
        exact k1 (show ¬ (1 : Nat) = 0 by decide) _ _ _ hM hS (lv_sub hl [0, 1, 2, 3, 4, 5, 6, 7, 8, 9] rfl)
      · skip
        refine lv_aload hx hb dX0_feed_61 (lv_at hl 2 rfl) ?_
        refine lv_iload hx hb dX0_feed_63 (lv_at hl 0 rfl) ?_
        refine cx_tld (j := i.toNatClampNeg) hx hb hK hM (hN1 c_10 v i hI_54 c_58) rfl dX0_feed_65 ?_
        refine lv_istore (lv' := [(10, .int (fX0_fd a b c d e i.toNatClampNeg)), (9, .int i), (8, .int 5), (7, .ref tt), (6, .ref tt), (0, .ref o), (1, .int a), (2, .int b), (3, .int c), (4, .int d), (5, .int e)]) hx hb dX0_feed_66 hl (by decide) rfl (fun ls hl => ?_)
        refine lv_bipush (v := 24) hx hb dX0_feed_68 (by decide) ?_
        refine lv_istore (lv' := [(11, .int 24), (10, .int (fX0_fd a b c d e i.toNatClampNeg)), (9, .int i), (8, .int 5), (7, .ref tt), (6, .ref tt), (0, .ref o), (1, .int a), (2, .int b), (3, .int c), (4, .int d), (5, .int e)]) hx hb dX0_feed_70 hl (by decide) rfl (fun ls hl => ?_)
        refine cx_loop1 (rest := []) (nL := 12) (r := (lpX0_feed_72_r u a b c d e v i)) (lpX0_feed_72 u a b c d e v i) (I_72 v i) (fun q => q.1) (fun q => [(11, .int q.2), (10, .int (fX0_fd a b c d e i.toNatClampNeg)), (9, .int i), (8, .int 5), (7, .ref tt), (6, .ref tt), (0, .ref o), (1, .int a), (2, .int b), (3, .int c), (4, .int d), (5, .int e)]) 72 108 5 (v, 24) (hN2 c_10 v i hI_54 c_58).2.1 (hN2 c_10 v i hI_54 c_58).1 (hN2 c_10 v i hI_54 c_58).2.2 rfl ?_ hM hS (lv_sub hl [0, 1, 2, 3, 4, 5, 6, 7, 8, 9, 10, 11] rfl) ?_
        · skip
          intro ⟨w, k⟩ hI_72 H locs ls hM hS hl kb k1
          have hM : CX D cA o g s0.heap tt 5 (fX0_fd a b c d e) w H := hM
          have hl : lv_has ls 12 [(11, .int k), (10, .int (fX0_fd a b c d e i.toNatClampNeg)), (9, .int i), (8, .int 5), (7, .ref tt), (6, .ref tt), (0, .ref o), (1, .int a), (2, .int b), (3, .int c), (4, .int d), (5, .int e)] := hl
          refine lv_iload hx hb dX0_feed_72 (lv_at hl 0 rfl) ?_
          refine lv_if_lt (tgt := 108) hx hb dX0_feed_74 (by decide) (fun c_74 => ?_) (fun c_74 => ?_)
          · skip
            have hs : lpX0_feed_72 u a b c d e v i (w, k) = (1, w, k) := by rw [lpX0_feed_72, if_pos c_74]
            rw [hs] at k1
            exact k1 (show ¬ (1 : Nat) = 0 by decide) _ _ _ hM hS (lv_sub hl [0, 1, 2, 3, 4, 5, 6, 7, 8, 9, 10, 11] rfl)
          · skip
            refine lv_aload_n hx hb dX0_feed_77 rfl (lv_at hl 6 rfl) ?_
            refine cx_get (v := .ref (cAd o 0)) hx hb hts hown hK hM 0 (by decide) q186 rfl rfl dX0_feed_78 ?_
            refine lv_aload_n hx hb dX0_feed_81 rfl (lv_at hl 6 rfl) ?_
            refine cx_get (v := .int (w.1 1)) hx hb hts hown hK hM 1 (by decide) q189 rfl rfl dX0_feed_82 ?_
            refine lv_iload hx hb dX0_feed_85 (lv_at hl 1 rfl) ?_
            refine lv_iload hx hb dX0_feed_87 (lv_at hl 0 rfl) ?_
            refine lv_ishr hx hb dX0_feed_89 ?_
            refine lv_i2b hx hb dX0_feed_90 rfl ?_
            refine cx_bst (j := (w.1 1).toNatClampNeg) hx hb hK hM hS 0 (by decide) rfl rfl (hN3 c_10 v i hI_54 c_58 w k hI_72 c_74) rfl dX0_feed_91 (fun H locs hM hS => ?_)
            refine lv_aload_n hx hb dX0_feed_92 rfl (lv_at hl 6 rfl) ?_
            refine lv_dup hx hb dX0_feed_93 rfl ?_
            refine cx_get (v := .int (w.1 1)) hx hb hts hown hK hM 1 (by decide) q189 rfl rfl dX0_feed_94 ?_
            refine lv_iconst (v := 1) hx hb dX0_feed_97 (by decide) ?_
            refine lv_iadd hx hb dX0_feed_98 ?_
            refine cx_puti hx hb hts hown hK hM hS 1 (by decide) q189 rfl rfl rfl rfl dX0_feed_99 (fun H locs hM hS => ?_)
            refine lv_iinc (v := k + (-8)) (lv' := [(11, .int (k + (-8))), (10, .int (fX0_fd a b c d e i.toNatClampNeg)), (9, .int i), (8, .int 5), (7, .ref tt), (6, .ref tt), (0, .ref o), (1, .int a), (2, .int b), (3, .int c), (4, .int d), (5, .int e)]) hx hb dX0_feed_102 hl (k := 0) rfl (rfl) (by decide) rfl (fun ls hl => ?_)
            refine lv_goto (tgt := 72) hx hb dX0_feed_105 (by decide) ?_
            have hs : lpX0_feed_72 u a b c d e v i (w, k) = (0, (si (sa w 0 ((w.1 1).toNatClampNeg) ((((fX0_fd a b c d e i.toNatClampNeg) >>> (k &&& 31)).toInt8.toInt32).toInt8.toInt32)) 1 ((w.1 1) + 1)), k + (-8)) := by rw [lpX0_feed_72, if_neg c_74]
            rw [hs] at kb
            exact kb rfl _ _ _ hM hS (lv_sub hl [0, 1, 2, 3, 4, 5, 6, 7, 8, 9, 10, 11] rfl)
        · skip
          intro H locs ls hM hS hl
          have hM : CX D cA o g s0.heap tt 5 (fX0_fd a b c d e) (lpX0_feed_72_r u a b c d e v i).2.1 H := hM
          have hl : lv_has ls 12 [(11, .int ((lpX0_feed_72_r u a b c d e v i).2.2)), (10, .int (fX0_fd a b c d e i.toNatClampNeg)), (9, .int i), (8, .int 5), (7, .ref tt), (6, .ref tt), (0, .ref o), (1, .int a), (2, .int b), (3, .int c), (4, .int d), (5, .int e)] := hl
          refine lv_iinc (v := i + 1) (lv' := [(9, .int (i + 1)), (11, .int ((lpX0_feed_72_r u a b c d e v i).2.2)), (10, .int (fX0_fd a b c d e i.toNatClampNeg)), (8, .int 5), (7, .ref tt), (6, .ref tt), (0, .ref o), (1, .int a), (2, .int b), (3, .int c), (4, .int d), (5, .int e)]) hx hb dX0_feed_108 hl (k := 2) rfl (rfl) (by decide) rfl (fun ls hl => ?_)
          refine lv_goto (tgt := 54) hx hb dX0_feed_111 (by decide) ?_
          obtain ⟨xg0, hxg0⟩ : ∃ y : St, y = (lpX0_feed_72_r u a b c d e v i).2.1 := ⟨_, rfl⟩
          rw [← hxg0] at hM
          have hs : lpX0_feed_54 u a b c d e (v, i) = (0, xg0, i + 1) := by rw [lpX0_feed_54, if_neg c_58, hxg0]
          rw [hs] at kb
          exact kb rfl _ _ _ hM hS (lv_sub hl [0, 3, 4, 5, 6, 7, 8, 9, 10, 11] rfl)
    · skip
      intro H locs ls hM hS hl
      have hM : CX D cA o g s0.heap tt 5 (fX0_fd a b c d e) (lpX0_feed_54_r u a b c d e).2.1 H := hM
      have hl : lv_has ls 12 [(9, .int ((lpX0_feed_54_r u a b c d e).2.2)), (8, .int 5), (7, .ref tt), (6, .ref tt), (0, .ref o), (1, .int a), (2, .int b), (3, .int c), (4, .int d), (5, .int e)] := hl
      refine lv_aload_n hx hb dX0_feed_114 rfl (lv_at hl 4 rfl) ?_
      refine cx_get (v := .int ((lpX0_feed_54_r u a b c d e).2.1.1 1)) hx hb hts hown hK hM 1 (by decide) q189 rfl rfl dX0_feed_115 ?_
      have hF : fX0_feed u a b c d e = ((lpX0_feed_54_r u a b c d e).2.1.1 1, (lpX0_feed_54_r u a b c d e).2.1) := by rw [fX0_feed, if_pos c_10]
      exact cx_iret hx hb hr hlk hM.1 hS (Nat.le_refl _) (Nat.le_refl _) (by rw [hF]) (by rw [hF]) dX0_feed_118
  · skip
    refine lv_iconst (v := (-1)) hx hb dX0_feed_13 (by decide) ?_
    have hF : fX0_feed u a b c d e = ((-1), u) := by rw [fX0_feed, if_neg c_10]
    exact cx_iret hx hb hr hlk hM hS (Nat.zero_le _) (Nat.zero_le _) (by rw [hF]) (by rw [hF]) dX0_feed_14
