/-! THE MODEL: swaps, by tools/gen_m3.py (second half) -/
set_option maxRecDepth 100000

def lpX3_solve_38 (u : St) (v : St) (h : Int32) (w : St) (z : Int32) : Int32 × Int32 → Nat × Int32 × Int32
  | (b, g) => if (w.1 7) ≤ g then (1, b, g) else (if (w.1 7) ≤ h then (1, b, g) else (if ((z >>> (g &&& 31)) &&& 1) = 1 then (0, b, g + 1) else (if (fX3_mayGet w h g) = true then (if 0 ≤ (w.2.1 54 (((256 * (h + 1)) + (z ||| ((1 : Int32) <<< (g &&& 31)))).toNatClampNeg)) then (if ((w.2.1 53 (((8 * h) + g).toNatClampNeg)) + (w.2.1 54 (((256 * (h + 1)) + (z ||| ((1 : Int32) <<< (g &&& 31)))).toNatClampNeg))) ≤ b then (0, b, g + 1) else (0, (w.2.1 53 (((8 * h) + g).toNatClampNeg)) + (w.2.1 54 (((256 * (h + 1)) + (z ||| ((1 : Int32) <<< (g &&& 31)))).toNatClampNeg)), g + 1)) else (0, b, g + 1)) else (0, b, g + 1))))
def lpX3_solve_38_r (u : St) (v : St) (h : Int32) (w : St) (z : Int32) : Nat × Int32 × Int32 :=
  wh (lpX3_solve_38 u v h w z) 9 ((if h = (w.1 7) then 0 else (-1)), 0)
def lpX3_solve_11 (u : St) (v : St) (h : Int32) : St × Int32 → Nat × St × Int32
  | (w, z) => if ((1 : Int32) <<< ((w.1 7) &&& 31)) ≤ z then (1, w, z) else (0, (sa w 54 (((256 * h) + z).toNatClampNeg) ((lpX3_solve_38_r u v h w z).2.1)), z + 1)
def lpX3_solve_11_r (u : St) (v : St) (h : Int32) : Nat × St × Int32 :=
  wh (lpX3_solve_11 u v h) 257 (v, 0)
def lpX3_solve_5 (u : St) : St × Int32 → Nat × St × Int32
  | (v, h) => if h < 0 then (1, v, h) else (0, (lpX3_solve_11_r u v h).2.1, h + (-1))
def lpX3_solve_5_r (u : St) : Nat × St × Int32 :=
  wh (lpX3_solve_5 u) 10 (u, u.1 7)
def fX3_solve (u : St)  : Int32 × St :=
  ((lpX3_solve_5_r u).2.1.2.1 54 0, (lpX3_solve_5_r u).2.1)
def okX3_solve (u : St)  : Prop :=
  ∃ (I_5 : (St × Int32) → Prop) (I_11 : St → Int32 → (St × Int32) → Prop) (I_38 : St → Int32 → St → Int32 → (Int32 × Int32) → Prop), (LOK (lpX3_solve_5 u) 10 (u, u.1 7) I_5) ∧ (∀ (v : St) (h : Int32), I_5 (v, h) → ¬ (h < 0) → LOK (lpX3_solve_11 u v h) 257 (v, 0) (I_11 v h)) ∧ (∀ (v : St) (h : Int32), I_5 (v, h) → ¬ (h < 0) → ∀ (w : St) (z : Int32), I_11 v h (w, z) → ¬ (((1 : Int32) <<< ((w.1 7) &&& 31)) ≤ z) → LOK (lpX3_solve_38 u v h w z) 9 ((if h = (w.1 7) then 0 else (-1)), 0) (I_38 v h w z)) ∧ (∀ (v : St) (h : Int32), I_5 (v, h) → ¬ (h < 0) → ∀ (w : St) (z : Int32), I_11 v h (w, z) → ¬ (((1 : Int32) <<< ((w.1 7) &&& 31)) ≤ z) → ∀ (b : Int32) (g : Int32), I_38 v h w z (b, g) → ¬ ((w.1 7) ≤ g) → ¬ ((w.1 7) ≤ h) → ¬ (((z >>> (g &&& 31)) &&& 1) = 1) → okX3_mayGet w h g) ∧ (∀ (v : St) (h : Int32), I_5 (v, h) → ¬ (h < 0) → ∀ (w : St) (z : Int32), I_11 v h (w, z) → ¬ (((1 : Int32) <<< ((w.1 7) &&& 31)) ≤ z) → ∀ (b : Int32) (g : Int32), I_38 v h w z (b, g) → ¬ ((w.1 7) ≤ g) → ¬ ((w.1 7) ≤ h) → ¬ (((z >>> (g &&& 31)) &&& 1) = 1) → (fX3_mayGet w h g) = true → vp_in ((256 * (h + 1)) + (z ||| ((1 : Int32) <<< (g &&& 31)))) 2304) ∧ (∀ (v : St) (h : Int32), I_5 (v, h) → ¬ (h < 0) → ∀ (w : St) (z : Int32), I_11 v h (w, z) → ¬ (((1 : Int32) <<< ((w.1 7) &&& 31)) ≤ z) → ∀ (b : Int32) (g : Int32), I_38 v h w z (b, g) → ¬ ((w.1 7) ≤ g) → ¬ ((w.1 7) ≤ h) → ¬ (((z >>> (g &&& 31)) &&& 1) = 1) → (fX3_mayGet w h g) = true → 0 ≤ (w.2.1 54 (((256 * (h + 1)) + (z ||| ((1 : Int32) <<< (g &&& 31)))).toNatClampNeg)) → vp_in ((8 * h) + g) 64) ∧ (∀ (v : St) (h : Int32), I_5 (v, h) → ¬ (h < 0) → ∀ (w : St) (z : Int32), I_11 v h (w, z) → ¬ (((1 : Int32) <<< ((w.1 7) &&& 31)) ≤ z) → vp_in ((256 * h) + z) 2304)
set_option maxHeartbeats 4000000 in
theorem metX3_solve (l : Launch) (D : va_G) (cA : Nat → ClassId) (o : Nat) (u : St)  (hok : okX3_solve u) : MetM l yX3_solve cX3_solve 6 (some .int) 1 D cA o u [.ref o] (some (.int (fX3_solve u).1)) (fX3_solve u).2 := by
  obtain ⟨I_5, I_11, I_38, hN0, hN1, hN2, hN3, hN4, hN5, hN6⟩ := hok
  refine mM_start RX3 (by decide) rfl (Nat.le_of_ble_eq_true rfl) ?_
  intro pg ev s0 mi bl me co hx hb hml hown hts hr hlk hK hM ls hl
  have hl : lv_has ls 6 [(0, .ref o)] := hl
  have hS : va_S (mA o) s0.heap s0.heap [] := va_S.rf
  refine lv_aload_n hx hb dX3_solve_0 rfl (lv_at hl 0 rfl) ?_
  refine mw_get (v := .int (u.1 7)) hx hb hts hown hK hM 7 (by decide) q1273 rfl rfl dX3_solve_1 ?_
  refine lv_istore_n (lv' := [(1, .int (u.1 7)), (0, .ref o)]) hx hb dX3_solve_4 rfl hl (by decide) rfl (fun ls hl => ?_)
  refine mw_loop1 (rest := []) (nL := 6) (r := (lpX3_solve_5_r u)) (lpX3_solve_5 u) I_5 (fun q => q.1) (fun q => [(1, .int q.2), (0, .ref o)]) 5 178 10 (u, u.1 7) hN0.2.1 hN0.1 hN0.2.2 rfl ?_ hM hS (lv_sub hl [0, 1] rfl) ?_
  · skip
    intro ⟨v, h⟩ hI_5 H locs ls hM hS hl kb k1
    have hM : MW D cA o v H := hM
    have hl : lv_has ls 6 [(1, .int h), (0, .ref o)] := hl
    refine lv_iload_n hx hb dX3_solve_5 rfl (lv_at hl 0 rfl) ?_
    refine lv_if_lt (tgt := 178) hx hb dX3_solve_6 (by decide) (fun c_6 => ?_) (fun c_6 => ?_)
    · skip
      have hs : lpX3_solve_5 u (v, h) = (1, v, h) := by rw [lpX3_solve_5, if_pos c_6]
      rw [hs] at k1
      exact k1 (show ¬ (1 : Nat) = 0 by decide) _ _ _ hM hS (lv_sub hl [0, 1] rfl)
    · skip
      refine lv_iconst (v := 0) hx hb dX3_solve_9 (by decide) ?_
      refine lv_istore_n (lv' := [(2, .int 0), (1, .int h), (0, .ref o)]) hx hb dX3_solve_10 rfl hl (by decide) rfl (fun ls hl => ?_)
      refine mw_loop1 (rest := []) (nL := 6) (r := (lpX3_solve_11_r u v h)) (lpX3_solve_11 u v h) (I_11 v h) (fun q => q.1) (fun q => [(2, .int q.2), (1, .int h), (0, .ref o)]) 11 172 257 (v, 0) (hN1 v h hI_5 c_6).2.1 (hN1 v h hI_5 c_6).1 (hN1 v h hI_5 c_6).2.2 rfl ?_ hM hS (lv_sub hl [0, 1, 2] rfl) ?_
      · skip
        intro ⟨w, z⟩ hI_11 H locs ls hM hS hl kb k1
        have hM : MW D cA o w H := hM
        have hl : lv_has ls 6 [(2, .int z), (1, .int h), (0, .ref o)] := hl
        refine lv_iload_n hx hb dX3_solve_11 rfl (lv_at hl 0 rfl) ?_
        refine lv_iconst (v := 1) hx hb dX3_solve_12 (by decide) ?_
        refine lv_aload_n hx hb dX3_solve_13 rfl (lv_at hl 2 rfl) ?_
        refine mw_get (v := .int (w.1 7)) hx hb hts hown hK hM 7 (by decide) q1273 rfl rfl dX3_solve_14 ?_
        refine lv_ishl hx hb dX3_solve_17 ?_
        refine lv_icmp_ge (tgt := 172) hx hb dX3_solve_18 (by decide) (fun c_18 => ?_) (fun c_18 => ?_)
        · skip
          have hs : lpX3_solve_11 u v h (w, z) = (1, w, z) := by rw [lpX3_solve_11, if_pos c_18]
          rw [hs] at k1
          exact k1 (show ¬ (1 : Nat) = 0 by decide) _ _ _ hM hS (lv_sub hl [0, 1, 2] rfl)
        · skip
          refine lv_iload_n hx hb dX3_solve_21 rfl (lv_at hl 1 rfl) ?_
          refine lv_aload_n hx hb dX3_solve_22 rfl (lv_at hl 2 rfl) ?_
          refine mw_get (v := .int (w.1 7)) hx hb hts hown hK hM 7 (by decide) q1273 rfl rfl dX3_solve_23 ?_
          refine w_ji (ls := ls) (rest := []) (E := (if h = (w.1 7) then 0 else (-1))) 34 ?_ (fun K => ?_)
          · skip
            refine lv_istore_n (lv' := [(3, .int (if h = (w.1 7) then 0 else (-1))), (2, .int z), (1, .int h), (0, .ref o)]) hx hb dX3_solve_34 rfl hl (by decide) rfl (fun ls hl => ?_)
            refine lv_iconst (v := 0) hx hb dX3_solve_35 (by decide) ?_
            refine lv_istore (lv' := [(4, .int 0), (3, .int (if h = (w.1 7) then 0 else (-1))), (2, .int z), (1, .int h), (0, .ref o)]) hx hb dX3_solve_36 hl (by decide) rfl (fun ls hl => ?_)
            refine r_loop1 (rest := []) (nL := 6) (r := (lpX3_solve_38_r u v h w z)) (lpX3_solve_38 u v h w z) (I_38 v h w z) (fun q => [(3, .int q.1), (4, .int q.2), (2, .int z), (1, .int h), (0, .ref o)]) 38 153 9 ((if h = (w.1 7) then 0 else (-1)), 0) (hN2 v h hI_5 c_6 w z hI_11 c_18).2.1 (hN2 v h hI_5 c_6 w z hI_11 c_18).1 (hN2 v h hI_5 c_6 w z hI_11 c_18).2.2 rfl ?_ (lv_sub hl [1, 0, 2, 3, 4] rfl) ?_
            · skip
              intro ⟨b, g⟩ hI_38 ls hl kb k1
              have hl : lv_has ls 6 [(3, .int b), (4, .int g), (2, .int z), (1, .int h), (0, .ref o)] := hl
              refine lv_iload hx hb dX3_solve_38 (lv_at hl 1 rfl) ?_
              refine lv_aload_n hx hb dX3_solve_40 rfl (lv_at hl 4 rfl) ?_
              refine mw_get (v := .int (w.1 7)) hx hb hts hown hK hM 7 (by decide) q1273 rfl rfl dX3_solve_41 ?_
              refine lv_icmp_ge (tgt := 153) hx hb dX3_solve_44 (by decide) (fun c_44 => ?_) (fun c_44 => ?_)
              · skip
                have hs : lpX3_solve_38 u v h w z (b, g) = (1, b, g) := by rw [lpX3_solve_38, if_pos c_44]
                rw [hs] at k1
                exact k1 (show ¬ (1 : Nat) = 0 by decide) _ (lv_sub hl [0, 1, 2, 3, 4] rfl)
              · skip
                refine lv_iload_n hx hb dX3_solve_47 rfl (lv_at hl 3 rfl) ?_
                refine lv_aload_n hx hb dX3_solve_48 rfl (lv_at hl 4 rfl) ?_
                refine mw_get (v := .int (w.1 7)) hx hb hts hown hK hM 7 (by decide) q1273 rfl rfl dX3_solve_49 ?_
                refine lv_icmp_ge (tgt := 153) hx hb dX3_solve_52 (by decide) (fun c_52 => ?_) (fun c_52 => ?_)
                · skip
                  have hs : lpX3_solve_38 u v h w z (b, g) = (1, b, g) := by rw [lpX3_solve_38, if_neg c_44, if_pos c_52]
                  rw [hs] at k1
                  exact k1 (show ¬ (1 : Nat) = 0 by decide) _ (lv_sub hl [0, 1, 2, 3, 4] rfl)
                · skip
                  refine lv_iload_n hx hb dX3_solve_55 rfl (lv_at hl 2 rfl) ?_
                  refine lv_iload hx hb dX3_solve_56 (lv_at hl 1 rfl) ?_
                  refine lv_ishr hx hb dX3_solve_58 ?_
                  refine lv_iconst (v := 1) hx hb dX3_solve_59 (by decide) ?_
                  refine lv_iand hx hb dX3_solve_60 ?_
                  refine lv_iconst (v := 1) hx hb dX3_solve_61 (by decide) ?_
                  refine lv_icmp_eq (tgt := 147) hx hb dX3_solve_62 (by decide) (fun c_62 => ?_) (fun c_62 => ?_)
                  · skip
                    refine lv_iinc (v := g + 1) (lv' := [(4, .int (g + 1)), (3, .int b), (2, .int z), (1, .int h), (0, .ref o)]) hx hb dX3_solve_147 hl (k := 1) rfl (rfl) (by decide) rfl (fun ls hl => ?_)
                    refine lv_goto (tgt := 38) hx hb dX3_solve_150 (by decide) ?_
                    have hs : lpX3_solve_38 u v h w z (b, g) = (0, b, g + 1) := by rw [lpX3_solve_38, if_neg c_44, if_neg c_52, if_pos c_62]
                    rw [hs] at kb
                    exact kb rfl _ (lv_sub hl [1, 0, 2, 3, 4] rfl)
                  · skip
                    refine lv_aload_n hx hb dX3_solve_65 rfl (lv_at hl 4 rfl) ?_
                    refine lv_iload_n hx hb dX3_solve_66 rfl (lv_at hl 3 rfl) ?_
                    refine lv_iload hx hb dX3_solve_67 (lv_at hl 1 rfl) ?_
                    refine ro_call (mw_run (n := 2) (As := [.int h, .int g]) (rest := []) hx hb hml hown hts (metX3_mayGet l D cA o w h g (hN3 v h hI_5 c_6 w z hI_11 c_18 b g hI_38 c_44 c_52 c_62)) q1681 q1683 qs62 q1684 (by decide +kernel) (by decide) (by decide) rfl hK hM hl.1 (Nat.le_of_ble_eq_true rfl) rfl dX3_solve_69 ⟨Nat.le_refl _, Nat.le_refl _⟩) ?_
                    refine lv_B_eq (tgt := 147) hx hb dX3_solve_72 (by decide) (fun c_72 => ?_) (fun c_72 => ?_)
                    · skip
                      refine lv_iinc (v := g + 1) (lv' := [(4, .int (g + 1)), (3, .int b), (2, .int z), (1, .int h), (0, .ref o)]) hx hb dX3_solve_147 hl (k := 1) rfl (rfl) (by decide) rfl (fun ls hl => ?_)
                      refine lv_goto (tgt := 38) hx hb dX3_solve_150 (by decide) ?_
                      have hs : lpX3_solve_38 u v h w z (b, g) = (0, b, g + 1) := by rw [lpX3_solve_38, if_neg c_44, if_neg c_52, if_neg c_62, if_neg (nt_of c_72)]
                      rw [hs] at kb
                      exact kb rfl _ (lv_sub hl [1, 0, 2, 3, 4] rfl)
                    · skip
                      refine lv_aload_n hx hb dX3_solve_75 rfl (lv_at hl 4 rfl) ?_
                      refine mw_get (v := .ref (mAd o 54)) hx hb hts hown hK hM 54 (by decide) q1320 rfl rfl dX3_solve_76 ?_
                      refine lv_sipush (v := 256) hx hb dX3_solve_79 (by decide) ?_
                      refine lv_iload_n hx hb dX3_solve_82 rfl (lv_at hl 3 rfl) ?_
                      refine lv_iconst (v := 1) hx hb dX3_solve_83 (by decide) ?_
                      refine lv_iadd hx hb dX3_solve_84 ?_
                      refine lv_imul hx hb dX3_solve_85 ?_
                      refine lv_iload_n hx hb dX3_solve_86 rfl (lv_at hl 2 rfl) ?_
                      refine lv_iconst (v := 1) hx hb dX3_solve_87 (by decide) ?_
                      refine lv_iload hx hb dX3_solve_88 (lv_at hl 1 rfl) ?_
                      refine lv_ishl hx hb dX3_solve_90 ?_
                      refine lv_ior hx hb dX3_solve_91 ?_
                      refine lv_iadd hx hb dX3_solve_92 ?_
                      refine mw_ild (v := w.2.1 54 (((256 * (h + 1)) + (z ||| ((1 : Int32) <<< (g &&& 31)))).toNatClampNeg)) (j := ((256 * (h + 1)) + (z ||| ((1 : Int32) <<< (g &&& 31)))).toNatClampNeg) hx hb hK hM 54 (by decide) rfl rfl (hN4 v h hI_5 c_6 w z hI_11 c_18 b g hI_38 c_44 c_52 c_62 c_72) rfl rfl dX3_solve_93 ?_
                      refine lv_if_ge (tgt := 100) hx hb dX3_solve_94 (by decide) (fun c_94 => ?_) (fun c_94 => ?_)
                      · skip
                        refine lv_aload_n hx hb dX3_solve_100 rfl (lv_at hl 4 rfl) ?_
                        refine mw_get (v := .ref (mAd o 53)) hx hb hts hown hK hM 53 (by decide) q1319 rfl rfl dX3_solve_101 ?_
                        refine lv_bipush (v := 8) hx hb dX3_solve_104 (by decide) ?_
                        refine lv_iload_n hx hb dX3_solve_106 rfl (lv_at hl 3 rfl) ?_
                        refine lv_imul hx hb dX3_solve_107 ?_
                        refine lv_iload hx hb dX3_solve_108 (lv_at hl 1 rfl) ?_
                        refine lv_iadd hx hb dX3_solve_110 ?_
                        refine mw_ild (v := w.2.1 53 (((8 * h) + g).toNatClampNeg)) (j := ((8 * h) + g).toNatClampNeg) hx hb hK hM 53 (by decide) rfl rfl (hN5 v h hI_5 c_6 w z hI_11 c_18 b g hI_38 c_44 c_52 c_62 c_72 c_94) rfl rfl dX3_solve_111 ?_
                        refine lv_aload_n hx hb dX3_solve_112 rfl (lv_at hl 4 rfl) ?_
                        refine mw_get (v := .ref (mAd o 54)) hx hb hts hown hK hM 54 (by decide) q1320 rfl rfl dX3_solve_113 ?_
                        refine lv_sipush (v := 256) hx hb dX3_solve_116 (by decide) ?_
                        refine lv_iload_n hx hb dX3_solve_119 rfl (lv_at hl 3 rfl) ?_
                        refine lv_iconst (v := 1) hx hb dX3_solve_120 (by decide) ?_
                        refine lv_iadd hx hb dX3_solve_121 ?_
                        refine lv_imul hx hb dX3_solve_122 ?_
                        refine lv_iload_n hx hb dX3_solve_123 rfl (lv_at hl 2 rfl) ?_
                        refine lv_iconst (v := 1) hx hb dX3_solve_124 (by decide) ?_
                        refine lv_iload hx hb dX3_solve_125 (lv_at hl 1 rfl) ?_
                        refine lv_ishl hx hb dX3_solve_127 ?_
                        refine lv_ior hx hb dX3_solve_128 ?_
                        refine lv_iadd hx hb dX3_solve_129 ?_
                        refine mw_ild (v := w.2.1 54 (((256 * (h + 1)) + (z ||| ((1 : Int32) <<< (g &&& 31)))).toNatClampNeg)) (j := ((256 * (h + 1)) + (z ||| ((1 : Int32) <<< (g &&& 31)))).toNatClampNeg) hx hb hK hM 54 (by decide) rfl rfl (hN4 v h hI_5 c_6 w z hI_11 c_18 b g hI_38 c_44 c_52 c_62 c_72) rfl rfl dX3_solve_130 ?_
                        refine lv_iadd hx hb dX3_solve_131 ?_
                        refine lv_istore (lv' := [(5, .int ((w.2.1 53 (((8 * h) + g).toNatClampNeg)) + (w.2.1 54 (((256 * (h + 1)) + (z ||| ((1 : Int32) <<< (g &&& 31)))).toNatClampNeg)))), (3, .int b), (4, .int g), (2, .int z), (1, .int h), (0, .ref o)]) hx hb dX3_solve_132 hl (by decide) rfl (fun ls hl => ?_)
                        refine lv_iload hx hb dX3_solve_134 (lv_at hl 0 rfl) ?_
                        refine lv_iload_n hx hb dX3_solve_136 rfl (lv_at hl 1 rfl) ?_
                        refine lv_icmp_le (tgt := 145) hx hb dX3_solve_137 (by decide) (fun c_137 => ?_) (fun c_137 => ?_)
                        · skip
                          refine lv_iload_n hx hb dX3_solve_145 rfl (lv_at hl 1 rfl) ?_
                          refine lv_istore_n (lv' := [(3, .int b), (5, .int ((w.2.1 53 (((8 * h) + g).toNatClampNeg)) + (w.2.1 54 (((256 * (h + 1)) + (z ||| ((1 : Int32) <<< (g &&& 31)))).toNatClampNeg)))), (4, .int g), (2, .int z), (1, .int h), (0, .ref o)]) hx hb dX3_solve_146 rfl hl (by decide) rfl (fun ls hl => ?_)
                          refine lv_iinc (v := g + 1) (lv' := [(4, .int (g + 1)), (3, .int b), (5, .int ((w.2.1 53 (((8 * h) + g).toNatClampNeg)) + (w.2.1 54 (((256 * (h + 1)) + (z ||| ((1 : Int32) <<< (g &&& 31)))).toNatClampNeg)))), (2, .int z), (1, .int h), (0, .ref o)]) hx hb dX3_solve_147 hl (k := 2) rfl (rfl) (by decide) rfl (fun ls hl => ?_)
                          refine lv_goto (tgt := 38) hx hb dX3_solve_150 (by decide) ?_
                          have hs : lpX3_solve_38 u v h w z (b, g) = (0, b, g + 1) := by rw [lpX3_solve_38, if_neg c_44, if_neg c_52, if_neg c_62, if_pos c_72, if_pos c_94, if_pos c_137]
                          rw [hs] at kb
                          exact kb rfl _ (lv_sub hl [1, 0, 3, 4, 5] rfl)
                        · skip
                          refine lv_iload hx hb dX3_solve_140 (lv_at hl 0 rfl) ?_
                          refine lv_goto (tgt := 146) hx hb dX3_solve_142 (by decide) ?_
                          refine lv_istore_n (lv' := [(3, .int ((w.2.1 53 (((8 * h) + g).toNatClampNeg)) + (w.2.1 54 (((256 * (h + 1)) + (z ||| ((1 : Int32) <<< (g &&& 31)))).toNatClampNeg)))), (5, .int ((w.2.1 53 (((8 * h) + g).toNatClampNeg)) + (w.2.1 54 (((256 * (h + 1)) + (z ||| ((1 : Int32) <<< (g &&& 31)))).toNatClampNeg)))), (4, .int g), (2, .int z), (1, .int h), (0, .ref o)]) hx hb dX3_solve_146 rfl hl (by decide) rfl (fun ls hl => ?_)
                          refine lv_iinc (v := g + 1) (lv' := [(4, .int (g + 1)), (3, .int ((w.2.1 53 (((8 * h) + g).toNatClampNeg)) + (w.2.1 54 (((256 * (h + 1)) + (z ||| ((1 : Int32) <<< (g &&& 31)))).toNatClampNeg)))), (5, .int ((w.2.1 53 (((8 * h) + g).toNatClampNeg)) + (w.2.1 54 (((256 * (h + 1)) + (z ||| ((1 : Int32) <<< (g &&& 31)))).toNatClampNeg)))), (2, .int z), (1, .int h), (0, .ref o)]) hx hb dX3_solve_147 hl (k := 2) rfl (rfl) (by decide) rfl (fun ls hl => ?_)
                          refine lv_goto (tgt := 38) hx hb dX3_solve_150 (by decide) ?_
                          have hs : lpX3_solve_38 u v h w z (b, g) = (0, (w.2.1 53 (((8 * h) + g).toNatClampNeg)) + (w.2.1 54 (((256 * (h + 1)) + (z ||| ((1 : Int32) <<< (g &&& 31)))).toNatClampNeg)), g + 1) := by rw [lpX3_solve_38, if_neg c_44, if_neg c_52, if_neg c_62, if_pos c_72, if_pos c_94, if_neg c_137]
                          rw [hs] at kb
                          exact kb rfl _ (lv_sub hl [1, 0, 3, 4, 5] rfl)
                      · skip
                        refine lv_goto (tgt := 147) hx hb dX3_solve_97 (by decide) ?_
                        refine lv_iinc (v := g + 1) (lv' := [(4, .int (g + 1)), (3, .int b), (2, .int z), (1, .int h), (0, .ref o)]) hx hb dX3_solve_147 hl (k := 1) rfl (rfl) (by decide) rfl (fun ls hl => ?_)
                        refine lv_goto (tgt := 38) hx hb dX3_solve_150 (by decide) ?_
                        have hs : lpX3_solve_38 u v h w z (b, g) = (0, b, g + 1) := by rw [lpX3_solve_38, if_neg c_44, if_neg c_52, if_neg c_62, if_pos c_72, if_neg c_94]
                        rw [hs] at kb
                        exact kb rfl _ (lv_sub hl [1, 0, 2, 3, 4] rfl)
            · skip
              intro ls hl
              have hl : lv_has ls 6 [(3, .int ((lpX3_solve_38_r u v h w z).2.1)), (4, .int ((lpX3_solve_38_r u v h w z).2.2)), (2, .int z), (1, .int h), (0, .ref o)] := hl
              refine lv_aload_n hx hb dX3_solve_153 rfl (lv_at hl 4 rfl) ?_
              refine mw_get (v := .ref (mAd o 54)) hx hb hts hown hK hM 54 (by decide) q1320 rfl rfl dX3_solve_154 ?_
              refine lv_sipush (v := 256) hx hb dX3_solve_157 (by decide) ?_
              refine lv_iload_n hx hb dX3_solve_160 rfl (lv_at hl 3 rfl) ?_
              refine lv_imul hx hb dX3_solve_161 ?_
              refine lv_iload_n hx hb dX3_solve_162 rfl (lv_at hl 2 rfl) ?_
              refine lv_iadd hx hb dX3_solve_163 ?_
              refine lv_iload_n hx hb dX3_solve_164 rfl (lv_at hl 0 rfl) ?_
              refine mw_ist (j := ((256 * h) + z).toNatClampNeg) hx hb hK hM hS 54 (by decide) rfl rfl (hN6 v h hI_5 c_6 w z hI_11 c_18) rfl dX3_solve_165 (fun H locs hM hS => ?_)
              refine lv_iinc (v := z + 1) (lv' := [(2, .int (z + 1)), (3, .int ((lpX3_solve_38_r u v h w z).2.1)), (4, .int ((lpX3_solve_38_r u v h w z).2.2)), (1, .int h), (0, .ref o)]) hx hb dX3_solve_166 hl (k := 2) rfl (rfl) (by decide) rfl (fun ls hl => ?_)
              refine lv_goto (tgt := 11) hx hb dX3_solve_169 (by decide) ?_
              have hs : lpX3_solve_11 u v h (w, z) = (0, (sa w 54 (((256 * h) + z).toNatClampNeg) ((lpX3_solve_38_r u v h w z).2.1)), z + 1) := by rw [lpX3_solve_11, if_neg c_18]
              rw [hs] at kb
              exact kb rfl _ _ _ hM hS (lv_sub hl [0, 3, 4] rfl)
          · skip
            refine lv_icmp_ne (tgt := 33) hx hb dX3_solve_26 (by decide) (fun c_26 => ?_) (fun c_26 => ?_)
            · skip
              refine lv_iconst (v := (-1)) hx hb dX3_solve_33 (by decide) ?_
              exact K _ (by rw [if_neg c_26])
            · skip
              refine lv_iconst (v := 0) hx hb dX3_solve_29 (by decide) ?_
              refine lv_goto (tgt := 34) hx hb dX3_solve_30 (by decide) ?_
              exact K _ (by rw [if_pos c_26])
      · skip
        intro H locs ls hM hS hl
        have hM : MW D cA o (lpX3_solve_11_r u v h).2.1 H := hM
        have hl : lv_has ls 6 [(2, .int ((lpX3_solve_11_r u v h).2.2)), (1, .int h), (0, .ref o)] := hl
        refine lv_iinc (v := h + (-1)) (lv' := [(1, .int (h + (-1))), (2, .int ((lpX3_solve_11_r u v h).2.2)), (0, .ref o)]) hx hb dX3_solve_172 hl (k := 1) rfl (rfl) (by decide) rfl (fun ls hl => ?_)
        refine lv_goto (tgt := 5) hx hb dX3_solve_175 (by decide) ?_
        obtain ⟨xg0, hxg0⟩ : ∃ y : St, y = (lpX3_solve_11_r u v h).2.1 := ⟨_, rfl⟩
        rw [← hxg0] at hM
        have hs : lpX3_solve_5 u (v, h) = (0, xg0, h + (-1)) := by rw [lpX3_solve_5, if_neg c_6, hxg0]
        rw [hs] at kb
        exact kb rfl _ _ _ hM hS (lv_sub hl [0, 2] rfl)
  · skip
    intro H locs ls hM hS hl
    have hM : MW D cA o (lpX3_solve_5_r u).2.1 H := hM
    have hl : lv_has ls 6 [(1, .int ((lpX3_solve_5_r u).2.2)), (0, .ref o)] := hl
    refine lv_aload_n hx hb dX3_solve_178 rfl (lv_at hl 1 rfl) ?_
    refine mw_get (v := .ref (mAd o 54)) hx hb hts hown hK hM 54 (by decide) q1320 rfl rfl dX3_solve_179 ?_
    refine lv_iconst (v := 0) hx hb dX3_solve_182 (by decide) ?_
    refine mw_ild (v := (lpX3_solve_5_r u).2.1.2.1 54 0) (j := 0) hx hb hK hM 54 (by decide) rfl rfl (by unfold vp_in; decide) (by decide) rfl dX3_solve_183 ?_
    have hF : fX3_solve u = ((lpX3_solve_5_r u).2.1.2.1 54 0, (lpX3_solve_5_r u).2.1) := by rw [fX3_solve]
    exact mw_iret hx hb hr hlk hM hS (by rw [hF]) (by rw [hF]) dX3_solve_184

def fX3_joy (u : St)  : Int32 × St :=
  ((fX3_solve u).1, (fX3_solve u).2)
def okX3_joy (u : St)  : Prop :=
  (okX3_solve u)
set_option maxHeartbeats 4000000 in
theorem metX3_joy (l : Launch) (D : va_G) (cA : Nat → ClassId) (o : Nat) (u : St)  (hok : okX3_joy u) : MetM l yX3_joy cX3_joy 1 (some .int) 2 D cA o u [.ref o] (some (.int (fX3_joy u).1)) (fX3_joy u).2 := by
  have hN0 := hok
  refine mM_start RX3 (by decide) rfl (Nat.le_of_ble_eq_true rfl) ?_
  intro pg ev s0 mi bl me co hx hb hml hown hts hr hlk hK hM ls hl
  have hl : lv_has ls 1 [(0, .ref o)] := hl
  have hS : va_S (mA o) s0.heap s0.heap [] := va_S.rf
  refine lv_aload_n hx hb dX3_joy_0 rfl (lv_at hl 0 rfl) ?_
  refine mw_call (mw_run (n := 0) (As := []) (rest := []) hx hb hml hown hts (metX3_solve l D cA o u  hN0) q1677 q1679 qs61 q1680 (by decide +kernel) (by decide) (by decide) rfl hK hM hl.1 (Nat.le_of_ble_eq_true rfl) rfl dX3_joy_1 ⟨Nat.le_refl _, Nat.le_refl _⟩) hS (fun _ h => h) (fun H locs hM _ _ hS => ?_)
  have hF : fX3_joy u = ((fX3_solve u).1, (fX3_solve u).2) := by rw [fX3_joy]
  exact mw_iret hx hb hr hlk hM hS (by rw [hF]) (by rw [hF]) dX3_joy_4

def lpX3_swap_32 (u : St) (ho : Int32) (lf : Int32) (z : Int32) (gt : Int32) (h : Int32) : Int32 → Nat × Int32
  | g => if ((z >>> (g &&& 31)) &&& 1) = 1 then (0, g + 1) else (if (fX3_mayGet (fX3_solve u).2 h g) = true then (if ((fX3_solve u).2.2.1 54 (((256 * (h + 1)) + (z ||| ((1 : Int32) <<< (g &&& 31)))).toNatClampNeg)) < 0 then (0, g + 1) else (if (((fX3_solve u).2.2.1 53 (((8 * h) + g).toNatClampNeg)) + ((fX3_solve u).2.2.1 54 (((256 * (h + 1)) + (z ||| ((1 : Int32) <<< (g &&& 31)))).toNatClampNeg))) = lf then (1, g) else (0, g + 1))) else (0, g + 1))
def lpX3_swap_32_r (u : St) (ho : Int32) (lf : Int32) (z : Int32) (gt : Int32) (h : Int32) : Nat × Int32 :=
  wh (lpX3_swap_32 u ho lf z gt h) 9 0
def lpX3_swap_23 (u : St) (ho : Int32) : Int32 × Int32 × Int32 × Int32 → Nat × Int32 × Int32 × Int32 × Int32
  | (lf, z, gt, h) => if ho < h then (1, lf, z, gt, h) else (0, lf - ((fX3_solve u).2.2.1 53 (((8 * h) + ((lpX3_swap_32_r u ho lf z gt h).2)).toNatClampNeg)), z ||| ((1 : Int32) <<< (((lpX3_swap_32_r u ho lf z gt h).2) &&& 31)), (lpX3_swap_32_r u ho lf z gt h).2, h + 1)
def lpX3_swap_23_r (u : St) (ho : Int32) : Nat × Int32 × Int32 × Int32 × Int32 :=
  wh (lpX3_swap_23 u ho) 9 ((fX3_solve u).1, 0, (-1), 0)
def fX3_swap (u : St) (ho : Int32) : Int32 × St :=
  if (fX3_isHouse u ho) = true then ((lpX3_swap_23_r u ho).2.2.2.1, (fX3_solve u).2) else ((-1), u)
def okX3_swap (u : St) (ho : Int32) : Prop :=
  ∃ (I_23 : (Int32 × Int32 × Int32 × Int32) → Prop) (I_32 : Int32 → Int32 → Int32 → Int32 → Int32 → Prop), ((fX3_isHouse u ho) = true → okX3_solve u) ∧ ((fX3_isHouse u ho) = true → LOK (lpX3_swap_23 u ho) 9 ((fX3_solve u).1, 0, (-1), 0) I_23) ∧ ((fX3_isHouse u ho) = true → ∀ (lf : Int32) (z : Int32) (gt : Int32) (h : Int32), I_23 (lf, z, gt, h) → ¬ (ho < h) → LOK (lpX3_swap_32 u ho lf z gt h) 9 0 (I_32 lf z gt h)) ∧ ((fX3_isHouse u ho) = true → ∀ (lf : Int32) (z : Int32) (gt : Int32) (h : Int32), I_23 (lf, z, gt, h) → ¬ (ho < h) → ∀ (g : Int32), I_32 lf z gt h g → ¬ (((z >>> (g &&& 31)) &&& 1) = 1) → okX3_mayGet (fX3_solve u).2 h g) ∧ ((fX3_isHouse u ho) = true → ∀ (lf : Int32) (z : Int32) (gt : Int32) (h : Int32), I_23 (lf, z, gt, h) → ¬ (ho < h) → ∀ (g : Int32), I_32 lf z gt h g → ¬ (((z >>> (g &&& 31)) &&& 1) = 1) → (fX3_mayGet (fX3_solve u).2 h g) = true → vp_in ((256 * (h + 1)) + (z ||| ((1 : Int32) <<< (g &&& 31)))) 2304) ∧ ((fX3_isHouse u ho) = true → ∀ (lf : Int32) (z : Int32) (gt : Int32) (h : Int32), I_23 (lf, z, gt, h) → ¬ (ho < h) → ∀ (g : Int32), I_32 lf z gt h g → ¬ (((z >>> (g &&& 31)) &&& 1) = 1) → (fX3_mayGet (fX3_solve u).2 h g) = true → ¬ (((fX3_solve u).2.2.1 54 (((256 * (h + 1)) + (z ||| ((1 : Int32) <<< (g &&& 31)))).toNatClampNeg)) < 0) → vp_in ((8 * h) + g) 64) ∧ ((fX3_isHouse u ho) = true → ∀ (lf : Int32) (z : Int32) (gt : Int32) (h : Int32), I_23 (lf, z, gt, h) → ¬ (ho < h) → vp_in ((8 * h) + ((lpX3_swap_32_r u ho lf z gt h).2)) 64)
set_option maxHeartbeats 4000000 in
theorem metX3_swap (l : Launch) (D : va_G) (cA : Nat → ClassId) (o : Nat) (u : St) (ho : Int32) (hok : okX3_swap u ho) : MetM l yX3_swap cX3_swap 6 (some .int) 2 D cA o u [.ref o, .int ho] (some (.int (fX3_swap u ho).1)) (fX3_swap u ho).2 := by
  obtain ⟨I_23, I_32, hN0, hN1, hN2, hN3, hN4, hN5, hN6⟩ := hok
  refine mM_start RX3 (by decide) rfl (Nat.le_of_ble_eq_true rfl) ?_
  intro pg ev s0 mi bl me co hx hb hml hown hts hr hlk hK hM ls hl
  have hl : lv_has ls 6 [(0, .ref o), (1, .int ho)] := hl
  have hS : va_S (mA o) s0.heap s0.heap [] := va_S.rf
  refine lv_aload_n hx hb dX3_swap_0 rfl (lv_at hl 0 rfl) ?_
  refine lv_iload_n hx hb dX3_swap_1 rfl (lv_at hl 1 rfl) ?_
  refine ro_call (mw_run (n := 1) (As := [.int ho]) (rest := []) hx hb hml hown hts (metX3_isHouse l D cA o u ho) q1479 q1481 qs33 q1482 (by decide +kernel) (by decide) (by decide) rfl hK hM hl.1 (Nat.le_of_ble_eq_true rfl) rfl dX3_swap_2 ⟨Nat.le_refl _, Nat.le_refl _⟩) ?_
  refine lv_B_ne (tgt := 10) hx hb dX3_swap_5 (by decide) (fun c_5 => ?_) (fun c_5 => ?_)
  · skip
    refine lv_aload_n hx hb dX3_swap_10 rfl (lv_at hl 0 rfl) ?_
    refine mw_call (mw_run (n := 0) (As := []) (rest := []) hx hb hml hown hts (metX3_solve l D cA o u  (hN0 c_5)) q1677 q1679 qs61 q1680 (by decide +kernel) (by decide) (by decide) rfl hK hM hl.1 (Nat.le_of_ble_eq_true rfl) rfl dX3_swap_11 ⟨Nat.le_refl _, Nat.le_refl _⟩) hS (fun _ h => h) (fun H locs hM _ _ hS => ?_)
    refine lv_istore_n (lv' := [(2, .int ((fX3_solve u).1)), (0, .ref o), (1, .int ho)]) hx hb dX3_swap_14 rfl hl (by decide) rfl (fun ls hl => ?_)
    refine lv_iconst (v := 0) hx hb dX3_swap_15 (by decide) ?_
    refine lv_istore_n (lv' := [(3, .int 0), (2, .int ((fX3_solve u).1)), (0, .ref o), (1, .int ho)]) hx hb dX3_swap_16 rfl hl (by decide) rfl (fun ls hl => ?_)
    refine lv_iconst (v := (-1)) hx hb dX3_swap_17 (by decide) ?_
    refine lv_istore (lv' := [(4, .int (-1)), (3, .int 0), (2, .int ((fX3_solve u).1)), (0, .ref o), (1, .int ho)]) hx hb dX3_swap_18 hl (by decide) rfl (fun ls hl => ?_)
    refine lv_iconst (v := 0) hx hb dX3_swap_20 (by decide) ?_
    refine lv_istore (lv' := [(5, .int 0), (4, .int (-1)), (3, .int 0), (2, .int ((fX3_solve u).1)), (0, .ref o), (1, .int ho)]) hx hb dX3_swap_21 hl (by decide) rfl (fun ls hl => ?_)
    refine r_loop1 (rest := []) (nL := 6) (r := (lpX3_swap_23_r u ho)) (lpX3_swap_23 u ho) I_23 (fun q => [(2, .int q.1), (3, .int q.2.1), (4, .int q.2.2.1), (5, .int q.2.2.2), (0, .ref o), (1, .int ho)]) 23 149 9 ((fX3_solve u).1, 0, (-1), 0) (hN1 c_5).2.1 (hN1 c_5).1 (hN1 c_5).2.2 rfl ?_ (lv_sub hl [3, 2, 1, 0, 4, 5] rfl) ?_
    · skip
      intro ⟨lf, z, gt, h⟩ hI_23 ls hl kb k1
      have hl : lv_has ls 6 [(2, .int lf), (3, .int z), (4, .int gt), (5, .int h), (0, .ref o), (1, .int ho)] := hl
      refine lv_iload hx hb dX3_swap_23 (lv_at hl 3 rfl) ?_
      refine lv_iload_n hx hb dX3_swap_25 rfl (lv_at hl 5 rfl) ?_
      refine lv_icmp_gt (tgt := 149) hx hb dX3_swap_26 (by decide) (fun c_26 => ?_) (fun c_26 => ?_)
      · skip
        have hs : lpX3_swap_23 u ho (lf, z, gt, h) = (1, lf, z, gt, h) := by rw [lpX3_swap_23, if_pos c_26]
        rw [hs] at k1
        exact k1 (show ¬ (1 : Nat) = 0 by decide) _ (lv_sub hl [0, 1, 2, 3, 4, 5] rfl)
      · skip
        refine lv_iconst (v := 0) hx hb dX3_swap_29 (by decide) ?_
        refine lv_istore (lv' := [(4, .int 0), (2, .int lf), (3, .int z), (5, .int h), (0, .ref o), (1, .int ho)]) hx hb dX3_swap_30 hl (by decide) rfl (fun ls hl => ?_)
        refine r_loop1 (rest := []) (nL := 6) (r := (lpX3_swap_32_r u ho lf z gt h)) (lpX3_swap_32 u ho lf z gt h) (I_32 lf z gt h) (fun q => [(4, .int q), (2, .int lf), (3, .int z), (5, .int h), (0, .ref o), (1, .int ho)]) 32 120 9 0 (hN2 c_5 lf z gt h hI_23 c_26).2.1 (hN2 c_5 lf z gt h hI_23 c_26).1 (hN2 c_5 lf z gt h hI_23 c_26).2.2 rfl ?_ (lv_sub hl [0, 1, 2, 3, 4, 5] rfl) ?_
        · skip
          intro g hI_32 ls hl kb k1
          have hl : lv_has ls 6 [(4, .int g), (2, .int lf), (3, .int z), (5, .int h), (0, .ref o), (1, .int ho)] := hl
          refine lv_iload_n hx hb dX3_swap_32 rfl (lv_at hl 2 rfl) ?_
          refine lv_iload hx hb dX3_swap_33 (lv_at hl 0 rfl) ?_
          refine lv_ishr hx hb dX3_swap_35 ?_
          refine lv_iconst (v := 1) hx hb dX3_swap_36 (by decide) ?_
          refine lv_iand hx hb dX3_swap_37 ?_
          refine lv_iconst (v := 1) hx hb dX3_swap_38 (by decide) ?_
          refine lv_icmp_eq (tgt := 114) hx hb dX3_swap_39 (by decide) (fun c_39 => ?_) (fun c_39 => ?_)
          · skip
            refine lv_iinc (v := g + 1) (lv' := [(4, .int (g + 1)), (2, .int lf), (3, .int z), (5, .int h), (0, .ref o), (1, .int ho)]) hx hb dX3_swap_114 hl (k := 0) rfl (rfl) (by decide) rfl (fun ls hl => ?_)
            refine lv_goto (tgt := 32) hx hb dX3_swap_117 (by decide) ?_
            have hs : lpX3_swap_32 u ho lf z gt h g = (0, g + 1) := by rw [lpX3_swap_32, if_pos c_39]
            rw [hs] at kb
            exact kb rfl _ (lv_sub hl [0, 1, 2, 3, 4, 5] rfl)
          · skip
            refine lv_aload_n hx hb dX3_swap_42 rfl (lv_at hl 4 rfl) ?_
            refine lv_iload hx hb dX3_swap_43 (lv_at hl 3 rfl) ?_
            refine lv_iload hx hb dX3_swap_45 (lv_at hl 0 rfl) ?_
            refine ro_call (mw_run (n := 2) (As := [.int h, .int g]) (rest := []) hx hb hml hown hts (metX3_mayGet l D cA o (fX3_solve u).2 h g (hN3 c_5 lf z gt h hI_23 c_26 g hI_32 c_39)) q1681 q1683 qs62 q1684 (by decide +kernel) (by decide) (by decide) rfl hK hM hl.1 (Nat.le_of_ble_eq_true rfl) rfl dX3_swap_47 ⟨Nat.le_refl _, Nat.le_refl _⟩) ?_
            refine lv_B_eq (tgt := 114) hx hb dX3_swap_50 (by decide) (fun c_50 => ?_) (fun c_50 => ?_)
            · skip
              refine lv_iinc (v := g + 1) (lv' := [(4, .int (g + 1)), (2, .int lf), (3, .int z), (5, .int h), (0, .ref o), (1, .int ho)]) hx hb dX3_swap_114 hl (k := 0) rfl (rfl) (by decide) rfl (fun ls hl => ?_)
              refine lv_goto (tgt := 32) hx hb dX3_swap_117 (by decide) ?_
              have hs : lpX3_swap_32 u ho lf z gt h g = (0, g + 1) := by rw [lpX3_swap_32, if_neg c_39, if_neg (nt_of c_50)]
              rw [hs] at kb
              exact kb rfl _ (lv_sub hl [0, 1, 2, 3, 4, 5] rfl)
            · skip
              refine lv_aload_n hx hb dX3_swap_53 rfl (lv_at hl 4 rfl) ?_
              refine mw_get (v := .ref (mAd o 54)) hx hb hts hown hK hM 54 (by decide) q1320 rfl rfl dX3_swap_54 ?_
              refine lv_sipush (v := 256) hx hb dX3_swap_57 (by decide) ?_
              refine lv_iload hx hb dX3_swap_60 (lv_at hl 3 rfl) ?_
              refine lv_iconst (v := 1) hx hb dX3_swap_62 (by decide) ?_
              refine lv_iadd hx hb dX3_swap_63 ?_
              refine lv_imul hx hb dX3_swap_64 ?_
              refine lv_iload_n hx hb dX3_swap_65 rfl (lv_at hl 2 rfl) ?_
              refine lv_iconst (v := 1) hx hb dX3_swap_66 (by decide) ?_
              refine lv_iload hx hb dX3_swap_67 (lv_at hl 0 rfl) ?_
              refine lv_ishl hx hb dX3_swap_69 ?_
              refine lv_ior hx hb dX3_swap_70 ?_
              refine lv_iadd hx hb dX3_swap_71 ?_
              refine mw_ild (v := (fX3_solve u).2.2.1 54 (((256 * (h + 1)) + (z ||| ((1 : Int32) <<< (g &&& 31)))).toNatClampNeg)) (j := ((256 * (h + 1)) + (z ||| ((1 : Int32) <<< (g &&& 31)))).toNatClampNeg) hx hb hK hM 54 (by decide) rfl rfl (hN4 c_5 lf z gt h hI_23 c_26 g hI_32 c_39 c_50) rfl rfl dX3_swap_72 ?_
              refine lv_if_lt (tgt := 114) hx hb dX3_swap_73 (by decide) (fun c_73 => ?_) (fun c_73 => ?_)
              · skip
                refine lv_iinc (v := g + 1) (lv' := [(4, .int (g + 1)), (2, .int lf), (3, .int z), (5, .int h), (0, .ref o), (1, .int ho)]) hx hb dX3_swap_114 hl (k := 0) rfl (rfl) (by decide) rfl (fun ls hl => ?_)
                refine lv_goto (tgt := 32) hx hb dX3_swap_117 (by decide) ?_
                have hs : lpX3_swap_32 u ho lf z gt h g = (0, g + 1) := by rw [lpX3_swap_32, if_neg c_39, if_pos c_50, if_pos c_73]
                rw [hs] at kb
                exact kb rfl _ (lv_sub hl [0, 1, 2, 3, 4, 5] rfl)
              · skip
                refine lv_aload_n hx hb dX3_swap_76 rfl (lv_at hl 4 rfl) ?_
                refine mw_get (v := .ref (mAd o 53)) hx hb hts hown hK hM 53 (by decide) q1319 rfl rfl dX3_swap_77 ?_
                refine lv_bipush (v := 8) hx hb dX3_swap_80 (by decide) ?_
                refine lv_iload hx hb dX3_swap_82 (lv_at hl 3 rfl) ?_
                refine lv_imul hx hb dX3_swap_84 ?_
                refine lv_iload hx hb dX3_swap_85 (lv_at hl 0 rfl) ?_
                refine lv_iadd hx hb dX3_swap_87 ?_
                refine mw_ild (v := (fX3_solve u).2.2.1 53 (((8 * h) + g).toNatClampNeg)) (j := ((8 * h) + g).toNatClampNeg) hx hb hK hM 53 (by decide) rfl rfl (hN5 c_5 lf z gt h hI_23 c_26 g hI_32 c_39 c_50 c_73) rfl rfl dX3_swap_88 ?_
                refine lv_aload_n hx hb dX3_swap_89 rfl (lv_at hl 4 rfl) ?_
                refine mw_get (v := .ref (mAd o 54)) hx hb hts hown hK hM 54 (by decide) q1320 rfl rfl dX3_swap_90 ?_
                refine lv_sipush (v := 256) hx hb dX3_swap_93 (by decide) ?_
                refine lv_iload hx hb dX3_swap_96 (lv_at hl 3 rfl) ?_
                refine lv_iconst (v := 1) hx hb dX3_swap_98 (by decide) ?_
                refine lv_iadd hx hb dX3_swap_99 ?_
                refine lv_imul hx hb dX3_swap_100 ?_
                refine lv_iload_n hx hb dX3_swap_101 rfl (lv_at hl 2 rfl) ?_
                refine lv_iconst (v := 1) hx hb dX3_swap_102 (by decide) ?_
                refine lv_iload hx hb dX3_swap_103 (lv_at hl 0 rfl) ?_
                refine lv_ishl hx hb dX3_swap_105 ?_
                refine lv_ior hx hb dX3_swap_106 ?_
                refine lv_iadd hx hb dX3_swap_107 ?_
                refine mw_ild (v := (fX3_solve u).2.2.1 54 (((256 * (h + 1)) + (z ||| ((1 : Int32) <<< (g &&& 31)))).toNatClampNeg)) (j := ((256 * (h + 1)) + (z ||| ((1 : Int32) <<< (g &&& 31)))).toNatClampNeg) hx hb hK hM 54 (by decide) rfl rfl (hN4 c_5 lf z gt h hI_23 c_26 g hI_32 c_39 c_50) rfl rfl dX3_swap_108 ?_
                refine lv_iadd hx hb dX3_swap_109 ?_
                refine lv_iload_n hx hb dX3_swap_110 rfl (lv_at hl 1 rfl) ?_
                refine lv_icmp_eq (tgt := 120) hx hb dX3_swap_111 (by decide) (fun c_111 => ?_) (fun c_111 => ?_)
                · skip
                  have hs : lpX3_swap_32 u ho lf z gt h g = (1, g) := by rw [lpX3_swap_32, if_neg c_39, if_pos c_50, if_neg c_73, if_pos c_111]
                  rw [hs] at k1
                  exact k1 (show ¬ (1 : Nat) = 0 by decide) _ (lv_sub hl [0, 1, 2, 3, 4, 5] rfl)
                · skip
                  refine lv_iinc (v := g + 1) (lv' := [(4, .int (g + 1)), (2, .int lf), (3, .int z), (5, .int h), (0, .ref o), (1, .int ho)]) hx hb dX3_swap_114 hl (k := 0) rfl (rfl) (by decide) rfl (fun ls hl => ?_)
                  refine lv_goto (tgt := 32) hx hb dX3_swap_117 (by decide) ?_
                  have hs : lpX3_swap_32 u ho lf z gt h g = (0, g + 1) := by rw [lpX3_swap_32, if_neg c_39, if_pos c_50, if_neg c_73, if_neg c_111]
                  rw [hs] at kb
                  exact kb rfl _ (lv_sub hl [0, 1, 2, 3, 4, 5] rfl)
        · skip
          intro ls hl
          have hl : lv_has ls 6 [(4, .int ((lpX3_swap_32_r u ho lf z gt h).2)), (2, .int lf), (3, .int z), (5, .int h), (0, .ref o), (1, .int ho)] := hl
          refine lv_iload_n hx hb dX3_swap_120 rfl (lv_at hl 1 rfl) ?_
          refine lv_aload_n hx hb dX3_swap_121 rfl (lv_at hl 4 rfl) ?_
          refine mw_get (v := .ref (mAd o 53)) hx hb hts hown hK hM 53 (by decide) q1319 rfl rfl dX3_swap_122 ?_
          refine lv_bipush (v := 8) hx hb dX3_swap_125 (by decide) ?_
          refine lv_iload hx hb dX3_swap_127 (lv_at hl 3 rfl) ?_
          refine lv_imul hx hb dX3_swap_129 ?_
          refine lv_iload hx hb dX3_swap_130 (lv_at hl 0 rfl) ?_
          refine lv_iadd hx hb dX3_swap_132 ?_
          refine mw_ild (v := (fX3_solve u).2.2.1 53 (((8 * h) + ((lpX3_swap_32_r u ho lf z gt h).2)).toNatClampNeg)) (j := ((8 * h) + ((lpX3_swap_32_r u ho lf z gt h).2)).toNatClampNeg) hx hb hK hM 53 (by decide) rfl rfl (hN6 c_5 lf z gt h hI_23 c_26) rfl rfl dX3_swap_133 ?_
          refine lv_isub hx hb dX3_swap_134 ?_
          refine lv_istore_n (lv' := [(2, .int (lf - ((fX3_solve u).2.2.1 53 (((8 * h) + ((lpX3_swap_32_r u ho lf z gt h).2)).toNatClampNeg)))), (4, .int ((lpX3_swap_32_r u ho lf z gt h).2)), (3, .int z), (5, .int h), (0, .ref o), (1, .int ho)]) hx hb dX3_swap_135 rfl hl (by decide) rfl (fun ls hl => ?_)
          refine lv_iload_n hx hb dX3_swap_136 rfl (lv_at hl 2 rfl) ?_
          refine lv_iconst (v := 1) hx hb dX3_swap_137 (by decide) ?_
          refine lv_iload hx hb dX3_swap_138 (lv_at hl 1 rfl) ?_
          refine lv_ishl hx hb dX3_swap_140 ?_
          refine lv_ior hx hb dX3_swap_141 ?_
          refine lv_istore_n (lv' := [(3, .int (z ||| ((1 : Int32) <<< (((lpX3_swap_32_r u ho lf z gt h).2) &&& 31)))), (2, .int (lf - ((fX3_solve u).2.2.1 53 (((8 * h) + ((lpX3_swap_32_r u ho lf z gt h).2)).toNatClampNeg)))), (4, .int ((lpX3_swap_32_r u ho lf z gt h).2)), (5, .int h), (0, .ref o), (1, .int ho)]) hx hb dX3_swap_142 rfl hl (by decide) rfl (fun ls hl => ?_)
          refine lv_iinc (v := h + 1) (lv' := [(5, .int (h + 1)), (3, .int (z ||| ((1 : Int32) <<< (((lpX3_swap_32_r u ho lf z gt h).2) &&& 31)))), (2, .int (lf - ((fX3_solve u).2.2.1 53 (((8 * h) + ((lpX3_swap_32_r u ho lf z gt h).2)).toNatClampNeg)))), (4, .int ((lpX3_swap_32_r u ho lf z gt h).2)), (0, .ref o), (1, .int ho)]) hx hb dX3_swap_143 hl (k := 3) rfl (rfl) (by decide) rfl (fun ls hl => ?_)
          refine lv_goto (tgt := 23) hx hb dX3_swap_146 (by decide) ?_
          have hs : lpX3_swap_23 u ho (lf, z, gt, h) = (0, lf - ((fX3_solve u).2.2.1 53 (((8 * h) + ((lpX3_swap_32_r u ho lf z gt h).2)).toNatClampNeg)), z ||| ((1 : Int32) <<< (((lpX3_swap_32_r u ho lf z gt h).2) &&& 31)), (lpX3_swap_32_r u ho lf z gt h).2, h + 1) := by rw [lpX3_swap_23, if_neg c_26]
          rw [hs] at kb
          exact kb rfl _ (lv_sub hl [2, 1, 3, 0, 4, 5] rfl)
    · skip
      intro ls hl
      have hl : lv_has ls 6 [(2, .int ((lpX3_swap_23_r u ho).2.1)), (3, .int ((lpX3_swap_23_r u ho).2.2.1)), (4, .int ((lpX3_swap_23_r u ho).2.2.2.1)), (5, .int ((lpX3_swap_23_r u ho).2.2.2.2)), (0, .ref o), (1, .int ho)] := hl
      refine lv_iload hx hb dX3_swap_149 (lv_at hl 2 rfl) ?_
      have hF : fX3_swap u ho = ((lpX3_swap_23_r u ho).2.2.2.1, (fX3_solve u).2) := by rw [fX3_swap, if_pos c_5]
      exact mw_iret hx hb hr hlk hM hS (by rw [hF]) (by rw [hF]) dX3_swap_151
  · skip
    refine lv_iconst (v := (-1)) hx hb dX3_swap_8 (by decide) ?_
    have hF : fX3_swap u ho = ((-1), u) := by rw [fX3_swap, if_neg (nt_of c_5)]
    exact mw_iret hx hb hr hlk hM hS (by rw [hF]) (by rw [hF]) dX3_swap_9
