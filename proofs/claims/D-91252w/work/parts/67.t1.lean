/-! Reader.text. By tools/gen_rc.py -/
set_option maxRecDepth 100000
/-- an end of text -/
def txQ (κ : Kg) (o r al : Nat) (res : Except (Int32 × Nat) (Nat × (Nat → Ln))) : Array Value → State → Outcome → State → Prop := fun _ st oc t => match res with
  | .error q => tErQ κ r q.1 q.2 st oc t
  | .ok q => oc = .returned (some (.ref al)) ∧ LW κ o (fun q => r < q ∧ q < t.heap.size) t.heap al q.1 q.2 ∧ (∀ q : Nat, q < r → t.heap[q]? = st.heap[q]?) ∧ st.heap.size ≤ t.heap.size
theorem capG_16 {n : Nat} (h : n ≤ 16) : capG n ≤ 24 := by
  unfold capG
  omega

set_option maxHeartbeats 4000000 in
theorem text_ds (l : Launch) (κ : Kg) (o : Nat) (τ : Tp) (r al : Nat) {pg : Program} {ev : Env} {s0 : State} {mi : MethodId} {bl : List Frame} {me : Method} {co : Code} (hx : pg.tables.exec = Jvm.exec) (hb : co.code = cX5_text) (hml : co.maxLocals = 4) (hnh : ∀ x ∈ co.exceptionTable.toList, False) (hown : s0.vm.findClass RX5 = some mi.cls) (hts : ∀ w ∈ lw_all, w.before #[.ref r] s0 = true) (hr : me.sig.returnType = some (.object "java/util/ArrayList")) (hlk : me.locks = false) {P tm w mc ms cells slots : Nat} {H : Heap} {locs : List Loc} {ls : Array Slot} {Q : State → Prop} (hP : QS κ o τ r s0 al P tm w H locs) (hl : lv_has ls 4 [(0, .ref r)]) (hf : cells ≤ mc ∧ slots ≤ ms)
    (kk : W pg l ev (rmC 30 mc ms) s0 mi #[.ref r] bl me co H locs cells slots Q (F0 mi 118 ls [.int (dsW τ P)])) : W pg l ev (rmC 30 mc ms) s0 mi #[.ref r] bl me co H locs cells slots Q (F0 mi 65 ls []) := by
  refine lv_aload_n hx hb dX5_text_65 rfl (lv_at hl 0 rfl) ?_
  refine va_ldcS hx hb hown (sR_16 hP.1.1) dX5_text_66 ?_
  refine qs_is hx hb hml hown hts hP 16 (by decide) (by decide) hl.1 (Nat.le_of_ble_eq_true rfl) dX5_text_68 ⟨by omega, by omega⟩ ?_
  refine lv_B_eq (tgt := 78) hx hb dX5_text_71 (by decide) (fun c_71 => ?_) (fun c_71 => ?_)
  · skip
    refine lv_aload_n hx hb dX5_text_78 rfl (lv_at hl 0 rfl) ?_
    refine va_ldcS hx hb hown (sR_17 hP.1.1) dX5_text_79 ?_
    refine qs_is hx hb hml hown hts hP 17 (by decide) (by decide) hl.1 (Nat.le_of_ble_eq_true rfl) dX5_text_81 ⟨by omega, by omega⟩ ?_
    refine lv_B_eq (tgt := 91) hx hb dX5_text_84 (by decide) (fun c_84 => ?_) (fun c_84 => ?_)
    · skip
      refine lv_aload_n hx hb dX5_text_91 rfl (lv_at hl 0 rfl) ?_
      refine va_ldcS hx hb hown (sR_18 hP.1.1) dX5_text_92 ?_
      refine qs_is hx hb hml hown hts hP 18 (by decide) (by decide) hl.1 (Nat.le_of_ble_eq_true rfl) dX5_text_94 ⟨by omega, by omega⟩ ?_
      refine lv_B_eq (tgt := 104) hx hb dX5_text_97 (by decide) (fun c_97 => ?_) (fun c_97 => ?_)
      · skip
        refine lv_aload_n hx hb dX5_text_104 rfl (lv_at hl 0 rfl) ?_
        refine va_ldcS hx hb hown (sR_19 hP.1.1) dX5_text_105 ?_
        refine qs_is hx hb hml hown hts hP 19 (by decide) (by decide) hl.1 (Nat.le_of_ble_eq_true rfl) dX5_text_107 ⟨by omega, by omega⟩ ?_
        refine lv_B_eq (tgt := 117) hx hb dX5_text_110 (by decide) (fun c_110 => ?_) (fun c_110 => ?_)
        · skip
          refine lv_iconst (v := 0) hx hb dX5_text_117 (by decide) ?_
          refine v_eqi (show (0 : Int32) = dsW τ P from ?_) kk
          unfold dsW
          rw [if_neg (by rw [c_71]; decide), if_neg (by rw [c_84]; decide), if_neg (by rw [c_97]; decide), if_neg (by rw [c_110]; decide)]
        · skip
          refine lv_iconst (v := 4) hx hb dX5_text_113 (by decide) ?_
          refine lv_goto (tgt := 118) hx hb dX5_text_114 (by decide) ?_
          refine v_eqi (show (4 : Int32) = dsW τ P from ?_) kk
          unfold dsW
          rw [if_neg (by rw [c_71]; decide), if_neg (by rw [c_84]; decide), if_neg (by rw [c_97]; decide), if_pos c_110]
      · skip
        refine lv_iconst (v := 3) hx hb dX5_text_100 (by decide) ?_
        refine lv_goto (tgt := 118) hx hb dX5_text_101 (by decide) ?_
        refine v_eqi (show (3 : Int32) = dsW τ P from ?_) kk
        unfold dsW
        rw [if_neg (by rw [c_71]; decide), if_neg (by rw [c_84]; decide), if_pos c_97]
    · skip
      refine lv_iconst (v := 2) hx hb dX5_text_87 (by decide) ?_
      refine lv_goto (tgt := 118) hx hb dX5_text_88 (by decide) ?_
      refine v_eqi (show (2 : Int32) = dsW τ P from ?_) kk
      unfold dsW
      rw [if_neg (by rw [c_71]; decide), if_pos c_84]
  · skip
    refine lv_iconst (v := 1) hx hb dX5_text_74 (by decide) ?_
    refine lv_goto (tgt := 118) hx hb dX5_text_75 (by decide) ?_
    refine v_eqi (show (1 : Int32) = dsW τ P from ?_) kk
    unfold dsW
    rw [if_pos c_71]

set_option maxHeartbeats 8000000 in
theorem text_loop (l : Launch) (κ : Kg) (o : Nat) (τ : Tp) (r al : Nat) (hro : o + 1 < r) (hrB : κ.base ≤ r) (TT : TO) {pg : Program} {ev : Env} {s0 : State} {mi : MethodId} {bl : List Frame} {me : Method} {co : Code} (hx : pg.tables.exec = Jvm.exec) (hb : co.code = cX5_text) (hml : co.maxLocals = 4) (hnh : ∀ x ∈ co.exceptionTable.toList, False) (hown : s0.vm.findClass RX5 = some mi.cls) (hts : ∀ w ∈ lw_all, w.before #[.ref r] s0 = true) (hr : me.sig.returnType = some (.object "java/util/ArrayList")) (hlk : me.locks = false) :
    ∀ (k n : Nat) (es : Nat → Nat) (lns : Nat → Ln) (P tm1 w1 x c : Nat) (H : Heap) (locs : List Loc) (ls : Array Slot) (cells slots : Nat), n + k = 17 → n ≤ 16 → tm1 ≤ 80 → txL τ k n lns P tm1 cells slots = TT → QS κ o τ r s0 al P tm1 w1 H locs → LLn κ o r w1 H al x c n es lns → lv_has ls 4 [(0, .ref r)] →
      W pg l ev (rmC 30 TT.2.1 TT.2.2) s0 mi #[.ref r] bl me co H locs cells slots (MQT bl (txQ κ o r al TT.1) #[.ref r] s0 TT.2.1 TT.2.2 (fun q => κ.base ≤ q)) (F0 mi 4 ls []) := by
  intro k
  induction k with
  | zero => intro n es lns P tm1 w1 x c H locs ls cells slots h1 h2; omega
  | succ k ih =>
    intro n es lns P tm1 w1 x c H locs ls cells slots hk hn h80 hT hP hLL hl
    have hgT := txL_ge (τ := τ) (k + 1) n lns P tm1 cells slots
    rw [hT] at hgT
    refine lv_aload_n hx hb dX5_text_4 rfl (lv_at hl 0 rfl) ?_
    obtain ⟨nu, hO, hnu⟩ := hP.ob
    refine ob_get (C := RX5) (T := TX5) (N := 8) (ci := 4) (v := .int (ts τ P)) hx hb hts in_X5 hown hP.1.1.1 hO rfl 1 (by decide) q431 (fun x h => h) rfl dX5_text_5 ?_
    refine lv_if_eq (tgt := 222) hx hb dX5_text_8 (by decide) (fun c_8 => ?_) (fun c_8 => ?_)
    · skip
      refine lv_aload_n hx hb dX5_text_222 rfl (lv_at hl 0 rfl) ?_
      obtain ⟨nu, hO, hnu⟩ := hP.ob
      refine ob_get (C := RX5) (T := TX5) (N := 8) (ci := 4) (v := .ref al) hx hb hts in_X5 hown hP.1.1.1 hO rfl 6 (by decide) q436 (fun x h => h) rfl dX5_text_223 ?_
      rw [txL, if_pos c_8] at hT
      have hg1 : TT.2.1 = cells := by rw [← hT]
      have hg2 : TT.2.2 = slots := by rw [← hT]
      have hTe : TT.1 = .ok (n, lns) := by rw [← hT]
      refine W.widen (k := TT.2.1) (n := TT.2.2) (by omega) (by omega) ?_
      refine W.mono (fun _ => MQT.of) ?_
      exact W.aret hx hb hr (Or.inl ⟨_, rfl⟩) (Or.inr ⟨_, rfl⟩) (fun t ht hW => by show txQ κ o r al TT.1 _ s0 _ t; rw [hTe]; exact ⟨rfl, by rw [ht]; exact hLL.fin, fun q h => by rw [ht]; exact hP.2.2.1 q h, by rw [ht]; exact hP.2.2.2.2.2⟩) hP.2.2.2.2.1 dX5_text_226 hlk
    · skip
      refine lv_aload_n hx hb dX5_text_11 rfl (lv_at hl 0 rfl) ?_
      refine va_ldcS hx hb hown (sR_2 hP.1.1) dX5_text_12 ?_
      refine qs_is hx hb hml hown hts hP 2 (by decide) (by decide) hl.1 (Nat.le_of_ble_eq_true rfl) dX5_text_14 ⟨by omega, by omega⟩ ?_
      refine lv_B_eq (tgt := 32) hx hb dX5_text_17 (by decide) (fun c_17 => ?_) (fun c_17 => ?_)
      · skip
        refine lv_aload_n hx hb dX5_text_32 rfl (lv_at hl 0 rfl) ?_
        have hno : ¬ (isW τ P 2 = true ∧ ¬ n = 16) := by first | (rw [c_17]; simp; done) | (intro z; exact z.2 ((nI_eq (a := n) (b := 16) (by omega) (by decide)).mp c_29))
        rw [txL, if_neg c_8, if_neg hno] at hT
        have hTe : TT.1 = .error (eKd τ P, ws τ P) := by rw [← hT]
        have hg1 : TT.2.1 = cells + 24 := by rw [← hT]
        have hg2 : TT.2.2 = slots + 160 := by rw [← hT]
        exact qs_wrong hx hb hml hnh hlk hown hts hP (by decide) hl.1 dX5_text_33 dX5_text_36 ⟨by show cells + 1 ≤ _; omega, by show slots + 8 ≤ _; omega⟩ ⟨by omega, by omega⟩ (fun oc t hq => by show txQ κ o r al TT.1 _ s0 oc t; rw [hTe]; exact hq)
      · skip
        refine lv_aload_n hx hb dX5_text_20 rfl (lv_at hl 0 rfl) ?_
        obtain ⟨nu, hO, hnu⟩ := hP.ob
        refine ob_get (C := RX5) (T := TX5) (N := 8) (ci := 4) (v := .ref al) hx hb hts in_X5 hown hP.1.1.1 hO rfl 6 (by decide) q436 (fun x h => h) rfl dX5_text_21 ?_
        refine ro_call (g_runV (n := 0) (As := []) (rest := []) hx hb hml hown hts (metJ2_size l κ al x c n es) q742 q743 q744 q67 q745 (by decide +kernel) (by decide) (by decide) rfl hP.1.1.1 hLL.1 (ob_recv hP.1.1.1 rfl hLL.1.1.choose_spec) hl.1 (Nat.le_of_ble_eq_true rfl) rfl dX5_text_24 ⟨by omega, by omega⟩) ?_
        refine lv_bipush (v := 16) hx hb dX5_text_27 (by decide) ?_
        refine lv_icmp_ne (tgt := 37) hx hb dX5_text_29 (by decide) (fun c_29 => ?_) (fun c_29 => ?_)
        · skip
          refine lv_aload_n hx hb dX5_text_37 rfl (lv_at hl 0 rfl) ?_
          have hn16 : ¬ n = 16 := fun z => c_29 (by rw [z]; rfl)
          rw [txL, if_neg c_8, if_pos ⟨c_17, hn16⟩] at hT
          have hge : cells + 24 + (pEither τ 6 (te τ P) tm1).2.1 ≤ TT.2.1 ∧ slots + 160 + (pEither τ 6 (te τ P) tm1).2.2 ≤ TT.2.2 := by
            rw [← hT]
            cases (pEither τ 6 (te τ P) tm1).1 with
            | error q => exact ⟨Nat.le_refl _, Nat.le_refl _⟩
            | ok q =>
              dsimp only
              cases lnA τ q with
              | error q2 => exact ⟨Nat.le_refl _, Nat.le_refl _⟩
              | ok q2 => exact txL_ge _ _ _ _ _ _ _
          refine qs_next hx hb hml hown hts hP hro hrB (by decide) hl.1 (Nat.le_of_ble_eq_true rfl) dX5_text_38 ⟨by show cells + 4 ≤ _; omega, by show slots + 24 ≤ _; omega⟩ (fun H1 locs1 w2 hP hF1 hw1 => ?_)
          have hLL := hLL.step hF1 hw1
          have hr1 := hP.rl
          have hll0 := hLL.1.lt
          refine lv_aload_n hx hb dX5_text_41 rfl (lv_at hl 0 rfl) ?_
          refine lv_iconst (v := 0) hx hb dX5_text_42 (by decide) ?_
          refine qs_call (n := 1) (As := [.int (nI 0)]) (rest := []) hx hb hml hnh hlk hown hts hP hrB (metX5_ei0 l κ o τ r al hro hrB (te τ P) tm1 w2 h80) q817 q819 qs13 q820 (by decide +kernel) (by decide) (by decide) rfl hl.1 (Nat.le_of_ble_eq_true rfl) rfl dX5_text_43 ⟨by show cells + 4 + (pEither τ 6 (te τ P) tm1).2.1 ≤ TT.2.1; omega, by show slots + 24 + (pEither τ 6 (te τ P) tm1).2.2 ≤ TT.2.2; omega⟩ ⟨by omega, by omega⟩ (fun q hq oc t her => by show txQ κ o r al TT.1 _ s0 oc t; rw [hq] at hT; rw [← hT]; exact her) (fun q hq H2 locs2 a w3 hP hF2 hw3 hE => ?_)
          rw [hq] at hT
          have hT : (match lnA τ q with | .error q2 => ((.error q2, cells + 24 + (pEither τ 6 (te τ P) tm1).2.1, slots + 160 + (pEither τ 6 (te τ P) tm1).2.2) : TO) | .ok q2 => txL τ k (n + 1) (updN lns n q2.1) q2.2.1 q2.2.2 (cells + 24 + (pEither τ 6 (te τ P) tm1).2.1) (slots + 160 + (pEither τ 6 (te τ P) tm1).2.2)) = TT := hT
          have hq1 := pEi_tm (pOne_tm 6) _ _ q h80 hq
          have hLL := hLL.step hF2 hw3
          have hE := (TR.of hE hr1).deep (show q.2.2 - tm1 + 6 ≤ 86 by omega)
          have hlo := hLL.1.lt
          have hll1 := hll0
          have hF21 := hF2.1
          refine lv_astore_n (lv' := [(1, .ref a), (0, .ref r)]) hx hb dX5_text_46 rfl hl (by decide) rfl (fun ls hl => ?_)
          refine lv_aload_n hx hb dX5_text_47 rfl (lv_at hl 1 rfl) ?_
          refine va_ldcS hx hb hown (sR_15 hP.1.1) dX5_text_48 ?_
          refine qs_is hx hb hml hown hts hP 15 (by decide) (by decide) hl.1 (Nat.le_of_ble_eq_true rfl) dX5_text_50 ⟨by omega, by omega⟩ ?_
          refine lv_B_ne (tgt := 61) hx hb dX5_text_53 (by decide) (fun c_53 => ?_) (fun c_53 => ?_)
          · skip
            refine lv_aload_n hx hb dX5_text_61 rfl (lv_at hl 1 rfl) ?_
            refine qs_next hx hb hml hown hts hP hro hrB (by decide) hl.1 (Nat.le_of_ble_eq_true rfl) dX5_text_62 ⟨by show cells + 4 + (pEither τ 6 (te τ P) tm1).2.1 + 4 ≤ _; omega, by show slots + 24 + (pEither τ 6 (te τ P) tm1).2.2 + 24 ≤ _; omega⟩ (fun H3 locs3 w4 hP hF3 hw4 => ?_)
            have hLL := hLL.step hF3 hw4
            have hE := hE.step hF3 hw4
            refine text_ds l κ o τ r al hx hb hml hnh hown hts hr hlk hP (lv_sub hl [1] rfl) ⟨by omega, by omega⟩ ?_
            refine lv_istore_n (lv' := [(2, .int (dsW τ (te τ q.2.1))), (1, .ref a), (0, .ref r)]) hx hb dX5_text_118 rfl hl (by decide) rfl (fun ls hl => ?_)
            refine lv_iconst (v := 0) hx hb dX5_text_119 (by decide) ?_
            refine lv_istore_n (lv' := [(3, .int 0), (2, .int (dsW τ (te τ q.2.1))), (1, .ref a), (0, .ref r)]) hx hb dX5_text_120 rfl hl (by decide) rfl (fun ls hl => ?_)
            refine lv_iload_n hx hb dX5_text_121 rfl (lv_at hl 1 rfl) ?_
            refine lv_if_ne (tgt := 130) hx hb dX5_text_122 (by decide) (fun c_122 => ?_) (fun c_122 => ?_)
            · skip
              refine lv_aload_n hx hb dX5_text_130 rfl (lv_at hl 3 rfl) ?_
              refine qs_next hx hb hml hown hts hP hro hrB (by decide) hl.1 (Nat.le_of_ble_eq_true rfl) dX5_text_131 ⟨by show cells + 4 + (pEither τ 6 (te τ P) tm1).2.1 + 4 + 4 ≤ _; omega, by show slots + 24 + (pEither τ 6 (te τ P) tm1).2.2 + 24 + 24 ≤ _; omega⟩ (fun H4 locs4 w5 hP hF4 hw5 => ?_)
              have hLL := hLL.step hF4 hw5
              have hE := hE.step hF4 hw5
              refine lv_iload_n hx hb dX5_text_134 rfl (lv_at hl 1 rfl) ?_
              refine lv_iconst (v := 3) hx hb dX5_text_135 (by decide) ?_
              refine lv_icmp_ne (tgt := 183) hx hb dX5_text_136 (by decide) (fun c_136 => ?_) (fun c_136 => ?_)
              · skip
                refine lv_aload_n hx hb dX5_text_183 rfl (lv_at hl 3 rfl) ?_
                obtain ⟨nu, hO, hnu⟩ := hP.ob
                refine ob_get (C := RX5) (T := TX5) (N := 8) (ci := 4) (v := .int (ts τ (te τ (te τ q.2.1)))) hx hb hts in_X5 hown hP.1.1.1 hO rfl 1 (by decide) q431 (fun x h => h) rfl dX5_text_184 ?_
                refine lv_bipush (v := 59) hx hb dX5_text_187 (by decide) ?_
                refine lv_icmp_eq (tgt := 197) hx hb dX5_text_189 (by decide) (fun c_189 => ?_) (fun c_189 => ?_)
                · skip
                  refine lv_aload_n hx hb dX5_text_197 rfl (lv_at hl 3 rfl) ?_
                  refine qs_next hx hb hml hown hts hP hro hrB (by decide) hl.1 (Nat.le_of_ble_eq_true rfl) dX5_text_198 ⟨by show cells + 4 + (pEither τ 6 (te τ P) tm1).2.1 + 4 + 4 + 4 ≤ _; omega, by show slots + 24 + (pEither τ 6 (te τ P) tm1).2.2 + 24 + 24 + 24 ≤ _; omega⟩ (fun H7 locs7 w7 hP hF7 hw7 => ?_)
                  have hLL := hLL.step hF7 hw7
                  have hE := hE.step hF7 hw7
                  have hEh := hE.hi
                  have hr7 := hP.rl
                  have hw7l := hP.wl
                  have hs7 := hP.2.2.2.2.2
                  have hlo7 := hLL.1.lt
                  refine lv_aload_n hx hb dX5_text_201 rfl (lv_at hl 3 rfl) ?_
                  obtain ⟨nu, hO, hnu⟩ := hP.ob
                  refine ob_get (C := RX5) (T := TX5) (N := 8) (ci := 4) (v := .ref al) hx hb hts in_X5 hown hP.1.1.1 hO rfl 6 (by decide) q436 (fun x h => h) rfl dX5_text_202 ?_
                  have hP0 := hP
                  refine ob_new (C := RX13) (T := TX13) (N := 3) (ci := 11) hx hb hts in_X13 tyX13 tyX13_ok hown q1087 q1088 q95 hP.1.1.1 rfl (by show cells + 4 + (pEither τ 6 (te τ P) tm1).2.1 + 4 + 4 + 4 + 1 ≤ TT.2.1; omega) (by show slots + 24 + (pEither τ 6 (te τ P) tm1).2.2 + 24 + 24 + 24 + 3 ≤ TT.2.2; omega) dX5_text_205 (fun H8 hN hz8 ho8 => ?_)
                  have hP := hP.new (H1 := H8) (by omega) ho8
                  refine lv_dup hx hb dX5_text_208 rfl ?_
                  refine lv_aload_n hx hb dX5_text_209 rfl (lv_at hl 2 rfl) ?_
                  refine lv_iload_n hx hb dX5_text_210 rfl (lv_at hl 1 rfl) ?_
                  refine lv_iload_n hx hb dX5_text_211 rfl (lv_at hl 0 rfl) ?_
                  refine ob_called (x_runI (n := 3) (As := [.ref a, .int (dsW τ (te τ q.2.1)), .int 0]) (rest := [.ref H7.size, .ref al]) hx hb hml hown hts (metX13_init l κ H7.size a (dsW τ (te τ q.2.1)) 0) q1089 q1090 q95 q1091 rfl (by decide +kernel) (by decide) (by decide) rfl hP.1 hN hl.1 (Nat.le_of_ble_eq_true rfl) rfl dX5_text_212 ⟨by show cells + 4 + (pEither τ 6 (te τ P) tm1).2.1 + 4 + 4 + 4 + 1 + 0 ≤ TT.2.1; omega, by show slots + 24 + (pEither τ 6 (te τ P) tm1).2.2 + 24 + 24 + 24 + 3 + 0 ≤ TT.2.2; omega⟩) hs7 (fun H9 hN hz9 hq9 => ?_)
                  have hho : ∀ q : Nat, q < H7.size → H9[q]? = H7[q]? := fun q h => (hq9 q (by omega)).trans (ho8 q h)
                  have hP := hP0.new (H1 := H9) (by omega) hho
                  have hLL := hLL.new (H1 := H9) (by omega) hho
                  have hE := hE.new (H1 := H9) (by omega) hho
                  have hcap := capG_16 hn
                  refine x_called (x_runV (n := 1) (As := [.ref H7.size]) (rest := []) hx hb hml hown hts (metJ2_add l κ al x c n H9.size H7.size es hLL.2.1 (by omega) (by have := hLL.2.2.1; omega)) q993 q994 q995 q67 q996 (by decide +kernel) (by decide) (by decide) rfl hP.1 ⟨rfl, hLL.1, fun j hj => by obtain ⟨a2, lo, hi, g1, -⟩ := hLL.2.2.2.2.2.2 j hj; exact isOb.of g1 (by decide) (by decide), isOb.of hN (by decide) (by decide)⟩ (ob_recv hP.1.1.1 rfl hLL.1.1.choose_spec) hl.1 (Nat.le_of_ble_eq_true rfl) rfl dX5_text_215 ⟨by show cells + 4 + (pEither τ 6 (te τ P) tm1).2.1 + 4 + 4 + 4 + 1 + 1 ≤ TT.2.1; omega, by show slots + 24 + (pEither τ 6 (te τ P) tm1).2.2 + 24 + 24 + 24 + 3 + capG n ≤ TT.2.2; omega⟩) (fun v2 st t L hst hq2 hvm hL => ?_)
                  obtain ⟨hv, ⟨x', c', hLA, hx'⟩, hz3, hz4, hq4⟩ := hq2
                  cases hv
                  rw [hst] at hx' hz3 hz4 hq4
                  refine W.eq (g2 := F0 mi 218 ls [.int 1]) rfl ?_
                  have hral := hLL.2.2.1
                  have hrx := hLL.2.2.2.1
                  have hP := hP.lst (H1 := t.heap) (L := L) hLL.1 hral hrx hrB hz3 hq4 (fun y hy => by rcases hL y hy with z | z | z <;> omega)
                  have hLL := hLL.add (L := (q.1, dsW τ (te τ q.2.1), 0)) (a := a) hN (by omega) (by omega) (by omega) (by omega) hE (by omega) (by omega) (by omega) (by omega) hLA hx' hz3 hq4
                  have hA : lnA τ q = .ok ((q.1, dsW τ (te τ q.2.1), 0), te τ (te τ (te τ q.2.1)), q.2.2) := by unfold lnA; rw [if_pos c_53, if_neg c_122, if_neg c_136]; unfold lnE; rw [if_pos c_189]
                  rw [hA] at hT
                  refine lv_pop hx hb dX5_text_218 rfl ?_
                  refine lv_goto (tgt := 4) hx hb dX5_text_219 (by decide) ?_
                  refine W.widen (k := cells + 24 + (pEither τ 6 (te τ P) tm1).2.1) (n := slots + 160 + (pEither τ 6 (te τ P) tm1).2.2) (by omega) (by omega) ?_
                  exact ih (n + 1) (va_up es n H7.size) (updN lns n (q.1, dsW τ (te τ q.2.1), 0)) (te τ (te τ (te τ q.2.1))) q.2.2 w7 x' c' t.heap _ ls _ _ (by omega) (by omega) hq1.2 hT hP hLL (lv_sub hl [3] rfl)
                · skip
                  refine lv_aload_n hx hb dX5_text_192 rfl (lv_at hl 3 rfl) ?_
                  have hA : lnA τ q = .error (eKd τ (te τ (te τ q.2.1)), ws τ (te τ (te τ q.2.1))) := by unfold lnA; rw [if_pos c_53, if_neg c_122, if_neg c_136]; unfold lnE; rw [if_neg c_189]; rfl
                  rw [hA] at hT
                  have hTe : TT.1 = .error (eKd τ (te τ (te τ q.2.1)), ws τ (te τ (te τ q.2.1))) := by rw [← hT]
                  exact qs_wrong hx hb hml hnh hlk hown hts hP (by decide) hl.1 dX5_text_193 dX5_text_196 ⟨by show cells + 4 + (pEither τ 6 (te τ P) tm1).2.1 + 4 + 4 + 1 ≤ _; omega, by show slots + 24 + (pEither τ 6 (te τ P) tm1).2.2 + 24 + 24 + 8 ≤ _; omega⟩ ⟨by omega, by omega⟩ (fun oc t hq => by show txQ κ o r al TT.1 _ s0 oc t; rw [hTe]; exact hq)
              · skip
                refine lv_aload_n hx hb dX5_text_139 rfl (lv_at hl 3 rfl) ?_
                obtain ⟨nu, hO, hnu⟩ := hP.ob
                refine ob_get (C := RX5) (T := TX5) (N := 8) (ci := 4) (v := .int (ts τ (te τ (te τ q.2.1)))) hx hb hts in_X5 hown hP.1.1.1 hO rfl 1 (by decide) q431 (fun x h => h) rfl dX5_text_140 ?_
                refine lv_iconst (v := 2) hx hb dX5_text_143 (by decide) ?_
                refine lv_icmp_eq (tgt := 152) hx hb dX5_text_144 (by decide) (fun c_144 => ?_) (fun c_144 => ?_)
                · skip
                  refine lv_aload_n hx hb dX5_text_152 rfl (lv_at hl 3 rfl) ?_
                  obtain ⟨nu, hO, hnu⟩ := hP.ob
                  have hO := hnu c_144 ▸ hO
                  refine ob_get (C := RX5) (T := TX5) (N := 8) (ci := 4) (v := .int (tn τ (te τ (te τ q.2.1)))) hx hb hts in_X5 hown hP.1.1.1 hO rfl 3 (by decide) q433 (fun x h => h) rfl dX5_text_153 ?_
                  refine lv_bipush (v := 100) hx hb dX5_text_156 (by decide) ?_
                  refine lv_icmp_le (tgt := 174) hx hb dX5_text_158 (by decide) (fun c_158 => ?_) (fun c_158 => ?_)
                  · skip
                    refine lv_aload_n hx hb dX5_text_174 rfl (lv_at hl 3 rfl) ?_
                    obtain ⟨nu, hO, hnu⟩ := hP.ob
                    have hO := hnu c_144 ▸ hO
                    refine ob_get (C := RX5) (T := TX5) (N := 8) (ci := 4) (v := .int (tn τ (te τ (te τ q.2.1)))) hx hb hts in_X5 hown hP.1.1.1 hO rfl 3 (by decide) q433 (fun x h => h) rfl dX5_text_175 ?_
                    refine lv_istore_n (lv' := [(3, .int (tn τ (te τ (te τ q.2.1)))), (2, .int (dsW τ (te τ q.2.1))), (1, .ref a), (0, .ref r)]) hx hb dX5_text_178 rfl hl (by decide) rfl (fun ls hl => ?_)
                    refine lv_aload_n hx hb dX5_text_179 rfl (lv_at hl 3 rfl) ?_
                    refine qs_next hx hb hml hown hts hP hro hrB (by decide) hl.1 (Nat.le_of_ble_eq_true rfl) dX5_text_180 ⟨by show cells + 4 + (pEither τ 6 (te τ P) tm1).2.1 + 4 + 4 + 4 ≤ _; omega, by show slots + 24 + (pEither τ 6 (te τ P) tm1).2.2 + 24 + 24 + 24 ≤ _; omega⟩ (fun H5 locs5 w6 hP hF5 hw6 => ?_)
                    have hLL := hLL.step hF5 hw6
                    have hE := hE.step hF5 hw6
                    refine lv_aload_n hx hb dX5_text_183 rfl (lv_at hl 3 rfl) ?_
                    obtain ⟨nu, hO, hnu⟩ := hP.ob
                    refine ob_get (C := RX5) (T := TX5) (N := 8) (ci := 4) (v := .int (ts τ (te τ (te τ (te τ q.2.1))))) hx hb hts in_X5 hown hP.1.1.1 hO rfl 1 (by decide) q431 (fun x h => h) rfl dX5_text_184 ?_
                    refine lv_bipush (v := 59) hx hb dX5_text_187 (by decide) ?_
                    refine lv_icmp_eq (tgt := 197) hx hb dX5_text_189 (by decide) (fun c_189 => ?_) (fun c_189 => ?_)
                    · skip
                      refine lv_aload_n hx hb dX5_text_197 rfl (lv_at hl 3 rfl) ?_
                      refine qs_next hx hb hml hown hts hP hro hrB (by decide) hl.1 (Nat.le_of_ble_eq_true rfl) dX5_text_198 ⟨by show cells + 4 + (pEither τ 6 (te τ P) tm1).2.1 + 4 + 4 + 4 + 4 ≤ _; omega, by show slots + 24 + (pEither τ 6 (te τ P) tm1).2.2 + 24 + 24 + 24 + 24 ≤ _; omega⟩ (fun H7 locs7 w7 hP hF7 hw7 => ?_)
                      have hLL := hLL.step hF7 hw7
                      have hE := hE.step hF7 hw7
                      have hEh := hE.hi
                      have hr7 := hP.rl
                      have hw7l := hP.wl
                      have hs7 := hP.2.2.2.2.2
                      have hlo7 := hLL.1.lt
                      refine lv_aload_n hx hb dX5_text_201 rfl (lv_at hl 3 rfl) ?_
                      obtain ⟨nu, hO, hnu⟩ := hP.ob
                      refine ob_get (C := RX5) (T := TX5) (N := 8) (ci := 4) (v := .ref al) hx hb hts in_X5 hown hP.1.1.1 hO rfl 6 (by decide) q436 (fun x h => h) rfl dX5_text_202 ?_
                      have hP0 := hP
                      refine ob_new (C := RX13) (T := TX13) (N := 3) (ci := 11) hx hb hts in_X13 tyX13 tyX13_ok hown q1087 q1088 q95 hP.1.1.1 rfl (by show cells + 4 + (pEither τ 6 (te τ P) tm1).2.1 + 4 + 4 + 4 + 4 + 1 ≤ TT.2.1; omega) (by show slots + 24 + (pEither τ 6 (te τ P) tm1).2.2 + 24 + 24 + 24 + 24 + 3 ≤ TT.2.2; omega) dX5_text_205 (fun H8 hN hz8 ho8 => ?_)
                      have hP := hP.new (H1 := H8) (by omega) ho8
                      refine lv_dup hx hb dX5_text_208 rfl ?_
                      refine lv_aload_n hx hb dX5_text_209 rfl (lv_at hl 2 rfl) ?_
                      refine lv_iload_n hx hb dX5_text_210 rfl (lv_at hl 1 rfl) ?_
                      refine lv_iload_n hx hb dX5_text_211 rfl (lv_at hl 0 rfl) ?_
                      refine ob_called (x_runI (n := 3) (As := [.ref a, .int (dsW τ (te τ q.2.1)), .int (tn τ (te τ (te τ q.2.1)))]) (rest := [.ref H7.size, .ref al]) hx hb hml hown hts (metX13_init l κ H7.size a (dsW τ (te τ q.2.1)) (tn τ (te τ (te τ q.2.1)))) q1089 q1090 q95 q1091 rfl (by decide +kernel) (by decide) (by decide) rfl hP.1 hN hl.1 (Nat.le_of_ble_eq_true rfl) rfl dX5_text_212 ⟨by show cells + 4 + (pEither τ 6 (te τ P) tm1).2.1 + 4 + 4 + 4 + 4 + 1 + 0 ≤ TT.2.1; omega, by show slots + 24 + (pEither τ 6 (te τ P) tm1).2.2 + 24 + 24 + 24 + 24 + 3 + 0 ≤ TT.2.2; omega⟩) hs7 (fun H9 hN hz9 hq9 => ?_)
                      have hho : ∀ q : Nat, q < H7.size → H9[q]? = H7[q]? := fun q h => (hq9 q (by omega)).trans (ho8 q h)
                      have hP := hP0.new (H1 := H9) (by omega) hho
                      have hLL := hLL.new (H1 := H9) (by omega) hho
                      have hE := hE.new (H1 := H9) (by omega) hho
                      have hcap := capG_16 hn
                      refine x_called (x_runV (n := 1) (As := [.ref H7.size]) (rest := []) hx hb hml hown hts (metJ2_add l κ al x c n H9.size H7.size es hLL.2.1 (by omega) (by have := hLL.2.2.1; omega)) q993 q994 q995 q67 q996 (by decide +kernel) (by decide) (by decide) rfl hP.1 ⟨rfl, hLL.1, fun j hj => by obtain ⟨a2, lo, hi, g1, -⟩ := hLL.2.2.2.2.2.2 j hj; exact isOb.of g1 (by decide) (by decide), isOb.of hN (by decide) (by decide)⟩ (ob_recv hP.1.1.1 rfl hLL.1.1.choose_spec) hl.1 (Nat.le_of_ble_eq_true rfl) rfl dX5_text_215 ⟨by show cells + 4 + (pEither τ 6 (te τ P) tm1).2.1 + 4 + 4 + 4 + 4 + 1 + 1 ≤ TT.2.1; omega, by show slots + 24 + (pEither τ 6 (te τ P) tm1).2.2 + 24 + 24 + 24 + 24 + 3 + capG n ≤ TT.2.2; omega⟩) (fun v2 st t L hst hq2 hvm hL => ?_)
                      obtain ⟨hv, ⟨x', c', hLA, hx'⟩, hz3, hz4, hq4⟩ := hq2
                      cases hv
                      rw [hst] at hx' hz3 hz4 hq4
                      refine W.eq (g2 := F0 mi 218 ls [.int 1]) rfl ?_
                      have hral := hLL.2.2.1
                      have hrx := hLL.2.2.2.1
                      have hP := hP.lst (H1 := t.heap) (L := L) hLL.1 hral hrx hrB hz3 hq4 (fun y hy => by rcases hL y hy with z | z | z <;> omega)
                      have hLL := hLL.add (L := (q.1, dsW τ (te τ q.2.1), (tn τ (te τ (te τ q.2.1))))) (a := a) hN (by omega) (by omega) (by omega) (by omega) hE (by omega) (by omega) (by omega) (by omega) hLA hx' hz3 hq4
                      have hA : lnA τ q = .ok ((q.1, dsW τ (te τ q.2.1), (tn τ (te τ (te τ q.2.1)))), te τ (te τ (te τ (te τ q.2.1))), q.2.2) := by unfold lnA; rw [if_pos c_53, if_neg c_122, if_pos c_136, if_pos c_144, if_pos c_158]; unfold lnE; rw [if_pos c_189]; rw [c_136]
                      rw [hA] at hT
                      refine lv_pop hx hb dX5_text_218 rfl ?_
                      refine lv_goto (tgt := 4) hx hb dX5_text_219 (by decide) ?_
                      refine W.widen (k := cells + 24 + (pEither τ 6 (te τ P) tm1).2.1) (n := slots + 160 + (pEither τ 6 (te τ P) tm1).2.2) (by omega) (by omega) ?_
                      exact ih (n + 1) (va_up es n H7.size) (updN lns n (q.1, dsW τ (te τ q.2.1), (tn τ (te τ (te τ q.2.1))))) (te τ (te τ (te τ (te τ q.2.1)))) q.2.2 w7 x' c' t.heap _ ls _ _ (by omega) (by omega) hq1.2 hT hP hLL (lv_sub hl [3] rfl)
                    · skip
                      refine lv_aload_n hx hb dX5_text_192 rfl (lv_at hl 3 rfl) ?_
                      have hA : lnA τ q = .error (eKd τ (te τ (te τ (te τ q.2.1))), ws τ (te τ (te τ (te τ q.2.1)))) := by unfold lnA; rw [if_pos c_53, if_neg c_122, if_pos c_136, if_pos c_144, if_pos c_158]; unfold lnE; rw [if_neg c_189]; rfl
                      rw [hA] at hT
                      have hTe : TT.1 = .error (eKd τ (te τ (te τ (te τ q.2.1))), ws τ (te τ (te τ (te τ q.2.1)))) := by rw [← hT]
                      exact qs_wrong hx hb hml hnh hlk hown hts hP (by decide) hl.1 dX5_text_193 dX5_text_196 ⟨by show cells + 4 + (pEither τ 6 (te τ P) tm1).2.1 + 4 + 4 + 4 + 1 ≤ _; omega, by show slots + 24 + (pEither τ 6 (te τ P) tm1).2.2 + 24 + 24 + 24 + 8 ≤ _; omega⟩ ⟨by omega, by omega⟩ (fun oc t hq => by show txQ κ o r al TT.1 _ s0 oc t; rw [hTe]; exact hq)
                  · skip
                    have hP0 := hP
                    refine ob_new (C := RX6) (T := TX6) (N := 8) (ci := 5) hx hb hts in_X6 tyX6 tyX6_ok hown q750 q751 q87 hP.1.1.1 rfl (by show cells + 4 + (pEither τ 6 (te τ P) tm1).2.1 + 4 + 4 + 1 ≤ TT.2.1; omega) (by show slots + 24 + (pEither τ 6 (te τ P) tm1).2.2 + 24 + 24 + 8 ≤ TT.2.2; omega) dX5_text_161 (fun H5 hN hz5 ho5 => ?_)
                    have hP := hP.new (H1 := H5) (by omega) ho5
                    refine lv_dup hx hb dX5_text_164 rfl ?_
                    refine lv_iconst (v := 3) hx hb dX5_text_165 (by decide) ?_
                    refine lv_aload_n hx hb dX5_text_166 rfl (lv_at hl 3 rfl) ?_
                    obtain ⟨nu, hO, hnu⟩ := hP.ob
                    refine ob_get (C := RX5) (T := TX5) (N := 8) (ci := 4) (v := .int (nI (ws τ (te τ (te τ q.2.1))))) hx hb hts in_X5 hown hP.1.1.1 hO rfl 2 (by decide) q432 (fun x h => h) rfl dX5_text_167 ?_
                    refine ob_called (x_runI (n := 2) (As := [.int 3, .int (nI (ws τ (te τ (te τ q.2.1))))]) (rest := [.ref H4.size]) hx hb hml hown hts (metX6_init l κ H4.size 3 (nI (ws τ (te τ (te τ q.2.1)))) hP0.1.2.2) q787 q788 q87 q789 rfl (by decide +kernel) (by decide) (by decide) rfl hP.1 hN hl.1 (Nat.le_of_ble_eq_true rfl) rfl dX5_text_170 ⟨by show cells + 4 + (pEither τ 6 (te τ P) tm1).2.1 + 4 + 4 + 1 + 0 ≤ TT.2.1; omega, by show slots + 24 + (pEither τ 6 (te τ P) tm1).2.2 + 24 + 24 + 8 + 0 ≤ TT.2.2; omega⟩) hP0.2.2.2.2.2 (fun H6 hN hz6 hq6 => ?_)
                    have hA : lnA τ q = .error (3, ws τ (te τ (te τ q.2.1))) := by unfold lnA; rw [if_pos c_53, if_neg c_122, if_pos c_136, if_pos c_144, if_neg c_158]
                    rw [hA] at hT
                    have hTe : TT.1 = .error (3, ws τ (te τ (te τ q.2.1))) := by rw [← hT]
                    have hrl := hP0.rl
                    refine W.widen (k := TT.2.1) (n := TT.2.2) (by omega) (by omega) ?_
                    exact W.throw hx hb hnh (fun t2 ht hW => by show txQ κ o r al TT.1 _ s0 _ t2; rw [hTe]; exact ⟨_, rfl, by rw [ht]; exact hN, hrl, fun q h => by rw [ht]; exact ((hq6 q (by omega)).trans (ho5 q (by omega))).trans (hP0.2.2.1 q h), by rw [ht]; have := hP0.2.2.2.2.2; omega⟩) hP.2.2.2.2.1 dX5_text_173 hlk
                · skip
                  refine lv_aload_n hx hb dX5_text_147 rfl (lv_at hl 3 rfl) ?_
                  have hA : lnA τ q = .error (eKd τ (te τ (te τ q.2.1)), ws τ (te τ (te τ q.2.1))) := by unfold lnA; rw [if_pos c_53, if_neg c_122, if_pos c_136, if_neg c_144]; rfl
                  rw [hA] at hT
                  have hTe : TT.1 = .error (eKd τ (te τ (te τ q.2.1)), ws τ (te τ (te τ q.2.1))) := by rw [← hT]
                  exact qs_wrong hx hb hml hnh hlk hown hts hP (by decide) hl.1 dX5_text_148 dX5_text_151 ⟨by show cells + 4 + (pEither τ 6 (te τ P) tm1).2.1 + 4 + 4 + 1 ≤ _; omega, by show slots + 24 + (pEither τ 6 (te τ P) tm1).2.2 + 24 + 24 + 8 ≤ _; omega⟩ ⟨by omega, by omega⟩ (fun oc t hq => by show txQ κ o r al TT.1 _ s0 oc t; rw [hTe]; exact hq)
            · skip
              refine lv_aload_n hx hb dX5_text_125 rfl (lv_at hl 3 rfl) ?_
              have hA : lnA τ q = .error (eKd τ (te τ q.2.1), ws τ (te τ q.2.1)) := by unfold lnA; rw [if_pos c_53, if_pos c_122]; rfl
              rw [hA] at hT
              have hTe : TT.1 = .error (eKd τ (te τ q.2.1), ws τ (te τ q.2.1)) := by rw [← hT]
              exact qs_wrong hx hb hml hnh hlk hown hts hP (by decide) hl.1 dX5_text_126 dX5_text_129 ⟨by show cells + 4 + (pEither τ 6 (te τ P) tm1).2.1 + 4 + 1 ≤ _; omega, by show slots + 24 + (pEither τ 6 (te τ P) tm1).2.2 + 24 + 8 ≤ _; omega⟩ ⟨by omega, by omega⟩ (fun oc t hq => by show txQ κ o r al TT.1 _ s0 oc t; rw [hTe]; exact hq)
          · skip
            refine lv_aload_n hx hb dX5_text_56 rfl (lv_at hl 1 rfl) ?_
            have hA : lnA τ q = .error (eKd τ q.2.1, ws τ q.2.1) := by unfold lnA; rw [if_neg (by rw [c_53]; decide)]; rfl
            rw [hA] at hT
            have hTe : TT.1 = .error (eKd τ q.2.1, ws τ q.2.1) := by rw [← hT]
            exact qs_wrong hx hb hml hnh hlk hown hts hP (by decide) hl.1 dX5_text_57 dX5_text_60 ⟨by show cells + 4 + (pEither τ 6 (te τ P) tm1).2.1 + 1 ≤ _; omega, by show slots + 24 + (pEither τ 6 (te τ P) tm1).2.2 + 8 ≤ _; omega⟩ ⟨by omega, by omega⟩ (fun oc t hq => by show txQ κ o r al TT.1 _ s0 oc t; rw [hTe]; exact hq)
        · skip
          refine lv_aload_n hx hb dX5_text_32 rfl (lv_at hl 0 rfl) ?_
          have hno : ¬ (isW τ P 2 = true ∧ ¬ n = 16) := by first | (rw [c_17]; simp; done) | (intro z; exact z.2 ((nI_eq (a := n) (b := 16) (by omega) (by decide)).mp c_29))
          rw [txL, if_neg c_8, if_neg hno] at hT
          have hTe : TT.1 = .error (eKd τ P, ws τ P) := by rw [← hT]
          have hg1 : TT.2.1 = cells + 24 := by rw [← hT]
          have hg2 : TT.2.2 = slots + 160 := by rw [← hT]
          exact qs_wrong hx hb hml hnh hlk hown hts hP (by decide) hl.1 dX5_text_33 dX5_text_36 ⟨by show cells + 1 ≤ _; omega, by show slots + 8 ≤ _; omega⟩ ⟨by omega, by omega⟩ (fun oc t hq => by show txQ κ o r al TT.1 _ s0 oc t; rw [hTe]; exact hq)

set_option maxHeartbeats 4000000 in
theorem metX5_text (l : Launch) (κ : Kg) (o : Nat) (τ : Tp) (r x : Nat) (so pl nu : Int32) (w al : Nat) (hro : o + 1 < r) (hrB : κ.base ≤ r) (hwb : w < κ.base) : MetT l yX5_text (ws_ yX5_text cX5_text 4 (some (.object "java/util/ArrayList"))) (rmC 30 (pText τ).2.1 (pText τ).2.2) (xP κ (fun H => HR κ o τ r 0 so pl nu 0 w al H ∧ w < H.size ∧ LLn κ o r w H al x 2 0 (fun _ => 0) (fun _ => (fun _ => 0, 0, 0))) [.ref r]) (txQ κ o r al (pText τ).1) (pText τ).2.1 (pText τ).2.2 (fun q => κ.base ≤ q) := by
  refine xT_start RX5 (by decide) rfl (Nat.le_of_ble_eq_true rfl) ?_
  intro pg ev s0 mi bl me co hx hb hml hnh hown hts hr hlk hK hM ls hl
  have hl : lv_has ls 4 [(0, .ref r)] := hl
  have hgT : 4 ≤ (pText τ).2.1 ∧ 24 ≤ (pText τ).2.2 := txL_ge _ _ _ _ _ _ _
  refine lv_aload_n hx hb dX5_text_0 rfl (lv_at hl 0 rfl) ?_
  refine x_called (x_runV (n := 0) (As := []) (rest := []) hx hb hml hown hts (metX5_next l κ o τ r 0 so pl nu 0 w al hro hrB (Nat.zero_le _)) q459 q461 qs6 q73 q462 (by decide +kernel) (by decide) (by decide) rfl hK ⟨hM.1, hM.2.1⟩ (ob_recv hK.1.1 rfl hM.1.2) hl.1 (Nat.le_of_ble_eq_true rfl) rfl dX5_text_1 ⟨by show 0 + 4 ≤ _; omega, by show 0 + 24 ≤ _; omega⟩) (fun v2 st t L hst hq hvm hL => ?_)
  obtain ⟨hv, ⟨w1, hM1, hw1⟩, hq3, hq3b, hq4⟩ := hq
  cases hv
  rw [hst] at hw1 hq3 hq4
  refine W.eq (g2 := F0 mi 4 ls []) rfl ?_
  have hF : FrR κ r w s0.heap t.heap := FrR.rf.nx hq3 hq4
  have hrl := hM.1.2.lt
  have hQ : QS κ o τ r s0 al 0 0 w1 t.heap ([] ++ L) := ⟨hK.fr hrB hF, hM1, fun q h => fr_r hF hrl (Or.inl hwb) q h, by rcases hw1 with z | z <;> omega, lc_app (fun x h => by cases h) hL, hF.1⟩
  have hLL := hM.2.2.step hF hw1
  exact text_loop l κ o τ r al hro hrB (pText τ) hx hb hml hnh hown hts hr hlk 17 0 (fun _ => 0) (fun _ => (fun _ => 0, 0, 0)) 0 0 w1 x 2 t.heap _ ls _ _ rfl (by decide) (by decide) rfl hQ hLL hl
