/-! HomeRoll.line, ruling, sum, term, about. By tools/gen_v3.py -/
set_option maxRecDepth 100000
theorem nw_self {C : String} {s : State} {c : ClassId} (h : s.vm.findClass C = some c) : va_Nw (.castable C C) s := by
  show (Cond.castable C C).before #[] s = true
  simp [Cond.before, Cond.holds, Cond.value, h, asg_self]
/-- the first line whose test holds -/
def lnF (lns : Nat → Ln) (e : Nat → Int32) : Nat → Nat → Option Nat
  | 0, _ => none
  | j + 1, k => if (lns k).1 e = 0 then lnF lns e j (k + 1) else some k
def lnQ (κ : Kg) (lns : Nat → Ln) (R : Option Nat) : Array Value → State → Outcome → State → Prop := fun _ st oc t => t.heap = st.heap ∧ match R with
  | none => oc = .returned (some .null)
  | some k => ∃ y a, oc = .returned (some (.ref y)) ∧ t_OB y (κ.D.1 11) 3 (κ.D.2 11) t.heap (vp_V [.ref a, .int (lns k).2.1, .int (lns k).2.2])
/-- the component with its law -/
def CL (κ : Kg) (o : Nat) (g : Gh) (u : St) (S : Nat → Prop) (n : Nat) (lns : Nat → Ln) (H : Heap) : Prop := CW κ.D κ.cA o g u H ∧ LW κ o S H g.2.2.1 n lns ∧ ∀ q, S q → q < H.size

set_option maxHeartbeats 4000000 in
theorem line_loop (l : Launch) (κ : Kg) (o : Nat) (g : Gh) (u : St) (hok : okK g.1 u) (S : Nat → Prop) (x c n : Nat) (es : Nat → Nat) (lns : Nat → Ln) (R : Option Nat) {pg : Program} {ev : Env} {s0 : State} {mi : MethodId} {bl : List Frame} {me : Method} {co : Code} (hx : pg.tables.exec = Jvm.exec) (hb : co.code = cX0_line) (hml : co.maxLocals = 2) (hown : s0.vm.findClass RX0 = some mi.cls) (hts : ∀ w ∈ lw_all, w.before #[.ref o] s0 = true) (hr : me.sig.returnType = some (.object "HomeRoll$Line")) (hlk : me.locks = false) (hK : KZ κ s0 s0.heap) (hC : CW κ.D κ.cA o g u s0.heap) (hL : LA κ g.2.2.1 x c n es s0.heap) (hF : ∀ j, j < n → ∃ a, S (es j) ∧ t_OB (es j) (κ.D.1 11) 3 (κ.D.2 11) s0.heap (vp_V [.ref a, .int (lns j).2.1, .int (lns j).2.2]) ∧ ExT κ o S s0.heap 86 a (lns j).1) :
    ∀ (j k : Nat) (ls : Array Slot), k ≤ n → k + j = n + 1 → lnF lns (tvK u) (n - k) k = R → lv_has ls 2 [(1, .int (nI k)), (0, .ref o)] →
      W pg l ev (rmC 91 0 0) s0 mi #[.ref o] bl me co s0.heap [] 0 0 (MQ bl (lnQ κ lns R) #[.ref o] s0 0 0 noA) (F0 mi 2 ls []) := by
  intro j
  induction j with
  | zero => intro k ls hk0 hkj; omega
  | succ j ih =>
    intro k ls hk0 hkj hT hl
    refine lv_iload_n hx hb dX0_line_2 rfl (lv_at hl 0 rfl) ?_
    refine lv_aload_n hx hb dX0_line_3 rfl (lv_at hl 1 rfl) ?_
    refine ob_get (C := RX0) (T := TX0) (N := 31) (ci := 0) (v := .ref g.2.2.1) hx hb hts in_X0 hown hK.1.1 hC.1 rfl 4 (by decide) q192 (fun x h => h) rfl dX0_line_4 ?_
    refine ro_call (g_runV (n := 0) (As := []) (rest := [.int (nI k)]) hx hb hml hown hts (metJ2_size l κ g.2.2.1 x c n es) q1106 q743 q744 q67 q745 (by decide +kernel) (by decide) (by decide) rfl hK.1.1 hL (ob_recv hK.1.1 rfl hL.1.choose_spec) hl.1 (Nat.le_of_ble_eq_true rfl) rfl dX0_line_7 ⟨Nat.le_refl _, Nat.le_refl _⟩) ?_
    refine lv_icmp_ge (tgt := 55) hx hb dX0_line_10 (by decide) (fun c_10 => ?_) (fun c_10 => ?_)
    · skip
      refine lv_null hx hb dX0_line_55 ?_
      have hkn : n - k = 0 := by have h1 := Nat.not_lt.mp (fun z : k < n => absurd c_10 (Int32.not_le.mpr (nI_lt z (by have := hL.2.2; omega)))); omega
      rw [hkn, lnF] at hT
      exact W.aret hx hb hr (Or.inl ⟨_, rfl⟩) (Or.inl rfl) (fun t ht hW => ⟨ht, by rw [← hT]⟩) (fun q h => by cases h) dX0_line_56 hlk
    · skip
      refine lv_aload_n hx hb dX0_line_13 rfl (lv_at hl 1 rfl) ?_
      refine ob_get (C := RX0) (T := TX0) (N := 31) (ci := 0) (v := .ref g.2.2.1) hx hb hts in_X0 hown hK.1.1 hC.1 rfl 4 (by decide) q192 (fun x h => h) rfl dX0_line_14 ?_
      refine lv_iload_n hx hb dX0_line_17 rfl (lv_at hl 0 rfl) ?_
      have hkn : k < n := Nat.not_le.mp (fun z => c_10 (nI_le z (by have := hL.2.2; omega)))
      obtain ⟨a, -, hO, hX⟩ := hF k hkn
      rw [show n - k = (n - (k + 1)) + 1 by omega, lnF] at hT
      refine ro_call (g_runV (n := 1) (As := [.int (nI k)]) (rest := []) hx hb hml hown hts (metJ2_get l κ g.2.2.1 x c n k es hkn) q1127 q1052 q1053 q67 q1054 (by decide +kernel) (by decide) (by decide) rfl hK.1.1 hL (ob_recv hK.1.1 rfl hL.1.choose_spec) hl.1 (Nat.le_of_ble_eq_true rfl) rfl dX0_line_18 ⟨Nat.le_refl _, Nat.le_refl _⟩) ?_
      refine va_castY hx hb hown (hts _ q1128) (nw_self (ob_recv hK.1.1 (ci := 11) rfl hO).choose_spec.2.2) (ob_recv hK.1.1 (ci := 11) rfl hO) dX0_line_21 ?_
      refine ob_get (C := RX13) (T := TX13) (N := 3) (ci := 11) (v := .ref a) hx hb hts in_X13 hown hK.1.1 hO rfl 0 (by decide) q1094 (fun x h => h) rfl dX0_line_24 ?_
      refine lv_aload_n hx hb dX0_line_27 rfl (lv_at hl 1 rfl) ?_
      refine ob_get (C := RX0) (T := TX0) (N := 31) (ci := 0) (v := .ref (cAd o 23)) hx hb hts in_X0 hown hK.1.1 hC.1 rfl 23 (by decide) q212 (fun x h => h) rfl dX0_line_28 ?_
      refine ev_all l κ o g u hok S 86 _ _ _ _ _ _ _ _ _ _ _ _ _ _ _ _ _ _ _ _ _ _ _ _ _ hx hb hml hown hts hK hC hX q1129 (by decide) hl.1 (Nat.le_of_ble_eq_true rfl) dX0_line_31 ⟨Nat.zero_le _, Nat.zero_le _⟩ ?_
      refine lv_if_eq (tgt := 49) hx hb dX0_line_34 (by decide) (fun c_34 => ?_) (fun c_34 => ?_)
      · skip
        refine lv_iinc (v := nI (k + 1)) (lv' := [(1, .int (nI (k + 1))), (0, .ref o)]) hx hb dX0_line_49 hl (k := 0) rfl (nI_1 _) (by decide) rfl (fun ls hl => ?_)
        refine lv_goto (tgt := 2) hx hb dX0_line_52 (by decide) ?_
        rw [if_pos c_34] at hT
        exact ih (k + 1) ls (by omega) (by omega) hT (lv_sub hl [0, 1] rfl)
      · skip
        refine lv_aload_n hx hb dX0_line_37 rfl (lv_at hl 1 rfl) ?_
        refine ob_get (C := RX0) (T := TX0) (N := 31) (ci := 0) (v := .ref g.2.2.1) hx hb hts in_X0 hown hK.1.1 hC.1 rfl 4 (by decide) q192 (fun x h => h) rfl dX0_line_38 ?_
        refine lv_iload_n hx hb dX0_line_41 rfl (lv_at hl 0 rfl) ?_
        refine ro_call (g_runV (n := 1) (As := [.int (nI k)]) (rest := []) hx hb hml hown hts (metJ2_get l κ g.2.2.1 x c n k es hkn) q1127 q1052 q1053 q67 q1054 (by decide +kernel) (by decide) (by decide) rfl hK.1.1 hL (ob_recv hK.1.1 rfl hL.1.choose_spec) hl.1 (Nat.le_of_ble_eq_true rfl) rfl dX0_line_42 ⟨Nat.le_refl _, Nat.le_refl _⟩) ?_
        refine va_castY hx hb hown (hts _ q1128) (nw_self (ob_recv hK.1.1 (ci := 11) rfl hO).choose_spec.2.2) (ob_recv hK.1.1 (ci := 11) rfl hO) dX0_line_45 ?_
        rw [if_neg c_34] at hT
        exact W.aret hx hb hr (Or.inl ⟨_, rfl⟩) (Or.inr ⟨_, rfl⟩) (fun t ht hW => ⟨ht, by rw [← hT]; exact ⟨_, a, rfl, by rw [ht]; exact hO⟩⟩) (fun q h => by cases h) dX0_line_48 hlk

set_option maxHeartbeats 4000000 in
theorem metX0_line (l : Launch) (κ : Kg) (o : Nat) (g : Gh) (u : St) (hok : okK g.1 u) (S : Nat → Prop) (n : Nat) (lns : Nat → Ln) : Met l yX0_line (ws_ yX0_line cX0_line 2 (some (.object "HomeRoll$Line"))) (rmC 91 0 0) (xP κ (CL κ o g u S n lns) [.ref o]) (lnQ κ lns (lnF lns (tvK u) n 0)) 0 0 noA := by
  refine xM_start RX0 (by decide) rfl (Nat.le_of_ble_eq_true rfl) ?_
  intro pg ev s0 mi bl me co hx hb hml hown hts hr hlk hnm hK hM ls hl
  have hl : lv_has ls 2 [(0, .ref o)] := hl
  obtain ⟨hC, ⟨x, c, es, hL, -, -, hF⟩, -⟩ := hM
  refine lv_iconst (v := 0) hx hb dX0_line_0 (by decide) ?_
  refine lv_istore_n (lv' := [(1, .int 0), (0, .ref o)]) hx hb dX0_line_1 rfl hl (by decide) rfl (fun ls hl => ?_)
  exact line_loop l κ o g u hok S x c n es lns _ hx hb hml hown hts hr hlk hK hC hL hF (n + 1) 0 ls (Nat.zero_le _) (Nat.zero_add _) rfl (lv_sub hl [0, 1] rfl)

def fX0_ruling (u : St) (n : Nat) (lns : Nat → Ln) (cl k : Int32) : Int32 × St := (if (fX0_looks u cl k).1 = true then (match lnF lns (tvK (fX0_looks u cl k).2) n 0 with | none => 4 | some i => (lns i).2.1) else -1, (fX0_looks u cl k).2)
def fX0_sum (u : St) (n : Nat) (lns : Nat → Ln) (cl k : Int32) : Int32 × St := (if (fX0_looks u cl k).1 = true then (match lnF lns (tvK (fX0_looks u cl k).2) n 0 with | none => 0 | some i => ((((fX0_looks u cl k).2.2.1 9 (((fX0_looks u cl k).2.2.1 61 (((fX0_looks u cl k).2.1 31).toNatClampNeg)).toNatClampNeg)).toInt64 * (lns i).2.2.toInt64) / 100).toInt32) else -1, (fX0_looks u cl k).2)
def fX0_term (u : St) (cl te k : Int32) : Int32 × St := if te < 0 then (-1, u) else (if 9 ≤ te then (-1, u) else (if (fX0_looks u cl k).1 = true then tvK (fX0_looks u cl k).2 te.toNatClampNeg else -1, (fX0_looks u cl k).2))
def fX0_about (u : St) (n : Nat) (w : Int32) : Int32 := if w = 0 then u.1 13 else (if w = 1 then u.1 14 else (if w = 2 then u.1 15 else (if w = 3 then u.1 16 else (if w = 4 then nI n else (if w = 5 then u.1 17 else (if w = 6 then u.1 30 else (if w = 7 then u.1 1 else (-1))))))))

set_option maxHeartbeats 4000000 in
theorem metX0_ruling (l : Launch) (κ : Kg) (o : Nat) (g : Gh) (u : St) (hoB : κ.base ≤ o) (S : Nat → Prop) (n : Nat) (lns : Nat → Ln) (cl k : Int32) (hSd : ∀ q, S q → ¬ cF o g q) (hlo : okX0_looks g.1 u cl k) (hkk : (fX0_looks u cl k).1 = true → okK g.1 (fX0_looks u cl k).2) : Met l yX0_ruling (ws_ yX0_ruling cX0_ruling 4 (some .int)) (rmC 92 0 0) (xP κ (CL κ o g u S n lns) [.ref o, .int cl, .int k]) (cQ κ.D κ.cA o g (some (.int (fX0_ruling u n lns cl k).1)) (fX0_ruling u n lns cl k).2) 0 0 (cF o g) := by
  refine xM_start RX0 (by decide) rfl (Nat.le_of_ble_eq_true rfl) ?_
  intro pg ev s0 mi bl me co hx hb hml hown hts hr hlk hnm hK hM ls hl
  have hl : lv_has ls 4 [(0, .ref o), (1, .int cl), (2, .int k)] := hl
  obtain ⟨hC, hLW, hSl⟩ := hM
  have hS : va_S (cF o g) s0.heap s0.heap [] := va_S.rf
  refine lv_aload_n hx hb dX0_ruling_0 rfl (lv_at hl 0 rfl) ?_
  refine lv_iload_n hx hb dX0_ruling_1 rfl (lv_at hl 1 rfl) ?_
  refine lv_iload_n hx hb dX0_ruling_2 rfl (lv_at hl 2 rfl) ?_
  refine cw_call (cw_run (n := 2) (As := [.int cl, .int k]) (rest := []) hx hb hml hown hts (metX0_looks l κ.D κ.cA o g u cl k hlo) q1119 q1121 qs23 q1122 (by decide +kernel) (by decide) (by decide) rfl hK.1.1 hC hl.1 (Nat.le_of_ble_eq_true rfl) rfl dX0_ruling_3 ⟨Nat.le_refl _, Nat.le_refl _⟩) hS (fun _ h => h) (fun H1 locs1 hC hfr hz hS => ?_)
  have hK1 : KZ κ s0 H1 := hK.to (fun q hq => hfr q (by have := hK.2.2; omega) (fun z => by have := (cF_ge hC z).1; omega)) (by have := hK.2.2; omega)
  have hLW := hLW.kept (S' := S) (H1 := H1) (fun q hq => hfr q (hSl q hq) (hSd q hq)) (fun q hq => hq)
  refine W.eq (g2 := F0 mi 6 ls [.int (b2 (fX0_looks u cl k).1)]) rfl ?_
  refine lv_B_ne (tgt := 11) hx hb dX0_ruling_6 (by decide) (fun c_6 => ?_) (fun c_6 => ?_)
  · skip
    refine lv_aload_n hx hb dX0_ruling_11 rfl (lv_at hl 0 rfl) ?_
    refine x_called (x_runV (n := 0) (As := []) (rest := []) hx hb hml hown hts (metX0_line l κ o g (fX0_looks u cl k).2 (hkk c_6) S n lns) q1123 q1125 qs24 q64 q1126 (by decide +kernel) (by decide) (by decide) rfl hK1 ⟨hC, hLW, fun q hq => Nat.lt_of_lt_of_le (hSl q hq) hz⟩ (ob_recv hK1.1.1 rfl hC.1) hl.1 (Nat.le_of_ble_eq_true rfl) rfl dX0_ruling_12 ⟨Nat.le_refl _, Nat.le_refl _⟩) (fun v2 st t L hst hq hvm hLn => ?_)
    obtain ⟨hth, hq⟩ := hq
    rw [hst] at hth
    have hS : va_S (cF o g) s0.heap t.heap (locs1 ++ L) := ⟨by rw [hth]; exact hS.1, fun q h1 h2 => by rw [hth]; exact hS.2.1 q h1 h2, fun q hq => by rcases List.mem_append.mp hq with h | h; (· exact hS.2.2 q h); (· exact absurd (hLn q h) id)⟩
    have hC : CW κ.D κ.cA o g (fX0_looks u cl k).2 t.heap := by rw [hth]; exact hC
    have hK1 : KZ κ s0 t.heap := by rw [hth]; exact hK1
    cases hR : lnF lns (tvK (fX0_looks u cl k).2) n 0 with
    | none =>
      rw [hR] at hq
      cases hq
      refine W.eq (g2 := F0 mi 15 ls [.null]) rfl ?_
      refine lv_astore_nN (lv' := [(3, .null), (0, .ref o), (1, .int cl), (2, .int k)]) hx hb dX0_ruling_15 rfl hl (by decide) rfl (fun ls hl => ?_)
      refine lv_aload_nN hx hb dX0_ruling_16 rfl (lv_at hl 0 rfl) ?_
      refine lv_ifnonnullN hx hb dX0_ruling_17 ?_
      refine lv_iconst (v := 4) hx hb dX0_ruling_20 (by decide) ?_
      refine lv_goto (tgt := 28) hx hb dX0_ruling_21 (by decide) ?_
      have hF : (fX0_ruling u n lns cl k).1 = 4 := by unfold fX0_ruling; rw [if_pos c_6, hR]
      exact W.iret hx hb hr (fun t9 ht hW => ⟨by rw [hF], by rw [ht]; exact hC, ⟨by rw [ht] <;> exact hS.1, fun q h1 h2 => by rw [ht] <;> exact hS.2.1 q h1 h2⟩⟩) hS.2.2 dX0_ruling_28 hlk
    | some i =>
      rw [hR] at hq
      obtain ⟨y, a, hv, hO⟩ := hq
      cases hv
      refine W.eq (g2 := F0 mi 15 ls [.ref y]) rfl ?_
      refine lv_astore_n (lv' := [(3, .ref y), (0, .ref o), (1, .int cl), (2, .int k)]) hx hb dX0_ruling_15 rfl hl (by decide) rfl (fun ls hl => ?_)
      refine lv_aload_n hx hb dX0_ruling_16 rfl (lv_at hl 0 rfl) ?_
      refine lv_ifnonnull (tgt := 24) hx hb dX0_ruling_17 (by decide) ?_
      refine lv_aload_n hx hb dX0_ruling_24 rfl (lv_at hl 0 rfl) ?_
      refine ob_get (C := RX13) (T := TX13) (N := 3) (ci := 11) (v := .int ((lns i).2.1)) hx hb hts in_X13 hown hK1.1.1 hO rfl 1 (by decide) q1096 (fun x h => h) rfl dX0_ruling_25 ?_
      have hF : (fX0_ruling u n lns cl k).1 = (lns i).2.1 := by unfold fX0_ruling; rw [if_pos c_6, hR]
      exact W.iret hx hb hr (fun t9 ht hW => ⟨by rw [hF], by rw [ht]; exact hC, ⟨by rw [ht] <;> exact hS.1, fun q h1 h2 => by rw [ht] <;> exact hS.2.1 q h1 h2⟩⟩) hS.2.2 dX0_ruling_28 hlk
  · skip
    refine lv_iconst (v := (-1)) hx hb dX0_ruling_9 (by decide) ?_
    have hF : (fX0_ruling u n lns cl k).1 = -1 := by unfold fX0_ruling; rw [if_neg (by rw [c_6]; decide)]
    exact W.iret hx hb hr (fun t9 ht hW => ⟨by rw [hF], by rw [ht]; exact hC, ⟨by rw [ht] <;> exact hS.1, fun q h1 h2 => by rw [ht] <;> exact hS.2.1 q h1 h2⟩⟩) hS.2.2 dX0_ruling_10 hlk

set_option maxHeartbeats 4000000 in
theorem metX0_sum (l : Launch) (κ : Kg) (o : Nat) (g : Gh) (u : St) (hoB : κ.base ≤ o) (S : Nat → Prop) (n : Nat) (lns : Nat → Ln) (cl k : Int32) (hSd : ∀ q, S q → ¬ cF o g q) (hlo : okX0_looks g.1 u cl k) (hkk : (fX0_looks u cl k).1 = true → okK g.1 (fX0_looks u cl k).2) : Met l yX0_sum (ws_ yX0_sum cX0_sum 4 (some .int)) (rmC 92 0 0) (xP κ (CL κ o g u S n lns) [.ref o, .int cl, .int k]) (cQ κ.D κ.cA o g (some (.int (fX0_sum u n lns cl k).1)) (fX0_sum u n lns cl k).2) 0 0 (cF o g) := by
  refine xM_start RX0 (by decide) rfl (Nat.le_of_ble_eq_true rfl) ?_
  intro pg ev s0 mi bl me co hx hb hml hown hts hr hlk hnm hK hM ls hl
  have hl : lv_has ls 4 [(0, .ref o), (1, .int cl), (2, .int k)] := hl
  obtain ⟨hC, hLW, hSl⟩ := hM
  have hS : va_S (cF o g) s0.heap s0.heap [] := va_S.rf
  refine lv_aload_n hx hb dX0_sum_0 rfl (lv_at hl 0 rfl) ?_
  refine lv_iload_n hx hb dX0_sum_1 rfl (lv_at hl 1 rfl) ?_
  refine lv_iload_n hx hb dX0_sum_2 rfl (lv_at hl 2 rfl) ?_
  refine cw_call (cw_run (n := 2) (As := [.int cl, .int k]) (rest := []) hx hb hml hown hts (metX0_looks l κ.D κ.cA o g u cl k hlo) q1119 q1121 qs23 q1122 (by decide +kernel) (by decide) (by decide) rfl hK.1.1 hC hl.1 (Nat.le_of_ble_eq_true rfl) rfl dX0_sum_3 ⟨Nat.le_refl _, Nat.le_refl _⟩) hS (fun _ h => h) (fun H1 locs1 hC hfr hz hS => ?_)
  have hK1 : KZ κ s0 H1 := hK.to (fun q hq => hfr q (by have := hK.2.2; omega) (fun z => by have := (cF_ge hC z).1; omega)) (by have := hK.2.2; omega)
  have hLW := hLW.kept (S' := S) (H1 := H1) (fun q hq => hfr q (hSl q hq) (hSd q hq)) (fun q hq => hq)
  refine W.eq (g2 := F0 mi 6 ls [.int (b2 (fX0_looks u cl k).1)]) rfl ?_
  refine lv_B_ne (tgt := 11) hx hb dX0_sum_6 (by decide) (fun c_6 => ?_) (fun c_6 => ?_)
  · skip
    refine lv_aload_n hx hb dX0_sum_11 rfl (lv_at hl 0 rfl) ?_
    refine x_called (x_runV (n := 0) (As := []) (rest := []) hx hb hml hown hts (metX0_line l κ o g (fX0_looks u cl k).2 (hkk c_6) S n lns) q1123 q1125 qs24 q64 q1126 (by decide +kernel) (by decide) (by decide) rfl hK1 ⟨hC, hLW, fun q hq => Nat.lt_of_lt_of_le (hSl q hq) hz⟩ (ob_recv hK1.1.1 rfl hC.1) hl.1 (Nat.le_of_ble_eq_true rfl) rfl dX0_sum_12 ⟨Nat.le_refl _, Nat.le_refl _⟩) (fun v2 st t L hst hq hvm hLn => ?_)
    obtain ⟨hth, hq⟩ := hq
    rw [hst] at hth
    have hS : va_S (cF o g) s0.heap t.heap (locs1 ++ L) := ⟨by rw [hth]; exact hS.1, fun q h1 h2 => by rw [hth]; exact hS.2.1 q h1 h2, fun q hq => by rcases List.mem_append.mp hq with h | h; (· exact hS.2.2 q h); (· exact absurd (hLn q h) id)⟩
    have hC : CW κ.D κ.cA o g (fX0_looks u cl k).2 t.heap := by rw [hth]; exact hC
    have hK1 : KZ κ s0 t.heap := by rw [hth]; exact hK1
    cases hR : lnF lns (tvK (fX0_looks u cl k).2) n 0 with
    | none =>
      rw [hR] at hq
      cases hq
      refine W.eq (g2 := F0 mi 15 ls [.null]) rfl ?_
      refine lv_astore_nN (lv' := [(3, .null), (0, .ref o), (1, .int cl), (2, .int k)]) hx hb dX0_sum_15 rfl hl (by decide) rfl (fun ls hl => ?_)
      refine lv_aload_nN hx hb dX0_sum_16 rfl (lv_at hl 0 rfl) ?_
      refine lv_ifnonnullN hx hb dX0_sum_17 ?_
      refine lv_iconst (v := 0) hx hb dX0_sum_20 (by decide) ?_
      refine lv_goto (tgt := 51) hx hb dX0_sum_21 (by decide) ?_
      have hF : (fX0_sum u n lns cl k).1 = 0 := by unfold fX0_sum; rw [if_pos c_6, hR]
      exact W.iret hx hb hr (fun t9 ht hW => ⟨by rw [hF], by rw [ht]; exact hC, ⟨by rw [ht] <;> exact hS.1, fun q h1 h2 => by rw [ht] <;> exact hS.2.1 q h1 h2⟩⟩) hS.2.2 dX0_sum_51 hlk
    | some i =>
      rw [hR] at hq
      obtain ⟨y, a, hv, hO⟩ := hq
      cases hv
      refine W.eq (g2 := F0 mi 15 ls [.ref y]) rfl ?_
      refine lv_astore_n (lv' := [(3, .ref y), (0, .ref o), (1, .int cl), (2, .int k)]) hx hb dX0_sum_15 rfl hl (by decide) rfl (fun ls hl => ?_)
      refine lv_aload_n hx hb dX0_sum_16 rfl (lv_at hl 0 rfl) ?_
      refine lv_ifnonnull (tgt := 24) hx hb dX0_sum_17 (by decide) ?_
      refine lv_aload_n hx hb dX0_sum_24 rfl (lv_at hl 1 rfl) ?_
      refine ob_get (C := RX0) (T := TX0) (N := 31) (ci := 0) (v := .ref (cAd o 9)) hx hb hts in_X0 hown hK1.1.1 hC.1 rfl 9 (by decide) q197 (fun x h => h) rfl dX0_sum_25 ?_
      refine lv_aload_n hx hb dX0_sum_28 rfl (lv_at hl 1 rfl) ?_
      refine ob_get (C := RX0) (T := TX0) (N := 31) (ci := 0) (v := .ref (cAd o 23)) hx hb hts in_X0 hown hK1.1.1 hC.1 rfl 23 (by decide) q212 (fun x h => h) rfl dX0_sum_29 ?_
      refine cw_vget hx hb hts hown hK1.1.1 hC 0 (by decide) q147 rfl rfl dX0_sum_32 ?_
      refine cw_pget hx hb hts hown hK1.1.1 hC 1 (by decide) (hkk c_6).1 q339 rfl rfl dX0_sum_35 ?_
      refine cw_ild hx hb hK1.1.1 hC 9 (by decide) rfl (n := 8) rfl (hkk c_6).2.1 rfl rfl dX0_sum_38 ?_
      refine lv_i2l hx hb dX0_sum_39 rfl ?_
      refine lv_aload_n hx hb dX0_sum_40 rfl (lv_at hl 0 rfl) ?_
      refine ob_get (C := RX13) (T := TX13) (N := 3) (ci := 11) (v := .int ((lns i).2.2)) hx hb hts in_X13 hown hK1.1.1 hO rfl 2 (by decide) q1098 (fun x h => h) rfl dX0_sum_41 ?_
      refine lv_i2l hx hb dX0_sum_44 rfl ?_
      refine lv_lmul hx hb dX0_sum_45 ?_
      refine lv_ldc2 (v := 100) hx hb hown (hts _ q1209) dX0_sum_46 ?_
      refine lv_ldiv hx hb dX0_sum_49 (by decide) ?_
      refine lv_l2i hx hb dX0_sum_50 rfl ?_
      have hF : (fX0_sum u n lns cl k).1 = (((((fX0_looks u cl k).2.2.1 9 (((fX0_looks u cl k).2.2.1 61 (((fX0_looks u cl k).2.1 31).toNatClampNeg)).toNatClampNeg)).toInt64) * (((lns i).2.2).toInt64)) / 100).toInt32 := by unfold fX0_sum; rw [if_pos c_6, hR]
      exact W.iret hx hb hr (fun t9 ht hW => ⟨by rw [hF], by rw [ht]; exact hC, ⟨by rw [ht] <;> exact hS.1, fun q h1 h2 => by rw [ht] <;> exact hS.2.1 q h1 h2⟩⟩) hS.2.2 dX0_sum_51 hlk
  · skip
    refine lv_iconst (v := (-1)) hx hb dX0_sum_9 (by decide) ?_
    have hF : (fX0_sum u n lns cl k).1 = -1 := by unfold fX0_sum; rw [if_neg (by rw [c_6]; decide)]
    exact W.iret hx hb hr (fun t9 ht hW => ⟨by rw [hF], by rw [ht]; exact hC, ⟨by rw [ht] <;> exact hS.1, fun q h1 h2 => by rw [ht] <;> exact hS.2.1 q h1 h2⟩⟩) hS.2.2 dX0_sum_10 hlk

theorem t9_in {te : Int32} (h1 : ¬ te < 0) (h2 : ¬ 9 ≤ te) : vp_in te 9 := by
  rw [vp_in_iff]
  rw [Int32.lt_iff_toInt_lt] at h1
  rw [Int32.le_iff_toInt_le] at h2
  have e0 : (0 : Int32).toInt = 0 := rfl
  have e9 : (9 : Int32).toInt = 9 := rfl
  omega

set_option maxHeartbeats 4000000 in
theorem metX0_term (l : Launch) (κ : Kg) (o : Nat) (g : Gh) (u : St) (hoB : κ.base ≤ o) (S : Nat → Prop) (n : Nat) (lns : Nat → Ln) (cl te k : Int32) (hSd : ∀ q, S q → ¬ cF o g q) (hlo : okX0_looks g.1 u cl k) (hg9 : ∀ j, j < 9 → g.2.2.2 j = κ.kn j) (hkk : (fX0_looks u cl k).1 = true → okK g.1 (fX0_looks u cl k).2) : Met l yX0_term (ws_ yX0_term cX0_term 4 (some .int)) (rmC 5 0 0) (xP κ (CL κ o g u S n lns) [.ref o, .int cl, .int te, .int k]) (cQ κ.D κ.cA o g (some (.int (fX0_term u cl te k).1)) (fX0_term u cl te k).2) 0 0 (cF o g) := by
  refine xM_start RX0 (by decide) rfl (Nat.le_of_ble_eq_true rfl) ?_
  intro pg ev s0 mi bl me co hx hb hml hown hts hr hlk hnm hK hM ls hl
  have hl : lv_has ls 4 [(0, .ref o), (1, .int cl), (2, .int te), (3, .int k)] := hl
  obtain ⟨hC, hLW, hSl⟩ := hM
  have hS : va_S (cF o g) s0.heap s0.heap [] := va_S.rf
  refine lv_iload_n hx hb dX0_term_0 rfl (lv_at hl 2 rfl) ?_
  refine lv_if_lt (tgt := 22) hx hb dX0_term_1 (by decide) (fun c_1 => ?_) (fun c_1 => ?_)
  · skip
    refine lv_iconst (v := (-1)) hx hb dX0_term_22 (by decide) ?_
    refine lv_goto (tgt := 40) hx hb dX0_term_23 (by decide) ?_
    have hF : fX0_term u cl te k = ((-1), u) := by unfold fX0_term; rw [if_pos c_1]
    exact W.iret hx hb hr (fun t9 ht hW => ⟨by rw [hF], by rw [hF, ht]; exact hC, ⟨by rw [ht] <;> exact hS.1, fun q h1 h2 => by rw [ht] <;> exact hS.2.1 q h1 h2⟩⟩) hS.2.2 dX0_term_40 hlk
  · skip
    refine lv_iload_n hx hb dX0_term_4 rfl (lv_at hl 2 rfl) ?_
    refine lv_aload_n hx hb dX0_term_5 rfl (lv_at hl 0 rfl) ?_
    refine ob_get (C := RX0) (T := TX0) (N := 31) (ci := 0) (v := .ref (cAd o 24)) hx hb hts in_X0 hown hK.1.1 hC.1 rfl 24 (by decide) q213 (fun x h => h) rfl dX0_term_6 ?_
    refine cw_alen hx hb hK.1.1 hC dX0_term_9 ?_
    refine lv_icmp_ge (tgt := 22) hx hb dX0_term_10 (by decide) (fun c_10 => ?_) (fun c_10 => ?_)
    · skip
      refine lv_iconst (v := (-1)) hx hb dX0_term_22 (by decide) ?_
      refine lv_goto (tgt := 40) hx hb dX0_term_23 (by decide) ?_
      have hF : fX0_term u cl te k = ((-1), u) := by unfold fX0_term; rw [if_neg c_1, if_pos c_10]
      exact W.iret hx hb hr (fun t9 ht hW => ⟨by rw [hF], by rw [hF, ht]; exact hC, ⟨by rw [ht] <;> exact hS.1, fun q h1 h2 => by rw [ht] <;> exact hS.2.1 q h1 h2⟩⟩) hS.2.2 dX0_term_40 hlk
    · skip
      refine lv_aload_n hx hb dX0_term_13 rfl (lv_at hl 0 rfl) ?_
      refine lv_iload_n hx hb dX0_term_14 rfl (lv_at hl 1 rfl) ?_
      refine lv_iload_n hx hb dX0_term_15 rfl (lv_at hl 3 rfl) ?_
      refine cw_call (cw_run (n := 2) (As := [.int cl, .int k]) (rest := []) hx hb hml hown hts (metX0_looks l κ.D κ.cA o g u cl k hlo) q1119 q1121 qs23 q1122 (by decide +kernel) (by decide) (by decide) rfl hK.1.1 hC hl.1 (Nat.le_of_ble_eq_true rfl) rfl dX0_term_16 ⟨Nat.le_refl _, Nat.le_refl _⟩) hS (fun _ h => h) (fun H1 locs1 hC hfr hz hS => ?_)
      have hK1 : KZ κ s0 H1 := hK.to (fun q hq => hfr q (by have := hK.2.2; omega) (fun z => by have := (cF_ge hC z).1; omega)) (by have := hK.2.2; omega)
      have hLW := hLW.kept (S' := S) (H1 := H1) (fun q hq => hfr q (hSl q hq) (hSd q hq)) (fun q hq => hq)
      refine W.eq (g2 := F0 mi 19 ls [.int (b2 (fX0_looks u cl k).1)]) rfl ?_
      refine lv_B_ne (tgt := 26) hx hb dX0_term_19 (by decide) (fun c_19 => ?_) (fun c_19 => ?_)
      · skip
        refine lv_aload_n hx hb dX0_term_26 rfl (lv_at hl 0 rfl) ?_
        refine ob_get (C := RX0) (T := TX0) (N := 31) (ci := 0) (v := .ref (cAd o 24)) hx hb hts in_X0 hown hK1.1.1 hC.1 rfl 24 (by decide) q213 (fun x h => h) rfl dX0_term_27 ?_
        refine lv_iload_n hx hb dX0_term_30 rfl (lv_at hl 2 rfl) ?_
        have hin : vp_in te 9 := t9_in c_1 c_10
        have hte9 : te.toNatClampNeg < 9 := Nat.not_le.mp fun q => hin (Or.inr q)
        refine cw_all hx hb hK1.1.1 hC hin rfl dX0_term_31 ?_
        rw [hg9 _ hte9]
        refine lv_aload_n hx hb dX0_term_32 rfl (lv_at hl 0 rfl) ?_
        refine lv_aload_n hx hb dX0_term_33 rfl (lv_at hl 0 rfl) ?_
        refine ob_get (C := RX0) (T := TX0) (N := 31) (ci := 0) (v := .ref (cAd o 23)) hx hb hts in_X0 hown hK1.1.1 hC.1 rfl 23 (by decide) q212 (fun x h => h) rfl dX0_term_34 ?_
        refine kn_told hx hb hml hown hts hK1 hC (hkk c_19) te.toNatClampNeg hte9 q1214 (by decide) hl.1 (Nat.le_of_ble_eq_true rfl) dX0_term_37 ⟨Nat.le_refl _, Nat.le_refl _⟩ ?_
        have hF : fX0_term u cl te k = (tvK (fX0_looks u cl k).2 te.toNatClampNeg, (fX0_looks u cl k).2) := by unfold fX0_term; rw [if_neg c_1, if_neg c_10, if_pos c_19]
        exact W.iret hx hb hr (fun t9 ht hW => ⟨by rw [hF], by rw [hF, ht]; exact hC, ⟨by rw [ht] <;> exact hS.1, fun q h1 h2 => by rw [ht] <;> exact hS.2.1 q h1 h2⟩⟩) hS.2.2 dX0_term_40 hlk
      · skip
        refine lv_iconst (v := (-1)) hx hb dX0_term_22 (by decide) ?_
        refine lv_goto (tgt := 40) hx hb dX0_term_23 (by decide) ?_
        have hF : fX0_term u cl te k = ((-1), (fX0_looks u cl k).2) := by unfold fX0_term; rw [if_neg c_1, if_neg c_10, if_neg (by rw [c_19]; decide)]
        exact W.iret hx hb hr (fun t9 ht hW => ⟨by rw [hF], by rw [hF, ht]; exact hC, ⟨by rw [ht] <;> exact hS.1, fun q h1 h2 => by rw [ht] <;> exact hS.2.1 q h1 h2⟩⟩) hS.2.2 dX0_term_40 hlk

set_option maxHeartbeats 4000000 in
theorem metX0_about (l : Launch) (κ : Kg) (o : Nat) (g : Gh) (u : St) (S : Nat → Prop) (n : Nat) (lns : Nat → Ln) (w : Int32) : Met l yX0_about (ws_ yX0_about cX0_about 2 (some .int)) (rmC 1 0 0) (xP κ (CL κ o g u S n lns) [.ref o, .int w]) (rQ (some (.int (fX0_about u n w)))) 0 0 noA := by
  refine xM_start RX0 (by decide) rfl (Nat.le_of_ble_eq_true rfl) ?_
  intro pg ev s0 mi bl me co hx hb hml hown hts hr hlk hnm hK hM ls hl
  have hl : lv_has ls 2 [(0, .ref o), (1, .int w)] := hl
  obtain ⟨hC, ⟨x, c, es, hL, -, -, hF⟩, -⟩ := hM
  refine lv_iload_n hx hb dX0_about_0 rfl (lv_at hl 1 rfl) ?_
  by_cases e_1_0 : w = 0
  · skip
    refine lv_tableIn (tgt := 48) (off := 47) hx hb dX0_about_1 (by rw [e_1_0]; decide) (by rw [e_1_0]; decide) (by rw [e_1_0]; decide) (by decide) ?_
    refine lv_aload_n hx hb dX0_about_48 rfl (lv_at hl 0 rfl) ?_
    refine ob_get (C := RX0) (T := TX0) (N := 31) (ci := 0) (v := .int (u.1 13)) hx hb hts in_X0 hown hK.1.1 hC.1 rfl 13 (by decide) q202 (fun x h => h) rfl dX0_about_49 ?_
    exact iret_ro hx hb hr hlk (show _ = fX0_about u n w from by unfold fX0_about; rw [if_pos e_1_0]) dX0_about_52
  by_cases e_1_1 : w = 1
  · skip
    refine lv_tableIn (tgt := 53) (off := 52) hx hb dX0_about_1 (by rw [e_1_1]; decide) (by rw [e_1_1]; decide) (by rw [e_1_1]; decide) (by decide) ?_
    refine lv_aload_n hx hb dX0_about_53 rfl (lv_at hl 0 rfl) ?_
    refine ob_get (C := RX0) (T := TX0) (N := 31) (ci := 0) (v := .int (u.1 14)) hx hb hts in_X0 hown hK.1.1 hC.1 rfl 14 (by decide) q203 (fun x h => h) rfl dX0_about_54 ?_
    exact iret_ro hx hb hr hlk (show _ = fX0_about u n w from by unfold fX0_about; rw [if_neg e_1_0, if_pos e_1_1]) dX0_about_57
  by_cases e_1_2 : w = 2
  · skip
    refine lv_tableIn (tgt := 58) (off := 57) hx hb dX0_about_1 (by rw [e_1_2]; decide) (by rw [e_1_2]; decide) (by rw [e_1_2]; decide) (by decide) ?_
    refine lv_aload_n hx hb dX0_about_58 rfl (lv_at hl 0 rfl) ?_
    refine ob_get (C := RX0) (T := TX0) (N := 31) (ci := 0) (v := .int (u.1 15)) hx hb hts in_X0 hown hK.1.1 hC.1 rfl 15 (by decide) q204 (fun x h => h) rfl dX0_about_59 ?_
    exact iret_ro hx hb hr hlk (show _ = fX0_about u n w from by unfold fX0_about; rw [if_neg e_1_0, if_neg e_1_1, if_pos e_1_2]) dX0_about_62
  by_cases e_1_3 : w = 3
  · skip
    refine lv_tableIn (tgt := 63) (off := 62) hx hb dX0_about_1 (by rw [e_1_3]; decide) (by rw [e_1_3]; decide) (by rw [e_1_3]; decide) (by decide) ?_
    refine lv_aload_n hx hb dX0_about_63 rfl (lv_at hl 0 rfl) ?_
    refine ob_get (C := RX0) (T := TX0) (N := 31) (ci := 0) (v := .int (u.1 16)) hx hb hts in_X0 hown hK.1.1 hC.1 rfl 16 (by decide) q205 (fun x h => h) rfl dX0_about_64 ?_
    exact iret_ro hx hb hr hlk (show _ = fX0_about u n w from by unfold fX0_about; rw [if_neg e_1_0, if_neg e_1_1, if_neg e_1_2, if_pos e_1_3]) dX0_about_67
  by_cases e_1_4 : w = 4
  · skip
    refine lv_tableIn (tgt := 68) (off := 67) hx hb dX0_about_1 (by rw [e_1_4]; decide) (by rw [e_1_4]; decide) (by rw [e_1_4]; decide) (by decide) ?_
    refine lv_aload_n hx hb dX0_about_68 rfl (lv_at hl 0 rfl) ?_
    refine ob_get (C := RX0) (T := TX0) (N := 31) (ci := 0) (v := .ref g.2.2.1) hx hb hts in_X0 hown hK.1.1 hC.1 rfl 4 (by decide) q192 (fun x h => h) rfl dX0_about_69 ?_
    refine ro_call (g_runV (n := 0) (As := []) (rest := []) hx hb hml hown hts (metJ2_size l κ g.2.2.1 x c n es) q1106 q743 q744 q67 q745 (by decide +kernel) (by decide) (by decide) rfl hK.1.1 hL (ob_recv hK.1.1 rfl hL.1.choose_spec) hl.1 (Nat.le_of_ble_eq_true rfl) rfl dX0_about_72 ⟨Nat.le_refl _, Nat.le_refl _⟩) ?_
    exact iret_ro hx hb hr hlk (show _ = fX0_about u n w from by unfold fX0_about; rw [if_neg e_1_0, if_neg e_1_1, if_neg e_1_2, if_neg e_1_3, if_pos e_1_4]) dX0_about_75
  by_cases e_1_5 : w = 5
  · skip
    refine lv_tableIn (tgt := 76) (off := 75) hx hb dX0_about_1 (by rw [e_1_5]; decide) (by rw [e_1_5]; decide) (by rw [e_1_5]; decide) (by decide) ?_
    refine lv_aload_n hx hb dX0_about_76 rfl (lv_at hl 0 rfl) ?_
    refine ob_get (C := RX0) (T := TX0) (N := 31) (ci := 0) (v := .int (u.1 17)) hx hb hts in_X0 hown hK.1.1 hC.1 rfl 17 (by decide) q206 (fun x h => h) rfl dX0_about_77 ?_
    exact iret_ro hx hb hr hlk (show _ = fX0_about u n w from by unfold fX0_about; rw [if_neg e_1_0, if_neg e_1_1, if_neg e_1_2, if_neg e_1_3, if_neg e_1_4, if_pos e_1_5]) dX0_about_80
  by_cases e_1_6 : w = 6
  · skip
    refine lv_tableIn (tgt := 81) (off := 80) hx hb dX0_about_1 (by rw [e_1_6]; decide) (by rw [e_1_6]; decide) (by rw [e_1_6]; decide) (by decide) ?_
    refine lv_aload_n hx hb dX0_about_81 rfl (lv_at hl 0 rfl) ?_
    refine ob_get (C := RX0) (T := TX0) (N := 31) (ci := 0) (v := .int (u.1 30)) hx hb hts in_X0 hown hK.1.1 hC.1 rfl 30 (by decide) q219 (fun x h => h) rfl dX0_about_82 ?_
    exact iret_ro hx hb hr hlk (show _ = fX0_about u n w from by unfold fX0_about; rw [if_neg e_1_0, if_neg e_1_1, if_neg e_1_2, if_neg e_1_3, if_neg e_1_4, if_neg e_1_5, if_pos e_1_6]) dX0_about_85
  by_cases e_1_7 : w = 7
  · skip
    refine lv_tableIn (tgt := 86) (off := 85) hx hb dX0_about_1 (by rw [e_1_7]; decide) (by rw [e_1_7]; decide) (by rw [e_1_7]; decide) (by decide) ?_
    refine lv_aload_n hx hb dX0_about_86 rfl (lv_at hl 0 rfl) ?_
    refine ob_get (C := RX0) (T := TX0) (N := 31) (ci := 0) (v := .int (u.1 1)) hx hb hts in_X0 hown hK.1.1 hC.1 rfl 1 (by decide) q189 (fun x h => h) rfl dX0_about_87 ?_
    exact iret_ro hx hb hr hlk (show _ = fX0_about u n w from by unfold fX0_about; rw [if_neg e_1_0, if_neg e_1_1, if_neg e_1_2, if_neg e_1_3, if_neg e_1_4, if_neg e_1_5, if_neg e_1_6, if_pos e_1_7]) dX0_about_90
  refine lv_tableOut (tgt := 91) hx hb dX0_about_1 (ts_out8 e_1_0 e_1_1 e_1_2 e_1_3 e_1_4 e_1_5 e_1_6 e_1_7) (by decide) ?_
  refine lv_iconst (v := (-1)) hx hb dX0_about_91 (by decide) ?_
  exact iret_ro hx hb hr hlk (show _ = fX0_about u n w from by unfold fX0_about; rw [if_neg e_1_0, if_neg e_1_1, if_neg e_1_2, if_neg e_1_3, if_neg e_1_4, if_neg e_1_5, if_neg e_1_6, if_neg e_1_7]) dX0_about_92
