/-! HomeRoll.paper: a new paper. By tools/gen_k2.py -/
set_option maxRecDepth 100000
def pset (u : St) (n : Nat) (f : Nat → Int32) : St := (u.1, fun k j => if 60 ≤ k ∧ k < 69 ∧ j = n then f (k - 60) else u.2.1 k j, u.2.2)
def gadd (g : Gh) (t : Nat) : Gh := (g.1 + 1, va_up g.2.1 g.1 t, g.2.2)
theorem CW.addp {D : va_G} {cA : Nat → ClassId} {o t : Nat} {g : Gh} {u : St} {H H1 : Heap} {f : Nat → Int32} (h : CW D cA o g u H) (ht : t_OB t (D.1 3) 9 (D.2 3) H (fun k => .int (f k))) (hv : pIxn g.1 (u.1 31)) (htf : ¬ cF o g t) (hto : o + 36 ≤ t)
    (h1 : H1[cAd o 11]? = some (arrV (cA 5) 60 (fun j => va_rf (if j < g.1 + 1 then some (va_up g.2.1 g.1 t j) else none)))) (hq : ∀ q, q ≠ cAd o 11 → H1[q]? = H[q]?) : CW D cA o (gadd g t) (pset u g.1 f) H1 := by
  obtain ⟨c1, c2, c3, c4, c5, c6, c7⟩ := h
  have k11 : (11 : Nat) < 60 ∧ 2 ≤ cKd 11 ∧ ¬ cKd 11 = 6 := by decide
  have hup : ∀ i, i < g.1 → va_up g.2.1 g.1 t i = g.2.1 i := fun i hi => by unfold va_up; rw [if_neg (by omega)]
  have hun : va_up g.2.1 g.1 t g.1 = t := by unfold va_up; rw [if_pos rfl]
  refine ⟨(c1.kept (hq _ (Ne.symm (cAd_ne k11.1 k11.2.1 k11.2.2)))).to fun j hj => rfl, (c2.kept (hq _ (fun z => by have := cAd_inj k23.1 k11.1 k23.2.1 k23.2.2 k11.2.1 k11.2.2 z; revert this; decide))).to fun j hj => ?_, fun k hk a b => ?_, fun k hk a => ?_, fun i hi => ?_, fun i hi => ?_, fun i j hi hj e => ?_⟩
  · have e : pr (gadd g t) (u.1 31) = pr g (u.1 31) := by
      unfold pr
      rcases hv with z | z
      · rw [if_pos z, if_pos z]
      · by_cases z0 : u.1 31 < 0
        · rw [if_pos z0, if_pos z0]
        · rw [if_neg z0, if_neg z0]; show some (va_up g.2.1 g.1 t _) = _; rw [hup _ z]
    have e' : pr (gadd g t) ((pset u g.1 f).1 31) = pr g (u.1 31) := e
    unfold vV
    rw [e']
    rfl
  · rw [hq _ (fun z => by have := cAd_inj hk k11.1 a (by omega) k11.2.1 k11.2.2 z; subst this; revert b; decide), c3 k hk a b]
    unfold cArr
    have e : ∀ j, (pset u g.1 f).2.1 k j = u.2.1 k j := fun j => by unfold pset; show (if _ then _ else _) = _; rw [if_neg (by omega)]
    simp only [e]
    rfl
  · by_cases e : k = 11
    · subst e; rw [h1, cRf_11]; rfl
    · rw [hq _ (fun z => e (cAd_inj hk k11.1 (by omega) (by omega) k11.2.1 k11.2.2 z)), c4 k hk a]
      unfold cRf; rw [if_neg e, if_neg e]; rfl
  · by_cases e : i = g.1
    · subst e
      show t_OB (va_up g.2.1 g.1 t g.1) _ _ _ _ _
      rw [hun]
      refine (ht.kept (hq _ (fun z => htf (by rw [z]; exact cF_k k11.1 k11.2.1 k11.2.2)))).to fun k hk => ?_
      unfold pV pset
      show _ = Value.int (if _ then _ else _)
      rw [if_pos ⟨by omega, by omega, rfl⟩, show 60 + k - 60 = k by omega]
    · have hi' : i < g.1 := by have : i < g.1 + 1 := hi; omega
      show t_OB (va_up g.2.1 g.1 t i) _ _ _ _ _
      rw [hup i hi']
      refine ((c5 i hi').kept (hq _ (cAd_p k11.1 k11.2.1 k11.2.2 (c6 i hi')))).to fun k hk => ?_
      unfold pV pset
      show _ = Value.int (if _ then _ else _)
      rw [if_neg (fun z => e z.2.2)]
  · show o + 36 ≤ va_up g.2.1 g.1 t i
    by_cases e : i = g.1
    · subst e; rw [hun]; exact hto
    · rw [hup i (by have : i < g.1 + 1 := hi; omega)]; exact c6 i (by have : i < g.1 + 1 := hi; omega)
  · have hi : i < g.1 + 1 := hi
    have hj : j < g.1 + 1 := hj
    have e : va_up g.2.1 g.1 t i = va_up g.2.1 g.1 t j := e
    by_cases ei : i = g.1
    · by_cases ej : j = g.1
      · omega
      · rw [ei, hun, hup j (by omega)] at e
        exact absurd (e ▸ cF_p (by omega)) htf
    · by_cases ej : j = g.1
      · rw [ej, hun, hup i (by omega)] at e
        exact absurd (e ▸ cF_p (by omega)) htf
      · rw [hup i (by omega), hup j (by omega)] at e
        exact c7 i j (by omega) (by omega) e
section PAP
variable {p : Program} {l : Launch} {e : Env} {R : Room} {s : State} {m : MethodId} {args : Array Value} {below : List Frame} {meth : Method} {c : Code} {H : Heap} {locs : List Loc} {cells slots : Nat} {Q : State → Prop}
variable {cc : ByteArray} {pc : Nat} {ls : Array Slot} {rest : List Value} {D : va_G} {cA : Nat → ClassId} {o t : Nat} {g : Gh} {H0 : Heap} {u : St} {f : Nat → Int32}
theorem cw_addp (hexec : p.tables.exec = Jvm.exec) (hb : c.code = cc) (hK : K0 D cA s) (hM : CW D cA o g u H) (hS : va_S (cF o g) H0 H locs) (ht : t_OB t (D.1 3) 9 (D.2 3) H (fun k => .int (f k))) (hv : pIxn g.1 (u.1 31)) (htf : ¬ cF o g t) (hto : o + 36 ≤ t) {i : Int32} (hi : i.toNatClampNeg = g.1) (hin : vp_in i 60) (hdg : decode cc pc = .ok (.aastore, 1))
    (kk : ∀ (H1 : Heap) (locs1 : List Loc), CW D cA o (gadd g t) (pset u g.1 f) H1 → va_S (cF o g) H0 H1 locs1 → W p l e R s m args below meth c H1 locs1 cells slots Q (F0 m (pc + 1) ls rest)) : W p l e R s m args below meth c H locs cells slots Q (F0 m pc ls (.ref t :: .int i :: .ref (cAd o 11) :: rest)) := by
  have k11 : (11 : Nat) < 60 ∧ 2 ≤ cKd 11 ∧ ¬ cKd 11 = 6 := by decide
  have hc : H[cAd o 11]? = some (arrV (cA 5) 60 (fun j => va_rf (if j < g.1 then some (g.2.1 j) else none))) := by rw [hM.2.2.2.1 11 (by decide) (by decide), cRf_11]
  have hlt : i.toNatClampNeg < 60 := Nat.not_le.mp fun q => hin (Or.inr q)
  have h0 : ¬ i < 0 := fun q => hin (Or.inl q)
  obtain ⟨cellV, g1, g2, g3, -⟩ := id ht
  have hcls := (hK.1 3 _ rfl).2
  obtain ⟨kA, comp, k1, k2, k3, -⟩ := (hK.2 5 _ rfl).2
  have hcomp : comp = D.1 3 := Option.some.inj (k3.symm.trans hcls.1)
  subst hcomp
  obtain ⟨kC, hkC, -⟩ := hcls.2
  refine W.aast hexec hb hc (fun q h => by cases h) (fun h => by cases h) k1 k2 rfl hkC ⟨h0, by show _ < (arrV _ _ _).slots.size; rw [arrV_size]; exact hlt⟩ g1 (fun q h => by rw [g3] at h; cases h) (by rw [g2]; exact hkC) (by rw [g2]; exact va_assign hcls) rfl rfl hdg fun H1 e z oq => ?_
  refine kk H1 _ (hM.addp ht hv htf hto ?_ oq) (hS.put z oq (cF_k k11.1 k11.2.1 k11.2.2))
  rw [e, arrV_store, hi]
  congr 2
  funext q
  unfold updV va_up
  by_cases hq : q = g.1
  · subst hq; rw [if_pos rfl, if_pos (by omega), if_pos rfl]; rfl
  · rw [if_neg hq]
    show va_rf (if q < g.1 then some (g.2.1 q) else none) = _
    by_cases hl : q < g.1
    · rw [if_pos hl, if_pos (by omega), if_neg hq]
    · rw [if_neg hl, if_neg (by omega)]
theorem CW.putiG {k : Nat} {v : Int32} {H1 : Heap} (h : CW D cA o g u H) (hk : k < 31) (hkd : cKd k ≤ 1) (hh : t_OB o (D.1 0) 31 (D.2 0) H1 (updV (cV o g u) k (.int v))) (hq : ∀ q : Nat, q ≠ o → H1[q]? = H[q]?) : CW D cA o g (si u k v) H1 := h.puti hk hkd hh hq
/-- as cw_puti, where what may be written is said of fewer papers -/
theorem cw_putiG {A : Nat → Prop} (hexec : p.tables.exec = Jvm.exec) (hb : c.code = cc) (hts : ∀ w ∈ lw_all, w.before args s = true) (hown : s.vm.findClass RX0 = some m.cls) (hK : K0 D cA s) (hM : CW D cA o g u H) (hS : va_S A H0 H locs) (hA : A o) (k : Nat) (hk : k < 31) {index : Nat} (hlink : (Cond.fieldLink RX0 index RX0 (TX0 k).2.1 (TX0 k).2.2.1) ∈ lw_all) (hT : (TX0 k).1 = RX0) (hkd : cKd k = 0) (hty : tyX0 k = .int) (hfin : (TX0 k).2.2.2 = false) {v : Int32} (hdg : decode cc pc = .ok (.putfield index, 3))
    (kk : ∀ (H1 : Heap) (locs1 : List Loc), CW D cA o g (si u k v) H1 → va_S A H0 H1 locs1 → W p l e R s m args below meth c H1 locs1 cells slots Q (F0 m (pc + 3) ls rest)) : W p l e R s m args below meth c H locs cells slots Q (F0 m pc ls (.int v :: .ref o :: rest)) :=
  ob_put (C := RX0) (T := TX0) (N := 31) (ci := 0) hexec hb hts in_X0 tyX0 tyX0_ok nmX0 hown hK hM.1 hS hA rfl k hk hlink (fun x h => by rw [hT] at h; exact h) hfin (by rw [hty]; rfl) (by rw [hty]; rfl) hdg (fun H1 locs1 h1 h2 _ h3 => kk H1 locs1 (hM.puti hk (by omega) h1 h2) h3)
end PAP
/-- the end of paper: a = true: a paper more -/
def pQ (D : va_G) (cA : Nat → ClassId) (o : Nat) (g : Gh) (a : Bool) (r : Int32) (u' : St) : Array Value → State → Outcome → State → Prop := fun _ st oc t => oc = .returned (some (.int r)) ∧ va_F (cF o g) st t ∧ ((a = false ∧ CW D cA o g u' t.heap) ∨ (a = true ∧ ∃ x, st.heap.size ≤ x ∧ CW D cA o (gadd g x) u' t.heap))

def fX0_paper (n : Nat) (u : St) (ho : Int32) (fr : Int32) (to : Int32) (da : Int32) (so : Int32) (pr1 : Int32) : Bool × Int32 × St :=
  if (u.1 15) = 60 then (false, (-1), u) else (if (fX0_isHouse u ho) = true then (if (fX0_isPerson u fr) = true then (if (fX0_isPerson u to) = true then (if fr = to then (false, (-1), u) else (if da < 0 then (false, (-1), u) else (if (u.1 16) < da then (false, (-1), u) else (if so < 0 then (false, (-1), u) else (if 2 < so then (false, (-1), u) else (if pr1 < 0 then (false, (-1), u) else (if pr1 ≤ 1000000 then (true, (((pset u n (pF (u.1 15) ho fr to da so pr1 (u.1 16))).1 15) + 1) - 1, (si (pset u n (pF (u.1 15) ho fr to da so pr1 (u.1 16))) 15 (((pset u n (pF (u.1 15) ho fr to da so pr1 (u.1 16))).1 15) + 1))) else (false, (-1), u)))))))) else (false, (-1), u)) else (false, (-1), u)) else (false, (-1), u))
def okX0_paper (n : Nat) (u : St) (ho : Int32) (fr : Int32) (to : Int32) (da : Int32) (so : Int32) (pr1 : Int32) : Prop :=
  (¬ ((u.1 15) = 60) → (fX0_isHouse u ho) = true → (fX0_isPerson u fr) = true → (fX0_isPerson u to) = true → ¬ (fr = to) → ¬ (da < 0) → ¬ ((u.1 16) < da) → ¬ (so < 0) → ¬ (2 < so) → ¬ (pr1 < 0) → pr1 ≤ 1000000 → pIxn n (u.1 31)) ∧ (¬ ((u.1 15) = 60) → (fX0_isHouse u ho) = true → (fX0_isPerson u fr) = true → (fX0_isPerson u to) = true → ¬ (fr = to) → ¬ (da < 0) → ¬ ((u.1 16) < da) → ¬ (so < 0) → ¬ (2 < so) → ¬ (pr1 < 0) → pr1 ≤ 1000000 → (u.1 15).toNatClampNeg = n) ∧ (¬ ((u.1 15) = 60) → (fX0_isHouse u ho) = true → (fX0_isPerson u fr) = true → (fX0_isPerson u to) = true → ¬ (fr = to) → ¬ (da < 0) → ¬ ((u.1 16) < da) → ¬ (so < 0) → ¬ (2 < so) → ¬ (pr1 < 0) → pr1 ≤ 1000000 → vp_in (u.1 15) 60)
set_option maxHeartbeats 4000000 in
theorem metX0_paper (l : Launch) (D : va_G) (cA : Nat → ClassId) (o : Nat) (g : Gh) (u : St) (ho : Int32) (fr : Int32) (to : Int32) (da : Int32) (so : Int32) (pr1 : Int32) (hok : okX0_paper g.1 u ho fr to da so pr1) : Met l yX0_paper (ws_ yX0_paper cX0_paper 7 (some .int)) (rmC 2 1 9) (gP D cA (CW D cA o g u) [.ref o, .int ho, .int fr, .int to, .int da, .int so, .int pr1]) (pQ D cA o g (fX0_paper g.1 u ho fr to da so pr1).1 (fX0_paper g.1 u ho fr to da so pr1).2.1 (fX0_paper g.1 u ho fr to da so pr1).2.2) 1 9 (cF o g) := by
  obtain ⟨hN0, hN1, hN2⟩ := hok
  refine gM_start RX0 (by decide) rfl (Nat.le_of_ble_eq_true rfl) ?_
  intro pg ev s0 mi bl me co hx hb hml hown hts hr hlk hnm hK hM ls hl
  have hl : lv_has ls 7 [(0, .ref o), (1, .int ho), (2, .int fr), (3, .int to), (4, .int da), (5, .int so), (6, .int pr1)] := hl
  have hS : va_S (cF o g) s0.heap s0.heap [] := va_S.rf
  refine lv_aload_n hx hb dX0_paper_0 rfl (lv_at hl 0 rfl) ?_
  refine cw_get (v := .int (u.1 15)) hx hb hts hown hK hM 15 (by decide) q204 rfl rfl dX0_paper_1 ?_
  refine lv_bipush (v := 60) hx hb dX0_paper_4 (by decide) ?_
  refine lv_icmp_eq (tgt := 75) hx hb dX0_paper_6 (by decide) (fun c_6 => ?_) (fun c_6 => ?_)
  · skip
    refine lv_iconst (v := (-1)) hx hb dX0_paper_75 (by decide) ?_
    have hF : fX0_paper g.1 u ho fr to da so pr1 = (false, (-1), u) := by rw [fX0_paper, if_pos c_6]
    refine W.widen (k := 1) (n := 9) (Nat.le_of_ble_eq_true rfl) (Nat.le_of_ble_eq_true rfl) ?_
    exact W.iret hx hb hr (fun t ht hW => ⟨by rw [hF], hS.F ht, Or.inl ⟨by rw [hF], by rw [ht, hF]; exact hM⟩⟩) hS.2.2 dX0_paper_76 hlk
  · skip
    refine lv_aload_n hx hb dX0_paper_9 rfl (lv_at hl 0 rfl) ?_
    refine lv_iload_n hx hb dX0_paper_10 rfl (lv_at hl 1 rfl) ?_
    refine ro_call (cw_run (n := 1) (As := [.int ho]) (rest := []) hx hb hml hown hts (metX0_isHouse l D cA o g u ho) q326 q328 qs2 q329 (by decide +kernel) (by decide) (by decide) rfl hK hM hl.1 (Nat.le_of_ble_eq_true rfl) rfl dX0_paper_11 ⟨Nat.zero_le _, Nat.zero_le _⟩) ?_
    refine lv_B_eq (tgt := 75) hx hb dX0_paper_14 (by decide) (fun c_14 => ?_) (fun c_14 => ?_)
    · skip
      refine lv_iconst (v := (-1)) hx hb dX0_paper_75 (by decide) ?_
      have hF : fX0_paper g.1 u ho fr to da so pr1 = (false, (-1), u) := by rw [fX0_paper, if_neg c_6, if_neg (nt_of c_14)]
      refine W.widen (k := 1) (n := 9) (Nat.le_of_ble_eq_true rfl) (Nat.le_of_ble_eq_true rfl) ?_
      exact W.iret hx hb hr (fun t ht hW => ⟨by rw [hF], hS.F ht, Or.inl ⟨by rw [hF], by rw [ht, hF]; exact hM⟩⟩) hS.2.2 dX0_paper_76 hlk
    · skip
      refine lv_aload_n hx hb dX0_paper_17 rfl (lv_at hl 0 rfl) ?_
      refine lv_iload_n hx hb dX0_paper_18 rfl (lv_at hl 2 rfl) ?_
      refine ro_call (cw_run (n := 1) (As := [.int fr]) (rest := []) hx hb hml hown hts (metX0_isPerson l D cA o g u fr) q289 q291 qs0 q292 (by decide +kernel) (by decide) (by decide) rfl hK hM hl.1 (Nat.le_of_ble_eq_true rfl) rfl dX0_paper_19 ⟨Nat.zero_le _, Nat.zero_le _⟩) ?_
      refine lv_B_eq (tgt := 75) hx hb dX0_paper_22 (by decide) (fun c_22 => ?_) (fun c_22 => ?_)
      · skip
        refine lv_iconst (v := (-1)) hx hb dX0_paper_75 (by decide) ?_
        have hF : fX0_paper g.1 u ho fr to da so pr1 = (false, (-1), u) := by rw [fX0_paper, if_neg c_6, if_pos c_14, if_neg (nt_of c_22)]
        refine W.widen (k := 1) (n := 9) (Nat.le_of_ble_eq_true rfl) (Nat.le_of_ble_eq_true rfl) ?_
        exact W.iret hx hb hr (fun t ht hW => ⟨by rw [hF], hS.F ht, Or.inl ⟨by rw [hF], by rw [ht, hF]; exact hM⟩⟩) hS.2.2 dX0_paper_76 hlk
      · skip
        refine lv_aload_n hx hb dX0_paper_25 rfl (lv_at hl 0 rfl) ?_
        refine lv_iload_n hx hb dX0_paper_26 rfl (lv_at hl 3 rfl) ?_
        refine ro_call (cw_run (n := 1) (As := [.int to]) (rest := []) hx hb hml hown hts (metX0_isPerson l D cA o g u to) q289 q291 qs0 q292 (by decide +kernel) (by decide) (by decide) rfl hK hM hl.1 (Nat.le_of_ble_eq_true rfl) rfl dX0_paper_27 ⟨Nat.zero_le _, Nat.zero_le _⟩) ?_
        refine lv_B_eq (tgt := 75) hx hb dX0_paper_30 (by decide) (fun c_30 => ?_) (fun c_30 => ?_)
        · skip
          refine lv_iconst (v := (-1)) hx hb dX0_paper_75 (by decide) ?_
          have hF : fX0_paper g.1 u ho fr to da so pr1 = (false, (-1), u) := by rw [fX0_paper, if_neg c_6, if_pos c_14, if_pos c_22, if_neg (nt_of c_30)]
          refine W.widen (k := 1) (n := 9) (Nat.le_of_ble_eq_true rfl) (Nat.le_of_ble_eq_true rfl) ?_
          exact W.iret hx hb hr (fun t ht hW => ⟨by rw [hF], hS.F ht, Or.inl ⟨by rw [hF], by rw [ht, hF]; exact hM⟩⟩) hS.2.2 dX0_paper_76 hlk
        · skip
          refine lv_iload_n hx hb dX0_paper_33 rfl (lv_at hl 2 rfl) ?_
          refine lv_iload_n hx hb dX0_paper_34 rfl (lv_at hl 3 rfl) ?_
          refine lv_icmp_eq (tgt := 75) hx hb dX0_paper_35 (by decide) (fun c_35 => ?_) (fun c_35 => ?_)
          · skip
            refine lv_iconst (v := (-1)) hx hb dX0_paper_75 (by decide) ?_
            have hF : fX0_paper g.1 u ho fr to da so pr1 = (false, (-1), u) := by rw [fX0_paper, if_neg c_6, if_pos c_14, if_pos c_22, if_pos c_30, if_pos c_35]
            refine W.widen (k := 1) (n := 9) (Nat.le_of_ble_eq_true rfl) (Nat.le_of_ble_eq_true rfl) ?_
            exact W.iret hx hb hr (fun t ht hW => ⟨by rw [hF], hS.F ht, Or.inl ⟨by rw [hF], by rw [ht, hF]; exact hM⟩⟩) hS.2.2 dX0_paper_76 hlk
          · skip
            refine lv_iload hx hb dX0_paper_38 (lv_at hl 4 rfl) ?_
            refine lv_if_lt (tgt := 75) hx hb dX0_paper_40 (by decide) (fun c_40 => ?_) (fun c_40 => ?_)
            · skip
              refine lv_iconst (v := (-1)) hx hb dX0_paper_75 (by decide) ?_
              have hF : fX0_paper g.1 u ho fr to da so pr1 = (false, (-1), u) := by rw [fX0_paper, if_neg c_6, if_pos c_14, if_pos c_22, if_pos c_30, if_neg c_35, if_pos c_40]
              refine W.widen (k := 1) (n := 9) (Nat.le_of_ble_eq_true rfl) (Nat.le_of_ble_eq_true rfl) ?_
              exact W.iret hx hb hr (fun t ht hW => ⟨by rw [hF], hS.F ht, Or.inl ⟨by rw [hF], by rw [ht, hF]; exact hM⟩⟩) hS.2.2 dX0_paper_76 hlk
            · skip
              refine lv_iload hx hb dX0_paper_43 (lv_at hl 4 rfl) ?_
              refine lv_aload_n hx hb dX0_paper_45 rfl (lv_at hl 0 rfl) ?_
              refine cw_get (v := .int (u.1 16)) hx hb hts hown hK hM 16 (by decide) q205 rfl rfl dX0_paper_46 ?_
              refine lv_icmp_gt (tgt := 75) hx hb dX0_paper_49 (by decide) (fun c_49 => ?_) (fun c_49 => ?_)
              · skip
                refine lv_iconst (v := (-1)) hx hb dX0_paper_75 (by decide) ?_
                have hF : fX0_paper g.1 u ho fr to da so pr1 = (false, (-1), u) := by rw [fX0_paper, if_neg c_6, if_pos c_14, if_pos c_22, if_pos c_30, if_neg c_35, if_neg c_40, if_pos c_49]
                refine W.widen (k := 1) (n := 9) (Nat.le_of_ble_eq_true rfl) (Nat.le_of_ble_eq_true rfl) ?_
                exact W.iret hx hb hr (fun t ht hW => ⟨by rw [hF], hS.F ht, Or.inl ⟨by rw [hF], by rw [ht, hF]; exact hM⟩⟩) hS.2.2 dX0_paper_76 hlk
              · skip
                refine lv_iload hx hb dX0_paper_52 (lv_at hl 5 rfl) ?_
                refine lv_if_lt (tgt := 75) hx hb dX0_paper_54 (by decide) (fun c_54 => ?_) (fun c_54 => ?_)
                · skip
                  refine lv_iconst (v := (-1)) hx hb dX0_paper_75 (by decide) ?_
                  have hF : fX0_paper g.1 u ho fr to da so pr1 = (false, (-1), u) := by rw [fX0_paper, if_neg c_6, if_pos c_14, if_pos c_22, if_pos c_30, if_neg c_35, if_neg c_40, if_neg c_49, if_pos c_54]
                  refine W.widen (k := 1) (n := 9) (Nat.le_of_ble_eq_true rfl) (Nat.le_of_ble_eq_true rfl) ?_
                  exact W.iret hx hb hr (fun t ht hW => ⟨by rw [hF], hS.F ht, Or.inl ⟨by rw [hF], by rw [ht, hF]; exact hM⟩⟩) hS.2.2 dX0_paper_76 hlk
                · skip
                  refine lv_iload hx hb dX0_paper_57 (lv_at hl 5 rfl) ?_
                  refine lv_iconst (v := 2) hx hb dX0_paper_59 (by decide) ?_
                  refine lv_icmp_gt (tgt := 75) hx hb dX0_paper_60 (by decide) (fun c_60 => ?_) (fun c_60 => ?_)
                  · skip
                    refine lv_iconst (v := (-1)) hx hb dX0_paper_75 (by decide) ?_
                    have hF : fX0_paper g.1 u ho fr to da so pr1 = (false, (-1), u) := by rw [fX0_paper, if_neg c_6, if_pos c_14, if_pos c_22, if_pos c_30, if_neg c_35, if_neg c_40, if_neg c_49, if_neg c_54, if_pos c_60]
                    refine W.widen (k := 1) (n := 9) (Nat.le_of_ble_eq_true rfl) (Nat.le_of_ble_eq_true rfl) ?_
                    exact W.iret hx hb hr (fun t ht hW => ⟨by rw [hF], hS.F ht, Or.inl ⟨by rw [hF], by rw [ht, hF]; exact hM⟩⟩) hS.2.2 dX0_paper_76 hlk
                  · skip
                    refine lv_iload hx hb dX0_paper_63 (lv_at hl 6 rfl) ?_
                    refine lv_if_lt (tgt := 75) hx hb dX0_paper_65 (by decide) (fun c_65 => ?_) (fun c_65 => ?_)
                    · skip
                      refine lv_iconst (v := (-1)) hx hb dX0_paper_75 (by decide) ?_
                      have hF : fX0_paper g.1 u ho fr to da so pr1 = (false, (-1), u) := by rw [fX0_paper, if_neg c_6, if_pos c_14, if_pos c_22, if_pos c_30, if_neg c_35, if_neg c_40, if_neg c_49, if_neg c_54, if_neg c_60, if_pos c_65]
                      refine W.widen (k := 1) (n := 9) (Nat.le_of_ble_eq_true rfl) (Nat.le_of_ble_eq_true rfl) ?_
                      exact W.iret hx hb hr (fun t ht hW => ⟨by rw [hF], hS.F ht, Or.inl ⟨by rw [hF], by rw [ht, hF]; exact hM⟩⟩) hS.2.2 dX0_paper_76 hlk
                    · skip
                      refine lv_iload hx hb dX0_paper_68 (lv_at hl 6 rfl) ?_
                      refine lv_ldc (v := 1000000) hx hb hown (hts _ q305) dX0_paper_70 ?_
                      refine lv_icmp_le (tgt := 77) hx hb dX0_paper_72 (by decide) (fun c_72 => ?_) (fun c_72 => ?_)
                      · skip
                        refine lv_aload_n hx hb dX0_paper_77 rfl (lv_at hl 0 rfl) ?_
                        refine cw_get (v := .ref (cAd o 11)) hx hb hts hown hK hM 11 (by decide) q200 rfl rfl dX0_paper_78 ?_
                        refine lv_aload_n hx hb dX0_paper_81 rfl (lv_at hl 0 rfl) ?_
                        refine cw_get (v := .int (u.1 15)) hx hb hts hown hK hM 15 (by decide) q204 rfl rfl dX0_paper_82 ?_
                        refine ob_new (C := RX4) (T := TX4) (N := 9) (ci := 3) hx hb hts in_X4 tyX4 tyX4_ok hown q133 q330 q72 hK rfl (Nat.le_of_ble_eq_true rfl) (Nat.le_of_ble_eq_true rfl) dX0_paper_85 (fun H1 hN hz1 ho1 => ?_)
                        have hnew : ¬ cF o g s0.heap.size := fun h => Nat.lt_irrefl _ (hM.lt _ h)
                        have hto : o + 36 ≤ s0.heap.size := by have := hM.lt (o + 35) (Or.inl ⟨by omega, by omega, by omega, by omega⟩); omega
                        have hM : CW D cA o g u H1 := hM.grow ho1
                        have hS : va_S (cF o g) s0.heap H1 [] := hS.grow (by omega) ho1
                        refine lv_dup hx hb dX0_paper_88 rfl ?_
                        refine lv_aload_n hx hb dX0_paper_89 rfl (lv_at hl 0 rfl) ?_
                        refine cw_get (v := .int (u.1 15)) hx hb hts hown hK hM 15 (by decide) q204 rfl rfl dX0_paper_90 ?_
                        refine lv_iload_n hx hb dX0_paper_93 rfl (lv_at hl 1 rfl) ?_
                        refine lv_iload_n hx hb dX0_paper_94 rfl (lv_at hl 2 rfl) ?_
                        refine lv_iload_n hx hb dX0_paper_95 rfl (lv_at hl 3 rfl) ?_
                        refine lv_iload hx hb dX0_paper_96 (lv_at hl 4 rfl) ?_
                        refine lv_iload hx hb dX0_paper_98 (lv_at hl 5 rfl) ?_
                        refine lv_iload hx hb dX0_paper_100 (lv_at hl 6 rfl) ?_
                        refine lv_aload_n hx hb dX0_paper_102 rfl (lv_at hl 0 rfl) ?_
                        refine cw_get (v := .int (u.1 16)) hx hb hts hown hK hM 16 (by decide) q205 rfl rfl dX0_paper_103 ?_
                        refine ob_called (g_runI (n := 8) (As := [.int (u.1 15), .int ho, .int fr, .int to, .int da, .int so, .int pr1, .int (u.1 16)]) (rest := [.ref s0.heap.size, .int (u.1 15), .ref (cAd o 11)]) hx hb hml hown hts (metX4_init l D cA s0.heap.size (u.1 15) ho fr to da so pr1 (u.1 16)) q331 q332 q72 q333 rfl (by decide +kernel) (by decide) (by decide) rfl hK hN hl.1 (Nat.le_of_ble_eq_true rfl) rfl dX0_paper_106 ⟨Nat.le_of_ble_eq_true rfl, Nat.le_of_ble_eq_true rfl⟩) (Nat.le_refl _) (fun H2 hN hz2 ho2 => ?_)
                        have hM : CW D cA o g u H2 := hM.kept (fun q hq => ho2 q (fun z => hnew (z ▸ hq)))
                        have hS : va_S (cF o g) s0.heap H2 [] := hS.newer hz2 (Nat.le_refl _) ho2
                        refine cw_addp (f := (pF (u.1 15) ho fr to da so pr1 (u.1 16))) hx hb hK hM hS hN (hN0 c_6 c_14 c_22 c_30 c_35 c_40 c_49 c_54 c_60 c_65 c_72) hnew hto (hN1 c_6 c_14 c_22 c_30 c_35 c_40 c_49 c_54 c_60 c_65 c_72) (hN2 c_6 c_14 c_22 c_30 c_35 c_40 c_49 c_54 c_60 c_65 c_72) dX0_paper_109 (fun H locs hM hS => ?_)
                        refine lv_aload_n hx hb dX0_paper_110 rfl (lv_at hl 0 rfl) ?_
                        refine lv_dup hx hb dX0_paper_111 rfl ?_
                        refine cw_get (v := .int ((pset u g.1 (pF (u.1 15) ho fr to da so pr1 (u.1 16))).1 15)) hx hb hts hown hK hM 15 (by decide) q204 rfl rfl dX0_paper_112 ?_
                        refine lv_iconst (v := 1) hx hb dX0_paper_115 (by decide) ?_
                        refine lv_iadd hx hb dX0_paper_116 ?_
                        refine cw_putiG hx hb hts hown hK hM hS (cF_o o g) 15 (by decide) q204 rfl rfl rfl rfl dX0_paper_117 (fun H locs hM hS => ?_)
                        refine lv_aload_n hx hb dX0_paper_120 rfl (lv_at hl 0 rfl) ?_
                        refine cw_get (v := .int (((pset u g.1 (pF (u.1 15) ho fr to da so pr1 (u.1 16))).1 15) + 1)) hx hb hts hown hK hM 15 (by decide) q204 rfl rfl dX0_paper_121 ?_
                        refine lv_iconst (v := 1) hx hb dX0_paper_124 (by decide) ?_
                        refine lv_isub hx hb dX0_paper_125 ?_
                        have hF : fX0_paper g.1 u ho fr to da so pr1 = (true, (((pset u g.1 (pF (u.1 15) ho fr to da so pr1 (u.1 16))).1 15) + 1) - 1, (si (pset u g.1 (pF (u.1 15) ho fr to da so pr1 (u.1 16))) 15 (((pset u g.1 (pF (u.1 15) ho fr to da so pr1 (u.1 16))).1 15) + 1))) := by rw [fX0_paper, if_neg c_6, if_pos c_14, if_pos c_22, if_pos c_30, if_neg c_35, if_neg c_40, if_neg c_49, if_neg c_54, if_neg c_60, if_neg c_65, if_pos c_72]
                        refine W.widen (k := 1) (n := 9) (Nat.le_of_ble_eq_true rfl) (Nat.le_of_ble_eq_true rfl) ?_
                        exact W.iret hx hb hr (fun t ht hW => ⟨by rw [hF], hS.F ht, Or.inr ⟨by rw [hF], _, Nat.le_refl _, by rw [ht, hF]; exact hM⟩⟩) hS.2.2 dX0_paper_126 hlk
                      · skip
                        refine lv_iconst (v := (-1)) hx hb dX0_paper_75 (by decide) ?_
                        have hF : fX0_paper g.1 u ho fr to da so pr1 = (false, (-1), u) := by rw [fX0_paper, if_neg c_6, if_pos c_14, if_pos c_22, if_pos c_30, if_neg c_35, if_neg c_40, if_neg c_49, if_neg c_54, if_neg c_60, if_neg c_65, if_neg c_72]
                        refine W.widen (k := 1) (n := 9) (Nat.le_of_ble_eq_true rfl) (Nat.le_of_ble_eq_true rfl) ?_
                        exact W.iret hx hb hr (fun t ht hW => ⟨by rw [hF], hS.F ht, Or.inl ⟨by rw [hF], by rw [ht, hF]; exact hM⟩⟩) hS.2.2 dX0_paper_76 hlk
