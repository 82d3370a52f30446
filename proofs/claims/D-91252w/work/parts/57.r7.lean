/-! THE READER's methods: where they stand, and rows for what they do. By tools/gen_r5.py -/
set_option maxRecDepth 100000
/-- where a method of the reader stands: the token at P, tm terms, the word w; w0 the word at its start -/
def PS (κ : Kg) (o : Nat) (τ : Tp) (r : Nat) (s : State) (w0 al P tm w : Nat) (H : Heap) (locs : List Loc) : Prop := KZ κ s H ∧ RT κ o τ r P (nI tm) w al H ∧ FrR κ r w0 s.heap H ∧ (w = w0 ∨ s.heap.size ≤ w) ∧ ∀ x ∈ locs, κ.base ≤ x.base
/-- a tree that stays as it is -/
def TR (κ : Kg) (o r w : Nat) (H : Heap) (a : Nat) (f : Sm) (dp lo hi : Nat) : Prop := ∃ wx, ExT κ o (FP lo hi wx) H dp a f ∧ (w = wx ∨ hi ≤ w) ∧ hi ≤ H.size ∧ r < lo
theorem TR.step {κ : Kg} {o r w w1 : Nat} {H H1 : Heap} {a : Nat} {f : Sm} {dp lo hi : Nat} (h : TR κ o r w H a f dp lo hi) (hF : FrR κ r w H H1) (hw : w1 = w ∨ H.size ≤ w1) : TR κ o r w1 H1 a f dp lo hi := by
  obtain ⟨wx, h1, h2, h3, h4⟩ := h
  refine ⟨wx, h1.step h2 h4 h3 hF, ?_, Nat.le_trans h3 hF.1, h4⟩
  rcases hw with e | e
  · rw [e]; exact h2
  · exact Or.inr (by omega)
theorem TR.fin {κ : Kg} {o r w : Nat} {H : Heap} {a : Nat} {f : Sm} {dp dp' lo lo' hi : Nat} (h : TR κ o r w H a f dp lo hi) (h1 : lo' ≤ lo) (h2 : dp ≤ dp') : ExT κ o (FP lo' H.size w) H dp' a f := by
  obtain ⟨wx, g1, g2, g3, g4⟩ := h
  exact g1.wide g2 h1 g3 h2
theorem TR.of {κ : Kg} {o r w : Nat} {H : Heap} {a : Nat} {f : Sm} {dp lo : Nat} (h : ExT κ o (FP lo H.size w) H dp a f) (hr : r < lo) : TR κ o r w H a f dp lo H.size := ⟨w, h, Or.inl rfl, Nat.le_refl _, hr⟩
/-- new cells, and an object that isn't of the tree -/
theorem TR.new {κ : Kg} {o r w : Nat} {H H1 : Heap} {a : Nat} {f : Sm} {dp lo hi : Nat} (h : TR κ o r w H a f dp lo hi) (hz : H.size ≤ H1.size) (hq : ∀ q : Nat, q < H.size → H1[q]? = H[q]?) : TR κ o r w H1 a f dp lo hi := by
  obtain ⟨wx, h1, h2, h3, h4⟩ := h
  exact ⟨wx, ExT.kept (fun q z => hq q (by have := z.2.1; omega)) (fun _ z => z) h1 (Nat.le_refl _), h2, by omega, h4⟩
theorem TR.obj {κ : Kg} {o r w x : Nat} {H H1 : Heap} {a : Nat} {f : Sm} {dp lo hi : Nat} (h : TR κ o r w H a f dp lo hi) (hx : x < lo ∨ hi ≤ x) (hz : H1.size = H.size) (hq : ∀ q : Nat, q ≠ x → H1[q]? = H[q]?) : TR κ o r w H1 a f dp lo hi := by
  obtain ⟨wx, h1, h2, h3, h4⟩ := h
  exact ⟨wx, ExT.kept (fun q z => hq q (by have := z.1; have := z.2.1; omega)) (fun _ z => z) h1 (Nat.le_refl _), h2, by omega, h4⟩
section R7
variable {p : Program} {l : Launch} {e : Env} {s : State} {m : MethodId} {args : Array Value} {below : List Frame} {meth : Method} {c : Code} {H : Heap} {locs : List Loc} {cells slots : Nat} {Q : State → Prop}
variable {cc : ByteArray} {pc nL d mc ms : Nat} {ls : Array Slot} {rest : List Value} {κ : Kg} {o r al : Nat} {τ : Tp} {P tm w w0 : Nat}
theorem PS.ob (h : PS κ o τ r s w0 al P tm w H locs) : ∃ nu, t_OB r (κ.D.1 4) 8 (κ.D.2 4) H (rV (nI (te τ P)) (ts τ P) (nI (ws τ P)) nu (nI tm) w al o) ∧ (ts τ P = 2 → nu = tn τ P) := h.2.1.2.1
theorem PS.rl (h : PS κ o τ r s w0 al P tm w H locs) : r < H.size := by
  obtain ⟨nu, hO, -⟩ := h.ob
  exact hO.lt
theorem ps_is (hexec : p.tables.exec = Jvm.exec) (hb : c.code = cc) (hml : c.maxLocals = nL) (hown : s.vm.findClass RX5 = some m.cls) (hts : ∀ w ∈ lw_all, w.before args s = true) (hP : PS κ o τ r s w0 al P tm w H locs) (i : Nat) (hi : i < 20) (hdd : 2 < d) (hls : ls.size = nL) (hrest : (rest.map fun v => v.category).sum ≤ 8) (hdg : decode cc pc = .ok (.invokevirtual 93, 3)) (hf : cells ≤ mc ∧ slots ≤ ms)
    (kk : W p l e (rmC d mc ms) s m args below meth c H locs cells slots Q (F0 m (pc + 3) ls (.int (b2 (isW τ P i)) :: rest))) : W p l e (rmC d mc ms) s m args below meth c H locs cells slots Q (F0 m pc ls (.ref (κ.sK i) :: .ref r :: rest)) := by
  obtain ⟨nu, hO, -⟩ := hP.ob
  exact ro_call (x_runV (n := 1) (As := [.ref (κ.sK i)]) (rest := rest) hexec hb hml hown hts (metX5_is l κ o τ r P (nI tm) w al i hi) q730 q732 qs10 q73 q733 (by decide +kernel) hdd (by decide) rfl hP.1 hP.2.1 (ob_recv hP.1.1.1 rfl hO) hls hrest rfl hdg hf) kk
theorem ps_isTerm (hexec : p.tables.exec = Jvm.exec) (hb : c.code = cc) (hml : c.maxLocals = nL) (hown : s.vm.findClass RX5 = some m.cls) (hts : ∀ w ∈ lw_all, w.before args s = true) (hP : PS κ o τ r s w0 al P tm w H locs) (hrB : κ.base ≤ r) (hdd : 5 < d) (hls : ls.size = nL) (hrest : (rest.map fun v => v.category).sum ≤ 8) (hdg : decode cc pc = .ok (.invokevirtual 133, 3)) (hf : cells ≤ mc ∧ slots ≤ ms)
    (kk : ∀ (H1 : Heap) (locs1 : List Loc), PS κ o τ r s w0 al P tm w H1 locs1 → FrR κ r w H H1 → W p l e (rmC d mc ms) s m args below meth c H1 locs1 cells slots Q (F0 m (pc + 3) ls (.int (b2 (isTm τ P)) :: rest))) : W p l e (rmC d mc ms) s m args below meth c H locs cells slots Q (F0 m pc ls (.ref r :: rest)) := by
  obtain ⟨nu, hO, -⟩ := hP.ob
  refine x_called (x_runV (n := 0) (As := []) (rest := rest) hexec hb hml hown hts (metX5_isTerm l κ o τ r P (nI tm) w al) q825 q827 qs15 q73 q828 (by decide +kernel) hdd (by decide) rfl hP.1 hP.2.1 (ob_recv hP.1.1.1 rfl hO) hls hrest rfl hdg hf) (fun v2 st t L hst hq hvm hL => ?_)
  obtain ⟨hv, hM, hq3, hq4⟩ := hq
  cases hv
  rw [hst] at hq3 hq4
  have hF : FrR κ r w H t.heap := FrR.rf.is hq3 hq4
  exact kk t.heap _ ⟨hP.1.fr hrB hF, hM, hP.2.2.1.trans hP.2.2.2.1 hF, hP.2.2.2.1, lc_app hP.2.2.2.2 hL⟩ hF
theorem ps_next (hexec : p.tables.exec = Jvm.exec) (hb : c.code = cc) (hml : c.maxLocals = nL) (hown : s.vm.findClass RX5 = some m.cls) (hts : ∀ w ∈ lw_all, w.before args s = true) (hP : PS κ o τ r s w0 al P tm w H locs) (hro : o + 1 < r) (hrB : κ.base ≤ r) (hdd : 6 < d) (hls : ls.size = nL) (hrest : (rest.map fun v => v.category).sum ≤ 8) (hdg : decode cc pc = .ok (.invokevirtual 88, 3)) (hf : cells + 4 ≤ mc ∧ slots + 24 ≤ ms)
    (kk : ∀ (H1 : Heap) (locs1 : List Loc) (w1 : Nat), PS κ o τ r s w0 al (te τ P) tm w1 H1 locs1 → FrR κ r w H H1 → (w1 = w ∨ H.size ≤ w1) → W p l e (rmC d mc ms) s m args below meth c H1 locs1 (cells + 4) (slots + 24) Q (F0 m (pc + 3) ls rest)) : W p l e (rmC d mc ms) s m args below meth c H locs cells slots Q (F0 m pc ls (.ref r :: rest)) := by
  obtain ⟨nu, hO, -⟩ := hP.ob
  refine x_called (x_runV (n := 0) (As := []) (rest := rest) hexec hb hml hown hts (metX5_next l κ o τ r (te τ P) (ts τ P) (nI (ws τ P)) nu (nI tm) w al hro hrB (te_le hP.2.1.2.2.2.1)) q459 q461 qs6 q73 q462 (by decide +kernel) hdd (by decide) rfl hP.1 ⟨⟨hP.2.1.1, hO⟩, hP.2.1.2.2.2.2⟩ (ob_recv hP.1.1.1 rfl hO) hls hrest rfl hdg hf) (fun v2 st t L hst hq hvm hL => ?_)
  obtain ⟨hv, ⟨w1, hM, hw1⟩, hq3, hq3b, hq4⟩ := hq
  cases hv
  rw [hst] at hw1 hq3 hq4
  have hF : FrR κ r w H t.heap := FrR.rf.nx hq3 hq4
  exact kk t.heap _ w1 ⟨hP.1.fr hrB hF, hM, hP.2.2.1.trans hP.2.2.2.1 hF, (by rcases hw1 with z | z; (· rw [z]; exact hP.2.2.2.1); (· exact Or.inr (Nat.le_trans hP.2.2.1.1 z))), lc_app hP.2.2.2.2 hL⟩ hF hw1
/-- the exception is thrown -/
theorem ps_wrong {Qc : Array Value → State → Outcome → State → Prop} {mc0 ms0 : Nat} (hexec : p.tables.exec = Jvm.exec) (hb : c.code = cc) (hml : c.maxLocals = nL) (hnh : ∀ x ∈ c.exceptionTable.toList, False) (hlk : meth.locks = false) (hown : s.vm.findClass RX5 = some m.cls) (hts : ∀ w ∈ lw_all, w.before args s = true) (hP : PS κ o τ r s w0 al P tm w H locs) (hdd : 4 < d) (hls : ls.size = nL) (hdg : decode cc pc = .ok (.invokevirtual 101, 3)) (hdg2 : decode cc (pc + 3) = .ok (.athrow, 1)) (hf : cells + 1 ≤ mc ∧ slots + 8 ≤ ms) (hf0 : cells + 1 ≤ mc0 ∧ slots + 8 ≤ ms0)
    (hq : ∀ (oc : Outcome) (t : State), erQ κ r w0 (eKd τ P) (ws τ P) s oc t → Qc args s oc t) : W p l e (rmC d mc ms) s m args below meth c H locs cells slots (MQT below Qc args s mc0 ms0 (fun q => κ.base ≤ q)) (F0 m pc ls [.ref r]) := by
  obtain ⟨nu, hO, -⟩ := hP.ob
  refine x_called (x_runV (n := 0) (As := []) (rest := []) hexec hb hml hown hts (metX5_wrong l κ o τ r P (nI tm) w al) q746 q748 qs11 q73 q749 (by decide +kernel) hdd (by decide) rfl hP.1 hP.2.1 (ob_recv hP.1.1.1 rfl hO) hls (Nat.le_of_ble_eq_true rfl) rfl hdg hf) (fun v2 st t L hst hq2 hvm hL => ?_)
  obtain ⟨hv, hWO, hq3, hq4⟩ := hq2
  cases hv
  rw [hst] at hWO hq3 hq4
  refine W.eq (g2 := F0 m (pc + 3) ls [.ref H.size]) (by rw [hst]; rfl) ?_
  refine W.widen (k := mc0) (n := ms0) hf0.1 hf0.2 ?_
  exact W.throw hexec hb hnh (fun t2 ht hW => hq _ _ ⟨_, rfl, by rw [ht]; exact hWO, hP.2.2.1.1, by rw [ht]; exact hP.2.2.1.new (by omega) hq4⟩) (lc_no hP.2.2.2.2 hL) hdg2 hlk
/-- a call that reads a test, or throws -/
theorem ps_call {Qc : Array Value → State → Outcome → State → Prop} {mc0 ms0 mc' ms' e0 d' idx L n : Nat} {y : MethodName} {b : ByteArray} {As : List Value} {st0 : List Value} {res : Except (Int32 × Nat) (Sm × Nat × Nat)} (hexec : p.tables.exec = Jvm.exec) (hb : c.code = cc) (hml : c.maxLocals = nL) (hnh : ∀ x ∈ c.exceptionTable.toList, False) (hlk : meth.locks = false) (hown : s.vm.findClass RX5 = some m.cls) (hts : ∀ w ∈ lw_all, w.before args s = true) (hP : PS κ o τ r s w0 al P tm w H locs) (hrB : κ.base ≤ r)
    (hMet : MetT l y (ws_ y b L (some (.object "HomeRoll$Ex"))) (rmC d' mc' ms') (xP κ (RT κ o τ r P (nI tm) w al) (.ref r :: As)) (prQ κ o τ r w al tm e0 res) mc' ms' (fun q => κ.base ≤ q)) (h1 : Cond.methodLink RX5 idx y ∈ lw_all) (h2 : Cond.instanceMethod y ∈ lw_all) (h3 : Cond.selects RX5 y y ∈ lw_all) (h5 : Cond.code y b L (some (.object "HomeRoll$Ex")) ∈ lw_all)
    (hd : y.cls = RX5 ∧ y.cls ≠ "java/lang/invoke/MethodHandle" ∧ y.cls ≠ "java/lang/invoke/VarHandle" ∧ (parseMethodDescriptor y.desc).map (fun d => d.parameters.length) = some n) (hdd : d' < d) (hL : L ≤ 41) (hn : As.length = n) (hls : ls.size = nL) (hrest : (rest.map fun v => v.category).sum ≤ 8) (hst : st0 = As.reverse ++ .ref r :: rest) (hdg : decode cc pc = .ok (.invokevirtual idx, 3)) (hf : cells + mc' ≤ mc ∧ slots + ms' ≤ ms) (hf0 : cells + mc' ≤ mc0 ∧ slots + ms' ≤ ms0)
    (herr : ∀ q, res = .error q → ∀ (oc : Outcome) (t : State), erQ κ r w0 q.1 q.2 s oc t → Qc args s oc t)
    (kk : ∀ (q : Sm × Nat × Nat), res = .ok q → ∀ (H1 : Heap) (locs1 : List Loc) (a w1 : Nat), PS κ o τ r s w0 al q.2.1 q.2.2 w1 H1 locs1 → FrR κ r w H H1 → (w1 = w ∨ H.size ≤ w1) → ExT κ o (FP H.size H1.size w1) H1 (q.2.2 - tm + e0) a q.1 → W p l e (rmC d mc ms) s m args below meth c H1 locs1 (cells + mc') (slots + ms') (MQT below Qc args s mc0 ms0 (fun q => κ.base ≤ q)) (F0 m (pc + 3) ls (.ref a :: rest))) : W p l e (rmC d mc ms) s m args below meth c H locs cells slots (MQT below Qc args s mc0 ms0 (fun q => κ.base ≤ q)) (F0 m pc ls st0) := by
  obtain ⟨nu, hO, -⟩ := hP.ob
  refine t_call (x_runT (n := n) (As := As) (rest := rest) hexec hb hml hown hts hMet h1 h2 h3 q73 h5 hd hdd hL hn hP.1 hP.2.1 (ob_recv hP.1.1.1 rfl hO) hls hrest hst hdg hf) hnh hlk (fun x st t locs1 hst hvm hq hL => ?_) (fun v st t locs1 hst hvm hq hL => ?_)
  · obtain ⟨L1, rfl, hL1⟩ := hL
    cases hres : res with
    | error q =>
      rw [hres] at hq
      obtain ⟨x2, e1, hWO, hx2, hF⟩ := hq
      cases e1
      rw [hst] at hx2 hF
      refine ⟨fun t' ht hW => herr q hres _ _ ⟨x, rfl, by rw [ht]; exact hWO, Nat.le_trans hP.2.2.1.1 hx2, by rw [ht]; exact hP.2.2.1.trans hP.2.2.2.1 hF⟩, lc_app hP.2.2.2.2 hL1, hf0.1, hf0.2⟩
    | ok q =>
      rw [hres] at hq
      obtain ⟨a, w1, e1, -⟩ := hq
      cases e1
  · obtain ⟨L1, rfl, hL1⟩ := hL
    cases hres : res with
    | error q =>
      rw [hres] at hq
      obtain ⟨x2, e1, -⟩ := hq
      cases e1
    | ok q =>
      rw [hres] at hq
      obtain ⟨a, w1, e1, hM, hw1, hE, hF⟩ := hq
      cases e1
      rw [hst] at hw1 hE hF
      exact kk q hres t.heap _ a w1 ⟨hP.1.fr hrB hF, hM, hP.2.2.1.trans hP.2.2.2.1 hF, (by rcases hw1 with z | z; (· rw [z]; exact hP.2.2.2.1); (· exact Or.inr (Nat.le_trans hP.2.2.1.1 z))), lc_app hP.2.2.2.2 hL1⟩ hF hw1 hE
/-- new cells -/
theorem PS.new {H1 : Heap} (h : PS κ o τ r s w0 al P tm w H locs) (hz : H.size ≤ H1.size) (hq : ∀ q : Nat, q < H.size → H1[q]? = H[q]?) : PS κ o τ r s w0 al P tm w H1 locs := by
  obtain ⟨hK, ⟨hT, ⟨nu, hO, hnu⟩, hwd, hp, hw⟩, hF, hww, hL⟩ := h
  have hb := hK.2.2
  refine ⟨hK.to (fun q h => hq q (by omega)) (by omega), ⟨hT.kept (hq _ (by have := hT.lt; omega)) (hq _ hT.lt), ⟨nu, hO.kept (hq _ hO.lt), hnu⟩, fun h1 => ?_, hp, by omega⟩, hF.new hz hq, hww, hL⟩
  obtain ⟨hB, v, h, z, hWS, hho, hv⟩ := hwd h1
  exact ⟨hB, v, h, z, hWS.kept (hq _ (t_OB.lt hWS.1)) (hq _ (Array.getElem?_eq_some_iff.mp hWS.2).1), hho, hv⟩
theorem isOb.nb {s : State} {y a n : Nat} {f : Nat → Value} (hK : K0 κ.D κ.cA s) (h : isOb κ H y) (hA : H[a]? = some (arrV (κ.cA 1) n f)) : y ≠ a := by
  intro e
  obtain ⟨cell, ci, h1, h2, h3, h4, h5⟩ := h
  rw [e, hA] at h1
  cases h1
  have hne : ∀ (C' : String) (T' : u_T) (N' : Nat), vwCl[ci]? = some (C', T', N') → C' ≠ "[B" → False := fun C' T' N' hc' hC => dar1_ne hK hc' hC h5.symm
  rcases (show ci = 6 ∨ ci = 7 ∨ ci = 8 ∨ ci = 9 ∨ ci = 10 ∨ ci = 11 by omega) with rfl | rfl | rfl | rfl | rfl | rfl <;> exact hne _ _ _ rfl (by decide)
/-- an object of a test is written -/
theorem PS.obj {H1 : Heap} {x : Nat} (h : PS κ o τ r s w0 al P tm w H locs) (hob : isOb κ H x) (hx : s.heap.size ≤ x) (hz : H1.size = H.size) (hq : ∀ q : Nat, q ≠ x → H1[q]? = H[q]?) (hsb : κ.base ≤ s.heap.size) : PS κ o τ r s w0 al P tm w H1 locs := by
  obtain ⟨hK, ⟨hT, ⟨nu, hO, hnu⟩, hwd, hp, hw⟩, hF, hww, hL⟩ := h
  have hb := hK.2.2
  obtain ⟨⟨V, hV, hV2⟩, hX, hm⟩ := id hT
  have n1 : x ≠ o := hob.ne hK.1.1 (i := 0) rfl (nm_ex _ (by decide)) hV
  have n2 : x ≠ o + 1 := hob.nb hK.1.1 hX
  have n3 : x ≠ r := hob.ne hK.1.1 (i := 4) rfl (nm_ex _ (by decide)) hO
  refine ⟨hK.to (fun q h => hq q (by omega)) (by omega), ⟨hT.kept (hq _ (Ne.symm n1)) (hq _ (Ne.symm n2)), ⟨nu, hO.kept (hq _ (Ne.symm n3)), hnu⟩, fun h1 => ?_, hp, by omega⟩, ⟨by rw [hz]; exact hF.1, fun q h1 h2 h3 => by rw [hq q (by omega)]; exact hF.2 q h1 h2 h3⟩, hww, hL⟩
  obtain ⟨hB, v, h, z, hWS, hho, hv⟩ := hwd h1
  have hW1 : t_OB w (κ.D.1 14) 4 (κ.D.2 14) H (vp_V [.ref v, .int 0, .int h, .int z]) := hWS.1
  exact ⟨hB, v, h, z, hWS.kept (hq _ (Ne.symm (hob.ne hK.1.1 (i := 14) rfl (nm_ex _ (by decide)) hW1))) (hq _ (Ne.symm (hob.nb hK.1.1 hWS.2))), hho, hv⟩
theorem ps_terms {tm' : Nat} {R : Room} (hexec : p.tables.exec = Jvm.exec) (hb : c.code = cc) (hown : s.vm.findClass RX5 = some m.cls) (hts : ∀ w ∈ lw_all, w.before args s = true) (hP : PS κ o τ r s w0 al P tm w H locs) (hro : o + 1 < r) (hrB : κ.base ≤ r) (hdg : decode cc pc = .ok (.putfield 180, 3))
    (kk : ∀ (H1 : Heap) (locs1 : List Loc), PS κ o τ r s w0 al P tm' w H1 locs1 → FrR κ r w H H1 → W p l e R s m args below meth c H1 locs1 cells slots Q (F0 m (pc + 3) ls rest)) : W p l e R s m args below meth c H locs cells slots Q (F0 m pc ls (.int (nI tm') :: .ref r :: rest)) := by
  obtain ⟨nu, hO, hnu⟩ := hP.ob
  have hS : va_S (fun q => κ.base ≤ q) s.heap H locs := ⟨hP.2.2.1.1, fun q h1 h2 => hP.2.2.1.2 q h1 (fun z => h2 (by rw [z]; exact hrB)) (fun z => h2 z.2), hP.2.2.2.2⟩
  refine ob_put (C := RX5) (T := TX5) (N := 8) (ci := 4) (v := .int (nI tm')) hexec hb hts in_X5 tyX5 tyX5_ok nmX5 hown hP.1.1.1 hO hS hrB rfl 4 (by decide) q434 (fun x h => h) rfl rfl rfl hdg (fun H1 locs1 hO1 hq hz hS1 => ?_)
  obtain ⟨hK, ⟨hT, -, hwd, hp, hw⟩, hF, hww, hL⟩ := hP
  have hFr : FrR κ r w H H1 := ⟨by omega, fun q h1 h2 h3 => hq q h2⟩
  refine kk H1 locs1 ⟨hK.fr hrB hFr, ⟨hT.kept (hq o (by omega)) (hq (o + 1) (by omega)), ⟨nu, hO1.to (fun j hj => by rcases (show j = 0 ∨ j = 1 ∨ j = 2 ∨ j = 3 ∨ j = 4 ∨ j = 5 ∨ j = 6 ∨ j = 7 by omega) with rfl | rfl | rfl | rfl | rfl | rfl | rfl | rfl <;> rfl), hnu⟩, fun h1 => ?_, hp, by omega⟩, hF.trans hww hFr, hww, hS1.2.2⟩ hFr
  obtain ⟨hB, v, h, z, hWS, hho, hv⟩ := hwd h1
  exact ⟨hB, v, h, z, hWS.kept (hq _ (fun e2 => by rw [e2] at hWS; exact ws_ne hK.1.1 hWS.1 hO)) (hq _ hv), hho, hv⟩
end R7
