/-! THE MODEL's WORLD: the object at o, its 34 arrays right behind it; rows for its methods. Own work. -/
set_option maxRecDepth 100000
def mKd (k : Nat) : Nat := ([2, 2, 2, 2, 2, 2, 0, 0, 0, 2, 2, 2, 2, 2, 2, 2, 2, 2, 4, 0, 0, 3, 3, 0, 0, 0, 0, 0, 0, 0, 0, 1, 2, 2, 2, 2, 2, 2, 2, 0, 0, 0, 0, 2, 0, 0, 2, 2, 2, 0, 5, 5, 4, 2, 2, 0] : List Nat).getD k 0
def mLn (k : Nat) : Nat := ([24, 24, 24, 8, 8, 100, 0, 0, 0, 60, 60, 60, 60, 60, 60, 60, 60, 60, 60, 0, 0, 620, 600, 0, 0, 0, 0, 0, 0, 0, 0, 0, 2, 32, 32, 32, 32, 1200, 1200, 0, 0, 0, 0, 60, 0, 0, 100, 9, 30, 0, 24, 24, 24, 64, 2304, 0] : List Nat).getD k 0
def mIx (k : Nat) : Nat := ([0, 1, 2, 3, 4, 5, 0, 0, 0, 6, 7, 8, 9, 10, 11, 12, 13, 14, 15, 0, 0, 16, 17, 0, 0, 0, 0, 0, 0, 0, 0, 0, 18, 19, 20, 21, 22, 23, 24, 0, 0, 0, 0, 25, 0, 0, 26, 27, 28, 0, 29, 30, 31, 32, 33, 0] : List Nat).getD k 0
def mAd (o k : Nat) : Nat := o + 1 + mIx k
def mV (o : Nat) (u : St) (k : Nat) : Value := match mKd k with
  | 0 => .int (u.1 k)
  | 1 => .long (u.2.2 k 0)
  | _ => .ref (mAd o k)
def mArr (cA : Nat → ClassId) (u : St) (k : Nat) : Cell := match mKd k with
  | 2 => arrV (cA 0) (mLn k) (fun j => .int (u.2.1 k j))
  | 3 => arrV (cA 1) (mLn k) (fun j => .int (u.2.1 k j))
  | 4 => arrV (cA 2) (mLn k) (fun j => .int (u.2.1 k j))
  | _ => arrV (cA 3) (mLn k) (fun j => .long (u.2.2 k j))
def MW (D : va_G) (cA : Nat → ClassId) (o : Nat) (u : St) (H : Heap) : Prop := t_OB o (D.1 2) 56 (D.2 2) H (mV o u) ∧ ∀ k, k < 56 → 2 ≤ mKd k → H[mAd o k]? = some (mArr cA u k)
/-- the block of the model -/
def mA (o : Nat) : Nat → Prop := fun q => o ≤ q ∧ q < o + 35
theorem mIx_lt : ∀ k, k < 56 → mIx k < 34 := by decide +kernel
theorem mIx_inj : ∀ k, k < 56 → ∀ j, j < 56 → 2 ≤ mKd k → 2 ≤ mKd j → mIx k = mIx j → k = j := by decide +kernel
theorem mA_o (o : Nat) : mA o o := ⟨Nat.le_refl _, by omega⟩
theorem mA_k {o k : Nat} (hk : k < 56) : mA o (mAd o k) := by
  have := mIx_lt k hk
  unfold mA mAd
  omega
theorem mAd_ne (o k : Nat) : mAd o k ≠ o := by unfold mAd; omega
theorem mAd_inj {o k j : Nat} (hk : k < 56) (hj : j < 56) (h1 : 2 ≤ mKd k) (h2 : 2 ≤ mKd j) (h : mAd o k = mAd o j) : k = j := mIx_inj k hk j hj h1 h2 (by unfold mAd at h; omega)
theorem MW.kept {D : va_G} {cA : Nat → ClassId} {o : Nat} {u : St} {H H1 : Heap} (h : MW D cA o u H) (hq : ∀ q, mA o q → H1[q]? = H[q]?) : MW D cA o u H1 :=
  ⟨h.1.kept (hq _ (mA_o o)), fun k hk hd => by rw [hq _ (mA_k hk)]; exact h.2 k hk hd⟩
theorem MW.puti {D : va_G} {cA : Nat → ClassId} {o : Nat} {u : St} {H H1 : Heap} {k : Nat} {v : Int32} (h : MW D cA o u H) (hkd : mKd k = 0) (h1 : t_OB o (D.1 2) 56 (D.2 2) H1 (updV (mV o u) k (.int v))) (hq : ∀ q : Nat, q ≠ o → H1[q]? = H[q]?) : MW D cA o (si u k v) H1 := by
  refine ⟨h1.to fun j hj => ?_, fun j hj hd => by rw [hq _ (mAd_ne o j)]; exact h.2 j hj hd⟩
  unfold updV
  by_cases e : j = k
  · subst e; rw [if_pos rfl]; unfold mV; rw [hkd]; simp [si, upd]
  · rw [if_neg e]; unfold mV si upd; simp only [if_neg e]
theorem MW.putl {D : va_G} {cA : Nat → ClassId} {o : Nat} {u : St} {H H1 : Heap} {k : Nat} {v : Int64} (h : MW D cA o u H) (hkd : mKd k = 1) (h1 : t_OB o (D.1 2) 56 (D.2 2) H1 (updV (mV o u) k (.long v))) (hq : ∀ q : Nat, q ≠ o → H1[q]? = H[q]?) : MW D cA o (sl u k 0 v) H1 := by
  refine ⟨h1.to fun j hj => ?_, fun j hj hd => ?_⟩
  · unfold updV
    by_cases e : j = k
    · subst e; rw [if_pos rfl]; unfold mV; rw [hkd]; simp [sl_3]
    · rw [if_neg e]; unfold mV; simp only [sl_1, sl_3, e, false_and, if_false]
  · rw [hq _ (mAd_ne o j), h.2 j hj hd]
    have e : j ≠ k := fun z => by rw [z, hkd] at hd; omega
    unfold mArr; simp only [sl_2, sl_3, e, false_and, if_false]
theorem MW.sta {D : va_G} {cA : Nat → ClassId} {o : Nat} {u : St} {H H1 : Heap} {k i : Nat} {v : Int32} (h : MW D cA o u H) (hk : k < 56) (hkd : 2 ≤ mKd k) (hkd5 : mKd k ≤ 4) (h1 : H1[mAd o k]? = some (mArr cA (sa u k i v) k)) (hq : ∀ q : Nat, q ≠ mAd o k → H1[q]? = H[q]?) : MW D cA o (sa u k i v) H1 := by
  refine ⟨h.1.kept (hq _ (Ne.symm (mAd_ne o k))), fun j hj hd => ?_⟩
  by_cases e : j = k
  · subst e; exact h1
  · rw [hq _ (fun z => e (mAd_inj hj hk hd hkd z)), h.2 j hj hd]
    unfold mArr; simp only [sa_2, sa_3, e, false_and, if_false]
theorem MW.stl {D : va_G} {cA : Nat → ClassId} {o : Nat} {u : St} {H H1 : Heap} {k i : Nat} {v : Int64} (h : MW D cA o u H) (hk : k < 56) (hkd : mKd k = 5) (h1 : H1[mAd o k]? = some (mArr cA (sl u k i v) k)) (hq : ∀ q : Nat, q ≠ mAd o k → H1[q]? = H[q]?) : MW D cA o (sl u k i v) H1 := by
  refine ⟨(h.1.kept (hq _ (Ne.symm (mAd_ne o k)))).to fun j hj => ?_, fun j hj hd => ?_⟩
  · unfold mV
    by_cases e : j = k
    · subst e; rw [hkd]; rfl
    · simp only [sl_1, sl_3, e, false_and, if_false]
  · by_cases e : j = k
    · subst e; exact h1
    · rw [hq _ (fun z => e (mAd_inj hj hk hd (by omega) z)), h.2 j hj hd]
      unfold mArr; simp only [sl_2, sl_3, e, false_and, if_false]
/-- a method's start and end -/
def mP (D : va_G) (cA : Nat → ClassId) (o : Nat) (u : St) (av : List Value) : Array Value → State → Prop := fun v U => v = av.toArray ∧ MW D cA o u U.heap ∧ K0 D cA U
theorem mP_blind {D : va_G} {cA : Nat → ClassId} {o : Nat} {u : St} {av : List Value} : FrameBlind (mP D cA o u av) := fun a U g mk h => ⟨h.1, h.2.1, va_K.moved (u := U) (U := U.calling g mk a) (Vm.Alike.refl U.vm) h.2.2⟩
def mQ (D : va_G) (cA : Nat → ClassId) (o : Nat) (v : Option Value) (u' : St) : Array Value → State → Outcome → State → Prop := fun _ st oc t => oc = .returned v ∧ MW D cA o u' t.heap ∧ va_F (mA o) st t
/-- contracts: of a method that reads alone; of one that writes; of a static one without a world -/
abbrev MetR (l : Launch) (y : MethodName) (b : ByteArray) (L : Nat) (ret : Option FieldType) (d : Nat) (D : va_G) (cA : Nat → ClassId) (o : Nat) (u : St) (av : List Value) (v : Option Value) : Prop := Met l y (ws_ y b L ret) (rmC d 0 0) (mP D cA o u av) (rQ v) 0 0 noA
abbrev MetM (l : Launch) (y : MethodName) (b : ByteArray) (L : Nat) (ret : Option FieldType) (d : Nat) (D : va_G) (cA : Nat → ClassId) (o : Nat) (u : St) (av : List Value) (v : Option Value) (u' : St) : Prop := Met l y (ws_ y b L ret) (rmC d 0 0) (mP D cA o u av) (mQ D cA o v u') 0 0 (mA o)
abbrev MetS (l : Launch) (y : MethodName) (b : ByteArray) (L : Nat) (ret : Option FieldType) (d : Nat) (av : List Value) (v : Option Value) : Prop := Met l y (ws_ y b L ret) (rmC d 0 0) (fun a _ => a = av.toArray) (rQ v) 0 0 noA
section MROWS
variable {p : Program} {l : Launch} {e : Env} {R : Room} {s : State} {m : MethodId} {args : Array Value} {below : List Frame} {meth : Method} {c : Code} {H : Heap} {locs : List Loc} {cells slots : Nat} {Q : State → Prop}
variable {cc : ByteArray} {pc : Nat} {ls : Array Slot} {rest : List Value} {D : va_G} {cA : Nat → ClassId} {A : Nat → Prop} {o : Nat} {H0 : Heap} {u : St}
theorem mM_start {y : MethodName} {b : ByteArray} {L d : Nat} {ret : Option FieldType} {av : List Value} {Qc : Array Value → State → Outcome → State → Prop} {free : Addr → Prop} (own : String) (hy : plainName y.cls = true) (hyc : y.cls = own) (hn : (lg_sl av).length ≤ L)
    (body : ∀ (p : Program) (e : Env) (s : State) (m : MethodId) (below : List Frame) (meth : Method) (c : Code), p.tables.exec = Jvm.exec → c.code = b → c.maxLocals = L → s.vm.findClass own = some m.cls → (∀ w ∈ lw_all, w.before av.toArray s = true) → meth.sig.returnType = ret → meth.locks = false → K0 D cA s → MW D cA o u s.heap → ∀ ls : Array Slot, lv_has ls L (lv_args 0 av) → W p l e (rmC d 0 0) s m av.toArray below meth c s.heap [] 0 0 (MQ below Qc av.toArray s 0 0 free) (F0 m 0 ls [])) :
    Met l y (ws_ y b L ret) (rmC d 0 0) (mP D cA o u av) Qc 0 0 free := by
  refine Met.ofW (cc := b) (maxL := L) (ret := ret) hy rfl ?_
  intro p e s m args below meth c s₁ B hml hv
  obtain ⟨rfl, hM, hK⟩ := hv
  have hts := atoms_spec (ws := ws_ y b L ret) B.pre
  have hts : ∀ w ∈ lw_all, w.before _ s = true := fun w h => hts w (List.mem_cons_of_mem _ h)
  have hown : s.vm.findClass own = some m.cls := by rw [← hyc]; exact findClass_of_methodNamed B.named
  rw [lg_entry_eq]
  exact body p e s m below meth c B.exec B.bytes hml hown hts B.returns B.notSynchronized hK hM _ (lv_entry av hn)
theorem mS_start {y : MethodName} {b : ByteArray} {L d : Nat} {ret : Option FieldType} {av : List Value} {Qc : Array Value → State → Outcome → State → Prop} {free : Addr → Prop} (own : String) (hy : plainName y.cls = true) (hyc : y.cls = own) (hn : (lg_sl av).length ≤ L)
    (body : ∀ (p : Program) (e : Env) (s : State) (m : MethodId) (below : List Frame) (meth : Method) (c : Code), p.tables.exec = Jvm.exec → c.code = b → c.maxLocals = L → s.vm.findClass own = some m.cls → (∀ w ∈ lw_all, w.before av.toArray s = true) → meth.sig.returnType = ret → meth.locks = false → ∀ ls : Array Slot, lv_has ls L (lv_args 0 av) → W p l e (rmC d 0 0) s m av.toArray below meth c s.heap [] 0 0 (MQ below Qc av.toArray s 0 0 free) (F0 m 0 ls [])) :
    Met l y (ws_ y b L ret) (rmC d 0 0) (fun a _ => a = av.toArray) Qc 0 0 free := by
  refine Met.ofW (cc := b) (maxL := L) (ret := ret) hy rfl ?_
  intro p e s m args below meth c s₁ B hml hv
  subst hv
  have hts := atoms_spec (ws := ws_ y b L ret) B.pre
  have hts : ∀ w ∈ lw_all, w.before _ s = true := fun w h => hts w (List.mem_cons_of_mem _ h)
  have hown : s.vm.findClass own = some m.cls := by rw [← hyc]; exact findClass_of_methodNamed B.named
  rw [lg_entry_eq]
  exact body p e s m below meth c B.exec B.bytes hml hown hts B.returns B.notSynchronized _ (lv_entry av hn)
theorem mw_get (hexec : p.tables.exec = Jvm.exec) (hb : c.code = cc) (hts : ∀ w ∈ lw_all, w.before args s = true) (hown : s.vm.findClass RX3 = some m.cls) (hK : K0 D cA s) (hM : MW D cA o u H) (k : Nat) (hk : k < 56) {index : Nat} (hlink : (Cond.fieldLink RX3 index RX3 (TX3 k).2.1 (TX3 k).2.2.1) ∈ lw_all) (hT : (TX3 k).1 = RX3) {v : Value} (hv : mV o u k = v) (hdg : decode cc pc = .ok (.getfield index, 3))
    (kk : W p l e R s m args below meth c H locs cells slots Q (F0 m (pc + 3) ls (v :: rest))) : W p l e R s m args below meth c H locs cells slots Q (F0 m pc ls (.ref o :: rest)) :=
  ob_get (C := RX3) (T := TX3) (N := 56) (ci := 2) hexec hb hts in_X3 hown hK hM.1 rfl k hk hlink (fun x h => by rw [hT] at h; exact h) hv hdg kk
theorem mw_puti (hexec : p.tables.exec = Jvm.exec) (hb : c.code = cc) (hts : ∀ w ∈ lw_all, w.before args s = true) (hown : s.vm.findClass RX3 = some m.cls) (hK : K0 D cA s) (hM : MW D cA o u H) (hS : va_S (mA o) H0 H locs) (k : Nat) (hk : k < 56) {index : Nat} (hlink : (Cond.fieldLink RX3 index RX3 (TX3 k).2.1 (TX3 k).2.2.1) ∈ lw_all) (hT : (TX3 k).1 = RX3) (hkd : mKd k = 0) (hty : tyX3 k = .int) (hfin : (TX3 k).2.2.2 = false) {v : Int32} (hdg : decode cc pc = .ok (.putfield index, 3))
    (kk : ∀ (H1 : Heap) (locs1 : List Loc), MW D cA o (si u k v) H1 → va_S (mA o) H0 H1 locs1 → W p l e R s m args below meth c H1 locs1 cells slots Q (F0 m (pc + 3) ls rest)) : W p l e R s m args below meth c H locs cells slots Q (F0 m pc ls (.int v :: .ref o :: rest)) :=
  ob_put (C := RX3) (T := TX3) (N := 56) (ci := 2) hexec hb hts in_X3 tyX3 tyX3_ok nmX3 hown hK hM.1 hS (mA_o o) rfl k hk hlink (fun x h => by rw [hT] at h; exact h) hfin (by rw [hty]; rfl) (by rw [hty]; rfl) hdg (fun H1 locs1 h1 h2 _ h3 => kk H1 locs1 (hM.puti hkd h1 h2) h3)
theorem mw_putl (hexec : p.tables.exec = Jvm.exec) (hb : c.code = cc) (hts : ∀ w ∈ lw_all, w.before args s = true) (hown : s.vm.findClass RX3 = some m.cls) (hK : K0 D cA s) (hM : MW D cA o u H) (hS : va_S (mA o) H0 H locs) (k : Nat) (hk : k < 56) {index : Nat} (hlink : (Cond.fieldLink RX3 index RX3 (TX3 k).2.1 (TX3 k).2.2.1) ∈ lw_all) (hT : (TX3 k).1 = RX3) (hkd : mKd k = 1) (hty : tyX3 k = .long) (hfin : (TX3 k).2.2.2 = false) {v : Int64} (hdg : decode cc pc = .ok (.putfield index, 3))
    (kk : ∀ (H1 : Heap) (locs1 : List Loc), MW D cA o (sl u k 0 v) H1 → va_S (mA o) H0 H1 locs1 → W p l e R s m args below meth c H1 locs1 cells slots Q (F0 m (pc + 3) ls rest)) : W p l e R s m args below meth c H locs cells slots Q (F0 m pc ls (.long v :: .ref o :: rest)) :=
  ob_put (C := RX3) (T := TX3) (N := 56) (ci := 2) hexec hb hts in_X3 tyX3 tyX3_ok nmX3 hown hK hM.1 hS (mA_o o) rfl k hk hlink (fun x h => by rw [hT] at h; exact h) hfin (by rw [hty]; rfl) (by rw [hty]; rfl) hdg (fun H1 locs1 h1 h2 _ h3 => kk H1 locs1 (hM.putl hkd h1 h2) h3)
theorem mArr_2 {k : Nat} (h : mKd k = 2) : mArr cA u k = arrV (cA 0) (mLn k) (fun j => .int (u.2.1 k j)) := by unfold mArr; rw [h]; rfl
theorem mArr_3 {k : Nat} (h : mKd k = 3) : mArr cA u k = arrV (cA 1) (mLn k) (fun j => .int (u.2.1 k j)) := by unfold mArr; rw [h]; rfl
theorem mArr_4 {k : Nat} (h : mKd k = 4) : mArr cA u k = arrV (cA 2) (mLn k) (fun j => .int (u.2.1 k j)) := by unfold mArr; rw [h]; rfl
theorem mArr_5 {k : Nat} (h : mKd k = 5) : mArr cA u k = arrV (cA 3) (mLn k) (fun j => .long (u.2.2 k j)) := by unfold mArr; rw [h]; rfl
theorem sa_row {k i : Nat} {v : Int32} : (fun j => Value.int ((sa u k i v).2.1 k j)) = (fun j => Value.int (upd (u.2.1 k) i v j)) := by
  funext j; rw [sa_2]; unfold upd; by_cases h : j = i <;> simp [h]
theorem sl_row {k i : Nat} {v : Int64} : (fun j => Value.long ((sl u k i v).2.2 k j)) = (fun j => Value.long (vp_updL (u.2.2 k) i v j)) := by
  funext j; rw [sl_3]; unfold vp_updL; by_cases h : j = i <;> simp [h]
theorem mw_ild (hexec : p.tables.exec = Jvm.exec) (hb : c.code = cc) (hK : K0 D cA s) (hM : MW D cA o u H) (k : Nat) (hk : k < 56) (hkd : mKd k = 2) {i : Int32} {n j : Nat} {v : Int32} (hn : mLn k = n) (hin : vp_in i n) (hj : i.toNatClampNeg = j) (hv : u.2.1 k j = v) (hdg : decode cc pc = .ok (.iaload, 1))
    (kk : W p l e R s m args below meth c H locs cells slots Q (F0 m (pc + 1) ls (.int v :: rest))) : W p l e R s m args below meth c H locs cells slots Q (F0 m pc ls (.int i :: .ref (mAd o k) :: rest)) := by
  subst hj; subst hv
  exact ar_ild (f := u.2.1 k) hexec hb hK (by rw [hM.2 k hk (by omega), mArr_2 hkd]) (by rw [hn]; exact hin) hdg kk
theorem mw_bld (hexec : p.tables.exec = Jvm.exec) (hb : c.code = cc) (hK : K0 D cA s) (hM : MW D cA o u H) (k : Nat) (hk : k < 56) (hkd : mKd k = 3) {i : Int32} {n j : Nat} {v : Int32} (hn : mLn k = n) (hin : vp_in i n) (hj : i.toNatClampNeg = j) (hv : u.2.1 k j = v) (hdg : decode cc pc = .ok (.baload, 1))
    (kk : W p l e R s m args below meth c H locs cells slots Q (F0 m (pc + 1) ls (.int v :: rest))) : W p l e R s m args below meth c H locs cells slots Q (F0 m pc ls (.int i :: .ref (mAd o k) :: rest)) := by
  subst hj; subst hv
  exact ar_bld (f := u.2.1 k) hexec hb hK (by rw [hM.2 k hk (by omega), mArr_3 hkd]) (by rw [hn]; exact hin) hdg kk
theorem mw_zld (hexec : p.tables.exec = Jvm.exec) (hb : c.code = cc) (hK : K0 D cA s) (hM : MW D cA o u H) (k : Nat) (hk : k < 56) (hkd : mKd k = 4) {i : Int32} {n j : Nat} {v : Int32} (hn : mLn k = n) (hin : vp_in i n) (hj : i.toNatClampNeg = j) (hv : u.2.1 k j = v) (hdg : decode cc pc = .ok (.baload, 1))
    (kk : W p l e R s m args below meth c H locs cells slots Q (F0 m (pc + 1) ls (.int v :: rest))) : W p l e R s m args below meth c H locs cells slots Q (F0 m pc ls (.int i :: .ref (mAd o k) :: rest)) := by
  subst hj; subst hv
  exact ar_zld (f := u.2.1 k) hexec hb hK (by rw [hM.2 k hk (by omega), mArr_4 hkd]) (by rw [hn]; exact hin) hdg kk
theorem mw_lld (hexec : p.tables.exec = Jvm.exec) (hb : c.code = cc) (hK : K0 D cA s) (hM : MW D cA o u H) (k : Nat) (hk : k < 56) (hkd : mKd k = 5) {i : Int32} {n j : Nat} {v : Int64} (hn : mLn k = n) (hin : vp_in i n) (hj : i.toNatClampNeg = j) (hv : u.2.2 k j = v) (hdg : decode cc pc = .ok (.laload, 1))
    (kk : W p l e R s m args below meth c H locs cells slots Q (F0 m (pc + 1) ls (.long v :: rest))) : W p l e R s m args below meth c H locs cells slots Q (F0 m pc ls (.int i :: .ref (mAd o k) :: rest)) := by
  subst hj; subst hv
  exact ar_lld (f := u.2.2 k) hexec hb hK (by rw [hM.2 k hk (by omega), mArr_5 hkd]) (by rw [hn]; exact hin) hdg kk
theorem mw_ist (hexec : p.tables.exec = Jvm.exec) (hb : c.code = cc) (hK : K0 D cA s) (hM : MW D cA o u H) (hS : va_S (mA o) H0 H locs) (k : Nat) (hk : k < 56) (hkd : mKd k = 2) {i x : Int32} {n j : Nat} (hn : mLn k = n) (hin : vp_in i n) (hj : i.toNatClampNeg = j) (hdg : decode cc pc = .ok (.iastore, 1))
    (kk : ∀ (H1 : Heap) (locs1 : List Loc), MW D cA o (sa u k j x) H1 → va_S (mA o) H0 H1 locs1 → W p l e R s m args below meth c H1 locs1 cells slots Q (F0 m (pc + 1) ls rest)) : W p l e R s m args below meth c H locs cells slots Q (F0 m pc ls (.int x :: .int i :: .ref (mAd o k) :: rest)) := by
  subst hj
  exact ar_ist (f := u.2.1 k) hexec hb hK (by rw [hM.2 k hk (by omega), mArr_2 hkd]) hS (mA_k hk) (by rw [hn]; exact hin) hdg (fun H1 locs1 h1 h2 _ h3 => kk H1 locs1 (hM.sta hk (by omega) (by omega) (by rw [h1, mArr_2 hkd, sa_row]) h2) h3)
theorem mw_bst (hexec : p.tables.exec = Jvm.exec) (hb : c.code = cc) (hK : K0 D cA s) (hM : MW D cA o u H) (hS : va_S (mA o) H0 H locs) (k : Nat) (hk : k < 56) (hkd : mKd k = 3) {i x : Int32} {n j : Nat} (hn : mLn k = n) (hin : vp_in i n) (hj : i.toNatClampNeg = j) (hdg : decode cc pc = .ok (.bastore, 1))
    (kk : ∀ (H1 : Heap) (locs1 : List Loc), MW D cA o (sa u k j x.toInt8.toInt32) H1 → va_S (mA o) H0 H1 locs1 → W p l e R s m args below meth c H1 locs1 cells slots Q (F0 m (pc + 1) ls rest)) : W p l e R s m args below meth c H locs cells slots Q (F0 m pc ls (.int x :: .int i :: .ref (mAd o k) :: rest)) := by
  subst hj
  exact ar_bst (f := u.2.1 k) hexec hb hK (by rw [hM.2 k hk (by omega), mArr_3 hkd]) hS (mA_k hk) (by rw [hn]; exact hin) hdg (fun H1 locs1 h1 h2 _ h3 => kk H1 locs1 (hM.sta hk (by omega) (by omega) (by rw [h1, mArr_3 hkd, sa_row]) h2) h3)
theorem mw_zst (hexec : p.tables.exec = Jvm.exec) (hb : c.code = cc) (hK : K0 D cA s) (hM : MW D cA o u H) (hS : va_S (mA o) H0 H locs) (k : Nat) (hk : k < 56) (hkd : mKd k = 4) {i : Int32} {x : Bool} {n j : Nat} (hn : mLn k = n) (hin : vp_in i n) (hj : i.toNatClampNeg = j) (hdg : decode cc pc = .ok (.bastore, 1))
    (kk : ∀ (H1 : Heap) (locs1 : List Loc), MW D cA o (sa u k j (b2 x)) H1 → va_S (mA o) H0 H1 locs1 → W p l e R s m args below meth c H1 locs1 cells slots Q (F0 m (pc + 1) ls rest)) : W p l e R s m args below meth c H locs cells slots Q (F0 m pc ls (.int (b2 x) :: .int i :: .ref (mAd o k) :: rest)) := by
  subst hj
  exact ar_zst (f := u.2.1 k) hexec hb hK (by rw [hM.2 k hk (by omega), mArr_4 hkd]) hS (mA_k hk) (by rw [hn]; exact hin) hdg (fun H1 locs1 h1 h2 _ h3 => kk H1 locs1 (hM.sta hk (by omega) (by omega) (by rw [h1, mArr_4 hkd, sa_row]) h2) h3)
theorem mw_lst (hexec : p.tables.exec = Jvm.exec) (hb : c.code = cc) (hK : K0 D cA s) (hM : MW D cA o u H) (hS : va_S (mA o) H0 H locs) (k : Nat) (hk : k < 56) (hkd : mKd k = 5) {i : Int32} {x : Int64} {n j : Nat} (hn : mLn k = n) (hin : vp_in i n) (hj : i.toNatClampNeg = j) (hdg : decode cc pc = .ok (.lastore, 1))
    (kk : ∀ (H1 : Heap) (locs1 : List Loc), MW D cA o (sl u k j x) H1 → va_S (mA o) H0 H1 locs1 → W p l e R s m args below meth c H1 locs1 cells slots Q (F0 m (pc + 1) ls rest)) : W p l e R s m args below meth c H locs cells slots Q (F0 m pc ls (.long x :: .int i :: .ref (mAd o k) :: rest)) := by
  subst hj
  exact ar_lst (f := u.2.2 k) hexec hb hK (by rw [hM.2 k hk (by omega), mArr_5 hkd]) hS (mA_k hk) (by rw [hn]; exact hin) hdg (fun H1 locs1 h1 h2 _ h3 => kk H1 locs1 (hM.stl hk hkd (by rw [h1, mArr_5 hkd, sl_row]) h2) h3)
/-- returns of a method that writes -/
theorem mw_iret {v V : Int32} {u' : St} (hexec : p.tables.exec = Jvm.exec) (hb : c.code = cc) (hr : meth.sig.returnType = some .int) (hlocks : meth.locks = false) (hM : MW D cA o u H) (hS : va_S (mA o) s.heap H locs) (hv : v = V) (hu : u = u') (hdg : decode cc pc = .ok (.ireturn, 1)) : W p l e R s m args below meth c H locs 0 0 (MQ below (mQ D cA o (some (.int V)) u') args s 0 0 (mA o)) (F0 m pc ls [.int v]) := by
  subst hv; subst hu
  exact W.iret hexec hb hr (fun t ht hW => ⟨rfl, by rw [ht]; exact hM, hS.F ht⟩) hS.2.2 hdg hlocks
theorem mw_zret {v : Int32} {V : Bool} {u' : St} (hexec : p.tables.exec = Jvm.exec) (hb : c.code = cc) (hr : meth.sig.returnType = some .boolean) (hlocks : meth.locks = false) (hM : MW D cA o u H) (hS : va_S (mA o) s.heap H locs) (hv : v = b2 V) (hu : u = u') (hdg : decode cc pc = .ok (.ireturn, 1)) : W p l e R s m args below meth c H locs 0 0 (MQ below (mQ D cA o (some (.int (b2 V))) u') args s 0 0 (mA o)) (F0 m pc ls [.int v]) := by
  subst hv; subst hu
  exact W.zret hexec hb hr (b2_nar V) (fun t ht hW => ⟨rfl, by rw [ht]; exact hM, hS.F ht⟩) hS.2.2 hdg hlocks
theorem mw_lret {v V : Int64} {u' : St} (hexec : p.tables.exec = Jvm.exec) (hb : c.code = cc) (hr : meth.sig.returnType = some .long) (hlocks : meth.locks = false) (hM : MW D cA o u H) (hS : va_S (mA o) s.heap H locs) (hv : v = V) (hu : u = u') (hdg : decode cc pc = .ok (.lreturn, 1)) : W p l e R s m args below meth c H locs 0 0 (MQ below (mQ D cA o (some (.long V)) u') args s 0 0 (mA o)) (F0 m pc ls [.long v]) := by
  subst hv; subst hu
  exact W.lret hexec hb hr (fun t ht hW => ⟨rfl, by rw [ht]; exact hM, hS.F ht⟩) hS.2.2 hdg hlocks
theorem mw_vret {u' : St} (hexec : p.tables.exec = Jvm.exec) (hb : c.code = cc) (hr : meth.sig.returnType = none) (hlocks : meth.locks = false) (hM : MW D cA o u H) (hS : va_S (mA o) s.heap H locs) (hu : u = u') (hdg : decode cc pc = .ok (.return_, 1)) : W p l e R s m args below meth c H locs 0 0 (MQ below (mQ D cA o none u') args s 0 0 (mA o)) (F0 m pc ls []) := by
  subst hu
  exact W.vret hexec hb hr (fun t ht hW => ⟨rfl, by rw [ht]; exact hM, hS.F ht⟩) hS.2.2 hdg hlocks
/-- the receiver -/
theorem mw_recv (hK : K0 D cA s) (hM : MW D cA o u H) : ∃ cell : Cell, H[o]? = some cell ∧ cell.vm.isStatics = false ∧ s.vm.findClass RX3 = some cell.cls := by
  obtain ⟨cell, g1, g2, g3, -⟩ := hM.1
  exact ⟨cell, g1, by rw [g3]; rfl, by rw [g2]; exact (hK.1 2 _ rfl).2.1⟩
/-- a call of the model's own method, from a method of any class -/
theorem mw_run {own : String} {y : MethodName} {b : ByteArray} {L d d' n idx nL mc ms : Nat} {ret : Option FieldType} {As : List Value} {Qc : Array Value → State → Outcome → State → Prop} {free : Addr → Prop} {st0 : List Value} (hexec : p.tables.exec = Jvm.exec) (hb : c.code = cc) (hml : c.maxLocals = nL) (hown : s.vm.findClass own = some m.cls) (hts : ∀ w ∈ lw_all, w.before args s = true)
    (hMet : Met l y (ws_ y b L ret) (rmC d' 0 0) (mP D cA o u (.ref o :: As)) Qc 0 0 free) (h1 : Cond.methodLink own idx y ∈ lw_all) (h2 : Cond.instanceMethod y ∈ lw_all) (h3 : Cond.selects RX3 y y ∈ lw_all) (h5 : Cond.code y b L ret ∈ lw_all)
    (hd : y.cls = RX3 ∧ y.cls ≠ "java/lang/invoke/MethodHandle" ∧ y.cls ≠ "java/lang/invoke/VarHandle" ∧ (parseMethodDescriptor y.desc).map (fun d => d.parameters.length) = some n) (hdd : d' < d) (hL : L ≤ 41) (hn : As.length = n) (hK : K0 D cA s) (hM : MW D cA o u H) (hls : ls.size = nL) (hrest : (rest.map fun v => v.category).sum ≤ 8) (hst : st0 = As.reverse ++ .ref o :: rest) (hdg : decode cc pc = .ok (.invokevirtual idx, 3)) (hf : cells ≤ mc ∧ slots ≤ ms) :
    va_Run p l e (rmC d mc ms) s m args below meth c H locs cells slots 0 0 (F0 m pc ls st0) rest (Qc (Value.ref o :: As).toArray) free :=
  va_runV ⟨hexec, hb, hml, hown, hts⟩ hMet (cwV n hts (lw_V h1 h2 h3 q71 h5) rfl rfl rfl hd (rmC_ok hdd hL)) ⟨mP_blind, mw_recv hK hM, fun U hU hW => ⟨rfl, by rw [hU]; exact hM, va_K.moved hW.alike hK⟩⟩ rfl hn hls hst (lv_room hrest) hdg hf
/-- behind a call of a writing method of the model -/
theorem mw_call {st0 : List Value} {v : Option Value} {u' : St} {ar : Array Value} (hr : va_Run p l e R s m args below meth c H locs cells slots 0 0 (F0 m pc ls st0) rest (mQ D cA o v u' ar) (mA o)) (hS : va_S A H0 H locs) (hA : ∀ q, mA o q → A q)
    (kk : ∀ (H1 : Heap) (locs1 : List Loc), MW D cA o u' H1 → (∀ q : Nat, q < H.size → ¬ mA o q → H1[q]? = H[q]?) → H.size ≤ H1.size → va_S A H0 H1 locs1 → W p l e R s m args below meth c H1 locs1 cells slots Q (F0 m (pc + 3) ls (v.toList ++ rest))) : W p l e R s m args below meth c H locs cells slots Q (F0 m pc ls st0) := by
  intro T hT X
  obtain ⟨v', st₀, t, T', L, h0, X', hL, e1, e2, ⟨hv, hB, hz, hk⟩, st⟩ := hr T hT X
  cases hv
  rw [h0] at hz hk
  obtain ⟨t2, a1, b1⟩ := kk T'.heap (locs ++ L) (by rw [e1]; exact hB) (fun q h1 h2 => by rw [e1]; exact hk q h1 h2) (by rw [e1]; exact hz)
    ⟨Nat.le_trans hS.1 (by rw [e1]; exact hz), fun q h1 h2 => by rw [e1, hk q (Nat.lt_of_lt_of_le h1 hS.1) (fun z => h2 (hA q z))]; exact hS.2.1 q h1 h2, fun q hq => by
      rcases List.mem_append.mp hq with h | h
      · exact hS.2.2 q h
      · exact hA _ (hL q h)⟩ T' rfl X'
  exact ⟨t2, st t2 a1, b1⟩
/-- a static call without a world -/
theorem st_run {own : String} {y : MethodName} {b : ByteArray} {L d d' n idx nL mc ms : Nat} {ret : Option FieldType} {As : List Value} {v : Option Value} {st0 : List Value} (hexec : p.tables.exec = Jvm.exec) (hb : c.code = cc) (hml : c.maxLocals = nL) (hown : s.vm.findClass own = some m.cls) (hts : ∀ w ∈ lw_all, w.before args s = true)
    (hMet : MetS l y b L ret d' As v) (h1 : Cond.methodLink own idx y ∈ lw_all) (h2 : Cond.static y ∈ lw_all) (h3 : Cond.initialized y.cls ∈ lw_all) (h5 : Cond.code y b L ret ∈ lw_all)
    (hd : y.cls ≠ "java/lang/invoke/MethodHandle" ∧ y.cls ≠ "java/lang/invoke/VarHandle" ∧ (parseMethodDescriptor y.desc).map (fun d => d.parameters.length) = some n) (hdd : d' < d) (hL : L ≤ 41) (hn : As.length = n) (hls : ls.size = nL) (hrest : (rest.map fun v => v.category).sum ≤ 8) (hst : st0 = As.reverse ++ rest) (hdg : decode cc pc = .ok (.invokestatic idx, 3)) (hf : cells ≤ mc ∧ slots ≤ ms) :
    va_Run p l e (rmC d mc ms) s m args below meth c H locs cells slots 0 0 (F0 m pc ls st0) rest (rQ v As.toArray) noA :=
  va_runS ⟨hexec, hb, hml, hown, hts⟩ hMet (va_cwS n hts (lw_S h1 h2 h3 h5) rfl rfl rfl hd (rmC_ok hdd hL)) ⟨fun a U g mk h => h, fun U hU hW => rfl⟩ rfl hn hls hst (lv_room hrest) hdg hf
end MROWS
/-! branches on Java's booleans and on compares of longs -/
theorem nt_of {B : Bool} (h : B = false) : ¬ B = true := by rw [h]; decide
theorem lgc_eq (x y : Int64) : lg_cmp x y = 0 ↔ x = y := by
  unfold lg_cmp
  by_cases h : x > y
  · rw [if_pos h]
    refine ⟨fun q => absurd q (by decide), fun q => ?_⟩
    subst q
    exact absurd h (Int64.lt_irrefl)
  · rw [if_neg h]
    by_cases h2 : x = y
    · rw [if_pos h2]; exact ⟨fun _ => h2, fun _ => rfl⟩
    · rw [if_neg h2]; exact ⟨fun q => absurd q (by decide), fun q => absurd q h2⟩
theorem lgc_le (x y : Int64) : lg_cmp x y ≤ 0 ↔ x ≤ y := by
  unfold lg_cmp
  by_cases h : x > y
  · rw [if_pos h]
    refine ⟨fun q => absurd q (by decide), fun q => absurd h (Int64.not_lt.mpr q)⟩
  · rw [if_neg h]
    by_cases h2 : x = y
    · rw [if_pos h2]; exact ⟨fun _ => by rw [h2]; exact Int64.le_refl _, fun _ => by decide⟩
    · rw [if_neg h2]; exact ⟨fun _ => Int64.not_lt.mp h, fun _ => by decide⟩
section LBR
variable {p : Program} {l : Launch} {e : Env} {R : Room} {s : State} {m : MethodId} {args : Array Value} {below : List Frame} {meth : Method} {c : Code} {H : Heap} {locs : List Loc} {cells slots : Nat} {Q : State → Prop}
variable {cc : ByteArray} {pc : Nat} {ls : Array Slot} {rest : List Value}
theorem lv_B_eq (hexec : p.tables.exec = Jvm.exec) (hb : c.code = cc) {B : Bool} {off : Int} {tgt : Nat} (hdg : decode cc pc = .ok (.ifCond .eq off, 3)) (ht : (pc : Int) + off = (tgt : Int))
    (kt : B = false → W p l e R s m args below meth c H locs cells slots Q (F0 m tgt ls rest)) (kf : B = true → W p l e R s m args below meth c H locs cells slots Q (F0 m (pc + 3) ls rest)) : W p l e R s m args below meth c H locs cells slots Q (F0 m pc ls (.int (b2 B) :: rest)) :=
  lv_if_eq hexec hb hdg ht (fun h => kt (b2_0.mp h)) (fun h => kf (b2_n0.mp h))
theorem lv_B_ne (hexec : p.tables.exec = Jvm.exec) (hb : c.code = cc) {B : Bool} {off : Int} {tgt : Nat} (hdg : decode cc pc = .ok (.ifCond .ne off, 3)) (ht : (pc : Int) + off = (tgt : Int))
    (kt : B = true → W p l e R s m args below meth c H locs cells slots Q (F0 m tgt ls rest)) (kf : B = false → W p l e R s m args below meth c H locs cells slots Q (F0 m (pc + 3) ls rest)) : W p l e R s m args below meth c H locs cells slots Q (F0 m pc ls (.int (b2 B) :: rest)) :=
  lv_if_ne hexec hb hdg ht (fun h => kt (b2_n0.mp h)) (fun h => kf (b2_0.mp h))
theorem lv_L_eq (hexec : p.tables.exec = Jvm.exec) (hb : c.code = cc) {x y : Int64} {off : Int} {tgt : Nat} (hdg : decode cc pc = .ok (.ifCond .eq off, 3)) (ht : (pc : Int) + off = (tgt : Int))
    (kt : x = y → W p l e R s m args below meth c H locs cells slots Q (F0 m tgt ls rest)) (kf : ¬ x = y → W p l e R s m args below meth c H locs cells slots Q (F0 m (pc + 3) ls rest)) : W p l e R s m args below meth c H locs cells slots Q (F0 m pc ls (.int (lg_cmp x y) :: rest)) :=
  lv_if_eq hexec hb hdg ht (fun h => kt ((lgc_eq x y).mp h)) (fun h => kf (fun q => h ((lgc_eq x y).mpr q)))
theorem lv_L_ne (hexec : p.tables.exec = Jvm.exec) (hb : c.code = cc) {x y : Int64} {off : Int} {tgt : Nat} (hdg : decode cc pc = .ok (.ifCond .ne off, 3)) (ht : (pc : Int) + off = (tgt : Int))
    (kt : ¬ x = y → W p l e R s m args below meth c H locs cells slots Q (F0 m tgt ls rest)) (kf : x = y → W p l e R s m args below meth c H locs cells slots Q (F0 m (pc + 3) ls rest)) : W p l e R s m args below meth c H locs cells slots Q (F0 m pc ls (.int (lg_cmp x y) :: rest)) :=
  lv_if_ne hexec hb hdg ht (fun h => kt (fun q => h ((lgc_eq x y).mpr q))) (fun h => kf ((lgc_eq x y).mp h))
theorem lv_L_le (hexec : p.tables.exec = Jvm.exec) (hb : c.code = cc) {x y : Int64} {off : Int} {tgt : Nat} (hdg : decode cc pc = .ok (.ifCond .le off, 3)) (ht : (pc : Int) + off = (tgt : Int))
    (kt : x ≤ y → W p l e R s m args below meth c H locs cells slots Q (F0 m tgt ls rest)) (kf : ¬ x ≤ y → W p l e R s m args below meth c H locs cells slots Q (F0 m (pc + 3) ls rest)) : W p l e R s m args below meth c H locs cells slots Q (F0 m pc ls (.int (lg_cmp x y) :: rest)) :=
  lv_if_le hexec hb hdg ht (fun h => kt ((lgc_le x y).mp h)) (fun h => kf (fun q => h ((lgc_le x y).mpr q)))
/-- the top by another name -/
theorem v_eqi {x y : Int32} (h : x = y) (k : W p l e R s m args below meth c H locs cells slots Q (F0 m pc ls (.int y :: rest))) : W p l e R s m args below meth c H locs cells slots Q (F0 m pc ls (.int x :: rest)) := by rw [h]; exact k
theorem v_eql {x y : Int64} (h : x = y) (k : W p l e R s m args below meth c H locs cells slots Q (F0 m pc ls (.long y :: rest))) : W p l e R s m args below meth c H locs cells slots Q (F0 m pc ls (.long x :: rest)) := by rw [h]; exact k
end LBR
/-! joins of ways -/
section JOIN
variable {p : Program} {l : Launch} {e : Env} {R : Room} {s : State} {m : MethodId} {args : Array Value} {below : List Frame} {meth : Method} {c : Code} {H : Heap} {locs : List Loc} {cells slots : Nat} {Q : State → Prop}
variable {ls : Array Slot} {rest : List Value} {D : va_G} {cA : Nat → ClassId} {o : Nat} {H0 : Heap} {g : JFrame}
/-- a value comes together -/
theorem w_ji (pcJ : Nat) {E : Int32} (k : W p l e R s m args below meth c H locs cells slots Q (F0 m pcJ ls (.int E :: rest)))
    (b : (∀ v : Int32, v = E → W p l e R s m args below meth c H locs cells slots Q (F0 m pcJ ls (.int v :: rest))) → W p l e R s m args below meth c H locs cells slots Q g) : W p l e R s m args below meth c H locs cells slots Q g := b (fun v h => by rw [h]; exact k)
theorem w_jl (pcJ : Nat) {E : Int64} (k : W p l e R s m args below meth c H locs cells slots Q (F0 m pcJ ls (.long E :: rest)))
    (b : (∀ v : Int64, v = E → W p l e R s m args below meth c H locs cells slots Q (F0 m pcJ ls (.long v :: rest))) → W p l e R s m args below meth c H locs cells slots Q g) : W p l e R s m args below meth c H locs cells slots Q g := b (fun v h => by rw [h]; exact k)
/-- a state of the model comes together -/
theorem w_ju (pcJ : Nat) {E : St} (k : ∀ (H : Heap) (locs : List Loc), MW D cA o E H → va_S (mA o) H0 H locs → W p l e R s m args below meth c H locs cells slots Q (F0 m pcJ ls rest))
    (b : (∀ (u : St) (H : Heap) (locs : List Loc), MW D cA o u H → va_S (mA o) H0 H locs → u = E → W p l e R s m args below meth c H locs cells slots Q (F0 m pcJ ls rest)) → W p l e R s m args below meth c H locs cells slots Q g) : W p l e R s m args below meth c H locs cells slots Q g := b (fun v H locs h1 h2 h => k H locs (by rw [← h]; exact h1) h2)
/-- a condition comes together -/
theorem w_jb (pcT pcF : Nat) {B : Bool} (kt : B = true → W p l e R s m args below meth c H locs cells slots Q (F0 m pcT ls rest)) (kf : B = false → W p l e R s m args below meth c H locs cells slots Q (F0 m pcF ls rest))
    (b : (B = true → W p l e R s m args below meth c H locs cells slots Q (F0 m pcT ls rest)) → (B = false → W p l e R s m args below meth c H locs cells slots Q (F0 m pcF ls rest)) → W p l e R s m args below meth c H locs cells slots Q g) : W p l e R s m args below meth c H locs cells slots Q g := b kt kf
end JOIN
theorem ts_out8 {x : Int32} (h0 : ¬ x = 0) (h1 : ¬ x = 1) (h2 : ¬ x = 2) (h3 : ¬ x = 3) (h4 : ¬ x = 4) (h5 : ¬ x = 5) (h6 : ¬ x = 6) (h7 : ¬ x = 7) : x.toInt < 0 ∨ 7 < x.toInt := by
  have g0 := lv_neT h0 (a := 0) (by decide)
  have g1 := lv_neT h1 (a := 1) (by decide)
  have g2 := lv_neT h2 (a := 2) (by decide)
  have g3 := lv_neT h3 (a := 3) (by decide)
  have g4 := lv_neT h4 (a := 4) (by decide)
  have g5 := lv_neT h5 (a := 5) (by decide)
  have g6 := lv_neT h6 (a := 6) (by decide)
  have g7 := lv_neT h7 (a := 7) (by decide)
  omega
/-! loops: a step with a tag (0: goes on), run with fuel -/
def wh {S : Type} (f : S → Nat × S) : Nat → S → Nat × S
  | 0, a => (0, a)
  | n + 1, a => if (f a).1 = 0 then wh f n (f a).2 else f a
termination_by n => n
theorem wh_0 {S : Type} (f : S → Nat × S) (a : S) : wh f 0 a = (0, a) := by rw [wh]
theorem wh_s {S : Type} (f : S → Nat × S) (n : Nat) (a : S) : wh f (n + 1) a = if (f a).1 = 0 then wh f n (f a).2 else f a := by rw [wh]
theorem wh_loop {S : Type} (f : S → Nat × S) (I P : S → Prop) (K : Nat → S → Prop) (hI : ∀ a, I a → (f a).1 = 0 → I (f a).2) (hb : ∀ a, I a → ((f a).1 = 0 → P (f a).2) → (¬ (f a).1 = 0 → K (f a).1 (f a).2) → P a) : ∀ (n : Nat) (a : S), I a → ¬ (wh f n a).1 = 0 → K (wh f n a).1 (wh f n a).2 → P a := by
  intro n
  induction n with
  | zero => intro a _ h _; rw [wh_0] at h; exact absurd rfl h
  | succ n ih =>
    intro a ha h k
    rw [wh_s] at h k
    refine hb a ha (fun h0 => ?_) (fun h0 => ?_)
    · rw [if_pos h0] at h k
      exact ih _ (hI a ha h0) h k
    · rw [if_neg h0] at k
      exact k
section LOOPS
variable {p : Program} {l : Launch} {e : Env} {R : Room} {s : State} {m : MethodId} {args : Array Value} {below : List Frame} {meth : Method} {c : Code} {H : Heap} {locs : List Loc} {cells slots : Nat} {Q : State → Prop}
variable {ls : Array Slot} {rest : List Value} {D : va_G} {cA : Nat → ClassId} {o : Nat} {H0 : Heap} {S : Type} {nL : Nat}
theorem mw_loop1 (f : S → Nat × S) (I : S → Prop) (us : S → St) (lf : S → List (Nat × Value)) (h x1 n : Nat) (a0 : S) (hI : ∀ a, I a → (f a).1 = 0 → I (f a).2) (h0 : I a0) (hf : ¬ (wh f n a0).1 = 0) {r : Nat × S} (hr : wh f n a0 = r)
    (body : ∀ a, I a → ∀ (H : Heap) (locs : List Loc) (ls : Array Slot), MW D cA o (us a) H → va_S (mA o) H0 H locs → lv_has ls nL (lf a) →
      ((f a).1 = 0 → ∀ (H : Heap) (locs : List Loc) (ls : Array Slot), MW D cA o (us (f a).2) H → va_S (mA o) H0 H locs → lv_has ls nL (lf (f a).2) → W p l e R s m args below meth c H locs cells slots Q (F0 m h ls rest)) →
      (¬ (f a).1 = 0 → ∀ (H : Heap) (locs : List Loc) (ls : Array Slot), MW D cA o (us (f a).2) H → va_S (mA o) H0 H locs → lv_has ls nL (lf (f a).2) → W p l e R s m args below meth c H locs cells slots Q (F0 m x1 ls rest)) → W p l e R s m args below meth c H locs cells slots Q (F0 m h ls rest))
    (hM : MW D cA o (us a0) H) (hS : va_S (mA o) H0 H locs) (hl : lv_has ls nL (lf a0))
    (k1 : ∀ (H : Heap) (locs : List Loc) (ls : Array Slot), MW D cA o (us (wh f n a0).2) H → va_S (mA o) H0 H locs → lv_has ls nL (lf (wh f n a0).2) → W p l e R s m args below meth c H locs cells slots Q (F0 m x1 ls rest)) : W p l e R s m args below meth c H locs cells slots Q (F0 m h ls rest) := by
  subst hr
  exact wh_loop f I (fun a => ∀ (H : Heap) (locs : List Loc) (ls : Array Slot), MW D cA o (us a) H → va_S (mA o) H0 H locs → lv_has ls nL (lf a) → W p l e R s m args below meth c H locs cells slots Q (F0 m h ls rest)) (fun _ a => ∀ (H : Heap) (locs : List Loc) (ls : Array Slot), MW D cA o (us a) H → va_S (mA o) H0 H locs → lv_has ls nL (lf a) → W p l e R s m args below meth c H locs cells slots Q (F0 m x1 ls rest)) hI
    (fun a ha kb kx H locs ls hM hS hl => body a ha H locs ls hM hS hl kb kx) n a0 h0 hf k1 H locs ls hM hS hl
theorem mw_loop2 (f : S → Nat × S) (I : S → Prop) (us : S → St) (lf : S → List (Nat × Value)) (h x1 x2 n : Nat) (a0 : S) (hI : ∀ a, I a → (f a).1 = 0 → I (f a).2) (h0 : I a0) (hf : ¬ (wh f n a0).1 = 0) {r : Nat × S} (hr : wh f n a0 = r)
    (body : ∀ a, I a → ∀ (H : Heap) (locs : List Loc) (ls : Array Slot), MW D cA o (us a) H → va_S (mA o) H0 H locs → lv_has ls nL (lf a) →
      ((f a).1 = 0 → ∀ (H : Heap) (locs : List Loc) (ls : Array Slot), MW D cA o (us (f a).2) H → va_S (mA o) H0 H locs → lv_has ls nL (lf (f a).2) → W p l e R s m args below meth c H locs cells slots Q (F0 m h ls rest)) →
      ((f a).1 = 1 → ∀ (H : Heap) (locs : List Loc) (ls : Array Slot), MW D cA o (us (f a).2) H → va_S (mA o) H0 H locs → lv_has ls nL (lf (f a).2) → W p l e R s m args below meth c H locs cells slots Q (F0 m x1 ls rest)) →
      (¬ (f a).1 = 0 → ¬ (f a).1 = 1 → ∀ (H : Heap) (locs : List Loc) (ls : Array Slot), MW D cA o (us (f a).2) H → va_S (mA o) H0 H locs → lv_has ls nL (lf (f a).2) → W p l e R s m args below meth c H locs cells slots Q (F0 m x2 ls rest)) → W p l e R s m args below meth c H locs cells slots Q (F0 m h ls rest))
    (hM : MW D cA o (us a0) H) (hS : va_S (mA o) H0 H locs) (hl : lv_has ls nL (lf a0))
    (k1 : r.1 = 1 → ∀ (H : Heap) (locs : List Loc) (ls : Array Slot), MW D cA o (us r.2) H → va_S (mA o) H0 H locs → lv_has ls nL (lf r.2) → W p l e R s m args below meth c H locs cells slots Q (F0 m x1 ls rest))
    (k2 : ¬ (wh f n a0).1 = 1 → ∀ (H : Heap) (locs : List Loc) (ls : Array Slot), MW D cA o (us (wh f n a0).2) H → va_S (mA o) H0 H locs → lv_has ls nL (lf (wh f n a0).2) → W p l e R s m args below meth c H locs cells slots Q (F0 m x2 ls rest)) : W p l e R s m args below meth c H locs cells slots Q (F0 m h ls rest) := by
  subst hr
  exact wh_loop f I (fun a => ∀ (H : Heap) (locs : List Loc) (ls : Array Slot), MW D cA o (us a) H → va_S (mA o) H0 H locs → lv_has ls nL (lf a) → W p l e R s m args below meth c H locs cells slots Q (F0 m h ls rest)) (fun j a => (j = 1 → ∀ (H : Heap) (locs : List Loc) (ls : Array Slot), MW D cA o (us a) H → va_S (mA o) H0 H locs → lv_has ls nL (lf a) → W p l e R s m args below meth c H locs cells slots Q (F0 m x1 ls rest)) ∧ (¬ j = 1 → ∀ (H : Heap) (locs : List Loc) (ls : Array Slot), MW D cA o (us a) H → va_S (mA o) H0 H locs → lv_has ls nL (lf a) → W p l e R s m args below meth c H locs cells slots Q (F0 m x2 ls rest))) hI
    (fun a ha kb kx H locs ls hM hS hl => body a ha H locs ls hM hS hl kb (fun h1 => (kx (by rw [h1]; decide)).1 h1) (fun h1 h2 => (kx h1).2 h2)) n a0 h0 hf ⟨k1, k2⟩ H locs ls hM hS hl
theorem r_loop1 (f : S → Nat × S) (I : S → Prop) (lf : S → List (Nat × Value)) (h x1 n : Nat) (a0 : S) (hI : ∀ a, I a → (f a).1 = 0 → I (f a).2) (h0 : I a0) (hf : ¬ (wh f n a0).1 = 0) {r : Nat × S} (hr : wh f n a0 = r)
    (body : ∀ a, I a → ∀ (ls : Array Slot), lv_has ls nL (lf a) →
      ((f a).1 = 0 → ∀ (ls : Array Slot), lv_has ls nL (lf (f a).2) → W p l e R s m args below meth c H locs cells slots Q (F0 m h ls rest)) →
      (¬ (f a).1 = 0 → ∀ (ls : Array Slot), lv_has ls nL (lf (f a).2) → W p l e R s m args below meth c H locs cells slots Q (F0 m x1 ls rest)) → W p l e R s m args below meth c H locs cells slots Q (F0 m h ls rest))
    (hl : lv_has ls nL (lf a0))
    (k1 : ∀ (ls : Array Slot), lv_has ls nL (lf (wh f n a0).2) → W p l e R s m args below meth c H locs cells slots Q (F0 m x1 ls rest)) : W p l e R s m args below meth c H locs cells slots Q (F0 m h ls rest) := by
  subst hr
  exact wh_loop f I (fun a => ∀ (ls : Array Slot), lv_has ls nL (lf a) → W p l e R s m args below meth c H locs cells slots Q (F0 m h ls rest)) (fun _ a => ∀ (ls : Array Slot), lv_has ls nL (lf a) → W p l e R s m args below meth c H locs cells slots Q (F0 m x1 ls rest)) hI
    (fun a ha kb kx ls hl => body a ha ls hl kb kx) n a0 h0 hf k1 ls hl
theorem r_loop2 (f : S → Nat × S) (I : S → Prop) (lf : S → List (Nat × Value)) (h x1 x2 n : Nat) (a0 : S) (hI : ∀ a, I a → (f a).1 = 0 → I (f a).2) (h0 : I a0) (hf : ¬ (wh f n a0).1 = 0) {r : Nat × S} (hr : wh f n a0 = r)
    (body : ∀ a, I a → ∀ (ls : Array Slot), lv_has ls nL (lf a) →
      ((f a).1 = 0 → ∀ (ls : Array Slot), lv_has ls nL (lf (f a).2) → W p l e R s m args below meth c H locs cells slots Q (F0 m h ls rest)) →
      ((f a).1 = 1 → ∀ (ls : Array Slot), lv_has ls nL (lf (f a).2) → W p l e R s m args below meth c H locs cells slots Q (F0 m x1 ls rest)) →
      (¬ (f a).1 = 0 → ¬ (f a).1 = 1 → ∀ (ls : Array Slot), lv_has ls nL (lf (f a).2) → W p l e R s m args below meth c H locs cells slots Q (F0 m x2 ls rest)) → W p l e R s m args below meth c H locs cells slots Q (F0 m h ls rest))
    (hl : lv_has ls nL (lf a0))
    (k1 : r.1 = 1 → ∀ (ls : Array Slot), lv_has ls nL (lf r.2) → W p l e R s m args below meth c H locs cells slots Q (F0 m x1 ls rest))
    (k2 : ¬ (wh f n a0).1 = 1 → ∀ (ls : Array Slot), lv_has ls nL (lf (wh f n a0).2) → W p l e R s m args below meth c H locs cells slots Q (F0 m x2 ls rest)) : W p l e R s m args below meth c H locs cells slots Q (F0 m h ls rest) := by
  subst hr
  exact wh_loop f I (fun a => ∀ (ls : Array Slot), lv_has ls nL (lf a) → W p l e R s m args below meth c H locs cells slots Q (F0 m h ls rest)) (fun j a => (j = 1 → ∀ (ls : Array Slot), lv_has ls nL (lf a) → W p l e R s m args below meth c H locs cells slots Q (F0 m x1 ls rest)) ∧ (¬ j = 1 → ∀ (ls : Array Slot), lv_has ls nL (lf a) → W p l e R s m args below meth c H locs cells slots Q (F0 m x2 ls rest))) hI
    (fun a ha kb kx ls hl => body a ha ls hl kb (fun h1 => (kx (by rw [h1]; decide)).1 h1) (fun h1 h2 => (kx h1).2 h2)) n a0 h0 hf ⟨k1, k2⟩ ls hl
end LOOPS
/-- what a loop asks: an invariant that holds at first, stays, and the fuel suffices -/
def LOK {S : Type} (f : S → Nat × S) (n : Nat) (a0 : S) (I : S → Prop) : Prop := I a0 ∧ (∀ a, I a → (f a).1 = 0 → I (f a).2) ∧ ¬ (wh f n a0).1 = 0
theorem sa_same (u : St) (k j : Nat) (v : Int32) : (sa u k j v).2.1 k j = v := by rw [sa_2]; simp
theorem sl_same (u : St) (k j : Nat) (v : Int64) : (sl u k j v).2.2 k j = v := by rw [sl_3]; simp
