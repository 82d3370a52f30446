/-! THE BASE: states as functions, objects and arrays by single cells, the rows that the walks use. Own work. -/
set_option maxRecDepth 100000
abbrev vwCl : List vw_C := [(RX0, TX0, 31), (RX1, TX1, 6), (RX3, TX3, 56), (RX4, TX4, 9), (RX5, TX5, 8), (RX6, TX6, 8), (RX8, TX8, 3), (RX9, TX9, 3), (RX10, TX10, 3), (RX11, TX11, 5), (RX12, TX12, 4), (RX13, TX13, 3), (RJ2, TJ2, 3), (RJ4, TJ4, 4), (RJ5, TJ5, 4)]
abbrev tyCl (cA : Nat → ClassId) : List (ClassId × FieldType) := [(cA 0, .int), (cA 1, .byte), (cA 2, .boolean), (cA 3, .long), (cA 4, .object "java/lang/Object"), (cA 5, .object "HomeRoll$Paper"), (cA 6, .object "HomeRoll$Known"), (cA 7, .array .int)]
abbrev K0 (D : va_G) (cA : Nat → ClassId) (U : State) : Prop := va_K D vwCl (tyCl cA) U
/-- a Bool as Java's int -/
def b2 (b : Bool) : Int32 := if b then 1 else 0
theorem b2_t : b2 true = 1 := rfl
theorem b2_f : b2 false = 0 := rfl
theorem b2_0 {b : Bool} : b2 b = 0 ↔ b = false := by cases b <;> decide
theorem b2_n0 {b : Bool} : ¬ b2 b = 0 ↔ b = true := by cases b <;> decide
theorem b2_inj {a b : Bool} : b2 a = b2 b ↔ a = b := by cases a <;> cases b <;> decide
theorem b2_nar (b : Bool) : narrow .boolean (.int (b2 b)) = .int (b2 b) := by cases b <;> rfl
/-- rooms by the depth of calls -/
def rmD (d : Nat) : Room := { frames := d, cells := 0, slots := 0, locals := 60 * d }
def rmC (d mc ms : Nat) : Room := { frames := d, cells := mc, slots := ms, locals := 60 * d }
theorem rmC_ok {d d' mc ms mc' ms' L : Nat} (h : d' < d) (hL : L ≤ 41) : (rmC d' mc' ms').frames + 1 ≤ (rmC d mc ms).frames ∧ 8 + (L + 11) + (rmC d' mc' ms').locals ≤ (rmC d mc ms).locals := ⟨h, by show 8 + (L + 11) + 60 * d' ≤ 60 * d; omega⟩
/-- a state: ints by key, arrays of ints by key and place, longs by key and place -/
abbrev St : Type := (Nat → Int32) × (Nat → Nat → Int32) × (Nat → Nat → Int64)
def si (u : St) (k : Nat) (v : Int32) : St := (upd u.1 k v, u.2.1, u.2.2)
def sa (u : St) (k j : Nat) (v : Int32) : St := (u.1, va_up u.2.1 k (upd (u.2.1 k) j v), u.2.2)
def sl (u : St) (k j : Nat) (v : Int64) : St := (u.1, u.2.1, va_up u.2.2 k (vp_updL (u.2.2 k) j v))
theorem si_1 (u : St) (k : Nat) (v : Int32) (j : Nat) : (si u k v).1 j = if j = k then v else u.1 j := rfl
theorem si_2 (u : St) (k : Nat) (v : Int32) : (si u k v).2.1 = u.2.1 := rfl
theorem si_3 (u : St) (k : Nat) (v : Int32) : (si u k v).2.2 = u.2.2 := rfl
theorem sa_1 (u : St) (k j : Nat) (v : Int32) : (sa u k j v).1 = u.1 := rfl
theorem sa_2 (u : St) (k j : Nat) (v : Int32) (k' j' : Nat) : (sa u k j v).2.1 k' j' = if k' = k ∧ j' = j then v else u.2.1 k' j' := by
  show va_up u.2.1 k (upd (u.2.1 k) j v) k' j' = _
  unfold va_up upd
  by_cases h : k' = k
  · subst h; by_cases h2 : j' = j <;> simp [h2]
  · simp [h]
theorem sa_3 (u : St) (k j : Nat) (v : Int32) : (sa u k j v).2.2 = u.2.2 := rfl
theorem sl_1 (u : St) (k j : Nat) (v : Int64) : (sl u k j v).1 = u.1 := rfl
theorem sl_2 (u : St) (k j : Nat) (v : Int64) : (sl u k j v).2.1 = u.2.1 := rfl
theorem sl_3 (u : St) (k j : Nat) (v : Int64) (k' j' : Nat) : (sl u k j v).2.2 k' j' = if k' = k ∧ j' = j then v else u.2.2 k' j' := by
  show va_up u.2.2 k (vp_updL (u.2.2 k) j v) k' j' = _
  unfold va_up vp_updL
  by_cases h : k' = k
  · subst h; by_cases h2 : j' = j <;> simp [h2]
  · simp [h]
section BASE
variable {p : Program} {l : Launch} {e : Env} {R : Room} {s : State} {m : MethodId} {args : Array Value} {below : List Frame} {meth : Method} {c : Code} {H : Heap} {locs : List Loc} {cells slots : Nat} {Q : State → Prop}
variable {cc : ByteArray} {pc : Nat} {ls : Array Slot} {rest : List Value} {D : va_G} {cA : Nat → ClassId} {A : Nat → Prop} {a : Nat} {H0 : Heap}
/-- a field of an object that is known by its values -/
theorem ob_get (hexec : p.tables.exec = Jvm.exec) (hb : c.code = cc) {own ref C : String} {T : u_T} {N ci index : Nat} {V : Nat → Value} (hts : ∀ w ∈ lw_all, w.before args s = true) (hin : ∀ w ∈ u_ws C T N, w ∈ lw_all) (hown : s.vm.findClass own = some m.cls) (hK : K0 D cA s) (hO : t_OB a (D.1 ci) N (D.2 ci) H V) (hc : vwCl[ci]? = some (C, T, N)) (k : Nat) (hk : k < N) (hlink : (Cond.fieldLink own index ref (T k).2.1 (T k).2.2.1) ∈ lw_all) (hsame : ∀ x, s.fieldFound? (T k).1 (T k).2.1 (T k).2.2.1 = some x → s.fieldFound? ref (T k).2.1 (T k).2.2.1 = some x) {v : Value} (hv : V k = v) (hdg : decode cc pc = .ok (.getfield index, 3))
    (kk : W p l e R s m args below meth c H locs cells slots Q (F0 m (pc + 3) ls (v :: rest))) : W p l e R s m args below meth c H locs cells slots Q (F0 m pc ls (.ref a :: rest)) := by
  obtain ⟨cell, q1, q2, q3, q4⟩ := hO
  obtain ⟨hS, hfc, kC, hkC, hkind⟩ := hK.1 ci _ hc
  obtain ⟨cf, kf, fi, f, hi, hsl⟩ := hS k hk
  refine W.getf hexec hb hown (hts _ hlink) (hsame _ hi) (u_facts hfc hkC (u_lays hts hin hk) hi).1 q1 (by rw [q3]; exact fun h => by cases h) (v := v) ?_ rfl rfl hdg kk
  rw [hsl, q4 k hk, hv]
/-- a field of it is written -/
theorem ob_put (hexec : p.tables.exec = Jvm.exec) (hb : c.code = cc) {own ref C : String} {T : u_T} {N ci index : Nat} {V : Nat → Value} (hts : ∀ w ∈ lw_all, w.before args s = true) (hin : ∀ w ∈ u_ws C T N, w ∈ lw_all) (ty0 : Nat → FieldType) (hty : ∀ k, k < N → parseFieldDescriptor (T k).2.2.1 = some (ty0 k)) (hnm : ∀ a, a < N → ∀ b, b < N → a ≠ b → (T a).2.1 ≠ (T b).2.1) (hown : s.vm.findClass own = some m.cls) (hK : K0 D cA s) (hO : t_OB a (D.1 ci) N (D.2 ci) H V) (hS0 : va_S A H0 H locs) (hAa : A a) (hc : vwCl[ci]? = some (C, T, N)) (k : Nat) (hk : k < N) (hlink : (Cond.fieldLink own index ref (T k).2.1 (T k).2.2.1) ∈ lw_all) (hsame : ∀ x, s.fieldFound? (T k).1 (T k).2.1 (T k).2.2.1 = some x → s.fieldFound? ref (T k).2.1 (T k).2.2.1 = some x) (hfin : (T k).2.2.2 = false) {v : Value} (hn : narrow (ty0 k) v = v) (hfit : fits (ty0 k) v = true)
    (hdg : decode cc pc = .ok (.putfield index, 3)) (kk : ∀ (H1 : Heap) (locs1 : List Loc), t_OB a (D.1 ci) N (D.2 ci) H1 (updV V k v) → (∀ q : Nat, q ≠ a → H1[q]? = H[q]?) → H1.size = H.size → va_S A H0 H1 locs1 → W p l e R s m args below meth c H1 locs1 cells slots Q (F0 m (pc + 3) ls rest)) : W p l e R s m args below meth c H locs cells slots Q (F0 m pc ls (v :: .ref a :: rest)) := by
  have hap := va_apart (own := own) hts hin ty0 hty hnm hK hc
  obtain ⟨cell, q1, q2, q3, q4⟩ := hO
  obtain ⟨hS, hfc, kC, hkC, hkind⟩ := hK.1 ci _ hc
  obtain ⟨cf, kf, fi, f, hi, hsl⟩ := hS k hk
  have hlay := hts _ (hin _ (u_in_lay hk))
  unfold u_lay at hlay
  rw [if_neg (by rw [hfin]; decide)] at hlay
  have hst := (u_facts hfc hkC (u_lays hts hin hk) hi).1
  have h6 := u_store hfc hkC hkind hlay hi (hty k hk) hn hfit
  refine W.putK hexec hb (f := f) ⟨hown, hts _ hlink, ⟨_, _, _, hsame _ hi⟩, hst⟩ (by rw [q2]; exact h6) q1 q3 (by rw [hsl]; exact k2_hasslot (q4 k hk)) rfl rfl hdg fun H' e1 e2 e3 => ?_
  rw [hsl] at e1 ⊢
  exact kk H' _ ⟨_, e1, q2, q3, t_set q4 hap hk v⟩ e3 e2 (hS0.put e2 e3 hAa)
/-- a final field, in the constructor -/
theorem ob_putF (hexec : p.tables.exec = Jvm.exec) (hb : c.code = cc) {own ref C : String} {T : u_T} {N ci index : Nat} {V : Nat → Value} (hts : ∀ w ∈ lw_all, w.before args s = true) (hin : ∀ w ∈ u_ws C T N, w ∈ lw_all) (ty0 : Nat → FieldType) (hty : ∀ k, k < N → parseFieldDescriptor (T k).2.2.1 = some (ty0 k)) (hnm : ∀ a, a < N → ∀ b, b < N → a ≠ b → (T a).2.1 ≠ (T b).2.1) (hown : s.vm.findClass own = some m.cls) (hK : K0 D cA s) (hO : t_OB a (D.1 ci) N (D.2 ci) H V) (hS0 : va_S A H0 H locs) (hAa : A a) (hc : vwCl[ci]? = some (C, T, N)) (k : Nat) (hk : k < N) (hlink : (Cond.fieldLink own index ref (T k).2.1 (T k).2.2.1) ∈ lw_all) (hsame : ∀ x, s.fieldFound? (T k).1 (T k).2.1 (T k).2.2.1 = some x → s.fieldFound? ref (T k).2.1 (T k).2.2.1 = some x) (hfin : (T k).2.2.2 = true) (hin2 : meth.name = "<init>") (hdecl : (T k).1 = own) {v : Value} (hn : narrow (ty0 k) v = v) (hfit : fits (ty0 k) v = true)
    (hdg : decode cc pc = .ok (.putfield index, 3)) (kk : ∀ (H1 : Heap) (locs1 : List Loc), t_OB a (D.1 ci) N (D.2 ci) H1 (updV V k v) → (∀ q : Nat, q ≠ a → H1[q]? = H[q]?) → H1.size = H.size → va_S A H0 H1 locs1 → W p l e R s m args below meth c H1 locs1 cells slots Q (F0 m (pc + 3) ls rest)) : W p l e R s m args below meth c H locs cells slots Q (F0 m pc ls (v :: .ref a :: rest)) := by
  have hap := va_apart (own := own) hts hin ty0 hty hnm hK hc
  obtain ⟨cell, q1, q2, q3, q4⟩ := hO
  obtain ⟨hS, hfc, kC, hkC, hkind⟩ := hK.1 ci _ hc
  obtain ⟨cf, kf, fi, f, hi, hsl⟩ := hS k hk
  have hlay := hts _ (hin _ (u_in_lay hk))
  unfold u_lay at hlay
  rw [if_pos hfin] at hlay
  have hst := (u_facts hfc hkC (u_lays hts hin hk) hi).1
  have hcf : m.cls = cf := by
    obtain ⟨_, _, c', _, _, _, -, -, hf', -, -, -, hown2, -⟩ := Cond.laysFinal_spec hlay
    have e1 : c' = cf := by have := hi.symm.trans hf'; simp at this; exact this.1.symm
    rw [hdecl] at hown2
    rw [← e1]; exact Option.some.inj (hown.symm.trans hown2)
  have h6 := u_fits hfc hkC hkind (Or.inr hlay) hi (hty k hk) hn hfit
  refine W.putFinK hexec hb hown (hts _ hlink) (hsame _ hi) hst hcf hin2 (by rw [q2]; exact h6) q1 q3 (by rw [hsl]; exact k2_hasslot (q4 k hk)) rfl rfl hdg fun H' e1 e2 e3 => ?_
  rw [hsl] at e1 ⊢
  exact kk H' _ ⟨_, e1, q2, q3, t_set q4 hap hk v⟩ e3 e2 (hS0.put e2 e3 hAa)
theorem ar_ild (hexec : p.tables.exec = Jvm.exec) (hb : c.code = cc) (hK : K0 D cA s) {n : Nat} {f : Nat → Int32} (ha : H[a]? = some (arrV (cA 0) n (fun j => .int (f j)))) {i : Int32} (hin : vp_in i n) (hdg : decode cc pc = .ok (.iaload, 1))
    (kk : W p l e R s m args below meth c H locs cells slots Q (F0 m (pc + 1) ls (.int (f i.toNatClampNeg) :: rest))) : W p l e R s m args below meth c H locs cells slots Q (F0 m pc ls (.int i :: .ref a :: rest)) := by
  have hlt : i.toNatClampNeg < n := Nat.not_le.mp fun q => hin (Or.inr q)
  exact W.iald (v := .int (f i.toNatClampNeg)) hexec hb ha ((hK.2 0 _ rfl).1 n _) (fun q => by cases q) (by rw [arrV_size]; exact hin) (by rw [arrV_read _ _ hlt]) rfl rfl hdg kk
theorem ar_bld (hexec : p.tables.exec = Jvm.exec) (hb : c.code = cc) (hK : K0 D cA s) {n : Nat} {f : Nat → Int32} (ha : H[a]? = some (arrV (cA 1) n (fun j => .int (f j)))) {i : Int32} (hin : vp_in i n) (hdg : decode cc pc = .ok (.baload, 1))
    (kk : W p l e R s m args below meth c H locs cells slots Q (F0 m (pc + 1) ls (.int (f i.toNatClampNeg) :: rest))) : W p l e R s m args below meth c H locs cells slots Q (F0 m pc ls (.int i :: .ref a :: rest)) := by
  have hlt : i.toNatClampNeg < n := Nat.not_le.mp fun q => hin (Or.inr q)
  exact W.bald (v := .int (f i.toNatClampNeg)) hexec hb ha ((hK.2 1 _ rfl).1 n _) (fun q => by cases q) (by rw [arrV_size]; exact hin) (by rw [arrV_read _ _ hlt]) rfl rfl hdg kk
theorem ar_zld (hexec : p.tables.exec = Jvm.exec) (hb : c.code = cc) (hK : K0 D cA s) {n : Nat} {f : Nat → Int32} (ha : H[a]? = some (arrV (cA 2) n (fun j => .int (f j)))) {i : Int32} (hin : vp_in i n) (hdg : decode cc pc = .ok (.baload, 1))
    (kk : W p l e R s m args below meth c H locs cells slots Q (F0 m (pc + 1) ls (.int (f i.toNatClampNeg) :: rest))) : W p l e R s m args below meth c H locs cells slots Q (F0 m pc ls (.int i :: .ref a :: rest)) := by
  have hlt : i.toNatClampNeg < n := Nat.not_le.mp fun q => hin (Or.inr q)
  exact W.zald (v := .int (f i.toNatClampNeg)) hexec hb ha ((hK.2 2 _ rfl).1 n _) (fun q => by cases q) (by rw [arrV_size]; exact hin) (by rw [arrV_read _ _ hlt]) rfl rfl hdg kk
theorem ar_lld (hexec : p.tables.exec = Jvm.exec) (hb : c.code = cc) (hK : K0 D cA s) {n : Nat} {f : Nat → Int64} (ha : H[a]? = some (arrV (cA 3) n (fun j => .long (f j)))) {i : Int32} (hin : vp_in i n) (hdg : decode cc pc = .ok (.laload, 1))
    (kk : W p l e R s m args below meth c H locs cells slots Q (F0 m (pc + 1) ls (.long (f i.toNatClampNeg) :: rest))) : W p l e R s m args below meth c H locs cells slots Q (F0 m pc ls (.int i :: .ref a :: rest)) := by
  have hlt : i.toNatClampNeg < n := Nat.not_le.mp fun q => hin (Or.inr q)
  exact W.lald (v := .long (f i.toNatClampNeg)) hexec hb ha ((hK.2 3 _ rfl).1 n _) (fun q => by cases q) (by rw [arrV_size]; exact hin) (by rw [arrV_read _ _ hlt]) rfl rfl hdg kk
theorem ar_ist (hexec : p.tables.exec = Jvm.exec) (hb : c.code = cc) (hK : K0 D cA s) {n : Nat} {f : Nat → Int32} (ha : H[a]? = some (arrV (cA 0) n (fun j => .int (f j)))) (hS : va_S A H0 H locs) (hAa : A a) {i x : Int32} (hin : vp_in i n) (hdg : decode cc pc = .ok (.iastore, 1))
    (kk : ∀ (H1 : Heap) (locs1 : List Loc), H1[a]? = some (arrV (cA 0) n (fun j => .int (upd f i.toNatClampNeg x j))) → (∀ q : Nat, q ≠ a → H1[q]? = H[q]?) → H1.size = H.size → va_S A H0 H1 locs1 → W p l e R s m args below meth c H1 locs1 cells slots Q (F0 m (pc + 1) ls rest)) : W p l e R s m args below meth c H locs cells slots Q (F0 m pc ls (.int x :: .int i :: .ref a :: rest)) := by
  refine W.iast hexec hb ha ((hK.2 0 _ rfl).1 n _) (fun q => by cases q) (by rw [arrV_size]; exact hin) rfl rfl hdg fun H1 e z oq => ?_
  refine kk H1 _ ?_ oq z (hS.put z oq hAa)
  rw [e, arrV_store]
  congr 2
  funext q
  by_cases hq : q = i.toNatClampNeg
  · subst hq; simp [updV, upd]
  · simp [updV, upd, hq]
theorem ar_bst (hexec : p.tables.exec = Jvm.exec) (hb : c.code = cc) (hK : K0 D cA s) {n : Nat} {f : Nat → Int32} (ha : H[a]? = some (arrV (cA 1) n (fun j => .int (f j)))) (hS : va_S A H0 H locs) (hAa : A a) {i x : Int32} (hin : vp_in i n) (hdg : decode cc pc = .ok (.bastore, 1))
    (kk : ∀ (H1 : Heap) (locs1 : List Loc), H1[a]? = some (arrV (cA 1) n (fun j => .int (upd f i.toNatClampNeg x.toInt8.toInt32 j))) → (∀ q : Nat, q ≠ a → H1[q]? = H[q]?) → H1.size = H.size → va_S A H0 H1 locs1 → W p l e R s m args below meth c H1 locs1 cells slots Q (F0 m (pc + 1) ls rest)) : W p l e R s m args below meth c H locs cells slots Q (F0 m pc ls (.int x :: .int i :: .ref a :: rest)) := by
  refine W.bast hexec hb ha ((hK.2 1 _ rfl).1 n _) (fun q => by cases q) (by rw [arrV_size]; exact hin) rfl rfl hdg fun H1 e z oq => ?_
  refine kk H1 _ ?_ oq z (hS.put z oq hAa)
  rw [e, arrV_store]
  congr 2
  funext q
  by_cases hq : q = i.toNatClampNeg
  · subst hq; simp [updV, upd]; rfl
  · simp [updV, upd, hq]
theorem ar_zst (hexec : p.tables.exec = Jvm.exec) (hb : c.code = cc) (hK : K0 D cA s) {n : Nat} {f : Nat → Int32} (ha : H[a]? = some (arrV (cA 2) n (fun j => .int (f j)))) (hS : va_S A H0 H locs) (hAa : A a) {i : Int32} {x : Bool} (hin : vp_in i n) (hdg : decode cc pc = .ok (.bastore, 1))
    (kk : ∀ (H1 : Heap) (locs1 : List Loc), H1[a]? = some (arrV (cA 2) n (fun j => .int (upd f i.toNatClampNeg (b2 x) j))) → (∀ q : Nat, q ≠ a → H1[q]? = H[q]?) → H1.size = H.size → va_S A H0 H1 locs1 → W p l e R s m args below meth c H1 locs1 cells slots Q (F0 m (pc + 1) ls rest)) : W p l e R s m args below meth c H locs cells slots Q (F0 m pc ls (.int (b2 x) :: .int i :: .ref a :: rest)) := by
  refine W.zast hexec hb ha ((hK.2 2 _ rfl).1 n _) (fun q => by cases q) (by rw [arrV_size]; exact hin) rfl rfl hdg fun H1 e z oq => ?_
  refine kk H1 _ ?_ oq z (hS.put z oq hAa)
  rw [e, arrV_store, b2_nar]
  congr 2
  funext q
  by_cases hq : q = i.toNatClampNeg
  · subst hq; simp [updV, upd]
  · simp [updV, upd, hq]
theorem ar_lst (hexec : p.tables.exec = Jvm.exec) (hb : c.code = cc) (hK : K0 D cA s) {n : Nat} {f : Nat → Int64} (ha : H[a]? = some (arrV (cA 3) n (fun j => .long (f j)))) (hS : va_S A H0 H locs) (hAa : A a) {i : Int32} {x : Int64} (hin : vp_in i n) (hdg : decode cc pc = .ok (.lastore, 1))
    (kk : ∀ (H1 : Heap) (locs1 : List Loc), H1[a]? = some (arrV (cA 3) n (fun j => .long (vp_updL f i.toNatClampNeg x j))) → (∀ q : Nat, q ≠ a → H1[q]? = H[q]?) → H1.size = H.size → va_S A H0 H1 locs1 → W p l e R s m args below meth c H1 locs1 cells slots Q (F0 m (pc + 1) ls rest)) : W p l e R s m args below meth c H locs cells slots Q (F0 m pc ls (.long x :: .int i :: .ref a :: rest)) := by
  refine W.last hexec hb ha ((hK.2 3 _ rfl).1 n _) (fun q => by cases q) (by rw [arrV_size]; exact hin) rfl rfl hdg fun H1 e z oq => ?_
  refine kk H1 _ ?_ oq z (hS.put z oq hAa)
  rw [e, arrV_store]
  congr 2
  funext q
  by_cases hq : q = i.toNatClampNeg
  · subst hq; simp [updV, vp_updL]
  · simp [updV, vp_updL, hq]
end BASE
/-- an end that answers v and leaves the heap as it was -/
def rQ (v : Option Value) : Array Value → State → Outcome → State → Prop := fun _ st oc t => oc = .returned v ∧ t.heap = st.heap
def noA : Addr → Prop := fun _ => False
section CALLS
variable {p : Program} {l : Launch} {e : Env} {R : Room} {s : State} {m : MethodId} {args : Array Value} {below : List Frame} {meth : Method} {c : Code} {H : Heap} {locs : List Loc} {cells slots : Nat} {Q : State → Prop}
variable {cc : ByteArray} {pc : Nat} {ls : Array Slot} {rest : List Value} {D : va_G} {cA : Nat → ClassId} {A : Nat → Prop} {a : Nat} {H0 : Heap}
/-- behind a call that changes nothing -/
theorem ro_call {st0 : List Value} {v : Option Value} {ar : Array Value} (hr : va_Run p l e R s m args below meth c H locs cells slots 0 0 (F0 m pc ls st0) rest (rQ v ar) noA) (kk : W p l e R s m args below meth c H locs cells slots Q (F0 m (pc + 3) ls (v.toList ++ rest))) : W p l e R s m args below meth c H locs cells slots Q (F0 m pc ls st0) := by
  intro T hT X
  obtain ⟨v', st₀, t, T', L, h0, X', hL, e1, e2, ⟨hv, hh⟩, st⟩ := hr T hT X
  cases hv
  have hL0 : L = [] := by
    cases L with
    | nil => rfl
    | cons x xs => exact absurd (hL x List.mem_cons_self) id
  subst hL0
  rw [List.append_nil] at X'
  obtain ⟨t2, a1, b1⟩ := kk T' (by rw [e1, hh, h0]) X'
  exact ⟨t2, st t2 a1, b1⟩
theorem iret_ro {v V : Int32} (hexec : p.tables.exec = Jvm.exec) (hb : c.code = cc) (hr : meth.sig.returnType = some .int) (hlocks : meth.locks = false) (hv : v = V) (hdg : decode cc pc = .ok (.ireturn, 1)) : W p l e R s m args below meth c s.heap [] 0 0 (MQ below (rQ (some (.int V))) args s 0 0 noA) (F0 m pc ls [.int v]) := by
  subst hv
  exact W.iret hexec hb hr (fun t ht hW => ⟨rfl, ht⟩) (fun q h => by cases h) hdg hlocks
theorem zret_ro {v : Int32} {V : Bool} (hexec : p.tables.exec = Jvm.exec) (hb : c.code = cc) (hr : meth.sig.returnType = some .boolean) (hlocks : meth.locks = false) (hv : v = b2 V) (hdg : decode cc pc = .ok (.ireturn, 1)) : W p l e R s m args below meth c s.heap [] 0 0 (MQ below (rQ (some (.int (b2 V)))) args s 0 0 noA) (F0 m pc ls [.int v]) := by
  subst hv
  exact W.zret hexec hb hr (b2_nar V) (fun t ht hW => ⟨rfl, ht⟩) (fun q h => by cases h) hdg hlocks
theorem lret_ro {v V : Int64} (hexec : p.tables.exec = Jvm.exec) (hb : c.code = cc) (hr : meth.sig.returnType = some .long) (hlocks : meth.locks = false) (hv : v = V) (hdg : decode cc pc = .ok (.lreturn, 1)) : W p l e R s m args below meth c s.heap [] 0 0 (MQ below (rQ (some (.long V))) args s 0 0 noA) (F0 m pc ls [.long v]) := by
  subst hv
  exact W.lret hexec hb hr (fun t ht hW => ⟨rfl, ht⟩) (fun q h => by cases h) hdg hlocks
end CALLS
