/-! Reader.text: what it reads, and where it stands. Own work. -/
set_option maxRecDepth 100000
abbrev Ln : Type := Sm × Int32 × Int32
def dsW (τ : Tp) (p : Nat) : Int32 := if isW τ p 16 = true then 1 else if isW τ p 17 = true then 2 else if isW τ p 18 = true then 3 else if isW τ p 19 = true then 4 else 0
abbrev LO : Type := Except (Int32 × Nat) (Ln × Nat × Nat)
def eL (τ : Tp) (p : Nat) : LO := .error (eKd τ p, ws τ p)
/-- a line's end: what is behind its ruling -/
def lnE (τ : Tp) (f : Sm) (ds pt : Int32) (p tm : Nat) : LO := if ts τ p = 59 then .ok ((f, ds, pt), te τ p, tm) else eL τ p
/-- a line behind its test -/
def lnA (τ : Tp) (q : Sm × Nat × Nat) : LO :=
  if isW τ q.2.1 15 = true then
    if dsW τ (te τ q.2.1) = 0 then eL τ (te τ q.2.1)
    else if dsW τ (te τ q.2.1) = 3 then
      if ts τ (te τ (te τ q.2.1)) = 2 then
        if tn τ (te τ (te τ q.2.1)) ≤ 100 then lnE τ q.1 3 (tn τ (te τ (te τ q.2.1))) (te τ (te τ (te τ q.2.1))) q.2.2
        else .error (3, ws τ (te τ (te τ q.2.1)))
      else eL τ (te τ (te τ q.2.1))
    else lnE τ q.1 (dsW τ (te τ q.2.1)) 0 (te τ (te τ q.2.1)) q.2.2
  else eL τ q.2.1
abbrev TO : Type := (Except (Int32 × Nat) (Nat × (Nat → Ln))) × Nat × Nat
def updN (ls : Nat → Ln) (n : Nat) (x : Ln) : Nat → Ln := fun j => if j = n then x else ls j
def txL (τ : Tp) : Nat → Nat → (Nat → Ln) → Nat → Nat → Nat → Nat → TO
  | 0, n, ls, _, _, ca, sa => (.ok (n, ls), ca, sa)
  | k + 1, n, ls, p, tm, ca, sa => if ts τ p = 0 then (.ok (n, ls), ca, sa)
    else if isW τ p 2 = true ∧ ¬ n = 16 then
      (match (pEither τ 6 (te τ p) tm).1 with
      | .error q => (.error q, ca + 24 + (pEither τ 6 (te τ p) tm).2.1, sa + 160 + (pEither τ 6 (te τ p) tm).2.2)
      | .ok q => (match lnA τ q with
        | .error q2 => (.error q2, ca + 24 + (pEither τ 6 (te τ p) tm).2.1, sa + 160 + (pEither τ 6 (te τ p) tm).2.2)
        | .ok q2 => txL τ k (n + 1) (updN ls n q2.1) q2.2.1 q2.2.2 (ca + 24 + (pEither τ 6 (te τ p) tm).2.1) (sa + 160 + (pEither τ 6 (te τ p) tm).2.2)))
    else (.error (eKd τ p, ws τ p), ca + 24, sa + 160)
def pText (τ : Tp) : TO := txL τ 17 0 (fun _ => (fun _ => 0, 0, 0)) 0 0 4 24
theorem txL_ge {τ : Tp} : ∀ (k n : Nat) (ls : Nat → Ln) (p tm ca sa : Nat), ca ≤ (txL τ k n ls p tm ca sa).2.1 ∧ sa ≤ (txL τ k n ls p tm ca sa).2.2
  | 0, _, _, _, _, _, _ => ⟨Nat.le_refl _, Nat.le_refl _⟩
  | k + 1, n, ls, p, tm, ca, sa => by
    rw [txL]
    split
    · exact ⟨Nat.le_refl _, Nat.le_refl _⟩
    · split
      · split
        · exact ⟨by dsimp only; omega, by dsimp only; omega⟩
        · split
          · exact ⟨by dsimp only; omega, by dsimp only; omega⟩
          · rename_i q2 _
            have := txL_ge (τ := τ) k (n + 1) (updN ls n q2.1) q2.2.1 q2.2.2 (ca + 24 + (pEither τ 6 (te τ p) tm).2.1) (sa + 160 + (pEither τ 6 (te τ p) tm).2.2)
            exact ⟨by omega, by omega⟩
      · exact ⟨by dsimp only; omega, by dsimp only; omega⟩
/-- where text stands -/
def QS (κ : Kg) (o : Nat) (τ : Tp) (r : Nat) (s : State) (al P tm w : Nat) (H : Heap) (locs : List Loc) : Prop := KZ κ s H ∧ RT κ o τ r P (nI tm) w al H ∧ (∀ q : Nat, q < r → H[q]? = s.heap[q]?) ∧ (w < κ.base ∨ r < w) ∧ (∀ x ∈ locs, κ.base ≤ x.base) ∧ s.heap.size ≤ H.size
theorem fr_r {κ : Kg} {r w : Nat} {H H1 : Heap} (hF : FrR κ r w H H1) (hr : r < H.size) (hw : w < κ.base ∨ r < w) (q : Nat) (hq : q < r) : H1[q]? = H[q]? := hF.2 q (by omega) (by omega) (by omega)
/-- a list of lines: n lines ls at al -/
def LW (κ : Kg) (o : Nat) (S : Nat → Prop) (H : Heap) (al n : Nat) (ls : Nat → Ln) : Prop := ∃ (x c : Nat) (es : Nat → Nat), LA κ al x c n es H ∧ S al ∧ S x ∧ ∀ j, j < n → ∃ a, S (es j) ∧ t_OB (es j) (κ.D.1 11) 3 (κ.D.2 11) H (vp_V [.ref a, .int (ls j).2.1, .int (ls j).2.2]) ∧ ExT κ o S H 86 a (ls j).1
theorem LW.kept {κ : Kg} {o : Nat} {S S' : Nat → Prop} {H H1 : Heap} {al n : Nat} {ls : Nat → Ln} (h : LW κ o S H al n ls) (hq : ∀ q, S q → H1[q]? = H[q]?) (hS : ∀ q, S q → S' q) : LW κ o S' H1 al n ls := by
  obtain ⟨x, c, es, h1, h2, h3, h4⟩ := h
  refine ⟨x, c, es, h1.kept (hq _ h2) (hq _ h3), hS _ h2, hS _ h3, fun j hj => ?_⟩
  obtain ⟨a, g1, g2, g3⟩ := h4 j hj
  exact ⟨a, hS _ g1, g2.kept (hq _ g1), ExT.kept hq hS g3 (Nat.le_refl _)⟩
/-- the same under way -/
def LLn (κ : Kg) (o r w : Nat) (H : Heap) (al x c n : Nat) (es : Nat → Nat) (ls : Nat → Ln) : Prop := LA κ al x c n es H ∧ 0 < c ∧ r < al ∧ r < x ∧ al ≠ w ∧ x ≠ w ∧ ∀ j, j < n → ∃ a lo hi, t_OB (es j) (κ.D.1 11) 3 (κ.D.2 11) H (vp_V [.ref a, .int (ls j).2.1, .int (ls j).2.2]) ∧ r < es j ∧ es j ≠ w ∧ es j ≠ al ∧ es j ≠ x ∧ TR κ o r w H a (ls j).1 86 lo hi ∧ (al < lo ∨ hi ≤ al) ∧ (x < lo ∨ hi ≤ x)
theorem LLn.step {κ : Kg} {o r w w1 : Nat} {H H1 : Heap} {al x c n : Nat} {es : Nat → Nat} {ls : Nat → Ln} (h : LLn κ o r w H al x c n es ls) (hF : FrR κ r w H H1) (hw : w1 = w ∨ H.size ≤ w1) : LLn κ o r w1 H1 al x c n es ls := by
  obtain ⟨h1, h2, h3, h4, h5, h6, h8⟩ := h
  obtain ⟨l1, l2⟩ := h1.lt
  refine ⟨h1.kept (hF.2 _ l1 (by omega) (fun z => h5 z.1)) (hF.2 _ l2 (by omega) (fun z => h6 z.1)), h2, h3, h4, by omega, by omega, fun j hj => ?_⟩
  obtain ⟨a, lo, hi, g1, g2, g3, g4, g5, g6, g7⟩ := h8 j hj
  have gl := g1.lt
  exact ⟨a, lo, hi, g1.kept (hF.2 _ gl (by omega) (fun z => g3 z.1)), g2, by omega, g4, g5, g6.step hF hw, g7⟩
theorem LLn.new {κ : Kg} {o r w : Nat} {H H1 : Heap} {al x c n : Nat} {es : Nat → Nat} {ls : Nat → Ln} (h : LLn κ o r w H al x c n es ls) (hz : H.size ≤ H1.size) (hq : ∀ q : Nat, q < H.size → H1[q]? = H[q]?) : LLn κ o r w H1 al x c n es ls := by
  obtain ⟨h1, h2, h3, h4, h5, h6, h8⟩ := h
  obtain ⟨l1, l2⟩ := h1.lt
  refine ⟨h1.kept (hq _ l1) (hq _ l2), h2, h3, h4, h5, h6, fun j hj => ?_⟩
  obtain ⟨a, lo, hi, g1, g2, g3, g4, g5, g6, g7⟩ := h8 j hj
  exact ⟨a, lo, hi, g1.kept (hq _ g1.lt), g2, g3, g4, g5, g6.new hz hq, g7⟩
/-- one more line -/
theorem LLn.add {κ : Kg} {o r w : Nat} {H H1 : Heap} {al x x' c c' n y a : Nat} {es : Nat → Nat} {ls : Nat → Ln} {L : Ln} {lo hi : Nat} (h : LLn κ o r w H al x c n es ls) (hy : t_OB y (κ.D.1 11) 3 (κ.D.2 11) H (vp_V [.ref a, .int L.2.1, .int L.2.2])) (hyr : r < y) (hyw : y ≠ w) (hya : y ≠ al) (hyx : y ≠ x) (hT : TR κ o r w H a L.1 86 lo hi) (hl : al < lo ∨ hi ≤ al) (hx : x < lo ∨ hi ≤ x) (hwl : w < H.size) (hrl : r < H.size) (hLA : LA κ al x' c' (n + 1) (va_up es n y) H1) (hx' : x' = x ∨ H.size ≤ x') (hz : H.size ≤ H1.size) (hq : ∀ q : Nat, q < H.size → q ≠ al → q ≠ x → H1[q]? = H[q]?) : LLn κ o r w H1 al x' c' (n + 1) (va_up es n y) (updN ls n L) := by
  obtain ⟨h1, h2, h3, h4, h5, h6, h8⟩ := h
  have hThi := hT.hi
  have hyl := hy.lt
  refine ⟨hLA, by have := hLA.2.2.1; omega, h3, by omega, h5, by omega, fun j hj => ?_⟩
  unfold va_up updN
  by_cases hjn : j = n
  · rw [if_pos hjn, if_pos hjn]
    exact ⟨a, lo, hi, hy.kept (hq _ hyl hya hyx), hyr, hyw, hya, by omega, hT.lst hl hx hz hq, hl, by omega⟩
  · rw [if_neg hjn, if_neg hjn]
    obtain ⟨a2, lo2, hi2, g1, g2, g3, g4, g5, g6, g7, g8⟩ := h8 j (by omega)
    have := g6.hi
    have gl := g1.lt
    exact ⟨a2, lo2, hi2, g1.kept (hq _ gl g4 g5), g2, g3, g4, by omega, g6.lst g7 g8 hz hq, g7, by omega⟩
theorem LLn.fin {κ : Kg} {o r w : Nat} {H : Heap} {al x c n : Nat} {es : Nat → Nat} {ls : Nat → Ln} (h : LLn κ o r w H al x c n es ls) : LW κ o (fun q => r < q ∧ q < H.size) H al n ls := by
  obtain ⟨h1, h2, h3, h4, h5, h6, h8⟩ := h
  obtain ⟨l1, l2⟩ := h1.lt
  refine ⟨x, c, es, h1, ⟨h3, l1⟩, ⟨h4, l2⟩, fun j hj => ?_⟩
  obtain ⟨a, lo, hi, g1, g2, g3, g4, g5, ⟨wx, g6, g7, g8, g9⟩, -⟩ := h8 j hj
  exact ⟨a, ⟨g2, g1.lt⟩, g1, ExT.kept (fun _ _ => rfl) (fun q z => ⟨by have := z.1; omega, by have := z.2.1; omega⟩) g6 (Nat.le_refl _)⟩
/-- an end of text by an exception -/
def tErQ (κ : Kg) (r : Nat) (kd : Int32) (pl : Nat) (st : State) (oc : Outcome) (t : State) : Prop := ∃ x, oc = .threw x ∧ WO κ x kd pl t.heap ∧ r < x ∧ (∀ q : Nat, q < r → t.heap[q]? = st.heap[q]?) ∧ st.heap.size ≤ t.heap.size
section T0
variable {p : Program} {l : Launch} {e : Env} {s : State} {m : MethodId} {args : Array Value} {below : List Frame} {meth : Method} {c : Code} {H : Heap} {locs : List Loc} {cells slots : Nat} {Q : State → Prop}
variable {cc : ByteArray} {pc nL d mc ms : Nat} {ls : Array Slot} {rest : List Value} {κ : Kg} {o r al : Nat} {τ : Tp} {P tm w : Nat}
theorem QS.ob (h : QS κ o τ r s al P tm w H locs) : ∃ nu, t_OB r (κ.D.1 4) 8 (κ.D.2 4) H (rV (nI (te τ P)) (ts τ P) (nI (ws τ P)) nu (nI tm) w al o) ∧ (ts τ P = 2 → nu = tn τ P) := h.2.1.2.1
theorem QS.rl (h : QS κ o τ r s al P tm w H locs) : r < H.size := by
  obtain ⟨nu, hO, -⟩ := h.ob
  exact hO.lt
theorem QS.wl (h : QS κ o τ r s al P tm w H locs) : w < H.size := h.2.1.2.2.2.2
theorem qs_is (hexec : p.tables.exec = Jvm.exec) (hb : c.code = cc) (hml : c.maxLocals = nL) (hown : s.vm.findClass RX5 = some m.cls) (hts : ∀ w ∈ lw_all, w.before args s = true) (hP : QS κ o τ r s al P tm w H locs) (i : Nat) (hi : i < 20) (hdd : 2 < d) (hls : ls.size = nL) (hrest : (rest.map fun v => v.category).sum ≤ 8) (hdg : decode cc pc = .ok (.invokevirtual 93, 3)) (hf : cells ≤ mc ∧ slots ≤ ms)
    (kk : W p l e (rmC d mc ms) s m args below meth c H locs cells slots Q (F0 m (pc + 3) ls (.int (b2 (isW τ P i)) :: rest))) : W p l e (rmC d mc ms) s m args below meth c H locs cells slots Q (F0 m pc ls (.ref (κ.sK i) :: .ref r :: rest)) := by
  obtain ⟨nu, hO, -⟩ := hP.ob
  exact ro_call (x_runV (n := 1) (As := [.ref (κ.sK i)]) (rest := rest) hexec hb hml hown hts (metX5_is l κ o τ r P (nI tm) w al i hi) q730 q732 qs10 q73 q733 (by decide +kernel) hdd (by decide) rfl hP.1 hP.2.1 (ob_recv hP.1.1.1 rfl hO) hls hrest rfl hdg hf) kk
theorem qs_next (hexec : p.tables.exec = Jvm.exec) (hb : c.code = cc) (hml : c.maxLocals = nL) (hown : s.vm.findClass RX5 = some m.cls) (hts : ∀ w ∈ lw_all, w.before args s = true) (hP : QS κ o τ r s al P tm w H locs) (hro : o + 1 < r) (hrB : κ.base ≤ r) (hdd : 6 < d) (hls : ls.size = nL) (hrest : (rest.map fun v => v.category).sum ≤ 8) (hdg : decode cc pc = .ok (.invokevirtual 88, 3)) (hf : cells + 4 ≤ mc ∧ slots + 24 ≤ ms)
    (kk : ∀ (H1 : Heap) (locs1 : List Loc) (w1 : Nat), QS κ o τ r s al (te τ P) tm w1 H1 locs1 → FrR κ r w H H1 → (w1 = w ∨ H.size ≤ w1) → W p l e (rmC d mc ms) s m args below meth c H1 locs1 (cells + 4) (slots + 24) Q (F0 m (pc + 3) ls rest)) : W p l e (rmC d mc ms) s m args below meth c H locs cells slots Q (F0 m pc ls (.ref r :: rest)) := by
  obtain ⟨nu, hO, -⟩ := hP.ob
  have hrl := hP.rl
  refine x_called (x_runV (n := 0) (As := []) (rest := rest) hexec hb hml hown hts (metX5_next l κ o τ r (te τ P) (ts τ P) (nI (ws τ P)) nu (nI tm) w al hro hrB (te_le hP.2.1.2.2.2.1)) q459 q461 qs6 q73 q462 (by decide +kernel) hdd (by decide) rfl hP.1 ⟨⟨hP.2.1.1, hO⟩, hP.2.1.2.2.2.2⟩ (ob_recv hP.1.1.1 rfl hO) hls hrest rfl hdg hf) (fun v2 st t L hst hq hvm hL => ?_)
  obtain ⟨hv, ⟨w1, hM, hw1⟩, hq3, hq3b, hq4⟩ := hq
  cases hv
  rw [hst] at hw1 hq3 hq4
  have hF : FrR κ r w H t.heap := FrR.rf.nx hq3 hq4
  exact kk t.heap _ w1 ⟨hP.1.fr hrB hF, hM, fun q h => (fr_r hF hrl hP.2.2.2.1 q h).trans (hP.2.2.1 q h), (by rcases hw1 with z | z; (· rw [z]; exact hP.2.2.2.1); (· exact Or.inr (by omega))), lc_app hP.2.2.2.2.1 hL, Nat.le_trans hP.2.2.2.2.2 hF.1⟩ hF hw1
/-- the exception is thrown -/
theorem qs_wrong {Qc : Array Value → State → Outcome → State → Prop} {mc0 ms0 : Nat} (hexec : p.tables.exec = Jvm.exec) (hb : c.code = cc) (hml : c.maxLocals = nL) (hnh : ∀ x ∈ c.exceptionTable.toList, False) (hlk : meth.locks = false) (hown : s.vm.findClass RX5 = some m.cls) (hts : ∀ w ∈ lw_all, w.before args s = true) (hP : QS κ o τ r s al P tm w H locs) (hdd : 4 < d) (hls : ls.size = nL) (hdg : decode cc pc = .ok (.invokevirtual 101, 3)) (hdg2 : decode cc (pc + 3) = .ok (.athrow, 1)) (hf : cells + 1 ≤ mc ∧ slots + 8 ≤ ms) (hf0 : cells + 1 ≤ mc0 ∧ slots + 8 ≤ ms0)
    (hq : ∀ (oc : Outcome) (t : State), tErQ κ r (eKd τ P) (ws τ P) s oc t → Qc args s oc t) : W p l e (rmC d mc ms) s m args below meth c H locs cells slots (MQT below Qc args s mc0 ms0 (fun q => κ.base ≤ q)) (F0 m pc ls [.ref r]) := by
  obtain ⟨nu, hO, -⟩ := hP.ob
  have hrl := hP.rl
  refine x_called (x_runV (n := 0) (As := []) (rest := []) hexec hb hml hown hts (metX5_wrong l κ o τ r P (nI tm) w al) q746 q748 qs11 q73 q749 (by decide +kernel) hdd (by decide) rfl hP.1 hP.2.1 (ob_recv hP.1.1.1 rfl hO) hls (Nat.le_of_ble_eq_true rfl) rfl hdg hf) (fun v2 st t L hst hq2 hvm hL => ?_)
  obtain ⟨hv, hWO, hq3, hq4⟩ := hq2
  cases hv
  rw [hst] at hWO hq3 hq4
  refine W.eq (g2 := F0 m (pc + 3) ls [.ref H.size]) (by rw [hst]; rfl) ?_
  refine W.widen (k := mc0) (n := ms0) hf0.1 hf0.2 ?_
  exact W.throw hexec hb hnh (fun t2 ht hW => hq _ _ ⟨_, rfl, by rw [ht]; exact hWO, hrl, fun q h => by rw [ht]; exact (hq4 q (by omega)).trans (hP.2.2.1 q h), by rw [ht]; have := hP.2.2.2.2.2; omega⟩) (lc_no hP.2.2.2.2.1 hL) hdg2 hlk
/-- the call of either, or it throws -/
theorem qs_call {Qc : Array Value → State → Outcome → State → Prop} {mc0 ms0 mc' ms' e0 d' idx L n : Nat} {y : MethodName} {b : ByteArray} {As : List Value} {st0 : List Value} {res : Except (Int32 × Nat) (Sm × Nat × Nat)} (hexec : p.tables.exec = Jvm.exec) (hb : c.code = cc) (hml : c.maxLocals = nL) (hnh : ∀ x ∈ c.exceptionTable.toList, False) (hlk : meth.locks = false) (hown : s.vm.findClass RX5 = some m.cls) (hts : ∀ w ∈ lw_all, w.before args s = true) (hP : QS κ o τ r s al P tm w H locs) (hrB : κ.base ≤ r)
    (hMet : MetT l y (ws_ y b L (some (.object "HomeRoll$Ex"))) (rmC d' mc' ms') (xP κ (RT κ o τ r P (nI tm) w al) (.ref r :: As)) (prQ κ o τ r w al tm e0 res) mc' ms' (fun q => κ.base ≤ q)) (h1 : Cond.methodLink RX5 idx y ∈ lw_all) (h2 : Cond.instanceMethod y ∈ lw_all) (h3 : Cond.selects RX5 y y ∈ lw_all) (h5 : Cond.code y b L (some (.object "HomeRoll$Ex")) ∈ lw_all)
    (hd : y.cls = RX5 ∧ y.cls ≠ "java/lang/invoke/MethodHandle" ∧ y.cls ≠ "java/lang/invoke/VarHandle" ∧ (parseMethodDescriptor y.desc).map (fun d => d.parameters.length) = some n) (hdd : d' < d) (hL : L ≤ 41) (hn : As.length = n) (hls : ls.size = nL) (hrest : (rest.map fun v => v.category).sum ≤ 8) (hst : st0 = As.reverse ++ .ref r :: rest) (hdg : decode cc pc = .ok (.invokevirtual idx, 3)) (hf : cells + mc' ≤ mc ∧ slots + ms' ≤ ms) (hf0 : cells + mc' ≤ mc0 ∧ slots + ms' ≤ ms0)
    (herr : ∀ q, res = .error q → ∀ (oc : Outcome) (t : State), tErQ κ r q.1 q.2 s oc t → Qc args s oc t)
    (kk : ∀ (q : Sm × Nat × Nat), res = .ok q → ∀ (H1 : Heap) (locs1 : List Loc) (a w1 : Nat), QS κ o τ r s al q.2.1 q.2.2 w1 H1 locs1 → FrR κ r w H H1 → (w1 = w ∨ H.size ≤ w1) → ExT κ o (FP H.size H1.size w1) H1 (q.2.2 - tm + e0) a q.1 → W p l e (rmC d mc ms) s m args below meth c H1 locs1 (cells + mc') (slots + ms') (MQT below Qc args s mc0 ms0 (fun q => κ.base ≤ q)) (F0 m (pc + 3) ls (.ref a :: rest))) : W p l e (rmC d mc ms) s m args below meth c H locs cells slots (MQT below Qc args s mc0 ms0 (fun q => κ.base ≤ q)) (F0 m pc ls st0) := by
  obtain ⟨nu, hO, -⟩ := hP.ob
  have hrl := hP.rl
  refine t_call (x_runT (n := n) (As := As) (rest := rest) hexec hb hml hown hts hMet h1 h2 h3 q73 h5 hd hdd hL hn hP.1 hP.2.1 (ob_recv hP.1.1.1 rfl hO) hls hrest hst hdg hf) hnh hlk (fun x st t locs1 hst hvm hq hL => ?_) (fun v st t locs1 hst hvm hq hL => ?_)
  · obtain ⟨L1, rfl, hL1⟩ := hL
    cases hres : res with
    | error q =>
      rw [hres] at hq
      obtain ⟨x2, e1, hWO, hx2, hF⟩ := hq
      cases e1
      rw [hst] at hx2 hF
      refine ⟨fun t' ht hW => herr q hres _ _ ⟨x, rfl, by rw [ht]; exact hWO, by omega, fun q h => by rw [ht]; exact (fr_r hF hrl hP.2.2.2.1 q h).trans (hP.2.2.1 q h), by rw [ht]; exact Nat.le_trans hP.2.2.2.2.2 hF.1⟩, lc_app hP.2.2.2.2.1 hL1, hf0.1, hf0.2⟩
    | ok q =>
      rw [hres] at hq
      obtain ⟨a, w1, e1, -⟩ := hq
      cases e1
  · obtain ⟨L1, rfl, hL1⟩ := hL
    cases hres : res with
    | error q =>
      rw [hres] at hq
      obtain ⟨x2, e1, -⟩ := hq
      cases e1
    | ok q =>
      rw [hres] at hq
      obtain ⟨a, w1, e1, hM, hw1, hE, hF⟩ := hq
      cases e1
      rw [hst] at hw1 hE hF
      exact kk q hres t.heap _ a w1 ⟨hP.1.fr hrB hF, hM, fun q h => (fr_r hF hrl hP.2.2.2.1 q h).trans (hP.2.2.1 q h), (by rcases hw1 with z | z; (· rw [z]; exact hP.2.2.2.1); (· exact Or.inr (by omega))), lc_app hP.2.2.2.2.1 hL1, Nat.le_trans hP.2.2.2.2.2 hF.1⟩ hF hw1 hE
theorem QS.new {H1 : Heap} (h : QS κ o τ r s al P tm w H locs) (hz : H.size ≤ H1.size) (hq : ∀ q : Nat, q < H.size → H1[q]? = H[q]?) : QS κ o τ r s al P tm w H1 locs := by
  have hrl := h.rl
  obtain ⟨hK, ⟨hT, ⟨nu, hO, hnu⟩, hwd, hp, hw⟩, hF, hww, hL, hs⟩ := h
  have hb := hK.2.2
  refine ⟨hK.to (fun q h => hq q (by omega)) (by omega), ⟨hT.kept (hq _ (by have := hT.lt; omega)) (hq _ hT.lt), ⟨nu, hO.kept (hq _ hO.lt), hnu⟩, fun h1 => ?_, hp, by omega⟩, fun q h => (hq q (by omega)).trans (hF q h), hww, hL, by omega⟩
  obtain ⟨hB, v, h, z, hWS, hho, hv⟩ := hwd h1
  exact ⟨hB, v, h, z, hWS.kept (hq _ (t_OB.lt hWS.1)) (hq _ (Array.getElem?_eq_some_iff.mp hWS.2).1), hho, hv⟩
/-- a list of lines is written -/
theorem QS.lst {H1 : Heap} {L : List Loc} {x c n : Nat} {es : Nat → Nat} (h : QS κ o τ r s al P tm w H locs) (hLA : LA κ al x c n es H) (hli : r < al) (hx : r < x) (hrB : κ.base ≤ r) (hz : H.size ≤ H1.size) (hq : ∀ q : Nat, q < H.size → q ≠ al → q ≠ x → H1[q]? = H[q]?) (hL2 : ∀ y ∈ L, κ.base ≤ y.base) : QS κ o τ r s al P tm w H1 (locs ++ L) := by
  have hrl := h.rl
  obtain ⟨hK, ⟨hT, ⟨nu, hO, hnu⟩, hwd, hp, hw⟩, hF, hww, hL, hs⟩ := h
  have hb := hK.2.2
  obtain ⟨⟨V, hV, hV2⟩, hX, hm⟩ := id hT
  obtain ⟨⟨md, hl⟩, hxa, -⟩ := hLA
  have hol := hT.lt
  refine ⟨hK.to (fun q h => hq q (by omega) (by omega) (by omega)) (by omega), ⟨hT.kept (hq _ (by omega) (Ne.symm (tob_ne hK.1.1 (i := 12) (j := 0) rfl rfl (by decide) hl hV)) (toa_ne hK.1.1 (i := 0) rfl hV hxa)) (hq _ hol (Ne.symm (tob_nb hK.1.1 (i := 12) rfl (by decide) hl hX)) (Ne.symm (aab_ne hK.1.1 hxa hX))), ⟨nu, hO.kept (hq _ hO.lt (Ne.symm (tob_ne hK.1.1 (i := 12) (j := 4) rfl rfl (by decide) hl hO)) (toa_ne hK.1.1 (i := 4) rfl hO hxa)), hnu⟩, fun h1 => ?_, hp, by omega⟩, fun q h => (hq q (by omega) (by omega) (by omega)).trans (hF q h), hww, lc_app hL hL2, by omega⟩
  obtain ⟨hB, v, h, z, hWS, hho, hv⟩ := hwd h1
  have hW1 : t_OB w (κ.D.1 14) 4 (κ.D.2 14) H (vp_V [.ref v, .int 0, .int h, .int z]) := hWS.1
  exact ⟨hB, v, h, z, hWS.kept (hq _ hw (Ne.symm (tob_ne hK.1.1 (i := 12) (j := 14) rfl rfl (by decide) hl hW1)) (toa_ne hK.1.1 (i := 14) rfl hW1 hxa)) (hq _ (Array.getElem?_eq_some_iff.mp hWS.2).1 (Ne.symm (tob_nb hK.1.1 (i := 12) rfl (by decide) hl hWS.2)) (Ne.symm (aab_ne hK.1.1 hxa hWS.2))), hho, hv⟩
end T0
