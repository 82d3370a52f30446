/-! Reader.both, Reader.either, Reader.one. By tools/gen_r9.py -/
set_option maxRecDepth 100000
theorem lstL_tm {τ : Tp} {kw : Nat} {al : Bool} {el : Nat → Nat → PO} (hel : ∀ (p tm : Nat) (q : Sm × Nat × Nat), tm ≤ 80 → (el p tm).1 = .ok q → tm < q.2.2 ∧ q.2.2 ≤ 80) : ∀ (k n : Nat) (fs : Nat → Sm) (p tm ca sa : Nat) (q : Sm × Nat × Nat), tm ≤ 80 → (lstL τ kw al el k n fs p tm ca sa).1 = .ok q → tm ≤ q.2.2 ∧ q.2.2 ≤ 80
  | 0, _, _, _, _, _, _, q, h, e => by cases e; exact ⟨Nat.le_refl _, h⟩
  | k + 1, n, fs, p, tm, ca, sa, q, h, e => by
    rw [lstL] at e
    split at e
    · cases hpt : (el (te τ p) tm).1 with
      | error q2 => rw [hpt] at e; cases e
      | ok q2 =>
        rw [hpt] at e
        have h1 := hel _ _ q2 h hpt
        have := lstL_tm hel k _ _ _ _ _ _ q (by omega) e
        omega
    · cases e; exact ⟨Nat.le_refl _, h⟩
theorem pLst_tm {τ : Tp} {kw : Nat} {al : Bool} {el : Nat → Nat → PO} (hel : ∀ (p tm : Nat) (q : Sm × Nat × Nat), tm ≤ 80 → (el p tm).1 = .ok q → tm < q.2.2 ∧ q.2.2 ≤ 80) (p tm : Nat) (q : Sm × Nat × Nat) (h : tm ≤ 80) (e : (pLst τ kw al el p tm).1 = .ok q) : tm < q.2.2 ∧ q.2.2 ≤ 80 := by
  unfold pLst at e
  cases hpt : (el p tm).1 with
  | error q2 => rw [hpt] at e; cases e
  | ok q2 =>
    rw [hpt] at e
    have h1 := hel _ _ q2 h hpt
    have := lstL_tm hel _ _ _ _ _ _ _ q (by omega) e
    omega
theorem pEi_tm {τ : Tp} {e : Nat} {one : Nat → Nat → PO} (hel : ∀ (p tm : Nat) (q : Sm × Nat × Nat), tm ≤ 80 → (one p tm).1 = .ok q → tm < q.2.2 ∧ q.2.2 ≤ 80) (p tm : Nat) (q : Sm × Nat × Nat) (h : tm ≤ 80) (hq : (pEi τ e one p tm).1 = .ok q) : tm < q.2.2 ∧ q.2.2 ≤ 80 := by
  unfold pEi at hq
  split at hq
  · exact pLst_tm (el := pLst τ 13 true one) (fun p tm q h e => pLst_tm hel p tm q h e) p tm q h hq
  · exact absurd hq (fun z => by unfold eR at z; cases z)
theorem pOne_tm {τ : Tp} : ∀ (e p tm : Nat) (q : Sm × Nat × Nat), tm ≤ 80 → (pOne τ e p tm).1 = .ok q → tm < q.2.2 ∧ q.2.2 ≤ 80
  | 0, p, tm, q, _, h => absurd h (fun z => by unfold pOne eR at z; cases z)
  | e + 1, p, tm, q, h, hq => by
    rw [pOne] at hq
    split at hq
    · split at hq
      · cases hpt : (pOne τ e (te τ p) tm).1 with
        | error q2 => rw [hpt] at hq; cases hq
        | ok q2 =>
          rw [hpt] at hq
          cases hq
          exact pOne_tm e _ _ q2 h hpt
      · split at hq
        · cases hpt : (pEi τ e (pOne τ e) (te τ p) tm).1 with
          | error q2 => rw [hpt] at hq; cases hq
          | ok q2 =>
            rw [hpt] at hq
            have h1 := pEi_tm (pOne_tm e) _ _ q2 h hpt
            have hq : (if ts τ q2.2.1 = 41 then .ok (q2.1, te τ q2.2.1, q2.2.2) else eR τ q2.2.1 : Except (Int32 × Nat) (Sm × Nat × Nat)) = .ok q := hq
            split at hq
            · cases hq; exact h1
            · cases hq
        · cases hpt : (pSum τ p tm).1 with
          | error q2 => rw [hpt] at hq; cases hq
          | ok q2 =>
            rw [hpt] at hq
            have h1 := pSum_tm h hpt
            dsimp only at hq
            split at hq
            · cases hp2 : (pSum τ (te τ q2.2.1) q2.2.2).1 with
              | error q3 => rw [hp2] at hq; cases hq
              | ok q3 =>
                rw [hp2] at hq
                cases hq
                have h2 := pSum_tm h1.2 hp2
                exact ⟨by show tm < q3.2.2; omega, h2.2⟩
            · cases hq; exact h1
    · cases hq
theorem lstL_add {τ : Tp} {kw : Nat} {al : Bool} {el : Nat → Nat → PO} (x y : Nat) : ∀ (k n : Nat) (fs : Nat → Sm) (p tm ca sa : Nat), lstL τ kw al el k n fs p tm (x + ca) (y + sa) = ((lstL τ kw al el k n fs p tm ca sa).1, x + (lstL τ kw al el k n fs p tm ca sa).2.1, y + (lstL τ kw al el k n fs p tm ca sa).2.2)
  | 0, _, _, _, _, _, _ => rfl
  | k + 1, n, fs, p, tm, ca, sa => by
    rw [lstL, lstL]
    by_cases hw : isW τ p kw = true
    · rw [if_pos hw, if_pos hw]
      cases hpt : (el (te τ p) tm).1 with
      | error q => simp only [Prod.mk.injEq, true_and]; exact ⟨by omega, by omega⟩
      | ok q =>
        have h := lstL_add (τ := τ) (kw := kw) (al := al) (el := el) x y k (n + 1) (updS fs n q.1) q.2.1 q.2.2 (ca + 4 + (el (te τ p) tm).2.1 + 1) (sa + 24 + (el (te τ p) tm).2.2 + capG n)
        dsimp only
        rw [show x + ca + 4 + (el (te τ p) tm).2.1 + 1 = x + (ca + 4 + (el (te τ p) tm).2.1 + 1) by omega, show y + sa + 24 + (el (te τ p) tm).2.2 + capG n = y + (sa + 24 + (el (te τ p) tm).2.2 + capG n) by omega]
        exact h
    · rw [if_neg hw, if_neg hw]
      simp only [Prod.mk.injEq, true_and]
      exact ⟨by omega, by omega⟩
theorem pLst_ge {τ : Tp} {kw : Nat} {al : Bool} {el : Nat → Nat → PO} (p tm : Nat) : 2 + (el p tm).2.1 ≤ (pLst τ kw al el p tm).2.1 ∧ 5 + (el p tm).2.2 ≤ (pLst τ kw al el p tm).2.2 ∧ ∀ q, (el p tm).1 = .ok q → 2 + (el p tm).2.1 + 1 + 1 ≤ (pLst τ kw al el p tm).2.1 ∧ 5 + (el p tm).2.2 + capG 0 + 4 ≤ (pLst τ kw al el p tm).2.2 := by
  unfold pLst
  cases hpt : (el p tm).1 with
  | error q => exact ⟨Nat.le_refl _, Nat.le_refl _, fun q h => by cases h⟩
  | ok q =>
    have h := lstL_g (τ := τ) (kw := kw) (al := al) (el := el) (81 - q.2.2) 1 (fun _ => q.1) q.2.1 q.2.2 (2 + (el p tm).2.1 + 1) (5 + (el p tm).2.2 + capG 0)
    dsimp only
    exact ⟨by omega, by omega, fun _ _ => ⟨by omega, by omega⟩⟩
/-- either's list, behind the look at the nesting -/
def pEd (τ : Tp) (d : Nat) (el : Nat → Nat → PO) (p tm : Nat) : PO := if dpOk τ p d = true then ((pLst τ 14 false el p tm).1, 1 + (pLst τ 14 false el p tm).2.1, 8 + (pLst τ 14 false el p tm).2.2) else (eR τ p, 1, 8)
theorem pEd_t {τ : Tp} {d : Nat} {el : Nat → Nat → PO} {p tm : Nat} (h : dpOk τ p d = true) : pEd τ d el p tm = ((pLst τ 14 false el p tm).1, 1 + (pLst τ 14 false el p tm).2.1, 8 + (pLst τ 14 false el p tm).2.2) := if_pos h
theorem pEd_f {τ : Tp} {d : Nat} {el : Nat → Nat → PO} {p tm : Nat} (h : dpOk τ p d = false) : pEd τ d el p tm = (eR τ p, 1, 8) := if_neg (by rw [h]; decide)
theorem pEd_ge {τ : Tp} {d : Nat} {el : Nat → Nat → PO} {p tm : Nat} : 1 ≤ (pEd τ d el p tm).2.1 ∧ 8 ≤ (pEd τ d el p tm).2.2 := by
  cases h : dpOk τ p d with
  | true => rw [pEd_t h]; exact ⟨Nat.le_add_right _ _, Nat.le_add_right _ _⟩
  | false => rw [pEd_f h]; exact ⟨Nat.le_refl _, Nat.le_refl _⟩
theorem pEi_d {τ : Tp} {e d : Nat} {one : Nat → Nat → PO} {p tm : Nat} (h : d + e = 6) : pEi τ e one p tm = pEd τ d (pLst τ 13 true one) p tm := by
  unfold pEi pEd
  rw [show 6 - e = d by omega]
section R9
variable {p : Program} {l : Launch} {e : Env} {s : State} {m : MethodId} {args : Array Value} {below : List Frame} {meth : Method} {c : Code} {H : Heap} {locs : List Loc} {cells slots : Nat} {Q : State → Prop}
variable {pc nL d mc ms : Nat} {ls : Array Slot} {rest : List Value} {κ : Kg} {o r al : Nat} {τ : Tp} {cc : ByteArray} {P tm w w0 : Nat}
/-- the look at the nesting -/
theorem ps_deep {Qc : Array Value → State → Outcome → State → Prop} {mc0 ms0 dd : Nat} (hexec : p.tables.exec = Jvm.exec) (hb : c.code = cc) (hml : c.maxLocals = nL) (hnh : ∀ x ∈ c.exceptionTable.toList, False) (hlk : meth.locks = false) (hown : s.vm.findClass RX5 = some m.cls) (hts : ∀ w ∈ lw_all, w.before args s = true) (hP : PS κ o τ r s w0 al P tm w H locs) (hrB : κ.base ≤ r) (h6 : dd ≤ 6) (hdd : 6 < d) (hls : ls.size = nL) (hrest : (rest.map fun v => v.category).sum ≤ 8) (hdg : decode cc pc = .ok (.invokevirtual 139, 3)) (hf : cells + 1 ≤ mc ∧ slots + 8 ≤ ms) (hf0 : cells + 1 ≤ mc0 ∧ slots + 8 ≤ ms0)
    (herr : dpOk τ P dd = false → ∀ (oc : Outcome) (t : State), erQ κ r w0 (eKd τ P) (ws τ P) s oc t → Qc args s oc t)
    (kk : dpOk τ P dd = true → ∀ (H1 : Heap) (locs1 : List Loc), PS κ o τ r s w0 al P tm w H1 locs1 → FrR κ r w H H1 → H1.size = H.size → W p l e (rmC d mc ms) s m args below meth c H1 locs1 (cells + 1) (slots + 8) (MQT below Qc args s mc0 ms0 (fun q => κ.base ≤ q)) (F0 m (pc + 3) ls rest)) : W p l e (rmC d mc ms) s m args below meth c H locs cells slots (MQT below Qc args s mc0 ms0 (fun q => κ.base ≤ q)) (F0 m pc ls (.int (nI dd) :: .ref r :: rest)) := by
  obtain ⟨nu, hO, -⟩ := hP.ob
  refine t_call (x_runT (n := 1) (As := [.int (nI dd)]) (rest := rest) hexec hb hml hown hts (metX5_deep l κ o τ r P (nI tm) w al dd h6) q821 q823 qs14 q73 q824 (by decide +kernel) hdd (by decide) rfl hP.1 hP.2.1 (ob_recv hP.1.1.1 rfl hO) hls hrest rfl hdg hf) hnh hlk (fun x st t locs1 hst hvm hq hL => ?_) (fun v st t locs1 hst hvm hq hL => ?_)
  · obtain ⟨L1, rfl, hL1⟩ := hL
    rcases hq with ⟨_, hq⟩ | ⟨hf, hq⟩
    · cases hq.1
    · obtain ⟨x2, e1, hWO, hx2, hF⟩ := hq
      cases e1
      rw [hst] at hx2 hF
      refine ⟨fun t' ht hW => herr hf _ _ ⟨x, rfl, by rw [ht]; exact hWO, Nat.le_trans hP.2.2.1.1 hx2, by rw [ht]; exact hP.2.2.1.trans hP.2.2.2.1 hF⟩, lc_app hP.2.2.2.2 hL1, hf0.1, hf0.2⟩
  · obtain ⟨L1, rfl, hL1⟩ := hL
    rcases hq with ⟨ht, hv, hM, hz, hq⟩ | ⟨_, hq⟩
    · cases hv
      rw [hst] at hz hq
      have hF : FrR κ r w H t.heap := ⟨by omega, fun q _ _ h3 => hq q h3⟩
      exact kk ht t.heap _ ⟨hP.1.fr hrB hF, hM, hP.2.2.1.trans hP.2.2.2.1 hF, hP.2.2.2.1, lc_app hP.2.2.2.2 hL1⟩ hF hz
    · obtain ⟨x2, e1, -⟩ := hq
      cases e1
end R9
