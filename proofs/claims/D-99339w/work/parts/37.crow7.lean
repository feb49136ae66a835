set_option maxRecDepth 100000
theorem co_7 : Cond.castable RX7 "java/lang/Object" ∈ lw_tbl := q2556
theorem co_8 : Cond.castable RX9 "java/lang/Object" ∈ lw_tbl := q2557
theorem co_9 : Cond.castable RX10 "java/lang/Object" ∈ lw_tbl := q2559
theorem co_10 : Cond.castable RX11 "java/lang/Object" ∈ lw_tbl := q2560
theorem co_11 : Cond.castable RX12 "java/lang/Object" ∈ lw_tbl := q2561
theorem co_12 : Cond.castable RX13 "java/lang/Object" ∈ lw_tbl := q2562
theorem co_13 : Cond.castable RX15 "java/lang/Object" ∈ lw_tbl := q2563
theorem co_14 : Cond.castable RX16 "java/lang/Object" ∈ lw_tbl := q2564
theorem co_15 : Cond.castable RX17 "java/lang/Object" ∈ lw_tbl := q2565
theorem co_16 : Cond.castable RX18 "java/lang/Object" ∈ lw_tbl := q2566
theorem cv_8 : Cond.castable RX9 "MarginFolk$Value" ∈ lw_tbl := q2538
theorem cv_9 : Cond.castable RX10 "MarginFolk$Value" ∈ lw_tbl := q2541
theorem cv_10 : Cond.castable RX11 "MarginFolk$Value" ∈ lw_tbl := q2539
theorem cv_11 : Cond.castable RX12 "MarginFolk$Value" ∈ lw_tbl := q2537
theorem cv_12 : Cond.castable RX13 "MarginFolk$Value" ∈ lw_tbl := q2540
theorem ct_13 : Cond.castable RX15 "MarginFolk$Test" ∈ lw_tbl := q2543
theorem ct_14 : Cond.castable RX16 "MarginFolk$Test" ∈ lw_tbl := q2544
theorem ct_15 : Cond.castable RX17 "MarginFolk$Test" ∈ lw_tbl := q2542
theorem ct_16 : Cond.castable RX18 "MarginFolk$Test" ∈ lw_tbl := q2545
def isVal (k : Nat) : Bool := k == 8 || k == 9 || k == 10 || k == 11 || k == 12
def isTst (k : Nat) : Bool := k == 13 || k == 14 || k == 15 || k == 16
def isObj (k : Nat) : Bool := decide (7 ≤ k) && decide (k ≤ 16)
theorem isVal_s {k : Nat} (h : isVal k = true) : k = 8 ∨ k = 9 ∨ k = 10 ∨ k = 11 ∨ k = 12 := by
  simp only [isVal, Bool.or_eq_true, beq_iff_eq] at h
  omega
theorem isTst_s {k : Nat} (h : isTst k = true) : k = 13 ∨ k = 14 ∨ k = 15 ∨ k = 16 := by
  simp only [isTst, Bool.or_eq_true, beq_iff_eq] at h
  omega
theorem isObj_s {k : Nat} (h : isObj k = true) : k = 7 ∨ k = 8 ∨ k = 9 ∨ k = 10 ∨ k = 11 ∨ k = 12 ∨ k = 13 ∨ k = 14 ∨ k = 15 ∨ k = 16 := by
  simp only [isObj, Bool.and_eq_true, decide_eq_true_eq] at h
  omega
/-- what may be put into an array of references of the kind t -/
def okR (t k : Nat) : Bool := if t = 36 then k == 31 else if t = 38 then k == 6 else if t = 39 then isObj k else false
def tR (n t : Nat) (A : AH) (i : Nat) (j : Int32) (q : Nat) : Option AH := if ¬ (j < 0 ∨ n ≤ j.toNatClampNeg) ∧ okR t (aK A q) = true then some (wR A t i j.toNatClampNeg (some q)) else none
def uR_ (t : Nat) (A : AH) (i : Nat) (j : Int32) (q : Nat) : Option AH := if (aK A i = t ∧ ¬ (j < 0 ∨ aL A i ≤ j.toNatClampNeg)) ∧ okR t (aK A q) = true then some (wR A t i j.toNatClampNeg (some q)) else none
theorem tR_s {n t : Nat} {A : AH} {i q : Nat} {j : Int32} {β : Type} {g : AH → Option β} {z : β} (h : bo (tR n t A i j q) g = some z) : ∃ A2, (vp_in j n ∧ okR t (aK A q) = true) ∧ A2 = wR A t i j.toNatClampNeg (some q) ∧ g A2 = some z := by
  obtain ⟨r, h1, h2⟩ := bo_s h
  unfold tR at h1
  split at h1
  · next hc => cases h1; exact ⟨_, hc, rfl, h2⟩
  · cases h1
theorem uR_s {t : Nat} {A : AH} {i q : Nat} {j : Int32} {β : Type} {g : AH → Option β} {z : β} (h : bo (uR_ t A i j q) g = some z) : ∃ A2, ((aK A i = t ∧ vp_in j (aL A i)) ∧ okR t (aK A q) = true) ∧ A2 = wR A t i j.toNatClampNeg (some q) ∧ g A2 = some z := by
  obtain ⟨r, h1, h2⟩ := bo_s h
  unfold uR_ at h1
  split at h1
  · next hc => cases h1; exact ⟨_, hc, rfl, h2⟩
  · cases h1
theorem asg_self (vm : Vm) (c : ClassId) : vm.assignable c c = true := by
  show Vm.assignableAux vm (255 + 1) c c = true
  rw [Vm.assignableAux, beq_self_eq_true, Bool.true_or]
section C7
variable {p : Program} {l : Launch} {e : Env} {R : Room} {s : State} {m : MethodId} {args : Array Value} {below : List Frame} {meth : Method} {c : Code} {H : Heap} {locs : List Loc} {cells slots : Nat} {Q : State → Prop}
variable {cc : ByteArray} {pc : Nat} {ls : Array Slot} {rest : List Value} {own : String} {dC : Nat → ClassId} {dI : Nat → Nat → Nat} {ac : Nat → ClassId} {ad : Nat → Nat} {b : Prop} {H0 : Heap} {n0 s0 n1 s1 : Nat} {A A' : AH} {mc ms : Nat}
/-- a cast to Value -/
theorem c_castValue (E : cE p s m args own dC dI ac ad) (hb : c.code = cc) (hS : cS dC dI ac ad b H0 n0 s0 n1 s1 A H locs) {q index : Nat} (hk : aK A q = 8 ∨ aK A q = 9 ∨ aK A q = 10 ∨ aK A q = 11 ∨ aK A q = 12) (hl : Cond.classLink own index "MarginFolk$Value" ∈ lw_all) (hdg : decode cc pc = .ok (.checkcast index, 3))
    (kk : W p l e R s m args below meth c H locs cells slots Q (F0 m (pc + 3) ls (.ref (ad q) :: rest))) : W p l e R s m args below meth c H locs cells slots Q (F0 m pc ls (.ref (ad q) :: rest)) := by
  rcases hk with h | h | h | h | h
  · exact va_castY E.1 hb E.2.1 (E.2.2.1 _ hl) (E.2.2.2.2.1 _ cv_8 rfl) (c_recv E hS ci_8 h (hS.1.lt h rfl)) hdg kk
  · exact va_castY E.1 hb E.2.1 (E.2.2.1 _ hl) (E.2.2.2.2.1 _ cv_9 rfl) (c_recv E hS ci_9 h (hS.1.lt h rfl)) hdg kk
  · exact va_castY E.1 hb E.2.1 (E.2.2.1 _ hl) (E.2.2.2.2.1 _ cv_10 rfl) (c_recv E hS ci_10 h (hS.1.lt h rfl)) hdg kk
  · exact va_castY E.1 hb E.2.1 (E.2.2.1 _ hl) (E.2.2.2.2.1 _ cv_11 rfl) (c_recv E hS ci_11 h (hS.1.lt h rfl)) hdg kk
  · exact va_castY E.1 hb E.2.1 (E.2.2.1 _ hl) (E.2.2.2.2.1 _ cv_12 rfl) (c_recv E hS ci_12 h (hS.1.lt h rfl)) hdg kk
/-- a cast to Test -/
theorem c_castTest (E : cE p s m args own dC dI ac ad) (hb : c.code = cc) (hS : cS dC dI ac ad b H0 n0 s0 n1 s1 A H locs) {q index : Nat} (hk : aK A q = 13 ∨ aK A q = 14 ∨ aK A q = 15 ∨ aK A q = 16) (hl : Cond.classLink own index "MarginFolk$Test" ∈ lw_all) (hdg : decode cc pc = .ok (.checkcast index, 3))
    (kk : W p l e R s m args below meth c H locs cells slots Q (F0 m (pc + 3) ls (.ref (ad q) :: rest))) : W p l e R s m args below meth c H locs cells slots Q (F0 m pc ls (.ref (ad q) :: rest)) := by
  rcases hk with h | h | h | h
  · exact va_castY E.1 hb E.2.1 (E.2.2.1 _ hl) (E.2.2.2.2.1 _ ct_13 rfl) (c_recv E hS ci_13 h (hS.1.lt h rfl)) hdg kk
  · exact va_castY E.1 hb E.2.1 (E.2.2.1 _ hl) (E.2.2.2.2.1 _ ct_14 rfl) (c_recv E hS ci_14 h (hS.1.lt h rfl)) hdg kk
  · exact va_castY E.1 hb E.2.1 (E.2.2.1 _ hl) (E.2.2.2.2.1 _ ct_15 rfl) (c_recv E hS ci_15 h (hS.1.lt h rfl)) hdg kk
  · exact va_castY E.1 hb E.2.1 (E.2.2.1 _ hl) (E.2.2.2.2.1 _ ct_16 rfl) (c_recv E hS ci_16 h (hS.1.lt h rfl)) hdg kk
theorem c_castS (E : cE p s m args own dC dI ac ad) (hb : c.code = cc) (hS : cS dC dI ac ad b H0 n0 s0 n1 s1 A H locs) {q index kd : Nat} {C : String} {T : u_T} {N : Nat} {ty : Nat → FieldType} (hci : CI kd C T N ty) (hn : nck kd = true) (hk : aK A q = kd) (hl : Cond.classLink own index C ∈ lw_all) (hdg : decode cc pc = .ok (.checkcast index, 3))
    (kk : W p l e R s m args below meth c H locs cells slots Q (F0 m (pc + 3) ls (.ref (ad q) :: rest))) : W p l e R s m args below meth c H locs cells slots Q (F0 m pc ls (.ref (ad q) :: rest)) :=
  va_castS E.1 hb E.2.1 (E.2.2.1 _ hl) (E.2.2.2.1.1 (kd - 1) _ hci.1).2 (c_recv E hS hci hk (hS.1.lt hk hn)) hdg kk
theorem rR_w (ad : Nat → Nat) (A : AH) (t i j q : Nat) : (fun k => (aR (wR A t i j (some q)) t i k).map ad) = va_up (fun k => (aR A t i k).map ad) j (some (ad q)) := by
  funext k
  by_cases h : k = j <;> simp [aR_wR, va_up, h]
/-- a reference into an array: the value's class may stand there -/
theorem c_ast0 (E : cE p s m args own dC dI ac ad) (hb : c.code = cc) (hS : cS dC dI ac ad b H0 n0 s0 n1 s1 A H locs) {i t q : Nat} {j : Int32} (hk : aK A i = t) (hi : i < aN A) (ht : 36 ≤ t) (hin : vp_in j (aL A i)) (hw : A' = wR A t i j.toNatClampNeg (some q)) (hsk : skey t = false)
    {kA kE kV : Class} {comp : ClassId} {cellV : Cell} {cty : FieldType} (k1 : s.vm.classes[ac t]? = some kA) (k2 : kA.kind = .array comp cty) (hrf : cty.isReference = true) (hkE : s.vm.classes[comp]? = some kE) (g1 : H[ad q]? = some cellV) (g3 : cellV.vm = .none) (hkV : s.vm.classes[cellV.cls]? = some kV) (hasg : s.vm.assignable cellV.cls comp = true) (hdg : decode cc pc = .ok (.aastore, 1))
    (kk : ∀ (H : Heap) (locs : List Loc), cS dC dI ac ad b H0 n0 s0 n1 s1 A' H locs → W p l e R s m args below meth c H locs cells slots Q (F0 m (pc + 1) ls rest)) : W p l e R s m args below meth c H locs cells slots Q (F0 m pc ls (.ref (ad q) :: .int j :: .ref (ad i) :: rest)) := by
  subst hw
  have hCB : i < CB := Nat.lt_of_lt_of_le hi hS.1.2.2.2.2.1
  have h0 : H[ad i]? = some (vp_cell (ac t) (aL A i, .inr (.inr (.inr (.inr (fun j => (aR A t i j).map ad)))))) := by rw [cAt hS hk (by omega) hi, cco_R ad A i ht]
  have hlt : j.toNatClampNeg < aL A i := Nat.not_le.mp fun q => hin (Or.inr q)
  have hj : ¬ j < 0 := fun q => hin (Or.inl q)
  refine W.aast E.1 hb h0 (fun q h => by cases h) (fun h => by cases h) k1 k2 hrf hkE ⟨hj, by show _ < (arrV _ _ _).slots.size; rw [arrV_size]; exact hlt⟩ g1 (fun q h => by rw [g3] at h; cases h) hkV hasg rfl rfl hdg fun H1 e z oq => kk H1 _ ?_
  refine cS_ar hS hk (by omega) hi rfl rfl rfl rfl (fun q hq => cce_wRo ad ac A _ i _ _ hq) (fun _ h => CST_wR hsk h) (CCT_wR hCB) ?_ z oq
  rw [e, cco_R ad _ i ht, rR_w, vp_cell_q, vp_cell_q, arrV_store]
  congr 2
  funext q
  by_cases hq : q = j.toNatClampNeg
  · subst hq
    simp [updV, va_up, va_rf]
  · simp [updV, va_up, hq]
theorem c_obj (E : cE p s m args own dC dI ac ad) (hS : cS dC dI ac ad b H0 n0 s0 n1 s1 A H locs) {kd q : Nat} {C : String} {T : u_T} {N : Nat} {ty : Nat → FieldType} (hci : CI kd C T N ty) (hk : aK A q = kd) (hi : q < aN A) : ∃ cell : Cell, H[ad q]? = some cell ∧ cell.vm = .none ∧ cell.cls = dC (kd - 1) := by
  have he : (wC ad ac A)[q]? = some (ad q, .inr (kd - 1, cfs ad A kd q)) := by rw [wC_at ad ac A hi, cce_ob ad ac A hk hci.2.2.2.2.2.2]
  obtain ⟨r, h1, cell, q1, q2, q3, q4⟩ := hS.1.1 q _ he
  exact ⟨cell, q1, q3, q2⟩
/-- a State into a State[] -/
theorem c_ast38 (E : cE p s m args own dC dI ac ad) (hb : c.code = cc) (hS : cS dC dI ac ad b H0 n0 s0 n1 s1 A H locs) {i q : Nat} {j : Int32} (hg : aK A i = 38 ∧ vp_in j (aL A i)) (hq : okR 38 (aK A q) = true) (hw : A' = wR A 38 i j.toNatClampNeg (some q)) (hdg : decode cc pc = .ok (.aastore, 1))
    (kk : ∀ (H : Heap) (locs : List Loc), cS dC dI ac ad b H0 n0 s0 n1 s1 A' H locs → W p l e R s m args below meth c H locs cells slots Q (F0 m (pc + 1) ls rest)) : W p l e R s m args below meth c H locs cells slots Q (F0 m pc ls (.ref (ad q) :: .int j :: .ref (ad i) :: rest)) := by
  have hq6 : aK A q = 6 := by simpa [okR] using hq
  obtain ⟨cellV, g1, g3, g2⟩ := c_obj E hS ci_6 hq6 (hS.1.lt hq6 rfl)
  have hcls := (E.2.2.2.1.1 5 _ ci_6.1).2
  obtain ⟨kA, comp, k1, k2, k3, -⟩ := (E.2.2.2.1.2 7 _ rfl).2
  have hcomp : comp = dC 5 := Option.some.inj (k3.symm.trans hcls.1)
  subst hcomp
  obtain ⟨kC, hkC, -⟩ := hcls.2
  exact c_ast0 E hb hS hg.1 (hS.1.lt hg.1 rfl) (by decide) hg.2 hw rfl k1 k2 rfl hkC g1 g3 (by rw [g2]; exact hkC) (by rw [g2]; exact va_assign hcls) hdg kk
/-- an int[] into an int[][] -/
theorem c_ast36 (E : cE p s m args own dC dI ac ad) (hb : c.code = cc) (hS : cS dC dI ac ad b H0 n0 s0 n1 s1 A H locs) {i q : Nat} {j : Int32} (hg : aK A i = 36 ∧ vp_in j (aL A i)) (hq : okR 36 (aK A q) = true) (hw : A' = wR A 36 i j.toNatClampNeg (some q)) (hdg : decode cc pc = .ok (.aastore, 1))
    (kk : ∀ (H : Heap) (locs : List Loc), cS dC dI ac ad b H0 n0 s0 n1 s1 A' H locs → W p l e R s m args below meth c H locs cells slots Q (F0 m (pc + 1) ls rest)) : W p l e R s m args below meth c H locs cells slots Q (F0 m pc ls (.ref (ad q) :: .int j :: .ref (ad i) :: rest)) := by
  have hq6 : aK A q = 31 := by simpa [okR] using hq
  have hv := cAt hS hq6 (by decide) (hS.1.lt hq6 rfl)
  obtain ⟨⟨kA, k1, k2⟩, kB, k3⟩ := E.2.2.2.2.2.1
  rw [cco_I ad A q (by decide), vp_cell_i] at hv
  exact c_ast0 E hb hS hg.1 (hS.1.lt hg.1 rfl) (by decide) hg.2 hw rfl k1 k2 rfl k3 hv rfl k3 (asg_self _ _) hdg kk
/-- an object into an Object[] -/
theorem c_ast39 (E : cE p s m args own dC dI ac ad) (hb : c.code = cc) (hS : cS dC dI ac ad b H0 n0 s0 n1 s1 A H locs) {i q kd : Nat} {j : Int32} (hg : aK A i = 39 ∧ vp_in j (aL A i)) (hw : A' = wR A 39 i j.toNatClampNeg (some q)) (hdg : decode cc pc = .ok (.aastore, 1)) {C : String} {T : u_T} {N : Nat} {ty : Nat → FieldType} (hci : CI kd C T N ty) (hk : aK A q = kd) (hca : Cond.castable C "java/lang/Object" ∈ lw_tbl)
    (kk : ∀ (H : Heap) (locs : List Loc), cS dC dI ac ad b H0 n0 s0 n1 s1 A' H locs → W p l e R s m args below meth c H locs cells slots Q (F0 m (pc + 1) ls rest)) (hn : nck kd = true := by rfl) : W p l e R s m args below meth c H locs cells slots Q (F0 m pc ls (.ref (ad q) :: .int j :: .ref (ad i) :: rest)) := by
  obtain ⟨cellV, g1, g3, g2⟩ := c_obj E hS hci hk (hS.1.lt hk hn)
  have hcls := (E.2.2.2.1.1 (kd - 1) _ hci.1).2
  obtain ⟨kA, comp, k1, k2, k3, -⟩ := (E.2.2.2.1.2 8 _ rfl).2
  obtain ⟨kE, hkE, -⟩ := Vm.findClass_spec k3
  obtain ⟨c0, t1, f1, f2, f3⟩ := Cond.castable_spec (va_Nw.use (A := args) rfl (E.2.2.2.2.1 _ hca rfl))
  cases hcls.1.symm.trans f1
  cases k3.symm.trans f2
  obtain ⟨kC, hkC, -⟩ := hcls.2
  exact c_ast0 E hb hS hg.1 (hS.1.lt hg.1 rfl) (by decide) hg.2 hw rfl k1 k2 rfl hkE g1 g3 (by rw [g2]; exact hkC) (by rw [g2]; exact f3) hdg kk
theorem c_astO (E : cE p s m args own dC dI ac ad) (hb : c.code = cc) (hS : cS dC dI ac ad b H0 n0 s0 n1 s1 A H locs) {i q : Nat} {j : Int32} (hg : aK A i = 39 ∧ vp_in j (aL A i)) (hq : okR 39 (aK A q) = true) (hw : A' = wR A 39 i j.toNatClampNeg (some q)) (hdg : decode cc pc = .ok (.aastore, 1))
    (kk : ∀ (H : Heap) (locs : List Loc), cS dC dI ac ad b H0 n0 s0 n1 s1 A' H locs → W p l e R s m args below meth c H locs cells slots Q (F0 m (pc + 1) ls rest)) : W p l e R s m args below meth c H locs cells slots Q (F0 m pc ls (.ref (ad q) :: .int j :: .ref (ad i) :: rest)) := by
  have hq9 : isObj (aK A q) = true := by simpa [okR] using hq
  rcases isObj_s hq9 with h | h | h | h | h | h | h | h | h | h
  · exact c_ast39 E hb hS hg hw hdg ci_7 h co_7 kk
  · exact c_ast39 E hb hS hg hw hdg ci_8 h co_8 kk
  · exact c_ast39 E hb hS hg hw hdg ci_9 h co_9 kk
  · exact c_ast39 E hb hS hg hw hdg ci_10 h co_10 kk
  · exact c_ast39 E hb hS hg hw hdg ci_11 h co_11 kk
  · exact c_ast39 E hb hS hg hw hdg ci_12 h co_12 kk
  · exact c_ast39 E hb hS hg hw hdg ci_13 h co_13 kk
  · exact c_ast39 E hb hS hg hw hdg ci_14 h co_14 kk
  · exact c_ast39 E hb hS hg hw hdg ci_15 h co_15 kk
  · exact c_ast39 E hb hS hg hw hdg ci_16 h co_16 kk
/-! behind a call through an interface -/
theorem c_kFi {A0 : AH} {m1 t1 : Nat} (hS : cS dC dI ac ad b s.heap n0 s0 n1 s1 A0 H locs) {a : Array Value} {st0 : List Value} {r : Int32} (hr : va_Run5 p l e R s m args below meth c H locs cells slots mc ms (F0 m pc ls st0) rest (cQi dC dI ac ad b (aN A0) (aS A0) m1 t1 r A' a) (cF ad)) (hle : m1 ≤ n1 ∧ t1 ≤ s1)
    (kk : ∀ (H : Heap) (locs : List Loc), cS dC dI ac ad b s.heap n0 s0 n1 s1 A' H locs → aN A0 ≤ aN A' ∧ aS A0 ≤ aS A' → W p l e R s m args below meth c H locs (cells + mc) (slots + ms) Q (F0 m (pc + 5) ls (.int r :: rest))) : W p l e R s m args below meth c H locs cells slots Q (F0 m pc ls st0) := by
  refine va_callFi hr hS.2.1 (fun q _ h => h) (fun q h => h) (fun v u t H1 locs1 ht hvm hv hB _ _ hSS => ?_)
  subst hv
  refine kk H1 locs1 ⟨?_, hSS, Nat.le_trans hS.2.2.1 hB.2.1, Nat.le_trans hS.2.2.2.1 hB.2.2.1, Nat.le_trans hB.2.2.2.1 hle.1, Nat.le_trans hB.2.2.2.2 hle.2⟩ ⟨hB.2.1, hB.2.2.1⟩
  rw [← ht]
  exact hB.1.1
theorem c_kFq {A0 : AH} {m1 t1 : Nat} (hS : cS dC dI ac ad b s.heap n0 s0 n1 s1 A0 H locs) {a : Array Value} {st0 : List Value} {r : Option Nat} (hr : va_Run5 p l e R s m args below meth c H locs cells slots mc ms (F0 m pc ls st0) rest (cQq dC dI ac ad b (aN A0) (aS A0) m1 t1 r A' a) (cF ad)) (hle : m1 ≤ n1 ∧ t1 ≤ s1)
    (kk : ∀ (H : Heap) (locs : List Loc), cS dC dI ac ad b s.heap n0 s0 n1 s1 A' H locs → aN A0 ≤ aN A' ∧ aS A0 ≤ aS A' → W p l e R s m args below meth c H locs (cells + mc) (slots + ms) Q (F0 m (pc + 5) ls (va_rf (r.map ad) :: rest))) : W p l e R s m args below meth c H locs cells slots Q (F0 m pc ls st0) := by
  refine va_callFq hr hS.2.1 (fun q _ h => h) (fun q h => h) (fun v u t H1 locs1 ht hvm hv hB _ _ hSS => ?_)
  subst hv
  refine kk H1 locs1 ⟨?_, hSS, Nat.le_trans hS.2.2.1 hB.2.1, Nat.le_trans hS.2.2.2.1 hB.2.2.1, Nat.le_trans hB.2.2.2.1 hle.1, Nat.le_trans hB.2.2.2.2 hle.2⟩ ⟨hB.2.1, hB.2.2.1⟩
  rw [← ht]
  exact hB.1.1
end C7
