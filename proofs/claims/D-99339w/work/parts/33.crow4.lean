/-! ROWS OF THE COMPONENT'S WORLD: ends of methods, calls -/
set_option maxRecDepth 100000
def cPost (dC : Nat → ClassId) (dI : Nat → Nat → Nat) (ac : Nat → ClassId) (ad : Nat → Nat) (b : Prop) (n0 s0 n1 s1 : Nat) (A : AH) (t : State) : Prop := cPre dC dI ac ad b A t ∧ n0 ≤ aN A ∧ s0 ≤ aS A ∧ aN A ≤ n1 ∧ aS A ≤ s1
abbrev cQi (dC : Nat → ClassId) (dI : Nat → Nat → Nat) (ac : Nat → ClassId) (ad : Nat → Nat) (b : Prop) (n0 s0 n1 s1 : Nat) (r : Int32) (A : AH) : Array Value → State → Outcome → State → Prop := va_Qi (fun (v : Int32) (_ : Unit) => v = r) (fun _ t => cPost dC dI ac ad b n0 s0 n1 s1 A t) (cF ad)
abbrev cQl (dC : Nat → ClassId) (dI : Nat → Nat → Nat) (ac : Nat → ClassId) (ad : Nat → Nat) (b : Prop) (n0 s0 n1 s1 : Nat) (r : Int64) (A : AH) : Array Value → State → Outcome → State → Prop := va_Ql (fun (v : Int64) (_ : Unit) => v = r) (fun _ t => cPost dC dI ac ad b n0 s0 n1 s1 A t) (cF ad)
abbrev cQv (dC : Nat → ClassId) (dI : Nat → Nat → Nat) (ac : Nat → ClassId) (ad : Nat → Nat) (b : Prop) (n0 s0 n1 s1 : Nat) (A : AH) : Array Value → State → Outcome → State → Prop := va_Qv (fun (_ : Unit) => True) (fun _ t => cPost dC dI ac ad b n0 s0 n1 s1 A t) (cF ad)
abbrev cQq (dC : Nat → ClassId) (dI : Nat → Nat → Nat) (ac : Nat → ClassId) (ad : Nat → Nat) (b : Prop) (n0 s0 n1 s1 : Nat) (r : Option Nat) (A : AH) : Array Value → State → Outcome → State → Prop := va_Qq (fun (v : Option Nat) (_ : Unit) => v = r.map ad) (fun _ t => cPost dC dI ac ad b n0 s0 n1 s1 A t) (cF ad)
theorem cX.kept {dC : Nat → ClassId} {dI : Nat → Nat → Nat} {ac : Nat → ClassId} {ad : Nat → Nat} {U : State} {H H1 : Heap} (h : cX dC dI ac ad U H) (hq : ∀ a : Nat, a < H.size → ¬ cF ad a → H1[a]? = H[a]?) : cX dC dI ac ad U H1 := by
  obtain ⟨h0, h1, h2, h3, h4, h5, h6, h7, h8, h9, h10, h11⟩ := h
  have hk : ∀ (i : Nat) (cell : Cell), kC i ≠ 0 → H[ad i]? = some cell → H1[ad i]? = some cell := fun i cell hi hc => (hq _ (Array.getElem?_eq_some_iff.mp hc).1 (h4 i hi)).trans hc
  refine ⟨h0, fun i hi => ?_, fun i hi => ?_, fun i hi => ?_, h4, h5, fun q hm => (h6 q hm).kept hq, h7, h8, fun q hm => (h9 q hm).kept hq, fun q hm => (h10 q hm).kept hq, h11⟩
  · obtain ⟨cell, g1, g2⟩ := h1 i hi
    exact ⟨cell, hk i cell (by omega) g1, g2⟩
  · obtain ⟨cell, g1, g2⟩ := h2 i hi
    exact ⟨cell, hk i cell (by omega) g1, g2⟩
  · obtain ⟨cell, g1, g2⟩ := h3 i hi
    exact ⟨cell, hk i cell (by omega) g1, g2⟩
theorem cX.warm {dC : Nat → ClassId} {dI : Nat → Nat → Nat} {ac : Nat → ClassId} {ad : Nat → Nat} {s U : State} {H : Heap} (hW : s.WarmedH U.vm) (h : cX dC dI ac ad s H) : cX dC dI ac ad U H := by
  obtain ⟨h0, h1, h2, h3, h4, h5, h6, h7, h8, h9, h10, h11⟩ := h
  refine ⟨h0.moved hW.alike, h1, fun i hi => ?_, fun i hi => ?_, h4, fun q hm => (h5 q hm).warm hW, fun q hm => (h6 q hm).moved hW.alike, fun x hx => (h7 x hx).moved ?_ hW.alike, h8, fun q hm => (h9 q hm).moved hW.alike, fun q hm => (h10 q hm).moved hW.alike, h11.warm hW⟩
  · obtain ⟨cell, g1, g2, g3⟩ := h2 i hi
    exact ⟨cell, g1, State.isArrayOf_alike hW.alike g2, g3⟩
  · obtain ⟨cell, g1, g2, g3⟩ := h3 i hi
    exact ⟨cell, g1, State.isArrayOf_alike hW.alike g2, g3⟩
  · simp only [lstM, List.mem_cons, List.not_mem_nil, or_false] at hx
    rcases hx with rfl | rfl | rfl <;> decide +kernel
theorem cX.same {dC : Nat → ClassId} {dI : Nat → Nat → Nat} {ac : Nat → ClassId} {ad : Nat → Nat} {s U : State} {H : Heap} (e : s.vm = U.vm) (h : cX dC dI ac ad s H) : cX dC dI ac ad U H := by
  have hal : s.vm.Alike U.vm := by rw [e]; exact Vm.Alike.refl _
  obtain ⟨h0, h1, h2, h3, h4, h5, h6, h7, h8, h9, h10, h11⟩ := h
  refine ⟨h0.moved hal, h1, fun i hi => ?_, fun i hi => ?_, h4, fun q hm => (h5 q hm).same e.symm, fun q hm => (h6 q hm).moved hal, fun x hx => (h7 x hx).moved ?_ hal, h8, fun q hm => (h9 q hm).moved hal, fun q hm => (h10 q hm).moved hal, h11.same e⟩
  · obtain ⟨cell, g1, g2, g3⟩ := h2 i hi
    exact ⟨cell, g1, State.isArrayOf_alike hal g2, g3⟩
  · obtain ⟨cell, g1, g2, g3⟩ := h3 i hi
    exact ⟨cell, g1, State.isArrayOf_alike hal g2, g3⟩
  · simp only [lstM, List.mem_cons, List.not_mem_nil, or_false] at hx
    rcases hx with rfl | rfl | rfl <;> decide +kernel
section CC
variable {p : Program} {l : Launch} {e : Env} {R : Room} {s : State} {m : MethodId} {args : Array Value} {below : List Frame} {meth : Method} {c : Code} {H : Heap} {locs : List Loc} {cells slots : Nat} {Q : State → Prop}
variable {cc : ByteArray} {pc : Nat} {ls : Array Slot} {rest : List Value} {own : String} {dC : Nat → ClassId} {dI : Nat → Nat → Nat} {ac : Nat → ClassId} {ad : Nat → Nat} {b : Prop} {H0 : Heap} {n0 s0 n1 s1 : Nat} {A A' : AH}
/-- the world of a walk, as a callee's start or the method's own end has it -/
theorem c_pre (E : cE p s m args own dC dI ac ad) (hS : cS dC dI ac ad b s.heap n0 s0 n1 s1 A H locs) (U : State) (hU : U.heap = H) (hW : s.WarmedH U.vm) : cPre dC dI ac ad b A U :=
  ⟨by rw [hU]; exact hS.1, va_K.moved hW.alike E.2.2.2.1, E.2.2.2.2.1.warm hW, by rw [hU]; exact ((E.2.2.2.2.2.warm hW).kept (fun a h1 h2 => hS.2.1.2.1 a h1 h2))⟩
theorem cPre_blind (As : List Value) : FrameBlind (va_Pc As (cPre dC dI ac ad b A)) := fun a U g mk q => by
  obtain ⟨q1, q2, q3, q4, q5⟩ := q
  exact ⟨q1, q2, va_K.moved (u := U) (U := U.calling g mk a) (Vm.Alike.refl U.vm) q3, cNW.same (s := U) (U := U.calling g mk a) rfl q4, cX.same (s := U) (U := U.calling g mk a) rfl q5⟩
theorem c_recv (E : cE p s m args own dC dI ac ad) (hS : cS dC dI ac ad b H0 n0 s0 n1 s1 A H locs) {kd i : Nat} {C : String} {T : u_T} {N : Nat} {ty : Nat → FieldType} (hci : CI kd C T N ty) (hk : aK A i = kd) (hi : i < aN A) : ∃ cell : Cell, H[ad i]? = some cell ∧ cell.vm.isStatics = false ∧ s.vm.findClass C = some cell.cls :=
  va_recv E.2.2.2.1 hS.1.1 (ci := kd - 1) (q0 := i) hci.1 (by rw [wC_at ad ac A hi, cce_ob ad ac A hk hci.2.2.2.2.2.2])
theorem c_preV (E : cE p s m args own dC dI ac ad) (hS : cS dC dI ac ad b s.heap n0 s0 n1 s1 A H locs) {kd i : Nat} {C : String} {T : u_T} {N : Nat} {ty : Nat → FieldType} (hci : CI kd C T N ty) (hk : aK A i = kd) (hi : i < aN A) (As : List Value) : PreV s H C (ad i) (va_Pc (.ref (ad i) :: As) (cPre dC dI ac ad b A)) As :=
  ⟨cPre_blind _, c_recv E hS hci hk hi, fun U hU hW => ⟨rfl, c_pre E hS U hU hW⟩⟩
theorem c_preS (E : cE p s m args own dC dI ac ad) (hS : cS dC dI ac ad b s.heap n0 s0 n1 s1 A H locs) (As : List Value) : PreS s H (va_Pc As (cPre dC dI ac ad b A)) As :=
  ⟨cPre_blind _, fun U hU hW => ⟨rfl, c_pre E hS U hU hW⟩⟩
/-! ends: the answer and the world are what the pure function says -/
theorem c_end (E : cE p s m args own dC dI ac ad) (hS : cS dC dI ac ad b s.heap n0 s0 n1 s1 A H locs) (t : State) (ht : t.heap = H) (hW : s.WarmedH t.vm) : cPost dC dI ac ad b n0 s0 n1 s1 A t := ⟨c_pre E hS t ht hW, hS.2.2⟩
variable {mc ms : Nat}
theorem c_ir (E : cE p s m args own dC dI ac ad) (hb : c.code = cc) (hr : meth.sig.returnType = some .int) (hlk : meth.locks = false) (hS : cS dC dI ac ad b s.heap n0 s0 n1 s1 A H locs) (hm : cells ≤ mc ∧ slots ≤ ms) {v r : Int32} (hf : some (v, A) = some (r, A')) (hdg : decode cc pc = .ok (.ireturn, 1)) :
    W p l e R s m args below meth c H locs cells slots (MQ below (cQi dC dI ac ad b n0 s0 n1 s1 r A') args s mc ms (cF ad)) (F0 m pc ls [.int v]) := by
  cases hf
  refine W.widen (k := mc) (n := ms) hm.1 hm.2 ?_
  exact W.iret E.1 hb hr (fun t ht hW => ⟨⟨_, (), rfl, rfl, c_end E hS t ht hW⟩, hS.2.1.F ht⟩) hS.2.1.2.2 hdg hlk
theorem c_zr (E : cE p s m args own dC dI ac ad) (hb : c.code = cc) {ty : FieldType} (hr : meth.sig.returnType = some ty) (hlk : meth.locks = false) (hS : cS dC dI ac ad b s.heap n0 s0 n1 s1 A H locs) (hm : cells ≤ mc ∧ slots ≤ ms) {v r : Int32} (hn : narrow ty (.int v) = .int v) (hf : some (v, A) = some (r, A')) (hdg : decode cc pc = .ok (.ireturn, 1)) :
    W p l e R s m args below meth c H locs cells slots (MQ below (cQi dC dI ac ad b n0 s0 n1 s1 r A') args s mc ms (cF ad)) (F0 m pc ls [.int v]) := by
  cases hf
  refine W.widen (k := mc) (n := ms) hm.1 hm.2 ?_
  exact W.zret E.1 hb hr hn (fun t ht hW => ⟨⟨_, (), rfl, rfl, c_end E hS t ht hW⟩, hS.2.1.F ht⟩) hS.2.1.2.2 hdg hlk
theorem c_lr (E : cE p s m args own dC dI ac ad) (hb : c.code = cc) (hr : meth.sig.returnType = some .long) (hlk : meth.locks = false) (hS : cS dC dI ac ad b s.heap n0 s0 n1 s1 A H locs) (hm : cells ≤ mc ∧ slots ≤ ms) {v r : Int64} (hf : some (v, A) = some (r, A')) (hdg : decode cc pc = .ok (.lreturn, 1)) :
    W p l e R s m args below meth c H locs cells slots (MQ below (cQl dC dI ac ad b n0 s0 n1 s1 r A') args s mc ms (cF ad)) (F0 m pc ls [.long v]) := by
  cases hf
  refine W.widen (k := mc) (n := ms) hm.1 hm.2 ?_
  exact W.lret E.1 hb hr (fun t ht hW => ⟨⟨_, (), rfl, rfl, c_end E hS t ht hW⟩, hS.2.1.F ht⟩) hS.2.1.2.2 hdg hlk
theorem c_vr (E : cE p s m args own dC dI ac ad) (hb : c.code = cc) (hr : meth.sig.returnType = none) (hlk : meth.locks = false) (hS : cS dC dI ac ad b s.heap n0 s0 n1 s1 A H locs) (hm : cells ≤ mc ∧ slots ≤ ms) (hf : some ((), A) = some ((), A')) (hdg : decode cc pc = .ok (.return_, 1)) :
    W p l e R s m args below meth c H locs cells slots (MQ below (cQv dC dI ac ad b n0 s0 n1 s1 A') args s mc ms (cF ad)) (F0 m pc ls []) := by
  cases hf
  refine W.widen (k := mc) (n := ms) hm.1 hm.2 ?_
  exact W.vret E.1 hb hr (fun t ht hW => ⟨⟨(), rfl, trivial, c_end E hS t ht hW⟩, hS.2.1.F ht⟩) hS.2.1.2.2 hdg hlk
/-! behind a call -/
theorem c_ki {A0 : AH} {m1 t1 : Nat} (hS : cS dC dI ac ad b s.heap n0 s0 n1 s1 A0 H locs) {a : Array Value} {st0 : List Value} {r : Int32} (hr : va_Run p l e R s m args below meth c H locs cells slots mc ms (F0 m pc ls st0) rest (cQi dC dI ac ad b (aN A0) (aS A0) m1 t1 r A' a) (cF ad)) (hle : m1 ≤ n1 ∧ t1 ≤ s1)
    (kk : ∀ (H : Heap) (locs : List Loc), cS dC dI ac ad b s.heap n0 s0 n1 s1 A' H locs → aN A0 ≤ aN A' ∧ aS A0 ≤ aS A' → W p l e R s m args below meth c H locs (cells + mc) (slots + ms) Q (F0 m (pc + 3) ls (.int r :: rest))) : W p l e R s m args below meth c H locs cells slots Q (F0 m pc ls st0) := by
  refine va_calli hr hS.2.1 (fun q _ h => h) (fun q h => h) (fun v u t H1 locs1 ht hvm hv hB _ _ hSS => ?_)
  subst hv
  refine kk H1 locs1 ⟨?_, hSS, Nat.le_trans hS.2.2.1 hB.2.1, Nat.le_trans hS.2.2.2.1 hB.2.2.1, Nat.le_trans hB.2.2.2.1 hle.1, Nat.le_trans hB.2.2.2.2 hle.2⟩ ⟨hB.2.1, hB.2.2.1⟩
  rw [← ht]
  exact hB.1.1
theorem c_kl {A0 : AH} {m1 t1 : Nat} (hS : cS dC dI ac ad b s.heap n0 s0 n1 s1 A0 H locs) {a : Array Value} {st0 : List Value} {r : Int64} (hr : va_Run p l e R s m args below meth c H locs cells slots mc ms (F0 m pc ls st0) rest (cQl dC dI ac ad b (aN A0) (aS A0) m1 t1 r A' a) (cF ad)) (hle : m1 ≤ n1 ∧ t1 ≤ s1)
    (kk : ∀ (H : Heap) (locs : List Loc), cS dC dI ac ad b s.heap n0 s0 n1 s1 A' H locs → aN A0 ≤ aN A' ∧ aS A0 ≤ aS A' → W p l e R s m args below meth c H locs (cells + mc) (slots + ms) Q (F0 m (pc + 3) ls (.long r :: rest))) : W p l e R s m args below meth c H locs cells slots Q (F0 m pc ls st0) := by
  refine va_calll hr hS.2.1 (fun q _ h => h) (fun q h => h) (fun v u t H1 locs1 ht hvm hv hB _ _ hSS => ?_)
  subst hv
  refine kk H1 locs1 ⟨?_, hSS, Nat.le_trans hS.2.2.1 hB.2.1, Nat.le_trans hS.2.2.2.1 hB.2.2.1, Nat.le_trans hB.2.2.2.1 hle.1, Nat.le_trans hB.2.2.2.2 hle.2⟩ ⟨hB.2.1, hB.2.2.1⟩
  rw [← ht]
  exact hB.1.1
theorem c_kv {A0 : AH} {m1 t1 : Nat} (hS : cS dC dI ac ad b s.heap n0 s0 n1 s1 A0 H locs) {a : Array Value} {st0 : List Value} (hr : va_Run p l e R s m args below meth c H locs cells slots mc ms (F0 m pc ls st0) rest (cQv dC dI ac ad b (aN A0) (aS A0) m1 t1 A' a) (cF ad)) (hle : m1 ≤ n1 ∧ t1 ≤ s1)
    (kk : ∀ (H : Heap) (locs : List Loc), cS dC dI ac ad b s.heap n0 s0 n1 s1 A' H locs → aN A0 ≤ aN A' ∧ aS A0 ≤ aS A' → W p l e R s m args below meth c H locs (cells + mc) (slots + ms) Q (F0 m (pc + 3) ls rest)) : W p l e R s m args below meth c H locs cells slots Q (F0 m pc ls st0) := by
  refine va_callv hr hS.2.1 (fun q _ h => h) (fun q h => h) (fun u t H1 locs1 ht hvm hv hB _ _ hSS => ?_)
  refine kk H1 locs1 ⟨?_, hSS, Nat.le_trans hS.2.2.1 hB.2.1, Nat.le_trans hS.2.2.2.1 hB.2.2.1, Nat.le_trans hB.2.2.2.1 hle.1, Nat.le_trans hB.2.2.2.2 hle.2⟩ ⟨hB.2.1, hB.2.2.1⟩
  rw [← ht]
  exact hB.1.1
theorem c_kq {A0 : AH} {m1 t1 : Nat} (hS : cS dC dI ac ad b s.heap n0 s0 n1 s1 A0 H locs) {a : Array Value} {st0 : List Value} {r : Option Nat} (hr : va_Run p l e R s m args below meth c H locs cells slots mc ms (F0 m pc ls st0) rest (cQq dC dI ac ad b (aN A0) (aS A0) m1 t1 r A' a) (cF ad)) (hle : m1 ≤ n1 ∧ t1 ≤ s1)
    (kk : ∀ (H : Heap) (locs : List Loc), cS dC dI ac ad b s.heap n0 s0 n1 s1 A' H locs → aN A0 ≤ aN A' ∧ aS A0 ≤ aS A' → W p l e R s m args below meth c H locs (cells + mc) (slots + ms) Q (F0 m (pc + 3) ls (va_rf (r.map ad) :: rest))) : W p l e R s m args below meth c H locs cells slots Q (F0 m pc ls st0) := by
  refine va_callq hr hS.2.1 (fun q _ h => h) (fun q h => h) (fun v u t H1 locs1 ht hvm hv hB _ _ hSS => ?_)
  subst hv
  refine kk H1 locs1 ⟨?_, hSS, Nat.le_trans hS.2.2.1 hB.2.1, Nat.le_trans hS.2.2.2.1 hB.2.2.1, Nat.le_trans hB.2.2.2.1 hle.1, Nat.le_trans hB.2.2.2.2 hle.2⟩ ⟨hB.2.1, hB.2.2.1⟩
  rw [← ht]
  exact hB.1.1
end CC
/-- a method of the component, from its entry -/
theorem c_of {l : Launch} {y : MethodName} {cc : ByteArray} {maxL : Nat} {rm : Room} {ret : Option FieldType} {As : List Value} {dC : Nat → ClassId} {dI : Nat → Nat → Nat} {ac : Nat → ClassId} {ad : Nat → Nat} {b : Prop} {A : AH} {Qc : Array Value → State → Outcome → State → Prop} {mc ms n1 s1 : Nat} (hup : aN A ≤ n1 ∧ aS A ≤ s1) (own : String) (hy : plainFor y = true) (hyc : y.cls = own) (hsl : (lg_sl As).length ≤ maxL)
    (body : ∀ (p : Program) (e : Env) (s : State) (m : MethodId) (args : Array Value) (below : List Frame) (meth : Method) (c : Code), cE p s m args own dC dI ac ad → c.code = cc → meth.sig.returnType = ret → meth.locks = false → meth.name = y.name → c.maxLocals = maxL → cS dC dI ac ad b s.heap (aN A) (aS A) n1 s1 A s.heap [] → ∀ ls : Array Slot, lv_has ls maxL (lv_args 0 As) →
      W p l e rm s m args below meth c s.heap [] 0 0 (MQ below Qc args s mc ms (cF ad)) (F0 m 0 ls [])) :
    Met l y (ws_ y cc maxL ret) rm (va_Pc As (cPre dC dI ac ad b A)) Qc mc ms (cF ad) := by
  refine va_MetF (cc := cc) (maxL := maxL) (ret := ret) hy rfl ?_
  intro p e s m args below meth c s₁ B hml hv
  obtain ⟨rfl, hW, hK, hN, hX⟩ := hv
  have hts := atoms_spec (ws := ws_ y cc maxL ret) B.pre
  have hts : ∀ w ∈ lw_all, w.before _ s = true := fun w h => hts w (List.mem_cons_of_mem _ h)
  have hown : s.vm.findClass own = some m.cls := by rw [← hyc]; exact findClass_of_methodNamed B.named
  have hl := lv_entry As (n := maxL) hsl
  rw [lg_entry_eq]
  exact body p e s m _ below meth c ⟨B.exec, hown, hts, hK, hN, hX⟩ B.bytes B.returns B.notSynchronized (name_of_methodNamed B.named B.method).1 hml ⟨hW, va_S.rf, Nat.le_refl _, Nat.le_refl _, hup⟩ _ hl
