/-! METHODS THAT MAY THROW the one Fault (number 10): contracts and rows -/
set_option maxRecDepth 100000
def cQxi (dC : Nat → ClassId) (dI : Nat → Nat → Nat) (ac : Nat → ClassId) (ad : Nat → Nat) (b : Prop) (n0 s0 n1 s1 : Nat) : Option Int32 → AH → Array Value → State → Outcome → State → Prop
  | some r, A => cQi dC dI ac ad b n0 s0 n1 s1 r A
  | none, _ => fun _ _ _ _ => False
def cQxv (dC : Nat → ClassId) (dI : Nat → Nat → Nat) (ac : Nat → ClassId) (ad : Nat → Nat) (b : Prop) (n0 s0 n1 s1 : Nat) : Option Unit → AH → Array Value → State → Outcome → State → Prop
  | some _, A => cQv dC dI ac ad b n0 s0 n1 s1 A
  | none, _ => fun _ _ _ _ => False
def cQxq (dC : Nat → ClassId) (dI : Nat → Nat → Nat) (ac : Nat → ClassId) (ad : Nat → Nat) (b : Prop) (n0 s0 n1 s1 : Nat) : Option (Option Nat) → AH → Array Value → State → Outcome → State → Prop
  | some r, A => cQq dC dI ac ad b n0 s0 n1 s1 r A
  | none, _ => fun _ _ _ _ => False
def cXC (dC : Nat → ClassId) (dI : Nat → Nat → Nat) (ac : Nat → ClassId) (ad : Nat → Nat) (b : Prop) (n0 s0 n1 s1 : Nat) {α : Type} : Option α → AH → Addr → String → State → State → Prop
  | none, A => vx_X (fun (_ : Unit) => True) (fun q E _ t => (q = ad 10 ∧ E = "MarginFolk$Fault") ∧ cPost dC dI ac ad b n0 s0 n1 s1 A t) (cF ad)
  | some _, _ => fun _ _ _ _ => False
/-- what goes on behind a call that may throw, where nobody catches -/
def xm {α β : Type} (o : Option α) (A : AH) (g : α → AH → Option (Option β × AH)) : Option (Option β × AH) := match o with
  | none => some (none, A)
  | some r => g r A
theorem xm_n {α β : Type} {A : AH} {g : α → AH → Option (Option β × AH)} {z : Option β × AH} (h : xm none A g = some z) : some (none, A) = some z := h
theorem xm_s {α β : Type} {A : AH} {r : α} {g : α → AH → Option (Option β × AH)} {z : Option β × AH} (h : xm (some r) A g = some z) : g r A = some z := h
def bx {α β : Type} (x : Option (Option α × AH)) (g : α → AH → Option (Option β × AH)) : Option (Option β × AH) := bd x fun o A => xm o A g
theorem bx_s {α β : Type} {x : Option (Option α × AH)} {g : α → AH → Option (Option β × AH)} {z : Option β × AH} (h : bx x g = some z) : ∃ o A, x = some (o, A) ∧ xm o A g = some z := bd_s h
def bxa {α β : Type} (A : AH) (x : Option (Option α × AH)) (g : α → AH → Option (Option β × AH)) : Option (Option β × AH) := bda A x fun o A2 => xm o A2 g
theorem bxa_s {α β : Type} {A A' : AH} {x : Option (Option α × AH)} {g : α → AH → Option (Option β × AH)} {z : Option β} (h : bxa A x g = some (z, A')) : ∃ o A2, x = some (o, A2) ∧ (aN A ≤ aN A2 ∧ aS A ≤ aS A2) ∧ (aN A2 ≤ aN A' ∧ aS A2 ≤ aS A') ∧ xm o A2 g = some (z, A') := bda_s h
/-- .. where it is caught -/
def xh {α β : Type} (o : Option α) (A : AH) (k : AH → Option β) (g : α → AH → Option β) : Option β := match o with
  | none => k A
  | some r => g r A
theorem xh_n {α β : Type} {A : AH} {k : AH → Option β} {g : α → AH → Option β} {z : β} (h : xh none A k g = some z) : k A = some z := h
theorem xh_s {α β : Type} {A : AH} {r : α} {k : AH → Option β} {g : α → AH → Option β} {z : β} (h : xh (some r) A k g = some z) : g r A = some z := h
section C13
variable {p : Program} {l : Launch} {e : Env} {R : Room} {s : State} {m : MethodId} {args : Array Value} {below : List Frame} {meth : Method} {c : Code} {H : Heap} {locs : List Loc} {cells slots : Nat} {Q : State → Prop}
variable {cc : ByteArray} {pc : Nat} {ls : Array Slot} {rest : List Value} {own : String} {dC : Nat → ClassId} {dI : Nat → Nat → Nat} {ac : Nat → ClassId} {ad : Nat → Nat} {b : Prop} {H0 : Heap} {n0 s0 n1 s1 : Nat} {A A' : AH} {mc ms : Nat}
theorem x_ir (E : cE p s m args own dC dI ac ad) (hb : c.code = cc) (hr : meth.sig.returnType = some .int) (hlk : meth.locks = false) (hS : cS dC dI ac ad b s.heap n0 s0 n1 s1 A H locs) (hm : cells ≤ mc ∧ slots ≤ ms) {v : Int32} {o : Option Int32} (hf : some (some v, A) = some (o, A')) (hdg : decode cc pc = .ok (.ireturn, 1)) :
    W p l e R s m args below meth c H locs cells slots (vx_MQ below (cQxi dC dI ac ad b n0 s0 n1 s1 o A') (cXC dC dI ac ad b n0 s0 n1 s1 o A') args s mc ms (cF ad)) (F0 m pc ls [.int v]) := by
  cases hf
  exact vx_ret (c_ir E hb hr hlk hS hm rfl hdg)
theorem x_zr (E : cE p s m args own dC dI ac ad) (hb : c.code = cc) {ty : FieldType} (hr : meth.sig.returnType = some ty) (hlk : meth.locks = false) (hS : cS dC dI ac ad b s.heap n0 s0 n1 s1 A H locs) (hm : cells ≤ mc ∧ slots ≤ ms) {v : Int32} {o : Option Int32} (hn : narrow ty (.int v) = .int v) (hf : some (some v, A) = some (o, A')) (hdg : decode cc pc = .ok (.ireturn, 1)) :
    W p l e R s m args below meth c H locs cells slots (vx_MQ below (cQxi dC dI ac ad b n0 s0 n1 s1 o A') (cXC dC dI ac ad b n0 s0 n1 s1 o A') args s mc ms (cF ad)) (F0 m pc ls [.int v]) := by
  cases hf
  exact vx_ret (c_zr E hb hr hlk hS hm hn rfl hdg)
theorem x_vr (E : cE p s m args own dC dI ac ad) (hb : c.code = cc) (hr : meth.sig.returnType = none) (hlk : meth.locks = false) (hS : cS dC dI ac ad b s.heap n0 s0 n1 s1 A H locs) (hm : cells ≤ mc ∧ slots ≤ ms) {o : Option Unit} (hf : some (some (), A) = some (o, A')) (hdg : decode cc pc = .ok (.return_, 1)) :
    W p l e R s m args below meth c H locs cells slots (vx_MQ below (cQxv dC dI ac ad b n0 s0 n1 s1 o A') (cXC dC dI ac ad b n0 s0 n1 s1 o A') args s mc ms (cF ad)) (F0 m pc ls []) := by
  cases hf
  exact vx_ret (c_vr E hb hr hlk hS hm rfl hdg)
theorem x_ar (E : cE p s m args own dC dI ac ad) (hb : c.code = cc) {ty : FieldType} (hr : meth.sig.returnType = some ty) (hty : (∃ n, ty = .object n) ∨ ∃ t, ty = .array t) (hlk : meth.locks = false) (hS : cS dC dI ac ad b s.heap n0 s0 n1 s1 A H locs) (hm : cells ≤ mc ∧ slots ≤ ms) {v : Option Nat} {o : Option (Option Nat)} (hf : some (some v, A) = some (o, A')) (hdg : decode cc pc = .ok (.areturn, 1)) :
    W p l e R s m args below meth c H locs cells slots (vx_MQ below (cQxq dC dI ac ad b n0 s0 n1 s1 o A') (cXC dC dI ac ad b n0 s0 n1 s1 o A') args s mc ms (cF ad)) (F0 m pc ls [va_rf (v.map ad)]) := by
  cases hf
  exact vx_ret (c_ar E hb hr hty hlk hS hm rfl hdg)
theorem c_flt (E : cE p s m args own dC dI ac ad) (hS : cS dC dI ac ad True s.heap n0 s0 n1 s1 A H locs) : ∃ ce : Cell, H[ad 10]? = some ce ∧ ce.vm = .none ∧ s.vm.findClass "MarginFolk$Fault" = some ce.cls := by
  have hk : aK A 10 = 4 := sK hS (by decide) rfl
  obtain ⟨ce, h1, h2, h3⟩ := c_obj E hS ci_4 hk (hS.1.lt hk rfl)
  exact ⟨ce, h1, h2, by rw [h3]; exact (E.2.2.2.1.1 3 _ ci_4.1).2.1⟩
/-- thrown, and nobody here catches it -/
theorem x_out {α : Type} {Qc : Option α → AH → Array Value → State → Outcome → State → Prop} (E : cE p s m args own dC dI ac ad) (hnx : ∀ x ∈ c.exceptionTable.toList, False) (hlk : meth.locks = false) (hS : cS dC dI ac ad True s.heap n0 s0 n1 s1 A H locs) (hm : cells ≤ mc ∧ slots ≤ ms) {o : Option α} (hf : some ((none : Option α), A) = some (o, A')) :
    vx_W p l e R s m args below meth c H locs cells slots (vx_MQ below (Qc o A') (cXC dC dI ac ad True n0 s0 n1 s1 o A') args s mc ms (cF ad)) (F0 m pc ls rest) (ad 10) := by
  cases hf
  obtain ⟨ce, h1, h2, h3⟩ := c_flt E hS
  exact vx_out (E := "MarginFolk$Fault") (fun x hx => (hnx x hx).elim) hlk h1 h2 h3 (fun t ht hW => ⟨(), trivial, ⟨⟨rfl, rfl⟩, c_end E hS t ht hW⟩, hS.2.1.F ht⟩) hS.2.1.2.2 hm.1 hm.2
theorem x_thr {α : Type} {Qc : Option α → AH → Array Value → State → Outcome → State → Prop} (E : cE p s m args own dC dI ac ad) (hb : c.code = cc) (hnx : ∀ x ∈ c.exceptionTable.toList, False) (hlk : meth.locks = false) (hS : cS dC dI ac ad True s.heap n0 s0 n1 s1 A H locs) (hm : cells ≤ mc ∧ slots ≤ ms) {o : Option α} (hf : some ((none : Option α), A) = some (o, A')) (hdg : decode cc pc = .ok (.athrow, 1)) :
    W p l e R s m args below meth c H locs cells slots (vx_MQ below (Qc o A') (cXC dC dI ac ad True n0 s0 n1 s1 o A') args s mc ms (cF ad)) (F0 m pc ls (.ref (ad 10) :: rest)) := vx_athrow E.1 hb hdg (x_out E hnx hlk hS hm hf)
/-! behind a call that may throw -/
theorem x_ki {A0 A9 : AH} {m1 t1 : Nat} {o9 : Option Int32} (hS : cS dC dI ac ad b s.heap n0 s0 n1 s1 A0 H locs) {a : Array Value} {st0 : List Value} (hr : vx_Run p l e R s m args below meth c H locs cells slots mc ms (F0 m pc ls st0) rest (cQxi dC dI ac ad b (aN A0) (aS A0) m1 t1 o9 A9 a) (cXC dC dI ac ad b (aN A0) (aS A0) m1 t1 o9 A9) (cF ad)) (hle : m1 ≤ n1 ∧ t1 ≤ s1)
    (kx : o9 = none → ∀ (H : Heap) (locs : List Loc), cS dC dI ac ad b s.heap n0 s0 n1 s1 A9 H locs → aN A0 ≤ aN A9 ∧ aS A0 ≤ aS A9 → vx_W p l e R s m args below meth c H locs (cells + mc) (slots + ms) Q (F0 m pc ls rest) (ad 10))
    (kk : ∀ r : Int32, o9 = some r → ∀ (H : Heap) (locs : List Loc), cS dC dI ac ad b s.heap n0 s0 n1 s1 A9 H locs → aN A0 ≤ aN A9 ∧ aS A0 ≤ aS A9 → W p l e R s m args below meth c H locs (cells + mc) (slots + ms) Q (F0 m (pc + 3) ls (.int r :: rest))) : W p l e R s m args below meth c H locs cells slots Q (F0 m pc ls st0) := by
  intro T hT X
  cases o9 with
  | none =>
    rcases hr T hT X with ⟨v, st₀, t, T', L, h0, X', hL, e1, e2, hq, st⟩ | ⟨q, st₀, t, T', L, E, ce, h0, X', hL, e1, e2, ⟨u, hp, hB, hF⟩, hce, hcv, hcl, st⟩
    · exact hq.elim
    · obtain ⟨⟨rfl, rfl⟩, hB⟩ := hB
      obtain ⟨k1, k2, k3⟩ := vx_keep h0 e1 hS.2.1 (fun q _ h => h) (fun q h => h) hL hF
      obtain ⟨t2, a1, b1⟩ := kx rfl T'.heap (locs ++ L) ⟨by rw [e1]; exact hB.1.1, k3, Nat.le_trans hS.2.2.1 hB.2.1, Nat.le_trans hS.2.2.2.1 hB.2.2.1, Nat.le_trans hB.2.2.2.1 hle.1, Nat.le_trans hB.2.2.2.2 hle.2⟩ ⟨hB.2.1, hB.2.2.1⟩ T' rfl X'
      exact ⟨t2, st.trans a1, b1⟩
  | some r =>
    rcases hr T hT X with ⟨v, st₀, t, T', L, h0, X', hL, e1, e2, ⟨⟨r2, u, hv, hp, hB⟩, hF⟩, st⟩ | ⟨q, st₀, t, T', L, E, ce, h0, X', hL, e1, e2, hx, hce, hcv, hcl, st⟩
    · cases hv
      subst hp
      obtain ⟨k1, k2, k3⟩ := vx_keep h0 e1 hS.2.1 (fun q _ h => h) (fun q h => h) hL hF
      obtain ⟨t2, a1, b1⟩ := kk _ rfl T'.heap (locs ++ L) ⟨by rw [e1]; exact hB.1.1, k3, Nat.le_trans hS.2.2.1 hB.2.1, Nat.le_trans hS.2.2.2.1 hB.2.2.1, Nat.le_trans hB.2.2.2.1 hle.1, Nat.le_trans hB.2.2.2.2 hle.2⟩ ⟨hB.2.1, hB.2.2.1⟩ T' rfl X'
      exact ⟨t2, st t2 a1, b1⟩
    · exact hx.elim
theorem x_kv {A0 A9 : AH} {m1 t1 : Nat} {o9 : Option Unit} (hS : cS dC dI ac ad b s.heap n0 s0 n1 s1 A0 H locs) {a : Array Value} {st0 : List Value} (hr : vx_Run p l e R s m args below meth c H locs cells slots mc ms (F0 m pc ls st0) rest (cQxv dC dI ac ad b (aN A0) (aS A0) m1 t1 o9 A9 a) (cXC dC dI ac ad b (aN A0) (aS A0) m1 t1 o9 A9) (cF ad)) (hle : m1 ≤ n1 ∧ t1 ≤ s1)
    (kx : o9 = none → ∀ (H : Heap) (locs : List Loc), cS dC dI ac ad b s.heap n0 s0 n1 s1 A9 H locs → aN A0 ≤ aN A9 ∧ aS A0 ≤ aS A9 → vx_W p l e R s m args below meth c H locs (cells + mc) (slots + ms) Q (F0 m pc ls rest) (ad 10))
    (kk : ∀ r : Unit, o9 = some r → ∀ (H : Heap) (locs : List Loc), cS dC dI ac ad b s.heap n0 s0 n1 s1 A9 H locs → aN A0 ≤ aN A9 ∧ aS A0 ≤ aS A9 → W p l e R s m args below meth c H locs (cells + mc) (slots + ms) Q (F0 m (pc + 3) ls (rest))) : W p l e R s m args below meth c H locs cells slots Q (F0 m pc ls st0) := by
  intro T hT X
  cases o9 with
  | none =>
    rcases hr T hT X with ⟨v, st₀, t, T', L, h0, X', hL, e1, e2, hq, st⟩ | ⟨q, st₀, t, T', L, E, ce, h0, X', hL, e1, e2, ⟨u, hp, hB, hF⟩, hce, hcv, hcl, st⟩
    · exact hq.elim
    · obtain ⟨⟨rfl, rfl⟩, hB⟩ := hB
      obtain ⟨k1, k2, k3⟩ := vx_keep h0 e1 hS.2.1 (fun q _ h => h) (fun q h => h) hL hF
      obtain ⟨t2, a1, b1⟩ := kx rfl T'.heap (locs ++ L) ⟨by rw [e1]; exact hB.1.1, k3, Nat.le_trans hS.2.2.1 hB.2.1, Nat.le_trans hS.2.2.2.1 hB.2.2.1, Nat.le_trans hB.2.2.2.1 hle.1, Nat.le_trans hB.2.2.2.2 hle.2⟩ ⟨hB.2.1, hB.2.2.1⟩ T' rfl X'
      exact ⟨t2, st.trans a1, b1⟩
  | some r =>
    rcases hr T hT X with ⟨v, st₀, t, T', L, h0, X', hL, e1, e2, ⟨⟨u, hv, hp, hB⟩, hF⟩, st⟩ | ⟨q, st₀, t, T', L, E, ce, h0, X', hL, e1, e2, hx, hce, hcv, hcl, st⟩
    · cases hv
      obtain ⟨k1, k2, k3⟩ := vx_keep h0 e1 hS.2.1 (fun q _ h => h) (fun q h => h) hL hF
      obtain ⟨t2, a1, b1⟩ := kk _ rfl T'.heap (locs ++ L) ⟨by rw [e1]; exact hB.1.1, k3, Nat.le_trans hS.2.2.1 hB.2.1, Nat.le_trans hS.2.2.2.1 hB.2.2.1, Nat.le_trans hB.2.2.2.1 hle.1, Nat.le_trans hB.2.2.2.2 hle.2⟩ ⟨hB.2.1, hB.2.2.1⟩ T' rfl X'
      exact ⟨t2, st t2 a1, b1⟩
    · exact hx.elim
theorem x_kq {A0 A9 : AH} {m1 t1 : Nat} {o9 : Option (Option Nat)} (hS : cS dC dI ac ad b s.heap n0 s0 n1 s1 A0 H locs) {a : Array Value} {st0 : List Value} (hr : vx_Run p l e R s m args below meth c H locs cells slots mc ms (F0 m pc ls st0) rest (cQxq dC dI ac ad b (aN A0) (aS A0) m1 t1 o9 A9 a) (cXC dC dI ac ad b (aN A0) (aS A0) m1 t1 o9 A9) (cF ad)) (hle : m1 ≤ n1 ∧ t1 ≤ s1)
    (kx : o9 = none → ∀ (H : Heap) (locs : List Loc), cS dC dI ac ad b s.heap n0 s0 n1 s1 A9 H locs → aN A0 ≤ aN A9 ∧ aS A0 ≤ aS A9 → vx_W p l e R s m args below meth c H locs (cells + mc) (slots + ms) Q (F0 m pc ls rest) (ad 10))
    (kk : ∀ r : (Option Nat), o9 = some r → ∀ (H : Heap) (locs : List Loc), cS dC dI ac ad b s.heap n0 s0 n1 s1 A9 H locs → aN A0 ≤ aN A9 ∧ aS A0 ≤ aS A9 → W p l e R s m args below meth c H locs (cells + mc) (slots + ms) Q (F0 m (pc + 3) ls (va_rf (r.map ad) :: rest))) : W p l e R s m args below meth c H locs cells slots Q (F0 m pc ls st0) := by
  intro T hT X
  cases o9 with
  | none =>
    rcases hr T hT X with ⟨v, st₀, t, T', L, h0, X', hL, e1, e2, hq, st⟩ | ⟨q, st₀, t, T', L, E, ce, h0, X', hL, e1, e2, ⟨u, hp, hB, hF⟩, hce, hcv, hcl, st⟩
    · exact hq.elim
    · obtain ⟨⟨rfl, rfl⟩, hB⟩ := hB
      obtain ⟨k1, k2, k3⟩ := vx_keep h0 e1 hS.2.1 (fun q _ h => h) (fun q h => h) hL hF
      obtain ⟨t2, a1, b1⟩ := kx rfl T'.heap (locs ++ L) ⟨by rw [e1]; exact hB.1.1, k3, Nat.le_trans hS.2.2.1 hB.2.1, Nat.le_trans hS.2.2.2.1 hB.2.2.1, Nat.le_trans hB.2.2.2.1 hle.1, Nat.le_trans hB.2.2.2.2 hle.2⟩ ⟨hB.2.1, hB.2.2.1⟩ T' rfl X'
      exact ⟨t2, st.trans a1, b1⟩
  | some r =>
    rcases hr T hT X with ⟨v, st₀, t, T', L, h0, X', hL, e1, e2, ⟨⟨r2, u, hv, hp, hB⟩, hF⟩, st⟩ | ⟨q, st₀, t, T', L, E, ce, h0, X', hL, e1, e2, hx, hce, hcv, hcl, st⟩
    · cases hv
      subst hp
      obtain ⟨k1, k2, k3⟩ := vx_keep h0 e1 hS.2.1 (fun q _ h => h) (fun q h => h) hL hF
      obtain ⟨t2, a1, b1⟩ := kk _ rfl T'.heap (locs ++ L) ⟨by rw [e1]; exact hB.1.1, k3, Nat.le_trans hS.2.2.1 hB.2.1, Nat.le_trans hS.2.2.2.1 hB.2.2.1, Nat.le_trans hB.2.2.2.1 hle.1, Nat.le_trans hB.2.2.2.2 hle.2⟩ ⟨hB.2.1, hB.2.2.1⟩ T' rfl X'
      exact ⟨t2, st t2 a1, b1⟩
    · exact hx.elim
end C13
/-- a method that may throw, from its entry -/
theorem c_ofx {l : Launch} {y : MethodName} {cc : ByteArray} {maxL : Nat} {rm : Room} {ret : Option FieldType} {As : List Value} {dC : Nat → ClassId} {dI : Nat → Nat → Nat} {ac : Nat → ClassId} {ad : Nat → Nat} {b : Prop} {A : AH} {Qc : Array Value → State → Outcome → State → Prop} {XC : Addr → String → State → State → Prop} {mc ms n1 s1 : Nat} (hup : aN A ≤ n1 ∧ aS A ≤ s1) (own : String) (hy : plainName y.cls = true) (hyc : y.cls = own) (hsl : (lg_sl As).length ≤ maxL)
    (body : ∀ (p : Program) (e : Env) (s : State) (m : MethodId) (args : Array Value) (below : List Frame) (meth : Method) (c : Code), cE p s m args own dC dI ac ad → c.code = cc → meth.sig.returnType = ret → meth.locks = false → meth.name = y.name → c.maxLocals = maxL → (∀ x ∈ c.exceptionTable.toList, False) → cS dC dI ac ad b s.heap (aN A) (aS A) n1 s1 A s.heap [] → ∀ ls : Array Slot, lv_has ls maxL (lv_args 0 As) →
      W p l e rm s m args below meth c s.heap [] 0 0 (vx_MQ below Qc XC args s mc ms (cF ad)) (F0 m 0 ls [])) :
    vx_Met l y (ws_ y cc maxL ret) rm (va_Pc As (cPre dC dI ac ad b A)) Qc XC mc ms (cF ad) := by
  refine vx_ofW (cc := cc) (maxL := maxL) (ret := ret) hy rfl ?_
  intro p e s m args below meth c s₁ B hml hnx hv
  obtain ⟨rfl, hW, hK, hN, hX⟩ := hv
  have hts := atoms_spec (ws := ws_ y cc maxL ret) B.pre
  have hts : ∀ w ∈ lw_all, w.before _ s = true := fun w h => hts w (List.mem_cons_of_mem _ h)
  have hown : s.vm.findClass own = some m.cls := by rw [← hyc]; exact findClass_of_methodNamed B.named
  have hl := lv_entry As (n := maxL) hsl
  rw [lg_entry_eq]
  exact body p e s m _ below meth c ⟨B.exec, hown, hts, hK, hN, hX⟩ B.bytes B.returns B.notSynchronized (name_of_methodNamed B.named B.method).1 hml hnx ⟨hW, va_S.rf, Nat.le_refl _, Nat.le_refl _, hup⟩ _ hl
