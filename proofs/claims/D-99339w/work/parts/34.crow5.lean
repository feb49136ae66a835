/-! PURE WORDS over the abstract heap, and the rows that go with them -/
set_option maxRecDepth 100000
def isStb (j : Nat) : Bool := j == 16 || j == 64 || (decide (140 ≤ j) && decide (j < 1100) && (j - 140) % 48 == 0)
theorem isSt_of {j : Nat} (h : isStb j = true) : isSt j := by
  unfold isStb at h
  unfold isSt
  simp only [Bool.or_eq_true, beq_iff_eq, Bool.and_eq_true, decide_eq_true_eq] at h
  rcases h with (h | h) | h
  · exact Or.inl h
  · exact Or.inr (Or.inl h)
  · exact Or.inr (Or.inr ⟨h.1.1, h.1.2, h.2⟩)
theorem ro_s {α : Type} {v r : α} {A : AH} (h : some v = some r) : some (v, A) = some (r, A) := by cases h; rfl
def gI (kd : Nat) (A : AH) (f i : Nat) : Option Int32 := if aK A i = kd then some (aI A f i 0) else none
def gJ (kd : Nat) (A : AH) (f i : Nat) : Option Int64 := if aK A i = kd then some (aJ A f i 0) else none
def gN (kd : Nat) (A : AH) (f i : Nat) : Option Nat := if aK A i = kd then aR A f i 0 else none
def gR (kd : Nat) (A : AH) (f i : Nat) : Option (Option Nat) := if aK A i = kd then some (aR A f i 0) else none
def pI (kd : Nat) (A : AH) (f i : Nat) (v : Int32) : Option AH := if aK A i = kd then some (wI A f i 0 v) else none
def pJ (kd : Nat) (A : AH) (f i : Nat) (v : Int64) : Option AH := if aK A i = kd then some (wJ A f i 0 v) else none
def pR (kd : Nat) (A : AH) (f i : Nat) (v : Option Nat) : Option AH := if aK A i = kd then some (wR A f i 0 v) else none
theorem gI_s {kd : Nat} {A : AH} {f i : Nat} {β : Type} {g : Int32 → Option β} {z : β} (h : bo (gI kd A f i) g = some z) : aK A i = kd ∧ g (aI A f i 0) = some z := by
  obtain ⟨r, h1, h2⟩ := bo_s h
  unfold gI at h1
  split at h1
  · next hc => cases h1; exact ⟨hc, h2⟩
  · cases h1
theorem gJ_s {kd : Nat} {A : AH} {f i : Nat} {β : Type} {g : Int64 → Option β} {z : β} (h : bo (gJ kd A f i) g = some z) : aK A i = kd ∧ g (aJ A f i 0) = some z := by
  obtain ⟨r, h1, h2⟩ := bo_s h
  unfold gJ at h1
  split at h1
  · next hc => cases h1; exact ⟨hc, h2⟩
  · cases h1
theorem gN_s {kd : Nat} {A : AH} {f i : Nat} {β : Type} {g : Nat → Option β} {z : β} (h : bo (gN kd A f i) g = some z) : ∃ q, (aK A i = kd ∧ aR A f i 0 = some q) ∧ g q = some z := by
  obtain ⟨r, h1, h2⟩ := bo_s h
  unfold gN at h1
  split at h1
  · next hc => exact ⟨r, ⟨hc, h1⟩, h2⟩
  · cases h1
theorem gR_s {kd : Nat} {A : AH} {f i : Nat} {β : Type} {g : Option Nat → Option β} {z : β} (h : bo (gR kd A f i) g = some z) : aK A i = kd ∧ g (aR A f i 0) = some z := by
  obtain ⟨r, h1, h2⟩ := bo_s h
  unfold gR at h1
  split at h1
  · next hc => cases h1; exact ⟨hc, h2⟩
  · cases h1
theorem pI_s {kd : Nat} {A : AH} {f i : Nat} {v : Int32} {β : Type} {g : AH → Option β} {z : β} (h : bo (pI kd A f i v) g = some z) : ∃ A2, aK A i = kd ∧ A2 = wI A f i 0 v ∧ g A2 = some z := by
  obtain ⟨r, h1, h2⟩ := bo_s h
  unfold pI at h1
  split at h1
  · next hc => cases h1; exact ⟨_, hc, rfl, h2⟩
  · cases h1
theorem pJ_s {kd : Nat} {A : AH} {f i : Nat} {v : Int64} {β : Type} {g : AH → Option β} {z : β} (h : bo (pJ kd A f i v) g = some z) : ∃ A2, aK A i = kd ∧ A2 = wJ A f i 0 v ∧ g A2 = some z := by
  obtain ⟨r, h1, h2⟩ := bo_s h
  unfold pJ at h1
  split at h1
  · next hc => cases h1; exact ⟨_, hc, rfl, h2⟩
  · cases h1
theorem pR_s {kd : Nat} {A : AH} {f i : Nat} {v : Option Nat} {β : Type} {g : AH → Option β} {z : β} (h : bo (pR kd A f i v) g = some z) : ∃ A2, aK A i = kd ∧ A2 = wR A f i 0 v ∧ g A2 = some z := by
  obtain ⟨r, h1, h2⟩ := bo_s h
  unfold pR at h1
  split at h1
  · next hc => cases h1; exact ⟨_, hc, rfl, h2⟩
  · cases h1
/-- arrays that stand from the making on: n long -/
def sI (n t : Nat) (A : AH) (i : Nat) (j : Int32) : Option Int32 := if ¬ (j < 0 ∨ n ≤ j.toNatClampNeg) then some (aI A t i j.toNatClampNeg) else none
def sJ (n : Nat) (A : AH) (i : Nat) (j : Int32) : Option Int64 := if ¬ (j < 0 ∨ n ≤ j.toNatClampNeg) then some (aJ A 32 i j.toNatClampNeg) else none
def sR (n t : Nat) (A : AH) (i : Nat) (j : Int32) : Option Nat := if ¬ (j < 0 ∨ n ≤ j.toNatClampNeg) then aR A t i j.toNatClampNeg else none
def tI (n t : Nat) (A : AH) (i : Nat) (j v : Int32) : Option AH := if ¬ (j < 0 ∨ n ≤ j.toNatClampNeg) then some (wI A t i j.toNatClampNeg v) else none
def tJ (n : Nat) (A : AH) (i : Nat) (j : Int32) (v : Int64) : Option AH := if ¬ (j < 0 ∨ n ≤ j.toNatClampNeg) then some (wJ A 32 i j.toNatClampNeg v) else none
/-- any array of a kind -/
def dI_ (t : Nat) (A : AH) (i : Nat) (j : Int32) : Option Int32 := if aK A i = t ∧ ¬ (j < 0 ∨ aL A i ≤ j.toNatClampNeg) then some (aI A t i j.toNatClampNeg) else none
def dJ_ (A : AH) (i : Nat) (j : Int32) : Option Int64 := if aK A i = 32 ∧ ¬ (j < 0 ∨ aL A i ≤ j.toNatClampNeg) then some (aJ A 32 i j.toNatClampNeg) else none
def dR_ (t : Nat) (A : AH) (i : Nat) (j : Int32) : Option Nat := if aK A i = t ∧ ¬ (j < 0 ∨ aL A i ≤ j.toNatClampNeg) then aR A t i j.toNatClampNeg else none
def uI_ (t : Nat) (A : AH) (i : Nat) (j v : Int32) : Option AH := if aK A i = t ∧ ¬ (j < 0 ∨ aL A i ≤ j.toNatClampNeg) then some (wI A t i j.toNatClampNeg v) else none
def uJ_ (A : AH) (i : Nat) (j : Int32) (v : Int64) : Option AH := if aK A i = 32 ∧ ¬ (j < 0 ∨ aL A i ≤ j.toNatClampNeg) then some (wJ A 32 i j.toNatClampNeg v) else none
def aLn (t : Nat) (A : AH) (i : Nat) : Option Int32 := if aK A i = t then some (Int32.ofNat (aL A i)) else none
theorem sI_s {n t : Nat} {A : AH} {i : Nat} {j : Int32} {β : Type} {g : Int32 → Option β} {z : β} (h : bo (sI n t A i j) g = some z) : vp_in j n ∧ g (aI A t i j.toNatClampNeg) = some z := by
  obtain ⟨r, h1, h2⟩ := bo_s h
  unfold sI at h1
  split at h1
  · next hc => cases h1; exact ⟨hc, h2⟩
  · cases h1
theorem sJ_s {n : Nat} {A : AH} {i : Nat} {j : Int32} {β : Type} {g : Int64 → Option β} {z : β} (h : bo (sJ n A i j) g = some z) : vp_in j n ∧ g (aJ A 32 i j.toNatClampNeg) = some z := by
  obtain ⟨r, h1, h2⟩ := bo_s h
  unfold sJ at h1
  split at h1
  · next hc => cases h1; exact ⟨hc, h2⟩
  · cases h1
theorem sR_s {n t : Nat} {A : AH} {i : Nat} {j : Int32} {β : Type} {g : Nat → Option β} {z : β} (h : bo (sR n t A i j) g = some z) : ∃ q, (vp_in j n ∧ aR A t i j.toNatClampNeg = some q) ∧ g q = some z := by
  obtain ⟨r, h1, h2⟩ := bo_s h
  unfold sR at h1
  split at h1
  · next hc => exact ⟨r, ⟨hc, h1⟩, h2⟩
  · cases h1
theorem tI_s {n t : Nat} {A : AH} {i : Nat} {j v : Int32} {β : Type} {g : AH → Option β} {z : β} (h : bo (tI n t A i j v) g = some z) : ∃ A2, vp_in j n ∧ A2 = wI A t i j.toNatClampNeg v ∧ g A2 = some z := by
  obtain ⟨r, h1, h2⟩ := bo_s h
  unfold tI at h1
  split at h1
  · next hc => cases h1; exact ⟨_, hc, rfl, h2⟩
  · cases h1
theorem tJ_s {n : Nat} {A : AH} {i : Nat} {j : Int32} {v : Int64} {β : Type} {g : AH → Option β} {z : β} (h : bo (tJ n A i j v) g = some z) : ∃ A2, vp_in j n ∧ A2 = wJ A 32 i j.toNatClampNeg v ∧ g A2 = some z := by
  obtain ⟨r, h1, h2⟩ := bo_s h
  unfold tJ at h1
  split at h1
  · next hc => cases h1; exact ⟨_, hc, rfl, h2⟩
  · cases h1
theorem dI_s {t : Nat} {A : AH} {i : Nat} {j : Int32} {β : Type} {g : Int32 → Option β} {z : β} (h : bo (dI_ t A i j) g = some z) : (aK A i = t ∧ vp_in j (aL A i)) ∧ g (aI A t i j.toNatClampNeg) = some z := by
  obtain ⟨r, h1, h2⟩ := bo_s h
  unfold dI_ at h1
  split at h1
  · next hc => cases h1; exact ⟨hc, h2⟩
  · cases h1
theorem dJ_s {A : AH} {i : Nat} {j : Int32} {β : Type} {g : Int64 → Option β} {z : β} (h : bo (dJ_ A i j) g = some z) : (aK A i = 32 ∧ vp_in j (aL A i)) ∧ g (aJ A 32 i j.toNatClampNeg) = some z := by
  obtain ⟨r, h1, h2⟩ := bo_s h
  unfold dJ_ at h1
  split at h1
  · next hc => cases h1; exact ⟨hc, h2⟩
  · cases h1
theorem dR_s {t : Nat} {A : AH} {i : Nat} {j : Int32} {β : Type} {g : Nat → Option β} {z : β} (h : bo (dR_ t A i j) g = some z) : ∃ q, ((aK A i = t ∧ vp_in j (aL A i)) ∧ aR A t i j.toNatClampNeg = some q) ∧ g q = some z := by
  obtain ⟨r, h1, h2⟩ := bo_s h
  unfold dR_ at h1
  split at h1
  · next hc => exact ⟨r, ⟨hc, h1⟩, h2⟩
  · cases h1
theorem uI_s {t : Nat} {A : AH} {i : Nat} {j v : Int32} {β : Type} {g : AH → Option β} {z : β} (h : bo (uI_ t A i j v) g = some z) : ∃ A2, (aK A i = t ∧ vp_in j (aL A i)) ∧ A2 = wI A t i j.toNatClampNeg v ∧ g A2 = some z := by
  obtain ⟨r, h1, h2⟩ := bo_s h
  unfold uI_ at h1
  split at h1
  · next hc => cases h1; exact ⟨_, hc, rfl, h2⟩
  · cases h1
theorem uJ_s {A : AH} {i : Nat} {j : Int32} {v : Int64} {β : Type} {g : AH → Option β} {z : β} (h : bo (uJ_ A i j v) g = some z) : ∃ A2, (aK A i = 32 ∧ vp_in j (aL A i)) ∧ A2 = wJ A 32 i j.toNatClampNeg v ∧ g A2 = some z := by
  obtain ⟨r, h1, h2⟩ := bo_s h
  unfold uJ_ at h1
  split at h1
  · next hc => cases h1; exact ⟨_, hc, rfl, h2⟩
  · cases h1
theorem aLn_s {t : Nat} {A : AH} {i : Nat} {β : Type} {g : Int32 → Option β} {z : β} (h : bo (aLn t A i) g = some z) : aK A i = t ∧ g (Int32.ofNat (aL A i)) = some z := by
  obtain ⟨r, h1, h2⟩ := bo_s h
  unfold aLn at h1
  split at h1
  · next hc => cases h1; exact ⟨hc, h2⟩
  · cases h1
section CT
variable {p : Program} {l : Launch} {e : Env} {R : Room} {s : State} {m : MethodId} {args : Array Value} {below : List Frame} {meth : Method} {c : Code} {H : Heap} {locs : List Loc} {cells slots : Nat} {Q : State → Prop}
variable {cc : ByteArray} {pc : Nat} {ls : Array Slot} {rest : List Value} {own : String} {dC : Nat → ClassId} {dI : Nat → Nat → Nat} {ac : Nat → ClassId} {ad : Nat → Nat} {b : Prop} {H0 : Heap} {n0 s0 n1 s1 : Nat} {A A' : AH}
theorem cst (hS : cS dC dI ac ad True H0 n0 s0 n1 s1 A H locs) : CST A := hS.1.2.2.2.2.2.1 trivial
theorem sK (hS : cS dC dI ac ad True H0 n0 s0 n1 s1 A H locs) {i t : Nat} (h1 : i < 1101) (h2 : stK i = t) : aK A i = t := (((cst hS).2.1 i h1).1).trans h2
theorem sLn (hS : cS dC dI ac ad True H0 n0 s0 n1 s1 A H locs) {i n : Nat} (h1 : i < 1101) (h2 : stLn i = n) : aL A i = n := (((cst hS).2.1 i h1).2).trans h2
theorem sN (hS : cS dC dI ac ad True H0 n0 s0 n1 s1 A H locs) {i : Nat} (h1 : i < 1101) : i < aN A := Nat.lt_of_lt_of_le h1 (cst hS).1
theorem sRf (hS : cS dC dI ac ad True H0 n0 s0 n1 s1 A H locs) {i f t : Nat} (h1 : i < 1101) (h2 : sref f i = some t) : aR A f i 0 = some t := (cst hS).2.2 i f t h1 h2
theorem s_ld (E : cE p s m args own dC dI ac ad) (hb : c.code = cc) (hS : cS dC dI ac ad True H0 n0 s0 n1 s1 A H locs) {i t n : Nat} {j : Int32} (h1 : i < 1101 ∧ stK i = t ∧ stLn i = n) (hin : vp_in j n) {op : Instr} (ht : (t = 31 ∧ op = .iaload) ∨ (t = 33 ∧ op = .baload) ∨ (t = 34 ∧ op = .caload) ∨ (t = 35 ∧ op = .baload)) (hdg : decode cc pc = .ok (op, 1))
    (kk : W p l e R s m args below meth c H locs cells slots Q (F0 m (pc + 1) ls (.int (aI A t i j.toNatClampNeg) :: rest))) : W p l e R s m args below meth c H locs cells slots Q (F0 m pc ls (.int j :: .ref (ad i) :: rest)) :=
  c_ld E hb hS (sK hS h1.1 h1.2.1) (sN hS h1.1) (by rw [sLn hS h1.1 h1.2.2]; exact hin) ht hdg kk
theorem s_lld (E : cE p s m args own dC dI ac ad) (hb : c.code = cc) (hS : cS dC dI ac ad True H0 n0 s0 n1 s1 A H locs) {i n : Nat} {j : Int32} (h1 : i < 1101 ∧ stK i = 32 ∧ stLn i = n) (hin : vp_in j n) (hdg : decode cc pc = .ok (.laload, 1))
    (kk : W p l e R s m args below meth c H locs cells slots Q (F0 m (pc + 1) ls (.long (aJ A 32 i j.toNatClampNeg) :: rest))) : W p l e R s m args below meth c H locs cells slots Q (F0 m pc ls (.int j :: .ref (ad i) :: rest)) :=
  c_lld E hb hS (sK hS h1.1 h1.2.1) (by rw [sLn hS h1.1 h1.2.2]; exact hin) hdg kk
theorem s_st (E : cE p s m args own dC dI ac ad) (hb : c.code = cc) (hS : cS dC dI ac ad True H0 n0 s0 n1 s1 A H locs) {i t n : Nat} {j v : Int32} (h1 : i < 1101 ∧ stK i = t ∧ stLn i = n) (hin : vp_in j n) {op : Instr} {v' : Int32} (ht : (t = 31 ∧ op = .iastore ∧ v' = v) ∨ (t = 33 ∧ op = .bastore ∧ v' = vp_nar .byte v) ∨ (t = 34 ∧ op = .castore ∧ v' = vp_nar .char v) ∨ (t = 35 ∧ op = .bastore ∧ v' = vp_nar .boolean v)) (hw : A' = wI A t i j.toNatClampNeg v') (hdg : decode cc pc = .ok (op, 1))
    (kk : ∀ (H : Heap) (locs : List Loc), cS dC dI ac ad True H0 n0 s0 n1 s1 A' H locs → W p l e R s m args below meth c H locs cells slots Q (F0 m (pc + 1) ls rest)) : W p l e R s m args below meth c H locs cells slots Q (F0 m pc ls (.int v :: .int j :: .ref (ad i) :: rest)) :=
  c_st E hb hS (sK hS h1.1 h1.2.1) (sN hS h1.1) (by rw [sLn hS h1.1 h1.2.2]; exact hin) ht hw hdg kk
theorem s_lst (E : cE p s m args own dC dI ac ad) (hb : c.code = cc) (hS : cS dC dI ac ad True H0 n0 s0 n1 s1 A H locs) {i n : Nat} {j : Int32} {v : Int64} (h1 : i < 1101 ∧ stK i = 32 ∧ stLn i = n) (hin : vp_in j n) (hw : A' = wJ A 32 i j.toNatClampNeg v) (hdg : decode cc pc = .ok (.lastore, 1))
    (kk : ∀ (H : Heap) (locs : List Loc), cS dC dI ac ad True H0 n0 s0 n1 s1 A' H locs → W p l e R s m args below meth c H locs cells slots Q (F0 m (pc + 1) ls rest)) : W p l e R s m args below meth c H locs cells slots Q (F0 m pc ls (.long v :: .int j :: .ref (ad i) :: rest)) :=
  c_lst E hb hS (sK hS h1.1 h1.2.1) (by rw [sLn hS h1.1 h1.2.2]; exact hin) hw hdg kk
theorem s_ald (E : cE p s m args own dC dI ac ad) (hb : c.code = cc) (hS : cS dC dI ac ad True H0 n0 s0 n1 s1 A H locs) {i t n q : Nat} {j : Int32} (h1 : i < 1101 ∧ stK i = t ∧ stLn i = n) (ht : 36 ≤ t ∧ t ≤ 40) (hg : vp_in j n ∧ aR A t i j.toNatClampNeg = some q) (hdg : decode cc pc = .ok (.aaload, 1))
    (kk : W p l e R s m args below meth c H locs cells slots Q (F0 m (pc + 1) ls (.ref (ad q) :: rest))) : W p l e R s m args below meth c H locs cells slots Q (F0 m pc ls (.int j :: .ref (ad i) :: rest)) := by
  refine c_ald E hb hS (sK hS h1.1 h1.2.1) (sN hS h1.1) ht (by rw [sLn hS h1.1 h1.2.2]; exact hg.1) hdg ?_
  rw [hg.2]
  exact kk
theorem d_ald (E : cE p s m args own dC dI ac ad) (hb : c.code = cc) (hS : cS dC dI ac ad b H0 n0 s0 n1 s1 A H locs) {i t q : Nat} {j : Int32} (ht : 36 ≤ t ∧ t ≤ 39) (hg : (aK A i = t ∧ vp_in j (aL A i)) ∧ aR A t i j.toNatClampNeg = some q) (hdg : decode cc pc = .ok (.aaload, 1))
    (kk : W p l e R s m args below meth c H locs cells slots Q (F0 m (pc + 1) ls (.ref (ad q) :: rest))) : W p l e R s m args below meth c H locs cells slots Q (F0 m pc ls (.int j :: .ref (ad i) :: rest)) := by
  have hi : i < aN A := hS.1.lt hg.1.1 (by have h5 : t = 36 ∨ t = 37 ∨ t = 38 ∨ t = 39 := by omega
                                           rcases h5 with rfl | rfl | rfl | rfl <;> rfl)
  refine c_ald E hb hS hg.1.1 hi (by omega) hg.1.2 hdg ?_
  rw [hg.2]
  exact kk
theorem d_ld (E : cE p s m args own dC dI ac ad) (hb : c.code = cc) (hS : cS dC dI ac ad b H0 n0 s0 n1 s1 A H locs) {i t : Nat} {j : Int32} (hg : aK A i = t ∧ vp_in j (aL A i)) (hn : nck t = true) {op : Instr} (ht : (t = 31 ∧ op = .iaload) ∨ (t = 33 ∧ op = .baload) ∨ (t = 34 ∧ op = .caload) ∨ (t = 35 ∧ op = .baload)) (hdg : decode cc pc = .ok (op, 1))
    (kk : W p l e R s m args below meth c H locs cells slots Q (F0 m (pc + 1) ls (.int (aI A t i j.toNatClampNeg) :: rest))) : W p l e R s m args below meth c H locs cells slots Q (F0 m pc ls (.int j :: .ref (ad i) :: rest)) :=
  c_ld E hb hS hg.1 (hS.1.lt hg.1 hn) hg.2 ht hdg kk
theorem d_st (E : cE p s m args own dC dI ac ad) (hb : c.code = cc) (hS : cS dC dI ac ad b H0 n0 s0 n1 s1 A H locs) {i t : Nat} {j v : Int32} (hg : aK A i = t ∧ vp_in j (aL A i)) (hn : nck t = true) {op : Instr} {v' : Int32} (ht : (t = 31 ∧ op = .iastore ∧ v' = v) ∨ (t = 33 ∧ op = .bastore ∧ v' = vp_nar .byte v) ∨ (t = 34 ∧ op = .castore ∧ v' = vp_nar .char v) ∨ (t = 35 ∧ op = .bastore ∧ v' = vp_nar .boolean v)) (hw : A' = wI A t i j.toNatClampNeg v') (hdg : decode cc pc = .ok (op, 1))
    (kk : ∀ (H : Heap) (locs : List Loc), cS dC dI ac ad b H0 n0 s0 n1 s1 A' H locs → W p l e R s m args below meth c H locs cells slots Q (F0 m (pc + 1) ls rest)) : W p l e R s m args below meth c H locs cells slots Q (F0 m pc ls (.int v :: .int j :: .ref (ad i) :: rest)) :=
  c_st E hb hS hg.1 (hS.1.lt hg.1 hn) hg.2 ht hw hdg kk
/-- a reference that isn't null -/
theorem c_dr {r : Option Nat} {q : Nat} (hr : r = some q) (kk : W p l e R s m args below meth c H locs cells slots Q (F0 m pc ls (.ref (ad q) :: rest))) : W p l e R s m args below meth c H locs cells slots Q (F0 m pc ls (va_rf (r.map ad) :: rest)) := by
  rw [hr]
  exact kk
theorem c_ifnull (E : cE p s m args own dC dI ac ad) (hb : c.code = cc) {r : Option Nat} {off : Int} {tgt : Nat} (hdg : decode cc pc = .ok (.ifnull off, 3)) (ht : (pc : Int) + off = (tgt : Int)) (kt : r = none → W p l e R s m args below meth c H locs cells slots Q (F0 m tgt ls rest)) (kf : ¬ r = none → W p l e R s m args below meth c H locs cells slots Q (F0 m (pc + 3) ls rest)) : W p l e R s m args below meth c H locs cells slots Q (F0 m pc ls (va_rf (r.map ad) :: rest)) := by
  cases r with
  | none => exact lv_ifnullN E.1 hb hdg ht (kt rfl)
  | some x => exact lv_ifnull E.1 hb hdg (kf (fun h => by cases h))
theorem c_ifnonnull (E : cE p s m args own dC dI ac ad) (hb : c.code = cc) {r : Option Nat} {off : Int} {tgt : Nat} (hdg : decode cc pc = .ok (.ifnonnull off, 3)) (ht : (pc : Int) + off = (tgt : Int)) (kt : ¬ r = none → W p l e R s m args below meth c H locs cells slots Q (F0 m tgt ls rest)) (kf : r = none → W p l e R s m args below meth c H locs cells slots Q (F0 m (pc + 3) ls rest)) : W p l e R s m args below meth c H locs cells slots Q (F0 m pc ls (va_rf (r.map ad) :: rest)) := by
  cases r with
  | none => exact lv_ifnonnullN E.1 hb hdg (kf rfl)
  | some x => exact lv_ifnonnull E.1 hb hdg ht (kt (fun h => by cases h))
end CT
