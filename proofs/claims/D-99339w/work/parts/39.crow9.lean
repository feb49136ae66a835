/-! ROWS THAT MAKE: objects, arrays -/
set_option maxRecDepth 100000
/-- a new cell: kind k, length len, sl slots -/
def nw (A : AH) (k len sl : Nat) : AH := ((aN A + 1, aS A + sl), (fun i => if i = aN A then k else aK A i), (fun i => if i = aN A then len else aL A i), (fun f i j => if i = aN A then 0 else aI A f i j), (fun f i j => if i = aN A then 0 else aJ A f i j), (fun f i j => if i = aN A then none else aR A f i j))
theorem aN_nw (A : AH) (k len sl : Nat) : aN (nw A k len sl) = aN A + 1 := rfl
theorem aS_nw (A : AH) (k len sl : Nat) : aS (nw A k len sl) = aS A + sl := rfl
theorem aK_nw (A : AH) (k len sl i : Nat) : aK (nw A k len sl) i = if i = aN A then k else aK A i := rfl
theorem aL_nw (A : AH) (k len sl i : Nat) : aL (nw A k len sl) i = if i = aN A then len else aL A i := rfl
theorem aI_nw (A : AH) (k len sl f i j : Nat) : aI (nw A k len sl) f i j = if i = aN A then 0 else aI A f i j := rfl
theorem aJ_nw (A : AH) (k len sl f i j : Nat) : aJ (nw A k len sl) f i j = if i = aN A then 0 else aJ A f i j := rfl
theorem aR_nw (A : AH) (k len sl f i j : Nat) : aR (nw A k len sl) f i j = if i = aN A then none else aR A f i j := rfl
/-- making, where there is room among the numbers -/
def nwO (A : AH) (k sl : Nat) : Option AH := if aN A < CB then some (nw A k 0 sl) else none
def nwA (A : AH) (t : Nat) (n : Int32) : Option AH := if aN A < CB ∧ ¬ n < 0 ∧ n.toNatClampNeg ≤ 67108864 then some (nw A t n.toNatClampNeg n.toNatClampNeg) else none
/-- what follows a making ends with no fewer cells -/
def ck {α : Type} (A : AH) (o : Option (α × AH)) : Option (α × AH) := match o with
  | none => none
  | some q => if aN A ≤ aN q.2 ∧ aS A ≤ aS q.2 then some q else none
theorem ck_s {α : Type} {A A' : AH} {o : Option (α × AH)} {r : α} (h : ck A o = some (r, A')) : (aN A ≤ aN A' ∧ aS A ≤ aS A') ∧ o = some (r, A') := by
  cases o with
  | none => cases h
  | some q =>
    by_cases hc : aN A ≤ aN q.2 ∧ aS A ≤ aS q.2
    · have h2 : (if aN A ≤ aN q.2 ∧ aS A ≤ aS q.2 then some q else none) = some (r, A') := h
      rw [if_pos hc] at h2
      cases h2
      exact ⟨hc, rfl⟩
    · have h2 : (if aN A ≤ aN q.2 ∧ aS A ≤ aS q.2 then some q else none) = some (r, A') := h
      rw [if_neg hc] at h2
      cases h2
theorem nwO_s {A : AH} {k sl : Nat} {β : Type} {g : AH → Option β} {z : β} (h : bo (nwO A k sl) g = some z) : ∃ A2, aN A < CB ∧ A2 = nw A k 0 sl ∧ g A2 = some z := by
  obtain ⟨r, h1, h2⟩ := bo_s h
  unfold nwO at h1
  split at h1
  · next hc => cases h1; exact ⟨_, hc, rfl, h2⟩
  · cases h1
theorem nwA_s {A : AH} {t : Nat} {n : Int32} {β : Type} {g : AH → Option β} {z : β} (h : bo (nwA A t n) g = some z) : ∃ A2, (aN A < CB ∧ ¬ n < 0 ∧ n.toNatClampNeg ≤ 67108864) ∧ A2 = nw A t n.toNatClampNeg n.toNatClampNeg ∧ g A2 = some z := by
  obtain ⟨r, h1, h2⟩ := bo_s h
  unfold nwA at h1
  split at h1
  · next hc => cases h1; exact ⟨_, hc, rfl, h2⟩
  · cases h1
theorem cce_nwo (ad : Nat → Nat) (ac : Nat → ClassId) (A : AH) (k len sl : Nat) {j : Nat} (h : j ≠ aN A) : cce ad ac (nw A k len sl) j = cce ad ac A j := by
  have e1 : ∀ f t, cfv ad (nw A k len sl) f j t = cfv ad A f j t := by
    intro f t
    simp only [cfv, aI_nw, aJ_nw, aR_nw, if_neg h]
  have e2 : ∀ c, cfs ad (nw A k len sl) c j = cfs ad A c j := by
    intro c
    simp only [cfs, e1]
  have e3 : ∀ c, cco ad (nw A k len sl) c j = cco ad A c j := by
    intro c
    have q1 : aI (nw A k len sl) c j = aI A c j := funext fun i => by rw [aI_nw, if_neg h]
    have q2 : aJ (nw A k len sl) 32 j = aJ A 32 j := funext fun i => by rw [aJ_nw, if_neg h]
    have q3 : (fun i => (aR (nw A k len sl) c j i).map ad) = fun i => (aR A c j i).map ad := funext fun i => by rw [aR_nw, if_neg h]
    simp only [cco, q1, q2, q3]
  simp only [cce, aK_nw, aL_nw, if_neg h, e2, e3]
theorem wC_nw (ad : Nat → Nat) (ac : Nat → ClassId) (A : AH) (k len sl : Nat) : wC ad ac (nw A k len sl) = wC ad ac A ++ [(ad (aN A), cce ad ac (nw A k len sl) (aN A))] := by
  unfold wC
  rw [aN_nw, List.range_succ, List.map_append]
  congr 1
  apply List.map_congr_left
  intro i hi
  rw [cce_nwo ad ac A k len sl (Nat.ne_of_lt (List.mem_range.mp hi))]
def cdv (t : Nat) : Value := if t = 0 then .int 0 else if t = 1 then .long 0 else .null
theorem rm_up (n1 n0 s1 s0 : Nat) : n1 ≤ n0 + (n1 - n0) ∧ s1 ≤ s0 + (s1 - s0) := by omega
theorem rm_e {n0 s0 cells slots n1 s1 : Nat} (h : n0 + cells ≤ n1 ∧ s0 + slots ≤ s1) : cells ≤ n1 - n0 ∧ slots ≤ s1 - s0 := by omega
theorem rm_n {n0 s0 a b cells slots n1 s1 : Nat} (h : n0 + cells ≤ a ∧ s0 + slots ≤ b) (h2 : a ≤ n1 ∧ b ≤ s1) : cells + 0 ≤ n1 - n0 ∧ slots + 0 ≤ s1 - s0 := by omega
theorem rm_n2 {n0 s0 a b cells slots a2 b2 : Nat} (h : n0 + cells ≤ a ∧ s0 + slots ≤ b) (h2 : a ≤ a2 ∧ b ≤ b2) : n0 + (cells + 0) ≤ a2 ∧ s0 + (slots + 0) ≤ b2 := by omega
theorem rm_a {n0 s0 a b cells slots a2 b2 n1 s1 : Nat} (h : n0 + cells ≤ a ∧ s0 + slots ≤ b) (h2 : a ≤ a2 ∧ b ≤ b2) (h3 : a2 ≤ n1 ∧ b2 ≤ s1) : cells + (a2 - a) ≤ n1 - n0 ∧ slots + (b2 - b) ≤ s1 - s0 := by omega
theorem rm_a2 {n0 s0 a b cells slots a2 b2 : Nat} (h : n0 + cells ≤ a ∧ s0 + slots ≤ b) (h2 : a ≤ a2 ∧ b ≤ b2) : n0 + (cells + (a2 - a)) ≤ a2 ∧ s0 + (slots + (b2 - b)) ≤ b2 := by omega
theorem rm_w {n0 s0 cells slots : Nat} {A A2 : AH} (h : n0 + cells ≤ aN A ∧ s0 + slots ≤ aS A) (e : aN A2 = aN A ∧ aS A2 = aS A) : n0 + cells ≤ aN A2 ∧ s0 + slots ≤ aS A2 := by rw [e.1, e.2]; exact h
/-- a call of one that makes: it ends with no fewer cells, and so does what follows -/
def bda {α β : Type} (A : AH) (x : Option (α × AH)) (g : α → AH → Option (β × AH)) : Option (β × AH) := bd x fun r A2 => if aN A ≤ aN A2 ∧ aS A ≤ aS A2 then ck A2 (g r A2) else none
theorem bda_s {α β : Type} {A A' : AH} {x : Option (α × AH)} {g : α → AH → Option (β × AH)} {z : β} (h : bda A x g = some (z, A')) : ∃ r A2, x = some (r, A2) ∧ (aN A ≤ aN A2 ∧ aS A ≤ aS A2) ∧ (aN A2 ≤ aN A' ∧ aS A2 ≤ aS A') ∧ g r A2 = some (z, A') := by
  obtain ⟨r, A2, h1, h2⟩ := bd_s h
  obtain ⟨h3, h4⟩ := gu_s h2
  obtain ⟨h5, h6⟩ := ck_s h4
  exact ⟨r, A2, h1, h3, h5, h6⟩
section C9
variable {p : Program} {l : Launch} {e : Env} {R : Room} {s : State} {m : MethodId} {args : Array Value} {below : List Frame} {meth : Method} {c : Code} {H : Heap} {locs : List Loc} {cells slots : Nat} {Q : State → Prop}
variable {cc : ByteArray} {pc : Nat} {ls : Array Slot} {rest : List Value} {own : String} {dC : Nat → ClassId} {dI : Nat → Nat → Nat} {ac : Nat → ClassId} {ad : Nat → Nat} {b : Prop} {H0 : Heap} {n0 s0 n1 s1 : Nat} {A A' : AH} {mc ms : Nat}
/-- the world grows by one cell -/
theorem cS_nw (hS : cS dC dI ac ad b H0 n0 s0 n1 s1 A H locs) {k len sl : Nat} {H1 : Heap} (hn : aN A < CB) (hup : aN A + 1 ≤ n1 ∧ aS A + sl ≤ s1) (hat : va_at (dC, dI) cCL (ad (aN A), cce ad ac (nw A k len sl) (aN A)) H1) (z1 : H1.size = H.size + 1) (o1 : ∀ q : Nat, q < H.size → H1[q]? = H[q]?) : cS dC dI ac ad b H0 n0 s0 n1 s1 (nw A k len sl) H1 locs := by
  have had : ad (aN A) = H.size := hS.1.2.2.1 0 hn
  have hk : ∀ (k : Nat) (x : Nat × va_E), (wC ad ac A)[k]? = some x → H1[x.1]? = H[x.1]? := fun k x hx => o1 x.1 ((hS.1.1 k x hx).lt)
  refine ⟨⟨?_, ?_, ?_, ?_, ?_, ?_, ?_⟩, ⟨Nat.le_trans hS.2.1.1 (by omega), fun x h1 h2 => (o1 x (Nat.lt_of_lt_of_le h1 hS.2.1.1)).trans (hS.2.1.2.1 x h1 h2), hS.2.1.2.2⟩, Nat.le_trans hS.2.2.1 (by rw [aN_nw]; omega), Nat.le_trans hS.2.2.2.1 (by rw [aS_nw]; omega), hup⟩
  · rw [wC_nw]
    refine (hS.1.1.kept hk).app (fun k x hx => ?_)
    have hz : k < 1 := (List.getElem?_eq_some_iff.mp hx).1
    rw [show k = 0 by omega] at hx
    cases hx
    exact hat
  · rw [wC_nw]
    exact hS.1.2.1.push hS.1.1 had ⟨aN A, hn, rfl⟩
  · intro j hj
    rw [aN_nw] at hj ⊢
    rw [z1, show aN A + 1 + j = aN A + (1 + j) by omega, hS.1.2.2.1 (1 + j) (by omega)]
    omega
  · intro i h1 h2
    rw [aN_nw] at h1
    rw [aK_nw, if_neg (by omega)]
    exact hS.1.2.2.2.1 i (by omega) h2
  · rw [aN_nw]
    omega
  · intro hb
    have h := hS.1.2.2.2.2.2.1 hb
    refine ⟨by rw [aN_nw]; exact Nat.le_trans h.1 (by omega), fun i hi => ?_, fun i f t hi ht => ?_⟩
    · have : i ≠ aN A := by have := h.1; omega
      rw [aK_nw, aL_nw, if_neg this, if_neg this]
      exact h.2.1 i hi
    · have : i ≠ aN A := by have := h.1; omega
      rw [aR_nw, if_neg this]
      exact h.2.2 i f t hi ht
  · intro i hi
    have h := hS.1.2.2.2.2.2.2 i hi
    have : i ≠ aN A := by omega
    refine ⟨by rw [aK_nw, if_neg this]; exact h.1, by rw [aL_nw, if_neg this]; exact h.2.1, fun f j => by rw [aI_nw, if_neg this]; exact h.2.2.1 f j, fun f j => by rw [aR_nw, if_neg this]; exact h.2.2.2 f j⟩
theorem c_new (E : cE p s m args own dC dI ac ad) (hb : c.code = cc) (hS : cS dC dI ac ad b H0 n0 s0 n1 s1 A H locs) (hcs : n0 + cells ≤ aN A ∧ s0 + slots ≤ aS A) {kd index : Nat} {C : String} {T : u_T} {N : Nat} {ty : Nat → FieldType} (hci : CI kd C T N ty) (hdv : ∀ k, k < N → defaultValue (ty k) = cdv ((cty kd).getD k 0)) (hl : Cond.classLink own index C ∈ lw_all) (hin : Cond.instantiable C N ∈ lw_all) (hini : Cond.initialized C ∈ lw_all) (hn : aN A < CB) (hw : A' = nw A kd 0 N) (hup : aN A' ≤ n1 ∧ aS A' ≤ s1) (hR : n1 ≤ n0 + R.cells ∧ s1 ≤ s0 + R.slots) (hdg : decode cc pc = .ok (.new index, 3))
    (kk : ∀ (H : Heap) (cells slots : Nat), cS dC dI ac ad b H0 n0 s0 n1 s1 A' H locs → n0 + cells ≤ aN A' ∧ s0 + slots ≤ aS A' → W p l e R s m args below meth c H locs cells slots Q (F0 m (pc + 3) ls (.ref (ad (aN A)) :: rest))) : W p l e R s m args below meth c H locs cells slots Q (F0 m pc ls rest) := by
  subst hw
  rw [aN_nw, aS_nw] at hup
  have hKn := E.2.2.2.1.1 (kd - 1) _ hci.1
  refine W.newcK E.1 hb E.2.1 (E.2.2.1 _ hl) (E.2.2.1 _ hin) (E.2.2.1 _ hini) rfl hdg (by omega) (by omega) hKn.2.1 rfl fun H1 kC hkC e1 z1 o1 => ?_
  have had : ad (aN A) = H.size := hS.1.2.2.1 0 hn
  have h2 := kk H1 (cells + 1) (slots + N) (cS_nw hS hn hup ?_ z1 o1) (by rw [aN_nw, aS_nw]; omega)
  · rw [had] at h2
    exact h2
  · rw [cce_ob ad ac _ (show aK (nw A kd 0 N) (aN A) = kd by rw [aK_nw, if_pos rfl]) hci.2.2.2.2.2.2, had]
    refine ⟨_, hci.1, (u_born ty E.2.2.1 hci.2.1 hKn hkC e1 hci.2.2.1).to (fun k hk => ?_)⟩
    have hk2 : k < (cty kd).length := by rw [hci.2.2.2.2.1]; exact hk
    rw [hdv k hk]
    simp only [vp_V, List.getD_eq_getElem?_getD, cfs_at ad (nw A kd 0 N) kd (aN A) (List.getElem?_eq_getElem hk2), Option.getD_some, cfv, aI_nw, aJ_nw, aR_nw, if_true, cdv, List.getElem?_eq_getElem hk2]
    split
    · rfl
    · split <;> rfl
/-- an array of ints (31), longs (32), bytes (33), chars (34), booleans (35) -/
theorem c_newa (E : cE p s m args own dC dI ac ad) (hb : c.code = cc) (hS : cS dC dI ac ad b H0 n0 s0 n1 s1 A H locs) (hcs : n0 + cells ≤ aN A ∧ s0 + slots ≤ aS A) {t : Nat} {atype : ArrayType} {n : Int32} (ht : (t = 31 ∧ atype = .int) ∨ (t = 32 ∧ atype = .long) ∨ (t = 33 ∧ atype = .byte) ∨ (t = 34 ∧ atype = .char) ∨ (t = 35 ∧ atype = .boolean)) (harr : Cond.arrayClass (newarray.typeOf atype) ∈ lw_all) (hn : aN A < CB ∧ ¬ n < 0 ∧ n.toNatClampNeg ≤ 67108864) (hw : A' = nw A t n.toNatClampNeg n.toNatClampNeg) (hup : aN A' ≤ n1 ∧ aS A' ≤ s1) (hR : n1 ≤ n0 + R.cells ∧ s1 ≤ s0 + R.slots) (hdg : decode cc pc = .ok (.newarray atype, 2))
    (kk : ∀ (H : Heap) (cells slots : Nat), cS dC dI ac ad b H0 n0 s0 n1 s1 A' H locs → n0 + cells ≤ aN A' ∧ s0 + slots ≤ aS A' → W p l e R s m args below meth c H locs cells slots Q (F0 m (pc + 2) ls (.ref (ad (aN A)) :: rest))) : W p l e R s m args below meth c H locs cells slots Q (F0 m pc ls (.int n :: rest)) := by
  subst hw
  rw [aN_nw, aS_nw] at hup
  have had : ad (aN A) = H.size := hS.1.2.2.1 0 hn.1
  have hbytes : n.toNatClampNeg * componentBytes (newarray.typeOf atype) ≤ 536870912 := by
    have h8 : componentBytes (newarray.typeOf atype) ≤ 8 := by cases atype <;> decide
    exact Nat.le_trans (Nat.mul_le_mul hn.2.2 h8) (by decide)
  refine va_newaK E.1 hb (E.2.2.1 _ harr) rfl hdg rfl hn.2.1 rfl hbytes (by omega) (by omega) rfl fun H1 cA e1 z1 o1 hAr hNm => ?_
  have h2 := kk H1 (cells + 1) (slots + n.toNatClampNeg) (cS_nw hS hn.1 hup ?_ z1 o1) (by rw [aN_nw, aS_nw]; omega)
  · rw [had] at h2
    exact h2
  · have ht31 : 31 ≤ t := by omega
    rw [cce_ar ad ac _ (show aK (nw A t n.toNatClampNeg n.toNatClampNeg) (aN A) = t by rw [aK_nw, if_pos rfl]) ht31, had]
    show H1[H.size]? = _
    rw [e1, aL_nw, if_pos rfl]
    rcases ht with ⟨rfl, rfl⟩ | ⟨rfl, rfl⟩ | ⟨rfl, rfl⟩ | ⟨rfl, rfl⟩ | ⟨rfl, rfl⟩
    · rw [show cA = ac 31 from Option.some.inj (hNm.symm.trans (E.2.2.2.1.2 0 _ rfl).2), cco_I ad _ _ (by decide), vp_cell_i]
      simp only [aI_nw, if_true]
      rfl
    · rw [show cA = ac 32 from Option.some.inj (hNm.symm.trans (E.2.2.2.1.2 1 _ rfl).2), cco_J, vp_cell_l]
      simp only [aJ_nw, if_true]
      rfl
    · rw [show cA = ac 33 from Option.some.inj (hNm.symm.trans (E.2.2.2.1.2 2 _ rfl).2), cco_I ad _ _ (by decide), vp_cell_i]
      simp only [aI_nw, if_true]
      rfl
    · rw [show cA = ac 34 from Option.some.inj (hNm.symm.trans (E.2.2.2.1.2 3 _ rfl).2), cco_I ad _ _ (by decide), vp_cell_i]
      simp only [aI_nw, if_true]
      rfl
    · rw [show cA = ac 35 from Option.some.inj (hNm.symm.trans (E.2.2.2.1.2 4 _ rfl).2), cco_I ad _ _ (by decide), vp_cell_i]
      simp only [aI_nw, if_true]
      rfl
end C9
theorem dv_1 : ∀ k, k < 25 → defaultValue (tyX0 k) = cdv ((cty 1).getD k 0) := by
  intro k h
  rcases (show k = 0 ∨ k = 1 ∨ k = 2 ∨ k = 3 ∨ k = 4 ∨ k = 5 ∨ k = 6 ∨ k = 7 ∨ k = 8 ∨ k = 9 ∨ k = 10 ∨ k = 11 ∨ k = 12 ∨ k = 13 ∨ k = 14 ∨ k = 15 ∨ k = 16 ∨ k = 17 ∨ k = 18 ∨ k = 19 ∨ k = 20 ∨ k = 21 ∨ k = 22 ∨ k = 23 ∨ k = 24 by omega) with rfl | rfl | rfl | rfl | rfl | rfl | rfl | rfl | rfl | rfl | rfl | rfl | rfl | rfl | rfl | rfl | rfl | rfl | rfl | rfl | rfl | rfl | rfl | rfl | rfl <;> rfl
theorem dv_2 : ∀ k, k < 15 → defaultValue (tyX1 k) = cdv ((cty 2).getD k 0) := by
  intro k h
  rcases (show k = 0 ∨ k = 1 ∨ k = 2 ∨ k = 3 ∨ k = 4 ∨ k = 5 ∨ k = 6 ∨ k = 7 ∨ k = 8 ∨ k = 9 ∨ k = 10 ∨ k = 11 ∨ k = 12 ∨ k = 13 ∨ k = 14 by omega) with rfl | rfl | rfl | rfl | rfl | rfl | rfl | rfl | rfl | rfl | rfl | rfl | rfl | rfl | rfl <;> rfl
theorem dv_3 : ∀ k, k < 8 → defaultValue (tyX2 k) = cdv ((cty 3).getD k 0) := by
  intro k h
  rcases (show k = 0 ∨ k = 1 ∨ k = 2 ∨ k = 3 ∨ k = 4 ∨ k = 5 ∨ k = 6 ∨ k = 7 by omega) with rfl | rfl | rfl | rfl | rfl | rfl | rfl | rfl <;> rfl
theorem dv_4 : ∀ k, k < 8 → defaultValue (tyX3 k) = cdv ((cty 4).getD k 0) := by
  intro k h
  rcases (show k = 0 ∨ k = 1 ∨ k = 2 ∨ k = 3 ∨ k = 4 ∨ k = 5 ∨ k = 6 ∨ k = 7 by omega) with rfl | rfl | rfl | rfl | rfl | rfl | rfl | rfl <;> rfl
theorem dv_5 : ∀ k, k < 1 → defaultValue (tyX4 k) = cdv ((cty 5).getD k 0) := by
  intro k h
  rcases (show k = 0 by omega) with rfl <;> rfl
theorem dv_6 : ∀ k, k < 11 → defaultValue (tyX5 k) = cdv ((cty 6).getD k 0) := by
  intro k h
  rcases (show k = 0 ∨ k = 1 ∨ k = 2 ∨ k = 3 ∨ k = 4 ∨ k = 5 ∨ k = 6 ∨ k = 7 ∨ k = 8 ∨ k = 9 ∨ k = 10 by omega) with rfl | rfl | rfl | rfl | rfl | rfl | rfl | rfl | rfl | rfl | rfl <;> rfl
theorem dv_7 : ∀ k, k < 4 → defaultValue (tyX7 k) = cdv ((cty 7).getD k 0) := by
  intro k h
  rcases (show k = 0 ∨ k = 1 ∨ k = 2 ∨ k = 3 by omega) with rfl | rfl | rfl | rfl <;> rfl
theorem dv_8 : ∀ k, k < 2 → defaultValue (tyX9 k) = cdv ((cty 8).getD k 0) := by
  intro k h
  rcases (show k = 0 ∨ k = 1 by omega) with rfl | rfl <;> rfl
theorem dv_9 : ∀ k, k < 3 → defaultValue (tyX10 k) = cdv ((cty 9).getD k 0) := by
  intro k h
  rcases (show k = 0 ∨ k = 1 ∨ k = 2 by omega) with rfl | rfl | rfl <;> rfl
theorem dv_10 : ∀ k, k < 1 → defaultValue (tyX11 k) = cdv ((cty 10).getD k 0) := by
  intro k h
  rcases (show k = 0 by omega) with rfl <;> rfl
theorem dv_11 : ∀ k, k < 1 → defaultValue (tyX12 k) = cdv ((cty 11).getD k 0) := by
  intro k h
  rcases (show k = 0 by omega) with rfl <;> rfl
theorem dv_12 : ∀ k, k < 3 → defaultValue (tyX13 k) = cdv ((cty 12).getD k 0) := by
  intro k h
  rcases (show k = 0 ∨ k = 1 ∨ k = 2 by omega) with rfl | rfl | rfl <;> rfl
theorem dv_13 : ∀ k, k < 2 → defaultValue (tyX15 k) = cdv ((cty 13).getD k 0) := by
  intro k h
  rcases (show k = 0 ∨ k = 1 by omega) with rfl | rfl <;> rfl
theorem dv_14 : ∀ k, k < 1 → defaultValue (tyX16 k) = cdv ((cty 14).getD k 0) := by
  intro k h
  rcases (show k = 0 by omega) with rfl <;> rfl
theorem dv_15 : ∀ k, k < 0 → defaultValue ((fun _ => FieldType.int) k) = cdv ((cty 15).getD k 0) := by intro k h; omega
theorem dv_16 : ∀ k, k < 3 → defaultValue (tyX18 k) = cdv ((cty 16).getD k 0) := by
  intro k h
  rcases (show k = 0 ∨ k = 1 ∨ k = 2 by omega) with rfl | rfl | rfl <;> rfl
theorem dv_17 : ∀ k, k < 5 → defaultValue (tyX19 k) = cdv ((cty 17).getD k 0) := by
  intro k h
  rcases (show k = 0 ∨ k = 1 ∨ k = 2 ∨ k = 3 ∨ k = 4 by omega) with rfl | rfl | rfl | rfl | rfl <;> rfl
theorem dv_18 : ∀ k, k < 3 → defaultValue (tyJ2 k) = cdv ((cty 18).getD k 0) := by
  intro k h
  rcases (show k = 0 ∨ k = 1 ∨ k = 2 by omega) with rfl | rfl | rfl <;> rfl
theorem dv_19 : ∀ k, k < 4 → defaultValue (tyJ6 k) = cdv ((cty 19).getD k 0) := by
  intro k h
  rcases (show k = 0 ∨ k = 1 ∨ k = 2 ∨ k = 3 by omega) with rfl | rfl | rfl | rfl <;> rfl
theorem dv_20 : ∀ k, k < 4 → defaultValue (tyJ15 k) = cdv ((cty 20).getD k 0) := by
  intro k h
  rcases (show k = 0 ∨ k = 1 ∨ k = 2 ∨ k = 3 by omega) with rfl | rfl | rfl | rfl <;> rfl
theorem dv_21 : ∀ k, k < 106 → defaultValue (tyX6 k) = cdv ((cty 21).getD k 0)
  | 0, _ => rfl
  | 1, _ => rfl
  | 2, _ => rfl
  | 3, _ => rfl
  | 4, _ => rfl
  | 5, _ => rfl
  | 6, _ => rfl
  | 7, _ => rfl
  | 8, _ => rfl
  | 9, _ => rfl
  | 10, _ => rfl
  | 11, _ => rfl
  | 12, _ => rfl
  | 13, _ => rfl
  | 14, _ => rfl
  | 15, _ => rfl
  | 16, _ => rfl
  | 17, _ => rfl
  | 18, _ => rfl
  | 19, _ => rfl
  | 20, _ => rfl
  | 21, _ => rfl
  | 22, _ => rfl
  | 23, _ => rfl
  | 24, _ => rfl
  | 25, _ => rfl
  | 26, _ => rfl
  | 27, _ => rfl
  | 28, _ => rfl
  | 29, _ => rfl
  | 30, _ => rfl
  | 31, _ => rfl
  | 32, _ => rfl
  | 33, _ => rfl
  | 34, _ => rfl
  | 35, _ => rfl
  | 36, _ => rfl
  | 37, _ => rfl
  | 38, _ => rfl
  | 39, _ => rfl
  | 40, _ => rfl
  | 41, _ => rfl
  | 42, _ => rfl
  | 43, _ => rfl
  | 44, _ => rfl
  | 45, _ => rfl
  | 46, _ => rfl
  | 47, _ => rfl
  | 48, _ => rfl
  | 49, _ => rfl
  | 50, _ => rfl
  | 51, _ => rfl
  | 52, _ => rfl
  | 53, _ => rfl
  | 54, _ => rfl
  | 55, _ => rfl
  | 56, _ => rfl
  | 57, _ => rfl
  | 58, _ => rfl
  | 59, _ => rfl
  | 60, _ => rfl
  | 61, _ => rfl
  | 62, _ => rfl
  | 63, _ => rfl
  | 64, _ => rfl
  | 65, _ => rfl
  | 66, _ => rfl
  | 67, _ => rfl
  | 68, _ => rfl
  | 69, _ => rfl
  | 70, _ => rfl
  | 71, _ => rfl
  | 72, _ => rfl
  | 73, _ => rfl
  | 74, _ => rfl
  | 75, _ => rfl
  | 76, _ => rfl
  | 77, _ => rfl
  | 78, _ => rfl
  | 79, _ => rfl
  | 80, _ => rfl
  | 81, _ => rfl
  | 82, _ => rfl
  | 83, _ => rfl
  | 84, _ => rfl
  | 85, _ => rfl
  | 86, _ => rfl
  | 87, _ => rfl
  | 88, _ => rfl
  | 89, _ => rfl
  | 90, _ => rfl
  | 91, _ => rfl
  | 92, _ => rfl
  | 93, _ => rfl
  | 94, _ => rfl
  | 95, _ => rfl
  | 96, _ => rfl
  | 97, _ => rfl
  | 98, _ => rfl
  | 99, _ => rfl
  | 100, _ => rfl
  | 101, _ => rfl
  | 102, _ => rfl
  | 103, _ => rfl
  | 104, _ => rfl
  | 105, _ => rfl
  | n + 106, h => absurd h (by omega)
