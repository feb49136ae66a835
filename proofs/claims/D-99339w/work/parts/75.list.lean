/-! PURE LEVEL: lists and builders that grow -/
set_option maxRecDepth 100000
def LX (A : AH) (li ar : Nat) (ids : List Nat) : Prop :=
  (aK A li = 18) ∧
  (aI A 1802 li 0 = nn ids.length) ∧
  (aR A 1801 li 0 = some ar) ∧
  (aK A ar = 39) ∧
  (ids.length ≤ aL A ar) ∧
  (2 ≤ aL A ar) ∧
  (aL A ar < 5000) ∧
  (∀ i v, ids[i]? = some v → aR A 39 ar i = some v) ∧
  (li < CB) ∧
  (ar < CB) ∧
  (∀ v, v ∈ ids → isObj (aK A v) = true)
theorem LX.kd {A : AH} {li ar : Nat} {ids : List Nat} (h : LX A li ar ids) : aK A li = 18 := h.1
theorem LX.len {A : AH} {li ar : Nat} {ids : List Nat} (h : LX A li ar ids) : aI A 1802 li 0 = nn ids.length := h.2.1
theorem LX.rf {A : AH} {li ar : Nat} {ids : List Nat} (h : LX A li ar ids) : aR A 1801 li 0 = some ar := h.2.2.1
theorem LX.ka {A : AH} {li ar : Nat} {ids : List Nat} (h : LX A li ar ids) : aK A ar = 39 := h.2.2.2.1
theorem LX.cap {A : AH} {li ar : Nat} {ids : List Nat} (h : LX A li ar ids) : ids.length ≤ aL A ar := h.2.2.2.2.1
theorem LX.c2 {A : AH} {li ar : Nat} {ids : List Nat} (h : LX A li ar ids) : 2 ≤ aL A ar := h.2.2.2.2.2.1
theorem LX.c5 {A : AH} {li ar : Nat} {ids : List Nat} (h : LX A li ar ids) : aL A ar < 5000 := h.2.2.2.2.2.2.1
theorem LX.el {A : AH} {li ar : Nat} {ids : List Nat} (h : LX A li ar ids) : ∀ i v, ids[i]? = some v → aR A 39 ar i = some v := h.2.2.2.2.2.2.2.1
theorem LX.hl {A : AH} {li ar : Nat} {ids : List Nat} (h : LX A li ar ids) : li < CB := h.2.2.2.2.2.2.2.2.1
theorem LX.ha {A : AH} {li ar : Nat} {ids : List Nat} (h : LX A li ar ids) : ar < CB := h.2.2.2.2.2.2.2.2.2.1
theorem LX.ho {A : AH} {li ar : Nat} {ids : List Nat} (h : LX A li ar ids) : ∀ v, v ∈ ids → isObj (aK A v) = true := h.2.2.2.2.2.2.2.2.2.2
theorem LX.mk {A : AH} {li ar : Nat} {ids : List Nat} (h_kd : aK A li = 18) (h_len : aI A 1802 li 0 = nn ids.length) (h_rf : aR A 1801 li 0 = some ar) (h_ka : aK A ar = 39) (h_cap : ids.length ≤ aL A ar) (h_c2 : 2 ≤ aL A ar) (h_c5 : aL A ar < 5000) (h_el : ∀ i v, ids[i]? = some v → aR A 39 ar i = some v) (h_hl : li < CB) (h_ha : ar < CB) (h_ho : ∀ v, v ∈ ids → isObj (aK A v) = true) : LX A li ar ids := ⟨h_kd, h_len, h_rf, h_ka, h_cap, h_c2, h_c5, h_el, h_hl, h_ha, h_ho⟩
def SX (A : AH) (sb ar : Nat) (ss : List Int32) : Prop :=
  (aK A sb = 20) ∧
  (aI A 2001 sb 0 = 0) ∧
  (aI A 2003 sb 0 = nn ss.length) ∧
  (aR A 2000 sb 0 = some ar) ∧
  (aK A ar = 33) ∧
  (ss.length ≤ aL A ar) ∧
  (2 ≤ aL A ar) ∧
  (aL A ar < 5000) ∧
  (∀ i v, ss[i]? = some v → aI A 33 ar i = v) ∧
  (sb < CB) ∧
  (ar < CB) ∧
  (∀ s, s ∈ ss → sgn s)
theorem SX.kd {A : AH} {sb ar : Nat} {ss : List Int32} (h : SX A sb ar ss) : aK A sb = 20 := h.1
theorem SX.cod {A : AH} {sb ar : Nat} {ss : List Int32} (h : SX A sb ar ss) : aI A 2001 sb 0 = 0 := h.2.1
theorem SX.len {A : AH} {sb ar : Nat} {ss : List Int32} (h : SX A sb ar ss) : aI A 2003 sb 0 = nn ss.length := h.2.2.1
theorem SX.rf {A : AH} {sb ar : Nat} {ss : List Int32} (h : SX A sb ar ss) : aR A 2000 sb 0 = some ar := h.2.2.2.1
theorem SX.ka {A : AH} {sb ar : Nat} {ss : List Int32} (h : SX A sb ar ss) : aK A ar = 33 := h.2.2.2.2.1
theorem SX.cap {A : AH} {sb ar : Nat} {ss : List Int32} (h : SX A sb ar ss) : ss.length ≤ aL A ar := h.2.2.2.2.2.1
theorem SX.c2 {A : AH} {sb ar : Nat} {ss : List Int32} (h : SX A sb ar ss) : 2 ≤ aL A ar := h.2.2.2.2.2.2.1
theorem SX.c5 {A : AH} {sb ar : Nat} {ss : List Int32} (h : SX A sb ar ss) : aL A ar < 5000 := h.2.2.2.2.2.2.2.1
theorem SX.el {A : AH} {sb ar : Nat} {ss : List Int32} (h : SX A sb ar ss) : ∀ i v, ss[i]? = some v → aI A 33 ar i = v := h.2.2.2.2.2.2.2.2.1
theorem SX.hl {A : AH} {sb ar : Nat} {ss : List Int32} (h : SX A sb ar ss) : sb < CB := h.2.2.2.2.2.2.2.2.2.1
theorem SX.ha {A : AH} {sb ar : Nat} {ss : List Int32} (h : SX A sb ar ss) : ar < CB := h.2.2.2.2.2.2.2.2.2.2.1
theorem SX.sg {A : AH} {sb ar : Nat} {ss : List Int32} (h : SX A sb ar ss) : ∀ s, s ∈ ss → sgn s := h.2.2.2.2.2.2.2.2.2.2.2
theorem SX.mk {A : AH} {sb ar : Nat} {ss : List Int32} (h_kd : aK A sb = 20) (h_cod : aI A 2001 sb 0 = 0) (h_len : aI A 2003 sb 0 = nn ss.length) (h_rf : aR A 2000 sb 0 = some ar) (h_ka : aK A ar = 33) (h_cap : ss.length ≤ aL A ar) (h_c2 : 2 ≤ aL A ar) (h_c5 : aL A ar < 5000) (h_el : ∀ i v, ss[i]? = some v → aI A 33 ar i = v) (h_hl : sb < CB) (h_ha : ar < CB) (h_sg : ∀ s, s ∈ ss → sgn s) : SX A sb ar ss := ⟨h_kd, h_cod, h_len, h_rf, h_ka, h_cap, h_c2, h_c5, h_el, h_hl, h_ha, h_sg⟩
theorem half_nn : ∀ a, a < 50 → ∀ b, b < 100 → nn (100 * a + b) >>> ((1 : Int32) &&& 31) = nn ((100 * a + b) / 2) := by decide +kernel
theorem half_eq {c : Nat} (h : c < 5000) : nn c >>> ((1 : Int32) &&& 31) = nn (c / 2) := by
  have := half_nn (c / 100) (by omega) (c % 100) (by omega)
  rw [show 100 * (c / 100) + c % 100 = c by omega] at this
  exact this
theorem nn_subI {a b : Nat} (ha : a < 5000) (hb : b < 5000) : (nn a - nn b).toInt = (a : Int) - b := by
  rw [Int32.toInt_sub, nn_toInt (by omega), nn_toInt (by omega)]
  apply Int.bmod_eq_of_le <;> omega
theorem nn_suble {a b : Nat} (ha : a < 5000) (hb : b < 5000) : nn a - nn b ≤ 0 ↔ a ≤ b := by
  rw [Int32.le_iff_toInt_le, nn_subI ha hb, show (0 : Int32).toInt = 0 from rfl]
  omega
theorem sh0 (x : Int32) : x >>> ((0 : Int32) &&& 31) = x := by
  rw [show ((0 : Int32) &&& 31) = 0 from rfl]; exact Int32.shiftRight_zero
theorem sl0 (x : Int32) : x <<< ((0 : Int32) &&& 31) = x := by
  rw [show ((0 : Int32) &&& 31) = 0 from rfl]; exact Int32.shiftLeft_zero
theorem newLen_eq {A : AH} {c m x : Nat} (hc : c < 5000) (hm : m < 20000) (hx : x ≤ m) (hp : 1 ≤ m) : J10_newLength A (nn c) (nn x) (nn m) = some (nn (c + m), A) := by
  unfold J10_newLength J12_max
  have e : (if nn x < nn m then some (nn m) else some (nn x)) = some (nn m) := by
    by_cases q : x < m
    · rw [if_pos ((nn_lt (by omega) (by omega)).mpr q)]
    · rw [if_neg (fun z => q ((nn_lt (by omega) (by omega)).mp z)), show x = m by omega]
  rw [e, bo_some, nn_add, if_neg (fun z : nn (c + m) ≤ (0 : Int32) => by have := (nn_le (b := 0) (by omega) (by omega)).mp z; omega), if_neg (fun z : (2147483639 : Int32) < nn (c + m) => by have := (nn_lt (a := 2147483639) (by omega) (by omega)).mp z; omega), ck_ok (Le.refl _)]
section
variable {A A' : AH} {li ar sb br v : Nat} {ids : List Nat} {ss : List Int32} {x : Int32}
theorem app_get {α : Type} {l : List α} {v w : α} {i : Nat} (h : (l ++ [v])[i]? = some w) : (i < l.length ∧ l[i]? = some w) ∨ (i = l.length ∧ w = v) := by
  rcases Nat.lt_or_ge i l.length with q | q
  · rw [List.getElem?_append_left q] at h; exact Or.inl ⟨q, h⟩
  · rw [List.getElem?_append_right q] at h
    have : i - l.length < 1 := by
      have := (List.getElem?_eq_some_iff.mp h).1
      simpa using this
    rw [show i - l.length = 0 by omega] at h
    cases h
    exact Or.inr ⟨by omega, rfl⟩
/-- the last steps of an addition, where there is room -/
theorem add_b11 (g : GN A) (h : LX A li ar ids) (hlt : ids.length < aL A ar) (hv : isObj (aK A v) = true) : ∃ A', J2_add_2_b11 li v (nn ids.length) A ar = some ((), A') ∧ Ex (fun _ i => i = li ∨ i = ar) 0 0 A A' ∧ LX A' li ar (ids ++ [v]) := by
  have c5 := h.c5
  have hne : li ≠ ar := fun q => by have := h.kd; rw [q, h.ka] at this; omega
  have e1 : Ex (fun _ i => i = li ∨ i = ar) 0 0 A (wR A 39 ar ids.length (some v)) := Ex.wR g (Or.inr rfl) h.ha
  have e2 : Ex (fun _ i => i = li ∨ i = ar) 0 0 (wR A 39 ar ids.length (some v)) (wI (wR A 39 ar ids.length (some v)) 1802 li 0 (nn (ids.length + 1))) := Ex.wI e1.gn (Or.inl rfl) h.hl
  refine ⟨_, ?_, e1.trans e2, LX.mk h.kd ?_ ?_ h.ka ?_ h.c2 h.c5 ?_ h.hl h.ha ?_⟩
  · unfold J2_add_2_b11
    rw [uR_nn h.ka hlt (by omega) hv, bo_some, pI_k (by show aK A li = 18; exact h.kd), bo_some, nn_succ]
  · rw [aI_wI, if_pos ⟨rfl, rfl, rfl⟩, List.length_append]; rfl
  · rw [aR_wI, aR_wR, if_neg (fun q => absurd q.1 (by decide))]; exact h.rf
  · rw [List.length_append]; exact hlt
  · intro i w hw
    rw [aR_wI, aR_wR]
    rcases app_get hw with ⟨q1, q2⟩ | ⟨q1, q2⟩
    · rw [if_neg (by omega)]; exact h.el i w q2
    · rw [if_pos ⟨rfl, rfl, q1⟩, q2]
  · intro w hw
    rcases List.mem_append.mp hw with q | q
    · exact h.ho w q
    · rw [List.mem_singleton.mp q]; exact hv
theorem LX.ex {Q : Nat → Nat → Prop} {c s : Nat} (h : LX A li ar ids) (e : Ex Q c s A A') (q1 : ∀ f, ¬ Q f li) (q2 : ∀ f, ¬ Q f ar) : LX A' li ar ids := by
  have k1 : aK A li ≠ 0 := by rw [h.kd]; decide
  have k2 : aK A ar ≠ 0 := by rw [h.ka]; decide
  refine LX.mk (e.K h.kd (by decide)) ((e.I _ k1 (q1 _)).trans h.len) ((e.R _ k1 (q1 _)).trans h.rf) (e.K h.ka (by decide)) (by rw [e.L k2]; exact h.cap) (by rw [e.L k2]; exact h.c2) (by rw [e.L k2]; exact h.c5) (fun i v hv => (e.R _ k2 (q2 _)).trans (h.el i v hv)) h.hl h.ha (fun v hv => ?_)
  have hk := h.ho v hv
  have hk0 : aK A v ≠ 0 := fun z => by rw [z] at hk; exact absurd hk (by decide)
  rw [(e.kd v hk0).1]; exact hk
theorem SX.ex {Q : Nat → Nat → Prop} {c s : Nat} (h : SX A sb br ss) (e : Ex Q c s A A') (q1 : ∀ f, ¬ Q f sb) (q2 : ∀ f, ¬ Q f br) : SX A' sb br ss := by
  have k1 : aK A sb ≠ 0 := by rw [h.kd]; decide
  have k2 : aK A br ≠ 0 := by rw [h.ka]; decide
  exact SX.mk (e.K h.kd (by decide)) ((e.I _ k1 (q1 _)).trans h.cod) ((e.I _ k1 (q1 _)).trans h.len) ((e.R _ k1 (q1 _)).trans h.rf) (e.K h.ka (by decide)) (by rw [e.L k2]; exact h.cap) (by rw [e.L k2]; exact h.c2) (by rw [e.L k2]; exact h.c5) (fun i v hv => (e.I _ k2 (q2 _)).trans (h.el i v hv)) h.hl h.ha h.sg
theorem add_wI (g : GN A) (h : LX A li ar ids) (v : Int32) : LX (wI A 1800 li 0 v) li ar ids ∧ Ex (fun _ i => i = li ∨ i = ar) 0 0 A (wI A 1800 li 0 v) := by
  refine ⟨LX.mk h.kd ?_ h.rf h.ka h.cap h.c2 h.c5 h.el h.hl h.ha h.ho, Ex.wI g (Or.inl rfl) h.hl⟩
  rw [aI_wI, if_neg (by omega)]; exact h.len
theorem add_room (g : GN A) (h : LX A li ar ids) (hlt : ids.length < aL A ar) (hv : isObj (aK A v) = true) : ∃ A', J2_add A li v = some (1, A') ∧ Ex (fun _ i => i = li ∨ i = ar) 0 0 A A' ∧ LX A' li ar (ids ++ [v]) := by
  have c5 := h.c5
  obtain ⟨h1, e1⟩ := add_wI g h (aI A 1800 li 0 + 1)
  obtain ⟨A', y1, y2, y3⟩ := add_b11 e1.gn h1 hlt hv
  refine ⟨A', ?_, e1.trans y2, y3⟩
  have h2 : J2_add_2 (wI A 1800 li 0 (aI A 1800 li 0 + 1)) li v ar (nn ids.length) = some ((), A') := by
    unfold J2_add_2
    rw [aLn_k h1.ka, bo_some, if_neg (fun q => by have := (nn_eq (by omega) (by rw [show aL (wI A 1800 li 0 (aI A 1800 li 0 + 1)) ar = aL A ar from rfl]; omega)).mp q; rw [show aL (wI A 1800 li 0 (aI A 1800 li 0 + 1)) ar = aL A ar from rfl] at this; omega), y1, ck_ok y2.le2]
  unfold J2_add
  rw [gI_k h.kd, bo_some, pI_k h.kd, bo_some, gN_k h1.kd, h1.rf, bo_some, gI_k h1.kd, bo_some, h1.len, if_pos h1.kd, h2, bda_ok y2.le2, ck_ok (Le.refl _), ck_ok (e1.trans y2).le2]
theorem add_grow (g : GN A) (hr : aN A + 1 ≤ CB) (h : LX A li ar ids) (heq : ids.length = aL A ar) (hl : ids.length ≤ 2000) (hv : isObj (aK A v) = true) : ∃ A', J2_add A li v = some (1, A') ∧ Ex (fun _ i => i = li ∨ i = ar) 1 (2 * ids.length) A A' ∧ LX A' li (aN A) (ids ++ [v]) := by
  have c2 := h.c2
  obtain ⟨h1, e1⟩ := add_wI g h (aI A 1800 li 0 + 1)
  generalize hA1 : wI A 1800 li 0 (aI A 1800 li 0 + 1) = A1 at h1 e1
  have n1 : aN A1 = aN A := by rw [← hA1]; rfl
  have l1 : aL A1 ar = aL A ar := by rw [← hA1]; rfl
  have kv1 : aK A1 v = aK A v := by rw [← hA1]; rfl
  have fr : aK A1 (aN A1) = 0 := e1.gn.fresh (by omega)
  have nli : li ≠ aN A1 := fun q => by have := h1.kd; rw [q, fr] at this; omega
  have nar : ar ≠ aN A1 := fun q => by have := h1.ka; rw [q, fr] at this; omega
  have hne : li ≠ ar := fun q => by have := h1.kd; rw [q, h1.ka] at this; omega
  have e2 : Ex (fun _ i => i = li ∨ i = ar) 1 (ids.length + ids.length / 2) A1 (nw A1 39 (ids.length + ids.length / 2) (ids.length + ids.length / 2)) := Ex.nw e1.gn (by omega)
  generalize hA2 : nw A1 39 (ids.length + ids.length / 2) (ids.length + ids.length / 2) = A2 at e2
  have hk : ∀ i, aK A2 i = if i = aN A1 then 39 else aK A1 i := fun i => by rw [← hA2]; rfl
  have hL : ∀ i, aL A2 i = if i = aN A1 then (ids.length + ids.length / 2) else aL A1 i := fun i => by rw [← hA2]; rfl
  have hR : ∀ f i j, aR A2 f i j = if i = aN A1 then none else aR A1 f i j := fun f i j => by rw [← hA2]; rfl
  have hI : ∀ f i j, aI A2 f i j = if i = aN A1 then 0 else aI A1 f i j := fun f i j => by rw [← hA2]; rfl
  have ho : ∀ i, i < ids.length → ∀ q, aR A2 39 ar i = some q → isObj (aK A2 q) = true := by
    intro i hi q hq
    rw [hR, if_neg nar] at hq
    obtain ⟨w, hw⟩ : ∃ w, ids[i]? = some w := ⟨ids[i]'hi, List.getElem?_eq_getElem _⟩
    rw [h1.el i w hw] at hq
    injection hq with hq
    subst hq
    have hk1 := h1.ho w (List.mem_of_getElem? hw)
    have : aK A1 w ≠ 0 := fun z => by rw [z] at hk1; exact absurd hk1 (by decide)
    rw [(e2.kd w this).1]; exact hk1
  have g3 : GN (cpR A2 39 ar (aN A1) 0 0 ids.length) := by
    refine GN.mk e2.gn.nz (fun k hk => ?_) e2.gn.lo e2.gn.ks
    obtain ⟨z1, z2, z3, z4⟩ := e2.gn.ct k hk
    refine ⟨z1, z2, z3, fun f j => ?_⟩
    rw [aR_cpR, if_neg (by omega)]; exact z4 f j
  have e3 : Ex (fun _ i => i = aN A1) 0 0 A2 (cpR A2 39 ar (aN A1) 0 0 ids.length) := Ex.mk (Nat.le_refl _) (Nat.le_refl _) (Nat.le_refl _) (Nat.le_refl _) (fun _ _ => ⟨rfl, rfl⟩) (fun f i j _ hp => ⟨rfl, rfl, by rw [aR_cpR, if_neg (fun z => hp z.2)]⟩) g3
  have hcp : cpO_ A2 ar 0 (aN A1) 0 (nn ids.length) = some (cpR A2 39 ar (aN A1) 0 0 ids.length) := by
    unfold cpO_
    rw [nn_clamp (by omega), show (0 : Int32).toNatClampNeg = 0 from rfl, cif_t]
    refine ⟨⟨⟨by rw [hk, if_neg nar]; exact h1.ka, h1.ha, by rw [hk, if_pos rfl], by omega⟩, ⟨by decide, by decide, nn_nneg (by omega)⟩, ?_, ?_⟩, fun i hi q hq => ho i hi q (by rw [Nat.zero_add] at hq; exact hq)⟩
    · rw [nn_clamp (by omega), show (0 : Int32).toNatClampNeg = 0 from rfl, hL, if_neg nar, l1]; omega
    · rw [nn_clamp (by omega), show (0 : Int32).toNatClampNeg = 0 from rfl, hL, if_pos rfl]; omega
  have e4 : Ex (fun _ i => i = li) 0 0 (cpR A2 39 ar (aN A1) 0 0 ids.length) (wR (cpR A2 39 ar (aN A1) 0 0 ids.length) 1801 li 0 (some (aN A1))) := Ex.wR g3 rfl h.hl
  have eA : Ex (fun _ i => i = li ∨ i = ar) 1 (2 * ids.length) A1 (wR (cpR A2 39 ar (aN A1) 0 0 ids.length) 1801 li 0 (some (aN A1))) := ((e2.tr e3 (fun _ i q => Or.inr (by rw [show i = aN A1 from q]; exact fr))).tr e4 (fun _ i q => Or.inl (Or.inl q))).wk (by omega) (by omega)
  generalize hA4 : wR (cpR A2 39 ar (aN A1) 0 0 ids.length) 1801 li 0 (some (aN A1)) = A4 at e4 eA
  have h4 : LX A4 li (aN A1) ids := by
    subst hA4
    refine LX.mk (by show aK A2 li = 18; rw [hk, if_neg nli]; exact h1.kd) ?_ ?_ (by show aK A2 (aN A1) = 39; rw [hk, if_pos rfl]) ?_ ?_ ?_ (fun i w hw => ?_) h.hl (by omega) (fun w hw => ?_)
    · show aI A2 1802 li 0 = _; rw [hI, if_neg nli]; exact h1.len
    · rw [aR_wR, if_pos ⟨rfl, rfl, rfl⟩]
    · show _ ≤ aL A2 (aN A1); rw [hL, if_pos rfl]; omega
    · show _ ≤ aL A2 (aN A1); rw [hL, if_pos rfl]; omega
    · show aL A2 (aN A1) < _; rw [hL, if_pos rfl]; omega
    · have hi := (List.getElem?_eq_some_iff.mp hw).1
      rw [aR_wR, if_neg (fun z => absurd z.1 (by decide)), aR_cpR, if_pos ⟨rfl, rfl⟩]
      unfold va_cpy
      rw [if_pos ⟨Nat.zero_le _, by omega⟩, Nat.zero_add, Nat.sub_zero, hR, if_neg nar]
      exact h1.el i w hw
    · show isObj (aK A2 w) = true
      have hk1 := h1.ho w hw
      have : aK A1 w ≠ 0 := fun z => by rw [z] at hk1; exact absurd hk1 (by decide)
      rw [(e2.kd w this).1]; exact hk1
  have l4 : aL A4 (aN A1) = ids.length + ids.length / 2 := by
    subst hA4
    show aL A2 (aN A1) = _; rw [hL, if_pos rfl]
  have kv4 : isObj (aK A4 v) = true := by
    have : aK A1 v ≠ 0 := fun z => by rw [← kv1, z] at hv; exact absurd hv (by decide)
    rw [(eA.kd v this).1, kv1]; exact hv
  obtain ⟨A5, y1, y2, y3⟩ := add_b11 eA.gn h4 (by omega) kv4
  refine ⟨A5, ?_, ((e1.trans eA).tr y2 (fun _ i q => ?_)).wk (by omega) (by omega), by rw [← n1]; exact y3⟩
  · have hc2 : J13_copyOf_2 A1 ar (nn (ids.length + ids.length / 2)) (CB + 93) = some (some (aN A1), cpR A2 39 ar (aN A1) 0 0 ids.length) := by
      unfold J13_copyOf_2 J13_copyOf_2_b24 J12_min
      rw [if_pos rfl, nwA_ok (by omega) (by omega), hA2, bo_some, aLn_k (by rw [hk, if_neg nar]; exact h1.ka), bo_some, hL, if_neg nar, l1, ← heq, if_neg (fun q => by have := (nn_lt (by omega) (by omega)).mp q; omega), bo_some, hcp, bo_some, ck_ok e3.le2, ck_ok (e2.le2.trans e3.le2)]
    have lc : Le A1 (cpR A2 39 ar (aN A1) 0 0 ids.length) := e2.le2.trans e3.le2
    have hc : J13_copyOf A1 ar (nn (ids.length + ids.length / 2)) = some (some (aN A1), cpR A2 39 ar (aN A1) 0 0 ids.length) := by
      unfold J13_copyOf
      rw [if_pos h1.ka, hc2, bda_ok lc, bo_some, ck_ok (Le.refl _), ck_ok lc]
    have hg2 : J2_grow_2 A1 li (nn ids.length + 1) = some (some (aN A1), A4) := by
      unfold J2_grow_2 J2_grow_2_b20
      rw [gN_k h1.kd, h1.rf, bo_some, aLn_k h1.ka, bo_some, l1, ← heq, if_pos (show (0 : Int32) < nn ids.length from (nn_lt (a := 0) (by omega) (by omega)).mpr (by omega)), nn_succ, nn_sub (by omega), show ids.length + 1 - ids.length = 1 by omega, half_eq (by omega), newLen_eq (by omega) (by omega) (by omega) (by omega), bda_ok (Le.refl _), gN_k h1.kd, h1.rf, bo_some, hc, bda_ok lc, bo_some, pR_k (by show aK A2 li = 18; rw [hk, if_neg nli]; exact h1.kd), bo_some, hA4, ck_ok e4.le2, ck_ok (lc.trans e4.le2), ck_ok (lc.trans e4.le2)]
    have hg : J2_grow A1 li = some (some (aN A1), A4) := by
      unfold J2_grow
      rw [gI_k h1.kd, bo_some, if_pos h1.kd, h1.len, hg2, bda_ok eA.le2, bo_some, ck_ok (Le.refl _), ck_ok eA.le2]
    have h2 : J2_add_2 A1 li v ar (nn ids.length) = some ((), A5) := by
      unfold J2_add_2
      rw [aLn_k h1.ka, bo_some, l1, ← heq, if_pos rfl, if_pos h1.kd, hg, bda_ok eA.le2, bo_some, y1, ck_ok y2.le2, ck_ok (eA.le2.trans y2.le2)]
    unfold J2_add
    rw [gI_k h.kd, bo_some, pI_k h.kd, bo_some, hA1, gN_k h1.kd, h1.rf, bo_some, gI_k h1.kd, bo_some, h1.len, if_pos h1.kd, h2, bda_ok (eA.le2.trans y2.le2), ck_ok (Le.refl _), ck_ok (e1.le2.trans (eA.le2.trans y2.le2))]
  · rcases q with q | q
    · exact Or.inl (Or.inl q)
    · right
      have : aK A (aN A) = 0 := g.fresh (by omega)
      rw [q, n1]; exact this
/-- an addition to a list -/
theorem add_eq (g : GN A) (hr : aN A + 1 ≤ CB) (h : LX A li ar ids) (hl : ids.length ≤ 2000) (hv : isObj (aK A v) = true) : ∃ A' ar', J2_add A li v = some (1, A') ∧ Ex (fun _ i => i = li ∨ i = ar) 1 (2 * ids.length) A A' ∧ LX A' li ar' (ids ++ [v]) ∧ (ar' = ar ∨ ar' = aN A) := by
  rcases Nat.lt_or_ge ids.length (aL A ar) with q | q
  · obtain ⟨A', h1, h2, h3⟩ := add_room g h q hv
    exact ⟨A', ar, h1, h2.wk (by omega) (by omega), h3, Or.inl rfl⟩
  · obtain ⟨A', h1, h2, h3⟩ := add_grow g hr h (by have := h.cap; omega) hl hv
    exact ⟨A', aN A, h1, h2, h3, Or.inr rfl⟩
end
