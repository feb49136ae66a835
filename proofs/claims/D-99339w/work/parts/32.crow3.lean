/-! ROWS OF THE COMPONENT'S WORLD: ints and longs into fields, arrays -/
set_option maxRecDepth 100000
theorem cK_lt {A : AH} (h : CST A) {i t n : Nat} (h1 : i < 1101) (h2 : stK i = t) (h3 : stLn i = n) : aK A i = t ∧ aL A i = n := ⟨((h.2.1 i h1).1).trans h2, ((h.2.1 i h1).2).trans h3⟩
theorem st_off {j : Nat} (h : isSt j) {d : Nat} (hd : d < 48) : stO (j + d) = d + 1 ∧ j + d < 1101 := by
  unfold isSt at h
  unfold stO
  rcases h with rfl | rfl | ⟨h1, h2, h3⟩
  · refine ⟨?_, by omega⟩
    rw [if_neg (by omega), if_pos (by omega)]
    omega
  · refine ⟨?_, by omega⟩
    rw [if_neg (by omega), if_pos (by omega)]
    omega
  · refine ⟨?_, by omega⟩
    rw [if_neg (by omega), if_neg (by omega), if_neg (by omega), if_pos (by omega)]
    omega
theorem st_K {j : Nat} (h : isSt j) (d : Nat) (hd : d < 48) : j + d < 1101 ∧ stK (j + d) = stKs (d + 1) ∧ stLn (j + d) = stLs (d + 1) := by
  have h1 := st_off h hd
  refine ⟨h1.2, ?_, ?_⟩
  · unfold stK
    rw [h1.1, if_pos (by omega)]
  · unfold stLn
    rw [h1.1, if_pos (by omega)]
theorem st_K0 {j : Nat} (h : isSt j) : j < 1101 ∧ stK j = 6 := ⟨(st_K h 0 (by decide)).1, (st_K h 0 (by decide)).2.1⟩
theorem st_R {A : AH} (hA : CST A) {j f d : Nat} (h : isSt j) (hf : srS.lookup f = some d) (h610 : f ≠ 610) : aR A f j 0 = some (j + d) := by
  have h1 : stO j = 1 ∧ j < 1101 := st_off h (d := 0) (by decide)
  refine hA.2.2 j f _ h1.2 ?_
  have hj : j ≠ 0 ∧ j ≠ 9 ∧ j ≠ 11 ∧ j ≠ 13 := by unfold isSt at h; omega
  unfold sref
  rw [if_neg hj.1, if_neg hj.2.1, if_neg hj.2.2.1, if_neg hj.2.2.2, if_pos h1.1, if_neg h610, hf]
  rfl
theorem st_R0 {A : AH} (hA : CST A) {j : Nat} (h : isSt j) : aR A 610 j 0 = some 0 := by
  have h1 : stO j = 1 ∧ j < 1101 := st_off h (d := 0) (by decide)
  refine hA.2.2 j 610 _ h1.2 ?_
  have hj : j ≠ 0 ∧ j ≠ 9 ∧ j ≠ 11 ∧ j ≠ 13 := by unfold isSt at h; omega
  unfold sref
  rw [if_neg hj.1, if_neg hj.2.1, if_neg hj.2.2.1, if_neg hj.2.2.2, if_pos h1.1, if_pos rfl]
section CA
variable {p : Program} {l : Launch} {e : Env} {R : Room} {s : State} {m : MethodId} {args : Array Value} {below : List Frame} {meth : Method} {c : Code} {H : Heap} {locs : List Loc} {cells slots : Nat} {Q : State → Prop}
variable {cc : ByteArray} {pc : Nat} {ls : Array Slot} {rest : List Value} {own : String} {dC : Nat → ClassId} {dI : Nat → Nat → Nat} {ac : Nat → ClassId} {ad : Nat → Nat} {b : Prop} {H0 : Heap} {n0 s0 n1 s1 : Nat} {A A' : AH}
theorem c_pI (E : cE p s m args own dC dI ac ad) (hb : c.code = cc) (hS : cS dC dI ac ad b H0 n0 s0 n1 s1 A H locs) {kd k i f index : Nat} {C ref : String} {T : u_T} {N : Nat} {ty : Nat → FieldType} (hci : CI kd C T N ty) (hk : aK A i = kd) (hi : i < aN A) (ht : (cty kd)[k]? = some 0) (hf : 100 * kd + k = f) (hfin : (T k).2.2.2 = false ∨ (meth.name = "<init>" ∧ (T k).1 = own ∧ (T k).2.2.2 = true ∧ Cond.fieldLink own index ref (T k).2.1 (T k).2.2.1 ∈ lw_all)) (hl : FLk own index ref (T k).2.1 (T k).2.2.1) (hsame : ∀ x, s.fieldFound? (T k).1 (T k).2.1 (T k).2.2.1 = some x → s.fieldFound? ref (T k).2.1 (T k).2.2.1 = some x) {v : Int32} (hnv : narrow (ty k) (.int v) = .int v) (hfit : fits (ty k) (.int v) = true) (hw : A' = wI A f i 0 v)
    (hdg : decode cc pc = .ok (.putfield index, 3)) (kk : ∀ (H : Heap) (locs : List Loc), cS dC dI ac ad b H0 n0 s0 n1 s1 A' H locs → W p l e R s m args below meth c H locs cells slots Q (F0 m (pc + 3) ls rest)) : W p l e R s m args below meth c H locs cells slots Q (F0 m pc ls (.int v :: .ref (ad i) :: rest)) := by
  subst hf
  subst hw
  have hCB : i < CB := Nat.lt_of_lt_of_le hi hS.1.2.2.2.2.1
  refine c_p (A' := wI A (100 * kd + k) i 0 v) E hb hS hci hk hi ht hfin hl hsame hnv hfit rfl rfl ?_ ?_ rfl (fun j hj => cce_wIo ad ac A _ i 0 v hj) (fun _ h => h) (CCT_wI hCB) hdg kk
  · simp [cfv, aI_wI]
  · intro k' t' hk'
    have : 100 * kd + k' ≠ 100 * kd + k := by omega
    simp [cfv, aI_wI, hk', aJ_wI, aR_wI]
theorem c_pJ (E : cE p s m args own dC dI ac ad) (hb : c.code = cc) (hS : cS dC dI ac ad b H0 n0 s0 n1 s1 A H locs) {kd k i f index : Nat} {C ref : String} {T : u_T} {N : Nat} {ty : Nat → FieldType} (hci : CI kd C T N ty) (hk : aK A i = kd) (hi : i < aN A) (ht : (cty kd)[k]? = some 1) (hf : 100 * kd + k = f) (hfin : (T k).2.2.2 = false ∨ (meth.name = "<init>" ∧ (T k).1 = own ∧ (T k).2.2.2 = true ∧ Cond.fieldLink own index ref (T k).2.1 (T k).2.2.1 ∈ lw_all)) (hl : FLk own index ref (T k).2.1 (T k).2.2.1) (hsame : ∀ x, s.fieldFound? (T k).1 (T k).2.1 (T k).2.2.1 = some x → s.fieldFound? ref (T k).2.1 (T k).2.2.1 = some x) {v : Int64} (hnv : narrow (ty k) (.long v) = .long v) (hfit : fits (ty k) (.long v) = true) (hw : A' = wJ A f i 0 v)
    (hdg : decode cc pc = .ok (.putfield index, 3)) (kk : ∀ (H : Heap) (locs : List Loc), cS dC dI ac ad b H0 n0 s0 n1 s1 A' H locs → W p l e R s m args below meth c H locs cells slots Q (F0 m (pc + 3) ls rest)) : W p l e R s m args below meth c H locs cells slots Q (F0 m pc ls (.long v :: .ref (ad i) :: rest)) := by
  subst hf
  subst hw
  refine c_p (A' := wJ A (100 * kd + k) i 0 v) E hb hS hci hk hi ht hfin hl hsame hnv hfit rfl rfl ?_ ?_ rfl (fun j hj => cce_wJo ad ac A _ i 0 v hj) (fun _ h => h) CCT_wJ hdg kk
  · simp [cfv, aJ_wJ]
  · intro k' t' hk'
    have : 100 * kd + k' ≠ 100 * kd + k := by omega
    simp [cfv, aJ_wJ, hk', aI_wJ, aR_wJ]
theorem c_pR (E : cE p s m args own dC dI ac ad) (hb : c.code = cc) (hS : cS dC dI ac ad b H0 n0 s0 n1 s1 A H locs) {kd k i f index : Nat} {C ref : String} {T : u_T} {N : Nat} {ty : Nat → FieldType} (hci : CI kd C T N ty) (hk : aK A i = kd) (hi : i < aN A) (ht : (cty kd)[k]? = some 2) (hf : 100 * kd + k = f) (hsk : b → skey f = false) (hfin : (T k).2.2.2 = false ∨ (meth.name = "<init>" ∧ (T k).1 = own ∧ (T k).2.2.2 = true ∧ Cond.fieldLink own index ref (T k).2.1 (T k).2.2.1 ∈ lw_all)) (hl : FLk own index ref (T k).2.1 (T k).2.2.1) (hsame : ∀ x, s.fieldFound? (T k).1 (T k).2.1 (T k).2.2.1 = some x → s.fieldFound? ref (T k).2.1 (T k).2.2.1 = some x) {r : Option Nat} (hfit : ∀ q : Option Nat, narrow (ty k) (va_rf q) = va_rf q ∧ fits (ty k) (va_rf q) = true) (hw : A' = wR A f i 0 r)
    (hdg : decode cc pc = .ok (.putfield index, 3)) (kk : ∀ (H : Heap) (locs : List Loc), cS dC dI ac ad b H0 n0 s0 n1 s1 A' H locs → W p l e R s m args below meth c H locs cells slots Q (F0 m (pc + 3) ls rest)) : W p l e R s m args below meth c H locs cells slots Q (F0 m pc ls (va_rf (r.map ad) :: .ref (ad i) :: rest)) := by
  subst hf
  subst hw
  have hCB : i < CB := Nat.lt_of_lt_of_le hi hS.1.2.2.2.2.1
  refine c_p (A' := wR A (100 * kd + k) i 0 r) E hb hS hci hk hi ht hfin hl hsame (hfit _).1 (hfit _).2 rfl rfl ?_ ?_ rfl (fun j hj => cce_wRo ad ac A _ i 0 r hj) (fun hb h => CST_wR (hsk hb) h) (CCT_wR hCB) hdg kk
  · simp [cfv, aR_wR]
  · intro k' t' hk'
    have : 100 * kd + k' ≠ 100 * kd + k := by omega
    simp [cfv, aR_wR, hk', aI_wR, aJ_wR]
/-- a step of an array's cell -/
theorem cS_ar (hS : cS dC dI ac ad b H0 n0 s0 n1 s1 A H locs) {i t k : Nat} {H1 : Heap} (hk : aK A i = t) (ht : 31 ≤ t) (hi : i < aN A) (hn' : aN A' = aN A) (hs' : aS A' = aS A) (hK' : aK A' = aK A) (hL' : aL A' = aL A) (hoth : ∀ j, j ≠ i → cce ad ac A' j = cce ad ac A j) (hb' : b → CST A → CST A') (hc' : CCT A → CCT A')
    (e1 : H1[ad i]? = some (vp_cell (ac t) (aL A i, cco ad A' t i))) (e2 : H1.size = H.size) (e3 : ∀ q, q ≠ ad i → H1[q]? = H[q]?) : cS dC dI ac ad b H0 n0 s0 n1 s1 A' H1 (locs ++ [⟨ad i, k⟩]) := by
  have hws := wC_set ad ac A A' i hn' hoth
  have he : (wC ad ac A)[i]? = some (ad i, cce ad ac A i) := wC_at ad ac A hi
  have hnew : cce ad ac A' i = .inl (ac t, aL A i, cco ad A' t i) := by rw [cce_ar ad ac A' (by rw [hK']; exact hk) ht, hL']
  refine ⟨⟨?_, ?_, ?_, ?_, ?_, ?_, hc' hS.1.2.2.2.2.2.2⟩, hS.2.1.put e2 e3 (hS.1.2.1.2 i _ he), by rw [hn', hs']; exact hS.2.2⟩
  · rw [← hws, hnew]
    exact hS.1.1.set hS.1.2.1 he e1 e3
  · rw [← hws]
    exact hS.1.2.1.set he
  · rw [hn', e2]
    exact hS.1.2.2.1
  · rw [hn', hK']
    exact hS.1.2.2.2.1
  · rw [hn']
    exact hS.1.2.2.2.2.1
  · exact fun hb => hb' hb (hS.1.2.2.2.2.2.1 hb)
theorem cAt (hS : cS dC dI ac ad b H0 n0 s0 n1 s1 A H locs) {i t : Nat} (hk : aK A i = t) (ht : 31 ≤ t) (hi : i < aN A) : H[ad i]? = some (vp_cell (ac t) (aL A i, cco ad A t i)) := by
  have h := hS.1.1 i _ (wC_at ad ac A hi)
  rw [cce_ar ad ac A hk ht] at h
  exact h
theorem cco_I (ad : Nat → Nat) (A : AH) {t : Nat} (i : Nat) (h : t ≠ 32 ∧ t < 36) : cco ad A t i = .inl (aI A t i) := by
  have : ¬ 36 ≤ t := by omega
  simp [cco, h.1, this]
theorem cco_J (ad : Nat → Nat) (A : AH) (i : Nat) : cco ad A 32 i = .inr (.inl (aJ A 32 i)) := by simp [cco]
theorem cco_R (ad : Nat → Nat) (A : AH) {t : Nat} (i : Nat) (h : 36 ≤ t) : cco ad A t i = .inr (.inr (.inr (.inr (fun j => (aR A t i j).map ad)))) := by
  have : ¬ t = 32 := by omega
  simp [cco, this, h]
theorem rI_w (A : AH) (t i j : Nat) (v : Int32) : aI (wI A t i j v) t i = upd (aI A t i) j v := by
  funext k
  simp [aI_wI, upd]
theorem rJ_w (A : AH) (t i j : Nat) (v : Int64) : aJ (wJ A t i j v) t i = vp_updL (aJ A t i) j v := by
  funext k
  simp [aJ_wJ, vp_updL]
theorem c_ld0 (E : cE p s m args own dC dI ac ad) (hS : cS dC dI ac ad b H0 n0 s0 n1 s1 A H locs) {i t : Nat} (hk : aK A i = t) (hi : i < aN A) (ht : t ≠ 32 ∧ t < 36) (ht2 : 31 ≤ t) : H[ad i]? = some (vp_cell (ac t) (aL A i, .inl (aI A t i))) := by rw [cAt hS hk ht2 hi, cco_I ad A i ht]
/-- an element of an array of ints (31), bytes (33), chars (34), booleans (35), longs (32) -/
theorem c_ld (E : cE p s m args own dC dI ac ad) (hb : c.code = cc) (hS : cS dC dI ac ad b H0 n0 s0 n1 s1 A H locs) {i t : Nat} {j : Int32} (hk : aK A i = t) (hi : i < aN A) (hin : vp_in j (aL A i)) {op : Instr} (ht : (t = 31 ∧ op = .iaload) ∨ (t = 33 ∧ op = .baload) ∨ (t = 34 ∧ op = .caload) ∨ (t = 35 ∧ op = .baload)) (hdg : decode cc pc = .ok (op, 1))
    (kk : W p l e R s m args below meth c H locs cells slots Q (F0 m (pc + 1) ls (.int (aI A t i j.toNatClampNeg) :: rest))) : W p l e R s m args below meth c H locs cells slots Q (F0 m pc ls (.int j :: .ref (ad i) :: rest)) := by
  have hP : va_P (dC, dI) cCL [(ad i, .inl (ac t, aL A i, .inl (aI A t i)))] H := by
    intro k q hq
    cases k with
    | zero =>
      cases hq
      exact c_ld0 E hS hk hi (by omega) (by omega)
    | succ k => simp at hq
  rcases ht with ⟨rfl, rfl⟩ | ⟨rfl, rfl⟩ | ⟨rfl, rfl⟩ | ⟨rfl, rfl⟩
  · exact va_iald E.1 hb E.2.2.2.1 hP 0 0 rfl rfl hin hdg kk
  · exact va_bald E.1 hb E.2.2.2.1 hP 0 2 rfl rfl hin hdg kk
  · exact va_cald E.1 hb E.2.2.2.1 hP 0 3 rfl rfl hin hdg kk
  · exact va_zald E.1 hb E.2.2.2.1 hP 0 4 rfl rfl hin hdg kk
theorem c_lld (E : cE p s m args own dC dI ac ad) (hb : c.code = cc) (hS : cS dC dI ac ad b H0 n0 s0 n1 s1 A H locs) {i : Nat} {j : Int32} (hk : aK A i = 32) (hin : vp_in j (aL A i)) (hdg : decode cc pc = .ok (.laload, 1))
    (kk : W p l e R s m args below meth c H locs cells slots Q (F0 m (pc + 1) ls (.long (aJ A 32 i j.toNatClampNeg) :: rest))) : W p l e R s m args below meth c H locs cells slots Q (F0 m pc ls (.int j :: .ref (ad i) :: rest)) := by
  have hi := hS.1.lt hk rfl
  have hP : va_P (dC, dI) cCL [(ad i, .inl (ac 32, aL A i, .inr (.inl (aJ A 32 i))))] H := by
    intro k q hq
    cases k with
    | zero =>
      cases hq
      show H[ad i]? = _
      rw [cAt hS hk (by decide) hi, cco_J]
    | succ k => simp at hq
  exact va_lald E.1 hb E.2.2.2.1 hP 0 1 rfl rfl hin hdg kk
/-- an int into an array -/
theorem c_st (E : cE p s m args own dC dI ac ad) (hb : c.code = cc) (hS : cS dC dI ac ad b H0 n0 s0 n1 s1 A H locs) {i t : Nat} {j v : Int32} (hk : aK A i = t) (hi : i < aN A) (hin : vp_in j (aL A i)) {op : Instr} {v' : Int32} (ht : (t = 31 ∧ op = .iastore ∧ v' = v) ∨ (t = 33 ∧ op = .bastore ∧ v' = vp_nar .byte v) ∨ (t = 34 ∧ op = .castore ∧ v' = vp_nar .char v) ∨ (t = 35 ∧ op = .bastore ∧ v' = vp_nar .boolean v)) (hw : A' = wI A t i j.toNatClampNeg v') (hdg : decode cc pc = .ok (op, 1))
    (kk : ∀ (H : Heap) (locs : List Loc), cS dC dI ac ad b H0 n0 s0 n1 s1 A' H locs → W p l e R s m args below meth c H locs cells slots Q (F0 m (pc + 1) ls rest)) : W p l e R s m args below meth c H locs cells slots Q (F0 m pc ls (.int v :: .int j :: .ref (ad i) :: rest)) := by
  subst hw
  have hCB : i < CB := Nat.lt_of_lt_of_le hi hS.1.2.2.2.2.1
  have h0 := c_ld0 E hS hk hi (by omega) (by omega)
  have hend : ∀ H1 : Heap, H1[ad i]? = some ((vp_cell (ac t) (aL A i, .inl (aI A t i))).setSlot j.toNatClampNeg (.int v')) → H1.size = H.size → (∀ q, q ≠ ad i → H1[q]? = H[q]?) → cS dC dI ac ad b H0 n0 s0 n1 s1 (wI A t i j.toNatClampNeg v') H1 (locs ++ [⟨ad i, j.toNatClampNeg⟩]) := by
    intro H1 e1 e2 e3
    refine cS_ar hS hk (by omega) hi rfl rfl rfl rfl (fun q hq => cce_wIo ad ac A _ i _ _ hq) (fun _ h => h) (CCT_wI hCB) ?_ e2 e3
    rw [e1, cco_I ad _ i (by omega), rI_w, vp_cell_i, vp_cell_i, arrV_store]
    congr 2
    funext q
    by_cases hq : q = j.toNatClampNeg
    · subst hq
      simp [updV, upd]
    · simp [updV, upd, hq]
  rcases ht with ⟨rfl, rfl, rfl⟩ | ⟨rfl, rfl, rfl⟩ | ⟨rfl, rfl, rfl⟩ | ⟨rfl, rfl, rfl⟩
  · exact W.iast E.1 hb h0 ((E.2.2.2.1.2 0 _ rfl).1 _ (fun j => .int (aI A 31 i j))) (fun q => by cases q) (by show ¬ (j < 0 ∨ (arrV _ _ _).slots.size ≤ _); rw [arrV_size]; exact hin) rfl rfl hdg fun H1 e z oq => kk H1 _ (hend H1 e z oq)
  · exact W.bast E.1 hb h0 ((E.2.2.2.1.2 2 _ rfl).1 _ (fun j => .int (aI A 33 i j))) (fun q => by cases q) (by show ¬ (j < 0 ∨ (arrV _ _ _).slots.size ≤ _); rw [arrV_size]; exact hin) rfl rfl hdg fun H1 e z oq => kk H1 _ (hend H1 e z oq)
  · exact W.cast E.1 hb h0 ((E.2.2.2.1.2 3 _ rfl).1 _ (fun j => .int (aI A 34 i j))) (fun q => by cases q) (by show ¬ (j < 0 ∨ (arrV _ _ _).slots.size ≤ _); rw [arrV_size]; exact hin) rfl rfl hdg fun H1 e z oq => kk H1 _ (hend H1 e z oq)
  · exact W.zast E.1 hb h0 ((E.2.2.2.1.2 4 _ rfl).1 _ (fun j => .int (aI A 35 i j))) (fun q => by cases q) (by show ¬ (j < 0 ∨ (arrV _ _ _).slots.size ≤ _); rw [arrV_size]; exact hin) rfl rfl hdg fun H1 e z oq => kk H1 _ (hend H1 e z oq)
theorem c_lst (E : cE p s m args own dC dI ac ad) (hb : c.code = cc) (hS : cS dC dI ac ad b H0 n0 s0 n1 s1 A H locs) {i : Nat} {j : Int32} {v : Int64} (hk : aK A i = 32) (hin : vp_in j (aL A i)) (hw : A' = wJ A 32 i j.toNatClampNeg v) (hdg : decode cc pc = .ok (.lastore, 1))
    (kk : ∀ (H : Heap) (locs : List Loc), cS dC dI ac ad b H0 n0 s0 n1 s1 A' H locs → W p l e R s m args below meth c H locs cells slots Q (F0 m (pc + 1) ls rest)) : W p l e R s m args below meth c H locs cells slots Q (F0 m pc ls (.long v :: .int j :: .ref (ad i) :: rest)) := by
  subst hw
  have hi := hS.1.lt hk rfl
  have h0 : H[ad i]? = some (vp_cell (ac 32) (aL A i, .inr (.inl (aJ A 32 i)))) := by rw [cAt hS hk (by decide) hi, cco_J]
  refine W.last E.1 hb h0 ((E.2.2.2.1.2 1 _ rfl).1 _ (fun j => .long (aJ A 32 i j))) (fun q => by cases q) (by show ¬ (j < 0 ∨ (arrV _ _ _).slots.size ≤ _); rw [arrV_size]; exact hin) rfl rfl hdg fun H1 e z oq => kk H1 _ ?_
  refine cS_ar hS hk (by decide) hi rfl rfl rfl rfl (fun q hq => cce_wJo ad ac A _ i _ _ hq) (fun _ h => h) CCT_wJ ?_ z oq
  rw [e, cco_J, rJ_w, vp_cell_l, vp_cell_l, arrV_store]
  congr 2
  funext q
  by_cases hq : q = j.toNatClampNeg
  · subst hq
    simp [updV, vp_updL]
  · simp [updV, vp_updL, hq]
/-- a reference out of an array -/
theorem c_ald (E : cE p s m args own dC dI ac ad) (hb : c.code = cc) (hS : cS dC dI ac ad b H0 n0 s0 n1 s1 A H locs) {i t : Nat} {j : Int32} (hk : aK A i = t) (hi : i < aN A) (ht : 36 ≤ t ∧ t ≤ 40) (hin : vp_in j (aL A i)) (hdg : decode cc pc = .ok (.aaload, 1))
    (kk : W p l e R s m args below meth c H locs cells slots Q (F0 m (pc + 1) ls (va_rf ((aR A t i j.toNatClampNeg).map ad) :: rest))) : W p l e R s m args below meth c H locs cells slots Q (F0 m pc ls (.int j :: .ref (ad i) :: rest)) := by
  have h0 : H[ad i]? = some (vp_cell (ac t) (aL A i, .inr (.inr (.inr (.inr (fun j => (aR A t i j).map ad)))))) := by rw [cAt hS hk (by omega) hi, cco_R ad A i ht.1]
  have hlt : j.toNatClampNeg < aL A i := Nat.not_le.mp fun q => hin (Or.inr q)
  have ht5 : t = 36 ∨ t = 37 ∨ t = 38 ∨ t = 39 ∨ t = 40 := by omega
  have harr : ∃ ty : FieldType, (ArrOfT s (ac t) ty) ∧ ty.isReference = true := by
    rcases ht5 with rfl | rfl | rfl | rfl | rfl
    · exact ⟨_, (E.2.2.2.1.2 5 _ rfl).1, rfl⟩
    · exact ⟨_, (E.2.2.2.1.2 6 _ rfl).1, rfl⟩
    · exact ⟨_, (E.2.2.2.1.2 7 _ rfl).1, rfl⟩
    · exact ⟨_, (E.2.2.2.1.2 8 _ rfl).1, rfl⟩
    · exact ⟨_, (E.2.2.2.1.2 9 _ rfl).1, rfl⟩
  obtain ⟨ty, ha, hr⟩ := harr
  exact W.aald (v := va_rf ((aR A t i j.toNatClampNeg).map ad)) (ty := ty) E.1 hb h0 (ha _ (fun j => va_rf ((aR A t i j).map ad))) hr (fun q => by cases q) (by show ¬ (j < 0 ∨ (arrV _ _ _).slots.size ≤ _); rw [arrV_size]; exact hin) (by show (arrV _ _ _).slots[_]? = _; rw [arrV_read _ _ hlt]) rfl rfl hdg kk
theorem c_aln (E : cE p s m args own dC dI ac ad) (hb : c.code = cc) (hS : cS dC dI ac ad b H0 n0 s0 n1 s1 A H locs) {i t : Nat} (hk : aK A i = t) (hi : i < aN A) (ht : 31 ≤ t ∧ t ≤ 40) (hdg : decode cc pc = .ok (.arraylength, 1))
    (kk : W p l e R s m args below meth c H locs cells slots Q (F0 m (pc + 1) ls (.int (Int32.ofNat (aL A i)) :: rest))) : W p l e R s m args below meth c H locs cells slots Q (F0 m pc ls (.ref (ad i) :: rest)) := by
  have hP : va_P (dC, dI) cCL [(ad i, .inl (ac t, aL A i, cco ad A t i))] H := by
    intro k q hq
    cases k with
    | zero =>
      cases hq
      exact cAt hS hk ht.1 hi
    | succ k => simp at hq
  have htt : ∃ (t0 : Nat) (ty : FieldType), (cTY ac)[t0]? = some (ac t, ty) := by
    have h5 : t = 31 ∨ t = 32 ∨ t = 33 ∨ t = 34 ∨ t = 35 ∨ t = 36 ∨ t = 37 ∨ t = 38 ∨ t = 39 ∨ t = 40 := by omega
    rcases h5 with rfl | rfl | rfl | rfl | rfl | rfl | rfl | rfl | rfl | rfl
    · exact ⟨0, _, rfl⟩
    · exact ⟨1, _, rfl⟩
    · exact ⟨2, _, rfl⟩
    · exact ⟨3, _, rfl⟩
    · exact ⟨4, _, rfl⟩
    · exact ⟨5, _, rfl⟩
    · exact ⟨6, _, rfl⟩
    · exact ⟨7, _, rfl⟩
    · exact ⟨8, _, rfl⟩
    · exact ⟨9, _, rfl⟩
  obtain ⟨t0, ty, h9⟩ := htt
  exact va_alen E.1 hb E.2.2.2.1 hP 0 t0 (x := (aL A i, cco ad A t i)) rfl (ty := ty) h9 rfl hdg kk
end CA
