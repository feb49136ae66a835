/-! CONSTANTS: Strings and byte arrays, made ones and the tables' own; statics; identity -/
set_option maxRecDepth 100000
def uB_ (A : AH) (i : Nat) (j v : Int32) : Option AH := if (aK A i = 33 ∧ i < CB) ∧ ¬ (j < 0 ∨ aL A i ≤ j.toNatClampNeg) then some (wI A 33 i j.toNatClampNeg v) else none
def pIs (A : AH) (f i : Nat) (v : Int32) : Option AH := if aK A i = 19 ∧ i < CB then some (wI A f i 0 v) else none
def pRs (A : AH) (f i : Nat) (v : Option Nat) : Option AH := if aK A i = 19 ∧ i < CB then some (wR A f i 0 v) else none
theorem uB_s {A : AH} {i : Nat} {j v : Int32} {β : Type} {g : AH → Option β} {z : β} (h : bo (uB_ A i j v) g = some z) : ∃ A2, ((aK A i = 33 ∧ i < CB) ∧ vp_in j (aL A i)) ∧ A2 = wI A 33 i j.toNatClampNeg v ∧ g A2 = some z := by
  obtain ⟨r, h1, h2⟩ := bo_s h
  unfold uB_ at h1
  split at h1
  · next hc => cases h1; exact ⟨_, hc, rfl, h2⟩
  · cases h1
theorem pIs_s {A : AH} {f i : Nat} {v : Int32} {β : Type} {g : AH → Option β} {z : β} (h : bo (pIs A f i v) g = some z) : ∃ A2, (aK A i = 19 ∧ i < CB) ∧ A2 = wI A f i 0 v ∧ g A2 = some z := by
  obtain ⟨r, h1, h2⟩ := bo_s h
  unfold pIs at h1
  split at h1
  · next hc => cases h1; exact ⟨_, hc, rfl, h2⟩
  · cases h1
theorem pRs_s {A : AH} {f i : Nat} {v : Option Nat} {β : Type} {g : AH → Option β} {z : β} (h : bo (pRs A f i v) g = some z) : ∃ A2, (aK A i = 19 ∧ i < CB) ∧ A2 = wR A f i 0 v ∧ g A2 = some z := by
  obtain ⟨r, h1, h2⟩ := bo_s h
  unfold pRs at h1
  split at h1
  · next hc => cases h1; exact ⟨_, hc, rfl, h2⟩
  · cases h1
section C10
variable {p : Program} {l : Launch} {e : Env} {R : Room} {s : State} {m : MethodId} {args : Array Value} {below : List Frame} {meth : Method} {c : Code} {H : Heap} {locs : List Loc} {cells slots : Nat} {Q : State → Prop}
variable {cc : ByteArray} {pc : Nat} {ls : Array Slot} {rest : List Value} {own : String} {dC : Nat → ClassId} {dI : Nat → Nat → Nat} {ac : Nat → ClassId} {ad : Nat → Nat} {b : Prop} {H0 : Heap} {n0 s0 n1 s1 : Nat} {A A' : AH} {mc ms : Nat}
/-- the constants at the heap of a walk -/
theorem cXh (E : cE p s m args own dC dI ac ad) (hS : cS dC dI ac ad b s.heap n0 s0 n1 s1 A H locs) : cX dC dI ac ad s H := E.2.2.2.2.2.kept (fun a h1 h2 => hS.2.1.2.1 a h1 h2)
theorem kC_of (hS : cS dC dI ac ad b s.heap n0 s0 n1 s1 A H locs) {i t : Nat} (hi : ¬ i < CB) (hk : aK A i = t) : kC i = t := ((hS.1.2.2.2.2.2.2 i (by omega)).1).symm.trans hk
/-- a String's field -/
theorem c_gS (E : cE p s m args own dC dI ac ad) (hb : c.code = cc) (hS : cS dC dI ac ad b s.heap n0 s0 n1 s1 A H locs) {k i t f index : Nat} (hk : aK A i = 19) (ht : (cty 19)[k]? = some t) (hf : 1900 + k = f) (hl : Cond.fieldLink own index RJ6 (TJ6 k).2.1 (TJ6 k).2.2.1 ∈ lw_all) (hdecl : (TJ6 k).1 = RJ6) (hdg : decode cc pc = .ok (.getfield index, 3))
    (kk : W p l e R s m args below meth c H locs cells slots Q (F0 m (pc + 3) ls (cfv ad A f i t :: rest))) : W p l e R s m args below meth c H locs cells slots Q (F0 m pc ls (.ref (ad i) :: rest)) := by
  subst hf
  have hk4 : k < 4 := (List.getElem?_eq_some_iff.mp ht).1
  by_cases hi : i < CB
  · exact c_g E hb hS.1 ci_19 hk (hS.1.lt2 hk (by decide) hi) ht (Or.inl hl) (fun x h => by rw [hdecl] at h; exact h) hdg kk
  · have hX := cXh E hS
    obtain ⟨cell, q1, q2, q3, q4, r0, r1, r2, r3⟩ := hX.2.1 i (kC_of hS hi hk)
    have hct := hS.1.2.2.2.2.2.2 i (by omega)
    obtain ⟨hSl, hfc, kC, hkC, hkind⟩ := E.2.2.2.1.1 18 _ ci_19.1
    obtain ⟨cf, kf, fi, fl, hfi, hsl⟩ := hSl k hk4
    refine W.getf E.1 hb E.2.1 (E.2.2.1 _ hl) (by rw [← hdecl]; exact hfi) (u_facts hfc hkC (u_lays E.2.2.1 ci_19.2.1 hk4) hfi).1 q1 q4 (v := cfv ad A (1900 + k) i t) ?_ rfl rfl hdg kk
    rw [hsl]
    have h4 : k = 0 ∨ k = 1 ∨ k = 2 ∨ k = 3 := by omega
    rcases h4 with rfl | rfl | rfl | rfl
    · rw [show t = 2 from (Option.some.inj ht).symm]
      refine r0.trans ?_
      simp only [cfv, hct.2.2.2]
      rfl
    · rw [show t = 0 from (Option.some.inj ht).symm]
      refine r1.trans ?_
      simp only [cfv, hct.2.2.1]
      rfl
    · rw [show t = 0 from (Option.some.inj ht).symm]
      refine r2.trans ?_
      simp only [cfv, hct.2.2.1]
      rfl
    · rw [show t = 0 from (Option.some.inj ht).symm]
      refine r3.trans ?_
      simp only [cfv, hct.2.2.1]
      rfl
/-- a byte -/
theorem c_bld (E : cE p s m args own dC dI ac ad) (hb : c.code = cc) (hS : cS dC dI ac ad b s.heap n0 s0 n1 s1 A H locs) {i : Nat} {j : Int32} (hg : aK A i = 33 ∧ vp_in j (aL A i)) (hdg : decode cc pc = .ok (.baload, 1))
    (kk : W p l e R s m args below meth c H locs cells slots Q (F0 m (pc + 1) ls (.int (aI A 33 i j.toNatClampNeg) :: rest))) : W p l e R s m args below meth c H locs cells slots Q (F0 m pc ls (.int j :: .ref (ad i) :: rest)) := by
  by_cases hi : i < CB
  · exact c_ld E hb hS hg.1 (hS.1.lt2 hg.1 (by decide) hi) hg.2 (Or.inr (Or.inl ⟨rfl, rfl⟩)) hdg kk
  · have hX := cXh E hS
    obtain ⟨cell, q1, q2, q3, q4, q5⟩ := hX.2.2.1 i (kC_of hS hi hg.1)
    have hct := hS.1.2.2.2.2.2.2 i (by omega)
    have hin := hg.2
    rw [hct.2.1] at hin
    refine W.bald E.1 hb q1 q2 q3 (by rw [q4]; exact hin) (v := .int (aI A 33 i j.toNatClampNeg)) ?_ rfl rfl hdg kk
    rw [q5 _ (Nat.not_le.mp fun q => hin (Or.inr q)), hct.2.2.1]
theorem c_bln (E : cE p s m args own dC dI ac ad) (hb : c.code = cc) (hS : cS dC dI ac ad b s.heap n0 s0 n1 s1 A H locs) {i t : Nat} (hk : aK A i = t) (ht : t = 33 ∨ t = 40) (hdg : decode cc pc = .ok (.arraylength, 1))
    (kk : W p l e R s m args below meth c H locs cells slots Q (F0 m (pc + 1) ls (.int (Int32.ofNat (aL A i)) :: rest))) : W p l e R s m args below meth c H locs cells slots Q (F0 m pc ls (.ref (ad i) :: rest)) := by
  by_cases hi : i < CB
  · exact c_aln E hb hS hk (hS.1.lt2 hk (by omega) hi) (by omega) hdg kk
  · have hX := cXh E hS
    have hct := hS.1.2.2.2.2.2.2 i (by omega)
    rcases ht with rfl | rfl
    · obtain ⟨cell, q1, q2, q3, q4, q5⟩ := hX.2.2.1 i (kC_of hS hi hk)
      exact W.alen E.1 hb q1 q2 (by rw [q4, ← hct.2.1]) rfl rfl hdg kk
    · obtain ⟨cell, q1, q2, q3, q4, q5⟩ := hX.2.2.2.1 i (kC_of hS hi hk)
      exact W.alen E.1 hb q1 q2 (by rw [q4, ← hct.2.1]) rfl rfl hdg kk
theorem c_sld (E : cE p s m args own dC dI ac ad) (hb : c.code = cc) (hS : cS dC dI ac ad b s.heap n0 s0 n1 s1 A H locs) {i q : Nat} {j : Int32} (hg : (aK A i = 40 ∧ vp_in j (aL A i)) ∧ aR A 40 i j.toNatClampNeg = some q) (hdg : decode cc pc = .ok (.aaload, 1))
    (kk : W p l e R s m args below meth c H locs cells slots Q (F0 m (pc + 1) ls (.ref (ad q) :: rest))) : W p l e R s m args below meth c H locs cells slots Q (F0 m pc ls (.int j :: .ref (ad i) :: rest)) := by
  by_cases hi : i < CB
  · refine c_ald E hb hS hg.1.1 (hS.1.lt2 hg.1.1 (by decide) hi) (by decide) hg.1.2 hdg ?_
    rw [hg.2]
    exact kk
  · have hX := cXh E hS
    obtain ⟨cell, q1, q2, q3, q4, q5⟩ := hX.2.2.2.1 i (kC_of hS hi hg.1.1)
    have hct := hS.1.2.2.2.2.2.2 i (by omega)
    have hin := hg.1.2
    rw [hct.2.1] at hin
    refine W.aald (v := .ref (ad q)) (ty := .object "java/lang/String") E.1 hb q1 q2 rfl q3 (by rw [q4]; exact hin) ?_ rfl rfl hdg kk
    rw [q5 _ (Nat.not_le.mp fun q => hin (Or.inr q))]
    show some (va_rf (Option.map ad (rC 40 i j.toNatClampNeg))) = _
    rw [← hct.2.2.2, hg.2]
    rfl
theorem c_bst (E : cE p s m args own dC dI ac ad) (hb : c.code = cc) (hS : cS dC dI ac ad b H0 n0 s0 n1 s1 A H locs) {i : Nat} {j v : Int32} (hg : (aK A i = 33 ∧ i < CB) ∧ vp_in j (aL A i)) (hw : A' = wI A 33 i j.toNatClampNeg (vp_nar .byte v)) (hdg : decode cc pc = .ok (.bastore, 1))
    (kk : ∀ (H : Heap) (locs : List Loc), cS dC dI ac ad b H0 n0 s0 n1 s1 A' H locs → W p l e R s m args below meth c H locs cells slots Q (F0 m (pc + 1) ls rest)) : W p l e R s m args below meth c H locs cells slots Q (F0 m pc ls (.int v :: .int j :: .ref (ad i) :: rest)) :=
  c_st E hb hS hg.1.1 (hS.1.lt2 hg.1.1 (by decide) hg.1.2) hg.2 (Or.inr (Or.inl ⟨rfl, rfl, rfl⟩)) hw hdg kk
/-- the class of a String's cell -/
theorem c_recvS (E : cE p s m args own dC dI ac ad) (hS : cS dC dI ac ad b s.heap n0 s0 n1 s1 A H locs) {i : Nat} (hk : aK A i = 19) : ∃ cell : Cell, H[ad i]? = some cell ∧ cell.vm.isStatics = false ∧ s.vm.findClass RJ6 = some cell.cls := by
  by_cases hi : i < CB
  · exact c_recv E hS ci_19 hk (hS.1.lt2 hk (by decide) hi)
  · obtain ⟨cell, q1, q2, q3, q4, -⟩ := (cXh E hS).2.1 i (kC_of hS hi hk)
    exact ⟨cell, q1, q3, by rw [q2]; exact (E.2.2.2.1.1 18 _ ci_19.1).2.1⟩
theorem c_preVS (E : cE p s m args own dC dI ac ad) (hS : cS dC dI ac ad b s.heap n0 s0 n1 s1 A H locs) {i : Nat} (hk : aK A i = 19) (As : List Value) : PreV s H RJ6 (ad i) (va_Pc (.ref (ad i) :: As) (cPre dC dI ac ad b A)) As :=
  ⟨cPre_blind _, c_recvS E hS hk, fun U hU hW => ⟨rfl, c_pre E hS U hU hW⟩⟩
/-- two Strings are one, or not -/
theorem c_injS (E : cE p s m args own dC dI ac ad) (hS : cS dC dI ac ad b s.heap n0 s0 n1 s1 A H locs) {i j : Nat} (hi : aK A i = 19) (hj : aK A j = 19) (e : ad i = ad j) : i = j := by
  by_cases h1 : i < CB
  · by_cases h2 : j < CB
    · exact hS.1.inj (hS.1.lt2 hi (by decide) h1) (hS.1.lt2 hj (by decide) h2) e
    · exact absurd ⟨i, h1, e.symm⟩ (E.2.2.2.2.2.2.2.2.2.1 j (by rw [kC_of hS h2 hj]; decide))
  · by_cases h2 : j < CB
    · exact absurd ⟨j, h2, e⟩ (E.2.2.2.2.2.2.2.2.2.1 i (by rw [kC_of hS h1 hi]; decide))
    · exact E.2.2.2.2.2.2.2.2.2.2.2.2.2.1 i j (kC_of hS h1 hi) (kC_of hS h2 hj) e
theorem c_acmpS (E : cE p s m args own dC dI ac ad) (hb : c.code = cc) (hS : cS dC dI ac ad b s.heap n0 s0 n1 s1 A H locs) {i j tgt : Nat} {off : Int} (hk : aK A i = 19 ∧ aK A j = 19) (hdg : decode cc pc = .ok (.if_acmp .ne off, 3)) (ht : (pc : Int) + off = (tgt : Int))
    (kt : ¬ i = j → W p l e R s m args below meth c H locs cells slots Q (F0 m tgt ls rest)) (kf : i = j → W p l e R s m args below meth c H locs cells slots Q (F0 m (pc + 3) ls rest)) : W p l e R s m args below meth c H locs cells slots Q (F0 m pc ls (.ref (ad j) :: .ref (ad i) :: rest)) :=
  lv_acmp_ne (rx := some (ad i)) (ry := some (ad j)) E.1 hb hdg ht (fun h => kt (fun q => h (by rw [q]))) (fun h => kf (c_injS E hS hk.1 hk.2 (Option.some.inj h)))
/-- a static -/
theorem c_gst (E : cE p s m args own dC dI ac ad) (hb : c.code = cc) (hS : cS dC dI ac ad b s.heap n0 s0 n1 s1 A H locs) (k : Nat) {C n d ref : String} {v : Int32 ⊕ Nat} {index : Nat} (hq : stcL[k]? = some (C, n, d, v)) (hl : FLk own index ref n d) (hsame : ref = C) (hdg : decode cc pc = .ok (.getstatic index, 3))
    (kk : W p l e R s m args below meth c H locs cells slots Q (F0 m (pc + 3) ls (stcV ad v :: rest))) : W p l e R s m args below meth c H locs cells slots Q (F0 m pc ls rest) := by
  subst hsame
  have hZ := E.2.2.2.2.2.2.2.2.2.2.2.1 _ (List.mem_of_getElem? hq)
  rcases hl with hl | ⟨host, hl⟩
  · exact va_gets E.1 hb hZ hS.2.1 E.2.1 (E.2.2.1 _ hl) (fun _ h => h) hdg kk
  · exact va_getsN E.1 hb hZ hS.2.1 E.2.1 (va_Nw.use rfl (E.2.2.2.2.1 _ hl rfl)) (fun _ h => h) hdg kk
/-- a String that the code names -/
theorem c_ldc (E : cE p s m args own dC dI ac ad) (hb : c.code = cc) (k : Nat) {tx : String} {index j : Nat} (hq : ldcL[k]? = some (own, index, tx, j)) (hdg : decode cc pc = .ok (.ldc index, 2))
    (kk : W p l e R s m args below meth c H locs cells slots Q (F0 m (pc + 2) ls (.ref (ad (CB + j)) :: rest))) : W p l e R s m args below meth c H locs cells slots Q (F0 m pc ls rest) :=
  va_ldcS E.1 hb E.2.1 (E.2.2.2.2.2.2.2.2.2.2.1 _ (List.mem_of_getElem? hq)) hdg kk
theorem c_ldcw (E : cE p s m args own dC dI ac ad) (hb : c.code = cc) (k : Nat) {tx : String} {index j : Nat} (hq : ldcL[k]? = some (own, index, tx, j)) (hdg : decode cc pc = .ok (.ldc_w index, 3))
    (kk : W p l e R s m args below meth c H locs cells slots Q (F0 m (pc + 3) ls (.ref (ad (CB + j)) :: rest))) : W p l e R s m args below meth c H locs cells slots Q (F0 m pc ls rest) := by
  have hZ := E.2.2.2.2.2.2.2.2.2.2.1 _ (List.mem_of_getElem? hq)
  intro T hT X
  obtain ⟨t, a1, b1⟩ := kk T hT X
  exact ⟨t, X.ldcStringW E.1 E.2.1 (text := tx) (a := ad (CB + j)) hZ.1 hZ.2 (g := F0 m pc ls rest) rfl (by rw [hb]; exact hdg) t a1, b1⟩
theorem c_instS (E : cE p s m args own dC dI ac ad) (hb : c.code = cc) (hS : cS dC dI ac ad b s.heap n0 s0 n1 s1 A H locs) {i index : Nat} (hk : aK A i = 19) (hl : Cond.classLink own index RJ6 ∈ lw_all) (hdg : decode cc pc = .ok (.instanceof index, 3))
    (kk : W p l e R s m args below meth c H locs cells slots Q (F0 m (pc + 3) ls (.int 1 :: rest))) : W p l e R s m args below meth c H locs cells slots Q (F0 m pc ls (.ref (ad i) :: rest)) :=
  va_instS E.1 hb E.2.1 (E.2.2.1 _ hl) (E.2.2.2.1.1 18 _ ci_19.1).2 (c_recvS E hS hk) hdg kk
theorem c_castStr (E : cE p s m args own dC dI ac ad) (hb : c.code = cc) (hS : cS dC dI ac ad b s.heap n0 s0 n1 s1 A H locs) {i index : Nat} (hk : aK A i = 19) (hl : Cond.classLink own index RJ6 ∈ lw_all) (hdg : decode cc pc = .ok (.checkcast index, 3))
    (kk : W p l e R s m args below meth c H locs cells slots Q (F0 m (pc + 3) ls (.ref (ad i) :: rest))) : W p l e R s m args below meth c H locs cells slots Q (F0 m pc ls (.ref (ad i) :: rest)) :=
  va_castS E.1 hb E.2.1 (E.2.2.1 _ hl) (E.2.2.2.1.1 18 _ ci_19.1).2 (c_recvS E hS hk) hdg kk
theorem c_gsq (E : cE p s m args own dC dI ac ad) (hb : c.code = cc) (hS : cS dC dI ac ad b s.heap n0 s0 n1 s1 A H locs) (k : Nat) {C n d ref : String} {index : Nat} (hq : stqL[k]? = some (C, n, d)) (hl : FLk own index ref n d) (hsame : ref = C) (hdg : decode cc pc = .ok (.getstatic index, 3))
    (kk : ∀ v : Value, v.category = 1 → W p l e R s m args below meth c H locs cells slots Q (F0 m (pc + 3) ls (v :: rest))) : W p l e R s m args below meth c H locs cells slots Q (F0 m pc ls rest) := by
  subst hsame
  have hZ0 := E.2.2.2.2.2.2.2.2.2.2.2.2.2.2.1 _ (List.mem_of_getElem? hq)
  have hZ : ∃ v : Value, v.category = 1 ∧ va_Z ref n d v (cF ad) s s.heap := by
    rcases hZ0 with h | ⟨t, h⟩
    · exact ⟨_, rfl, h⟩
    · exact ⟨_, rfl, h⟩
  obtain ⟨v, hv, hZ⟩ := hZ
  rcases hl with hl | ⟨host, hl⟩
  · exact va_gets E.1 hb hZ hS.2.1 E.2.1 (E.2.2.1 _ hl) (fun _ h => h) hdg (kk v hv)
  · exact va_getsN E.1 hb hZ hS.2.1 E.2.1 (va_Nw.use rfl (E.2.2.2.2.1 _ hl rfl)) (fun _ h => h) hdg (kk v hv)
theorem c_gsu (E : cE p s m args own dC dI ac ad) (hb : c.code = cc) (hS : cS dC dI ac ad b s.heap n0 s0 n1 s1 A H locs) (k : Nat) {C n d ref : String} {index j : Nat} {u : Option Nat} (hu : u = uq ad j) (hq : stuL[k]? = some (C, n, d, j)) (hl : FLk own index ref n d) (hsame : ref = C) (hdg : decode cc pc = .ok (.getstatic index, 3))
    (kk : W p l e R s m args below meth c H locs cells slots Q (F0 m (pc + 3) ls (va_rf (u.map ad) :: rest))) : W p l e R s m args below meth c H locs cells slots Q (F0 m pc ls rest) := by
  subst hsame
  subst hu
  have hZ := E.2.2.2.2.2.2.2.2.2.2.2.2.2.2.2.1 _ (List.mem_of_getElem? hq)
  rcases hl with hl | ⟨host, hl⟩
  · exact va_gets E.1 hb hZ hS.2.1 E.2.1 (E.2.2.1 _ hl) (fun _ h => h) hdg kk
  · exact va_getsN E.1 hb hZ hS.2.1 E.2.1 (va_Nw.use rfl (E.2.2.2.2.1 _ hl rfl)) (fun _ h => h) hdg kk
theorem bz_n {v : Int32} (h : v = 0 ∨ v = 1) : narrow .boolean (.int v) = .int v := by rcases h with rfl | rfl <;> rfl
theorem bz_f {v : Int32} (h : v = 0 ∨ v = 1) : fits .boolean (.int v) = true := by rcases h with rfl | rfl <;> rfl
theorem by_n {v : Int32} (h : v = 0 ∨ v = 1) : narrow .byte (.int v) = .int v := by rcases h with rfl | rfl <;> rfl
theorem by_f {v : Int32} (h : v = 0 ∨ v = 1) : fits .byte (.int v) = true := by rcases h with rfl | rfl <;> rfl
end C10
theorem lw_U {own : String} {idx : Nat} {C owner : String} {x y : MethodName} {b : ByteArray} {L : Nat} {r : Option FieldType} (h1 : Cond.methodLink own idx x ∈ lw_all) (h2 : Cond.sameMethod x.cls owner x.name x.desc ∈ lw_all) (h3 : Cond.selects C x y ∈ lw_all) (h4 : Cond.instanceMethod y ∈ lw_all) (h5 : Cond.initialized y.cls ∈ lw_all) (h6 : Cond.code y b L r ∈ lw_all) : GoodIn lw_all (va_wsU own idx C owner x y (ws_ y b L r)) := by
  refine lw_app ?_ (lw_meth h6)
  intro w hw
  simp only [List.mem_cons, List.not_mem_nil, or_false] at hw
  rcases hw with e | e | e | e | e
  · rw [e]; exact h1
  · rw [e]; exact h2
  · rw [e]; exact h3
  · rw [e]; exact h4
  · rw [e]; exact h5
