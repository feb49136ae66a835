/-! ROWS: arrays of references, arrays of arrays, System.arraycopy, getClass, class objects -/
set_option maxRecDepth 100000
/-- where a thing holds (of which nobody asks how it is decided) -/
noncomputable def cif {α : Type} (P : Prop) (x : Option α) : Option α := @ite (Option α) P (Classical.propDecidable P) x none
theorem cif_t {α : Type} {P : Prop} (h : P) (x : Option α) : cif P x = x := @if_pos P (Classical.propDecidable P) h (Option α) x none
theorem cif_s {α : Type} {P : Prop} {x : Option α} {r : α} (h : cif P x = some r) : P ∧ x = some r := by
  by_cases hp : P
  · rw [cif_t hp] at h
    exact ⟨hp, h⟩
  · have h2 : cif P x = none := @if_neg P (Classical.propDecidable P) hp (Option α) x none
    rw [h2] at h
    cases h
/-- a copy among arrays of bytes (33), of references (39) -/
def cpI (A : AH) (t i0 i1 sp dp n : Nat) : AH := (A.1, A.2.1, A.2.2.1, (fun f i j => if f = t ∧ i = i1 then va_cpy (aI A t i0) (aI A t i1) sp dp n j else aI A f i j), A.2.2.2.2.1, A.2.2.2.2.2)
def cpR (A : AH) (t i0 i1 sp dp n : Nat) : AH := (A.1, A.2.1, A.2.2.1, A.2.2.2.1, A.2.2.2.2.1, (fun f i j => if f = t ∧ i = i1 then va_cpy (aR A t i0) (aR A t i1) sp dp n j else aR A f i j))
theorem aI_cpI (A : AH) (t i0 i1 sp dp n f i j : Nat) : aI (cpI A t i0 i1 sp dp n) f i j = if f = t ∧ i = i1 then va_cpy (aI A t i0) (aI A t i1) sp dp n j else aI A f i j := rfl
theorem aR_cpR (A : AH) (t i0 i1 sp dp n f i j : Nat) : aR (cpR A t i0 i1 sp dp n) f i j = if f = t ∧ i = i1 then va_cpy (aR A t i0) (aR A t i1) sp dp n j else aR A f i j := rfl
def cpOk (A : AH) (t i0 : Nat) (sp : Int32) (i1 : Nat) (dp n : Int32) : Prop := (aK A i0 = t ∧ i0 < CB ∧ aK A i1 = t ∧ i1 < CB) ∧ (¬ sp < 0 ∧ ¬ dp < 0 ∧ ¬ n < 0) ∧ sp.toNatClampNeg + n.toNatClampNeg ≤ aL A i0 ∧ dp.toNatClampNeg + n.toNatClampNeg ≤ aL A i1
noncomputable def cpB_ (A : AH) (i0 : Nat) (sp : Int32) (i1 : Nat) (dp n : Int32) : Option AH := cif (cpOk A 33 i0 sp i1 dp n ∧ (∀ i, i < n.toNatClampNeg → vp_nar .byte (aI A 33 i0 (sp.toNatClampNeg + i)) = aI A 33 i0 (sp.toNatClampNeg + i))) (some (cpI A 33 i0 i1 sp.toNatClampNeg dp.toNatClampNeg n.toNatClampNeg))
noncomputable def cpO_ (A : AH) (i0 : Nat) (sp : Int32) (i1 : Nat) (dp n : Int32) : Option AH := cif (cpOk A 39 i0 sp i1 dp n ∧ (∀ i, i < n.toNatClampNeg → ∀ q, aR A 39 i0 (sp.toNatClampNeg + i) = some q → isObj (aK A q) = true)) (some (cpR A 39 i0 i1 sp.toNatClampNeg dp.toNatClampNeg n.toNatClampNeg))
theorem cpB_s {A : AH} {i0 i1 : Nat} {sp dp n : Int32} {β : Type} {g : AH → Option β} {z : β} (h : bo (cpB_ A i0 sp i1 dp n) g = some z) : ∃ A2, (cpOk A 33 i0 sp i1 dp n ∧ (∀ i, i < n.toNatClampNeg → vp_nar .byte (aI A 33 i0 (sp.toNatClampNeg + i)) = aI A 33 i0 (sp.toNatClampNeg + i))) ∧ A2 = cpI A 33 i0 i1 sp.toNatClampNeg dp.toNatClampNeg n.toNatClampNeg ∧ g A2 = some z := by
  obtain ⟨r, h1, h2⟩ := bo_s h
  obtain ⟨hc, h3⟩ := cif_s h1
  cases h3
  exact ⟨_, hc, rfl, h2⟩
theorem cpO_s {A : AH} {i0 i1 : Nat} {sp dp n : Int32} {β : Type} {g : AH → Option β} {z : β} (h : bo (cpO_ A i0 sp i1 dp n) g = some z) : ∃ A2, (cpOk A 39 i0 sp i1 dp n ∧ (∀ i, i < n.toNatClampNeg → ∀ q, aR A 39 i0 (sp.toNatClampNeg + i) = some q → isObj (aK A q) = true)) ∧ A2 = cpR A 39 i0 i1 sp.toNatClampNeg dp.toNatClampNeg n.toNatClampNeg ∧ g A2 = some z := by
  obtain ⟨r, h1, h2⟩ := bo_s h
  obtain ⟨hc, h3⟩ := cif_s h1
  cases h3
  exact ⟨_, hc, rfl, h2⟩
/-- an array of arrays: the outer one, then its rows -/
def nw2 (A : AH) (t u n k : Nat) : AH := ((aN A + (1 + n), aS A + (n + n * k)), (fun i => if i = aN A then t else if aN A < i ∧ i < aN A + (1 + n) then u else aK A i), (fun i => if i = aN A then n else if aN A < i ∧ i < aN A + (1 + n) then k else aL A i), (fun f i j => if aN A ≤ i ∧ i < aN A + (1 + n) then 0 else aI A f i j), (fun f i j => if aN A ≤ i ∧ i < aN A + (1 + n) then 0 else aJ A f i j), (fun f i j => if i = aN A then (if f = t ∧ j < n then some (aN A + (1 + j)) else none) else if aN A < i ∧ i < aN A + (1 + n) then none else aR A f i j))
theorem aN_nw2 (A : AH) (t u n k : Nat) : aN (nw2 A t u n k) = aN A + (1 + n) := rfl
theorem aS_nw2 (A : AH) (t u n k : Nat) : aS (nw2 A t u n k) = aS A + (n + n * k) := rfl
theorem aK_nw2 (A : AH) (t u n k i : Nat) : aK (nw2 A t u n k) i = if i = aN A then t else if aN A < i ∧ i < aN A + (1 + n) then u else aK A i := rfl
theorem aL_nw2 (A : AH) (t u n k i : Nat) : aL (nw2 A t u n k) i = if i = aN A then n else if aN A < i ∧ i < aN A + (1 + n) then k else aL A i := rfl
theorem aI_nw2 (A : AH) (t u n k f i j : Nat) : aI (nw2 A t u n k) f i j = if aN A ≤ i ∧ i < aN A + (1 + n) then 0 else aI A f i j := rfl
theorem aJ_nw2 (A : AH) (t u n k f i j : Nat) : aJ (nw2 A t u n k) f i j = if aN A ≤ i ∧ i < aN A + (1 + n) then 0 else aJ A f i j := rfl
theorem aR_nw2 (A : AH) (t u n k f i j : Nat) : aR (nw2 A t u n k) f i j = if i = aN A then (if f = t ∧ j < n then some (aN A + (1 + j)) else none) else if aN A < i ∧ i < aN A + (1 + n) then none else aR A f i j := rfl
def nwM (A : AH) (t u : Nat) (n k : Int32) : Option AH := if (aN A + (1 + n.toNatClampNeg) ≤ CB ∧ ¬ n < 0 ∧ ¬ k < 0) ∧ n.toNatClampNeg ≤ 65536 ∧ k.toNatClampNeg ≤ 65536 then some (nw2 A t u n.toNatClampNeg k.toNatClampNeg) else none
theorem nwM_s {A : AH} {t u : Nat} {n k : Int32} {β : Type} {g : AH → Option β} {z : β} (h : bo (nwM A t u n k) g = some z) : ∃ A2, ((aN A + (1 + n.toNatClampNeg) ≤ CB ∧ ¬ n < 0 ∧ ¬ k < 0) ∧ n.toNatClampNeg ≤ 65536 ∧ k.toNatClampNeg ≤ 65536) ∧ A2 = nw2 A t u n.toNatClampNeg k.toNatClampNeg ∧ g A2 = some z := by
  obtain ⟨r, h1, h2⟩ := bo_s h
  unfold nwM at h1
  split at h1
  · next hc => cases h1; exact ⟨_, hc, rfl, h2⟩
  · cases h1
section C11
variable {p : Program} {l : Launch} {e : Env} {R : Room} {s : State} {m : MethodId} {args : Array Value} {below : List Frame} {meth : Method} {c : Code} {H : Heap} {locs : List Loc} {cells slots : Nat} {Q : State → Prop}
variable {cc : ByteArray} {pc : Nat} {ls : Array Slot} {rest : List Value} {own : String} {dC : Nat → ClassId} {dI : Nat → Nat → Nat} {ac : Nat → ClassId} {ad : Nat → Nat} {b : Prop} {H0 : Heap} {n0 s0 n1 s1 : Nat} {A A' : AH} {mc ms : Nat}
theorem cX2E (E : cE p s m args own dC dI ac ad) : cX2 ad s := E.2.2.2.2.2.2.2.2.2.2.2.2.2.2.2.2
/-- the world grows by d cells -/
theorem cS_grow (hS : cS dC dI ac ad b H0 n0 s0 n1 s1 A H locs) {d : Nat} {H1 : Heap} (hn : aN A + d ≤ CB) (hN : aN A' = aN A + d) (hSl : aS A ≤ aS A') (hup : aN A' ≤ n1 ∧ aS A' ≤ s1)
    (ho : ∀ i, (i < aN A ∨ aN A + d ≤ i) → aK A' i = aK A i ∧ aL A' i = aL A i ∧ (∀ f j, aI A' f i j = aI A f i j) ∧ (∀ f j, aJ A' f i j = aJ A f i j) ∧ ∀ f j, aR A' f i j = aR A f i j)
    (hat : ∀ j, j < d → va_at (dC, dI) cCL (ad (aN A + j), cce ad ac A' (aN A + j)) H1) (z1 : H1.size = H.size + d) (o1 : ∀ q : Nat, q < H.size → H1[q]? = H[q]?) : cS dC dI ac ad b H0 n0 s0 n1 s1 A' H1 locs := by
  have had : ∀ j, aN A + j < CB → ad (aN A + j) = H.size + j := hS.1.2.2.1
  have hlt : ∀ i, i < aN A → ad i < H.size := fun i hi => (hS.1.1 i _ (wC_at ad ac A hi)).lt
  have hce : ∀ i, i < aN A → cce ad ac A' i = cce ad ac A i := by
    intro i hi
    obtain ⟨k1, k2, k3, k4, k5⟩ := ho i (Or.inl hi)
    have e1 : ∀ f t, cfv ad A' f i t = cfv ad A f i t := by
      intro f t
      simp only [cfv, k3, k4, k5]
    have e2 : ∀ c, cfs ad A' c i = cfs ad A c i := by
      intro c
      simp only [cfs, e1]
    have e3 : ∀ c, cco ad A' c i = cco ad A c i := by
      intro c
      have q1 : aI A' c i = aI A c i := funext fun j => k3 c j
      have q2 : aJ A' 32 i = aJ A 32 i := funext fun j => k4 32 j
      have q3 : (fun j => (aR A' c i j).map ad) = fun j => (aR A c i j).map ad := funext fun j => by rw [k5]
      simp only [cco, q1, q2, q3]
    simp only [cce, k1, k2, e2, e3]
  have hwl : ∀ (i : Nat) (x : Nat × va_E), (wC ad ac A')[i]? = some x → i < aN A' ∧ x = (ad i, cce ad ac A' i) := by
    intro i x hx
    have hi : i < aN A' := by
      have := (List.getElem?_eq_some_iff.mp hx).1
      simpa [wC] using this
    rw [wC_at ad ac A' hi] at hx
    exact ⟨hi, (Option.some.inj hx).symm⟩
  refine ⟨⟨?_, ⟨?_, ?_⟩, ?_, ?_, ?_, ?_, ?_⟩, ⟨Nat.le_trans hS.2.1.1 (by omega), fun x h1 h2 => (o1 x (Nat.lt_of_lt_of_le h1 hS.2.1.1)).trans (hS.2.1.2.1 x h1 h2), hS.2.1.2.2⟩, Nat.le_trans hS.2.2.1 (by omega), Nat.le_trans hS.2.2.2.1 hSl, hup⟩
  · intro i x hx
    obtain ⟨hi, rfl⟩ := hwl i x hx
    by_cases h : i < aN A
    · rw [hce i h]
      have hk : ∀ (k : Nat) (x : Nat × va_E), (wC ad ac A)[k]? = some x → H1[x.1]? = H[x.1]? := fun k x hx => o1 x.1 ((hS.1.1 k x hx).lt)
      exact (hS.1.1.kept hk) i _ (wC_at ad ac A h)
    · have := hat (i - aN A) (by omega)
      rw [show aN A + (i - aN A) = i by omega] at this
      exact this
  · intro i j x y hx hy e
    obtain ⟨hi, rfl⟩ := hwl i x hx
    obtain ⟨hj, rfl⟩ := hwl j y hy
    have e : ad i = ad j := e
    by_cases h : i < aN A
    · by_cases h2 : j < aN A
      · exact hS.1.inj h h2 e
      · have g1 := hlt i h
        have g2 := had (j - aN A) (by omega)
        rw [show aN A + (j - aN A) = j by omega] at g2
        omega
    · have g2 := had (i - aN A) (by omega)
      rw [show aN A + (i - aN A) = i by omega] at g2
      by_cases h2 : j < aN A
      · have g1 := hlt j h2
        omega
      · have g3 := had (j - aN A) (by omega)
        rw [show aN A + (j - aN A) = j by omega] at g3
        omega
  · intro i x hx
    obtain ⟨hi, rfl⟩ := hwl i x hx
    exact ⟨i, by omega, rfl⟩
  · intro j hj
    rw [hN] at hj ⊢
    rw [z1, show aN A + d + j = aN A + (d + j) by omega, had (d + j) (by omega)]
    omega
  · intro i h1 h2
    rw [hN] at h1
    rw [(ho i (Or.inr h1)).1]
    exact hS.1.2.2.2.1 i (by omega) h2
  · omega
  · intro hb
    have h := hS.1.2.2.2.2.2.1 hb
    refine ⟨by rw [hN]; exact Nat.le_trans h.1 (by omega), fun i hi => ?_, fun i f t hi ht => ?_⟩
    · obtain ⟨k1, k2, -⟩ := ho i (Or.inl (Nat.lt_of_lt_of_le hi h.1))
      rw [k1, k2]
      exact h.2.1 i hi
    · obtain ⟨-, -, -, -, k5⟩ := ho i (Or.inl (Nat.lt_of_lt_of_le hi h.1))
      rw [k5]
      exact h.2.2 i f t hi ht
  · intro i hi
    have h := hS.1.2.2.2.2.2.2 i hi
    obtain ⟨k1, k2, k3, -, k5⟩ := ho i (Or.inr (Nat.le_trans hn hi))
    exact ⟨k1.trans h.1, k2.trans h.2.1, fun f j => (k3 f j).trans (h.2.2.1 f j), fun f j => (k5 f j).trans (h.2.2.2 f j)⟩
/-- an array of references: Object[] (39), State[] (38) -/
theorem c_anew (E : cE p s m args own dC dI ac ad) (hb : c.code = cc) (hS : cS dC dI ac ad b H0 n0 s0 n1 s1 A H locs) (hcs : n0 + cells ≤ aN A ∧ s0 + slots ≤ aS A) {t index : Nat} {n : Int32} {C : String} (ht : (t = 39 ∧ C = "java/lang/Object") ∨ (t = 38 ∧ C = "MarginFolk$State")) (hl : Cond.classLink own index C ∈ lw_all) (hn : aN A < CB ∧ ¬ n < 0 ∧ n.toNatClampNeg ≤ 67108864) (hw : A' = nw A t n.toNatClampNeg n.toNatClampNeg) (hup : aN A' ≤ n1 ∧ aS A' ≤ s1) (hR : n1 ≤ n0 + R.cells ∧ s1 ≤ s0 + R.slots) (hdg : decode cc pc = .ok (.anewarray index, 3))
    (kk : ∀ (H : Heap) (cells slots : Nat), cS dC dI ac ad b H0 n0 s0 n1 s1 A' H locs → n0 + cells ≤ aN A' ∧ s0 + slots ≤ aS A' → W p l e R s m args below meth c H locs cells slots Q (F0 m (pc + 3) ls (.ref (ad (aN A)) :: rest))) : W p l e R s m args below meth c H locs cells slots Q (F0 m pc ls (.int n :: rest)) := by
  subst hw
  rw [aN_nw, aS_nw] at hup
  have had : ad (aN A) = H.size := hS.1.2.2.1 0 hn.1
  have hao : va_AO C s := by
    rcases ht with ⟨-, rfl⟩ | ⟨-, rfl⟩
    · exact (cX2E E).2.1 _ (by simp)
    · exact (cX2E E).2.1 _ (by simp)
  have hac : s.vm.findClass ("[" ++ (FieldType.object C).toString) = some (ac t) := by
    rcases ht with ⟨rfl, rfl⟩ | ⟨rfl, rfl⟩
    · obtain ⟨kA, comp, -, -, -, k4⟩ := (E.2.2.2.1.2 8 _ rfl).2
      exact k4
    · obtain ⟨kA, comp, -, -, -, k4⟩ := (E.2.2.2.1.2 7 _ rfl).2
      exact k4
  have ht36 : 36 ≤ t := by omega
  refine W.anew E.1 hb E.2.1 (E.2.2.1 _ hl) (va_AO.use hao) rfl hdg rfl hn.2.1 (by omega) (by omega) (by omega) fun cA kA comp f1 f2 f3 f4 => ?_
  generalize hH1 : H.push ({ cls := cA, slots := Array.replicate n.toNatClampNeg .null, vm := .none } : Cell) = H1
  have z1 : H1.size = H.size + 1 := by rw [← hH1, Array.size_push]
  have e1 : H1[H.size]? = some (arrV cA n.toNatClampNeg (fun _ => .null)) := by rw [← hH1, Array.getElem?_push_size, ← arrV_new]
  have o1 : ∀ q : Nat, q < H.size → H1[q]? = H[q]? := fun q hq => by rw [← hH1, Array.getElem?_push, if_neg (Nat.ne_of_lt hq)]
  have h2 := kk H1 (cells + 1) (slots + n.toNatClampNeg) (cS_nw hS hn.1 hup ?_ z1 o1) (by rw [aN_nw, aS_nw]; omega)
  · rw [had] at h2
    exact h2
  · rw [cce_ar ad ac _ (show aK (nw A t n.toNatClampNeg n.toNatClampNeg) (aN A) = t by rw [aK_nw, if_pos rfl]) (by omega), had]
    show H1[H.size]? = _
    rw [e1, aL_nw, if_pos rfl, cco_R ad _ _ ht36, vp_cell_q, show cA = ac t from Option.some.inj (f1.symm.trans hac)]
    simp only [aR_nw, if_true]
    rfl
/-- System.arraycopy, at large -/
theorem c_cp0 (E : cE p s m args own dC dI ac ad) (hb : c.code = cc) (hml : c.maxLocals = ls.size) {a0 a1 index k : Nat} {cA : ClassId} {ty : FieldType} (hlink : Cond.methodLink own index arraycopyName ∈ lw_all) (hnat : Cond.native arraycopyName ∈ lw_all) (hstat : Cond.static arraycopyName ∈ lw_all) (hini : Cond.initialized "java/lang/System" ∈ lw_all) (hk : (cTY ac)[k]? = some (cA, ty)) {N0 N1 : Nat} {f g : Nat → Value} (h0 : H[a0]? = some (arrV cA N0 f)) (h1 : H[a1]? = some (arrV cA N1 g)) {sp dp n : Int32} (hn : ¬ sp < 0 ∧ ¬ dp < 0 ∧ ¬ n < 0) (hs4 : sp.toNatClampNeg + n.toNatClampNeg ≤ N0) (hs5 : dp.toNatClampNeg + n.toNatClampNeg ≤ N1)
    (hvals : ∀ (kA : Class) (comp : ClassId), s.vm.classes[cA]? = some kA → kA.kind = .array comp ty → ∀ (T : State) (vm' : Vm), T.heap = H → s.vm.Alike vm' → ∀ i, i < n.toNatClampNeg → fits ty (f (sp.toNatClampNeg + i)) = true ∧ (T.setVm vm').takes comp (f (sp.toNatClampNeg + i)))
    (hframes : 1 ≤ R.frames) (hlocals : (rest.map fun v => v.category).sum + (nativeFrameWords "java/lang/System" "arraycopy" 5 + 11) ≤ R.locals) (hdg : decode cc pc = .ok (.invokestatic index, 3))
    (kk : ∀ (H1 : Heap) (locs1 : List Loc), H1[a1]? = some (arrV cA N1 (va_cpy f g sp.toNatClampNeg dp.toNatClampNeg n.toNatClampNeg)) → H1.size = H.size → (∀ q : Nat, q ≠ a1 → H1[q]? = H[q]?) → (∀ z ∈ locs1, z ∈ locs ∨ z.base = a1) → W p l e R s m args below meth c H1 locs1 cells slots Q (F0 m (pc + 3) ls rest)) : W p l e R s m args below meth c H locs cells slots Q (F0 m pc ls (.int n :: .int dp :: .ref a1 :: .int sp :: .ref a0 :: rest)) := by
  have nn : ∀ z : Int32, ¬ z < 0 → z.toInt = (z.toNatClampNeg : Int) := by
    intro z hz
    have hz0 : (0 : Int) ≤ z.toInt := by
      have := Int32.not_lt.mp hz
      simpa using Int32.le_iff_toInt_le.mp this
    show z.toInt = ((z.toInt.toNat : Nat) : Int)
    omega
  intro T hT X
  obtain ⟨-, kA, hkA, comp, hkk⟩ := (E.2.2.2.1.2 k _ hk).1 N0 f
  obtain ⟨vm', X', step⟩ := X.arraycopy E.1 E.2.1 (E.2.2.1 _ hlink) (E.2.2.1 _ hnat) (E.2.2.1 _ hstat) (E.2.2.1 _ hini) (src := a0) (dst := a1) (cs := arrV cA N0 f) (cd := arrV cA N1 g) (srcPos := sp) (destPos := dp) (n := n) (by rw [hT]; exact h0) (by rw [hT]; exact h1)
    (fun _ h => by cases h) (fun _ h => by cases h) (fun h => by cases h) (fun h => by cases h) hkA hkA hkk hkk (by cases refKind ty <;> simp) hn.1 hn.2.1 hn.2.2
    (by rw [nn sp hn.1, nn n hn.2.2, arrV_size]; omega)
    (by rw [nn dp hn.2.1, nn n hn.2.2, arrV_size]; omega)
    (fun vm₁ hal i hi => by
      have e : (arrV cA N0 f).slots.getD (sp.toNatClampNeg + i) .null = f (sp.toNatClampNeg + i) := by
        rw [Array.getD_eq_getD_getElem?, arrV_read _ _ (by omega)]
        rfl
      rw [e]
      exact hvals kA comp hkA hkk T vm₁ hT hal i hi)
    (g := F0 m pc ls (.int n :: .int dp :: .ref a1 :: .int sp :: .ref a0 :: rest)) rfl (by rw [hml]) (rest := rest) rfl (by rw [hb]; exact hdg) hframes (by show 2 * 0 + _ + _ ≤ _; omega)
  have e1 : copied (arrV cA N0 f) (arrV cA N1 g) sp dp n = arrV cA N1 (va_cpy f g sp.toNatClampNeg dp.toNatClampNeg n.toNatClampNeg) := va_copied (fun z => z) cA cA f g hs4
  rw [e1] at X' step
  have hl : a1 < H.size := (Array.getElem?_eq_some_iff.mp h1).1
  have hheap : ((T.setVm vm').setCell a1 (arrV cA N1 (va_cpy f g sp.toNatClampNeg dp.toNatClampNeg n.toNatClampNeg))).heap = H.setIfInBounds a1 (arrV cA N1 (va_cpy f g sp.toNatClampNeg dp.toNatClampNeg n.toNatClampNeg)) := by rw [← hT]; rfl
  obtain ⟨t, a1', b1⟩ := kk _ _ (show (H.setIfInBounds a1 (arrV cA N1 (va_cpy f g sp.toNatClampNeg dp.toNatClampNeg n.toNatClampNeg)))[a1]? = some _ by simp [Array.getElem?_setIfInBounds, hl]) (by simp) (fun q hq => by simp [Array.getElem?_setIfInBounds, Ne.symm hq])
    (fun z hz => by
      rcases List.mem_append.mp hz with h | h
      · exact Or.inl h
      · obtain ⟨w, -, hw⟩ := List.mem_map.mp h
        rw [← hw]
        exact Or.inr rfl) _ hheap X'
  exact ⟨t, step t a1', b1⟩
theorem cS_locs (hS : cS dC dI ac ad b H0 n0 s0 n1 s1 A H locs) {locs1 : List Loc} (h : ∀ z ∈ locs1, z ∈ locs ∨ cF ad z.base) : cS dC dI ac ad b H0 n0 s0 n1 s1 A H locs1 :=
  ⟨hS.1, ⟨hS.2.1.1, hS.2.1.2.1, fun z hz => (h z hz).elim (fun q => hS.2.1.2.2 z q) id⟩, hS.2.2⟩
theorem cce_cpI (ad : Nat → Nat) (ac : Nat → ClassId) (A : AH) (t i0 i1 sp dp n : Nat) {j : Nat} (h : j ≠ i1) : cce ad ac (cpI A t i0 i1 sp dp n) j = cce ad ac A j := cce_same ad ac A _ j rfl rfl (fun f k => by rw [aI_cpI, if_neg (fun q => h q.2)]) (fun _ _ => rfl) (fun _ _ => rfl)
theorem cce_cpR (ad : Nat → Nat) (ac : Nat → ClassId) (A : AH) (t i0 i1 sp dp n : Nat) {j : Nat} (h : j ≠ i1) : cce ad ac (cpR A t i0 i1 sp dp n) j = cce ad ac A j := cce_same ad ac A _ j rfl rfl (fun _ _ => rfl) (fun _ _ => rfl) (fun f k => by rw [aR_cpR, if_neg (fun q => h q.2)])
theorem CCT_cpI {A : AH} {t i0 i1 sp dp n : Nat} (hi : i1 < CB) (h : CCT A) : CCT (cpI A t i0 i1 sp dp n) := fun j hj => ⟨(h j hj).1, (h j hj).2.1, fun f' k' => by rw [aI_cpI, if_neg (fun q => by omega)]; exact (h j hj).2.2.1 f' k', (h j hj).2.2.2⟩
theorem CCT_cpR {A : AH} {t i0 i1 sp dp n : Nat} (hi : i1 < CB) (h : CCT A) : CCT (cpR A t i0 i1 sp dp n) := fun j hj => ⟨(h j hj).1, (h j hj).2.1, (h j hj).2.2.1, fun f' k' => by rw [aR_cpR, if_neg (fun q => by omega)]; exact (h j hj).2.2.2 f' k'⟩
theorem CST_cpR {A : AH} {t i0 i1 sp dp n : Nat} (ht : skey t = false) (h : CST A) : CST (cpR A t i0 i1 sp dp n) := by
  refine ⟨h.1, h.2.1, fun i' f' t' hi hs => ?_⟩
  rw [aR_cpR, if_neg]
  · exact h.2.2 i' f' t' hi hs
  · intro q
    have := sref_key hs
    rw [q.1, ht] at this
    cases this
/-- a copy of bytes -/
theorem c_cpB (E : cE p s m args own dC dI ac ad) (hb : c.code = cc) (hml : c.maxLocals = ls.size) (hS : cS dC dI ac ad b H0 n0 s0 n1 s1 A H locs) {i0 i1 index : Nat} (hlink : Cond.methodLink own index arraycopyName ∈ lw_all) (hnat : Cond.native arraycopyName ∈ lw_all) (hstat : Cond.static arraycopyName ∈ lw_all) (hini : Cond.initialized "java/lang/System" ∈ lw_all) {sp dp n : Int32} (hg : cpOk A 33 i0 sp i1 dp n ∧ (∀ i, i < n.toNatClampNeg → vp_nar .byte (aI A 33 i0 (sp.toNatClampNeg + i)) = aI A 33 i0 (sp.toNatClampNeg + i))) (hw : A' = cpI A 33 i0 i1 sp.toNatClampNeg dp.toNatClampNeg n.toNatClampNeg)
    (hframes : 1 ≤ R.frames) (hlocals : (rest.map fun v => v.category).sum + (nativeFrameWords "java/lang/System" "arraycopy" 5 + 11) ≤ R.locals) (hdg : decode cc pc = .ok (.invokestatic index, 3))
    (kk : ∀ (H : Heap) (locs : List Loc), cS dC dI ac ad b H0 n0 s0 n1 s1 A' H locs → W p l e R s m args below meth c H locs cells slots Q (F0 m (pc + 3) ls rest)) : W p l e R s m args below meth c H locs cells slots Q (F0 m pc ls (.int n :: .int dp :: .ref (ad i1) :: .int sp :: .ref (ad i0) :: rest)) := by
  subst hw
  obtain ⟨⟨⟨k0, c0, k1, c1⟩, hn, h4, h5⟩, hfit⟩ := hg
  have hi0 := hS.1.lt2 k0 (by decide) c0
  have hi1 := hS.1.lt2 k1 (by decide) c1
  have e0 := c_ld0 E hS k0 hi0 (by decide) (by decide)
  have e1 := c_ld0 E hS k1 hi1 (by decide) (by decide)
  rw [vp_cell_i] at e0 e1
  refine c_cp0 (k := 2) (ty := .byte) E hb hml hlink hnat hstat hini rfl e0 e1 hn h4 h5 (fun kA comp g1 g2 T vm' hT hal i hi => ⟨?_, trivial⟩) hframes hlocals hdg (fun H1 locs1 q1 q2 q3 q4 => ?_)
  · have h9 := hfit i hi
    rw [← h9]
    exact fits_narrow_byte _
  · refine kk H1 locs1 (cS_locs (cS_ar (A' := cpI A 33 i0 i1 sp.toNatClampNeg dp.toNatClampNeg n.toNatClampNeg) (k := 0) hS k1 (by decide) hi1 rfl rfl rfl rfl (fun q hq => cce_cpI ad ac A _ _ _ _ _ _ hq) (fun _ h => h) (CCT_cpI c1) ?_ q2 q3) (fun z hz => (q4 z hz).elim (fun q => Or.inl (List.mem_append_left _ q)) (fun q => Or.inr ⟨i1, c1, q⟩)))
    rw [q1, cco_I ad _ i1 (by decide), vp_cell_i]
    congr 2
    funext j
    rw [aI_cpI, if_pos ⟨rfl, rfl⟩]
    simp only [va_cpy]
    split <;> rfl
/-- a copy of references -/
theorem c_cpO (E : cE p s m args own dC dI ac ad) (hb : c.code = cc) (hml : c.maxLocals = ls.size) (hS : cS dC dI ac ad b H0 n0 s0 n1 s1 A H locs) {i0 i1 index : Nat} (hlink : Cond.methodLink own index arraycopyName ∈ lw_all) (hnat : Cond.native arraycopyName ∈ lw_all) (hstat : Cond.static arraycopyName ∈ lw_all) (hini : Cond.initialized "java/lang/System" ∈ lw_all) {sp dp n : Int32} (hg : cpOk A 39 i0 sp i1 dp n ∧ (∀ i, i < n.toNatClampNeg → ∀ q, aR A 39 i0 (sp.toNatClampNeg + i) = some q → isObj (aK A q) = true)) (hw : A' = cpR A 39 i0 i1 sp.toNatClampNeg dp.toNatClampNeg n.toNatClampNeg)
    (hframes : 1 ≤ R.frames) (hlocals : (rest.map fun v => v.category).sum + (nativeFrameWords "java/lang/System" "arraycopy" 5 + 11) ≤ R.locals) (hdg : decode cc pc = .ok (.invokestatic index, 3))
    (kk : ∀ (H : Heap) (locs : List Loc), cS dC dI ac ad b H0 n0 s0 n1 s1 A' H locs → W p l e R s m args below meth c H locs cells slots Q (F0 m (pc + 3) ls rest)) : W p l e R s m args below meth c H locs cells slots Q (F0 m pc ls (.int n :: .int dp :: .ref (ad i1) :: .int sp :: .ref (ad i0) :: rest)) := by
  subst hw
  obtain ⟨⟨⟨k0, c0, k1, c1⟩, hn, h4, h5⟩, hel⟩ := hg
  have hi0 := hS.1.lt2 k0 (by decide) c0
  have hi1 := hS.1.lt2 k1 (by decide) c1
  have e0 := cAt hS k0 (by decide) hi0
  have e1 := cAt hS k1 (by decide) hi1
  rw [cco_R ad A i0 (by decide), vp_cell_q] at e0
  rw [cco_R ad A i1 (by decide), vp_cell_q] at e1
  refine c_cp0 (k := 8) (ty := .object "java/lang/Object") E hb hml hlink hnat hstat hini rfl e0 e1 hn h4 h5 (fun kA comp g1 g2 T vm' hT hal i hi => ?_) hframes hlocals hdg (fun H1 locs1 q1 q2 q3 q4 => ?_)
  · cases hy : aR A 39 i0 (sp.toNatClampNeg + i) with
    | none => exact ⟨rfl, trivial⟩
    | some q =>
      have hob := hel i hi q hy
      obtain ⟨kA', comp', r1, r2, r3, -⟩ := (E.2.2.2.1.2 8 _ rfl).2
      cases g1.symm.trans r1
      cases g2.symm.trans r2
      obtain ⟨kE, hkE, -⟩ := Vm.findClass_spec r3
      obtain ⟨kE', hkE', -⟩ := hal.2.2 _ _ hkE
      have key : ∀ (kd : Nat) (C : String) (T0 : u_T) (N : Nat) (ty : Nat → FieldType), CI kd C T0 N ty → aK A q = kd → nck kd = true → Cond.castable C "java/lang/Object" ∈ lw_tbl → fits (.object "java/lang/Object") (va_rf (Option.map ad (some q))) = true ∧ (T.setVm vm').takes comp (va_rf (Option.map ad (some q))) := by
        intro kd C T0 N ty hci hk hnk hca
        obtain ⟨cellV, v1, v3, v2⟩ := c_obj E hS hci hk (hS.1.lt hk hnk)
        have hcls := (E.2.2.2.1.1 (kd - 1) _ hci.1).2
        obtain ⟨c9, t9, f1, f2, f3⟩ := Cond.castable_spec (va_Nw.use (A := args) rfl (E.2.2.2.2.1 _ hca rfl))
        cases hcls.1.symm.trans f1
        cases r3.symm.trans f2
        obtain ⟨kC, hkC, -⟩ := hcls.2
        obtain ⟨kC', hkC', -⟩ := hal.2.2 _ _ hkC
        refine ⟨rfl, cellV, (show T.heap[ad q]? = some cellV by rw [hT]; exact v1), (fun z h => by rw [v3] at h; cases h), ⟨kC', by rw [v2]; exact hkC'⟩, ⟨kE', hkE'⟩, ?_⟩
        show vm'.assignable _ _ = true
        rw [hal.assignable, v2]
        exact f3
      rcases isObj_s hob with h | h | h | h | h | h | h | h | h | h
      · exact key 7 _ _ _ _ ci_7 h rfl co_7
      · exact key 8 _ _ _ _ ci_8 h rfl co_8
      · exact key 9 _ _ _ _ ci_9 h rfl co_9
      · exact key 10 _ _ _ _ ci_10 h rfl co_10
      · exact key 11 _ _ _ _ ci_11 h rfl co_11
      · exact key 12 _ _ _ _ ci_12 h rfl co_12
      · exact key 13 _ _ _ _ ci_13 h rfl co_13
      · exact key 14 _ _ _ _ ci_14 h rfl co_14
      · exact key 15 _ _ _ _ ci_15 h rfl co_15
      · exact key 16 _ _ _ _ ci_16 h rfl co_16
  · refine kk H1 locs1 (cS_locs (cS_ar (A' := cpR A 39 i0 i1 sp.toNatClampNeg dp.toNatClampNeg n.toNatClampNeg) (k := 0) hS k1 (by decide) hi1 rfl rfl rfl rfl (fun q hq => cce_cpR ad ac A _ _ _ _ _ _ hq) (fun _ h => CST_cpR rfl h) (CCT_cpR c1) ?_ q2 q3) (fun z hz => (q4 z hz).elim (fun q => Or.inl (List.mem_append_left _ q)) (fun q => Or.inr ⟨i1, c1, q⟩)))
    rw [q1, cco_R ad _ i1 (by decide), vp_cell_q]
    congr 2
    funext j
    rw [aR_cpR, if_pos ⟨rfl, rfl⟩]
    simp only [va_cpy]
    split <;> rfl
/-- the class of an Object[] -/
theorem c_getC (E : cE p s m args own dC dI ac ad) (hb : c.code = cc) (hml : c.maxLocals = ls.size) (hS : cS dC dI ac ad b H0 n0 s0 n1 s1 A H locs) {i index : Nat} (hk : aK A i = 39) (hlink : Cond.methodLink own index ⟨"java/lang/Object", "getClass", "()Ljava/lang/Class;"⟩ ∈ lw_all) (hsel : Cond.selects "[Ljava/lang/Object;" ⟨"java/lang/Object", "getClass", "()Ljava/lang/Class;"⟩ ⟨"java/lang/Object", "getClass", "()Ljava/lang/Class;"⟩ ∈ lw_all) (hinst : Cond.instanceMethod ⟨"java/lang/Object", "getClass", "()Ljava/lang/Class;"⟩ ∈ lw_all) (hnat : Cond.native ⟨"java/lang/Object", "getClass", "()Ljava/lang/Class;"⟩ ∈ lw_all)
    (hframes : 1 ≤ R.frames) (hlocals : (rest.map fun v => v.category).sum + 14 ≤ R.locals) (hdg : decode cc pc = .ok (.invokevirtual index, 3))
    (kk : W p l e R s m args below meth c H locs cells slots Q (F0 m (pc + 3) ls (.ref (ad (CB + 93)) :: rest))) : W p l e R s m args below meth c H locs cells slots Q (F0 m pc ls (.ref (ad i) :: rest)) := by
  have h0 := cAt hS hk (by decide) (hS.1.lt hk rfl)
  rw [cco_R ad A i (by decide), vp_cell_q] at h0
  obtain ⟨kA, comp, -, -, -, k4⟩ := (E.2.2.2.1.2 8 _ rfl).2
  exact va_getC E.1 hb hml E.2.1 (E.2.2.1 _ hlink) (va_Dc.use (cX2E E).2.2.2.2) (E.2.2.1 _ hsel) (E.2.2.1 _ hinst) (E.2.2.1 _ hnat) (cX2E E).2.2.2.1 ⟨_, h0, rfl, k4⟩ hframes hlocals hdg kk
theorem c_ldcM (E : cE p s m args own dC dI ac ad) (hb : c.code = cc) {index : Nat} (hl : Cond.classLink own index "[Ljava/lang/Object;" ∈ lw_all) (hdg : decode cc pc = .ok (.ldc index, 2))
    (kk : W p l e R s m args below meth c H locs cells slots Q (F0 m (pc + 2) ls (.ref (ad (CB + 93)) :: rest))) : W p l e R s m args below meth c H locs cells slots Q (F0 m pc ls rest) :=
  va_ldcM E.1 hb E.2.1 (E.2.2.1 _ hl) (cX2E E).2.2.2.1 hdg kk
theorem c_acmpM (E : cE p s m args own dC dI ac ad) (hb : c.code = cc) {i j tgt : Nat} {off : Int} (hk : i = j) (hdg : decode cc pc = .ok (.if_acmp .ne off, 3)) (ht : (pc : Int) + off = (tgt : Int)) (kf : W p l e R s m args below meth c H locs cells slots Q (F0 m (pc + 3) ls rest)) : W p l e R s m args below meth c H locs cells slots Q (F0 m pc ls (.ref (ad j) :: .ref (ad i) :: rest)) :=
  lv_acmp_ne (rx := some (ad i)) (ry := some (ad j)) E.1 hb hdg ht (fun h => absurd (by rw [hk]) h) (fun _ => kf)
theorem c_castB (E : cE p s m args own dC dI ac ad) (hb : c.code = cc) (hS : cS dC dI ac ad b H0 n0 s0 n1 s1 A H locs) {i index : Nat} (hk : aK A i = 33 ∧ i < CB) (hl : Cond.classLink own index "[B" ∈ lw_all) (hdg : decode cc pc = .ok (.checkcast index, 3))
    (kk : W p l e R s m args below meth c H locs cells slots Q (F0 m (pc + 3) ls (.ref (ad i) :: rest))) : W p l e R s m args below meth c H locs cells slots Q (F0 m pc ls (.ref (ad i) :: rest)) := by
  have hi := hS.1.lt2 hk.1 (by decide) hk.2
  have hP : va_P (dC, dI) cCL [(ad i, .inl (ac 33, aL A i, cco ad A 33 i))] H := by
    intro k q hq
    cases k with
    | zero =>
      cases hq
      exact cAt hS hk.1 (by decide) hi
    | succ k => simp at hq
  exact va_castA E.1 hb E.2.1 (E.2.2.1 _ hl) hP 0 rfl (E.2.2.2.1.2 2 _ rfl).2 hdg kk
end C11
theorem lw_SU {own : String} {idx : Nat} {y : MethodName} {b : ByteArray} {L : Nat} {r : Option FieldType} (h1 : Cond.methodLink own idx y ∈ lw_all) (h2 : Cond.sameMethod y.cls y.cls y.name y.desc ∈ lw_all) (h3 : Cond.superclass own y.cls ∈ lw_all) (h4 : Cond.instanceMethod y ∈ lw_all) (h5 : Cond.initialized y.cls ∈ lw_all) (h6 : Cond.code y b L r ∈ lw_all) : GoodIn lw_all (va_wsSU own idx y (ws_ y b L r)) := by
  refine lw_app ?_ (lw_meth h6)
  intro w hw
  simp only [List.mem_cons, List.not_mem_nil, or_false] at hw
  rcases hw with e | e | e | e | e
  · rw [e]; exact h1
  · rw [e]; exact h2
  · rw [e]; exact h3
  · rw [e]; exact h4
  · rw [e]; exact h5
theorem c_cwP {p : Program} {R : Room} {s : State} {m : MethodId} {args : Array Value} {own : String} {dC : Nat → ClassId} {dI : Nat → Nat → Nat} {ac : Nat → ClassId} {ad : Nat → Nat} (E : cE p s m args own dC dI ac ad) {index maxL mc ms : Nat} {y : MethodName} {bytes : ByteArray} {ret : Option FieldType} {rm : Room} (n : Nat) (hy : y ∈ sbP) (h1 : Cond.methodLink own index y ∈ lw_all) (h2 : Cond.sameMethod y.cls y.cls y.name y.desc ∈ lw_all) (h4 : Cond.instanceMethod y ∈ lw_all) (h5 : Cond.initialized y.cls ∈ lw_all) (h6 : Cond.code y bytes maxL ret ∈ lw_all) (hrc : rm.cells = mc) (hrs : rm.slots = ms)
    (hd : y.cls ≠ "java/lang/invoke/MethodHandle" ∧ y.cls ≠ "java/lang/invoke/VarHandle" ∧ (parseMethodDescriptor y.desc).map (fun d => d.parameters.length) = some n) (hR : rm.frames + 1 ≤ R.frames ∧ 8 + (maxL + 11) + rm.locals ≤ R.locals) : va_CU R s args own "java/lang/StringBuilder" y.cls index y y bytes maxL ret (ws_ y bytes maxL ret) rm mc ms n := by
  refine ⟨⟨hrc, hrs, hR.1, hR.2, pay_in E.2.2.1 (lw_meth h6), List.mem_cons_self⟩, E.2.2.1 _ h6, E.2.2.1 _ h5, ⟨hd.1, hd.2.1⟩, fun sig h => ?_, E.2.2.1 _ h1, E.2.2.1 _ h2, va_Decl.of (E.2.2.1 _ h4) (E.2.2.1 _ h6), va_any rfl ((cX2E E).1 y hy), E.2.2.1 _ h4⟩
  have h7 := hd.2.2
  rw [h] at h7
  exact (Option.some.inj h7).symm
