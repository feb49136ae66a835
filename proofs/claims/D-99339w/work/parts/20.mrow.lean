/-! ROWS OF THE REFERENCE'S WORLD: one object, all its arrays made once and never exchanged; the state is two maps, ints and longs, by field and place -/
set_option maxRecDepth 100000
def mtL : List Nat := [2, 0, 0, 0, 0, 0, 0, 0, 0, 2, 0, 4, 4, 4, 4, 4, 4, 4, 4, 4, 4, 4, 4, 4, 4, 4, 4, 4, 4, 4, 4, 4, 4, 4, 4, 4, 4, 4, 4, 0, 2, 2, 3, 2, 2, 2, 2, 0, 0, 2, 2, 2, 0, 0, 6, 0, 2, 2, 0, 0, 0, 6, 0, 2, 5, 0, 2, 2, 2, 0, 0, 1, 4, 4, 4, 4, 4, 4, 4, 4, 4, 4, 4, 4, 4, 4, 4, 4, 4, 4, 4, 4, 4, 4, 2, 0, 2, 0, 0, 0, 3, 0, 1, 6, 2, 0]
def mlL : List Nat := [1600, 0, 0, 0, 0, 0, 0, 0, 0, 6, 0, 5, 5, 5, 4, 5, 2, 2, 5, 5, 4, 4, 5, 5, 3, 4, 4, 5, 4, 5, 6, 3, 5, 2, 3, 3, 3, 3, 3, 0, 4, 6, 16, 6, 72, 16, 16, 0, 0, 8, 8, 3200, 0, 0, 0, 0, 160, 39, 0, 0, 0, 0, 0, 8, 96, 0, 32, 56, 3200, 0, 0, 0, 5, 4, 5, 5, 4, 5, 3, 3, 2, 3, 3, 3, 3, 4, 4, 5, 5, 4, 5, 6, 3, 5, 1700, 0, 1700, 0, 0, 0, 1700, 0, 0, 0, 57, 0]
def mar : List Nat := [0, 9, 11, 12, 13, 14, 15, 16, 17, 18, 19, 20, 21, 22, 23, 24, 25, 26, 27, 28, 29, 30, 31, 32, 33, 34, 35, 36, 37, 38, 40, 41, 42, 43, 44, 45, 46, 49, 50, 51, 56, 57, 63, 64, 66, 67, 68, 72, 73, 74, 75, 76, 77, 78, 79, 80, 81, 82, 83, 84, 85, 86, 87, 88, 89, 90, 91, 92, 93, 94, 96, 100, 104]
abbrev mSt : Type := (Nat → Nat → Int32) × (Nat → Nat → Int64)
def mt (k : Nat) : Nat := mtL.getD k 9
def ml (k : Nat) : Nat := mlL.getD k 0
abbrev mCL : List vw_C := [(RX6, TX6, 106)]
def mTY (ac : Nat → ClassId) : List (ClassId × FieldType) := [(ac 2, .int), (ac 3, .long), (ac 4, .char), (ac 5, .boolean)]
def mfv (ad : Nat → Nat) (σ : mSt) (k : Nat) : Value := if mt k = 0 ∨ mt k = 6 then .int (σ.1 k 0) else if mt k = 1 then .long (σ.2 k 0) else .ref (ad k)
def mfs (ad : Nat → Nat) (σ : mSt) : List Value := (List.range 106).map (mfv ad σ)
def mce (ac : Nat → ClassId) (σ : mSt) (k : Nat) : va_E := .inl (ac (mt k), ml k, if mt k = 3 then .inr (.inl (σ.2 k)) else .inl (σ.1 k))
def wM (o : Nat) (ad : Nat → Nat) (ac : Nat → ClassId) (σ : mSt) : va_W := (o, .inr (0, mfs ad σ)) :: mar.map (fun k => (ad k, mce ac σ k))
def mF (o : Nat) (ad : Nat → Nat) : Nat → Prop := fun q => q = o ∨ ∃ k, q = ad k
def mUI (σ : mSt) (k i : Nat) (v : Int32) : mSt := (fun a j => if a = k ∧ j = i then v else σ.1 a j, σ.2)
def mUJ (σ : mSt) (k i : Nat) (v : Int64) : mSt := (σ.1, fun a j => if a = k ∧ j = i then v else σ.2 a j)
theorem mfs_at (ad : Nat → Nat) (σ : mSt) {k : Nat} (h : k < 106) : (mfs ad σ)[k]? = some (mfv ad σ k) := by
  simp [mfs, h]
theorem mfs_len (ad : Nat → Nat) (σ : mSt) : (mfs ad σ).length = 106 := by simp [mfs]
theorem mfs_setv (ad : Nat → Nat) (σ σ' : mSt) {k : Nat} (v : Value) (h : k < 106) (hv : mfv ad σ' k = v) (ho : ∀ j, j ≠ k → mfv ad σ' j = mfv ad σ j) : (mfs ad σ).set k v = mfs ad σ' := by
  apply List.ext_getElem?
  intro j
  rw [List.getElem?_set]
  by_cases hj : k = j
  · subst hj
    rw [if_pos rfl, if_pos (by rw [mfs_len]; exact h), mfs_at ad σ' h, hv]
  · simp only [hj, if_false]
    by_cases h2 : j < 106
    · rw [mfs_at ad σ h2, mfs_at ad σ' h2, ho j (fun e => hj e.symm)]
    · rw [List.getElem?_eq_none (by rw [mfs_len]; omega), List.getElem?_eq_none (by rw [mfs_len]; omega)]
theorem mfs_setI (ad : Nat → Nat) (σ : mSt) {k : Nat} (v : Int32) (h : k < 106) (ht : mt k = 0 ∨ mt k = 6) : (mfs ad σ).set k (.int v) = mfs ad (mUI σ k 0 v) := by
  refine mfs_setv ad σ _ _ h ?_ ?_
  · simp [mfv, ht, mUI]
  · intro j hj
    simp [mfv, mUI, hj]
theorem mfs_setJ (ad : Nat → Nat) (σ : mSt) {k : Nat} (v : Int64) (h : k < 106) (ht : mt k = 1) : (mfs ad σ).set k (.long v) = mfs ad (mUJ σ k 0 v) := by
  refine mfs_setv ad σ _ _ h ?_ ?_
  · simp [mfv, ht, mUJ]
  · intro j hj
    simp [mfv, mUJ, hj]
theorem mar_ty : ∀ k ∈ mar, mt k = 2 ∨ mt k = 3 ∨ mt k = 4 ∨ mt k = 5 := by decide +kernel
theorem mar_nd : mar.Nodup := by decide +kernel
theorem mt_lt {k t : Nat} (h : mt k = t) (ht : t ≠ 9) : k < 106 := by
  by_cases h2 : k < 106
  · exact h2
  · exfalso
    apply ht
    rw [← h]
    unfold mt
    rw [List.getD_eq_getElem?_getD, List.getElem?_eq_none (by show mtL.length ≤ k; have : mtL.length = 106 := by decide +kernel
                                                              omega)]
    rfl
theorem mar_of0 : ∀ k, k < 106 → (mt k = 2 ∨ mt k = 3 ∨ mt k = 4 ∨ mt k = 5) → k ∈ mar := by decide +kernel
theorem mar_of {k t : Nat} (h : mt k = t) (ht : t = 2 ∨ t = 3 ∨ t = 4 ∨ t = 5) : k ∈ mar := mar_of0 k (mt_lt h (by omega)) (by rw [h]; exact ht)
theorem wM_setF (o : Nat) (ad : Nat → Nat) (ac : Nat → ClassId) (σ σ' : mSt) (hc : ∀ k ∈ mar, mce ac σ' k = mce ac σ k) : (wM o ad ac σ).set 0 (o, .inr (0, mfs ad σ')) = wM o ad ac σ' := by
  unfold wM
  rw [List.set_cons_zero]
  congr 1
  apply List.map_congr_left
  intro k hk
  rw [hc k hk]
theorem wM_fI (o : Nat) (ad : Nat → Nat) (ac : Nat → ClassId) (σ : mSt) {k : Nat} (v : Int32) (ht : mt k = 0 ∨ mt k = 6) : (wM o ad ac σ).set 0 (o, .inr (0, mfs ad (mUI σ k 0 v))) = wM o ad ac (mUI σ k 0 v) := by
  apply wM_setF
  intro a ha
  have h2 := mar_ty a ha
  have : a ≠ k := by intro e; subst e; omega
  have h3 : (mUI σ k 0 v).1 a = σ.1 a := by
    funext j
    simp [mUI, this]
  simp only [mce, h3]
  rfl
theorem wM_fJ (o : Nat) (ad : Nat → Nat) (ac : Nat → ClassId) (σ : mSt) {k : Nat} (v : Int64) (ht : mt k = 1) : (wM o ad ac σ).set 0 (o, .inr (0, mfs ad (mUJ σ k 0 v))) = wM o ad ac (mUJ σ k 0 v) := by
  apply wM_setF
  intro a ha
  have h2 := mar_ty a ha
  have : a ≠ k := by intro e; subst e; omega
  have h3 : (mUJ σ k 0 v).2 a = σ.2 a := by
    funext j
    simp [mUJ, this]
  simp only [mce, h3]
  rfl
theorem wM_at (o : Nat) (ad : Nat → Nat) (ac : Nat → ClassId) {k t : Nat} (h : mt k = t) (ht : t = 2 ∨ t = 3 ∨ t = 4 ∨ t = 5) : ∃ q0 : Nat, (∀ σ : mSt, (wM o ad ac σ)[q0]? = some (ad k, mce ac σ k)) ∧ ∀ σ σ' : mSt, mfs ad σ' = mfs ad σ → (∀ a ∈ mar, a ≠ k → mce ac σ' a = mce ac σ a) → (wM o ad ac σ).set q0 (ad k, mce ac σ' k) = wM o ad ac σ' := by
  obtain ⟨i, hi⟩ := List.getElem?_of_mem (mar_of h ht)
  refine ⟨i + 1, fun σ => ?_, fun σ σ' hf hc => ?_⟩
  · show (mar.map (fun k => (ad k, mce ac σ k)))[i]? = _
    rw [List.getElem?_map, hi]
    rfl
  · unfold wM
    rw [List.set_cons_succ, hf]
    congr 1
    apply List.ext_getElem?
    intro j
    rw [List.getElem?_set]
    by_cases hj : i = j
    · subst hj
      have hl : i < mar.length := (List.getElem?_eq_some_iff.mp hi).1
      rw [if_pos rfl, if_pos (by rw [List.length_map]; exact hl), List.getElem?_map, hi]
      rfl
    · simp only [hj, if_false]
      rw [List.getElem?_map, List.getElem?_map]
      cases ha : mar[j]? with
      | none => rfl
      | some a =>
        have hne : a ≠ k := by
          intro e
          subst e
          exact hj ((List.getElem?_inj (List.getElem?_eq_some_iff.mp hi).1 mar_nd).mp (hi.trans ha.symm))
        simp only [Option.map_some]
        rw [hc a (List.mem_of_getElem? ha) hne]
theorem mfs_UIa (ad : Nat → Nat) (σ : mSt) {k : Nat} (i : Nat) (v : Int32) (ht : mt k = 2 ∨ mt k = 4 ∨ mt k = 5) : mfs ad (mUI σ k i v) = mfs ad σ := by
  unfold mfs
  apply List.map_congr_left
  intro a _
  unfold mfv
  by_cases e : a = k
  · subst e
    have h1 : ¬ (mt a = 0 ∨ mt a = 6) := by omega
    have h2 : ¬ mt a = 1 := by omega
    simp [h1, h2]
  · simp [mUI, e]
theorem mfs_UJa (ad : Nat → Nat) (σ : mSt) {k : Nat} (i : Nat) (v : Int64) (ht : mt k = 3) : mfs ad (mUJ σ k i v) = mfs ad σ := by
  unfold mfs
  apply List.map_congr_left
  intro a _
  unfold mfv
  by_cases e : a = k
  · subst e
    have h1 : ¬ (mt a = 0 ∨ mt a = 6) := by omega
    have h2 : ¬ mt a = 1 := by omega
    simp [h1, h2]
  · simp [mUJ, e]
theorem mce_UIo (ac : Nat → ClassId) (σ : mSt) {k a : Nat} (i : Nat) (v : Int32) (h : a ≠ k) : mce ac (mUI σ k i v) a = mce ac σ a := by
  have h3 : (mUI σ k i v).1 a = σ.1 a := by
    funext j
    simp [mUI, h]
  simp only [mce, h3]
  rfl
theorem mce_UJo (ac : Nat → ClassId) (σ : mSt) {k a : Nat} (i : Nat) (v : Int64) (h : a ≠ k) : mce ac (mUJ σ k i v) a = mce ac σ a := by
  have h3 : (mUJ σ k i v).2 a = σ.2 a := by
    funext j
    simp [mUJ, h]
  simp only [mce, h3]
  rfl
theorem mce_I (ac : Nat → ClassId) (σ : mSt) {k t : Nat} (h : mt k = t) (ht : t ≠ 3) : mce ac σ k = .inl (ac t, ml k, .inl (σ.1 k)) := by
  subst h
  simp [mce, ht]
theorem mce_J (ac : Nat → ClassId) (σ : mSt) {k : Nat} (h : mt k = 3) : mce ac σ k = .inl (ac 3, ml k, .inr (.inl (σ.2 k))) := by
  simp [mce, h]
theorem mUI_row (σ : mSt) (k i : Nat) (v : Int32) : (mUI σ k i v).1 k = upd (σ.1 k) i v := by
  funext j
  simp [mUI, upd]
theorem mUJ_row (σ : mSt) (k i : Nat) (v : Int64) : (mUJ σ k i v).2 k = vp_updL (σ.2 k) i v := by
  funext j
  simp [mUJ, vp_updL]
theorem TX6_cls : ∀ k, k < 106 → (TX6 k).1 = RX6 := by decide +kernel
/-- what holds all through a walk of a method of the reference -/
def mE (p : Program) (s : State) (m : MethodId) (args : Array Value) (dC : Nat → ClassId) (dI : Nat → Nat → Nat) (ac : Nat → ClassId) : Prop :=
  p.tables.exec = Jvm.exec ∧ s.vm.findClass RX6 = some m.cls ∧ (∀ w ∈ lw_all, w.before args s = true) ∧ va_K (dC, dI) mCL (mTY ac) s
def mS (dC : Nat → ClassId) (dI : Nat → Nat → Nat) (ac : Nat → ClassId) (o : Nat) (ad : Nat → Nat) (H0 : Heap) (σ : mSt) (H : Heap) (locs : List Loc) : Prop :=
  va_P (dC, dI) mCL (wM o ad ac σ) H ∧ va_D (mF o ad) (wM o ad ac σ) ∧ va_S (mF o ad) H0 H locs
def mPre (dC : Nat → ClassId) (dI : Nat → Nat → Nat) (ac : Nat → ClassId) (o : Nat) (ad : Nat → Nat) (σ : mSt) (U : State) : Prop :=
  va_P (dC, dI) mCL (wM o ad ac σ) U.heap ∧ va_K (dC, dI) mCL (mTY ac) U ∧ va_D (mF o ad) (wM o ad ac σ)
abbrev mQi (dC : Nat → ClassId) (dI : Nat → Nat → Nat) (ac : Nat → ClassId) (o : Nat) (ad : Nat → Nat) (r : Int32) (σ : mSt) : Array Value → State → Outcome → State → Prop := va_Qi (fun (v : Int32) (_ : Unit) => v = r) (fun _ t => mPre dC dI ac o ad σ t) (mF o ad)
abbrev mQl (dC : Nat → ClassId) (dI : Nat → Nat → Nat) (ac : Nat → ClassId) (o : Nat) (ad : Nat → Nat) (r : Int64) (σ : mSt) : Array Value → State → Outcome → State → Prop := va_Ql (fun (v : Int64) (_ : Unit) => v = r) (fun _ t => mPre dC dI ac o ad σ t) (mF o ad)
abbrev mQv (dC : Nat → ClassId) (dI : Nat → Nat → Nat) (ac : Nat → ClassId) (o : Nat) (ad : Nat → Nat) (σ : mSt) : Array Value → State → Outcome → State → Prop := va_Qv (fun (_ : Unit) => True) (fun _ t => mPre dC dI ac o ad σ t) (mF o ad)
/-! the words of pure functions: a call that writes, one that reads, a new state, and what each gives when the whole has an answer -/
def bd {α S β : Type} (x : Option (α × S)) (g : α → S → Option β) : Option β := match x with
  | none => none
  | some q => g q.1 q.2
def bo {α β : Type} (x : Option α) (g : α → Option β) : Option β := match x with
  | none => none
  | some q => g q
def lt2 {α β : Type} (x : α) (g : α → β) : β := g x
theorem bd_s {α S β : Type} {x : Option (α × S)} {g : α → S → Option β} {z : β} (h : bd x g = some z) : ∃ r σ, x = some (r, σ) ∧ g r σ = some z := by
  cases x with
  | none => cases h
  | some q => exact ⟨q.1, q.2, rfl, h⟩
theorem bo_s {α β : Type} {x : Option α} {g : α → Option β} {z : β} (h : bo x g = some z) : ∃ r, x = some r ∧ g r = some z := by
  cases x with
  | none => cases h
  | some q => exact ⟨q, rfl, h⟩
theorem lt2_s {α β : Type} {x : α} {g : α → Option β} {z : β} (h : lt2 x g = some z) : ∃ r, r = x ∧ g r = some z := ⟨x, rfl, h⟩
theorem it_s {c : Prop} [Decidable c] {α : Type} {a b z : α} (hc : c) (h : (if c then a else b) = z) : a = z := by rw [if_pos hc] at h; exact h
theorem if_s {c : Prop} [Decidable c] {α : Type} {a b z : α} (hc : ¬ c) (h : (if c then a else b) = z) : b = z := by rw [if_neg hc] at h; exact h
theorem gu_s {c : Prop} [Decidable c] {α : Type} {a : Option α} {z : α} (h : (if c then a else none) = some z) : c ∧ a = some z := by
  by_cases hc : c
  · rw [if_pos hc] at h; exact ⟨hc, h⟩
  · rw [if_neg hc] at h; cases h
/-- an int out of an array of kind t -/
def ld (t : Nat) (σ : mSt) (k : Nat) (i : Int32) : Option Int32 := if mt k = t ∧ ¬ (i < 0 ∨ ml k ≤ i.toNatClampNeg) then some (σ.1 k i.toNatClampNeg) else none
def ldL (σ : mSt) (k : Nat) (i : Int32) : Option Int64 := if mt k = 3 ∧ ¬ (i < 0 ∨ ml k ≤ i.toNatClampNeg) then some (σ.2 k i.toNatClampNeg) else none
def stI (t : Nat) (σ : mSt) (k : Nat) (i v : Int32) : Option mSt := if mt k = t ∧ ¬ (i < 0 ∨ ml k ≤ i.toNatClampNeg) then some (mUI σ k i.toNatClampNeg v) else none
def stL (σ : mSt) (k : Nat) (i : Int32) (v : Int64) : Option mSt := if mt k = 3 ∧ ¬ (i < 0 ∨ ml k ≤ i.toNatClampNeg) then some (mUJ σ k i.toNatClampNeg v) else none
theorem ld_s {t : Nat} {σ : mSt} {k : Nat} {i : Int32} {β : Type} {g : Int32 → Option β} {z : β} (h : bo (ld t σ k i) g = some z) : (mt k = t ∧ vp_in i (ml k)) ∧ g (σ.1 k i.toNatClampNeg) = some z := by
  obtain ⟨r, h1, h2⟩ := bo_s h
  unfold ld at h1
  split at h1
  · next hc => cases h1; exact ⟨hc, h2⟩
  · cases h1
theorem ldL_s {σ : mSt} {k : Nat} {i : Int32} {β : Type} {g : Int64 → Option β} {z : β} (h : bo (ldL σ k i) g = some z) : (mt k = 3 ∧ vp_in i (ml k)) ∧ g (σ.2 k i.toNatClampNeg) = some z := by
  obtain ⟨r, h1, h2⟩ := bo_s h
  unfold ldL at h1
  split at h1
  · next hc => cases h1; exact ⟨hc, h2⟩
  · cases h1
theorem st_s {t : Nat} {σ : mSt} {k : Nat} {i v : Int32} {β : Type} {g : mSt → Option β} {z : β} (h : bo (stI t σ k i v) g = some z) : ∃ σ2, (mt k = t ∧ vp_in i (ml k)) ∧ σ2 = mUI σ k i.toNatClampNeg v ∧ g σ2 = some z := by
  obtain ⟨r, h1, h2⟩ := bo_s h
  unfold stI at h1
  split at h1
  · next hc => cases h1; exact ⟨_, hc, rfl, h2⟩
  · cases h1
theorem stL_s {σ : mSt} {k : Nat} {i : Int32} {v : Int64} {β : Type} {g : mSt → Option β} {z : β} (h : bo (stL σ k i v) g = some z) : ∃ σ2, (mt k = 3 ∧ vp_in i (ml k)) ∧ σ2 = mUJ σ k i.toNatClampNeg v ∧ g σ2 = some z := by
  obtain ⟨r, h1, h2⟩ := bo_s h
  unfold stL at h1
  split at h1
  · next hc => cases h1; exact ⟨_, hc, rfl, h2⟩
  · cases h1
section MR
variable {p : Program} {l : Launch} {e : Env} {R : Room} {s : State} {m : MethodId} {args : Array Value} {below : List Frame} {meth : Method} {c : Code} {H : Heap} {locs : List Loc} {cells slots : Nat} {Q : State → Prop}
variable {cc : ByteArray} {pc : Nat} {ls : Array Slot} {rest : List Value} {dC : Nat → ClassId} {dI : Nat → Nat → Nat} {ac : Nat → ClassId} {o : Nat} {ad : Nat → Nat} {H0 : Heap} {σ σ' : mSt}
theorem m_gI (E : mE p s m args dC dI ac) (hb : c.code = cc) (hS : mS dC dI ac o ad H0 σ H locs) {k index : Nat} (ht : mt k = 0) (hl : Cond.fieldLink RX6 index RX6 (TX6 k).2.1 (TX6 k).2.2.1 ∈ lw_all) (hdg : decode cc pc = .ok (.getfield index, 3))
    (kk : W p l e R s m args below meth c H locs cells slots Q (F0 m (pc + 3) ls (.int (σ.1 k 0) :: rest))) : W p l e R s m args below meth c H locs cells slots Q (F0 m pc ls (.ref o :: rest)) := by
  have hk := mt_lt ht (by decide)
  exact va_get (D := (dC, dI)) (ci := 0) (C := RX6) (T := TX6) (N := 106) E.1 hb E.2.2.1 in_X6 E.2.1 E.2.2.2 hS.1 0 rfl rfl k hk (E.2.2.1 _ hl) (fun x h => by rw [TX6_cls k hk] at h; exact h) (by rw [mfs_at ad σ hk]; simp [mfv, ht]) hdg kk
theorem m_gZ (E : mE p s m args dC dI ac) (hb : c.code = cc) (hS : mS dC dI ac o ad H0 σ H locs) {k index : Nat} (ht : mt k = 6) (hl : Cond.fieldLink RX6 index RX6 (TX6 k).2.1 (TX6 k).2.2.1 ∈ lw_all) (hdg : decode cc pc = .ok (.getfield index, 3))
    (kk : W p l e R s m args below meth c H locs cells slots Q (F0 m (pc + 3) ls (.int (σ.1 k 0) :: rest))) : W p l e R s m args below meth c H locs cells slots Q (F0 m pc ls (.ref o :: rest)) := by
  have hk := mt_lt ht (by decide)
  exact va_get (D := (dC, dI)) (ci := 0) (C := RX6) (T := TX6) (N := 106) E.1 hb E.2.2.1 in_X6 E.2.1 E.2.2.2 hS.1 0 rfl rfl k hk (E.2.2.1 _ hl) (fun x h => by rw [TX6_cls k hk] at h; exact h) (by rw [mfs_at ad σ hk]; simp [mfv, ht]) hdg kk
theorem m_gJ (E : mE p s m args dC dI ac) (hb : c.code = cc) (hS : mS dC dI ac o ad H0 σ H locs) {k index : Nat} (ht : mt k = 1) (hl : Cond.fieldLink RX6 index RX6 (TX6 k).2.1 (TX6 k).2.2.1 ∈ lw_all) (hdg : decode cc pc = .ok (.getfield index, 3))
    (kk : W p l e R s m args below meth c H locs cells slots Q (F0 m (pc + 3) ls (.long (σ.2 k 0) :: rest))) : W p l e R s m args below meth c H locs cells slots Q (F0 m pc ls (.ref o :: rest)) := by
  have hk := mt_lt ht (by decide)
  exact va_get (D := (dC, dI)) (ci := 0) (C := RX6) (T := TX6) (N := 106) E.1 hb E.2.2.1 in_X6 E.2.1 E.2.2.2 hS.1 0 rfl rfl k hk (E.2.2.1 _ hl) (fun x h => by rw [TX6_cls k hk] at h; exact h) (by rw [mfs_at ad σ hk]; simp [mfv, ht]) hdg kk
theorem m_gA (E : mE p s m args dC dI ac) (hb : c.code = cc) (hS : mS dC dI ac o ad H0 σ H locs) {k index : Nat} (t : Nat) (ht : mt k = t) (ht2 : t = 2 ∨ t = 3 ∨ t = 4 ∨ t = 5) (hl : Cond.fieldLink RX6 index RX6 (TX6 k).2.1 (TX6 k).2.2.1 ∈ lw_all) (hdg : decode cc pc = .ok (.getfield index, 3))
    (kk : W p l e R s m args below meth c H locs cells slots Q (F0 m (pc + 3) ls (.ref (ad k) :: rest))) : W p l e R s m args below meth c H locs cells slots Q (F0 m pc ls (.ref o :: rest)) := by
  have hk := mt_lt ht (by omega)
  have h1 : ¬ (mt k = 0 ∨ mt k = 6) := by omega
  have h2 : ¬ mt k = 1 := by omega
  exact va_get (D := (dC, dI)) (ci := 0) (C := RX6) (T := TX6) (N := 106) E.1 hb E.2.2.1 in_X6 E.2.1 E.2.2.2 hS.1 0 rfl rfl k hk (E.2.2.1 _ hl) (fun x h => by rw [TX6_cls k hk] at h; exact h) (by rw [mfs_at ad σ hk]; simp [mfv, h1, h2]) hdg kk
theorem m_pI (E : mE p s m args dC dI ac) (hb : c.code = cc) (hS : mS dC dI ac o ad H0 σ H locs) {k index : Nat} (ht : mt k = 0) (ht2 : (TX6 k).2.2.2 = false) (ht3 : parseFieldDescriptor (TX6 k).2.2.1 = some .int) (hl : Cond.fieldLink RX6 index RX6 (TX6 k).2.1 (TX6 k).2.2.1 ∈ lw_all) {v : Int32} (hw : σ' = mUI σ k 0 v) (hdg : decode cc pc = .ok (.putfield index, 3))
    (kk : ∀ (H : Heap) (locs : List Loc), mS dC dI ac o ad H0 σ' H locs → W p l e R s m args below meth c H locs cells slots Q (F0 m (pc + 3) ls rest)) : W p l e R s m args below meth c H locs cells slots Q (F0 m pc ls (.int v :: .ref o :: rest)) := by
  have hk := mt_lt ht (by decide)
  refine va_put (D := (dC, dI)) (ci := 0) (C := RX6) (T := TX6) (N := 106) (ty := .int) E.1 hb E.2.2.1 in_X6 tyX6 tyX6_ok nmX6 E.2.1 E.2.2.2 hS.1 hS.2.1 hS.2.2 0 rfl rfl k hk (E.2.2.1 _ hl) (fun x h => by rw [TX6_cls k hk] at h; exact h) ht2 ht3 rfl rfl (by rw [mfs_len]; exact hk) hdg (fun H1 locs1 hP hD hSS => kk H1 locs1 ?_)
  rw [mfs_setI ad σ v hk (Or.inl ht), wM_fI o ad ac σ v (Or.inl ht), ← hw] at hP hD
  exact ⟨hP, hD, hSS⟩
theorem m_pZ (E : mE p s m args dC dI ac) (hb : c.code = cc) (hS : mS dC dI ac o ad H0 σ H locs) {k index : Nat} (ht : mt k = 6) (ht2 : (TX6 k).2.2.2 = false) (ht3 : parseFieldDescriptor (TX6 k).2.2.1 = some .boolean) (hl : Cond.fieldLink RX6 index RX6 (TX6 k).2.1 (TX6 k).2.2.1 ∈ lw_all) {v : Int32} (hn : narrow .boolean (.int v) = .int v) (hfit : fits .boolean (.int v) = true) (hw : σ' = mUI σ k 0 v) (hdg : decode cc pc = .ok (.putfield index, 3))
    (kk : ∀ (H : Heap) (locs : List Loc), mS dC dI ac o ad H0 σ' H locs → W p l e R s m args below meth c H locs cells slots Q (F0 m (pc + 3) ls rest)) : W p l e R s m args below meth c H locs cells slots Q (F0 m pc ls (.int v :: .ref o :: rest)) := by
  have hk := mt_lt ht (by decide)
  refine va_put (D := (dC, dI)) (ci := 0) (C := RX6) (T := TX6) (N := 106) (ty := .boolean) E.1 hb E.2.2.1 in_X6 tyX6 tyX6_ok nmX6 E.2.1 E.2.2.2 hS.1 hS.2.1 hS.2.2 0 rfl rfl k hk (E.2.2.1 _ hl) (fun x h => by rw [TX6_cls k hk] at h; exact h) ht2 ht3 hn hfit (by rw [mfs_len]; exact hk) hdg (fun H1 locs1 hP hD hSS => kk H1 locs1 ?_)
  rw [mfs_setI ad σ v hk (Or.inr ht), wM_fI o ad ac σ v (Or.inr ht), ← hw] at hP hD
  exact ⟨hP, hD, hSS⟩
theorem m_pJ (E : mE p s m args dC dI ac) (hb : c.code = cc) (hS : mS dC dI ac o ad H0 σ H locs) {k index : Nat} (ht : mt k = 1) (ht2 : (TX6 k).2.2.2 = false) (ht3 : parseFieldDescriptor (TX6 k).2.2.1 = some .long) (hl : Cond.fieldLink RX6 index RX6 (TX6 k).2.1 (TX6 k).2.2.1 ∈ lw_all) {v : Int64} (hw : σ' = mUJ σ k 0 v) (hdg : decode cc pc = .ok (.putfield index, 3))
    (kk : ∀ (H : Heap) (locs : List Loc), mS dC dI ac o ad H0 σ' H locs → W p l e R s m args below meth c H locs cells slots Q (F0 m (pc + 3) ls rest)) : W p l e R s m args below meth c H locs cells slots Q (F0 m pc ls (.long v :: .ref o :: rest)) := by
  have hk := mt_lt ht (by decide)
  refine va_put (D := (dC, dI)) (ci := 0) (C := RX6) (T := TX6) (N := 106) (ty := .long) E.1 hb E.2.2.1 in_X6 tyX6 tyX6_ok nmX6 E.2.1 E.2.2.2 hS.1 hS.2.1 hS.2.2 0 rfl rfl k hk (E.2.2.1 _ hl) (fun x h => by rw [TX6_cls k hk] at h; exact h) ht2 ht3 rfl rfl (by rw [mfs_len]; exact hk) hdg (fun H1 locs1 hP hD hSS => kk H1 locs1 ?_)
  rw [mfs_setJ ad σ v hk ht, wM_fJ o ad ac σ v ht, ← hw] at hP hD
  exact ⟨hP, hD, hSS⟩
theorem m_ild (E : mE p s m args dC dI ac) (hb : c.code = cc) (hS : mS dC dI ac o ad H0 σ H locs) {k : Nat} {i : Int32} (hg : mt k = 2 ∧ vp_in i (ml k)) (hdg : decode cc pc = .ok (.iaload, 1))
    (kk : W p l e R s m args below meth c H locs cells slots Q (F0 m (pc + 1) ls (.int (σ.1 k i.toNatClampNeg) :: rest))) : W p l e R s m args below meth c H locs cells slots Q (F0 m pc ls (.int i :: .ref (ad k) :: rest)) := by
  obtain ⟨q0, h1, -⟩ := wM_at o ad ac hg.1 (Or.inl rfl)
  exact va_iald E.1 hb E.2.2.2 hS.1 q0 0 (by rw [h1 σ, mce_I ac σ hg.1 (by decide)]) rfl hg.2 hdg kk
theorem m_cld (E : mE p s m args dC dI ac) (hb : c.code = cc) (hS : mS dC dI ac o ad H0 σ H locs) {k : Nat} {i : Int32} (hg : mt k = 4 ∧ vp_in i (ml k)) (hdg : decode cc pc = .ok (.caload, 1))
    (kk : W p l e R s m args below meth c H locs cells slots Q (F0 m (pc + 1) ls (.int (σ.1 k i.toNatClampNeg) :: rest))) : W p l e R s m args below meth c H locs cells slots Q (F0 m pc ls (.int i :: .ref (ad k) :: rest)) := by
  obtain ⟨q0, h1, -⟩ := wM_at o ad ac hg.1 (Or.inr (Or.inr (Or.inl rfl)))
  exact va_cald E.1 hb E.2.2.2 hS.1 q0 2 (by rw [h1 σ, mce_I ac σ hg.1 (by decide)]) rfl hg.2 hdg kk
theorem m_zld (E : mE p s m args dC dI ac) (hb : c.code = cc) (hS : mS dC dI ac o ad H0 σ H locs) {k : Nat} {i : Int32} (hg : mt k = 5 ∧ vp_in i (ml k)) (hdg : decode cc pc = .ok (.baload, 1))
    (kk : W p l e R s m args below meth c H locs cells slots Q (F0 m (pc + 1) ls (.int (σ.1 k i.toNatClampNeg) :: rest))) : W p l e R s m args below meth c H locs cells slots Q (F0 m pc ls (.int i :: .ref (ad k) :: rest)) := by
  obtain ⟨q0, h1, -⟩ := wM_at o ad ac hg.1 (Or.inr (Or.inr (Or.inr rfl)))
  exact va_zald E.1 hb E.2.2.2 hS.1 q0 3 (by rw [h1 σ, mce_I ac σ hg.1 (by decide)]) rfl hg.2 hdg kk
theorem m_lld (E : mE p s m args dC dI ac) (hb : c.code = cc) (hS : mS dC dI ac o ad H0 σ H locs) {k : Nat} {i : Int32} (hg : mt k = 3 ∧ vp_in i (ml k)) (hdg : decode cc pc = .ok (.laload, 1))
    (kk : W p l e R s m args below meth c H locs cells slots Q (F0 m (pc + 1) ls (.long (σ.2 k i.toNatClampNeg) :: rest))) : W p l e R s m args below meth c H locs cells slots Q (F0 m pc ls (.int i :: .ref (ad k) :: rest)) := by
  obtain ⟨q0, h1, -⟩ := wM_at o ad ac hg.1 (Or.inr (Or.inl rfl))
  exact va_lald E.1 hb E.2.2.2 hS.1 q0 1 (by rw [h1 σ, mce_J ac σ hg.1]) rfl hg.2 hdg kk
theorem m_ist (E : mE p s m args dC dI ac) (hb : c.code = cc) (hS : mS dC dI ac o ad H0 σ H locs) {k : Nat} {i v : Int32} (hg : mt k = 2 ∧ vp_in i (ml k)) (hw : σ' = mUI σ k i.toNatClampNeg v) (hdg : decode cc pc = .ok (.iastore, 1))
    (kk : ∀ (H : Heap) (locs : List Loc), mS dC dI ac o ad H0 σ' H locs → W p l e R s m args below meth c H locs cells slots Q (F0 m (pc + 1) ls rest)) : W p l e R s m args below meth c H locs cells slots Q (F0 m pc ls (.int v :: .int i :: .ref (ad k) :: rest)) := by
  obtain ⟨q0, h1, h2⟩ := wM_at o ad ac hg.1 (Or.inl rfl)
  refine va_iast E.1 hb E.2.2.2 hS.1 hS.2.1 hS.2.2 q0 0 (by rw [h1 σ, mce_I ac σ hg.1 (by decide)]) rfl hg.2 hdg (fun H1 locs1 hP hD hSS => kk H1 locs1 ?_)
  have h3 := h2 σ (mUI σ k i.toNatClampNeg v) (mfs_UIa ad σ _ v (Or.inl hg.1)) (fun a _ ha => mce_UIo ac σ _ v ha)
  rw [mce_I ac _ hg.1 (by decide), mUI_row] at h3
  rw [h3, ← hw] at hP hD
  exact ⟨hP, hD, hSS⟩
theorem m_zst (E : mE p s m args dC dI ac) (hb : c.code = cc) (hS : mS dC dI ac o ad H0 σ H locs) {k : Nat} {i v : Int32} (hn : vp_nar .boolean v = v) (hg : mt k = 5 ∧ vp_in i (ml k)) (hw : σ' = mUI σ k i.toNatClampNeg v) (hdg : decode cc pc = .ok (.bastore, 1))
    (kk : ∀ (H : Heap) (locs : List Loc), mS dC dI ac o ad H0 σ' H locs → W p l e R s m args below meth c H locs cells slots Q (F0 m (pc + 1) ls rest)) : W p l e R s m args below meth c H locs cells slots Q (F0 m pc ls (.int v :: .int i :: .ref (ad k) :: rest)) := by
  obtain ⟨q0, h1, h2⟩ := wM_at o ad ac hg.1 (Or.inr (Or.inr (Or.inr rfl)))
  refine va_zast E.1 hb E.2.2.2 hS.1 hS.2.1 hS.2.2 q0 3 (by rw [h1 σ, mce_I ac σ hg.1 (by decide)]) rfl hg.2 hdg (fun H1 locs1 hP hD hSS => kk H1 locs1 ?_)
  have h3 := h2 σ (mUI σ k i.toNatClampNeg v) (mfs_UIa ad σ _ v (Or.inr (Or.inr hg.1))) (fun a _ ha => mce_UIo ac σ _ v ha)
  rw [mce_I ac _ hg.1 (by decide), mUI_row] at h3
  rw [hn, h3, ← hw] at hP hD
  exact ⟨hP, hD, hSS⟩
theorem m_lst (E : mE p s m args dC dI ac) (hb : c.code = cc) (hS : mS dC dI ac o ad H0 σ H locs) {k : Nat} {i : Int32} {v : Int64} (hg : mt k = 3 ∧ vp_in i (ml k)) (hw : σ' = mUJ σ k i.toNatClampNeg v) (hdg : decode cc pc = .ok (.lastore, 1))
    (kk : ∀ (H : Heap) (locs : List Loc), mS dC dI ac o ad H0 σ' H locs → W p l e R s m args below meth c H locs cells slots Q (F0 m (pc + 1) ls rest)) : W p l e R s m args below meth c H locs cells slots Q (F0 m pc ls (.long v :: .int i :: .ref (ad k) :: rest)) := by
  obtain ⟨q0, h1, h2⟩ := wM_at o ad ac hg.1 (Or.inr (Or.inl rfl))
  refine va_last E.1 hb E.2.2.2 hS.1 hS.2.1 hS.2.2 q0 1 (by rw [h1 σ, mce_J ac σ hg.1]) rfl hg.2 hdg (fun H1 locs1 hP hD hSS => kk H1 locs1 ?_)
  have h3 := h2 σ (mUJ σ k i.toNatClampNeg v) (mfs_UJa ad σ _ v hg.1) (fun a _ ha => mce_UJo ac σ _ v ha)
  rw [mce_J ac _ hg.1, mUJ_row] at h3
  rw [h3, ← hw] at hP hD
  exact ⟨hP, hD, hSS⟩
/-- the length of a word -/
def lnC (k : Nat) : Option Int32 := if mt k = 4 then some (Int32.ofNat (ml k)) else none
theorem lnC_s {k : Nat} {β : Type} {g : Int32 → Option β} {z : β} (h : bo (lnC k) g = some z) : mt k = 4 ∧ g (Int32.ofNat (ml k)) = some z := by
  obtain ⟨r, h1, h2⟩ := bo_s h
  unfold lnC at h1
  split at h1
  · next hc => cases h1; exact ⟨hc, h2⟩
  · cases h1
theorem m_aln (E : mE p s m args dC dI ac) (hb : c.code = cc) (hS : mS dC dI ac o ad H0 σ H locs) {k : Nat} (hg : mt k = 4) (hdg : decode cc pc = .ok (.arraylength, 1))
    (kk : W p l e R s m args below meth c H locs cells slots Q (F0 m (pc + 1) ls (.int (Int32.ofNat (ml k)) :: rest))) : W p l e R s m args below meth c H locs cells slots Q (F0 m pc ls (.ref (ad k) :: rest)) := by
  obtain ⟨q0, h1, -⟩ := wM_at o ad ac hg (Or.inr (Or.inr (Or.inl rfl)))
  exact va_alen E.1 hb E.2.2.2 hS.1 q0 2 (x := (ml k, .inl (σ.1 k))) (by rw [h1 σ, mce_I ac σ hg (by decide)]) (ty := .char) rfl rfl hdg kk
/-! ends -/
theorem m_end (E : mE p s m args dC dI ac) (hS : mS dC dI ac o ad s.heap σ H locs) (t : State) (ht : t.heap = H) (hW : s.WarmedH t.vm) : mPre dC dI ac o ad σ t := ⟨by rw [ht]; exact hS.1, va_K.moved hW.alike E.2.2.2, hS.2.1⟩
theorem m_ir (E : mE p s m args dC dI ac) (hb : c.code = cc) (hr : meth.sig.returnType = some .int) (hlk : meth.locks = false) (hS : mS dC dI ac o ad s.heap σ H locs) {v r : Int32} (hf : some (v, σ) = some (r, σ')) (hdg : decode cc pc = .ok (.ireturn, 1)) :
    W p l e R s m args below meth c H locs 0 0 (MQ below (mQi dC dI ac o ad r σ') args s 0 0 (mF o ad)) (F0 m pc ls [.int v]) := by
  cases hf
  exact W.iret E.1 hb hr (fun t ht hW => ⟨⟨_, (), rfl, rfl, m_end E hS t ht hW⟩, hS.2.2.F ht⟩) hS.2.2.2.2 hdg hlk
theorem m_irR (E : mE p s m args dC dI ac) (hb : c.code = cc) (hr : meth.sig.returnType = some .int) (hlk : meth.locks = false) (hS : mS dC dI ac o ad s.heap σ H locs) {v r : Int32} (hf : some v = some r) (hdg : decode cc pc = .ok (.ireturn, 1)) :
    W p l e R s m args below meth c H locs 0 0 (MQ below (mQi dC dI ac o ad r σ) args s 0 0 (mF o ad)) (F0 m pc ls [.int v]) := by
  cases hf
  exact W.iret E.1 hb hr (fun t ht hW => ⟨⟨_, (), rfl, rfl, m_end E hS t ht hW⟩, hS.2.2.F ht⟩) hS.2.2.2.2 hdg hlk
theorem nz_b {v : Int32} (h : v &&& 1 = v) : narrow .boolean (.int v) = .int v := by
  show Value.int (v &&& 1) = _
  rw [h]
theorem m_zr (E : mE p s m args dC dI ac) (hb : c.code = cc) (hr : meth.sig.returnType = some .boolean) (hlk : meth.locks = false) (hS : mS dC dI ac o ad s.heap σ H locs) {v r : Int32} (hn : v &&& 1 = v) (hf : some (v, σ) = some (r, σ')) (hdg : decode cc pc = .ok (.ireturn, 1)) :
    W p l e R s m args below meth c H locs 0 0 (MQ below (mQi dC dI ac o ad r σ') args s 0 0 (mF o ad)) (F0 m pc ls [.int v]) := by
  cases hf
  exact W.zret E.1 hb hr (nz_b hn) (fun t ht hW => ⟨⟨_, (), rfl, rfl, m_end E hS t ht hW⟩, hS.2.2.F ht⟩) hS.2.2.2.2 hdg hlk
theorem m_zrR (E : mE p s m args dC dI ac) (hb : c.code = cc) (hr : meth.sig.returnType = some .boolean) (hlk : meth.locks = false) (hS : mS dC dI ac o ad s.heap σ H locs) {v r : Int32} (hn : v &&& 1 = v) (hf : some v = some r) (hdg : decode cc pc = .ok (.ireturn, 1)) :
    W p l e R s m args below meth c H locs 0 0 (MQ below (mQi dC dI ac o ad r σ) args s 0 0 (mF o ad)) (F0 m pc ls [.int v]) := by
  cases hf
  exact W.zret E.1 hb hr (nz_b hn) (fun t ht hW => ⟨⟨_, (), rfl, rfl, m_end E hS t ht hW⟩, hS.2.2.F ht⟩) hS.2.2.2.2 hdg hlk
theorem m_lr (E : mE p s m args dC dI ac) (hb : c.code = cc) (hr : meth.sig.returnType = some .long) (hlk : meth.locks = false) (hS : mS dC dI ac o ad s.heap σ H locs) {v r : Int64} (hf : some (v, σ) = some (r, σ')) (hdg : decode cc pc = .ok (.lreturn, 1)) :
    W p l e R s m args below meth c H locs 0 0 (MQ below (mQl dC dI ac o ad r σ') args s 0 0 (mF o ad)) (F0 m pc ls [.long v]) := by
  cases hf
  exact W.lret E.1 hb hr (fun t ht hW => ⟨⟨_, (), rfl, rfl, m_end E hS t ht hW⟩, hS.2.2.F ht⟩) hS.2.2.2.2 hdg hlk
theorem m_lrR (E : mE p s m args dC dI ac) (hb : c.code = cc) (hr : meth.sig.returnType = some .long) (hlk : meth.locks = false) (hS : mS dC dI ac o ad s.heap σ H locs) {v r : Int64} (hf : some v = some r) (hdg : decode cc pc = .ok (.lreturn, 1)) :
    W p l e R s m args below meth c H locs 0 0 (MQ below (mQl dC dI ac o ad r σ) args s 0 0 (mF o ad)) (F0 m pc ls [.long v]) := by
  cases hf
  exact W.lret E.1 hb hr (fun t ht hW => ⟨⟨_, (), rfl, rfl, m_end E hS t ht hW⟩, hS.2.2.F ht⟩) hS.2.2.2.2 hdg hlk
theorem m_vr (E : mE p s m args dC dI ac) (hb : c.code = cc) (hr : meth.sig.returnType = none) (hlk : meth.locks = false) (hS : mS dC dI ac o ad s.heap σ H locs) (hf : some ((), σ) = some ((), σ')) (hdg : decode cc pc = .ok (.return_, 1)) :
    W p l e R s m args below meth c H locs 0 0 (MQ below (mQv dC dI ac o ad σ') args s 0 0 (mF o ad)) (F0 m pc ls []) := by
  cases hf
  exact W.vret E.1 hb hr (fun t ht hW => ⟨⟨(), rfl, trivial, m_end E hS t ht hW⟩, hS.2.2.F ht⟩) hS.2.2.2.2 hdg hlk
/-! calls -/
theorem mPre_blind (As : List Value) : FrameBlind (va_Pc As (mPre dC dI ac o ad σ)) := fun a U g mk q => by
  obtain ⟨q1, qP, qK, qD⟩ := q
  exact ⟨q1, qP, va_K.moved (u := U) (U := U.calling g mk a) (Vm.Alike.refl U.vm) qK, qD⟩
theorem m_preV (E : mE p s m args dC dI ac) (hS : mS dC dI ac o ad H0 σ H locs) (As : List Value) : PreV s H RX6 o (va_Pc (.ref o :: As) (mPre dC dI ac o ad σ)) As :=
  ⟨mPre_blind _, va_recv E.2.2.2 hS.1 (ci := 0) (q0 := 0) rfl rfl, fun U hU hW => ⟨rfl, by rw [hU]; exact hS.1, va_K.moved hW.alike E.2.2.2, hS.2.1⟩⟩
theorem m_preS (E : mE p s m args dC dI ac) (hS : mS dC dI ac o ad H0 σ H locs) (As : List Value) : PreS s H (va_Pc As (mPre dC dI ac o ad σ)) As :=
  ⟨mPre_blind _, fun U hU hW => ⟨rfl, by rw [hU]; exact hS.1, va_K.moved hW.alike E.2.2.2, hS.2.1⟩⟩
variable {y : MethodName} {bytes : ByteArray} {maxL nL n index : Nat} {ret : Option FieldType} {fr lo : Nat} {As st0 : List Value}
theorem m_cVi (E : mE p s m args dC dI ac) (hb : c.code = cc) (hml : c.maxLocals = nL) (hls : ls.size = nL) (hS : mS dC dI ac o ad H0 σ H locs) {r : Int32} (hM : Met l y (ws_ y bytes maxL ret) { frames := fr, cells := 0, slots := 0, locals := lo } (va_Pc (.ref o :: As) (mPre dC dI ac o ad σ)) (mQi dC dI ac o ad r σ') 0 0 (mF o ad))
    (hw : GoodIn lw_all (wsV RX6 index RX6 y (ws_ y bytes maxL ret))) (hd : y.cls = RX6 ∧ y.cls ≠ "java/lang/invoke/MethodHandle" ∧ y.cls ≠ "java/lang/invoke/VarHandle" ∧ (parseMethodDescriptor y.desc).map (fun d => d.parameters.length) = some n) (hn : As.length = n) (hst : st0 = As.reverse ++ .ref o :: rest) (hrm : (rest.map fun v => v.category).sum ≤ 8) (hR : fr + 1 ≤ R.frames ∧ 8 + (maxL + 11) + lo ≤ R.locals) (hf : cells ≤ R.cells ∧ slots ≤ R.slots) (hdg : decode cc pc = .ok (.invokevirtual index, 3))
    (kk : ∀ (H : Heap) (locs : List Loc), mS dC dI ac o ad H0 σ' H locs → W p l e R s m args below meth c H locs cells slots Q (F0 m (pc + 3) ls (.int r :: rest))) : W p l e R s m args below meth c H locs cells slots Q (F0 m pc ls st0) := by
  subst hst
  refine va_calli (va_runV (As := As) (rest := rest) ⟨E.1, hb, hml, E.2.1, E.2.2.1⟩ hM (cwV n E.2.2.1 hw rfl rfl rfl hd hR) (m_preV E hS As) rfl hn hls rfl (lv_room hrm) hdg hf) hS.2.2 (fun q _ h => h) (fun q h => h) (fun v u t H1 locs1 ht hvm hv hB _ _ hSS => ?_)
  subst hv
  refine kk H1 locs1 ⟨?_, hB.2.2, hSS⟩
  rw [← ht]
  exact hB.1
theorem m_cVl (E : mE p s m args dC dI ac) (hb : c.code = cc) (hml : c.maxLocals = nL) (hls : ls.size = nL) (hS : mS dC dI ac o ad H0 σ H locs) {r : Int64} (hM : Met l y (ws_ y bytes maxL ret) { frames := fr, cells := 0, slots := 0, locals := lo } (va_Pc (.ref o :: As) (mPre dC dI ac o ad σ)) (mQl dC dI ac o ad r σ') 0 0 (mF o ad))
    (hw : GoodIn lw_all (wsV RX6 index RX6 y (ws_ y bytes maxL ret))) (hd : y.cls = RX6 ∧ y.cls ≠ "java/lang/invoke/MethodHandle" ∧ y.cls ≠ "java/lang/invoke/VarHandle" ∧ (parseMethodDescriptor y.desc).map (fun d => d.parameters.length) = some n) (hn : As.length = n) (hst : st0 = As.reverse ++ .ref o :: rest) (hrm : (rest.map fun v => v.category).sum ≤ 8) (hR : fr + 1 ≤ R.frames ∧ 8 + (maxL + 11) + lo ≤ R.locals) (hf : cells ≤ R.cells ∧ slots ≤ R.slots) (hdg : decode cc pc = .ok (.invokevirtual index, 3))
    (kk : ∀ (H : Heap) (locs : List Loc), mS dC dI ac o ad H0 σ' H locs → W p l e R s m args below meth c H locs cells slots Q (F0 m (pc + 3) ls (.long r :: rest))) : W p l e R s m args below meth c H locs cells slots Q (F0 m pc ls st0) := by
  subst hst
  refine va_calll (va_runV (As := As) (rest := rest) ⟨E.1, hb, hml, E.2.1, E.2.2.1⟩ hM (cwV n E.2.2.1 hw rfl rfl rfl hd hR) (m_preV E hS As) rfl hn hls rfl (lv_room hrm) hdg hf) hS.2.2 (fun q _ h => h) (fun q h => h) (fun v u t H1 locs1 ht hvm hv hB _ _ hSS => ?_)
  subst hv
  refine kk H1 locs1 ⟨?_, hB.2.2, hSS⟩
  rw [← ht]
  exact hB.1
theorem m_cVv (E : mE p s m args dC dI ac) (hb : c.code = cc) (hml : c.maxLocals = nL) (hls : ls.size = nL) (hS : mS dC dI ac o ad H0 σ H locs) (hM : Met l y (ws_ y bytes maxL ret) { frames := fr, cells := 0, slots := 0, locals := lo } (va_Pc (.ref o :: As) (mPre dC dI ac o ad σ)) (mQv dC dI ac o ad σ') 0 0 (mF o ad))
    (hw : GoodIn lw_all (wsV RX6 index RX6 y (ws_ y bytes maxL ret))) (hd : y.cls = RX6 ∧ y.cls ≠ "java/lang/invoke/MethodHandle" ∧ y.cls ≠ "java/lang/invoke/VarHandle" ∧ (parseMethodDescriptor y.desc).map (fun d => d.parameters.length) = some n) (hn : As.length = n) (hst : st0 = As.reverse ++ .ref o :: rest) (hrm : (rest.map fun v => v.category).sum ≤ 8) (hR : fr + 1 ≤ R.frames ∧ 8 + (maxL + 11) + lo ≤ R.locals) (hf : cells ≤ R.cells ∧ slots ≤ R.slots) (hdg : decode cc pc = .ok (.invokevirtual index, 3))
    (kk : ∀ (H : Heap) (locs : List Loc), mS dC dI ac o ad H0 σ' H locs → W p l e R s m args below meth c H locs cells slots Q (F0 m (pc + 3) ls rest)) : W p l e R s m args below meth c H locs cells slots Q (F0 m pc ls st0) := by
  subst hst
  refine va_callv (va_runV (As := As) (rest := rest) ⟨E.1, hb, hml, E.2.1, E.2.2.1⟩ hM (cwV n E.2.2.1 hw rfl rfl rfl hd hR) (m_preV E hS As) rfl hn hls rfl (lv_room hrm) hdg hf) hS.2.2 (fun q _ h => h) (fun q h => h) (fun u t H1 locs1 ht hvm hv hB _ _ hSS => ?_)
  refine kk H1 locs1 ⟨?_, hB.2.2, hSS⟩
  rw [← ht]
  exact hB.1
theorem m_cSi (E : mE p s m args dC dI ac) (hb : c.code = cc) (hml : c.maxLocals = nL) (hls : ls.size = nL) (hS : mS dC dI ac o ad H0 σ H locs) {r : Int32} (hM : Met l y (ws_ y bytes maxL ret) { frames := fr, cells := 0, slots := 0, locals := lo } (va_Pc As (mPre dC dI ac o ad σ)) (mQi dC dI ac o ad r σ') 0 0 (mF o ad))
    (hw : GoodIn lw_all (va_wsS RX6 index y (ws_ y bytes maxL ret))) (hd : y.cls ≠ "java/lang/invoke/MethodHandle" ∧ y.cls ≠ "java/lang/invoke/VarHandle" ∧ (parseMethodDescriptor y.desc).map (fun d => d.parameters.length) = some n) (hn : As.length = n) (hst : st0 = As.reverse ++ rest) (hrm : (rest.map fun v => v.category).sum ≤ 8) (hR : fr + 1 ≤ R.frames ∧ 8 + (maxL + 11) + lo ≤ R.locals) (hf : cells ≤ R.cells ∧ slots ≤ R.slots) (hdg : decode cc pc = .ok (.invokestatic index, 3))
    (kk : ∀ (H : Heap) (locs : List Loc), mS dC dI ac o ad H0 σ' H locs → W p l e R s m args below meth c H locs cells slots Q (F0 m (pc + 3) ls (.int r :: rest))) : W p l e R s m args below meth c H locs cells slots Q (F0 m pc ls st0) := by
  subst hst
  refine va_calli (va_runS (As := As) (rest := rest) ⟨E.1, hb, hml, E.2.1, E.2.2.1⟩ hM (va_cwS n E.2.2.1 hw rfl rfl rfl hd hR) (m_preS E hS As) rfl hn hls rfl (lv_room hrm) hdg hf) hS.2.2 (fun q _ h => h) (fun q h => h) (fun v u t H1 locs1 ht hvm hv hB _ _ hSS => ?_)
  subst hv
  refine kk H1 locs1 ⟨?_, hB.2.2, hSS⟩
  rw [← ht]
  exact hB.1
theorem m_cSl (E : mE p s m args dC dI ac) (hb : c.code = cc) (hml : c.maxLocals = nL) (hls : ls.size = nL) (hS : mS dC dI ac o ad H0 σ H locs) {r : Int64} (hM : Met l y (ws_ y bytes maxL ret) { frames := fr, cells := 0, slots := 0, locals := lo } (va_Pc As (mPre dC dI ac o ad σ)) (mQl dC dI ac o ad r σ') 0 0 (mF o ad))
    (hw : GoodIn lw_all (va_wsS RX6 index y (ws_ y bytes maxL ret))) (hd : y.cls ≠ "java/lang/invoke/MethodHandle" ∧ y.cls ≠ "java/lang/invoke/VarHandle" ∧ (parseMethodDescriptor y.desc).map (fun d => d.parameters.length) = some n) (hn : As.length = n) (hst : st0 = As.reverse ++ rest) (hrm : (rest.map fun v => v.category).sum ≤ 8) (hR : fr + 1 ≤ R.frames ∧ 8 + (maxL + 11) + lo ≤ R.locals) (hf : cells ≤ R.cells ∧ slots ≤ R.slots) (hdg : decode cc pc = .ok (.invokestatic index, 3))
    (kk : ∀ (H : Heap) (locs : List Loc), mS dC dI ac o ad H0 σ' H locs → W p l e R s m args below meth c H locs cells slots Q (F0 m (pc + 3) ls (.long r :: rest))) : W p l e R s m args below meth c H locs cells slots Q (F0 m pc ls st0) := by
  subst hst
  refine va_calll (va_runS (As := As) (rest := rest) ⟨E.1, hb, hml, E.2.1, E.2.2.1⟩ hM (va_cwS n E.2.2.1 hw rfl rfl rfl hd hR) (m_preS E hS As) rfl hn hls rfl (lv_room hrm) hdg hf) hS.2.2 (fun q _ h => h) (fun q h => h) (fun v u t H1 locs1 ht hvm hv hB _ _ hSS => ?_)
  subst hv
  refine kk H1 locs1 ⟨?_, hB.2.2, hSS⟩
  rw [← ht]
  exact hB.1
end MR
/-- a method of the reference, from its entry -/
theorem m_of {l : Launch} {y : MethodName} {cc : ByteArray} {maxL fr lo : Nat} {ret : Option FieldType} {As : List Value} {dC : Nat → ClassId} {dI : Nat → Nat → Nat} {ac : Nat → ClassId} {o : Nat} {ad : Nat → Nat} {σ : mSt} {Qc : Array Value → State → Outcome → State → Prop} (hy : plainName y.cls = true) (hyc : y.cls = RX6) (hsl : (lg_sl As).length ≤ maxL)
    (body : ∀ (p : Program) (e : Env) (s : State) (m : MethodId) (args : Array Value) (below : List Frame) (meth : Method) (c : Code), mE p s m args dC dI ac → c.code = cc → meth.sig.returnType = ret → meth.locks = false → c.maxLocals = maxL → mS dC dI ac o ad s.heap σ s.heap [] → ∀ ls : Array Slot, lv_has ls maxL (lv_args 0 As) →
      W p l e { frames := fr, cells := 0, slots := 0, locals := lo } s m args below meth c s.heap [] 0 0 (MQ below Qc args s 0 0 (mF o ad)) (F0 m 0 ls [])) :
    Met l y (ws_ y cc maxL ret) { frames := fr, cells := 0, slots := 0, locals := lo } (va_Pc As (mPre dC dI ac o ad σ)) Qc 0 0 (mF o ad) := by
  refine Met.ofW (cc := cc) (maxL := maxL) (ret := ret) hy rfl ?_
  intro p e s m args below meth c s₁ B hml hv
  obtain ⟨rfl, hP, hK, hD⟩ := hv
  have hts := atoms_spec (ws := ws_ y cc maxL ret) B.pre
  have hts : ∀ w ∈ lw_all, w.before _ s = true := fun w h => hts w (List.mem_cons_of_mem _ h)
  have hown : s.vm.findClass RX6 = some m.cls := by rw [← hyc]; exact findClass_of_methodNamed B.named
  have hl := lv_entry As (n := maxL) hsl
  rw [lg_entry_eq]
  exact body p e s m _ below meth c ⟨B.exec, hown, hts, hK⟩ B.bytes B.returns B.notSynchronized hml ⟨hP, hD, va_S.rf⟩ _ hl
theorem ne_toInt {x k : Int32} {j : Int} (h : ¬ x = k) (hk : k.toInt = j) : x.toInt ≠ j := fun e => h (Int32.toInt_inj.mp (e.trans hk.symm))
section LC
variable {p : Program} {l : Launch} {e : Env} {R : Room} {s : State} {m : MethodId} {args : Array Value} {below : List Frame} {meth : Method} {c : Code} {H : Heap} {locs : List Loc} {cells slots : Nat} {Q : State → Prop}
variable {cc : ByteArray} {pc : Nat} {ls : Array Slot} {rest : List Value}
theorem lv_lc_eq (hexec : p.tables.exec = Jvm.exec) (hb : c.code = cc) {x y : Int64} {off : Int} {tgt : Nat} (hdg : decode cc pc = .ok (.lcmp, 1)) (hdg2 : decode cc (pc + 1) = .ok (.ifCond .eq off, 3)) (ht : ((pc + 1 : Nat) : Int) + off = (tgt : Int))
    (kt : x = y → W p l e R s m args below meth c H locs cells slots Q (F0 m tgt ls rest)) (kf : ¬ x = y → W p l e R s m args below meth c H locs cells slots Q (F0 m (pc + 4) ls rest)) : W p l e R s m args below meth c H locs cells slots Q (F0 m pc ls (.long y :: .long x :: rest)) := by
  refine W.lcmp hexec hb hdg ?_
  exact lv_if_eq hexec hb hdg2 ht (fun h => kt ((lg_cmp_eq x y).mp h)) (fun h => kf (fun q => h ((lg_cmp_eq x y).mpr q)))
theorem lv_lc_lt (hexec : p.tables.exec = Jvm.exec) (hb : c.code = cc) {x y : Int64} {off : Int} {tgt : Nat} (hdg : decode cc pc = .ok (.lcmp, 1)) (hdg2 : decode cc (pc + 1) = .ok (.ifCond .lt off, 3)) (ht : ((pc + 1 : Nat) : Int) + off = (tgt : Int))
    (kt : x < y → W p l e R s m args below meth c H locs cells slots Q (F0 m tgt ls rest)) (kf : ¬ x < y → W p l e R s m args below meth c H locs cells slots Q (F0 m (pc + 4) ls rest)) : W p l e R s m args below meth c H locs cells slots Q (F0 m pc ls (.long y :: .long x :: rest)) := by
  refine W.lcmp hexec hb hdg ?_
  exact lv_if_lt hexec hb hdg2 ht (fun h => kt ((lg_cmp_lt x y).mp h)) (fun h => kf (fun q => h ((lg_cmp_lt x y).mpr q)))
theorem lv_lc_ge (hexec : p.tables.exec = Jvm.exec) (hb : c.code = cc) {x y : Int64} {off : Int} {tgt : Nat} (hdg : decode cc pc = .ok (.lcmp, 1)) (hdg2 : decode cc (pc + 1) = .ok (.ifCond .ge off, 3)) (ht : ((pc + 1 : Nat) : Int) + off = (tgt : Int))
    (kt : y ≤ x → W p l e R s m args below meth c H locs cells slots Q (F0 m tgt ls rest)) (kf : ¬ y ≤ x → W p l e R s m args below meth c H locs cells slots Q (F0 m (pc + 4) ls rest)) : W p l e R s m args below meth c H locs cells slots Q (F0 m pc ls (.long y :: .long x :: rest)) := by
  refine W.lcmp hexec hb hdg ?_
  exact lv_if_ge hexec hb hdg2 ht (fun h => kt ((lg_cmp_ge x y).mp h)) (fun h => kf (fun q => h ((lg_cmp_ge x y).mpr q)))
theorem lv_lc_gt (hexec : p.tables.exec = Jvm.exec) (hb : c.code = cc) {x y : Int64} {off : Int} {tgt : Nat} (hdg : decode cc pc = .ok (.lcmp, 1)) (hdg2 : decode cc (pc + 1) = .ok (.ifCond .gt off, 3)) (ht : ((pc + 1 : Nat) : Int) + off = (tgt : Int))
    (kt : y < x → W p l e R s m args below meth c H locs cells slots Q (F0 m tgt ls rest)) (kf : ¬ y < x → W p l e R s m args below meth c H locs cells slots Q (F0 m (pc + 4) ls rest)) : W p l e R s m args below meth c H locs cells slots Q (F0 m pc ls (.long y :: .long x :: rest)) := by
  refine W.lcmp hexec hb hdg ?_
  exact lv_if_gt hexec hb hdg2 ht (fun h => kt ((lg_cmp_gt x y).mp h)) (fun h => kf (fun q => h ((lg_cmp_gt x y).mpr q)))
theorem lv_lc_le (hexec : p.tables.exec = Jvm.exec) (hb : c.code = cc) {x y : Int64} {off : Int} {tgt : Nat} (hdg : decode cc pc = .ok (.lcmp, 1)) (hdg2 : decode cc (pc + 1) = .ok (.ifCond .le off, 3)) (ht : ((pc + 1 : Nat) : Int) + off = (tgt : Int))
    (kt : x ≤ y → W p l e R s m args below meth c H locs cells slots Q (F0 m tgt ls rest)) (kf : ¬ x ≤ y → W p l e R s m args below meth c H locs cells slots Q (F0 m (pc + 4) ls rest)) : W p l e R s m args below meth c H locs cells slots Q (F0 m pc ls (.long y :: .long x :: rest)) := by
  refine W.lcmp hexec hb hdg ?_
  exact lv_if_le hexec hb hdg2 ht (fun h => kt ((lg_cmp_le x y).mp h)) (fun h => kf (fun q => h ((lg_cmp_le x y).mpr q)))
theorem lv_lc_ne (hexec : p.tables.exec = Jvm.exec) (hb : c.code = cc) {x y : Int64} {off : Int} {tgt : Nat} (hdg : decode cc pc = .ok (.lcmp, 1)) (hdg2 : decode cc (pc + 1) = .ok (.ifCond .ne off, 3)) (ht : ((pc + 1 : Nat) : Int) + off = (tgt : Int))
    (kt : ¬ x = y → W p l e R s m args below meth c H locs cells slots Q (F0 m tgt ls rest)) (kf : x = y → W p l e R s m args below meth c H locs cells slots Q (F0 m (pc + 4) ls rest)) : W p l e R s m args below meth c H locs cells slots Q (F0 m pc ls (.long y :: .long x :: rest)) := by
  refine W.lcmp hexec hb hdg ?_
  exact lv_if_ne hexec hb hdg2 ht (fun h => kt (fun q => h ((lg_cmp_eq x y).mpr q))) (fun h => kf ((lg_cmp_eq x y).mp h))
end LC
def rn1 {A1 R : Type} (f : (A1 → Option R) → A1 → Option R) : Nat → A1 → Option R
  | 0 => fun _ => none
  | n + 1 => f (rn1 f n)
def rn2 {A1 A2 R : Type} (f : (A1 → A2 → Option R) → A1 → A2 → Option R) : Nat → A1 → A2 → Option R
  | 0 => fun _ _ => none
  | n + 1 => f (rn2 f n)
def rn3 {A1 A2 A3 R : Type} (f : (A1 → A2 → A3 → Option R) → A1 → A2 → A3 → Option R) : Nat → A1 → A2 → A3 → Option R
  | 0 => fun _ _ _ => none
  | n + 1 => f (rn3 f n)
def rn4 {A1 A2 A3 A4 R : Type} (f : (A1 → A2 → A3 → A4 → Option R) → A1 → A2 → A3 → A4 → Option R) : Nat → A1 → A2 → A3 → A4 → Option R
  | 0 => fun _ _ _ _ => none
  | n + 1 => f (rn4 f n)
def rn5 {A1 A2 A3 A4 A5 R : Type} (f : (A1 → A2 → A3 → A4 → A5 → Option R) → A1 → A2 → A3 → A4 → A5 → Option R) : Nat → A1 → A2 → A3 → A4 → A5 → Option R
  | 0 => fun _ _ _ _ _ => none
  | n + 1 => f (rn5 f n)
def rn6 {A1 A2 A3 A4 A5 A6 R : Type} (f : (A1 → A2 → A3 → A4 → A5 → A6 → Option R) → A1 → A2 → A3 → A4 → A5 → A6 → Option R) : Nat → A1 → A2 → A3 → A4 → A5 → A6 → Option R
  | 0 => fun _ _ _ _ _ _ => none
  | n + 1 => f (rn6 f n)
def rn7 {A1 A2 A3 A4 A5 A6 A7 R : Type} (f : (A1 → A2 → A3 → A4 → A5 → A6 → A7 → Option R) → A1 → A2 → A3 → A4 → A5 → A6 → A7 → Option R) : Nat → A1 → A2 → A3 → A4 → A5 → A6 → A7 → Option R
  | 0 => fun _ _ _ _ _ _ _ => none
  | n + 1 => f (rn7 f n)
def rn8 {A1 A2 A3 A4 A5 A6 A7 A8 R : Type} (f : (A1 → A2 → A3 → A4 → A5 → A6 → A7 → A8 → Option R) → A1 → A2 → A3 → A4 → A5 → A6 → A7 → A8 → Option R) : Nat → A1 → A2 → A3 → A4 → A5 → A6 → A7 → A8 → Option R
  | 0 => fun _ _ _ _ _ _ _ _ => none
  | n + 1 => f (rn8 f n)
def rn9 {A1 A2 A3 A4 A5 A6 A7 A8 A9 R : Type} (f : (A1 → A2 → A3 → A4 → A5 → A6 → A7 → A8 → A9 → Option R) → A1 → A2 → A3 → A4 → A5 → A6 → A7 → A8 → A9 → Option R) : Nat → A1 → A2 → A3 → A4 → A5 → A6 → A7 → A8 → A9 → Option R
  | 0 => fun _ _ _ _ _ _ _ _ _ => none
  | n + 1 => f (rn9 f n)
def rn10 {A1 A2 A3 A4 A5 A6 A7 A8 A9 A10 R : Type} (f : (A1 → A2 → A3 → A4 → A5 → A6 → A7 → A8 → A9 → A10 → Option R) → A1 → A2 → A3 → A4 → A5 → A6 → A7 → A8 → A9 → A10 → Option R) : Nat → A1 → A2 → A3 → A4 → A5 → A6 → A7 → A8 → A9 → A10 → Option R
  | 0 => fun _ _ _ _ _ _ _ _ _ _ => none
  | n + 1 => f (rn10 f n)
def rn11 {A1 A2 A3 A4 A5 A6 A7 A8 A9 A10 A11 R : Type} (f : (A1 → A2 → A3 → A4 → A5 → A6 → A7 → A8 → A9 → A10 → A11 → Option R) → A1 → A2 → A3 → A4 → A5 → A6 → A7 → A8 → A9 → A10 → A11 → Option R) : Nat → A1 → A2 → A3 → A4 → A5 → A6 → A7 → A8 → A9 → A10 → A11 → Option R
  | 0 => fun _ _ _ _ _ _ _ _ _ _ _ => none
  | n + 1 => f (rn11 f n)
def rn12 {A1 A2 A3 A4 A5 A6 A7 A8 A9 A10 A11 A12 R : Type} (f : (A1 → A2 → A3 → A4 → A5 → A6 → A7 → A8 → A9 → A10 → A11 → A12 → Option R) → A1 → A2 → A3 → A4 → A5 → A6 → A7 → A8 → A9 → A10 → A11 → A12 → Option R) : Nat → A1 → A2 → A3 → A4 → A5 → A6 → A7 → A8 → A9 → A10 → A11 → A12 → Option R
  | 0 => fun _ _ _ _ _ _ _ _ _ _ _ _ => none
  | n + 1 => f (rn12 f n)
theorem fl_0 : Cond.fieldLink RX6 7 RX6 (TX6 0).2.1 (TX6 0).2.2.1 ∈ lw_all := q1682
theorem fl_1 : Cond.fieldLink RX6 240 RX6 (TX6 1).2.1 (TX6 1).2.2.1 ∈ lw_all := q1683
theorem pf_1 : parseFieldDescriptor (TX6 1).2.2.1 = some .int := by decide +kernel
theorem fl_2 : Cond.fieldLink RX6 249 RX6 (TX6 2).2.1 (TX6 2).2.2.1 ∈ lw_all := q1684
theorem pf_2 : parseFieldDescriptor (TX6 2).2.2.1 = some .int := by decide +kernel
theorem fl_3 : Cond.fieldLink RX6 252 RX6 (TX6 3).2.1 (TX6 3).2.2.1 ∈ lw_all := q1685
theorem pf_3 : parseFieldDescriptor (TX6 3).2.2.1 = some .int := by decide +kernel
theorem fl_4 : Cond.fieldLink RX6 263 RX6 (TX6 4).2.1 (TX6 4).2.2.1 ∈ lw_all := q1686
theorem pf_4 : parseFieldDescriptor (TX6 4).2.2.1 = some .int := by decide +kernel
theorem fl_5 : Cond.fieldLink RX6 243 RX6 (TX6 5).2.1 (TX6 5).2.2.1 ∈ lw_all := q1687
theorem pf_5 : parseFieldDescriptor (TX6 5).2.2.1 = some .int := by decide +kernel
theorem fl_6 : Cond.fieldLink RX6 246 RX6 (TX6 6).2.1 (TX6 6).2.2.1 ∈ lw_all := q1688
theorem pf_6 : parseFieldDescriptor (TX6 6).2.2.1 = some .int := by decide +kernel
theorem fl_7 : Cond.fieldLink RX6 383 RX6 (TX6 7).2.1 (TX6 7).2.2.1 ∈ lw_all := q1689
theorem pf_7 : parseFieldDescriptor (TX6 7).2.2.1 = some .int := by decide +kernel
theorem fl_8 : Cond.fieldLink RX6 13 RX6 (TX6 8).2.1 (TX6 8).2.2.1 ∈ lw_all := q1690
theorem pf_8 : parseFieldDescriptor (TX6 8).2.2.1 = some .int := by decide +kernel
theorem fl_9 : Cond.fieldLink RX6 17 RX6 (TX6 9).2.1 (TX6 9).2.2.1 ∈ lw_all := q1691
theorem fl_10 : Cond.fieldLink RX6 283 RX6 (TX6 10).2.1 (TX6 10).2.2.1 ∈ lw_all := q1692
theorem pf_10 : parseFieldDescriptor (TX6 10).2.2.1 = some .int := by decide +kernel
theorem fl_11 : Cond.fieldLink RX6 20 RX6 (TX6 11).2.1 (TX6 11).2.2.1 ∈ lw_all := q1693
theorem fl_12 : Cond.fieldLink RX6 24 RX6 (TX6 12).2.1 (TX6 12).2.2.1 ∈ lw_all := q1694
theorem fl_13 : Cond.fieldLink RX6 27 RX6 (TX6 13).2.1 (TX6 13).2.2.1 ∈ lw_all := q1695
theorem fl_14 : Cond.fieldLink RX6 30 RX6 (TX6 14).2.1 (TX6 14).2.2.1 ∈ lw_all := q1696
theorem fl_15 : Cond.fieldLink RX6 33 RX6 (TX6 15).2.1 (TX6 15).2.2.1 ∈ lw_all := q1697
theorem fl_16 : Cond.fieldLink RX6 36 RX6 (TX6 16).2.1 (TX6 16).2.2.1 ∈ lw_all := q1698
theorem fl_17 : Cond.fieldLink RX6 39 RX6 (TX6 17).2.1 (TX6 17).2.2.1 ∈ lw_all := q1699
theorem fl_18 : Cond.fieldLink RX6 42 RX6 (TX6 18).2.1 (TX6 18).2.2.1 ∈ lw_all := q1700
theorem fl_19 : Cond.fieldLink RX6 45 RX6 (TX6 19).2.1 (TX6 19).2.2.1 ∈ lw_all := q1701
theorem fl_20 : Cond.fieldLink RX6 48 RX6 (TX6 20).2.1 (TX6 20).2.2.1 ∈ lw_all := q1702
theorem fl_21 : Cond.fieldLink RX6 51 RX6 (TX6 21).2.1 (TX6 21).2.2.1 ∈ lw_all := q1703
theorem fl_22 : Cond.fieldLink RX6 54 RX6 (TX6 22).2.1 (TX6 22).2.2.1 ∈ lw_all := q1704
theorem fl_23 : Cond.fieldLink RX6 57 RX6 (TX6 23).2.1 (TX6 23).2.2.1 ∈ lw_all := q1705
theorem fl_24 : Cond.fieldLink RX6 60 RX6 (TX6 24).2.1 (TX6 24).2.2.1 ∈ lw_all := q1706
theorem fl_25 : Cond.fieldLink RX6 63 RX6 (TX6 25).2.1 (TX6 25).2.2.1 ∈ lw_all := q1707
theorem fl_26 : Cond.fieldLink RX6 66 RX6 (TX6 26).2.1 (TX6 26).2.2.1 ∈ lw_all := q1708
theorem fl_27 : Cond.fieldLink RX6 69 RX6 (TX6 27).2.1 (TX6 27).2.2.1 ∈ lw_all := q1709
theorem fl_28 : Cond.fieldLink RX6 72 RX6 (TX6 28).2.1 (TX6 28).2.2.1 ∈ lw_all := q1710
theorem fl_29 : Cond.fieldLink RX6 75 RX6 (TX6 29).2.1 (TX6 29).2.2.1 ∈ lw_all := q1711
theorem fl_30 : Cond.fieldLink RX6 78 RX6 (TX6 30).2.1 (TX6 30).2.2.1 ∈ lw_all := q1712
theorem fl_31 : Cond.fieldLink RX6 81 RX6 (TX6 31).2.1 (TX6 31).2.2.1 ∈ lw_all := q1713
theorem fl_32 : Cond.fieldLink RX6 84 RX6 (TX6 32).2.1 (TX6 32).2.2.1 ∈ lw_all := q1714
theorem fl_33 : Cond.fieldLink RX6 87 RX6 (TX6 33).2.1 (TX6 33).2.2.1 ∈ lw_all := q1715
theorem fl_34 : Cond.fieldLink RX6 90 RX6 (TX6 34).2.1 (TX6 34).2.2.1 ∈ lw_all := q1716
theorem fl_35 : Cond.fieldLink RX6 93 RX6 (TX6 35).2.1 (TX6 35).2.2.1 ∈ lw_all := q1717
theorem fl_36 : Cond.fieldLink RX6 96 RX6 (TX6 36).2.1 (TX6 36).2.2.1 ∈ lw_all := q1718
theorem fl_37 : Cond.fieldLink RX6 99 RX6 (TX6 37).2.1 (TX6 37).2.2.1 ∈ lw_all := q1719
theorem fl_38 : Cond.fieldLink RX6 102 RX6 (TX6 38).2.1 (TX6 38).2.2.1 ∈ lw_all := q1720
theorem fl_39 : Cond.fieldLink RX6 294 RX6 (TX6 39).2.1 (TX6 39).2.2.1 ∈ lw_all := q1721
theorem pf_39 : parseFieldDescriptor (TX6 39).2.2.1 = some .int := by decide +kernel
theorem fl_40 : Cond.fieldLink RX6 105 RX6 (TX6 40).2.1 (TX6 40).2.2.1 ∈ lw_all := q1722
theorem fl_41 : Cond.fieldLink RX6 108 RX6 (TX6 41).2.1 (TX6 41).2.2.1 ∈ lw_all := q1723
theorem fl_42 : Cond.fieldLink RX6 111 RX6 (TX6 42).2.1 (TX6 42).2.2.1 ∈ lw_all := q1724
theorem fl_43 : Cond.fieldLink RX6 115 RX6 (TX6 43).2.1 (TX6 43).2.2.1 ∈ lw_all := q1725
theorem fl_44 : Cond.fieldLink RX6 118 RX6 (TX6 44).2.1 (TX6 44).2.2.1 ∈ lw_all := q1726
theorem fl_45 : Cond.fieldLink RX6 121 RX6 (TX6 45).2.1 (TX6 45).2.2.1 ∈ lw_all := q1727
theorem fl_46 : Cond.fieldLink RX6 124 RX6 (TX6 46).2.1 (TX6 46).2.2.1 ∈ lw_all := q1728
theorem fl_47 : Cond.fieldLink RX6 374 RX6 (TX6 47).2.1 (TX6 47).2.2.1 ∈ lw_all := q1729
theorem pf_47 : parseFieldDescriptor (TX6 47).2.2.1 = some .int := by decide +kernel
theorem fl_48 : Cond.fieldLink RX6 393 RX6 (TX6 48).2.1 (TX6 48).2.2.1 ∈ lw_all := q1730
theorem pf_48 : parseFieldDescriptor (TX6 48).2.2.1 = some .int := by decide +kernel
theorem fl_49 : Cond.fieldLink RX6 127 RX6 (TX6 49).2.1 (TX6 49).2.2.1 ∈ lw_all := q1731
theorem fl_50 : Cond.fieldLink RX6 130 RX6 (TX6 50).2.1 (TX6 50).2.2.1 ∈ lw_all := q1732
theorem fl_51 : Cond.fieldLink RX6 133 RX6 (TX6 51).2.1 (TX6 51).2.2.1 ∈ lw_all := q1733
theorem fl_52 : Cond.fieldLink RX6 356 RX6 (TX6 52).2.1 (TX6 52).2.2.1 ∈ lw_all := q1734
theorem pf_52 : parseFieldDescriptor (TX6 52).2.2.1 = some .int := by decide +kernel
theorem fl_53 : Cond.fieldLink RX6 359 RX6 (TX6 53).2.1 (TX6 53).2.2.1 ∈ lw_all := q1735
theorem pf_53 : parseFieldDescriptor (TX6 53).2.2.1 = some .int := by decide +kernel
theorem fl_54 : Cond.fieldLink RX6 389 RX6 (TX6 54).2.1 (TX6 54).2.2.1 ∈ lw_all := q1736
theorem pz_54 : parseFieldDescriptor (TX6 54).2.2.1 = some .boolean := by decide +kernel
theorem fl_55 : Cond.fieldLink RX6 301 RX6 (TX6 55).2.1 (TX6 55).2.2.1 ∈ lw_all := q1737
theorem pf_55 : parseFieldDescriptor (TX6 55).2.2.1 = some .int := by decide +kernel
theorem fl_56 : Cond.fieldLink RX6 136 RX6 (TX6 56).2.1 (TX6 56).2.2.1 ∈ lw_all := q1738
theorem fl_57 : Cond.fieldLink RX6 139 RX6 (TX6 57).2.1 (TX6 57).2.2.1 ∈ lw_all := q1739
theorem fl_58 : Cond.fieldLink RX6 436 RX6 (TX6 58).2.1 (TX6 58).2.2.1 ∈ lw_all := q1740
theorem pf_58 : parseFieldDescriptor (TX6 58).2.2.1 = some .int := by decide +kernel
theorem fl_59 : Cond.fieldLink RX6 468 RX6 (TX6 59).2.1 (TX6 59).2.2.1 ∈ lw_all := q1741
theorem pf_59 : parseFieldDescriptor (TX6 59).2.2.1 = some .int := by decide +kernel
theorem fl_60 : Cond.fieldLink RX6 461 RX6 (TX6 60).2.1 (TX6 60).2.2.1 ∈ lw_all := q1742
theorem pf_60 : parseFieldDescriptor (TX6 60).2.2.1 = some .int := by decide +kernel
theorem fl_61 : Cond.fieldLink RX6 442 RX6 (TX6 61).2.1 (TX6 61).2.2.1 ∈ lw_all := q1743
theorem pz_61 : parseFieldDescriptor (TX6 61).2.2.1 = some .boolean := by decide +kernel
theorem fl_62 : Cond.fieldLink RX6 452 RX6 (TX6 62).2.1 (TX6 62).2.2.1 ∈ lw_all := q1744
theorem pf_62 : parseFieldDescriptor (TX6 62).2.2.1 = some .int := by decide +kernel
theorem fl_63 : Cond.fieldLink RX6 142 RX6 (TX6 63).2.1 (TX6 63).2.2.1 ∈ lw_all := q1745
theorem fl_64 : Cond.fieldLink RX6 145 RX6 (TX6 64).2.1 (TX6 64).2.2.1 ∈ lw_all := q1746
theorem fl_65 : Cond.fieldLink RX6 399 RX6 (TX6 65).2.1 (TX6 65).2.2.1 ∈ lw_all := q1747
theorem pf_65 : parseFieldDescriptor (TX6 65).2.2.1 = some .int := by decide +kernel
theorem fl_66 : Cond.fieldLink RX6 149 RX6 (TX6 66).2.1 (TX6 66).2.2.1 ∈ lw_all := q1748
theorem fl_67 : Cond.fieldLink RX6 152 RX6 (TX6 67).2.1 (TX6 67).2.2.1 ∈ lw_all := q1749
theorem fl_68 : Cond.fieldLink RX6 155 RX6 (TX6 68).2.1 (TX6 68).2.2.1 ∈ lw_all := q1750
theorem fl_69 : Cond.fieldLink RX6 396 RX6 (TX6 69).2.1 (TX6 69).2.2.1 ∈ lw_all := q1751
theorem pf_69 : parseFieldDescriptor (TX6 69).2.2.1 = some .int := by decide +kernel
theorem fl_70 : Cond.fieldLink RX6 555 RX6 (TX6 70).2.1 (TX6 70).2.2.1 ∈ lw_all := q1752
theorem pf_70 : parseFieldDescriptor (TX6 70).2.2.1 = some .int := by decide +kernel
theorem fl_71 : Cond.fieldLink RX6 158 RX6 (TX6 71).2.1 (TX6 71).2.2.1 ∈ lw_all := q1753
theorem pf_71 : parseFieldDescriptor (TX6 71).2.2.1 = some .long := by decide +kernel
theorem fl_72 : Cond.fieldLink RX6 162 RX6 (TX6 72).2.1 (TX6 72).2.2.1 ∈ lw_all := q1754
theorem fl_73 : Cond.fieldLink RX6 165 RX6 (TX6 73).2.1 (TX6 73).2.2.1 ∈ lw_all := q1755
theorem fl_74 : Cond.fieldLink RX6 168 RX6 (TX6 74).2.1 (TX6 74).2.2.1 ∈ lw_all := q1756
theorem fl_75 : Cond.fieldLink RX6 171 RX6 (TX6 75).2.1 (TX6 75).2.2.1 ∈ lw_all := q1757
theorem fl_76 : Cond.fieldLink RX6 174 RX6 (TX6 76).2.1 (TX6 76).2.2.1 ∈ lw_all := q1758
theorem fl_77 : Cond.fieldLink RX6 177 RX6 (TX6 77).2.1 (TX6 77).2.2.1 ∈ lw_all := q1759
theorem fl_78 : Cond.fieldLink RX6 180 RX6 (TX6 78).2.1 (TX6 78).2.2.1 ∈ lw_all := q1760
theorem fl_79 : Cond.fieldLink RX6 183 RX6 (TX6 79).2.1 (TX6 79).2.2.1 ∈ lw_all := q1761
theorem fl_80 : Cond.fieldLink RX6 186 RX6 (TX6 80).2.1 (TX6 80).2.2.1 ∈ lw_all := q1762
theorem fl_81 : Cond.fieldLink RX6 189 RX6 (TX6 81).2.1 (TX6 81).2.2.1 ∈ lw_all := q1763
theorem fl_82 : Cond.fieldLink RX6 192 RX6 (TX6 82).2.1 (TX6 82).2.2.1 ∈ lw_all := q1764
theorem fl_83 : Cond.fieldLink RX6 195 RX6 (TX6 83).2.1 (TX6 83).2.2.1 ∈ lw_all := q1765
theorem fl_84 : Cond.fieldLink RX6 198 RX6 (TX6 84).2.1 (TX6 84).2.2.1 ∈ lw_all := q1766
theorem fl_85 : Cond.fieldLink RX6 201 RX6 (TX6 85).2.1 (TX6 85).2.2.1 ∈ lw_all := q1767
theorem fl_86 : Cond.fieldLink RX6 204 RX6 (TX6 86).2.1 (TX6 86).2.2.1 ∈ lw_all := q1768
theorem fl_87 : Cond.fieldLink RX6 207 RX6 (TX6 87).2.1 (TX6 87).2.2.1 ∈ lw_all := q1769
theorem fl_88 : Cond.fieldLink RX6 210 RX6 (TX6 88).2.1 (TX6 88).2.2.1 ∈ lw_all := q1770
theorem fl_89 : Cond.fieldLink RX6 213 RX6 (TX6 89).2.1 (TX6 89).2.2.1 ∈ lw_all := q1771
theorem fl_90 : Cond.fieldLink RX6 216 RX6 (TX6 90).2.1 (TX6 90).2.2.1 ∈ lw_all := q1772
theorem fl_91 : Cond.fieldLink RX6 219 RX6 (TX6 91).2.1 (TX6 91).2.2.1 ∈ lw_all := q1773
theorem fl_92 : Cond.fieldLink RX6 222 RX6 (TX6 92).2.1 (TX6 92).2.2.1 ∈ lw_all := q1774
theorem fl_93 : Cond.fieldLink RX6 225 RX6 (TX6 93).2.1 (TX6 93).2.2.1 ∈ lw_all := q1775
theorem fl_94 : Cond.fieldLink RX6 228 RX6 (TX6 94).2.1 (TX6 94).2.2.1 ∈ lw_all := q1776
theorem fl_95 : Cond.fieldLink RX6 338 RX6 (TX6 95).2.1 (TX6 95).2.2.1 ∈ lw_all := q1777
theorem pf_95 : parseFieldDescriptor (TX6 95).2.2.1 = some .int := by decide +kernel
theorem fl_96 : Cond.fieldLink RX6 231 RX6 (TX6 96).2.1 (TX6 96).2.2.1 ∈ lw_all := q1778
theorem fl_97 : Cond.fieldLink RX6 341 RX6 (TX6 97).2.1 (TX6 97).2.2.1 ∈ lw_all := q1779
theorem pf_97 : parseFieldDescriptor (TX6 97).2.2.1 = some .int := by decide +kernel
theorem fl_98 : Cond.fieldLink RX6 344 RX6 (TX6 98).2.1 (TX6 98).2.2.1 ∈ lw_all := q1780
theorem pf_98 : parseFieldDescriptor (TX6 98).2.2.1 = some .int := by decide +kernel
theorem fl_99 : Cond.fieldLink RX6 347 RX6 (TX6 99).2.1 (TX6 99).2.2.1 ∈ lw_all := q1781
theorem pf_99 : parseFieldDescriptor (TX6 99).2.2.1 = some .int := by decide +kernel
theorem fl_100 : Cond.fieldLink RX6 234 RX6 (TX6 100).2.1 (TX6 100).2.2.1 ∈ lw_all := q1782
theorem fl_101 : Cond.fieldLink RX6 422 RX6 (TX6 101).2.1 (TX6 101).2.2.1 ∈ lw_all := q1783
theorem pf_101 : parseFieldDescriptor (TX6 101).2.2.1 = some .int := by decide +kernel
theorem fl_102 : Cond.fieldLink RX6 648 RX6 (TX6 102).2.1 (TX6 102).2.2.1 ∈ lw_all := q1784
theorem pf_102 : parseFieldDescriptor (TX6 102).2.2.1 = some .long := by decide +kernel
theorem fl_103 : Cond.fieldLink RX6 651 RX6 (TX6 103).2.1 (TX6 103).2.2.1 ∈ lw_all := q1785
theorem pz_103 : parseFieldDescriptor (TX6 103).2.2.1 = some .boolean := by decide +kernel
theorem fl_104 : Cond.fieldLink RX6 237 RX6 (TX6 104).2.1 (TX6 104).2.2.1 ∈ lw_all := q1786
theorem fl_105 : Cond.fieldLink RX6 667 RX6 (TX6 105).2.1 (TX6 105).2.2.1 ∈ lw_all := q1787
theorem pf_105 : parseFieldDescriptor (TX6 105).2.2.1 = some .int := by decide +kernel
