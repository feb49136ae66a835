/-! THE COMPONENT'S WORLD: an abstract heap by numbers, its classes and arrays, the constants -/
set_option maxRecDepth 100000
def TX17 : u_T := fun _ => ("", "", "", false)
def cCL : List vw_C := [(RX0, TX0, 25), (RX1, TX1, 15), (RX2, TX2, 8), (RX3, TX3, 8), (RX4, TX4, 1), (RX5, TX5, 11), (RX7, TX7, 4), (RX9, TX9, 2), (RX10, TX10, 3), (RX11, TX11, 1), (RX12, TX12, 1), (RX13, TX13, 3), (RX15, TX15, 2), (RX16, TX16, 1), (RX17, TX17, 0), (RX18, TX18, 3), (RX19, TX19, 5), (RJ2, TJ2, 3), (RJ6, TJ6, 4), (RJ15, TJ15, 4), (RX6, TX6, 106)]
def ctyL : List (List Nat) := [[2, 2, 0, 0, 0, 2, 2, 2, 2, 2, 2, 2, 2, 2, 2, 0, 2, 2, 2, 2, 0, 1, 0, 2, 0], [0, 0, 0, 0, 0, 0, 2, 2, 2, 2, 2, 2, 2, 2, 2], [2, 0, 0, 0, 0, 0, 2, 2], [2, 2, 2, 2, 2, 0, 0, 0], [2], [0, 0, 2, 2, 2, 2, 2, 2, 0, 2, 2], [2, 0, 0, 0], [2, 2], [0, 2, 2], [1], [0], [0, 2, 2], [2, 0], [2], [], [2, 2, 0], [0, 2, 2, 1, 0], [0, 2, 0], [2, 0, 0, 0], [2, 0, 0, 0], [2, 0, 0, 0, 0, 0, 0, 0, 0, 2, 0, 2, 2, 2, 2, 2, 2, 2, 2, 2, 2, 2, 2, 2, 2, 2, 2, 2, 2, 2, 2, 2, 2, 2, 2, 2, 2, 2, 2, 0, 2, 2, 2, 2, 2, 2, 2, 0, 0, 2, 2, 2, 0, 0, 0, 0, 2, 2, 0, 0, 0, 0, 0, 2, 2, 0, 2, 2, 2, 0, 0, 1, 2, 2, 2, 2, 2, 2, 2, 2, 2, 2, 2, 2, 2, 2, 2, 2, 2, 2, 2, 2, 2, 2, 2, 0, 2, 0, 0, 0, 2, 0, 1, 0, 2, 0]]
def cTY (ac : Nat → ClassId) : List (ClassId × FieldType) := [(ac 31, .int), (ac 32, .long), (ac 33, .byte), (ac 34, .char), (ac 35, .boolean), (ac 36, .array .int), (ac 37, .array .boolean), (ac 38, .object "MarginFolk$State"), (ac 39, .object "java/lang/Object"), (ac 40, .object "java/lang/String")]
def ksL : List (List Int32) := [[102, 111, 108, 105, 111], [99, 101, 108, 108, 115], [103, 108, 111, 115, 115], [119, 111, 114, 109], [98, 101, 105, 110, 103], [111, 110], [97, 116], [116, 114, 97, 100, 101], [111, 112, 101, 110, 115], [99, 111, 114, 110], [116, 111, 108, 108], [115, 116, 101, 112, 115], [116, 104, 117, 109, 98], [100, 97, 121], [108, 101, 97, 102], [99, 101, 108, 108], [112, 117, 114, 115, 101], [111, 112, 101, 110], [111, 116, 104, 101, 114], [110, 117, 109, 98, 101, 114], [109, 101, 116], [109, 101, 101, 116, 115], [111, 114], [97, 110, 100], [110, 111, 116], [97, 108, 108], [109, 105, 110], [109, 97, 120], [102, 105, 114, 115, 116], [108, 97, 115, 116], [111, 102, 116, 101, 110], [116, 111, 116, 97, 108], [109, 111, 115, 116], [108, 101, 97, 115, 116]]
def khL : List Int32 := [97613097, 94544721, 98450442, 3655443, 93618367, 3551, 3123, 110621028, 105948009, 3059624, 3565883, 109761319, 110342614, 99228, 3317598, 3049826, 107033119, 3417674, 106069776, (-1034364087), 107996, 103773452, 3555, 96727, 109267, 96673, 108114, 107876, 97440432, 3314326, 105664230, 110549828, 3357571, 102846057]
def kaL : List (List Nat) := [[0, 1, 2, 3, 4, 5, 6, 7, 8, 9, 10, 11, 12, 13, 14, 15, 16, 17, 18, 19, 20, 21, 22, 23, 24, 25, 26, 27], [13, 14, 15, 7, 16, 17, 18, 19, 20], [21], [28, 29, 30, 31, 32, 33]]
abbrev AH : Type := (Nat × Nat) × (Nat → Nat) × (Nat → Nat) × (Nat → Nat → Nat → Int32) × (Nat → Nat → Nat → Int64) × (Nat → Nat → Nat → Option Nat)
def aN (A : AH) : Nat := A.1.1
def aS (A : AH) : Nat := A.1.2
def aK (A : AH) : Nat → Nat := A.2.1
def aL (A : AH) : Nat → Nat := A.2.2.1
def aI (A : AH) : Nat → Nat → Nat → Int32 := A.2.2.2.1
def aJ (A : AH) : Nat → Nat → Nat → Int64 := A.2.2.2.2.1
def aR (A : AH) : Nat → Nat → Nat → Option Nat := A.2.2.2.2.2
def up3 {α : Type} (g : Nat → Nat → Nat → α) (f i j : Nat) (v : α) : Nat → Nat → Nat → α := fun f' i' j' => if f' = f ∧ i' = i ∧ j' = j then v else g f' i' j'
def wI (A : AH) (f i j : Nat) (v : Int32) : AH := (A.1, A.2.1, A.2.2.1, up3 A.2.2.2.1 f i j v, A.2.2.2.2.1, A.2.2.2.2.2)
def wJ (A : AH) (f i j : Nat) (v : Int64) : AH := (A.1, A.2.1, A.2.2.1, A.2.2.2.1, up3 A.2.2.2.2.1 f i j v, A.2.2.2.2.2)
def wR (A : AH) (f i j : Nat) (v : Option Nat) : AH := (A.1, A.2.1, A.2.2.1, A.2.2.2.1, A.2.2.2.2.1, up3 A.2.2.2.2.2 f i j v)
def CB : Nat := 1000000
def cty (c : Nat) : List Nat := ctyL.getD (c - 1) []
def cfv (ad : Nat → Nat) (A : AH) (f i t : Nat) : Value := if t = 0 then .int (aI A f i 0) else if t = 1 then .long (aJ A f i 0) else va_rf ((aR A f i 0).map ad)
def cfs (ad : Nat → Nat) (A : AH) (c i : Nat) : List Value := (List.range (cty c).length).map (fun k => cfv ad A (100 * c + k) i ((cty c).getD k 0))
def cco (ad : Nat → Nat) (A : AH) (c i : Nat) : (Nat → Int32) ⊕ (Nat → Int64) ⊕ (Nat → UInt32) ⊕ (Nat → UInt64) ⊕ (Nat → Option Nat) := if c = 32 then .inr (.inl (aJ A 32 i)) else if 36 ≤ c then .inr (.inr (.inr (.inr (fun j => (aR A c i j).map ad)))) else .inl (aI A c i)
def cce (ad : Nat → Nat) (ac : Nat → ClassId) (A : AH) (i : Nat) : va_E := if aK A i < 31 then .inr (aK A i - 1, cfs ad A (aK A i) i) else .inl (ac (aK A i), aL A i, cco ad A (aK A i) i)
def wC (ad : Nat → Nat) (ac : Nat → ClassId) (A : AH) : va_W := (List.range (aN A)).map (fun i => (ad i, cce ad ac A i))
def cF (ad : Nat → Nat) : Nat → Prop := fun q => ∃ i, i < CB ∧ q = ad i
/-! constants: the Strings from CB on, their bytes 40 further, the four static rows from CB + 80 on -/
def kC (i : Nat) : Nat := if i < CB then 0 else if i < CB + 34 then 19 else if CB + 40 ≤ i ∧ i < CB + 74 then 33 else if CB + 80 ≤ i ∧ i < CB + 84 then 40 else 0
def lC (i : Nat) : Nat := if i < CB + 74 then (ksL.getD (i - CB - 40) []).length else (kaL.getD (i - CB - 80) []).length
def iC (f i j : Nat) : Int32 := if f = 33 then (ksL.getD (i - CB - 40) []).getD j 0 else if f = 1902 then khL.getD (i - CB) 0 else 0
def rC (f i j : Nat) : Option Nat := if f = 1900 then some (i + 40) else if f = 40 then some (CB + (kaL.getD (i - CB - 80) []).getD j 0) else none
def CCT (A : AH) : Prop := ∀ i, CB ≤ i → aK A i = kC i ∧ aL A i = lC i ∧ (∀ f j, aI A f i j = iC f i j) ∧ ∀ f j, aR A f i j = rC f i j
/-! what stands from the component's making on -/
def isSt (j : Nat) : Prop := j = 16 ∨ j = 64 ∨ (140 ≤ j ∧ j < 1100 ∧ (j - 140) % 48 = 0)
def stO (j : Nat) : Nat := if j < 16 then 0 else if j < 112 then (j - 16) % 48 + 1 else if j < 140 then 0 else if j < 1100 then (j - 140) % 48 + 1 else 0
def stKs (d : Nat) : Nat := if d = 1 then 6 else if d = 7 then 36 else 31
def stLs (d : Nat) : Nat := if d = 1 then 0 else if d = 2 then 6 else if d = 7 then 40 else if 8 ≤ d ∧ d < 48 then 3 else 8
def stKL : List (Nat × Nat) := [(1, 0), (2, 0), (31, 6), (31, 12), (31, 12), (31, 12), (18, 0), (39, 4), (33, 1600), (3, 0), (4, 0), (5, 0), (32, 9), (5, 0), (32, 9), (31, 6)]
def stKM : List (Nat × Nat) := [(37, 6), (35, 8), (35, 8), (35, 8), (35, 8), (35, 8), (35, 8), (37, 6), (35, 8), (35, 8), (35, 8), (35, 8), (35, 8), (35, 8), (31, 16), (31, 16), (36, 8), (31, 8), (31, 8), (31, 8), (31, 8), (31, 8), (31, 8), (31, 8), (31, 8), (31, 8), (31, 8), (38, 20)]
def stK (i : Nat) : Nat := if stO i ≠ 0 then stKs (stO i) else if i < 16 then (stKL.getD i (0, 0)).1 else if i < 140 then (stKM.getD (i - 112) (0, 0)).1 else 33
def stLn (i : Nat) : Nat := if stO i ≠ 0 then stLs (stO i) else if i < 16 then (stKL.getD i (0, 0)).2 else if i < 140 then (stKM.getD (i - 112) (0, 0)).2 else 57
/-- what a final field f of the object i refers to -/
def srL : List (Nat × Nat) := [(101, 8), (105, 9), (106, 11), (107, 13), (108, 15), (109, 16), (110, 64), (113, 126), (114, 127), (116, 128), (117, 137), (118, 138), (119, 139), (123, 1100)]
def srS : List (Nat × Nat) := [(602, 1), (603, 2), (604, 3), (605, 4), (606, 5), (607, 6), (609, 47)]
def sref (f i : Nat) : Option Nat := if i = 0 then srL.lookup f else if i = 9 then (if f = 300 then some 10 else if f = 307 then some 0 else none) else if i = 11 then (if f = 500 then some 12 else none) else if i = 13 then (if f = 500 then some 14 else none) else if stO i = 1 then (if f = 610 then some 0 else (srS.lookup f).map (fun d => i + d)) else none
/-- the keys of those fields -/
def skey (f : Nat) : Bool := [101, 105, 106, 107, 108, 109, 110, 113, 114, 116, 117, 118, 119, 123, 300, 307, 500, 602, 603, 604, 605, 606, 607, 609, 610].contains f
def CST (A : AH) : Prop := 1101 ≤ aN A ∧ (∀ i, i < 1101 → aK A i = stK i ∧ aL A i = stLn i) ∧ ∀ i f t, i < 1101 → sref f i = some t → aR A f i 0 = some t
def cW (dC : Nat → ClassId) (dI : Nat → Nat → Nat) (ac : Nat → ClassId) (ad : Nat → Nat) (b : Prop) (A : AH) (H : Heap) : Prop :=
  va_P (dC, dI) cCL (wC ad ac A) H ∧ va_D (cF ad) (wC ad ac A) ∧ (∀ j, aN A + j < CB → ad (aN A + j) = H.size + j) ∧ (∀ i, aN A ≤ i → i < CB → aK A i = 0) ∧ aN A ≤ CB ∧ (b → CST A) ∧ CCT A
/-! simp rows of the abstract heap -/
theorem aN_wI (A : AH) (f i j : Nat) (v : Int32) : aN (wI A f i j v) = aN A := rfl
theorem aS_wI (A : AH) (f i j : Nat) (v : Int32) : aS (wI A f i j v) = aS A := rfl
theorem aK_wI (A : AH) (f i j : Nat) (v : Int32) : aK (wI A f i j v) = aK A := rfl
theorem aL_wI (A : AH) (f i j : Nat) (v : Int32) : aL (wI A f i j v) = aL A := rfl
theorem aJ_wI (A : AH) (f i j : Nat) (v : Int32) : aJ (wI A f i j v) = aJ A := rfl
theorem aR_wI (A : AH) (f i j : Nat) (v : Int32) : aR (wI A f i j v) = aR A := rfl
theorem aN_wJ (A : AH) (f i j : Nat) (v : Int64) : aN (wJ A f i j v) = aN A := rfl
theorem aS_wJ (A : AH) (f i j : Nat) (v : Int64) : aS (wJ A f i j v) = aS A := rfl
theorem aK_wJ (A : AH) (f i j : Nat) (v : Int64) : aK (wJ A f i j v) = aK A := rfl
theorem aL_wJ (A : AH) (f i j : Nat) (v : Int64) : aL (wJ A f i j v) = aL A := rfl
theorem aI_wJ (A : AH) (f i j : Nat) (v : Int64) : aI (wJ A f i j v) = aI A := rfl
theorem aR_wJ (A : AH) (f i j : Nat) (v : Int64) : aR (wJ A f i j v) = aR A := rfl
theorem aN_wR (A : AH) (f i j : Nat) (v : Option Nat) : aN (wR A f i j v) = aN A := rfl
theorem aS_wR (A : AH) (f i j : Nat) (v : Option Nat) : aS (wR A f i j v) = aS A := rfl
theorem aK_wR (A : AH) (f i j : Nat) (v : Option Nat) : aK (wR A f i j v) = aK A := rfl
theorem aL_wR (A : AH) (f i j : Nat) (v : Option Nat) : aL (wR A f i j v) = aL A := rfl
theorem aI_wR (A : AH) (f i j : Nat) (v : Option Nat) : aI (wR A f i j v) = aI A := rfl
theorem aJ_wR (A : AH) (f i j : Nat) (v : Option Nat) : aJ (wR A f i j v) = aJ A := rfl
theorem aI_wI (A : AH) (f i j : Nat) (v : Int32) (f' i' j' : Nat) : aI (wI A f i j v) f' i' j' = if f' = f ∧ i' = i ∧ j' = j then v else aI A f' i' j' := rfl
theorem aJ_wJ (A : AH) (f i j : Nat) (v : Int64) (f' i' j' : Nat) : aJ (wJ A f i j v) f' i' j' = if f' = f ∧ i' = i ∧ j' = j then v else aJ A f' i' j' := rfl
theorem aR_wR (A : AH) (f i j : Nat) (v : Option Nat) (f' i' j' : Nat) : aR (wR A f i j v) f' i' j' = if f' = f ∧ i' = i ∧ j' = j then v else aR A f' i' j' := rfl
/-! the list of cells -/
theorem wC_at (ad : Nat → Nat) (ac : Nat → ClassId) (A : AH) {i : Nat} (h : i < aN A) : (wC ad ac A)[i]? = some (ad i, cce ad ac A i) := by simp [wC, h]
theorem wC_set (ad : Nat → Nat) (ac : Nat → ClassId) (A A' : AH) (i : Nat) (hn : aN A' = aN A) (ho : ∀ j, j ≠ i → cce ad ac A' j = cce ad ac A j) : (wC ad ac A).set i (ad i, cce ad ac A' i) = wC ad ac A' := by
  apply List.ext_getElem?
  intro j
  rw [List.getElem?_set]
  by_cases hj : i = j
  · subst hj
    by_cases h : i < aN A
    · rw [if_pos rfl, if_pos (by simp [wC, h]), wC_at ad ac A' (by rw [hn]; exact h)]
    · rw [if_pos rfl, if_neg (by simp [wC, h]), List.getElem?_eq_none (by simp [wC, hn]; omega)]
  · rw [if_neg hj]
    by_cases h : j < aN A
    · rw [wC_at ad ac A h, wC_at ad ac A' (by rw [hn]; exact h), ho j (fun e => hj e.symm)]
    · rw [List.getElem?_eq_none (by simp [wC]; omega), List.getElem?_eq_none (by simp [wC, hn]; omega)]
theorem cfs_at (ad : Nat → Nat) (A : AH) (c i : Nat) {k t : Nat} (h : (cty c)[k]? = some t) : (cfs ad A c i)[k]? = some (cfv ad A (100 * c + k) i t) := by
  have h1 : k < (cty c).length := (List.getElem?_eq_some_iff.mp h).1
  simp only [cfs, List.getElem?_map, List.getElem?_range h1, Option.map_some, List.getD_eq_getElem?_getD, h, Option.getD_some]
theorem cfs_len (ad : Nat → Nat) (A : AH) (c i : Nat) : (cfs ad A c i).length = (cty c).length := by simp [cfs]
theorem cfs_set (ad : Nat → Nat) (A A' : AH) (c i : Nat) {k t : Nat} (h : (cty c)[k]? = some t) (v : Value) (hv : cfv ad A' (100 * c + k) i t = v) (ho : ∀ k' t', k' ≠ k → cfv ad A' (100 * c + k') i t' = cfv ad A (100 * c + k') i t') : (cfs ad A c i).set k v = cfs ad A' c i := by
  have h1 : k < (cty c).length := (List.getElem?_eq_some_iff.mp h).1
  apply List.ext_getElem?
  intro j
  rw [List.getElem?_set]
  by_cases hj : k = j
  · subst hj
    rw [if_pos rfl, if_pos (by rw [cfs_len]; exact h1), cfs_at ad A' c i h, hv]
  · rw [if_neg hj]
    by_cases h2 : j < (cty c).length
    · rw [cfs_at ad A c i (List.getElem?_eq_getElem h2), cfs_at ad A' c i (List.getElem?_eq_getElem h2), ho j _ (fun e => hj e.symm)]
    · rw [List.getElem?_eq_none (by rw [cfs_len]; omega), List.getElem?_eq_none (by rw [cfs_len]; omega)]
/-- a class of the component's world: its place, its field words, its field types, its field names -/
def CI (c : Nat) (C : String) (T : u_T) (N : Nat) (ty : Nat → FieldType) : Prop :=
  cCL[c - 1]? = some (C, T, N) ∧ (∀ w ∈ u_ws C T N, w ∈ lw_all) ∧ (∀ k, k < N → parseFieldDescriptor (T k).2.2.1 = some (ty k)) ∧ (∀ a, a < N → ∀ b, b < N → a ≠ b → (T a).2.1 ≠ (T b).2.1) ∧ (cty c).length = N ∧ (0 < c ∧ c < 31)
theorem ci_1 : CI 1 RX0 TX0 25 tyX0 := ⟨rfl, in_X0, tyX0_ok, nmX0, rfl, by decide⟩
theorem ci_2 : CI 2 RX1 TX1 15 tyX1 := ⟨rfl, in_X1, tyX1_ok, nmX1, rfl, by decide⟩
theorem ci_3 : CI 3 RX2 TX2 8 tyX2 := ⟨rfl, in_X2, tyX2_ok, nmX2, rfl, by decide⟩
theorem ci_4 : CI 4 RX3 TX3 8 tyX3 := ⟨rfl, in_X3, tyX3_ok, nmX3, rfl, by decide⟩
theorem ci_5 : CI 5 RX4 TX4 1 tyX4 := ⟨rfl, in_X4, tyX4_ok, nmX4, rfl, by decide⟩
theorem ci_6 : CI 6 RX5 TX5 11 tyX5 := ⟨rfl, in_X5, tyX5_ok, nmX5, rfl, by decide⟩
theorem ci_7 : CI 7 RX7 TX7 4 tyX7 := ⟨rfl, in_X7, tyX7_ok, nmX7, rfl, by decide⟩
theorem ci_8 : CI 8 RX9 TX9 2 tyX9 := ⟨rfl, in_X9, tyX9_ok, nmX9, rfl, by decide⟩
theorem ci_9 : CI 9 RX10 TX10 3 tyX10 := ⟨rfl, in_X10, tyX10_ok, nmX10, rfl, by decide⟩
theorem ci_10 : CI 10 RX11 TX11 1 tyX11 := ⟨rfl, in_X11, tyX11_ok, nmX11, rfl, by decide⟩
theorem ci_11 : CI 11 RX12 TX12 1 tyX12 := ⟨rfl, in_X12, tyX12_ok, nmX12, rfl, by decide⟩
theorem ci_12 : CI 12 RX13 TX13 3 tyX13 := ⟨rfl, in_X13, tyX13_ok, nmX13, rfl, by decide⟩
theorem ci_13 : CI 13 RX15 TX15 2 tyX15 := ⟨rfl, in_X15, tyX15_ok, nmX15, rfl, by decide⟩
theorem ci_14 : CI 14 RX16 TX16 1 tyX16 := ⟨rfl, in_X16, tyX16_ok, nmX16, rfl, by decide⟩
theorem ci_15 : CI 15 RX17 TX17 0 (fun _ => .int) := ⟨rfl, (by intro w h; cases h), (by intro k h; omega), (by intro a h; omega), rfl, (by decide)⟩
theorem ci_16 : CI 16 RX18 TX18 3 tyX18 := ⟨rfl, in_X18, tyX18_ok, nmX18, rfl, by decide⟩
theorem ci_17 : CI 17 RX19 TX19 5 tyX19 := ⟨rfl, in_X19, tyX19_ok, nmX19, rfl, by decide⟩
theorem ci_18 : CI 18 RJ2 TJ2 3 tyJ2 := ⟨rfl, in_J2, tyJ2_ok, nmJ2, rfl, by decide⟩
theorem ci_19 : CI 19 RJ6 TJ6 4 tyJ6 := ⟨rfl, in_J6, tyJ6_ok, nmJ6, rfl, by decide⟩
theorem ci_20 : CI 20 RJ15 TJ15 4 tyJ15 := ⟨rfl, in_J15, tyJ15_ok, nmJ15, rfl, by decide⟩
theorem ci_21 : CI 21 RX6 TX6 106 tyX6 := ⟨rfl, in_X6, tyX6_ok, nmX6, rfl, by decide⟩
