/-! PURE LEVEL: what a sum or a test tells, as objects and as codes -/
set_option maxRecDepth 100000
abbrev En : Type := Nat → Int64
abbrev Gv : Type := (Nat → Int64) → (Int64 → Int64) → Int64
def hld (x : Int64) : Int64 := if x ≤ 1000000 then (if (-1000000) ≤ x then x else (-1000000)) else 1000000
def fdv (a b : Int64) : Int64 := if b = 0 then 0 else if 0 ≤ (a ^^^ b) then a / b else if (a / b) * b = a then a / b else a / b - 1
def mfl (a b : Int64) : Int64 := if b = 0 then 0 else if (a - a / b * b) = 0 then a / b else if 0 ≤ a then (if 0 ≤ b then a / b else a / b - 1) else (if 0 ≤ b then a / b - 1 else a / b)
def two (s : Int32) (a b : Int64) : Int64 := if s = 42 then a * b else if s = 43 then a + b else if s = 45 then a - b else fdv a b
theorem hld_bd (x : Int64) : -1000000 ≤ hld x ∧ hld x ≤ 1000000 := by
  unfold hld
  split
  · split
    · constructor <;> assumption
    · decide
  · decide
theorem hld_id {x : Int64} (h : -1000000 ≤ x ∧ x ≤ 1000000) : hld x = x := by
  unfold hld
  rw [if_pos h.2, if_pos h.1]
theorem X0_held_eq (x : Int64) : X0_held x = some (hld x) := by
  unfold X0_held J12_min_2 J12_max_2 hld
  by_cases h1 : x < 1000000
  · have h1' : x ≤ 1000000 := Int64.le_of_lt h1
    rw [if_pos h1, bo_some, if_pos h1']
    by_cases h2 : (-1000000) < x
    · rw [if_pos h2, bo_some, if_pos (Int64.le_of_lt h2)]
    · rw [if_neg h2, bo_some]
      by_cases h3 : (-1000000) ≤ x
      · rw [if_pos h3, Int64.le_antisymm h3 (Int64.not_lt.mp h2)]
      · rw [if_neg h3]
  · have h4 : 1000000 ≤ x := Int64.not_lt.mp h1
    rw [if_neg h1, bo_some, if_pos (by decide), bo_some]
    by_cases h3 : x ≤ 1000000
    · rw [if_pos h3, if_pos (Int64.le_trans (by decide) h4), Int64.le_antisymm h3 h4]
    · rw [if_neg h3]
theorem M_qClip_eq (x : Int64) : M_qClip x = some (hld x) := by
  unfold M_qClip hld
  split
  · split <;> rfl
  · rfl
theorem M_qFloor_eq (a b : Int64) : M_qFloor a b = some (mfl a b) := by
  unfold M_qFloor mfl
  by_cases h : b = 0
  · rw [if_pos h, if_pos h]
  · rw [if_neg h, if_pos h, if_pos h, if_neg h]
    split
    · rfl
    · unfold M_qFloor_b32 M_qFloor_b43
      split <;> split <;> rfl
theorem X9_two_eq (s : Int32) (a b : Int64) : X9_two s a b = some (two s a b) := by
  have hf : X9_two_b44 s a b = some (fdv a b) := by
    unfold X9_two_b44 J12_floorDiv fdv
    by_cases h : b = 0
    · rw [if_pos h, if_pos h]
    · rw [if_neg h, if_neg h, if_pos h]
      split
      · rfl
      · split <;> rfl
  unfold X9_two two
  by_cases h1 : s = 42
  · rw [if_pos h1, if_pos h1]
  · rw [if_neg h1, if_neg h1]
    by_cases h2 : s = 43
    · rw [if_pos h2, if_pos h2]
    · rw [if_neg h2, if_neg h2]
      by_cases h3 : s = 44
      · rw [if_pos h3, hf, if_neg (by rw [h3]; decide)]
      · rw [if_neg h3]
        by_cases h4 : s = 45
        · rw [if_pos h4, if_pos h4]
        · rw [if_neg h4, if_neg h4, hf]
theorem xor_sign (a b : Int64) : 0 ≤ (a ^^^ b) ↔ (0 ≤ a ↔ 0 ≤ b) := by
  have key : ∀ x : Int64, 0 ≤ x ↔ x.toBitVec.msb = false := by
    intro x
    rw [Int64.le_iff_toInt_le, show (0 : Int64).toInt = 0 from rfl, ← Int64.toInt_toBitVec, BitVec.msb_eq_toInt]
    simp
  rw [key, key, key, Int64.toBitVec_xor, BitVec.msb_xor]
  cases a.toBitVec.msb <;> cases b.toBitVec.msb <;> simp
theorem fdv_mfl (a b : Int64) : fdv a b = mfl a b := by
  unfold fdv mfl
  have hs := xor_sign a b
  have hx : (a - a / b * b) = 0 ↔ a / b * b = a := by
    constructor
    · intro h
      have h2 : a - a / b * b + a / b * b = 0 + a / b * b := by rw [h]
      rw [Int64.sub_add_cancel, Int64.zero_add] at h2
      exact h2.symm
    · intro h; rw [h]; exact Int64.sub_self a
  by_cases h0 : b = 0
  · rw [if_pos h0, if_pos h0]
  · rw [if_neg h0, if_neg h0]
    by_cases h1 : a / b * b = a
    · rw [if_pos (hx.mpr h1), if_pos h1]
      split <;> rfl
    · rw [if_neg (fun h => h1 (hx.mp h)), if_neg h1]
      by_cases ha : 0 ≤ a
      · by_cases hb : 0 ≤ b
        · rw [if_pos (hs.mpr ⟨fun _ => hb, fun _ => ha⟩), if_pos ha, if_pos hb]
        · rw [if_neg (fun q => hb ((hs.mp q).mp ha)), if_pos ha, if_neg hb]
      · by_cases hb : 0 ≤ b
        · rw [if_neg (fun q => ha ((hs.mp q).mpr hb)), if_neg ha, if_pos hb]
        · rw [if_pos (hs.mpr ⟨fun q => absurd q ha, fun q => absurd q hb⟩), if_neg ha, if_neg hb]
theorem mfl_bd {a b : Int64} (h : -1000000 ≤ a ∧ a ≤ 1000000) : -1000000 ≤ mfl a b ∧ mfl a b ≤ 1000000 := by
  have ha1 : -1000000 ≤ a.toInt := Int64.le_iff_toInt_le.mp h.1
  have ha2 : a.toInt ≤ 1000000 := Int64.le_iff_toInt_le.mp h.2
  by_cases h0 : b = 0
  · unfold mfl; rw [if_pos h0]; decide
  have hb0 : b.toInt ≠ 0 := fun q => h0 (Int64.toInt_inj.mp (by rw [q]; rfl))
  have hq : (a / b).toInt = a.toInt.tdiv b.toInt := by
    apply Int64.toInt_div_of_ne_left
    intro q
    rw [q] at ha1
    exact absurd ha1 (by decide)
  have hn : (a.toInt.tdiv b.toInt).natAbs = a.toInt.natAbs / b.toInt.natAbs := Int.natAbs_tdiv ..
  have hle : a.toInt.natAbs / b.toInt.natAbs ≤ a.toInt.natAbs := Nat.div_le_self ..
  have c1 : -1000000 ≤ a / b ∧ a / b ≤ 1000000 := by
    rw [Int64.le_iff_toInt_le, Int64.le_iff_toInt_le, hq, show ((-1000000 : Int64)).toInt = -1000000 from rfl, show ((1000000 : Int64)).toInt = 1000000 from rfl]
    omega
  by_cases h1 : (a - a / b * b) = 0
  · unfold mfl; rw [if_neg h0, if_pos h1]; exact c1
  have hb2 : 2 ≤ b.toInt.natAbs := by
    rcases Nat.lt_or_ge b.toInt.natAbs 2 with q | q
    · exfalso
      apply h1
      have q1 : b.toInt = 1 ∨ b.toInt = -1 := by omega
      apply Int64.toInt_inj.mp
      rcases q1 with q1 | q1
      · rw [Int64.toInt_sub, Int64.toInt_mul, hq, q1, Int.tdiv_one]
        simp
      · rw [Int64.toInt_sub, Int64.toInt_mul, hq, q1, Int.tdiv_neg, Int.tdiv_one]
        simp
    · exact q
  have hh : a.toInt.natAbs / b.toInt.natAbs ≤ 500000 := by
    refine Nat.le_trans (Nat.div_le_div_left hb2 (by decide)) ?_
    omega
  have c2 : -1000000 ≤ a / b - 1 ∧ a / b - 1 ≤ 1000000 := by
    have hs : (a / b - 1).toInt = (a / b).toInt - 1 := by
      rw [Int64.toInt_sub, show ((1 : Int64)).toInt = 1 from rfl]
      apply Int.bmod_eq_of_le <;> omega
    rw [Int64.le_iff_toInt_le, Int64.le_iff_toInt_le, hs, hq, show ((-1000000 : Int64)).toInt = -1000000 from rfl, show ((1000000 : Int64)).toInt = 1000000 from rfl]
    omega
  unfold mfl
  rw [if_neg h0, if_neg h1]
  split
  · split
    · exact c1
    · exact c2
  · split
    · exact c2
    · exact c1
theorem hld_fdv {a b : Int64} (h : -1000000 ≤ a ∧ a ≤ 1000000) : hld (fdv a b) = mfl a b := by
  rw [fdv_mfl, hld_id (mfl_bd h)]
/-! codes -/
def jn (c : Int32) (a b : Int64) : Int64 := if c = 1 then hld (a + b) else if c = 2 then hld (a - b) else if c = 3 then hld (a * b) else if c = 4 then mfl a b else if c = 5 then (if b ≤ a then b else a) else if c = 6 then (if a ≤ b then b else a) else if c = 7 then (if b ≤ a then 0 else 1) else if c = 8 then (if a ≤ b then 0 else 1) else if c = 9 then (if a = b then 1 else 0) else if c = 10 then a * b else (if (a + b) ≤ 0 then 0 else 1)
def cstp (e : En) (lk : Int64 → Int64) (c : Int32) (st : List Int64) : Option (List Int64) :=
  if c < 1000 then (if c < 60 then (if c < 40 then (if c = 13 then some (1 :: st) else if c = 12 then (match st with
    | x :: r => some ((1 - x) :: r)
    | [] => none) else (match st with
    | b :: a :: r => some (jn c a b :: r)
    | _ => none)) else some (e (c - 40).toNatClampNeg :: st)) else (match st with
    | x :: r => some (hld (lk x) :: r)
    | [] => none)) else some ((c - 1000).toInt64 :: st)
def crun (e : En) (lk : Int64 → Int64) : List Int32 → List Int64 → Option (List Int64)
  | [], st => some st
  | c :: cs, st => bo (cstp e lk c st) (crun e lk cs)
theorem crun_app (e : En) (lk : Int64 → Int64) (a b : List Int32) (st : List Int64) : crun e lk (a ++ b) st = bo (crun e lk a st) (crun e lk b) := by
  induction a generalizing st with
  | nil => rfl
  | cons c cs ih =>
    show bo (cstp e lk c st) (crun e lk (cs ++ b)) = bo (bo (cstp e lk c st) (crun e lk cs)) (crun e lk b)
    cases cstp e lk c st with
    | none => rfl
    | some s => exact ih s
/-- the parts that may be asked, as bits -/
def cx (μ k : Nat) : Prop := Nat.testBit μ k = true
def BE (μ : Nat) (e : En) : Prop := ∀ k, cx μ k → -1000000 ≤ e k ∧ e k ≤ 1000000
/-- codes cs tell g; q: whether 'meets' may be asked -/
def Den (q : Bool) (μ : Nat) (cs : List Int32) (g : Gv) : Prop :=
  (∀ e lk st, BE μ e → crun e lk cs st = some (g e lk :: st)) ∧
  (∀ e lk, BE μ e → -1000000 ≤ g e lk ∧ g e lk ≤ 1000000) ∧
  (q = false → ∀ c ∈ cs, c < 60 ∨ 1000 ≤ c) ∧
  (∀ c ∈ cs, c < 40 ∨ (∃ k, k < 9 ∧ cx μ k ∧ c = nn (40 + k)) ∨ 60 ≤ c)
theorem Den.run {q : Bool} {μ : Nat} {cs : List Int32} {g : Gv} (h : Den q μ cs g) : ∀ e lk st, BE μ e → crun e lk cs st = some (g e lk :: st) := h.1
theorem Den.bd {q : Bool} {μ : Nat} {cs : List Int32} {g : Gv} (h : Den q μ cs g) : ∀ e lk, BE μ e → -1000000 ≤ g e lk ∧ g e lk ≤ 1000000 := h.2.1
theorem Den.nl {q : Bool} {μ : Nat} {cs : List Int32} {g : Gv} (h : Den q μ cs g) : q = false → ∀ c ∈ cs, c < 60 ∨ 1000 ≤ c := h.2.2.1
theorem Den.pt {q : Bool} {μ : Nat} {cs : List Int32} {g : Gv} (h : Den q μ cs g) : ∀ c ∈ cs, c < 40 ∨ (∃ k, k < 9 ∧ cx μ k ∧ c = nn (40 + k)) ∨ 60 ≤ c := h.2.2.2
theorem Den.mk {q : Bool} {μ : Nat} {cs : List Int32} {g : Gv} (h_run : ∀ e lk st, BE μ e → crun e lk cs st = some (g e lk :: st)) (h_bd : ∀ e lk, BE μ e → -1000000 ≤ g e lk ∧ g e lk ≤ 1000000) (h_nl : q = false → ∀ c ∈ cs, c < 60 ∨ 1000 ≤ c) (h_pt : ∀ c ∈ cs, c < 40 ∨ (∃ k, k < 9 ∧ cx μ k ∧ c = nn (40 + k)) ∨ 60 ≤ c) : Den q μ cs g := ⟨h_run, h_bd, h_nl, h_pt⟩
/-- the same for a test: 0 or 1 -/
def Tv (g : Gv) : Prop := ∀ e lk, g e lk = 0 ∨ g e lk = 1
/-! objects -/
def LR (A : AH) (F : Nat → Prop) (li : Nat) (ids : List Nat) : Prop :=
  (F li) ∧
  (aK A li = 18) ∧
  (aI A 1802 li 0 = nn ids.length) ∧
  (∃ ar, aR A 1801 li 0 = some ar ∧ F ar ∧ aK A ar = 39 ∧ ids.length ≤ aL A ar ∧ aL A ar < 5000 ∧ ∀ i v, ids[i]? = some v → aR A 39 ar i = some v)
theorem LR.own {A : AH} {F : Nat → Prop} {li : Nat} {ids : List Nat} (h : LR A F li ids) : F li := h.1
theorem LR.kd {A : AH} {F : Nat → Prop} {li : Nat} {ids : List Nat} (h : LR A F li ids) : aK A li = 18 := h.2.1
theorem LR.len {A : AH} {F : Nat → Prop} {li : Nat} {ids : List Nat} (h : LR A F li ids) : aI A 1802 li 0 = nn ids.length := h.2.2.1
theorem LR.ar {A : AH} {F : Nat → Prop} {li : Nat} {ids : List Nat} (h : LR A F li ids) : ∃ ar, aR A 1801 li 0 = some ar ∧ F ar ∧ aK A ar = 39 ∧ ids.length ≤ aL A ar ∧ aL A ar < 5000 ∧ ∀ i v, ids[i]? = some v → aR A 39 ar i = some v := h.2.2.2
theorem LR.mk {A : AH} {F : Nat → Prop} {li : Nat} {ids : List Nat} (h_own : F li) (h_kd : aK A li = 18) (h_len : aI A 1802 li 0 = nn ids.length) (h_ar : ∃ ar, aR A 1801 li 0 = some ar ∧ F ar ∧ aK A ar = 39 ∧ ids.length ≤ aL A ar ∧ aL A ar < 5000 ∧ ∀ i v, ids[i]? = some v → aR A 39 ar i = some v) : LR A F li ids := ⟨h_own, h_kd, h_len, h_ar⟩
def sgn (s : Int32) : Prop := s = 42 ∨ s = 43 ∨ s = 45 ∨ s = 47
def SBR (A : AH) (F : Nat → Prop) (sb : Nat) (ss : List Int32) : Prop :=
  (F sb) ∧
  (aK A sb = 20) ∧
  (aI A 2001 sb 0 = 0) ∧
  (aI A 2003 sb 0 = nn ss.length) ∧
  (∃ ar, aR A 2000 sb 0 = some ar ∧ F ar ∧ aK A ar = 33 ∧ ar < CB ∧ ss.length ≤ aL A ar ∧ aL A ar < 5000 ∧ ∀ i v, ss[i]? = some v → aI A 33 ar i = v)
theorem SBR.own {A : AH} {F : Nat → Prop} {sb : Nat} {ss : List Int32} (h : SBR A F sb ss) : F sb := h.1
theorem SBR.kd {A : AH} {F : Nat → Prop} {sb : Nat} {ss : List Int32} (h : SBR A F sb ss) : aK A sb = 20 := h.2.1
theorem SBR.cod {A : AH} {F : Nat → Prop} {sb : Nat} {ss : List Int32} (h : SBR A F sb ss) : aI A 2001 sb 0 = 0 := h.2.2.1
theorem SBR.len {A : AH} {F : Nat → Prop} {sb : Nat} {ss : List Int32} (h : SBR A F sb ss) : aI A 2003 sb 0 = nn ss.length := h.2.2.2.1
theorem SBR.ar {A : AH} {F : Nat → Prop} {sb : Nat} {ss : List Int32} (h : SBR A F sb ss) : ∃ ar, aR A 2000 sb 0 = some ar ∧ F ar ∧ aK A ar = 33 ∧ ar < CB ∧ ss.length ≤ aL A ar ∧ aL A ar < 5000 ∧ ∀ i v, ss[i]? = some v → aI A 33 ar i = v := h.2.2.2.2
theorem SBR.mk {A : AH} {F : Nat → Prop} {sb : Nat} {ss : List Int32} (h_own : F sb) (h_kd : aK A sb = 20) (h_cod : aI A 2001 sb 0 = 0) (h_len : aI A 2003 sb 0 = nn ss.length) (h_ar : ∃ ar, aR A 2000 sb 0 = some ar ∧ F ar ∧ aK A ar = 33 ∧ ar < CB ∧ ss.length ≤ aL A ar ∧ aL A ar < 5000 ∧ ∀ i v, ss[i]? = some v → aI A 33 ar i = v) : SBR A F sb ss := ⟨h_own, h_kd, h_cod, h_len, h_ar⟩
def SameOn (F : Nat → Prop) (A A' : AH) : Prop := ∀ i, F i → aK A' i = aK A i ∧ aL A' i = aL A i ∧ ∀ f j, aI A' f i j = aI A f i j ∧ aJ A' f i j = aJ A f i j ∧ aR A' f i j = aR A f i j
theorem LR.same {A A' : AH} {F : Nat → Prop} {li : Nat} {ids : List Nat} (h : LR A F li ids) (s : SameOn F A A') : LR A' F li ids := by
  obtain ⟨ar, h1, h2, h3, h4, h5, h6⟩ := h.ar
  have sl := s li h.own
  have sa := s ar h2
  refine LR.mk h.own (sl.1.trans h.kd) (((sl.2.2 _ _).1).trans h.len) ⟨ar, ((sl.2.2 _ _).2.2).trans h1, h2, sa.1.trans h3, by rw [sa.2.1]; exact h4, by rw [sa.2.1]; exact h5, fun i v hv => ((sa.2.2 _ _).2.2).trans (h6 i v hv)⟩
theorem LR.mono {A : AH} {F G : Nat → Prop} {li : Nat} {ids : List Nat} (h : LR A F li ids) (s : ∀ i, F i → G i) : LR A G li ids := by
  obtain ⟨ar, h1, h2, h3, h4, h5, h6⟩ := h.ar
  exact LR.mk (s _ h.own) h.kd h.len ⟨ar, h1, s _ h2, h3, h4, h5, h6⟩
theorem SBR.same {A A' : AH} {F : Nat → Prop} {li : Nat} {ids : List Int32} (h : SBR A F li ids) (s : SameOn F A A') : SBR A' F li ids := by
  obtain ⟨ar, h1, h2, h3, h4, h5, h6, h7⟩ := h.ar
  have sl := s li h.own
  have sa := s ar h2
  refine SBR.mk h.own (sl.1.trans h.kd) (((sl.2.2 _ _).1).trans h.cod) (((sl.2.2 _ _).1).trans h.len) ⟨ar, ((sl.2.2 _ _).2.2).trans h1, h2, sa.1.trans h3, h4, by rw [sa.2.1]; exact h5, by rw [sa.2.1]; exact h6, fun i v hv => ((sa.2.2 _ _).1).trans (h7 i v hv)⟩
theorem SBR.mono {A : AH} {F G : Nat → Prop} {li : Nat} {ids : List Int32} (h : SBR A F li ids) (s : ∀ i, F i → G i) : SBR A G li ids := by
  obtain ⟨ar, h1, h2, h3, h4, h5, h6, h7⟩ := h.ar
  exact SBR.mk (s _ h.own) h.kd h.cod h.len ⟨ar, h1, s _ h2, h3, h4, h5, h6, h7⟩
def pairG (m : Int32) (g1 g2 : Gv) : Gv := fun e lk => if g1 e lk ≤ g2 e lk then (if m = 0 then g1 e lk else g2 e lk) else (if m = 1 then g1 e lk else g2 e lk)
def chainG (g0 : Gv) (its : List (Int32 × Nat × Gv)) : Gv := fun e lk => its.foldl (fun a it => hld (two it.1 a (it.2.2 e lk))) (g0 e lk)
/-- the object v tells g -/
def VR : Nat → Bool → Nat → AH → (Nat → Prop) → Nat → Gv → Prop
  | 0, _, _, _, _, _, _ => False
  | d + 1, q, μ, A, F, v, g => F v ∧ (
      (aK A v = 10 ∧ ∃ c, aJ A 1000 v 0 = c ∧ g = fun _ _ => c) ∨
      (aK A v = 11 ∧ ∃ k, k < 9 ∧ cx μ k ∧ aI A 1100 v 0 = nn k ∧ g = fun e _ => hld (e k)) ∨
      (aK A v = 9 ∧ ∃ v1 v2 g1 g2, aR A 901 v 0 = some v1 ∧ aR A 902 v 0 = some v2 ∧ VR d q μ A F v1 g1 ∧ VR d q μ A F v2 g2 ∧ g = pairG (aI A 900 v 0) g1 g2) ∨
      (aK A v = 8 ∧ ∃ li sb v0 s0 g0, ∃ its : List (Int32 × Nat × Gv), aR A 800 v 0 = some li ∧ aR A 801 v 0 = some sb ∧ LR A F li (v0 :: its.map (fun it => it.2.1)) ∧ SBR A F sb (s0 :: its.map (fun it => it.1)) ∧ VR d q μ A F v0 g0 ∧ (∀ it ∈ its, VR d q μ A F it.2.1 it.2.2 ∧ sgn it.1) ∧ g = chainG g0 its) ∨
      (q = true ∧ aK A v = 12 ∧ ∃ v1 g1, aR A 1202 v 0 = some 0 ∧ aI A 1200 v 0 = 0 ∧ aR A 1201 v 0 = some v1 ∧ VR d q μ A F v1 g1 ∧ g = fun e lk => hld (lk (g1 e lk))))
theorem VR.same {d : Nat} {q : Bool} {μ : Nat} {A A' : AH} {F : Nat → Prop} (s : SameOn F A A') : ∀ {v : Nat} {g : Gv}, VR d q μ A F v g → VR d q μ A' F v g := by
  induction d with
  | zero => intro v g h; exact h
  | succ d ih =>
    rintro v g ⟨hF, h⟩
    have sv := s v hF
    refine ⟨hF, ?_⟩
    rcases h with ⟨hk, c, h1, h2⟩ | ⟨hk, k, h1, hc, h2, h3⟩ | ⟨hk, v1, v2, g1, g2, h1, h2, h3, h4, h5⟩ | ⟨hk, li, sb, v0, s0, g0, its, h1, h2, h3, h4, h5, h6, h7⟩ | ⟨hq, hk, v1, g1, h1, h2, h3, h4, h5⟩
    · exact Or.inl ⟨sv.1.trans hk, c, ((sv.2.2 _ _).2.1).trans h1, h2⟩
    · exact Or.inr (Or.inl ⟨sv.1.trans hk, k, h1, hc, ((sv.2.2 _ _).1).trans h2, h3⟩)
    · refine Or.inr (Or.inr (Or.inl ⟨sv.1.trans hk, v1, v2, g1, g2, ((sv.2.2 _ _).2.2).trans h1, ((sv.2.2 _ _).2.2).trans h2, ih h3, ih h4, ?_⟩))
      rw [(sv.2.2 _ _).1]; exact h5
    · exact Or.inr (Or.inr (Or.inr (Or.inl ⟨sv.1.trans hk, li, sb, v0, s0, g0, its, ((sv.2.2 _ _).2.2).trans h1, ((sv.2.2 _ _).2.2).trans h2, h3.same s, h4.same s, ih h5, fun it hi => ⟨ih (h6 it hi).1, (h6 it hi).2⟩, h7⟩)))
    · exact Or.inr (Or.inr (Or.inr (Or.inr ⟨hq, sv.1.trans hk, v1, g1, ((sv.2.2 _ _).2.2).trans h1, ((sv.2.2 _ _).1).trans h2, ((sv.2.2 _ _).2.2).trans h3, ih h4, h5⟩)))
theorem VR.mono {d : Nat} {q : Bool} {μ : Nat} {A : AH} {F G : Nat → Prop} (s : ∀ i, F i → G i) : ∀ {v : Nat} {g : Gv}, VR d q μ A F v g → VR d q μ A G v g := by
  induction d with
  | zero => intro v g h; exact h
  | succ d ih =>
    rintro v g ⟨hF, h⟩
    refine ⟨s _ hF, ?_⟩
    rcases h with h | h | ⟨hk, v1, v2, g1, g2, h1, h2, h3, h4, h5⟩ | ⟨hk, li, sb, v0, s0, g0, its, h1, h2, h3, h4, h5, h6, h7⟩ | ⟨hq, hk, v1, g1, h1, h2, h3, h4, h5⟩
    · exact Or.inl h
    · exact Or.inr (Or.inl h)
    · exact Or.inr (Or.inr (Or.inl ⟨hk, v1, v2, g1, g2, h1, h2, ih h3, ih h4, h5⟩))
    · exact Or.inr (Or.inr (Or.inr (Or.inl ⟨hk, li, sb, v0, s0, g0, its, h1, h2, h3.mono s, h4.mono s, ih h5, fun it hi => ⟨ih (h6 it hi).1, (h6 it hi).2⟩, h7⟩)))
    · exact Or.inr (Or.inr (Or.inr (Or.inr ⟨hq, hk, v1, g1, h1, h2, h3, ih h4, h5⟩)))
theorem VR.up {d : Nat} {q : Bool} {μ : Nat} {A : AH} {F : Nat → Prop} : ∀ {v : Nat} {g : Gv}, VR d q μ A F v g → VR (d + 1) q μ A F v g := by
  induction d with
  | zero => intro v g h; exact False.elim h
  | succ d ih =>
    rintro v g ⟨hF, h⟩
    refine ⟨hF, ?_⟩
    rcases h with h | h | ⟨hk, v1, v2, g1, g2, h1, h2, h3, h4, h5⟩ | ⟨hk, li, sb, v0, s0, g0, its, h1, h2, h3, h4, h5, h6, h7⟩ | ⟨hq, hk, v1, g1, h1, h2, h3, h4, h5⟩
    · exact Or.inl h
    · exact Or.inr (Or.inl h)
    · exact Or.inr (Or.inr (Or.inl ⟨hk, v1, v2, g1, g2, h1, h2, ih h3, ih h4, h5⟩))
    · exact Or.inr (Or.inr (Or.inr (Or.inl ⟨hk, li, sb, v0, s0, g0, its, h1, h2, h3, h4, ih h5, fun it hi => ⟨ih (h6 it hi).1, (h6 it hi).2⟩, h7⟩)))
    · exact Or.inr (Or.inr (Or.inr (Or.inr ⟨hq, hk, v1, g1, h1, h2, h3, ih h4, h5⟩)))
theorem VR.le {d D : Nat} {q : Bool} {μ : Nat} {A : AH} {F : Nat → Prop} {v : Nat} {g : Gv} (h : VR d q μ A F v g) (hd : d ≤ D) : VR D q μ A F v g := by
  induction hd with
  | refl => exact h
  | step _ ih => exact ih.up
theorem VR.isVal {d : Nat} {q : Bool} {μ : Nat} {A : AH} {F : Nat → Prop} {v : Nat} {g : Gv} (h : VR d q μ A F v g) : isVal (aK A v) = true := by
  cases d with
  | zero => exact False.elim h
  | succ d =>
    rcases h.2 with h | h | h | h | h
    · rw [h.1]; rfl
    · rw [h.1]; rfl
    · rw [h.1]; rfl
    · rw [h.1]; rfl
    · rw [h.2.1]; rfl
theorem pairG_cg {e e' : En} {lk : Int64 → Int64} {g1 g2 : Gv} (m : Int32) (h1 : g1 e lk = g1 e' lk) (h2 : g2 e lk = g2 e' lk) : pairG m g1 g2 e lk = pairG m g1 g2 e' lk := by
  unfold pairG; rw [h1, h2]
theorem fold_cg {e e' : En} {lk : Int64 → Int64} : ∀ (its : List (Int32 × Nat × Gv)) (a : Int64), (∀ it ∈ its, it.2.2 e lk = it.2.2 e' lk) → its.foldl (fun a it => hld (two it.1 a (it.2.2 e lk))) a = its.foldl (fun a it => hld (two it.1 a (it.2.2 e' lk))) a := by
  intro its
  induction its with
  | nil => intro a _; rw [List.foldl_nil, List.foldl_nil]
  | cons it its ih =>
    intro a h
    rw [List.foldl_cons, List.foldl_cons, h it (List.mem_cons_self ..)]
    exact ih _ (fun t ht => h t (List.mem_cons_of_mem _ ht))
theorem VR.cg {d : Nat} {q : Bool} {μ : Nat} {A : AH} {F : Nat → Prop} {e e' : En} (he : ∀ k, cx μ k → e k = e' k) (lk : Int64 → Int64) : ∀ {v : Nat} {g : Gv}, VR d q μ A F v g → g e lk = g e' lk := by
  induction d with
  | zero => intro v g h; exact False.elim h
  | succ d ih =>
    rintro v g ⟨hF, h⟩
    rcases h with ⟨hk, c, h1, h2⟩ | ⟨hk, k, h1, hc, h2, h3⟩ | ⟨hk, v1, v2, g1, g2, h1, h2, h3, h4, h5⟩ | ⟨hk, li, sb, v0, s0, g0, its, h1, h2, h3, h4, h5, h6, h7⟩ | ⟨hq, hk, v1, g1, h1, h2, h3, h4, h5⟩
    · rw [h2]
    · rw [h3]; exact congrArg hld (he k hc)
    · rw [h5]; exact pairG_cg _ (ih h3) (ih h4)
    · rw [h7]
      unfold chainG
      rw [ih h5]
      exact fold_cg its _ (fun it hi => ih (h6 it hi).1)
    · rw [h5]; exact congrArg (fun z => hld (lk z)) (ih h4)
theorem crun_cg {e e' : En} {lk : Int64 → Int64} {μ : Nat} (he : ∀ k, cx μ k → e k = e' k) : ∀ (cs : List Int32) (st : List Int64), (∀ c ∈ cs, c < 40 ∨ (∃ k, k < 9 ∧ cx μ k ∧ c = nn (40 + k)) ∨ 60 ≤ c) → crun e lk cs st = crun e' lk cs st := by
  intro cs
  induction cs with
  | nil => intro st _; rfl
  | cons c cs ih =>
    intro st h
    have e1 : cstp e lk c st = cstp e' lk c st := by
      unfold cstp
      rcases h c (by simp) with q | ⟨k, hk, hc, q⟩ | q
      · simp only [if_pos q]
      · have e3 : nn (40 + k) - 40 = nn k := by
          have := nn_sub (a := 40 + k) (b := 40) (by omega)
          rw [show 40 + k - 40 = k by omega] at this
          exact this
        subst q
        rw [e3, nn_clamp (by omega), he k hc]
      · have q' : ¬ c < 60 := Int32.not_lt.mpr q
        simp only [if_neg q']
    show bo (cstp e lk c st) (crun e lk cs) = bo (cstp e' lk c st) (crun e' lk cs)
    rw [e1]
    cases cstp e' lk c st with
    | none => rfl
    | some s => exact ih s (fun c hc => h c (by simp [hc]))
/-! evaluation of objects -/
abbrev P12 (_f i : Nat) : Prop := i = 12
def Ev (q : Bool) (A A' : AH) : Prop := match q with
  | true => Ch P12 A A'
  | false => A' = A
theorem Ev.refl (q : Bool) (A : AH) : Ev q A A := by
  cases q
  · exact rfl
  · exact Ch.refl A
theorem Ev.trans {q : Bool} {A B C : AH} (h : Ev q A B) (g : Ev q B C) : Ev q A C := by
  cases q
  · exact Eq.trans g h
  · exact Ch.trans h g
theorem Ev.ch {q : Bool} {A B : AH} (h : Ev q A B) : Ch P12 A B := by
  cases q
  · rw [show B = A from h]; exact Ch.refl A
  · exact h
theorem Ev.same {q : Bool} {A B : AH} {F : Nat → Prop} (h : Ev q A B) (hF : ¬ F 12) : SameOn F A B := by
  intro i hi
  have hc := h.ch
  have h12 : ¬ i = 12 := fun e => hF (e ▸ hi)
  exact ⟨congrFun hc.K i, congrFun hc.L i, fun f j => ⟨hc.I j h12, hc.J j h12, hc.R j h12⟩⟩
theorem J2_size_LR {A : AH} {F : Nat → Prop} {li : Nat} {ids : List Nat} (h : LR A F li ids) : J2_size A li = some (nn ids.length) := by
  unfold J2_size
  rw [gI_k h.kd, bo_some, h.len]
theorem LR.small {A : AH} {F : Nat → Prop} {li : Nat} {ids : List Nat} (h : LR A F li ids) : ids.length < 5000 := by
  obtain ⟨ar, h1, h2, h3, h4, h5, h6⟩ := h.ar
  omega
theorem J2_get_LR {A : AH} {F : Nat → Prop} {li : Nat} {ids : List Nat} (h : LR A F li ids) {i v : Nat} (hi : ids[i]? = some v) : J2_get A li (nn i) = some (some v) := by
  obtain ⟨ar, h1, h2, h3, h4, h5, h6⟩ := h.ar
  have hl : i < ids.length := (List.getElem?_eq_some_iff.mp hi).1
  unfold J2_get J11_checkIndex J8_checkIndex J2_elementData
  rw [gI_k h.kd, bo_some, h.len, if_neg (nn_nneg (by omega)), if_pos ((nn_lt (by omega) (by omega)).mpr hl), bo_some, bo_some, if_pos h.kd, gN_k h.kd, h1, bo_some, dR_nn h3 (by omega) (by omega), h6 i v hi]
  rfl
theorem J15_charAt_SBR {A : AH} {F : Nat → Prop} {sb : Nat} {ss : List Int32} (h : SBR A F sb ss) {i : Nat} {s : Int32} (hi : ss[i]? = some s) (hs : sgn s) : J15_charAt A sb (nn i) = some (s, A) := by
  obtain ⟨ar, h1, h2, h3, h4, h5, h6, h7⟩ := h.ar
  have hl : i < ss.length := (List.getElem?_eq_some_iff.mp hi).1
  have e0 : (nn (aL A ar) >>> ((0 : Int32) &&& 31)) = nn (aL A ar) := by
    rw [show ((0 : Int32) &&& 31) = 0 from rfl]
    exact Int32.shiftRight_zero
  have em : J12_min (nn ss.length) (nn (aL A ar)) = some (nn ss.length) := by
    unfold J12_min
    rw [if_neg (by rw [nn_lt (by omega) (by omega)]; omega)]
  have s1 : ((Int32.toUInt32 (s &&& 255) % 65536).toInt32) = s := by
    rcases hs with rfl | rfl | rfl | rfl <;> decide +kernel
  have s2 : vp_nar .char s = s := by
    rcases hs with rfl | rfl | rfl | rfl <;> decide +kernel
  unfold J15_charAt J14_charAt J6_checkIndex J8_checkIndex
  rw [if_pos h.kd, gI_k h.kd, bo_some, h.cod, gN_k h.kd, h1, bo_some, gI_k h.kd, bo_some, h.len, aLn_k h3, bo_some, e0, em, bo_some, if_neg (nn_nneg (by omega)), if_pos ((nn_lt (by omega) (by omega)).mpr hl), bo_some, bd_some, if_pos rfl, dI_nn h3 (by omega) (by omega), bo_some, h7 i s hi, s1, if_pos s2, bd_some, if_pos s2]
/-- a moment that can be asked: number w, its row behind it -/
def MO (A : AH) (w : Nat) : Prop := aK A w = 5 ∧ aR A 500 w 0 = some (w + 1) ∧ aK A (w + 1) = 32 ∧ aL A (w + 1) = 9
abbrev mom (A : AH) (w : Nat) : En := fun k => aJ A 32 (w + 1) k
theorem chain_loop {N : Nat} {q : Bool} {rv : AH → Nat → Nat → Option (Int64 × AH)} {A0 : AH} {F : Nat → Prop} (hF : ¬ F 12) {x0 x1 li sb v0 : Nat} {s0 : Int32} {its : List (Int32 × Nat × Gv)} {e : En} {lk : Int64 → Int64}
    (hk : aK A0 x0 = 8) (hx : F x0) (h1 : aR A0 800 x0 0 = some li) (h2 : aR A0 801 x0 0 = some sb) (h3 : LR A0 F li (v0 :: its.map (fun it => it.2.1))) (h4 : SBR A0 F sb (s0 :: its.map (fun it => it.1)))
    (hrv : ∀ it ∈ its, isVal (aK A0 it.2.1) = true ∧ sgn it.1 ∧ ∀ A, Ev q A0 A → ∃ A2, Ev q A A2 ∧ rv A it.2.1 x1 = some (it.2.2 e lk, A2)) :
    ∀ (rest pre : List (Int32 × Nat × Gv)) (acc : Int64) (A : AH) (n : Nat), its = pre ++ rest → rest.length < n → Ev q A0 A →
      ∃ A2, Ev q A A2 ∧ rn3 (X9_at_b21 N rv x0 x1) n A acc (nn (1 + pre.length)) = some (rest.foldl (fun a it => hld (two it.1 a (it.2.2 e lk))) acc, A2) := by
  intro rest
  induction rest with
  | nil =>
    intro pre acc A n he hn hA
    obtain ⟨n, rfl⟩ : ∃ m, n = m + 1 := ⟨n - 1, by simp at hn; omega⟩
    have hs := hA.same hF
    have l3 := h3.same hs
    refine ⟨A, Ev.refl q A, ?_⟩
    show X9_at_b21 N rv x0 x1 _ A acc _ = _
    have hsm := l3.small
    unfold X9_at_b21
    rw [gN_k ((hs x0 hx).1.trans hk), ((hs x0 hx).2.2 800 0).2.2, h1, bo_some, if_pos l3.kd, J2_size_LR l3, bo_some, if_pos]
    · rfl
    · simp only [List.length_cons, List.length_map] at hsm ⊢
      rw [he, List.append_nil] at hsm ⊢
      rw [nn_le (by omega) (by omega)]
      omega
  | cons it rest ih =>
    intro pre acc A n he hn hA
    obtain ⟨n, rfl⟩ : ∃ m, n = m + 1 := ⟨n - 1, by simp at hn; omega⟩
    have hs := hA.same hF
    have l3 := h3.same hs
    have l4 := h4.same hs
    have hsm := l3.small
    have hit : it ∈ its := by rw [he]; simp
    obtain ⟨hv, hsg, hr⟩ := hrv it hit
    obtain ⟨A2, hA2, hr⟩ := hr A hA
    have hlen : its.length = pre.length + (rest.length + 1) := by rw [he]; simp
    have g1 : (v0 :: its.map (fun it => it.2.1))[1 + pre.length]? = some it.2.1 := by
      rw [he, Nat.add_comm]; simp
    have g2 : (s0 :: its.map (fun it => it.1))[1 + pre.length]? = some it.1 := by
      rw [he, Nat.add_comm]; simp
    obtain ⟨A3, hA3, hr3⟩ := ih (pre ++ [it]) (hld (two it.1 acc (it.2.2 e lk))) A2 n (by rw [he]; simp) (by simp at hn; omega) (hA.trans hA2)
    refine ⟨A3, hA2.trans hA3, ?_⟩
    show X9_at_b21 N rv x0 x1 (rn3 (X9_at_b21 N rv x0 x1) n) A acc _ = _
    have e1 : (1 + (pre ++ [it]).length) = 1 + pre.length + 1 := by simp; omega
    rw [e1] at hr3
    clear ih
    generalize rn3 (X9_at_b21 N rv x0 x1) n = kk at hr3 ⊢
    simp only [List.length_cons, List.length_map] at hsm
    have hx0 := hs x0 hx
    unfold X9_at_b21
    rw [gN_k (hx0.1.trans hk), (hx0.2.2 800 0).2.2, h1, bo_some, if_pos l3.kd, J2_size_LR l3, bo_some, if_neg, gN_k (hx0.1.trans hk), (hx0.2.2 801 0).2.2, h2, bo_some, if_pos l4.kd, J15_charAt_SBR l4 g2 hsg, bd_some, gN_k (hx0.1.trans hk), (hx0.2.2 800 0).2.2, h1, bo_some, if_pos l3.kd, J2_get_LR l3 g1, bo_some, bo_some, if_pos, hr, bd_some, X9_two_eq, bo_some, X0_held_eq, bo_some, nn_succ, hr3]
    · rfl
    · obtain ⟨ar, a1, a2, a3, a4, a5, a6⟩ := h3.ar
      have hm : F it.2.1 → aK A it.2.1 = aK A0 it.2.1 := fun h => (hs _ h).1
      have hc := hA.ch
      rw [congrFun hc.K it.2.1]; exact hv
    · simp only [List.length_cons, List.length_map]
      rw [nn_le (by omega) (by omega)]
      omega
