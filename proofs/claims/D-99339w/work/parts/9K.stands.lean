/-! PURE LEVEL: what is read becomes what stands, at the reference -/
set_option maxRecDepth 100000
theorem lpS {R : Type} (Bk : (mSt → Int32 → Option R) → mSt → Int32 → Option R) (nx : mSt → Option R) (m : Nat) (st : mSt → Nat → mSt) (Inv : Nat → mSt → Prop) (hs : ∀ kk σ i, i < m → Inv i σ → Bk kk σ (nn i) = kk (st σ i) (nn (i + 1))) (hi : ∀ σ i, i < m → Inv i σ → Inv (i + 1) (st σ i)) (he : ∀ kk σ, Inv m σ → Bk kk σ (nn m) = nx σ) : ∀ (f i z : Nat) (σ : mSt), i + f = m → f < z → Inv i σ → ∃ σ', rn2 Bk z σ (nn i) = nx σ' ∧ Inv m σ' := by
  intro f
  induction f with
  | zero =>
    intro i z σ h1 h2 h
    obtain ⟨z, rfl⟩ : ∃ m, z = m + 1 := ⟨z - 1, by omega⟩
    have : i = m := by omega
    subst this
    exact ⟨σ, he _ σ h, h⟩
  | succ f ih =>
    intro i z σ h1 h2 h
    obtain ⟨z, rfl⟩ : ∃ m, z = m + 1 := ⟨z - 1, by omega⟩
    obtain ⟨σ', y1, y2⟩ := ih (i + 1) z (st σ i) (by omega) (by omega) (hi σ i (by omega) h)
    refine ⟨σ', ?_, y2⟩
    show Bk (rn2 Bk z) σ (nn i) = _
    rw [hs _ _ _ (by omega) h, y1]
section
variable {N : Nat} {σ σ' s0 : mSt}
/-- one array is copied behind itself -/
def CpI (K off m : Nat) (s0 : mSt) (i : Nat) (σ : mSt) : Prop := Cg (fun k j => k = K ∧ off ≤ j ∧ j < off + m) s0 σ ∧ ∀ j, j < i → σ.1 K (off + j) = s0.1 K j
theorem CpI.z {K off m : Nat} : CpI K off m s0 0 s0 := ⟨Cg.refl _, fun j hj => by omega⟩
theorem CpI.s {K off m i : Nat} (hm : m ≤ off) (hi : i < m) (h : CpI K off m s0 i σ) : CpI K off m s0 (i + 1) (mUI σ K (off + i) (σ.1 K i)) := by
  refine ⟨h.1.trans (Cg.UI ⟨rfl, by omega, by omega⟩), fun j hj => ?_⟩
  rw [mI_UI]
  by_cases z : j = i
  · rw [if_pos ⟨rfl, by omega⟩, h.1.I (by omega), z]
  · rw [if_neg (by omega)]; exact h.2 j (by omega)
theorem sd7 (hN : 5000 ≤ N) : ∃ σ', rn2 (M_stands_b7 N) N σ 0 = rn2 (M_stands_b34 N) N σ' 0 ∧ CpI 40 2 2 σ 2 σ' :=
  lpS (M_stands_b7 N) (fun s => rn2 (M_stands_b34 N) N s 0) 2 (fun s i => mUI s 40 (2 + i) (s.1 40 i)) (CpI 40 2 2 σ) (fun kk s i hi _ => by
    unfold M_stands_b7
    rw [if_neg (fun q : (2 : Int32) ≤ nn i => by have := (nn_le (a := 2) (by omega) (by omega)).mp q; omega), ld_nn (by rfl) (by show i < 4; omega) (by omega), bo_some, show (2 : Int32) + nn i = nn (2 + i) from nn_add 2 i, stI_nn (by rfl) (by show 2 + i < 4; omega) (by omega), bo_some, nn_succ]) (fun s i hi h => h.s (by omega) hi) (fun kk s _ => if_pos (by decide)) 2 0 N σ (by omega) (by omega) CpI.z
theorem sd34 (hN : 5000 ≤ N) : ∃ σ', rn2 (M_stands_b34 N) N σ 0 = rn2 (M_stands_b61 N) N σ' 0 ∧ CpI 41 3 3 σ 3 σ' :=
  lpS (M_stands_b34 N) (fun s => rn2 (M_stands_b61 N) N s 0) 3 (fun s i => mUI s 41 (3 + i) (s.1 41 i)) (CpI 41 3 3 σ) (fun kk s i hi _ => by
    unfold M_stands_b34
    rw [if_neg (fun q : (3 : Int32) ≤ nn i => by have := (nn_le (a := 3) (by omega) (by omega)).mp q; omega), ld_nn (by rfl) (by show i < 6; omega) (by omega), bo_some, show (3 : Int32) + nn i = nn (3 + i) from nn_add 3 i, stI_nn (by rfl) (by show 3 + i < 6; omega) (by omega), bo_some, nn_succ]) (fun s i hi h => h.s (by omega) hi) (fun kk s _ => if_pos (by decide)) 3 0 N σ (by omega) (by omega) CpI.z
def Cp61 (s0 : mSt) (i : Nat) (σ : mSt) : Prop := Cg (fun k j => (k = 42 ∨ k = 46) ∧ 8 ≤ j ∧ j < 16) s0 σ ∧ ∀ j, j < i → σ.2 42 (8 + j) = s0.2 42 j ∧ σ.1 46 (8 + j) = s0.1 46 j
theorem sd61 (hN : 5000 ≤ N) : ∃ σ', rn2 (M_stands_b61 N) N σ 0 = rn2 (M_stands_b105 N) N σ' 0 ∧ Cp61 σ 8 σ' :=
  lpS (M_stands_b61 N) (fun s => rn2 (M_stands_b105 N) N s 0) 8 (fun s i => mUI (mUJ s 42 (8 + i) (s.2 42 i)) 46 (8 + i) (s.1 46 i)) (Cp61 σ) (fun kk s i hi _ => by
    unfold M_stands_b61
    rw [if_neg (fun q : (8 : Int32) ≤ nn i => by have := (nn_le (a := 8) (by omega) (by omega)).mp q; omega), ldL_nn (by rfl) (by show i < 16; omega) (by omega), bo_some, show (8 : Int32) + nn i = nn (8 + i) from nn_add 8 i, stL_nn (by rfl) (by show 8 + i < 16; omega) (by omega), bo_some, ld_nn (by rfl) (by show i < 16; omega) (by omega), bo_some, stI_nn (by rfl) (by show 8 + i < 16; omega) (by omega), bo_some, nn_succ]
    rfl) (fun s i hi h => by
    refine ⟨h.1.trans ((Cg.UJ ⟨Or.inl rfl, by omega, by omega⟩).trans (Cg.UI ⟨Or.inr rfl, by omega, by omega⟩)), fun j hj => ?_⟩
    show (mUI (mUJ s 42 (8 + i) (s.2 42 i)) 46 (8 + i) (s.1 46 i)).2 42 (8 + j) = _ ∧ (mUI (mUJ s 42 (8 + i) (s.2 42 i)) 46 (8 + i) (s.1 46 i)).1 46 (8 + j) = _
    rw [mJ_UI, mJ_UJ, mI_UI, mI_UJ]
    by_cases z : j = i
    · rw [if_pos ⟨rfl, by omega⟩, if_pos ⟨rfl, by omega⟩, h.1.J (by omega), h.1.I (by omega), z]
      exact ⟨rfl, rfl⟩
    · rw [if_neg (by omega), if_neg (by omega)]; exact h.2 j (by omega)) (fun kk s _ => if_pos (by decide)) 8 0 N σ (by omega) (by omega) ⟨Cg.refl _, fun j hj => by omega⟩
theorem sd105 (hN : 5000 ≤ N) : ∃ σ', rn2 (M_stands_b105 N) N σ 0 = rn2 (M_stands_b142 N) N (mUI σ' 48 0 (σ'.1 47 0)) 0 ∧ CpI 44 36 36 σ 36 σ' :=
  lpS (M_stands_b105 N) (fun s => rn2 (M_stands_b142 N) N (mUI s 48 0 (s.1 47 0)) 0) 36 (fun s i => mUI s 44 (36 + i) (s.1 44 i)) (CpI 44 36 36 σ) (fun kk s i hi _ => by
    unfold M_stands_b105
    rw [if_neg (fun q : (36 : Int32) ≤ nn i => by have := (nn_le (a := 36) (by omega) (by omega)).mp q; omega), ld_nn (by rfl) (by show i < 72; omega) (by omega), bo_some, show (36 : Int32) + nn i = nn (36 + i) from nn_add 36 i, stI_nn (by rfl) (by show 36 + i < 72; omega) (by omega), bo_some, nn_succ]) (fun s i hi h => h.s (by omega) hi) (fun kk s _ => (if_pos (by decide)).trans (lt2_eq _ _)) 36 0 N σ (by omega) (by omega) CpI.z
def Cp142 (s0 : mSt) (i : Nat) (σ : mSt) : Prop := Cg (fun k j => (k = 49 ∨ k = 50) ∧ 4 ≤ j ∧ j < 8) s0 σ ∧ ∀ j, j < i → σ.1 49 (4 + j) = s0.1 49 j ∧ σ.1 50 (4 + j) = s0.1 50 j
theorem sd142 (hN : 5000 ≤ N) : ∃ σ', rn2 (M_stands_b142 N) N σ 0 = rn2 (M_stands_b183 N) N σ' 0 ∧ Cp142 σ 4 σ' :=
  lpS (M_stands_b142 N) (fun s => rn2 (M_stands_b183 N) N s 0) 4 (fun s i => mUI (mUI s 49 (4 + i) (s.1 49 i)) 50 (4 + i) (s.1 50 i)) (Cp142 σ) (fun kk s i hi _ => by
    unfold M_stands_b142
    rw [if_neg (fun q : (4 : Int32) ≤ nn i => by have := (nn_le (a := 4) (by omega) (by omega)).mp q; omega), ld_nn (by rfl) (by show i < 8; omega) (by omega), bo_some, show (4 : Int32) + nn i = nn (4 + i) from nn_add 4 i, stI_nn (by rfl) (by show 4 + i < 8; omega) (by omega), bo_some, ld_nn (by rfl) (by show i < 8; omega) (by omega), bo_some, mI_UI, if_neg (by omega), stI_nn (by rfl) (by show 4 + i < 8; omega) (by omega), bo_some, nn_succ]) (fun s i hi h => by
    refine ⟨h.1.trans ((Cg.UI ⟨Or.inl rfl, by omega, by omega⟩).trans (Cg.UI ⟨Or.inr rfl, by omega, by omega⟩)), fun j hj => ?_⟩
    show (mUI (mUI s 49 (4 + i) (s.1 49 i)) 50 (4 + i) (s.1 50 i)).1 49 (4 + j) = _ ∧ (mUI (mUI s 49 (4 + i) (s.1 49 i)) 50 (4 + i) (s.1 50 i)).1 50 (4 + j) = _
    rw [mI_UI, if_neg (by omega), mI_UI, mI_UI]
    by_cases z : j = i
    · rw [if_pos ⟨rfl, by omega⟩, if_pos ⟨rfl, by omega⟩, h.1.I (by omega), h.1.I (by omega), z]
      exact ⟨rfl, rfl⟩
    · rw [if_neg (by omega), if_neg (by omega), mI_UI, if_neg (by omega)]; exact h.2 j (by omega)) (fun kk s _ => if_pos (by decide)) 4 0 N σ (by omega) (by omega) ⟨Cg.refl _, fun j hj => by omega⟩
theorem sd183 (hN : 5000 ≤ N) {cd : Nat} (h52 : σ.1 52 0 = nn cd) (hc : cd ≤ 1600) : ∃ σ', rn2 (M_stands_b183 N) N σ 0 = rn2 (M_stands_b215 N) N σ' 0 ∧ CpI 51 1600 cd σ cd σ' :=
  lpS (M_stands_b183 N) (fun s => rn2 (M_stands_b215 N) N s 0) cd (fun s i => mUI s 51 (1600 + i) (s.1 51 i)) (CpI 51 1600 cd σ) (fun kk s i hi h => by
    unfold M_stands_b183
    rw [h.1.I (k := 52) (by omega), h52, if_neg (fun q => by have := (nn_le (by omega) (by omega)).mp q; omega), ld_nn (by rfl) (by show i < 3200; omega) (by omega), bo_some, show (1600 : Int32) + nn i = nn (1600 + i) from nn_add 1600 i, stI_nn (by rfl) (by show 1600 + i < 3200; omega) (by omega), bo_some, nn_succ]) (fun s i hi h => h.s (by omega) hi) (fun kk s h => by
    unfold M_stands_b183
    rw [h.1.I (k := 52) (by omega), h52, if_pos ((nn_le (by omega) (by omega)).mpr (Nat.le_refl _))]) cd 0 N σ (by omega) (by omega) CpI.z
def Cp215 (s0 : mSt) (i : Nat) (σ : mSt) : Prop := Cg (fun k j => k = 56 ∧ j < 160) s0 σ ∧ ∀ j, j < i → σ.1 56 j = 0
theorem sd215 (hN : 5000 ≤ N) : ∃ σ', rn2 (M_stands_b215 N) N σ 0 = rn2 (M_stands_b237 N) N σ' 0 ∧ Cp215 σ 160 σ' :=
  lpS (M_stands_b215 N) (fun s => rn2 (M_stands_b237 N) N s 0) 160 (fun s i => mUI s 56 i 0) (Cp215 σ) (fun kk s i hi h => by
    unfold M_stands_b215
    rw [if_neg (fun q : (160 : Int32) ≤ nn i => by have := (nn_le (a := 160) (by omega) (by omega)).mp q; omega), stI_nn (by rfl) (by show i < 160; omega) (by omega), bo_some, nn_succ]) (fun s i hi h => by
    refine ⟨h.1.trans (Cg.UI ⟨rfl, by omega⟩), fun j hj => ?_⟩
    show (mUI s 56 i 0).1 56 j = 0
    rw [mI_UI]
    by_cases z : j = i
    · rw [if_pos ⟨rfl, z⟩]
    · rw [if_neg (by omega)]; exact h.2 j (by omega)) (fun kk s _ => if_pos (by decide)) 160 0 N σ (by omega) (by omega) ⟨Cg.refl _, fun j hj => by omega⟩
def Cp237 (s0 : mSt) (i : Nat) (σ : mSt) : Prop := Cg (fun k j => k = 56 ∧ 1 ≤ j ∧ j < 7) s0 σ ∧ ∀ j, j < i → σ.1 56 (1 + j) = s0.1 43 j
theorem sd237 (hN : 5000 ≤ N) : ∃ σ', rn2 (M_stands_b237 N) N σ 0 = rn2 (M_stands_b265 N) N σ' 0 ∧ Cp237 σ 6 σ' :=
  lpS (M_stands_b237 N) (fun s => rn2 (M_stands_b265 N) N s 0) 6 (fun s i => mUI s 56 (1 + i) (s.1 43 i)) (Cp237 σ) (fun kk s i hi h => by
    unfold M_stands_b237
    rw [if_neg (fun q : (6 : Int32) ≤ nn i => by have := (nn_le (a := 6) (by omega) (by omega)).mp q; omega), ld_nn (by rfl) (by show i < 6; omega) (by omega), bo_some, show (1 : Int32) + nn i = nn (1 + i) from nn_add 1 i, stI_nn (by rfl) (by show 1 + i < 160; omega) (by omega), bo_some, nn_succ]) (fun s i hi h => by
    refine ⟨h.1.trans (Cg.UI ⟨rfl, by omega, by omega⟩), fun j hj => ?_⟩
    show (mUI s 56 (1 + i) (s.1 43 i)).1 56 (1 + j) = _
    rw [mI_UI]
    by_cases z : j = i
    · rw [if_pos ⟨rfl, by omega⟩, h.1.I (by omega), z]
    · rw [if_neg (by omega)]; exact h.2 j (by omega)) (fun kk s _ => if_pos (by decide)) 6 0 N σ (by omega) (by omega) ⟨Cg.refl _, fun j hj => by omega⟩
def Cp265 (nb : Nat) (s0 : mSt) (i : Nat) (σ : mSt) : Prop := Cg (fun k j => k = 56 ∧ 7 ≤ j ∧ j < 39 ∧ (j - 7) % 4 ≠ 3) s0 σ ∧ ∀ b, b < i → σ.1 56 (7 + 4 * b) = s0.1 45 (2 * b) ∧ σ.1 56 (7 + 4 * b + 1) = s0.1 45 (2 * b + 1) ∧ σ.1 56 (7 + 4 * b + 2) = 5
theorem sd265 (hN : 5000 ≤ N) {nb : Nat} (h41 : σ.1 41 0 = nn nb) (hb : nb ≤ 8) : ∃ σ', rn2 (M_stands_b265 N) N σ 0 = some ((), mUI (mUI σ' 69 0 0) 65 0 0) ∧ Cp265 nb σ nb σ' :=
  lpS (M_stands_b265 N) (fun s => some ((), mUI (mUI s 69 0 0) 65 0 0)) nb (fun s i => mUI (mUI (mUI s 56 (7 + 4 * i) (s.1 45 (2 * i))) 56 (7 + 4 * i + 1) (s.1 45 (2 * i + 1))) 56 (7 + 4 * i + 2) 5) (Cp265 nb σ) (fun kk s i hi h => by
    unfold M_stands_b265
    rw [show (0 : Int32) = nn 0 from rfl, ld_nn (by rfl) (by decide) (by decide), bo_some, h.1.I (k := 41) (by omega), h41, if_neg (fun q => by have := (nn_le (by omega) (by omega)).mp q; omega), show (2 : Int32) * nn i = nn (2 * i) from nn_mul 2 i, ld_nn (by rfl) (by show 2 * i < 16; omega) (by omega), bo_some, show (4 : Int32) * nn i = nn (4 * i) from nn_mul 4 i, show (7 : Int32) + nn (4 * i) = nn (7 + 4 * i) from nn_add 7 (4 * i), stI_nn (by rfl) (by show 7 + 4 * i < 160; omega) (by omega), bo_some, nn_succ, ld_nn (by rfl) (by show 2 * i + 1 < 16; omega) (by omega), bo_some, mI_UI, if_neg (by omega), nn_succ, stI_nn (by rfl) (by show 7 + 4 * i + 1 < 160; omega) (by omega), bo_some, show nn (7 + 4 * i) + 2 = nn (7 + 4 * i + 2) from nn_add (7 + 4 * i) 2, stI_nn (by rfl) (by show 7 + 4 * i + 2 < 160; omega) (by omega), bo_some, nn_succ]) (fun s i hi h => by
    refine ⟨h.1.trans ((Cg.UI ⟨rfl, by omega, by omega, by omega⟩).trans ((Cg.UI ⟨rfl, by omega, by omega, by omega⟩).trans (Cg.UI ⟨rfl, by omega, by omega, by omega⟩))), fun b hj => ?_⟩
    have e : ∀ j, (mUI (mUI (mUI s 56 (7 + 4 * i) (s.1 45 (2 * i))) 56 (7 + 4 * i + 1) (s.1 45 (2 * i + 1))) 56 (7 + 4 * i + 2) 5).1 56 j = if j = 7 + 4 * i + 2 then 5 else if j = 7 + 4 * i + 1 then s.1 45 (2 * i + 1) else if j = 7 + 4 * i then s.1 45 (2 * i) else s.1 56 j := by
      intro j
      rw [mI_UI, mI_UI, mI_UI]
      by_cases z1 : j = 7 + 4 * i + 2
      · rw [if_pos ⟨rfl, z1⟩, if_pos z1]
      · rw [if_neg (by omega), if_neg z1]
        by_cases z2 : j = 7 + 4 * i + 1
        · rw [if_pos ⟨rfl, z2⟩, if_pos z2]
        · rw [if_neg (by omega), if_neg z2]
          by_cases z3 : j = 7 + 4 * i
          · rw [if_pos ⟨rfl, z3⟩, if_pos z3]
          · rw [if_neg (by omega), if_neg z3]
    show (mUI (mUI (mUI s 56 (7 + 4 * i) (s.1 45 (2 * i))) 56 (7 + 4 * i + 1) (s.1 45 (2 * i + 1))) 56 (7 + 4 * i + 2) 5).1 56 (7 + 4 * b) = _ ∧ (mUI (mUI (mUI s 56 (7 + 4 * i) (s.1 45 (2 * i))) 56 (7 + 4 * i + 1) (s.1 45 (2 * i + 1))) 56 (7 + 4 * i + 2) 5).1 56 (7 + 4 * b + 1) = _ ∧ (mUI (mUI (mUI s 56 (7 + 4 * i) (s.1 45 (2 * i))) 56 (7 + 4 * i + 1) (s.1 45 (2 * i + 1))) 56 (7 + 4 * i + 2) 5).1 56 (7 + 4 * b + 2) = _
    rw [e, e, e]
    by_cases z : b = i
    · subst z
      rw [if_neg (by omega), if_neg (by omega), if_pos rfl, if_neg (by omega), if_pos rfl, if_pos rfl, h.1.I (by omega), h.1.I (by omega)]
      exact ⟨rfl, rfl, rfl⟩
    · rw [if_neg (by omega), if_neg (by omega), if_neg (by omega), if_neg (by omega), if_neg (by omega), if_neg (by omega), if_neg (by omega), if_neg (by omega), if_neg (by omega)]
      exact h.2 b (by omega)) (fun kk s h => by
    unfold M_stands_b265
    rw [show (0 : Int32) = nn 0 from rfl, ld_nn (by rfl) (by decide) (by decide), bo_some, h.1.I (k := 41) (by omega), h41, if_pos ((nn_le (by omega) (by omega)).mpr (Nat.le_refl _)), lt2_eq, lt2_eq]) nb 0 N σ (by omega) (by omega) ⟨Cg.refl _, fun j hj => by omega⟩
/-- what stands is as what was read -/
def STD (σ σ' : mSt) (nb cd : Nat) : Prop :=
  (σ'.1 54 0 = 1) ∧
  (∀ j, j < 2 → σ'.1 40 (2 + j) = σ.1 40 j) ∧
  (∀ j, j < 3 → σ'.1 41 (3 + j) = σ.1 41 j) ∧
  (∀ j, j < 8 → σ'.2 42 (8 + j) = σ.2 42 j) ∧
  (∀ j, j < 8 → σ'.1 46 (8 + j) = σ.1 46 j) ∧
  (∀ j, j < 36 → σ'.1 44 (36 + j) = σ.1 44 j) ∧
  (σ'.1 48 0 = σ.1 47 0) ∧
  (∀ j, j < 4 → σ'.1 49 (4 + j) = σ.1 49 j) ∧
  (∀ j, j < 4 → σ'.1 50 (4 + j) = σ.1 50 j) ∧
  (∀ j, j < cd → σ'.1 51 (1600 + j) = σ.1 51 j) ∧
  (σ'.1 56 0 = 0) ∧
  (∀ l, l < 6 → σ'.1 56 (1 + l) = σ.1 43 l) ∧
  (∀ b, b < nb → σ'.1 56 (7 + 4 * b) = σ.1 45 (2 * b)) ∧
  (∀ b, b < nb → σ'.1 56 (7 + 4 * b + 1) = σ.1 45 (2 * b + 1)) ∧
  (∀ b, b < nb → σ'.1 56 (7 + 4 * b + 2) = 5) ∧
  (∀ b, b < nb → σ'.1 56 (7 + 4 * b + 3) = 0) ∧
  (σ'.1 56 39 = 0) ∧
  (σ'.1 69 0 = 0) ∧
  (σ'.1 65 0 = 0) ∧
  (Cg (fun k j => Kst k j ∨ k = 56 ∨ k = 69 ∨ k = 65) σ σ')
theorem STD.f54 {σ σ' : mSt} {nb cd : Nat} (h : STD σ σ' nb cd) : σ'.1 54 0 = 1 := h.1
theorem STD.f40 {σ σ' : mSt} {nb cd : Nat} (h : STD σ σ' nb cd) : ∀ j, j < 2 → σ'.1 40 (2 + j) = σ.1 40 j := h.2.1
theorem STD.f41 {σ σ' : mSt} {nb cd : Nat} (h : STD σ σ' nb cd) : ∀ j, j < 3 → σ'.1 41 (3 + j) = σ.1 41 j := h.2.2.1
theorem STD.f42 {σ σ' : mSt} {nb cd : Nat} (h : STD σ σ' nb cd) : ∀ j, j < 8 → σ'.2 42 (8 + j) = σ.2 42 j := h.2.2.2.1
theorem STD.f46 {σ σ' : mSt} {nb cd : Nat} (h : STD σ σ' nb cd) : ∀ j, j < 8 → σ'.1 46 (8 + j) = σ.1 46 j := h.2.2.2.2.1
theorem STD.f44 {σ σ' : mSt} {nb cd : Nat} (h : STD σ σ' nb cd) : ∀ j, j < 36 → σ'.1 44 (36 + j) = σ.1 44 j := h.2.2.2.2.2.1
theorem STD.f48 {σ σ' : mSt} {nb cd : Nat} (h : STD σ σ' nb cd) : σ'.1 48 0 = σ.1 47 0 := h.2.2.2.2.2.2.1
theorem STD.f49 {σ σ' : mSt} {nb cd : Nat} (h : STD σ σ' nb cd) : ∀ j, j < 4 → σ'.1 49 (4 + j) = σ.1 49 j := h.2.2.2.2.2.2.2.1
theorem STD.f50 {σ σ' : mSt} {nb cd : Nat} (h : STD σ σ' nb cd) : ∀ j, j < 4 → σ'.1 50 (4 + j) = σ.1 50 j := h.2.2.2.2.2.2.2.2.1
theorem STD.f51 {σ σ' : mSt} {nb cd : Nat} (h : STD σ σ' nb cd) : ∀ j, j < cd → σ'.1 51 (1600 + j) = σ.1 51 j := h.2.2.2.2.2.2.2.2.2.1
theorem STD.n0 {σ σ' : mSt} {nb cd : Nat} (h : STD σ σ' nb cd) : σ'.1 56 0 = 0 := h.2.2.2.2.2.2.2.2.2.2.1
theorem STD.n1 {σ σ' : mSt} {nb cd : Nat} (h : STD σ σ' nb cd) : ∀ l, l < 6 → σ'.1 56 (1 + l) = σ.1 43 l := h.2.2.2.2.2.2.2.2.2.2.2.1
theorem STD.nl_ {σ σ' : mSt} {nb cd : Nat} (h : STD σ σ' nb cd) : ∀ b, b < nb → σ'.1 56 (7 + 4 * b) = σ.1 45 (2 * b) := h.2.2.2.2.2.2.2.2.2.2.2.2.1
theorem STD.nc {σ σ' : mSt} {nb cd : Nat} (h : STD σ σ' nb cd) : ∀ b, b < nb → σ'.1 56 (7 + 4 * b + 1) = σ.1 45 (2 * b + 1) := h.2.2.2.2.2.2.2.2.2.2.2.2.2.1
theorem STD.np {σ σ' : mSt} {nb cd : Nat} (h : STD σ σ' nb cd) : ∀ b, b < nb → σ'.1 56 (7 + 4 * b + 2) = 5 := h.2.2.2.2.2.2.2.2.2.2.2.2.2.2.1
theorem STD.nm {σ σ' : mSt} {nb cd : Nat} (h : STD σ σ' nb cd) : ∀ b, b < nb → σ'.1 56 (7 + 4 * b + 3) = 0 := h.2.2.2.2.2.2.2.2.2.2.2.2.2.2.2.1
theorem STD.n39 {σ σ' : mSt} {nb cd : Nat} (h : STD σ σ' nb cd) : σ'.1 56 39 = 0 := h.2.2.2.2.2.2.2.2.2.2.2.2.2.2.2.2.1
theorem STD.f69 {σ σ' : mSt} {nb cd : Nat} (h : STD σ σ' nb cd) : σ'.1 69 0 = 0 := h.2.2.2.2.2.2.2.2.2.2.2.2.2.2.2.2.2.1
theorem STD.f65 {σ σ' : mSt} {nb cd : Nat} (h : STD σ σ' nb cd) : σ'.1 65 0 = 0 := h.2.2.2.2.2.2.2.2.2.2.2.2.2.2.2.2.2.2.1
theorem STD.cg {σ σ' : mSt} {nb cd : Nat} (h : STD σ σ' nb cd) : Cg (fun k j => Kst k j ∨ k = 56 ∨ k = 69 ∨ k = 65) σ σ' := h.2.2.2.2.2.2.2.2.2.2.2.2.2.2.2.2.2.2.2
theorem STD.mk {σ σ' : mSt} {nb cd : Nat} (h_f54 : σ'.1 54 0 = 1) (h_f40 : ∀ j, j < 2 → σ'.1 40 (2 + j) = σ.1 40 j) (h_f41 : ∀ j, j < 3 → σ'.1 41 (3 + j) = σ.1 41 j) (h_f42 : ∀ j, j < 8 → σ'.2 42 (8 + j) = σ.2 42 j) (h_f46 : ∀ j, j < 8 → σ'.1 46 (8 + j) = σ.1 46 j) (h_f44 : ∀ j, j < 36 → σ'.1 44 (36 + j) = σ.1 44 j) (h_f48 : σ'.1 48 0 = σ.1 47 0) (h_f49 : ∀ j, j < 4 → σ'.1 49 (4 + j) = σ.1 49 j) (h_f50 : ∀ j, j < 4 → σ'.1 50 (4 + j) = σ.1 50 j) (h_f51 : ∀ j, j < cd → σ'.1 51 (1600 + j) = σ.1 51 j) (h_n0 : σ'.1 56 0 = 0) (h_n1 : ∀ l, l < 6 → σ'.1 56 (1 + l) = σ.1 43 l) (h_nl_ : ∀ b, b < nb → σ'.1 56 (7 + 4 * b) = σ.1 45 (2 * b)) (h_nc : ∀ b, b < nb → σ'.1 56 (7 + 4 * b + 1) = σ.1 45 (2 * b + 1)) (h_np : ∀ b, b < nb → σ'.1 56 (7 + 4 * b + 2) = 5) (h_nm : ∀ b, b < nb → σ'.1 56 (7 + 4 * b + 3) = 0) (h_n39 : σ'.1 56 39 = 0) (h_f69 : σ'.1 69 0 = 0) (h_f65 : σ'.1 65 0 = 0) (h_cg : Cg (fun k j => Kst k j ∨ k = 56 ∨ k = 69 ∨ k = 65) σ σ') : STD σ σ' nb cd := ⟨h_f54, h_f40, h_f41, h_f42, h_f46, h_f44, h_f48, h_f49, h_f50, h_f51, h_n0, h_n1, h_nl_, h_nc, h_np, h_nm, h_n39, h_f69, h_f65, h_cg⟩
theorem stands_eq (hN : 5000 ≤ N) {nb cd : Nat} (h41 : σ.1 41 0 = nn nb) (hb : nb ≤ 8) (h52 : σ.1 52 0 = nn cd) (hc : cd ≤ 1600) : ∃ σ', M_stands N σ = some ((), σ') ∧ STD σ σ' nb cd := by
  obtain ⟨s1, a1, b1⟩ := sd7 (N := N) (σ := mUI σ 54 0 1) hN
  obtain ⟨s2, a2, b2⟩ := sd34 (N := N) (σ := s1) hN
  obtain ⟨s3, a3, b3⟩ := sd61 (N := N) (σ := s2) hN
  obtain ⟨s4, a4, b4⟩ := sd105 (N := N) (σ := s3) hN
  obtain ⟨s5, a5, b5⟩ := sd142 (N := N) (σ := mUI s4 48 0 (s4.1 47 0)) hN
  have c0 : Cg (fun k j => k = 54) σ (mUI σ 54 0 1) := Cg.UI rfl
  have c4 : Cg (fun k j => k = 48) s4 (mUI s4 48 0 (s4.1 47 0)) := Cg.UI rfl
  have e52 : s5.1 52 0 = nn cd := by rw [b5.1.I (by omega), c4.I (by omega), b4.1.I (by omega), b3.1.I (by omega), b2.1.I (by omega), b1.1.I (by omega), c0.I (by omega)]; exact h52
  obtain ⟨s6, a6, b6⟩ := sd183 (N := N) (σ := s5) hN e52 hc
  obtain ⟨s7, a7, b7⟩ := sd215 (N := N) (σ := s6) hN
  obtain ⟨s8, a8, b8⟩ := sd237 (N := N) (σ := s7) hN
  have e41 : s8.1 41 0 = nn nb := by rw [b8.1.I (by omega), b7.1.I (by omega), b6.1.I (by omega), b5.1.I (by omega), c4.I (by omega), b4.1.I (by omega), b3.1.I (by omega), b2.1.I (by omega), b1.1.I (by omega), c0.I (by omega)]; exact h41
  obtain ⟨s9, a9, b9⟩ := sd265 (N := N) (σ := s8) hN e41 hb
  have c9 : Cg (fun k j => k = 69 ∨ k = 65) s9 (mUI (mUI s9 69 0 0) 65 0 0) := (Cg.UI (Or.inl rfl)).trans (Cg.UI (Or.inr rfl))
  refine ⟨mUI (mUI s9 69 0 0) 65 0 0, ?_, STD.mk ?_ (fun j hj => ?_) (fun j hj => ?_) (fun j hj => ?_) (fun j hj => ?_) (fun j hj => ?_) ?_ (fun j hj => ?_) (fun j hj => ?_) (fun j hj => ?_) ?_ (fun l hl => ?_) (fun b hb => ?_) (fun b hb => ?_) (fun b hb => ?_) (fun b hb => ?_) ?_ ?_ ?_ ?_⟩
  · unfold M_stands
    rw [lt2_eq, a1, a2, a3, a4, a5, a6, a7, a8, a9]
  · rw [c9.I (by omega), b9.1.I (by omega), b8.1.I (by omega), b7.1.I (by omega), b6.1.I (by omega), b5.1.I (by omega), c4.I (by omega), b4.1.I (by omega), b3.1.I (by omega), b2.1.I (by omega), b1.1.I (by omega), mI_UI, if_pos ⟨rfl, rfl⟩]
  · rw [c9.I (by omega), b9.1.I (by omega), b8.1.I (by omega), b7.1.I (by omega), b6.1.I (by omega), b5.1.I (by omega), c4.I (by omega), b4.1.I (by omega), b3.1.I (by omega), b2.1.I (by omega), b1.2 j hj, c0.I (by omega)]
  · rw [c9.I (by omega), b9.1.I (by omega), b8.1.I (by omega), b7.1.I (by omega), b6.1.I (by omega), b5.1.I (by omega), c4.I (by omega), b4.1.I (by omega), b3.1.I (by omega), b2.2 j hj, b1.1.I (by omega), c0.I (by omega)]
  · rw [c9.J (by omega), b9.1.J (by omega), b8.1.J (by omega), b7.1.J (by omega), b6.1.J (by omega), b5.1.J (by omega), c4.J (by omega), b4.1.J (by omega), (b3.2 j hj).1, b2.1.J (by omega), b1.1.J (by omega), c0.J (by omega)]
  · rw [c9.I (by omega), b9.1.I (by omega), b8.1.I (by omega), b7.1.I (by omega), b6.1.I (by omega), b5.1.I (by omega), c4.I (by omega), b4.1.I (by omega), (b3.2 j hj).2, b2.1.I (by omega), b1.1.I (by omega), c0.I (by omega)]
  · rw [c9.I (by omega), b9.1.I (by omega), b8.1.I (by omega), b7.1.I (by omega), b6.1.I (by omega), b5.1.I (by omega), c4.I (by omega), b4.2 j hj, b3.1.I (by omega), b2.1.I (by omega), b1.1.I (by omega), c0.I (by omega)]
  · rw [c9.I (by omega), b9.1.I (by omega), b8.1.I (by omega), b7.1.I (by omega), b6.1.I (by omega), b5.1.I (by omega), mI_UI, if_pos ⟨rfl, rfl⟩, b4.1.I (by omega), b3.1.I (by omega), b2.1.I (by omega), b1.1.I (by omega), c0.I (by omega)]
  · rw [c9.I (by omega), b9.1.I (by omega), b8.1.I (by omega), b7.1.I (by omega), b6.1.I (by omega), (b5.2 j hj).1, c4.I (by omega), b4.1.I (by omega), b3.1.I (by omega), b2.1.I (by omega), b1.1.I (by omega), c0.I (by omega)]
  · rw [c9.I (by omega), b9.1.I (by omega), b8.1.I (by omega), b7.1.I (by omega), b6.1.I (by omega), (b5.2 j hj).2, c4.I (by omega), b4.1.I (by omega), b3.1.I (by omega), b2.1.I (by omega), b1.1.I (by omega), c0.I (by omega)]
  · rw [c9.I (by omega), b9.1.I (by omega), b8.1.I (by omega), b7.1.I (by omega), b6.2 j hj, b5.1.I (by omega), c4.I (by omega), b4.1.I (by omega), b3.1.I (by omega), b2.1.I (by omega), b1.1.I (by omega), c0.I (by omega)]
  · rw [c9.I (by omega), b9.1.I (by omega), b8.1.I (by omega), b7.2 _ (by omega)]
  · rw [c9.I (by omega), b9.1.I (by omega), b8.2 l hl, b7.1.I (by omega), b6.1.I (by omega), b5.1.I (by omega), c4.I (by omega), b4.1.I (by omega), b3.1.I (by omega), b2.1.I (by omega), b1.1.I (by omega), c0.I (by omega)]
  · rw [c9.I (by omega), (b9.2 b hb).1, b8.1.I (by omega), b7.1.I (by omega), b6.1.I (by omega), b5.1.I (by omega), c4.I (by omega), b4.1.I (by omega), b3.1.I (by omega), b2.1.I (by omega), b1.1.I (by omega), c0.I (by omega)]
  · rw [c9.I (by omega), (b9.2 b hb).2.1, b8.1.I (by omega), b7.1.I (by omega), b6.1.I (by omega), b5.1.I (by omega), c4.I (by omega), b4.1.I (by omega), b3.1.I (by omega), b2.1.I (by omega), b1.1.I (by omega), c0.I (by omega)]
  · rw [c9.I (by omega), (b9.2 b hb).2.2]
  · rw [c9.I (by omega), b9.1.I (by omega), b8.1.I (by omega), b7.2 _ (by omega)]
  · rw [c9.I (by omega), b9.1.I (by omega), b8.1.I (by omega), b7.2 _ (by omega)]
  · rw [mI_UI, if_neg (by decide), mI_UI, if_pos ⟨rfl, rfl⟩]
  · rw [mI_UI, if_pos ⟨rfl, rfl⟩]
  · have k54 : ∀ k j : Nat, k = 54 → Kst k j := fun k j h => by unfold Kst; omega
    have k48 : ∀ k j : Nat, k = 48 → Kst k j := fun k j h => by unfold Kst; omega
    exact (c0.mono (fun k j z => Or.inl (k54 k j z))).trans ((b1.1.mono (fun k j z => Or.inl (Or.inl ⟨z.1, z.2.1⟩))).trans ((b2.1.mono (fun k j z => Or.inl (Or.inr (Or.inl ⟨z.1, z.2.1⟩)))).trans ((b3.1.mono (fun k j z => Or.inl (show Kst k j by unfold Kst; omega))).trans ((b4.1.mono (fun k j z => Or.inl (show Kst k j by unfold Kst; omega))).trans ((c4.mono (fun k j z => Or.inl (k48 k j z))).trans ((b5.1.mono (fun k j z => Or.inl (show Kst k j by unfold Kst; omega))).trans ((b6.1.mono (fun k j z => Or.inl (show Kst k j by unfold Kst; omega))).trans ((b7.1.mono (fun k j z => Or.inr (Or.inl z.1))).trans ((b8.1.mono (fun k j z => Or.inr (Or.inl z.1))).trans ((b9.1.mono (fun k j z => Or.inr (Or.inl z.1))).trans (c9.mono (fun k j z => by omega))))))))))))
end
