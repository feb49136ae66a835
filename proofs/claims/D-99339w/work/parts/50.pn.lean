/-! PURE LEVEL: numbers, reading and writing -/
set_option maxRecDepth 100000
abbrev nn (k : Nat) : Int32 := Int32.ofNat k
theorem nn_clamp {k : Nat} (h : k < 2147483648) : (nn k).toNatClampNeg = k := Int32.toNatClampNeg_ofNat_of_lt h
theorem nn_ge0 {k : Nat} (h : k < 2147483648) : (0 : Int32) ≤ nn k := Int32.zero_le_ofNat_of_lt h
theorem nn_nneg {k : Nat} (h : k < 2147483648) : ¬ nn k < 0 := by
  rw [Int32.not_lt]; exact nn_ge0 h
theorem nn_le {a b : Nat} (ha : a < 2147483648) (hb : b < 2147483648) : nn a ≤ nn b ↔ a ≤ b := Int32.ofNat_le_iff_le ha hb
theorem nn_lt {a b : Nat} (ha : a < 2147483648) (hb : b < 2147483648) : nn a < nn b ↔ a < b := Int32.ofNat_lt_iff_lt ha hb
theorem nn_eq {a b : Nat} (ha : a < 2147483648) (hb : b < 2147483648) : nn a = nn b ↔ a = b := by
  constructor
  · intro h
    have h2 := congrArg Int32.toNatClampNeg h
    rw [nn_clamp ha, nn_clamp hb] at h2
    exact h2
  · intro h; rw [h]
theorem nn_add (a b : Nat) : nn a + nn b = nn (a + b) := (Int32.ofNat_add a b).symm
theorem nn_mul (a b : Nat) : nn a * nn b = nn (a * b) := (Int32.ofNat_mul a b).symm
theorem nn_sub {a b : Nat} (h : b ≤ a) : nn a - nn b = nn (a - b) := (Int32.ofNat_sub a b h).symm
theorem nn_succ (a : Nat) : nn a + 1 = nn (a + 1) := nn_add a 1
theorem nn_of {x : Int32} (h : 0 ≤ x) : x = nn x.toNatClampNeg := (Int32.ofNat_toNatClampNeg x h).symm
theorem nn_ex {x : Int32} {n : Nat} (h0 : 0 ≤ x) (h1 : x < nn n) (hn : n < 2147483648) : ∃ k, k < n ∧ x = nn k := by
  refine ⟨x.toNatClampNeg, ?_, nn_of h0⟩
  rw [nn_of h0, nn_lt (Int32.toNatClampNeg_lt x) hn] at h1
  exact h1
theorem nn_toInt {k : Nat} (h : k < 2147483648) : (nn k).toInt = (k : Int) := Int32.toInt_ofNat_of_lt h
theorem nn_ne1 {k : Nat} (h : k < 2147483648) : nn k ≠ -1 := by
  intro e
  have := congrArg Int32.toInt e
  rw [nn_toInt h] at this
  have h2 : ((-1 : Int32)).toInt = -1 := rfl
  omega
theorem nn_to64 {k : Nat} (h : k < 2147483648) : (nn k).toInt64 = Int64.ofNat k := by
  apply Int64.toInt_inj.mp
  rw [Int32.toInt_toInt64, nn_toInt h, Int64.toInt_ofNat_of_lt (by omega)]
theorem bo_some {α β : Type} (x : α) (g : α → Option β) : bo (some x) g = g x := rfl
theorem bo_none {α β : Type} (g : α → Option β) : bo (none : Option α) g = none := rfl
theorem bd_some {α S β : Type} (x : α) (s : S) (g : α → S → Option β) : bd (some (x, s)) g = g x s := rfl
theorem lt2_eq {α β : Type} (x : α) (g : α → β) : lt2 x g = g x := rfl
theorem mI_UI (σ : mSt) (k i : Nat) (v : Int32) (a j : Nat) : (mUI σ k i v).1 a j = if a = k ∧ j = i then v else σ.1 a j := rfl
theorem mI_UJ (σ : mSt) (k i : Nat) (v : Int64) : (mUJ σ k i v).1 = σ.1 := rfl
theorem mJ_UJ (σ : mSt) (k i : Nat) (v : Int64) (a j : Nat) : (mUJ σ k i v).2 a j = if a = k ∧ j = i then v else σ.2 a j := rfl
theorem mJ_UI (σ : mSt) (k i : Nat) (v : Int32) : (mUI σ k i v).2 = σ.2 := rfl
/-! reading at a place that is known -/
theorem ix_nn {n k : Nat} (h : k < n) (hk : k < 2147483648) : ¬ (nn k < 0 ∨ n ≤ (nn k).toNatClampNeg) := by
  rw [nn_clamp hk]
  rintro (h1 | h1)
  · exact nn_nneg hk h1
  · omega
theorem sI_nn {n t : Nat} {A : AH} {i k : Nat} (h : k < n) (hn : n ≤ 2147483648) : sI n t A i (nn k) = some (aI A t i k) := by
  have hk : k < 2147483648 := Nat.lt_of_lt_of_le h hn
  unfold sI
  rw [if_pos (ix_nn h hk), nn_clamp hk]
theorem sJ_nn {n : Nat} {A : AH} {i k : Nat} (h : k < n) (hn : n ≤ 2147483648) : sJ n A i (nn k) = some (aJ A 32 i k) := by
  have hk : k < 2147483648 := Nat.lt_of_lt_of_le h hn
  unfold sJ
  rw [if_pos (ix_nn h hk), nn_clamp hk]
theorem sR_nn {n t : Nat} {A : AH} {i k : Nat} (h : k < n) (hn : n ≤ 2147483648) : sR n t A i (nn k) = aR A t i k := by
  have hk : k < 2147483648 := Nat.lt_of_lt_of_le h hn
  unfold sR
  rw [if_pos (ix_nn h hk), nn_clamp hk]
theorem tI_nn {n t : Nat} {A : AH} {i k : Nat} {v : Int32} (h : k < n) (hn : n ≤ 2147483648) : tI n t A i (nn k) v = some (wI A t i k v) := by
  have hk : k < 2147483648 := Nat.lt_of_lt_of_le h hn
  unfold tI
  rw [if_pos (ix_nn h hk), nn_clamp hk]
theorem tJ_nn {n : Nat} {A : AH} {i k : Nat} {v : Int64} (h : k < n) (hn : n ≤ 2147483648) : tJ n A i (nn k) v = some (wJ A 32 i k v) := by
  have hk : k < 2147483648 := Nat.lt_of_lt_of_le h hn
  unfold tJ
  rw [if_pos (ix_nn h hk), nn_clamp hk]
theorem tR_nn {n t : Nat} {A : AH} {i k q : Nat} (h : k < n) (hn : n ≤ 2147483648) (ho : okR t (aK A q) = true) : tR n t A i (nn k) q = some (wR A t i k (some q)) := by
  have hk : k < 2147483648 := Nat.lt_of_lt_of_le h hn
  unfold tR
  rw [if_pos ⟨ix_nn h hk, ho⟩, nn_clamp hk]
theorem dI_nn {t : Nat} {A : AH} {i k : Nat} (hK : aK A i = t) (h : k < aL A i) (hk : k < 2147483648) : dI_ t A i (nn k) = some (aI A t i k) := by
  unfold dI_
  rw [if_pos ⟨hK, ix_nn h hk⟩, nn_clamp hk]
theorem dJ_nn {A : AH} {i k : Nat} (hK : aK A i = 32) (h : k < aL A i) (hk : k < 2147483648) : dJ_ A i (nn k) = some (aJ A 32 i k) := by
  unfold dJ_
  rw [if_pos ⟨hK, ix_nn h hk⟩, nn_clamp hk]
theorem dR_nn {t : Nat} {A : AH} {i k : Nat} (hK : aK A i = t) (h : k < aL A i) (hk : k < 2147483648) : dR_ t A i (nn k) = aR A t i k := by
  unfold dR_
  rw [if_pos ⟨hK, ix_nn h hk⟩, nn_clamp hk]
theorem uI_nn {t : Nat} {A : AH} {i k : Nat} {v : Int32} (hK : aK A i = t) (h : k < aL A i) (hk : k < 2147483648) : uI_ t A i (nn k) v = some (wI A t i k v) := by
  unfold uI_
  rw [if_pos ⟨hK, ix_nn h hk⟩, nn_clamp hk]
theorem uB_nn {A : AH} {i k : Nat} {v : Int32} (hK : aK A i = 33) (hi : i < CB) (h : k < aL A i) (hk : k < 2147483648) : uB_ A i (nn k) v = some (wI A 33 i k v) := by
  unfold uB_
  rw [if_pos ⟨⟨hK, hi⟩, ix_nn h hk⟩, nn_clamp hk]
theorem uR_nn {t : Nat} {A : AH} {i k q : Nat} (hK : aK A i = t) (h : k < aL A i) (hk : k < 2147483648) (ho : okR t (aK A q) = true) : uR_ t A i (nn k) q = some (wR A t i k (some q)) := by
  unfold uR_
  rw [if_pos ⟨⟨hK, ix_nn h hk⟩, ho⟩, nn_clamp hk]
theorem gI_k {kd : Nat} {A : AH} {f i : Nat} (h : aK A i = kd) : gI kd A f i = some (aI A f i 0) := if_pos h
theorem gJ_k {kd : Nat} {A : AH} {f i : Nat} (h : aK A i = kd) : gJ kd A f i = some (aJ A f i 0) := if_pos h
theorem gN_k {kd : Nat} {A : AH} {f i : Nat} (h : aK A i = kd) : gN kd A f i = aR A f i 0 := if_pos h
theorem gR_k {kd : Nat} {A : AH} {f i : Nat} (h : aK A i = kd) : gR kd A f i = some (aR A f i 0) := if_pos h
theorem pI_k {kd : Nat} {A : AH} {f i : Nat} {v : Int32} (h : aK A i = kd) : pI kd A f i v = some (wI A f i 0 v) := if_pos h
theorem pJ_k {kd : Nat} {A : AH} {f i : Nat} {v : Int64} (h : aK A i = kd) : pJ kd A f i v = some (wJ A f i 0 v) := if_pos h
theorem pR_k {kd : Nat} {A : AH} {f i : Nat} {v : Option Nat} (h : aK A i = kd) : pR kd A f i v = some (wR A f i 0 v) := if_pos h
theorem aLn_k {t : Nat} {A : AH} {i : Nat} (h : aK A i = t) : aLn t A i = some (nn (aL A i)) := if_pos h
theorem ld_nn {t : Nat} {σ : mSt} {k j : Nat} (ht : mt k = t) (h : j < ml k) (hj : j < 2147483648) : ld t σ k (nn j) = some (σ.1 k j) := by
  unfold ld
  rw [if_pos ⟨ht, ix_nn h hj⟩, nn_clamp hj]
theorem ldL_nn {σ : mSt} {k j : Nat} (ht : mt k = 3) (h : j < ml k) (hj : j < 2147483648) : ldL σ k (nn j) = some (σ.2 k j) := by
  unfold ldL
  rw [if_pos ⟨ht, ix_nn h hj⟩, nn_clamp hj]
theorem stI_nn {t : Nat} {σ : mSt} {k j : Nat} {v : Int32} (ht : mt k = t) (h : j < ml k) (hj : j < 2147483648) : stI t σ k (nn j) v = some (mUI σ k j v) := by
  unfold stI
  rw [if_pos ⟨ht, ix_nn h hj⟩, nn_clamp hj]
theorem stL_nn {σ : mSt} {k j : Nat} {v : Int64} (ht : mt k = 3) (h : j < ml k) (hj : j < 2147483648) : stL σ k (nn j) v = some (mUJ σ k j v) := by
  unfold stL
  rw [if_pos ⟨ht, ix_nn h hj⟩, nn_clamp hj]
/-! what may have changed -/
def Ch (P : Nat → Nat → Prop) (A A' : AH) : Prop := A'.1 = A.1 ∧ aK A' = aK A ∧ aL A' = aL A ∧ ∀ f i j, ¬ P f i → aI A' f i j = aI A f i j ∧ aJ A' f i j = aJ A f i j ∧ aR A' f i j = aR A f i j
def Cm (K : Nat → Prop) (σ σ' : mSt) : Prop := ∀ k j, ¬ K k → σ'.1 k j = σ.1 k j ∧ σ'.2 k j = σ.2 k j
theorem Ch.refl {P : Nat → Nat → Prop} (A : AH) : Ch P A A := ⟨rfl, rfl, rfl, fun _ _ _ _ => ⟨rfl, rfl, rfl⟩⟩
theorem Ch.trans {P : Nat → Nat → Prop} {A B C : AH} (h : Ch P A B) (g : Ch P B C) : Ch P A C :=
  ⟨g.1.trans h.1, g.2.1.trans h.2.1, g.2.2.1.trans h.2.2.1, fun f i j hp => ⟨(g.2.2.2 f i j hp).1.trans (h.2.2.2 f i j hp).1, (g.2.2.2 f i j hp).2.1.trans (h.2.2.2 f i j hp).2.1, (g.2.2.2 f i j hp).2.2.trans (h.2.2.2 f i j hp).2.2⟩⟩
theorem Ch.mono {P Q : Nat → Nat → Prop} {A B : AH} (h : Ch P A B) (g : ∀ f i, P f i → Q f i) : Ch Q A B :=
  ⟨h.1, h.2.1, h.2.2.1, fun f i j hp => h.2.2.2 f i j (fun q => hp (g f i q))⟩
theorem Ch.wI {P : Nat → Nat → Prop} {A : AH} {f i j : Nat} {v : Int32} (h : P f i) : Ch P A (wI A f i j v) := by
  refine ⟨rfl, rfl, rfl, fun f' i' j' hp => ⟨?_, rfl, rfl⟩⟩
  rw [aI_wI, if_neg]
  rintro ⟨rfl, rfl, rfl⟩
  exact hp h
theorem Ch.wJ {P : Nat → Nat → Prop} {A : AH} {f i j : Nat} {v : Int64} (h : P f i) : Ch P A (wJ A f i j v) := by
  refine ⟨rfl, rfl, rfl, fun f' i' j' hp => ⟨rfl, ?_, rfl⟩⟩
  rw [aJ_wJ, if_neg]
  rintro ⟨rfl, rfl, rfl⟩
  exact hp h
theorem Ch.wR {P : Nat → Nat → Prop} {A : AH} {f i j : Nat} {v : Option Nat} (h : P f i) : Ch P A (wR A f i j v) := by
  refine ⟨rfl, rfl, rfl, fun f' i' j' hp => ⟨rfl, rfl, ?_⟩⟩
  rw [aR_wR, if_neg]
  rintro ⟨rfl, rfl, rfl⟩
  exact hp h
theorem Ch.K {P : Nat → Nat → Prop} {A A' : AH} (h : Ch P A A') : aK A' = aK A := h.2.1
theorem Ch.L {P : Nat → Nat → Prop} {A A' : AH} (h : Ch P A A') : aL A' = aL A := h.2.2.1
theorem Ch.N {P : Nat → Nat → Prop} {A A' : AH} (h : Ch P A A') : aN A' = aN A := congrArg Prod.fst h.1
theorem Ch.S {P : Nat → Nat → Prop} {A A' : AH} (h : Ch P A A') : aS A' = aS A := congrArg Prod.snd h.1
theorem Ch.I {P : Nat → Nat → Prop} {A A' : AH} (h : Ch P A A') {f i : Nat} (j : Nat) (hp : ¬ P f i) : aI A' f i j = aI A f i j := (h.2.2.2 f i j hp).1
theorem Ch.J {P : Nat → Nat → Prop} {A A' : AH} (h : Ch P A A') {f i : Nat} (j : Nat) (hp : ¬ P f i) : aJ A' f i j = aJ A f i j := (h.2.2.2 f i j hp).2.1
theorem Ch.R {P : Nat → Nat → Prop} {A A' : AH} (h : Ch P A A') {f i : Nat} (j : Nat) (hp : ¬ P f i) : aR A' f i j = aR A f i j := (h.2.2.2 f i j hp).2.2
theorem Cm.refl {K : Nat → Prop} (σ : mSt) : Cm K σ σ := fun _ _ _ => ⟨rfl, rfl⟩
theorem Cm.trans {K : Nat → Prop} {σ σ1 σ2 : mSt} (h : Cm K σ σ1) (g : Cm K σ1 σ2) : Cm K σ σ2 := fun k j hk => ⟨(g k j hk).1.trans (h k j hk).1, (g k j hk).2.trans (h k j hk).2⟩
theorem Cm.mono {K L : Nat → Prop} {σ σ1 : mSt} (h : Cm K σ σ1) (g : ∀ k, K k → L k) : Cm L σ σ1 := fun k j hk => h k j (fun q => hk (g k q))
theorem Cm.UI {K : Nat → Prop} {σ : mSt} {k i : Nat} {v : Int32} (h : K k) : Cm K σ (mUI σ k i v) := by
  intro a j ha
  refine ⟨?_, rfl⟩
  rw [mI_UI, if_neg]
  rintro ⟨rfl, _⟩
  exact ha h
theorem Cm.UJ {K : Nat → Prop} {σ : mSt} {k i : Nat} {v : Int64} (h : K k) : Cm K σ (mUJ σ k i v) := by
  intro a j ha
  refine ⟨rfl, ?_⟩
  rw [mJ_UJ, if_neg]
  rintro ⟨rfl, _⟩
  exact ha h
theorem Cm.I {K : Nat → Prop} {σ σ' : mSt} (h : Cm K σ σ') {k : Nat} (j : Nat) (hk : ¬ K k) : σ'.1 k j = σ.1 k j := (h k j hk).1
theorem Cm.J {K : Nat → Prop} {σ σ' : mSt} (h : Cm K σ σ') {k : Nat} (j : Nat) (hk : ¬ K k) : σ'.2 k j = σ.2 k j := (h k j hk).2
