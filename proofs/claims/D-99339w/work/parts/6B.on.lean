/-! PURE LEVEL: an image is put on -/
set_option maxRecDepth 100000
theorem shl8 : ∀ a, a < 256 → (nn a <<< ((8 : Int32) &&& 31)) = nn (256 * a) := by decide +kernel
theorem shl_or {a b : Nat} (ha : a < 256) (hb : b < 256) : ((nn a <<< ((8 : Int32) &&& 31)) ||| nn b) = nn (256 * a + b) := by
  rw [shl8 a ha]
  apply Int32.toBitVec_inj.mp
  apply BitVec.eq_of_toNat_eq
  rw [Int32.toBitVec_or, BitVec.toNat_or]
  show (BitVec.ofNat 32 (256 * a)).toNat ||| (BitVec.ofNat 32 b).toNat = (BitVec.ofNat 32 (256 * a + b)).toNat
  rw [BitVec.toNat_ofNat, BitVec.toNat_ofNat, BitVec.toNat_ofNat, show (2 : Nat) ^ 32 = 4294967296 from rfl, Nat.mod_eq_of_lt (show 256 * a < 4294967296 by omega), Nat.mod_eq_of_lt (show b < 4294967296 by omega), Nat.mod_eq_of_lt (show 256 * a + b < 4294967296 by omega)]
  exact (Nat.two_pow_add_eq_or_of_lt (i := 8) hb a).symm
theorem shl1 : ∀ c, c < 9 → ((1 : Int32) <<< (nn c &&& 31)) = nn (2 ^ c) := by decide +kernel
/-- the tape as numbers -/
def TT (A : AH) (σ : mSt) (T : Nat → Nat) : Prop := ∀ k, k < 1600 → T k < 256 ∧ aI A 33 8 k = sby (T k) ∧ σ.1 0 k = nn (T k)
def P64 (_f i : Nat) : Prop := 64 ≤ i ∧ i < 112
def tw2 (T : Nat → Nat) (k : Nat) : Nat := 256 * T k + T (k + 1)
section TAP
variable {A : AH} {σ : mSt} {T : Nat → Nat}
theorem TT.x (h : TT A σ T) {k : Nat} (hk : k < 1600) : X0_byteAt A (nn k) = some (nn (T k)) := by
  obtain ⟨h1, h2, h3⟩ := h k hk
  unfold X0_byteAt
  rw [sI_nn hk (by decide), bo_some, h2, sby_and _ h1]
theorem TT.m (h : TT A σ T) {k : Nat} (hk : k < 1600) : ld 2 σ 0 (nn k) = some (nn (T k)) := by
  rw [ld_nn (by rfl) (by show k < 1600; exact hk) (by omega), (h k hk).2.2]
theorem TT.x2 (h : TT A σ T) {k : Nat} (hk : k + 1 < 1600) : X0_twoAt A (nn k) = some (nn (tw2 T k)) := by
  unfold X0_twoAt
  rw [h.x (by omega), bo_some, nn_succ, h.x hk, bo_some, shl_or (h k (by omega)).1 (h (k + 1) hk).1]
  rfl
theorem TT.m2 (h : TT A σ T) {k : Nat} (hk : k + 1 < 1600) : M_twoAt σ (nn k) = some (nn (tw2 T k)) := by
  unfold M_twoAt
  rw [h.m (by omega), bo_some, nn_succ, h.m hk, bo_some, show (256 : Int32) = nn 256 from rfl, nn_mul, nn_add]
  rfl
theorem TT.b2 (h : TT A σ T) {k : Nat} (hk : k + 1 < 1600) : tw2 T k < 65536 := by
  have h1 := (h k (by omega)).1
  have h2 := (h (k + 1) hk).1
  unfold tw2
  omega
theorem TT.ch {A' : AH} {P : Nat → Nat → Prop} (h : TT A σ T) (c : Ch P A A') (p : ¬ P 33 8) : TT A' σ T := fun k hk => by
  obtain ⟨h1, h2, h3⟩ := h k hk
  exact ⟨h1, (c.I k p).trans h2, h3⟩
end TAP
theorem IV.tt {A : AH} {σ : mSt} {fo nb L C W n : Nat} {ρ : Nat → Nat} {u w : Nat} {κ : Nat → Nat} {t m o : Nat} (h : IV A σ fo nb L C W n ρ u w κ t m o) : TT A σ (fun k => (σ.1 0 k).toNatClampNeg) := by
  intro k hk
  obtain ⟨v, hv, e1, e2⟩ := h.tp.by_ k hk
  show (σ.1 0 k).toNatClampNeg < 256 ∧ aI A 33 8 k = sby (σ.1 0 k).toNatClampNeg ∧ σ.1 0 k = nn (σ.1 0 k).toNatClampNeg
  rw [e1, nn_clamp (by omega)]
  exact ⟨hv, e2, rfl⟩
/-- where a being's bytes begin -/
abbrev kO (L b : Nat) : Nat := 2 + L + 6 * b
def dupO (T : Nat → Nat) (L b : Nat) : Prop := ∃ o, o < b ∧ T (kO L o) = T (kO L b) ∧ T (kO L o + 1) = T (kO L b + 1)
/-- a being is told well -/
def goodO (T : Nat → Nat) (L C b : Nat) : Prop := (T (kO L b) < L ∧ T (kO L b + 1) < C) ∧ ¬ bitOf (nn (T (2 + T (kO L b)))) (nn (T (kO L b + 1))) ∧ ¬ dupO T L b ∧ tw2 T (kO L b + 2) ≤ 9999 ∧ tw2 T (kO L b + 4) ≤ 9999
section ON_
variable {A0 A : AH} {σ : mSt} {fo nb L C W n : Nat} {ρ : Nat → Nat} {u w : Nat} {κ : Nat → Nat} {t m o : Nat} {T : Nat → Nat}
/-- in the midst of it; A0 as it was: l leaves and b beings are read -/
def OB (A0 A : AH) (σ : mSt) (L l b d0 : Nat) (T : Nat → Nat) : Prop :=
  (Ch P64 A0 A) ∧
  (∃ ρ', KR A 64 0 ρ') ∧
  (aI A 600 64 0 = nn d0) ∧
  (∀ i, i < l → aI A 31 65 i = nn (T (2 + i))) ∧
  (∀ i, l ≤ i → i < 6 → aI A 31 65 i = σ.1 56 (1 + i)) ∧
  (∀ i, i < b → aI A 31 66 i = nn (T (kO L i)) ∧ aI A 31 67 i = nn (T (kO L i + 1)) ∧ aI A 31 68 i = nn (tw2 T (kO L i + 2)) ∧ aI A 31 69 i = nn (tw2 T (kO L i + 4)))
theorem OB.ch {A0 A : AH} {σ : mSt} {L l b d0 : Nat} {T : Nat → Nat} (h : OB A0 A σ L l b d0 T) : Ch P64 A0 A := h.1
theorem OB.kt {A0 A : AH} {σ : mSt} {L l b d0 : Nat} {T : Nat → Nat} (h : OB A0 A σ L l b d0 T) : ∃ ρ', KR A 64 0 ρ' := h.2.1
theorem OB.day {A0 A : AH} {σ : mSt} {L l b d0 : Nat} {T : Nat → Nat} (h : OB A0 A σ L l b d0 T) : aI A 600 64 0 = nn d0 := h.2.2.1
theorem OB.gl {A0 A : AH} {σ : mSt} {L l b d0 : Nat} {T : Nat → Nat} (h : OB A0 A σ L l b d0 T) : ∀ i, i < l → aI A 31 65 i = nn (T (2 + i)) := h.2.2.2.1
theorem OB.gr {A0 A : AH} {σ : mSt} {L l b d0 : Nat} {T : Nat → Nat} (h : OB A0 A σ L l b d0 T) : ∀ i, l ≤ i → i < 6 → aI A 31 65 i = σ.1 56 (1 + i) := h.2.2.2.2.1
theorem OB.be {A0 A : AH} {σ : mSt} {L l b d0 : Nat} {T : Nat → Nat} (h : OB A0 A σ L l b d0 T) : ∀ i, i < b → aI A 31 66 i = nn (T (kO L i)) ∧ aI A 31 67 i = nn (T (kO L i + 1)) ∧ aI A 31 68 i = nn (tw2 T (kO L i + 2)) ∧ aI A 31 69 i = nn (tw2 T (kO L i + 4)) := h.2.2.2.2.2
theorem OB.mk {A0 A : AH} {σ : mSt} {L l b d0 : Nat} {T : Nat → Nat} (h_ch : Ch P64 A0 A) (h_kt : ∃ ρ', KR A 64 0 ρ') (h_day : aI A 600 64 0 = nn d0) (h_gl : ∀ i, i < l → aI A 31 65 i = nn (T (2 + i))) (h_gr : ∀ i, l ≤ i → i < 6 → aI A 31 65 i = σ.1 56 (1 + i)) (h_be : ∀ i, i < b → aI A 31 66 i = nn (T (kO L i)) ∧ aI A 31 67 i = nn (T (kO L i + 1)) ∧ aI A 31 68 i = nn (tw2 T (kO L i + 2)) ∧ aI A 31 69 i = nn (tw2 T (kO L i + 4))) : OB A0 A σ L l b d0 T := ⟨h_ch, h_kt, h_day, h_gl, h_gr, h_be⟩
theorem OB.iv {l b d0 : Nat} (B : OB A0 A σ L l b d0 T) (h : IV A0 σ fo nb L C W n ρ u w κ t m o) : IV A σ fo nb L C W n ρ u w κ t m o := by
  obtain ⟨ρ', k⟩ := B.kt
  exact h.frame (B.ch.mono (fun f i z => by unfold P64 at z; unfold Psc; omega)) (Cm.refl σ) (fun _ => rfl) h.th ⟨0, ρ', k⟩ (h.hn.ch B.ch (by unfold P64; omega) (by unfold P64; omega) (by unfold P64; omega) (by unfold P64; omega) (by unfold P64; omega))
/-- refused -/
def Fl (N : Nat) (X : Option (Int32 × AH)) (A0 : AH) (σ : mSt) (fo nb L C W n : Nat) (ρ : Nat → Nat) (u w : Nat) (κ : Nat → Nat) (t m o : Nat) : Prop := ∃ A' σ', X = some (0, A') ∧ (bo (ld 2 σ 9 5) fun v => bo (stI 2 σ 9 5 (v + 1)) fun σ2 => some ((0 : Int32), σ2)) = some (0, σ') ∧ IV A' σ' fo nb L C W n ρ u w κ t m o ∧ A'.1 = A0.1
theorem on208 {N : Nat} {l b d0 : Nat} (B : OB A0 A σ L l b d0 T) (h : IV A0 σ fo nb L C W n ρ u w κ t m o) : Fl N (X0_on_b208 N A 0) A0 σ fo nb L C W n ρ u w κ t m o := by
  obtain ⟨A', σ', r1, r2, r3, r4, r5⟩ := refuses_eq (B.iv h) (k := 5) (by decide)
  have r1' : X0_refuses A 5 = some (-1, A') := r1
  refine ⟨A', σ', ?_, r3 (fun σ2 => some (0, σ2)), r4, r5.1.trans B.ch.1⟩
  unfold X0_on_b208
  rw [if_pos rfl, r1', bd_some, if_pos (by decide)]
theorem on175z {N : Nat} (x2 : Int32) (fr : FR A σ fo nb L C W) {q : Nat} (hq : 0 < q) (x4 : Int32) : rn4 (X0_on_b175 N) q A x2 0 x4 = X0_on_b208 N A 0 := by
  obtain ⟨q, rfl⟩ : ∃ z, q = z + 1 := ⟨q - 1, by omega⟩
  show X0_on_b175 N _ A x2 0 x4 = _
  unfold X0_on_b175
  rw [fr.beings, bo_some]
  by_cases c : nn nb ≤ x4
  · rw [if_pos c]
  · rw [if_neg c, if_pos rfl]
theorem on104z {N : Nat} (hN : 5000 ≤ N) (x2 : Int32) (fr : FR A σ fo nb L C W) {q : Nat} (hq : 0 < q) (x4 : Int32) : rn4 (X0_on_b104 N) q A x2 0 x4 = X0_on_b208 N A 0 := by
  obtain ⟨q, rfl⟩ : ∃ z, q = z + 1 := ⟨q - 1, by omega⟩
  show X0_on_b104 N _ A x2 0 x4 = _
  unfold X0_on_b104 X0_on_b172
  rw [fr.leavesX, on175z x2 fr (by omega)]
  by_cases c : nn L ≤ x4
  · rw [if_pos c]
  · rw [if_neg c, if_pos rfl]
/-! leaves -/
theorem on_gl {N : Nat} (hN : 5000 ≤ N) (h : IV A0 σ fo nb L C W n ρ u w κ t m o) (hT : TT A0 σ T) {d0 : Nat} (x2 : Int32) : ∀ (j l q1 q2 : Nat) (A : AH), l + j = L → j + 1 < q1 → j < q2 → OB A0 A σ L l 0 d0 T → (∀ i, i < l → T (2 + i) < 2 ^ C) →
    (Fl N (rn4 (X0_on_b104 N) q1 A x2 1 (nn l)) A0 σ fo nb L C W n ρ u w κ t m o ∧ rn2 (M_isImage_b65 N σ) q2 (nn (2 + L)) (nn (2 + l)) = some 0) ∨
    (∃ A', rn4 (X0_on_b104 N) q1 A x2 1 (nn l) = rn4 (X0_on_b175 N) N A' x2 1 0 ∧ rn2 (M_isImage_b65 N σ) q2 (nn (2 + L)) (nn (2 + l)) = rn2 (M_isImage_b97 N σ) N (nn (2 + L)) 0 ∧ OB A0 A' σ L L 0 d0 T ∧ ∀ i, i < L → T (2 + i) < 2 ^ C) := by
  have bL := h.fr.bL
  have bC := h.fr.bC
  intro j
  induction j with
  | zero =>
    intro l q1 q2 A hl h1 h2 B hg
    obtain ⟨q1, rfl⟩ : ∃ z, q1 = z + 1 := ⟨q1 - 1, by omega⟩
    obtain ⟨q2, rfl⟩ : ∃ z, q2 = z + 1 := ⟨q2 - 1, by omega⟩
    have : l = L := by omega
    subst this
    right
    refine ⟨A, ?_, ?_, B, hg⟩
    · show X0_on_b104 N _ A x2 1 (nn l) = _
      unfold X0_on_b104 X0_on_b172
      rw [(B.iv h).fr.leavesX, if_pos ((nn_le (by omega) (by omega)).mpr (by omega))]
    · show M_isImage_b65 N σ _ (nn (2 + l)) (nn (2 + l)) = _
      unfold M_isImage_b65
      rw [if_pos ((nn_le (by omega) (by omega)).mpr (by omega))]
  | succ j ih =>
    intro l q1 q2 A hl h1 h2 B hg
    obtain ⟨q1, rfl⟩ : ∃ z, q1 = z + 1 := ⟨q1 - 1, by omega⟩
    obtain ⟨q2, rfl⟩ : ∃ z, q2 = z + 1 := ⟨q2 - 1, by omega⟩
    have fr := (B.iv h).fr
    have tA := hT.ch B.ch (by unfold P64; omega)
    have c1 : Ch P64 A (wI A 31 65 l (nn (T (2 + l)))) := Ch.wI ⟨by omega, by omega⟩
    have B1 : OB A0 (wI A 31 65 l (nn (T (2 + l)))) σ L (l + 1) 0 d0 T := by
      obtain ⟨ρ', k⟩ := B.kt
      have cq : Ch (fun f i => f = 31 ∧ i = 65) A (wI A 31 65 l (nn (T (2 + l)))) := by apply Ch.wI; exact ⟨rfl, rfl⟩
      refine OB.mk (B.ch.trans c1) ⟨ρ', k.ch cq (by omega) (by omega)⟩ ?_ ?_ ?_ (fun i hi => by omega)
      · rw [aI_wI, if_neg (by omega)]; exact B.day
      · intro i hi
        rw [aI_wI]
        by_cases z : i = l
        · rw [if_pos ⟨rfl, rfl, z⟩, z]
        · rw [if_neg (fun q => z q.2.2)]; exact B.gl i (by omega)
      · intro i h1 h2
        rw [aI_wI, if_neg (by omega)]; exact B.gr i (by omega) h2
    have fr1 := (B1.iv h).fr
    have hv := (hT (2 + l) (by omega)).1
    have hpw : 2 ^ C ≤ 256 := by
      have : 2 ^ C ≤ 2 ^ 8 := Nat.pow_le_pow_right (by decide) bC
      omega
    have hX : rn4 (X0_on_b104 N) (q1 + 1) A x2 1 (nn l) = if nn (2 ^ C) ≤ nn (T (2 + l)) then rn4 (X0_on_b104 N) q1 (wI A 31 65 l (nn (T (2 + l)))) x2 0 (nn (l + 1)) else rn4 (X0_on_b104 N) q1 (wI A 31 65 l (nn (T (2 + l)))) x2 1 (nn (l + 1)) := by
      show X0_on_b104 N (rn4 (X0_on_b104 N) q1) A x2 1 (nn l) = _
      generalize rn4 (X0_on_b104 N) q1 = kk
      unfold X0_on_b104 X0_on_b165
      rw [fr.leavesX, if_neg (fun z => by have := (nn_le (by omega) (by omega)).mp z; omega), if_neg (by decide), show (2 + nn l : Int32) = nn (2 + l) from nn_add 2 l, tA.x (by omega), bo_some, tI_nn (by omega) (by decide), bo_some, sI_nn (by omega) (by decide), bo_some, aI_wI, if_pos ⟨rfl, rfl, rfl⟩, fr1.cellsX, shl1 C (by omega), nn_succ]
    have hM : rn2 (M_isImage_b65 N σ) (q2 + 1) (nn (2 + L)) (nn (2 + l)) = if nn (T (2 + l)) < nn (2 ^ C) then rn2 (M_isImage_b65 N σ) q2 (nn (2 + L)) (nn (2 + (l + 1))) else some 0 := by
      show M_isImage_b65 N σ (rn2 (M_isImage_b65 N σ) q2) (nn (2 + L)) (nn (2 + l)) = _
      generalize rn2 (M_isImage_b65 N σ) q2 = kk
      unfold M_isImage_b65
      rw [if_neg (fun z => by have := (nn_le (by omega) (by omega)).mp z; omega), hT.m (by omega), bo_some, h.fr.cells, bo_some, shl1 C (by omega), nn_succ, show 2 + l + 1 = 2 + (l + 1) by omega]
    rw [hX, hM]
    by_cases z : T (2 + l) < 2 ^ C
    · rw [if_neg (fun q => by have := (nn_le (by omega) (by omega)).mp q; omega), if_pos ((nn_lt (by omega) (by omega)).mpr z)]
      refine ih (l + 1) q1 q2 _ (by omega) (by omega) (by omega) B1 (fun i hi => ?_)
      rcases Nat.lt_or_ge i l with y | y
      · exact hg i y
      · rw [show i = l by omega]; exact z
    · left
      rw [if_pos ((nn_le (by omega) (by omega)).mpr (by omega)), if_neg (fun q => z ((nn_lt (by omega) (by omega)).mp q)), on104z hN x2 fr1 (by omega)]
      exact ⟨on208 B1 h, rfl⟩
/-! beings -/
theorem dupX {N : Nat} (hT : TT A σ T) {b : Nat} (hb : b < nb) (hnb : nb ≤ 8) (bL : L ≤ 6) (x2 : Int32) (hbe : ∀ i, i < b → aI A 31 66 i = nn (T (kO L i)) ∧ aI A 31 67 i = nn (T (kO L i + 1))) : ∀ (j i q : Nat), i + j = b → j < q → (∀ o, o < i → ¬ (T (kO L o) = T (kO L b) ∧ T (kO L o + 1) = T (kO L b + 1))) → (dupO T L b ∧ rn4 (X0_beingOn_b47 N (nn b) x2) q A (nn (T (kO L b))) (nn (T (kO L b + 1))) (nn i) = some (0, A)) ∨ (¬ dupO T L b ∧ rn4 (X0_beingOn_b47 N (nn b) x2) q A (nn (T (kO L b))) (nn (T (kO L b + 1))) (nn i) = (bo (tI 8 31 A 66 (nn b) (nn (T (kO L b)))) fun A6 => bo (tI 8 31 A6 67 (nn b) (nn (T (kO L b + 1)))) fun A7 => bo (X0_twoAt A7 (x2 + 2)) fun r8 => bo (tI 8 31 A7 68 (nn b) r8) fun A9 => bo (X0_twoAt A9 (x2 + 4)) fun r10 => bo (tI 8 31 A9 69 (nn b) r10) fun A11 => bo (sI 8 31 A11 68 (nn b)) fun v12 => if 9999 < v12 then (some (0, A11)) else (bo (sI 8 31 A11 69 (nn b)) fun v13 => if 9999 < v13 then (some (0, A11)) else (some (1, A11))))) := by
  intro j
  induction j with
  | zero =>
    intro i q hi hq hn
    obtain ⟨q, rfl⟩ : ∃ z, q = z + 1 := ⟨q - 1, by omega⟩
    right
    refine ⟨?_, ?_⟩
    · rintro ⟨o, ho, e1, e2⟩
      exact hn o (by omega) ⟨e1, e2⟩
    · show X0_beingOn_b47 N (nn b) x2 _ A _ _ (nn i) = _
      unfold X0_beingOn_b47
      rw [if_pos ((nn_le (by omega) (by omega)).mpr (by omega))]
  | succ j ih =>
    intro i q hi hq hn
    obtain ⟨q, rfl⟩ : ∃ z, q = z + 1 := ⟨q - 1, by omega⟩
    obtain ⟨e1, e2⟩ := hbe i (by omega)
    have t1 := (hT (kO L i) (by unfold kO; omega)).1
    have t2 := (hT (kO L b) (by unfold kO; omega)).1
    have t3 := (hT (kO L i + 1) (by unfold kO; omega)).1
    have t4 := (hT (kO L b + 1) (by unfold kO; omega)).1
    have hX : rn4 (X0_beingOn_b47 N (nn b) x2) (q + 1) A (nn (T (kO L b))) (nn (T (kO L b + 1))) (nn i) = if T (kO L i) = T (kO L b) ∧ T (kO L i + 1) = T (kO L b + 1) then some (0, A) else rn4 (X0_beingOn_b47 N (nn b) x2) q A (nn (T (kO L b))) (nn (T (kO L b + 1))) (nn (i + 1)) := by
      show X0_beingOn_b47 N (nn b) x2 (rn4 (X0_beingOn_b47 N (nn b) x2) q) A _ _ (nn i) = _
      generalize rn4 (X0_beingOn_b47 N (nn b) x2) q = kk
      unfold X0_beingOn_b47 X0_beingOn_b84
      rw [if_neg (fun z => by have := (nn_le (by omega) (by omega)).mp z; omega), sI_nn (by omega) (by decide), bo_some, e1, sI_nn (by omega) (by decide), bo_some, e2, nn_succ]
      by_cases z1 : T (kO L i) = T (kO L b)
      · rw [if_pos ((nn_eq (by omega) (by omega)).mpr z1)]
        by_cases z2 : T (kO L i + 1) = T (kO L b + 1)
        · rw [if_pos ((nn_eq (by omega) (by omega)).mpr z2), if_pos ⟨z1, z2⟩]
        · rw [if_neg (fun q => z2 ((nn_eq (by omega) (by omega)).mp q)), if_neg (fun q => z2 q.2)]
      · rw [if_neg (fun q => z1 ((nn_eq (by omega) (by omega)).mp q)), if_neg (fun q => z1 q.1)]
    rw [hX]
    by_cases z : T (kO L i) = T (kO L b) ∧ T (kO L i + 1) = T (kO L b + 1)
    · rw [if_pos z]
      exact Or.inl ⟨⟨i, by omega, z.1, z.2⟩, rfl⟩
    · rw [if_neg z]
      refine ih (i + 1) q (by omega) (by omega) (fun o ho => ?_)
      rcases Nat.lt_or_ge o i with y | y
      · exact hn o y
      · rw [show o = i by omega]; exact z
theorem dupM {N : Nat} (hT : TT A σ T) {b : Nat} (hb : b < nb) (hnb : nb ≤ 8) (bL : L ≤ 6) : ∀ (j i q : Nat), i + j = b → j < q → (∀ o, o < i → ¬ (T (kO L o) = T (kO L b) ∧ T (kO L o + 1) = T (kO L b + 1))) → (dupO T L b ∧ rn2 (M_isBeingTold_b87 N σ) q (nn (kO L b)) (nn (kO L i)) = some 0) ∨ (¬ dupO T L b ∧ rn2 (M_isBeingTold_b87 N σ) q (nn (kO L b)) (nn (kO L i)) = some 1) := by
  intro j
  induction j with
  | zero =>
    intro i q hi hq hn
    obtain ⟨q, rfl⟩ : ∃ z, q = z + 1 := ⟨q - 1, by omega⟩
    right
    refine ⟨?_, ?_⟩
    · rintro ⟨o, ho, e1, e2⟩
      exact hn o (by omega) ⟨e1, e2⟩
    · show M_isBeingTold_b87 N σ _ (nn (kO L b)) (nn (kO L i)) = _
      unfold M_isBeingTold_b87
      rw [if_pos ((nn_le (by unfold kO; omega) (by unfold kO; omega)).mpr (by unfold kO; omega))]
  | succ j ih =>
    intro i q hi hq hn
    obtain ⟨q, rfl⟩ : ∃ z, q = z + 1 := ⟨q - 1, by omega⟩
    have t1 := (hT (kO L i) (by unfold kO; omega)).1
    have t2 := (hT (kO L b) (by unfold kO; omega)).1
    have t3 := (hT (kO L i + 1) (by unfold kO; omega)).1
    have t4 := (hT (kO L b + 1) (by unfold kO; omega)).1
    have hM : rn2 (M_isBeingTold_b87 N σ) (q + 1) (nn (kO L b)) (nn (kO L i)) = if T (kO L i) = T (kO L b) ∧ T (kO L i + 1) = T (kO L b + 1) then some 0 else rn2 (M_isBeingTold_b87 N σ) q (nn (kO L b)) (nn (kO L (i + 1))) := by
      show M_isBeingTold_b87 N σ (rn2 (M_isBeingTold_b87 N σ) q) (nn (kO L b)) (nn (kO L i)) = _
      generalize rn2 (M_isBeingTold_b87 N σ) q = kk
      unfold M_isBeingTold_b87 M_isBeingTold_b131
      rw [if_neg (fun z => by have := (nn_le (by unfold kO; omega) (by unfold kO; omega)).mp z; unfold kO at this; omega), hT.m (by unfold kO; omega), bo_some, hT.m (by unfold kO; omega), bo_some, nn_succ, hT.m (by unfold kO; omega), bo_some, nn_succ, hT.m (by unfold kO; omega), bo_some, show (nn (kO L i) + 6 : Int32) = nn (kO L (i + 1)) from (nn_add (kO L i) 6).trans (by unfold kO; rw [show 2 + L + 6 * i + 6 = 2 + L + 6 * (i + 1) by omega])]
      by_cases z1 : T (kO L i) = T (kO L b)
      · rw [if_pos ((nn_eq (by omega) (by omega)).mpr z1)]
        by_cases z2 : T (kO L i + 1) = T (kO L b + 1)
        · rw [if_pos ((nn_eq (by omega) (by omega)).mpr z2), if_pos ⟨z1, z2⟩]
        · rw [if_neg (fun q => z2 ((nn_eq (by omega) (by omega)).mp q)), if_neg (fun q => z2 q.2)]
      · rw [if_neg (fun q => z1 ((nn_eq (by omega) (by omega)).mp q)), if_neg (fun q => z1 q.1)]
    rw [hM]
    by_cases z : T (kO L i) = T (kO L b) ∧ T (kO L i + 1) = T (kO L b + 1)
    · rw [if_pos z]
      exact Or.inl ⟨⟨i, by omega, z.1, z.2⟩, rfl⟩
    · rw [if_neg z]
      refine ih (i + 1) q (by omega) (by omega) (fun o ho => ?_)
      rcases Nat.lt_or_ge o i with y | y
      · exact hn o y
      · rw [show o = i by omega]; exact z
theorem beingM {N : Nat} (hN : 5000 ≤ N) (h : FR A σ fo nb L C W) (hT : TT A σ T) {b : Nat} (hb : b < nb) : (goodO T L C b ∧ M_isBeingTold N σ (nn (2 + L)) (nn b) = some 1) ∨ (¬ goodO T L C b ∧ M_isBeingTold N σ (nn (2 + L)) (nn b) = some 0) := by
  have bn := h.bn
  have bL := h.bL
  have bC := h.bC
  have e0 : (nn (2 + L) + (6 * nn b) : Int32) = nn (kO L b) := by
    rw [show (6 : Int32) = nn 6 from rfl, nn_mul, nn_add]
  have t2 := (hT (kO L b) (by unfold kO; omega)).1
  have t4 := (hT (kO L b + 1) (by unfold kO; omega)).1
  obtain ⟨p, _, hp, _, q2⟩ := isCell_eq h (nn (T (kO L b))) (nn (T (kO L b + 1)))
  have hp' : p ↔ (T (kO L b) < L ∧ T (kO L b + 1) < C) := by
    rw [hp]
    constructor
    · rintro ⟨l, c, hl, hc, e1, e2⟩
      rw [nn_eq (by omega) (by omega)] at e1 e2
      omega
    · rintro ⟨h1, h2⟩
      exact ⟨_, _, h1, h2, rfl, rfl⟩
  have hM : M_isBeingTold N σ (nn (2 + L)) (nn b) = if p then (if ((nn (T (2 + T (kO L b))) >>> (nn (T (kO L b + 1)) &&& 31)) &&& 1) = 1 then some 0 else (if 9999 < nn (tw2 T (kO L b + 2)) then some 0 else (if nn (tw2 T (kO L b + 4)) ≤ 9999 then rn2 (M_isBeingTold_b87 N σ) N (nn (kO L b)) (nn (2 + L)) else some 0))) else some 0 := by
    unfold M_isBeingTold
    rw [e0, hT.m (by unfold kO; omega), bo_some, nn_succ, hT.m (by unfold kO; omega), bo_some, q2, bo_some, bt0]
    by_cases c : p
    · have := hp'.mp c
      rw [if_pos c, if_pos c, bo_some, show (2 + nn (T (kO L b)) : Int32) = nn (2 + T (kO L b)) from nn_add 2 _, hT.m (by omega), bo_some, bo_some, show (nn (kO L b) + 2 : Int32) = nn (kO L b + 2) from nn_add _ 2, hT.m2 (by unfold kO; omega), bo_some, show (nn (kO L b) + 4 : Int32) = nn (kO L b + 4) from nn_add _ 4, hT.m2 (by unfold kO; omega), bo_some]
    · rw [if_neg c, if_neg c]
  have b2 := hT.b2 (k := kO L b + 2) (by unfold kO; omega)
  have b4 := hT.b2 (k := kO L b + 4) (by unfold kO; omega)
  rw [hM]
  by_cases c : p
  · rw [if_pos c]
    have hc := hp'.mp c
    by_cases cb : ((nn (T (2 + T (kO L b))) >>> (nn (T (kO L b + 1)) &&& 31)) &&& 1) = 1
    · right; exact ⟨fun g => g.2.1 cb, if_pos cb⟩
    · rw [if_neg cb]
      by_cases c2 : tw2 T (kO L b + 2) ≤ 9999
      · rw [if_neg (fun q => by rw [show (9999 : Int32) = nn 9999 from rfl, nn_lt (by omega) (by omega)] at q; omega)]
        by_cases c4 : tw2 T (kO L b + 4) ≤ 9999
        · rw [if_pos (by rw [show (9999 : Int32) = nn 9999 from rfl, nn_le (by omega) (by omega)]; exact c4)]
          rcases dupM (N := N) hT hb bn bL b 0 N (by omega) (by omega) (fun o ho => by omega) with ⟨d1, d2⟩ | ⟨d1, d2⟩
          · right; exact ⟨fun g => g.2.2.1 d1, d2⟩
          · left; exact ⟨⟨hc, cb, d1, c2, c4⟩, d2⟩
        · right
          rw [if_neg (fun q => by rw [show (9999 : Int32) = nn 9999 from rfl, nn_le (by omega) (by omega)] at q; exact c4 q)]
          exact ⟨fun g => c4 g.2.2.2.2, rfl⟩
      · right
        rw [if_pos (by rw [show (9999 : Int32) = nn 9999 from rfl, nn_lt (by omega) (by omega)]; omega)]
        exact ⟨fun g => c2 g.2.2.2.1, rfl⟩
  · right
    rw [if_neg c]
    exact ⟨fun g => c (hp'.mpr g.1), rfl⟩
theorem beingX {N : Nat} (hN : 5000 ≤ N) (h : IV A0 σ fo nb L C W n ρ u w κ t m o) (hT : TT A0 σ T) {d0 b : Nat} (hb : b < nb) (B : OB A0 A σ L L b d0 T) : ∃ A', (goodO T L C b ∧ X0_beingOn N A (nn b) (nn (kO L b)) = some (1, A') ∧ OB A0 A' σ L L (b + 1) d0 T) ∨ (¬ goodO T L C b ∧ X0_beingOn N A (nn b) (nn (kO L b)) = some (0, A') ∧ OB A0 A' σ L L 0 d0 T) := by
  have fr := (B.iv h).fr
  have bn := fr.bn
  have bL := fr.bL
  have bC := fr.bC
  have tA := hT.ch B.ch (by unfold P64; omega)
  have B0 : OB A0 A σ L L 0 d0 T := OB.mk B.ch B.kt B.day B.gl B.gr (fun i hi => by omega)
  have t2 := (hT (kO L b) (by unfold kO; omega)).1
  have t4 := (hT (kO L b + 1) (by unfold kO; omega)).1
  obtain ⟨p, _, hp, q1, _⟩ := isCell_eq fr (nn (T (kO L b))) (nn (T (kO L b + 1)))
  have hp' : p ↔ (T (kO L b) < L ∧ T (kO L b + 1) < C) := by
    rw [hp]
    constructor
    · rintro ⟨l, c, hl, hc, e1, e2⟩
      rw [nn_eq (by omega) (by omega)] at e1 e2
      omega
    · rintro ⟨h1, h2⟩
      exact ⟨_, _, h1, h2, rfl, rfl⟩
  have hX : X0_beingOn N A (nn b) (nn (kO L b)) = if p then (bo (sI 6 31 A 65 (nn (T (kO L b)))) fun v4 => bo (X0_has v4 (nn (T (kO L b + 1)))) fun r5 => if r5 = 0 then (rn4 (X0_beingOn_b47 N (nn b) (nn (kO L b))) N A (nn (T (kO L b))) (nn (T (kO L b + 1))) 0) else (some (0, A))) else some (0, A) := by
    unfold X0_beingOn
    rw [tA.x (by unfold kO; omega), bo_some, nn_succ, tA.x (by unfold kO; omega), bo_some, q1, bo_some, bt0]
  by_cases c : p
  · have hc := hp'.mp c
    rw [hX, if_pos c, sI_nn (by omega) (by decide), bo_some, B.gl _ hc.1]
    by_cases cb : ((nn (T (2 + T (kO L b))) >>> (nn (T (kO L b + 1)) &&& 31)) &&& 1) = 1
    · refine ⟨A, Or.inr ⟨fun g => g.2.1 cb, ?_, B0⟩⟩
      unfold X0_has
      rw [if_pos cb, bo_some, if_neg (by decide)]
    · have hh : X0_has (nn (T (2 + T (kO L b)))) (nn (T (kO L b + 1))) = some 0 := by
        unfold X0_has
        exact if_neg cb
      rw [hh, bo_some, if_pos rfl]
      rcases dupX (N := N) tA hb bn bL (nn (kO L b)) (fun i hi => ⟨(B.be i hi).1, (B.be i hi).2.1⟩) b 0 N (by omega) (by omega) (fun o ho => by omega) with ⟨d1, d2⟩ | ⟨d1, d2⟩
      · refine ⟨A, Or.inr ⟨fun g => g.2.2.1 d1, d2, B0⟩⟩
      · -- all four are put down
        let A6 := wI A 31 66 b (nn (T (kO L b)))
        let A7 := wI A6 31 67 b (nn (T (kO L b + 1)))
        let A9 := wI A7 31 68 b (nn (tw2 T (kO L b + 2)))
        let A11 := wI A9 31 69 b (nn (tw2 T (kO L b + 4)))
        have c7 : Ch P64 A A7 := (Ch.wI (show P64 31 66 from ⟨by omega, by omega⟩)).trans (Ch.wI ⟨by omega, by omega⟩)
        have c9 : Ch P64 A A9 := c7.trans (Ch.wI ⟨by omega, by omega⟩)
        have c11 : Ch P64 A A11 := c9.trans (Ch.wI ⟨by omega, by omega⟩)
        have t7 := tA.ch c7 (by unfold P64; omega)
        have t9 := tA.ch c9 (by unfold P64; omega)
        have rd : ∀ f i j, ¬ (f = 31 ∧ 66 ≤ i ∧ i ≤ 69) → aI A11 f i j = aI A f i j := by
          intro f i j z
          show aI (wI (wI (wI (wI A 31 66 b (nn (T (kO L b)))) 31 67 b (nn (T (kO L b + 1)))) 31 68 b (nn (tw2 T (kO L b + 2)))) 31 69 b (nn (tw2 T (kO L b + 4)))) f i j = _
          rw [aI_wI, if_neg (by omega), aI_wI, if_neg (by omega), aI_wI, if_neg (by omega), aI_wI, if_neg (by omega)]
        have v66 : ∀ j, aI A11 31 66 j = if j = b then nn (T (kO L b)) else aI A 31 66 j := by
          intro j
          show aI (wI (wI (wI (wI A 31 66 b (nn (T (kO L b)))) 31 67 b (nn (T (kO L b + 1)))) 31 68 b (nn (tw2 T (kO L b + 2)))) 31 69 b (nn (tw2 T (kO L b + 4)))) 31 66 j = _
          rw [aI_wI, if_neg (by omega), aI_wI, if_neg (by omega), aI_wI, if_neg (by omega), aI_wI]
          by_cases z : j = b
          · rw [if_pos ⟨rfl, rfl, z⟩, if_pos z]
          · rw [if_neg (fun q => z q.2.2), if_neg z]
        have v67 : ∀ j, aI A11 31 67 j = if j = b then nn (T (kO L b + 1)) else aI A 31 67 j := by
          intro j
          show aI (wI (wI (wI (wI A 31 66 b (nn (T (kO L b)))) 31 67 b (nn (T (kO L b + 1)))) 31 68 b (nn (tw2 T (kO L b + 2)))) 31 69 b (nn (tw2 T (kO L b + 4)))) 31 67 j = _
          rw [aI_wI, if_neg (by omega), aI_wI, if_neg (by omega), aI_wI]
          by_cases z : j = b
          · rw [if_pos ⟨rfl, rfl, z⟩, if_pos z]
          · rw [if_neg (fun q => z q.2.2), if_neg z, aI_wI, if_neg (by omega)]
        have v68 : ∀ j, aI A11 31 68 j = if j = b then nn (tw2 T (kO L b + 2)) else aI A 31 68 j := by
          intro j
          show aI (wI (wI (wI (wI A 31 66 b (nn (T (kO L b)))) 31 67 b (nn (T (kO L b + 1)))) 31 68 b (nn (tw2 T (kO L b + 2)))) 31 69 b (nn (tw2 T (kO L b + 4)))) 31 68 j = _
          rw [aI_wI, if_neg (by omega), aI_wI]
          by_cases z : j = b
          · rw [if_pos ⟨rfl, rfl, z⟩, if_pos z]
          · rw [if_neg (fun q => z q.2.2), if_neg z, aI_wI, if_neg (by omega), aI_wI, if_neg (by omega)]
        have v69 : ∀ j, aI A11 31 69 j = if j = b then nn (tw2 T (kO L b + 4)) else aI A 31 69 j := by
          intro j
          show aI (wI (wI (wI (wI A 31 66 b (nn (T (kO L b)))) 31 67 b (nn (T (kO L b + 1)))) 31 68 b (nn (tw2 T (kO L b + 2)))) 31 69 b (nn (tw2 T (kO L b + 4)))) 31 69 j = _
          rw [aI_wI]
          by_cases z : j = b
          · rw [if_pos ⟨rfl, rfl, z⟩, if_pos z]
          · rw [if_neg (fun q => z q.2.2), if_neg z, aI_wI, if_neg (by omega), aI_wI, if_neg (by omega), aI_wI, if_neg (by omega)]
        have d2' : rn4 (X0_beingOn_b47 N (nn b) (nn (kO L b))) N A (nn (T (kO L b))) (nn (T (kO L b + 1))) 0 = _ := d2
        have b2 := hT.b2 (k := kO L b + 2) (by unfold kO; omega)
        have b4 := hT.b2 (k := kO L b + 4) (by unfold kO; omega)
        have B11 : OB A0 A11 σ L L (b + 1) d0 T := by
          obtain ⟨ρ', k⟩ := B.kt
          have kr : KR A11 64 0 ρ' := by
            refine KR.mk ?_ k.kb (fun i hi => ?_) k.ri
            · rw [rd _ _ _ (by omega)]; exact k.kn
            · exact k.rr i hi
          refine OB.mk (B.ch.trans c11) ⟨ρ', kr⟩ ?_ ?_ ?_ ?_
          · rw [rd _ _ _ (by omega)]; exact B.day
          · intro i hi; rw [rd _ _ _ (by omega)]; exact B.gl i hi
          · intro i h1 h2; rw [rd _ _ _ (by omega)]; exact B.gr i h1 h2
          · intro i hi
            rw [v66, v67, v68, v69]
            by_cases z : i = b
            · rw [if_pos z, if_pos z, if_pos z, if_pos z, z]; exact ⟨rfl, rfl, rfl, rfl⟩
            · rw [if_neg z, if_neg z, if_neg z, if_neg z]; exact B.be i (by omega)
        have B110 : OB A0 A11 σ L L 0 d0 T := OB.mk B11.ch B11.kt B11.day B11.gl B11.gr (fun i hi => by omega)
        have fin : rn4 (X0_beingOn_b47 N (nn b) (nn (kO L b))) N A (nn (T (kO L b))) (nn (T (kO L b + 1))) 0 = if 9999 < nn (tw2 T (kO L b + 2)) then (some (0, A11)) else (if 9999 < nn (tw2 T (kO L b + 4)) then (some (0, A11)) else (some (1, A11))) := by
          rw [d2', tI_nn (by omega) (by decide), bo_some, tI_nn (by omega) (by decide), bo_some, show (nn (kO L b) + 2 : Int32) = nn (kO L b + 2) from nn_add _ 2, show X0_twoAt (wI (wI A 31 66 b (nn (T (kO L b)))) 31 67 b (nn (T (kO L b + 1)))) (nn (kO L b + 2)) = _ from t7.x2 (by unfold kO; omega), bo_some, tI_nn (by omega) (by decide), bo_some, show (nn (kO L b) + 4 : Int32) = nn (kO L b + 4) from nn_add _ 4]
          rw [show X0_twoAt (wI (wI (wI A 31 66 b (nn (T (kO L b)))) 31 67 b (nn (T (kO L b + 1)))) 31 68 b (nn (tw2 T (kO L b + 2)))) (nn (kO L b + 4)) = _ from t9.x2 (by unfold kO; omega), bo_some, tI_nn (by omega) (by decide), bo_some]
          show (bo (sI 8 31 A11 68 (nn b)) fun v12 => if 9999 < v12 then (some (0, A11)) else (bo (sI 8 31 A11 69 (nn b)) fun v13 => if 9999 < v13 then (some (0, A11)) else (some (1, A11)))) = _
          rw [sI_nn (by omega) (by decide), bo_some, v68, if_pos rfl, sI_nn (by omega) (by decide), bo_some, v69, if_pos rfl]
        rw [fin]
        by_cases c2 : tw2 T (kO L b + 2) ≤ 9999
        · rw [if_neg (fun q => by rw [show (9999 : Int32) = nn 9999 from rfl, nn_lt (by omega) (by omega)] at q; omega)]
          by_cases c4 : tw2 T (kO L b + 4) ≤ 9999
          · rw [if_neg (fun q => by rw [show (9999 : Int32) = nn 9999 from rfl, nn_lt (by omega) (by omega)] at q; omega)]
            exact ⟨A11, Or.inl ⟨⟨hc, cb, d1, c2, c4⟩, rfl, B11⟩⟩
          · rw [if_pos (by rw [show (9999 : Int32) = nn 9999 from rfl, nn_lt (by omega) (by omega)]; omega)]
            exact ⟨A11, Or.inr ⟨fun g => c4 g.2.2.2.2, rfl, B110⟩⟩
        · rw [if_pos (by rw [show (9999 : Int32) = nn 9999 from rfl, nn_lt (by omega) (by omega)]; omega)]
          exact ⟨A11, Or.inr ⟨fun g => c2 g.2.2.2.1, rfl, B110⟩⟩
  · rw [hX, if_neg c]
    exact ⟨A, Or.inr ⟨fun g => c (hp'.mpr g.1), rfl, B0⟩⟩
theorem on_be {N : Nat} (hN : 5000 ≤ N) (h : IV A0 σ fo nb L C W n ρ u w κ t m o) (hT : TT A0 σ T) {d0 : Nat} : ∀ (j b q1 q2 : Nat) (A : AH), b + j = nb → j + 1 < q1 → j < q2 → OB A0 A σ L L b d0 T → (∀ i, i < b → goodO T L C i) →
    (Fl N (rn4 (X0_on_b175 N) q1 A (nn (2 + L)) 1 (nn b)) A0 σ fo nb L C W n ρ u w κ t m o ∧ rn2 (M_isImage_b97 N σ) q2 (nn (2 + L)) (nn b) = some 0) ∨
    (∃ A', rn4 (X0_on_b175 N) q1 A (nn (2 + L)) 1 (nn b) = X0_on_b208 N A' 1 ∧ rn2 (M_isImage_b97 N σ) q2 (nn (2 + L)) (nn b) = some 1 ∧ OB A0 A' σ L L nb d0 T ∧ ∀ i, i < nb → goodO T L C i) := by
  have bn := h.fr.bn
  have bL := h.fr.bL
  intro j
  induction j with
  | zero =>
    intro b q1 q2 A hb h1 h2 B hg
    obtain ⟨q1, rfl⟩ : ∃ z, q1 = z + 1 := ⟨q1 - 1, by omega⟩
    obtain ⟨q2, rfl⟩ : ∃ z, q2 = z + 1 := ⟨q2 - 1, by omega⟩
    have : b = nb := by omega
    subst this
    right
    refine ⟨A, ?_, ?_, B, hg⟩
    · show X0_on_b175 N _ A (nn (2 + L)) 1 (nn b) = _
      unfold X0_on_b175
      rw [(B.iv h).fr.beings, bo_some, if_pos ((nn_le (by omega) (by omega)).mpr (by omega))]
    · show M_isImage_b97 N σ _ (nn (2 + L)) (nn b) = _
      unfold M_isImage_b97
      rw [h.fr.beingMany, bo_some, if_pos ((nn_le (by omega) (by omega)).mpr (by omega))]
  | succ j ih =>
    intro b q1 q2 A hb h1 h2 B hg
    obtain ⟨q1, rfl⟩ : ∃ z, q1 = z + 1 := ⟨q1 - 1, by omega⟩
    obtain ⟨q2, rfl⟩ : ∃ z, q2 = z + 1 := ⟨q2 - 1, by omega⟩
    have e0 : (nn (2 + L) + (6 * nn b) : Int32) = nn (kO L b) := by
      rw [show (6 : Int32) = nn 6 from rfl, nn_mul, nn_add]
    obtain ⟨A1, hA1⟩ := beingX hN h hT (b := b) (by omega) B
    have hX : ∀ r, X0_beingOn N A (nn b) (nn (kO L b)) = some (r, A1) → rn4 (X0_on_b175 N) (q1 + 1) A (nn (2 + L)) 1 (nn b) = rn4 (X0_on_b175 N) q1 A1 (nn (2 + L)) r (nn (b + 1)) := by
      intro r hr
      show X0_on_b175 N (rn4 (X0_on_b175 N) q1) A (nn (2 + L)) 1 (nn b) = _
      generalize rn4 (X0_on_b175 N) q1 = kk
      unfold X0_on_b175
      rw [(B.iv h).fr.beings, bo_some, if_neg (fun z => by have := (nn_le (by omega) (by omega)).mp z; omega), if_neg (by decide), e0, hr, bd_some, nn_succ]
    have hM : ∀ r, M_isBeingTold N σ (nn (2 + L)) (nn b) = some r → rn2 (M_isImage_b97 N σ) (q2 + 1) (nn (2 + L)) (nn b) = if r = 0 then some 0 else rn2 (M_isImage_b97 N σ) q2 (nn (2 + L)) (nn (b + 1)) := by
      intro r hr
      show M_isImage_b97 N σ (rn2 (M_isImage_b97 N σ) q2) (nn (2 + L)) (nn b) = _
      generalize rn2 (M_isImage_b97 N σ) q2 = kk
      unfold M_isImage_b97
      rw [h.fr.beingMany, bo_some, if_neg (fun z => by have := (nn_le (by omega) (by omega)).mp z; omega), hr, bo_some, nn_succ]
    rcases beingM hN h.fr hT (b := b) (by omega) with ⟨g1, g2⟩ | ⟨g1, g2⟩
    · rcases hA1 with ⟨_, x1, x2⟩ | ⟨x0, _, _⟩
      · rw [hX 1 x1, hM 1 g2, if_neg (by decide)]
        refine ih (b + 1) q1 q2 A1 (by omega) (by omega) (by omega) x2 (fun i hi => ?_)
        rcases Nat.lt_or_ge i b with y | y
        · exact hg i y
        · rw [show i = b by omega]; exact g1
      · exact absurd g1 x0
    · rcases hA1 with ⟨x0, _, _⟩ | ⟨_, x1, x2⟩
      · exact absurd x0 g1
      · left
        rw [hX 0 x1, hM 0 g2, if_pos rfl, on175z _ (x2.iv h).fr (by omega)]
        exact ⟨on208 x2 h, rfl⟩
end ON_
