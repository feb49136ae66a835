/-! PURE LEVEL: who can be told least, behind the next day -/
set_option maxRecDepth 100000
/-- how many openings below k, out of the set v, leave being b on cell c -/
def cntO (f : Nat → Int32) (v b c : Nat) : Nat → Nat
  | 0 => 0
  | k + 1 => cntO f v b c k + (if v.testBit k = true ∧ f (8 * k + b) = nn c then 1 else 0)
theorem cntO_le (f : Nat → Int32) (v b c : Nat) : ∀ k, cntO f v b c k ≤ k := by
  intro k
  induction k with
  | zero => exact Nat.le_refl 0
  | succ k ih =>
    show cntO f v b c k + _ ≤ k + 1
    split <;> omega
theorem cntO_cg {f g : Nat → Int32} {v v' b c : Nat} : ∀ k, (∀ i, i < k → f (8 * i + b) = g (8 * i + b) ∧ (v.testBit i = true ↔ v'.testBit i = true)) → cntO f v b c k = cntO g v' b c k := by
  intro k
  induction k with
  | zero => intro _; rfl
  | succ k ih =>
    intro h
    obtain ⟨h1, h2⟩ := h k (by omega)
    show cntO f v b c k + _ = cntO g v' b c k + _
    rw [ih (fun i hi => h i (by omega)), h1]
    by_cases z : v.testBit k = true ∧ g (8 * k + b) = nn c
    · rw [if_pos z, if_pos ⟨h2.mp z.1, z.2⟩]
    · rw [if_neg z, if_neg (fun q => z ⟨h2.mpr q.1, q.2⟩)]
theorem cntO_zero {f : Nat → Int32} {v b c : Nat} : ∀ k, (∀ i, i < k → f (8 * i + b) ≠ nn c) → cntO f v b c k = 0 := by
  intro k
  induction k with
  | zero => intro _; rfl
  | succ k ih =>
    intro h
    show cntO f v b c k + _ = 0
    rw [ih (fun i hi => h i (by omega)), if_neg (fun q => h k (by omega) q.2)]
def mxR (g : Nat → Nat) : Nat → Nat → Nat → Nat
  | 0, _, s => s
  | j + 1, c, s => mxR g j (c + 1) (max s (g c))
theorem mxR_add (g : Nat → Nat) : ∀ a b c s, mxR g (a + b) c s = mxR g b (c + a) (mxR g a c s) := by
  intro a
  induction a with
  | zero => intro b c s; rw [Nat.zero_add]; rfl
  | succ a ih =>
    intro b c s
    rw [show a + 1 + b = (a + b) + 1 by omega]
    show mxR g (a + b) (c + 1) (max s (g c)) = mxR g b (c + (a + 1)) (mxR g a (c + 1) (max s (g c)))
    rw [ih, show c + 1 + a = c + (a + 1) by omega]
theorem mxR_zero (g : Nat → Nat) : ∀ b c s, (∀ i, c ≤ i → i < c + b → g i = 0) → mxR g b c s = s := by
  intro b
  induction b with
  | zero => intro c s _; rfl
  | succ b ih =>
    intro c s h
    show mxR g b (c + 1) (max s (g c)) = s
    rw [h c (by omega) (by omega), ih (c + 1) _ (fun i h1 h2 => h i (by omega) (by omega))]
    omega
theorem mxR_le (g : Nat → Nat) (B : Nat) (hg : ∀ i, g i ≤ B) : ∀ b c s, s ≤ B → mxR g b c s ≤ B := by
  intro b
  induction b with
  | zero => intro c s h; exact h
  | succ b ih =>
    intro c s h
    exact ih (c + 1) _ (by have := hg c; omega)
theorem max_nn {a b : Nat} (ha : a < 2147483648) (hb : b < 2147483648) : J12_max (nn a) (nn b) = some (nn (max a b)) := by
  unfold J12_max
  by_cases z : a < b
  · rw [if_pos ((nn_lt ha hb).mpr z), show max a b = b by omega]
  · rw [if_neg (fun q => z ((nn_lt ha hb).mp q)), show max a b = a by omega]
theorem there_k : ∀ b, b < 8 → stK (129 + b) = 31 ∧ stLn (129 + b) = 8 := by decide
theorem KS.there {A : AH} (h : KS A) {b : Nat} (hb : b < 8) : aK A (129 + b) = 31 ∧ aL A (129 + b) = 8 := by
  have h1 := h (129 + b) (by omega)
  have h2 := there_k b hb
  exact ⟨h1.1.trans h2.1, h1.2.trans h2.2⟩
def Pte (f i : Nat) : Prop := f = 31 ∧ 129 ≤ i ∧ i ≤ 136
theorem zero47 {N : Nat} {x1 : Int32} {b : Nat} (hb : b < 8) (x2 : Nat) (x3 x4 : Int32) : ∀ (j c q : Nat) (A : AH), c + j = 8 → j < q → KS A → ∃ A', (∀ k32, rn6 (X0_after_b47 N x1 k32) q A x2 x3 x4 (129 + b) (nn c) = k32 A' x2 x3 (x4 + 1)) ∧ Ch Pte A A' ∧ (∀ c', c ≤ c' → c' < 8 → aI A' 31 (129 + b) c' = 0) ∧ (∀ i c', ¬ (i = 129 + b ∧ c ≤ c') → aI A' 31 i c' = aI A 31 i c') := by
  intro j
  induction j with
  | zero =>
    intro c q A hc hq ks
    obtain ⟨q, rfl⟩ : ∃ z, q = z + 1 := ⟨q - 1, by omega⟩
    have : c = 8 := by omega
    subst this
    refine ⟨A, fun k32 => ?_, Ch.refl A, fun c' h1 h2 => by omega, fun _ _ _ => rfl⟩
    show X0_after_b47 N x1 k32 _ A x2 x3 x4 (129 + b) (nn 8) = _
    unfold X0_after_b47
    rw [if_pos (by decide)]
  | succ j ih =>
    intro c q A hc hq ks
    obtain ⟨q, rfl⟩ : ∃ z, q = z + 1 := ⟨q - 1, by omega⟩
    obtain ⟨k1, k2⟩ := ks.there hb
    have c1 : Ch Pte A (wI A 31 (129 + b) c 0) := Ch.wI ⟨rfl, by omega, by omega⟩
    obtain ⟨A', p1, p2, p3, p4⟩ := ih (c + 1) q (wI A 31 (129 + b) c 0) (by omega) (by omega) (ks.ch c1)
    refine ⟨A', fun k32 => ?_, c1.trans p2, fun c' h1 h2 => ?_, fun i c' h => ?_⟩
    · rw [← p1 k32]
      show X0_after_b47 N x1 k32 (rn6 (X0_after_b47 N x1 k32) q) A x2 x3 x4 (129 + b) (nn c) = _
      generalize rn6 (X0_after_b47 N x1 k32) q = kk
      unfold X0_after_b47
      rw [if_neg (by rw [show (8 : Int32) = nn 8 from rfl, nn_le (by omega) (by omega)]; omega), uI_nn k1 (by omega) (by omega), bo_some, nn_succ]
    · rcases Nat.eq_or_lt_of_le h1 with z | z
      · rw [p4 _ _ (by omega), aI_wI, if_pos ⟨rfl, rfl, z.symm⟩]
      · exact p3 c' z h2
    · rw [p4 i c' (by omega), aI_wI, if_neg (by omega)]
theorem zero32 {N : Nat} (hN : 5000 ≤ N) {x1 : Int32} : ∀ (j b q : Nat) (A : AH), b + j = 8 → j < q → KS A → (∀ b, b < 8 → aR A 36 128 b = some (129 + b)) → ∃ A', rn4 (X0_after_b32 N x1) q A 128 (Int32.ofNat 8) (nn b) = rn3 (X0_after_b76 N x1) N A' 0 0 ∧ Ch Pte A A' ∧ (∀ b' c', b ≤ b' → b' < 8 → c' < 8 → aI A' 31 (129 + b') c' = 0) ∧ (∀ b' c', b' < b → aI A' 31 (129 + b') c' = aI A 31 (129 + b') c') := by
  intro j
  induction j with
  | zero =>
    intro b q A hb hq ks hR
    obtain ⟨q, rfl⟩ : ∃ z, q = z + 1 := ⟨q - 1, by omega⟩
    have : b = 8 := by omega
    subst this
    refine ⟨A, ?_, Ch.refl A, fun b' c' h1 h2 => by omega, fun _ _ _ => rfl⟩
    show X0_after_b32 N x1 _ A 128 (Int32.ofNat 8) (nn 8) = _
    unfold X0_after_b32
    rw [if_pos (by decide)]
  | succ j ih =>
    intro b q A hb hq ks hR
    obtain ⟨q, rfl⟩ : ∃ z, q = z + 1 := ⟨q - 1, by omega⟩
    have k128 := ks 128 (by decide)
    obtain ⟨A1, z1, z2, z3, z4⟩ := zero47 (N := N) (x1 := x1) (b := b) (by omega) 128 (Int32.ofNat 8) (nn b) 8 0 N A (by omega) (by omega) ks
    obtain ⟨A', p1, p2, p3, p4⟩ := ih (b + 1) q A1 (by omega) (by omega) (ks.ch z2) (fun b' hb' => (z2.R b' (by unfold Pte; omega)).trans (hR b' hb'))
    refine ⟨A', ?_, z2.trans p2, fun b' c' h1 h2 h3 => ?_, fun b' c' h => ?_⟩
    · rw [← p1, ← nn_succ, ← z1 (rn4 (X0_after_b32 N x1) q)]
      show X0_after_b32 N x1 (rn4 (X0_after_b32 N x1) q) A 128 (Int32.ofNat 8) (nn b) = _
      generalize rn4 (X0_after_b32 N x1) q = kk
      unfold X0_after_b32
      rw [if_neg (by rw [show Int32.ofNat 8 = nn 8 from rfl, nn_le (by omega) (by omega)]; omega), dR_nn (show aK A 128 = 36 from k128.1) (by rw [k128.2]; show b < 8; omega) (by omega), hR b (by omega), bo_some]
      rfl
    · rcases Nat.eq_or_lt_of_le h1 with z | z
      · rw [p4 b' c' (by omega), ← z, z3 c' (by omega) h3]
      · exact p3 b' c' z h2 h3
    · rw [p4 b' c' (by omega), z4 _ _ (by omega)]
section AFT
variable {A0 A : AH} {σ0 σ : mSt} {fo nb L C W n : Nat} {ρ : Nat → Nat} {u w : Nat} {κ : Nat → Nat} {t m o : Nat}
theorem inc104 {N : Nat} {x1 : Int32} {cl : Nat → Nat} (hcl : ∀ b, b < nb → cl b < 8) (x2 x3 : Int32) : ∀ (j b q : Nat) (A : AH) (σ : mSt), b + j = nb → j < q → FR A σ fo nb L C W → KS A → (∀ b, b < 8 → aR A 36 128 b = some (129 + b)) → (∀ b, b < nb → aI A 31 67 b = nn (cl b)) → ∃ A', (∀ k76, rn4 (X0_after_b104 N x1 k76) q A x2 x3 (nn b) = k76 A' x2 (x3 + 1)) ∧ Ch Pte A A' ∧ (∀ b' c', b ≤ b' → b' < nb → aI A' 31 (129 + b') c' = if c' = cl b' then aI A 31 (129 + b') c' + 1 else aI A 31 (129 + b') c') ∧ (∀ b' c', b' < b → aI A' 31 (129 + b') c' = aI A 31 (129 + b') c') := by
  intro j
  induction j with
  | zero =>
    intro b q A σ hb hq fr ks hR hc
    have bn := fr.bn
    obtain ⟨q, rfl⟩ : ∃ z, q = z + 1 := ⟨q - 1, by omega⟩
    refine ⟨A, fun k76 => ?_, Ch.refl A, fun b' c' h1 h2 => by omega, fun _ _ _ => rfl⟩
    show X0_after_b104 N x1 k76 _ A x2 x3 (nn b) = _
    unfold X0_after_b104 X0_after_b141
    rw [fr.beings, bo_some, if_pos ((nn_le (by omega) (by omega)).mpr (by omega))]
  | succ j ih =>
    intro b q A σ hb hq fr ks hR hc
    have bn := fr.bn
    obtain ⟨q, rfl⟩ : ∃ z, q = z + 1 := ⟨q - 1, by omega⟩
    obtain ⟨k1, k2⟩ := ks.there (b := b) (by omega)
    have hb8 := hcl b (by omega)
    have c1 : Ch Pte A (wI A 31 (129 + b) (cl b) (aI A 31 (129 + b) (cl b) + 1)) := Ch.wI ⟨rfl, by omega, by omega⟩
    have fr1 : FR (wI A 31 (129 + b) (cl b) (aI A 31 (129 + b) (cl b) + 1)) σ fo nb L C W := fr.same (c1.sameOn (fun f i hi z => by unfold dyn at hi; unfold Pte at z; omega)) (c1.R 0 (by unfold Pte; omega)) (fun _ _ _ => ⟨rfl, rfl⟩)
    obtain ⟨A', p1, p2, p3, p4⟩ := ih (b + 1) q _ σ (by omega) (by omega) fr1 (ks.ch c1) (fun b' hb' => (c1.R b' (by unfold Pte; omega)).trans (hR b' hb')) (fun b' hb' => (c1.I b' (by unfold Pte; omega)).trans (hc b' hb'))
    refine ⟨A', fun k76 => ?_, c1.trans p2, fun b' c' h1 h2 => ?_, fun b' c' h => ?_⟩
    · rw [← p1 k76]
      show X0_after_b104 N x1 k76 (rn4 (X0_after_b104 N x1 k76) q) A x2 x3 (nn b) = _
      generalize rn4 (X0_after_b104 N x1 k76) q = kk
      unfold X0_after_b104
      rw [fr.beings, bo_some, if_neg (fun z => by have := (nn_le (by omega) (by omega)).mp z; omega), sR_nn (by omega) (by decide), hR b (by omega), bo_some, sI_nn (by omega) (by decide), bo_some, hc b (by omega), dI_nn k1 (by omega) (by omega), bo_some, uI_nn k1 (by omega) (by omega), bo_some, nn_succ]
    · rcases Nat.eq_or_lt_of_le h1 with z | z
      · subst z
        rw [p4 b c' (by omega), aI_wI]
        by_cases y : c' = cl b
        · rw [if_pos ⟨rfl, rfl, y⟩, if_pos y, y]
        · rw [if_neg (fun q => y q.2.2), if_neg y]
      · have e : ∀ y, aI (wI A 31 (129 + b) (cl b) (aI A 31 (129 + b) (cl b) + 1)) 31 (129 + b') y = aI A 31 (129 + b') y := fun y => by rw [aI_wI, if_neg (by omega)]
        rw [p3 b' c' z h2, e]
    · rw [p4 b' c' (by omega), aI_wI, if_neg (by omega)]
/-- both sides behind p openings -/
def AF (A : AH) (σ : mSt) (nb C p v k : Nat) : Prop :=
  (v < 256) ∧
  (∀ o, p ≤ o → o < 8 → v.testBit o = false) ∧
  (k = 0 ↔ v = 0) ∧
  (k ≤ p) ∧
  (∀ b c, b < nb → c < 8 → aI A 31 (129 + b) c = nn (cntO (σ.1 67) v b c p)) ∧
  (∀ i b, i < p → b < nb → ∃ c, c < C ∧ σ.1 67 (8 * i + b) = nn c)
theorem AF.vb {A : AH} {σ : mSt} {nb C p v k : Nat} (h : AF A σ nb C p v k) : v < 256 := h.1
theorem AF.vh {A : AH} {σ : mSt} {nb C p v k : Nat} (h : AF A σ nb C p v k) : ∀ o, p ≤ o → o < 8 → v.testBit o = false := h.2.1
theorem AF.kz {A : AH} {σ : mSt} {nb C p v k : Nat} (h : AF A σ nb C p v k) : k = 0 ↔ v = 0 := h.2.2.1
theorem AF.kp {A : AH} {σ : mSt} {nb C p v k : Nat} (h : AF A σ nb C p v k) : k ≤ p := h.2.2.2.1
theorem AF.ct {A : AH} {σ : mSt} {nb C p v k : Nat} (h : AF A σ nb C p v k) : ∀ b c, b < nb → c < 8 → aI A 31 (129 + b) c = nn (cntO (σ.1 67) v b c p) := h.2.2.2.2.1
theorem AF.ce {A : AH} {σ : mSt} {nb C p v k : Nat} (h : AF A σ nb C p v k) : ∀ i b, i < p → b < nb → ∃ c, c < C ∧ σ.1 67 (8 * i + b) = nn c := h.2.2.2.2.2
theorem AF.mk {A : AH} {σ : mSt} {nb C p v k : Nat} (h_vb : v < 256) (h_vh : ∀ o, p ≤ o → o < 8 → v.testBit o = false) (h_kz : k = 0 ↔ v = 0) (h_kp : k ≤ p) (h_ct : ∀ b c, b < nb → c < 8 → aI A 31 (129 + b) c = nn (cntO (σ.1 67) v b c p)) (h_ce : ∀ i b, i < p → b < nb → ∃ c, c < C ∧ σ.1 67 (8 * i + b) = nn c) : AF A σ nb C p v k := ⟨h_vb, h_vh, h_kz, h_kp, h_ct, h_ce⟩
theorem or_nz : ∀ v, v < 256 → ∀ p, p < 8 → v ||| (1 <<< p) ≠ 0 := by decide +kernel
theorem after_loop {N : Nat} (hN : 5000 ≤ N) (h : IV A0 σ0 fo nb L C W n ρ u w κ t m o) {d : Nat} (hd : d ≤ 1000) (ed : σ0.1 56 0 = nn d) (x1 : Int32) : ∀ (j p q1 q2 v k : Nat) (A : AH) (σ : mSt), p + j = L + 1 → j < q1 → j < q2 → AF A σ nb C p v k → TH A0 σ0 A σ → (∀ i, i < 39 → σ.1 56 i = σ0.1 56 i) → σ.1 62 0 = 0 → ∃ v' k' A' σ', rn3 (X0_after_b76 N x1) q1 A (nn k) (nn p) = rn5 (X0_after_b157 N x1) N A' (nn k') (-1) 100000000 0 ∧ rn3 (M_openingsSeen_b8 N) q2 σ (nn v) (nn p) = some (nn v', σ') ∧ IV A' σ' fo nb L C W n ρ u w κ t m o ∧ A'.1 = A0.1 ∧ AF A' σ' nb C (L + 1) v' k' := by
  have bL := h.fr.bL
  have bn := h.fr.bn
  have bC := h.fr.bC
  intro j
  induction j with
  | zero =>
    intro p q1 q2 v k A σ hp h1 h2 F T e56 e62
    obtain ⟨q1, rfl⟩ : ∃ z, q1 = z + 1 := ⟨q1 - 1, by omega⟩
    obtain ⟨q2, rfl⟩ : ∃ z, q2 = z + 1 := ⟨q2 - 1, by omega⟩
    have fr := T.fr h
    obtain ⟨σ5, b1, b2, b3⟩ := T.back hN h
    have : p = L + 1 := by omega
    subst this
    have e67 : σ5.1 67 = σ.1 67 := funext fun j => (b3 67 j (by omega)).1
    refine ⟨v, k, A, σ5, ?_, ?_, b2, T.ch.1, AF.mk F.vb F.vh F.kz F.kp ?_ ?_⟩
    · show X0_after_b76 N x1 _ A (nn k) (nn (L + 1)) = _
      unfold X0_after_b76
      rw [fr.leavesX, if_pos ((nn_lt (by omega) (by omega)).mpr (by omega))]
    · show M_openingsSeen_b8 N _ σ (nn v) (nn (L + 1)) = _
      unfold M_openingsSeen_b8
      rw [fr.leaves, bo_some, if_pos ((nn_lt (by omega) (by omega)).mpr (by omega)), b1, bd_some]
    · rw [e67]; exact F.ct
    · rw [e67]; exact F.ce
  | succ j ih =>
    intro p q1 q2 v k A σ hp h1 h2 F T e56 e62
    obtain ⟨q1, rfl⟩ : ∃ z, q1 = z + 1 := ⟨q1 - 1, by omega⟩
    obtain ⟨q2, rfl⟩ : ∃ z, q2 = z + 1 := ⟨q2 - 1, by omega⟩
    have fr := T.fr h
    have hv := F.vb
    have kp := F.kp
    obtain ⟨A1, σ1, r, cl, r01, l1, l2, l3, l4, l5, l6, l7, l8⟩ := lie_eq hN h hd ed T e56 e62 (p := p) (by omega)
    obtain ⟨o1, o2⟩ := or_bit v hv p (by omega)
    have i67 : ∀ b c, aI A1 31 (129 + b) c = aI A 31 (129 + b) c := fun b c => l8.I c (by unfold PX; omega)
    have old : ∀ b c v', (∀ i, i < p → (v.testBit i = true ↔ v'.testBit i = true)) → b < nb → cntO (σ1.1 67) v' b c p = cntO (σ.1 67) v b c p := fun b c v' hv' hb => (cntO_cg p (fun i hi => ⟨(l7 _ (by omega)).symm, hv' i hi⟩)).symm
    have ce1 : ∀ i b, i < p + 1 → b < nb → ∃ c, c < C ∧ σ1.1 67 (8 * i + b) = nn c := by
      intro i b hi hb
      rcases Nat.lt_or_ge i p with z | z
      · rw [l7 _ (by omega)]; exact F.ce i b z hb
      · have : i = p := by omega
        subst this
        exact ⟨cl b, (l6 b hb).1, (l6 b hb).2.2⟩
    have hM : rn3 (M_openingsSeen_b8 N) (q2 + 1) σ (nn v) (nn p) = if r = 0 then rn3 (M_openingsSeen_b8 N) q2 σ1 (nn v) (nn (p + 1)) else rn3 (M_openingsSeen_b8 N) q2 σ1 (nn (v ||| (1 <<< p))) (nn (p + 1)) := by
      rw [← o1, ← l2 (nn v) (rn3 (M_openingsSeen_b8 N) q2)]
      show M_openingsSeen_b8 N (rn3 (M_openingsSeen_b8 N) q2) σ (nn v) (nn p) = _
      generalize rn3 (M_openingsSeen_b8 N) q2 = kk
      unfold M_openingsSeen_b8
      rw [fr.leaves, bo_some, if_neg (fun z => by have := (nn_lt (by omega) (by omega)).mp z; omega)]
    have hX : rn3 (X0_after_b76 N x1) (q1 + 1) A (nn k) (nn p) = if r = 0 then rn3 (X0_after_b76 N x1) q1 A1 (nn k) (nn (p + 1)) else rn4 (X0_after_b104 N x1 (rn3 (X0_after_b76 N x1) q1)) N A1 (nn (k + 1)) (nn p) 0 := by
      show X0_after_b76 N x1 (rn3 (X0_after_b76 N x1) q1) A (nn k) (nn p) = _
      generalize rn3 (X0_after_b76 N x1) q1 = kk
      unfold X0_after_b76 X0_after_b141
      rw [fr.leavesX, if_neg (fun z => by have := (nn_lt (by omega) (by omega)).mp z; omega), l1, bd_some, nn_succ, nn_succ]
    rw [hX, hM]
    have bit0 : v.testBit p = false := F.vh p (by omega) (by omega)
    by_cases z : r = 0
    · rw [if_pos z, if_pos z]
      refine ih (p + 1) q1 q2 v k A1 σ1 (by omega) (by omega) (by omega) (AF.mk hv (fun o h1 h2 => F.vh o (by omega) h2) F.kz (by omega) ?_ ce1) l3 l4 l5
      intro b c hb hc
      rw [i67, F.ct b c hb hc]
      show _ = nn (cntO (σ1.1 67) v b c p + _)
      rw [if_neg (by rw [bit0]; simp), old b c v (fun i _ => Iff.rfl) hb, Nat.add_zero]
    · rw [if_neg z, if_neg z]
      have fr1 : FR A1 σ1 fo nb L C W := l3.fr h
      have hte : ∀ b, b < 8 → aR A1 36 128 b = some (129 + b) := fun b hb => (l3.ch.R b (by unfold Pth; omega)).trans (h.hn.2.2 b hb)
      obtain ⟨A2, y1, y2, y3, _⟩ := inc104 (N := N) (x1 := x1) (cl := cl) (fun b hb => by have := (l6 b hb).1; omega) (nn (k + 1)) (nn p) nb 0 N A1 σ1 (by omega) (by omega) fr1 (h.ks.ch l3.ch) hte (fun b hb => (l6 b hb).2.1)
      have y1' : rn4 (X0_after_b104 N x1 (rn3 (X0_after_b76 N x1) q1)) N A1 (nn (k + 1)) (nn p) 0 = _ := y1 (rn3 (X0_after_b76 N x1) q1)
      rw [y1', nn_succ]
      have tb := fun i hi => or_test v hv p (by omega) i hi
      have T2 : TH A0 σ0 A2 σ1 := by
        obtain ⟨n', ρ', kt⟩ := l3.kt
        exact TH.mk (l3.ch.trans (y2.mono (fun f i z => by unfold Pte at z; unfold Pth; omega))) l3.cm l3.as_ l3.hi l3.th ⟨n', ρ', kt.ch y2 (by unfold Pte; omega) (by unfold Pte; omega)⟩
      refine ih (p + 1) q1 q2 (v ||| (1 <<< p)) (k + 1) A2 σ1 (by omega) (by omega) (by omega) (AF.mk o2 ?_ ⟨fun e => by omega, fun e => absurd e (or_nz v hv p (by omega))⟩ (by omega) ?_ ce1) T2 l4 l5
      · intro o ho1 ho2
        cases hq : (v ||| (1 <<< p)).testBit o with
        | false => rfl
        | true =>
          rcases (tb o ho2).mp hq with q | q
          · rw [F.vh o (by omega) ho2] at q; cases q
          · omega
      · intro b c hb hc
        rw [y3 b c (by omega) hb, i67, F.ct b c hb hc]
        show _ = nn (cntO (σ1.1 67) (v ||| (1 <<< p)) b c p + _)
        rw [old b c (v ||| (1 <<< p)) (fun i hi => ⟨fun q => (tb i (by omega)).mpr (Or.inl q), fun q => by
          rcases (tb i (by omega)).mp q with q | q
          · exact q
          · omega⟩) hb, (l6 b hb).2.2]
        have tp : (v ||| (1 <<< p)).testBit p = true := (tb p (by omega)).mpr (Or.inr rfl)
        have hcl8 := (l6 b hb).1
        by_cases y : c = cl b
        · rw [if_pos y, if_pos ⟨tp, by rw [y]⟩, nn_succ]
        · rw [if_neg y, if_neg (fun q => y ((nn_eq (by omega) (by omega)).mp q.2).symm), Nat.add_zero]
/-! the least of the most -/
theorem mostX {N : Nat} {x1 x2 x3 x4 : Int32} {A : AH} (ks : KS A) (hR : ∀ b, b < 8 → aR A 36 128 b = some (129 + b)) {b : Nat} (hb : b < 8) {g : Nat → Nat} (hg : ∀ c, c < 8 → aI A 31 (129 + b) c = nn (g c)) (hgb : ∀ c, g c ≤ 100) : ∀ (j c q s : Nat), c + j = 8 → j < q → s ≤ 100 → ∀ k157, rn7 (X0_after_b176 N x1 k157) q A x2 x3 x4 (nn b) (nn s) (nn c) = if nn (mxR g j c s) < x4 then k157 A x2 (nn b) (nn (mxR g j c s)) (nn (b + 1)) else k157 A x2 x3 x4 (nn (b + 1)) := by
  intro j
  induction j with
  | zero =>
    intro c q s hc hq hs k157
    obtain ⟨q, rfl⟩ : ∃ z, q = z + 1 := ⟨q - 1, by omega⟩
    have : c = 8 := by omega
    subst this
    show X0_after_b176 N x1 k157 _ A x2 x3 x4 (nn b) (nn s) (nn 8) = if nn s < x4 then k157 A x2 (nn b) (nn s) (nn (b + 1)) else _
    unfold X0_after_b176 X0_after_b223
    rw [if_pos (by decide), nn_succ]
  | succ j ih =>
    intro c q s hc hq hs k157
    obtain ⟨q, rfl⟩ : ∃ z, q = z + 1 := ⟨q - 1, by omega⟩
    obtain ⟨k1, k2⟩ := ks.there hb
    have gb := hgb c
    rw [show mxR g (j + 1) c s = mxR g j (c + 1) (max s (g c)) from rfl, ← ih (c + 1) q (max s (g c)) (by omega) (by omega) (by omega) k157]
    show X0_after_b176 N x1 k157 (rn7 (X0_after_b176 N x1 k157) q) A x2 x3 x4 (nn b) (nn s) (nn c) = _
    generalize rn7 (X0_after_b176 N x1 k157) q = kk
    unfold X0_after_b176
    rw [if_neg (by rw [show (8 : Int32) = nn 8 from rfl, nn_le (by omega) (by omega)]; omega), sR_nn hb (by decide), hR b hb, bo_some, dI_nn k1 (by omega) (by omega), bo_some, hg c (by omega), max_nn (by omega) (by omega), bo_some, nn_succ]
theorem cntM {N : Nat} {x1 x3 x4 : Int32} {σ : mSt} {A : AH} (fr : FR A σ fo nb L C W) {v b c mx : Nat} (hv : v < 256) (hb : b < 8) (hc : c < 8) (hmx : mx ≤ 100) : ∀ (j i q : Nat), i + j = L + 1 → j < q → ∀ k35 k54, rn10 (M_after_b71 N k35 k54) q σ x1 (nn v) x3 x4 (nn b) (nn mx) (nn c) (nn (cntO (σ.1 67) v b c i)) (nn i) = k54 σ x1 (nn v) x3 x4 (nn b) (nn (max mx (cntO (σ.1 67) v b c (L + 1)))) (nn (c + 1)) := by
  have bL := fr.bL
  intro j
  induction j with
  | zero =>
    intro i q hi hq k35 k54
    obtain ⟨q, rfl⟩ : ∃ z, q = z + 1 := ⟨q - 1, by omega⟩
    have : i = L + 1 := by omega
    subst this
    have hle := cntO_le (σ.1 67) v b c (L + 1)
    show M_after_b71 N k35 k54 _ σ x1 (nn v) x3 x4 (nn b) (nn mx) (nn c) (nn (cntO (σ.1 67) v b c (L + 1))) (nn (L + 1)) = _
    generalize cntO (σ.1 67) v b c (L + 1) = y at hle ⊢
    unfold M_after_b71 M_after_b128
    rw [fr.leaves, bo_some, if_pos ((nn_lt (by omega) (by omega)).mpr (by omega)), nn_succ]
    by_cases z : y ≤ mx
    · rw [if_pos ((nn_le (by omega) (by omega)).mpr z), show max mx y = mx by omega]
    · rw [if_neg (fun q => z ((nn_le (by omega) (by omega)).mp q)), show max mx y = y by omega]
  | succ j ih =>
    intro i q hi hq k35 k54
    obtain ⟨q, rfl⟩ : ∃ z, q = z + 1 := ⟨q - 1, by omega⟩
    rw [← ih (i + 1) q (by omega) (by omega) k35 k54]
    show M_after_b71 N k35 k54 (rn10 (M_after_b71 N k35 k54) q) σ x1 (nn v) x3 x4 (nn b) (nn mx) (nn c) (nn (cntO (σ.1 67) v b c i)) (nn i) = _
    generalize rn10 (M_after_b71 N k35 k54) q = kk
    have sb := set_bit v hv i (by omega)
    unfold M_after_b71 M_after_b111
    rw [fr.leaves, bo_some, if_neg (fun q => by have := (nn_lt (by omega) (by omega)).mp q; omega), show (8 : Int32) = nn 8 from rfl, nn_mul, nn_add, ld_nn (by rfl) (by show 8 * i + b < 56; omega) (by omega), bo_some, nn_succ, nn_succ]
    show _ = kk σ x1 (nn v) x3 x4 (nn b) (nn mx) (nn c) (nn (cntO (σ.1 67) v b c i + (if v.testBit i = true ∧ σ.1 67 (8 * i + b) = nn c then 1 else 0))) (nn (i + 1))
    by_cases z1 : v.testBit i = true
    · rw [if_pos (sb.mpr z1)]
      by_cases z2 : σ.1 67 (8 * i + b) = nn c
      · rw [if_pos z2, if_pos ⟨z1, z2⟩]
      · rw [if_neg z2, if_neg (fun q => z2 q.2)]; rfl
    · rw [if_neg (fun q => z1 (sb.mp q)), if_neg (fun q => z1 q.1)]; rfl
theorem mostM {N : Nat} (hN : 5000 ≤ N) {x1 x3 x4 : Int32} {σ : mSt} {A : AH} (fr : FR A σ fo nb L C W) {v b : Nat} (hv : v < 256) (hb : b < 8) : ∀ (j c q s : Nat), c + j = C → j < q → s ≤ 100 → ∀ k35, rn8 (M_after_b54 N k35) q σ x1 (nn v) x3 x4 (nn b) (nn s) (nn c) = if x3 = -1 then k35 σ x1 (nn v) (nn b) (nn (mxR (fun c => cntO (σ.1 67) v b c (L + 1)) j c s)) (nn (b + 1)) else if nn (mxR (fun c => cntO (σ.1 67) v b c (L + 1)) j c s) < x4 then k35 σ x1 (nn v) (nn b) (nn (mxR (fun c => cntO (σ.1 67) v b c (L + 1)) j c s)) (nn (b + 1)) else k35 σ x1 (nn v) x3 x4 (nn (b + 1)) := by
  have bL := fr.bL
  have bC := fr.bC
  intro j
  induction j with
  | zero =>
    intro c q s hc hq hs k35
    obtain ⟨q, rfl⟩ : ∃ z, q = z + 1 := ⟨q - 1, by omega⟩
    show M_after_b54 N k35 _ σ x1 (nn v) x3 x4 (nn b) (nn s) (nn c) = if x3 = -1 then k35 σ x1 (nn v) (nn b) (nn s) (nn (b + 1)) else if nn s < x4 then k35 σ x1 (nn v) (nn b) (nn s) (nn (b + 1)) else _
    unfold M_after_b54 M_after_b149 M_after_b156
    rw [fr.cells, bo_some, if_pos ((nn_le (by omega) (by omega)).mpr (by omega)), nn_succ]
  | succ j ih =>
    intro c q s hc hq hs k35
    obtain ⟨q, rfl⟩ : ∃ z, q = z + 1 := ⟨q - 1, by omega⟩
    have hle := cntO_le (σ.1 67) v b c (L + 1)
    rw [show mxR (fun c => cntO (σ.1 67) v b c (L + 1)) (j + 1) c s = mxR (fun c => cntO (σ.1 67) v b c (L + 1)) j (c + 1) (max s (cntO (σ.1 67) v b c (L + 1))) from rfl, ← ih (c + 1) q (max s (cntO (σ.1 67) v b c (L + 1))) (by omega) (by omega) (by omega) k35]
    have := cntM (N := N) (x1 := x1) (x3 := x3) (x4 := x4) fr (v := v) (b := b) (c := c) (mx := s) hv hb (by omega) hs (L + 1) 0 N (by omega) (by omega) k35 (rn8 (M_after_b54 N k35) q)
    rw [← this]
    show M_after_b54 N k35 (rn8 (M_after_b54 N k35) q) σ x1 (nn v) x3 x4 (nn b) (nn s) (nn c) = _
    generalize rn8 (M_after_b54 N k35) q = kk
    unfold M_after_b54
    rw [fr.cells, bo_some, if_neg (fun q => by have := (nn_le (by omega) (by omega)).mp q; omega)]
    rfl
theorem best_loop {N : Nat} (hN : 5000 ≤ N) (h : IV A σ fo nb L C W n ρ u w κ t m o) {v k : Nat} (F : AF A σ nb C (L + 1) v k) (x1 : Int32) : ∀ (j b q1 q2 : Nat) (x3 x4 y4 : Int32), b + j = nb → j < q1 → j < q2 → (x3 = -1 ∧ x4 = 100000000 ∨ ∃ b0 s, b0 < 8 ∧ s ≤ 100 ∧ x3 = nn b0 ∧ x4 = nn s ∧ y4 = nn s) → ∃ r, rn5 (X0_after_b157 N x1) q1 A (nn k) x3 x4 (nn b) = some (r, A) ∧ rn6 (M_after_b35 N) q2 σ x1 (nn v) x3 y4 (nn b) = some (r, σ) := by
  have bL := h.fr.bL
  have bn := h.fr.bn
  have bC := h.fr.bC
  have hv := F.vb
  have kp := F.kp
  have fin : ∀ x3 x4 y4 : Int32, (x3 = -1 ∧ x4 = 100000000 ∨ ∃ b0 s, b0 < 8 ∧ s ≤ 100 ∧ x3 = nn b0 ∧ x4 = nn s ∧ y4 = nn s) → ∃ r, X0_after_b229 N x1 A x3 x4 = some (r, A) ∧ M_after_b162 N σ x1 x3 y4 = some (r, σ) := by
    intro x3 x4 y4 hx
    unfold X0_after_b229 M_after_b162
    rcases hx with ⟨z1, z2⟩ | ⟨b0, s, hb0, hs, z1, z2, z3⟩
    · rw [if_pos z1, if_pos z1, z1]; exact ⟨_, rfl, rfl⟩
    · have ne : ¬ x3 = -1 := by rw [z1]; exact nn_ne1 (by omega)
      rw [if_neg ne, if_neg ne, z2, z3]
      by_cases y : x1 = 0
      · rw [if_pos y, if_pos y]; exact ⟨_, rfl, rfl⟩
      · rw [if_neg y, if_neg y]; exact ⟨_, rfl, rfl⟩
  intro j
  induction j with
  | zero =>
    intro b q1 q2 x3 x4 y4 hb h1 h2 hx
    obtain ⟨q1, rfl⟩ : ∃ z, q1 = z + 1 := ⟨q1 - 1, by omega⟩
    obtain ⟨q2, rfl⟩ : ∃ z, q2 = z + 1 := ⟨q2 - 1, by omega⟩
    obtain ⟨r, r1, r2⟩ := fin x3 x4 y4 hx
    refine ⟨r, ?_, ?_⟩
    · show X0_after_b157 N x1 _ A (nn k) x3 x4 (nn b) = _
      unfold X0_after_b157
      rw [h.fr.beings, bo_some, if_pos ((nn_le (by omega) (by omega)).mpr (by omega)), r1]
    · show M_after_b35 N _ σ x1 (nn v) x3 y4 (nn b) = _
      unfold M_after_b35
      rw [h.fr.beingMany, bo_some, if_pos ((nn_le (by omega) (by omega)).mpr (by omega)), r2]
  | succ j ih =>
    intro b q1 q2 x3 x4 y4 hb h1 h2 hx
    obtain ⟨q1, rfl⟩ : ∃ z, q1 = z + 1 := ⟨q1 - 1, by omega⟩
    obtain ⟨q2, rfl⟩ : ∃ z, q2 = z + 1 := ⟨q2 - 1, by omega⟩
    by_cases kz : k = 0
    · have vz := F.kz.mp kz
      obtain ⟨r, r1, r2⟩ := fin x3 x4 y4 hx
      refine ⟨r, ?_, ?_⟩
      · show X0_after_b157 N x1 _ A (nn k) x3 x4 (nn b) = _
        unfold X0_after_b157
        rw [h.fr.beings, bo_some, if_neg (fun q => by have := (nn_le (by omega) (by omega)).mp q; omega), if_pos (by rw [kz]; decide), r1]
      · show M_after_b35 N _ σ x1 (nn v) x3 y4 (nn b) = _
        unfold M_after_b35
        rw [h.fr.beingMany, bo_some, if_neg (fun q => by have := (nn_le (by omega) (by omega)).mp q; omega), if_pos (by rw [vz]; rfl), r2]
    · have vz : ¬ v = 0 := fun q => kz (F.kz.mpr q)
      have hX := mostX (N := N) (x1 := x1) (x2 := nn k) (x3 := x3) (x4 := x4) h.ks h.hn.2.2 (b := b) (by omega) (g := fun c => cntO (σ.1 67) v b c (L + 1)) (fun c hc => F.ct b c (by omega) hc) (fun c => by have := cntO_le (σ.1 67) v b c (L + 1); show cntO (σ.1 67) v b c (L + 1) ≤ 100; omega) 8 0 N 0 (by omega) (by omega) (by omega) (rn5 (X0_after_b157 N x1) q1)
      have hM := mostM hN (x1 := x1) (x3 := x3) (x4 := y4) h.fr (v := v) (b := b) hv (by omega) C 0 N 0 (by omega) (by omega) (by omega) (rn6 (M_after_b35 N) q2)
      have e8 : mxR (fun c => cntO (σ.1 67) v b c (L + 1)) 8 0 0 = mxR (fun c => cntO (σ.1 67) v b c (L + 1)) C 0 0 := by
        rw [show 8 = C + (8 - C) by omega, mxR_add, mxR_zero _ (8 - C) _ _ (fun i h1 h2 => cntO_zero (L + 1) (fun o' ho' e => by
          obtain ⟨c, hc, ec⟩ := F.ce o' b ho' (by omega)
          rw [ec, nn_eq (by omega) (by omega)] at e
          omega))]
      rw [e8] at hX
      have hmb := mxR_le (fun c => cntO (σ.1 67) v b c (L + 1)) 100 (fun c => by have := cntO_le (σ.1 67) v b c (L + 1); show cntO (σ.1 67) v b c (L + 1) ≤ 100; omega) C 0 0 (by omega)
      generalize mxR (fun c => cntO (σ.1 67) v b c (L + 1)) C 0 0 = M at hX hM hmb
      have kz' : ¬ nn k ≤ 0 := by rw [show (0 : Int32) = nn 0 from rfl, nn_le (by omega) (by omega)]; omega
      have vz' : ¬ nn v = 0 := by rw [show (0 : Int32) = nn 0 from rfl, nn_eq (by omega) (by omega)]; exact vz
      have gX : rn5 (X0_after_b157 N x1) (q1 + 1) A (nn k) x3 x4 (nn b) = if nn M < x4 then rn5 (X0_after_b157 N x1) q1 A (nn k) (nn b) (nn M) (nn (b + 1)) else rn5 (X0_after_b157 N x1) q1 A (nn k) x3 x4 (nn (b + 1)) := by
        rw [← hX]
        show X0_after_b157 N x1 (rn5 (X0_after_b157 N x1) q1) A (nn k) x3 x4 (nn b) = _
        generalize rn5 (X0_after_b157 N x1) q1 = kk
        unfold X0_after_b157
        rw [h.fr.beings, bo_some, if_neg (fun q => by have := (nn_le (by omega) (by omega)).mp q; omega), if_neg kz']
        rfl
      have gM : rn6 (M_after_b35 N) (q2 + 1) σ x1 (nn v) x3 y4 (nn b) = if x3 = -1 then rn6 (M_after_b35 N) q2 σ x1 (nn v) (nn b) (nn M) (nn (b + 1)) else if nn M < y4 then rn6 (M_after_b35 N) q2 σ x1 (nn v) (nn b) (nn M) (nn (b + 1)) else rn6 (M_after_b35 N) q2 σ x1 (nn v) x3 y4 (nn (b + 1)) := by
        rw [← hM]
        show M_after_b35 N (rn6 (M_after_b35 N) q2) σ x1 (nn v) x3 y4 (nn b) = _
        generalize rn6 (M_after_b35 N) q2 = kk
        unfold M_after_b35
        rw [h.fr.beingMany, bo_some, if_neg (fun q => by have := (nn_le (by omega) (by omega)).mp q; omega), if_neg vz']
        rfl
      rw [gX, gM]
      have nxt := ih (b + 1) q1 q2 (nn b) (nn M) (nn M) (by omega) (by omega) (by omega) (Or.inr ⟨b, M, by omega, hmb, rfl, rfl, rfl⟩)
      rcases hx with ⟨z1, z2⟩ | ⟨b0, s, hb0, hs, z1, z2, z3⟩
      · rw [if_pos (by rw [z2, show (100000000 : Int32) = nn 100000000 from rfl, nn_lt (by omega) (by omega)]; omega), if_pos z1]
        exact nxt
      · have ne : ¬ x3 = -1 := by rw [z1]; exact nn_ne1 (by omega)
        rw [if_neg ne]
        by_cases y : nn M < nn s
        · rw [if_pos (by rw [z2]; exact y), if_pos (by rw [z3]; exact y)]
          exact nxt
        · rw [if_neg (by rw [z2]; exact y), if_neg (by rw [z3]; exact y)]
          exact ih (b + 1) q1 q2 x3 x4 y4 (by omega) (by omega) (by omega) (Or.inr ⟨b0, s, hb0, hs, z1, z2, z3⟩)
theorem after_op {N : Nat} (hN : 5000 ≤ N) (h : IV A σ fo nb L C W n ρ u w κ t m o) (x : Int32) : Thk (X0_after N A x) (M_after N σ x) A fo nb L C W n ρ u w κ t m o := by
  obtain ⟨d, hd, e1, e2⟩ := h.day
  have bL := h.fr.bL
  have bn := h.fr.bn
  obtain ⟨p, _, hp, q1, q2⟩ := isAhead_eq h.fr (d := d) (by omega) e2 e1 1 (a := 1) (b := 1) (by decide) (by decide)
  unfold X0_after M_after
  rw [show X0_isAhead A 1 1 1 = _ from q1, show M_isAhead σ 1 1 1 = _ from q2, bo_some, bo_some, bt0, bt0, (is_eq x 0 1).1, show M_isIn (Int32.toInt64 x) 0 1 = _ from (is_eq x 0 1).2, bo_some, bo_some, bt0, bt0]
  by_cases c : p
  · rw [if_pos c, if_pos c]
    by_cases c2 : 0 ≤ x ∧ x ≤ 1
    · rw [if_pos c2, if_pos c2]
      obtain ⟨σ1, s1, T, s2, s3, s4⟩ := TH.start hN h
      obtain ⟨A1, z1, z2, z3, _⟩ := zero32 hN (x1 := x) 8 0 N A (by omega) (by omega) h.ks h.hn.2.2
      have T1 : TH A σ A1 σ1 := by
        obtain ⟨n', ρ', kt⟩ := T.kt
        exact TH.mk (z2.mono (fun f i z => by unfold Pte at z; unfold Pth; omega)) T.cm T.as_ T.hi T.th ⟨n', ρ', kt.ch z2 (by unfold Pte; omega) (by unfold Pte; omega)⟩
      obtain ⟨v, k, A2, σ2, l1, l2, l3, l4, l5⟩ := after_loop hN h (d := d) (by omega) e1 x (L + 1) 0 N N 0 0 A1 σ1 (by omega) (by omega) (by omega) (AF.mk (by decide) (fun o _ _ => Nat.zero_testBit o) ⟨fun _ => rfl, fun _ => rfl⟩ (by omega) (fun b c hb hc => by rw [z3 b c (by omega) (by omega) hc]; rfl) (fun i b hi => by omega)) T1 (fun i _ => s2 i) s3
      obtain ⟨r, r1, r2⟩ := best_loop hN l3 l5 x nb 0 N N (-1) 100000000 0 (by omega) (by omega) (by omega) (Or.inl ⟨rfl, rfl⟩)
      have z1' : rn4 (X0_after_b32 N x) N A 128 (Int32.ofNat 8) 0 = _ := z1
      have l1' : rn3 (X0_after_b76 N x) N A1 0 0 = _ := l1
      have l2' : M_openingsSeen N σ = some (nn v, σ2) := by
        unfold M_openingsSeen
        rw [s1, bd_some]
        exact l2
      have r1' : rn5 (X0_after_b157 N x) N A2 (nn k) (-1) 100000000 0 = some (r, A2) := r1
      have r2' : rn6 (M_after_b35 N) N σ2 x (nn v) (-1) 0 0 = some (r, σ2) := r2
      rw [z1', l1', r1', l2', bd_some, r2']
      exact ⟨_, _, _, rfl, rfl, l3, l4⟩
    · rw [if_neg c2, if_neg c2]; exact ⟨_, _, _, rfl, rfl, h, rfl⟩
  · rw [if_neg c, if_neg c]; exact ⟨_, _, _, rfl, rfl, h, rfl⟩
end AFT
