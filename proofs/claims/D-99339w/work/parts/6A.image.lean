/-! PURE LEVEL: images -/
set_option maxRecDepth 100000
/-- k octets are written -/
def OO (A : AH) (σ : mSt) (k : Nat) : Prop :=
  (aI A 124 0 0 = nn k) ∧
  (σ.1 105 0 = nn k) ∧
  (∀ j, j < k → ∃ v, v < 256 ∧ (aI A 33 1100 j &&& 255) = nn v ∧ σ.1 104 j = nn v)
theorem OO.a {A : AH} {σ : mSt} {k : Nat} (h : OO A σ k) : aI A 124 0 0 = nn k := h.1
theorem OO.m {A : AH} {σ : mSt} {k : Nat} (h : OO A σ k) : σ.1 105 0 = nn k := h.2.1
theorem OO.r {A : AH} {σ : mSt} {k : Nat} (h : OO A σ k) : ∀ j, j < k → ∃ v, v < 256 ∧ (aI A 33 1100 j &&& 255) = nn v ∧ σ.1 104 j = nn v := h.2.2
theorem OO.mk {A : AH} {σ : mSt} {k : Nat} (h_a : aI A 124 0 0 = nn k) (h_m : σ.1 105 0 = nn k) (h_r : ∀ j, j < k → ∃ v, v < 256 ∧ (aI A 33 1100 j &&& 255) = nn v ∧ σ.1 104 j = nn v) : OO A σ k := ⟨h_a, h_m, h_r⟩
def Pim (f i : Nat) : Prop := (f = 124 ∧ i = 0) ∨ (f = 33 ∧ i = 1100)
def Kim (k : Nat) : Prop := k = 104 ∨ k = 105
theorem wr1 {N : Nat} {A : AH} {σ : mSt} {k : Nat} (h : OO A σ k) (hk : k < 57) (x : Int32) {s : Int32} (hs : ¬ s < 0) {v : Nat} (hv : v < 256) (e : ((x >>> (s &&& 31)) &&& 255) = nn v) : ∃ A' σ', (∀ y kk, X0_writes_b8 N x y kk A s = kk A' (s + (-8))) ∧ M_writes σ (nn v) = some ((), σ') ∧ OO A' σ' (k + 1) ∧ Ch Pim A A' ∧ Cm Kim σ σ' := by
  obtain ⟨v', hv', e1, e2⟩ := nar_byte (x >>> (s &&& 31))
  have : v' = v := by rw [e] at e1; exact ((nn_eq (by omega) (by omega)).mp e1).symm
  subst this
  refine ⟨wI (wI A 124 0 0 (nn (k + 1))) 33 1100 k (sby v'), mUI (mUI σ 104 k (nn v')) 105 0 (nn (k + 1)), fun y kk => ?_, ?_, OO.mk ?_ ?_ ?_, (Ch.wI (Or.inl ⟨rfl, rfl⟩)).trans (Ch.wI (Or.inr ⟨rfl, rfl⟩)), (Cm.UI (Or.inl rfl)).trans (Cm.UI (Or.inr rfl))⟩
  · unfold X0_writes_b8
    rw [if_neg hs, h.a, nn_succ, lt2_eq, tI_nn hk (by decide), bo_some, e2]
  · unfold M_writes
    rw [h.m, stI_nn (by rfl) (by show k < 57; exact hk) (by omega), bo_some, lt2_eq, mI_UI, if_neg (by omega), h.m, nn_succ]
  · rw [aI_wI, if_neg (by omega), aI_wI, if_pos ⟨rfl, rfl, rfl⟩]
  · rw [mI_UI, if_pos ⟨rfl, rfl⟩]
  · intro j hj
    rw [aI_wI, aI_wI, mI_UI, mI_UI]
    by_cases z : j = k
    · rw [if_pos ⟨rfl, rfl, z⟩, if_neg (by omega), if_pos ⟨rfl, z⟩, sby_and v' hv']
      exact ⟨v', hv', rfl, rfl⟩
    · rw [if_neg (fun q => z q.2.2), if_neg (by omega), if_neg (by omega), if_neg (fun q => z q.2)]
      exact h.r j (by omega)
theorem and256 : ∀ v, v < 256 → ((nn v >>> ((0 : Int32) &&& 31)) &&& 255) = nn v := by decide +kernel
theorem two256' : ∀ a, a < 40 → ∀ b, b < 256 → ((nn (256 * a + b) >>> ((8 : Int32) &&& 31)) &&& 255) = nn a ∧ ((nn (256 * a + b) >>> ((0 : Int32) &&& 31)) &&& 255) = nn b := by decide +kernel
theorem two256 {v : Nat} (hv : v < 10240) : ((nn v >>> ((8 : Int32) &&& 31)) &&& 255) = nn (v / 256) ∧ ((nn v >>> ((0 : Int32) &&& 31)) &&& 255) = nn (v % 256) := by
  have := two256' (v / 256) (by omega) (v % 256) (by omega)
  rw [show 256 * (v / 256) + v % 256 = v by omega] at this
  exact this
theorem writes1 {N : Nat} (hN : 5000 ≤ N) {A : AH} {σ : mSt} {k : Nat} (h : OO A σ k) (hk : k < 57) {v : Nat} (hv : v < 256) : ∃ A' σ', X0_writes N A (nn v) 1 = some ((), A') ∧ M_writes σ (nn v) = some ((), σ') ∧ OO A' σ' (k + 1) ∧ Ch Pim A A' ∧ Cm Kim σ σ' := by
  obtain ⟨z, hz⟩ : ∃ z, N = z + 2 := ⟨N - 2, by omega⟩
  obtain ⟨A', σ', p1, p2, p3, p4, p5⟩ := wr1 (N := N) h hk (nn v) (s := 0) (by decide) hv (and256 v hv)
  refine ⟨A', σ', ?_, p2, p3, p4, p5⟩
  unfold X0_writes
  have e : rn2 (X0_writes_b8 N (nn v) 1) N A ((8 * 1) - 8) = X0_writes_b8 N (nn v) 1 (rn2 (X0_writes_b8 N (nn v) 1) (z + 1)) A 0 := by
    generalize X0_writes_b8 N (nn v) 1 = f
    rw [hz]; rfl
  rw [e, p1]
  show X0_writes_b8 N (nn v) 1 (rn2 (X0_writes_b8 N (nn v) 1) z) A' (0 + -8) = _
  generalize rn2 (X0_writes_b8 N (nn v) 1) z = kk
  unfold X0_writes_b8
  rw [if_pos (by decide)]
theorem writes2 {N : Nat} (hN : 5000 ≤ N) {A : AH} {σ : mSt} {k : Nat} (h : OO A σ k) (hk : k + 1 < 57) {v : Nat} (hv : v < 10240) : ∃ A' σ', X0_writes N A (nn v) 2 = some ((), A') ∧ M_writesTwo σ (nn v) = some ((), σ') ∧ OO A' σ' (k + 2) ∧ Ch Pim A A' ∧ Cm Kim σ σ' := by
  obtain ⟨z, hz⟩ : ∃ z, N = z + 3 := ⟨N - 3, by omega⟩
  obtain ⟨t1, t2⟩ := two256 hv
  obtain ⟨A1, σ1, p1, p2, p3, p4, p5⟩ := wr1 (N := N) h (by omega) (nn v) (s := 8) (by decide) (v := v / 256) (by omega) t1
  obtain ⟨A', σ', r1, r2, r3, r4, r5⟩ := wr1 (N := N) p3 hk (nn v) (s := 0) (by decide) (v := v % 256) (by omega) t2
  refine ⟨A', σ', ?_, ?_, r3, p4.trans r4, p5.trans r5⟩
  · unfold X0_writes
    have e : rn2 (X0_writes_b8 N (nn v) 2) N A ((8 * 2) - 8) = X0_writes_b8 N (nn v) 2 (rn2 (X0_writes_b8 N (nn v) 2) (z + 2)) A 8 := by
      generalize X0_writes_b8 N (nn v) 2 = f
      rw [hz]; rfl
    rw [e, p1]
    show X0_writes_b8 N (nn v) 2 (rn2 (X0_writes_b8 N (nn v) 2) (z + 1)) A1 0 = _
    rw [r1]
    show X0_writes_b8 N (nn v) 2 (rn2 (X0_writes_b8 N (nn v) 2) z) A' (0 + -8) = _
    generalize rn2 (X0_writes_b8 N (nn v) 2) z = kk
    unfold X0_writes_b8
    rw [if_pos (by decide)]
  · unfold M_writesTwo
    rw [show (nn v / 256 : Int32) = nn (v / 256) from nn_div (b := 256) (by omega) (by decide), show (nn v - nn (v / 256) * 256 : Int32) = nn (v % 256) from by
      rw [show (nn (v / 256) : Int32) = nn v / nn 256 from (nn_div (by omega) (by decide)).symm]
      exact nn_rem (b := 256) (by omega) (by decide), p2, bd_some, r2, bd_some]
/-- the check of k numbers -/
theorem check_loop {N : Nat} {A : AH} {σ : mSt} {id w k : Nat} (hk : k < 2000) (ka : aK A id = 33) (la : k ≤ aL A id) (mw : mt w = 2) (lw : k ≤ ml w) (hr : ∀ j, j < k → ∃ v, v < 256 ∧ (aI A 33 id j &&& 255) = nn v ∧ σ.1 w j = nn v) : ∀ (j i q1 q2 c : Nat), i + j = k → j < q1 → j < q2 → c < 251 → ∃ c', c' < 251 ∧ rn2 (X0_check_b5 N id (nn k) A) q1 (nn c) (nn i) = some (nn c') ∧ rn4 (M_checked_b5 N σ) q2 w (nn k) (nn c) (nn i) = some (nn c') := by
  intro j
  induction j with
  | zero =>
    intro i q1 q2 c hi h1 h2 hc
    obtain ⟨q1, rfl⟩ : ∃ z, q1 = z + 1 := ⟨q1 - 1, by omega⟩
    obtain ⟨q2, rfl⟩ : ∃ z, q2 = z + 1 := ⟨q2 - 1, by omega⟩
    refine ⟨c, hc, ?_, ?_⟩
    · show X0_check_b5 N id (nn k) A _ (nn c) (nn i) = _
      unfold X0_check_b5
      rw [if_pos ((nn_le (by omega) (by omega)).mpr (by omega))]
    · show M_checked_b5 N σ _ w (nn k) (nn c) (nn i) = _
      unfold M_checked_b5
      rw [if_pos ((nn_le (by omega) (by omega)).mpr (by omega))]
  | succ j ih =>
    intro i q1 q2 c hi h1 h2 hc
    obtain ⟨q1, rfl⟩ : ∃ z, q1 = z + 1 := ⟨q1 - 1, by omega⟩
    obtain ⟨q2, rfl⟩ : ∃ z, q2 = z + 1 := ⟨q2 - 1, by omega⟩
    obtain ⟨v, hv, e1, e2⟩ := hr i (by omega)
    obtain ⟨c', hc', i1, i2⟩ := ih (i + 1) q1 q2 ((3 * c + v) % 251) (by omega) (by omega) (by omega) (Nat.mod_lt _ (by decide))
    have em : (((3 * nn c) + nn v) - ((3 * nn c) + nn v) / 251 * 251 : Int32) = nn ((3 * c + v) % 251) := by
      rw [show (3 : Int32) = nn 3 from rfl, nn_mul, nn_add, show (251 : Int32) = nn 251 from rfl, nn_rem (by omega) (by decide)]
    refine ⟨c', hc', ?_, ?_⟩
    · rw [← i1]
      show X0_check_b5 N id (nn k) A (rn2 (X0_check_b5 N id (nn k) A) q1) (nn c) (nn i) = _
      generalize rn2 (X0_check_b5 N id (nn k) A) q1 = kk
      unfold X0_check_b5
      rw [if_neg (fun z => by have := (nn_le (by omega) (by omega)).mp z; omega), dI_nn ka (by omega) (by omega), bo_some, e1, em, nn_succ]
    · rw [← i2]
      show M_checked_b5 N σ (rn4 (M_checked_b5 N σ) q2) w (nn k) (nn c) (nn i) = _
      generalize rn4 (M_checked_b5 N σ) q2 = kk
      unfold M_checked_b5
      rw [if_neg (fun z => by have := (nn_le (by omega) (by omega)).mp z; omega), ld_nn mw (by omega) (by omega), bo_some, e2, em, nn_succ]
theorem check_eq {N : Nat} (hN : 5000 ≤ N) {A : AH} {σ : mSt} {id w k : Nat} (hk : k < 2000) (ka : aK A id = 33) (la : k ≤ aL A id) (mw : mt w = 2) (lw : k ≤ ml w) (hr : ∀ j, j < k → ∃ v, v < 256 ∧ (aI A 33 id j &&& 255) = nn v ∧ σ.1 w j = nn v) : ∃ c, c < 251 ∧ X0_check N A id (nn k) = some (nn c) ∧ M_checked N σ w (nn k) = some (nn c) :=
  check_loop (N := N) hk ka la mw lw hr k 0 N N 83 (by omega) (by omega) (by omega) (by decide)
section IMG
variable {A0 A : AH} {σ0 σ : mSt} {fo nb L C W n : Nat} {ρ : Nat → Nat} {u w : Nat} {κ : Nat → Nat} {t m o : Nat}
/-- images do not touch what they tell of -/
theorem im_fr (h : IV A0 σ0 fo nb L C W n ρ u w κ t m o) (c : Ch Pim A0 A) (mm : Cm Kim σ0 σ) : FR A σ fo nb L C W ∧ SR A 16 (σ.1 56) nb L C ∧ KS A := by
  refine ⟨h.fr.same (c.sameOn (fun f i hi z => by unfold dyn at hi; unfold Pim at z; omega)) (c.R 0 (by unfold Pim; omega)) (mm.sameM (fun k hk z => by unfold Kfo at hk; unfold Kim at z; omega)), h.st.ch c (fun g i hg h1 h2 => by unfold Pim; omega) (fun j _ => mm.I j (by unfold Kim; omega)) h.fr.bn, h.ks.ch c⟩
theorem img52 {N : Nat} (hN : 5000 ≤ N) (h : IV A0 σ0 fo nb L C W n ρ u w κ t m o) : ∀ (j b q1 q2 : Nat) (A : AH) (σ : mSt), b + j = nb → j < q1 → j < q2 → Ch Pim A0 A → Cm Kim σ0 σ → OO A σ (2 + L + 6 * b) → ∃ A' σ', rn2 (X0_image_b52 N) q1 A (nn b) = some (nn (3 + L + 6 * nb), A') ∧ rn2 (M_image_b45 N) q2 σ (nn b) = some (nn (3 + L + 6 * nb), σ') ∧ Ch Pim A0 A' ∧ Cm Kim σ0 σ' ∧ OO A' σ' (3 + L + 6 * nb) := by
  have bn := h.fr.bn
  have bL := h.fr.bL
  have bC := h.fr.bC
  intro j
  induction j with
  | zero =>
    intro b q1 q2 A σ hb h1 h2 cA mm O
    obtain ⟨q1, rfl⟩ : ∃ z, q1 = z + 1 := ⟨q1 - 1, by omega⟩
    obtain ⟨q2, rfl⟩ : ∃ z, q2 = z + 1 := ⟨q2 - 1, by omega⟩
    obtain ⟨fr, st, ks⟩ := im_fr h cA mm
    have : b = nb := by omega
    subst this
    have k1100 := ks 1100 (by decide)
    obtain ⟨c, hc, c1, c2⟩ := check_eq hN (A := A) (σ := σ) (id := 1100) (w := 104) (k := 2 + L + 6 * b) (by omega) (k1100.1.trans rfl) (by rw [k1100.2]; show _ ≤ 57; omega) rfl (by show _ ≤ 57; omega) O.r
    obtain ⟨A', σ', p1, p2, p3, p4, p5⟩ := writes1 hN O (by omega) (v := c) (by omega)
    rw [show 2 + L + 6 * b + 1 = 3 + L + 6 * b by omega] at p3
    refine ⟨A', σ', ?_, ?_, cA.trans p4, mm.trans p5, p3⟩
    · show X0_image_b52 N _ A (nn b) = _
      unfold X0_image_b52
      rw [fr.beings, bo_some, if_pos ((nn_le (by omega) (by omega)).mpr (by omega)), O.a, c1, bo_some, p1, bd_some, p3.a]
    · show M_image_b45 N _ σ (nn b) = _
      unfold M_image_b45
      rw [fr.beingMany, bo_some, if_pos ((nn_le (by omega) (by omega)).mpr (by omega)), O.m, c2, bo_some, p2, bd_some, p3.m]
  | succ j ih =>
    intro b q1 q2 A σ hb h1 h2 cA mm O
    obtain ⟨q1, rfl⟩ : ∃ z, q1 = z + 1 := ⟨q1 - 1, by omega⟩
    obtain ⟨q2, rfl⟩ : ∃ z, q2 = z + 1 := ⟨q2 - 1, by omega⟩
    obtain ⟨fr, st, ks⟩ := im_fr h cA mm
    obtain ⟨l, hl, el⟩ := st.lfb b (by omega)
    obtain ⟨c, hc, ec⟩ := st.ceb b (by omega)
    obtain ⟨p, hp, ep⟩ := st.pub b (by omega)
    obtain ⟨mm', hm, em⟩ := st.meb b (by omega)
    obtain ⟨A1, σ1, a1, a2, a3, a4, a5⟩ := writes1 hN O (by omega) (v := l) (by omega)
    obtain ⟨A2, σ2, b1, b2, b3, b4, b5⟩ := writes1 hN a3 (by omega) (v := c) (by omega)
    obtain ⟨A3, σ3, c1, c2, c3, c4, c5⟩ := writes2 hN b3 (by omega) (v := p) (by omega)
    obtain ⟨A4, σ4, d1, d2, d3, d4, d5⟩ := writes2 hN c3 (by omega) (v := mm') (by omega)
    rw [show 2 + L + 6 * b + 1 + 1 + 2 + 2 = 2 + L + 6 * (b + 1) by omega] at d3
    have x1 := a4
    have x2 := a4.trans b4
    have x3 := x2.trans c4
    have y1 := a5
    have y2 := a5.trans b5
    have y3 := y2.trans c5
    obtain ⟨A', σ', i1, i2, i3, i4, i5⟩ := ih (b + 1) q1 q2 A4 σ4 (by omega) (by omega) (by omega) (cA.trans (x3.trans d4)) (mm.trans (y3.trans d5)) d3
    have g2 : sI 8 31 A 18 (nn b) = some (nn l) := by rw [sI_nn (by omega) (by decide), show (18 : Nat) = 16 + 2 from rfl, st.lf b (by omega), el]
    have g3 : sI 8 31 A1 19 (nn b) = some (nn c) := by rw [sI_nn (by omega) (by decide), x1.I b (by unfold Pim; omega), show (19 : Nat) = 16 + 3 from rfl, st.ce b (by omega), ec]
    have g4 : sI 8 31 A2 20 (nn b) = some (nn p) := by rw [sI_nn (by omega) (by decide), x2.I b (by unfold Pim; omega), show (20 : Nat) = 16 + 4 from rfl, st.pu b (by omega), ep]
    have g5 : sI 8 31 A3 21 (nn b) = some (nn mm') := by rw [sI_nn (by omega) (by decide), x3.I b (by unfold Pim; omega), show (21 : Nat) = 16 + 5 from rfl, st.me b (by omega), em]
    have f3 : M_cellOf σ1 (nn b) = some (nn c) := by rw [m_cellOf σ1 (by omega), y1.I _ (by unfold Kim; omega), ec]
    have f4 : M_purseOf σ2 (nn b) = some (nn p) := by rw [m_purseOf σ2 (by omega), y2.I _ (by unfold Kim; omega), ep]
    have f5 : ld 2 σ3 56 ((7 + (4 * nn b)) + 3) = some (nn mm') := by rw [m_metOf σ3 (by omega), y3.I _ (by unfold Kim; omega), em]
    refine ⟨A', σ', ?_, ?_, i3, i4, i5⟩
    · rw [← i1]
      show X0_image_b52 N (rn2 (X0_image_b52 N) q1) A (nn b) = _
      generalize rn2 (X0_image_b52 N) q1 = kk
      unfold X0_image_b52
      rw [fr.beings, bo_some, if_neg (fun z => by have := (nn_le (by omega) (by omega)).mp z; omega), g2, bo_some, a1, bd_some, g3, bo_some, b1, bd_some, g4, bo_some, c1, bd_some, g5, bo_some, d1, bd_some, nn_succ]
    · rw [← i2]
      show M_image_b45 N (rn2 (M_image_b45 N) q2) σ (nn b) = _
      generalize rn2 (M_image_b45 N) q2 = kk
      unfold M_image_b45
      rw [fr.beingMany, bo_some, if_neg (fun z => by have := (nn_le (by omega) (by omega)).mp z; omega), m_leafOf σ (by omega), bo_some, el, a2, bd_some, f3, bo_some, b2, bd_some, f4, bo_some, c2, bd_some, f5, bo_some, d2, bd_some, nn_succ]
theorem img19 {N : Nat} (hN : 5000 ≤ N) (h : IV A0 σ0 fo nb L C W n ρ u w κ t m o) : ∀ (j l q1 q2 : Nat) (A : AH) (σ : mSt), l + j = L → j < q1 → j < q2 → Ch Pim A0 A → Cm Kim σ0 σ → OO A σ (2 + l) → ∃ A' σ', rn2 (X0_image_b19 N) q1 A (nn l) = some (nn (3 + L + 6 * nb), A') ∧ rn2 (M_image_b17 N) q2 σ (nn l) = some (nn (3 + L + 6 * nb), σ') ∧ Ch Pim A0 A' ∧ Cm Kim σ0 σ' ∧ OO A' σ' (3 + L + 6 * nb) := by
  have bn := h.fr.bn
  have bL := h.fr.bL
  intro j
  induction j with
  | zero =>
    intro l q1 q2 A σ hb h1 h2 cA mm O
    obtain ⟨q1, rfl⟩ : ∃ z, q1 = z + 1 := ⟨q1 - 1, by omega⟩
    obtain ⟨q2, rfl⟩ : ∃ z, q2 = z + 1 := ⟨q2 - 1, by omega⟩
    obtain ⟨fr, st, ks⟩ := im_fr h cA mm
    have : l = L := by omega
    subst this
    obtain ⟨A', σ', i1, i2, i3, i4, i5⟩ := img52 hN h nb 0 N N A σ (by omega) (by omega) (by omega) cA mm O
    refine ⟨A', σ', ?_, ?_, i3, i4, i5⟩
    · rw [← i1]
      show X0_image_b19 N _ A (nn l) = _
      unfold X0_image_b19
      rw [fr.leavesX, if_pos ((nn_le (by omega) (by omega)).mpr (by omega))]
      rfl
    · rw [← i2]
      show M_image_b17 N _ σ (nn l) = _
      unfold M_image_b17
      rw [fr.leaves, bo_some, if_pos ((nn_le (by omega) (by omega)).mpr (by omega))]
      rfl
  | succ j ih =>
    intro l q1 q2 A σ hb h1 h2 cA mm O
    obtain ⟨q1, rfl⟩ : ∃ z, q1 = z + 1 := ⟨q1 - 1, by omega⟩
    obtain ⟨q2, rfl⟩ : ∃ z, q2 = z + 1 := ⟨q2 - 1, by omega⟩
    obtain ⟨fr, st, ks⟩ := im_fr h cA mm
    obtain ⟨v, hv, ev⟩ := st.glb l (by omega)
    obtain ⟨A1, σ1, a1, a2, a3, a4, a5⟩ := writes1 hN O (by omega) (v := v) hv
    obtain ⟨A', σ', i1, i2, i3, i4, i5⟩ := ih (l + 1) q1 q2 A1 σ1 (by omega) (by omega) (by omega) (cA.trans a4) (mm.trans a5) a3
    refine ⟨A', σ', ?_, ?_, i3, i4, i5⟩
    · rw [← i1]
      show X0_image_b19 N (rn2 (X0_image_b19 N) q1) A (nn l) = _
      generalize rn2 (X0_image_b19 N) q1 = kk
      unfold X0_image_b19
      rw [fr.leavesX, if_neg (fun z => by have := (nn_le (by omega) (by omega)).mp z; omega), sI_nn (by omega) (by decide), bo_some, show (17 : Nat) = 16 + 1 from rfl, st.gl l (by omega), ev, a1, bd_some, nn_succ]
    · rw [← i2]
      show M_image_b17 N (rn2 (M_image_b17 N) q2) σ (nn l) = _
      generalize rn2 (M_image_b17 N) q2 = kk
      unfold M_image_b17
      rw [fr.leaves, bo_some, if_neg (fun z => by have := (nn_le (by omega) (by omega)).mp z; omega), show (1 : Int32) = nn 1 from rfl, nn_add, ld_nn (by rfl) (by show 1 + l < 160; omega) (by omega), bo_some, ev, a2, bd_some, nn_add]
theorem image_op {N : Nat} (hN : 5000 ≤ N) (h : IV A σ fo nb L C W n ρ u w κ t m o) : ∃ r A' σ' o', X0_image N A = some (r, A') ∧ M_image N σ = some (r, σ') ∧ IV A' σ' fo nb L C W n ρ u w κ t m o' ∧ A'.1 = A.1 := by
  have bn := h.fr.bn
  have bL := h.fr.bL
  obtain ⟨d, hd, e1, e2⟩ := h.day
  have c0 : Ch Pim A (wI A 124 0 0 0) := Ch.wI (Or.inl ⟨rfl, rfl⟩)
  have m0 : Cm Kim σ (mUI σ 105 0 0) := Cm.UI (Or.inr rfl)
  have O0 : OO (wI A 124 0 0 0) (mUI σ 105 0 0) 0 := OO.mk (by rw [aI_wI, if_pos ⟨rfl, rfl, rfl⟩]; rfl) (by rw [mI_UI, if_pos ⟨rfl, rfl⟩]; rfl) (fun j hj => by omega)
  obtain ⟨A1, σ1, a1, a2, a3, a4, a5⟩ := writes2 hN O0 (by decide) (v := d) (by omega)
  obtain ⟨A', σ', i1, i2, c, mm, O⟩ := img19 hN h L 0 N N A1 σ1 (by omega) (by omega) (by omega) (c0.trans a4) (m0.trans a5) a3
  have i1' : rn2 (X0_image_b19 N) N A1 0 = _ := i1
  have i2' : rn2 (M_image_b17 N) N σ1 0 = _ := i2
  refine ⟨nn (3 + L + 6 * nb), A', σ', 3 + L + 6 * nb, ?_, ?_, IV.mk (h.fr.same (c.sameOn (fun f i hi z => by unfold dyn at hi; unfold Pim at z; omega)) (c.R 0 (by unfold Pim; omega)) (mm.sameM (fun k hk z => by unfold Kfo at hk; unfold Kim at z; omega))) (h.ks.ch c) (h.m1.ch c (by unfold Pim; omega)) (h.m2.ch c (by unfold Pim; omega)) (h.st.ch c (fun g i hg h1 h2 => by unfold Pim; omega) (fun j _ => mm.I j (by unfold Kim; omega)) h.fr.bn) (by rw [mm.I 0 (by unfold Kim; omega)]; exact h.d9) (h.kr.ch c (by unfold Pim; omega) (by unfold Pim; omega)) (h.kv.ch h.kr c (fun i h1 h2 => by unfold Pim; omega) (fun j _ _ => mm.I j (by unfold Kim; omega))) (by obtain ⟨n', ρ', k'⟩ := h.kt; exact ⟨n', ρ', k'.ch c (by unfold Pim; omega) (by unfold Pim; omega)⟩) ((mm.I 0 (by unfold Kim; omega)).trans h.th) (h.un.ch c mm h.fr.bn (by unfold Pim; omega) (by unfold Pim; omega) (fun f i h1 h2 => by unfold Pim; omega) (by unfold Kim; omega) (by unfold Kim; omega) (by unfold Kim; omega)) (h.tp.ch c mm (by unfold Pim; omega) (by unfold Pim; omega) (by unfold Kim; omega) (by unfold Kim; omega)) (by rw [c.I _ (by unfold Pim; omega), mm.I _ (by unfold Kim; omega)]; exact h.fk) (by rw [c.I _ (by unfold Pim; omega), mm.I _ (by unfold Kim; omega)]; exact h.fp) (fun k hk => by rw [c.I _ (by unfold Pim; omega), mm.I _ (by unfold Kim; omega)]; exact h.rf k hk) (h.se.ch c mm (by unfold Pim; omega) (by unfold Pim; omega) (by unfold Pim; omega) (by unfold Kim; omega) (by unfold Kim; omega)) (by rw [c.J _ (by unfold Pim; omega), mm.J _ (by unfold Kim; omega)]; exact h.sd) (IvO.mk O.a O.m (by omega) ?_) (h.hn.ch c (by unfold Pim; omega) (by unfold Pim; omega) (by unfold Pim; omega) (by unfold Pim; omega) (by unfold Pim; omega)) (h.wd.ch mm (fun q hq z => by unfold isWd at hq; unfold Kim at z; omega)), c.1⟩
  · unfold X0_image
    rw [lt2_eq, show aI (wI A 124 0 0 0) 600 16 0 = nn d from by rw [aI_wI, if_neg (by omega)]; exact e2, a1, bd_some, i1']
  · unfold M_image
    rw [lt2_eq, m_day, bo_some, show (mUI σ 105 0 0).1 56 0 = nn d from by rw [mI_UI, if_neg (by omega)]; exact e1, a2, bd_some, i2']
  · intro j hj
    obtain ⟨v, hv, z1, z2⟩ := O.r j hj
    rw [z1, z2]
end IMG
