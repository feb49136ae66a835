/-! PURE LEVEL: how the book can lie -/
set_option maxRecDepth 100000
section LAY
variable {A0 A : AH} {σ0 σ : mSt} {fo nb L C W n : Nat} {ρ : Nat → Nat} {u w : Nat} {κ : Nat → Nat} {t m o : Nat}
theorem stood_loop {N : Nat} (hnb : nb ≤ 8) {p : Nat} (hp : p ≤ 6) : ∀ (j b q : Nat) (σ : mSt), b + j = nb → j < q → M_beingMany σ = some (nn nb) → ∃ σ', (∀ x1 k8, rn4 (M_openingsSeen_b23 N k8) q σ x1 (nn p) (nn b) = (bd (M_triesAnew N σ') fun _ σ6 => bo (M_isAsSeen N σ6 (nn p)) fun r7 => if r7 = 0 then k8 σ6 x1 (nn (p + 1)) else k8 σ6 (x1 ||| (1 <<< (nn p &&& 31))) (nn (p + 1)))) ∧ Cm (fun k => k = 67) σ σ' ∧ (∀ b', b ≤ b' → b' < nb → σ'.1 67 (8 * p + b') = σ.1 56 (7 + 4 * b' + 1)) ∧ (∀ i, (∀ b', b ≤ b' → b' < nb → i ≠ 8 * p + b') → σ'.1 67 i = σ.1 67 i) := by
  intro j
  induction j with
  | zero =>
    intro b q σ hb hq hm
    obtain ⟨q, rfl⟩ : ∃ z, q = z + 1 := ⟨q - 1, by omega⟩
    refine ⟨σ, fun x1 k8 => ?_, Cm.refl σ, fun b' h1 h2 => by omega, fun _ _ => rfl⟩
    show M_openingsSeen_b23 N k8 _ σ x1 (nn p) (nn b) = _
    unfold M_openingsSeen_b23 M_openingsSeen_b71
    rw [hm, bo_some, if_pos ((nn_le (by omega) (by omega)).mpr (by omega)), nn_succ]
  | succ j ih =>
    intro b q σ hb hq hm
    obtain ⟨q, rfl⟩ : ∃ z, q = z + 1 := ⟨q - 1, by omega⟩
    have c1 : Cm (fun k => k = 67) σ (mUI σ 67 (8 * p + b) (σ.1 56 (7 + 4 * b + 1))) := by apply Cm.UI; rfl
    have hm' : M_beingMany (mUI σ 67 (8 * p + b) (σ.1 56 (7 + 4 * b + 1))) = some (nn nb) := by
      rw [← hm]; unfold M_beingMany; rw [c1.ld (by omega)]
    obtain ⟨σ', p1, p2, p3, p4⟩ := ih (b + 1) q _ (by omega) (by omega) hm'
    have e56 : ∀ i, (mUI σ 67 (8 * p + b) (σ.1 56 (7 + 4 * b + 1))).1 56 i = σ.1 56 i := fun i => by rw [mI_UI, if_neg (by omega)]
    refine ⟨σ', fun x1 k8 => ?_, c1.trans p2, fun b' h1 h2 => ?_, fun i hi => ?_⟩
    · rw [← p1 x1 k8]
      show M_openingsSeen_b23 N k8 (rn4 (M_openingsSeen_b23 N k8) q) σ x1 (nn p) (nn b) = _
      generalize rn4 (M_openingsSeen_b23 N k8) q = kk
      unfold M_openingsSeen_b23
      rw [hm, bo_some, if_neg (fun z => by have := (nn_le (by omega) (by omega)).mp z; omega), m_cellOf σ (by omega), bo_some, show (8 : Int32) = nn 8 from rfl, nn_mul, nn_add, stI_nn (by rfl) (by show 8 * p + b < 56; omega) (by omega), bo_some, nn_succ]
    · rcases Nat.eq_or_lt_of_le h1 with z | z
      · subst z
        rw [p4 _ (fun b' h1 h2 => by omega), mI_UI, if_pos ⟨rfl, rfl⟩]
      · rw [p3 b' z h2, e56]
    · rw [p4 i (fun b' h1 h2 => hi b' (by omega) h2), mI_UI, if_neg (fun z => hi b (by omega) (by omega) z.2)]
theorem lie_loop {N : Nat} {p : Nat} (hp : p ≤ 6) (hm : m ≤ 16) (x1 : Int32) {A : AH} {σ : mSt} {cl : Nat → Nat} (ea : aI A 115 0 0 = nn m) (em : σ.1 65 0 = nn m) (hr : ∀ k, k < m → ∃ b c, b < nb ∧ c < 256 ∧ aI A 31 126 k = nn b ∧ aI A 31 127 k = nn c ∧ σ.1 66 (2 * k) = nn b ∧ σ.1 66 (2 * k + 1) = nn c) (hnb : nb ≤ 8) (hc : ∀ b, b < nb → cl b < 8 ∧ aI A 31 67 b = nn (cl b) ∧ σ.1 67 (8 * p + b) = nn (cl b)) : ∀ (j k q1 q2 : Nat), k + j = m → j < q1 → j < q2 → ∃ r : Int32, (r = 0 ∨ r = 1) ∧ rn2 (X0_canLie_b17 N x1) q1 A (nn k) = some (r, A) ∧ rn2 (M_isAsSeen_b2 N σ) q2 (nn p) (nn k) = some r := by
  intro j
  induction j with
  | zero =>
    intro k q1 q2 hk h1 h2
    obtain ⟨q1, rfl⟩ : ∃ z, q1 = z + 1 := ⟨q1 - 1, by omega⟩
    obtain ⟨q2, rfl⟩ : ∃ z, q2 = z + 1 := ⟨q2 - 1, by omega⟩
    refine ⟨1, Or.inr rfl, ?_, ?_⟩
    · show X0_canLie_b17 N x1 _ A (nn k) = _
      unfold X0_canLie_b17
      rw [ea, if_pos ((nn_le (by omega) (by omega)).mpr (by omega))]
    · show M_isAsSeen_b2 N σ _ (nn p) (nn k) = _
      unfold M_isAsSeen_b2
      rw [em, if_pos ((nn_le (by omega) (by omega)).mpr (by omega))]
  | succ j ih =>
    intro k q1 q2 hk h1 h2
    obtain ⟨q1, rfl⟩ : ∃ z, q1 = z + 1 := ⟨q1 - 1, by omega⟩
    obtain ⟨q2, rfl⟩ : ∃ z, q2 = z + 1 := ⟨q2 - 1, by omega⟩
    obtain ⟨b, c, hb, hc2, a1, a2, a3, a4⟩ := hr k (by omega)
    obtain ⟨l1, l2, l3⟩ := hc b hb
    obtain ⟨r, r01, i1, i2⟩ := ih (k + 1) q1 q2 (by omega) (by omega) (by omega)
    have hX : rn2 (X0_canLie_b17 N x1) (q1 + 1) A (nn k) = if nn (cl b) = nn c then rn2 (X0_canLie_b17 N x1) q1 A (nn (k + 1)) else some (0, A) := by
      show X0_canLie_b17 N x1 (rn2 (X0_canLie_b17 N x1) q1) A (nn k) = _
      generalize rn2 (X0_canLie_b17 N x1) q1 = kk
      unfold X0_canLie_b17
      rw [ea, if_neg (fun z => by have := (nn_le (by omega) (by omega)).mp z; omega), sI_nn (by omega) (by decide), bo_some, a1, sI_nn (by omega) (by decide), bo_some, l2, sI_nn (by omega) (by decide), bo_some, a2, nn_succ]
    have hM : rn2 (M_isAsSeen_b2 N σ) (q2 + 1) (nn p) (nn k) = if nn (cl b) = nn c then rn2 (M_isAsSeen_b2 N σ) q2 (nn p) (nn (k + 1)) else some 0 := by
      show M_isAsSeen_b2 N σ (rn2 (M_isAsSeen_b2 N σ) q2) (nn p) (nn k) = _
      generalize rn2 (M_isAsSeen_b2 N σ) q2 = kk
      unfold M_isAsSeen_b2
      rw [em, if_neg (fun z => by have := (nn_le (by omega) (by omega)).mp z; omega), show (2 : Int32) = nn 2 from rfl, nn_mul, ld_nn (by rfl) (by show 2 * k < 32; omega) (by omega), bo_some, a3, show (8 : Int32) = nn 8 from rfl, nn_mul, nn_add, ld_nn (by rfl) (by show 8 * p + b < 56; omega) (by omega), bo_some, l3, nn_succ, ld_nn (by rfl) (by show 2 * k + 1 < 32; omega) (by omega), bo_some, a4, nn_succ]
    rw [hX, hM]
    by_cases z : nn (cl b) = nn c
    · rw [if_pos z, if_pos z]; exact ⟨r, r01, i1, i2⟩
    · rw [if_neg z, if_neg z]; exact ⟨0, Or.inl rfl, rfl, rfl⟩
/-- one opening tried -/
theorem lie_eq {N : Nat} (hN : 5000 ≤ N) (h : IV A0 σ0 fo nb L C W n ρ u w κ t m o) {d : Nat} (hd : d ≤ 1000) (ed : σ0.1 56 0 = nn d) (T : TH A0 σ0 A σ) (e56 : ∀ j, j < 39 → σ.1 56 j = σ0.1 56 j) (e62 : σ.1 62 0 = 0) {p : Nat} (hp : p ≤ L) : ∃ A1 σ1 r, ∃ cl : Nat → Nat, (r = 0 ∨ r = 1) ∧ X0_canLie N A (nn p) = some (r, A1) ∧ (∀ x1 k8, (bd (M_dayBy N σ (nn p)) fun _ σ4 => rn4 (M_openingsSeen_b23 N k8) N σ4 x1 (nn p) 0) = if r = 0 then k8 σ1 x1 (nn (p + 1)) else k8 σ1 (x1 ||| (1 <<< (nn p &&& 31))) (nn (p + 1))) ∧ TH A0 σ0 A1 σ1 ∧ (∀ j, j < 39 → σ1.1 56 j = σ0.1 56 j) ∧ σ1.1 62 0 = 0 ∧ (∀ b, b < nb → cl b < C ∧ aI A1 31 67 b = nn (cl b) ∧ σ1.1 67 (8 * p + b) = nn (cl b)) ∧ (∀ i, i < 8 * p → σ1.1 67 i = σ.1 67 i) ∧ Ch (PX 64) A A1 := by
  have bn := h.fr.bn
  have bL := h.fr.bL
  have bC := h.fr.bC
  obtain ⟨A2, n2, ρ2, y1, y2, T2⟩ := T.copy hN h e56 e62
  obtain ⟨A1, σ2, n3, ρ3, p1, p2, p3, p4, p5, p6, _⟩ := passes_eq hN (x := 64) rfl y2 (o := p) (d := d) (by omega) (by omega) ((e56 0 (by decide)).trans ed)
  have T3 := T2.pass p5 p3 p4
  have bm : M_beingMany σ2 = some (nn nb) := p5.fr.beingMany
  -- cells behind the day
  obtain ⟨cl, hcl⟩ : ∃ cl : Nat → Nat, ∀ b, b < nb → cl b < C ∧ σ2.1 56 (7 + 4 * b + 1) = nn (cl b) := by
    refine ⟨fun b => (σ2.1 56 (7 + 4 * b + 1)).toNatClampNeg, fun b hb => ?_⟩
    obtain ⟨c, hc, ec⟩ := p5.st.ceb b hb
    show (σ2.1 56 (7 + 4 * b + 1)).toNatClampNeg < C ∧ _ = nn (σ2.1 56 (7 + 4 * b + 1)).toNatClampNeg
    rw [ec, nn_clamp (by omega)]
    exact ⟨hc, rfl⟩
  obtain ⟨σ3, s1, s2, s3, s4⟩ := stood_loop (N := N) bn (p := p) (by omega) nb 0 N σ2 (by omega) (by omega) bm
  have T4 : TH A0 σ0 A1 σ3 := TH.mk T3.ch (T3.cm.trans (s2.mono (fun k z => by unfold Kth; omega))) (fun j hj => by rw [(s2 57 j (by omega)).1]; exact T3.as_ j hj) (fun j hj => by rw [(s2 56 j (by omega)).1]; exact T3.hi j hj) (by rw [(s2 61 0 (by omega)).1]; exact T3.th) T3.kt
  obtain ⟨σ4, a1, a2, a3, a4, a5⟩ := T4.anew hN
  have S := h.se
  have q115 : aI A1 115 0 0 = nn m := (T3.ch.I 0 (by unfold Pth; omega)).trans S.a
  have q65 : σ4.1 65 0 = nn m := (a2.cm.I 0 (by unfold Kth; omega)).trans S.m_
  have e67 : ∀ b, b < nb → cl b < 8 ∧ aI A1 31 67 b = nn (cl b) ∧ σ4.1 67 (8 * p + b) = nn (cl b) := by
    intro b hb
    obtain ⟨c1, c2⟩ := hcl b hb
    refine ⟨by omega, ?_, ?_⟩
    · rw [show (67 : Nat) = 64 + 3 from rfl, p5.st.ce b hb]; exact c2
    · rw [(a5 67 _ (by omega)).1, s3 b (by omega) hb]; exact c2
  obtain ⟨r, r01, r1, r2⟩ := lie_loop (N := N) (p := p) (by omega) S.b (nn p) q115 q65 (fun k hk => by
    obtain ⟨b, c, hb, hc, x1, x2, x3, x4⟩ := S.r k hk
    exact ⟨b, c, hb, hc, (T3.ch.I _ (by unfold Pth; omega)).trans x1, (T3.ch.I _ (by unfold Pth; omega)).trans x2, (a2.cm.I _ (by unfold Kth; omega)).trans x3, (a2.cm.I _ (by unfold Kth; omega)).trans x4⟩) bn e67 m 0 N N (by omega) (by have := S.b; omega) (by have := S.b; omega)
  have y1c : Ch (PX 64) A A2 := by
    obtain ⟨n', ρ', kt⟩ := T.kt
    obtain ⟨A9, c1, c2⟩ := copy_eq hN (x := 64) (y := 16) rfl rfl (by decide) (h.ks.ch T.ch) kt (h.kr.ch T.ch (by unfold Pth; omega) (by unfold Pth; omega))
    rw [y1] at c1
    have : A2 = A9 := (Prod.mk.inj (Option.some.inj c1)).2
    rw [this]
    exact c2.ch.mono (fun f i z => Or.inl z)
  refine ⟨A1, σ4, r, cl, r01, ?_, fun x1 k8 => ?_, a2, a3, a4, fun b hb => ⟨(hcl b hb).1, (e67 b hb).2⟩, fun i hi => ?_, y1c.trans p3⟩
  · unfold X0_canLie
    rw [y1, bd_some, bo_some, if_pos (y2.ks.six rfl), p1, bd_some]
    exact r1
  · have r2' : M_isAsSeen N σ4 (nn p) = some r := r2
    have t1' : rn4 (M_openingsSeen_b23 N k8) N σ2 x1 (nn p) 0 = _ := s1 x1 k8
    rw [p2, bd_some, t1', a1, bd_some, r2', bo_some]
  · rw [(a5 67 _ (by omega)).1, s4 i (fun b' _ h2 => by omega), p4.I _ (by unfold KD; omega)]
/-- sets of openings -/
theorem set_bit : ∀ v, v < 256 → ∀ o, o < 8 → ((((nn v >>> (nn o &&& 31)) &&& 1) = 1) ↔ v.testBit o = true) := by decide +kernel
theorem or_test : ∀ v, v < 256 → ∀ p, p < 8 → ∀ o, o < 8 → ((v ||| (1 <<< p)).testBit o = true ↔ (v.testBit o = true ∨ o = p)) := by decide +kernel
theorem lay_loop {N : Nat} (hN : 5000 ≤ N) (h : IV A0 σ0 fo nb L C W n ρ u w κ t m o) {d : Nat} (hd : d ≤ 1000) (ed : σ0.1 56 0 = nn d) : ∀ (j p q1 q2 v : Nat) (A : AH) (σ : mSt), p + j = L + 1 → j < q1 → j < q2 → v < 256 → TH A0 σ0 A σ → (∀ i, i < 39 → σ.1 56 i = σ0.1 56 i) → σ.1 62 0 = 0 → ∃ v' A' σ', v' < 256 ∧ rn3 (X0_openings_b4 N) q1 A (nn v) (nn p) = some (nn v', A') ∧ rn3 (M_openingsSeen_b8 N) q2 σ (nn v) (nn p) = some (nn v', σ') ∧ IV A' σ' fo nb L C W n ρ u w κ t m o ∧ A'.1 = A0.1 := by
  have bL := h.fr.bL
  intro j
  induction j with
  | zero =>
    intro p q1 q2 v A σ hp h1 h2 hv T e56 e62
    obtain ⟨q1, rfl⟩ : ∃ z, q1 = z + 1 := ⟨q1 - 1, by omega⟩
    obtain ⟨q2, rfl⟩ : ∃ z, q2 = z + 1 := ⟨q2 - 1, by omega⟩
    have fr := T.fr h
    obtain ⟨σ5, b1, b2, _⟩ := T.back hN h
    refine ⟨v, A, σ5, hv, ?_, ?_, b2, T.ch.1⟩
    · show X0_openings_b4 N _ A (nn v) (nn p) = _
      unfold X0_openings_b4
      rw [fr.leavesX, if_pos ((nn_lt (by omega) (by omega)).mpr (by omega))]
    · show M_openingsSeen_b8 N _ σ (nn v) (nn p) = _
      unfold M_openingsSeen_b8
      rw [fr.leaves, bo_some, if_pos ((nn_lt (by omega) (by omega)).mpr (by omega)), b1, bd_some]
  | succ j ih =>
    intro p q1 q2 v A σ hp h1 h2 hv T e56 e62
    obtain ⟨q1, rfl⟩ : ∃ z, q1 = z + 1 := ⟨q1 - 1, by omega⟩
    obtain ⟨q2, rfl⟩ : ∃ z, q2 = z + 1 := ⟨q2 - 1, by omega⟩
    have fr := T.fr h
    obtain ⟨A1, σ1, r, cl, r01, l1, l2, l3, l4, l5, _, _, _⟩ := lie_eq hN h hd ed T e56 e62 (p := p) (by omega)
    obtain ⟨o1, o2⟩ := or_bit v hv p (by omega)
    have hX : rn3 (X0_openings_b4 N) (q1 + 1) A (nn v) (nn p) = if r = 0 then rn3 (X0_openings_b4 N) q1 A1 (nn v) (nn (p + 1)) else rn3 (X0_openings_b4 N) q1 A1 (nn (v ||| (1 <<< p))) (nn (p + 1)) := by
      show X0_openings_b4 N (rn3 (X0_openings_b4 N) q1) A (nn v) (nn p) = _
      generalize rn3 (X0_openings_b4 N) q1 = kk
      unfold X0_openings_b4 X0_openings_b31
      rw [fr.leavesX, if_neg (fun z => by have := (nn_lt (by omega) (by omega)).mp z; omega), l1, bd_some, o1, nn_succ, Int32.or_zero]
    have hM : rn3 (M_openingsSeen_b8 N) (q2 + 1) σ (nn v) (nn p) = if r = 0 then rn3 (M_openingsSeen_b8 N) q2 σ1 (nn v) (nn (p + 1)) else rn3 (M_openingsSeen_b8 N) q2 σ1 (nn (v ||| (1 <<< p))) (nn (p + 1)) := by
      rw [← o1, ← l2 (nn v) (rn3 (M_openingsSeen_b8 N) q2)]
      show M_openingsSeen_b8 N (rn3 (M_openingsSeen_b8 N) q2) σ (nn v) (nn p) = _
      generalize rn3 (M_openingsSeen_b8 N) q2 = kk
      unfold M_openingsSeen_b8
      rw [fr.leaves, bo_some, if_neg (fun z => by have := (nn_lt (by omega) (by omega)).mp z; omega)]
    rw [hX, hM]
    by_cases z : r = 0
    · rw [if_pos z, if_pos z]
      exact ih (p + 1) q1 q2 v A1 σ1 (by omega) (by omega) (by omega) hv l3 l4 l5
    · rw [if_neg z, if_neg z]
      exact ih (p + 1) q1 q2 _ A1 σ1 (by omega) (by omega) (by omega) o2 l3 l4 l5
theorem lay_op {N : Nat} (hN : 5000 ≤ N) (h : IV A σ fo nb L C W n ρ u w κ t m o) (x : Int32) : Thk (X0_lay N A x) (M_lay N σ x) A fo nb L C W n ρ u w κ t m o := by
  obtain ⟨d, hd, e1, e2⟩ := h.day
  have bL := h.fr.bL
  obtain ⟨p, _, hp, q1, q2⟩ := isAhead_eq h.fr (d := d) (by omega) e2 e1 1 (a := 1) (b := 1) (by decide) (by decide)
  unfold X0_lay M_lay
  rw [show X0_isAhead A 1 1 1 = _ from q1, show M_isAhead σ 1 1 1 = _ from q2, bo_some, bo_some, bt0, bt0, (is_eq x 0 1).1, show M_isIn (Int32.toInt64 x) 0 1 = _ from (is_eq x 0 1).2, bo_some, bo_some, bt0, bt0]
  by_cases c : p
  · rw [if_pos c, if_pos c]
    by_cases c2 : 0 ≤ x ∧ x ≤ 1
    · rw [if_pos c2, if_pos c2]
      obtain ⟨σ1, s1, T, s2, s3, s4⟩ := TH.start hN h
      obtain ⟨v, A', σ', hv, l1, l2, l3, l4⟩ := lay_loop hN h (d := d) (by omega) e1 (L + 1) 0 N N 0 A σ1 (by omega) (by omega) (by omega) (by decide) T (fun i _ => s2 i) s3
      have l1' : X0_openings N A = some (nn v, A') := l1
      have l2' : M_openingsSeen N σ = some (nn v, σ') := by
        unfold M_openingsSeen
        rw [s1, bd_some]
        exact l2
      obtain ⟨r, r1, r2⟩ := bits_eq hN hv
      rw [l1', l2']
      simp only [bd_some]
      by_cases z : x = 0
      · rw [if_pos z, if_pos z, r1, r2, bo_some, bo_some]
        exact ⟨_, _, _, rfl, rfl, l3, l4⟩
      · rw [if_neg z, if_neg z]
        exact ⟨_, _, _, rfl, rfl, l3, l4⟩
    · rw [if_neg c2, if_neg c2]; exact ⟨_, _, _, rfl, rfl, h, rfl⟩
  · rw [if_neg c, if_neg c]; exact ⟨_, _, _, rfl, rfl, h, rfl⟩
end LAY
