/-! PURE LEVEL: ways, day by day -/
set_option maxRecDepth 100000
section WY2
variable {A0 A : AH} {σ0 σ : mSt} {fo nb L C W n : Nat} {ρ : Nat → Nat} {u w : Nat} {κ : Nat → Nat} {t m o : Nat}
/-- the reference passes by places that are not marked -/
theorem skipM {N : Nat} {fr_ s op : Nat} (hfr : fr_ < 2) {σ : mSt} : ∀ (j k q : Nat) (e : Nat), k + j = e → e ≤ 48 → (∀ i, k ≤ i → i < e → σ.1 64 (48 * fr_ + i) = 0) → j ≤ q → rn5 (M_goesOn_b39 N) q σ (nn fr_) (nn s) (nn op) (nn k) = rn5 (M_goesOn_b39 N) (q - j) σ (nn fr_) (nn s) (nn op) (nn e) := by
  intro j
  induction j with
  | zero => intro k q e hk he hz hq; rw [show k = e by omega, Nat.sub_zero]
  | succ j ih =>
    intro k q e hk he hz hq
    obtain ⟨q, rfl⟩ : ∃ z, q = z + 1 := ⟨q - 1, by omega⟩
    rw [show q + 1 - (j + 1) = q - j by omega, ← ih (k + 1) q e (by omega) he (fun i h1 h2 => hz i (by omega) h2) (by omega)]
    show M_goesOn_b39 N (rn5 (M_goesOn_b39 N) q) σ (nn fr_) (nn s) (nn op) (nn k) = _
    generalize rn5 (M_goesOn_b39 N) q = kk
    unfold M_goesOn_b39 M_goesOn_b289
    have ml : ld 5 σ 64 ((48 * nn fr_) + nn k) = some 0 := by
      rw [show (48 : Int32) = nn 48 from rfl, nn_mul, nn_add, ld_nn (by rfl) (by show 48 * fr_ + k < 96; omega) (by omega), hz k (by omega) (by omega)]
    rw [if_neg (fun z => by have := (nn_le (a := 48) (by omega) (by omega)).mp z; omega), ml, bo_some, if_pos rfl, nn_succ]
/-- both lists: H of this day, I of the next one -/
def WB (A0 : AH) (σ0 : mSt) (A : AH) (σ : mSt) (L C H I s : Nat) : Prop :=
  (WS A0 σ0 A σ L C I (1 - s)) ∧
  (wId H ∧ H ≠ I) ∧
  (aR A 111 0 0 = some H) ∧
  (∀ l, l < 6 → aR A 37 H l = some (H + 1 + l)) ∧
  (WE A σ L C (σ0.1 56) H s)
theorem WB.ws {A0 : AH} {σ0 : mSt} {A : AH} {σ : mSt} {L C H I s : Nat} (h : WB A0 σ0 A σ L C H I s) : WS A0 σ0 A σ L C I (1 - s) := h.1
theorem WB.hh {A0 : AH} {σ0 : mSt} {A : AH} {σ : mSt} {L C H I s : Nat} (h : WB A0 σ0 A σ L C H I s) : wId H ∧ H ≠ I := h.2.1
theorem WB.rh {A0 : AH} {σ0 : mSt} {A : AH} {σ : mSt} {L C H I s : Nat} (h : WB A0 σ0 A σ L C H I s) : aR A 111 0 0 = some H := h.2.2.1
theorem WB.rs {A0 : AH} {σ0 : mSt} {A : AH} {σ : mSt} {L C H I s : Nat} (h : WB A0 σ0 A σ L C H I s) : ∀ l, l < 6 → aR A 37 H l = some (H + 1 + l) := h.2.2.2.1
theorem WB.wh {A0 : AH} {σ0 : mSt} {A : AH} {σ : mSt} {L C H I s : Nat} (h : WB A0 σ0 A σ L C H I s) : WE A σ L C (σ0.1 56) H s := h.2.2.2.2
theorem WB.mk {A0 : AH} {σ0 : mSt} {A : AH} {σ : mSt} {L C H I s : Nat} (h_ws : WS A0 σ0 A σ L C I (1 - s)) (h_hh : wId H ∧ H ≠ I) (h_rh : aR A 111 0 0 = some H) (h_rs : ∀ l, l < 6 → aR A 37 H l = some (H + 1 + l)) (h_wh : WE A σ L C (σ0.1 56) H s) : WB A0 σ0 A σ L C H I s := ⟨h_ws, h_hh, h_rh, h_rs, h_wh⟩
theorem WB.on {A' : AH} {σ' : mSt} {H I s : Nat} (hs : s < 2) (B : WB A0 σ0 A σ L C H I s) (S : WS A0 σ0 A' σ' L C I (1 - s)) (c : Ch (Prw I) A A') (mm : Sd (1 - s) σ σ') : WB A0 σ0 A' σ' L C H I s := by
  have hI := B.ws.id
  have hH := B.hh
  unfold wId at hI hH
  refine WB.mk S B.hh ((c.R 0 (by unfold Prw; omega)).trans B.rh) (fun l hl => (c.R l (by unfold Prw; omega)).trans (B.rs l hl)) (B.wh.keep (fun l c' hl hc => c.I c' (by unfold Prw; omega)) (fun l c' hl hc => mm _ (by omega)))
theorem cells_loop {N : Nat} (hN : 5000 ≤ N) (h : IV A0 σ0 fo nb L C W n ρ u w κ t m o) {H I s l op : Nat} (hs : s < 2) (hl : l < L) (hop : op < 100) (x1 x2 x3 x4 : Int32) (k103 : AH → Int32 → Option (Int32 × AH)) (k204 : AH → Int32 → Int32 → Int32 → Option (Int32 × AH)) : ∀ (j c q1 q2 : Nat) (A : AH) (σ : mSt), c + j = C → j < q1 → 8 - c ≤ q2 → WB A0 σ0 A σ L C H I s → ∃ A' σ', rn5 (X0_way_b219 N x1 x2 x3 k103 k204) q1 A x4 (nn op) (nn l) (nn c) = k204 A' x4 (nn op) (nn (l + 1)) ∧ rn5 (M_goesOn_b39 N) q2 σ (nn s) (nn (1 - s)) (nn op) (nn (8 * l + c)) = rn5 (M_goesOn_b39 N) (q2 - (8 - c)) σ' (nn s) (nn (1 - s)) (nn op) (nn (8 * (l + 1))) ∧ WB A0 σ0 A' σ' L C H I s ∧ Ch (Prw I) A A' ∧ Cm (fun k => k = 64) σ σ' := by
  have bL := h.fr.bL
  have bC := h.fr.bC
  intro j
  induction j with
  | zero =>
    intro c q1 q2 A σ hc h1 h2 B
    obtain ⟨q1, rfl⟩ : ∃ z, q1 = z + 1 := ⟨q1 - 1, by omega⟩
    obtain ⟨fr, _⟩ := wy_fr h B.ws.ch B.ws.cm
    refine ⟨A, σ, ?_, ?_, B, Ch.refl A, Cm.refl σ⟩
    · show X0_way_b219 N x1 x2 x3 k103 k204 _ A x4 (nn op) (nn l) (nn c) = _
      unfold X0_way_b219
      rw [fr.cellsX, if_pos ((nn_le (by omega) (by omega)).mpr (by omega)), nn_succ]
    · exact skipM hs (8 - c) (8 * l + c) q2 (8 * (l + 1)) (by omega) (by omega) (fun i g1 g2 => by
        obtain ⟨v, v1, v2, v3⟩ := B.wh l (i - 8 * l) (by omega) (by omega)
        rw [show 48 * s + 8 * l + (i - 8 * l) = 48 * s + i by omega] at v3
        rcases v1 with z | ⟨_, _, z, _⟩
        · rw [v3, z]
        · omega) h2
  | succ j ih =>
    intro c q1 q2 A σ hc h1 h2 B
    obtain ⟨q1, rfl⟩ : ∃ z, q1 = z + 1 := ⟨q1 - 1, by omega⟩
    obtain ⟨q2, rfl⟩ : ∃ z, q2 = z + 1 := ⟨q2 - 1, by omega⟩
    obtain ⟨fr, st, ks, e56⟩ := wy_fr h B.ws.ch B.ws.cm
    obtain ⟨v, v1, v2, v3⟩ := B.wh l c (by omega) (by omega)
    obtain ⟨k1, k2⟩ := ks.wrow B.hh.1 (l := l) (by omega)
    obtain ⟨k3, k4⟩ := ks.wid B.hh.1
    rw [show 48 * s + 8 * l + c = 48 * s + (8 * l + c) by omega] at v3
    have one : ∃ A1 σ1, (∀ k219, X0_way_b219 N x1 x2 x3 k103 k204 k219 A x4 (nn op) (nn l) (nn c) = k219 A1 x4 (nn op) (nn l) (nn (c + 1))) ∧ (∀ k39, M_goesOn_b39 N k39 σ (nn s) (nn (1 - s)) (nn op) (nn (8 * l + c)) = k39 σ1 (nn s) (nn (1 - s)) (nn op) (nn (8 * l + c + 1))) ∧ WB A0 σ0 A1 σ1 L C H I s ∧ Ch (Prw I) A A1 ∧ Cm (fun k => k = 64) σ σ1 := by
      have hX : ∀ k219, X0_way_b219 N x1 x2 x3 k103 k204 k219 A x4 (nn op) (nn l) (nn c) = if v = 0 then k219 A x4 (nn op) (nn l) (nn (c + 1)) else (bd (X0_goesOn N A (nn l) (nn c) (nn op)) fun _ A29 => k219 A29 x4 (nn op) (nn l) (nn (c + 1))) := by
        intro k219
        unfold X0_way_b219 X0_way_b254
        rw [fr.cellsX, if_neg (fun z => by have := (nn_le (by omega) (by omega)).mp z; omega), B.rh, bo_some, dR_nn k3 (by omega) (by omega), B.rs l (by omega), bo_some, dI_nn k1 (by omega) (by omega), bo_some, v2, nn_succ]
      rcases v1 with z | ⟨z, z1, z2, z3⟩
      · refine ⟨A, σ, fun k219 => ?_, fun k39 => ?_, B, Ch.refl A, Cm.refl σ⟩
        · rw [hX, if_pos z]
        · unfold M_goesOn_b39 M_goesOn_b289
          have ml : ld 5 σ 64 ((48 * nn s) + nn (8 * l + c)) = some 0 := by
            rw [show (48 : Int32) = nn 48 from rfl, nn_mul, nn_add, ld_nn (by rfl) (by show 48 * s + (8 * l + c) < 96; omega) (by omega), v3, z]
          rw [if_neg (fun z => by have := (nn_le (a := 48) (by omega) (by omega)).mp z; omega), ml, bo_some, if_pos rfl, nn_succ]
      · obtain ⟨A1, σ1, g1, g2, g3, g4, g5, g6⟩ := goes_eq hN h (I := I) (s := 1 - s) (l := l) (c := c) (op := op) (fr_ := s) (by omega) z1 z2 hop z3 hs B.ws (by rw [v3, z])
        refine ⟨A1, σ1, fun k219 => ?_, g2, B.on hs g3 g4 g6, g4, g5⟩
        rw [hX, if_neg (by rw [z]; decide), g1, bd_some]
    obtain ⟨A1, σ1, a1, a2, B1, a4, a5⟩ := one
    obtain ⟨A', σ', i1, i2, i3, i4, i5⟩ := ih (c + 1) q1 q2 A1 σ1 (by omega) (by omega) (by omega) B1
    refine ⟨A', σ', ?_, ?_, i3, a4.trans i4, a5.trans i5⟩
    · rw [← i1]
      show X0_way_b219 N x1 x2 x3 k103 k204 (rn5 (X0_way_b219 N x1 x2 x3 k103 k204) q1) A x4 (nn op) (nn l) (nn c) = _
      rw [a1]
    · rw [show q2 + 1 - (8 - c) = q2 - (8 - (c + 1)) by omega, ← i2]
      show M_goesOn_b39 N (rn5 (M_goesOn_b39 N) q2) σ (nn s) (nn (1 - s)) (nn op) (nn (8 * l + c)) = _
      rw [a2]
      rfl
theorem leaves_loop {N : Nat} (hN : 5000 ≤ N) (h : IV A0 σ0 fo nb L C W n ρ u w κ t m o) {H I s op : Nat} (hs : s < 2) (hop : op < 100) (x1 x2 x3 x4 : Int32) (k103 : AH → Int32 → Option (Int32 × AH)) : ∀ (j l q1 q2 : Nat) (A : AH) (σ : mSt), l + j = L → j < q1 → 48 - 8 * l < q2 → WB A0 σ0 A σ L C H I s → ∃ A' σ', rn4 (X0_way_b204 N x1 x2 x3 k103) q1 A x4 (nn op) (nn l) = k103 A' (x4 + 1) ∧ rn5 (M_goesOn_b39 N) q2 σ (nn s) (nn (1 - s)) (nn op) (nn (8 * l)) = some ((), σ') ∧ WB A0 σ0 A' σ' L C I H (1 - s) ∧ A'.1 = A.1 := by
  have bL := h.fr.bL
  intro j
  induction j with
  | zero =>
    intro l q1 q2 A σ hl h1 h2 B
    obtain ⟨q1, rfl⟩ : ∃ z, q1 = z + 1 := ⟨q1 - 1, by omega⟩
    obtain ⟨fr, _⟩ := wy_fr h B.ws.ch B.ws.cm
    have hI := B.ws.id
    have hH := B.hh
    let A1 := wR A 111 0 0 (some I)
    let A2 := wR A1 112 0 0 (some H)
    have c1' : Ch (fun f i => (f = 111 ∨ f = 112) ∧ i = 0) A (wR A 111 0 0 (some I)) := by apply Ch.wR; exact ⟨Or.inl rfl, rfl⟩
    have c2' : Ch (fun f i => (f = 111 ∨ f = 112) ∧ i = 0) (wR A 111 0 0 (some I)) (wR (wR A 111 0 0 (some I)) 112 0 0 (some H)) := by apply Ch.wR; exact ⟨Or.inr rfl, rfl⟩
    have c2 : Ch (fun f i => (f = 111 ∨ f = 112) ∧ i = 0) A A2 := c1'.trans c2'
    refine ⟨A2, σ, ?_, ?_, ?_, rfl⟩
    · show X0_way_b204 N x1 x2 x3 k103 _ A x4 (nn op) (nn l) = _
      unfold X0_way_b204
      rw [fr.leavesX, if_pos ((nn_le (by omega) (by omega)).mpr (by omega)), B.rh, bo_some, B.ws.rx, bo_some, lt2_eq, lt2_eq]
    · rw [skipM hs (48 - 8 * l) (8 * l) q2 48 (by omega) (by omega) (fun i g1 g2 => by
        obtain ⟨v, v1, v2, v3⟩ := B.wh (i / 8) (i % 8) (by omega) (by omega)
        rw [show 48 * s + 8 * (i / 8) + i % 8 = 48 * s + i by omega] at v3
        rcases v1 with z | ⟨_, z, _, _⟩
        · rw [v3, z]
        · omega) (by omega)]
      obtain ⟨q3, hq3⟩ : ∃ z, q2 - (48 - 8 * l) = z + 1 := ⟨q2 - (48 - 8 * l) - 1, by omega⟩
      rw [hq3]
      show M_goesOn_b39 N _ σ (nn s) (nn (1 - s)) (nn op) (nn 48) = _
      unfold M_goesOn_b39
      rw [if_pos (by decide)]
    · have cw : Ch Pwy A A2 := c2.mono (fun f i z => by unfold Pwy; omega)
      have e35 : ∀ f i j, aI A2 f i j = aI A f i j := fun _ _ _ => rfl
      refine WB.mk (WS.mk (B.ws.ch.trans cw) B.ws.cm hH.1 ?_ (fun l hl => (c2.R l (by omega)).trans (B.rs l hl)) ?_) ⟨hI, fun e => hH.2 e.symm⟩ ?_ (fun l hl => (c2.R l (by omega)).trans (B.ws.rr l hl)) ?_
      · show aR (wR A1 112 0 0 (some H)) 112 0 0 = _
        rw [aR_wR, if_pos ⟨rfl, rfl, rfl⟩]
      · rw [show 1 - (1 - s) = s by omega]
        exact B.wh.keep (fun l c _ _ => e35 _ _ _) (fun _ _ _ _ => rfl)
      · show aR (wR (wR A 111 0 0 (some I)) 112 0 0 (some H)) 111 0 0 = _
        rw [aR_wR, if_neg (by omega), aR_wR, if_pos ⟨rfl, rfl, rfl⟩]
      · exact B.ws.we.keep (fun l c _ _ => e35 _ _ _) (fun _ _ _ _ => rfl)
  | succ j ih =>
    intro l q1 q2 A σ hl h1 h2 B
    obtain ⟨q1, rfl⟩ : ∃ z, q1 = z + 1 := ⟨q1 - 1, by omega⟩
    obtain ⟨fr, _⟩ := wy_fr h B.ws.ch B.ws.cm
    have bC := h.fr.bC
    obtain ⟨A1, σ1, a1, a2, B1, a4, a5⟩ := cells_loop hN h (H := H) (I := I) (l := l) hs (by omega) hop x1 x2 x3 x4 k103 (rn4 (X0_way_b204 N x1 x2 x3 k103) q1) C 0 N q2 A σ (by omega) (by omega) (by omega) B
    obtain ⟨A', σ', i1, i2, i3, i4⟩ := ih (l + 1) q1 (q2 - (8 - 0)) A1 σ1 (by omega) (by omega) (by omega) B1
    refine ⟨A', σ', ?_, ?_, i3, i4.trans a4.1⟩
    · rw [← i1, ← a1]
      show X0_way_b204 N x1 x2 x3 k103 (rn4 (X0_way_b204 N x1 x2 x3 k103) q1) A x4 (nn op) (nn l) = _
      generalize rn4 (X0_way_b204 N x1 x2 x3 k103) q1 = kk
      unfold X0_way_b204
      rw [fr.leavesX, if_neg (fun z => by have := (nn_le (by omega) (by omega)).mp z; omega)]
      rfl
    · rw [← i2, ← a2]
      rfl
/-! all places are taken away -/
theorem zrow160 {N : Nat} {x1 x2 x3 x4 x6 x7 : Int32} {x5 I l : Nat} (hI : wId I) (hl : l < 6) {k103 : AH → Int32 → Option (Int32 × AH)} {k143 : AH → Int32 → Nat → Int32 → Int32 → Option (Int32 × AH)} : ∀ (j c q : Nat) (A : AH), c + j = 8 → j < q → KS A → ∃ A', rn7 (X0_way_b160 N x1 x2 x3 k103 k143) q A x4 x5 x6 x7 (I + 1 + l) (nn c) = k143 A' x4 x5 x6 (x7 + 1) ∧ Ch (Prw I) A A' ∧ (∀ c', c ≤ c' → c' < 8 → aI A' 35 (I + 1 + l) c' = 0) ∧ (∀ i c', ¬ (i = I + 1 + l ∧ c ≤ c') → aI A' 35 i c' = aI A 35 i c') := by
  intro j
  induction j with
  | zero =>
    intro c q A hc hq ks
    obtain ⟨q, rfl⟩ : ∃ z, q = z + 1 := ⟨q - 1, by omega⟩
    have : c = 8 := by omega
    subst this
    refine ⟨A, ?_, Ch.refl A, fun c' h1 h2 => by omega, fun _ _ _ => rfl⟩
    show X0_way_b160 N x1 x2 x3 k103 k143 _ A x4 x5 x6 x7 (I + 1 + l) (nn 8) = _
    unfold X0_way_b160
    rw [if_pos (by decide)]
  | succ j ih =>
    intro c q A hc hq ks
    obtain ⟨q, rfl⟩ : ∃ z, q = z + 1 := ⟨q - 1, by omega⟩
    obtain ⟨k1, k2⟩ := ks.wrow hI hl
    have c1 : Ch (Prw I) A (wI A 35 (I + 1 + l) c 0) := Ch.wI ⟨rfl, by omega, by omega⟩
    obtain ⟨A', p1, p2, p3, p4⟩ := ih (c + 1) q (wI A 35 (I + 1 + l) c 0) (by omega) (by omega) (ks.ch c1)
    refine ⟨A', ?_, c1.trans p2, fun c' h1 h2 => ?_, fun i c' h => ?_⟩
    · rw [← p1]
      show X0_way_b160 N x1 x2 x3 k103 k143 (rn7 (X0_way_b160 N x1 x2 x3 k103 k143) q) A x4 x5 x6 x7 (I + 1 + l) (nn c) = _
      generalize rn7 (X0_way_b160 N x1 x2 x3 k103 k143) q = kk
      unfold X0_way_b160
      rw [if_neg (by rw [show (8 : Int32) = nn 8 from rfl, nn_le (by omega) (by omega)]; omega), uI_nn k1 (by omega) (by omega), bo_some, nn_succ]
    · rcases Nat.eq_or_lt_of_le h1 with z | z
      · rw [p4 _ _ (by omega), aI_wI, if_pos ⟨rfl, rfl, z.symm⟩]
      · exact p3 c' z h2
    · rw [p4 i c' (by omega), aI_wI, if_neg (by omega)]
theorem zrow50 {N : Nat} {x1 x2 x3 x5 x6 : Int32} {x4 I l : Nat} (hI : wId I) (hl : l < 6) {k33 : AH → Nat → Int32 → Int32 → Option (Int32 × AH)} : ∀ (j c q : Nat) (A : AH), c + j = 8 → j < q → KS A → ∃ A', rn6 (X0_way_b50 N x1 x2 x3 k33) q A x4 x5 x6 (I + 1 + l) (nn c) = k33 A' x4 x5 (x6 + 1) ∧ Ch (Prw I) A A' ∧ (∀ c', c ≤ c' → c' < 8 → aI A' 35 (I + 1 + l) c' = 0) ∧ (∀ i c', ¬ (i = I + 1 + l ∧ c ≤ c') → aI A' 35 i c' = aI A 35 i c') := by
  intro j
  induction j with
  | zero =>
    intro c q A hc hq ks
    obtain ⟨q, rfl⟩ : ∃ z, q = z + 1 := ⟨q - 1, by omega⟩
    have : c = 8 := by omega
    subst this
    refine ⟨A, ?_, Ch.refl A, fun c' h1 h2 => by omega, fun _ _ _ => rfl⟩
    show X0_way_b50 N x1 x2 x3 k33 _ A x4 x5 x6 (I + 1 + l) (nn 8) = _
    unfold X0_way_b50
    rw [if_pos (by decide)]
  | succ j ih =>
    intro c q A hc hq ks
    obtain ⟨q, rfl⟩ : ∃ z, q = z + 1 := ⟨q - 1, by omega⟩
    obtain ⟨k1, k2⟩ := ks.wrow hI hl
    have c1 : Ch (Prw I) A (wI A 35 (I + 1 + l) c 0) := Ch.wI ⟨rfl, by omega, by omega⟩
    obtain ⟨A', p1, p2, p3, p4⟩ := ih (c + 1) q (wI A 35 (I + 1 + l) c 0) (by omega) (by omega) (ks.ch c1)
    refine ⟨A', ?_, c1.trans p2, fun c' h1 h2 => ?_, fun i c' h => ?_⟩
    · rw [← p1]
      show X0_way_b50 N x1 x2 x3 k33 (rn6 (X0_way_b50 N x1 x2 x3 k33) q) A x4 x5 x6 (I + 1 + l) (nn c) = _
      generalize rn6 (X0_way_b50 N x1 x2 x3 k33) q = kk
      unfold X0_way_b50
      rw [if_neg (by rw [show (8 : Int32) = nn 8 from rfl, nn_le (by omega) (by omega)]; omega), uI_nn k1 (by omega) (by omega), bo_some, nn_succ]
    · rcases Nat.eq_or_lt_of_le h1 with z | z
      · rw [p4 _ _ (by omega), aI_wI, if_pos ⟨rfl, rfl, z.symm⟩]
      · exact p3 c' z h2
    · rw [p4 i c' (by omega), aI_wI, if_neg (by omega)]
theorem zall143 {N : Nat} (hN : 5000 ≤ N) {x1 x2 x3 x4 : Int32} {I : Nat} (hI : wId I) {k103 : AH → Int32 → Option (Int32 × AH)} : ∀ (j l q : Nat) (A : AH), l + j = 6 → j < q → KS A → (∀ l, l < 6 → aR A 37 I l = some (I + 1 + l)) → ∃ A', rn5 (X0_way_b143 N x1 x2 x3 k103) q A x4 I (nn 6) (nn l) = (bd (X0_openingOf (valF N) A' ((aI A' 600 16 0) + x4)) fun r16 A17 => rn4 (X0_way_b204 N x1 x2 x3 k103) N A17 x4 r16 0) ∧ Ch (Prw I) A A' ∧ (∀ l' c', l ≤ l' → l' < 6 → c' < 8 → aI A' 35 (I + 1 + l') c' = 0) ∧ (∀ l' c', l' < l → aI A' 35 (I + 1 + l') c' = aI A 35 (I + 1 + l') c') := by
  intro j
  induction j with
  | zero =>
    intro l q A hl hq ks hR
    obtain ⟨q, rfl⟩ : ∃ z, q = z + 1 := ⟨q - 1, by omega⟩
    have : l = 6 := by omega
    subst this
    refine ⟨A, ?_, Ch.refl A, fun l' c' h1 h2 => by omega, fun _ _ _ => rfl⟩
    show X0_way_b143 N x1 x2 x3 k103 _ A x4 I (nn 6) (nn 6) = _
    unfold X0_way_b143
    rw [if_pos (by decide)]
  | succ j ih =>
    intro l q A hl hq ks hR
    obtain ⟨q, rfl⟩ : ∃ z, q = z + 1 := ⟨q - 1, by omega⟩
    obtain ⟨k3, k4⟩ := ks.wid hI
    obtain ⟨A1, z1, z2, z3, z4⟩ := zrow160 (N := N) (x1 := x1) (x2 := x2) (x3 := x3) (x4 := x4) (x6 := nn 6) (x7 := nn l) (x5 := I) (I := I) (l := l) hI (by omega) (k103 := k103) (k143 := rn5 (X0_way_b143 N x1 x2 x3 k103) q) 8 0 N A (by omega) (by omega) ks
    obtain ⟨A', p1, p2, p3, p4⟩ := ih (l + 1) q A1 (by omega) (by omega) (ks.ch z2) (fun l' hl' => (z2.R l' (by unfold Prw; omega)).trans (hR l' hl'))
    refine ⟨A', ?_, z2.trans p2, fun l' c' h1 h2 h3 => ?_, fun l' c' h => ?_⟩
    · rw [← p1, show nn (l + 1) = nn l + 1 from (nn_succ l).symm, ← z1]
      show X0_way_b143 N x1 x2 x3 k103 (rn5 (X0_way_b143 N x1 x2 x3 k103) q) A x4 I (nn 6) (nn l) = _
      generalize rn5 (X0_way_b143 N x1 x2 x3 k103) q = kk
      unfold X0_way_b143
      rw [if_neg (by rw [nn_le (by omega) (by omega)]; omega), dR_nn k3 (by omega) (by omega), hR l (by omega), bo_some]
      rfl
    · rcases Nat.eq_or_lt_of_le h1 with z | z
      · rw [p4 l' c' (by omega), ← z, z3 c' (by omega) h3]
      · exact p3 l' c' z h2 h3
    · rw [p4 l' c' (by omega), z4 _ _ (by omega)]
theorem zall33 {N : Nat} (hN : 5000 ≤ N) {x1 x2 x3 : Int32} {I : Nat} (hI : wId I) : ∀ (j l q : Nat) (A : AH), l + j = 6 → j < q → KS A → (∀ l, l < 6 → aR A 37 I l = some (I + 1 + l)) → ∃ A', rn4 (X0_way_b33 N x1 x2 x3) q A I (nn 6) (nn l) = (bo (aR A' 111 0 0) fun q5 => bo (sI 8 31 A' 18 x1) fun v6 => bo (dR_ 37 A' q5 v6) fun q7 => bo (sI 8 31 A' 19 x1) fun v8 => bo (uI_ 35 A' q7 v8 1) fun A9 => rn2 (X0_way_b103 N x1 x2 x3) N A9 0) ∧ Ch (Prw I) A A' ∧ (∀ l' c', l ≤ l' → l' < 6 → c' < 8 → aI A' 35 (I + 1 + l') c' = 0) ∧ (∀ l' c', l' < l → aI A' 35 (I + 1 + l') c' = aI A 35 (I + 1 + l') c') := by
  intro j
  induction j with
  | zero =>
    intro l q A hl hq ks hR
    obtain ⟨q, rfl⟩ : ∃ z, q = z + 1 := ⟨q - 1, by omega⟩
    have : l = 6 := by omega
    subst this
    refine ⟨A, ?_, Ch.refl A, fun l' c' h1 h2 => by omega, fun _ _ _ => rfl⟩
    show X0_way_b33 N x1 x2 x3 _ A I (nn 6) (nn 6) = _
    unfold X0_way_b33
    rw [if_pos (by decide)]
  | succ j ih =>
    intro l q A hl hq ks hR
    obtain ⟨q, rfl⟩ : ∃ z, q = z + 1 := ⟨q - 1, by omega⟩
    obtain ⟨k3, k4⟩ := ks.wid hI
    obtain ⟨A1, z1, z2, z3, z4⟩ := zrow50 (N := N) (x1 := x1) (x2 := x2) (x3 := x3) (x5 := nn 6) (x6 := nn l) (x4 := I) (I := I) (l := l) hI (by omega) (k33 := rn4 (X0_way_b33 N x1 x2 x3) q) 8 0 N A (by omega) (by omega) ks
    obtain ⟨A', p1, p2, p3, p4⟩ := ih (l + 1) q A1 (by omega) (by omega) (ks.ch z2) (fun l' hl' => (z2.R l' (by unfold Prw; omega)).trans (hR l' hl'))
    refine ⟨A', ?_, z2.trans p2, fun l' c' h1 h2 h3 => ?_, fun l' c' h => ?_⟩
    · rw [← p1, show nn (l + 1) = nn l + 1 from (nn_succ l).symm, ← z1]
      show X0_way_b33 N x1 x2 x3 (rn4 (X0_way_b33 N x1 x2 x3) q) A I (nn 6) (nn l) = _
      generalize rn4 (X0_way_b33 N x1 x2 x3) q = kk
      unfold X0_way_b33
      rw [if_neg (by rw [nn_le (by omega) (by omega)]; omega), dR_nn k3 (by omega) (by omega), hR l (by omega), bo_some]
      rfl
    · rcases Nat.eq_or_lt_of_le h1 with z | z
      · rw [p4 l' c' (by omega), ← z, z3 c' (by omega) h3]
      · exact p3 l' c' z h2 h3
    · rw [p4 l' c' (by omega), z4 _ _ (by omega)]
theorem zM10 {N : Nat} {fr_ s op : Nat} (hs : s < 2) : ∀ (j k q : Nat) (σ : mSt), k + j = 48 → j < q → ∃ σ', rn5 (M_goesOn_b10 N) q σ (nn fr_) (nn s) (nn op) (nn k) = rn5 (M_goesOn_b39 N) N σ' (nn fr_) (nn s) (nn op) 0 ∧ Cm (fun k => k = 64) σ σ' ∧ (∀ i, k ≤ i → i < 48 → σ'.1 64 (48 * s + i) = 0) ∧ (∀ i, ¬ (48 * s + k ≤ i ∧ i < 48 * s + 48) → σ'.1 64 i = σ.1 64 i) := by
  intro j
  induction j with
  | zero =>
    intro k q σ hk hq
    obtain ⟨q, rfl⟩ : ∃ z, q = z + 1 := ⟨q - 1, by omega⟩
    refine ⟨σ, ?_, Cm.refl σ, fun i h1 h2 => by omega, fun _ _ => rfl⟩
    show M_goesOn_b10 N _ σ (nn fr_) (nn s) (nn op) (nn k) = _
    unfold M_goesOn_b10
    rw [if_pos (show (48 : Int32) ≤ nn k from (nn_le (a := 48) (by omega) (by omega)).mpr (by omega))]
  | succ j ih =>
    intro k q σ hk hq
    obtain ⟨q, rfl⟩ : ∃ z, q = z + 1 := ⟨q - 1, by omega⟩
    obtain ⟨σ', p1, p2, p3, p4⟩ := ih (k + 1) q (mUI σ 64 (48 * s + k) 0) (by omega) (by omega)
    refine ⟨σ', ?_, Cm.trans (by apply Cm.UI; rfl) p2, fun i h1 h2 => ?_, fun i hi => ?_⟩
    · rw [← p1]
      show M_goesOn_b10 N (rn5 (M_goesOn_b10 N) q) σ (nn fr_) (nn s) (nn op) (nn k) = _
      generalize rn5 (M_goesOn_b10 N) q = kk
      unfold M_goesOn_b10
      rw [if_neg (fun z => by have := (nn_le (a := 48) (by omega) (by omega)).mp z; omega), show ((48 * nn s) + nn k : Int32) = nn (48 * s + k) from by rw [show (48 : Int32) = nn 48 from rfl, nn_mul, nn_add], stI_nn (by rfl) (by show 48 * s + k < 96; omega) (by omega), bo_some, nn_succ]
    · rcases Nat.eq_or_lt_of_le h1 with z | z
      · rw [p4 _ (by omega), mI_UI, if_pos ⟨rfl, by omega⟩]
      · exact p3 i z h2
    · rw [p4 i (by omega), mI_UI, if_neg (by omega)]
theorem zM22 {N : Nat} {x1 x2 x3 : Int32} : ∀ (j k q : Nat) (σ : mSt), k + j = 96 → j < q → ∃ σ', rn5 (M_way_b22 N) q σ x1 x2 x3 (nn k) = (bo (M_leafOf σ' x1) fun r3 => bo (M_cellOf σ' x1) fun r4 => bo (stI 5 σ' 64 ((8 * r3) + r4) 1) fun σ5 => rn4 (M_way_b66 N) N σ5 x2 x3 0) ∧ Cm (fun k => k = 64) σ σ' ∧ (∀ i, k ≤ i → i < 96 → σ'.1 64 i = 0) ∧ (∀ i, i < k → σ'.1 64 i = σ.1 64 i) := by
  intro j
  induction j with
  | zero =>
    intro k q σ hk hq
    obtain ⟨q, rfl⟩ : ∃ z, q = z + 1 := ⟨q - 1, by omega⟩
    refine ⟨σ, ?_, Cm.refl σ, fun i h1 h2 => by omega, fun _ _ => rfl⟩
    show M_way_b22 N _ σ x1 x2 x3 (nn k) = _
    unfold M_way_b22
    rw [if_pos (show (96 : Int32) ≤ nn k from (nn_le (a := 96) (by omega) (by omega)).mpr (by omega))]
  | succ j ih =>
    intro k q σ hk hq
    obtain ⟨q, rfl⟩ : ∃ z, q = z + 1 := ⟨q - 1, by omega⟩
    obtain ⟨σ', p1, p2, p3, p4⟩ := ih (k + 1) q (mUI σ 64 k 0) (by omega) (by omega)
    refine ⟨σ', ?_, Cm.trans (by apply Cm.UI; rfl) p2, fun i h1 h2 => ?_, fun i hi => ?_⟩
    · rw [← p1]
      show M_way_b22 N (rn5 (M_way_b22 N) q) σ x1 x2 x3 (nn k) = _
      generalize rn5 (M_way_b22 N) q = kk
      unfold M_way_b22
      rw [if_neg (fun z => by have := (nn_le (a := 96) (by omega) (by omega)).mp z; omega), stI_nn (by rfl) (by show k < 96; omega) (by omega), bo_some, nn_succ]
    · rcases Nat.eq_or_lt_of_le h1 with z | z
      · rw [p4 _ (by omega), mI_UI, if_pos ⟨rfl, by omega⟩]
      · exact p3 i z h2
    · rw [p4 i (by omega), mI_UI, if_neg (by omega)]
/-- what stands on the eve of a day -/
def WD0 (A0 : AH) (σ0 : mSt) (A : AH) (σ : mSt) (L C H I s : Nat) : Prop :=
  (Ch Pwy A0 A) ∧
  (Cm Kwy σ0 σ) ∧
  (wId H ∧ wId I ∧ H ≠ I) ∧
  (aR A 111 0 0 = some H) ∧
  (aR A 112 0 0 = some I) ∧
  (∀ l, l < 6 → aR A 37 H l = some (H + 1 + l)) ∧
  (∀ l, l < 6 → aR A 37 I l = some (I + 1 + l)) ∧
  (WE A σ L C (σ0.1 56) H s)
theorem WD0.ch {A0 : AH} {σ0 : mSt} {A : AH} {σ : mSt} {L C H I s : Nat} (h : WD0 A0 σ0 A σ L C H I s) : Ch Pwy A0 A := h.1
theorem WD0.cm {A0 : AH} {σ0 : mSt} {A : AH} {σ : mSt} {L C H I s : Nat} (h : WD0 A0 σ0 A σ L C H I s) : Cm Kwy σ0 σ := h.2.1
theorem WD0.hh {A0 : AH} {σ0 : mSt} {A : AH} {σ : mSt} {L C H I s : Nat} (h : WD0 A0 σ0 A σ L C H I s) : wId H ∧ wId I ∧ H ≠ I := h.2.2.1
theorem WD0.rh {A0 : AH} {σ0 : mSt} {A : AH} {σ : mSt} {L C H I s : Nat} (h : WD0 A0 σ0 A σ L C H I s) : aR A 111 0 0 = some H := h.2.2.2.1
theorem WD0.rx {A0 : AH} {σ0 : mSt} {A : AH} {σ : mSt} {L C H I s : Nat} (h : WD0 A0 σ0 A σ L C H I s) : aR A 112 0 0 = some I := h.2.2.2.2.1
theorem WD0.rs {A0 : AH} {σ0 : mSt} {A : AH} {σ : mSt} {L C H I s : Nat} (h : WD0 A0 σ0 A σ L C H I s) : ∀ l, l < 6 → aR A 37 H l = some (H + 1 + l) := h.2.2.2.2.2.1
theorem WD0.rr {A0 : AH} {σ0 : mSt} {A : AH} {σ : mSt} {L C H I s : Nat} (h : WD0 A0 σ0 A σ L C H I s) : ∀ l, l < 6 → aR A 37 I l = some (I + 1 + l) := h.2.2.2.2.2.2.1
theorem WD0.wh {A0 : AH} {σ0 : mSt} {A : AH} {σ : mSt} {L C H I s : Nat} (h : WD0 A0 σ0 A σ L C H I s) : WE A σ L C (σ0.1 56) H s := h.2.2.2.2.2.2.2
theorem WD0.mk {A0 : AH} {σ0 : mSt} {A : AH} {σ : mSt} {L C H I s : Nat} (h_ch : Ch Pwy A0 A) (h_cm : Cm Kwy σ0 σ) (h_hh : wId H ∧ wId I ∧ H ≠ I) (h_rh : aR A 111 0 0 = some H) (h_rx : aR A 112 0 0 = some I) (h_rs : ∀ l, l < 6 → aR A 37 H l = some (H + 1 + l)) (h_rr : ∀ l, l < 6 → aR A 37 I l = some (I + 1 + l)) (h_wh : WE A σ L C (σ0.1 56) H s) : WD0 A0 σ0 A σ L C H I s := ⟨h_ch, h_cm, h_hh, h_rh, h_rx, h_rs, h_rr, h_wh⟩
theorem WB.eve {H I s : Nat} (B : WB A0 σ0 A σ L C H I s) : WD0 A0 σ0 A σ L C H I s := WD0.mk B.ws.ch B.ws.cm ⟨B.hh.1, B.ws.id, B.hh.2⟩ B.rh B.ws.rx B.rs B.ws.rr B.wh
theorem WD0.iv {H I s : Nat} (D : WD0 A0 σ0 A σ L C H I s) (h : IV A0 σ0 fo nb L C W n ρ u w κ t m o) : IV A σ fo nb L C W n ρ u w κ t m o := by
  obtain ⟨n', ρ', k⟩ := h.kt
  have hh := D.hh
  unfold wId at hh
  refine h.frame (D.ch.mono (fun f i z => by unfold Pwy at z; unfold Psc; omega)) (D.cm.mono (fun k z => by unfold Kwy at z; unfold Ksc; omega)) (fun j => D.cm.I j (by unfold Kwy; omega)) ((D.cm.I 0 (by unfold Kwy; omega)).trans h.th) ⟨n', ρ', k.ch D.ch (by unfold Pwy; omega) (by unfold Pwy; omega)⟩ ⟨?_, fun l hl => ?_, fun b hb => (D.ch.R b (by unfold Pwy; omega)).trans (h.hn.2.2 b hb)⟩
  · rw [D.rh, D.rx]
    rcases hh with ⟨z1 | z1, z2 | z2, z3⟩ <;> subst z1 <;> subst z2
    · exact absurd rfl z3
    · exact Or.inl ⟨rfl, rfl⟩
    · exact Or.inr ⟨rfl, rfl⟩
    · exact absurd rfl z3
  · exact ⟨(D.ch.R l (by unfold Pwy; omega)).trans (h.hn.2.1 l hl).1, (D.ch.R l (by unfold Pwy; omega)).trans (h.hn.2.1 l hl).2⟩
theorem way_loop {N : Nat} (hN : 5000 ≤ N) (h : IV A0 σ0 fo nb L C W n ρ u w κ t m o) {e l c : Nat} (he : e ≤ 999) (ee : σ0.1 56 0 = nn e) (hl : l < L) (hc : c < C) (x1 : Int32) : ∀ (j d q1 q2 H I : Nat) (A : AH) (σ : mSt), d + j = 41 → j < q1 → j < q2 → WD0 A0 σ0 A σ L C H I (d % 2) → Thk (rn2 (X0_way_b103 N x1 (nn l) (nn c)) q1 A (nn d)) (rn4 (M_way_b66 N) q2 σ (nn l) (nn c) (nn d)) A fo nb L C W n ρ u w κ t m o := by
  have bL := h.fr.bL
  have bC := h.fr.bC
  intro j
  induction j with
  | zero =>
    intro d q1 q2 H I A σ hd h1 h2 D
    obtain ⟨q1, rfl⟩ : ∃ z, q1 = z + 1 := ⟨q1 - 1, by omega⟩
    obtain ⟨q2, rfl⟩ : ∃ z, q2 = z + 1 := ⟨q2 - 1, by omega⟩
    have hI := D.iv h
    have e0 : σ.1 56 0 = nn e := (D.cm.I 0 (by unfold Kwy; omega)).trans ee
    obtain ⟨p, _, hp, p1, _⟩ := isAhead_eq hI.fr (d := e) (by omega) (hI.st.day.trans e0) e0 (nn d) (a := 0) (b := 40) (by decide) (by decide)
    refine ⟨-1, A, σ, ?_, ?_, hI, rfl⟩
    · show X0_way_b103 N x1 (nn l) (nn c) _ A (nn d) = _
      unfold X0_way_b103
      rw [show X0_isAhead A (nn d) 0 40 = _ from p1, bo_some, bt0, if_neg]
      intro z
      obtain ⟨_, k, _, hk, ek, _⟩ := hp.mp z
      have := (nn_eq (by omega) (by omega)).mp ek
      omega
    · show M_way_b66 N _ σ (nn l) (nn c) (nn d) = _
      unfold M_way_b66
      rw [if_pos (show (40 : Int32) < nn d from (nn_lt (a := 40) (by omega) (by omega)).mpr (by omega))]
  | succ j ih =>
    intro d q1 q2 H I A σ hd h1 h2 D
    obtain ⟨q1, rfl⟩ : ∃ z, q1 = z + 1 := ⟨q1 - 1, by omega⟩
    obtain ⟨q2, rfl⟩ : ∃ z, q2 = z + 1 := ⟨q2 - 1, by omega⟩
    have hI := D.iv h
    obtain ⟨fr, st, ks, e56⟩ := wy_fr h D.ch D.cm
    have e0 : σ.1 56 0 = nn e := (D.cm.I 0 (by unfold Kwy; omega)).trans ee
    have e600 : aI A 600 16 0 = nn e := hI.st.day.trans e0
    obtain ⟨p, _, hp, p1, _⟩ := isAhead_eq hI.fr (d := e) (by omega) e600 e0 (nn d) (a := 0) (b := 40) (by decide) (by decide)
    have hp' : p ↔ e + d ≤ 999 := by
      rw [hp]
      constructor
      · rintro ⟨_, k, _, _, ek, hk⟩
        have := (nn_eq (by omega) (by omega)).mp ek
        omega
      · intro z
        exact ⟨by omega, d, by omega, by omega, rfl, z⟩
    obtain ⟨v, v1, v2, v3⟩ := D.wh l c (by omega) (by omega)
    obtain ⟨k1, k2⟩ := ks.wrow D.hh.1 (l := l) (by omega)
    obtain ⟨k3, k4⟩ := ks.wid D.hh.1
    obtain ⟨k5, k6⟩ := ks.wid D.hh.2.1
    have rm : (nn d - nn d / 2 * 2 : Int32) = nn (d % 2) := nn_rem (b := 2) (by omega) (by decide)
    have r1 : (1 - nn (d % 2) : Int32) = nn (1 - d % 2) := nn_sub (a := 1) (by omega)
    have hs : d % 2 < 2 := Nat.mod_lt _ (by decide)
    show Thk (X0_way_b103 N x1 (nn l) (nn c) (rn2 (X0_way_b103 N x1 (nn l) (nn c)) q1) A (nn d)) (M_way_b66 N (rn4 (M_way_b66 N) q2) σ (nn l) (nn c) (nn d)) A fo nb L C W n ρ u w κ t m o
    have hX : X0_way_b103 N x1 (nn l) (nn c) (rn2 (X0_way_b103 N x1 (nn l) (nn c)) q1) A (nn d) = if p then (if v = 0 then rn5 (X0_way_b143 N x1 (nn l) (nn c) (rn2 (X0_way_b103 N x1 (nn l) (nn c)) q1)) N A (nn d) I (nn 6) 0 else some (nn d, A)) else some (-1, A) := by
      generalize rn2 (X0_way_b103 N x1 (nn l) (nn c)) q1 = kk
      unfold X0_way_b103
      rw [show X0_isAhead A (nn d) 0 40 = _ from p1, bo_some, bt0, D.rh, bo_some, dR_nn k3 (by omega) (by omega), D.rs l (by omega), bo_some, dI_nn k1 (by omega) (by omega), bo_some, v2, D.rx, bo_some, aLn_k k5, bo_some, k6]
    have hM : M_way_b66 N (rn4 (M_way_b66 N) q2) σ (nn l) (nn c) (nn d) = if 999 < nn (e + d) then some (-1, σ) else (if v = 0 then (bd (M_goesOn N σ (nn (e + d)) (nn (d % 2)) (nn (1 - d % 2))) fun _ σ9 => rn4 (M_way_b66 N) q2 σ9 (nn l) (nn c) (nn (d + 1))) else some (nn d, σ)) := by
      generalize rn4 (M_way_b66 N) q2 = kk
      unfold M_way_b66
      rw [if_neg (fun z => by have := (nn_lt (a := 40) (by omega) (by omega)).mp z; omega), m_day, bo_some, e0, nn_add, rm, r1, show (((48 * nn (d % 2)) + (8 * nn l)) + nn c : Int32) = nn (48 * (d % 2) + 8 * l + c) from by rw [show (48 : Int32) = nn 48 from rfl, nn_mul, show (8 : Int32) = nn 8 from rfl, nn_mul, nn_add, nn_add], ld_nn (by rfl) (by show 48 * (d % 2) + 8 * l + c < 96; omega) (by omega), bo_some, v3, bo_some, nn_succ, nn_add]
    rw [hX, hM]
    by_cases z : p
    · have hed := hp'.mp z
      rw [if_pos z, if_neg (show ¬ (999 : Int32) < nn (e + d) from fun q => by have := (nn_lt (a := 999) (by omega) (by omega)).mp q; omega)]
      by_cases vz : v = 0
      · rw [if_pos vz, if_pos vz]
        -- a day more
        obtain ⟨A1, z1, z2, z3, _⟩ := zall143 hN (x1 := x1) (x2 := nn l) (x3 := nn c) (x4 := nn d) D.hh.2.1 (k103 := rn2 (X0_way_b103 N x1 (nn l) (nn c)) q1) 6 0 N A (by omega) (by omega) ks D.rr
        have hh := D.hh
        have hh2 : (H = 112 ∧ I = 119) ∨ (H = 119 ∧ I = 112) := by
          obtain ⟨q1, q2, q3⟩ := hh
          unfold wId at q1 q2
          omega
        have D1 : WD0 A0 σ0 A1 σ L C H I (d % 2) := WD0.mk (D.ch.trans (Prw.wy hh.2.1 z2)) D.cm D.hh ((z2.R 0 (by unfold Prw; omega)).trans D.rh) ((z2.R 0 (by unfold Prw; omega)).trans D.rx) (fun l hl => (z2.R l (by unfold Prw; omega)).trans (D.rs l hl)) (fun l hl => (z2.R l (by unfold Prw; omega)).trans (D.rr l hl)) (D.wh.keep (fun l c _ _ => z2.I c (by unfold Prw; omega)) (fun _ _ _ _ => rfl))
        obtain ⟨r, A2, σ2, hr, o1, o2, o3, o4, _⟩ := (D1.iv h).opening hN (x := e + d) (by omega)
        obtain ⟨σ3, y1, y2, y3, y4⟩ := zM10 (N := N) (fr_ := d % 2) (s := 1 - d % 2) (op := r) (by omega) 48 0 N σ2 (by omega) (by omega)
        have e64 : ∀ j, σ2.1 64 j = σ.1 64 j := fun j => o4.I j (by unfold Kop; omega)
        have cA2 : Ch Pwy A0 A2 := D1.ch.trans (o3.mono (fun f i z => Or.inl z))
        have cm3 : Cm Kwy σ0 σ3 := (D.cm.trans (o4.mono (fun k z => by unfold Kop at z; unfold Kwy; omega))).trans (y2.mono (fun k z => by unfold Kwy; omega))
        have n12 : ∀ f i, i ≠ 12 → ¬ P12 f i := fun f i z => z
        have B : WB A0 σ0 A2 σ3 L C H I (d % 2) := by
          refine WB.mk (WS.mk cA2 cm3 hh.2.1 ((o3.R 0 (by omega)).trans D1.rx) (fun l hl => (o3.R l (by omega)).trans (D1.rr l hl)) ?_) ⟨hh.1, hh.2.2⟩ ((o3.R 0 (by omega)).trans D1.rh) (fun l hl => (o3.R l (by omega)).trans (D1.rs l hl)) ?_
          · intro l' c' hl' hc'
            refine ⟨0, Or.inl rfl, ?_, ?_⟩
            · rw [o3.I c' (by omega)]; exact z3 l' c' (by omega) hl' hc'
            · rw [show 48 * (1 - d % 2) + 8 * l' + c' = 48 * (1 - d % 2) + (8 * l' + c') by omega]; exact y3 _ (by omega) (by omega)
          · exact D1.wh.keep (fun l' c' _ _ => o3.I c' (by omega)) (fun l' c' _ _ => by rw [y4 _ (by omega), e64])
        obtain ⟨A3, σ4, g1, g2, B3, g4⟩ := leaves_loop hN h (H := H) (I := I) (s := d % 2) (op := r) hs (by omega) x1 (nn l) (nn c) (nn d) (rn2 (X0_way_b103 N x1 (nn l) (nn c)) q1) L 0 N N A2 σ3 (by omega) (by omega) (by omega) B
        have D3 := B3.eve
        rw [show 1 - d % 2 = (d + 1) % 2 by omega] at D3
        obtain ⟨r', A', σ', i1, i2, i3, i4⟩ := ih (d + 1) q1 q2 I H A3 σ4 (by omega) (by omega) (by omega) D3
        have z1' : rn5 (X0_way_b143 N x1 (nn l) (nn c) (rn2 (X0_way_b103 N x1 (nn l) (nn c)) q1)) N A (nn d) I (nn 6) 0 = _ := z1
        have g1' : rn4 (X0_way_b204 N x1 (nn l) (nn c) (rn2 (X0_way_b103 N x1 (nn l) (nn c)) q1)) N A2 (nn d) (nn r) 0 = _ := g1
        refine ⟨r', A', σ', ?_, ?_, i3, i4.trans (g4.trans (o3.1.trans z2.1))⟩
        · rw [z1', z2.I 0 (by unfold Prw; omega), e600, nn_add, o1, bd_some, g1', nn_succ, i1]
        · have y1' : rn5 (M_goesOn_b10 N) N σ2 (nn (d % 2)) (nn (1 - d % 2)) (nn r) 0 = _ := y1
          have g2' : rn5 (M_goesOn_b39 N) N σ3 (nn (d % 2)) (nn (1 - d % 2)) (nn r) 0 = some ((), σ4) := g2
          unfold M_goesOn
          rw [o2, bd_some, y1', g2', bd_some, i2]
      · rw [if_neg vz, if_neg vz]
        exact ⟨_, A, σ, rfl, rfl, hI, rfl⟩
    · rw [if_neg z, if_pos (show (999 : Int32) < nn (e + d) from (nn_lt (a := 999) (by omega) (by omega)).mpr (by
        have : ¬ e + d ≤ 999 := fun q => z (hp'.mpr q)
        omega))]
      exact ⟨_, A, σ, rfl, rfl, hI, rfl⟩
theorem way_op {N : Nat} (hN : 5000 ≤ N) (h : IV A σ fo nb L C W n ρ u w κ t m o) (x y z : Int32) : Thk (X0_way N A x y z) (M_way N σ x y z) A fo nb L C W n ρ u w κ t m o := by
  obtain ⟨d, hd, e1, e2⟩ := h.day
  have bn := h.fr.bn
  have bL := h.fr.bL
  have bC := h.fr.bC
  obtain ⟨p, _, hp, q1, q2⟩ := isBeing_eq h.fr x
  obtain ⟨p', _, hp', q1', q2'⟩ := isCell_eq h.fr y z
  unfold X0_way M_way
  rw [q1, q2, bo_some, bo_some, bt0, bt0, q1', q2', bo_some, bo_some, bt0, bt0]
  by_cases c : p
  · rw [if_pos c, if_pos c]
    by_cases c' : p'
    · rw [if_pos c', if_pos c']
      obtain ⟨b, hb, rfl⟩ := hp.mp c
      obtain ⟨l, k, hl, hk, rfl, rfl⟩ := hp'.mp c'
      obtain ⟨H, I, hH, hI, hne, rh, rx, rs, rr⟩ : ∃ H I, wId H ∧ wId I ∧ H ≠ I ∧ aR A 111 0 0 = some H ∧ aR A 112 0 0 = some I ∧ (∀ l, l < 6 → aR A 37 H l = some (H + 1 + l)) ∧ (∀ l, l < 6 → aR A 37 I l = some (I + 1 + l)) := by
        rcases h.hn.1 with ⟨z1, z2⟩ | ⟨z1, z2⟩
        · exact ⟨112, 119, Or.inl rfl, Or.inr rfl, by decide, z1, z2, fun l hl => (h.hn.2.1 l hl).1, fun l hl => (h.hn.2.1 l hl).2⟩
        · exact ⟨119, 112, Or.inr rfl, Or.inl rfl, by decide, z1, z2, fun l hl => (h.hn.2.1 l hl).2, fun l hl => (h.hn.2.1 l hl).1⟩
      obtain ⟨k5, k6⟩ := h.ks.wid hH
      obtain ⟨A1, z1, z2, z3, _⟩ := zall33 hN (x1 := nn b) (x2 := nn l) (x3 := nn k) hH 6 0 N A (by omega) (by omega) h.ks rs
      obtain ⟨σ1, y1, y2, y3, _⟩ := zM22 (N := N) (x1 := nn b) (x2 := nn l) (x3 := nn k) 96 0 N σ (by omega) (by omega)
      obtain ⟨bl, hbl, ebl⟩ := h.st.lfb b hb
      obtain ⟨bc, hbc, ebc⟩ := h.st.ceb b hb
      have nog := h.st.og b bl hb (by omega) ebl
      rw [ebc] at nog
      have ks1 := h.ks.ch z2
      obtain ⟨k1, k2⟩ := ks1.wrow hH (l := bl) (by omega)
      obtain ⟨k7, k8⟩ := ks1.wid hH
      have hHI : (H = 112 ∧ I = 119) ∨ (H = 119 ∧ I = 112) := by
        unfold wId at hH hI; omega
      have we0 : WE A1 σ1 L C (σ.1 56) H 0 := fun l' c' hl' hc' => ⟨0, Or.inl rfl, z3 l' c' (by omega) hl' hc', y3 _ (by omega) (by omega)⟩
      have we1 := we0.mark bL bC hbl hbc nog
      have cq : Ch (Prw H) A1 (wI A1 35 (H + 1 + bl) bc 1) := Ch.wI ⟨rfl, by omega, by omega⟩
      have c2 : Ch (Prw H) A (wI A1 35 (H + 1 + bl) bc 1) := z2.trans cq
      have D : WD0 A σ (wI A1 35 (H + 1 + bl) bc 1) (mUI σ1 64 (48 * 0 + 8 * bl + bc) 1) L C H I (0 % 2) := WD0.mk (Prw.wy hH c2) ((y2.mono (fun k z => by unfold Kwy; omega)).trans (Cm.UI (by unfold Kwy; omega))) ⟨hH, hI, hne⟩ ((c2.R 0 (by unfold Prw; omega)).trans rh) ((c2.R 0 (by unfold Prw; omega)).trans rx) (fun l hl => (c2.R l (by unfold Prw; omega)).trans (rs l hl)) (fun l hl => (c2.R l (by unfold Prw; omega)).trans (rr l hl)) we1
      obtain ⟨r, A', σ', i1, i2, i3, i4⟩ := way_loop hN h hd e1 hl hk (nn b) 41 0 N N H I _ _ (by omega) (by omega) (by omega) D
      have z1' : rn4 (X0_way_b33 N (nn b) (nn l) (nn k)) N A H (nn 6) 0 = _ := z1
      have y1' : rn5 (M_way_b22 N) N σ (nn b) (nn l) (nn k) 0 = _ := y1
      have i1' : rn2 (X0_way_b103 N (nn b) (nn l) (nn k)) N (wI A1 35 (H + 1 + bl) bc 1) 0 = _ := i1
      have i2' : rn4 (M_way_b66 N) N (mUI σ1 64 (48 * 0 + 8 * bl + bc) 1) (nn l) (nn k) 0 = _ := i2
      refine ⟨r, A', σ', ?_, ?_, i3, i4.trans c2.1⟩
      · rw [rh, bo_some, aLn_k k5, bo_some, k6, z1', z2.R 0 (by unfold Prw; omega), rh, bo_some, sI_nn (by omega) (by decide), bo_some, z2.I b (by unfold Prw; omega), show (18 : Nat) = 16 + 2 from rfl, h.st.lf b hb, ebl, dR_nn k7 (by omega) (by omega), z2.R bl (by unfold Prw; omega), rs bl (by omega), bo_some, sI_nn (by omega) (by decide), bo_some, z2.I b (by unfold Prw; omega), show (19 : Nat) = 16 + 3 from rfl, h.st.ce b hb, ebc, uI_nn k1 (by omega) (by omega), bo_some, i1']
      · rw [y1', m_leafOf σ1 (by omega), bo_some, (y2 56 _ (by omega)).1, ebl, m_cellOf σ1 (by omega), bo_some, (y2 56 _ (by omega)).1, ebc, show ((8 * nn bl) + nn bc : Int32) = nn (48 * 0 + 8 * bl + bc) from by rw [show (8 : Int32) = nn 8 from rfl, nn_mul, nn_add, show 48 * 0 + 8 * bl + bc = 8 * bl + bc by omega], stI_nn (by rfl) (by show 48 * 0 + 8 * bl + bc < 96; omega) (by omega), bo_some, i2']
    · rw [if_neg c', if_neg c']; exact ⟨_, _, _, rfl, rfl, h, rfl⟩
  · rw [if_neg c, if_neg c]; exact ⟨_, _, _, rfl, rfl, h, rfl⟩
end WY2
