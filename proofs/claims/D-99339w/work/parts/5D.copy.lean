/-! PURE LEVEL: days on end; a state copied -/
set_option maxRecDepth 100000
theorem days_loop {N : Nat} (hN : 5000 ≤ N) {fo nb L C W x : Nat} {th : Bool} {ε : Int32} {δ η : Nat → Int32} (hx : isStb x = true) {k : Nat} (hk : k ≤ 1000) : ∀ (j i m1 m2 : Nat) (A : AH) (σ : mSt) (n : Nat) (ρ : Nat → Nat) (d : Nat), i + j = k → j < m1 → j < m2 → d + j ≤ 1100 → σ.1 56 0 = nn d → PR A σ fo nb L C W x th n ρ ε δ η →
    ∃ A' σ' n' ρ', rn2 (X5_days_b2 N x (nn k)) m1 A (nn i) = some (some x, A') ∧ rn3 (M_daysGo_b2 N) m2 σ (nn k) (nn i) = some ((), σ') ∧ Ch (PX x) A A' ∧ Cm KD σ σ' ∧ PR A' σ' fo nb L C W x th n' ρ' ε δ η ∧ σ'.1 56 0 = nn (d + j) := by
  intro j
  induction j with
  | zero =>
    intro i m1 m2 A σ n ρ d hi h1 h2 hd ed h
    obtain ⟨m1, rfl⟩ : ∃ z, m1 = z + 1 := ⟨m1 - 1, by omega⟩
    obtain ⟨m2, rfl⟩ : ∃ z, m2 = z + 1 := ⟨m2 - 1, by omega⟩
    refine ⟨A, σ, n, ρ, ?_, ?_, Ch.refl A, Cm.refl σ, h, ed⟩
    · show X5_days_b2 N x (nn k) _ A (nn i) = _
      unfold X5_days_b2
      rw [if_pos (by rw [nn_le (by omega) (by omega)]; omega)]
    · show M_daysGo_b2 N _ σ (nn k) (nn i) = _
      unfold M_daysGo_b2
      rw [if_pos (by rw [nn_le (by omega) (by omega)]; omega)]
  | succ j ih =>
    intro i m1 m2 A σ n ρ d hi h1 h2 hd ed h
    have bL := h.fr.bL
    obtain ⟨m1, rfl⟩ : ∃ z, m1 = z + 1 := ⟨m1 - 1, by omega⟩
    obtain ⟨m2, rfl⟩ : ∃ z, m2 = z + 1 := ⟨m2 - 1, by omega⟩
    obtain ⟨r, σ1, hr, o1, o2, o3⟩ := opening_eq hN h.fr (x := d) (by omega)
    obtain ⟨A1, o4, o5⟩ := o3 64 (by decide) A (fun i _ => ⟨rfl, rfl, fun _ _ => ⟨rfl, rfl, rfl⟩⟩) rfl h.mo
    have h1' := h.mv hx o5 (o2.mono (fun k z => by unfold Kop at z; unfold KQ; omega))
    obtain ⟨A2, σ2, n2, ρ2, p1, p2, p3, p4, p5, p6, _⟩ := passes_eq hN hx h1' (o := r) (d := d) (by omega) (by omega) ((o2.I 0 (by unfold Kop; omega)).trans ed)
    obtain ⟨A', σ', n', ρ', i1, i2, i3, i4, i5, i6⟩ := ih (i + 1) m1 m2 A2 σ2 n2 ρ2 (d + 1) (by omega) (by omega) (by omega) (by omega) p6 p5
    refine ⟨A', σ', n', ρ', ?_, ?_, ((o5.mono (fun f i z => Or.inr z)).trans p3).trans i3, ((o2.mono (fun k z => by unfold Kop at z; unfold KD; omega)).trans p4).trans i4, i5, by rw [i6, show d + 1 + j = d + (j + 1) by omega]⟩
    · rw [← i1]
      show X5_days_b2 N x (nn k) (rn2 (X5_days_b2 N x (nn k)) m1) A (nn i) = _
      generalize rn2 (X5_days_b2 N x (nn k)) m1 = kk
      unfold X5_days_b2
      have o4' : X0_openingOf (valF N) A (nn d) = some (nn r, A1) := o4
      rw [if_neg (by rw [nn_le (by omega) (by omega)]; omega), h.st.day, ed, o4', bd_some, p1, bd_some, nn_succ]
    · rw [← i2]
      show M_daysGo_b2 N (rn3 (M_daysGo_b2 N) m2) σ (nn k) (nn i) = _
      generalize rn3 (M_daysGo_b2 N) m2 = kk
      unfold M_daysGo_b2
      rw [if_neg (by rw [nn_le (by omega) (by omega)]; omega), m_day, bo_some, ed, o1, bd_some, p2, bd_some, nn_succ]
theorem days_eq {N : Nat} (hN : 5000 ≤ N) {A : AH} {σ : mSt} {fo nb L C W x : Nat} {th : Bool} {n : Nat} {ρ : Nat → Nat} {ε : Int32} {δ η : Nat → Int32} (hx : isStb x = true) (h : PR A σ fo nb L C W x th n ρ ε δ η) {k d : Nat} (hk : k ≤ 1000) (hd : d + k ≤ 1100) (ed : σ.1 56 0 = nn d) :
    ∃ A' σ' n' ρ', X5_days N A x (nn k) = some (some x, A') ∧ M_daysGo N σ (nn k) = some ((), σ') ∧ Ch (PX x) A A' ∧ Cm KD σ σ' ∧ PR A' σ' fo nb L C W x th n' ρ' ε δ η ∧ σ'.1 56 0 = nn (d + k) := by
  obtain ⟨A', σ', n', ρ', i1, i2, i3, i4, i5, i6⟩ := days_loop hN hx hk k 0 N N A σ n ρ d (by omega) (by omega) (by omega) hd ed h
  refine ⟨A', σ', n', ρ', ?_, i2, i3, i4, i5, i6⟩
  unfold X5_days
  rw [if_pos hx]; exact i1
/-! copying -/
/-- only ints have changed -/
def IO_ (A B : AH) : Prop := aR B = aR A ∧ aJ B = aJ A ∧ aK B = aK A ∧ aL B = aL A ∧ B.1 = A.1
theorem IO_.refl (A : AH) : IO_ A A := ⟨rfl, rfl, rfl, rfl, rfl⟩
theorem IO_.trans {A B C : AH} (h : IO_ A B) (g : IO_ B C) : IO_ A C := ⟨g.1.trans h.1, g.2.1.trans h.2.1, g.2.2.1.trans h.2.2.1, g.2.2.2.1.trans h.2.2.2.1, g.2.2.2.2.trans h.2.2.2.2⟩
theorem IO_.wI (A : AH) (f i j : Nat) (v : Int32) : IO_ A (wI A f i j v) := ⟨aR_wI A f i j v, aJ_wI A f i j v, aK_wI A f i j v, aL_wI A f i j v, rfl⟩
theorem st_disj {x y : Nat} (hx : isStb x = true) (hy : isStb y = true) (hne : x ≠ y) : x + 48 ≤ y ∨ y + 48 ≤ x := by
  have h1 := isSt_of hx
  have h2 := isSt_of hy
  unfold isSt at h1 h2
  omega
theorem copy23 {N : Nat} {x y : Nat} (hne : x + 48 ≤ y ∨ y + 48 ≤ x) : ∀ (j i m : Nat) (A : AH), i + j = 6 → j < m → ∃ A', rn2 (X5_copy_b23 N x y) m A (nn i) = rn2 (X5_copy_b49 N x y) N A' 0 ∧ IO_ A A' ∧ (∀ f q k, ¬ (f = 31 ∧ q = x + 1) → aI A' f q k = aI A f q k) ∧ (∀ l, i ≤ l → l < 6 → aI A' 31 (x + 1) l = aI A 31 (y + 1) l) ∧ (∀ l, l < i → aI A' 31 (x + 1) l = aI A 31 (x + 1) l) := by
  intro j
  induction j with
  | zero =>
    intro i m A hi hm
    obtain ⟨m, rfl⟩ : ∃ z, m = z + 1 := ⟨m - 1, by omega⟩
    have : i = 6 := by omega
    subst this
    refine ⟨A, ?_, IO_.refl A, fun _ _ _ _ => rfl, fun l h1 h2 => by omega, fun _ _ => rfl⟩
    show X5_copy_b23 N x y _ A (nn 6) = _
    unfold X5_copy_b23
    rw [if_pos (by decide)]
  | succ j ih =>
    intro i m A hi hm
    obtain ⟨m, rfl⟩ : ∃ z, m = z + 1 := ⟨m - 1, by omega⟩
    obtain ⟨A', p1, p2, p3, p4, p5⟩ := ih (i + 1) m (wI A 31 (x + 1) i (aI A 31 (y + 1) i)) (by omega) (by omega)
    refine ⟨A', ?_, (IO_.wI ..).trans p2, fun f q k z => ?_, fun l h1 h2 => ?_, fun l h1 => ?_⟩
    · rw [← p1]
      show X5_copy_b23 N x y (rn2 (X5_copy_b23 N x y) m) A (nn i) = _
      generalize rn2 (X5_copy_b23 N x y) m = kk
      unfold X5_copy_b23
      rw [if_neg (by rw [show (6 : Int32) = nn 6 from rfl, nn_le (by omega) (by omega)]; omega), sI_nn (by omega) (by decide), bo_some, tI_nn (by omega) (by decide), bo_some, nn_succ]
    · rw [p3 f q k z, aI_wI, if_neg (by omega)]
    · rcases Nat.eq_or_lt_of_le h1 with z | z
      · rw [p5 l (by omega), aI_wI, if_pos ⟨rfl, rfl, z.symm⟩, z]
      · rw [p4 l z h2, aI_wI, if_neg (by omega)]
    · rw [p5 l (by omega), aI_wI, if_neg (by omega)]
def cpQ (q : Nat) : Prop := q = 2 ∨ q = 3 ∨ q = 4 ∨ q = 5 ∨ q = 47
def cpS (A : AH) (y q b : Nat) : Int32 := if q = 47 then 0 else aI A 31 (y + q) b
theorem copy49 {N : Nat} {x y : Nat} (hne : x + 48 ≤ y ∨ y + 48 ≤ x) : ∀ (j i m : Nat) (A : AH), i + j = 8 → j < m → ∃ A', rn2 (X5_copy_b49 N x y) m A (nn i) = rn2 (X5_copy_b118 N x y) N A' 0 ∧ IO_ A A' ∧ (∀ f q k, ¬ (f = 31 ∧ ∃ z, cpQ z ∧ q = x + z) → aI A' f q k = aI A f q k) ∧ (∀ z b, cpQ z → i ≤ b → b < 8 → aI A' 31 (x + z) b = cpS A y z b) ∧ (∀ z b, cpQ z → b < i → aI A' 31 (x + z) b = aI A 31 (x + z) b) := by
  intro j
  induction j with
  | zero =>
    intro i m A hi hm
    obtain ⟨m, rfl⟩ : ∃ z, m = z + 1 := ⟨m - 1, by omega⟩
    have : i = 8 := by omega
    subst this
    refine ⟨A, ?_, IO_.refl A, fun _ _ _ _ => rfl, fun z l _ h1 h2 => by omega, fun _ _ _ _ => rfl⟩
    show X5_copy_b49 N x y _ A (nn 8) = _
    unfold X5_copy_b49
    rw [if_pos (by decide)]
  | succ j ih =>
    intro i m A hi hm
    obtain ⟨m, rfl⟩ : ∃ z, m = z + 1 := ⟨m - 1, by omega⟩
    obtain ⟨A1, e1⟩ : ∃ B, B = wI A 31 (x + 2) i (aI A 31 (y + 2) i) := ⟨_, rfl⟩
    obtain ⟨A2, e2⟩ : ∃ B, B = wI A1 31 (x + 3) i (aI A1 31 (y + 3) i) := ⟨_, rfl⟩
    obtain ⟨A3, e3⟩ : ∃ B, B = wI A2 31 (x + 4) i (aI A2 31 (y + 4) i) := ⟨_, rfl⟩
    obtain ⟨A4, e4⟩ : ∃ B, B = wI A3 31 (x + 5) i (aI A3 31 (y + 5) i) := ⟨_, rfl⟩
    obtain ⟨A5, e5⟩ : ∃ B, B = wI A4 31 (x + 47) i 0 := ⟨_, rfl⟩
    have io : IO_ A A5 := by
      rw [e5, e4, e3, e2, e1]
      exact (((((IO_.wI ..).trans (IO_.wI ..)).trans (IO_.wI ..)).trans (IO_.wI ..)).trans (IO_.wI ..))
    have y5 : ∀ f q k, ¬ (f = 31 ∧ ∃ z, cpQ z ∧ q = x + z) → aI A5 f q k = aI A f q k := by
      intro f q k z
      have z' : ∀ w, cpQ w → ¬ (f = 31 ∧ q = x + w) := fun w hw r => z ⟨r.1, w, hw, r.2⟩
      have t2 := z' 2 (by unfold cpQ; omega)
      have t3 := z' 3 (by unfold cpQ; omega)
      have t4 := z' 4 (by unfold cpQ; omega)
      have t5 := z' 5 (by unfold cpQ; omega)
      have t6 := z' 47 (by unfold cpQ; omega)
      rw [e5, aI_wI, if_neg (by omega), e4, aI_wI, if_neg (by omega), e3, aI_wI, if_neg (by omega), e2, aI_wI, if_neg (by omega), e1, aI_wI, if_neg (by omega)]
    have yy : ∀ w b, w < 48 → aI A 31 (y + w) b = aI A 31 (y + w) b ∧ aI A1 31 (y + w) b = aI A 31 (y + w) b ∧ aI A2 31 (y + w) b = aI A 31 (y + w) b ∧ aI A3 31 (y + w) b = aI A 31 (y + w) b := by
      intro w b hw
      have r1 : aI A1 31 (y + w) b = aI A 31 (y + w) b := by rw [e1, aI_wI, if_neg (by omega)]
      have r2 : aI A2 31 (y + w) b = aI A 31 (y + w) b := by rw [e2, aI_wI, if_neg (by omega), r1]
      have r3 : aI A3 31 (y + w) b = aI A 31 (y + w) b := by rw [e3, aI_wI, if_neg (by omega), r2]
      exact ⟨rfl, r1, r2, r3⟩
    have val : ∀ z b, cpQ z → aI A5 31 (x + z) b = if b = i then cpS A y z b else aI A 31 (x + z) b := by
      intro z b hz
      have hz' : z = 2 ∨ z = 3 ∨ z = 4 ∨ z = 5 ∨ z = 47 := hz
      by_cases hb : b = i
      · subst hb
        rw [if_pos rfl]
        unfold cpS
        rcases hz' with rfl | rfl | rfl | rfl | rfl
        · rw [if_neg (by omega), e5, aI_wI, if_neg (by omega), e4, aI_wI, if_neg (by omega), e3, aI_wI, if_neg (by omega), e2, aI_wI, if_neg (by omega), e1, aI_wI, if_pos ⟨rfl, rfl, rfl⟩]
        · rw [if_neg (by omega), e5, aI_wI, if_neg (by omega), e4, aI_wI, if_neg (by omega), e3, aI_wI, if_neg (by omega), e2, aI_wI, if_pos ⟨rfl, rfl, rfl⟩, (yy 3 b (by omega)).2.1]
        · rw [if_neg (by omega), e5, aI_wI, if_neg (by omega), e4, aI_wI, if_neg (by omega), e3, aI_wI, if_pos ⟨rfl, rfl, rfl⟩, (yy 4 b (by omega)).2.2.1]
        · rw [if_neg (by omega), e5, aI_wI, if_neg (by omega), e4, aI_wI, if_pos ⟨rfl, rfl, rfl⟩, (yy 5 b (by omega)).2.2.2]
        · rw [if_pos rfl, e5, aI_wI, if_pos ⟨rfl, rfl, rfl⟩]
      · rw [if_neg hb, e5, aI_wI, if_neg (fun q => hb q.2.2), e4, aI_wI, if_neg (fun q => hb q.2.2), e3, aI_wI, if_neg (fun q => hb q.2.2), e2, aI_wI, if_neg (fun q => hb q.2.2), e1, aI_wI, if_neg (fun q => hb q.2.2)]
    obtain ⟨A', p1, p2, p3, p4, p5⟩ := ih (i + 1) m A5 (by omega) (by omega)
    refine ⟨A', ?_, io.trans p2, fun f q k z => (p3 f q k z).trans (y5 f q k z), fun z b hz h1 h2 => ?_, fun z b hz h1 => ?_⟩
    · rw [← p1]
      show X5_copy_b49 N x y (rn2 (X5_copy_b49 N x y) m) A (nn i) = _
      generalize rn2 (X5_copy_b49 N x y) m = kk
      unfold X5_copy_b49
      rw [if_neg (by rw [show (8 : Int32) = nn 8 from rfl, nn_le (by omega) (by omega)]; omega), sI_nn (by omega) (by decide), bo_some, tI_nn (by omega) (by decide), bo_some, ← e1, sI_nn (by omega) (by decide), bo_some, tI_nn (by omega) (by decide), bo_some, ← e2, sI_nn (by omega) (by decide), bo_some, tI_nn (by omega) (by decide), bo_some, ← e3, sI_nn (by omega) (by decide), bo_some, tI_nn (by omega) (by decide), bo_some, ← e4, tI_nn (by omega) (by decide), bo_some, ← e5, nn_succ]
    · rcases Nat.eq_or_lt_of_le h1 with q | q
      · rw [p5 z b hz (by omega), val z b hz, if_pos q.symm]
      · rw [p4 z b hz q h2]
        have hz' : z = 2 ∨ z = 3 ∨ z = 4 ∨ z = 5 ∨ z = 47 := hz
        unfold cpS
        by_cases w : z = 47
        · rw [if_pos w, if_pos w]
        · rw [if_neg w, if_neg w, y5 _ _ _ (fun r => by obtain ⟨_, w', hw', r'⟩ := r; unfold cpQ at hw'; omega)]
    · rw [p5 z b hz (by omega), val z b hz, if_neg (by omega)]
