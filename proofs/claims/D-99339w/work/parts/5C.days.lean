/-! PURE LEVEL: a day whole, days -/
set_option maxRecDepth 100000
def KQ (k : Nat) : Prop := k = 55 ∨ k = 58 ∨ k = 59 ∨ k = 60 ∨ k = 100 ∨ k = 101
theorem PR.mv {A A' : AH} {σ σ' : mSt} {fo nb L C W x : Nat} {th : Bool} {n : Nat} {ρ : Nat → Nat} {ε : Int32} {δ η : Nat → Int32} (hx : isStb x = true) (h : PR A σ fo nb L C W x th n ρ ε δ η) (c : Ch P12 A A') (m : Cm KQ σ σ') : PR A' σ' fo nb L C W x th n ρ ε δ η := by
  have h16 := (st_at hx (d := 0) (by decide)).2.2.2
  have c' : Ch (PX x) A A' := c.mono (fun f i z => Or.inr z)
  have m' : Cm KD σ σ' := m.mono (fun k z => by unfold KQ at z; unfold KD; omega)
  have e56 : σ'.1 56 = σ.1 56 := funext fun j => m.I j (by unfold KQ; omega)
  have i12 : ∀ f i j, i ≠ 12 → aI A' f i j = aI A f i j := fun f i j z => c.I j z
  have s := h.st
  refine PR.mk (PX.fr hx h.fr c' m') (h.ks.ch c) (PX.mo hx h.mo c') ?_ ?_ ?_ ?_ ?_ ?_ (fun hth j hj => by rw [e56]; exact h.hi hth j hj)
  · rw [e56]
    refine SR.mk ?_ s.dayb ?_ s.glb ?_ s.lfb ?_ s.ceb ?_ s.pub ?_ s.meb s.og s.di
    · rw [i12 _ _ _ (by omega)]; exact s.day
    · intro l hl; rw [i12 _ _ _ (by omega)]; exact s.gl l hl
    · intro l hl; rw [i12 _ _ _ (by omega)]; exact s.lf l hl
    · intro l hl; rw [i12 _ _ _ (by omega)]; exact s.ce l hl
    · intro l hl; rw [i12 _ _ _ (by omega)]; exact s.pu l hl
    · intro l hl; rw [i12 _ _ _ (by omega)]; exact s.me l hl
  · refine KR.mk ?_ h.kr.kb (fun k hk => by rw [c.R k (by omega)]; exact h.kr.rr k hk) h.kr.ri
    rw [i12 _ _ _ (by omega)]; exact h.kr.kn
  · intro hth
    obtain ⟨k1, k2⟩ := h.kv hth
    have kb := h.kr.kb
    rw [e56]
    refine ⟨k1, fun k i hk hi => ?_⟩
    have hr := (h.kr.rr k (by omega)).2
    rw [i12 _ _ _ (by omega)]; exact k2 k i hk hi
  · rw [m.I 0 (by unfold KQ; omega)]; exact h.tf
  · rw [i12 _ _ _ (by omega), m.I 0 (by unfold KQ; omega)]; exact h.pa
  · intro b hb
    rw [i12 _ _ _ (by omega), m.I b (by unfold KQ; omega)]; exact h.mn b hb
theorem PR.dayUp {A : AH} {σ : mSt} {fo nb L C W x : Nat} {th : Bool} {n : Nat} {ρ : Nat → Nat} {ε : Int32} {δ η : Nat → Int32} (hx : isStb x = true) (h : PR A σ fo nb L C W x th n ρ ε δ η) {d : Nat} (hd : d ≤ 1100) : PR (wI A 600 x 0 (nn d)) (mUI σ 56 0 (nn d)) fo nb L C W x th n ρ ε δ η := by
  have h16 := (st_at hx (d := 0) (by decide)).2.2.2
  have c' : Ch (PX x) A (wI A 600 x 0 (nn d)) := Ch.wI (Or.inl (by omega))
  have m' : Cm KD σ (mUI σ 56 0 (nn d)) := Cm.UI (by unfold KD; omega)
  have i6 : ∀ f i j, f ≠ 600 → aI (wI A 600 x 0 (nn d)) f i j = aI A f i j := fun f i j z => by rw [aI_wI, if_neg (by omega)]
  have e5 : ∀ j, j ≠ 0 → (mUI σ 56 0 (nn d)).1 56 j = σ.1 56 j := fun j z => by rw [mI_UI, if_neg (by omega)]
  have e0 : (mUI σ 56 0 (nn d)).1 56 0 = nn d := by rw [mI_UI, if_pos ⟨rfl, rfl⟩]
  have ek : ∀ k j, k ≠ 56 → (mUI σ 56 0 (nn d)).1 k j = σ.1 k j := fun k j z => by rw [mI_UI, if_neg (by omega)]
  have s := h.st
  refine PR.mk (PX.fr hx h.fr c' m') (h.ks.ch c') (PX.mo hx h.mo c') (SR.mk ?_ ?_ ?_ ?_ ?_ ?_ ?_ ?_ ?_ ?_ ?_ ?_ ?_ (fun a' b' ha' hb' y1 y2 => by rw [e5 _ (by omega), e5 _ (by omega)] at y1 y2; exact s.di a' b' ha' hb' y1 y2)) ?_ ?_ ?_ ?_ ?_ (fun hth j hj => (e5 j (by omega)).trans (h.hi hth j hj))
  · rw [e0, aI_wI, if_pos ⟨rfl, rfl, rfl⟩]
  · rw [e0]; exact ⟨d, hd, rfl⟩
  · intro l hl; rw [i6 _ _ _ (by omega), e5 _ (by omega)]; exact s.gl l hl
  · intro l hl; rw [e5 _ (by omega)]; exact s.glb l hl
  · intro l hl; rw [i6 _ _ _ (by omega), e5 _ (by omega)]; exact s.lf l hl
  · intro l hl; rw [e5 _ (by omega)]; exact s.lfb l hl
  · intro l hl; rw [i6 _ _ _ (by omega), e5 _ (by omega)]; exact s.ce l hl
  · intro l hl; rw [e5 _ (by omega)]; exact s.ceb l hl
  · intro l hl; rw [i6 _ _ _ (by omega), e5 _ (by omega)]; exact s.pu l hl
  · intro l hl; rw [e5 _ (by omega)]; exact s.pub l hl
  · intro l hl; rw [i6 _ _ _ (by omega), e5 _ (by omega)]; exact s.me l hl
  · intro l hl; rw [e5 _ (by omega)]; exact s.meb l hl
  · intro b l hb hl6 hl
    rw [e5 _ (by omega)] at hl
    rw [e5 _ (by omega), e5 _ (by omega)]; exact s.og b l hb hl6 hl
  · refine KR.mk ?_ h.kr.kb h.kr.rr h.kr.ri
    rw [i6 _ _ _ (by omega)]; exact h.kr.kn
  · intro hth
    obtain ⟨k1, k2⟩ := h.kv hth
    refine ⟨by rw [e5 _ (by omega)]; exact k1, fun k i hk hi => ?_⟩
    rw [i6 _ _ _ (by omega), e5 _ (by omega)]; exact k2 k i hk hi
  · rw [ek _ _ (by omega)]; exact h.tf
  · rw [i6 _ _ _ (by omega), ek _ _ (by omega)]; exact h.pa
  · intro b hb
    rw [i6 _ _ _ (by omega), ek _ _ (by omega)]; exact h.mn b hb
theorem day_inner {N : Nat} (hN : 5000 ≤ N) {fo nb L C W x : Nat} {th : Bool} {ε : Int32} {δ η : Nat → Int32} (hx : isStb x = true) {o a : Nat} (ho : o < 100) (ha : a < nb) : ∀ (j b m1 m2 : Nat) (A : AH) (σ : mSt) (n : Nat) (ρ : Nat → Nat), b + j = nb → a < b → j < m1 → j < m2 → PR A σ fo nb L C W x th n ρ ε δ η → σ.1 58 0 = σ.1 56 0 → σ.1 59 0 = nn o →
    ∃ A' σ' n' ρ', (∀ k2, rn3 (X5_passes_b17 N x (nn o) k2) m1 A (nn a) (nn b) = k2 A' (nn (a + 1))) ∧ (∀ k17, rn4 (M_dayBy_b29 N k17) m2 σ (nn o) (nn a) (nn b) = k17 σ' (nn o) (nn (a + 1))) ∧ Ch (PX x) A A' ∧ Cm KD σ σ' ∧ PR A' σ' fo nb L C W x th n' ρ' ε δ η ∧ σ'.1 56 0 = σ.1 56 0 ∧ σ'.1 58 0 = σ'.1 56 0 ∧ σ'.1 59 0 = nn o ∧ ∃ q, q ≤ j ∧ σ'.1 62 0 = σ.1 62 0 + nn q := by
  intro j
  induction j with
  | zero =>
    intro b m1 m2 A σ n ρ hb hab h1 h2 h h58 h59
    have bn := h.fr.bn
    obtain ⟨m1, rfl⟩ : ∃ z, m1 = z + 1 := ⟨m1 - 1, by omega⟩
    obtain ⟨m2, rfl⟩ : ∃ z, m2 = z + 1 := ⟨m2 - 1, by omega⟩
    refine ⟨A, σ, n, ρ, fun k2 => ?_, fun k17 => ?_, Ch.refl A, Cm.refl σ, h, rfl, h58, h59, ⟨0, by omega, by rw [show nn 0 = (0 : Int32) from rfl, Int32.add_zero]⟩⟩
    · show X5_passes_b17 N x (nn o) k2 _ A (nn a) (nn b) = _
      unfold X5_passes_b17
      rw [h.fr.beings, bo_some, if_pos (by rw [nn_le (by omega) (by omega)]; omega), nn_succ]
    · show M_dayBy_b29 N k17 _ σ (nn o) (nn a) (nn b) = _
      unfold M_dayBy_b29
      rw [h.fr.beingMany, bo_some, if_pos (by rw [nn_le (by omega) (by omega)]; omega), nn_succ]
  | succ j ih =>
    intro b m1 m2 A σ n ρ hb hab h1 h2 h h58 h59
    have bn := h.fr.bn
    obtain ⟨m1, rfl⟩ : ∃ z, m1 = z + 1 := ⟨m1 - 1, by omega⟩
    obtain ⟨m2, rfl⟩ : ∃ z, m2 = z + 1 := ⟨m2 - 1, by omega⟩
    obtain ⟨r, hr, e1, e2⟩ := meet_ex h.fr hx h.st (a := a) (b := b) (o := o) ha (by omega) ho
    -- one pass
    have one : ∃ A1 σ1 n1 ρ1, (∀ k2 kk, X5_passes_b17 N x (nn o) k2 kk A (nn a) (nn b) = kk A1 (nn a) (nn (b + 1))) ∧ (∀ k17 kk, M_dayBy_b29 N k17 kk σ (nn o) (nn a) (nn b) = kk σ1 (nn o) (nn a) (nn (b + 1))) ∧ Ch (PX x) A A1 ∧ Cm KD σ σ1 ∧ PR A1 σ1 fo nb L C W x th n1 ρ1 ε δ η ∧ σ1.1 58 0 = σ.1 58 0 ∧ σ1.1 59 0 = σ.1 59 0 ∧ σ1.1 56 0 = σ.1 56 0 ∧ ∃ q, q ≤ 1 ∧ σ1.1 62 0 = σ.1 62 0 + nn q := by
      rcases hr with rfl | rfl
      · refine ⟨A, σ, n, ρ, fun k2 kk => ?_, fun k17 kk => ?_, Ch.refl A, Cm.refl σ, h, rfl, rfl, rfl, ⟨0, by omega, by rw [show nn 0 = (0 : Int32) from rfl, Int32.add_zero]⟩⟩
        · unfold X5_passes_b17 X5_passes_b45
          rw [h.fr.beings, bo_some, if_neg (by rw [nn_le (by omega) (by omega)]; omega), e1, bo_some, if_pos rfl, nn_succ]
        · unfold M_dayBy_b29 M_dayBy_b53
          rw [h.fr.beingMany, bo_some, if_neg (by rw [nn_le (by omega) (by omega)]; omega), e2, bo_some, if_pos rfl, nn_succ]
      · obtain ⟨A1, σ1, n1, ρ1, p1, p2, p3, p4, p5, p6, p7, p8, p9⟩ := meeting_eq hN hx h (a := a) (b := b) (o := o) ha (by omega) (by omega) ho h58 h59
        refine ⟨A1, σ1, n1, ρ1, fun k2 kk => ?_, fun k17 kk => ?_, p3, p4, p5, p6, p7, p8, 1, by omega, p9⟩
        · unfold X5_passes_b17 X5_passes_b45
          rw [h.fr.beings, bo_some, if_neg (by rw [nn_le (by omega) (by omega)]; omega), e1, bo_some, if_neg (by decide), p1, bd_some, nn_succ]
        · unfold M_dayBy_b29 M_dayBy_b53
          rw [h.fr.beingMany, bo_some, if_neg (by rw [nn_le (by omega) (by omega)]; omega), e2, bo_some, if_neg (by decide), p2, bd_some, nn_succ]
    obtain ⟨A1, σ1, n1, ρ1, p1, p2, p3, p4, p5, p6, p7, p8, y1, y2, y3⟩ := one
    obtain ⟨A', σ', n', ρ', i1, i2, i3, i4, i5, i6, i7, i8, z1, z2, z3⟩ := ih (b + 1) m1 m2 A1 σ1 n1 ρ1 (by omega) (by omega) (by omega) (by omega) p5 (by rw [p6, p8]; exact h58) (by rw [p7]; exact h59)
    refine ⟨A', σ', n', ρ', fun k2 => ?_, fun k17 => ?_, p3.trans i3, p4.trans i4, i5, i6.trans p8, i7, i8, y1 + z1, by omega, by rw [z3, y3, Int32.add_assoc, nn_add]⟩
    · rw [← i1 k2]
      show X5_passes_b17 N x (nn o) k2 (rn3 (X5_passes_b17 N x (nn o) k2) m1) A (nn a) (nn b) = _
      rw [p1]
    · rw [← i2 k17]
      show M_dayBy_b29 N k17 (rn4 (M_dayBy_b29 N k17) m2) σ (nn o) (nn a) (nn b) = _
      rw [p2]
theorem day_outer {N : Nat} (hN : 5000 ≤ N) {fo nb L C W x : Nat} {th : Bool} {ε : Int32} {δ η : Nat → Int32} (hx : isStb x = true) {o : Nat} (ho : o < 100) : ∀ (j a m1 m2 : Nat) (A : AH) (σ : mSt) (n : Nat) (ρ : Nat → Nat), a + j = nb → j < m1 → j < m2 → PR A σ fo nb L C W x th n ρ ε δ η → σ.1 58 0 = σ.1 56 0 → σ.1 59 0 = nn o →
    ∃ A' σ' n' ρ', rn2 (X5_passes_b2 N x (nn o)) m1 A (nn a) = rn2 (X5_passes_b59 N x (nn o)) N A' 0 ∧ rn3 (M_dayBy_b17 N) m2 σ (nn o) (nn a) = rn2 (M_dayBy_b67 N) N σ' 0 ∧ Ch (PX x) A A' ∧ Cm KD σ σ' ∧ PR A' σ' fo nb L C W x th n' ρ' ε δ η ∧ σ'.1 56 0 = σ.1 56 0 ∧ σ'.1 58 0 = σ'.1 56 0 ∧ σ'.1 59 0 = nn o ∧ ∃ q, q ≤ 8 * j ∧ σ'.1 62 0 = σ.1 62 0 + nn q := by
  intro j
  induction j with
  | zero =>
    intro a m1 m2 A σ n ρ ha h1 h2 h h58 h59
    have bn := h.fr.bn
    obtain ⟨m1, rfl⟩ : ∃ z, m1 = z + 1 := ⟨m1 - 1, by omega⟩
    obtain ⟨m2, rfl⟩ : ∃ z, m2 = z + 1 := ⟨m2 - 1, by omega⟩
    refine ⟨A, σ, n, ρ, ?_, ?_, Ch.refl A, Cm.refl σ, h, rfl, h58, h59, ⟨0, by omega, by rw [show nn 0 = (0 : Int32) from rfl, Int32.add_zero]⟩⟩
    · show X5_passes_b2 N x (nn o) _ A (nn a) = _
      unfold X5_passes_b2
      rw [h.fr.beings, bo_some, if_pos (by rw [nn_le (by omega) (by omega)]; omega)]
    · show M_dayBy_b17 N _ σ (nn o) (nn a) = _
      unfold M_dayBy_b17
      rw [h.fr.beingMany, bo_some, if_pos (by rw [nn_le (by omega) (by omega)]; omega)]
  | succ j ih =>
    intro a m1 m2 A σ n ρ ha h1 h2 h h58 h59
    have bn := h.fr.bn
    obtain ⟨m1, rfl⟩ : ∃ z, m1 = z + 1 := ⟨m1 - 1, by omega⟩
    obtain ⟨m2, rfl⟩ : ∃ z, m2 = z + 1 := ⟨m2 - 1, by omega⟩
    obtain ⟨A1, σ1, n1, ρ1, p1, p2, p3, p4, p5, p6, p7, p8, y1, y2, y3⟩ := day_inner hN hx (a := a) ho (by omega) j (a + 1) N N A σ n ρ (by omega) (by omega) (by omega) (by omega) h h58 h59
    obtain ⟨A', σ', n', ρ', i1, i2, i3, i4, i5, i6, i7, i8, z1, z2, z3⟩ := ih (a + 1) m1 m2 A1 σ1 n1 ρ1 (by omega) (by omega) (by omega) p5 p7 p8
    refine ⟨A', σ', n', ρ', ?_, ?_, p3.trans i3, p4.trans i4, i5, i6.trans p6, i7, i8, y1 + z1, by omega, by rw [z3, y3, Int32.add_assoc, nn_add]⟩
    · rw [← i1, ← p1 (rn2 (X5_passes_b2 N x (nn o)) m1)]
      show X5_passes_b2 N x (nn o) (rn2 (X5_passes_b2 N x (nn o)) m1) A (nn a) = _
      generalize rn2 (X5_passes_b2 N x (nn o)) m1 = kk
      unfold X5_passes_b2
      rw [h.fr.beings, bo_some, if_neg (by rw [nn_le (by omega) (by omega)]; omega), nn_succ]
    · rw [← i2, ← p2 (rn3 (M_dayBy_b17 N) m2)]
      show M_dayBy_b17 N (rn3 (M_dayBy_b17 N) m2) σ (nn o) (nn a) = _
      generalize rn3 (M_dayBy_b17 N) m2 = kk
      unfold M_dayBy_b17
      rw [h.fr.beingMany, bo_some, if_neg (by rw [nn_le (by omega) (by omega)]; omega), nn_succ]
/-- a day at an opening, on both sides -/
theorem passes_eq {N : Nat} (hN : 5000 ≤ N) {A : AH} {σ : mSt} {fo nb L C W x : Nat} {th : Bool} {n : Nat} {ρ : Nat → Nat} {ε : Int32} {δ η : Nat → Int32} (hx : isStb x = true) (h : PR A σ fo nb L C W x th n ρ ε δ η) {o d : Nat} (ho : o < 100) (hd : d < 1100) (ed : σ.1 56 0 = nn d) :
    ∃ A' σ' n' ρ', X5_passes N A x (nn o) = some ((), A') ∧ M_dayBy N σ (nn o) = some ((), σ') ∧ Ch (PX x) A A' ∧ Cm KD σ σ' ∧ PR A' σ' fo nb L C W x th n' ρ' ε δ η ∧ σ'.1 56 0 = nn (d + 1) ∧ ∃ q, q ≤ 64 ∧ σ'.1 62 0 = σ.1 62 0 + nn q := by
  have bn := h.fr.bn
  have m0 : Cm KQ σ (mUI (mUI σ 59 0 (nn o)) 58 0 (σ.1 56 0)) := (Cm.UI (by unfold KQ; omega)).trans (Cm.UI (by unfold KQ; omega))
  have h0 := h.mv hx (Ch.refl A) m0
  have q56 : (mUI (mUI σ 59 0 (nn o)) 58 0 (σ.1 56 0)).1 56 0 = σ.1 56 0 := m0.I 0 (by unfold KQ; omega)
  have q58 : (mUI (mUI σ 59 0 (nn o)) 58 0 (σ.1 56 0)).1 58 0 = (mUI (mUI σ 59 0 (nn o)) 58 0 (σ.1 56 0)).1 56 0 := by rw [q56, mI_UI, if_pos ⟨rfl, rfl⟩]
  have q59 : (mUI (mUI σ 59 0 (nn o)) 58 0 (σ.1 56 0)).1 59 0 = nn o := by rw [mI_UI, if_neg (by omega), mI_UI, if_pos ⟨rfl, rfl⟩]
  obtain ⟨A1, σ1, n1, ρ1, p1, p2, p3, p4, p5, p6, p7, p8, y1, y2, y3⟩ := day_outer hN hx ho nb 0 N N A _ n ρ (by omega) (by omega) (by omega) h0 q58 q59
  obtain ⟨A2, σ2, r1, r2, r3, r4, r5, r6, r7, r8, r9⟩ := day_reaps hN hx ho nb 0 N N A1 σ1 (by omega) (by omega) (by omega) p5 p7 p8
  obtain ⟨A3, σ3, s1, s2, s3, s4, s5, s6, s7⟩ := day_steps hN hx ho nb 0 N N A2 σ2 (by omega) (by omega) (by omega) r5 r7 r8
  have e3 : σ3.1 56 0 = nn d := by rw [s6, r6, p6, q56]; exact ed
  have h600 : aI A3 600 x 0 = nn d := s5.st.day.trans e3
  refine ⟨wI A3 600 x 0 (nn (d + 1)), mUI σ3 56 0 (nn (d + 1)), n1, ρ1, ?_, ?_, (((p3.trans r3).trans s3).trans (Ch.wI (Or.inl (by omega)))), (((m0.mono (fun k z => by unfold KQ at z; unfold KD; omega)).trans p4).trans r4).trans (s4.trans (Cm.UI (by unfold KD; omega))), s5.dayUp hx (by omega), by rw [mI_UI, if_pos ⟨rfl, rfl⟩], y1, by omega, by rw [mI_UI, if_neg (by omega), s7, r9, y3, m0.I 0 (by unfold KQ; omega)]⟩
  · unfold X5_passes
    rw [if_pos hx, show (0 : Int32) = nn 0 from rfl, p1, show (0 : Int32) = nn 0 from rfl, r1, show (0 : Int32) = nn 0 from rfl, s1]
    unfold X5_passes_b205
    rw [lt2_eq, h600, nn_succ]
  · unfold M_dayBy
    rw [lt2_eq, m_day, bo_some, lt2_eq, show (mUI σ 59 0 (nn o)).1 56 0 = σ.1 56 0 from by rw [mI_UI, if_neg (by omega)], show (0 : Int32) = nn 0 from rfl, p2, show (0 : Int32) = nn 0 from rfl, r2, show (0 : Int32) = nn 0 from rfl, s2, m_day, bo_some, e3, nn_succ, show (0 : Int32) = nn 0 from rfl, stI_nn (by rfl) (by decide) (by decide), bo_some]
