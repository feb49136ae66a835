/-! PURE LEVEL: calls that only tell -/
set_option maxRecDepth 100000
section TEL
variable {A : AH} {σ : mSt} {fo nb L C W n : Nat} {ρ : Nat → Nat} {u w : Nat} {κ : Nat → Nat} {t m o : Nat}
theorem IV.opening {N : Nat} (hN : 5000 ≤ N) (h : IV A σ fo nb L C W n ρ u w κ t m o) {x : Nat} (hx : x ≤ 3000) : ∃ r A' σ', r ≤ L ∧ X0_openingOf (valF N) A (nn x) = some (nn r, A') ∧ M_openingOn N σ (nn x) = some (nn r, σ') ∧ Ch P12 A A' ∧ Cm Kop σ σ' ∧ IV A' σ' fo nb L C W n ρ u w κ t m o := by
  obtain ⟨r, σ', h1, h2, h3, h4⟩ := opening_eq hN h.fr hx
  obtain ⟨A', h5, h6⟩ := h4 64 (by decide) A (fun i _ => ⟨rfl, rfl, fun _ _ => ⟨rfl, rfl, rfl⟩⟩) rfl h.m1
  exact ⟨r, A', σ', h1, h5, h2, h6, h3, h.op h6 h3⟩
theorem IV.day (h : IV A σ fo nb L C W n ρ u w κ t m o) : ∃ d, d ≤ 999 ∧ σ.1 56 0 = nn d ∧ aI A 600 16 0 = nn d := by
  obtain ⟨d, h1, h2⟩ := h.d9
  exact ⟨d, h1, h2, h.st.day.trans h2⟩
theorem fault_op (h : IV A σ fo nb L C W n ρ u w κ t m o) (x : Int32) : ∃ r, X0_fault A x = some r ∧ M_fault σ x = some r := by
  have e : X0_fault A x = M_fault σ x := by
    unfold X0_fault M_fault
    rw [h.fk, h.fp]
  rw [e]
  unfold M_fault
  by_cases c0 : x = 0
  · rw [if_pos c0]; exact ⟨_, rfl, rfl⟩
  rw [if_neg c0]
  by_cases c1 : x = 1
  · rw [if_pos c1]; exact ⟨_, rfl, rfl⟩
  rw [if_neg c1]; exact ⟨_, rfl, rfl⟩
theorem status_op (h : IV A σ fo nb L C W n ρ u w κ t m o) (x : Int32) : ∃ r, X0_status A x = some r ∧ M_status σ x = some r := by
  have e := is_eq x 0 5
  unfold X0_status M_status
  rw [e.1, show M_isIn (Int32.toInt64 x) 0 5 = _ from e.2, bo_some, bo_some, bt0, bt0]
  by_cases c : 0 ≤ x ∧ x ≤ 5
  · obtain ⟨k, hk, rfl⟩ := (rng_ex (n := 6) (by decide)).mp c
    rw [if_pos c, if_pos c, sI_nn hk (by decide), ld_nn (by rfl) (by show k < 6; exact hk) (by omega), bo_some, bo_some, h.rf k hk]
    exact ⟨_, rfl, rfl⟩
  · rw [if_neg c, if_neg c]; exact ⟨_, rfl, rfl⟩
theorem octet_op (h : IV A σ fo nb L C W n ρ u w κ t m o) (x : Int32) : ∃ r, X0_octet A x = some r ∧ M_octet σ x = some r := by
  have hb := h.ou.b
  unfold X0_octet M_octet
  rw [h.ou.a, h.ou.m]
  by_cases c : x < 0
  · rw [if_pos c, if_pos c]; exact ⟨_, rfl, rfl⟩
  rw [if_neg c, if_neg c]
  by_cases c1 : nn o ≤ x
  · rw [if_pos c1, if_neg (Int32.not_lt.mpr c1)]; exact ⟨_, rfl, rfl⟩
  · obtain ⟨k, hk, rfl⟩ := nn_ex (Int32.not_lt.mp c) (Int32.not_le.mp c1) (by omega)
    rw [if_neg c1, if_pos (Int32.not_le.mp c1), sI_nn (by omega) (by decide), ld_nn (by rfl) (by show k < 57; omega) (by omega), bo_some, bo_some, h.ou.r k hk]
    exact ⟨_, rfl, rfl⟩
theorem kept_op (h : IV A σ fo nb L C W n ρ u w κ t m o) (x y : Int32) : ∃ r, X0_kept A x y = some r ∧ M_kept σ x y = some r := by
  have kb := h.kr.kb
  have e39 : ld 2 σ 56 39 = some (nn n) := by
    rw [show (39 : Int32) = nn 39 from rfl, ld_nn (by rfl) (by decide) (by decide), h.kv.1]
  unfold X0_kept M_kept
  rw [h.kr.kn, e39, bo_some, (is_eq x 0 (nn n - 1)).1, show M_isIn (Int32.toInt64 x) 0 (Int32.toInt64 (nn n - 1)) = _ from (is_eq x 0 (nn n - 1)).2, bo_some, bo_some, bt0, bt0, (is_eq y 0 2).1, show M_isIn (Int32.toInt64 y) 0 2 = _ from (is_eq y 0 2).2, bo_some, bo_some, bt0, bt0]
  by_cases c : 0 ≤ x ∧ x ≤ nn n - 1
  · rw [if_pos c, if_pos c]
    obtain ⟨k, hk, rfl⟩ := (rng_ex (by omega)).mp c
    by_cases c2 : 0 ≤ y ∧ y ≤ 2
    · rw [if_pos c2, if_pos c2]
      obtain ⟨i, hi, rfl⟩ := (rng_ex (n := 3) (by decide)).mp c2
      have hr := h.kr.rr k (by omega)
      obtain ⟨k1, k2⟩ := h.ks.row (x := 16) rfl hr.2.1 hr.2.2
      have ix : ((40 + (3 * nn k)) + nn i : Int32) = nn (40 + 3 * k + i) := by
        rw [show (3 : Int32) = nn 3 from rfl, nn_mul, show (40 : Int32) = nn 40 from rfl, nn_add, nn_add]
      rw [sR_nn (by omega) (by decide), hr.1, bo_some, dI_nn k1 (by omega) (by omega), bo_some, ix, ld_nn (by rfl) (by show 40 + 3 * k + i < 160; omega) (by omega), bo_some, h.kv.2 k i hk hi]
      exact ⟨_, rfl, rfl⟩
    · rw [if_neg c2, if_neg c2]; exact ⟨_, rfl, rfl⟩
  · rw [if_neg c, if_neg c]; exact ⟨_, rfl, rfl⟩
/-! how many bits -/
theorem bits_mono {N : Nat} : ∀ (k q : Nat) (x y r : Int32), k ≤ q → rn2 (M_bits_b4 N) k x y = some r → rn2 (M_bits_b4 N) q x y = some r := by
  intro k
  induction k with
  | zero => intro q x y r _ h; cases h
  | succ k ih =>
    intro q x y r hq h
    obtain ⟨q, rfl⟩ : ∃ z, q = z + 1 := ⟨q - 1, by omega⟩
    have h' : M_bits_b4 N (rn2 (M_bits_b4 N) k) x y = some r := h
    show M_bits_b4 N (rn2 (M_bits_b4 N) q) x y = some r
    unfold M_bits_b4 at h' ⊢
    by_cases c : y = 0
    · rw [if_pos c] at h' ⊢; exact h'
    · rw [if_neg c] at h' ⊢; exact ih q _ _ _ (by omega) h'
theorem bits256 : ∀ v, v < 256 → J16_bitCount (nn v) = rn2 (M_bits_b4 0) 9 0 (nn v) := by decide +kernel
theorem bits_eq {N : Nat} (hN : 5000 ≤ N) {v : Nat} (hv : v < 256) : ∃ r, J16_bitCount (nn v) = some r ∧ M_bits N (nn v) = some r := by
  have h1 := bits256 v hv
  obtain ⟨r, hr⟩ : ∃ r, J16_bitCount (nn v) = some r := ⟨_, rfl⟩
  refine ⟨r, hr, ?_⟩
  rw [hr] at h1
  exact bits_mono (N := N) 9 N 0 (nn v) r (by omega) h1.symm
theorem gloss_loop {N : Nat} (hN : 5000 ≤ N) (h : IV A σ fo nb L C W n ρ u w κ t m o) (x1 : Int32) : ∀ (j i m1 m2 : Nat) (s : Int32), i + j = 6 → j < m1 → j < m2 → ∃ r, rn3 (X0_has_2_b80 N x1) m1 A s (nn i) = some (r, A) ∧ rn2 (M_glossMany_b4 N σ) m2 s (nn i) = some r := by
  intro j
  induction j with
  | zero =>
    intro i m1 m2 s hi h1 h2
    obtain ⟨m1, rfl⟩ : ∃ z, m1 = z + 1 := ⟨m1 - 1, by omega⟩
    obtain ⟨m2, rfl⟩ : ∃ z, m2 = z + 1 := ⟨m2 - 1, by omega⟩
    have : i = 6 := by omega
    subst this
    refine ⟨s, ?_, ?_⟩
    · show X0_has_2_b80 N x1 _ A s (nn 6) = _
      unfold X0_has_2_b80
      rw [if_pos (by decide)]
    · show M_glossMany_b4 N σ _ s (nn 6) = _
      unfold M_glossMany_b4
      rw [if_pos (by decide)]
  | succ j ih =>
    intro i m1 m2 s hi h1 h2
    obtain ⟨m1, rfl⟩ : ∃ z, m1 = z + 1 := ⟨m1 - 1, by omega⟩
    obtain ⟨m2, rfl⟩ : ∃ z, m2 = z + 1 := ⟨m2 - 1, by omega⟩
    obtain ⟨v, hv, ev⟩ := h.st.glb i (by omega)
    obtain ⟨c, c1, c2⟩ := bits_eq hN hv
    obtain ⟨r, r1, r2⟩ := ih (i + 1) m1 m2 (s + c) (by omega) (by omega) (by omega)
    have g := h.st.gl i (by omega)
    refine ⟨r, ?_, ?_⟩
    · rw [← r1]
      show X0_has_2_b80 N x1 (rn3 (X0_has_2_b80 N x1) m1) A s (nn i) = _
      generalize rn3 (X0_has_2_b80 N x1) m1 = kk
      unfold X0_has_2_b80
      rw [if_neg (by rw [show (6 : Int32) = nn 6 from rfl, nn_le (by omega) (by omega)]; omega), sI_nn (by omega) (by decide), bo_some, show aI A 31 17 i = nn v from g.trans ev, c1, bo_some, nn_succ]
    · rw [← r2]
      show M_glossMany_b4 N σ (rn2 (M_glossMany_b4 N σ) m2) s (nn i) = _
      generalize rn2 (M_glossMany_b4 N σ) m2 = kk
      unfold M_glossMany_b4
      rw [if_neg (by rw [show (6 : Int32) = nn 6 from rfl, nn_le (by omega) (by omega)]; omega), show (1 : Int32) = nn 1 from rfl, nn_add, ld_nn (by rfl) (by show 1 + i < 160; omega) (by omega), bo_some, ev, c2, bo_some, nn_add]
theorem purses_loop {N : Nat} (h : IV A σ fo nb L C W n ρ u w κ t m o) : ∀ (j i m1 m2 : Nat) (s : Int32), i + j = nb → j < m1 → j < m2 → ∃ r, rn2 (X5_purses_b4 N 16 A) m1 s (nn i) = some r ∧ rn2 (M_pursesAll_b4 N σ) m2 s (nn i) = some r := by
  have bn := h.fr.bn
  intro j
  induction j with
  | zero =>
    intro i m1 m2 s hi h1 h2
    obtain ⟨m1, rfl⟩ : ∃ z, m1 = z + 1 := ⟨m1 - 1, by omega⟩
    obtain ⟨m2, rfl⟩ : ∃ z, m2 = z + 1 := ⟨m2 - 1, by omega⟩
    refine ⟨s, ?_, ?_⟩
    · show X5_purses_b4 N 16 A _ s (nn i) = _
      unfold X5_purses_b4
      rw [h.fr.beings, bo_some, if_pos (by rw [nn_le (by omega) (by omega)]; omega)]
    · show M_pursesAll_b4 N σ _ s (nn i) = _
      unfold M_pursesAll_b4
      rw [h.fr.beingMany, bo_some, if_pos (by rw [nn_le (by omega) (by omega)]; omega)]
  | succ j ih =>
    intro i m1 m2 s hi h1 h2
    obtain ⟨m1, rfl⟩ : ∃ z, m1 = z + 1 := ⟨m1 - 1, by omega⟩
    obtain ⟨m2, rfl⟩ : ∃ z, m2 = z + 1 := ⟨m2 - 1, by omega⟩
    obtain ⟨r, r1, r2⟩ := ih (i + 1) m1 m2 (s + σ.1 56 (7 + 4 * i + 2)) (by omega) (by omega) (by omega)
    have g := h.st.pu i (by omega)
    refine ⟨r, ?_, ?_⟩
    · rw [← r1]
      show X5_purses_b4 N 16 A (rn2 (X5_purses_b4 N 16 A) m1) s (nn i) = _
      generalize rn2 (X5_purses_b4 N 16 A) m1 = kk
      unfold X5_purses_b4
      rw [h.fr.beings, bo_some, if_neg (by rw [nn_le (by omega) (by omega)]; omega), sI_nn (by omega) (by decide), bo_some, g, nn_succ]
    · rw [← r2]
      show M_pursesAll_b4 N σ (rn2 (M_pursesAll_b4 N σ) m2) s (nn i) = _
      generalize rn2 (M_pursesAll_b4 N σ) m2 = kk
      unfold M_pursesAll_b4
      rw [h.fr.beingMany, bo_some, if_neg (by rw [nn_le (by omega) (by omega)]; omega), m_purseOf σ (by omega), bo_some, nn_succ]
/-- behind a call that only tells -/
def Tel (X : Option (Int32 × AH)) (M : Option (Int32 × mSt)) (A : AH) (σ : mSt) : Prop := ∃ r A' σ', X = some (r, A') ∧ M = some (r, σ') ∧ Ch P12 A A' ∧ Cm Kop σ σ'
theorem Tel.same {A : AH} {σ : mSt} (r : Int32) : Tel (some (r, A)) (some (r, σ)) A σ := ⟨r, A, σ, rfl, rfl, Ch.refl A, Cm.refl σ⟩
theorem has_op {N : Nat} (hN : 5000 ≤ N) (h : IV A σ fo nb L C W n ρ u w κ t m o) (x : Int32) : Tel (X0_has_2 N A x) (M_has N σ x) A σ := by
  obtain ⟨d, hd, e1, e2⟩ := h.day
  unfold X0_has_2 M_has
  by_cases c0 : x = 0
  · rw [if_pos c0, if_pos c0, h.fr.leavesX, c0]
    unfold M_has_b60
    rw [show (2 : Int32) + 0 = nn 2 from rfl, ld_nn (by rfl) (by decide) (by decide), bo_some, h.fr.lvm]
    exact Tel.same _
  rw [if_neg c0, if_neg c0]
  by_cases c1 : x = 1
  · rw [if_pos c1, if_pos c1, h.fr.cellsX, c1]
    unfold M_has_b60
    rw [show (2 : Int32) + 1 = nn 3 from rfl, ld_nn (by rfl) (by decide) (by decide), bo_some, h.fr.cem]
    exact Tel.same _
  rw [if_neg c1, if_neg c1]
  by_cases c2 : x = 2
  · rw [if_pos c2, if_pos c2]
    obtain ⟨r, r1, r2⟩ := gloss_loop hN h x 6 0 N N 0 (by omega) (by omega) (by omega)
    have r1' : rn3 (X0_has_2_b80 N x) N A 0 0 = some (r, A) := r1
    have r2' : M_glossMany N σ = some r := r2
    rw [r1', r2', bo_some]
    exact Tel.same _
  rw [if_neg c2, if_neg c2]
  by_cases c3 : x = 3
  · rw [if_pos c3, if_pos c3, h.fr.fo, bo_some, gI_k h.fr.fk, bo_some, h.fr.wm, show (4 : Int32) = nn 4 from rfl, ld_nn (by rfl) (by decide) (by decide), bo_some, h.fr.wmm]
    exact Tel.same _
  rw [if_neg c3, if_neg c3]
  by_cases c4 : x = 4
  · rw [if_pos c4, if_pos c4, h.fr.beings, bo_some, h.fr.beingMany, bo_some]
    exact Tel.same _
  rw [if_neg c4, if_neg c4]
  by_cases c5 : x = 5
  · rw [if_pos c5, if_pos c5, e2, m_day, bo_some, e1]
    exact Tel.same _
  rw [if_neg c5, if_neg c5]
  by_cases c6 : x = 6
  · obtain ⟨r, A', σ', _, o1, o2, o3, o4, _⟩ := h.opening hN (x := d) (by omega)
    rw [if_pos c6, if_pos c6, e2, m_day, bo_some, e1, o1, o2, bd_some, bd_some]
    exact ⟨_, _, _, rfl, rfl, o3, o4⟩
  rw [if_neg c6, if_neg c6]
  by_cases c7 : x = 7
  · have bn := h.fr.bn
    obtain ⟨r, r1, r2⟩ := purses_loop (N := N) h nb 0 N N 0 (by omega) (by omega) (by omega)
    have r1' : X5_purses N A 16 = some r := r1
    have r2' : M_pursesAll N σ = some r := r2
    rw [if_pos c7, if_pos c7, r1', r2', bo_some, bo_some]
    exact Tel.same _
  rw [if_neg c7, if_neg c7]
  by_cases c8 : x = 8
  · rw [if_pos c8, if_pos c8, h.kr.kn, show (39 : Int32) = nn 39 from rfl, ld_nn (by rfl) (by decide) (by decide), bo_some, h.kv.1]
    exact Tel.same _
  rw [if_neg c8, if_neg c8]
  by_cases c9 : x = 9
  · rw [if_pos c9, if_pos c9, h.se.a, h.se.m_]
    exact Tel.same _
  rw [if_neg c9, if_neg c9]
  by_cases c10 : x = 10
  · rw [if_pos c10, if_pos c10, h.un.un, h.un.um]
    exact Tel.same _
  rw [if_neg c10, if_neg c10]
  exact Tel.same _
theorem being_op {N : Nat} (hN : 5000 ≤ N) (h : IV A σ fo nb L C W n ρ u w κ t m o) (x y : Int32) : Tel (X0_being N A x y) (M_being N σ x y) A σ := by
  obtain ⟨d, hd, e1, e2⟩ := h.day
  have bn := h.fr.bn
  have bL := h.fr.bL
  obtain ⟨p, _, hp, q1, q2⟩ := isBeing_eq h.fr x
  unfold X0_being M_being
  rw [q1, q2, bo_some, bo_some, bt0, bt0]
  by_cases c : p
  · rw [if_pos c, if_pos c]
    obtain ⟨b, hb, rfl⟩ := hp.mp c
    by_cases c0 : y = 0
    · rw [if_pos c0, if_pos c0, sI_nn (by omega) (by decide), bo_some, h.st.lf b hb, m_leafOf σ (by omega), bo_some]
      exact Tel.same _
    rw [if_neg c0, if_neg c0]
    by_cases c1 : y = 1
    · rw [if_pos c1, if_pos c1, sI_nn (by omega) (by decide), bo_some, h.st.ce b hb, m_cellOf σ (by omega), bo_some]
      exact Tel.same _
    rw [if_neg c1, if_neg c1]
    by_cases c2 : y = 2
    · rw [if_pos c2, if_pos c2, h.fr.tradeX hb, show (8 : Int32) = nn 8 from rfl, nn_add, ld_nn (by rfl) (by show 8 + b < 16; omega) (by omega), bo_some]
      exact Tel.same _
    rw [if_neg c2, if_neg c2]
    by_cases c3 : y = 3
    · rw [if_pos c3, if_pos c3, sI_nn (by omega) (by decide), bo_some, h.st.pu b hb, m_purseOf σ (by omega), bo_some]
      exact Tel.same _
    rw [if_neg c3, if_neg c3]
    by_cases c4 : y = 4
    · rw [if_pos c4, if_pos c4, sI_nn (by omega) (by decide), bo_some, h.st.me b hb, m_metOf σ (by omega), bo_some]
      exact Tel.same _
    rw [if_neg c4, if_neg c4]
    by_cases c5 : y = 5
    · obtain ⟨r, A', σ', hr, o1, o2, o3, o4, _⟩ := h.opening hN (x := d) (by omega)
      obtain ⟨l, hl, el⟩ := h.st.lfb b hb
      have io := isOpenX (l := l) (o := r) (by omega) (by omega)
      rw [if_pos c5, if_pos c5, sI_nn (by omega) (by decide), bo_some, h.st.lf b hb, m_leafOf σ (by omega), bo_some, e2, m_day, bo_some, e1, o1, o2, bd_some, bd_some, el, io.1, io.2, bo_some, bo_some]
      by_cases z : l = r ∨ l + 1 = r
      · rw [if_pos z, if_neg (by decide), if_neg (by decide)]
        exact ⟨_, _, _, rfl, rfl, o3, o4⟩
      · rw [if_neg z, if_pos rfl, if_pos rfl]
        exact ⟨_, _, _, rfl, rfl, o3, o4⟩
    rw [if_neg c5, if_neg c5]
    exact Tel.same _
  · rw [if_neg c, if_neg c]
    exact Tel.same _
theorem meets_op {N : Nat} (hN : 5000 ≤ N) (h : IV A σ fo nb L C W n ρ u w κ t m o) (x y : Int32) : Tel (X0_meets N A x y) (M_meets N σ x y) A σ := by
  obtain ⟨d, hd, e1, e2⟩ := h.day
  have bn := h.fr.bn
  have bL := h.fr.bL
  obtain ⟨p, _, hp, q1, q2⟩ := isBeing_eq h.fr x
  obtain ⟨p', _, hp', q1', q2'⟩ := isBeing_eq h.fr y
  unfold X0_meets M_meets
  rw [q1, q2, bo_some, bo_some, bt0, bt0, q1', q2', bo_some, bo_some, bt0, bt0]
  by_cases c : p
  · rw [if_pos c, if_pos c]
    by_cases c' : p'
    · rw [if_pos c', if_pos c']
      obtain ⟨a, ha, rfl⟩ := hp.mp c
      obtain ⟨b, hb, rfl⟩ := hp'.mp c'
      by_cases z : nn a = nn b
      · rw [if_pos z, if_pos z]; exact Tel.same _
      · obtain ⟨r, A', σ', hr, o1, o2, o3, o4, h'⟩ := h.opening hN (x := d) (by omega)
        obtain ⟨v, hv, m1, m2⟩ := meet_ex h'.fr (x := 16) rfl h'.st (a := a) (b := b) (o := r) ha hb (by omega)
        rw [if_neg z, if_neg z, e2, m_day, bo_some, e1, o1, o2, bd_some, bd_some, m1, m2, bo_some, bo_some]
        by_cases y0 : v = 0
        · rw [if_pos y0, if_pos y0]; exact ⟨_, _, _, rfl, rfl, o3, o4⟩
        · rw [if_neg y0, if_neg y0]; exact ⟨_, _, _, rfl, rfl, o3, o4⟩
    · rw [if_neg c', if_neg c']; exact Tel.same _
  · rw [if_neg c, if_neg c]; exact Tel.same _
theorem opening_op {N : Nat} (hN : 5000 ≤ N) (h : IV A σ fo nb L C W n ρ u w κ t m o) (x : Int32) : Tel (X0_opening N A x) (M_opening N σ x) A σ := by
  obtain ⟨d, hd, e1, e2⟩ := h.day
  obtain ⟨p, _, hp, q1, q2⟩ := isAhead_eq h.fr (d := d) (by omega) e2 e1 x (a := 0) (b := 60) (by decide) (by decide)
  unfold X0_opening M_opening
  rw [show X0_isAhead A x 0 60 = _ from q1, show M_isAhead σ x 0 60 = _ from q2, bo_some, bo_some, bt0, bt0]
  by_cases c : p
  · obtain ⟨_, k, h1, h2, rfl, h3⟩ := hp.mp c
    obtain ⟨r, A', σ', hr, o1, o2, o3, o4, _⟩ := h.opening hN (x := d + k) (by omega)
    rw [if_pos c, if_pos c, e2, m_day, bo_some, e1, nn_add, o1, o2, bd_some, bd_some]
    exact ⟨_, _, _, rfl, rfl, o3, o4⟩
  · rw [if_neg c, if_neg c]; exact Tel.same _
theorem cell_op {N : Nat} (hN : 5000 ≤ N) (h : IV A σ fo nb L C W n ρ u w κ t m o) (x y z : Int32) : Tel (X0_cell N A x y z) (M_cell N σ x y z) A σ ∨ ∃ r σ', X0_cell N A x y z = some (r, A) ∧ M_cell N σ x y z = some (r, σ') ∧ Cm Kop σ σ' := by
  obtain ⟨d, hd, e1, e2⟩ := h.day
  have bn := h.fr.bn
  have bL := h.fr.bL
  have bC := h.fr.bC
  obtain ⟨p, _, hp, q1, q2⟩ := isCell_eq h.fr x y
  by_cases c : p
  · obtain ⟨l, k, hl, hk, rfl, rfl⟩ := hp.mp c
    obtain ⟨r, A', σ', hr, o1, o2, o3, o4, h'⟩ := h.opening hN (x := d) (by omega)
    have l1 := h'.fr.lies1 (l := l) (o := r) (by omega) (by omega)
    have l2 := h'.fr.lies (l := l) (o := r) (by omega) (by omega)
    have e01 : nn l - 1 = -1 ∨ ∃ l', l = l' + 1 ∧ nn l - 1 = nn l' := by
      rcases Nat.eq_zero_or_pos l with e | e
      · left; rw [e]; rfl
      · right; exact ⟨l - 1, by omega, nn_sub (a := l) (b := 1) e⟩
    -- which leaf lies on it
    have on : ∃ v : Int32, (∀ (g : Int32 → Option (Int32 × AH)), (bo (X0_liesOn A' (nn l - 1) (nn r)) fun r5 => if r5 = 0 then (bo (X0_liesOn A' (nn l) (nn r)) fun r6 => if r6 = 0 then g (-1) else g (nn l + 1)) else g (nn l - 1)) = g v) ∧ (∀ (g : Int32 → Option (Int32 × mSt)), (bo (M_liesOnNext σ' (nn l - 1) (nn r)) fun r5 => if r5 = 0 then (bo (M_liesOnNext σ' (nn l) (nn r)) fun r6 => if r6 = 0 then g (-1) else g (nn l + 1)) else g (nn l - 1)) = g v) := by
      by_cases z1 : 0 < l ∧ liesP L (l - 1) r
      · refine ⟨nn l - 1, fun g => ?_, fun g => ?_⟩
        · rw [l1.1, bo_some, if_pos z1, if_neg (by decide)]
        · rw [l1.2, bo_some, if_pos z1, if_neg (by decide)]
      · by_cases z2 : liesP L l r
        · refine ⟨nn l + 1, fun g => ?_, fun g => ?_⟩
          · rw [l1.1, bo_some, if_neg z1, if_pos rfl, l2.1, bo_some, if_pos z2, if_neg (by decide)]
          · rw [l1.2, bo_some, if_neg z1, if_pos rfl, l2.2, bo_some, if_pos z2, if_neg (by decide)]
        · refine ⟨-1, fun g => ?_, fun g => ?_⟩
          · rw [l1.1, bo_some, if_neg z1, if_pos rfl, l2.1, bo_some, if_neg z2, if_pos rfl]
          · rw [l1.2, bo_some, if_neg z1, if_pos rfl, l2.2, bo_some, if_neg z2, if_pos rfl]
    obtain ⟨v, v1, v2⟩ := on
    have hM : M_cell N σ (nn l) (nn k) z = M_cell_b58 N σ' (nn l) (nn k) z v := by
      unfold M_cell
      rw [q2, bo_some, bt0, if_pos c, m_day, bo_some, e1, o2, bd_some]
      exact v2 (fun y => M_cell_b58 N σ' (nn l) (nn k) z y)
    have e56 : σ'.1 56 = σ.1 56 := funext fun j => o4.I j (by unfold Kop; omega)
    by_cases c3 : 0 ≤ z ∧ z ≤ 3
    · obtain ⟨i, hi, rfl⟩ := (rng_ex (n := 4) (by decide)).mp c3
      have hX : X0_cell N A (nn l) (nn k) (nn i) = (if 2 ≤ nn i then X0_cell_b111 N (nn l) (nn k) (nn i) A' v else (if nn i = 0 then (bo (sI 6 31 A 17 (nn l)) fun v9 => bo (X0_has v9 (nn k)) fun r10 => if r10 = 0 then (some (0, A)) else (some (1, A))) else (bo (X5_who N A 16 (nn l) (nn k)) fun r8 => some (r8, A)))) := by
        unfold X0_cell
        rw [q1, bo_some, bt0, if_pos c, (is_eq (nn i) 0 3).1, bo_some, bt0, if_pos c3, e2, o1, bd_some, v1 (fun y => X0_cell_b111 N (nn l) (nn k) (nn i) A' y)]
      have mir : X0_mirrored A' (nn k) = some (nn (C - 1 - k)) := by
        unfold X0_mirrored
        rw [h'.fr.cellsX, show (1 : Int32) = nn 1 from rfl, nn_sub (by omega), nn_sub (by omega)]
      have mim : (nn C - 1) - nn k = nn (C - 1 - k) := by
        rw [show (1 : Int32) = nn 1 from rfl, nn_sub (by omega), nn_sub (by omega)]
      have hi' : i = 0 ∨ i = 1 ∨ i = 2 ∨ i = 3 := by omega
      rcases hi' with rfl | rfl | rfl | rfl
      · right
        obtain ⟨g, hg, _, g1, _⟩ := gloss_eq h.fr (x := 16) h.st (l := l) (by omega) (nn k)
        obtain ⟨g', hg', _, g1', g2⟩ := gloss_eq h'.fr (x := 16) h'.st (l := l) (by omega) (nn k)
        have egg : g = g' := by
          have s1 : aI A' 31 17 l = aI A 31 17 l := by rw [show (17 : Nat) = 16 + 1 from rfl, h'.st.gl l (by omega), h.st.gl l (by omega), e56]
          rw [sI_nn (by omega) (by decide), bo_some] at g1 g1'
          rw [show (16 + 1 : Nat) = 17 from rfl] at g1 g1'
          rw [s1] at g1'
          exact Option.some.inj (g1.symm.trans g1')
        have g1x : (bo (sI 6 31 A 17 (nn l)) fun v9 => bo (X0_has v9 (nn k)) fun r10 => if r10 = 0 then (some ((0 : Int32), A)) else (some (1, A))) = if g = 0 then some (0, A) else some (1, A) := by
          rw [sI_nn (by omega) (by decide), bo_some] at g1 ⊢
          rw [show (16 + 1 : Nat) = 17 from rfl] at g1
          rw [g1, bo_some]
        rw [hX, hM, if_neg (by decide), if_pos (by decide), g1x]
        unfold M_cell_b58
        rw [if_pos (show nn 0 = (0 : Int32) from rfl), g2, bo_some, egg]
        by_cases y0 : g' = 0
        · rw [if_pos y0, if_pos y0]; exact ⟨_, _, rfl, rfl, o4⟩
        · rw [if_neg y0, if_neg y0]; exact ⟨_, _, rfl, rfl, o4⟩
      · right
        obtain ⟨g, _, _, g1, g2⟩ := who_eq hN h.fr (x := 16) rfl h.st (nn l) (nn k)
        have st' : SR A 16 (σ'.1 56) nb L C := by rw [e56]; exact h.st
        have fr' : FR A σ' fo nb L C W := h.fr.same (fun i _ => ⟨rfl, rfl, fun _ _ => ⟨rfl, rfl, rfl⟩⟩) rfl (o4.sameM (fun k hk z => by unfold Kfo at hk; unfold Kop at z; omega))
        obtain ⟨g', _, _, g1', g2'⟩ := who_eq hN fr' (x := 16) rfl st' (nn l) (nn k)
        have egg : g = g' := Option.some.inj (g1.symm.trans g1')
        rw [hX, hM, if_neg (by decide), if_neg (by decide), g1, bo_some]
        unfold M_cell_b58
        rw [if_neg (by decide), if_pos (by decide), g2', bo_some, egg]
        exact ⟨_, _, rfl, rfl, o4⟩
      · left
        rw [hX, hM, if_pos (by decide)]
        unfold X0_cell_b111 M_cell_b58
        rw [if_neg (show ¬ nn 2 = 0 by decide), if_neg (show ¬ nn 2 = 1 by decide), if_pos (show nn 2 = 2 from rfl)]
        by_cases y0 : v = -1
        · rw [if_pos y0, y0]; exact ⟨_, _, _, rfl, rfl, o3, o4⟩
        · rw [if_neg y0, if_pos (show nn 2 = (2 : Int32) from rfl)]; exact ⟨_, _, _, rfl, rfl, o3, o4⟩
      · left
        rw [hX, hM, if_pos (by decide)]
        unfold X0_cell_b111 M_cell_b58
        rw [if_neg (show ¬ nn 3 = 0 by decide), if_neg (show ¬ nn 3 = 1 by decide), if_neg (show ¬ nn 3 = 2 by decide), if_pos (show nn 3 = 3 from rfl)]
        by_cases y0 : v = -1
        · rw [if_pos y0, if_pos y0]; exact ⟨_, _, _, rfl, rfl, o3, o4⟩
        · rw [if_neg y0, if_neg y0, if_neg (show ¬ nn 3 = 2 by decide), mir, bo_some, h'.fr.cells, bo_some, mim]; exact ⟨_, _, _, rfl, rfl, o3, o4⟩
    · right
      have z0 : ∀ i, i < 4 → ¬ z = nn i := fun i hi e => c3 ((rng_ex (n := 4) (by decide)).mpr ⟨i, hi, e⟩)
      refine ⟨-1, σ', ?_, ?_, o4⟩
      · unfold X0_cell
        rw [q1, bo_some, bt0, if_pos c, (is_eq z 0 3).1, bo_some, bt0, if_neg c3]
      · rw [hM]
        unfold M_cell_b58
        rw [if_neg (show ¬ z = 0 from z0 0 (by decide)), if_neg (show ¬ z = 1 from z0 1 (by decide)), if_neg (show ¬ z = 2 from z0 2 (by decide)), if_neg (show ¬ z = 3 from z0 3 (by decide))]
  · left
    unfold X0_cell M_cell
    rw [q1, q2, bo_some, bo_some, bt0, bt0, if_neg c, if_neg c]
    exact Tel.same _
/-! pairs -/
theorem pairs_inner {N : Nat} (h : FR A σ fo nb L C W) (st : SR A 16 (σ.1 56) nb L C) {p a : Nat} (hp : p < 100) (ha : a < nb) : ∀ (j b m1 m2 : Nat) (s : Int32), b + j = nb → j < m1 → j < m2 → ∃ s' : Int32, (∀ k4, rn3 (X5_pairs_b20 N 16 (nn p) A k4) m1 s (nn a) (nn b) = k4 s' (nn (a + 1))) ∧ (∀ k4, rn4 (M_pairsBy_b17 N σ k4) m2 (nn p) s (nn a) (nn b) = k4 (nn p) s' (nn (a + 1))) := by
  have bn := h.bn
  intro j
  induction j with
  | zero =>
    intro b m1 m2 s hb h1 h2
    obtain ⟨m1, rfl⟩ : ∃ z, m1 = z + 1 := ⟨m1 - 1, by omega⟩
    obtain ⟨m2, rfl⟩ : ∃ z, m2 = z + 1 := ⟨m2 - 1, by omega⟩
    refine ⟨s, fun k4 => ?_, fun k4 => ?_⟩
    · show X5_pairs_b20 N 16 (nn p) A k4 _ s (nn a) (nn b) = _
      unfold X5_pairs_b20
      rw [h.beings, bo_some, if_pos (by rw [nn_le (by omega) (by omega)]; omega), nn_succ]
    · show M_pairsBy_b17 N σ k4 _ (nn p) s (nn a) (nn b) = _
      unfold M_pairsBy_b17
      rw [h.beingMany, bo_some, if_pos (by rw [nn_le (by omega) (by omega)]; omega), nn_succ]
  | succ j ih =>
    intro b m1 m2 s hb h1 h2
    obtain ⟨m1, rfl⟩ : ∃ z, m1 = z + 1 := ⟨m1 - 1, by omega⟩
    obtain ⟨m2, rfl⟩ : ∃ z, m2 = z + 1 := ⟨m2 - 1, by omega⟩
    obtain ⟨v, hv, v1, v2⟩ := meet_ex h (x := 16) rfl st (a := a) (b := b) (o := p) ha (by omega) hp
    obtain ⟨s', i1, i2⟩ := ih (b + 1) m1 m2 (if v = 0 then s else s + 1) (by omega) (by omega) (by omega)
    refine ⟨s', fun k4 => ?_, fun k4 => ?_⟩
    · rw [← i1 k4]
      show X5_pairs_b20 N 16 (nn p) A k4 (rn3 (X5_pairs_b20 N 16 (nn p) A k4) m1) s (nn a) (nn b) = _
      generalize rn3 (X5_pairs_b20 N 16 (nn p) A k4) m1 = kk
      unfold X5_pairs_b20 X5_pairs_b49
      rw [h.beings, bo_some, if_neg (by rw [nn_le (by omega) (by omega)]; omega), v1, bo_some, nn_succ]
      by_cases z : v = 0
      · rw [if_pos z, if_pos z, Int32.add_zero]
      · rw [if_neg z, if_neg z]
    · rw [← i2 k4]
      show M_pairsBy_b17 N σ k4 (rn4 (M_pairsBy_b17 N σ k4) m2) (nn p) s (nn a) (nn b) = _
      generalize rn4 (M_pairsBy_b17 N σ k4) m2 = kk
      unfold M_pairsBy_b17 M_pairsBy_b40
      rw [h.beingMany, bo_some, if_neg (by rw [nn_le (by omega) (by omega)]; omega), v2, bo_some, nn_succ]
      by_cases z : v = 0
      · rw [if_pos z, if_pos z]
      · rw [if_neg z, if_neg z]
theorem pairs_outer {N : Nat} (hN : 5000 ≤ N) (h : FR A σ fo nb L C W) (st : SR A 16 (σ.1 56) nb L C) {p : Nat} (hp : p < 100) : ∀ (j a m1 m2 : Nat) (s : Int32), a + j = nb → j < m1 → j < m2 → ∃ r : Int32, rn2 (X5_pairs_b4 N 16 (nn p) A) m1 s (nn a) = some r ∧ rn3 (M_pairsBy_b4 N σ) m2 (nn p) s (nn a) = some r := by
  have bn := h.bn
  intro j
  induction j with
  | zero =>
    intro b m1 m2 s hb h1 h2
    obtain ⟨m1, rfl⟩ : ∃ z, m1 = z + 1 := ⟨m1 - 1, by omega⟩
    obtain ⟨m2, rfl⟩ : ∃ z, m2 = z + 1 := ⟨m2 - 1, by omega⟩
    refine ⟨s, ?_, ?_⟩
    · show X5_pairs_b4 N 16 (nn p) A _ s (nn b) = _
      unfold X5_pairs_b4
      rw [h.beings, bo_some, if_pos (by rw [nn_le (by omega) (by omega)]; omega)]
    · show M_pairsBy_b4 N σ _ (nn p) s (nn b) = _
      unfold M_pairsBy_b4
      rw [h.beingMany, bo_some, if_pos (by rw [nn_le (by omega) (by omega)]; omega)]
  | succ j ih =>
    intro a m1 m2 s hb h1 h2
    obtain ⟨m1, rfl⟩ : ∃ z, m1 = z + 1 := ⟨m1 - 1, by omega⟩
    obtain ⟨m2, rfl⟩ : ∃ z, m2 = z + 1 := ⟨m2 - 1, by omega⟩
    obtain ⟨s', p1, p2⟩ := pairs_inner (N := N) h st hp (a := a) (by omega) j (a + 1) N N s (by omega) (by omega) (by omega)
    obtain ⟨r, i1, i2⟩ := ih (a + 1) m1 m2 s' (by omega) (by omega) (by omega)
    refine ⟨r, ?_, ?_⟩
    · rw [← i1, ← p1 (rn2 (X5_pairs_b4 N 16 (nn p) A) m1)]
      show X5_pairs_b4 N 16 (nn p) A (rn2 (X5_pairs_b4 N 16 (nn p) A) m1) s (nn a) = _
      generalize rn2 (X5_pairs_b4 N 16 (nn p) A) m1 = kk
      unfold X5_pairs_b4
      rw [h.beings, bo_some, if_neg (by rw [nn_le (by omega) (by omega)]; omega), nn_succ]
    · rw [← i2, ← p2 (rn3 (M_pairsBy_b4 N σ) m2)]
      show M_pairsBy_b4 N σ (rn3 (M_pairsBy_b4 N σ) m2) (nn p) s (nn a) = _
      generalize rn3 (M_pairsBy_b4 N σ) m2 = kk
      unfold M_pairsBy_b4
      rw [h.beingMany, bo_some, if_neg (by rw [nn_le (by omega) (by omega)]; omega), nn_succ]
theorem pairs_eq {N : Nat} (hN : 5000 ≤ N) (h : FR A σ fo nb L C W) (st : SR A 16 (σ.1 56) nb L C) {p : Nat} (hp : p < 100) : ∃ r : Int32, X5_pairs N A 16 (nn p) = some r ∧ M_pairsBy N σ (nn p) = some r := by
  have bn := h.bn
  obtain ⟨r, r1, r2⟩ := pairs_outer hN h st hp nb 0 N N 0 (by omega) (by omega) (by omega)
  exact ⟨r, r1, r2⟩
theorem pairs_op {N : Nat} (hN : 5000 ≤ N) (h : IV A σ fo nb L C W n ρ u w κ t m o) (x : Int32) : Tel (X0_pairs N A x) (M_pairs N σ x) A σ := by
  obtain ⟨d, hd, e1, e2⟩ := h.day
  have bL := h.fr.bL
  unfold X0_pairs M_pairs
  rw [h.fr.isFolioX, bo_some]
  by_cases hL : L = 0
  · rw [if_pos hL, if_pos rfl, if_pos ((isFolioM h.fr).mpr hL)]; exact Tel.same _
  rw [if_neg hL, if_neg (by decide), if_neg (fun z => hL ((isFolioM h.fr).mp z)), h.fr.leavesX, h.fr.leaves, bo_some, (is_eq x (-1) (nn L)).1, show M_isIn (Int32.toInt64 x) (-1) (Int32.toInt64 (nn L)) = _ from (is_eq x (-1) (nn L)).2, bo_some, bo_some, bt0, bt0]
  by_cases c : -1 ≤ x ∧ x ≤ nn L
  · rw [if_pos c, if_pos c]
    unfold X0_pairs_b48 M_pairs_b45
    by_cases c1 : x = -1
    · obtain ⟨r, A', σ', hr, o1, o2, o3, o4, h'⟩ := h.opening hN (x := d) (by omega)
      obtain ⟨v, v1, v2⟩ := pairs_eq hN h'.fr h'.st (p := r) (by omega)
      rw [if_pos c1, if_pos c1, e2, m_day, bo_some, e1, o1, o2, bd_some, bd_some, v1, v2, bo_some, bo_some]
      exact ⟨_, _, _, rfl, rfl, o3, o4⟩
    · have c0 : 0 ≤ x := by
        rw [Int32.le_iff_toInt_le]
        have q1 := Int32.le_iff_toInt_le.mp c.1
        have q2 : x.toInt ≠ -1 := fun e => c1 (Int32.toInt_inj.mp (e.trans rfl))
        rw [show ((-1 : Int32)).toInt = -1 from rfl] at q1
        rw [show ((0 : Int32)).toInt = 0 from rfl]
        omega
      obtain ⟨k, hk, rfl⟩ : ∃ k, k ≤ L ∧ x = nn k := by
        have e := nn_of c0
        refine ⟨x.toNatClampNeg, ?_, e⟩
        have q := c.2
        rw [e, nn_le (Int32.toNatClampNeg_lt x) (by omega)] at q
        exact q
      obtain ⟨v, v1, v2⟩ := pairs_eq hN h.fr h.st (p := k) (by omega)
      rw [if_neg c1, if_neg c1, v1, v2, bo_some, bo_some]
      exact Tel.same _
  · rw [if_neg c, if_neg c]; exact Tel.same _
theorem apart_loop {N : Nat} (hN : 5000 ≤ N) (h : IV A σ fo nb L C W n ρ u w κ t m o) : ∀ (j i m1 m2 b : Nat), i + j = L + 1 → b ≤ L → j < m1 → j < m2 → ∃ r, rn2 (X0_apart_b13 N A) m1 (nn b) (nn i) = some r ∧ rn2 (M_apart_b13 N σ) m2 (nn b) (nn i) = some r := by
  have bL := h.fr.bL
  intro j
  induction j with
  | zero =>
    intro i m1 m2 b hi hb h1 h2
    obtain ⟨m1, rfl⟩ : ∃ z, m1 = z + 1 := ⟨m1 - 1, by omega⟩
    obtain ⟨m2, rfl⟩ : ∃ z, m2 = z + 1 := ⟨m2 - 1, by omega⟩
    refine ⟨nn b, ?_, ?_⟩
    · show X0_apart_b13 N A _ (nn b) (nn i) = _
      unfold X0_apart_b13
      rw [h.fr.leavesX, if_pos ((nn_lt (by omega) (by omega)).mpr (by omega))]
    · show M_apart_b13 N σ _ (nn b) (nn i) = _
      unfold M_apart_b13
      rw [h.fr.leaves, bo_some, if_pos ((nn_lt (by omega) (by omega)).mpr (by omega))]
  | succ j ih =>
    intro i m1 m2 b hi hb h1 h2
    obtain ⟨m1, rfl⟩ : ∃ z, m1 = z + 1 := ⟨m1 - 1, by omega⟩
    obtain ⟨m2, rfl⟩ : ∃ z, m2 = z + 1 := ⟨m2 - 1, by omega⟩
    obtain ⟨v, v1, v2⟩ := pairs_eq hN h.fr h.st (p := i) (by omega)
    obtain ⟨y, y1, y2⟩ := pairs_eq hN h.fr h.st (p := b) (by omega)
    obtain ⟨r, i1, i2⟩ := ih (i + 1) m1 m2 (if y ≤ v then b else i) (by omega) (by split <;> omega) (by omega) (by omega)
    refine ⟨r, ?_, ?_⟩
    · rw [← i1]
      show X0_apart_b13 N A (rn2 (X0_apart_b13 N A) m1) (nn b) (nn i) = _
      generalize rn2 (X0_apart_b13 N A) m1 = kk
      unfold X0_apart_b13 X0_apart_b45
      rw [h.fr.leavesX, if_neg (fun q => by have := (nn_lt (by omega) (by omega)).mp q; omega), v1, bo_some, y1, bo_some, nn_succ]
      by_cases z : y ≤ v
      · rw [if_pos z, if_pos z]
      · rw [if_neg z, if_neg z]
    · rw [← i2]
      show M_apart_b13 N σ (rn2 (M_apart_b13 N σ) m2) (nn b) (nn i) = _
      generalize rn2 (M_apart_b13 N σ) m2 = kk
      unfold M_apart_b13 M_apart_b36
      rw [h.fr.leaves, bo_some, if_neg (fun q => by have := (nn_lt (by omega) (by omega)).mp q; omega), v2, bo_some, y2, bo_some, nn_succ]
      by_cases z : y ≤ v
      · rw [if_pos z, if_pos z]
      · rw [if_neg z, if_neg z]
theorem apart_op {N : Nat} (hN : 5000 ≤ N) (h : IV A σ fo nb L C W n ρ u w κ t m o) : ∃ r, X0_apart N A = some r ∧ M_apart N σ = some r := by
  have bL := h.fr.bL
  unfold X0_apart M_apart
  rw [h.fr.isFolioX, bo_some]
  by_cases hL : L = 0
  · rw [if_pos hL, if_pos rfl, if_pos ((isFolioM h.fr).mpr hL)]; exact ⟨_, rfl, rfl⟩
  rw [if_neg hL, if_neg (by decide), if_neg (fun z => hL ((isFolioM h.fr).mp z))]
  exact apart_loop hN h L 1 N N 0 (by omega) (by omega) (by omega) (by omega)
end TEL
