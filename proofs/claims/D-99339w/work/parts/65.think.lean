/-! PURE LEVEL: days that are only thought -/
set_option maxRecDepth 100000
def Pth (f i : Nat) : Prop := i = 12 ∨ (64 ≤ i ∧ i < 112) ∨ (f = 31 ∧ 129 ≤ i ∧ i ≤ 136)
def Kth (k : Nat) : Prop := (55 ≤ k ∧ k ≤ 63) ∨ k = 67 ∨ k = 100 ∨ k = 101
/-- in thought: A0, σ0 as it was -/
def TH (A0 : AH) (σ0 : mSt) (A : AH) (σ : mSt) : Prop :=
  (Ch Pth A0 A) ∧
  (Cm Kth σ0 σ) ∧
  (∀ j, j < 39 → σ.1 57 j = σ0.1 56 j) ∧
  (∀ j, 39 ≤ j → σ.1 56 j = σ0.1 56 j) ∧
  (σ.1 61 0 = 1) ∧
  (∃ n' ρ', KR A 64 n' ρ')
theorem TH.ch {A0 : AH} {σ0 : mSt} {A : AH} {σ : mSt} (h : TH A0 σ0 A σ) : Ch Pth A0 A := h.1
theorem TH.cm {A0 : AH} {σ0 : mSt} {A : AH} {σ : mSt} (h : TH A0 σ0 A σ) : Cm Kth σ0 σ := h.2.1
theorem TH.as_ {A0 : AH} {σ0 : mSt} {A : AH} {σ : mSt} (h : TH A0 σ0 A σ) : ∀ j, j < 39 → σ.1 57 j = σ0.1 56 j := h.2.2.1
theorem TH.hi {A0 : AH} {σ0 : mSt} {A : AH} {σ : mSt} (h : TH A0 σ0 A σ) : ∀ j, 39 ≤ j → σ.1 56 j = σ0.1 56 j := h.2.2.2.1
theorem TH.th {A0 : AH} {σ0 : mSt} {A : AH} {σ : mSt} (h : TH A0 σ0 A σ) : σ.1 61 0 = 1 := h.2.2.2.2.1
theorem TH.kt {A0 : AH} {σ0 : mSt} {A : AH} {σ : mSt} (h : TH A0 σ0 A σ) : ∃ n' ρ', KR A 64 n' ρ' := h.2.2.2.2.2
theorem TH.mk {A0 : AH} {σ0 : mSt} {A : AH} {σ : mSt} (h_ch : Ch Pth A0 A) (h_cm : Cm Kth σ0 σ) (h_as_ : ∀ j, j < 39 → σ.1 57 j = σ0.1 56 j) (h_hi : ∀ j, 39 ≤ j → σ.1 56 j = σ0.1 56 j) (h_th : σ.1 61 0 = 1) (h_kt : ∃ n' ρ', KR A 64 n' ρ') : TH A0 σ0 A σ := ⟨h_ch, h_cm, h_as_, h_hi, h_th, h_kt⟩
section THK
variable {A0 A : AH} {σ0 σ : mSt} {fo nb L C W n : Nat} {ρ : Nat → Nat} {u w : Nat} {κ : Nat → Nat} {t m o : Nat}
theorem TH.start {N : Nat} (hN : 5000 ≤ N) (h : IV A0 σ0 fo nb L C W n ρ u w κ t m o) : ∃ σ1, M_putsAside N σ0 = some ((), σ1) ∧ TH A0 σ0 A0 σ1 ∧ (∀ j, σ1.1 56 j = σ0.1 56 j) ∧ σ1.1 62 0 = 0 ∧ ∀ b, b < 8 → σ1.1 63 b = 0 := by
  obtain ⟨σ1, p1, p2, p3, p4, p5, p6⟩ := putsAside_eq hN σ0
  have e56 : ∀ j, σ1.1 56 j = σ0.1 56 j := fun j => (p2 56 j (by omega)).1
  exact ⟨σ1, p1, TH.mk (Ch.refl A0) (p2.mono (fun k z => by unfold Kth; omega)) p6 (fun j _ => e56 j) p3 h.kt, e56, p4, p5⟩
theorem TH.fr (T : TH A0 σ0 A σ) (h : IV A0 σ0 fo nb L C W n ρ u w κ t m o) : FR A σ fo nb L C W :=
  h.fr.same (T.ch.sameOn (fun f i hi z => by unfold dyn at hi; unfold Pth at z; omega)) (T.ch.R 0 (by unfold Pth; omega)) (T.cm.sameM (fun k hk z => by unfold Kfo at hk; unfold Kth at z; omega))
theorem TH.copy {N : Nat} (hN : 5000 ≤ N) (T : TH A0 σ0 A σ) (h : IV A0 σ0 fo nb L C W n ρ u w κ t m o) (e56 : ∀ j, j < 39 → σ.1 56 j = σ0.1 56 j) (e62 : σ.1 62 0 = 0) : ∃ A1 n1 ρ1, X5_copy N A 64 16 = some (some 64, A1) ∧ PR A1 σ fo nb L C W 64 true n1 ρ1 0 (fun b => 0 - σ.1 63 b) (σ0.1 56) ∧ TH A0 σ0 A1 σ := by
  have bn := h.fr.bn
  obtain ⟨n', ρ', kt⟩ := T.kt
  have k16 : KR A 16 n ρ := h.kr.ch T.ch (by unfold Pth; omega) (by unfold Pth; omega)
  have s16 : SR A 16 (σ.1 56) nb L C := h.st.ch T.ch (fun g i _ h1 h2 => by unfold Pth; omega) e56 bn
  obtain ⟨A1, c1, c2⟩ := copy_eq hN (x := 64) (y := 16) rfl rfl (by decide) (h.ks.ch T.ch) kt k16
  have kr1 := c2.kr kt k16
  have cc : Ch Pth A A1 := c2.ch.mono (fun f i z => by unfold Pth; omega)
  have T1 : TH A0 σ0 A1 σ := TH.mk (T.ch.trans cc) T.cm T.as_ T.hi T.th ⟨n, ρ', kr1⟩
  refine ⟨A1, n, ρ', c1, PR.mk (T1.fr h) (h.ks.ch T1.ch) (h.m1.ch T1.ch (by unfold Pth; omega)) (c2.sr bn s16) kr1 (fun z => by cases z) T.th ?_ (fun b hb => ?_) (fun _ j hj => T.hi j hj), T1⟩
  · rw [c2.pa, e62]; rfl
  · rw [c2.be 47 b (by unfold cpQ; omega) (by omega)]
    unfold cpS
    rw [if_pos rfl, Int32.add_comm, Int32.sub_add_cancel]
theorem TH.pass {A' : AH} {σ' : mSt} {n' : Nat} {ρ' : Nat → Nat} {ε : Int32} {δ : Nat → Int32} (T : TH A0 σ0 A σ) (p : PR A' σ' fo nb L C W 64 true n' ρ' ε δ (σ0.1 56)) (c : Ch (PX 64) A A') (mm : Cm KD σ σ') : TH A0 σ0 A' σ' := by
  refine TH.mk (T.ch.trans (c.mono (fun f i z => by unfold PX at z; unfold Pth; omega))) (T.cm.trans (mm.mono (fun k z => by unfold KD at z; unfold Kth; omega))) (fun j hj => ?_) (fun j hj => p.hi rfl j hj) p.tf ⟨_, _, p.kr⟩
  rw [mm.I j (by unfold KD; omega)]; exact T.as_ j hj
theorem TH.back {N : Nat} (hN : 5000 ≤ N) (T : TH A0 σ0 A σ) (h : IV A0 σ0 fo nb L C W n ρ u w κ t m o) : ∃ σ', M_takesBack N σ = some ((), σ') ∧ IV A σ' fo nb L C W n ρ u w κ t m o ∧ Cm (fun k => k = 56 ∨ k = 61) σ σ' := by
  obtain ⟨σ', p1, p2, p3, p4, p5⟩ := takesBack_eq hN σ
  refine ⟨σ', p1, h.frame (T.ch.mono (fun f i z => by unfold Pth at z; unfold Psc; omega)) ((T.cm.mono (fun k z => by unfold Kth at z; unfold Ksc; omega)).trans (p2.mono (fun k z => by unfold Ksc; omega))) (fun j => ?_) p3 T.kt (h.hn.ch T.ch (by unfold Pth; omega) (by unfold Pth; omega) (by unfold Pth; omega) (by unfold Pth; omega) (by unfold Pth; omega)), p2⟩
  rcases Nat.lt_or_ge j 39 with z | z
  · rw [p4 j z]; exact T.as_ j z
  · rw [p5 j z]; exact T.hi j z
theorem TH.anew {N : Nat} (hN : 5000 ≤ N) (T : TH A0 σ0 A σ) : ∃ σ', M_triesAnew N σ = some ((), σ') ∧ TH A0 σ0 A σ' ∧ (∀ j, j < 39 → σ'.1 56 j = σ0.1 56 j) ∧ σ'.1 62 0 = 0 ∧ Cm (fun k => k = 56 ∨ k = 62) σ σ' := by
  obtain ⟨σ', p1, p2, p3, p4, p5⟩ := triesAnew_eq hN σ
  have e57 : ∀ j, σ'.1 57 j = σ.1 57 j := fun j => (p2 57 j (by omega)).1
  refine ⟨σ', p1, TH.mk T.ch (T.cm.trans (p2.mono (fun k z => by unfold Kth; omega))) (fun j hj => ?_) (fun j hj => ?_) ?_ T.kt, fun j hj => ?_, p3, p2⟩
  · rw [e57]; exact T.as_ j hj
  · rw [p5 j hj]; exact T.hi j hj
  · rw [(p2 61 0 (by omega)).1]; exact T.th
  · rw [p4 j hj]; exact T.as_ j hj
/-- behind a call that only thinks -/
def Thk (X : Option (Int32 × AH)) (M : Option (Int32 × mSt)) (A : AH) (fo nb L C W n : Nat) (ρ : Nat → Nat) (u w : Nat) (κ : Nat → Nat) (t m o : Nat) : Prop := ∃ r A' σ', X = some (r, A') ∧ M = some (r, σ') ∧ IV A' σ' fo nb L C W n ρ u w κ t m o ∧ A'.1 = A.1
theorem later_op {N : Nat} (hN : 5000 ≤ N) (h : IV A σ fo nb L C W n ρ u w κ t m o) (x y z : Int32) : Thk (X0_later N A x y z) (M_later N σ x y z) A fo nb L C W n ρ u w κ t m o := by
  obtain ⟨d, hd, e1, e2⟩ := h.day
  have bn := h.fr.bn
  obtain ⟨p, _, hp, q1, q2⟩ := isBeing_eq h.fr x
  obtain ⟨p', _, hp', q1', q2'⟩ := isAhead_eq h.fr (d := d) (by omega) e2 e1 y (a := 0) (b := 60) (by decide) (by decide)
  unfold X0_later M_later
  rw [q1, q2, bo_some, bo_some, bt0, bt0, show X0_isAhead A y 0 60 = _ from q1', show M_isAhead σ y 0 60 = _ from q2', bo_some, bo_some, bt0, bt0, (is_eq z 0 2).1, show M_isIn (Int32.toInt64 z) 0 2 = _ from (is_eq z 0 2).2, bo_some, bo_some, bt0, bt0]
  by_cases c : p
  · rw [if_pos c, if_pos c]
    by_cases c' : p'
    · rw [if_pos c', if_pos c']
      by_cases c2 : 0 ≤ z ∧ z ≤ 2
      · rw [if_pos c2, if_pos c2]
        obtain ⟨b, hb, rfl⟩ := hp.mp c
        obtain ⟨_, k, h1, h2, rfl, h3⟩ := hp'.mp c'
        obtain ⟨i, hi, rfl⟩ := (rng_ex (n := 3) (by decide)).mp c2
        obtain ⟨σ1, s1, T, s2, s3, s4⟩ := TH.start hN h
        obtain ⟨A1, n1, ρ1, y1, y2, T1⟩ := T.copy hN h (fun j _ => s2 j) s3
        obtain ⟨A2, σ2, n2, ρ2, d1, d2, d3, d4, d5, d6⟩ := days_eq hN (x := 64) rfl y2 (k := k) (d := d) (by omega) (by omega) ((s2 0).trans e1)
        have T2 := T1.pass d5 d3 d4
        obtain ⟨σ3, b1, b2, _⟩ := T2.back hN h
        have mn := d5.mn b hb
        rw [s4 b (by omega), show ((0 : Int32) - 0) = 0 from rfl, Int32.add_zero] at mn
        have ch1 : A2.1 = A.1 := T2.ch.1
        rw [y1, bd_some, bo_some, if_pos (y2.ks.six rfl), d1, bd_some, bo_some, s1, bd_some, d2, bd_some]
        unfold M_later_b73
        rw [b1]
        simp only [bd_some]
        have hi' : i = 0 ∨ i = 1 ∨ i = 2 := by omega
        rcases hi' with rfl | rfl | rfl
        · rw [if_pos (by rfl), if_pos (by rfl), sI_nn (by omega) (by decide), bo_some, m_cellOf σ2 (by omega), bo_some, show (67 : Nat) = 64 + 3 from rfl, d5.st.ce b hb]
          exact ⟨_, _, _, rfl, rfl, b2, ch1⟩
        · rw [if_neg (show ¬ nn 1 = (0 : Int32) by decide), if_neg (show ¬ nn 1 = (0 : Int32) by decide), if_pos (show nn 1 = (1 : Int32) from rfl), if_pos (show nn 1 = (1 : Int32) from rfl), sI_nn (by omega) (by decide), bo_some, m_purseOf σ2 (by omega), bo_some, show (68 : Nat) = 64 + 4 from rfl, d5.st.pu b hb]
          exact ⟨_, _, _, rfl, rfl, b2, ch1⟩
        · rw [if_neg (show ¬ nn 2 = (0 : Int32) by decide), if_neg (show ¬ nn 2 = (0 : Int32) by decide), if_neg (show ¬ nn 2 = (1 : Int32) by decide), if_neg (show ¬ nn 2 = (1 : Int32) by decide), sI_nn (by omega) (by decide), bo_some, ld_nn (by rfl) (by show b < 8; omega) (by omega), bo_some, show (111 : Nat) = 64 + 47 from rfl, mn]
          exact ⟨_, _, _, rfl, rfl, b2, ch1⟩
      · rw [if_neg c2, if_neg c2]; exact ⟨_, _, _, rfl, rfl, h, rfl⟩
    · rw [if_neg c', if_neg c']; exact ⟨_, _, _, rfl, rfl, h, rfl⟩
  · rw [if_neg c, if_neg c]; exact ⟨_, _, _, rfl, rfl, h, rfl⟩
/-! ways of reading -/
theorem pw7 {R k : Nat} (hR : R ≤ 7) (hk : k ≤ 3) : R ^ k ≤ 343 := by
  have h1 : R ^ k ≤ 7 ^ k := Nat.pow_le_pow_left hR k
  have h2 : 7 ^ k ≤ 7 ^ 3 := Nat.pow_le_pow_right (by decide) hk
  have h3 : (7 : Nat) ^ 3 = 343 := by decide
  omega
theorem ways_loop {N : Nat} (h : FR A σ fo nb L C W) {k : Nat} (hk : k ≤ 3) : ∀ (j i q1 q2 : Nat), i + j = k → j < q1 → j < q2 → rn2 (X0_ways_b4 N (nn k) A) q1 (nn ((L + 1) ^ i)) (nn i) = some (nn ((L + 1) ^ k)) ∧ rn3 (M_rowsOf_b4 N σ) q2 (nn k) (nn ((L + 1) ^ i)) (nn i) = some (nn ((L + 1) ^ k)) := by
  intro j
  induction j with
  | zero =>
    intro i q1 q2 hi h1 h2
    obtain ⟨q1, rfl⟩ : ∃ z, q1 = z + 1 := ⟨q1 - 1, by omega⟩
    obtain ⟨q2, rfl⟩ : ∃ z, q2 = z + 1 := ⟨q2 - 1, by omega⟩
    have : i = k := by omega
    subst this
    constructor
    · show X0_ways_b4 N (nn i) A _ _ (nn i) = _
      unfold X0_ways_b4
      rw [if_pos ((nn_le (by omega) (by omega)).mpr (by omega))]
    · show M_rowsOf_b4 N σ _ (nn i) _ (nn i) = _
      unfold M_rowsOf_b4
      rw [if_pos ((nn_le (by omega) (by omega)).mpr (by omega))]
  | succ j ih =>
    intro i q1 q2 hi h1 h2
    obtain ⟨q1, rfl⟩ : ∃ z, q1 = z + 1 := ⟨q1 - 1, by omega⟩
    obtain ⟨q2, rfl⟩ : ∃ z, q2 = z + 1 := ⟨q2 - 1, by omega⟩
    obtain ⟨i1, i2⟩ := ih (i + 1) q1 q2 (by omega) (by omega) (by omega)
    have em : nn ((L + 1) ^ i) * nn (L + 1) = nn ((L + 1) ^ (i + 1)) := by rw [nn_mul, Nat.pow_succ]
    constructor
    · rw [← i1]
      show X0_ways_b4 N (nn k) A (rn2 (X0_ways_b4 N (nn k) A) q1) _ (nn i) = _
      generalize rn2 (X0_ways_b4 N (nn k) A) q1 = kk
      unfold X0_ways_b4
      rw [if_neg (fun q => by have := (nn_le (by omega) (by omega)).mp q; omega), h.leavesX, nn_succ, em, nn_succ]
    · rw [← i2]
      show M_rowsOf_b4 N σ (rn3 (M_rowsOf_b4 N σ) q2) (nn k) _ (nn i) = _
      generalize rn3 (M_rowsOf_b4 N σ) q2 = kk
      unfold M_rowsOf_b4
      rw [if_neg (fun q => by have := (nn_le (by omega) (by omega)).mp q; omega), h.leaves, bo_some, nn_succ, em, nn_succ]
theorem ways_eq {N : Nat} (hN : 5000 ≤ N) (h : FR A σ fo nb L C W) {k : Nat} (hk : k ≤ 3) : X0_ways N A (nn k) = some (nn ((L + 1) ^ k)) ∧ M_rowsOf N σ (nn k) = some (nn ((L + 1) ^ k)) := by
  have := ways_loop (N := N) h hk k 0 N N (by omega) (by omega) (by omega)
  rw [Nat.pow_zero] at this
  exact this
/-- the opening of a day, out of the number of a way -/
theorem openAt_eq {N : Nat} (hN : 5000 ≤ N) (h : FR A σ fo nb L C W) {k i v : Nat} (hk : k ≤ 3) (hi : i < k) (hv : v < 1000) : ∃ p, p ≤ L ∧ (∀ {β : Type} (g : Int32 → Option β), (bo (X0_ways N A ((nn k - 1) - nn i)) fun r9 => if ¬ r9 = 0 then (bo (aR A 100 0 0) fun q10 => bo (gI 2 A 201 q10) fun v11 => if ¬ (v11 + 1) = 0 then g ((nn v / r9) - (nn v / r9) / (v11 + 1) * (v11 + 1)) else none) else none) = g (nn p)) ∧ M_openingAt N σ (nn v) (nn k) (nn i) = some (nn p) := by
  have bL := h.bL
  obtain ⟨w1, w2⟩ := ways_eq hN h (k := k - 1 - i) (by omega)
  have ek : (nn k - 1) - nn i = nn (k - 1 - i) := by
    rw [show (1 : Int32) = nn 1 from rfl, nn_sub (by omega), nn_sub (by omega)]
  have hR := pw7 (R := L + 1) (k := k - 1 - i) (by omega) (by omega)
  have hR1 : 1 ≤ (L + 1) ^ (k - 1 - i) := Nat.one_le_pow _ _ (by omega)
  generalize (L + 1) ^ (k - 1 - i) = R at w1 w2 hR hR1
  have n1 : ¬ nn R = 0 := by rw [show (0 : Int32) = nn 0 from rfl, nn_eq (by omega) (by omega)]; omega
  have n2 : ¬ nn (L + 1) = 0 := by rw [show (0 : Int32) = nn 0 from rfl, nn_eq (by omega) (by omega)]; omega
  have hdv : v / R ≤ v := Nat.div_le_self _ _
  have ev : (nn v / nn R) - (nn v / nn R) / nn (L + 1) * nn (L + 1) = nn (v / R % (L + 1)) := by
    rw [nn_div (by omega) (by omega), nn_rem (by omega) (by omega)]
  refine ⟨v / R % (L + 1), by have := Nat.mod_lt (v / R) (show L + 1 > 0 by omega); omega, fun g => ?_, ?_⟩
  · rw [ek, w1, bo_some, if_pos n1, h.leavesX, nn_succ, if_pos n2, ev]
  · unfold M_openingAt
    rw [ek, w2, bo_some, if_pos n1, h.leaves, bo_some, nn_succ, if_pos n2, ev]
theorem read_days {N : Nat} (hN : 5000 ≤ N) (h : IV A0 σ0 fo nb L C W n ρ u w κ t m o) {k v : Nat} (hk : k ≤ 3) (hv : v < 1000) (x2 x3 x4 y3 y4 y5 : Int32) : ∀ (j i q1 q2 d n1 s : Nat) (ρ1 : Nat → Nat) (δ : Nat → Int32) (A : AH) (σ : mSt), i + j = k → j < q1 → j < q2 → d + j ≤ 1100 → s + 64 * j ≤ 1000 → σ.1 56 0 = nn d → σ.1 62 0 = nn s → TH A0 σ0 A σ → PR A σ fo nb L C W 64 true n1 ρ1 0 δ (σ0.1 56) →
    ∃ A' σ' q, q ≤ 1000 ∧ TH A0 σ0 A' σ' ∧ σ'.1 62 0 = nn q ∧ aI A' 608 64 0 = nn q ∧
    (∀ k38, rn5 (X0_reading_b63 N (nn k) x2 k38) q1 A x3 x4 (nn v) (nn i) = if nn q < x4 then k38 A' (nn v) (nn q) (nn (v + 1)) else k38 A' x3 x4 (nn (v + 1))) ∧
    (∀ k46, rn8 (M_reading_b56 N k46) q2 σ (nn k) x2 y3 y4 y5 (nn v) (nn i) = bd (M_triesAnew N σ') fun _ σ7 => if y4 = -1 then k46 σ7 (nn k) x2 (nn v) (nn q) y5 (nn (v + 1)) else if nn q < y4 then k46 σ7 (nn k) x2 (nn v) (nn q) y5 (nn (v + 1)) else k46 σ7 (nn k) x2 y3 y4 y5 (nn (v + 1))) := by
  intro j
  induction j with
  | zero =>
    intro i q1 q2 d n1 s ρ1 δ A σ hi h1 h2 hd hs ed es T P
    obtain ⟨q1, rfl⟩ : ∃ z, q1 = z + 1 := ⟨q1 - 1, by omega⟩
    obtain ⟨q2, rfl⟩ : ∃ z, q2 = z + 1 := ⟨q2 - 1, by omega⟩
    have e608 : aI A 608 64 0 = nn s := by
      have := P.pa
      rw [es, Int32.add_zero] at this
      exact this
    refine ⟨A, σ, s, by omega, T, es, e608, fun k38 => ?_, fun k46 => ?_⟩
    · show X0_reading_b63 N (nn k) x2 k38 _ A x3 x4 (nn v) (nn i) = _
      unfold X0_reading_b63 X0_reading_b132
      rw [if_pos ((nn_le (by omega) (by omega)).mpr (by omega)), e608, nn_succ]
    · show M_reading_b56 N k46 _ σ (nn k) x2 y3 y4 y5 (nn v) (nn i) = _
      unfold M_reading_b56 M_reading_b107 M_reading_b114
      rw [if_pos ((nn_le (by omega) (by omega)).mpr (by omega)), es, nn_succ]
  | succ j ih =>
    intro i q1 q2 d n1 s ρ1 δ A σ hi h1 h2 hd hs ed es T P
    have bL := P.fr.bL
    obtain ⟨q1, rfl⟩ : ∃ z, q1 = z + 1 := ⟨q1 - 1, by omega⟩
    obtain ⟨q2, rfl⟩ : ∃ z, q2 = z + 1 := ⟨q2 - 1, by omega⟩
    obtain ⟨p, hp, o1, o2⟩ := openAt_eq hN P.fr hk (i := i) (by omega) hv
    obtain ⟨A2, σ2, n2, ρ2, p1, p2, p3, p4, p5, p6, e, he, p7⟩ := passes_eq hN (x := 64) rfl P (o := p) (d := d) (by omega) (by omega) ed
    have es2 : σ2.1 62 0 = nn (s + e) := by rw [p7, es, nn_add]
    obtain ⟨A', σ', q, i1, i2, i3, i4, i5, i6⟩ := ih (i + 1) q1 q2 (d + 1) n2 (s + e) ρ2 δ A2 σ2 (by omega) (by omega) (by omega) (by omega) (by omega) p6 es2 (T.pass p5 p3 p4) p5
    refine ⟨A', σ', q, i1, i2, i3, i4, fun k38 => ?_, fun k46 => ?_⟩
    · rw [← i5 k38]
      show X0_reading_b63 N (nn k) x2 k38 (rn5 (X0_reading_b63 N (nn k) x2 k38) q1) A x3 x4 (nn v) (nn i) = _
      generalize rn5 (X0_reading_b63 N (nn k) x2 k38) q1 = kk
      unfold X0_reading_b63
      rw [if_neg (fun z => by have := (nn_le (by omega) (by omega)).mp z; omega), o1 (fun y => bd (X5_passes N A 64 y) fun _ A12 => kk A12 x3 x4 (nn v) (nn i + 1)), p1, bd_some, nn_succ]
    · rw [← i6 k46]
      show M_reading_b56 N k46 (rn8 (M_reading_b56 N k46) q2) σ (nn k) x2 y3 y4 y5 (nn v) (nn i) = _
      generalize rn8 (M_reading_b56 N k46) q2 = kk
      unfold M_reading_b56
      rw [if_neg (fun z => by have := (nn_le (by omega) (by omega)).mp z; omega), o2, bo_some, p2, bd_some, nn_succ]
theorem read_loop {N : Nat} (hN : 5000 ≤ N) (h : IV A0 σ0 fo nb L C W n ρ u w κ t m o) {k d : Nat} (hk : k ≤ 3) (hk1 : 1 ≤ k) (hd : d + k ≤ 1000) (ed : σ0.1 56 0 = nn d) {x2 : Int32} (hx2 : x2 = -1 ∨ ∃ i, i < k ∧ x2 = nn i) : ∀ (j v q1 q2 b : Nat) (ls lm : Int32) (A : AH) (σ : mSt), v + j = (L + 1) ^ k → j < q1 → j < q2 → b < 1000 → (ls = 100000000 ∧ lm = -1 ∧ v = 0 ∨ ∃ s, s ≤ 1000 ∧ ls = nn s ∧ lm = nn s) → TH A0 σ0 A σ → (∀ i, i < 39 → σ.1 56 i = σ0.1 56 i) → σ.1 62 0 = 0 →
    Thk (rn4 (X0_reading_b38 N (nn k) x2) q1 A (nn b) ls (nn v)) (rn7 (M_reading_b46 N) q2 σ (nn k) x2 (nn b) lm (nn ((L + 1) ^ k)) (nn v)) A0 fo nb L C W n ρ u w κ t m o := by
  have bL := h.fr.bL
  have hR := pw7 (R := L + 1) (k := k) (by omega) hk
  have hR1 : 1 ≤ (L + 1) ^ k := Nat.one_le_pow _ _ (by omega)
  intro j
  induction j with
  | zero =>
    intro v q1 q2 b ls lm A σ hv h1 h2 hb hls T e56 e62
    obtain ⟨q1, rfl⟩ : ∃ z, q1 = z + 1 := ⟨q1 - 1, by omega⟩
    obtain ⟨q2, rfl⟩ : ∃ z, q2 = z + 1 := ⟨q2 - 1, by omega⟩
    have fr := T.fr h
    obtain ⟨w1, w2⟩ := ways_eq hN fr hk
    obtain ⟨σ5, b1, b2, b3⟩ := T.back hN h
    show Thk (X0_reading_b38 N (nn k) x2 (rn4 (X0_reading_b38 N (nn k) x2) q1) A (nn b) ls (nn v)) (M_reading_b46 N (rn7 (M_reading_b46 N) q2) σ (nn k) x2 (nn b) lm (nn ((L + 1) ^ k)) (nn v)) A0 fo nb L C W n ρ u w κ t m o
    generalize rn4 (X0_reading_b38 N (nn k) x2) q1 = kX
    generalize rn7 (M_reading_b46 N) q2 = kM
    unfold X0_reading_b38 M_reading_b46
    rw [w1, bo_some, if_pos ((nn_le (by omega) (by omega)).mpr (by omega)), if_pos ((nn_le (by omega) (by omega)).mpr (by omega)), b1, bd_some]
    have el : ls = lm := by
      rcases hls with ⟨_, _, z⟩ | ⟨s, _, z1, z2⟩
      · omega
      · rw [z1, z2]
    rcases hx2 with hx | ⟨i, hi, hx⟩
    · rw [if_pos hx, if_pos hx, el]
      exact ⟨_, _, _, rfl, rfl, b2, T.ch.1⟩
    · have ne : ¬ x2 = -1 := by rw [hx]; exact nn_ne1 (by omega)
      obtain ⟨p, hp, o1, _⟩ := openAt_eq hN fr hk hi (v := b) hb
      obtain ⟨p', hp', o1', o2'⟩ := openAt_eq hN b2.fr hk hi (v := b) hb
      have epp : p = p' := by
        have e1 := o1 (fun y => some y)
        have e2 := o1' (fun y => some y)
        rw [e1] at e2
        exact (nn_eq (by omega) (by omega)).mp (Option.some.inj e2)
      rw [if_neg ne, if_neg ne, hx, o1 (fun y => some (y, A)), o2', bo_some, epp]
      exact ⟨_, _, _, rfl, rfl, b2, T.ch.1⟩
  | succ j ih =>
    intro v q1 q2 b ls lm A σ hv h1 h2 hb hls T e56 e62
    obtain ⟨q1, rfl⟩ : ∃ z, q1 = z + 1 := ⟨q1 - 1, by omega⟩
    obtain ⟨q2, rfl⟩ : ∃ z, q2 = z + 1 := ⟨q2 - 1, by omega⟩
    have fr := T.fr h
    obtain ⟨w1, w2⟩ := ways_eq hN fr hk
    obtain ⟨A1, n1, ρ1, y1, y2, T1⟩ := T.copy hN h e56 e62
    obtain ⟨A2, σ2, q, r1, r2, r3, r4, r5, r6⟩ := read_days hN h (k := k) (v := v) hk (by omega) x2 (nn b) ls (nn b) lm (nn ((L + 1) ^ k)) k 0 N N d n1 0 ρ1 _ A1 σ (by omega) (by omega) (by omega) (by omega) (by omega) ((e56 0 (by decide)).trans ed) e62 T1 y2
    obtain ⟨σ3, a1, a2, a3, a4, _⟩ := r2.anew hN
    have hX : rn4 (X0_reading_b38 N (nn k) x2) (q1 + 1) A (nn b) ls (nn v) = if nn q < ls then rn4 (X0_reading_b38 N (nn k) x2) q1 A2 (nn v) (nn q) (nn (v + 1)) else rn4 (X0_reading_b38 N (nn k) x2) q1 A2 (nn b) ls (nn (v + 1)) := by
      rw [← r5 (rn4 (X0_reading_b38 N (nn k) x2) q1)]
      show X0_reading_b38 N (nn k) x2 (rn4 (X0_reading_b38 N (nn k) x2) q1) A (nn b) ls (nn v) = _
      generalize rn4 (X0_reading_b38 N (nn k) x2) q1 = kX
      unfold X0_reading_b38
      rw [w1, bo_some, if_neg (fun z => by have := (nn_le (by omega) (by omega)).mp z; omega), y1, bd_some, bo_some]
      rfl
    have hM : rn7 (M_reading_b46 N) (q2 + 1) σ (nn k) x2 (nn b) lm (nn ((L + 1) ^ k)) (nn v) = if lm = -1 then rn7 (M_reading_b46 N) q2 σ3 (nn k) x2 (nn v) (nn q) (nn ((L + 1) ^ k)) (nn (v + 1)) else if nn q < lm then rn7 (M_reading_b46 N) q2 σ3 (nn k) x2 (nn v) (nn q) (nn ((L + 1) ^ k)) (nn (v + 1)) else rn7 (M_reading_b46 N) q2 σ3 (nn k) x2 (nn b) lm (nn ((L + 1) ^ k)) (nn (v + 1)) := by
      have r6' := r6 (rn7 (M_reading_b46 N) q2)
      rw [a1, bd_some] at r6'
      rw [← r6']
      show M_reading_b46 N (rn7 (M_reading_b46 N) q2) σ (nn k) x2 (nn b) lm (nn ((L + 1) ^ k)) (nn v) = _
      generalize rn7 (M_reading_b46 N) q2 = kM
      unfold M_reading_b46
      rw [if_neg (fun z => by have := (nn_le (by omega) (by omega)).mp z; omega)]
      rfl
    rw [hX, hM]
    rcases hls with ⟨z1, z2, z3⟩ | ⟨s, hs, z1, z2⟩
    · rw [if_pos (by rw [z1, show (100000000 : Int32) = nn 100000000 from rfl, nn_lt (by omega) (by omega)]; omega), if_pos z2]
      exact ih (v + 1) q1 q2 v (nn q) (nn q) A2 σ3 (by omega) (by omega) (by omega) (by omega) (Or.inr ⟨q, r1, rfl, rfl⟩) a2 a3 a4
    · rw [if_neg (show ¬ lm = -1 by rw [z2]; exact nn_ne1 (by omega)), z1, z2]
      by_cases z : nn q < nn s
      · rw [if_pos z, if_pos z]
        exact ih (v + 1) q1 q2 v (nn q) (nn q) A2 σ3 (by omega) (by omega) (by omega) (by omega) (Or.inr ⟨q, r1, rfl, rfl⟩) a2 a3 a4
      · rw [if_neg z, if_neg z]
        exact ih (v + 1) q1 q2 b (nn s) (nn s) A2 σ3 (by omega) (by omega) (by omega) hb (Or.inr ⟨s, hs, rfl, rfl⟩) a2 a3 a4
theorem reading_op {N : Nat} (hN : 5000 ≤ N) (h : IV A σ fo nb L C W n ρ u w κ t m o) (x y : Int32) : Thk (X0_reading N A x y) (M_reading N σ x y) A fo nb L C W n ρ u w κ t m o := by
  obtain ⟨d, hd, e1, e2⟩ := h.day
  have bL := h.fr.bL
  obtain ⟨p, _, hp, q1, q2⟩ := isAhead_eq h.fr (d := d) (by omega) e2 e1 x (a := 1) (b := 3) (by decide) (by decide)
  unfold X0_reading M_reading
  rw [show X0_isAhead A x 1 3 = _ from q1, show M_isAhead σ x 1 3 = _ from q2, bo_some, bo_some, bt0, bt0]
  by_cases c : p
  · obtain ⟨_, k, h1, h2, rfl, h3⟩ := hp.mp c
    have em : nn k - 1 = nn (k - 1) := nn_sub (a := k) (b := 1) h1
    have hR := pw7 (R := L + 1) (k := k) (by omega) h2
    rw [if_pos c, if_pos c, show M_isIn (Int32.toInt64 y) (-1) (Int32.toInt64 (nn k - 1)) = _ from (is_eq y (-1) (nn k - 1)).2, bo_some, bt0, (is_eq y 0 (nn k - 1)).1, bo_some, bt0]
    obtain ⟨w1, w2⟩ := ways_eq hN h.fr h2
    obtain ⟨σ1, s1, T, s2, s3, s4⟩ := TH.start hN h
    have go : (y = -1 ∨ ∃ i, i < k ∧ y = nn i) → Thk (X0_reading_b28 N (nn k) y A) (bo (M_rowsOf N σ (nn k)) fun r3 => bd (M_putsAside N σ) fun _ σ4 => rn7 (M_reading_b46 N) N σ4 (nn k) y 0 (-1) r3 0) A fo nb L C W n ρ u w κ t m o := by
      intro hy
      rw [w2, bo_some, s1, bd_some]
      exact read_loop hN h h2 h1 (by omega) e1 hy ((L + 1) ^ k) 0 N N 0 100000000 (-1) A σ1 (by omega) (by omega) (by omega) (by omega) (Or.inl ⟨rfl, rfl, rfl⟩) T (fun i _ => s2 i) s3
    by_cases cy : y = -1
    · rw [if_pos cy, if_pos]
      · exact go (Or.inl cy)
      · rw [cy]
        refine ⟨Int32.le_refl _, ?_⟩
        rw [em]
        exact Int32.le_trans (by decide) (nn_ge0 (k := k - 1) (by omega))
    · rw [if_neg cy]
      by_cases c2 : 0 ≤ y ∧ y ≤ nn k - 1
      · rw [if_pos c2, if_pos ⟨Int32.le_trans (by decide) c2.1, c2.2⟩]
        exact go (Or.inr ((rng_ex (by omega)).mp c2))
      · rw [if_neg c2, if_neg]
        · exact ⟨_, _, _, rfl, rfl, h, rfl⟩
        · intro z
          apply c2
          refine ⟨?_, z.2⟩
          rw [Int32.le_iff_toInt_le]
          have q1 := Int32.le_iff_toInt_le.mp z.1
          have q2 : y.toInt ≠ -1 := fun e => cy (Int32.toInt_inj.mp (e.trans rfl))
          rw [show ((-1 : Int32)).toInt = -1 from rfl] at q1
          rw [show ((0 : Int32)).toInt = 0 from rfl]
          omega
  · rw [if_neg c, if_neg c]; exact ⟨_, _, _, rfl, rfl, h, rfl⟩
end THK
