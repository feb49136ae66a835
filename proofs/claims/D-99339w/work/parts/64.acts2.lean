/-! PURE LEVEL: going, glosses, days, chances -/
set_option maxRecDepth 100000
section AC2
variable {A : AH} {σ : mSt} {fo nb L C W n : Nat} {ρ : Nat → Nat} {u w : Nat} {κ : Nat → Nat} {t m o : Nat}
def P1819 (f i : Nat) : Prop := f = 31 ∧ (i = 18 ∨ i = 19)
/-- a being is put on a free cell -/
theorem IV.setB (h : IV A σ fo nb L C W n ρ u w κ t m o) {b l c : Nat} (hb : b < nb) (hl : l < L) (hc : c < C) (nb_ : ¬ bitOf (σ.1 56 (1 + l)) (nn c)) (fr_ : ∀ b', b' < nb → b' ≠ b → ¬ (σ.1 56 (7 + 4 * b') = nn l ∧ σ.1 56 (7 + 4 * b' + 1) = nn c)) :
    IV (wI (wI A 31 18 b (nn l)) 31 19 b (nn c)) (mUI (mUI σ 56 (7 + 4 * b) (nn l)) 56 (7 + 4 * b + 1) (nn c)) fo nb L C W n ρ u w κ t m o := by
  have bn := h.fr.bn
  have bL := h.fr.bL
  have cA : Ch P1819 A (wI (wI A 31 18 b (nn l)) 31 19 b (nn c)) := (Ch.wI ⟨rfl, Or.inl rfl⟩).trans (Ch.wI ⟨rfl, Or.inr rfl⟩)
  have mm : Cm Know σ (mUI (mUI σ 56 (7 + 4 * b) (nn l)) 56 (7 + 4 * b + 1) (nn c)) := (Cm.UI (by unfold Know; omega)).trans (Cm.UI (by unfold Know; omega))
  have e : ∀ j, (mUI (mUI σ 56 (7 + 4 * b) (nn l)) 56 (7 + 4 * b + 1) (nn c)).1 56 j = if j = 7 + 4 * b + 1 then nn c else if j = 7 + 4 * b then nn l else σ.1 56 j := by
    intro j
    rw [mI_UI, mI_UI]
    by_cases z1 : j = 7 + 4 * b + 1
    · rw [if_pos ⟨rfl, z1⟩, if_pos z1]
    · rw [if_neg (fun q => z1 q.2), if_neg z1]
      by_cases z2 : j = 7 + 4 * b
      · rw [if_pos ⟨rfl, z2⟩, if_pos z2]
      · rw [if_neg (fun q => z2 q.2), if_neg z2]
  have kp : ∀ j, j ≠ 7 + 4 * b + 1 → j ≠ 7 + 4 * b → (mUI (mUI σ 56 (7 + 4 * b) (nn l)) 56 (7 + 4 * b + 1) (nn c)).1 56 j = σ.1 56 j := fun j z1 z2 => by rw [e, if_neg z1, if_neg z2]
  have eb1 : (mUI (mUI σ 56 (7 + 4 * b) (nn l)) 56 (7 + 4 * b + 1) (nn c)).1 56 (7 + 4 * b + 1) = nn c := by rw [e, if_pos rfl]
  have eb0 : (mUI (mUI σ 56 (7 + 4 * b) (nn l)) 56 (7 + 4 * b + 1) (nn c)).1 56 (7 + 4 * b) = nn l := by rw [e, if_neg (by omega), if_pos rfl]
  generalize mUI (mUI σ 56 (7 + 4 * b) (nn l)) 56 (7 + 4 * b + 1) (nn c) = σ' at mm e kp eb1 eb0 ⊢
  have iA : ∀ f i j, ¬ P1819 f i → aI (wI (wI A 31 18 b (nn l)) 31 19 b (nn c)) f i j = aI A f i j := fun f i j z => cA.I j z
  have s := h.st
  refine h.now (cA.mono (fun f i z => by unfold P1819 at z; unfold Pnow; omega)) mm (SR.mk ?_ ?_ ?_ ?_ ?_ ?_ ?_ ?_ ?_ ?_ ?_ ?_ ?_ ?_) ?_ (h.kr.ch cA (by unfold P1819; omega) (by unfold P1819; omega)) (h.kv.ch h.kr cA (fun i h1 h2 => by unfold P1819; omega) (fun j h1 h2 => kp j (by omega) (by omega))) ((mm.I 0 (by unfold Know; omega)).trans h.th)
  · rw [iA _ _ _ (by unfold P1819; omega), kp _ (by omega) (by omega)]; exact s.day
  · rw [kp _ (by omega) (by omega)]; exact s.dayb
  · intro l' hl'; rw [iA _ _ _ (by unfold P1819; omega), kp _ (by omega) (by omega)]; exact s.gl l' hl'
  · intro l' hl'; rw [kp _ (by omega) (by omega)]; exact s.glb l' hl'
  · intro b' hb'
    by_cases z : b' = b
    · rw [z, eb0, aI_wI, if_neg (by omega), aI_wI, if_pos ⟨rfl, rfl, rfl⟩]
    · rw [kp _ (by omega) (by omega), aI_wI, if_neg (by omega), aI_wI, if_neg (by omega)]; exact s.lf b' hb'
  · intro b' hb'
    by_cases z : b' = b
    · rw [z, eb0]; exact ⟨l, hl, rfl⟩
    · rw [kp _ (by omega) (by omega)]; exact s.lfb b' hb'
  · intro b' hb'
    by_cases z : b' = b
    · rw [z, eb1, aI_wI, if_pos ⟨rfl, rfl, rfl⟩]
    · rw [kp _ (by omega) (by omega), aI_wI, if_neg (by omega), aI_wI, if_neg (by omega)]; exact s.ce b' hb'
  · intro b' hb'
    by_cases z : b' = b
    · rw [z, eb1]; exact ⟨c, hc, rfl⟩
    · rw [kp _ (by omega) (by omega)]; exact s.ceb b' hb'
  · intro b' hb'; rw [iA _ _ _ (by unfold P1819; omega), kp _ (by omega) (by omega)]; exact s.pu b' hb'
  · intro b' hb'; rw [kp _ (by omega) (by omega)]; exact s.pub b' hb'
  · intro b' hb'; rw [iA _ _ _ (by unfold P1819; omega), kp _ (by omega) (by omega)]; exact s.me b' hb'
  · intro b' hb'; rw [kp _ (by omega) (by omega)]; exact s.meb b' hb'
  · intro b' l' hb' hl6 hl'
    rw [kp (1 + l') (by omega) (by omega)]
    by_cases z : b' = b
    · rw [z, eb0, nn_eq (by omega) (by omega)] at hl'
      rw [z, eb1, ← hl']; exact nb_
    · rw [kp _ (by omega) (by omega)] at hl'
      rw [kp _ (by omega) (by omega)]; exact s.og b' l' hb' hl6 hl'
  · intro a' b' ha' hb' y1 y2
    by_cases w1 : a' = b
    · by_cases w2 : b' = b
      · omega
      · rw [w1, eb0, kp _ (by omega) (by omega)] at y1
        rw [w1, eb1, kp _ (by omega) (by omega)] at y2
        exact absurd ⟨y1.symm, y2.symm⟩ (fr_ b' hb' w2)
    · by_cases w2 : b' = b
      · rw [w2, eb0, kp _ (by omega) (by omega)] at y1
        rw [w2, eb1, kp _ (by omega) (by omega)] at y2
        exact absurd ⟨y1, y2⟩ (fr_ a' ha' w1)
      · rw [kp _ (by omega) (by omega), kp _ (by omega) (by omega)] at y1 y2
        exact s.di a' b' ha' hb' y1 y2
  · rw [kp _ (by omega) (by omega)]; exact h.d9
theorem go_op {N : Nat} (hN : 5000 ≤ N) (h : IV A σ fo nb L C W n ρ u w κ t m o) (x y z : Int32) : ∃ r A' σ' u' w' κ', X0_go N A x y z = some (r, A') ∧ M_go N σ x y z = some (r, σ') ∧ IV A' σ' fo nb L C W n ρ u' w' κ' t m o ∧ A'.1 = A.1 := by
  have bn := h.fr.bn
  have bL := h.fr.bL
  obtain ⟨A', σ', r1, r2, r3, r4, r5⟩ := refuses_eq h (k := 2) (by decide)
  have r1' : X0_refuses A 2 = some (-1, A') := r1
  have eX : X0_go_b29 N x y z A = some (0, A') := by
    unfold X0_go_b29
    rw [r1', bd_some, if_pos (by decide)]
  have eM : M_go_b36 N σ = some (0, σ') := by
    unfold M_go_b36
    exact r3 (fun σ2 => some (0, σ2))
  obtain ⟨p, _, hp, q1, q2⟩ := isBeing_eq h.fr x
  obtain ⟨p', _, hp', q1', q2'⟩ := isCell_eq h.fr y z
  unfold X0_go M_go
  rw [q1, q2, bo_some, bo_some, bt0, bt0, q1', q2', bo_some, bo_some, bt0, bt0]
  by_cases c : p
  · rw [if_pos c, if_pos c]
    by_cases c' : p'
    · rw [if_pos c', if_pos c']
      obtain ⟨b, hb, rfl⟩ := hp.mp c
      obtain ⟨l, k, hl, hk, rfl, rfl⟩ := hp'.mp c'
      obtain ⟨f, hf01, f1, f2, f3⟩ := isFree_eq hN h.fr (x := 16) rfl h.st (l := l) (by omega) (nn k)
      have f2' := f2 (bd (M_keeps N σ) fun _ σ7 => bo (stI 2 σ7 56 (7 + (4 * nn b)) (nn l)) fun σ8 => bo (stI 2 σ8 56 ((7 + (4 * nn b)) + 1) (nn k)) fun σ9 => some ((1 : Int32), σ9)) (M_go_b36 N σ)
      rw [f1, bo_some, f2']
      by_cases hf : f = 1
      · rw [if_neg (by rw [hf]; decide), if_pos hf]
        obtain ⟨g1, g2⟩ := f3.mp hf
        obtain ⟨A2, σ2, u', w', κ', k1, k2, k3, k4, k5⟩ := keeps_eq hN h
        have e56 : ∀ j, σ2.1 56 j = σ.1 56 j := fun j => k4.I j (by unfold Kk; omega)
        have ix : ((7 + (4 * nn b)) + 1 : Int32) = nn (7 + 4 * b + 1) := ix7a b 1
        rw [k1, k2, bd_some, bd_some, tI_nn (by omega) (by decide), bo_some, tI_nn (by omega) (by decide), bo_some, ix7, stI_nn (by rfl) (by show 7 + 4 * b < 160; omega) (by omega), bo_some]
        have ix2 : (nn (7 + 4 * b) + 1 : Int32) = nn (7 + 4 * b + 1) := nn_succ _
        rw [ix2, stI_nn (by rfl) (by show 7 + 4 * b + 1 < 160; omega) (by omega), bo_some]
        exact ⟨1, _, _, u', w', κ', rfl, rfl, k5.setB hb hl hk (by rw [e56]; exact g1) (fun b' hb' _ => by rw [e56, e56]; exact g2 b' hb'), k3.1⟩
      · have f0 : f = 0 := by
          rcases hf01 with e | e
          · exact e
          · exact absurd e hf
        rw [if_pos f0, if_neg hf, eX, eM]
        exact ⟨_, _, _, _, _, _, rfl, rfl, r4, r5.1⟩
    · rw [if_neg c', if_neg c', eX, eM]
      exact ⟨_, _, _, _, _, _, rfl, rfl, r4, r5.1⟩
  · rw [if_neg c, if_neg c, eX, eM]
    exact ⟨_, _, _, _, _, _, rfl, rfl, r4, r5.1⟩
/-! glosses -/
theorem or_bit : ∀ v, v < 256 → ∀ c, c < 8 → ((nn v ||| (1 <<< (nn c &&& 31))) = nn (v ||| (1 <<< c)) ∧ v ||| (1 <<< c) < 256) := by decide +kernel
theorem or_has : ∀ v, v < 256 → ∀ c, c < 8 → ∀ d, d < 8 → (((nn (v ||| (1 <<< c)) >>> (nn d &&& 31)) &&& 1) = 1 → ((nn v >>> (nn d &&& 31)) &&& 1) = 1 ∨ d = c) := by decide +kernel
def P17 (f i : Nat) : Prop := f = 31 ∧ i = 17
theorem IV.setG (h : IV A σ fo nb L C W n ρ u w κ t m o) {l c : Nat} (hl : l < L) (hc : c < C) (fr_ : ∀ b, b < nb → ¬ (σ.1 56 (7 + 4 * b) = nn l ∧ σ.1 56 (7 + 4 * b + 1) = nn c)) :
    IV (wI A 31 17 l (σ.1 56 (1 + l) ||| (1 <<< (nn c &&& 31)))) (mUI σ 56 (1 + l) (σ.1 56 (1 + l) ||| (1 <<< (nn c &&& 31)))) fo nb L C W n ρ u w κ t m o := by
  have bn := h.fr.bn
  have bL := h.fr.bL
  have bC := h.fr.bC
  obtain ⟨v, hv, ev⟩ := h.st.glb l (by omega)
  obtain ⟨o1, o2⟩ := or_bit v hv c (by omega)
  rw [ev, o1]
  have cA : Ch P17 A (wI A 31 17 l (nn (v ||| (1 <<< c)))) := Ch.wI ⟨rfl, rfl⟩
  have mm : Cm Know σ (mUI σ 56 (1 + l) (nn (v ||| (1 <<< c)))) := Cm.UI (by unfold Know; omega)
  have kp : ∀ j, j ≠ 1 + l → (mUI σ 56 (1 + l) (nn (v ||| (1 <<< c)))).1 56 j = σ.1 56 j := fun j z => by rw [mI_UI, if_neg (fun q => z q.2)]
  have el : (mUI σ 56 (1 + l) (nn (v ||| (1 <<< c)))).1 56 (1 + l) = nn (v ||| (1 <<< c)) := by rw [mI_UI, if_pos ⟨rfl, rfl⟩]
  generalize mUI σ 56 (1 + l) (nn (v ||| (1 <<< c))) = σ' at mm kp el ⊢
  have iA : ∀ f i j, ¬ P17 f i → aI (wI A 31 17 l (nn (v ||| (1 <<< c)))) f i j = aI A f i j := fun f i j z => cA.I j z
  have s := h.st
  refine h.now (cA.mono (fun f i z => by unfold P17 at z; unfold Pnow; omega)) mm (SR.mk ?_ ?_ ?_ ?_ ?_ ?_ ?_ ?_ ?_ ?_ ?_ ?_ ?_ ?_) ?_ (h.kr.ch cA (by unfold P17; omega) (by unfold P17; omega)) (h.kv.ch h.kr cA (fun i h1 h2 => by unfold P17; omega) (fun j h1 h2 => kp j (by omega))) ((mm.I 0 (by unfold Know; omega)).trans h.th)
  · rw [iA _ _ _ (by unfold P17; omega), kp _ (by omega)]; exact s.day
  · rw [kp _ (by omega)]; exact s.dayb
  · intro l' hl'
    by_cases z : l' = l
    · rw [z, el, aI_wI, if_pos ⟨rfl, rfl, rfl⟩]
    · rw [kp _ (by omega), aI_wI, if_neg (by omega)]; exact s.gl l' hl'
  · intro l' hl'
    by_cases z : l' = l
    · rw [z, el]; exact ⟨_, o2, rfl⟩
    · rw [kp _ (by omega)]; exact s.glb l' hl'
  · intro b' hb'; rw [iA _ _ _ (by unfold P17; omega), kp _ (by omega)]; exact s.lf b' hb'
  · intro b' hb'; rw [kp _ (by omega)]; exact s.lfb b' hb'
  · intro b' hb'; rw [iA _ _ _ (by unfold P17; omega), kp _ (by omega)]; exact s.ce b' hb'
  · intro b' hb'; rw [kp _ (by omega)]; exact s.ceb b' hb'
  · intro b' hb'; rw [iA _ _ _ (by unfold P17; omega), kp _ (by omega)]; exact s.pu b' hb'
  · intro b' hb'; rw [kp _ (by omega)]; exact s.pub b' hb'
  · intro b' hb'; rw [iA _ _ _ (by unfold P17; omega), kp _ (by omega)]; exact s.me b' hb'
  · intro b' hb'; rw [kp _ (by omega)]; exact s.meb b' hb'
  · intro b' l' hb' hl6 hl'
    rw [kp _ (by omega)] at hl'
    rw [kp (7 + 4 * b' + 1) (by omega)]
    by_cases z : l' = l
    · obtain ⟨d, hd, ed⟩ := s.ceb b' hb'
      have h1 := s.og b' l' hb' hl6 hl'
      rw [z, el, ed]
      rw [z, ev, ed] at h1
      intro q
      rcases or_has v hv c (by omega) d (by omega) q with q1 | q1
      · exact h1 q1
      · exact fr_ b' hb' ⟨by rw [← z]; exact hl', by rw [ed, q1]⟩
    · rw [kp _ (by omega)]; exact s.og b' l' hb' hl6 hl'
  · intro a' b' ha' hb' y1 y2
    rw [kp _ (by omega), kp _ (by omega)] at y1 y2
    exact s.di a' b' ha' hb' y1 y2
  · rw [kp _ (by omega)]; exact h.d9
theorem mFree {N : Nat} (hN : 5000 ≤ N) (h : IV A σ fo nb L C W n ρ u w κ t m o) {l c : Nat} (hl : l < L) (hc : c < C) : ∃ r : Int32, (r = 0 ∨ r = 1) ∧ X5_isFree N A 16 (nn l) (nn c) = some r ∧ M_isFree N σ (nn l) (nn c) = some r ∧ (r = 1 ↔ (¬ bitOf (σ.1 56 (1 + l)) (nn c) ∧ ∀ b, b < nb → ¬ (σ.1 56 (7 + 4 * b) = nn l ∧ σ.1 56 (7 + 4 * b + 1) = nn c))) := by
  have bL := h.fr.bL
  obtain ⟨f, hf01, f1, f2, f3⟩ := isFree_eq hN h.fr (x := 16) rfl h.st (l := l) (by omega) (nn c)
  obtain ⟨p, _, hp, _, q2⟩ := isCell_eq h.fr (nn l) (nn c)
  have f2' := f2 (some (1 : Int32)) (some 0)
  refine ⟨f, hf01, f1, ?_, f3⟩
  unfold M_isFree
  rw [q2, bo_some, bt0, if_pos (hp.mpr ⟨l, c, hl, hc, rfl, rfl⟩), f2']
  rcases hf01 with e | e
  · rw [e]; rfl
  · rw [e]; rfl
theorem mNot {N : Nat} (h : IV A σ fo nb L C W n ρ u w κ t m o) {x y : Int32} (hy : ∀ c, c < C → y ≠ nn c) : M_isFree N σ x y = some 0 := by
  obtain ⟨p, _, hp, _, q2⟩ := isCell_eq h.fr x y
  unfold M_isFree
  rw [q2, bo_some, bt0, if_neg]
  intro z
  obtain ⟨l, c, _, hc, _, e⟩ := hp.mp z
  exact hy c hc e
theorem neg_sub {c k : Nat} (h : c < k) (hk : k < 100) : nn c - nn k < 0 ∧ ∀ d, d < 100 → nn c - nn k ≠ nn d := by
  have e : (nn c - nn k).toInt = (c : Int) - k := by
    rw [Int32.toInt_sub, nn_toInt (by omega), nn_toInt (by omega), Int.bmod_eq_of_le (by omega) (by omega)]
  refine ⟨?_, fun d hd q => ?_⟩
  · rw [Int32.lt_iff_toInt_lt, e, show ((0 : Int32)).toInt = 0 from rfl]; omega
  · rw [q, nn_toInt (by omega)] at e; omega
theorem near_loop {N : Nat} (hN : 5000 ≤ N) (h : IV A σ fo nb L C W n ρ u w κ t m o) {l c : Nat} (hl : l < L) (hc : c < C) : ∀ (j k q1 q2 : Nat), k + j = 8 → 1 ≤ k → j < q1 → j < q2 → ∃ r : Int32, rn1 (X5_nearest_b2 N 16 (nn l) (nn c) A) q1 (nn k) = some r ∧ rn3 (M_refuge_b2 N σ) q2 (nn l) (nn c) (nn k) = some r ∧ (r = -1 ∨ ∃ c', c' < C ∧ c' ≠ c ∧ r = nn c' ∧ ¬ bitOf (σ.1 56 (1 + l)) (nn c') ∧ ∀ b, b < nb → ¬ (σ.1 56 (7 + 4 * b) = nn l ∧ σ.1 56 (7 + 4 * b + 1) = nn c')) := by
  have bC := h.fr.bC
  intro j
  induction j with
  | zero =>
    intro k q1 q2 hk h1 hq1 hq2
    obtain ⟨q1, rfl⟩ : ∃ z, q1 = z + 1 := ⟨q1 - 1, by omega⟩
    obtain ⟨q2, rfl⟩ : ∃ z, q2 = z + 1 := ⟨q2 - 1, by omega⟩
    refine ⟨-1, ?_, ?_, Or.inl rfl⟩
    · show X5_nearest_b2 N 16 (nn l) (nn c) A _ (nn k) = _
      unfold X5_nearest_b2
      rw [h.fr.cellsX, if_pos ((nn_le (by omega) (by omega)).mpr (by omega))]
    · show M_refuge_b2 N σ _ (nn l) (nn c) (nn k) = _
      unfold M_refuge_b2
      rw [if_pos (by rw [show (8 : Int32) = nn 8 from rfl, nn_le (by omega) (by omega)]; omega)]
  | succ j ih =>
    intro k q1 q2 hk h1 hq1 hq2
    obtain ⟨q1, rfl⟩ : ∃ z, q1 = z + 1 := ⟨q1 - 1, by omega⟩
    obtain ⟨q2, rfl⟩ : ∃ z, q2 = z + 1 := ⟨q2 - 1, by omega⟩
    obtain ⟨r, i1, i2, i3⟩ := ih (k + 1) q1 q2 (by omega) (by omega) (by omega) (by omega)
    -- below
    have lo : ∃ a : Int32, (a = 0 ∨ a = 1) ∧ M_isFree N σ (nn l) (nn c - nn k) = some a ∧ (k ≤ c → X5_isFree N A 16 (nn l) (nn (c - k)) = some a ∧ (a = 1 → ¬ bitOf (σ.1 56 (1 + l)) (nn (c - k)) ∧ ∀ b, b < nb → ¬ (σ.1 56 (7 + 4 * b) = nn l ∧ σ.1 56 (7 + 4 * b + 1) = nn (c - k)))) ∧ (¬ k ≤ c → a = 0) := by
      by_cases z : k ≤ c
      · obtain ⟨a, a1, a2, a3, a4⟩ := mFree hN h hl (c := c - k) (by omega)
        exact ⟨a, a1, by rw [nn_sub z]; exact a3, fun _ => ⟨a2, fun e => a4.mp e⟩, fun q => absurd z q⟩
      · exact ⟨0, Or.inl rfl, mNot h (fun d hd => (neg_sub (c := c) (k := k) (by omega) (by omega)).2 d (by omega)), fun q => absurd q z, fun _ => rfl⟩
    have hi : ∃ a : Int32, (a = 0 ∨ a = 1) ∧ M_isFree N σ (nn l) (nn c + nn k) = some a ∧ (c + k < C → X5_isFree N A 16 (nn l) (nn (c + k)) = some a ∧ (a = 1 → ¬ bitOf (σ.1 56 (1 + l)) (nn (c + k)) ∧ ∀ b, b < nb → ¬ (σ.1 56 (7 + 4 * b) = nn l ∧ σ.1 56 (7 + 4 * b + 1) = nn (c + k)))) ∧ (¬ c + k < C → a = 0) := by
      by_cases z : c + k < C
      · obtain ⟨a, a1, a2, a3, a4⟩ := mFree hN h hl (c := c + k) z
        exact ⟨a, a1, by rw [nn_add]; exact a3, fun _ => ⟨a2, fun e => a4.mp e⟩, fun q => absurd z q⟩
      · refine ⟨0, Or.inl rfl, mNot h (fun d hd e => ?_), fun q => absurd q z, fun _ => rfl⟩
        rw [nn_add, nn_eq (by omega) (by omega)] at e
        omega
    obtain ⟨a, a01, a1, a2, a3⟩ := lo
    obtain ⟨b, b01, b1, b2, b3⟩ := hi
    have hM : rn3 (M_refuge_b2 N σ) (q2 + 1) (nn l) (nn c) (nn k) = if a = 0 then (if b = 0 then rn3 (M_refuge_b2 N σ) q2 (nn l) (nn c) (nn (k + 1)) else some (nn c + nn k)) else some (nn c - nn k) := by
      show M_refuge_b2 N σ (rn3 (M_refuge_b2 N σ) q2) (nn l) (nn c) (nn k) = _
      generalize rn3 (M_refuge_b2 N σ) q2 = kk
      unfold M_refuge_b2
      rw [if_neg (by rw [show (8 : Int32) = nn 8 from rfl, nn_le (by omega) (by omega)]; omega), a1, bo_some, b1, bo_some, nn_succ]
    by_cases hkC : k < C
    · have hX : rn1 (X5_nearest_b2 N 16 (nn l) (nn c) A) (q1 + 1) (nn k) = if a = 0 then (if b = 0 then rn1 (X5_nearest_b2 N 16 (nn l) (nn c) A) q1 (nn (k + 1)) else some (nn c + nn k)) else some (nn c - nn k) := by
        show X5_nearest_b2 N 16 (nn l) (nn c) A (rn1 (X5_nearest_b2 N 16 (nn l) (nn c) A) q1) (nn k) = _
        generalize rn1 (X5_nearest_b2 N 16 (nn l) (nn c) A) q1 = kk
        have h37 : X5_nearest_b37 N 16 (nn l) (nn c) A kk (nn k) = if b = 0 then kk (nn (k + 1)) else some (nn c + nn k) := by
          unfold X5_nearest_b37 X5_nearest_b68
          rw [h.fr.cellsX, nn_add, nn_succ]
          by_cases z : c + k < C
          · obtain ⟨y1, _⟩ := b2 z
            rw [if_neg (fun q => by have := (nn_le (by omega) (by omega)).mp q; omega), y1, bo_some]
          · rw [if_pos ((nn_le (by omega) (by omega)).mpr (by omega)), if_pos (b3 z)]
        unfold X5_nearest_b2
        rw [h.fr.cellsX, if_neg (fun q => by have := (nn_le (by omega) (by omega)).mp q; omega), h37]
        by_cases z : k ≤ c
        · obtain ⟨y1, _⟩ := a2 z
          rw [nn_sub z, if_neg (nn_nneg (by omega)), y1, bo_some]
        · rw [if_pos (neg_sub (c := c) (k := k) (by omega) (by omega)).1, if_pos (a3 z)]
      rw [hX, hM]
      by_cases ha : a = 0
      · rw [if_pos ha, if_pos ha]
        by_cases hb : b = 0
        · rw [if_pos hb, if_pos hb]
          exact ⟨r, i1, i2, i3⟩
        · rw [if_neg hb, if_neg hb]
          have z : c + k < C := Decidable.byContradiction fun q => hb (b3 q)
          have hb1 : b = 1 := b01.resolve_left hb
          obtain ⟨y1, y2⟩ := b2 z
          exact ⟨_, rfl, rfl, Or.inr ⟨c + k, z, by omega, nn_add c k, y2 hb1⟩⟩
      · rw [if_neg ha, if_neg ha]
        have z : k ≤ c := Decidable.byContradiction fun q => ha (a3 q)
        have ha1 : a = 1 := a01.resolve_left ha
        obtain ⟨y1, y2⟩ := a2 z
        exact ⟨_, rfl, rfl, Or.inr ⟨c - k, by omega, by omega, nn_sub z, y2 ha1⟩⟩
    · -- behind the cells: none on both sides
      have hX : ∀ q k', C ≤ k' → k' ≤ 8 → 0 < q → rn1 (X5_nearest_b2 N 16 (nn l) (nn c) A) q (nn k') = some (-1) := by
        intro q k' h2 h3 hq
        obtain ⟨q, rfl⟩ : ∃ z, q = z + 1 := ⟨q - 1, by omega⟩
        show X5_nearest_b2 N 16 (nn l) (nn c) A _ (nn k') = _
        unfold X5_nearest_b2
        rw [h.fr.cellsX, if_pos ((nn_le (by omega) (by omega)).mpr h2)]
      have e1 := hX q1 (k + 1) (by omega) (by omega) (by omega)
      rw [i1] at e1
      refine ⟨r, ?_, ?_, i3⟩
      · rw [hX (q1 + 1) k (by omega) (by omega) (by omega)]; exact e1.symm
      · rw [hM, if_pos (a3 (by omega)), if_pos (b3 (by omega)), i2]
theorem gloss_op {N : Nat} (hN : 5000 ≤ N) (h : IV A σ fo nb L C W n ρ u w κ t m o) (x y : Int32) : ∃ r A' σ' u' w' κ', X0_gloss N A x y = some (r, A') ∧ M_gloss N σ x y = some (r, σ') ∧ IV A' σ' fo nb L C W n ρ u' w' κ' t m o ∧ A'.1 = A.1 := by
  have bn := h.fr.bn
  have bL := h.fr.bL
  have bC := h.fr.bC
  obtain ⟨A', σ', r1, r2, r3, r4, r5⟩ := refuses_eq h (k := 2) (by decide)
  have r1' : X0_refuses A 2 = some (-1, A') := r1
  have r2' : M_refuses σ 2 = some (-1, σ') := r2
  have eX : X0_gloss_b25 N x y A = some (-1, A') := by
    unfold X0_gloss_b25
    rw [r1', bd_some]
  have eM : M_gloss_b18 N σ = some (-1, σ') := by
    unfold M_gloss_b18
    rw [r2', bd_some]
  obtain ⟨p, _, hp, q1, q2⟩ := isCell_eq h.fr x y
  unfold X0_gloss M_gloss
  rw [q1, q2, bo_some, bo_some, bt0, bt0]
  by_cases c : p
  · rw [if_pos c, if_pos c]
    obtain ⟨l, k, hl, hk, rfl, rfl⟩ := hp.mp c
    obtain ⟨g, hg, hgb, g1, g2⟩ := gloss_eq h.fr (x := 16) h.st (l := l) (by omega) (nn k)
    have g1x : ∀ (f : Int32 → Option (Int32 × AH)), (bo (sI 6 31 A 17 (nn l)) fun v4 => bo (X0_has v4 (nn k)) f) = f g := by
      intro f
      rw [sI_nn (by omega) (by decide), bo_some] at g1 ⊢
      rw [show (16 + 1 : Nat) = 17 from rfl] at g1
      rw [g1, bo_some]
    rw [g1x, g2, bo_some]
    by_cases hg0 : g = 0
    · rw [if_pos hg0, if_pos hg0]
      have nbit : ¬ bitOf (σ.1 56 (1 + l)) (nn k) := fun q => by
        have := hgb.mpr q
        rw [hg0] at this
        exact absurd this (by decide)
      obtain ⟨b, hb1, hb0, b1, b2⟩ := who_eq hN h.fr (x := 16) rfl h.st (nn l) (nn k)
      obtain ⟨A2, σ2, u', w', κ', k1, k2, k3, k4, k5⟩ := keeps_eq hN h
      have e56 : ∀ j, σ2.1 56 j = σ.1 56 j := fun j => k4.I j (by unfold Kk; omega)
      have eg : ∀ v, sI 6 31 A2 17 (nn l) = some (σ2.1 56 (1 + l)) ∧ tI 6 31 A2 17 (nn l) v = some (wI A2 31 17 l v) ∧ ld 2 σ2 56 (1 + nn l) = some (σ2.1 56 (1 + l)) ∧ stI 2 σ2 56 (1 + nn l) v = some (mUI σ2 56 (1 + l) v) := by
        intro v
        refine ⟨?_, tI_nn (by omega) (by decide), ?_, ?_⟩
        · rw [sI_nn (by omega) (by decide), show (17 : Nat) = 16 + 1 from rfl, k5.st.gl l (by omega)]
        · rw [show (1 : Int32) = nn 1 from rfl, nn_add, ld_nn (by rfl) (by show 1 + l < 160; omega) (by omega)]
        · rw [show (1 : Int32) = nn 1 from rfl, nn_add, stI_nn (by rfl) (by show 1 + l < 160; omega) (by omega)]
      rw [b1, b2, bo_some, bo_some]
      by_cases z : b = -1
      · rw [if_pos z, if_pos z]
        unfold X0_gloss_b60 M_gloss_b47
        rw [if_neg (by decide), if_neg (by decide), k1, k2, bd_some, bd_some, (eg 0).1, bo_some, (eg _).2.1, bo_some, if_pos z, (eg 0).2.2.1, bo_some, (eg _).2.2.2, bo_some, if_pos z]
        exact ⟨100, _, _, u', w', κ', rfl, rfl, k5.setG hl hk (fun b' hb' => by rw [e56, e56]; exact hb0 z b' hb'), k3.1⟩
      · rw [if_neg z, if_neg z]
        obtain ⟨b', hb', rfl, eb1, eb2⟩ : ∃ b', b' < nb ∧ b = nn b' ∧ σ.1 56 (7 + 4 * b') = nn l ∧ σ.1 56 (7 + 4 * b' + 1) = nn k := by
          rcases hb1 with q | q
          · exact absurd q z
          · exact q
        obtain ⟨r, n1, n2, n3⟩ := near_loop hN h hl hk 7 1 N N (by omega) (by omega) (by omega) (by omega)
        have n1' : X5_nearest N A 16 (nn l) (nn k) = some r := n1
        have n2' : M_refuge N σ (nn l) (nn k) = some r := n2
        rw [n1', n2', bo_some, bo_some]
        unfold X0_gloss_b60 M_gloss_b47
        by_cases hr : r = -1
        · rw [if_pos hr, if_pos hr, r1', r2', bd_some, bd_some]
          exact ⟨_, _, _, _, _, _, rfl, rfl, r4, r5.1⟩
        · obtain ⟨c', hc', hne, rfl, nb2, fr2⟩ := n3.resolve_left hr
          rw [if_neg hr, if_neg hr, k1, k2, bd_some, bd_some, (eg 0).1, bo_some, (eg _).2.1, bo_some, if_neg z, (eg 0).2.2.1, bo_some, (eg _).2.2.2, bo_some, if_neg z]
          -- first the being goes, then the gloss is there
          have h3 := k5.setB (b := b') (l := l) (c := c') hb' hl hc' (by rw [e56]; exact nb2) (fun b2 hb2 _ => by rw [e56, e56]; exact fr2 b2 hb2)
          have h4 := h3.setG (l := l) (c := k) hl hk (by
            intro b2 hb2
            rw [mI_UI, mI_UI, mI_UI, mI_UI]
            by_cases w2 : b2 = b'
            · rw [if_neg (by omega), if_pos ⟨rfl, by omega⟩, if_pos ⟨rfl, by omega⟩]
              intro q
              have := (nn_eq (by omega) (by omega)).mp q.2
              omega
            · rw [if_neg (by omega), if_neg (by omega), if_neg (by omega), if_neg (by omega), e56, e56]
              intro q
              exact w2 (h.st.di b2 b' hb2 hb' (q.1.trans eb1.symm) (q.2.trans eb2.symm)))
          have ix : ((7 + (4 * nn b')) + 1 : Int32) = nn (7 + 4 * b' + 1) := ix7a b' 1
          rw [tI_nn (by omega) (by decide), bo_some, ix, stI_nn (by rfl) (by show 7 + 4 * b' + 1 < 160; omega) (by omega), bo_some]
          have eA : ∀ v : Int32, wI (wI A2 31 17 l v) 31 19 b' (nn c') = wI (wI (wI A2 31 18 b' (nn l)) 31 19 b' (nn c')) 31 17 l v := by
            intro v
            have e18 : aI A2 31 18 b' = nn l := by
              rw [show (18 : Nat) = 16 + 2 from rfl, k5.st.lf b' hb', e56]; exact eb1
            show ((A2.1, A2.2.1, A2.2.2.1, up3 (up3 A2.2.2.2.1 31 17 l v) 31 19 b' (nn c'), A2.2.2.2.2.1, A2.2.2.2.2.2) : AH) = (A2.1, A2.2.1, A2.2.2.1, up3 (up3 (up3 A2.2.2.2.1 31 18 b' (nn l)) 31 19 b' (nn c')) 31 17 l v, A2.2.2.2.2.1, A2.2.2.2.2.2)
            have : up3 (up3 A2.2.2.2.1 31 17 l v) 31 19 b' (nn c') = up3 (up3 (up3 A2.2.2.2.1 31 18 b' (nn l)) 31 19 b' (nn c')) 31 17 l v := by
              funext f i j
              unfold up3
              by_cases z1 : f = 31 ∧ i = 19 ∧ j = b'
              · rw [if_pos z1, if_neg (by omega), if_pos z1]
              · rw [if_neg z1, if_neg z1]
                by_cases z2 : f = 31 ∧ i = 17 ∧ j = l
                · rw [if_pos z2, if_pos z2]
                · rw [if_neg z2, if_neg z2]
                  by_cases z3 : f = 31 ∧ i = 18 ∧ j = b'
                  · rw [if_pos z3, z3.1, z3.2.1, z3.2.2]; exact e18
                  · rw [if_neg z3]
            rw [this]
          have eS : ∀ v : Int32, mUI (mUI σ2 56 (1 + l) v) 56 (7 + 4 * b' + 1) (nn c') = mUI (mUI (mUI σ2 56 (7 + 4 * b') (nn l)) 56 (7 + 4 * b' + 1) (nn c')) 56 (1 + l) v := by
            intro v
            have e7 : σ2.1 56 (7 + 4 * b') = nn l := (e56 _).trans eb1
            refine Prod.ext ?_ rfl
            funext a j
            rw [mI_UI, mI_UI, mI_UI, mI_UI, mI_UI]
            by_cases z1 : a = 56 ∧ j = 7 + 4 * b' + 1
            · rw [if_pos z1, if_neg (by omega), if_pos z1]
            · rw [if_neg z1]
              by_cases z2 : a = 56 ∧ j = 1 + l
              · rw [if_pos z2, if_pos z2]
              · rw [if_neg z2, if_neg z2, if_neg z1]
                by_cases z3 : a = 56 ∧ j = 7 + 4 * b'
                · rw [if_pos z3, z3.1, z3.2]; exact e7
                · rw [if_neg z3]
          have e1 : (mUI (mUI σ2 56 (7 + 4 * b') (nn l)) 56 (7 + 4 * b' + 1) (nn c')).1 56 (1 + l) = σ2.1 56 (1 + l) := by rw [mI_UI, if_neg (by omega), mI_UI, if_neg (by omega)]
          rw [e1, ← eA, ← eS] at h4
          exact ⟨nn c', _, _, u', w', κ', rfl, rfl, h4, k3.1⟩
    · rw [if_neg hg0, if_neg hg0, eX, eM]
      exact ⟨_, _, _, _, _, _, rfl, rfl, r4, r5.1⟩
  · rw [if_neg c, if_neg c, eX, eM]
    exact ⟨_, _, _, _, _, _, rfl, rfl, r4, r5.1⟩
/-! days -/
theorem IV.pr (h : IV A σ fo nb L C W n ρ u w κ t m o) : PR A σ fo nb L C W 16 false n ρ (aI A 608 16 0 - σ.1 62 0) (fun b => aI A 31 63 b - σ.1 63 b) (σ.1 56) := by
  refine PR.mk h.fr h.ks h.m1 h.st h.kr (fun _ => h.kv) h.th ?_ (fun b hb => ?_) (fun z => by cases z)
  · rw [Int32.add_comm, Int32.sub_add_cancel]
  · show aI A 31 63 b = σ.1 63 b + (aI A 31 63 b - σ.1 63 b)
    rw [Int32.add_comm, Int32.sub_add_cancel]
theorem IV.ofPR {A' : AH} {σ' : mSt} {n' : Nat} {ρ' : Nat → Nat} {ε : Int32} {δ η : Nat → Int32} (h : IV A σ fo nb L C W n ρ u w κ t m o) (p : PR A' σ' fo nb L C W 16 false n' ρ' ε δ η) (c : Ch (PX 16) A A') (mm : Cm KD σ σ') (d9 : ∃ d, d ≤ 999 ∧ σ'.1 56 0 = nn d) : IV A' σ' fo nb L C W n' ρ' u w κ t m o :=
  h.now (c.mono (fun f i z => by unfold PX at z; unfold Pnow; omega)) (mm.mono (fun k z => by unfold KD at z; unfold Know; omega)) p.st d9 p.kr (p.kv rfl) p.tf
def P608 (f i : Nat) : Prop := f = 608 ∧ i = 16
theorem days_op {N : Nat} (hN : 5000 ≤ N) (h : IV A σ fo nb L C W n ρ u w κ t m o) (x : Int32) : ∃ r A' σ' n' ρ' u' w' κ', X0_days N A x = some (r, A') ∧ M_days N σ x = some (r, σ') ∧ IV A' σ' fo nb L C W n' ρ' u' w' κ' t m o ∧ A'.1 = A.1 := by
  obtain ⟨d, hd, e1, e2⟩ := h.day
  obtain ⟨p, _, hp, q1, q2⟩ := isAhead_eq h.fr (d := d) (by omega) e2 e1 x (a := 1) (b := 100) (by decide) (by decide)
  unfold X0_days M_days
  rw [show X0_isAhead A x 1 100 = _ from q1, show M_isAhead σ x 1 100 = _ from q2, bo_some, bo_some, bt0, bt0]
  by_cases c : p
  · obtain ⟨_, k, h1, h2, rfl, h3⟩ := hp.mp c
    obtain ⟨A2, σ2, u', w', κ', k1, k2, k3, k4, k5⟩ := keeps_eq hN h
    have cA : Ch P608 A2 (wI A2 608 16 0 0) := Ch.wI ⟨rfl, rfl⟩
    have mm : Cm Know σ2 (mUI σ2 62 0 0) := Cm.UI (by unfold Know; omega)
    have e56 : ∀ j, (mUI σ2 62 0 0).1 56 j = σ2.1 56 j := fun j => by rw [mI_UI, if_neg (by omega)]
    have h3' := k5.now (cA.mono (fun f i z => by unfold P608 at z; unfold Pnow; omega)) mm (k5.st.ch cA (fun g i hg h1 h2 => by unfold P608; omega) (fun j _ => e56 j) k5.fr.bn) (by rw [e56]; exact k5.d9) (k5.kr.ch cA (by unfold P608; omega) (by unfold P608; omega)) (k5.kv.ch k5.kr cA (fun i h1 h2 => by unfold P608; omega) (fun j _ _ => e56 j)) (by rw [mI_UI, if_neg (by omega)]; exact k5.th)
    have ed : (mUI σ2 62 0 0).1 56 0 = nn d := by rw [e56, k4.I 0 (by unfold Kk; omega)]; exact e1
    obtain ⟨A5, σ4, n', ρ', d1, d2, d3, d4, d5, d6⟩ := days_eq hN (x := 16) rfl h3'.pr (k := k) (d := d) (by omega) (by omega) ed
    have z0 : (aI (wI A2 608 16 0 0) 608 16 0 - (mUI σ2 62 0 0).1 62 0 : Int32) = 0 := by
      rw [aI_wI, if_pos ⟨rfl, rfl, rfl⟩, mI_UI, if_pos ⟨rfl, rfl⟩]; rfl
    have epa := d5.pa
    rw [z0, Int32.add_zero] at epa
    rw [if_pos c, if_pos c, k1, k2, bd_some, bd_some, lt2_eq, lt2_eq, d1, d2, bd_some, bd_some, bo_some, gI_k (d5.ks.six rfl), bo_some, epa]
    exact ⟨_, _, _, n', ρ', u', w', κ', rfl, rfl, h3'.ofPR d5 d3 d4 ⟨d + k, h3, d6⟩, d3.1.trans k3.1⟩
  · obtain ⟨A', σ', r1, r2, r3, r4, r5⟩ := refuses_eq h (k := 3) (by decide)
    have r1' : X0_refuses A 3 = some (-1, A') := r1
    have r2' : M_refuses σ 3 = some (-1, σ') := r2
    rw [if_neg c, if_neg c, r1', r2', bd_some, bd_some]
    exact ⟨_, _, _, _, _, _, _, _, rfl, rfl, r4, r5.1⟩
theorem day1 {N : Nat} (hN : 5000 ≤ N) {σ σ' : mSt} (h : M_daysGo N σ 1 = some ((), σ')) (kk : mSt → Int32 → Int32 → Int32 → Option (Int32 × mSt)) (x1 x2 x3 : Int32) : M_chance_b78 N kk σ x1 x2 x3 = kk σ' x1 x2 (x3 + 1) := by
  obtain ⟨q, hq⟩ : ∃ q, N = q + 2 := ⟨N - 2, by omega⟩
  have h' : M_daysGo_b2 N (rn3 (M_daysGo_b2 N) (q + 1)) σ 1 0 = some ((), σ') := by
    have e : M_daysGo N σ 1 = rn3 (M_daysGo_b2 N) N σ 1 0 := rfl
    rw [e] at h
    generalize M_daysGo_b2 N = f at h ⊢
    rw [hq] at h
    exact h
  have last : ∀ τ, rn3 (M_daysGo_b2 N) (q + 1) τ 1 (0 + 1) = some ((), τ) := by
    intro τ
    show M_daysGo_b2 N (rn3 (M_daysGo_b2 N) q) τ 1 (0 + 1) = _
    generalize rn3 (M_daysGo_b2 N) q = kk
    unfold M_daysGo_b2
    rw [if_pos (by decide)]
  generalize rn3 (M_daysGo_b2 N) (q + 1) = kq at h' last
  unfold M_daysGo_b2 at h'
  rw [if_neg (by decide)] at h'
  unfold M_chance_b78
  cases hl : ld 2 σ 56 0 with
  | none => rw [hl] at h'; cases h'
  | some v =>
    rw [hl, bo_some] at h'
    rw [bo_some]
    cases ho : M_openingOn N σ v with
    | none => rw [ho] at h'; cases h'
    | some y =>
      obtain ⟨y1, y2⟩ := y
      rw [ho, bd_some] at h'
      rw [bd_some]
      cases hd : M_dayBy N y2 y1 with
      | none => rw [hd] at h'; cases h'
      | some y3 =>
        obtain ⟨y4, y5⟩ := y3
        rw [hd, bd_some, last] at h'
        rw [bd_some]
        cases h'
        rfl
theorem IV.purse (h : IV A σ fo nb L C W n ρ u w κ t m o) {b p : Nat} (hb : b < nb) (hp : p ≤ 9999) : IV (wI A 31 20 b (nn p)) (mUI σ 56 (7 + 4 * b + 2) (nn p)) fo nb L C W n ρ u w κ t m o := by
  have bn := h.fr.bn
  have c : Ch (PX 16) A (wI A 31 20 b (nn p)) := Ch.wI (Or.inl (by omega))
  have mm : Cm KD σ (mUI σ 56 (7 + 4 * b + 2) (nn p)) := Cm.UI (by unfold KD; omega)
  have e2 : ∀ j, (mUI σ 56 (7 + 4 * b + 2) (nn p)).1 56 j = if j = 7 + 4 * b + 2 then nn p else σ.1 56 j := fun j => by
    rw [mI_UI]
    by_cases z : j = 7 + 4 * b + 2
    · rw [if_pos ⟨rfl, z⟩, if_pos z]
    · rw [if_neg (fun q => z q.2), if_neg z]
  have s := h.st
  have e3 : ∀ k j, k ≠ 56 → (mUI σ 56 (7 + 4 * b + 2) (nn p)).1 k j = σ.1 k j := fun k j z => by rw [mI_UI, if_neg (by omega)]
  generalize mUI σ 56 (7 + 4 * b + 2) (nn p) = σ' at mm e2 e3 ⊢
  have := PR.upd (σ' := σ') rfl h.pr c mm (fun f i j z => by rw [aI_wI, if_neg (by omega)]) (fun f i j => by rw [aR_wI]) (e3 62 0 (by omega)) (fun j => e3 63 j (by omega)) (fun j hj => by rw [e2, if_neg (hj b hb).2]) (fun k hk => by rw [aI_wI, if_neg (by omega), e2, if_neg (by omega)]; exact s.ce k hk) (fun k hk => by rw [e2, if_neg (by omega)]; exact s.ceb k hk) (fun k hk => by
      rw [aI_wI, e2]
      by_cases z : k = b
      · rw [if_pos ⟨rfl, rfl, z⟩, if_pos (by omega)]
      · rw [if_neg (fun q => z q.2.2), if_neg (by omega)]; exact s.pu k hk) (fun k hk => by
      rw [e2]
      by_cases z : k = b
      · rw [if_pos (by omega)]; exact ⟨p, hp, rfl⟩
      · rw [if_neg (by omega)]; exact s.pub k hk) (fun k l' hk hl6 hl' => by
      rw [e2, if_neg (by omega)] at hl'
      rw [e2, if_neg (by omega), e2, if_neg (by omega)]
      exact s.og k l' hk hl6 hl') (fun a' b' ha' hb' y1 y2 => by rw [e2, e2, if_neg (by omega), if_neg (by omega)] at y1 y2; exact s.di a' b' ha' hb' y1 y2)
  exact h.ofPR this c mm (by rw [e2, if_neg (by omega)]; exact h.d9)
theorem chance_loop {N : Nat} (hN : 5000 ≤ N) {k : Nat} (hk : k ≤ 1000) : ∀ (j i q1 q2 : Nat) (s : Int32) (d n : Nat) (ρ : Nat → Nat) (A : AH) (σ : mSt), i + j = k → j < q1 → j < q2 → d + j ≤ 999 → σ.1 56 0 = nn d → IV A σ fo nb L C W n ρ u w κ t m o →
    ∃ r A' σ' n' ρ', rn3 (X0_chance_b25 N (nn k)) q1 A s (nn i) = some (r, A') ∧ rn4 (M_chance_b25 N) q2 σ (nn k) s (nn i) = some (r, σ') ∧ IV A' σ' fo nb L C W n' ρ' u w κ t m o ∧ A'.1 = A.1 := by
  intro j
  induction j with
  | zero =>
    intro i q1 q2 s d n ρ A σ hi h1 h2 hd ed h
    obtain ⟨q1, rfl⟩ : ∃ z, q1 = z + 1 := ⟨q1 - 1, by omega⟩
    obtain ⟨q2, rfl⟩ : ∃ z, q2 = z + 1 := ⟨q2 - 1, by omega⟩
    refine ⟨s, A, σ, n, ρ, ?_, ?_, h, rfl⟩
    · show X0_chance_b25 N (nn k) _ A s (nn i) = _
      unfold X0_chance_b25
      rw [if_pos ((nn_le (by omega) (by omega)).mpr (by omega))]
    · show M_chance_b25 N _ σ (nn k) s (nn i) = _
      unfold M_chance_b25
      rw [if_pos ((nn_le (by omega) (by omega)).mpr (by omega))]
  | succ j ih =>
    intro i q1 q2 s d n ρ A σ hi h1 h2 hd ed h
    have bn := h.fr.bn
    obtain ⟨q1, rfl⟩ : ∃ z, q1 = z + 1 := ⟨q1 - 1, by omega⟩
    obtain ⟨q2, rfl⟩ : ∃ z, q2 = z + 1 := ⟨q2 - 1, by omega⟩
    obtain ⟨v, A4, σ4, hv, v1, v2, v3, v4, v5⟩ := draw_eq h (k := 100) (by decide) (by decide)
    have v1' : X0_draw A 100 = some (nn v, A4) := v1
    have v2' : M_drawOf σ 100 = some (nn v, σ4) := v2
    -- whether a thumb comes; the day behind it
    have tail : ∀ (A6 : AH) (σ6 : mSt) (s' : Int32), IV A6 σ6 fo nb L C W n ρ u w κ t m o → A6.1 = A.1 → σ6.1 56 0 = nn d → ∃ r A' σ' n' ρ', X0_chance_b76 N (nn k) (rn3 (X0_chance_b25 N (nn k)) q1) A6 s' (nn i) = some (r, A') ∧ M_chance_b78 N (rn4 (M_chance_b25 N) q2) σ6 (nn k) s' (nn i) = some (r, σ') ∧ IV A' σ' fo nb L C W n' ρ' u w κ t m o ∧ A'.1 = A.1 := by
      intro A6 σ6 s' h6 c6 e6
      obtain ⟨A7, σ7, n7, ρ7, d1, d2, d3, d4, d5, d6⟩ := days_eq hN (x := 16) rfl h6.pr (k := 1) (d := d) (by omega) (by omega) e6
      have h7 := h6.ofPR d5 d3 d4 ⟨d + 1, by omega, d6⟩
      obtain ⟨r, A', σ', n', ρ', i1, i2, i3, i4⟩ := ih (i + 1) q1 q2 s' (d + 1) n7 ρ7 A7 σ7 (by omega) (by omega) (by omega) (by omega) d6 h7
      have d1' : X5_days N A6 16 1 = some (some 16, A7) := d1
      refine ⟨r, A', σ', n', ρ', ?_, ?_, i3, i4.trans (d3.1.trans c6)⟩
      · rw [← i1]
        unfold X0_chance_b76
        rw [d1', bd_some, bo_some, nn_succ]
      · rw [← i2, day1 hN d2, nn_succ]
    have e4 : σ4.1 56 0 = nn d := (v5.I 0 (by unfold K71; omega)).trans ed
    show ∃ r A' σ' n' ρ', X0_chance_b25 N (nn k) (rn3 (X0_chance_b25 N (nn k)) q1) A s (nn i) = some (r, A') ∧ M_chance_b25 N (rn4 (M_chance_b25 N) q2) σ (nn k) s (nn i) = some (r, σ') ∧ IV A' σ' fo nb L C W n' ρ' u w κ t m o ∧ A'.1 = A.1
    clear ih
    generalize rn3 (X0_chance_b25 N (nn k)) q1 = kX at tail ⊢
    generalize rn4 (M_chance_b25 N) q2 = kM at tail ⊢
    unfold X0_chance_b25 M_chance_b25
    rw [if_neg (fun q => by have := (nn_le (by omega) (by omega)).mp q; omega), if_neg (fun q => by have := (nn_le (by omega) (by omega)).mp q; omega), v1', v2', bd_some, bd_some, v3.fr.fo, bo_some, gI_k v3.fr.fk, bo_some, v3.fr.th]
    by_cases z : σ4.1 48 0 ≤ nn v
    · rw [if_pos z, if_pos z]
      exact tail A4 σ4 s v3 v4.1 e4
    · rw [if_neg z, if_neg z]
      simp only [v3.fr.beings, v3.fr.beingMany, bo_some]
      by_cases zb : nb = 0
      · rw [if_pos (by rw [zb]; decide), if_pos (by rw [zb]; decide)]
        exact tail A4 σ4 s v3 v4.1 e4
      · have nz : ¬ nn nb ≤ 0 := by rw [show (0 : Int32) = nn 0 from rfl, nn_le (by omega) (by omega)]; omega
        obtain ⟨b, A5, σ5, hb, w1, w2, w3, w4, w5⟩ := draw_eq v3 (k := nb) (by omega) (by omega)
        obtain ⟨p, hp, ep⟩ := w3.st.pub b hb
        have dv : nn p / 2 = nn (p / 2) := nn_div (by omega) (by decide)
        rw [if_neg nz, if_neg nz, w1, w2, bd_some, bd_some, sI_nn (by omega) (by decide), bo_some, show (20 : Nat) = 16 + 4 from rfl, w3.st.pu b hb, ep, dv, tI_nn (by omega) (by decide), bo_some, m_purseOf σ5 (by omega), bo_some, ep, dv, nn_64 (by omega), m_purseIs σ5 (by omega) (by omega), bd_some, show min 9999 (p / 2) = p / 2 by omega]
        refine tail _ _ (s + 1) (w3.purse hb (by omega)) (w4.1.trans v4.1) ?_
        rw [mI_UI, if_neg (by omega), w5.I 0 (by unfold K71; omega)]; exact e4
theorem chance_op {N : Nat} (hN : 5000 ≤ N) (h : IV A σ fo nb L C W n ρ u w κ t m o) (x : Int32) : ∃ r A' σ' n' ρ' u' w' κ', X0_chance N A x = some (r, A') ∧ M_chance N σ x = some (r, σ') ∧ IV A' σ' fo nb L C W n' ρ' u' w' κ' t m o ∧ A'.1 = A.1 := by
  obtain ⟨d, hd, e1, e2⟩ := h.day
  obtain ⟨p, _, hp, q1, q2⟩ := isAhead_eq h.fr (d := d) (by omega) e2 e1 x (a := 1) (b := 100) (by decide) (by decide)
  unfold X0_chance M_chance
  rw [show X0_isAhead A x 1 100 = _ from q1, show M_isAhead σ x 1 100 = _ from q2, bo_some, bo_some, bt0, bt0]
  by_cases c : p
  · obtain ⟨_, k, h1, h2, rfl, h3⟩ := hp.mp c
    obtain ⟨A2, σ2, u', w', κ', k1, k2, k3, k4, k5⟩ := keeps_eq hN h
    obtain ⟨r, A', σ', n', ρ', i1, i2, i3, i4⟩ := chance_loop hN (k := k) (by omega) k 0 N N 0 d n ρ A2 σ2 (by omega) (by omega) (by omega) (by omega) ((k4.I 0 (by unfold Kk; omega)).trans e1) k5
    have i1' : rn3 (X0_chance_b25 N (nn k)) N A2 0 0 = some (r, A') := i1
    have i2' : rn4 (M_chance_b25 N) N σ2 (nn k) 0 0 = some (r, σ') := i2
    rw [if_pos c, if_pos c, k1, k2, bd_some, bd_some, i1', i2']
    exact ⟨r, A', σ', n', ρ', u', w', κ', rfl, rfl, i3, i4.trans k3.1⟩
  · obtain ⟨A', σ', r1, r2, r3, r4, r5⟩ := refuses_eq h (k := 3) (by decide)
    have r1' : X0_refuses A 3 = some (-1, A') := r1
    have r2' : M_refuses σ 3 = some (-1, σ') := r2
    rw [if_neg c, if_neg c, r1', r2', bd_some, bd_some]
    exact ⟨_, _, _, _, _, _, _, _, rfl, rfl, r4, r5.1⟩
end AC2
