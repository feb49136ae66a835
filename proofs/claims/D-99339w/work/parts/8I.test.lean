/-! PURE LEVEL: tests, at the reference: one turn -/
set_option maxRecDepth 100000
def isTw (c : Int32) : Prop := c = 10 ∨ c = 11 ∨ c = 12 ∨ c = 25
def is12 (c : Int32) : Prop := c = 12
def is10 (c : Int32) : Prop := c = 10
def isAO (c : Int32) : Prop := c = 10 ∨ c = 11
/-- behind qGoesOnTest -/
noncomputable def tRs (N x : Nat) (r8 : Int32) (σ9 : mSt) : Option (Unit × mSt) := if r8 = 0 then (M_qTest_b105 N (rn2 (M_qTest_b2 N) x) σ9) else (M_qTest_b106 N (rn2 (M_qTest_b2 N) x) σ9 1)
noncomputable def tG (N x y : Nat) (σ : mSt) : Option (Unit × mSt) := bd (rn1 (M_qGoesOnTest_b0 N) y σ) (tRs N x)
noncomputable def tK (N x : Nat) (σ7 : mSt) : Option (Unit × mSt) := if (σ7.1 5 0) = 0 then (bd (M_qGoesOnTest N σ7) (tRs N x)) else (M_qTest_b105 N (rn2 (M_qTest_b2 N) x) σ7)
noncomputable def tD (N : Nat) (k : mSt → Option (Unit × mSt)) (y : Nat) (σ : mSt) : Option (Unit × mSt) := bd (rn1 (M_qDropsNots_b0 N) y σ) fun _ σ7 => k σ7
noncomputable def tE (N x : Nat) (σ : mSt) : Option (Unit × mSt) := rn2 (M_qTest_b2 N) x σ 1
section
variable {N : Nat} {σ σ' : mSt} {B : Nat → Nat} {n p p' : Nat} {q : Bool} {μ : Nat} {K W K' W' T : List Int32} {o base o' base' sl : Nat} {e : Nat × Nat}
theorem tw_nop {c : Int32} (h : isTw c) : ¬ isOp c := by
  unfold isOp
  rcases h with rfl | rfl | rfl | rfl <;> decide
theorem tw_top (h : ∀ c ∈ W, isTw c) : Top isOp W := by
  rcases List.eq_nil_or_concat W with z | ⟨W1, b, z⟩
  · exact Or.inl z
  · rw [List.concat_eq_append] at z
    exact Or.inr ⟨W1, b, z, tw_nop (h b (by rw [z]; simp))⟩
theorem sq_loop (h : QS σ K W o base) : ∀ (L : List Int32) (k z : Nat), W.drop k = L → k ≤ W.length → L.length < z → (25 ∈ L → rn1 (M_qHasSquare_b2 N σ) z (nn k) = some 1) ∧ (25 ∉ L → rn1 (M_qHasSquare_b2 N σ) z (nn k) = some 0) := by
  have bl := h.bl
  intro L
  induction L with
  | nil =>
    intro k z hd hk hz
    obtain ⟨z, rfl⟩ : ∃ m, z = m + 1 := ⟨z - 1, by omega⟩
    have hl : W.length ≤ k := List.drop_eq_nil_iff.mp hd
    refine ⟨fun w => (by cases w), fun _ => ?_⟩
    show M_qHasSquare_b2 N σ _ (nn k) = _
    unfold M_qHasSquare_b2
    rw [h.wn, if_pos ((nn_le (by omega) (by omega)).mpr hl)]
  | cons c L ih =>
    intro k z hd hk hz
    obtain ⟨z, rfl⟩ : ∃ m, z = m + 1 := ⟨z - 1, by omega⟩
    have hlt : k < W.length := by
      rcases Nat.lt_or_ge k W.length with y | y
      · exact y
      · rw [List.drop_eq_nil_iff.mpr y] at hd; cases hd
    have hc : W[k]? = some c := by
      have : (W.drop k)[0]? = some c := by rw [hd]; rfl
      rw [List.getElem?_drop] at this
      simpa using this
    have hd2 : W.drop (k + 1) = L := by
      have : (W.drop k).drop 1 = L := by rw [hd]; rfl
      rw [List.drop_drop] at this
      exact this
    obtain ⟨i1, i2⟩ := ih (k + 1) z hd2 (by omega) (by simp at hz; omega)
    have e1 : rn1 (M_qHasSquare_b2 N σ) (z + 1) (nn k) = if c = 25 then some 1 else rn1 (M_qHasSquare_b2 N σ) z (nn (k + 1)) := by
      show M_qHasSquare_b2 N σ (rn1 (M_qHasSquare_b2 N σ) z) (nn k) = _
      generalize rn1 (M_qHasSquare_b2 N σ) z = kk
      unfold M_qHasSquare_b2
      rw [h.wn, if_neg (fun w => by have := (nn_le (by omega) (by omega)).mp w; omega), ld_nn (by rfl) (by show k < 1700; omega) (by omega), bo_some, h.ws k c hc, nn_succ]
    rw [e1]
    by_cases c5 : c = 25
    · rw [if_pos c5]
      exact ⟨fun _ => rfl, fun w => absurd (by rw [c5]; simp) w⟩
    · rw [if_neg c5]
      refine ⟨fun w => i1 ?_, fun w => i2 (fun y => w (by simp [y]))⟩
      rcases List.mem_cons.mp w with y | y
      · exact absurd y.symm c5
      · exact y
theorem hasSq (hN : 5000 ≤ N) (h : QS σ K W o base) : (25 ∈ W → M_qHasSquare N σ = some 1) ∧ (25 ∉ W → M_qHasSquare N σ = some 0) := by
  have bl := h.bl
  exact sq_loop (N := N) h W 0 N rfl (Nat.zero_le _) (by omega)
theorem nots_stop {z : Nat} (hb : σ.1 5 0 = 0) (h : QS σ K W o base) (hW : Top is12 W) : rn1 (M_qDropsNots_b0 N) (z + 1) σ = some ((), σ) := by
  show M_qDropsNots_b0 N _ σ = _
  unfold M_qDropsNots_b0
  rw [if_pos hb, isOn_top h hW rfl, bo_some, if_pos rfl]
theorem nots_bad {z : Nat} (h : RF σ e) : rn1 (M_qDropsNots_b0 N) (z + 1) σ = some ((), σ) := by
  show M_qDropsNots_b0 N _ σ = _
  unfold M_qDropsNots_b0
  rw [if_neg h.ne]
theorem nots_pop {z : Nat} (hb : σ.1 5 0 = 0) (h : QS σ K (W ++ [12]) (o + 1) base) (hW : base ≤ W.length) : ∃ σ', rn1 (M_qDropsNots_b0 N) (z + 1) σ = rn1 (M_qDropsNots_b0 N) z σ' ∧ Cm Kw σ σ' ∧ QS σ' (K ++ [12]) W o base := by
  have ob := h.ob
  have h1 : QS (mUI σ 98 0 (nn o)) K (W ++ [12]) o base := by
    refine QS.mk ?_ (fun i v hi => ?_) ?_ (fun i v hi => ?_) ?_ ?_ h.bl h.bb (by omega)
    · rw [mI_UI, if_neg (by decide)]; exact h.cn
    · rw [mI_UI, if_neg (by omega)]; exact h.cs i v hi
    · rw [mI_UI, if_neg (by decide)]; exact h.wn
    · rw [mI_UI, if_neg (by omega)]; exact h.ws i v hi
    · rw [mI_UI, if_pos ⟨rfl, rfl⟩]
    · rw [mI_UI, if_neg (by decide)]; exact h.bs
  obtain ⟨σ', y1, y2, y3⟩ := qDrops_eq h1 hW
  refine ⟨σ', ?_, (Cm.UI ⟨by decide, by decide⟩).trans y2, y3⟩
  show M_qDropsNots_b0 N (rn1 (M_qDropsNots_b0 N) z) σ = _
  generalize rn1 (M_qDropsNots_b0 N) z = kk
  unfold M_qDropsNots_b0
  rw [if_pos hb, show M_qIsOn σ 12 = some 1 by rw [qIsOn_eq h]; rfl, bo_some, if_neg (by decide), lt2_eq, h.op, show (1 : Int32) = nn 1 from rfl, nn_sub (by omega), show o + 1 - 1 = o by omega, y1, bd_some]
theorem tK_good {x : Nat} (h : σ.1 5 0 = 0) : tK N x σ = tG N x N σ := by
  unfold tK tG M_qGoesOnTest
  rw [if_pos h]
theorem t_zero {x : Nat} : M_qTest_b105 N (rn2 (M_qTest_b2 N) (x + 1)) σ = rn1 (M_qTest_b110 N) N σ := by
  unfold M_qTest_b105 M_qTest_b106
  show M_qTest_b2 N (rn2 (M_qTest_b2 N) x) σ 0 = _
  generalize rn2 (M_qTest_b2 N) x = kk
  unfold M_qTest_b2
  rw [if_pos rfl]
theorem b110_bad (hN : 1 ≤ N) (h : RF σ e) : rn1 (M_qTest_b110 N) N σ = some ((), σ) := by
  obtain ⟨M, hM⟩ : ∃ m, N = m + 1 := ⟨N - 1, by omega⟩
  rw [show rn1 (M_qTest_b110 N) N σ = rn1 (M_qTest_b110 N) (M + 1) σ by rw [← hM]]
  show M_qTest_b110 N _ σ = _
  unfold M_qTest_b110
  rw [if_neg h.ne]
theorem tK_bad {x : Nat} (hN : 1 ≤ N) (hx : 1 ≤ x) (h : RF σ e) : tK N x σ = some ((), σ) := by
  obtain ⟨x, rfl⟩ : ∃ m, x = m + 1 := ⟨x - 1, by omega⟩
  unfold tK
  rw [if_neg h.ne, t_zero, b110_bad hN h]
theorem tD_bad {x : Nat} (hN : 1 ≤ N) (hx : 1 ≤ x) (h : RF σ e) : tD N (tK N x) N σ = some ((), σ) := by
  obtain ⟨M, hM⟩ : ∃ m, N = m + 1 := ⟨N - 1, by omega⟩
  unfold tD
  have e5 : rn1 (M_qDropsNots_b0 N) N σ = some ((), σ) := by
    rw [show rn1 (M_qDropsNots_b0 N) N σ = rn1 (M_qDropsNots_b0 N) (M + 1) σ by rw [← hM]]
    exact nots_bad h
  rw [e5, bd_some, tK_bad hN hx h]
theorem tE_bad {x : Nat} (hN : 1 ≤ N) (hx : 1 ≤ x) (h : RF σ e) : tE N x σ = some ((), σ) := by
  obtain ⟨x, rfl⟩ : ∃ m, x = m + 1 := ⟨x - 1, by omega⟩
  unfold tE
  show M_qTest_b2 N (rn2 (M_qTest_b2 N) x) σ 1 = _
  unfold M_qTest_b2
  rw [if_neg (by decide), if_neg h.ne, b110_bad hN h]
/-- at the end all that waits is told -/
theorem d110 : ∀ (R K : List Int32) (z : Nat) (σ : mSt), R.length < z → σ.1 5 0 = 0 → QS σ K R.reverse o 0 → ∃ σ', rn1 (M_qTest_b110 N) z σ = some ((), σ') ∧ Cm Kw σ σ' ∧ QS σ' (K ++ R) [] o 0 := by
  intro R
  induction R with
  | nil =>
    intro K z σ hz h0 h
    obtain ⟨z, rfl⟩ : ∃ m, z = m + 1 := ⟨z - 1, by omega⟩
    refine ⟨σ, ?_, Cm.refl σ, by rw [List.append_nil]; exact h⟩
    show M_qTest_b110 N _ σ = _
    unfold M_qTest_b110
    rw [if_pos h0, h.wn, if_pos (by decide)]
  | cons c R ih =>
    intro K z σ hz h0 h
    obtain ⟨z, rfl⟩ : ∃ m, z = m + 1 := ⟨z - 1, by omega⟩
    rw [List.reverse_cons] at h
    have bl := h.bl
    have wn := h.wn
    rw [List.length_append, List.length_singleton] at bl wn
    obtain ⟨σ1, y1, y2, y3⟩ := qDrops_eq h (Nat.zero_le _)
    obtain ⟨σ2, w1, w2, w3⟩ := ih (K ++ [c]) z σ1 (by simp at hz; omega) (by rw [y2.I _ (by unfold Kw; omega)]; exact h0) y3
    refine ⟨σ2, ?_, y2.trans w2, by rw [List.append_assoc] at w3; exact w3⟩
    show M_qTest_b110 N (rn1 (M_qTest_b110 N) z) σ = _
    generalize rn1 (M_qTest_b110 N) z = kk at w1 ⊢
    unfold M_qTest_b110
    rw [if_pos h0, wn, if_neg (fun w : nn (R.reverse.length + 1) ≤ (0 : Int32) => by have := (nn_le (b := 0) (by omega) (by omega)).mp w; omega), y1, bd_some, w1]
theorem isH_cg {j : Nat} (h : sk B n p = sk B n p') : isH B n j p ↔ isH B n j p' := by
  unfold isH wE
  rw [h]
/-- the words and, or -/
theorem GT_look (hN : 5000 ≤ N) (s : SQ σ B n p q μ K W o base sl) : ∃ σ1, Cm Kq σ σ1 ∧ SQ σ1 B n (sk B n p) q μ K W o base sl ∧ (B (sk B n p) ≠ 93 ∨ 25 ∉ W → ∀ kk, M_qGoesOnTest_b0 N kk σ = M_qGoesOnTest_b76 N σ1) ∧ (B (sk B n p) = 93 → 25 ∈ W → ∀ kk, M_qGoesOnTest_b0 N kk σ = rn1 (M_qGoesOnTest_b33 N kk) N (mUI σ1 2 0 ((σ1.1 2 0) + 1))) := by
  obtain ⟨σ1, h1, c1, r1⟩ := look_eq hN s.rm
  have hle := s.rm.bk.le (sk B n p)
  have s1 := s.rd c1 r1 (sk_ge B n p)
  refine ⟨σ1, c1.lq, s1, fun z kk => ?_, fun z w kk => ?_⟩
  · unfold M_qGoesOnTest_b0
    rw [if_pos s.rm.bad, h1, bd_some]
    by_cases y : B (sk B n p) = 93
    · rw [if_pos (show bv (B (sk B n p)) = (93 : Int32) by rw [y]; rfl), (hasSq hN s1.qs).2 (z.elim (fun z => absurd y z) id), bo_some, if_pos rfl]
    · rw [if_neg (fun w : bv (B (sk B n p)) = (93 : Int32) => y ((bv_eq hle (by decide)).mp w))]
  · unfold M_qGoesOnTest_b0
    rw [if_pos s.rm.bad, h1, bd_some, if_pos (show bv (B (sk B n p)) = (93 : Int32) by rw [z]; rfl), (hasSq hN s1.qs).1 w, bo_some, if_neg (by decide), lt2_eq]
theorem d33 : ∀ (R K : List Int32) (z : Nat) (σ : mSt), R.length < z → (∀ c ∈ R, isAO c) → QS σ K (W ++ [25] ++ R.reverse) (o + 1) 0 → ∃ σ', (∀ kk : mSt → Option (Int32 × mSt), rn1 (M_qGoesOnTest_b33 N kk) z σ = (bd (M_qDropsNots N σ') fun _ σ23 => kk σ23)) ∧ Cm Kw σ σ' ∧ QS σ' (K ++ R) W o 0 := by
  intro R
  induction R with
  | nil =>
    intro K z σ hz hR h
    obtain ⟨z, rfl⟩ : ∃ m, z = m + 1 := ⟨z - 1, by omega⟩
    rw [List.reverse_nil, List.append_nil] at h
    obtain ⟨σ', p1, p2, p3, p4⟩ := h.pop (Nat.zero_le _)
    refine ⟨σ', fun kk => ?_, p3, by rw [List.append_nil]; exact p4⟩
    show M_qGoesOnTest_b33 N kk _ σ = _
    unfold M_qGoesOnTest_b33
    rw [show M_qIsOn σ 25 = some 1 by rw [qIsOn_eq h]; rfl, bo_some, if_neg (by decide), lt2_eq, lt2_eq, p1]
  | cons c R ih =>
    intro K z σ hz hR h
    obtain ⟨z, rfl⟩ : ∃ m, z = m + 1 := ⟨z - 1, by omega⟩
    rw [List.reverse_cons, ← List.append_assoc] at h
    obtain ⟨σ1, y1, y2, y3⟩ := qDrops_eq h (Nat.zero_le _)
    obtain ⟨σ2, w1, w2, w3⟩ := ih (K ++ [c]) z σ1 (by simp at hz; omega) (fun d hd => hR d (by simp [hd])) y3
    refine ⟨σ2, fun kk => ?_, y2.trans w2, by rw [List.append_assoc] at w3; exact w3⟩
    have w1 := w1 kk
    show M_qGoesOnTest_b33 N kk (rn1 (M_qGoesOnTest_b33 N kk) z) σ = _
    generalize rn1 (M_qGoesOnTest_b33 N kk) z = k2 at w1 ⊢
    have hc : M_qIsOn σ 25 = some 0 := by
      rw [qIsOn_eq h]
      rcases hR c (by simp) with rfl | rfl <;> rfl
    unfold M_qGoesOnTest_b33
    rw [hc, bo_some, if_pos rfl, y1, bd_some, w1]
theorem GT_close (hN : 5000 ≤ N) (s : SQ σ B n p q μ K (W ++ [25] ++ T) (o + 1) 0 sl) (hT : ∀ c ∈ T, isAO c) (h : B (sk B n p) = 93) : ∃ σ', (∀ x y, tG N x (y + 1) σ = tD N (tG N x y) N σ') ∧ Cm Kq σ σ' ∧ SQ σ' B n (sk B n p + 1) q μ (K ++ T.reverse) W o 0 sl := by
  have hB := s.rm.bk
  obtain ⟨σ1, c1, s1, _, e1⟩ := GT_look hN s
  have e1 := e1 h (by simp)
  have hl := s1.le
  have nb := s1.nb
  simp only [List.length_append, List.length_singleton] at hl
  obtain ⟨s2, c2⟩ := s1.step (Cm.refl _) s1.qs (sk_lt hB s.rm.pn h (by decide)) (by rw [h]; unfold LD; decide) (by simp only [List.length_append, List.length_singleton]; omega)
  generalize hs2 : mUI σ1 2 0 (σ1.1 2 0 + 1) = σ2 at s2 c2 e1
  obtain ⟨σ3, d1, d2, d3⟩ := d33 (N := N) T.reverse K N σ2 (by rw [List.length_reverse]; omega) (fun c hc => hT c (by simpa using hc)) (by rw [List.reverse_reverse]; exact s2.qs)
  refine ⟨σ3, fun x y => ?_, c1.trans (c2.trans d2.wq), s2.ws d2 d3 (by simp only [List.length_append, List.length_reverse]; omega)⟩
  unfold tG
  show bd (M_qGoesOnTest_b0 N (rn1 (M_qGoesOnTest_b0 N) y) σ) _ = _
  rw [e1, d1, bd_bd]
  rfl
/-- 'and' is pushed -/
theorem and_drop (h : QS σ K (W ++ T) o 0) (hT : T = [] ∨ T = [10]) (hW : Top is10 W) (hl : K.length + (W ++ T).length < 1650) {z : Nat} (hz : 2 ≤ z) : ∃ σ', rn1 (M_qGoesOnTest_b87 N) z σ = some (1, σ') ∧ Cm Kw σ σ' ∧ QS σ' (K ++ T) (W ++ [10]) o 0 := by
  obtain ⟨z, rfl⟩ : ∃ m, z = m + 2 := ⟨z - 2, by omega⟩
  rw [List.length_append] at hl
  have push : ∀ (kk : mSt → Option (Int32 × mSt)) (σ : mSt) (K : List Int32), QS σ K W o 0 → K.length + W.length < 1650 → ∃ σ', M_qGoesOnTest_b87 N kk σ = some (1, σ') ∧ Cm Kw σ σ' ∧ QS σ' K (W ++ [10]) o 0 := by
    intro kk σ K h hl
    obtain ⟨σ', y1, y2, y3⟩ := qPush2 h hl 10
    refine ⟨σ', ?_, y2, y3⟩
    unfold M_qGoesOnTest_b87
    rw [isOn_top h hW rfl, bo_some, if_pos rfl, y1]
  rcases hT with rfl | rfl
  · rw [List.append_nil] at h ⊢
    exact push _ σ K h (by simp at hl; omega)
  · obtain ⟨σ1, y1, y2, y3⟩ := qDrops_eq h (Nat.zero_le _)
    obtain ⟨σ2, w1, w2, w3⟩ := push (rn1 (M_qGoesOnTest_b87 N) z) σ1 (K ++ [10]) y3 (by rw [List.length_append]; simp at hl ⊢; omega)
    refine ⟨σ2, ?_, y2.trans w2, w3⟩
    show M_qGoesOnTest_b87 N (M_qGoesOnTest_b87 N (rn1 (M_qGoesOnTest_b87 N) z)) σ = _
    generalize M_qGoesOnTest_b87 N (rn1 (M_qGoesOnTest_b87 N) z) = kk at w1 ⊢
    unfold M_qGoesOnTest_b87
    rw [show M_qIsOn σ 10 = some 1 by rw [qIsOn_eq h]; rfl, bo_some, if_neg (by decide), y1, bd_some, w1]
/-- 'or' is pushed -/
theorem or_drop (hW : Top isAO W) : ∀ (R K : List Int32) (z : Nat) (σ : mSt), R.length < z → (∀ d ∈ R, isAO d) → QS σ K (W ++ R.reverse) o 0 → K.length + W.length + R.length < 1650 → ∃ σ', rn1 (M_qGoesOnTest_b137 N) z σ = some (1, σ') ∧ Cm Kw σ σ' ∧ QS σ' (K ++ R) (W ++ [11]) o 0 := by
  intro R
  induction R with
  | nil =>
    intro K z σ hz hR h hl
    obtain ⟨z, rfl⟩ : ∃ m, z = m + 1 := ⟨z - 1, by omega⟩
    rw [List.reverse_nil, List.append_nil] at h
    obtain ⟨σ', y1, y2, y3⟩ := qPush2 h (by simp at hl; omega) 11
    refine ⟨σ', ?_, y2, by rw [List.append_nil]; exact y3⟩
    show M_qGoesOnTest_b137 N _ σ = _
    unfold M_qGoesOnTest_b137
    rw [isOn_top h hW (Or.inl rfl), bo_some, if_pos rfl, isOn_top h hW (Or.inr rfl), bo_some, if_pos rfl, y1]
  | cons d R ih =>
    intro K z σ hz hR h hl
    obtain ⟨z, rfl⟩ : ∃ m, z = m + 1 := ⟨z - 1, by omega⟩
    rw [List.reverse_cons, ← List.append_assoc] at h
    obtain ⟨σ1, y1, y2, y3⟩ := qDrops_eq h (Nat.zero_le _)
    obtain ⟨σ2, w1, w2, w3⟩ := ih (K ++ [d]) z σ1 (by simp at hz; omega) (fun e he => hR e (by simp [he])) y3 (by rw [List.length_append]; simp at hl ⊢; omega)
    refine ⟨σ2, ?_, y2.trans w2, by rw [List.append_assoc] at w3; exact w3⟩
    show M_qGoesOnTest_b137 N (rn1 (M_qGoesOnTest_b137 N) z) σ = _
    generalize rn1 (M_qGoesOnTest_b137 N) z = kk at w1 ⊢
    have hk : M_qGoesOnTest_b155 N kk σ = some (1, σ2) := by
      unfold M_qGoesOnTest_b155
      rw [y1, bd_some, w1]
    unfold M_qGoesOnTest_b137
    rcases hR d (by simp) with rfl | rfl
    · rw [show M_qIsOn σ 10 = some 1 by rw [qIsOn_eq h]; rfl, bo_some, if_neg (by decide), hk]
    · rw [show M_qIsOn σ 10 = some 0 by rw [qIsOn_eq h]; rfl, bo_some, if_pos rfl, show M_qIsOn σ 11 = some 1 by rw [qIsOn_eq h]; rfl, bo_some, if_neg (by decide), hk]
theorem tG_one {x y : Nat} (h : ∀ kk, M_qGoesOnTest_b0 N kk σ = some (1, σ')) : tG N x (y + 1) σ = tE N x σ' := by
  unfold tG
  show bd (M_qGoesOnTest_b0 N (rn1 (M_qGoesOnTest_b0 N) y) σ) _ = _
  rw [h, bd_some]
  unfold tRs
  rw [if_neg (by decide)]
  rfl
theorem isH_n93 {j : Nat} (h : isH B n j p) : B (sk B n p) ≠ 93 := by
  intro z
  have := h.1
  rw [z] at this
  exact absurd this (by decide)
theorem GT_and (hN : 5000 ≤ N) (s : SQ σ B n p q μ K (W ++ T) o 0 sl) (hT : T = [] ∨ T = [10]) (hW : Top is10 W) (h : isH B n 23 p) : ∃ σ', (∀ x y, tG N x (y + 1) σ = tE N x σ') ∧ Cm Kq σ σ' ∧ SQ σ' B n (wE B n p) q μ (K ++ T) (W ++ [10]) o 0 sl := by
  have hB := s.rm.bk
  obtain ⟨k1, k2, k3, k4⟩ := isH_end hB s.rm.pn h
  have ew : wE B n (sk B n p) = wE B n p := by unfold wE; rw [sk_sk hB]
  obtain ⟨σ1, c1, s1, e1, _⟩ := GT_look hN s
  have e1 := e1 (Or.inl (isH_n93 h))
  have hl := s1.le
  obtain ⟨σ2, t1, t2, t3⟩ := mtakes_eq hN s1.rm (w := 79) (Or.inr ⟨by decide, by decide⟩)
  rw [show wix 79 = 23 from rfl, if_pos ((isH_sk hB).mpr h)] at t1 t3
  rw [ew] at t3
  have s2 := s1.rd t2 t3 (by omega)
  obtain ⟨σ3, d1, d2, d3⟩ := and_drop (N := N) s2.qs hT hW s2.le5 (z := N) (by omega)
  have s3 := s2.ws d2 d3 (by simp only [List.length_append, List.length_singleton] at hl ⊢; omega)
  refine ⟨σ3, fun x y => tG_one (fun kk => ?_), c1.trans (t2.lq.trans d2.wq), s3⟩
  rw [e1 kk]
  unfold M_qGoesOnTest_b76
  rw [t1, bd_some, if_neg (by decide), d1]
theorem GT_or (hN : 5000 ≤ N) (s : SQ σ B n p q μ K (W ++ T) o 0 sl) (hT : ∀ c ∈ T, isAO c) (hW : Top isAO W) (h : isH B n 22 p) : ∃ σ', (∀ x y, tG N x (y + 1) σ = tE N x σ') ∧ Cm Kq σ σ' ∧ SQ σ' B n (wE B n p) q μ (K ++ T.reverse) (W ++ [11]) o 0 sl := by
  have hB := s.rm.bk
  obtain ⟨k1, k2, k3, k4⟩ := isH_end hB s.rm.pn h
  have ew : wE B n (sk B n p) = wE B n p := by unfold wE; rw [sk_sk hB]
  obtain ⟨σ1, c1, s1, e1, _⟩ := GT_look hN s
  have e1 := e1 (Or.inl (isH_n93 h))
  have hl := s1.le
  have nb := s1.nb
  obtain ⟨σ2, t1, t2, t3⟩ := mtakes_eq hN s1.rm (w := 79) (Or.inr ⟨by decide, by decide⟩)
  have hn : ¬ isH B n 23 (sk B n p) := fun w => absurd (isH_ne w ((isH_sk hB).mpr h)) (by decide)
  rw [show wix 79 = 23 from rfl, if_neg hn] at t1 t3
  rw [sk_sk hB] at t3
  have s2 := s1.rd t2 t3 (Nat.le_refl _)
  obtain ⟨σ3, u1, u2, u3⟩ := mtakes_eq hN s2.rm (w := 80) (Or.inr ⟨by decide, by decide⟩)
  rw [show wix 80 = 22 from rfl, if_pos ((isH_sk hB).mpr h)] at u1 u3
  rw [ew] at u3
  have s3 := s2.rd u2 u3 (by omega)
  have hl2 : K.length + W.length + T.reverse.length < 1650 := by
    rw [List.length_append] at hl; rw [List.length_reverse]; omega
  obtain ⟨σ4, d1, d2, d3⟩ := or_drop (N := N) hW T.reverse K N σ3 (by rw [List.length_append] at hl; rw [List.length_reverse]; omega) (fun d hd => hT d (by simpa using hd)) (by rw [List.reverse_reverse]; exact s3.qs) hl2
  have s4 := s3.ws d2 d3 (by simp only [List.length_append, List.length_singleton, List.length_reverse] at hl ⊢; omega)
  refine ⟨σ4, fun x y => tG_one (fun kk => ?_), c1.trans (t2.lq.trans (u2.lq.trans d2.wq)), s4⟩
  rw [e1 kk]
  unfold M_qGoesOnTest_b76
  rw [t1, bd_some, if_pos rfl, u1, bd_some, if_neg (by decide), d1]
/-- neither word stands next -/
theorem GT_no (hN : 5000 ≤ N) (s : SQ σ B n p q μ K W o 0 sl) (h93 : B (sk B n p) ≠ 93 ∨ 25 ∉ W) (h1 : ¬ isH B n 23 p) (h2 : ¬ isH B n 22 p) : ∃ σ1, Cm Kq σ σ1 ∧ SQ σ1 B n (sk B n p) q μ K W o 0 sl ∧ (25 ∉ W → ∀ kk, M_qGoesOnTest_b0 N kk σ = some (0, σ1)) ∧ (25 ∈ W → ∀ kk, M_qGoesOnTest_b0 N kk σ = bd (M_fail σ1 1 (σ1.1 2 0)) fun _ σ6 => some (0, σ6)) := by
  have hB := s.rm.bk
  obtain ⟨σ1, c1, s1, e1, _⟩ := GT_look hN s
  have e1 := e1 h93
  obtain ⟨σ2, t1, t2, t3⟩ := mtakes_eq hN s1.rm (w := 79) (Or.inr ⟨by decide, by decide⟩)
  rw [show wix 79 = 23 from rfl, if_neg (fun w => h1 ((isH_sk hB).mp w))] at t1 t3
  rw [sk_sk hB] at t3
  have s2 := s1.rd t2 t3 (Nat.le_refl _)
  obtain ⟨σ3, u1, u2, u3⟩ := mtakes_eq hN s2.rm (w := 80) (Or.inr ⟨by decide, by decide⟩)
  rw [show wix 80 = 22 from rfl, if_neg (fun w => h2 ((isH_sk hB).mp w))] at u1 u3
  rw [sk_sk hB] at u3
  have s3 := s2.rd u2 u3 (Nat.le_refl _)
  have key : ∀ kk, M_qGoesOnTest_b0 N kk σ = bo (M_qHasSquare N σ3) fun r5 => if r5 = 0 then (some (0, σ3)) else (bd (M_fail σ3 1 (σ3.1 2 0)) fun _ σ6 => some (0, σ6)) := by
    intro kk
    rw [e1 kk]
    unfold M_qGoesOnTest_b76
    rw [t1, bd_some, if_pos rfl, u1, bd_some, if_pos rfl, if_pos s3.rm.bad]
  refine ⟨σ3, c1.trans (t2.lq.trans u2.lq), s3, fun w kk => ?_, fun w kk => ?_⟩
  · rw [key, (hasSq hN s3.qs).2 w, bo_some, if_pos rfl]
  · rw [key, (hasSq hN s3.qs).1 w, bo_some, if_neg (by decide)]
theorem GT_fail (hN : 5000 ≤ N) (s : SQ σ B n p q μ K W o 0 sl) (h93 : B (sk B n p) ≠ 93) (h1 : ¬ isH B n 23 p) (h2 : ¬ isH B n 22 p) (hW : 25 ∈ W) {x y : Nat} (hx : 1 ≤ x) (hy : 1 ≤ y) : ∃ σ', tG N x y σ = some ((), σ') ∧ RF σ' (1, sk B n p) ∧ Cm Kq σ σ' := by
  obtain ⟨x, rfl⟩ : ∃ m, x = m + 1 := ⟨x - 1, by omega⟩
  obtain ⟨y, rfl⟩ : ∃ m, y = m + 1 := ⟨y - 1, by omega⟩
  obtain ⟨σ1, c1, s1, _, e1⟩ := GT_no hN s (Or.inl h93) h1 h2
  have e1 := e1 hW
  obtain ⟨σ2, y1, y2, y3⟩ := fail_eq s1.rm.bad 1 (sk B n p) (by decide)
  refine ⟨σ2, ?_, y2, c1.trans y3.lq⟩
  unfold tG
  show bd (M_qGoesOnTest_b0 N (rn1 (M_qGoesOnTest_b0 N) y) σ) _ = _
  rw [e1, s1.rm.at_, show M_fail σ1 1 (nn (sk B n p)) = _ from y1, bd_some, bd_some]
  unfold tRs
  rw [if_pos rfl, t_zero, b110_bad (by omega) y2]
theorem GT_end (hN : 5000 ≤ N) (s : SQ σ B n p q μ K W o 0 sl) (h1 : ¬ isH B n 23 p) (h2 : ¬ isH B n 22 p) (hW : 25 ∉ W) {x y : Nat} (hx : 1 ≤ x) (hy : 1 ≤ y) : ∃ σ', tG N x y σ = some ((), σ') ∧ Cm Kq σ σ' ∧ SQ σ' B n (sk B n p) q μ (K ++ W.reverse) [] o 0 sl := by
  obtain ⟨x, rfl⟩ : ∃ m, x = m + 1 := ⟨x - 1, by omega⟩
  obtain ⟨y, rfl⟩ : ∃ m, y = m + 1 := ⟨y - 1, by omega⟩
  obtain ⟨σ1, c1, s1, e1, _⟩ := GT_no hN s (Or.inr hW) h1 h2
  have e1 := e1 hW
  have hl := s1.le
  have nb := s1.nb
  obtain ⟨σ2, d1, d2, d3⟩ := d110 (N := N) W.reverse K N σ1 (by rw [List.length_reverse]; omega) s1.rm.bad (by rw [List.reverse_reverse]; exact s1.qs)
  refine ⟨σ2, ?_, c1.trans d2.wq, s1.ws d2 d3 (by simp only [List.length_append, List.length_reverse, List.length_nil]; omega)⟩
  unfold tG
  show bd (M_qGoesOnTest_b0 N (rn1 (M_qGoesOnTest_b0 N) y) σ) _ = _
  rw [e1, bd_some]
  unfold tRs
  rw [if_pos rfl, t_zero, d1]
end
