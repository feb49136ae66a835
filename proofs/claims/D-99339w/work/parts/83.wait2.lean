/-! PURE LEVEL: the reference's waits: brackets -/
set_option maxRecDepth 100000
section
variable {N : Nat} {σ σ' : mSt} {B : Nat → Nat} {n p : Nat} {K W W0 : List Int32} {o base : Nat}
def isBk (c : Int32) : Prop := c = 20 ∨ c = 21 ∨ c = 22 ∨ c = 23 ∨ c = 24
def isOp (c : Int32) : Prop := c = 1 ∨ c = 2 ∨ c = 3 ∨ c = 4
theorem isBk_t {c : Int32} (h : isBk c) : M_qIsBracket c = some 1 := by
  rcases h with rfl | rfl | rfl | rfl | rfl <;> rfl
theorem isBk_f {c : Int32} (h : isOp c) : M_qIsBracket c = some 0 := by
  rcases h with rfl | rfl | rfl | rfl <;> rfl
theorem QS.top {c : Int32} (h : QS σ K (W ++ [c]) o base) : σ.1 97 0 = nn (W.length + 1) ∧ ld 2 σ 96 (nn W.length) = some c := by
  have bl := h.bl
  rw [List.length_append, List.length_singleton] at bl
  have wn := h.wn
  rw [List.length_append, List.length_singleton] at wn
  exact ⟨wn, by rw [ld_nn (by rfl) (by show W.length < 1700; omega) (by omega), h.ws W.length c (by simp)]⟩
theorem drops_loop : ∀ (R K : List Int32) (z : Nat) (σ : mSt), R.length < z → (∀ c ∈ R, isOp c) → QS σ K (W0 ++ R.reverse) o base → base ≤ W0.length → (W0.length = base ∨ ∃ W1 b, W0 = W1 ++ [b] ∧ isBk b ∧ base ≤ W1.length) → ∃ σ', rn1 (M_qDropsToBracket_b0 N) z σ = some ((), σ') ∧ Cm Kw σ σ' ∧ QS σ' (K ++ R) W0 o base := by
  intro R
  induction R with
  | nil =>
    intro K z σ hz hR h hb hW
    obtain ⟨z, rfl⟩ : ∃ m, z = m + 1 := ⟨z - 1, by omega⟩
    rw [List.reverse_nil, List.append_nil] at h
    refine ⟨σ, ?_, Cm.refl σ, by rw [List.append_nil]; exact h⟩
    have bl := h.bl
    show M_qDropsToBracket_b0 N _ σ = _
    unfold M_qDropsToBracket_b0
    rcases hW with hW | ⟨W1, b, rfl, hk, hb1⟩
    · rw [h.wn, h.bs, if_pos ((nn_le (by omega) (by omega)).mpr (by omega))]
    · obtain ⟨t1, t2⟩ := h.top
      rw [List.length_append, List.length_singleton] at bl
      rw [t1, h.bs, if_neg (fun q => by have := (nn_le (by omega) (by omega)).mp q; omega), show (1 : Int32) = nn 1 from rfl, nn_sub (by omega), show W1.length + 1 - 1 = W1.length by omega, t2, bo_some, isBk_t hk, bo_some, if_neg (by decide)]
  | cons c R ih =>
    intro K z σ hz hR h hb hW
    obtain ⟨z, rfl⟩ : ∃ m, z = m + 1 := ⟨z - 1, by omega⟩
    rw [List.reverse_cons, ← List.append_assoc] at h
    have bl := h.bl
    rw [List.length_append, List.length_singleton, List.length_append] at bl
    obtain ⟨t1, t2⟩ := h.top
    obtain ⟨σ1, y1, y2, y3⟩ := qDrops_eq h (by rw [List.length_append]; omega)
    obtain ⟨σ2, w1, w2, w3⟩ := ih (K ++ [c]) z σ1 (by simp at hz; omega) (fun d hd => hR d (by simp [hd])) y3 hb hW
    refine ⟨σ2, ?_, y2.trans w2, by rw [List.append_assoc] at w3; exact w3⟩
    show M_qDropsToBracket_b0 N (rn1 (M_qDropsToBracket_b0 N) z) σ = _
    generalize rn1 (M_qDropsToBracket_b0 N) z = kk at w1 ⊢
    unfold M_qDropsToBracket_b0
    rw [t1, h.bs, if_neg (fun q => by have := (nn_le (by rw [List.length_append]; omega) (by omega)).mp q; rw [List.length_append] at this; omega), show (1 : Int32) = nn 1 from rfl, nn_sub (by omega), show (W0 ++ R.reverse).length + 1 - 1 = (W0 ++ R.reverse).length by omega, t2, bo_some, isBk_f (hR c (by simp)), bo_some, if_pos rfl, y1, bd_some]
    exact w1
theorem qIsOn_eq {c : Int32} (h : QS σ K (W ++ [c]) o base) (d : Int32) : M_qIsOn σ d = some (if c = d then 1 else 0) := by
  have bl := h.bl
  rw [List.length_append, List.length_singleton] at bl
  obtain ⟨t1, t2⟩ := h.top
  unfold M_qIsOn
  rw [t1, if_neg (fun q : nn (W.length + 1) ≤ (0 : Int32) => by have := (nn_le (b := 0) (by omega) (by omega)).mp q; omega), show (1 : Int32) = nn 1 from rfl, nn_sub (by omega), show W.length + 1 - 1 = W.length by omega, t2, bo_some]
  split <;> rfl
theorem qIsOn_nil (h : QS σ K [] o base) (d : Int32) : M_qIsOn σ d = some 0 := by
  unfold M_qIsOn
  rw [h.wn, if_pos (by decide)]
theorem qOpens_eq (r : RM σ B n p) (h : QS σ K W o base) (hl : K.length + W.length < 1650) (c : Int32) (pl : Nat) : ∃ σ', M_qOpens σ c (nn pl) = some ((), σ') ∧ ((o = 6 ∧ RF σ' (4, pl) ∧ Cm Kl σ σ') ∨ (o < 6 ∧ Cm Kw σ σ' ∧ QS σ' K (W ++ [c]) (o + 1) base)) := by
  have ob := h.ob
  unfold M_qOpens
  rw [if_pos r.bad, h.op]
  by_cases z : o = 6
  · rw [if_pos (show nn o = (6 : Int32) by rw [z]; rfl)]
    obtain ⟨σ2, y1, y2, y3⟩ := fail_eq r.bad 4 pl (by decide)
    exact ⟨σ2, by rw [show (4 : Int32) = nn 4 from rfl, y1, bd_some], Or.inl ⟨z, y2, y3⟩⟩
  · rw [if_neg (fun q : nn o = (6 : Int32) => z ((nn_eq (b := 6) (by omega) (by omega)).mp q)), lt2_eq, nn_succ]
    have h1 : QS (mUI σ 98 0 (nn (o + 1))) K W (o + 1) base := by
      refine QS.mk ?_ (fun i v hi => ?_) ?_ (fun i v hi => ?_) ?_ ?_ h.bl h.bb (by omega)
      · rw [mI_UI, if_neg (by decide)]; exact h.cn
      · rw [mI_UI, if_neg (by omega)]; exact h.cs i v hi
      · rw [mI_UI, if_neg (by decide)]; exact h.wn
      · rw [mI_UI, if_neg (by omega)]; exact h.ws i v hi
      · rw [mI_UI, if_pos ⟨rfl, rfl⟩]
      · rw [mI_UI, if_neg (by decide)]; exact h.bs
    obtain ⟨σ', y1, y2, y3⟩ := qPush_eq h1 hl c
    refine ⟨σ', ?_, Or.inr ⟨by omega, (Cm.UI ⟨by decide, by decide⟩).trans y2, y3⟩⟩
    cases hs : stI 2 (mUI σ 98 0 (nn (o + 1))) 96 ((mUI σ 98 0 (nn (o + 1))).1 97 0) c with
    | none => rw [hs, bo_none] at y1; cases y1
    | some s =>
      rw [hs, bo_some] at y1
      cases y1
      rw [bo_some, lt2_eq]
end
