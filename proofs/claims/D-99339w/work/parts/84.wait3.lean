/-! PURE LEVEL: the reference's waits: which bracket, what ends a part -/
set_option maxRecDepth 100000
section
variable {N : Nat} {σ σ' : mSt} {B : Nat → Nat} {n p : Nat} {K W W0 : List Int32} {o base : Nat}
/-- the bracket that is found from k on downwards -/
theorem brk_loop (h : QS σ K W o base) : ∀ (m k z : Nat), m < z → k + m ≤ W.length → base ≤ k → (∀ i c, k ≤ i → i < k + m → W[i]? = some c → isOp c) → rn1 (M_qBracket_b7 N σ) (z + 1) (nn (k + m) - 1) = rn1 (M_qBracket_b7 N σ) (z - m + 1) (nn k - 1) := by
  have bl := h.bl
  intro m
  induction m with
  | zero => intro k z hz hk hb hT; rfl
  | succ m ih =>
    intro k z hz hk hb hT
    obtain ⟨z, rfl⟩ : ∃ y, z = y + 1 := ⟨z - 1, by omega⟩
    have ih' := ih k z (by omega) (by omega) hb (fun i c h1 h2 => hT i c h1 (by omega))
    rw [show z + 1 - (m + 1) + 1 = z - m + 1 by omega, ← ih']
    obtain ⟨c, hc⟩ : ∃ c, W[k + m]? = some c := ⟨W[k + m]'(by omega), List.getElem?_eq_getElem _⟩
    have e : nn (k + (m + 1)) - 1 = nn (k + m) := by
      rw [show (1 : Int32) = nn 1 from rfl, nn_sub (by omega), show k + (m + 1) - 1 = k + m by omega]
    rw [e]
    show M_qBracket_b7 N σ (rn1 (M_qBracket_b7 N σ) (z + 1)) (nn (k + m)) = _
    generalize rn1 (M_qBracket_b7 N σ) (z + 1) = kk
    unfold M_qBracket_b7
    rw [h.bs, if_neg (fun q => by have := (nn_lt (by omega) (by omega)).mp q; omega), ld_nn (by rfl) (by show k + m < 1700; omega) (by omega), bo_some, h.ws _ c hc, isBk_f (hT (k + m) c (by omega) (by omega) hc), bo_some, if_pos rfl, Int32.sub_eq_add_neg]
theorem qBracket_at (hN : 5000 ≤ N) {b : Int32} {T : List Int32} (hb : isBk b) (h : QS σ K (W0 ++ [b] ++ T) o base) (hT : ∀ c ∈ T, isOp c) (hl : base ≤ W0.length) : M_qBracket N σ = some b := by
  have bl := h.bl
  have wl := h.wn
  simp only [List.length_append, List.length_singleton] at bl wl
  obtain ⟨N, rfl⟩ : ∃ m, N = m + 1 := ⟨N - 1, by omega⟩
  have hW : ∀ i c, W0.length + 1 ≤ i → (W0 ++ [b] ++ T)[i]? = some c → c ∈ T := by
    intro i c h1 h2
    rw [List.getElem?_append_right (by simp; omega)] at h2
    exact List.mem_of_getElem? h2
  have := brk_loop (N := N + 1) h T.length (W0.length + 1) N (by omega) (by simp; omega) (by omega) (fun i c h1 h2 h3 => hT c (hW i c h1 h3))
  unfold M_qBracket
  rw [wl, this]
  show M_qBracket_b7 (N + 1) σ _ (nn (W0.length + 1) - 1) = _
  rw [show (1 : Int32) = nn 1 from rfl, nn_sub (by omega), show W0.length + 1 - 1 = W0.length by omega]
  unfold M_qBracket_b7 M_qBracket_b33
  rw [h.bs, if_neg (fun q => by have := (nn_lt (by omega) (by omega)).mp q; omega), ld_nn (by rfl) (by show W0.length < 1700; omega) (by omega), bo_some, h.ws W0.length b (by simp), isBk_t hb, bo_some, if_neg (by decide), if_neg (fun q => by have := (nn_lt (by omega) (by omega)).mp q; omega), bo_some]
theorem qBracket_no (hN : 5000 ≤ N) {T : List Int32} (h : QS σ K (W0 ++ T) o base) (hT : ∀ c ∈ T, isOp c) (hl : base = W0.length) : M_qBracket N σ = some (-1) := by
  have bl := h.bl
  have wl := h.wn
  simp only [List.length_append] at bl wl
  obtain ⟨N, rfl⟩ : ∃ m, N = m + 1 := ⟨N - 1, by omega⟩
  have hW : ∀ i c, W0.length ≤ i → (W0 ++ T)[i]? = some c → c ∈ T := by
    intro i c h1 h2
    rw [List.getElem?_append_right h1] at h2
    exact List.mem_of_getElem? h2
  have := brk_loop (N := N + 1) h T.length W0.length N (by omega) (by simp) (by omega) (fun i c h1 h2 h3 => hT c (hW i c h1 h3))
  unfold M_qBracket
  rw [wl, this]
  show M_qBracket_b7 (N + 1) σ _ (nn W0.length - 1) = _
  have hlt : nn W0.length - 1 < nn W0.length := by
    rw [Int32.lt_iff_toInt_lt, show (1 : Int32) = nn 1 from rfl, nn_subI (by omega) (by omega), nn_toInt (by omega)]
    omega
  unfold M_qBracket_b7 M_qBracket_b33
  rw [h.bs, hl, if_pos hlt, if_pos hlt]
/-- nothing on top waits for a part -/
theorem ends_stop {z : Nat} (hb : σ.1 5 0 = 0) (h : QS σ K W o base) (hW : W.length = base ∨ ∃ W1 b, W = W1 ++ [b] ∧ b < 60 ∧ base ≤ W1.length) : rn1 (M_qEndsPart_b0 N) (z + 1) σ = some ((), σ) := by
  have bl := h.bl
  show M_qEndsPart_b0 N _ σ = _
  unfold M_qEndsPart_b0
  rw [if_pos hb]
  rcases hW with hW | ⟨W1, b, rfl, hk, hb1⟩
  · rw [h.wn, h.bs, if_pos ((nn_le (by omega) (by omega)).mpr (by omega))]
  · obtain ⟨t1, t2⟩ := h.top
    rw [List.length_append, List.length_singleton] at bl
    rw [t1, h.bs, if_neg (fun q => by have := (nn_le (by omega) (by omega)).mp q; omega), show (1 : Int32) = nn 1 from rfl, nn_sub (by omega), show W1.length + 1 - 1 = W1.length by omega, t2, bo_some, if_pos hk]
/-- 'meets' has its part -/
theorem ends_pop {z : Nat} (hb : σ.1 5 0 = 0) (h : QS σ K (W ++ [60]) (o + 1) base) (hW : base ≤ W.length) : ∃ σ', rn1 (M_qEndsPart_b0 N) (z + 1) σ = rn1 (M_qEndsPart_b0 N) z σ' ∧ Cm Kw σ σ' ∧ QS σ' (K ++ [60]) W o base := by
  have bl := h.bl
  have ob := h.ob
  rw [List.length_append, List.length_singleton] at bl
  obtain ⟨t1, t2⟩ := h.top
  have h1 : QS (mUI σ 98 0 (nn o)) K (W ++ [60]) o base := by
    refine QS.mk ?_ (fun i v hi => ?_) ?_ (fun i v hi => ?_) ?_ ?_ h.bl h.bb (by omega)
    · rw [mI_UI, if_neg (by decide)]; exact h.cn
    · rw [mI_UI, if_neg (by omega)]; exact h.cs i v hi
    · rw [mI_UI, if_neg (by decide)]; exact h.wn
    · rw [mI_UI, if_neg (by omega)]; exact h.ws i v hi
    · rw [mI_UI, if_pos ⟨rfl, rfl⟩]
    · rw [mI_UI, if_neg (by decide)]; exact h.bs
  obtain ⟨σ', y1, y2, y3⟩ := qDrops_eq h1 hW
  refine ⟨σ', ?_, (Cm.UI ⟨by decide, by decide⟩).trans y2, y3⟩
  show M_qEndsPart_b0 N (rn1 (M_qEndsPart_b0 N) z) σ = _
  generalize rn1 (M_qEndsPart_b0 N) z = kk
  unfold M_qEndsPart_b0
  rw [if_pos hb, t1, h.bs, if_neg (fun q => by have := (nn_le (by omega) (by omega)).mp q; omega), show (1 : Int32) = nn 1 from rfl, nn_sub (by omega), show W.length + 1 - 1 = W.length by omega, t2, bo_some, if_neg (by decide), lt2_eq, h.op, nn_sub (by omega), show o + 1 - 1 = o by omega, y1, bd_some]
end
