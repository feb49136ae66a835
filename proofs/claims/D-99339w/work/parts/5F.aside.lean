/-! PURE LEVEL: the reference puts its days aside and takes them back -/
set_option maxRecDepth 100000
theorem aside38 {N : Nat} : ∀ (j i m : Nat) (σ : mSt), i + j = 8 → j < m → ∃ σ', rn2 (M_putsAside_b38 N) m σ (nn i) = some ((), σ') ∧ Cm (fun k => k = 63) σ σ' ∧ (∀ b, i ≤ b → b < 8 → σ'.1 63 b = 0) ∧ (∀ b, b < i → σ'.1 63 b = σ.1 63 b) := by
  intro j
  induction j with
  | zero =>
    intro i m σ hi hm
    obtain ⟨m, rfl⟩ : ∃ z, m = z + 1 := ⟨m - 1, by omega⟩
    have : i = 8 := by omega
    subst this
    refine ⟨σ, ?_, Cm.refl σ, fun b h1 h2 => by omega, fun _ _ => rfl⟩
    show M_putsAside_b38 N _ σ (nn 8) = _
    unfold M_putsAside_b38
    rw [if_pos (by decide)]
  | succ j ih =>
    intro i m σ hi hm
    obtain ⟨m, rfl⟩ : ∃ z, m = z + 1 := ⟨m - 1, by omega⟩
    obtain ⟨σ', p1, p2, p3, p4⟩ := ih (i + 1) m (mUI σ 63 i 0) (by omega) (by omega)
    refine ⟨σ', ?_, Cm.trans (by apply Cm.UI; rfl) p2, fun b h1 h2 => ?_, fun b h1 => ?_⟩
    · rw [← p1]
      show M_putsAside_b38 N (rn2 (M_putsAside_b38 N) m) σ (nn i) = _
      generalize rn2 (M_putsAside_b38 N) m = kk
      unfold M_putsAside_b38
      rw [if_neg (by rw [show (8 : Int32) = nn 8 from rfl, nn_le (by omega) (by omega)]; omega), stI_nn (by rfl) (by show i < 8; omega) (by omega), bo_some, nn_succ]
    · rcases Nat.eq_or_lt_of_le h1 with z | z
      · rw [p4 b (by omega), mI_UI, if_pos ⟨rfl, z.symm⟩]
      · exact p3 b z h2
    · rw [p4 b (by omega), mI_UI, if_neg (by omega)]
theorem aside7 {N : Nat} : ∀ (j i m : Nat) (σ : mSt), i + j = 39 → j < m → ∃ σ', rn2 (M_putsAside_b7 N) m σ (nn i) = (lt2 (mUI σ' 62 0 0) fun σ2 => rn2 (M_putsAside_b38 N) N σ2 0) ∧ Cm (fun k => k = 57) σ σ' ∧ (∀ b, i ≤ b → b < 39 → σ'.1 57 b = σ.1 56 b) ∧ (∀ b, b < i → σ'.1 57 b = σ.1 57 b) := by
  intro j
  induction j with
  | zero =>
    intro i m σ hi hm
    obtain ⟨m, rfl⟩ : ∃ z, m = z + 1 := ⟨m - 1, by omega⟩
    have : i = 39 := by omega
    subst this
    refine ⟨σ, ?_, Cm.refl σ, fun b h1 h2 => by omega, fun _ _ => rfl⟩
    show M_putsAside_b7 N _ σ (nn 39) = _
    unfold M_putsAside_b7
    rw [if_pos (by decide)]
  | succ j ih =>
    intro i m σ hi hm
    obtain ⟨m, rfl⟩ : ∃ z, m = z + 1 := ⟨m - 1, by omega⟩
    obtain ⟨σ', p1, p2, p3, p4⟩ := ih (i + 1) m (mUI σ 57 i (σ.1 56 i)) (by omega) (by omega)
    refine ⟨σ', ?_, Cm.trans (by apply Cm.UI; rfl) p2, fun b h1 h2 => ?_, fun b h1 => ?_⟩
    · rw [← p1]
      show M_putsAside_b7 N (rn2 (M_putsAside_b7 N) m) σ (nn i) = _
      generalize rn2 (M_putsAside_b7 N) m = kk
      unfold M_putsAside_b7
      rw [if_neg (by rw [show (39 : Int32) = nn 39 from rfl, nn_le (by omega) (by omega)]; omega), ld_nn (by rfl) (by show i < 160; omega) (by omega), bo_some, stI_nn (by rfl) (by show i < 39; omega) (by omega), bo_some, nn_succ]
    · rcases Nat.eq_or_lt_of_le h1 with z | z
      · rw [p4 b (by omega), mI_UI, if_pos ⟨rfl, z.symm⟩, z]
      · rw [p3 b z h2, mI_UI, if_neg (by omega)]
    · rw [p4 b (by omega), mI_UI, if_neg (by omega)]
theorem putsAside_eq {N : Nat} (hN : 5000 ≤ N) (σ : mSt) : ∃ σ', M_putsAside N σ = some ((), σ') ∧ Cm (fun k => k = 57 ∨ k = 61 ∨ k = 62 ∨ k = 63) σ σ' ∧ σ'.1 61 0 = 1 ∧ σ'.1 62 0 = 0 ∧ (∀ b, b < 8 → σ'.1 63 b = 0) ∧ (∀ j, j < 39 → σ'.1 57 j = σ.1 56 j) := by
  obtain ⟨σ1, p1, p2, p3, _⟩ := aside7 (N := N) 39 0 N (mUI σ 61 0 1) (by omega) (by omega)
  obtain ⟨σ2, q1, q2, q3, _⟩ := aside38 (N := N) 8 0 N (mUI σ1 62 0 0) (by omega) (by omega)
  refine ⟨σ2, ?_, ?_, ?_, ?_, fun b hb => q3 b (by omega) hb, fun j hj => ?_⟩
  · unfold M_putsAside
    have p1' : rn2 (M_putsAside_b7 N) N (mUI σ 61 0 1) 0 = _ := p1
    have q1' : rn2 (M_putsAside_b38 N) N (mUI σ1 62 0 0) 0 = _ := q1
    rw [lt2_eq, p1', lt2_eq, q1']
  · exact ((Cm.UI (Or.inr (Or.inl rfl))).trans (p2.mono (fun k z => Or.inl z))).trans ((Cm.UI (Or.inr (Or.inr (Or.inl rfl)))).trans (q2.mono (fun k z => Or.inr (Or.inr (Or.inr z)))))
  · rw [(q2 61 0 (by omega)).1, mI_UI, if_neg (by omega), (p2 61 0 (by omega)).1, mI_UI, if_pos ⟨rfl, rfl⟩]
  · rw [(q2 62 0 (by omega)).1, mI_UI, if_pos ⟨rfl, rfl⟩]
  · rw [(q2 57 j (by omega)).1, mI_UI, if_neg (by omega), p3 j (by omega) hj, mI_UI, if_neg (by omega)]
theorem anew_loop {N : Nat} : ∀ (j i m : Nat) (σ : mSt), i + j = 39 → j < m → ∃ σ', rn2 (M_triesAnew_b2 N) m σ (nn i) = some ((), mUI σ' 62 0 0) ∧ rn2 (M_takesBack_b2 N) m σ (nn i) = some ((), mUI σ' 61 0 0) ∧ Cm (fun k => k = 56) σ σ' ∧ (∀ b, i ≤ b → b < 39 → σ'.1 56 b = σ.1 57 b) ∧ (∀ b, b < i ∨ 39 ≤ b → σ'.1 56 b = σ.1 56 b) := by
  intro j
  induction j with
  | zero =>
    intro i m σ hi hm
    obtain ⟨m, rfl⟩ : ∃ z, m = z + 1 := ⟨m - 1, by omega⟩
    have : i = 39 := by omega
    subst this
    refine ⟨σ, ?_, ?_, Cm.refl σ, fun b h1 h2 => by omega, fun _ _ => rfl⟩
    · show M_triesAnew_b2 N _ σ (nn 39) = _
      unfold M_triesAnew_b2
      rw [if_pos (by decide), lt2_eq]
    · show M_takesBack_b2 N _ σ (nn 39) = _
      unfold M_takesBack_b2
      rw [if_pos (by decide), lt2_eq]
  | succ j ih =>
    intro i m σ hi hm
    obtain ⟨m, rfl⟩ : ∃ z, m = z + 1 := ⟨m - 1, by omega⟩
    obtain ⟨σ', p1, p0, p2, p3, p4⟩ := ih (i + 1) m (mUI σ 56 i (σ.1 57 i)) (by omega) (by omega)
    refine ⟨σ', ?_, ?_, Cm.trans Cm.u56 p2, fun b h1 h2 => ?_, fun b h1 => ?_⟩
    · rw [← p1]
      show M_triesAnew_b2 N (rn2 (M_triesAnew_b2 N) m) σ (nn i) = _
      generalize rn2 (M_triesAnew_b2 N) m = kk
      unfold M_triesAnew_b2
      rw [if_neg (by rw [show (39 : Int32) = nn 39 from rfl, nn_le (by omega) (by omega)]; omega), ld_nn (by rfl) (by show i < 39; omega) (by omega), bo_some, stI_nn (by rfl) (by show i < 160; omega) (by omega), bo_some, nn_succ]
    · rw [← p0]
      show M_takesBack_b2 N (rn2 (M_takesBack_b2 N) m) σ (nn i) = _
      generalize rn2 (M_takesBack_b2 N) m = kk
      unfold M_takesBack_b2
      rw [if_neg (by rw [show (39 : Int32) = nn 39 from rfl, nn_le (by omega) (by omega)]; omega), ld_nn (by rfl) (by show i < 39; omega) (by omega), bo_some, stI_nn (by rfl) (by show i < 160; omega) (by omega), bo_some, nn_succ]
    · rcases Nat.eq_or_lt_of_le h1 with z | z
      · rw [p4 b (by omega), mI_UI, if_pos ⟨rfl, z.symm⟩, z]
      · rw [p3 b z h2, mI_UI, if_neg (by omega)]
    · rw [p4 b (by omega), mI_UI, if_neg (by omega)]
theorem triesAnew_eq {N : Nat} (hN : 5000 ≤ N) (σ : mSt) : ∃ σ', M_triesAnew N σ = some ((), σ') ∧ Cm (fun k => k = 56 ∨ k = 62) σ σ' ∧ σ'.1 62 0 = 0 ∧ (∀ j, j < 39 → σ'.1 56 j = σ.1 57 j) ∧ (∀ j, 39 ≤ j → σ'.1 56 j = σ.1 56 j) := by
  obtain ⟨σ1, p1, _, p2, p3, p4⟩ := anew_loop (N := N) 39 0 N σ (by omega) (by omega)
  refine ⟨mUI σ1 62 0 0, p1, (p2.mono (fun k z => Or.inl z)).trans (Cm.UI (Or.inr rfl)), ?_, fun j hj => ?_, fun j hj => ?_⟩
  · rw [mI_UI, if_pos ⟨rfl, rfl⟩]
  · rw [mI_UI, if_neg (by omega), p3 j (by omega) hj]
  · rw [mI_UI, if_neg (by omega), p4 j (by omega)]
theorem takesBack_eq {N : Nat} (hN : 5000 ≤ N) (σ : mSt) : ∃ σ', M_takesBack N σ = some ((), σ') ∧ Cm (fun k => k = 56 ∨ k = 61) σ σ' ∧ σ'.1 61 0 = 0 ∧ (∀ j, j < 39 → σ'.1 56 j = σ.1 57 j) ∧ (∀ j, 39 ≤ j → σ'.1 56 j = σ.1 56 j) := by
  obtain ⟨σ1, _, p1, p2, p3, p4⟩ := anew_loop (N := N) 39 0 N σ (by omega) (by omega)
  refine ⟨mUI σ1 61 0 0, p1, (p2.mono (fun k z => Or.inl z)).trans (Cm.UI (Or.inr rfl)), ?_, fun j hj => ?_, fun j hj => ?_⟩
  · rw [mI_UI, if_pos ⟨rfl, rfl⟩]
  · rw [mI_UI, if_neg (by omega), p3 j (by omega) hj]
  · rw [mI_UI, if_neg (by omega), p4 j (by omega)]
