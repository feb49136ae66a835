/-! PURE LEVEL: what was seen; names; images -/
set_option maxRecDepth 100000
section SEE
variable {A : AH} {σ : mSt} {fo nb L C W n : Nat} {ρ : Nat → Nat} {u w : Nat} {κ : Nat → Nat} {t m o : Nat}
theorem IV.bt (h : IV A σ fo nb L C W n ρ u w κ t m o) {k : Nat} (hk : k < 1600) : ∃ v, v < 256 ∧ X0_byteAt A (nn k) = some (nn v) ∧ σ.1 0 k = nn v ∧ ld 2 σ 0 (nn k) = some (nn v) := by
  obtain ⟨v, hv, e1, e2⟩ := h.tp.by_ k hk
  refine ⟨v, hv, ?_, e1, ?_⟩
  · unfold X0_byteAt
    rw [sI_nn hk (by decide), bo_some, e2, sby_and v hv]
  · rw [ld_nn (by rfl) (by show k < 1600; exact hk) (by omega), e1]
def goodS (σ : mSt) (nb C k : Nat) : Prop := ∃ b c, b < nb ∧ c < C ∧ σ.1 0 (2 * k) = nn b ∧ σ.1 0 (2 * k + 1) = nn c
theorem see_chk {N : Nat} (h : IV A σ fo nb L C W n ρ u w κ t m o) {q : Nat} (hq : q ≤ 16) : ∀ (j i q1 q2 : Nat), i + j = q → j + 1 < q1 → j + 1 < q2 → (∀ k, k < i → goodS σ nb C k) → (rn4 (X0_see_b29 N) q1 A (nn (2 * q)) 1 (nn (2 * i)) = X0_see_b79 N A (nn (2 * q)) 0 ∧ rn4 (M_see_b36 N) q2 σ (nn (2 * q)) 1 (nn (2 * i)) = M_see_b87 N σ (nn (2 * q)) 0) ∨ ((∀ k, k < q → goodS σ nb C k) ∧ rn4 (X0_see_b29 N) q1 A (nn (2 * q)) 1 (nn (2 * i)) = X0_see_b79 N A (nn (2 * q)) 1 ∧ rn4 (M_see_b36 N) q2 σ (nn (2 * q)) 1 (nn (2 * i)) = M_see_b87 N σ (nn (2 * q)) 1) := by
  have bn := h.fr.bn
  have bC := h.fr.bC
  intro j
  induction j with
  | zero =>
    intro i q1 q2 hi h1 h2 hg
    obtain ⟨q1, rfl⟩ : ∃ z, q1 = z + 1 := ⟨q1 - 1, by omega⟩
    obtain ⟨q2, rfl⟩ : ∃ z, q2 = z + 1 := ⟨q2 - 1, by omega⟩
    right
    refine ⟨fun k hk => hg k (by omega), ?_, ?_⟩
    · show X0_see_b29 N _ A (nn (2 * q)) 1 (nn (2 * i)) = _
      unfold X0_see_b29
      rw [if_pos ((nn_le (by omega) (by omega)).mpr (by omega))]
    · show M_see_b36 N _ σ (nn (2 * q)) 1 (nn (2 * i)) = _
      unfold M_see_b36
      rw [if_pos ((nn_le (by omega) (by omega)).mpr (by omega))]
  | succ j ih =>
    intro i q1 q2 hi h1 h2 hg
    obtain ⟨q1, rfl⟩ : ∃ z, q1 = z + 1 := ⟨q1 - 1, by omega⟩
    obtain ⟨q2, rfl⟩ : ∃ z, q2 = z + 1 := ⟨q2 - 1, by omega⟩
    obtain ⟨v, hv, v1, v2, v3⟩ := h.bt (k := 2 * i) (by omega)
    obtain ⟨y, hy, y1, y2, y3⟩ := h.bt (k := 2 * i + 1) (by omega)
    obtain ⟨p, _, hp, p1, p2⟩ := isBeing_eq h.fr (nn v)
    have e2 : (nn (2 * i) + 2 : Int32) = nn (2 * (i + 1)) := by
      rw [show (2 : Int32) = nn 2 from rfl, nn_add, show 2 * i + 2 = 2 * (i + 1) by omega]
    -- what follows a pass
    have endX : ∀ z, 0 < z → rn4 (X0_see_b29 N) z A (nn (2 * q)) 0 (nn (2 * (i + 1))) = X0_see_b79 N A (nn (2 * q)) 0 := by
      intro z hz
      obtain ⟨z, rfl⟩ : ∃ y, z = y + 1 := ⟨z - 1, by omega⟩
      show X0_see_b29 N _ A (nn (2 * q)) 0 (nn (2 * (i + 1))) = _
      unfold X0_see_b29
      by_cases c : nn (2 * q) ≤ nn (2 * (i + 1))
      · rw [if_pos c]
      · rw [if_neg c, if_pos rfl]
    have endM : ∀ z, 0 < z → rn4 (M_see_b36 N) z σ (nn (2 * q)) 0 (nn (2 * (i + 1))) = M_see_b87 N σ (nn (2 * q)) 0 := by
      intro z hz
      obtain ⟨z, rfl⟩ : ∃ y, z = y + 1 := ⟨z - 1, by omega⟩
      show M_see_b36 N _ σ (nn (2 * q)) 0 (nn (2 * (i + 1))) = _
      unfold M_see_b36
      by_cases c : nn (2 * q) ≤ nn (2 * (i + 1))
      · rw [if_pos c]
      · rw [if_neg c, if_pos rfl]
    have hX : rn4 (X0_see_b29 N) (q1 + 1) A (nn (2 * q)) 1 (nn (2 * i)) = if p then (if nn C ≤ nn y then rn4 (X0_see_b29 N) q1 A (nn (2 * q)) 0 (nn (2 * (i + 1))) else rn4 (X0_see_b29 N) q1 A (nn (2 * q)) 1 (nn (2 * (i + 1)))) else rn4 (X0_see_b29 N) q1 A (nn (2 * q)) 0 (nn (2 * (i + 1))) := by
      show X0_see_b29 N (rn4 (X0_see_b29 N) q1) A (nn (2 * q)) 1 (nn (2 * i)) = _
      generalize rn4 (X0_see_b29 N) q1 = kk
      unfold X0_see_b29 X0_see_b71 X0_see_b72
      rw [if_neg (fun z => by have := (nn_le (by omega) (by omega)).mp z; omega), if_neg (by decide), v1, bo_some, p1, bo_some, bt0, nn_succ, y1, bo_some, h.fr.cellsX, e2]
    have hM : rn4 (M_see_b36 N) (q2 + 1) σ (nn (2 * q)) 1 (nn (2 * i)) = if p then (if nn C ≤ nn y then rn4 (M_see_b36 N) q2 σ (nn (2 * q)) 0 (nn (2 * (i + 1))) else rn4 (M_see_b36 N) q2 σ (nn (2 * q)) 1 (nn (2 * (i + 1)))) else rn4 (M_see_b36 N) q2 σ (nn (2 * q)) 0 (nn (2 * (i + 1))) := by
      show M_see_b36 N (rn4 (M_see_b36 N) q2) σ (nn (2 * q)) 1 (nn (2 * i)) = _
      generalize rn4 (M_see_b36 N) q2 = kk
      unfold M_see_b36 M_see_b79 M_see_b80
      rw [if_neg (fun z => by have := (nn_le (by omega) (by omega)).mp z; omega), if_neg (by decide), v3, bo_some, p2, bo_some, bt0, nn_succ, y3, bo_some, h.fr.cells, bo_some, e2]
    rw [hX, hM]
    by_cases c : p
    · rw [if_pos c, if_pos c]
      by_cases c2 : nn C ≤ nn y
      · rw [if_pos c2, if_pos c2]
        exact Or.inl ⟨endX q1 (by omega), endM q2 (by omega)⟩
      · rw [if_neg c2, if_neg c2]
        refine ih (i + 1) q1 q2 (by omega) (by omega) (by omega) (fun k hk => ?_)
        rcases Nat.lt_or_ge k i with z | z
        · exact hg k z
        · have : k = i := by omega
          subst this
          obtain ⟨b, hb, eb⟩ := hp.mp c
          refine ⟨b, y, hb, ?_, v2.trans eb, y2⟩
          rcases Nat.lt_or_ge y C with z | z
          · exact z
          · exact absurd ((nn_le (by omega) (by omega)).mpr z) c2
    · rw [if_neg c, if_neg c]
      exact Or.inl ⟨endX q1 (by omega), endM q2 (by omega)⟩
def Pse (f i : Nat) : Prop := (f = 115 ∧ i = 0) ∨ (f = 31 ∧ (i = 126 ∨ i = 127))
def Kse (k : Nat) : Prop := k = 65 ∨ k = 66
theorem seeX_loop {N : Nat} {q : Nat} (hq : q ≤ 16) {bt : Nat → Nat} (hbt : ∀ k, k < 1600 → bt k < 256) : ∀ (j i z : Nat) (A : AH), i + j = q → j < z → aI A 115 0 0 = nn q → (∀ k, k < 1600 → aI A 33 8 k = sby (bt k)) → ∃ A', rn2 (X0_see_b98 N) z A (nn i) = some (nn q, A') ∧ Ch Pse A A' ∧ aI A' 115 0 0 = nn q ∧ (∀ k, i ≤ k → k < q → aI A' 31 126 k = nn (bt (2 * k)) ∧ aI A' 31 127 k = nn (bt (2 * k + 1))) ∧ (∀ k, k < i → aI A' 31 126 k = aI A 31 126 k ∧ aI A' 31 127 k = aI A 31 127 k) := by
  intro j
  induction j with
  | zero =>
    intro i z A hi hz e hb
    obtain ⟨z, rfl⟩ : ∃ y, z = y + 1 := ⟨z - 1, by omega⟩
    refine ⟨A, ?_, Ch.refl A, e, fun k h1 h2 => by omega, fun _ _ => ⟨rfl, rfl⟩⟩
    show X0_see_b98 N _ A (nn i) = _
    unfold X0_see_b98
    rw [e, if_pos ((nn_le (by omega) (by omega)).mpr (by omega))]
  | succ j ih =>
    intro i z A hi hz e hb
    obtain ⟨z, rfl⟩ : ∃ y, z = y + 1 := ⟨z - 1, by omega⟩
    have b1 := hbt (2 * i) (by omega)
    have b2 := hbt (2 * i + 1) (by omega)
    have c1 : Ch Pse A (wI A 31 126 i (nn (bt (2 * i)))) := Ch.wI (Or.inr ⟨rfl, Or.inl rfl⟩)
    have c2 : Ch Pse A (wI (wI A 31 126 i (nn (bt (2 * i)))) 31 127 i (nn (bt (2 * i + 1)))) := c1.trans (Ch.wI (Or.inr ⟨rfl, Or.inr rfl⟩))
    obtain ⟨A', p1, p2, p3, p4, p5⟩ := ih (i + 1) z _ (by omega) (by omega) ((show aI (wI (wI A 31 126 i (nn (bt (2 * i)))) 31 127 i (nn (bt (2 * i + 1)))) 115 0 0 = aI A 115 0 0 by rw [aI_wI, if_neg (by omega), aI_wI, if_neg (by omega)]).trans e) (fun k hk => (c2.I k (by unfold Pse; omega)).trans (hb k hk))
    have e1 : X0_byteAt A (2 * nn i) = some (nn (bt (2 * i))) := by
      unfold X0_byteAt
      rw [show (2 : Int32) = nn 2 from rfl, nn_mul, sI_nn (by omega) (by decide), bo_some, hb _ (by omega), sby_and _ b1]
    have e2 : X0_byteAt (wI A 31 126 i (nn (bt (2 * i)))) ((2 * nn i) + 1) = some (nn (bt (2 * i + 1))) := by
      unfold X0_byteAt
      rw [show (2 : Int32) = nn 2 from rfl, nn_mul, nn_succ, sI_nn (by omega) (by decide), bo_some, aI_wI, if_neg (by omega), hb _ (by omega), sby_and _ b2]
    refine ⟨A', ?_, c2.trans p2, p3, fun k h1 h2 => ?_, fun k hk => ?_⟩
    · rw [← p1]
      show X0_see_b98 N (rn2 (X0_see_b98 N) z) A (nn i) = _
      generalize rn2 (X0_see_b98 N) z = kk
      unfold X0_see_b98
      rw [e, if_neg (fun z => by have := (nn_le (by omega) (by omega)).mp z; omega), e1, bo_some, tI_nn (by omega) (by decide), bo_some, e2, bo_some, tI_nn (by omega) (by decide), bo_some, nn_succ]
    · rcases Nat.eq_or_lt_of_le h1 with y | y
      · subst y
        obtain ⟨r1, r2⟩ := p5 i (by omega)
        rw [r1, r2, aI_wI, if_neg (by omega), aI_wI, if_pos ⟨rfl, rfl, rfl⟩, aI_wI, if_pos ⟨rfl, rfl, rfl⟩]
        exact ⟨rfl, rfl⟩
      · exact p4 k y h2
    · obtain ⟨r1, r2⟩ := p5 k (by omega)
      rw [r1, r2, aI_wI, if_neg (by omega), aI_wI, if_neg (by omega), aI_wI, if_neg (by omega), aI_wI, if_neg (by omega)]
      exact ⟨rfl, rfl⟩
theorem seeM_loop {N : Nat} {q : Nat} (hq : q ≤ 16) : ∀ (j i z : Nat) (σ : mSt), i + j = 2 * q → j < z → ∃ σ', rn3 (M_see_b99 N) z σ (nn (2 * q)) (nn i) = some (nn q, σ') ∧ Cm Kse σ σ' ∧ σ'.1 65 0 = nn q ∧ (∀ k, i ≤ k → k < 2 * q → σ'.1 66 k = σ.1 0 k) ∧ (∀ k, k < i → σ'.1 66 k = σ.1 66 k) := by
  intro j
  induction j with
  | zero =>
    intro i z σ hi hz
    obtain ⟨z, rfl⟩ : ∃ y, z = y + 1 := ⟨z - 1, by omega⟩
    refine ⟨mUI σ 65 0 (nn q), ?_, Cm.UI (Or.inl rfl), by rw [mI_UI, if_pos ⟨rfl, rfl⟩], fun k h1 h2 => by omega, fun k hk => by rw [mI_UI, if_neg (by omega)]⟩
    show M_see_b99 N _ σ (nn (2 * q)) (nn i) = _
    unfold M_see_b99
    rw [if_pos ((nn_le (by omega) (by omega)).mpr (by omega)), show (nn (2 * q) / 2 : Int32) = nn q from (nn_div (b := 2) (by omega) (by decide)).trans (by rw [show 2 * q / 2 = q by omega]), lt2_eq, mI_UI, if_pos ⟨rfl, rfl⟩]
  | succ j ih =>
    intro i z σ hi hz
    obtain ⟨z, rfl⟩ : ∃ y, z = y + 1 := ⟨z - 1, by omega⟩
    obtain ⟨σ', p1, p2, p3, p4, p5⟩ := ih (i + 1) z (mUI σ 66 i (σ.1 0 i)) (by omega) (by omega)
    refine ⟨σ', ?_, Cm.trans (Cm.UI (Or.inr rfl)) p2, p3, fun k h1 h2 => ?_, fun k hk => ?_⟩
    · rw [← p1]
      show M_see_b99 N (rn3 (M_see_b99 N) z) σ (nn (2 * q)) (nn i) = _
      generalize rn3 (M_see_b99 N) z = kk
      unfold M_see_b99
      rw [if_neg (fun z => by have := (nn_le (by omega) (by omega)).mp z; omega), ld_nn (by rfl) (by show i < 1600; omega) (by omega), bo_some, stI_nn (by rfl) (by show i < 32; omega) (by omega), bo_some, nn_succ]
    · rcases Nat.eq_or_lt_of_le h1 with y | y
      · rw [p5 k (by omega), mI_UI, if_pos ⟨rfl, y.symm⟩, y]
      · rw [p4 k y h2, mI_UI, if_neg (by omega)]
    · rw [p5 k (by omega), mI_UI, if_neg (by omega)]
theorem see_op {N : Nat} (hN : 5000 ≤ N) (h : IV A σ fo nb L C W n ρ u w κ t m o) : ∃ r A' σ' m', X0_see N A = some (r, A') ∧ M_see N σ = some (r, σ') ∧ IV A' σ' fo nb L C W n ρ u w κ 0 m' o ∧ A'.1 = A.1 := by
  have tb := h.tp.b
  have bn := h.fr.bn
  have bC := h.fr.bC
  have h1 : IV (wI A 102 0 0 0) (mUI σ 1 0 0) fo nb L C W n ρ u w κ 0 m o := h.taped (k := 0) (by decide)
  obtain ⟨A', σ', r1, r2, _, r4, r5⟩ := refuses_eq h1 (k := 1) (by decide)
  have r1' : X0_refuses (wI A 102 0 0 0) 1 = some (-1, A') := r1
  have r2' : M_refuses (mUI σ 1 0 0) 1 = some (-1, σ') := r2
  have no79 : X0_see_b79 N (wI A 102 0 0 0) (nn t) 0 = some (-1, A') := by
    unfold X0_see_b79
    rw [if_pos rfl, r1', bd_some]
  have no87 : M_see_b87 N (mUI σ 1 0 0) (nn t) 0 = some (-1, σ') := by
    unfold M_see_b87
    rw [if_pos rfl, r2', bd_some]
  have no25 : X0_see_b25 N (wI A 102 0 0 0) (nn t) = some (-1, A') := by
    obtain ⟨z, hz⟩ : ∃ z, N = z + 1 := ⟨N - 1, by omega⟩
    unfold X0_see_b25 X0_see_b26
    generalize hf : X0_see_b29 N = f
    rw [hz]
    show f (rn4 f z) (wI A 102 0 0 0) (nn t) 0 0 = _
    rw [← hf]
    generalize rn4 (X0_see_b29 N) z = kk
    unfold X0_see_b29
    rw [no79]
    split
    · rfl
    · rw [if_pos rfl]
  have no32 : M_see_b32 N (mUI σ 1 0 0) (nn t) = some (-1, σ') := by
    obtain ⟨z, hz⟩ : ∃ z, N = z + 1 := ⟨N - 1, by omega⟩
    unfold M_see_b32 M_see_b33
    generalize hf : M_see_b36 N = f
    rw [hz]
    show f (rn4 f z) (mUI σ 1 0 0) (nn t) 0 0 = _
    rw [← hf]
    generalize rn4 (M_see_b36 N) z = kk
    unfold M_see_b36
    rw [no87]
    split
    · rfl
    · rw [if_pos rfl]
  have hX : X0_see N A = if nn t ≤ 0 then some (-1, A') else if nn (t % 2) = 0 then (if nn 32 < nn t then some (-1, A') else X0_see_b26 N (wI A 102 0 0 0) (nn t) 1) else some (-1, A') := by
    unfold X0_see X0_taken
    rw [h.tp.a, lt2_eq, bd_some, no25, show (nn t - nn t / 2 * 2 : Int32) = nn (t % 2) from nn_rem (b := 2) (by omega) (by decide)]
    rfl
  have hM : M_see N σ = if nn t ≤ 0 then some (-1, σ') else if nn (t % 2) = 0 then (if nn 16 < nn (t / 2) then some (-1, σ') else M_see_b33 N (mUI σ 1 0 0) (nn t) 1) else some (-1, σ') := by
    unfold M_see
    rw [h.tp.m, lt2_eq, no32, show (nn t - nn t / 2 * 2 : Int32) = nn (t % 2) from nn_rem (b := 2) (by omega) (by decide), show (nn t / 2 : Int32) = nn (t / 2) from nn_div (b := 2) (by omega) (by decide)]
    rfl
  have bad : X0_see N A = some (-1, A') → M_see N σ = some (-1, σ') → ∃ r A' σ' m', X0_see N A = some (r, A') ∧ M_see N σ = some (r, σ') ∧ IV A' σ' fo nb L C W n ρ u w κ 0 m' o ∧ A'.1 = A.1 := fun z1 z2 => ⟨-1, A', σ', m, z1, z2, r4, r5.1⟩
  by_cases t0 : t = 0
  · exact bad (by rw [hX, if_pos (by rw [t0]; decide)]) (by rw [hM, if_pos (by rw [t0]; decide)])
  have nt : ¬ nn t ≤ 0 := by rw [show (0 : Int32) = nn 0 from rfl, nn_le (by omega) (by omega)]; omega
  rw [if_neg nt] at hX hM
  by_cases t2 : t % 2 = 0
  · rw [if_pos (by rw [t2]; rfl)] at hX hM
    by_cases t32 : 32 < t
    · exact bad (by rw [hX, if_pos ((nn_lt (by omega) (by omega)).mpr t32)]) (by rw [hM, if_pos ((nn_lt (by omega) (by omega)).mpr (by omega))])
    · rw [if_neg (fun q => t32 ((nn_lt (by omega) (by omega)).mp q))] at hX
      rw [if_neg (fun q => by have := (nn_lt (by omega) (by omega)).mp q; omega)] at hM
      obtain ⟨q, hq⟩ : ∃ q, t = 2 * q := ⟨t / 2, by omega⟩
      rw [hq] at hX hM no79 no87
      rcases see_chk (N := N) h1 (q := q) (by omega) q 0 N N (by omega) (by omega) (by omega) (fun k hk => by omega) with ⟨s1, s2⟩ | ⟨s0, s1, s2⟩
      · exact bad (by rw [hX]; exact s1.trans no79) (by rw [hM]; exact s2.trans no87)
      · -- all is well
        obtain ⟨bt, hbt, hb1, hb2⟩ : ∃ bt : Nat → Nat, (∀ k, k < 1600 → bt k < 256) ∧ (∀ k, k < 1600 → aI (wI A 102 0 0 0) 33 8 k = sby (bt k)) ∧ ∀ k, k < 1600 → (mUI σ 1 0 0).1 0 k = nn (bt k) := by
          refine ⟨fun k => ((mUI σ 1 0 0).1 0 k).toNatClampNeg, fun k hk => ?_, fun k hk => ?_, fun k hk => ?_⟩
          · obtain ⟨v, hv, e1, e2⟩ := h1.tp.by_ k hk
            show ((mUI σ 1 0 0).1 0 k).toNatClampNeg < 256
            rw [e1, nn_clamp (by omega)]; exact hv
          · obtain ⟨v, hv, e1, e2⟩ := h1.tp.by_ k hk
            show _ = sby ((mUI σ 1 0 0).1 0 k).toNatClampNeg
            rw [e1, nn_clamp (by omega)]; exact e2
          · obtain ⟨v, hv, e1, e2⟩ := h1.tp.by_ k hk
            show _ = nn ((mUI σ 1 0 0).1 0 k).toNatClampNeg
            rw [e1, nn_clamp (by omega)]
        have dv : (nn (2 * q) / 2 : Int32) = nn q := (nn_div (b := 2) (by omega) (by decide)).trans (by rw [show 2 * q / 2 = q by omega])
        have c0 : Ch Pse (wI A 102 0 0 0) (wI (wI A 102 0 0 0) 115 0 0 (nn q)) := Ch.wI (Or.inl ⟨rfl, rfl⟩)
        obtain ⟨A2, x1, x2, x3, x4, _⟩ := seeX_loop (N := N) (q := q) (by omega) hbt q 0 N (wI (wI A 102 0 0 0) 115 0 0 (nn q)) (by omega) (by omega) (by rw [aI_wI, if_pos ⟨rfl, rfl, rfl⟩]) (fun k hk => (c0.I k (by unfold Pse; omega)).trans (hb1 k hk))
        obtain ⟨σ2, y1, y2, y3, y4, _⟩ := seeM_loop (N := N) (q := q) (by omega) (2 * q) 0 N (mUI σ 1 0 0) (by omega) (by omega)
        have c : Ch Pse (wI A 102 0 0 0) A2 := c0.trans x2
        refine ⟨nn q, A2, σ2, q, ?_, ?_, IV.mk (h1.fr.same (c.sameOn (fun f i hi z => by unfold dyn at hi; unfold Pse at z; omega)) (c.R 0 (by unfold Pse; omega)) (y2.sameM (fun k hk z => by unfold Kfo at hk; unfold Kse at z; omega))) (h1.ks.ch c) (h1.m1.ch c (by unfold Pse; omega)) (h1.m2.ch c (by unfold Pse; omega)) (h1.st.ch c (fun g i hg h1 h2 => by unfold Pse; omega) (fun j _ => y2.I j (by unfold Kse; omega)) h1.fr.bn) (by rw [y2.I 0 (by unfold Kse; omega)]; exact h1.d9) (h1.kr.ch c (by unfold Pse; omega) (by unfold Pse; omega)) (h1.kv.ch h1.kr c (fun i h1 h2 => by unfold Pse; omega) (fun j _ _ => y2.I j (by unfold Kse; omega))) (by obtain ⟨n', ρ', k'⟩ := h1.kt; exact ⟨n', ρ', k'.ch c (by unfold Pse; omega) (by unfold Pse; omega)⟩) ((y2.I 0 (by unfold Kse; omega)).trans h1.th) (h1.un.ch c y2 h1.fr.bn (by unfold Pse; omega) (by unfold Pse; omega) (fun f i h1 h2 => by unfold Pse; omega) (by unfold Kse; omega) (by unfold Kse; omega) (by unfold Kse; omega)) (h1.tp.ch c y2 (by unfold Pse; omega) (by unfold Pse; omega) (by unfold Kse; omega) (by unfold Kse; omega)) (by rw [c.I _ (by unfold Pse; omega), y2.I _ (by unfold Kse; omega)]; exact h1.fk) (by rw [c.I _ (by unfold Pse; omega), y2.I _ (by unfold Kse; omega)]; exact h1.fp) (fun k hk => by rw [c.I _ (by unfold Pse; omega), y2.I _ (by unfold Kse; omega)]; exact h1.rf k hk) (IvS.mk x3 y3 (by omega) ?_) (by rw [c.J _ (by unfold Pse; omega), y2.J _ (by unfold Kse; omega)]; exact h1.sd) (h1.ou.ch c y2 (by unfold Pse; omega) (by unfold Pse; omega) (by unfold Kse; omega) (by unfold Kse; omega)) (h1.hn.ch c (by unfold Pse; omega) (by unfold Pse; omega) (by unfold Pse; omega) (by unfold Pse; omega) (by unfold Pse; omega)) (h1.wd.ch y2 (fun q hq z => by unfold isWd at hq; unfold Kse at z; omega)), c.1⟩
        · rw [hX]
          refine Eq.trans s1 ?_
          unfold X0_see_b79
          rw [if_neg (by decide), dv, lt2_eq]
          exact x1
        · rw [hM]
          refine Eq.trans s2 ?_
          unfold M_see_b87
          rw [if_neg (by decide)]
          exact y1
        · intro k hk
          obtain ⟨b, c', hb, hc', g1, g2⟩ := s0 k hk
          obtain ⟨z1, z2⟩ := x4 k (by omega) hk
          refine ⟨b, c', hb, by omega, ?_, ?_, ?_, ?_⟩
          · rw [z1, ← hb2 _ (by omega)]; exact g1
          · rw [z2, ← hb2 _ (by omega)]; exact g2
          · rw [y4 _ (by omega) (by omega)]; exact g1
          · rw [y4 _ (by omega) (by omega)]; exact g2
  · have n2 : ¬ nn (t % 2) = 0 := by rw [show (0 : Int32) = nn 0 from rfl, nn_eq (by omega) (by omega)]; exact t2
    exact bad (by rw [hX, if_neg n2]) (by rw [hM, if_neg n2])
end SEE
