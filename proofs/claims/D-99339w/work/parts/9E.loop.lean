/-! PURE LEVEL: all statements, both sides -/
set_option maxRecDepth 100000
section
variable {N : Nat} {A0 A A' A1 A3 : AH} {σ0 σ σ' σ1 σ3 : mSt} {B : Nat → Nat} {n p1 p2 o μ x : Nat} {t : Option Nat} {a0 L C g w nb cd ar c s c' s' c0 s0 c3 s3 : Nat} {be : List Nat} {P K : Nat → Nat → Prop}
theorem LSt.at_ (h : LSt A0 A σ0 σ B n a0 p1 p2 s L C g w nb cd ar μ be) (e : Ex RP 0 0 A A') (r : RD A' B n (sk B n p1) 0 μ (some a0)) (m : Cm Kl σ σ') (rm : RM σ' B n (sk B n p2)) : LSt A0 A' σ0 σ' B n a0 (sk B n p1) (sk B n p1) s L C g w nb cd ar μ be := by
  have a1 := h.ft.a1
  have hge := sk_ge B n p1
  have hge2 := sk_ge B n p2
  have cb := h.cb
  have hs := h.sk_
  rw [hs] at rm hge2
  refine LSt.mk r rm rfl (h.ft.ex e (rp_hi a1) m.ln) ?_ ((m.I _ (by unfold Kl; omega)).trans h.sm) h.sb (by omega) ((h.ex.trans e).wk (by omega) (by omega)) (h.cg.trans m.lt) (by have := e.n1; have := h.nn_; omega) h.fr
  rw [e.I _ (by rw [h.ft.k]; decide) (rp_hi a1 _ _ (Nat.le_refl _))]; exact h.sa
theorem bv_m1 {b : Nat} (h : b ≤ 256) : bv b = -1 ↔ b = 256 := by
  constructor
  · intro z
    rcases Nat.lt_or_ge b 256 with q | q
    · rw [bv_nn q] at z; exact absurd z (nn_ne1 (by omega))
    · omega
  · intro z; rw [z]; rfl
/-- what the reading of a folio gives -/
def FolR (N : Nat) (A0 A : AH) (σ0 : mSt) (B : Nat → Nat) (n a0 L C : Nat) (X : Option (Option (Option Nat) × AH)) (Y : Option (Int32 × mSt)) : Prop :=
  (∃ e A' σ', X = some (none, A') ∧ Le A A' ∧ Y = M_folio_b135 N σ' ∧ FltS A0 σ0 n e A' σ') ∨ (∃ A' σ' p1 p2 s g w nb cd ar μ be, X = some (some (some a0), A') ∧ Le A A' ∧ Y = M_folio_b135 N σ' ∧ LSt A0 A' σ0 σ' B n a0 p1 p2 s L C g w nb cd ar μ be)
theorem fol_loop (hN : 5000 ≤ N) {x1 : Int32} (hr : aN A0 + (110 * (n + 1) + 300) ≤ CB) : ∀ (f z1 z2 : Nat) (A : AH) (σ : mSt) (p1 p2 s g w nb cd ar μ : Nat) (be : List Nat), n - p1 ≤ f → f + 1 < z1 → f + 1 < z2 → LSt A0 A σ0 σ B n a0 p1 p2 s L C g w nb cd ar μ be → FolR N A0 A σ0 B n a0 L C (rn1 (X2_all_b76 N x1) z1 A) (rn1 (M_folio_b113 N) z2 σ) := by
  intro f
  induction f with
  | zero =>
    intro z1 z2 A σ p1 p2 s g w nb cd ar μ be hf h1 h2 h
    obtain ⟨z1, rfl⟩ : ∃ m, z1 = m + 1 := ⟨z1 - 1, by omega⟩
    obtain ⟨z2, rfl⟩ : ∃ m, z2 = m + 1 := ⟨z2 - 1, by omega⟩
    have hB := h.rd.bk
    have hge := sk_ge B n p1
    obtain ⟨A2, x2, x3, x4, _⟩ := here_eq (N := N) hN h.rd
    obtain ⟨σ2, y2, y3, y4⟩ := look_eq (N := N) hN h.rm
    have l2 := h.at_ x3 x4 y3 y4
    have b6 : B (sk B n p1) = 256 := hB.ge _ (by omega)
    refine Or.inr ⟨A2, σ2, _, _, s, g, w, nb, cd, ar, μ, be, ?_, x3.le2, ?_, l2⟩
    · show X2_all_b76 N x1 _ A = _
      unfold X2_all_b76
      rw [x2, bd_some, b6, if_pos (by rfl), x4.to_, bo_some]
    · show M_folio_b113 N _ σ = _
      unfold M_folio_b113
      rw [if_pos h.rm.bad, y2, bd_some, h.sk_, b6, if_pos (by rfl)]
  | succ f ih =>
    intro z1 z2 A σ p1 p2 s g w nb cd ar μ be hf h1 h2 h
    obtain ⟨z1, rfl⟩ : ∃ m, z1 = m + 1 := ⟨z1 - 1, by omega⟩
    obtain ⟨z2, rfl⟩ : ∃ m, z2 = m + 1 := ⟨z2 - 1, by omega⟩
    have hB := h.rd.bk
    have hge := sk_ge B n p1
    have hle := hB.le (sk B n p1)
    obtain ⟨A2, x2, x3, x4, _⟩ := here_eq (N := N) hN h.rd
    obtain ⟨σ2, y2, y3, y4⟩ := look_eq (N := N) hN h.rm
    have l2 := h.at_ x3 x4 y3 y4
    rw [h.sk_] at y2
    by_cases b6 : B (sk B n p1) = 256
    · refine Or.inr ⟨A2, σ2, _, _, s, g, w, nb, cd, ar, μ, be, ?_, x3.le2, ?_, l2⟩
      · show X2_all_b76 N x1 _ A = _
        unfold X2_all_b76
        rw [x2, bd_some, b6, if_pos (by rfl), x4.to_, bo_some]
      · show M_folio_b113 N _ σ = _
        unfold M_folio_b113
        rw [if_pos h.rm.bad, y2, bd_some, b6, if_pos (by rfl)]
    · have hX : ∀ kk, X2_all_b76 N x1 kk A = X2_all_b102 N x1 kk A2 (if s = 80 then 1 else 0) := by
        intro kk
        unfold X2_all_b76
        have sb := l2.sb
        rw [x2, bd_some, if_neg (fun q => b6 ((bv_m1 hle).mp q)), x4.to_, bo_some, gI_k l2.ft.k, bo_some, l2.sa]
        by_cases q : s = 80
        · rw [if_pos q, if_pos (show nn s = (80 : Int32) by rw [q]; rfl)]
        · rw [if_neg q, if_neg (fun v : nn s = (80 : Int32) => q ((nn_eq (b := 80) (by omega) (by decide)).mp v))]
      have hY : ∀ kk, M_folio_b113 N kk σ = bd (M_statementTold N σ2) fun _ σ18 => kk σ18 := by
        intro kk
        unfold M_folio_b113
        rw [if_pos h.rm.bad, y2, bd_some, if_neg (fun q => b6 ((bv_m1 hle).mp q))]
      have st := stm_step (N := N) (x1 := x1) hN l2 (sk_sk hB).symm rfl hr
      show FolR N A0 A σ0 B n a0 L C (X2_all_b76 N x1 (rn1 (X2_all_b76 N x1) z1) A) (M_folio_b113 N (rn1 (M_folio_b113 N) z2) σ)
      rw [hX, hY]
      rcases st with ⟨e, A', σ', k1, k2, k3, k4⟩ | ⟨A', σ', q1, q2, s', g', w', nb', cd', ar', μ', be', k1, k2, k3, k4, k5⟩
      · obtain ⟨z2, rfl⟩ : ∃ m, z2 = m + 1 := ⟨z2 - 1, by omega⟩
        refine Or.inl ⟨e, A', σ', k1 _, x3.le2.trans k2, ?_, k4⟩
        rw [k3, bd_some]
        show M_folio_b113 N (rn1 (M_folio_b113 N) z2) σ' = _
        unfold M_folio_b113
        rw [if_neg k4.2.2.2.1.ne]
      · have pn := x4.pn
        have hlt : sk B n p1 < n := by
          rcases Nat.lt_or_ge (sk B n p1) n with y | y
          · exact y
          · exact absurd (hB.ge _ y) b6
        rw [k3, bd_some]
        rcases ih z1 z2 A' σ' q1 q2 s' g' w' nb' cd' ar' μ' be' (by omega) (by omega) (by omega) k5 with ⟨e, A3, σ3, i1, i2, i3, i4⟩ | ⟨A3, σ3, p3, p4, s3, g3, w3, nb3, cd3, ar3, μ3, be3, i1, i2, i3, i4⟩
        · exact Or.inl ⟨e, A3, σ3, k1 _ _ _ i1 i2, x3.le2.trans (k2.trans i2), i3, i4⟩
        · exact Or.inr ⟨A3, σ3, p3, p4, s3, g3, w3, nb3, cd3, ar3, μ3, be3, k1 _ _ _ i1 i2, x3.le2.trans (k2.trans i2), i3, i4⟩
/-- a new folio -/
theorem folio_new (g0 : GN A) (hr : aN A + 7 ≤ CB) : ∃ A', X1_init (nw A 2 0 15) (aN A) = some ((), A') ∧ Le (nw A 2 0 15) A' ∧ Ex (fun _ _ => False) 7 70 A A' ∧ aN A' = aN A + 7 ∧ aK A' (aN A) = 2 ∧ (∀ f, aI A' f (aN A) 0 = 0) ∧ (∀ f, 211 ≤ f → aR A' f (aN A) 0 = none) ∧ ArT A' (aN A) 206 1 6 ∧ ArT A' (aN A) 207 2 12 ∧ ArT A' (aN A) 208 3 12 ∧ ArT A' (aN A) 209 4 12 ∧ (∀ l, aI A' 31 (aN A + 1) l = 0) ∧ aR A' 210 (aN A) 0 = some (aN A + 5) ∧ LX A' (aN A + 5) (aN A + 6) [] := by
  sorry
end
