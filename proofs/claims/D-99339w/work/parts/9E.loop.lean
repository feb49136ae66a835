/-! PURE LEVEL: all statements, both sides -/
set_option maxRecDepth 100000
section
variable {N : Nat} {A0 A A' A1 A3 : AH} {σ0 σ σ' σ1 σ3 : mSt} {B : Nat → Nat} {n p1 p2 o μ x : Nat} {t : Option Nat} {a0 L C g w nb cd ar c s c' s' c0 s0 c3 s3 : Nat} {be : List Nat} {P K : Nat → Nat → Prop}
theorem LSt.at_ (h : LSt A0 A σ0 σ B n a0 p1 p2 s L C g w nb cd ar μ be) (e : Ex RP 0 0 A A') (r : RD A' B n (sk B n p1) 0 μ (some a0)) (m : Cm Kl σ σ') (rm : RM σ' B n (sk B n p2)) : LSt A0 A' σ0 σ' B n a0 (sk B n p1) (sk B n p1) s L C g w nb cd ar μ be := by
  have a1 := h.ft.a1
  have hge := sk_ge B n p1
  have hge2 := sk_ge B n p2
  have cb := h.cb
  have hs := h.sk_
  rw [hs] at rm hge2
  refine LSt.mk r rm rfl (h.ft.ex e (rp_hi a1) m.ln) ?_ ((m.I _ (by unfold Kl; omega)).trans h.sm) h.sb (by omega) ((h.ex.trans e).wk (by omega) (by omega)) (h.cg.trans m.lt) (by have := e.n1; have := h.nn_; omega) h.fr
  rw [e.I _ (by rw [h.ft.k]; decide) (rp_hi a1 _ _ (Nat.le_refl _))]; exact h.sa
theorem bv_m1 {b : Nat} (h : b ≤ 256) : bv b = -1 ↔ b = 256 := by
  constructor
  · intro z
    rcases Nat.lt_or_ge b 256 with q | q
    · rw [bv_nn q] at z; exact absurd z (nn_ne1 (by omega))
    · omega
  · intro z; rw [z]; rfl
/-- what the reading of a folio gives -/
def FolR (N : Nat) (A0 A : AH) (σ0 : mSt) (B : Nat → Nat) (n a0 L C : Nat) (X : Option (Option (Option Nat) × AH)) (Y : Option (Int32 × mSt)) : Prop :=
  (∃ e A' σ', X = some (none, A') ∧ Le A A' ∧ Y = M_folio_b135 N σ' ∧ FltS A0 σ0 n e A' σ') ∨ (∃ A' σ' p1 p2 s g w nb cd ar μ be, X = some (some (some a0), A') ∧ Le A A' ∧ Y = M_folio_b135 N σ' ∧ LSt A0 A' σ0 σ' B n a0 p1 p2 s L C g w nb cd ar μ be)
theorem fol_loop (hN : 5000 ≤ N) {x1 : Int32} (hr : aN A0 + (110 * (n + 1) + 300) ≤ CB) : ∀ (f z1 z2 : Nat) (A : AH) (σ : mSt) (p1 p2 s g w nb cd ar μ : Nat) (be : List Nat), n - p1 ≤ f → f + 1 < z1 → f + 1 < z2 → LSt A0 A σ0 σ B n a0 p1 p2 s L C g w nb cd ar μ be → FolR N A0 A σ0 B n a0 L C (rn1 (X2_all_b76 N x1) z1 A) (rn1 (M_folio_b113 N) z2 σ) := by
  intro f
  induction f with
  | zero =>
    intro z1 z2 A σ p1 p2 s g w nb cd ar μ be hf h1 h2 h
    obtain ⟨z1, rfl⟩ : ∃ m, z1 = m + 1 := ⟨z1 - 1, by omega⟩
    obtain ⟨z2, rfl⟩ : ∃ m, z2 = m + 1 := ⟨z2 - 1, by omega⟩
    have hB := h.rd.bk
    have hge := sk_ge B n p1
    obtain ⟨A2, x2, x3, x4, _⟩ := here_eq (N := N) hN h.rd
    obtain ⟨σ2, y2, y3, y4⟩ := look_eq (N := N) hN h.rm
    have l2 := h.at_ x3 x4 y3 y4
    have b6 : B (sk B n p1) = 256 := hB.ge _ (by omega)
    refine Or.inr ⟨A2, σ2, _, _, s, g, w, nb, cd, ar, μ, be, ?_, x3.le2, ?_, l2⟩
    · show X2_all_b76 N x1 _ A = _
      unfold X2_all_b76
      rw [x2, bd_some, b6, if_pos (by rfl), x4.to_, bo_some]
    · show M_folio_b113 N _ σ = _
      unfold M_folio_b113
      rw [if_pos h.rm.bad, y2, bd_some, h.sk_, b6, if_pos (by rfl)]
  | succ f ih =>
    intro z1 z2 A σ p1 p2 s g w nb cd ar μ be hf h1 h2 h
    obtain ⟨z1, rfl⟩ : ∃ m, z1 = m + 1 := ⟨z1 - 1, by omega⟩
    obtain ⟨z2, rfl⟩ : ∃ m, z2 = m + 1 := ⟨z2 - 1, by omega⟩
    have hB := h.rd.bk
    have hge := sk_ge B n p1
    have hle := hB.le (sk B n p1)
    obtain ⟨A2, x2, x3, x4, _⟩ := here_eq (N := N) hN h.rd
    obtain ⟨σ2, y2, y3, y4⟩ := look_eq (N := N) hN h.rm
    have l2 := h.at_ x3 x4 y3 y4
    rw [h.sk_] at y2
    by_cases b6 : B (sk B n p1) = 256
    · refine Or.inr ⟨A2, σ2, _, _, s, g, w, nb, cd, ar, μ, be, ?_, x3.le2, ?_, l2⟩
      · show X2_all_b76 N x1 _ A = _
        unfold X2_all_b76
        rw [x2, bd_some, b6, if_pos (by rfl), x4.to_, bo_some]
      · show M_folio_b113 N _ σ = _
        unfold M_folio_b113
        rw [if_pos h.rm.bad, y2, bd_some, b6, if_pos (by rfl)]
    · have hX : ∀ kk, X2_all_b76 N x1 kk A = X2_all_b102 N x1 kk A2 (if s = 80 then 1 else 0) := by
        intro kk
        unfold X2_all_b76
        have sb := l2.sb
        rw [x2, bd_some, if_neg (fun q => b6 ((bv_m1 hle).mp q)), x4.to_, bo_some, gI_k l2.ft.k, bo_some, l2.sa]
        by_cases q : s = 80
        · rw [if_pos q, if_pos (show nn s = (80 : Int32) by rw [q]; rfl)]
        · rw [if_neg q, if_neg (fun v : nn s = (80 : Int32) => q ((nn_eq (b := 80) (by omega) (by decide)).mp v))]
      have hY : ∀ kk, M_folio_b113 N kk σ = bd (M_statementTold N σ2) fun _ σ18 => kk σ18 := by
        intro kk
        unfold M_folio_b113
        rw [if_pos h.rm.bad, y2, bd_some, if_neg (fun q => b6 ((bv_m1 hle).mp q))]
      have st := stm_step (N := N) (x1 := x1) hN l2 (sk_sk hB).symm rfl hr
      show FolR N A0 A σ0 B n a0 L C (X2_all_b76 N x1 (rn1 (X2_all_b76 N x1) z1) A) (M_folio_b113 N (rn1 (M_folio_b113 N) z2) σ)
      rw [hX, hY]
      rcases st with ⟨e, A', σ', k1, k2, k3, k4⟩ | ⟨A', σ', q1, q2, s', g', w', nb', cd', ar', μ', be', k1, k2, k3, k4, k5⟩
      · obtain ⟨z2, rfl⟩ : ∃ m, z2 = m + 1 := ⟨z2 - 1, by omega⟩
        refine Or.inl ⟨e, A', σ', k1 _, x3.le2.trans k2, ?_, k4⟩
        rw [k3, bd_some]
        show M_folio_b113 N (rn1 (M_folio_b113 N) z2) σ' = _
        unfold M_folio_b113
        rw [if_neg k4.2.2.2.1.ne]
      · have pn := x4.pn
        have hlt : sk B n p1 < n := by
          rcases Nat.lt_or_ge (sk B n p1) n with y | y
          · exact y
          · exact absurd (hB.ge _ y) b6
        rw [k3, bd_some]
        rcases ih z1 z2 A' σ' q1 q2 s' g' w' nb' cd' ar' μ' be' (by omega) (by omega) (by omega) k5 with ⟨e, A3, σ3, i1, i2, i3, i4⟩ | ⟨A3, σ3, p3, p4, s3, g3, w3, nb3, cd3, ar3, μ3, be3, i1, i2, i3, i4⟩
        · exact Or.inl ⟨e, A3, σ3, k1 _ _ _ i1 i2, x3.le2.trans (k2.trans i2), i3, i4⟩
        · exact Or.inr ⟨A3, σ3, p3, p4, s3, g3, w3, nb3, cd3, ar3, μ3, be3, k1 _ _ _ i1 i2, x3.le2.trans (k2.trans i2), i3, i4⟩
theorem arr_new (g0 : GN A) (hr : aN A < CB) {a key len : Nat} (hk : aK A a = 2) (ha : a < CB) (hl : len ≤ 100) : ∃ A', (∀ {β : Type} (f : AH → Option (β × AH)) (r : β) (A2 : AH), f A' = some (r, A2) → Le A' A2 → (bo (nwA A 31 (nn len)) fun A1 => ck A1 (bo (pR 2 A1 key a (some (aN A))) f)) = some (r, A2)) ∧ Ex (fun f i => f = key ∧ i = a) 1 len A A' ∧ aN A' = aN A + 1 ∧ aR A' key a 0 = some (aN A) ∧ aK A' (aN A) = 31 ∧ aL A' (aN A) = len ∧ (∀ j, aI A' 31 (aN A) j = 0) ∧ aK A' a = 2 := by
  have e1 : Ex (fun f i => f = key ∧ i = a) 1 len A (nw A 31 len len) := Ex.nw g0 hr
  have fr := g0.fresh hr
  have ne : a ≠ aN A := fun z => by rw [z, fr] at hk; cases hk
  have k1 : aK (nw A 31 len len) a = 2 := by rw [aK_nw, if_neg ne]; exact hk
  have e2 : Ex (fun f i => f = key ∧ i = a) 1 len A (wR (nw A 31 len len) key a 0 (some (aN A))) := (e1.trans (Ex.wR e1.gn ⟨rfl, rfl⟩ ha)).wk (by omega) (by omega)
  refine ⟨_, fun f r A2 h1 h2 => ?_, e2, rfl, by rw [aR_wR, if_pos ⟨rfl, rfl, rfl⟩], by show aK (nw A 31 len len) (aN A) = 31; rw [aK_nw, if_pos rfl], by show aL (nw A 31 len len) (aN A) = len; rw [aL_nw, if_pos rfl], fun j => by rw [aI_wR, aI_nw, if_pos rfl], k1⟩
  rw [nwA_ok hr (by omega), bo_some, pR_k k1, bo_some, h1]
  exact ck_ok (Le.trans (show Le (nw A 31 len len) (wR (nw A 31 len len) key a 0 (some (aN A))) from Le.refl _) h2)
/-- a new folio -/
theorem folio_new (g0 : GN A) (hr : aN A + 7 ≤ CB) : ∃ A', X1_init (nw A 2 0 15) (aN A) = some ((), A') ∧ Le (nw A 2 0 15) A' ∧ Ex (fun _ _ => False) 7 64 A A' ∧ aN A' = aN A + 7 ∧ aK A' (aN A) = 2 ∧ (∀ f, f ≤ 205 → aI A' f (aN A) 0 = 0) ∧ (∀ f, 211 ≤ f → aR A' f (aN A) 0 = none) ∧ ArT A' (aN A) 206 1 6 ∧ ArT A' (aN A) 207 2 12 ∧ ArT A' (aN A) 208 3 12 ∧ ArT A' (aN A) 209 4 12 ∧ (∀ l, aI A' 31 (aN A + 1) l = 0) ∧ aR A' 210 (aN A) 0 = some (aN A + 5) ∧ LX A' (aN A + 5) (aN A + 6) [] := by
  have fr := g0.fresh (show aN A < CB by omega)
  have e0 : Ex (fun _ _ => False) 1 15 A (nw A 2 0 15) := Ex.nw g0 (by omega)
  have k0 : aK (nw A 2 0 15) (aN A) = 2 := by rw [aK_nw, if_pos rfl]
  have i0 : ∀ f j, aI (nw A 2 0 15) f (aN A) j = 0 := fun f j => by rw [aI_nw, if_pos rfl]
  have r0 : ∀ f j, aR (nw A 2 0 15) f (aN A) j = none := fun f j => by rw [aR_nw, if_pos rfl]
  have n0 : aN (nw A 2 0 15) = aN A + 1 := rfl
  obtain ⟨A1, f1, x1, n1, p1, q1, l1, v1, k1⟩ := arr_new (key := 206) (len := 6) e0.gn (by omega) k0 (by omega) (by decide)
  obtain ⟨A2, f2, x2, n2, p2, q2, l2, v2, k2⟩ := arr_new (key := 207) (len := 12) x1.gn (by omega) k1 (by omega) (by decide)
  obtain ⟨A3, f3, x3, n3, p3, q3, l3, v3, k3⟩ := arr_new (key := 208) (len := 12) x2.gn (by omega) k2 (by omega) (by decide)
  obtain ⟨A4, f4, x4, n4, p4, q4, l4, v4, k4⟩ := arr_new (key := 209) (len := 12) x3.gn (by omega) k3 (by omega) (by decide)
  rw [n0] at p1 q1 l1 v1 n1
  rw [n1] at p2 q2 l2 v2 n2
  rw [n2] at p3 q3 l3 v3 n3
  rw [n3] at p4 q4 l4 v4 n4
  obtain ⟨A5, h5, x5, y5, lx5, c5, n5⟩ := list_new x4.gn (c := 4) (by omega) (by omega) (by omega)
  rw [n4] at lx5 c5 n5 h5
  have k5 : aK A5 (aN A) = 2 := x5.K k4 (by decide)
  have x6 : Ex (fun f i => f = 210 ∧ i = aN A) 0 0 A5 (wR A5 210 (aN A) 0 (some (aN A + 5))) := Ex.wR x5.gn ⟨rfl, rfl⟩ (by omega)
  have nz : ∀ {D : AH}, aK D (aN A) = 2 → aK D (aN A) ≠ 0 := fun h => by rw [h]; decide
  -- nothing else of the folio has changed
  have I6 : ∀ f, f ≤ 205 → aI (wR A5 210 (aN A) 0 (some (aN A + 5))) f (aN A) 0 = 0 := fun f hf => by
    rw [x6.I _ (nz k5) (by omega), x5.I _ (nz k4) id, x4.I _ (nz k3) (by omega), x3.I _ (nz k2) (by omega), x2.I _ (nz k1) (by omega), x1.I _ (nz k0) (by omega)]; exact i0 f 0
  have R6 : ∀ f, 211 ≤ f → aR (wR A5 210 (aN A) 0 (some (aN A + 5))) f (aN A) 0 = none := fun f hf => by
    rw [x6.R _ (nz k5) (by omega), x5.R _ (nz k4) id, x4.R _ (nz k3) (by omega), x3.R _ (nz k2) (by omega), x2.R _ (nz k1) (by omega), x1.R _ (nz k0) (by omega)]; exact r0 f 0
  have g1 : ArT (wR A5 210 (aN A) 0 (some (aN A + 5))) (aN A) 206 1 6 := (((((show ArT A1 (aN A) 206 1 6 from ⟨p1, q1, l1⟩).ex k1 x2 (by omega)).ex k2 x3 (by omega)).ex k3 x4 (by omega)).ex k4 x5 id).ex k5 x6 (by omega)
  have g2 : ArT (wR A5 210 (aN A) 0 (some (aN A + 5))) (aN A) 207 2 12 := ((((show ArT A2 (aN A) 207 2 12 from ⟨p2, q2, l2⟩).ex k2 x3 (by omega)).ex k3 x4 (by omega)).ex k4 x5 id).ex k5 x6 (by omega)
  have g3 : ArT (wR A5 210 (aN A) 0 (some (aN A + 5))) (aN A) 208 3 12 := (((show ArT A3 (aN A) 208 3 12 from ⟨p3, q3, l3⟩).ex k3 x4 (by omega)).ex k4 x5 id).ex k5 x6 (by omega)
  have g4 : ArT (wR A5 210 (aN A) 0 (some (aN A + 5))) (aN A) 209 4 12 := ((show ArT A4 (aN A) 209 4 12 from ⟨p4, q4, l4⟩).ex k4 x5 id).ex k5 x6 (by omega)
  have q31 : ∀ {D E : AH} {P : Nat → Nat → Prop} {c s : Nat}, Ex P c s D E → aK D (aN A + 1) = 31 → aK E (aN A + 1) = 31 := fun e h => e.K h (by decide)
  have z31 : ∀ {D : AH}, aK D (aN A + 1) = 31 → aK D (aN A + 1) ≠ 0 := fun h => by rw [h]; decide
  have w2 := q31 x2 q1
  have w3 := q31 x3 w2
  have w4 := q31 x4 w3
  have w5 := q31 x5 w4
  have V6 : ∀ l, aI (wR A5 210 (aN A) 0 (some (aN A + 5))) 31 (aN A + 1) l = 0 := fun l => by
    rw [x6.I _ (z31 w5) (by omega), x5.I _ (z31 w4) id, x4.I _ (z31 w3) (by omega), x3.I _ (z31 w2) (by omega), x2.I _ (z31 q1) (by omega)]; exact v1 l
  have ee : Ex (fun _ _ => False) 7 64 A (wR A5 210 (aN A) 0 (some (aN A + 5))) := by
    have d : ∀ {key : Nat} (f i : Nat), (f = key ∧ i = aN A) → False ∨ aK A i = 0 := fun f i z => Or.inr (by rw [z.2]; exact fr)
    exact ((((((e0.tr x1 d).tr x2 d).tr x3 d).tr x4 d).trans x5).tr x6 d).wk (by omega) (by omega)
  have l56 : Le (nw A4 18 0 3) (wR A5 210 (aN A) 0 (some (aN A + 5))) := y5.trans x6.le2
  have l46 : Le A4 (wR A5 210 (aN A) 0 (some (aN A + 5))) := x5.le2.trans x6.le2
  have l36 := x4.le2.trans l46
  have l26 := x3.le2.trans l36
  have l16 := x2.le2.trans l26
  have l06 := x1.le2.trans l16
  refine ⟨_, ?_, l06, ee, by show aN A5 = _; omega, k5, I6, R6, g1, g2, g3, g4, V6, by rw [aR_wR, if_pos ⟨rfl, rfl, rfl⟩], lx5.ex x6 (fun f => by omega) (fun f => by omega)⟩
  unfold X1_init
  have s5 : (bo (nwO A4 18 3) fun A9 => ck A9 ( bda A9 (J2_init A9 (aN A4) 4) fun _ A10 => bo (pR 2 A10 210 (aN A) (some (aN A4))) fun A11 => some ((), A11))) = some ((), wR A5 210 (aN A) 0 (some (aN A + 5))) := by
    rw [nwO_ok (by omega), bo_some, n4, show (4 : Int32) = nn 4 from rfl, h5, bda_ok y5, pR_k k5, bo_some, ck_ok x6.le2, ck_ok l56]
  have s4 := f4 (fun A8 => bo (nwO A8 18 3) fun A9 => ck A9 ( bda A9 (J2_init A9 (aN A8) 4) fun _ A10 => bo (pR 2 A10 210 (aN A) (some (aN A8))) fun A11 => some ((), A11))) _ _ s5 l46
  have s3 := f3 (fun A6 => bo (nwA A6 31 (nn 12)) fun A7 => ck A7 ( bo (pR 2 A7 209 (aN A) (some (aN A6))) fun A8 => bo (nwO A8 18 3) fun A9 => ck A9 ( bda A9 (J2_init A9 (aN A8) 4) fun _ A10 => bo (pR 2 A10 210 (aN A) (some (aN A8))) fun A11 => some ((), A11)))) _ _ s4 l36
  have s2 := f2 (fun A4 => bo (nwA A4 31 (nn 12)) fun A5 => ck A5 ( bo (pR 2 A5 208 (aN A) (some (aN A4))) fun A6 => bo (nwA A6 31 (nn 12)) fun A7 => ck A7 ( bo (pR 2 A7 209 (aN A) (some (aN A6))) fun A8 => bo (nwO A8 18 3) fun A9 => ck A9 ( bda A9 (J2_init A9 (aN A8) 4) fun _ A10 => bo (pR 2 A10 210 (aN A) (some (aN A8))) fun A11 => some ((), A11))))) _ _ s3 l26
  have s1 := f1 (fun A2 => bo (nwA A2 31 (nn 12)) fun A3 => ck A3 ( bo (pR 2 A3 207 (aN A) (some (aN A2))) fun A4 => bo (nwA A4 31 (nn 12)) fun A5 => ck A5 ( bo (pR 2 A5 208 (aN A) (some (aN A4))) fun A6 => bo (nwA A6 31 (nn 12)) fun A7 => ck A7 ( bo (pR 2 A7 209 (aN A) (some (aN A6))) fun A8 => bo (nwO A8 18 3) fun A9 => ck A9 ( bda A9 (J2_init A9 (aN A8) 4) fun _ A10 => bo (pR 2 A10 210 (aN A) (some (aN A8))) fun A11 => some ((), A11)))))) _ _ s2 l16
  exact (congrArg (ck (nw A 2 0 15)) s1).trans (ck_ok l06)
end
