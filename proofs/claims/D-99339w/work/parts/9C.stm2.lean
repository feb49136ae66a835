/-! PURE LEVEL: one statement, both sides: its end, and which it is -/
set_option maxRecDepth 100000
section
variable {N : Nat} {A0 A A' A1 A3 : AH} {σ0 σ σ' σ1 σ3 : mSt} {B : Nat → Nat} {n p o μ : Nat} {t : Option Nat} {a0 L C g w nb cd ar c s c' s' c0 s0 c3 s3 : Nat} {be : List Nat} {P K : Nat → Nat → Prop}
theorem wl_bd (hB : BOK B n) {q : Nat} (hq : q ≤ n) : wl B n q ≤ n - q := by
  unfold wl
  have h1 := sk_ge B n q
  have h2 : sk B n q ≤ n := rp_le hB bl_f6 hq
  have := rp_le (P := isLt) hB lt_f6 (p := sk B n q) h2
  omega
/-- the sign at the end of a statement -/
theorem stm59 (hN : 5000 ≤ N) {q1 q2 x : Nat} {x1 : Int32} (rd : RD A3 B n q1 0 μ (some a0)) (rm : RM σ3 B n q2) (hs : sk B n q2 = sk B n q1) (ft : FT A3 σ3 a0 L C g w nb cd ar be) (sa : aI A3 200 a0 0 = nn (x + 1)) (sm : σ3.1 53 0 = nn x) (hx : x < 80) (cb : cd ≤ q2) (ex : Ex RP c3 s3 A0 A3) (cg : Cg Kt σ0 σ3) (hn : a0 + 7 ≤ aN A3) (fr : ∀ i, a0 ≤ i → i < CB → aK A0 i = 0) (hc : c3 ≤ 110 * q1 + 10 + 6 * wl B n q1) (hsl : s3 ≤ 4100 * q1 + 200 + 12 * wl B n q1) :
    (∃ e A' σ', (∀ kk, X2_all_b148 N x1 kk A3 = some (none, A')) ∧ Le A3 A' ∧ M_statementTold_b177 N σ3 = some ((), σ') ∧ FltS A0 σ0 n e A' σ') ∨ (∃ A' σ' p1, (∀ kk, X2_all_b148 N x1 kk A3 = kk A') ∧ Le A3 A' ∧ M_statementTold_b177 N σ3 = some ((), σ') ∧ q1 < p1 ∧ LSt A0 A' σ0 σ' B n a0 p1 p1 (x + 1) L C g w nb cd ar μ be) := by
  have hB := rd.bk
  have a1 := ft.a1
  have pn := rd.pn
  have wb := wl_bd hB pn
  have hge := sk_ge B n q1
  have hge2 := sk_ge B n q2
  obtain ⟨σ4, h4, c4, r4⟩ := asksSign_eq hN rm (c := 59) (by decide) (by unfold LD; decide)
  have mx := must_eq hN rd (c := 59) (by decide)
  have e53 : σ4.1 53 0 = nn x := (c4.I _ (by unfold Kl; omega)).trans sm
  have hY : M_statementTold_b177 N σ3 = some ((), mUI σ4 53 0 (nn (x + 1))) := by
    unfold M_statementTold_b177
    rw [show M_asksSign N σ3 59 = _ from h4, bd_some, lt2_eq, e53, nn_succ]
  have hX : ∀ kk, X2_all_b148 N x1 kk A3 = bx (X2_must N A3 (nn 59)) fun _ A40 => kk A40 := fun kk => rfl
  unfold sMust at r4 mx
  rw [hs] at r4
  have cg5 : Cg Kt σ0 (mUI σ4 53 0 (nn (x + 1))) := cg.trans (c4.lt.trans (Cg.UI (Or.inl rfl)))
  by_cases z : B (sk B n q1) = 59
  · rw [if_pos z] at r4 mx
    obtain ⟨r, A4, m1, m2, m3⟩ := mx
    have r4 : RM σ4 B n (sk B n q1 + 1) := r4
    have w0 : wl B n q1 = 0 := wl_zero (by rw [z]; decide)
    refine Or.inr ⟨A4, _, sk B n q1 + 1, fun kk => ?_, m2.le2, hY, by omega, LSt.mk m3 (r4.hi (Cg.UI (K := fun k j => k = 53) rfl) (fun k j q => by omega)) rfl ((ft.ex m2 (rp_hi a1) c4.ln).exg (P := fun _ _ => False) (Ex.refl m2.gn) (fun _ _ _ => id) (Cg.UI (K := fun k j => k = 53) rfl) (fun k j h1 h2 q => ?_)) ?_ ?_ (by omega) (by omega) ((ex.trans m2).wk (by omega) (by omega)) cg5 (by have := m2.n1; omega) fr⟩
    · rw [hX, m1, bx_some]
    · have q : k = 53 := q
      omega
    · rw [m2.I _ (by rw [ft.k]; decide) (rp_hi a1 _ _ (Nat.le_refl _))]; exact sa
    · rw [mI_UI, if_pos ⟨rfl, rfl⟩]
  · rw [if_neg z] at r4 mx
    obtain ⟨A4, m1, m2⟩ := mx
    have r4 : RF σ4 (1, sk B n q1) := r4
    refine Or.inl ⟨(1, sk B n q1), A4, _, fun kk => ?_, m2.ex.le2, hY, (ex.trans m2.ex).wk (by omega) (by omega), m2.k, m2.pl, RF.mk ?_ ?_ r4.nz, cg5⟩
    · rw [hX, m1, bx_none]
    · rw [mI_UI, if_neg (by decide)]; exact r4.b
    · rw [mI_UI, if_neg (by decide)]; exact r4.pl
/-- what one statement gives -/
def StpR (N : Nat) (A0 A : AH) (σ0 : mSt) (B : Nat → Nat) (n a0 p1 L C : Nat) (Xf : (AH → Option (Option (Option Nat) × AH)) → Option (Option (Option Nat) × AH)) (Y : Option (Unit × mSt)) : Prop :=
  (∃ e A' σ', (∀ kk, Xf kk = some (none, A')) ∧ Le A A' ∧ Y = some ((), σ') ∧ FltS A0 σ0 n e A' σ') ∨ (∃ A' σ' q1 q2 s g w nb cd ar μ be, (∀ kk r A'', kk A' = some (r, A'') → Le A' A'' → Xf kk = some (r, A'')) ∧ Le A A' ∧ Y = some ((), σ') ∧ p1 < q1 ∧ LSt A0 A' σ0 σ' B n a0 q1 q2 s L C g w nb cd ar μ be)
/-- a statement of 'places' -/
theorem stm_places (hN : 5000 ≤ N) {q x cB sB : Nat} {x1 : Int32} {A2 A34 : AH} {σ2 : mSt} {Y2 : Option (Unit × mSt)} {Xp : Option (Option Int32 × AH)}
    (hX : ∀ kk, (bxa A34 (X2_places N A34 x (aI A34 303 9 0)) fun r37 A38 => if r37 = 0 then (bxa A38 (X2_more N A38 x (aI A38 303 9 0)) fun _ A42 => X2_all_b148 N x1 kk A42) else (X2_all_b148 N x1 kk A38)) = bxa A34 (ck A34 (ck A2 Xp)) fun r37 A38 => if r37 = 0 then (bxa A38 (X2_more N A38 x (aI A38 303 9 0)) fun _ A42 => X2_all_b148 N x1 kk A42) else (X2_all_b148 N x1 kk A38))
    (l34 : Le A34 A2) (j : Jn Xp Y2 A2 σ2 a0 cB sB (fun r A' σ' => r = 1 ∧ ∃ q1 g w nb cd ar be, RD A' B n q1 0 μ (some a0) ∧ RM σ' B n q1 ∧ p + 1 ≤ q1 ∧ 110 * p + 10 + cB ≤ 110 * q1 + 10 ∧ 4100 * p + 200 + sB ≤ 4100 * q1 + 200 + 0 ∧ cd ≤ q1 ∧ FT A' σ' a0 L C g w nb cd ar be ∧ aI A' 200 a0 0 = nn (q + 1) ∧ σ'.1 53 0 = nn q))
    (hq : q < 80) (ex : Ex RP (110 * p + 10) (4100 * p + 200) A0 A2) (cg : Cg Kt σ0 σ2) (hn : a0 + 7 ≤ aN A2) (fr : ∀ i, a0 ≤ i → i < CB → aK A0 i = 0) (hp : p ≤ n) (hcB : cB ≤ 100) (hsB : sB ≤ 17000) {Y : Option (Unit × mSt)} (hY : Y = bd Y2 fun _ σ27 => M_statementTold_b177 N σ27) :
    StpR N A0 A34 σ0 B n a0 p L C (fun kk => bxa A34 (X2_places N A34 x (aI A34 303 9 0)) fun r37 A38 => if r37 = 0 then (bxa A38 (X2_more N A38 x (aI A38 303 9 0)) fun _ A42 => X2_all_b148 N x1 kk A42) else (X2_all_b148 N x1 kk A38)) Y := by
  rcases j with ⟨e, A3, σ3, j1, j2, j3, j4, j5, j6, j7⟩ | ⟨r, A3, σ3, j1, j2, j3, j4, rfl, q1, g, w, nb, cd, ar, be, s1, s2, s3, s4, s5, s6, s7, s8, s9⟩
  · obtain ⟨σ4, k1, k2, k3⟩ := b177_bad (N := N) j6
    refine Or.inl ⟨e, A3, σ4, fun kk => ?_, l34.trans j2.le2, by rw [hY, j5, bd_some, k1], (ex.top j2 fr).wk (by omega) (by omega), j3, j4, k2, cg.trans (j7.trans k3)⟩
    show (bxa A34 (X2_places N A34 x (aI A34 303 9 0)) fun r37 A38 => _) = _
    rw [hX, j1, ck_ok j2.le2, ck_ok (l34.trans j2.le2), bxa_no (l34.trans j2.le2)]
  · have l3 := l34.trans j3.le2
    have hXk : ∀ kk, (bxa A34 (X2_places N A34 x (aI A34 303 9 0)) fun r37 A38 => if r37 = 0 then (bxa A38 (X2_more N A38 x (aI A38 303 9 0)) fun _ A42 => X2_all_b148 N x1 kk A42) else (X2_all_b148 N x1 kk A38)) = ck A3 (X2_all_b148 N x1 kk A3) := by
      intro kk
      rw [hX, j1, ck_ok j3.le2, ck_ok l3, bxa_ok l3, if_neg (by decide)]
    have n3 := j3.n1
    rcases stm59 (x1 := x1) hN s1 s2 rfl s7 s8 s9 hq s6 (ex.top j3 fr) (cg.trans j4) (by omega) fr (by omega) (by omega) with ⟨e, A4, σ4, t1, t2, t3, t4⟩ | ⟨A4, σ4, p4, t1, t2, t3, t4, t5⟩
    · refine Or.inl ⟨e, A4, σ4, fun kk => ?_, l3.trans t2, by rw [hY, j2, bd_some, t3], t4⟩
      show (bxa A34 (X2_places N A34 x (aI A34 303 9 0)) fun r37 A38 => _) = _
      rw [hXk, t1, ck_ok t2]
    · refine Or.inr ⟨A4, σ4, p4, p4, _, _, _, _, _, _, _, _, fun kk r A'' hk hl => ?_, l3.trans t2, by rw [hY, j2, bd_some, t3], by omega, t5⟩
      show (bxa A34 (X2_places N A34 x (aI A34 303 9 0)) fun r37 A38 => _) = _
      rw [hXk, t1, hk, ck_ok (t2.trans hl)]
/-- a statement of 'more' -/
theorem stm_more (hN : 5000 ≤ N) {q x cB sB : Nat} {x1 : Int32} {A2 A34 : AH} {σ2 : mSt} {Y2 : Option (Unit × mSt)} {Xm : Option (Option Unit × AH)}
    (hX : ∀ kk, (bxa A34 (X2_places N A34 x (aI A34 303 9 0)) fun r37 A38 => if r37 = 0 then (bxa A38 (X2_more N A38 x (aI A38 303 9 0)) fun _ A42 => X2_all_b148 N x1 kk A42) else (X2_all_b148 N x1 kk A38)) = ck A2 (bxa A2 (ck A2 (ck A2 Xm)) fun _ A42 => X2_all_b148 N x1 kk A42))
    (l34 : Le A34 A2) (j : Jn Xm Y2 A2 σ2 a0 cB sB (fun r A' σ' => ∃ q1 q2 cd μ, RD A' B n q1 0 μ (some a0) ∧ RM σ' B n q2 ∧ sk B n q2 = sk B n q1 ∧ p + 1 ≤ q1 ∧ cd ≤ q2 ∧ FT A' σ' a0 L C g w nb cd ar be ∧ Ex (RPa a0) (110 * (q1 - p) + 6 * wl B n q1) (4100 * (q1 - p) + 12 * wl B n q1) A2 A' ∧ aI A' 200 a0 0 = nn (q + 1) ∧ σ'.1 53 0 = nn q) ∨ Near Xm Y2 A2 σ2 B n a0 cB sB)
    (hq : q < 80) (ex : Ex RP (110 * p + 10) (4100 * p + 200) A0 A2) (cg : Cg Kt σ0 σ2) (hn : a0 + 7 ≤ aN A2) (fr : ∀ i, a0 ≤ i → i < CB → aK A0 i = 0) (hp : p ≤ n) (hcB : cB ≤ 110 * (n + 1 - p) + 100) (hsB : sB ≤ 4100 * (n + 1 - p) + 1000) {Y : Option (Unit × mSt)} (hY : Y = bd Y2 fun _ σ27 => M_statementTold_b177 N σ27) :
    StpR N A0 A34 σ0 B n a0 p L C (fun kk => bxa A34 (X2_places N A34 x (aI A34 303 9 0)) fun r37 A38 => if r37 = 0 then (bxa A38 (X2_more N A38 x (aI A38 303 9 0)) fun _ A42 => X2_all_b148 N x1 kk A42) else (X2_all_b148 N x1 kk A38)) Y := by
  have flt : ∀ e A3 σ3 σ4, Xm = some (none, A3) → Ex (RPa a0) cB sB A2 A3 → aI A3 406 10 0 = nn e.1 → aI A3 407 10 0 = nn e.2 → Y2 = some ((), σ3) → M_statementTold_b177 N σ3 = some ((), σ4) → RF σ4 e → Cg Kt σ2 σ4 → StpR N A0 A34 σ0 B n a0 p L C (fun kk => bxa A34 (X2_places N A34 x (aI A34 303 9 0)) fun r37 A38 => if r37 = 0 then (bxa A38 (X2_more N A38 x (aI A38 303 9 0)) fun _ A42 => X2_all_b148 N x1 kk A42) else (X2_all_b148 N x1 kk A38)) Y := by
    intro e A3 σ3 σ4 j1 j2 j3 j4 j5 k1 k2 k3
    refine Or.inl ⟨e, A3, σ4, fun kk => ?_, l34.trans j2.le2, by rw [hY, j5, bd_some, k1], (ex.top j2 fr).wk (by omega) (by omega), j3, j4, k2, cg.trans k3⟩
    show (bxa A34 (X2_places N A34 x (aI A34 303 9 0)) fun r37 A38 => _) = _
    rw [hX, j1, ck_ok j2.le2, ck_ok j2.le2, bxa_no j2.le2, ck_ok j2.le2]
  rcases j with (⟨e, A3, σ3, j1, j2, j3, j4, j5, j6, j7⟩ | ⟨r, A3, σ3, j1, j2, j3, j4, q1, q2, cd, μ, s1, s2, s3, s4, s5, s6, s7, s8, s9⟩) | ⟨e, A3, σ3, p', j1, j2, j3, j4, j5, j6, j7, j8, j9⟩
  · obtain ⟨σ4, k1, k2, k3⟩ := b177_bad (N := N) j6
    exact flt e A3 σ3 σ4 j1 j2 j3 j4 j5 k1 k2 (j7.trans k3)
  · have hXk : ∀ kk, (bxa A34 (X2_places N A34 x (aI A34 303 9 0)) fun r37 A38 => if r37 = 0 then (bxa A38 (X2_more N A38 x (aI A38 303 9 0)) fun _ A42 => X2_all_b148 N x1 kk A42) else (X2_all_b148 N x1 kk A38)) = ck A2 (ck A3 (X2_all_b148 N x1 kk A3)) := by
      intro kk
      rw [hX, j1, ck_ok j3.le2, ck_ok j3.le2, bxa_ok j3.le2]
    have n3 := s7.n1
    rcases stm59 (x1 := x1) hN s1 s2 s3 s6 s8 s9 hq s5 (ex.top s7 fr) (cg.trans j4) (by omega) fr (by omega) (by omega) with ⟨e, A4, σ4, t1, t2, t3, t4⟩ | ⟨A4, σ4, p4, t1, t2, t3, t4, t5⟩
    · refine Or.inl ⟨e, A4, σ4, fun kk => ?_, l34.trans (j3.le2.trans t2), by rw [hY, j2, bd_some, t3], t4⟩
      show (bxa A34 (X2_places N A34 x (aI A34 303 9 0)) fun r37 A38 => _) = _
      rw [hXk, t1, ck_ok t2, ck_ok (j3.le2.trans t2)]
    · refine Or.inr ⟨A4, σ4, p4, p4, _, _, _, _, _, _, _, _, fun kk r A'' hk hl => ?_, l34.trans (j3.le2.trans t2), by rw [hY, j2, bd_some, t3], by omega, t5⟩
      show (bxa A34 (X2_places N A34 x (aI A34 303 9 0)) fun r37 A38 => _) = _
      rw [hXk, t1, hk, ck_ok (t2.trans hl), ck_ok (j3.le2.trans (t2.trans hl))]
  · subst j7
    obtain ⟨σ4, k1, k2, k3⟩ := b177_near (N := N) hN j6 j8
    exact flt _ A3 σ3 σ4 j1 j2 j3 j4 j5 k1 k2 (j9.trans k3)
end
