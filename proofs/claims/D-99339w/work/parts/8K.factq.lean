/-! PURE LEVEL: facts, at the reference -/
set_option maxRecDepth 100000
section
variable {N : Nat} {σ σ' : mSt} {B : Nat → Nat} {n p p' : Nat} {q : Bool} {μ : Nat} {K W K' W' T : List Int32} {o base o' base' sl : Nat} {e : Nat × Nat}
theorem qCode_qb (h : QB σ) (c : Int32) : ∃ σ', M_qCode σ c = some ((), σ') ∧ Cm Kw σ σ' := by
  obtain ⟨m, h1, h2⟩ := h
  refine ⟨mUI (mUI σ 94 m c) 95 0 (nn (m + 1)), ?_, (Cm.UI ⟨by decide, by decide⟩).trans (Cm.UI ⟨by decide, by decide⟩)⟩
  unfold M_qCode
  rw [h2, stI_nn (by rfl) (by show m < 1700; omega) (by omega), bo_some, lt2_eq, mI_UI, if_neg (by omega), h2, nn_succ]
/-- what the turn of a test does -/
theorem TT_look (hN : 5000 ≤ N) (s : SQ σ B n p q μ K W o base sl) : ∃ σ1, Cm Kq σ σ1 ∧ SQ σ1 B n (sk B n p) q μ K W o base sl ∧ ∀ kk, M_qTest_b2 N kk σ 1 = if bv (B (sk B n p)) = 91 then (bd (M_qOpens σ1 25 (σ1.1 2 0)) fun _ σ12 => lt2 (mUI σ12 2 0 ((σ12.1 2 0) + 1)) fun σ13 => kk σ13 1) else (bd (M_isHere N σ1 78) fun r4 σ5 => if r4 = 0 then (bd (M_qFact N σ5) fun _ σ6 => bd (M_qDropsNots N σ6) fun _ σ7 => if (σ7.1 5 0) = 0 then (bd (M_qGoesOnTest N σ7) fun r8 σ9 => if r8 = 0 then (M_qTest_b105 N kk σ9) else (M_qTest_b106 N kk σ9 1)) else (M_qTest_b105 N kk σ7)) else (bd (M_qOpens σ5 12 (σ5.1 2 0)) fun _ σ10 => bd (M_asks N σ10 78) fun _ σ11 => kk σ11 1)) := by
  obtain ⟨σ1, h1, c1, r1⟩ := look_eq hN s.rm
  refine ⟨σ1, c1.lq, s.rd c1 r1 (sk_ge B n p), fun kk => ?_⟩
  unfold M_qTest_b2
  rw [if_neg (by decide), if_pos s.rm.bad, h1, bd_some]
theorem TT_sq (hN : 5000 ≤ N) (s : SQ σ B n p q μ K W o base sl) (h : B (sk B n p) = 91) : ∃ σ', (∀ kk, M_qTest_b2 N kk σ 1 = kk σ' 1) ∧ Cm Kq σ σ' ∧ ((o = 6 ∧ RF σ' (4, sk B n p)) ∨ (o < 6 ∧ SQ σ' B n (sk B n p + 1) q μ K (W ++ [25]) (o + 1) base sl)) := by
  obtain ⟨σ1, c1, s1, e1⟩ := TT_look hN s
  obtain ⟨σ2, h2, d2⟩ := qOpens_eq s1.rm s1.qs s1.le5 25 (sk B n p)
  have key : ∀ kk, M_qTest_b2 N kk σ 1 = kk (mUI σ2 2 0 ((σ2.1 2 0) + 1)) 1 := by
    intro kk
    rw [e1 kk, if_pos (show bv (B (sk B n p)) = (91 : Int32) by rw [h]; rfl), s1.rm.at_, h2, bd_some, lt2_eq]
  rcases d2 with ⟨z, d3, d4⟩ | ⟨z, d3, d4⟩
  · exact ⟨_, key, c1.trans (d4.lq.trans (Cm.UI Kq_at)), Or.inl ⟨z, d3.mvt⟩⟩
  · have hl := s1.le
    obtain ⟨s3, c3⟩ := s1.step d3 d4 (sk_lt s.rm.bk s.rm.pn h (by decide)) (by rw [h]; unfold LD; decide) (by rw [List.length_append, List.length_singleton]; omega)
    exact ⟨_, key, c1.trans c3, Or.inr ⟨z, s3⟩⟩
theorem TT_not (hN : 5000 ≤ N) (s : SQ σ B n p q μ K W o base sl) (h : isH B n 24 p) : ∃ σ', (∀ kk, M_qTest_b2 N kk σ 1 = kk σ' 1) ∧ Cm Kq σ σ' ∧ ((o = 6 ∧ RF σ' (4, sk B n p)) ∨ (o < 6 ∧ SQ σ' B n (wE B n p) q μ K (W ++ [12]) (o + 1) base sl)) := by
  have hB := s.rm.bk
  have hle := hB.le (sk B n p)
  have n91 : B (sk B n p) ≠ 91 := fun w => by
    have := h.1
    rw [w] at this
    exact absurd this (by decide)
  obtain ⟨k1, k2, k3, k4⟩ := isH_end hB s.rm.pn h
  have ew : wE B n (sk B n p) = wE B n p := by unfold wE; rw [sk_sk hB]
  have hge := sk_ge B n p
  have hl := s.le
  obtain ⟨σ1, c1, s1, e1⟩ := TT_look hN s
  obtain ⟨σ2, i1, i2, i3⟩ := isHere_eq hN s1.rm (w := 78) (Or.inr ⟨by decide, by decide⟩)
  rw [show wix 78 = 24 from rfl, if_pos ((isH_sk hB).mpr h)] at i1
  rw [sk_sk hB] at i3
  have s2 := s1.rd i2 i3 (Nat.le_refl _)
  obtain ⟨σ3, h3, d3⟩ := qOpens_eq s2.rm s2.qs s2.le5 12 (sk B n p)
  have key : ∀ kk, M_qTest_b2 N kk σ 1 = bd (M_asks N σ3 78) fun _ σ11 => kk σ11 1 := by
    intro kk
    rw [e1 kk, if_neg (fun w : bv (B (sk B n p)) = (91 : Int32) => n91 ((bv_eq hle (by decide)).mp w)), i1, bd_some, if_neg (by decide), s2.rm.at_, h3, bd_some]
  rcases d3 with ⟨y, d3, d4⟩ | ⟨y, d3, d4⟩
  · refine ⟨σ3, fun kk => ?_, c1.trans (i2.lq.trans d4.lq), Or.inl ⟨y, d3⟩⟩
    rw [key kk, bad_asks d3, bd_some]
  · have r3 : RM σ3 B n (sk B n p) := s2.rm.cm d3 (fun k h1 z => by unfold Kw at z; omega)
    obtain ⟨σ4, h4, c4, r4⟩ := asks_mq hN r3 (w := 78) (Or.inr ⟨by decide, by decide⟩)
    rw [show wix 78 = 24 from rfl, sIs_isH, if_pos ((isH_sk hB).mpr h), ew] at r4
    refine ⟨σ4, fun kk => ?_, c1.trans (i2.lq.trans (d3.wq.trans c4.lq)), Or.inr ⟨y, SQ.mk r4 (d4.cm c4 (fun k h1 h2 z => by unfold Kl at z; omega)) ?_ ?_⟩⟩
    · rw [key kk, h4, bd_some]
    · rw [c4.I _ (by unfold Kl; omega), d3.I _ (by unfold Kw; omega)]; exact s2.tk
    · rw [List.length_append, List.length_singleton]; omega
theorem TT_fact (hN : 5000 ≤ N) (s : SQ σ B n p q μ K W o base sl) (h1 : B (sk B n p) ≠ 91) (h2 : ¬ isH B n 24 p) : ∃ σ1, Cm Kq σ σ1 ∧ SQ σ1 B n (sk B n p) q μ K W o base sl ∧ ∀ x, tE N (x + 1) σ = bd (M_qFact N σ1) fun _ σ6 => tD N (tK N x) N σ6 := by
  have hB := s.rm.bk
  have hle := hB.le (sk B n p)
  obtain ⟨σ1, c1, s1, e1⟩ := TT_look hN s
  obtain ⟨σ2, i1, i2, i3⟩ := isHere_eq hN s1.rm (w := 78) (Or.inr ⟨by decide, by decide⟩)
  rw [show wix 78 = 24 from rfl, if_neg (fun w => h2 ((isH_sk hB).mp w))] at i1
  rw [sk_sk hB] at i3
  refine ⟨σ2, c1.trans i2.lq, s1.rd i2 i3 (Nat.le_refl _), fun x => ?_⟩
  unfold tE
  show M_qTest_b2 N (rn2 (M_qTest_b2 N) x) σ 1 = _
  rw [e1, if_neg (fun w : bv (B (sk B n p)) = (91 : Int32) => h1 ((bv_eq hle (by decide)).mp w)), i1, bd_some, if_pos rfl]
  rfl
theorem F_all (hN : 5000 ≤ N) (s : SQ σ B n p q μ K W o base sl) (h : isH B n 25 p) : ∃ σ', M_qFact N σ = some ((), σ') ∧ Cm Kq σ σ' ∧ SQ σ' B n (wE B n p) q μ (K ++ [13]) W o base sl := by
  have hB := s.rm.bk
  obtain ⟨k1, k2, k3, k4⟩ := isH_end hB s.rm.pn h
  have hge := sk_ge B n p
  have hl := s.le
  obtain ⟨σ1, t1, t2, t3⟩ := mtakes_eq hN s.rm (w := 81) (Or.inr ⟨by decide, by decide⟩)
  rw [show wix 81 = 25 from rfl, if_pos h] at t1 t3
  have s1 := s.rd t2 t3 (by omega)
  obtain ⟨σ2, y1, y2, y3⟩ := qCode_eq s1.qs s1.le5 13
  refine ⟨σ2, ?_, t2.lq.trans y2.wq, s1.ws y2 y3 (by rw [List.length_append, List.length_singleton]; omega)⟩
  unfold M_qFact
  rw [t1, bd_some, if_neg (by decide), y1, bd_some]
theorem F_than (hN : 5000 ≤ N) (hp : sk B n p = p) (s : SQ σ B n p q μ K W o base sl) (h : ¬ isH B n 25 p) (hW : Top isOp W) : ∃ σ', M_qFact N σ = some ((), σ') ∧ Cm Kq σ σ' ∧ Rf σ' (eb (sSum B n (sAtomF B n q μ 8) o p) fun x => if B (sk B n x.1) = 60 ∨ B (sk B n x.1) = 62 ∨ B (sk B n x.1) = 61 then eb (sSum B n (sAtomF B n q μ 8) o (sk B n x.1 + 1)) (fun y => .ok (y.1, x.2 ++ y.2 ++ [if B (sk B n x.1) = 60 then 7 else if B (sk B n x.1) = 62 then 8 else 9])) else .error (1, sk B n x.1) : Rs (Nat × List Int32)) (fun y => SQ σ' B n (sk B n y.1) q μ (K ++ y.2) W o base sl) := by
  have hB := s.rm.bk
  obtain ⟨σ1, t1, t2, t3⟩ := mtakes_eq hN s.rm (w := 81) (Or.inr ⟨by decide, by decide⟩)
  rw [show wix 81 = 25 from rfl, if_neg h] at t1 t3
  rw [hp] at t3
  have s1 := s.rd t2 t3 (Nat.le_refl _)
  have sm := qSums_eq hN s1 hW
  cases hv : sSum B n (sAtomF B n q μ 8) o p with
  | error e =>
    rw [hv] at sm
    obtain ⟨σ2, y1, y2, y3⟩ := sm
    refine ⟨σ2, ?_, t2.lq.trans y3, y2.rf⟩
    unfold M_qFact
    rw [t1, bd_some, if_pos rfl, y1, bd_some, if_neg y2.ne]
  | ok x =>
    rw [hv] at sm
    obtain ⟨σ2, y1, y2, s2⟩ := sm
    rw [eb_ok]
    obtain ⟨σ3, h3, c3, r3⟩ := look_eq hN s2.rm
    rw [sk_sk hB] at h3 r3
    have s3 := s2.rd c3 r3 (Nat.le_refl _)
    have hle := hB.le (sk B n x.1)
    have hge := sk_ge B n x.1
    have e1 : M_qFact N σ = if bv (B (sk B n x.1)) = 60 then (M_qFact_b63 N σ3 (bv (B (sk B n x.1)))) else (if bv (B (sk B n x.1)) = 62 then (M_qFact_b63 N σ3 (bv (B (sk B n x.1)))) else (if bv (B (sk B n x.1)) = 61 then (M_qFact_b63 N σ3 (bv (B (sk B n x.1)))) else (bd (M_fail σ3 1 (σ3.1 2 0)) fun _ σ9 => some ((), σ9)))) := by
      unfold M_qFact
      rw [t1, bd_some, if_pos rfl, y1, bd_some, if_pos s2.rm.bad, h3, bd_some]
    have sign : ∀ (b : Nat) (k : Int32), (b = 60 ∧ k = 7) ∨ (b = 62 ∧ k = 8) ∨ (b = 61 ∧ k = 9) → B (sk B n x.1) = b → ∃ σ', M_qFact_b63 N σ3 (bv (B (sk B n x.1))) = some ((), σ') ∧ Cm Kq σ σ' ∧ Rf σ' (eb (sSum B n (sAtomF B n q μ 8) o (sk B n x.1 + 1)) (fun y => .ok (y.1, x.2 ++ y.2 ++ [k])) : Rs (Nat × List Int32)) (fun y => SQ σ' B n (sk B n y.1) q μ (K ++ y.2) W o base sl) := by
      intro b k hbk hb
      have hl := s3.le
      have hlt : sk B n x.1 < n := by
        have := sk_lt hB s2.rm.pn (k := b) (by rw [sk_sk hB]; exact hb) (by omega)
        rw [sk_sk hB] at this; exact this
      obtain ⟨s4, c4⟩ := s3.step (Cm.refl _) s3.qs hlt (by rw [hb]; unfold LD; rcases hbk with ⟨rfl, _⟩ | ⟨rfl, _⟩ | ⟨rfl, _⟩ <;> decide) (by omega)
      generalize hs4 : mUI σ3 2 0 (σ3.1 2 0 + 1) = σ4 at s4 c4
      have sm := qSums_eq hN s4 hW
      have c04 := (t2.lq.trans (y2.trans (c3.lq.trans c4)))
      have key : ∀ σ5, M_qSums N σ4 = some ((), σ5) → M_qFact_b63 N σ3 (bv (B (sk B n x.1))) = bd (M_qCode σ5 k) fun _ σ8 => some ((), σ8) := by
        intro σ5 h5
        unfold M_qFact_b63 M_qFact_b102
        rw [lt2_eq, hs4, h5, bd_some, hb]
        rcases hbk with ⟨rfl, rfl⟩ | ⟨rfl, rfl⟩ | ⟨rfl, rfl⟩
        · rw [if_pos (by rfl)]
        · rw [if_neg (by decide), if_pos (by rfl)]
        · rw [if_neg (by decide), if_neg (by decide)]
      cases hv2 : sSum B n (sAtomF B n q μ 8) o (sk B n x.1 + 1) with
      | error e =>
        rw [hv2] at sm
        obtain ⟨σ5, z1, z2, z3⟩ := sm
        obtain ⟨σ6, w1, w2⟩ := qCode_qb z2.qb k
        exact ⟨σ6, by rw [key σ5 z1, w1, bd_some], c04.trans (z3.trans w2.wq), z2.rf.cmw w2⟩
      | ok y =>
        rw [hv2] at sm
        obtain ⟨σ5, z1, z2, s5⟩ := sm
        obtain ⟨σ6, w1, w2, w3⟩ := qCode_eq s5.qs s5.le5 k
        have hct := cnt_sum (cnt_atomF hB 8 o) _ _ hv2
        have hgy := sk_ge B n y.1
        refine ⟨σ6, by rw [key σ5 z1, w1, bd_some], c04.trans (z2.trans w2.wq), ?_⟩
        refine s5.ws w2 ?_ ?_
        · show QS σ6 (K ++ (x.2 ++ y.2 ++ [k])) W o base
          rw [← List.append_assoc, ← List.append_assoc]; exact w3
        · simp only [List.length_append, List.length_singleton] at hl ⊢
          show _ ≤ sk B n y.1
          omega
    by_cases z60 : B (sk B n x.1) = 60
    · have := sign 60 7 (Or.inl ⟨rfl, rfl⟩) z60
      rw [z60] at this e1 ⊢
      rw [e1, if_pos (show bv 60 = (60 : Int32) from rfl), if_pos (Or.inl rfl)]
      exact this
    · by_cases z62 : B (sk B n x.1) = 62
      · have := sign 62 8 (Or.inr (Or.inl ⟨rfl, rfl⟩)) z62
        rw [z62] at this e1 ⊢
        rw [e1, if_neg (show ¬ bv 62 = (60 : Int32) by decide), if_pos (show bv 62 = (62 : Int32) from rfl), if_pos (Or.inr (Or.inl rfl))]
        exact this
      · by_cases z61 : B (sk B n x.1) = 61
        · have := sign 61 9 (Or.inr (Or.inr ⟨rfl, rfl⟩)) z61
          rw [z61] at this e1 ⊢
          rw [e1, if_neg (show ¬ bv 61 = (60 : Int32) by decide), if_neg (show ¬ bv 61 = (62 : Int32) by decide), if_pos (show bv 61 = (61 : Int32) from rfl), if_pos (Or.inr (Or.inr rfl))]
          exact this
        · rw [if_neg (show ¬ (B (sk B n x.1) = 60 ∨ B (sk B n x.1) = 62 ∨ B (sk B n x.1) = 61) by omega)]
          obtain ⟨σ4, f1, f2, f3⟩ := fail_eq s3.rm.bad 1 (sk B n x.1) (by decide)
          refine ⟨σ4, ?_, t2.lq.trans (y2.trans (c3.lq.trans f3.lq)), f2⟩
          rw [e1, if_neg (fun w : bv (B (sk B n x.1)) = (60 : Int32) => z60 ((bv_eq hle (by decide)).mp w)), if_neg (fun w : bv (B (sk B n x.1)) = (62 : Int32) => z62 ((bv_eq hle (by decide)).mp w)), if_neg (fun w : bv (B (sk B n x.1)) = (61 : Int32) => z61 ((bv_eq hle (by decide)).mp w)), s3.rm.at_, show M_fail σ3 1 (nn (sk B n x.1)) = _ from f1, bd_some]
/-- a fact -/
theorem fact_q (hN : 5000 ≤ N) {rf : RA} (hF : o < 6 → FOK sl N B n q μ (o + 1) (rf (o + 1))) (hr : ∀ p y, rf (o + 1) p = .ok y → p < y.1) : FOK sl N B n q μ o (fun p => sFact B n (sSum B n (sAtomF B n q μ 8)) rf o p) := by
  intro σ p K W x s hW hx
  have hB := s.rm.bk
  have hle := hB.le (sk B n p)
  have nb := s.nb
  have pn := s.rm.pn
  have hge := sk_ge B n p
  have ob := s.qs.ob
  have ss : sk B n (sk B n p) = sk B n p := sk_sk hB
  obtain ⟨x, rfl⟩ : ∃ m, x = m + 1 := ⟨x - 1, by omega⟩
  have turn : ∀ σ1, (∀ kk, M_qTest_b2 N kk σ 1 = kk σ1 1) → tE N (x + 1) σ = tE N x σ1 := by
    intro σ1 h
    unfold tE
    show M_qTest_b2 N (rn2 (M_qTest_b2 N) x) σ 1 = _
    rw [h]
  show Bt sl (tE N (x + 1) σ) σ B n q μ (sFact B n (sSum B n (sAtomF B n q μ 8)) rf o p) (DtQ sl N (tE N (x + 1) σ) σ B n p q μ K W o)
  unfold sFact
  by_cases c91 : B (sk B n p) = 91
  · rw [if_pos c91]
    obtain ⟨σ1, t1, c1, d1⟩ := TT_sq hN s c91
    rcases d1 with ⟨h6, f⟩ | ⟨h6, s1⟩
    · rw [if_pos h6]
      exact Bt.er (turn _ t1) c1 ⟨σ1, tE_bad (by omega) (by omega) f, f, Cm.refl _⟩
    · rw [if_neg (by omega)]
      have hW2 : ∀ d ∈ W ++ [25], isTw d := by
        intro d hd
        rcases List.mem_append.mp hd with w | w
        · exact hW d w
        · rw [List.mem_singleton] at w; exact Or.inr (Or.inr (Or.inr w))
      refine Bt.xx (Bt.mv (test_q hN (hF h6) hr hW2 (Or.inr ⟨W, 25, rfl, by unfold isAN; decide⟩) s1 (x := x) (by omega)) (turn _ t1) c1 (fun _ _ w => w)) (fun y hy w => ?_)
      obtain ⟨σ2, p2, T, K2, x2, z2, w1, w2, w3, w4, w5, w6, w7, w8, w9, w10⟩ := w
      have nb2 := w3.nb
      have hg2 := sk_ge B n p2
      unfold sMust
      by_cases c93 : B (sk B n y.1) = 93
      · rw [if_pos c93, eb_ok]
        obtain ⟨z2, rfl⟩ : ∃ m, z2 = m + 1 := ⟨z2 - 1, by omega⟩
        obtain ⟨σ3, e3, c3, s3⟩ := GT_close hN w3 w5 (by rw [w7]; exact c93)
        rw [w4, w7] at s3
        exact ⟨σ3, sk B n y.1 + 1, tG N x2 z2, N, x2, z2, (turn _ t1).trans (w1.trans (e3 x2 z2)), fun _ _ => rfl, c1.trans (w2.trans c3), s3, rfl, by omega, by omega, by omega, by omega⟩
      · rw [if_neg c93, eb_er]
        obtain ⟨σ3, y1, y2, y3⟩ := GT_fail hN w3 (by rw [w7]; exact c93) (fun w => w6.1.1 ((isH_cg w7).mp w)) (fun w => w6.2.1 ((isH_cg w7).mp w)) (by simp) (x := x2) (y := z2) (by omega) (by omega)
        rw [w7] at y2
        exact ⟨σ3, (turn _ t1).trans (w1.trans y1), c1.trans (w2.trans y3), Or.inl y2⟩
  · rw [if_neg c91]
    by_cases c24 : isH B n 24 p
    · have c24' : isH B n 24 (sk B n p) := (isH_sk hB).mpr c24
      have ew : wE B n (sk B n p) = wE B n p := by unfold wE; rw [ss]
      rw [sPass_t c24', eb_ok, ew]
      show Bt sl _ σ B n q μ (if true = true then _ else _) _
      rw [if_pos rfl]
      obtain ⟨k1, k2, k3, k4⟩ := isH_end hB pn c24
      obtain ⟨σ1, t1, c1, d1⟩ := TT_not hN s c24
      rcases d1 with ⟨h6, f⟩ | ⟨h6, s1⟩
      · rw [if_pos h6]
        exact Bt.er (turn _ t1) c1 ⟨σ1, tE_bad (by omega) (by omega) f, f, Cm.refl _⟩
      · rw [if_neg (by omega)]
        have hW2 : ∀ d ∈ W ++ [12], isTw d := by
          intro d hd
          rcases List.mem_append.mp hd with w | w
          · exact hW d w
          · rw [List.mem_singleton] at w; exact Or.inr (Or.inr (Or.inl w))
        refine Bt.xx (Bt.mv (hF h6 σ1 (wE B n p) K (W ++ [12]) x s1 hW2 (by omega)) (turn _ t1) c1 (fun _ _ w => w)) (fun y hy w => ?_)
        obtain ⟨σ2, p2, k, v, x2, z2, u1, u2, u3, u4, u5, u6, u7, u8, u9⟩ := w
        obtain ⟨v, rfl⟩ : ∃ m, v = m + 1 := ⟨v - 1, by omega⟩
        obtain ⟨σ3, g1, g2, g3⟩ := nots_pop (N := N) (z := v) u4.rm.bad u4.qs (Nat.zero_le _)
        have hl := u4.le
        refine ⟨σ3, p2, k, v, x2, z2, ?_, u2, c1.trans (u3.trans g2.wq), ?_, u5, by omega, u7, u8, by omega⟩
        · rw [turn _ t1, u1]
          unfold tD
          rw [g1]
        · refine u4.ws g2 ?_ ?_
          · show QS σ3 (K ++ (y.2 ++ [12])) W o 0
            rw [← List.append_assoc]; exact g3
          · simp only [List.length_append, List.length_singleton] at hl ⊢; omega
    · obtain ⟨σ1, c1, s1, e1⟩ := TT_fact hN s c91 c24
      have near : isLt (B (sk B n p)) = true → ptd B (sk B n p) = true → sSum B n (sAtomF B n q μ 8) o (sk B n p) = .error (1, sk B n p) := by
        intro h1 h2
        unfold sSum sProd
        have : sAtomF B n q μ 8 o (sk B n p) = .error (1, sk B n p) := by
          show sAtom B n (sAtomF B n q μ 7) q μ o (sk B n p) = _
          unfold sAtom
          rw [ss, if_neg (fun w => by rw [w] at h1; exact absurd h1 (by decide)), if_neg (fun w => by unfold isDg at w; unfold isLt at h1; simp at w h1; omega)]
          unfold sWord
          rw [ss, if_pos h1, if_pos h2, eb_er]
        rw [this, eb_er, eb_er]
      have fin : ∀ {z : Rs (Nat × List Int32)} {σ2 : mSt}, M_qFact N σ1 = some ((), σ2) → Cm Kq σ1 σ2 → Rf σ2 z (fun y => SQ σ2 B n (sk B n y.1) q μ (K ++ y.2) W o 0 sl ∧ p < sk B n y.1) → Bt sl (tE N (x + 1) σ) σ B n q μ z (DtQ sl N (tE N (x + 1) σ) σ B n p q μ K W o) := by
        intro z σ2 h1 h2 h3
        have hX : tE N (x + 1) σ = tD N (tK N x) N σ2 := by rw [e1, h1, bd_some]
        cases z with
        | error e =>
          have h3 : RF σ2 e := h3
          exact ⟨σ2, hX.trans (tD_bad (by omega) (by omega) h3), c1.trans h2, Or.inl h3⟩
        | ok y =>
          obtain ⟨h4, h5⟩ := h3
          exact ⟨σ2, sk B n y.1, tK N x, N, x, N, hX, fun σ6 h6 => tK_good h6, c1.trans h2, h4, sk_sk hB, h5, by omega, by omega, by omega⟩
      by_cases cn : isLt (B (sk B n p)) = true ∧ ptd B (sk B n p) = true
      · rw [sPass_e (by rw [ss]; exact cn.1) (by rw [ss]; exact cn.2), eb_er, ss]
        obtain ⟨σ2, f1, f2, f3⟩ := F_than hN ss s1 (fun w => w.2.1 (by rw [ss]; exact cn.2)) (tw_top hW)
        rw [near cn.1 cn.2, eb_er] at f3
        exact fin f1 f2 f3
      · obtain ⟨p3, h3, h4, _⟩ := sPass_f hB (show noJ B n 24 (sk B n p) from ⟨fun w => c24 ((isH_sk hB).mp w), by rw [ss]; exact cn⟩)
        have h5 : p3 = sk B n p := sPass_nf hB h3
        rw [h3, eb_ok, h5]
        show Bt sl _ σ B n q μ (if false = true then _ else _) _
        rw [if_neg (by decide)]
        show Bt sl _ σ B n q μ (eb (sPass B n 25 (sk B n p)) _) _
        by_cases c25 : isH B n 25 p
        · have c25' : isH B n 25 (sk B n p) := (isH_sk hB).mpr c25
          have ew : wE B n (sk B n p) = wE B n p := by unfold wE; rw [ss]
          rw [sPass_t c25', eb_ok, ew]
          show Bt sl _ σ B n q μ (if true = true then _ else _) _
          rw [if_pos rfl]
          obtain ⟨k1, k2, k3, k4⟩ := isH_end hB pn c25
          obtain ⟨σ2, f1, f2, f3⟩ := F_all hN s1 c25'
          rw [ew] at f3
          have hX : tE N (x + 1) σ = tD N (tK N x) N σ2 := by rw [e1, f1, bd_some]
          exact ⟨σ2, wE B n p, tK N x, N, x, N, hX, fun σ6 h6 => tK_good h6, c1.trans f2, f3, rfl, by omega, by omega, by omega, by omega⟩
        · obtain ⟨p4, h6, h7, _⟩ := sPass_f hB (show noJ B n 25 (sk B n p) from ⟨fun w => c25 ((isH_sk hB).mp w), by rw [ss]; exact cn⟩)
          have h8 : p4 = sk B n p := sPass_nf hB h6
          rw [h6, eb_ok, h8]
          show Bt sl _ σ B n q μ (if false = true then _ else _) _
          rw [if_neg (by decide)]
          show Bt sl _ σ B n q μ (eb (sSum B n (sAtomF B n q μ 8) o (sk B n p)) _) _
          obtain ⟨σ2, f1, f2, f3⟩ := F_than hN ss s1 (fun w => c25 ((isH_sk hB).mp w)) (tw_top hW)
          refine fin f1 f2 ?_
          revert f3
          generalize hz : (eb (sSum B n (sAtomF B n q μ 8) o (sk B n p)) fun x => if B (sk B n x.1) = 60 ∨ B (sk B n x.1) = 62 ∨ B (sk B n x.1) = 61 then eb (sSum B n (sAtomF B n q μ 8) o (sk B n x.1 + 1)) (fun y => .ok (y.1, x.2 ++ y.2 ++ [if B (sk B n x.1) = 60 then 7 else if B (sk B n x.1) = 62 then 8 else 9])) else .error (1, sk B n x.1) : Rs (Nat × List Int32)) = zz
          intro f3
          cases zz with
          | error e => exact f3
          | ok y =>
            refine ⟨f3, ?_⟩
            cases hx1 : sSum B n (sAtomF B n q μ 8) o (sk B n p) with
            | error e => rw [hx1, eb_er] at hz; cases hz
            | ok x1 =>
              rw [hx1, eb_ok] at hz
              have a1 := (Adv.sum (adv_atomF hB 8 o) _ _ hx1).1
              split at hz
              · cases hx2 : sSum B n (sAtomF B n q μ 8) o (sk B n x1.1 + 1) with
                | error e => rw [hx2, eb_er] at hz; cases hz
                | ok x2 =>
                  rw [hx2, eb_ok] at hz
                  cases hz
                  have a2 := (Adv.sum (adv_atomF hB 8 o) _ _ hx2).1
                  have g1 := sk_ge B n x1.1
                  have g2 := sk_ge B n x2.1
                  show p < sk B n x2.1
                  omega
              · cases hz
theorem factF_q (hN : 5000 ≤ N) (hB : BOK B n) : ∀ (d o : Nat), o ≤ 6 → 7 ≤ o + d → FOK sl N B n q μ o (sFactF B n (sSum B n (sAtomF B n q μ 8)) d o) := by
  intro d
  induction d with
  | zero => intro o h1 h2; omega
  | succ d ih =>
    intro o h1 h2
    exact fact_q hN (fun ho => ih (o + 1) (by omega) (by omega)) (adv_factF hB (fun o => cnt_sum (cnt_atomF hB 8 o)) d (o + 1))
/-- qTest against the spec's test -/
theorem qTest_eq (hN : 5000 ≤ N) (s : SQ σ B n p q μ [] [] 0 0 sl) : Bt sl (M_qTest N σ) σ B n q μ (sTest B n (sFactF B n (sSum B n (sAtomF B n q μ 8)) 8) 0 p) (fun y => ∃ σ', M_qTest N σ = some ((), σ') ∧ Cm Kq σ σ' ∧ SQ σ' B n (sk B n y.1) q μ y.2 [] 0 0 sl) := by
  have hB := s.rm.bk
  have := test_q hN (factF_q hN hB 8 0 (by decide) (by decide)) (adv_factF hB (fun o => cnt_sum (cnt_atomF hB 8 o)) 8 0) (W := []) (fun c hc => by cases hc) (Or.inl rfl) s (x := N) (by omega)
  have e : sTest B n (sFactF B n (sSum B n (sAtomF B n q μ 8)) 8) 0 p = eb (sTest B n (sFactF B n (sSum B n (sAtomF B n q μ 8)) 8) 0 p) fun y => .ok y := by cases sTest B n (sFactF B n (sSum B n (sAtomF B n q μ 8)) 8) 0 p <;> rfl
  rw [e]
  refine Bt.xx (X := M_qTest N σ) this (fun y hy w => ?_)
  obtain ⟨σ2, p2, T, K2, x2, z2, w1, w2, w3, w4, w5, w6, w7, w8, w9, w10⟩ := w
  have nb2 := w3.nb
  rw [List.nil_append] at w3 w4
  have h25 : (25 : Int32) ∉ T := fun h => by rcases w5 25 h with z | z <;> exact absurd z (by decide)
  obtain ⟨σ3, g1, g2, g3⟩ := GT_end hN w3 (fun w => w6.1.1 ((isH_cg w7).mp w)) (fun w => w6.2.1 ((isH_cg w7).mp w)) h25 (x := x2) (y := z2) (by omega) (by omega)
  rw [w4, w7] at g3
  exact ⟨σ3, w1.trans g1, w2.trans g2, g3⟩
end
