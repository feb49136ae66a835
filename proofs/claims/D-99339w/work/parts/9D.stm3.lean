/-! PURE LEVEL: one statement, both sides: the whole -/
set_option maxRecDepth 100000
section
variable {N : Nat} {A0 A A' A1 A3 : AH} {σ0 σ σ' σ1 σ3 : mSt} {B : Nat → Nat} {n p1 p2 o μ x : Nat} {t : Option Nat} {a0 L C g w nb cd ar c s c' s' c0 s0 c3 s3 : Nat} {be : List Nat} {P K : Nat → Nat → Prop}
theorem Jn.mono {α : Type} {X : Option (Option α × AH)} {Y : Option (Unit × mSt)} {S S2 : α → AH → mSt → Prop} (h : Jn X Y A σ a0 c s S) (d : ∀ r A' σ', Ex (RPa a0) c s A A' → S r A' σ' → S2 r A' σ') : Jn X Y A σ a0 c s S2 := by
  rcases h with h | ⟨r, A', σ', h1, h2, h3, h4, h5⟩
  · exact Or.inl h
  · exact Or.inr ⟨r, A', σ', h1, h2, h3, h4, d r A' σ' h3 h5⟩
theorem StpR.ckk {Xf : (AH → Option (Option (Option Nat) × AH)) → Option (Option (Option Nat) × AH)} {Y : Option (Unit × mSt)} {C1 : AH} (h : StpR N A0 A σ0 B n a0 p1 L C Xf Y) (l : Le C1 A) {q : Nat} (hq : q ≤ p1) : StpR N A0 C1 σ0 B n a0 q L C (fun kk => ck A (Xf kk)) Y := by
  rcases h with ⟨e, A', σ', h1, h2, h3, h4⟩ | ⟨A', σ', q1, q2, s, g, w, nb, cd, ar, μ, be, h1, h2, h3, h4, h5⟩
  · exact Or.inl ⟨e, A', σ', fun kk => by show ck A (Xf kk) = _; rw [h1, ck_ok h2], l.trans h2, h3, h4⟩
  · refine Or.inr ⟨A', σ', q1, q2, s, g, w, nb, cd, ar, μ, be, fun kk r A'' hk hl => ?_, l.trans h2, h3, by omega, h5⟩
    show ck A (Xf kk) = _
    rw [h1 kk r A'' hk hl, ck_ok (h2.trans hl)]
/-- the reference's statement as a chain of words -/
theorem stmM (hs : σ.1 53 0 ≠ 80) : M_statementTold N σ = chT N (fun s => bd (M_asks N s 23) fun _ σ15 => bd (M_number N σ15 0 100) fun r16 σ17 => lt2 (mUI σ17 47 0 r16) fun σ18 => M_statementTold_b177 N σ18) [(13, fun s => bd (M_glossTold N s (σ.1 2 0)) fun _ t => M_statementTold_b177 N t), (14, fun s => bd (M_wormTold N s (σ.1 2 0)) fun _ t => M_statementTold_b177 N t), (15, fun s => bd (M_beingTold N s (σ.1 2 0)) fun _ t => M_statementTold_b177 N t), (19, fun s => bd (M_codesTold N s 0 (σ.1 2 0)) fun _ t => M_statementTold_b177 N t), (20, fun s => bd (M_codesTold N s 1 (σ.1 2 0)) fun _ t => M_statementTold_b177 N t), (21, fun s => bd (M_codesTold N s 2 (σ.1 2 0)) fun _ t => M_statementTold_b177 N t), (22, fun s => bd (M_codesTold N s 3 (σ.1 2 0)) fun _ t => M_statementTold_b177 N t)] σ := by
  unfold M_statementTold
  rw [if_neg hs]
  rfl
theorem noneM (hN : 5000 ≤ N) {q : Nat} (r : RM σ B n q) (hq : sk B n q = q) (h : ¬ isH B n 12 q) : ∃ σ', (bd (M_asks N σ 23) fun _ σ15 => bd (M_number N σ15 0 100) fun r16 σ17 => lt2 (mUI σ17 47 0 r16) fun σ18 => M_statementTold_b177 N σ18) = some ((), σ') ∧ RF σ' (1, q) ∧ Cg Kt σ σ' := by
  obtain ⟨σ1, k1, k2, k3⟩ := asks_mq hN r (w := 23) (Or.inl ⟨by decide, by decide⟩)
  rw [show wix 23 = 12 from rfl, sIs_isH, if_neg h, hq] at k3
  have k3 : RF σ1 (1, q) := k3
  have f2 : RF (mUI σ1 47 0 0) (1, q) := RF.mk (by rw [mI_UI, if_neg (by decide)]; exact k3.b) (by rw [mI_UI, if_neg (by decide)]; exact k3.pl) k3.nz
  obtain ⟨σ3, y1, y2, y3⟩ := b177_bad (N := N) f2
  refine ⟨σ3, ?_, y2, k2.lt.trans ((Cg.UI (Or.inl rfl)).trans y3)⟩
  rw [k1, bd_some, bad_number k3, bd_some, lt2_eq, y1]
theorem thumb_j (hN : 5000 ≤ N) {p : Nat} (rd : RD A B n p 0 μ (some a0)) (rm : RM σ B n p) (h : FT A σ a0 L C g w nb cd ar be) (hcd : cd ≤ p) (x : Nat) (x2 : Int32) {cB sB : Nat} : Jn (X2_more_b132 N x x2 A 4) (bd (M_number N σ 0 100) fun r16 σ17 => some ((), mUI σ17 47 0 r16)) A σ a0 cB sB (cdS A σ B n p a0 L C g w nb ar be) := by
  have a1 := h.a1
  have a2 := h.a2
  have hB := rd.bk
  unfold X2_more_b132
  rw [if_neg (by decide), if_neg (by decide), if_neg (by decide), if_neg (by decide), if_pos rfl, rd.to_, bo_some]
  have nx := number_eq hN rd (l := 0) (m := 100) (by decide) (by decide)
  obtain ⟨y, σ1, m1, m2, m3⟩ := mnumber_eq hN rm (l := 0) (m := 100) (by decide) (by decide)
  rw [show M_number N σ 0 100 = _ from m1, bd_some]
  cases hv : sNum B n 0 100 p with
  | error e =>
    rw [hv] at nx m3
    obtain ⟨A1, l1, l2⟩ := nx
    have m3 : RF σ1 e := m3
    rw [show X2_number N A 0 100 = _ from l1, bx_none]
    exact (Jn.er rfl l2 rfl (RF.mk (by rw [mI_UI, if_neg (by decide)]; exact m3.b) (by rw [mI_UI, if_neg (by decide)]; exact m3.pl) m3.nz) (m2.lt.trans (Cg.UI (Or.inl rfl)))).wk (by omega) (by omega)
  | ok v =>
    rw [hv] at nx m3
    obtain ⟨r1, A1, l1, l2, l3, l4, l5⟩ := nx
    obtain ⟨m4, m5, m6⟩ := m3
    have h1 := h.ex (σ' := σ1) l3 (rp_hi a1) m2.ln
    obtain ⟨ft, ex, cg⟩ := h1.thumb l3.gn (nn v.1)
    have hl := (sNum_ok hB hv).2.2.1
    have hge := sk_ge B n p
    have exA : Ex (RPa a0) 0 0 A (wI A1 205 a0 0 (nn v.1)) := (l3.pa.trans (ex.mono (fun f i z => Or.inr (by omega)))).wk (by omega) (by omega)
    rw [show X2_number N A 0 100 = _ from l1, bx_some, l2, m4, pI_k h1.k, bo_some]
    exact Jn.ok rfl rfl (exA.wk (by omega) (by omega)) (m2.lt.trans (Cg.UI (Or.inl rfl))) ⟨v.2.2, v.2.2, cd, μ, l4.ex ex (fun f => by omega) (fun f => by omega), m5.hi cg (fun k j z => by have z : k = 47 := z; omega), rfl, by omega, by omega, ft, exA.wk (by omega) (by omega), (S53.rp h.k a1 l3 m2.ln).tr ⟨ex.I _ (by rw [h1.k]; decide) (by omega), cg.I (by omega)⟩⟩
theorem stm_step (hN : 5000 ≤ N) {x1 : Int32} (h : LSt A0 A σ0 σ B n a0 p1 p2 s L C g w nb cd ar μ be) (hp : p1 = sk B n p1) (hp2 : p2 = p1) (hr : aN A0 + (110 * (n + 1) + 300) ≤ CB) : StpR N A0 A σ0 B n a0 p1 L C (fun kk => X2_all_b102 N x1 kk A (if s = 80 then 1 else 0)) (M_statementTold N σ) := by
  have rd := h.rd
  have rm := h.rm
  have ft := h.ft
  have hB := rd.bk
  have nb6 := hB.nb
  have pn := rd.pn
  have a1 := ft.a1
  have a2 := ft.a2
  have sb := h.sb
  have exn := h.ex.n2
  have hnn := h.nn_
  have ss : sk B n p1 = p1 := hp.symm
  have hge : p1 ≤ p1 := Nat.le_refl _
  rw [hp2] at rm
  by_cases z80 : s = 80
  · -- too many
    obtain ⟨A1, y1, y2⟩ := most_yes rd.gn p1
    obtain ⟨σ1, f1, f2, f3⟩ := fail_eq rm.bad 5 p1 (by decide)
    refine Or.inl ⟨(5, p1), A1, σ1, fun kk => ?_, y2.ex.le2, ?_, (h.ex.trans y2.ex).wk (by omega) (by omega), y2.k, y2.pl, f2, h.cg.trans f3.lt⟩
    · show X2_all_b102 N x1 kk A (if s = 80 then 1 else 0) = _
      unfold X2_all_b102
      rw [if_pos z80, rd.at_, y1, bx_none]
    · unfold M_statementTold
      rw [if_pos (show σ.1 53 0 = (80 : Int32) by rw [h.sm, z80]; rfl), rm.at_, show M_fail σ 5 (nn p1) = _ from f1, bd_some]
  · have hs8 : s < 80 := by omega
    obtain ⟨ft2, e2⟩ := ft.w200 (σ' := σ) rd.gn (nn (s + 1)) (Cg.refl σ)
    have rd2 := rd.ex e2 (fun f => by omega) (fun f => by omega)
    have n2 : aN (wI A 200 a0 0 (nn (s + 1))) = aN A := rfl
    have hX1 : ∀ kk, X2_all_b102 N x1 kk A (if s = 80 then 1 else 0) = bxa (wI A 200 a0 0 (nn (s + 1))) (X2_word_2 N (wI A 200 a0 0 (nn (s + 1)))) fun r33 A34 => bo r33 fun q36 => bxa A34 (X2_places N A34 q36 (aI A34 303 9 0)) fun r37 A38 => if r37 = 0 then (bxa A38 (X2_more N A38 q36 (aI A38 303 9 0)) fun _ A42 => X2_all_b148 N x1 kk A42) else (X2_all_b148 N x1 kk A38) := by
      intro kk
      unfold X2_all_b102
      rw [if_neg z80, most_no, bx_some, rd.to_, bo_some, gI_k ft.k, bo_some, h.sa, nn_succ, pI_k ft.k, bo_some]
    have wx := word_eq hN rd2 (by omega)
    have e02 : Ex RP (110 * p1 + 10) (4100 * p1 + 200) A0 (wI A 200 a0 0 (nn (s + 1))) := (h.ex.top (e2.mono (fun f i z => Or.inr (by omega))) h.fr).wk (by omega) (by omega)
    have cht := chT_eq (p := p1) hN (fun s => bd (M_asks N s 23) fun _ σ15 => bd (M_number N σ15 0 100) fun r16 σ17 => lt2 (mUI σ17 47 0 r16) fun σ18 => M_statementTold_b177 N σ18) hB [(13, fun s => bd (M_glossTold N s (σ.1 2 0)) fun _ t => M_statementTold_b177 N t), (14, fun s => bd (M_wormTold N s (σ.1 2 0)) fun _ t => M_statementTold_b177 N t), (15, fun s => bd (M_beingTold N s (σ.1 2 0)) fun _ t => M_statementTold_b177 N t), (19, fun s => bd (M_codesTold N s 0 (σ.1 2 0)) fun _ t => M_statementTold_b177 N t), (20, fun s => bd (M_codesTold N s 1 (σ.1 2 0)) fun _ t => M_statementTold_b177 N t), (21, fun s => bd (M_codesTold N s 2 (σ.1 2 0)) fun _ t => M_statementTold_b177 N t), (22, fun s => bd (M_codesTold N s 3 (σ.1 2 0)) fun _ t => M_statementTold_b177 N t)] σ (by
      intro e he
      simp only [List.mem_cons, List.not_mem_nil, or_false] at he
      rcases he with rfl | rfl | rfl | rfl | rfl | rfl | rfl <;> exact Or.inl ⟨Nat.le_of_ble_eq_true rfl, Nat.le_of_ble_eq_true rfl⟩) (by rw [ss]; exact rm)
    rw [← stmM (fun q => z80 (by rw [h.sm] at q; exact (nn_eq (b := 80) (by omega) (by decide)).mp q)), rm.at_] at cht
    -- behind the words that are none of the seven
    by_cases cl : isLt (B p1) = true ∧ ¬ ptd B p1 = true
    · have hw : sWord B n p1 = .ok (p1, wE B n p1) := by
        have := sWord_t (B := B) (n := n) (p := p1) (by rw [ss]; exact cl.1) (by rw [ss]; exact cl.2)
        rw [this, ss]
      rw [hw] at wx
      obtain ⟨r34, A34, w1, x, w2, w3, w4, w5, w6⟩ := wx
      have hlt : p1 < n := by
        rcases Nat.lt_or_ge p1 n with y | y
        · exact y
        · have := cl.1; rw [hB.ge _ y] at this; exact absurd this (by decide)
      have hwe : p1 + 1 ≤ wE B n p1 := by
        unfold wE
        rw [ss, rp_t hlt cl.1]
        exact rp_ge isLt B n (p1 + 1)
      have hwn : wE B n p1 ≤ n := w4.pn
      have w3 : Ex RP 3 (2 * (wE B n p1 - p1) + 4) (wI A 200 a0 0 (nn (s + 1))) A34 := w3
      have w4 : RD A34 B n (wE B n p1) 0 μ (some a0) := w4
      have w5 : aI A34 303 9 0 = nn p1 := w5
      have w6 : NWS (wI A 200 a0 0 (nn (s + 1))) A34 x (wdk B p1 (wE B n p1)) := w6
      have n34a := w3.n1
      have n34b := w3.n2
      have wlo := w6.lo
      have whi := w6.hi
      have hvl : 1 ≤ (wdk B p1 (wE B n p1)).length := by unfold wdk; simp; omega
      obtain ⟨A2, q1, q2, q3, q4⟩ := places_eq hN w3.gn w6 hvl (nn p1)
      have x0 : aK (wI A 200 a0 0 (nn (s + 1))) x = 0 := rd2.gn.nz x (by omega) (by omega)
      have e32 : Ex RP 3 (2 * (wE B n p1 - p1) + 4) (wI A 200 a0 0 (nn (s + 1))) A2 := (w3.tr q2 (fun f i z => Or.inr (by rw [z.1]; exact x0))).wk (by omega) (by omega)
      have rd3 : RD A2 B n (wE B n p1) 0 μ (some a0) := w4.ex q2 (fun f z => by omega) (fun f z => by omega)
      have e303 : aI A2 303 9 0 = nn p1 := by rw [q2.I _ (by rw [w4.gn.k9]; decide) (fun z => by omega)]; exact w5
      have n2a := e32.n1
      have n2b := e32.n2
      have e0A2 : Ex RP (110 * wE B n p1 + 10) (4100 * wE B n p1 + 200) A0 A2 := (e02.trans e32).wk (by omega) (by omega)
      have hXw : ∀ kk, X2_all_b102 N x1 kk A (if s = 80 then 1 else 0) = ck A34 (bxa A34 (X2_places N A34 x (aI A34 303 9 0)) fun r37 A38 => if r37 = 0 then (bxa A38 (X2_more N A38 x (aI A38 303 9 0)) fun _ A42 => X2_all_b148 N x1 kk A42) else (X2_all_b148 N x1 kk A38)) := by
        intro kk
        rw [hX1, w1, bxa_ok w3.le2, w2, bo_some]
      have goal : StpR N A0 A34 σ0 B n a0 (wE B n p1) L C (fun kk => bxa A34 (X2_places N A34 x (aI A34 303 9 0)) fun r37 A38 => if r37 = 0 then (bxa A38 (X2_more N A38 x (aI A38 303 9 0)) fun _ A42 => X2_all_b148 N x1 kk A42) else (X2_all_b148 N x1 kk A38)) (M_statementTold N σ) → StpR N A0 A σ0 B n a0 p1 L C (fun kk => X2_all_b102 N x1 kk A (if s = 80 then 1 else 0)) (M_statementTold N σ) := by
        intro hg
        have := hg.ckk (C1 := A) (q := p1) (Le.trans (show Le A (wI A 200 a0 0 (nn (s + 1))) from Le.refl _) w3.le2) (by omega)
        rcases this with ⟨e, A', σ', k1, k2⟩ | ⟨A', σ', r1, r2, s2, g2, w2', nb2, cd2, ar2, μ2, be2, k1, k2⟩
        · exact Or.inl ⟨e, A', σ', fun kk => by show X2_all_b102 N x1 kk A (if s = 80 then 1 else 0) = _; rw [hXw]; exact k1 kk, k2⟩
        · exact Or.inr ⟨A', σ', r1, r2, s2, g2, w2', nb2, cd2, ar2, μ2, be2, fun kk r A'' hk hl => by show X2_all_b102 N x1 kk A (if s = 80 then 1 else 0) = _; rw [hXw]; exact k1 kk r A'' hk hl, k2⟩
      apply goal
      have sa2 : aI A2 200 a0 0 = nn (s + 1) := by rw [e32.I _ (by rw [ft2.k]; decide) (rp_hi a1 _ _ (Nat.le_refl _)), aI_wI, if_pos ⟨rfl, rfl, rfl⟩]
      have hPl : ∀ j, wdk B p1 (wE B n p1) = kw j → ∀ kk, (bxa A34 (X2_places N A34 x (aI A34 303 9 0)) fun r37 A38 => if r37 = 0 then (bxa A38 (X2_more N A38 x (aI A38 303 9 0)) fun _ A42 => X2_all_b148 N x1 kk A42) else (X2_all_b148 N x1 kk A38)) = bxa A34 (ck A34 (ck A2 (X2_places_b86 N x (nn p1) A2 (pxP (kw j))))) fun r37 A38 => if r37 = 0 then (bxa A38 (X2_more N A38 x (aI A38 303 9 0)) fun _ A42 => X2_all_b148 N x1 kk A42) else (X2_all_b148 N x1 kk A38) := by
        intro j hj kk
        rw [w5, q1, hj]
      have hMr : ∀ v, wdk B p1 (wE B n p1) = v → pxP v = -1 → ∀ kk, (bxa A34 (X2_places N A34 x (aI A34 303 9 0)) fun r37 A38 => if r37 = 0 then (bxa A38 (X2_more N A38 x (aI A38 303 9 0)) fun _ A42 => X2_all_b148 N x1 kk A42) else (X2_all_b148 N x1 kk A38)) = ck A2 (bxa A2 (ck A2 (ck A2 (X2_more_b132 N x (nn p1) A2 (pxM v)))) fun _ A42 => X2_all_b148 N x1 kk A42) := by
        intro v hv hm kk
        have b86 : X2_places_b86 N x (nn p1) A2 (-1) = some (some 0, A2) := by
          unfold X2_places_b86
          rw [if_neg (by decide), if_neg (by decide), if_neg (by decide)]
        rw [w5, q1, hv, hm, b86, ck_ok (Le.refl _), ck_ok q2.le2, bxa_ok q2.le2, if_pos rfl, e303, more_eq hN q2.gn q4 q3 (nn p1), hv]
      have cb := h.cb
      have hft : ∀ {σ2 : mSt}, Cm Kl σ σ2 → FT A2 σ2 a0 L C g w nb cd ar be := fun c => ft2.ex e32 (rp_hi a1) c.ln
      have hsm : ∀ {σ2 : mSt}, Cm Kl σ σ2 → σ2.1 53 0 = nn s := fun c => (c.I _ (by unfold Kl; omega)).trans h.sm
      have l34 : Le A34 A2 := q2.le2
      have codes : ∀ (k wh : Nat) (σ2 : mSt), Cm Kl σ σ2 → RM σ2 B n (wE B n p1) → (∀ kk, (bxa A34 (X2_places N A34 x (aI A34 303 9 0)) fun r37 A38 => if r37 = 0 then (bxa A38 (X2_more N A38 x (aI A38 303 9 0)) fun _ A42 => X2_all_b148 N x1 kk A42) else (X2_all_b148 N x1 kk A38)) = ck A2 (bxa A2 (ck A2 (ck A2 (X2_more_b132 N x (nn p1) A2 (nn wh)))) fun _ A42 => X2_all_b148 N x1 kk A42)) → (Jn (X2_more_b132 N x (nn p1) A2 (nn wh)) (M_codesTold N σ2 (nn wh) (nn p1)) A2 σ2 a0 (110 * (n + 1 - wE B n p1) + 100) (4100 * (n + 1 - wE B n p1) + 1000) (cdS A2 σ2 B n (wE B n p1) a0 L C g w nb ar be) ∨ Near (X2_more_b132 N x (nn p1) A2 (nn wh)) (M_codesTold N σ2 (nn wh) (nn p1)) A2 σ2 B n a0 (110 * (n + 1 - wE B n p1) + 100) (4100 * (n + 1 - wE B n p1) + 1000)) → M_statementTold N σ = (bd (M_codesTold N σ2 (nn wh) (nn p1)) fun _ t => M_statementTold_b177 N t) → StpR N A0 A34 σ0 B n a0 (wE B n p1) L C (fun kk => bxa A34 (X2_places N A34 x (aI A34 303 9 0)) fun r37 A38 => if r37 = 0 then (bxa A38 (X2_more N A38 x (aI A38 303 9 0)) fun _ A42 => X2_all_b148 N x1 kk A42) else (X2_all_b148 N x1 kk A38)) (M_statementTold N σ) := by
        intro k wh σ2 c2 r2 hX hj hY
        refine stm_more (g := g) (w := w) (nb := nb) (ar := ar) (be := be) hN hX l34 (q := s) (hj.imp (fun j => j.mono (fun r A' σ' _ hS => ?_)) id) hs8 e0A2 (h.cg.trans c2.lt) (by have := h.nn_; omega) h.fr hwn (Nat.le_refl _) (Nat.le_refl _) hY
        obtain ⟨r1, r2', cd', μ1, t1, t2, t3, t4, t5, t6, t7, t8⟩ := hS
        exact ⟨r1, r2', cd', μ1, t1, t2, t3, by omega, t5, t6, t7, t8.1.trans sa2, t8.2.trans (hsm c2)⟩
      have hrm : aN A2 + (110 * (n + 1 - wE B n p1) + 100) ≤ CB := by omega
      have hna : a0 + 7 ≤ aN A2 := by have := h.nn_; omega
      have isv : ∀ j, isH B n j p1 → wdk B p1 (wE B n p1) = kw j := fun j hj => by have := hj.2.2; rw [ss] at this; exact this
      rcases cht with ⟨e, he, hh, σ2, y1, y2, y3⟩ | ⟨hh, σ2, y1, y2, y3⟩
      · simp only [List.mem_cons, List.not_mem_nil, or_false] at he
        rcases he with rfl | rfl | rfl | rfl | rfl | rfl | rfl
        · -- gloss
          have hj := gloss_j hN rd3 y3 (hft y2) p1 x
          refine stm_places (μ := μ) hN (hPl 2 (isv 2 hh)) l34 (q := s) (hj.mono (fun r A' σ' _ hS => ?_)) hs8 e0A2 (h.cg.trans y2.lt) hna h.fr hwn (by omega) (by omega) y1
          obtain ⟨t0, r1, t1, t2, t3, t4, t5⟩ := hS
          exact ⟨t0, r1, g + 1, w, nb, cd, ar, be, t1, t2, by omega, by omega, by omega, by omega, t4, t5.1.trans sa2, t5.2.trans (hsm y2)⟩
        · -- worm
          have hj := worm_j hN rd3 y3 (hft y2) p1 x
          refine stm_places (μ := μ) hN (hPl 3 (isv 3 hh)) l34 (q := s) (hj.mono (fun r A' σ' _ hS => ?_)) hs8 e0A2 (h.cg.trans y2.lt) hna h.fr hwn (by omega) (by omega) y1
          obtain ⟨t0, r1, t1, t2, t3, t4, t5⟩ := hS
          exact ⟨t0, r1, g, w + 1, nb, cd, ar, be, t1, t2, by omega, by omega, by omega, by omega, t4, t5.1.trans sa2, t5.2.trans (hsm y2)⟩
        · -- being
          have hj := being_j hN rd3 y3 (hft y2) (by omega) hna p1 x
          refine stm_places (μ := μ) hN (hPl 4 (isv 4 hh)) l34 (q := s) (hj.mono (fun r A' σ' _ hS => ?_)) hs8 e0A2 (h.cg.trans y2.lt) hna h.fr hwn (by omega) (by omega) y1
          obtain ⟨t0, r1, ar', be', t1, t2, t3, t4, t5⟩ := hS
          exact ⟨t0, r1, g, w, nb + 1, cd, ar', be', t1, t2, by omega, by omega, by omega, by omega, t4, t5.1.trans sa2, t5.2.trans (hsm y2)⟩
        · exact codes 0 0 σ2 y2 y3 (hMr _ (isv 8 hh) (by decide)) (Or.inl (code0_j hN rd3 y3 (hft y2) (by omega) hrm hna p1 x)) y1
        · exact codes 0 1 σ2 y2 y3 (hMr _ (isv 9 hh) (by decide)) (Or.inl (code1_j hN rd3 y3 (hft y2) (by omega) hrm hna p1 x)) y1
        · exact codes 0 2 σ2 y2 y3 (hMr _ (isv 10 hh) (by decide)) (Or.inl (code2_j hN rd3 y3 (hft y2) (by omega) hrm hna p1 x)) y1
        · exact codes 0 3 σ2 y2 y3 (hMr _ (isv 11 hh) (by decide)) (code3_j hN rd3 y3 (hft y2) (by omega) hrm hna p1 x) y1
      · -- thumb, or none
        rw [ss] at y3
        have nv : ∀ j, ¬ isH B n j p1 → wdk B p1 (wE B n p1) ≠ kw j := fun j hj hv => hj ⟨by rw [ss]; exact cl.1, by rw [ss]; exact cl.2, by rw [ss]; exact hv⟩
        have v2 := nv 2 (hh (13, fun s => bd (M_glossTold N s (nn p1)) fun _ t => M_statementTold_b177 N t) (by simp))
        have v3 := nv 3 (hh (14, fun s => bd (M_wormTold N s (nn p1)) fun _ t => M_statementTold_b177 N t) (by simp))
        have v4 := nv 4 (hh (15, fun s => bd (M_beingTold N s (nn p1)) fun _ t => M_statementTold_b177 N t) (by simp))
        have v8 := nv 8 (hh (19, fun s => bd (M_codesTold N s 0 (nn p1)) fun _ t => M_statementTold_b177 N t) (by simp))
        have v9 := nv 9 (hh (20, fun s => bd (M_codesTold N s 1 (nn p1)) fun _ t => M_statementTold_b177 N t) (by simp))
        have v10 := nv 10 (hh (21, fun s => bd (M_codesTold N s 2 (nn p1)) fun _ t => M_statementTold_b177 N t) (by simp))
        have v11 := nv 11 (hh (22, fun s => bd (M_codesTold N s 3 (nn p1)) fun _ t => M_statementTold_b177 N t) (by simp))
        have hpx : pxP (wdk B p1 (wE B n p1)) = -1 := by unfold pxP; rw [if_neg v3, if_neg v4, if_neg v2]
        by_cases t12 : isH B n 12 p1
        · have hv := isv 12 t12
          obtain ⟨σ3, k1, k2, k3⟩ := asks_mq hN y3 (w := 23) (Or.inl ⟨by decide, by decide⟩)
          rw [show wix 23 = 12 from rfl, sIs_isH, if_pos t12] at k3
          have k3 : RM σ3 B n (wE B n p1) := k3
          have c3 := y2.trans k2
          have hj := thumb_j (N := N) hN rd3 k3 (hft c3) (by omega) x (nn p1) (cB := 0) (sB := 0)
          refine stm_more (g := g) (w := w) (nb := nb) (ar := ar) (be := be) hN (hMr _ hv (by decide)) l34 (q := s) (Or.inl (hj.mono (fun r A' σ' _ hS => ?_))) hs8 e0A2 (h.cg.trans c3.lt) hna h.fr hwn (by omega) (by omega) ?_
          · obtain ⟨r1, r2', cd', μ1, t1, t2, t3, t4, t5, t6, t7, t8⟩ := hS
            exact ⟨r1, r2', cd', μ1, t1, t2, t3, by omega, t5, t6, t7, t8.1.trans sa2, t8.2.trans (hsm c3)⟩
          · rw [y1, k1, bd_some, bd_bd]
            rfl
        · have v12 := nv 12 t12
          have hmx : pxM (wdk B p1 (wE B n p1)) = -1 := by unfold pxM; rw [if_neg v9, if_neg v10, if_neg v8, if_neg v11, if_neg v12]
          obtain ⟨σ3, k1, k2, k3⟩ := noneM (N := N) hN y3 ss t12
          have hX := hMr _ rfl hpx
          have b132 : X2_more_b132 N x (nn p1) A2 (-1) = some (none, wI (wI A2 406 10 0 (nn 1)) 407 10 0 (nn p1)) := by
            unfold X2_more_b132
            rw [if_neg (by decide), if_neg (by decide), if_neg (by decide), if_neg (by decide), if_neg (by decide)]
            exact thr A2 1 (nn p1)
          have pf := PF.thr q2.gn 1 p1
          refine Or.inl ⟨(1, p1), _, σ3, fun kk => ?_, l34.trans pf.ex.le2, y1.trans k1, (e0A2.trans pf.ex).wk (by omega) (by omega), pf.k, pf.pl, k2, h.cg.trans (y2.lt.trans k3)⟩
          show (bxa A34 (X2_places N A34 x (aI A34 303 9 0)) fun r37 A38 => _) = _
          rw [hX, hmx, b132, ck_ok pf.ex.le2, ck_ok pf.ex.le2, bxa_no pf.ex.le2, ck_ok pf.ex.le2]
    · -- no word
      have hw : sWord B n p1 = .error (1, p1) := by
        unfold sWord
        rw [ss]
        by_cases h1 : isLt (B p1) = true
        · rw [if_pos h1, if_pos (Classical.byContradiction fun v => cl ⟨h1, v⟩)]
        · rw [if_neg h1]
      rw [hw] at wx
      obtain ⟨A34, w1, w2⟩ := wx
      rcases cht with ⟨e, he, hh, _⟩ | ⟨hh, σ2, y1, y2, y3⟩
      · exact absurd ⟨by have := hh.1; rw [ss] at this; exact this, by have := hh.2.1; rw [ss] at this; exact this⟩ cl
      · rw [ss] at y3
        obtain ⟨σ3, k1, k2, k3⟩ := noneM (N := N) hN y3 ss (fun v => cl ⟨by have := v.1; rw [ss] at this; exact this, by have := v.2.1; rw [ss] at this; exact this⟩)
        refine Or.inl ⟨(1, p1), A34, σ3, fun kk => ?_, Le.trans (show Le A (wI A 200 a0 0 (nn (s + 1))) from Le.refl _) w2.ex.le2, y1.trans k1, (e02.trans w2.ex).wk (by omega) (by omega), w2.k, w2.pl, k2, h.cg.trans (y2.lt.trans k3)⟩
        show X2_all_b102 N x1 kk A (if s = 80 then 1 else 0) = _
        rw [hX1, w1, bxa_no w2.ex.le2]
end
