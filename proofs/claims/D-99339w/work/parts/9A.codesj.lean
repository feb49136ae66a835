/-! PURE LEVEL: statements: codes, both sides -/
set_option maxRecDepth 100000
section
variable {N : Nat} {A A' A1 : AH} {σ σ' σ1 : mSt} {B : Nat → Nat} {n p o μ : Nat} {t : Option Nat} {a0 L C g w nb cd ar c s c' s' c0 s0 : Nat} {be : List Nat} {P K : Nat → Nat → Prop}
theorem FT.exg (h : FT A σ a0 L C g w nb cd ar be) (e : Ex P c s A A') (hp : ∀ f i, a0 ≤ i → ¬ P f i) (m : Cg K σ σ') (hk : ∀ k j, 40 ≤ k → k ≤ 52 → ¬ K k j) : FT A' σ' a0 L C g w nb cd ar be := by
  have lar := h.lar
  have p0 : ∀ f, ¬ P f a0 := fun f => hp f a0 (Nat.le_refl _)
  have pd : ∀ f d, ¬ P f (a0 + d) := fun f d => hp f _ (Nat.le_add_right _ _)
  have k0 : aK A a0 ≠ 0 := by rw [h.k]; decide
  refine FT.mk (h.fh.ex e m (p0 _) (p0 _) (hk _ _ (by decide) (by decide)) (hk _ _ (by decide) (by decide))) (h.fg.ex h.k e m (p0 _) (p0 _) (pd _ _) (hk _ _ (by decide) (by decide)) (fun _ _ => hk _ _ (by decide) (by decide))) (h.fw.ex h.k e m (p0 _) (fun f _ _ => p0 f) (fun d _ _ => pd _ d) (hk _ _ (by decide) (by decide)) (fun _ _ => hk _ _ (by decide) (by decide))) (h.fb.ex h.k e m (p0 _) (fun f => pd f _) (fun f => hp f _ (by omega)) (fun f i hi _ => hp f i hi) (hk _ _ (by decide) (by decide)) (fun _ _ => hk _ _ (by decide) (by decide)) (fun _ _ => hk _ _ (by decide) (by decide)) (fun _ _ => hk _ _ (by decide) (by decide))) (h.fo.ex h.bn m (fun _ _ => hk _ _ (by decide) (by decide)) (fun _ _ => hk _ _ (by decide) (by decide))) (h.fc.ex h.k e m (fun f _ _ => p0 f) (fun f i hi _ => hp f i (by unfold ownV at hi; omega)) (fun i hi _ => hi) (fun _ _ => hk _ _ (by decide) (by decide)) (fun _ _ => hk _ _ (by decide) (by decide)) (fun _ _ => hk _ _ (by decide) (by decide)) (hk _ _ (by decide) (by decide))) ?_
  rw [e.I _ k0 (p0 _), m.I (hk _ _ (by decide) (by decide))]; exact h.th
def Kz (k _j : Nat) : Prop := k = 55 ∨ Kq k
theorem Kz_no : ∀ k j, 40 ≤ k → k ≤ 52 → ¬ Kz k j := fun k j h1 h2 z => by unfold Kz Kq Kl at z; omega
theorem q0_z {x : Int32} : Cg Kz σ (q0S σ x) := (Cg.UI (Or.inl rfl)).trans ((Cg.UI (Or.inr (Or.inr (by omega)))).trans ((Cg.UI (Or.inr (Or.inr (by omega)))).trans ((Cg.UI (Or.inr (Or.inr (by omega)))).trans (Cg.UI (Or.inr (Or.inr (by omega)))))))
theorem Cm.qz (h : Cm Kq σ σ') : Cg Kz σ σ' := h.cg (fun _ _ z => Or.inr z)
/-- the codes of a folio may lie there -/
theorem FT.own (h : FT A σ a0 L C g w nb cd ar be) (gn : GN A) (hn : a0 + 7 ≤ aN A) {i : Nat} (hi : aN A ≤ i) : ownV a0 ar i := by
  refine ⟨by omega, fun z => ?_⟩
  have := gn.nz ar (by omega) h.lx.ha
  rw [h.lx.ka] at this
  cases this
/-- what the reference does once nothing bad has come -/
theorem codesM (r : RM σ B n p) {wh : Nat} (hw : wh < 4) {v : Int32} (h49 : σ.1 49 wh = v) (pl : Nat) : (v = -1 → ∃ x, M_kindBy (nn wh) = some x ∧ M_codesTold N σ (nn wh) (nn pl) = if nn wh = 3 then (bd (M_qTest N (q0S σ x)) fun _ σ13 => M_codesTold_b75 N σ13 (nn wh)) else (bd (M_qSums N (q0S σ x)) fun _ σ7 => M_codesTold_b75 N σ7 (nn wh))) ∧ (v ≠ -1 → ∃ σ', M_codesTold N σ (nn wh) (nn pl) = some ((), σ') ∧ RF σ' (5, pl) ∧ Cm Kl σ σ') := by
  have e0 : ld 2 σ 49 (nn wh) = some v := by rw [ld_nn (by rfl) (by show wh < 8; omega) (by omega), h49]
  refine ⟨fun z => ?_, fun z => ?_⟩
  · obtain ⟨x, hx, _, _⟩ := q0_ok r hw
    refine ⟨x, hx, ?_⟩
    unfold M_codesTold M_codesTold_b23
    rw [if_pos r.bad, e0, bo_some, if_pos z, if_pos r.bad, hx, bo_some, lt2_eq, lt2_eq, lt2_eq, lt2_eq, lt2_eq]
    rfl
  · obtain ⟨σ2, y1, y2, y3⟩ := fail_eq r.bad 5 pl (by decide)
    refine ⟨σ2, ?_, y2, y3⟩
    unfold M_codesTold M_codesTold_b23
    rw [if_pos r.bad, e0, bo_some, if_neg z, show M_fail σ 5 (nn pl) = _ from y1, bd_some, if_neg y2.ne]
theorem b75_bad {e : Nat × Nat} (h : RF σ e) (x : Int32) : M_codesTold_b75 N σ x = some ((), σ) := by
  unfold M_codesTold_b75
  rw [if_neg h.ne]
/-- both sides fault, though the reference only at what follows -/
def Near {α : Type} (X : Option (Option α × AH)) (Y : Option (Unit × mSt)) (A : AH) (σ : mSt) (B : Nat → Nat) (n a0 c s : Nat) : Prop := ∃ e A' σ' p', X = some (none, A') ∧ Ex (RPa a0) c s A A' ∧ aI A' 406 10 0 = nn e.1 ∧ aI A' 407 10 0 = nn e.2 ∧ Y = some ((), σ') ∧ RM σ' B n p' ∧ e = (1, sk B n p') ∧ isLt (B (sk B n p')) = true ∧ Cg Kt σ σ'
abbrev cdS (A : AH) (σ : mSt) (B : Nat → Nat) (n p a0 L C g w nb ar : Nat) (be : List Nat) (_r : Unit) (A' : AH) (σ' : mSt) : Prop := ∃ p1 p2 cd' μ1, RD A' B n p1 0 μ1 (some a0) ∧ RM σ' B n p2 ∧ sk B n p2 = sk B n p1 ∧ p < p1 ∧ cd' ≤ p2 ∧ FT A' σ' a0 L C g w nb cd' ar be ∧ Ex (RPa a0) (110 * (p1 - p) + 6 * wl B n p1) (4100 * (p1 - p) + 12 * wl B n p1) A A' ∧ S53 A σ a0 A' σ'
theorem cp_kt {cs : List Int32} {wh : Nat} (hw : wh < 4) (hb : cd + cs.length ≤ 1600) (m : Cg (fun k j => (k = 51 ∧ cd ≤ j ∧ j < cd + cs.length) ∨ k = 52 ∨ (k = 50 ∧ j = wh) ∨ (k = 49 ∧ j = wh)) σ σ') : Cg Kt σ σ' := by
  refine m.mono (fun k j z => ?_)
  rcases z with ⟨z1, z2, z3⟩ | z | ⟨z1, z2⟩ | ⟨z1, z2⟩
  · rw [z1]; exact Or.inr (show j < 1600 by omega)
  · rw [z]; exact Or.inl rfl
  · rw [z1]; exact Or.inr (show j < 4 by omega)
  · rw [z1]; exact Or.inr (show j < 4 by omega)
theorem code0_j (hN : 5000 ≤ N) (rd : RD A B n p 0 μ (some a0)) (rm : RM σ B n p) (h : FT A σ a0 L C g w nb cd ar be) (hcd : cd ≤ p) (hr : aN A + (110 * (n + 1 - p) + 100) ≤ CB) (hn : a0 + 7 ≤ aN A) (pl x : Nat) : Jn (X2_more_b132 N x (nn pl) A 0) (M_codesTold N σ 0 (nn pl)) A σ a0 (110 * (n + 1 - p) + 100) (4100 * (n + 1 - p) + 1000) (cdS A σ B n p a0 L C g w nb ar be) := by
  have a1 := h.a1
  have a2 := h.a2
  have hB := rd.bk
  have nb6 := hB.nb
  have pn := rd.pn
  unfold X2_more_b132
  rw [if_pos rfl, rd.to_, bo_some, bo_some, gR_k h.k, bo_some]
  unfold X2_once X2_once_b10
  rcases h.op with ⟨n1, n2⟩ | ⟨v0, g0, cs0, s0, n1, _, _, n2, _, n3, _⟩
  case inr =>
    obtain ⟨σ2, y1, y2, y3⟩ := (codesM (N := N) rm (wh := 0) (by decide) n2 pl).2 (nn_ne1 (by have := h.bcd; omega))
    obtain ⟨A2, z1, z2⟩ := most_yes rd.gn pl
    rw [n1, if_neg (by simp), z1, bx_none, ck_ok z2.ex.le2, bxa_no z2.ex.le2]
    exact (Jn.er rfl z2 y1 y2 y3.lt).wk (by omega) (by omega)
  case inl =>
    obtain ⟨x0, hx0, y1⟩ := (codesM (N := N) rm (wh := 0) (by decide) n2 pl).1 rfl
    obtain ⟨x1, hx1, sq, cq⟩ := q0_ok rm (wh := 0) (by decide)
    rw [hx0] at hx1
    cases hx1
    rw [if_neg (by decide)] at y1
    obtain ⟨r3, e3⟩ := rd.ctx 1
    have n3 : aN (wI A 305 9 0 (nn 1)) = aN A := rfl
    have ok := sum_ok hN (atomG_ok (N := N) (B := B) (n := n) (q := false) (μ := 1) (t := some a0) hN (by decide) (by decide) 8 0 (by decide) (by decide)) _ _ r3 (by omega)
    have sm := qSums_eq (N := N) hN sq (Or.inl rfl)
    rw [n1, if_pos rfl, most_no, bx_some, lt2_eq, show wI A 305 9 0 1 = wI A 305 9 0 (nn 1) from rfl]
    have y1 : M_codesTold N σ 0 (nn pl) = _ := y1
    rw [y1]
    cases hv : sSum B n (sAtomF B n false 1 8) 0 p with
    | error e =>
      rw [hv] at ok
      rw [show sSum B n (sAtomF B n false (muOf 0) 8) 0 p = _ from hv] at sm
      obtain ⟨A2, z1, z2⟩ := ok
      have pf := PF.of e3 z2
      rw [show X2_sum N (atomF N) (wI A 305 9 0 (nn 1)) = _ from z1, bxa_no z2.ex.le2, ck_ok pf.ex.le2, bxa_no pf.ex.le2]
      obtain ⟨σ2, w1, w2, w3⟩ := sm
      rw [w1, bd_some, b75_bad w2.rf]
      exact (Jn.er rfl pf rfl w2.rf (cq.trans w3.qt)).wk (by omega) (by omega)
    | ok y =>
      rw [hv] at ok
      rw [show sSum B n (sAtomF B n false (muOf 0) 8) 0 p = _ from hv] at sm
      obtain ⟨r4, A4, z1, v, gv, z2, z3, z4, z5, z6, z7⟩ := ok
      have n4a := z4.n1
      have n4b := z4.n2
      obtain ⟨σ2, w1, w2, w3⟩ := sm
      rw [List.nil_append] at w3
      have h52 : σ2.1 52 0 = nn cd := by rw [w2.I _ (by unfold Kq Kl; omega), q0_z.I (by unfold Kz Kq Kl; omega)]; exact h.cdm
      obtain ⟨σ3, t1, t2, t3, t4, t5, t6, t7⟩ := told_eq (N := N) hN (wh := 0) (by decide) w3 hcd h52
      have nb3 := w3.nb
      have e04 := e3.trans z4
      have h4 := h.exg (σ' := σ2) e04 (rp_hi a1) (q0_z.trans w2.qz) Kz_no
      have vr : VR 24 false 1 A4 (ownV a0 ar) v gv := (z6.le (by decide)).mono (fun i hi => h.own rd.gn hn hi)
      obtain ⟨ft, ex⟩ := h4.code0 z4.gn vr z7 (by omega) t2 t4 t5 t6 t7
      have kk : aK A4 a0 = 2 := h4.k
      have hwl := wl_le z5
      have pn1 := z5.pn
      have exA : Ex (RPa a0) (110 * (y.1 - p) + 6 * wl B n y.1) (4100 * (y.1 - p) + 12 * wl B n y.1) A (wR A4 211 a0 0 (some v)) := (e04.pa.trans (ex.mono (fun f i z => Or.inr (by omega)))).wk (by omega) (by omega)
      rw [w1, bd_some, show M_codesTold_b75 N σ2 (nn 0) = _ from t1]
      rw [show X2_sum N (atomF N) (wI A 305 9 0 (nn 1)) = _ from z1, bxa_ok z4.le2, z2, bo_some, ck_ok (Le.refl _), ck_ok e04.le2, bxa_ok e04.le2, bo_some, pR_k kk, bo_some, ck_ok ex.le2]
      exact Jn.ok rfl rfl (exA.wk (by omega) (by omega)) (cq.trans (w2.qt.trans (cp_kt (by decide) (by omega) t2))) ⟨y.1, sk B n y.1, cd + y.2.length, 1, z5.ex ex (fun f => by omega) (fun f => by omega), w3.rm.hi t2 (fun k j z => by omega), sk_sk hB, z3, t3, ft, exA, ⟨(ex.I _ (by rw [h4.k]; decide) (by omega)).trans (e04.I _ (by rw [h.k]; decide) (rp_hi a1 _ _ (Nat.le_refl _))), (t2.I (by omega)).trans ((w2.I _ (by unfold Kq Kl; omega)).trans (q0_z.I (by unfold Kz Kq Kl; omega)))⟩⟩
theorem code1_j (hN : 5000 ≤ N) (rd : RD A B n p 0 μ (some a0)) (rm : RM σ B n p) (h : FT A σ a0 L C g w nb cd ar be) (hcd : cd ≤ p) (hr : aN A + (110 * (n + 1 - p) + 100) ≤ CB) (hn : a0 + 7 ≤ aN A) (pl x : Nat) : Jn (X2_more_b132 N x (nn pl) A 1) (M_codesTold N σ 1 (nn pl)) A σ a0 (110 * (n + 1 - p) + 100) (4100 * (n + 1 - p) + 1000) (cdS A σ B n p a0 L C g w nb ar be) := by
  have a1 := h.a1
  have a2 := h.a2
  have hB := rd.bk
  have nb6 := hB.nb
  have pn := rd.pn
  unfold X2_more_b132
  rw [if_neg (by decide), if_pos rfl, rd.to_, bo_some, bo_some, gR_k h.k, bo_some]
  unfold X2_once X2_once_b10
  rcases h.co with ⟨n1, n2⟩ | ⟨v0, g0, cs0, s0, n1, _, _, n2, _, n3, _⟩
  case inr =>
    obtain ⟨σ2, y1, y2, y3⟩ := (codesM (N := N) rm (wh := 1) (by decide) n2 pl).2 (nn_ne1 (by have := h.bcd; omega))
    obtain ⟨A2, z1, z2⟩ := most_yes rd.gn pl
    rw [n1, if_neg (by simp), z1, bx_none, ck_ok z2.ex.le2, bxa_no z2.ex.le2]
    exact (Jn.er rfl z2 y1 y2 y3.lt).wk (by omega) (by omega)
  case inl =>
    obtain ⟨x0, hx0, y1⟩ := (codesM (N := N) rm (wh := 1) (by decide) n2 pl).1 rfl
    obtain ⟨x1, hx1, sq, cq⟩ := q0_ok rm (wh := 1) (by decide)
    rw [hx0] at hx1
    cases hx1
    rw [if_neg (by decide)] at y1
    obtain ⟨r3, e3⟩ := rd.ctx 63
    have n3 : aN (wI A 305 9 0 (nn 63)) = aN A := rfl
    have ok := sum_ok hN (atomG_ok (N := N) (B := B) (n := n) (q := false) (μ := 63) (t := some a0) hN (by decide) (by decide) 8 0 (by decide) (by decide)) _ _ r3 (by omega)
    have sm := qSums_eq (N := N) hN sq (Or.inl rfl)
    rw [n1, if_pos rfl, most_no, bx_some, lt2_eq, show wI A 305 9 0 63 = wI A 305 9 0 (nn 63) from rfl]
    have y1 : M_codesTold N σ 1 (nn pl) = _ := y1
    rw [y1]
    cases hv : sSum B n (sAtomF B n false 63 8) 0 p with
    | error e =>
      rw [hv] at ok
      rw [show sSum B n (sAtomF B n false (muOf 1) 8) 0 p = _ from hv] at sm
      obtain ⟨A2, z1, z2⟩ := ok
      have pf := PF.of e3 z2
      rw [show X2_sum N (atomF N) (wI A 305 9 0 (nn 63)) = _ from z1, bxa_no z2.ex.le2, ck_ok pf.ex.le2, bxa_no pf.ex.le2]
      obtain ⟨σ2, w1, w2, w3⟩ := sm
      rw [w1, bd_some, b75_bad w2.rf]
      exact (Jn.er rfl pf rfl w2.rf (cq.trans w3.qt)).wk (by omega) (by omega)
    | ok y =>
      rw [hv] at ok
      rw [show sSum B n (sAtomF B n false (muOf 1) 8) 0 p = _ from hv] at sm
      obtain ⟨r4, A4, z1, v, gv, z2, z3, z4, z5, z6, z7⟩ := ok
      have n4a := z4.n1
      have n4b := z4.n2
      obtain ⟨σ2, w1, w2, w3⟩ := sm
      rw [List.nil_append] at w3
      have h52 : σ2.1 52 0 = nn cd := by rw [w2.I _ (by unfold Kq Kl; omega), q0_z.I (by unfold Kz Kq Kl; omega)]; exact h.cdm
      obtain ⟨σ3, t1, t2, t3, t4, t5, t6, t7⟩ := told_eq (N := N) hN (wh := 1) (by decide) w3 hcd h52
      have nb3 := w3.nb
      have e04 := e3.trans z4
      have h4 := h.exg (σ' := σ2) e04 (rp_hi a1) (q0_z.trans w2.qz) Kz_no
      have vr : VR 24 false 63 A4 (ownV a0 ar) v gv := (z6.le (by decide)).mono (fun i hi => h.own rd.gn hn hi)
      obtain ⟨ft, ex⟩ := h4.code1 z4.gn vr z7 (by omega) t2 t4 t5 t6 t7
      have kk : aK A4 a0 = 2 := h4.k
      have hwl := wl_le z5
      have pn1 := z5.pn
      have exA : Ex (RPa a0) (110 * (y.1 - p) + 6 * wl B n y.1) (4100 * (y.1 - p) + 12 * wl B n y.1) A (wR A4 212 a0 0 (some v)) := (e04.pa.trans (ex.mono (fun f i z => Or.inr (by omega)))).wk (by omega) (by omega)
      rw [w1, bd_some, show M_codesTold_b75 N σ2 (nn 1) = _ from t1]
      rw [show X2_sum N (atomF N) (wI A 305 9 0 (nn 63)) = _ from z1, bxa_ok z4.le2, z2, bo_some, ck_ok (Le.refl _), ck_ok e04.le2, bxa_ok e04.le2, bo_some, pR_k kk, bo_some, ck_ok ex.le2]
      exact Jn.ok rfl rfl (exA.wk (by omega) (by omega)) (cq.trans (w2.qt.trans (cp_kt (by decide) (by omega) t2))) ⟨y.1, sk B n y.1, cd + y.2.length, 63, z5.ex ex (fun f => by omega) (fun f => by omega), w3.rm.hi t2 (fun k j z => by omega), sk_sk hB, z3, t3, ft, exA, ⟨(ex.I _ (by rw [h4.k]; decide) (by omega)).trans (e04.I _ (by rw [h.k]; decide) (rp_hi a1 _ _ (Nat.le_refl _))), (t2.I (by omega)).trans ((w2.I _ (by unfold Kq Kl; omega)).trans (q0_z.I (by unfold Kz Kq Kl; omega)))⟩⟩
theorem code2_j (hN : 5000 ≤ N) (rd : RD A B n p 0 μ (some a0)) (rm : RM σ B n p) (h : FT A σ a0 L C g w nb cd ar be) (hcd : cd ≤ p) (hr : aN A + (110 * (n + 1 - p) + 100) ≤ CB) (hn : a0 + 7 ≤ aN A) (pl x : Nat) : Jn (X2_more_b132 N x (nn pl) A 2) (M_codesTold N σ 2 (nn pl)) A σ a0 (110 * (n + 1 - p) + 100) (4100 * (n + 1 - p) + 1000) (cdS A σ B n p a0 L C g w nb ar be) := by
  have a1 := h.a1
  have a2 := h.a2
  have hB := rd.bk
  have nb6 := hB.nb
  have pn := rd.pn
  unfold X2_more_b132
  rw [if_neg (by decide), if_neg (by decide), if_pos rfl, rd.to_, bo_some, bo_some, gR_k h.k, bo_some]
  unfold X2_once X2_once_b10
  rcases h.to_ with ⟨n1, n2⟩ | ⟨v0, g0, cs0, s0, n1, _, _, n2, _, n3, _⟩
  case inr =>
    obtain ⟨σ2, y1, y2, y3⟩ := (codesM (N := N) rm (wh := 2) (by decide) n2 pl).2 (nn_ne1 (by have := h.bcd; omega))
    obtain ⟨A2, z1, z2⟩ := most_yes rd.gn pl
    rw [n1, if_neg (by simp), z1, bx_none, ck_ok z2.ex.le2, bxa_no z2.ex.le2]
    exact (Jn.er rfl z2 y1 y2 y3.lt).wk (by omega) (by omega)
  case inl =>
    obtain ⟨x0, hx0, y1⟩ := (codesM (N := N) rm (wh := 2) (by decide) n2 pl).1 rfl
    obtain ⟨x1, hx1, sq, cq⟩ := q0_ok rm (wh := 2) (by decide)
    rw [hx0] at hx1
    cases hx1
    rw [if_neg (by decide)] at y1
    obtain ⟨r3, e3⟩ := rd.ctx 127
    have n3 : aN (wI A 305 9 0 (nn 127)) = aN A := rfl
    have ok := sum_ok hN (atomG_ok (N := N) (B := B) (n := n) (q := false) (μ := 127) (t := some a0) hN (by decide) (by decide) 8 0 (by decide) (by decide)) _ _ r3 (by omega)
    have sm := qSums_eq (N := N) hN sq (Or.inl rfl)
    rw [n1, if_pos rfl, most_no, bx_some, lt2_eq, show wI A 305 9 0 127 = wI A 305 9 0 (nn 127) from rfl]
    have y1 : M_codesTold N σ 2 (nn pl) = _ := y1
    rw [y1]
    cases hv : sSum B n (sAtomF B n false 127 8) 0 p with
    | error e =>
      rw [hv] at ok
      rw [show sSum B n (sAtomF B n false (muOf 2) 8) 0 p = _ from hv] at sm
      obtain ⟨A2, z1, z2⟩ := ok
      have pf := PF.of e3 z2
      rw [show X2_sum N (atomF N) (wI A 305 9 0 (nn 127)) = _ from z1, bxa_no z2.ex.le2, ck_ok pf.ex.le2, bxa_no pf.ex.le2]
      obtain ⟨σ2, w1, w2, w3⟩ := sm
      rw [w1, bd_some, b75_bad w2.rf]
      exact (Jn.er rfl pf rfl w2.rf (cq.trans w3.qt)).wk (by omega) (by omega)
    | ok y =>
      rw [hv] at ok
      rw [show sSum B n (sAtomF B n false (muOf 2) 8) 0 p = _ from hv] at sm
      obtain ⟨r4, A4, z1, v, gv, z2, z3, z4, z5, z6, z7⟩ := ok
      have n4a := z4.n1
      have n4b := z4.n2
      obtain ⟨σ2, w1, w2, w3⟩ := sm
      rw [List.nil_append] at w3
      have h52 : σ2.1 52 0 = nn cd := by rw [w2.I _ (by unfold Kq Kl; omega), q0_z.I (by unfold Kz Kq Kl; omega)]; exact h.cdm
      obtain ⟨σ3, t1, t2, t3, t4, t5, t6, t7⟩ := told_eq (N := N) hN (wh := 2) (by decide) w3 hcd h52
      have nb3 := w3.nb
      have e04 := e3.trans z4
      have h4 := h.exg (σ' := σ2) e04 (rp_hi a1) (q0_z.trans w2.qz) Kz_no
      have vr : VR 24 false 127 A4 (ownV a0 ar) v gv := (z6.le (by decide)).mono (fun i hi => h.own rd.gn hn hi)
      obtain ⟨ft, ex⟩ := h4.code2 z4.gn vr z7 (by omega) t2 t4 t5 t6 t7
      have kk : aK A4 a0 = 2 := h4.k
      have hwl := wl_le z5
      have pn1 := z5.pn
      have exA : Ex (RPa a0) (110 * (y.1 - p) + 6 * wl B n y.1) (4100 * (y.1 - p) + 12 * wl B n y.1) A (wR A4 213 a0 0 (some v)) := (e04.pa.trans (ex.mono (fun f i z => Or.inr (by omega)))).wk (by omega) (by omega)
      rw [w1, bd_some, show M_codesTold_b75 N σ2 (nn 2) = _ from t1]
      rw [show X2_sum N (atomF N) (wI A 305 9 0 (nn 127)) = _ from z1, bxa_ok z4.le2, z2, bo_some, ck_ok (Le.refl _), ck_ok e04.le2, bxa_ok e04.le2, bo_some, pR_k kk, bo_some, ck_ok ex.le2]
      exact Jn.ok rfl rfl (exA.wk (by omega) (by omega)) (cq.trans (w2.qt.trans (cp_kt (by decide) (by omega) t2))) ⟨y.1, sk B n y.1, cd + y.2.length, 127, z5.ex ex (fun f => by omega) (fun f => by omega), w3.rm.hi t2 (fun k j z => by omega), sk_sk hB, z3, t3, ft, exA, ⟨(ex.I _ (by rw [h4.k]; decide) (by omega)).trans (e04.I _ (by rw [h.k]; decide) (rp_hi a1 _ _ (Nat.le_refl _))), (t2.I (by omega)).trans ((w2.I _ (by unfold Kq Kl; omega)).trans (q0_z.I (by unfold Kz Kq Kl; omega)))⟩⟩
theorem code3_j (hN : 5000 ≤ N) (rd : RD A B n p 0 μ (some a0)) (rm : RM σ B n p) (h : FT A σ a0 L C g w nb cd ar be) (hcd : cd ≤ p) (hr : aN A + (110 * (n + 1 - p) + 100) ≤ CB) (hn : a0 + 7 ≤ aN A) (pl x : Nat) : Jn (X2_more_b132 N x (nn pl) A 3) (M_codesTold N σ 3 (nn pl)) A σ a0 (110 * (n + 1 - p) + 100) (4100 * (n + 1 - p) + 1000) (cdS A σ B n p a0 L C g w nb ar be) ∨ Near (X2_more_b132 N x (nn pl) A 3) (M_codesTold N σ 3 (nn pl)) A σ B n a0 (110 * (n + 1 - p) + 100) (4100 * (n + 1 - p) + 1000) := by
  have a1 := h.a1
  have a2 := h.a2
  have hB := rd.bk
  have nb6 := hB.nb
  have pn := rd.pn
  unfold X2_more_b132
  rw [if_neg (by decide), if_neg (by decide), if_neg (by decide), if_pos rfl, rd.to_, bo_some, gR_k h.k, bo_some]
  unfold X2_more_b255
  rcases h.st with ⟨n1, n2⟩ | ⟨v0, g0, cs0, s0, n1, _, _, n2, _, n3, _⟩
  case inr =>
    obtain ⟨σ2, y1, y2, y3⟩ := (codesM (N := N) rm (wh := 3) (by decide) n2 pl).2 (nn_ne1 (by have := h.bcd; omega))
    obtain ⟨A2, z1, z2⟩ := most_yes rd.gn pl
    rw [n1, if_neg (by simp), z1, bx_none]
    exact Or.inl <| (Jn.er rfl z2 y1 y2 y3.lt).wk (by omega) (by omega)
  case inl =>
    obtain ⟨x0, hx0, y1⟩ := (codesM (N := N) rm (wh := 3) (by decide) n2 pl).1 rfl
    obtain ⟨x1, hx1, sq, cq⟩ := q0_ok rm (wh := 3) (by decide)
    rw [hx0] at hx1
    cases hx1
    rw [if_pos (by rfl)] at y1
    obtain ⟨r3, e3⟩ := rd.ctx 63
    have n3 : aN (wI A 305 9 0 (nn 63)) = aN A := rfl
    have ok := test_ok hN (rs := sFactF B n (sSum B n (sAtomF B n false 63 8)) 8) (factG_ok (N := N) (B := B) (n := n) (q := false) (μ := 63) (t := some a0) hN (by decide) (Or.inr (Or.inl rfl)) 8 0 (by decide) (by decide)) _ _ r3 (by omega)
    have sm := qTest_eq (N := N) hN sq
    rw [n1, if_pos rfl, most_no, bx_some, lt2_eq, show wI A 305 9 0 63 = wI A 305 9 0 (nn 63) from rfl]
    rw [r3.to_, bo_some]
    have y1 : M_codesTold N σ 3 (nn pl) = _ := y1
    rw [y1]
    cases hv : sTest B n (sFactF B n (sSum B n (sAtomF B n false 63 8)) 8) 0 p with
    | error e =>
      rw [hv] at ok
      rw [show sTest B n (sFactF B n (sSum B n (sAtomF B n false (muOf 3) 8)) 8) 0 p = _ from hv] at sm
      obtain ⟨A2, z1, z2⟩ := ok
      have pf := PF.of e3 z2
      rw [show X2_test N (factF N) (wI A 305 9 0 (nn 63)) = _ from z1, bxa_no z2.ex.le2]
      obtain ⟨σ2, w1, w2, w3⟩ := sm
      rcases w3 with w3 | ⟨p2, K2, o2, w3, w4, w5⟩
      · rw [w1, bd_some, b75_bad w3]
        exact Or.inl ((Jn.er rfl pf rfl w3 (cq.trans w2.qt)).wk (by omega) (by omega))
      · have h52 : σ2.1 52 0 = nn cd := by rw [w2.I _ (by unfold Kq Kl; omega), q0_z.I (by unfold Kz Kq Kl; omega)]; exact h.cdm
        obtain ⟨σ3, t1, t2, t3, _⟩ := told_eq (N := N) hN (wh := 3) (by decide) w3 hcd h52
        have nb3 := w3.nb
        rw [w1, bd_some, show M_codesTold_b75 N σ2 (nn 3) = _ from t1]
        exact Or.inr ⟨e, A2, σ3, p2, rfl, (pf.ex.pa).wk (by omega) (by omega), pf.k, pf.pl, rfl, w3.rm.hi t2 (fun k j z => by omega), w4, w5, cq.trans (w2.qt.trans (cp_kt (by decide) (by omega) t2))⟩
    | ok y =>
      rw [hv] at ok
      rw [show sTest B n (sFactF B n (sSum B n (sAtomF B n false (muOf 3) 8)) 8) 0 p = _ from hv] at sm
      obtain ⟨r4, A4, z1, v, gv, z2, z3, z4, z5, z6, z7⟩ := ok
      have n4a := z4.n1
      have n4b := z4.n2
      obtain ⟨σ2, w1, w2, w3⟩ := sm
      have h52 : σ2.1 52 0 = nn cd := by rw [w2.I _ (by unfold Kq Kl; omega), q0_z.I (by unfold Kz Kq Kl; omega)]; exact h.cdm
      obtain ⟨σ3, t1, t2, t3, t4, t5, t6, t7⟩ := told_eq (N := N) hN (wh := 3) (by decide) w3 hcd h52
      have nb3 := w3.nb
      have e04 := e3.trans z4
      have h4 := h.exg (σ' := σ2) e04 (rp_hi a1) (q0_z.trans w2.qz) Kz_no
      have vr : TR 24 16 false 63 A4 (ownV a0 ar) v gv := (z6).mono (fun i hi => h.own rd.gn hn hi)
      obtain ⟨ft, ex⟩ := h4.code3 z4.gn vr z7 (by omega) t2 t4 t5 t6 t7
      have kk : aK A4 a0 = 2 := h4.k
      have hwl := wl_le z5
      have pn1 := z5.pn
      have exA : Ex (RPa a0) (110 * (y.1 - p) + 6 * wl B n y.1) (4100 * (y.1 - p) + 12 * wl B n y.1) A (wR A4 214 a0 0 (some v)) := (e04.pa.trans (ex.mono (fun f i z => Or.inr (by omega)))).wk (by omega) (by omega)
      rw [w1, bd_some, show M_codesTold_b75 N σ2 (nn 3) = _ from t1]
      rw [show X2_test N (factF N) (wI A 305 9 0 (nn 63)) = _ from z1, bxa_ok z4.le2, z2, bo_some, pR_k kk, bo_some, ck_ok ex.le2]
      refine Or.inl (Jn.ok rfl rfl (exA.wk (by omega) (by omega)) (cq.trans (w2.qt.trans (cp_kt (by decide) (by omega) t2))) ⟨y.1, sk B n y.1, cd + y.2.length, 63, z5.ex ex (fun f => by omega) (fun f => by omega), w3.rm.hi t2 (fun k j z => by omega), sk_sk hB, z3, t3, ft, exA, ⟨(ex.I _ (by rw [h4.k]; decide) (by omega)).trans (e04.I _ (by rw [h.k]; decide) (rp_hi a1 _ _ (Nat.le_refl _))), (t2.I (by omega)).trans ((w2.I _ (by unfold Kq Kl; omega)).trans (q0_z.I (by unfold Kz Kq Kl; omega)))⟩⟩)
end
