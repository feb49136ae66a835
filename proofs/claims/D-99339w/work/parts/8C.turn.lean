/-! PURE LEVEL: one turn of the reference's reading of a part -/
set_option maxRecDepth 100000
/-- the number of codes is bounded -/
def QB (σ : mSt) : Prop := ∃ m, m ≤ 1650 ∧ σ.1 95 0 = nn m
/-- the fault is told, and a code more may be told -/
def RG (σ : mSt) (e : Nat × Nat) : Prop :=
  (RF σ e) ∧
  (QB σ)
theorem RG.rf {σ : mSt} {e : Nat × Nat} (h : RG σ e) : RF σ e := h.1
theorem RG.qb {σ : mSt} {e : Nat × Nat} (h : RG σ e) : QB σ := h.2
theorem RG.mk {σ : mSt} {e : Nat × Nat} (h_rf : RF σ e) (h_qb : QB σ) : RG σ e := ⟨h_rf, h_qb⟩
section
variable {N : Nat} {was : Int32} {σ σ' : mSt} {B : Nat → Nat} {n p p' : Nat} {q : Bool} {μ : Nat} {K W K' W' : List Int32} {o base o' base' sl : Nat} {e : Nat × Nat}
theorem Cm.lq (h : Cm Kl σ σ') : Cm Kq σ σ' := h.mono (fun _ z => Or.inl z)
theorem Cm.wq (h : Cm Kw σ σ') : Cm Kq σ σ' := h.mono (fun k z => by unfold Kw at z; unfold Kq; omega)
theorem Kq_at : Kq 2 := Or.inl (Or.inl rfl)
theorem SQ.rd (s : SQ σ B n p q μ K W o base sl) (c : Cm Kl σ σ') (r : RM σ' B n p') (h : p ≤ p') : SQ σ' B n p' q μ K W o base sl :=
  SQ.mk r (s.qs.cm c (fun k h1 h2 z => by unfold Kl at z; omega)) (by rw [c.I _ (by unfold Kl; omega)]; exact s.tk) (by have := s.le; omega)
theorem SQ.ws (s : SQ σ B n p q μ K W o base sl) (c : Cm Kw σ σ') (h : QS σ' K' W' o' base') (hl : K'.length + W'.length + sl ≤ p) : SQ σ' B n p q μ K' W' o' base' sl :=
  SQ.mk (s.rm.cm c (fun k h1 z => by unfold Kw at z; omega)) h (by rw [c.I _ (by unfold Kw; omega)]; exact s.tk) hl
theorem SQ.nb (s : SQ σ B n p q μ K W o base sl) : p ≤ 1600 := by have := s.rm.pn; have := s.rm.bk.nb; omega
theorem SQ.le5 (s : SQ σ B n p q μ K W o base sl) : K.length + W.length < 1650 := by have := s.le; have := s.nb; omega
theorem SQ.step (s : SQ σ B n p q μ K W o base sl) (c : Cm Kw σ σ') (h : QS σ' K' W' o' base') (hp : p < n) (hld : ¬ LD (B p)) (hl : K'.length + W'.length + sl ≤ p + 1) : SQ (mUI σ' 2 0 (σ'.1 2 0 + 1)) B n (p + 1) q μ K' W' o' base' sl ∧ Cm Kq σ (mUI σ' 2 0 (σ'.1 2 0 + 1)) := by
  have r1 : RM σ' B n p := s.rm.cm c (fun k h1 z => by unfold Kw at z; omega)
  obtain ⟨r2, c2⟩ := r1.mv (p' := p + 1) (by omega) (by omega) (fun k h1 h2 => by rw [show k = p by omega]; exact hld)
  rw [r1.at_, nn_succ]
  refine ⟨SQ.mk r2 (h.cm c2 (fun k h1 h2 z => by unfold Kl at z; omega)) ?_ hl, c.wq.trans c2.lq⟩
  rw [c2.I _ (by unfold Kl; omega), c.I _ (by unfold Kw; omega)]; exact s.tk
theorem QB.cm (h : QB σ) (c : Cm Kl σ σ') : QB σ' := by
  obtain ⟨m, h1, h2⟩ := h
  exact ⟨m, h1, by rw [c.I _ (by unfold Kl; omega)]; exact h2⟩
theorem SQ.qb (s : SQ σ B n p q μ K W o base sl) : QB σ := ⟨K.length, by have := s.le5; omega, s.qs.cn⟩
theorem RF.mvt (h : RF σ e) {v : Int32} : RF (mUI σ 2 0 v) e := RF.mk (by rw [mI_UI, if_neg (by decide)]; exact h.b) (by rw [mI_UI, if_neg (by decide)]; exact h.pl) h.nz
theorem SQ.rg (s : SQ σ B n p q μ K W o base sl) (c : Cm Kl σ σ') (h : RF σ' e) : RG σ' e := RG.mk h (s.qb.cm c)
theorem RG.mvt (h : RG σ e) {v : Int32} : RG (mUI σ 2 0 v) e := RG.mk h.rf.mvt (h.qb.cm (Cm.UI (Or.inl rfl)))
theorem RG.ne (h : RG σ e) : ¬ σ.1 5 0 = 0 := h.rf.ne
theorem bad_rest2 (hN : 1 ≤ N) (h : RG σ e) (z : Nat) : ∃ σ', qRest N was (z + 1) 0 σ = some ((), σ') ∧ RG σ' e ∧ Cm Kq σ σ' := by
  obtain ⟨N, rfl⟩ : ∃ m, N = m + 1 := ⟨N - 1, by omega⟩
  refine ⟨mUI σ 99 0 was, ?_, RG.mk (RF.mk ?_ ?_ h.rf.nz) ?_, Cm.UI (Or.inr (Or.inr (Or.inr (Or.inr (Or.inr (Or.inr rfl))))))⟩
  · unfold qRest M_qSums_b48 M_qSums_b49
    rw [if_pos rfl]
    show M_qSums_b15 (N + 1) _ σ was 0 = _
    unfold M_qSums_b15
    rw [if_pos rfl]
    show M_qSums_b53 (N + 1) _ σ was = _
    unfold M_qSums_b53 M_qSums_b78
    rw [if_neg h.ne, lt2_eq]
  · rw [mI_UI, if_neg (by decide)]; exact h.rf.b
  · rw [mI_UI, if_neg (by decide)]; exact h.rf.pl
  · obtain ⟨m, h1, h2⟩ := h.qb
    exact ⟨m, h1, by rw [mI_UI, if_neg (by decide)]; exact h2⟩
theorem RF.cmw (h : RF σ e) (c : Cm Kw σ σ') : RF σ' e := RF.mk ((c.I _ (by unfold Kw; omega)).trans h.b) ((c.I _ (by unfold Kw; omega)).trans h.pl) h.nz
theorem bad_asksWord (h : RF σ e) : M_qAsksWord N σ (nn 9) = some ((), σ) := by
  show (bd (M_asks N σ 93) fun _ σ1 => some ((), σ1)) = _
  rw [bad_asks h, bd_some]
/-- what stands behind qPartTold -/
noncomputable def qK (N : Nat) (was : Int32) (z : Nat) (σ4 : mSt) : Option (Unit × mSt) := if (σ4.1 5 0) = 0 then (bd (M_qGoesOn N σ4) (qRest N was z)) else (M_qSums_b48 N (rn3 (M_qSums_b15 N) z) σ4 was)
theorem qEE_eq {x z : Nat} : qEE N was x z σ = bd (rn2 (M_qPartTold_b2 N) x σ 1) fun _ => qK N was z := rfl
theorem qK_good {z : Nat} (h : σ.1 5 0 = 0) : qK N was z σ = qGG N was N z σ := by
  unfold qK qGG M_qGoesOn
  rw [if_pos h]
theorem qK_bad {z : Nat} (hN : 1 ≤ N) (hz : 1 ≤ z) (h : RG σ e) : ∃ σ', qK N was z σ = some ((), σ') ∧ RG σ' e ∧ Cm Kq σ σ' := by
  obtain ⟨z, rfl⟩ : ∃ m, z = m + 1 := ⟨z - 1, by omega⟩
  obtain ⟨σ', h1, h2, h3⟩ := bad_rest2 (was := was) hN h z
  refine ⟨σ', ?_, h2, h3⟩
  unfold qK
  rw [if_neg h.ne, ← h1]
  unfold qRest
  rw [if_pos rfl]
theorem qEE_turn {x z : Nat} (h : ∀ kk, M_qPartTold_b2 N kk σ 1 = kk σ' 1) : qEE N was (x + 1) z σ = qEE N was x z σ' := by
  rw [qEE_eq, qEE_eq]
  show bd (M_qPartTold_b2 N (rn2 (M_qPartTold_b2 N) x) σ 1) _ = _
  rw [h]
theorem qEE_bad {x z : Nat} (hN : 1 ≤ N) (hz : 1 ≤ z) (hx : 1 ≤ x) (h : RG σ e) : ∃ σ', qEE N was x z σ = some ((), σ') ∧ RG σ' e ∧ Cm Kq σ σ' := by
  obtain ⟨x, rfl⟩ : ∃ m, x = m + 1 := ⟨x - 1, by omega⟩
  obtain ⟨σ', h1, h2, h3⟩ := qK_bad (was := was) hN hz h
  refine ⟨σ', ?_, h2, h3⟩
  rw [qEE_eq, ← h1]
  show bd (M_qPartTold_b2 N (rn2 (M_qPartTold_b2 N) x) σ 1) _ = _
  unfold M_qPartTold_b2 M_qPartTold_b186
  rw [if_neg (by decide), if_neg h.ne, if_neg h.ne, bd_some]
theorem T_look (hN : 5000 ≤ N) (s : SQ σ B n p q μ K W o base sl) : ∃ σ1, Cm Kq σ σ1 ∧ SQ σ1 B n (sk B n p) q μ K W o base sl ∧ ∀ kk, M_qPartTold_b2 N kk σ 1 = if bv (B (sk B n p)) = 40 then (bd (M_qOpens σ1 20 (σ1.1 2 0)) fun _ σ25 => lt2 (mUI σ25 2 0 ((σ25.1 2 0) + 1)) fun σ26 => M_qPartTold_b183 N kk σ26 1) else (bd (M_isHere N σ1 82) fun r12 σ13 => if r12 = 0 then (bd (M_isHere N σ13 83) fun r21 σ22 => if r21 = 0 then (if fdI (wof q μ 9 10 (wnH B n (sk B n p) wnL 0)) = (-1) then (M_qPartTold_b183 N kk σ22 0) else (bd (M_qOpens σ22 ((60 + fdI (wof q μ 9 10 (wnH B n (sk B n p) wnL 0))) - 9) (σ22.1 2 0)) fun _ σ23 => bd (M_qAsksWord N σ23 (fdI (wof q μ 9 10 (wnH B n (sk B n p) wnL 0)))) fun _ σ24 => M_qPartTold_b183 N kk σ24 1)) else (M_qPartTold_b78 N kk σ22 1)) else (M_qPartTold_b78 N kk σ13 1)) := by
  obtain ⟨s9, h1, c1, r1⟩ := look_eq hN s.rm
  have q1 := s.rd c1 r1 (sk_ge B n p)
  obtain ⟨s11, h2, c2, r2⟩ := qWordOf_eq hN r1 q1.tk (a := 9) (b := 10) (by decide) (by decide)
  rw [sk_sk s.rm.bk] at r2
  refine ⟨s11, c1.lq.trans c2.lq, q1.rd c2 r2 (Nat.le_refl _), fun kk => ?_⟩
  unfold M_qPartTold_b2
  rw [if_neg (by decide), if_pos s.rm.bad, h1, bd_some, show M_qWordOf N s9 9 10 = _ from h2, bd_some]
/-- a bracket opens -/
theorem T_open (hN : 5000 ≤ N) (s : SQ σ B n p q μ K W o base sl) (h : B (sk B n p) = 40) : ∃ σ', (∀ kk, M_qPartTold_b2 N kk σ 1 = kk σ' 1) ∧ Cm Kq σ σ' ∧ ((o = 6 ∧ RG σ' (4, sk B n p)) ∨ (o < 6 ∧ SQ σ' B n (sk B n p + 1) q μ K (W ++ [20]) (o + 1) base sl)) := by
  obtain ⟨σ1, c1, s1, e1⟩ := T_look hN s
  obtain ⟨σ2, h2, d2⟩ := qOpens_eq s1.rm s1.qs s1.le5 20 (sk B n p)
  have key : ∀ kk, M_qPartTold_b2 N kk σ 1 = kk (mUI σ2 2 0 ((σ2.1 2 0) + 1)) 1 := by
    intro kk
    rw [e1 kk, if_pos (show bv (B (sk B n p)) = (40 : Int32) by rw [h]; rfl), s1.rm.at_, h2, bd_some, lt2_eq]
    rfl
  rcases d2 with ⟨z, d3, d4⟩ | ⟨z, d3, d4⟩
  · exact ⟨_, key, c1.trans (d4.lq.trans (Cm.UI Kq_at)), Or.inl ⟨z, (s1.rg d4 d3).mvt⟩⟩
  · have hl := s1.le
    obtain ⟨s3, c3⟩ := s1.step d3 d4 (sk_lt s.rm.bk s.rm.pn h (by decide)) (by rw [h]; unfold LD; decide) (by rw [List.length_append, List.length_singleton]; omega)
    exact ⟨_, key, c1.trans c3, Or.inr ⟨z, s3⟩⟩
/-- behind min or max -/
theorem T_b101 (hN : 5000 ≤ N) (s : SQ σ B n p q μ K W o base sl) (hl : K.length + W.length + sl < p) (x4 : Int32) : ∃ σ', (∀ kk, M_qPartTold_b101 N kk σ 1 x4 = kk σ' 1) ∧ Cm Kq σ σ' ∧ ((B (sk B n p) ≠ 40 ∧ RG σ' (1, sk B n p)) ∨ (B (sk B n p) = 40 ∧ o = 6 ∧ RG σ' (4, sk B n p)) ∨ (B (sk B n p) = 40 ∧ o < 6 ∧ SQ σ' B n (sk B n p + 1) q μ K (W ++ [if x4 = 0 then 22 else 21]) (o + 1) base sl)) := by
  obtain ⟨σ1, h1, c1, r1⟩ := look_eq hN s.rm
  have s1 := s.rd c1 r1 (sk_ge B n p)
  have hle := s.rm.bk.le (sk B n p)
  have hge := sk_ge B n p
  by_cases z : B (sk B n p) = 40
  · obtain ⟨σ2, h2, d2⟩ := qOpens_eq s1.rm s1.qs s1.le5 (if x4 = 0 then 22 else 21) (sk B n p)
    have key : ∀ kk, M_qPartTold_b101 N kk σ 1 x4 = M_qPartTold_b144 N kk σ2 1 := by
      intro kk
      unfold M_qPartTold_b101
      rw [h1, bd_some, if_pos (show bv (B (sk B n p)) = (40 : Int32) by rw [z]; rfl), s1.rm.at_]
      unfold M_qPartTold_b118 M_qPartTold_b139
      rw [if_neg (nn_ne1 (by have := s1.nb; omega))]
      by_cases w : x4 = 0
      · rw [if_pos w] at h2
        rw [if_pos w, h2, bd_some]
      · rw [if_neg w] at h2
        rw [if_neg w, h2, bd_some]
    rcases d2 with ⟨y, d3, d4⟩ | ⟨y, d3, d4⟩
    · refine ⟨σ2, fun kk => ?_, c1.lq.trans d4.lq, Or.inr (Or.inl ⟨z, y, s1.rg d4 d3⟩)⟩
      rw [key kk]
      unfold M_qPartTold_b144
      rw [bad_asksSign d3, bd_some]
      rfl
    · have s2 : SQ σ2 B n (sk B n p) q μ K (W ++ [if x4 = 0 then 22 else 21]) (o + 1) base sl := s1.ws d3 d4 (by rw [List.length_append, List.length_singleton]; omega)
      obtain ⟨σ3, h3, c3, r3⟩ := asksSign_eq hN s2.rm (c := 40) (by decide) (by unfold LD; decide)
      unfold sMust at r3
      rw [sk_sk s.rm.bk, if_pos z] at r3
      refine ⟨σ3, fun kk => ?_, c1.lq.trans (d3.wq.trans c3.lq), Or.inr (Or.inr ⟨z, y, s2.rd c3 r3 (by omega)⟩)⟩
      rw [key kk]
      unfold M_qPartTold_b144
      rw [show M_asksSign N σ2 40 = _ from h3, bd_some]
      rfl
  · obtain ⟨σ3, h3, c3, r3⟩ := asksSign_eq hN s1.rm (c := 40) (by decide) (by unfold LD; decide)
    unfold sMust at r3
    rw [sk_sk s.rm.bk, if_neg z] at r3
    refine ⟨σ3, fun kk => ?_, c1.lq.trans c3.lq, Or.inl ⟨z, s1.rg c3 r3⟩⟩
    unfold M_qPartTold_b101 M_qPartTold_b118 M_qPartTold_b144
    rw [h1, bd_some, if_neg (fun w : bv (B (sk B n p)) = (40 : Int32) => z ((bv_eq hle (by decide)).mp w)), if_pos rfl, show M_asksSign N σ1 40 = _ from h3, bd_some]
    rfl
theorem isH_ne {i j : Nat} (h : isH B n i p) (g : isH B n j p) : kw i = kw j := h.2.2.symm.trans g.2.2
/-- min or max -/
theorem T_mm (hN : 5000 ≤ N) (s : SQ σ B n p q μ K W o base sl) (hz : B (sk B n p) ≠ 40) {j : Nat} (hj : j = 26 ∨ j = 27) (h : isH B n j p) : ∃ σ', (∀ kk, M_qPartTold_b2 N kk σ 1 = kk σ' 1) ∧ Cm Kq σ σ' ∧ ((B (sk B n (wE B n p)) ≠ 40 ∧ RG σ' (1, sk B n (wE B n p))) ∨ (B (sk B n (wE B n p)) = 40 ∧ o = 6 ∧ RG σ' (4, sk B n (wE B n p))) ∨ (B (sk B n (wE B n p)) = 40 ∧ o < 6 ∧ SQ σ' B n (sk B n (wE B n p) + 1) q μ K (W ++ [if j = 26 then 21 else 22]) (o + 1) base sl)) := by
  have hB := s.rm.bk
  have hle := hB.le (sk B n p)
  obtain ⟨σ1, c1, s1, e1⟩ := T_look hN s
  obtain ⟨k1, k2, k3, k4⟩ := isH_end hB s.rm.pn h
  have hl := s.le
  have hge := sk_ge B n p
  have h' : isH B n j (sk B n p) := (isH_sk hB).mpr h
  have ew : wE B n (sk B n p) = wE B n p := by unfold wE; rw [sk_sk hB]
  -- the word is taken
  have tk : ∀ (σ2 : mSt), SQ σ2 B n (sk B n p) q μ K W o base sl → ∃ σ3, (∀ kk, M_qPartTold_b78 N kk σ2 1 = M_qPartTold_b101 N kk σ3 1 (if j = 26 then 1 else 0)) ∧ Cm Kq σ2 σ3 ∧ SQ σ3 B n (wE B n p) q μ K W o base sl := by
    intro σ2 s2
    obtain ⟨σ3, t1, t2, t3⟩ := mtakes_eq hN s2.rm (w := 82) (Or.inr ⟨by decide, by decide⟩)
    rw [show wix 82 = 26 from rfl] at t1 t3
    rcases hj with rfl | rfl
    · rw [if_pos h'] at t1 t3
      rw [ew] at t3
      refine ⟨σ3, fun kk => ?_, t2.lq, s2.rd t2 t3 (by omega)⟩
      unfold M_qPartTold_b78
      rw [t1, bd_some, if_neg (by decide), if_pos rfl]
    · have hn : ¬ isH B n 26 (sk B n p) := fun w => absurd (isH_ne w h') (by decide)
      rw [if_neg hn] at t1 t3
      rw [sk_sk hB] at t3
      have s3 := s2.rd t2 t3 (Nat.le_refl _)
      obtain ⟨σ4, u1, u2, u3⟩ := asks_mq hN t3 (w := 83) (Or.inr ⟨by decide, by decide⟩)
      rw [show wix 83 = 27 from rfl, sIs_isH, if_pos h', ew] at u3
      refine ⟨σ4, fun kk => ?_, t2.lq.trans u2.lq, s3.rd u2 u3 (by omega)⟩
      unfold M_qPartTold_b78
      rw [t1, bd_some, if_pos rfl, u1, bd_some, if_neg (by decide)]
  obtain ⟨σ2, i1, i2, i3⟩ := isHere_eq hN s1.rm (w := 82) (Or.inr ⟨by decide, by decide⟩)
  rw [show wix 82 = 26 from rfl] at i1
  rw [sk_sk hB] at i3
  have s2 := s1.rd i2 i3 (Nat.le_refl _)
  have fin : ∀ (σ2 : mSt), SQ σ2 B n (sk B n p) q μ K W o base sl → Cm Kq σ σ2 → (∀ kk, M_qPartTold_b2 N kk σ 1 = M_qPartTold_b78 N kk σ2 1) → ∃ σ', (∀ kk, M_qPartTold_b2 N kk σ 1 = kk σ' 1) ∧ Cm Kq σ σ' ∧ ((B (sk B n (wE B n p)) ≠ 40 ∧ RG σ' (1, sk B n (wE B n p))) ∨ (B (sk B n (wE B n p)) = 40 ∧ o = 6 ∧ RG σ' (4, sk B n (wE B n p))) ∨ (B (sk B n (wE B n p)) = 40 ∧ o < 6 ∧ SQ σ' B n (sk B n (wE B n p) + 1) q μ K (W ++ [if j = 26 then 21 else 22]) (o + 1) base sl)) := by
    intro σ2 s2 c2 e2
    obtain ⟨σ3, t1, t2, t3⟩ := tk σ2 s2
    obtain ⟨σ4, u1, u2, u3⟩ := T_b101 hN t3 (by omega) (if j = 26 then 1 else 0)
    refine ⟨σ4, fun kk => by rw [e2, t1, u1], c2.trans (t2.trans u2), ?_⟩
    rcases hj with rfl | rfl
    · exact u3
    · exact u3
  rcases hj with rfl | rfl
  · rw [if_pos h'] at i1
    refine fin σ2 s2 (c1.trans i2.lq) (fun kk => ?_)
    rw [e1 kk, if_neg (fun w : bv (B (sk B n p)) = (40 : Int32) => hz ((bv_eq hle (by decide)).mp w)), i1, bd_some, if_neg (by decide)]
  · have hn : ¬ isH B n 26 (sk B n p) := fun w => absurd (isH_ne w h') (by decide)
    rw [if_neg hn] at i1
    obtain ⟨σ3, j1, j2, j3⟩ := isHere_eq hN s2.rm (w := 83) (Or.inr ⟨by decide, by decide⟩)
    rw [show wix 83 = 27 from rfl, if_pos h'] at j1
    rw [sk_sk hB] at j3
    refine fin σ3 (s2.rd j2 j3 (Nat.le_refl _)) (c1.trans (i2.lq.trans j2.lq)) (fun kk => ?_)
    rw [e1 kk, if_neg (fun w : bv (B (sk B n p)) = (40 : Int32) => hz ((bv_eq hle (by decide)).mp w)), i1, bd_some, if_pos rfl, j1, bd_some, if_neg (by decide)]
/-- neither a bracket nor min nor max: what the turn does -/
theorem T_no (hN : 5000 ≤ N) (s : SQ σ B n p q μ K W o base sl) (hz : B (sk B n p) ≠ 40) (h26 : ¬ isH B n 26 p) (h27 : ¬ isH B n 27 p) : ∃ σ1, Cm Kq σ σ1 ∧ SQ σ1 B n (sk B n p) q μ K W o base sl ∧ ∀ kk, M_qPartTold_b2 N kk σ 1 = if fdI (wof q μ 9 10 (wnH B n (sk B n p) wnL 0)) = (-1) then (M_qPartTold_b183 N kk σ1 0) else (bd (M_qOpens σ1 ((60 + fdI (wof q μ 9 10 (wnH B n (sk B n p) wnL 0))) - 9) (σ1.1 2 0)) fun _ σ23 => bd (M_qAsksWord N σ23 (fdI (wof q μ 9 10 (wnH B n (sk B n p) wnL 0)))) fun _ σ24 => M_qPartTold_b183 N kk σ24 1) := by
  have hB := s.rm.bk
  have hle := hB.le (sk B n p)
  obtain ⟨σ1, c1, s1, e1⟩ := T_look hN s
  obtain ⟨σ2, i1, i2, i3⟩ := isHere_eq hN s1.rm (w := 82) (Or.inr ⟨by decide, by decide⟩)
  rw [show wix 82 = 26 from rfl, if_neg (fun w => h26 ((isH_sk hB).mp w))] at i1
  rw [sk_sk hB] at i3
  have s2 := s1.rd i2 i3 (Nat.le_refl _)
  obtain ⟨σ3, j1, j2, j3⟩ := isHere_eq hN s2.rm (w := 83) (Or.inr ⟨by decide, by decide⟩)
  rw [show wix 83 = 27 from rfl, if_neg (fun w => h27 ((isH_sk hB).mp w))] at j1
  rw [sk_sk hB] at j3
  refine ⟨σ3, c1.trans (i2.lq.trans j2.lq), s2.rd j2 j3 (Nat.le_refl _), fun kk => ?_⟩
  rw [e1 kk, if_neg (fun w : bv (B (sk B n p)) = (40 : Int32) => hz ((bv_eq hle (by decide)).mp w)), i1, bd_some, if_pos rfl, j1, bd_some, if_pos rfl]
/-- meets -/
theorem T_meets (hN : 5000 ≤ N) (s : SQ σ B n p q μ K W o base sl) (hz : B (sk B n p) ≠ 40) (h : isH B n 21 p) (hw : wof q μ 9 10 (wnH B n (sk B n p) wnL 0) = some 9) : ∃ σ', (∀ kk, M_qPartTold_b2 N kk σ 1 = kk σ' 1) ∧ Cm Kq σ σ' ∧ ((o = 6 ∧ RG σ' (4, sk B n p)) ∨ (o < 6 ∧ SQ σ' B n (wE B n p) q μ K (W ++ [60]) (o + 1) base sl)) := by
  have hB := s.rm.bk
  obtain ⟨k1, k2, k3, k4⟩ := isH_end hB s.rm.pn h
  have ew : wE B n (sk B n p) = wE B n p := by unfold wE; rw [sk_sk hB]
  have hge := sk_ge B n p
  have hl := s.le
  obtain ⟨σ1, c1, s1, e1⟩ := T_no hN s hz (fun w => absurd (isH_ne w h) (by decide)) (fun w => absurd (isH_ne w h) (by decide))
  obtain ⟨σ2, h2, d2⟩ := qOpens_eq s1.rm s1.qs s1.le5 60 (sk B n p)
  have key : ∀ kk, M_qPartTold_b2 N kk σ 1 = bd (M_qAsksWord N σ2 (nn 9)) fun _ σ24 => M_qPartTold_b183 N kk σ24 1 := by
    intro kk
    rw [e1 kk, hw, show fdI (some 9) = nn 9 from rfl, if_neg (by decide), s1.rm.at_, show ((60 : Int32) + nn 9) - 9 = 60 from rfl, h2, bd_some]
  rcases d2 with ⟨y, d3, d4⟩ | ⟨y, d3, d4⟩
  · refine ⟨σ2, fun kk => ?_, c1.trans d4.lq, Or.inl ⟨y, s1.rg d4 d3⟩⟩
    rw [key kk, bad_asksWord d3, bd_some]
    rfl
  · have r2 : RM σ2 B n (sk B n p) := s1.rm.cm d3 (fun k h1 z => by unfold Kw at z; omega)
    obtain ⟨σ3, h3, c3, r3⟩ := qAsksWord_eq hN r2 (k := 9) (by decide)
    rw [show wix (84 + 9) = 21 from rfl, sIs_isH, if_pos ((isH_sk hB).mpr h), ew] at r3
    refine ⟨σ3, fun kk => ?_, c1.trans (d3.wq.trans c3.lq), Or.inr ⟨y, SQ.mk r3 (d4.cm c3 (fun k h1 h2 z => by unfold Kl at z; omega)) ?_ ?_⟩⟩
    · rw [key kk, h3, bd_some]
      rfl
    · rw [c3.I _ (by unfold Kl; omega), d3.I _ (by unfold Kw; omega)]; exact s1.tk
    · rw [List.length_append, List.length_singleton]; omega
/-- none of these: the part itself comes -/
theorem T_part (hN : 5000 ≤ N) (s : SQ σ B n p q μ K W o base sl) (hz : B (sk B n p) ≠ 40) (h26 : ¬ isH B n 26 p) (h27 : ¬ isH B n 27 p) (hw : wof q μ 9 10 (wnH B n (sk B n p) wnL 0) = none) : ∃ σ', (∀ x z, qEE N was (x + 2) z σ = bd (M_qPartTold_b186 N σ') fun _ => qK N was z) ∧ Cm Kq σ σ' ∧ SQ σ' B n (sk B n p) q μ K W o base sl := by
  obtain ⟨σ1, c1, s1, e1⟩ := T_no hN s hz h26 h27
  refine ⟨σ1, fun x z => ?_, c1, s1⟩
  rw [qEE_eq]
  show bd (M_qPartTold_b2 N (rn2 (M_qPartTold_b2 N) (x + 1)) σ 1) _ = _
  rw [e1, hw, if_pos (show fdI none = (-1 : Int32) from rfl)]
  show bd (M_qPartTold_b2 N (rn2 (M_qPartTold_b2 N) x) σ1 0) _ = _
  rw [show M_qPartTold_b2 N (rn2 (M_qPartTold_b2 N) x) σ1 0 = M_qPartTold_b186 N σ1 from if_pos rfl]
end
