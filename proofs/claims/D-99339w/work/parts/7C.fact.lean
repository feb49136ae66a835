/-! PURE LEVEL: tests that are read: what is joined by words -/
set_option maxRecDepth 100000
def OKT (B : Nat → Nat) (n : Nat) (q : Bool) (μ : Nat) (t : Option Nat) (R : AH → Option (Option (Option Nat) × AH)) (r : Nat → Rs (Nat × List Int32)) (o dt w c0 s0 c1 s1 : Nat) : Prop :=
  ∀ A p, RD A B n p o μ t → aN A + (110 * (n + 1 - p) + c1) ≤ CB → Bh (R A) (r p) (fun e A' => PF (110 * (n + 1 - p) + c1) (4100 * (n + 1 - p) + s1) A A' e) (fun y x A' => ∃ v g, x = some v ∧ p < y.1 ∧ Ex RP (110 * (y.1 - p) - c0 + 3 * (w * wl B n y.1)) (4100 * (y.1 - p) - s0 + 6 * (w * wl B n y.1)) A A' ∧ RD A' B n y.1 o μ t ∧ TR 24 dt q μ A' (fun i => aN A ≤ i) v g ∧ Den q μ y.2 g)
noncomputable def fcB (N j : Nat) (R : AH → Option (Option (Option Nat) × AH)) (k23 : AH → Nat → Option (Option (Option Nat) × AH)) (A : AH) (x1 : Nat) : Option (Option (Option Nat) × AH) :=
  bxa A (X2_passes N A (CB + j)) fun r10 A11 => if r10 = 0 then (some (some (some x1), A11)) else (bo (gN 13 A11 1300 x1) fun q13 => bxa A11 (R A11) fun r14 A15 => bo r14 fun q17 => if aK A15 q13 = 18 then ( bda A15 (J2_add A15 q13 q17) fun r18 A19 => k23 A19 x1) else none)
noncomputable def fcX (N j : Nat) (all : Int32) (R : AH → Option (Option (Option Nat) × AH)) (A0 : AH) : Option (Option (Option Nat) × AH) :=
  ck A0 (bo (nwO A0 13 2) fun A1 => ck A1 ( bda A1 (X15_init A1 (aN A0) all) fun _ A2 => bo (gN 13 A2 1300 (aN A0)) fun q3 => bxa A2 (R A2) fun r4 A5 => bo r4 fun q7 => if aK A5 q3 = 18 then ( bda A5 (J2_add A5 q3 q7) fun r8 A9 => rn2 (fcB N j R) N A9 (aN A0)) else none))
theorem both_fcX (N : Nat) (rf : AH → Option (Option (Option Nat) × AH)) : X2_both N rf = fcX N 23 1 rf := rfl
theorem test_fcX (N : Nat) (rf : AH → Option (Option (Option Nat) × AH)) : X2_test N rf = fcX N 22 0 (X2_both N rf) := rfl
theorem isTst_obj {k : Nat} (h : isTst k = true) : isObj k = true := by
  unfold isTst at h
  unfold isObj
  simp only [Bool.or_eq_true, beq_iff_eq] at h
  simp
  omega
def tI3 (x0 li ar i : Nat) : Prop := i = x0 ∨ i = li ∨ i = ar
def TxI (A0 A : AH) (q : Bool) (μ dt x0 li ar : Nat) (all : Int32) (ts : List (Nat × Gv)) (cs : List Int32) : Prop :=
  (aK A x0 = 13) ∧
  (aR A 1300 x0 0 = some li) ∧
  (aI A 1301 x0 0 = all) ∧
  (LX A li ar (ts.map (fun t => t.1))) ∧
  (x0 < CB) ∧
  (∀ i, tI3 x0 li ar i → aN A0 ≤ i) ∧
  (∀ t ∈ ts, TR 24 dt q μ A (fun i => aN A0 ≤ i ∧ ¬ tI3 x0 li ar i) t.1 t.2) ∧
  (Den q μ cs (andG all ts))
theorem TxI.kd {A0 A : AH} {q : Bool} {μ dt x0 li ar : Nat} {all : Int32} {ts : List (Nat × Gv)} {cs : List Int32} (h : TxI A0 A q μ dt x0 li ar all ts cs) : aK A x0 = 13 := h.1
theorem TxI.rl {A0 A : AH} {q : Bool} {μ dt x0 li ar : Nat} {all : Int32} {ts : List (Nat × Gv)} {cs : List Int32} (h : TxI A0 A q μ dt x0 li ar all ts cs) : aR A 1300 x0 0 = some li := h.2.1
theorem TxI.al {A0 A : AH} {q : Bool} {μ dt x0 li ar : Nat} {all : Int32} {ts : List (Nat × Gv)} {cs : List Int32} (h : TxI A0 A q μ dt x0 li ar all ts cs) : aI A 1301 x0 0 = all := h.2.2.1
theorem TxI.lx {A0 A : AH} {q : Bool} {μ dt x0 li ar : Nat} {all : Int32} {ts : List (Nat × Gv)} {cs : List Int32} (h : TxI A0 A q μ dt x0 li ar all ts cs) : LX A li ar (ts.map (fun t => t.1)) := h.2.2.2.1
theorem TxI.hx {A0 A : AH} {q : Bool} {μ dt x0 li ar : Nat} {all : Int32} {ts : List (Nat × Gv)} {cs : List Int32} (h : TxI A0 A q μ dt x0 li ar all ts cs) : x0 < CB := h.2.2.2.2.1
theorem TxI.lo {A0 A : AH} {q : Bool} {μ dt x0 li ar : Nat} {all : Int32} {ts : List (Nat × Gv)} {cs : List Int32} (h : TxI A0 A q μ dt x0 li ar all ts cs) : ∀ i, tI3 x0 li ar i → aN A0 ≤ i := h.2.2.2.2.2.1
theorem TxI.vs {A0 A : AH} {q : Bool} {μ dt x0 li ar : Nat} {all : Int32} {ts : List (Nat × Gv)} {cs : List Int32} (h : TxI A0 A q μ dt x0 li ar all ts cs) : ∀ t ∈ ts, TR 24 dt q μ A (fun i => aN A0 ≤ i ∧ ¬ tI3 x0 li ar i) t.1 t.2 := h.2.2.2.2.2.2.1
theorem TxI.dn {A0 A : AH} {q : Bool} {μ dt x0 li ar : Nat} {all : Int32} {ts : List (Nat × Gv)} {cs : List Int32} (h : TxI A0 A q μ dt x0 li ar all ts cs) : Den q μ cs (andG all ts) := h.2.2.2.2.2.2.2
theorem TxI.mk {A0 A : AH} {q : Bool} {μ dt x0 li ar : Nat} {all : Int32} {ts : List (Nat × Gv)} {cs : List Int32} (h_kd : aK A x0 = 13) (h_rl : aR A 1300 x0 0 = some li) (h_al : aI A 1301 x0 0 = all) (h_lx : LX A li ar (ts.map (fun t => t.1))) (h_hx : x0 < CB) (h_lo : ∀ i, tI3 x0 li ar i → aN A0 ≤ i) (h_vs : ∀ t ∈ ts, TR 24 dt q μ A (fun i => aN A0 ≤ i ∧ ¬ tI3 x0 li ar i) t.1 t.2) (h_dn : Den q μ cs (andG all ts)) : TxI A0 A q μ dt x0 li ar all ts cs := ⟨h_kd, h_rl, h_al, h_lx, h_hx, h_lo, h_vs, h_dn⟩
section
variable {A0 A A' : AH} {q : Bool} {μ dt x0 li ar : Nat} {all : Int32} {ts : List (Nat × Gv)} {cs : List Int32}
theorem TxI.ex {P : Nat → Nat → Prop} {c s : Nat} (h : TxI A0 A q μ dt x0 li ar all ts cs) (e : Ex P c s A A') (d : ∀ f i, aN A0 ≤ i → ¬ P f i) : TxI A0 A' q μ dt x0 li ar all ts cs := by
  have k0 : aK A x0 ≠ 0 := by rw [h.kd]; decide
  have hx := h.lo x0 (Or.inl rfl)
  exact TxI.mk (e.K h.kd (by decide)) ((e.R _ k0 (d _ _ hx)).trans h.rl) ((e.I _ k0 (d _ _ hx)).trans h.al) (h.lx.ex e (fun f => d f _ (h.lo _ (Or.inr (Or.inl rfl)))) (fun f => d f _ (h.lo _ (Or.inr (Or.inr rfl))))) h.hx h.lo (fun t ht => (h.vs t ht).ex e (fun f i hi _ => d f i hi.1) (fun i hi _ => hi)) h.dn
theorem TxI.lt (g : GN A) (h : TxI A0 A q μ dt x0 li ar all ts cs) {i : Nat} (hi : tI3 x0 li ar i) : i < aN A ∧ i < CB := by
  have key : ∀ i, i < CB → aK A i ≠ 0 → i < aN A ∧ i < CB := fun i h1 h2 => ⟨by
    rcases Nat.lt_or_ge i (aN A) with z | z
    · exact z
    · exact absurd (g.nz i z h1) h2, h1⟩
  rcases hi with rfl | rfl | rfl
  · exact key _ h.hx (by rw [h.kd]; decide)
  · exact key _ h.lx.hl (by rw [h.lx.kd]; decide)
  · exact key _ h.lx.ha (by rw [h.lx.ka]; decide)
theorem TxI.done (ha : all = 0 ∨ all = 1) (h : TxI A0 A q μ dt x0 li ar all ts cs) : TR 24 (dt + 1) q μ A (fun i => aN A0 ≤ i) x0 (andG all ts) := by
  refine ⟨h.lo _ (Or.inl rfl), Or.inr (Or.inr (Or.inr ⟨h.kd, li, ts, h.rl, by rw [h.al]; exact ha, ?_, fun t ht => (h.vs t ht).mono (fun i hi => hi.1), by rw [h.al]⟩))⟩
  exact LR.mk (h.lo _ (Or.inr (Or.inl rfl))) h.lx.kd h.lx.len ⟨ar, h.lx.rf, h.lo _ (Or.inr (Or.inr rfl)), h.lx.ka, h.lx.cap, h.lx.c5, h.lx.el⟩
/-- one more that was read since A1; cs' are the codes then -/
theorem TxI.add {A1 : AH} {v : Nat} {g : Gv} {cs' : List Int32} (g1 : GN A1) (hn : aN A0 ≤ aN A1) (hn2 : aN A0 ≤ aN A) (h1 : TxI A0 A1 q μ dt x0 li ar all ts cs) (h : TxI A0 A q μ dt x0 li ar all ts cs) (gn : GN A) (hr : aN A + 1 ≤ CB) (hl : ts.length ≤ 2000) (hv : TR 24 dt q μ A (fun i => aN A1 ≤ i) v g) (hd : Den q μ cs' (andG all (ts ++ [(v, g)]))) :
    ∃ A' ar', J2_add A li v = some (1, A') ∧ Ex (fun _ i => tI3 x0 li ar i) 1 (2 * ts.length) A A' ∧ TxI A0 A' q μ dt x0 li ar' all (ts ++ [(v, g)]) cs' ∧ (ts.length < aL A ar → aN A' = aN A ∧ aS A' = aS A) := by
  have d1 : x0 ≠ li := fun z => by have := h.kd; rw [z, h.lx.kd] at this; omega
  have d2 : x0 ≠ ar := fun z => by have := h.kd; rw [z, h.lx.ka] at this; omega
  obtain ⟨A', ar', y1, y2, y3, y4, y5⟩ : ∃ A' ar', J2_add A li v = some (1, A') ∧ Ex (fun _ i => i = li ∨ i = ar) 1 (2 * (ts.map (fun t => t.1)).length) A A' ∧ LX A' li ar' (ts.map (fun t => t.1) ++ [v]) ∧ (ar' = ar ∨ ar' = aN A) ∧ (ts.length < aL A ar → aN A' = aN A ∧ aS A' = aS A) := by
    rcases Nat.lt_or_ge (ts.map (fun t => t.1)).length (aL A ar) with z | z
    · obtain ⟨A', y1, y2, y3⟩ := add_room gn h.lx z (isTst_obj hv.isTst)
      have := y2.n1; have := y2.n2; have := y2.s1; have := y2.s2
      exact ⟨A', ar, y1, y2.wk (by omega) (by omega), y3, Or.inl rfl, fun _ => by omega⟩
    · obtain ⟨A', ar', y1, y2, y3, y4⟩ := add_eq gn hr h.lx (by simp; omega) (isTst_obj hv.isTst)
      exact ⟨A', ar', y1, y2, y3, y4, fun w => by simp at z; omega⟩
  have fr : aK A (aN A) = 0 := gn.fresh (by omega)
  have hG : ∀ i, aN A0 ≤ i ∧ ¬ tI3 x0 li ar i → aK A i ≠ 0 → aN A0 ≤ i ∧ ¬ tI3 x0 li ar' i := by
    intro i hi hk
    refine ⟨hi.1, fun z => ?_⟩
    rcases z with z | z | z
    · exact hi.2 (Or.inl z)
    · exact hi.2 (Or.inr (Or.inl z))
    · rcases y4 with w | w
      · exact hi.2 (Or.inr (Or.inr (z.trans w)))
      · exact hk (by rw [z, w]; exact fr)
  have y2' : Ex (fun _ i => tI3 x0 li ar i) 1 (2 * ts.length) A A' := (y2.mono (fun f i z => Or.inr z)).wk (by omega) (by simp)
  have hvG : TR 24 dt q μ A (fun i => aN A0 ≤ i ∧ ¬ tI3 x0 li ar i) v g := hv.mono (fun i hi => ⟨Nat.le_trans hn hi, fun z => by have := (h1.lt g1 z).1; omega⟩)
  have k0 : aK A x0 ≠ 0 := by rw [h.kd]; decide
  refine ⟨A', ar', y1, y2', TxI.mk (y2.K h.kd (by decide)) ((y2.R _ k0 (by omega)).trans h.rl) ((y2.I _ k0 (by omega)).trans h.al) (by rw [List.map_append]; exact y3) h.hx (fun i hi => ?_) (fun t ht => ?_) hd, y5⟩
  · rcases hi with z | z | z
    · exact h.lo i (Or.inl z)
    · exact h.lo i (Or.inr (Or.inl z))
    · rcases y4 with w | w
      · exact h.lo i (Or.inr (Or.inr (z.trans w)))
      · omega
  · rcases List.mem_append.mp ht with z | z
    · exact (h.vs t z).ex y2' (fun f i hi _ w => hi.2 w) hG
    · rw [List.mem_singleton.mp z]
      exact hvG.ex y2' (fun f i hi _ w => hi.2 w) hG
end
section
variable {N : Nat} {B : Nat → Nat} {n p0 o μ : Nat} {t : Option Nat} {q : Bool} {A0 A A' : AH} {dt w c0 s0 c1 s1 C0 S0 C1 S1 x0 li : Nat} {all : Int32}
variable {R : AH → Option (Option (Option Nat) × AH)} {r : Nat → Rs (Nat × List Int32)}
abbrev TpF (A A0 : AH) (n p0 C1 S1 : Nat) (e : Nat × Nat) (A' : AH) : Prop := Le A A' ∧ PF (110 * (n + 1 - p0) + C1) (4100 * (n + 1 - p0) + S1) A0 A' e
abbrev TpS (A A0 : AH) (B : Nat → Nat) (n p0 o : Nat) (q : Bool) (μ : Nat) (t : Option Nat) (dt w C0 S0 : Nat) (y : Nat × List Int32) (x : Option Nat) (A' : AH) : Prop := Le A A' ∧ ∃ v g, x = some v ∧ p0 < y.1 ∧ Ex RP (110 * (y.1 - p0) - C0 + 3 * (w * wl B n y.1)) (4100 * (y.1 - p0) - S0 + 6 * (w * wl B n y.1)) A0 A' ∧ RD A' B n y.1 o μ t ∧ TR 24 dt q μ A' (fun i => aN A0 ≤ i) v g ∧ Den q μ y.2 g
theorem wl_sk {p : Nat} (hB : BOK B n) : wl B n (sk B n p) = wl B n p := by unfold wl; rw [sk_sk hB]
theorem wl_le {p : Nat} (rd : RD A B n p o μ t) : wl B n p ≤ n - p := by
  unfold wl
  have h1 := sk_le rd
  have h2 := sk_ge B n p
  have h3 : rp isLt B n (sk B n p) ≤ n := rp_le rd.bk lt_f6 h1
  omega
theorem sPass_true {j p p' : Nat} (h : sPass B n j p = .ok (true, p')) : p' = rp isLt B n (sk B n p) ∧ isLt (B (sk B n p)) = true := by
  unfold sPass at h
  split at h
  · next c =>
    cases hw : sWord B n p with
    | error e => rw [hw, eb_er] at h; cases h
    | ok w =>
      rw [hw, eb_ok] at h
      split at h
      · cases h
        exact ⟨(sWord_ok hw).2.1, c⟩
      · cases h
  · cases h
theorem sPass_false {j p p' : Nat} (h : sPass B n j p = .ok (false, p')) : p' = p ∨ (p' = sk B n p ∧ ¬ isLt (B (sk B n p)) = true) := by
  unfold sPass at h
  split at h
  · next c =>
    cases hw : sWord B n p with
    | error e => rw [hw, eb_er] at h; cases h
    | ok w =>
      rw [hw, eb_ok] at h
      split at h
      · cases h
      · cases h; exact Or.inl rfl
  · next c => cases h; exact Or.inr ⟨rfl, c⟩
theorem wl_zero {p : Nat} (h : ¬ isLt (B (sk B n p)) = true) : wl B n p = 0 := by
  unfold wl
  rw [rp_f (by simpa using h)]; omega
theorem fc_loop (hN : 5000 ≤ N) (h : OKT B n q μ t R r o dt w c0 s0 c1 s1) (hw : w ≤ 1) (gA0 : GN A0) (hC0 : C0 ≤ 60) (hS0 : S0 ≤ 700) (hc1 : c1 ≤ C1) (hs1 : s1 ≤ S1) (hC1 : C1 ≤ 100) (hroom : aN A0 + (110 * (n + 1 - p0) + C1) ≤ CB) {j k : Nat} (hj : j < 34) (ha : (all = 1 ∧ k = 10) ∨ (all = 0 ∧ k = 11)) :
    ∀ (f z p : Nat) (cs : List Int32) (A : AH) (ts : List (Nat × Gv)) (ar : Nat), n - p ≤ f → f + 1 < z → RD A B n p o μ t → TxI A0 A q μ dt x0 li ar all ts cs → Ex RP (110 * (p - p0) - C0 + 3 * (w * wl B n p)) (4100 * (p - p0) - S0 + 6 * (w * wl B n p)) A0 A → p0 + ts.length ≤ p → 1 ≤ ts.length → Bh (rn2 (fcB N j R) z A x0) (sWLoop B n j (nn k) r f (p, cs)) (TpF A A0 n p0 C1 S1) (TpS A A0 B n p0 o q μ t (dt + 1) (w + 1) C0 S0) := by
  have h01 : all = 0 ∨ all = 1 := ha.elim (fun h => Or.inr h.1) (fun h => Or.inl h.1)
  have lo0 := gA0.lo
  have c0e : CB = 1000000 := rfl
  have rpn : ∀ f i, aN A0 ≤ i → ¬ RP f i := fun f i hi z => by unfold RP at z; omega
  intro f
  induction f with
  | zero =>
    intro z p cs A ts ar hf hz rd ti e hl hl1
    obtain ⟨z, rfl⟩ : ∃ m, z = m + 1 := ⟨z - 1, by omega⟩
    have pn := rd.pn
    have wl0 := wl_le rd
    have en := e.n2
    have hge := sk_ge B n p
    have w0 : w * wl B n p = 0 := by rw [show wl B n p = 0 by omega]; rfl
    have b6 : B (sk B n p) = 256 := rd.bk.ge _ (by omega)
    have hps : sPass B n j p = .ok (false, sk B n p) := by
      unfold sPass
      rw [b6, if_neg (by decide)]
    show Bh (fcB N j R (rn2 (fcB N j R) z) A x0) (eb (sPass B n j p) fun y => .ok (y.2, cs)) _ _
    generalize rn2 (fcB N j R) z = kk
    unfold fcB
    refine Bh.xa (passw_eq hN rd (by omega) hj) (fun e' A' hq f => by rw [hps] at hq; cases hq) (fun y x A11 hy f => ?_)
    obtain ⟨rfl, x1, r1, f1⟩ := f
    rw [hps] at hy
    cases hy
    refine ⟨x1.le2, ?_⟩
    rw [if_pos (show (if (false, sk B n p).1 = true then (1 : Int32) else 0) = 0 from rfl)]
    have ti' := ti.ex x1 rpn
    have ww : wl B n (sk B n p) = wl B n p := wl_sk rd.bk
    exact ⟨some x0, A11, rfl, Le.refl _, x1.le2, x0, _, rfl, (by show p0 < sk B n p; omega), (e.trans x1).wk (by show _ ≤ 110 * (sk B n p - p0) - C0 + _; omega) (by show _ ≤ 4100 * (sk B n p - p0) - S0 + _; omega), r1, ti'.done h01, ti.dn⟩
  | succ f ih =>
    intro z p cs A ts ar hf hz rd ti e hl hl1
    obtain ⟨z, rfl⟩ : ∃ m, z = m + 1 := ⟨z - 1, by omega⟩
    have pn := rd.pn
    have nb := rd.bk.nb
    have wl0 := wl_le rd
    have en := e.n2
    have en1 := e.n1
    have hge := sk_ge B n p
    have hge2 := rp_ge isLt B n (sk B n p)
    have hww : w * wl B n p ≤ wl B n p := Nat.le_trans (Nat.mul_le_mul_right _ hw) (by rw [Nat.one_mul]; exact Nat.le_refl _)
    have sm : (w + 1) * wl B n p = w * wl B n p + wl B n p := Nat.succ_mul _ _
    have ih' := ih z
    show Bh (fcB N j R (rn2 (fcB N j R) z) A x0) (eb (sPass B n j p) fun y => if y.1 = true then eb (r y.2) (fun zz => sWLoop B n j (nn k) r f (zz.1, cs ++ zz.2 ++ [nn k])) else .ok (y.2, cs)) _ _
    generalize rn2 (fcB N j R) z = kk at ih' ⊢
    unfold fcB
    refine Bh.xa (passw_eq hN rd (by omega) hj) (fun e' A' hq f => ⟨f.ex.le2, f.ex.le2, (PF.of e f).wk (by omega) (by omega)⟩) (fun y x A11 hy f => ?_)
    obtain ⟨rfl, x1, r1, f1⟩ := f
    obtain ⟨b, p'⟩ := y
    have pn1 := r1.pn
    have x1a := x1.n1
    have x1b := x1.n2
    refine ⟨x1.le2, ?_⟩
    have ti' := ti.ex x1 rpn
    have x01 := e.trans x1
    cases b with
    | false =>
      rw [if_pos (show (if (false, p').1 = true then (1 : Int32) else 0) = 0 from rfl), if_neg (show ¬ (false, p').1 = true by simp)]
      have hp' : p ≤ p' ∧ (w + 1) * wl B n p' = w * wl B n p + wl B n p := by
        rcases sPass_false hy with z | ⟨z, _⟩
        · rw [z]; exact ⟨Nat.le_refl _, sm⟩
        · rw [z, wl_sk rd.bk]; exact ⟨hge, sm⟩
      exact ⟨some x0, A11, rfl, Le.refl _, x1.le2, x0, _, rfl, (by show p0 < p'; omega), x01.wk (by show _ ≤ 110 * (p' - p0) - C0 + 3 * ((w + 1) * wl B n p'); omega) (by show _ ≤ 4100 * (p' - p0) - S0 + 6 * ((w + 1) * wl B n p'); omega), r1, ti'.done h01, ti.dn⟩
    | true =>
      rw [if_neg (show ¬ (if (true, p').1 = true then (1 : Int32) else 0) = 0 by simp), if_pos (show (true, p').1 = true from rfl), gN_k ti'.kd, ti'.rl, bo_some]
      obtain ⟨hp', hlt⟩ := sPass_true hy
      have hwp := wl_pos rd.bk hlt
      have hwl : wl B n p = p' - sk B n p := by rw [hp']; rfl
      have pp : p' = (true, p').2 := rfl
      refine Bh.xa (h A11 p' r1 (by omega)) (fun e' A' _ f => ?_) (fun y2 x2 A15 hy2 f => ?_)
      · have pf := PF.of x01 f
        exact ⟨f.ex.le2, f.ex.le2, x1.le2.trans f.ex.le2, pf.wk (by omega) (by omega)⟩
      · obtain ⟨v, g, rfl, hpy, x15, r15, vr, dn⟩ := f
        have pn15 := r15.pn
        have n15a := x15.n1
        have n15b := x15.n2
        have wl15 := wl_le r15
        have hw15 : w * wl B n y2.1 ≤ wl B n y2.1 := Nat.le_trans (Nat.mul_le_mul_right _ hw) (by rw [Nat.one_mul]; exact Nat.le_refl _)
        refine ⟨x15.le2, ?_⟩
        have ti15 := ti'.ex x15 rpn
        obtain ⟨A19, ar', y1, y3, y4, _⟩ := TxI.add (cs' := cs ++ y2.2 ++ [nn k]) r1.gn (by omega) (by omega) ti' ti15 x15.gn (by omega) (by omega) vr (Den.tstep ha ti.dn dn vr.tv)
        rw [bo_some, if_pos ti15.lx.kd, y1, bda_ok y3.le2]
        have x015 := x01.trans x15
        have x019 := x015.tr y3 (fun f i hi => Or.inr (gA0.nz i (ti15.lo i hi) (ti15.lt x15.gn hi).2))
        have r19 := r15.ex y3 (fun f z => by have := ti15.lo _ z; omega) (fun f z => by have := ti15.lo _ z; omega)
        have := ih' y2.1 _ A19 _ ar' (by omega) (by omega) r19 y4 (x019.wk (by omega) (by omega)) (by rw [List.length_append]; simp; omega) (by rw [List.length_append]; simp)
        have := Bh.kk (A := A19) this (fun e' A4 _ f => f.1) (fun y' x' A4 _ f => f.1)
        exact Bh.mono this (fun e' A6 _ f => ⟨y3.le2.trans f.1, x15.le2.trans (y3.le2.trans f.1), x1.le2.trans (x15.le2.trans (y3.le2.trans f.1)), f.2⟩) (fun y' x' A6 _ f => ⟨y3.le2.trans f.1, x15.le2.trans (y3.le2.trans f.1), x1.le2.trans (x15.le2.trans (y3.le2.trans f.1)), f.2⟩)
theorem facts_new (g : GN A) (hr : aN A + 3 ≤ CB) (h01 : all = 0 ∨ all = 1) : ∃ A', X15_init (nw A 13 0 2) (aN A) all = some ((), A') ∧ Ex (fun _ _ => False) 3 7 A A' ∧ Le (nw A 13 0 2) A' ∧ aK A' (aN A) = 13 ∧ aR A' 1300 (aN A) 0 = some (aN A + 1) ∧ aI A' 1301 (aN A) 0 = all ∧ LX A' (aN A + 1) (aN A + 2) [] ∧ aL A' (aN A + 2) = 2 ∧ aN A' = aN A + 3 := by
  have c0 : CB = 1000000 := rfl
  have lo := g.lo
  have fr : aK A (aN A) = 0 := g.fresh (by omega)
  have e1 : Ex (fun _ _ => False) 1 2 A (nw A 13 0 2) := Ex.nw g (by omega)
  have kk : aK (nw A 13 0 2) (aN A) = 13 := by rw [aK_nw, if_pos rfl]
  have n1 : aN (nw A 13 0 2) = aN A + 1 := rfl
  obtain ⟨A2, h2, e2, l2, x2, s2, n2⟩ := list_new e1.gn (c := 2) (by omega) (by omega) (by omega)
  rw [n1] at h2 x2 s2 n2
  have k2 : aK A2 (aN A) = 13 := e2.K kk (by decide)
  have e3 : Ex (fun _ i => i = aN A) 0 0 A2 (wR A2 1300 (aN A) 0 (some (aN A + 1))) := Ex.wR e2.gn rfl (by omega)
  have e4 : Ex (fun _ i => i = aN A) 0 0 (wR A2 1300 (aN A) 0 (some (aN A + 1))) (wI (wR A2 1300 (aN A) 0 (some (aN A + 1))) 1301 (aN A) 0 all) := Ex.wI e3.gn rfl (by omega)
  have e34 := e3.trans e4
  have l34 := e34.le2
  have lk : Le (nw A 13 0 2) A2 := e2.le2
  refine ⟨_, ?_, ((e1.trans e2).tr e34 (fun _ i q => Or.inr (by rw [show i = aN A from q]; exact fr))).wk (by omega) (by omega), lk.trans l34, k2, ?_, ?_, x2.ex e34 (fun _ => by omega) (fun _ => by omega), s2, n2⟩
  · unfold X15_init X14_init
    rw [bd_some, nwO_ok (by omega), bo_some, n1, show (2 : Int32) = nn 2 from rfl, h2, bda_ok l2, pR_k k2, bo_some, if_pos h01, pI_k (by exact k2), bo_some, ck_ok l34, ck_ok (l2.trans l34), ck_ok (lk.trans l34)]
  · rw [aR_wI, aR_wR, if_pos ⟨rfl, rfl, rfl⟩]
  · rw [aI_wI, if_pos ⟨rfl, rfl, rfl⟩]
/-- 'and' out of facts, 'or' out of these -/
theorem fcX_ok (hN : 5000 ≤ N) (h : OKT B n q μ t R r o dt w c0 s0 c1 s1) (hw : w ≤ 1) (hc0 : 3 ≤ c0 ∧ c0 ≤ 60) (hs0 : 7 ≤ s0 ∧ s0 ≤ 700) (hc1 : c1 ≤ 95) {j k : Nat} (hj : j < 34) (ha : (all = 1 ∧ k = 10) ∨ (all = 0 ∧ k = 11)) :
    OKT B n q μ t (fcX N j all R) (fun p => eb (r p) fun x => sWLoop B n j (nn k) r (n - x.1) x) o (dt + 1) (w + 1) (c0 - 3) (s0 - 7) (c1 + 3) (s1 + 7) := by
  have h01 : all = 0 ∨ all = 1 := ha.elim (fun h => Or.inr h.1) (fun h => Or.inl h.1)
  intro A p rd hroom
  have g := rd.gn
  have lo0 := g.lo
  have pn := rd.pn
  have nb := rd.bk.nb
  have c0e : CB = 1000000 := rfl
  obtain ⟨A2, h2, e2, l2, k2, rl2, al2, x2, la, n2⟩ := facts_new g (by omega) h01
  have r2 := rd.ex e2 (fun _ z => z) (fun _ z => z)
  have rpn : ∀ f i, aN A ≤ i → ¬ RP f i := fun f i hi z => by unfold RP at z; omega
  have lo2 : ∀ i, tI3 (aN A) (aN A + 1) (aN A + 2) i → aN A ≤ i := by
    intro i hi; unfold tI3 at hi; omega
  have main : Bh (bxa A2 (R A2) fun r4 A5 => bo r4 fun q7 => if aK A5 (aN A + 1) = 18 then (bda A5 (J2_add A5 (aN A + 1) q7) fun r8 A9 => rn2 (fcB N j R) N A9 (aN A)) else none) (eb (r p) fun x => sWLoop B n j (nn k) r (n - x.1) x) (TpF A2 A n p (c1 + 3) (s1 + 7)) (TpS A2 A B n p o q μ t (dt + 1) (w + 1) (c0 - 3) (s0 - 7)) := by
    refine Bh.xa (h A2 p r2 (by omega)) (fun e A' _ f => ⟨f.ex.le2, f.ex.le2, (PF.of (e2.mono (fun _ _ z => z.elim)) f).wk (by omega) (by omega)⟩) (fun y x A4 hy z => ?_)
    obtain ⟨v, g4, rfl, hpy, e4, r4, vr, dn⟩ := z
    refine ⟨e4.le2, ?_⟩
    have pn4 := r4.pn
    have wl4 := wl_le r4
    have hw4 : w * wl B n y.1 ≤ wl B n y.1 := Nat.le_trans (Nat.mul_le_mul_right _ hw) (by rw [Nat.one_mul]; exact Nat.le_refl _)
    have n41 := e4.n1
    have n42 := e4.n2
    have k20 : aK A2 (aN A) ≠ 0 := by rw [k2]; decide
    have tA : ∀ cs, (Den q μ cs (andG all ([] : List (Nat × Gv)))) → TxI A A2 q μ dt (aN A) (aN A + 1) (aN A + 2) all [] cs := fun cs hd => TxI.mk k2 rl2 al2 x2 (by omega) lo2 (fun t ht => by simp at ht) hd
    have lx4 := x2.ex e4 (fun f => rpn f _ (by omega)) (fun f => rpn f _ (by omega))
    have la4 : aL A4 (aN A + 2) = 2 := by rw [e4.L (by rw [x2.ka]; decide)]; exact la
    obtain ⟨A5, y1, y2, y3⟩ := add_room e4.gn lx4 (by rw [la4]; decide) (isTst_obj vr.isTst)
    rw [bo_some, if_pos lx4.kd, y1, bda_ok y2.le2]
    have k4 : aK A4 (aN A) ≠ 0 := by rw [e4.K k2 (by decide)]; decide
    have y2' : Ex (fun _ i => tI3 (aN A) (aN A + 1) (aN A + 2) i) 0 0 A4 A5 := y2.mono (fun f i z => Or.inr z)
    have x4l : ∀ i, tI3 (aN A) (aN A + 1) (aN A + 2) i → i < aN A2 := by intro i hi; unfold tI3 at hi; omega
    have vr5 : TR 24 dt q μ A5 (fun i => aN A ≤ i ∧ ¬ tI3 (aN A) (aN A + 1) (aN A + 2) i) v g4 := vr.ex y2' (fun f i hi _ z => by have := x4l i z; omega) (fun i hi hk => ⟨by omega, fun z => by have := x4l i z; omega⟩)
    have ti5 : TxI A A5 q μ dt (aN A) (aN A + 1) (aN A + 2) all [(v, g4)] y.2 := by
      refine TxI.mk (y2.K (e4.K k2 (by decide)) (by decide)) ?_ ?_ y3 (by omega) lo2 (fun t ht => ?_) (dn.cg (fun e lk _ => andG_one all h01 v (vr.tv e lk)))
      · rw [y2.R _ k4 (by omega), e4.R _ k20 (rpn _ _ (by omega))]; exact rl2
      · rw [y2.I _ k4 (by omega), e4.I _ k20 (rpn _ _ (by omega))]; exact al2
      · rw [List.mem_singleton.mp ht]; exact vr5
    have r5 := r4.ex y2' (fun f z => by have := lo2 _ z; omega) (fun f z => by have := lo2 _ z; omega)
    have e05 : Ex RP (110 * (y.1 - p) - (c0 - 3) + 3 * (w * wl B n y.1)) (4100 * (y.1 - p) - (s0 - 7) + 6 * (w * wl B n y.1)) A A5 := (((e2.mono (Q := RP) (fun _ _ z => z.elim)).trans e4).tr y2' (fun f i hi => Or.inr (g.nz i (lo2 i hi) (by unfold tI3 at hi; omega)))).wk (by omega) (by omega)
    have lp := fc_loop (N := N) hN h hw g (C0 := c0 - 3) (S0 := s0 - 7) (C1 := c1 + 3) (S1 := s1 + 7) (by omega) (by omega) (by omega) (by omega) (by omega) hroom hj ha (n - y.1) N y.1 y.2 A5 [(v, g4)] (aN A + 2) (Nat.le_refl _) (by omega) r5 ti5 e05 (by simp; omega) (by simp)
    have lp := Bh.kk (A := A5) lp (fun e' A4 _ f => f.1) (fun y' x' A4 _ f => f.1)
    exact Bh.mono lp (fun e' A6 _ f => ⟨y2.le2.trans f.1, e4.le2.trans (y2.le2.trans f.1), f.2⟩) (fun y' x' A6 _ f => ⟨y2.le2.trans f.1, e4.le2.trans (y2.le2.trans f.1), f.2⟩)
  have lA2 : Le A A2 := e2.le2
  have main := Bh.kk (A := A2) main (fun e' A4 _ f => f.1) (fun y' x' A4 _ f => f.1)
  have main := Bh.kk (A := nw A 13 0 2) main (fun e' A4 _ f => l2.trans f.1) (fun y' x' A4 _ f => l2.trans f.1)
  have main := Bh.kk (A := A) main (fun e' A4 _ f => lA2.trans f.1) (fun y' x' A4 _ f => lA2.trans f.1)
  unfold fcX
  rw [nwO_ok (by omega), bo_some, h2, bda_ok l2, gN_k k2, rl2, bo_some]
  exact Bh.mono main (fun e' A6 _ f => f.2) (fun y' x' A6 _ f => f.2)
theorem test_ok (hN : 5000 ≤ N) {rf : AH → Option (Option (Option Nat) × AH)} {rs : RA} (h : OKT B n q μ t rf (rs o) o dt 0 30 300 30 100) : OKT B n q μ t (X2_test N rf) (sTest B n rs o) o (dt + 2) 2 24 286 36 114 := by
  rw [test_fcX]
  refine fcX_ok (w := 1) (c0 := 27) (s0 := 293) (c1 := 33) (s1 := 107) hN ?_ (by omega) (by omega) (by omega) (by omega) (by omega) (Or.inr ⟨rfl, rfl⟩)
  rw [both_fcX]
  exact fcX_ok hN h (by omega) (by omega) (by omega) (by omega) (by omega) (Or.inl ⟨rfl, rfl⟩)
end
