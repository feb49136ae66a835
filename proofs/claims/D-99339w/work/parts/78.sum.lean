/-! PURE LEVEL: sums and products that are read -/
set_option maxRecDepth 100000
/-- R reads from any place what r tells: dd deep; on success 100 cells a byte less c0, on a fault c1 more at most; slots alike -/
def OKV (B : Nat → Nat) (n : Nat) (q : Bool) (μ : Nat) (t : Option Nat) (R : AH → Option (Option (Option Nat) × AH)) (r : Nat → Rs (Nat × List Int32)) (o dd c0 s0 c1 s1 : Nat) : Prop :=
  ∀ A p, RD A B n p o μ t → aN A + (100 * (n + 1 - p) + c1) ≤ CB → Bh (R A) (r p) (fun e A' => PF (100 * (n + 1 - p) + c1) (4000 * (n + 1 - p) + s1) A A' e) (fun y x A' => ∃ v g, x = some v ∧ p < y.1 ∧ Ex RP (100 * (y.1 - p) - c0) (4000 * (y.1 - p) - s0) A A' ∧ RD A' B n y.1 o μ t ∧ VR dd q μ A' (fun i => aN A ≤ i) v g ∧ Den q μ y.2 g)
noncomputable def chB (N : Nat) (c1 c2 : Int32) (R : AH → Option (Option (Option Nat) × AH)) (k : AH → Nat → Int32 → Option (Option (Option Nat) × AH)) (A : AH) (x1 : Nat) (x2 : Int32) : Option (Option (Option Nat) × AH) :=
  if x2 = 0 then (some (some (some x1), A)) else (bd (X2_takes N A c1) fun r8 A9 => if r8 = 0 then (bd (X2_takes N A9 c2) fun r10 A11 => if r10 = 0 then (k A11 x1 0) else (bxa A11 (R A11) fun r12 A13 => bo r12 fun q15 => if aK A13 x1 = 8 then ( bda A13 (X9_add A13 x1 c2 q15) fun _ A16 => k A16 x1 x2) else none)) else (bxa A9 (R A9) fun r17 A18 => bo r17 fun q20 => if aK A18 x1 = 8 then ( bda A18 (X9_add A18 x1 c1 q20) fun _ A21 => k A21 x1 x2) else none))
noncomputable def chX (N : Nat) (c1 c2 : Int32) (R : AH → Option (Option (Option Nat) × AH)) (A0 : AH) : Option (Option (Option Nat) × AH) :=
  ck A0 (bo (nwO A0 8 2) fun A1 => ck A1 ( bda A1 (X9_init A1 (aN A0)) fun _ A2 => bxa A2 (R A2) fun r3 A4 => bo r3 fun q6 => if aK A4 (aN A0) = 8 then ( bda A4 (X9_add A4 (aN A0) c1 q6) fun _ A7 => rn3 (chB N c1 c2 R) N A7 (aN A0) 1) else none))
theorem prod_chX (N : Nat) (ra : AH → Option (Option (Option Nat) × AH)) : X2_product N ra = chX N 42 47 ra := rfl
theorem sum_chX (N : Nat) (ra : AH → Option (Option (Option Nat) × AH)) : X2_sum N ra = chX N 43 45 (X2_product N ra) := rfl
theorem isVal_obj {k : Nat} (h : isVal k = true) : isObj k = true := by
  rcases isVal_s h with rfl | rfl | rfl | rfl | rfl <;> rfl
/-- a chain in the making: since A0 -/
def ChI (A0 A : AH) (q : Bool) (μ dd x0 li ar sb br v0 : Nat) (s0 : Int32) (g0 : Gv) (its : List (Int32 × Nat × Gv)) (cs : List Int32) : Prop :=
  (CX A x0 li ar sb br (v0 :: its.map (fun it => it.2.1)) (s0 :: its.map (fun it => it.1))) ∧
  (∀ i, cI x0 li ar sb br i → aN A0 ≤ i) ∧
  (VR dd q μ A (fun i => aN A0 ≤ i ∧ ¬ cI x0 li ar sb br i) v0 g0) ∧
  (∀ it ∈ its, VR dd q μ A (fun i => aN A0 ≤ i ∧ ¬ cI x0 li ar sb br i) it.2.1 it.2.2 ∧ sgn it.1) ∧
  (Den q μ cs (chainG g0 its))
theorem ChI.cx {A0 A : AH} {q : Bool} {μ dd x0 li ar sb br v0 : Nat} {s0 : Int32} {g0 : Gv} {its : List (Int32 × Nat × Gv)} {cs : List Int32} (h : ChI A0 A q μ dd x0 li ar sb br v0 s0 g0 its cs) : CX A x0 li ar sb br (v0 :: its.map (fun it => it.2.1)) (s0 :: its.map (fun it => it.1)) := h.1
theorem ChI.lo {A0 A : AH} {q : Bool} {μ dd x0 li ar sb br v0 : Nat} {s0 : Int32} {g0 : Gv} {its : List (Int32 × Nat × Gv)} {cs : List Int32} (h : ChI A0 A q μ dd x0 li ar sb br v0 s0 g0 its cs) : ∀ i, cI x0 li ar sb br i → aN A0 ≤ i := h.2.1
theorem ChI.v0 {A0 A : AH} {q : Bool} {μ dd x0 li ar sb br v0 : Nat} {s0 : Int32} {g0 : Gv} {its : List (Int32 × Nat × Gv)} {cs : List Int32} (h : ChI A0 A q μ dd x0 li ar sb br v0 s0 g0 its cs) : VR dd q μ A (fun i => aN A0 ≤ i ∧ ¬ cI x0 li ar sb br i) v0 g0 := h.2.2.1
theorem ChI.vs {A0 A : AH} {q : Bool} {μ dd x0 li ar sb br v0 : Nat} {s0 : Int32} {g0 : Gv} {its : List (Int32 × Nat × Gv)} {cs : List Int32} (h : ChI A0 A q μ dd x0 li ar sb br v0 s0 g0 its cs) : ∀ it ∈ its, VR dd q μ A (fun i => aN A0 ≤ i ∧ ¬ cI x0 li ar sb br i) it.2.1 it.2.2 ∧ sgn it.1 := h.2.2.2.1
theorem ChI.dn {A0 A : AH} {q : Bool} {μ dd x0 li ar sb br v0 : Nat} {s0 : Int32} {g0 : Gv} {its : List (Int32 × Nat × Gv)} {cs : List Int32} (h : ChI A0 A q μ dd x0 li ar sb br v0 s0 g0 its cs) : Den q μ cs (chainG g0 its) := h.2.2.2.2
theorem ChI.mk {A0 A : AH} {q : Bool} {μ dd x0 li ar sb br v0 : Nat} {s0 : Int32} {g0 : Gv} {its : List (Int32 × Nat × Gv)} {cs : List Int32} (h_cx : CX A x0 li ar sb br (v0 :: its.map (fun it => it.2.1)) (s0 :: its.map (fun it => it.1))) (h_lo : ∀ i, cI x0 li ar sb br i → aN A0 ≤ i) (h_v0 : VR dd q μ A (fun i => aN A0 ≤ i ∧ ¬ cI x0 li ar sb br i) v0 g0) (h_vs : ∀ it ∈ its, VR dd q μ A (fun i => aN A0 ≤ i ∧ ¬ cI x0 li ar sb br i) it.2.1 it.2.2 ∧ sgn it.1) (h_dn : Den q μ cs (chainG g0 its)) : ChI A0 A q μ dd x0 li ar sb br v0 s0 g0 its cs := ⟨h_cx, h_lo, h_v0, h_vs, h_dn⟩
section
variable {A0 A A' : AH} {q : Bool} {μ dd x0 li ar sb br v0 : Nat} {s0 : Int32} {g0 : Gv} {its : List (Int32 × Nat × Gv)} {cs : List Int32}
theorem ChI.ex {P : Nat → Nat → Prop} {c s : Nat} (h : ChI A0 A q μ dd x0 li ar sb br v0 s0 g0 its cs) (e : Ex P c s A A') (d : ∀ f i, aN A0 ≤ i → ¬ P f i) : ChI A0 A' q μ dd x0 li ar sb br v0 s0 g0 its cs :=
  ChI.mk (h.cx.ex e (fun f i hi => d f i (h.lo i hi))) h.lo (h.v0.ex e (fun f i hi _ => d f i hi.1) (fun i hi _ => hi)) (fun it hi => ⟨(h.vs it hi).1.ex e (fun f i hi _ => d f i hi.1) (fun i hi _ => hi), (h.vs it hi).2⟩) h.dn
theorem CX.lt {ids : List Nat} {ss : List Int32} (g : GN A) (h : CX A x0 li ar sb br ids ss) {i : Nat} (hi : cI x0 li ar sb br i) : i < aN A ∧ i < CB := by
  have key : ∀ i, i < CB → aK A i ≠ 0 → i < aN A ∧ i < CB := fun i h1 h2 => ⟨by
    rcases Nat.lt_or_ge i (aN A) with z | z
    · exact z
    · exact absurd (g.nz i z h1) h2, h1⟩
  rcases hi with rfl | rfl | rfl | rfl | rfl
  · exact key _ h.hx (by rw [h.kd]; decide)
  · exact key _ h.lx.hl (by rw [h.lx.kd]; decide)
  · exact key _ h.lx.ha (by rw [h.lx.ka]; decide)
  · exact key _ h.sx.hl (by rw [h.sx.kd]; decide)
  · exact key _ h.sx.ha (by rw [h.sx.ka]; decide)
theorem ChI.done (h : ChI A0 A q μ dd x0 li ar sb br v0 s0 g0 its cs) : VR (dd + 1) q μ A (fun i => aN A0 ≤ i) x0 (chainG g0 its) := by
  refine ⟨h.lo _ (Or.inl rfl), Or.inr (Or.inr (Or.inr (Or.inl ⟨h.cx.kd, li, sb, v0, s0, g0, its, h.cx.rl, h.cx.rs, ?_, ?_, h.v0.mono (fun i hi => hi.1), fun it hi => ⟨(h.vs it hi).1.mono (fun i hi => hi.1), (h.vs it hi).2⟩, rfl⟩)))⟩
  · exact LR.mk (h.lo _ (Or.inr (Or.inl rfl))) h.cx.lx.kd h.cx.lx.len ⟨ar, h.cx.lx.rf, h.lo _ (Or.inr (Or.inr (Or.inl rfl))), h.cx.lx.ka, h.cx.lx.cap, h.cx.lx.c5, h.cx.lx.el⟩
  · exact SBR.mk (h.lo _ (Or.inr (Or.inr (Or.inr (Or.inl rfl))))) h.cx.sx.kd h.cx.sx.cod h.cx.sx.len ⟨br, h.cx.sx.rf, h.lo _ (Or.inr (Or.inr (Or.inr (Or.inr rfl)))), h.cx.sx.ka, h.cx.sx.ha, h.cx.sx.cap, h.cx.sx.c5, h.cx.sx.el⟩
/-- one more that was read since A1 -/
theorem ChI.add {A1 : AH} {v k : Nat} {g : Gv} {c2 : List Int32} {s : Int32} (g1 : GN A1) (hn : aN A0 ≤ aN A1) (hn2 : aN A0 ≤ aN A) (h1 : CX A1 x0 li ar sb br (v0 :: its.map (fun it => it.2.1)) (s0 :: its.map (fun it => it.1))) (h : ChI A0 A q μ dd x0 li ar sb br v0 s0 g0 its cs) (gn : GN A) (hr : aN A + 2 ≤ CB) (hl : its.length ≤ 1500) (hv : VR dd q μ A (fun i => aN A1 ≤ i) v g) (hd : Den q μ c2 g) (hs : (s = 43 ∧ k = 1) ∨ (s = 45 ∧ k = 2) ∨ (s = 42 ∧ k = 3) ∨ (s = 47 ∧ k = 4)) :
    ∃ A' ar' br', X9_add A x0 s v = some ((), A') ∧ Ex (fun _ i => cI x0 li ar sb br i) 2 (4 * its.length + 6) A A' ∧ ChI A0 A' q μ dd x0 li ar' sb br' v0 s0 g0 (its ++ [(s, v, g)]) (cs ++ c2 ++ [nn k]) := by
  have hsg : sgn s := by
    rcases hs with h | h | h | h
    · exact Or.inr (Or.inl h.1)
    · exact Or.inr (Or.inr (Or.inl h.1))
    · exact Or.inl h.1
    · exact Or.inr (Or.inr (Or.inr h.1))
  obtain ⟨A', ar', br', y1, y2, y3, y4, y5, _⟩ := cadd_eq (v := v) (x := s) gn hr h.cx (by simp; omega) (by simp) hsg (isVal_obj hv.isVal)
  have hG : ∀ i, aN A0 ≤ i ∧ ¬ cI x0 li ar sb br i → aK A i ≠ 0 → aN A0 ≤ i ∧ ¬ cI x0 li ar' sb br' i := by
    intro i hi hk
    refine ⟨hi.1, fun z => ?_⟩
    rcases z with z | z | z | z | z
    · exact hi.2 (Or.inl z)
    · exact hi.2 (Or.inr (Or.inl z))
    · rcases y4 with w | w
      · exact hi.2 (Or.inr (Or.inr (Or.inl (z.trans w))))
      · exact hk (by rw [z]; exact w.2)
    · exact hi.2 (Or.inr (Or.inr (Or.inr (Or.inl z))))
    · rcases y5 with w | w
      · exact hi.2 (Or.inr (Or.inr (Or.inr (Or.inr (z.trans w)))))
      · exact hk (by rw [z]; exact w.2)
  have hvG : VR dd q μ A (fun i => aN A0 ≤ i ∧ ¬ cI x0 li ar sb br i) v g := hv.mono (fun i hi => ⟨Nat.le_trans hn hi, fun z => by have := (h1.lt g1 z).1; omega⟩)
  have hk : ∀ f i, aN A0 ≤ i ∧ ¬ cI x0 li ar sb br i → aK A i ≠ 0 → ¬ (fun (_ : Nat) i => cI x0 li ar sb br i) f i := fun f i hi _ z => hi.2 z
  refine ⟨A', ar', br', y1, y2.wk (by omega) (by simp; omega), ChI.mk ?_ ?_ (h.v0.ex y2 hk hG) (fun it hit => ?_) (h.dn.step hd hs)⟩
  · rw [List.map_append, List.map_append]; exact y3
  · intro i hi
    rcases hi with z | z | z | z | z
    · exact h.lo i (Or.inl z)
    · exact h.lo i (Or.inr (Or.inl z))
    · rcases y4 with w | w
      · exact h.lo i (Or.inr (Or.inr (Or.inl (z.trans w))))
      · have := w.1
        omega
    · exact h.lo i (Or.inr (Or.inr (Or.inr (Or.inl z))))
    · rcases y5 with w | w
      · exact h.lo i (Or.inr (Or.inr (Or.inr (Or.inr (z.trans w)))))
      · have := w.1
        omega
  · rcases List.mem_append.mp hit with z | z
    · exact ⟨(h.vs it z).1.ex y2 hk hG, (h.vs it z).2⟩
    · rw [List.mem_singleton.mp z]
      exact ⟨hvG.ex y2 hk hG, hsg⟩
end
