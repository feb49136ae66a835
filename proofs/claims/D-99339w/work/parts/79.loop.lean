/-! PURE LEVEL: sums and products, the whole -/
set_option maxRecDepth 100000
section
variable {N : Nat} {B : Nat → Nat} {n p0 o μ : Nat} {t : Option Nat} {q : Bool} {A0 A A' : AH} {dd c0 s0 c1 s1 C0 S0 C1 S1 x0 li sb v0 : Nat} {sg0 : Int32} {g0 : Gv}
variable {R : AH → Option (Option (Option Nat) × AH)} {r : Nat → Rs (Nat × List Int32)}
abbrev LpF (A A0 : AH) (n p0 C1 S1 : Nat) (e : Nat × Nat) (A' : AH) : Prop := Le A A' ∧ PF (100 * (n + 1 - p0) + C1) (4000 * (n + 1 - p0) + S1) A0 A' e
abbrev LpS (A A0 : AH) (B : Nat → Nat) (n p0 o : Nat) (q : Bool) (μ : Nat) (t : Option Nat) (dd C0 S0 : Nat) (y : Nat × List Int32) (x : Option Nat) (A' : AH) : Prop := Le A A' ∧ ∃ v g, x = some v ∧ p0 < y.1 ∧ Ex RP (100 * (y.1 - p0) - C0) (4000 * (y.1 - p0) - S0) A0 A' ∧ RD A' B n y.1 o μ t ∧ VR dd q μ A' (fun i => aN A0 ≤ i) v g ∧ Den q μ y.2 g
/-- one more behind a sign -/
theorem ch_step (h : OKV B n q μ t R r o dd c0 s0 c1 s1) (gA0 : GN A0) (hC0 : C0 ≤ 60) (hS0 : S0 ≤ 700) (hc1 : c1 ≤ C1) (hs1 : s1 ≤ S1) (hC1 : C1 ≤ 100) (hroom : aN A0 + (100 * (n + 1 - p0) + C1) ≤ CB)
    {p pa b k : Nat} {kk : AH → Nat → Int32 → Option (Option (Option Nat) × AH)} {lo : Nat × List Int32 → Rs (Nat × List Int32)} {its : List (Int32 × Nat × Gv)} {cs : List Int32} {ar br : Nat}
    (ih : ∀ (p : Nat) (cs : List Int32) (A : AH) (its : List (Int32 × Nat × Gv)) (ar br : Nat), pa < p → RD A B n p o μ t → ChI A0 A q μ dd x0 li ar sb br v0 sg0 g0 its cs → Ex RP (100 * (p - p0) - C0) (4000 * (p - p0) - S0) A0 A → p0 + 1 + 2 * its.length ≤ p → Bh (kk A x0 1) (lo (p, cs)) (LpF A A0 n p0 C1 S1) (LpS A A0 B n p0 o q μ t (dd + 1) C0 S0))
    (hp : p < pa) (hs : (nn b = 43 ∧ k = 1) ∨ (nn b = 45 ∧ k = 2) ∨ (nn b = 42 ∧ k = 3) ∨ (nn b = 47 ∧ k = 4))
    (rd : RD A' B n pa o μ t) (e9 : Ex RP 0 0 A A') (ci : ChI A0 A q μ dd x0 li ar sb br v0 sg0 g0 its cs) (e : Ex RP (100 * (p - p0) - C0) (4000 * (p - p0) - S0) A0 A) (hl : p0 + 1 + 2 * its.length ≤ p) :
    Bh (bxa A' (R A') fun r17 A18 => bo r17 fun q20 => if aK A18 x0 = 8 then (bda A18 (X9_add A18 x0 (nn b) q20) fun _ A21 => kk A21 x0 1) else none) (eb (r pa) fun y => lo (y.1, cs ++ y.2 ++ [nn k])) (LpF A A0 n p0 C1 S1) (LpS A A0 B n p0 o q μ t (dd + 1) C0 S0) := by
  have lo0 := gA0.lo
  have pn := rd.pn
  have nb := rd.bk.nb
  have en1 := e.n1
  have en2 := e.n2
  have n9 := e9.n1
  have n9' := e9.n2
  have rpn : ∀ f i, aN A0 ≤ i → ¬ RP f i := fun f i hi z => by unfold RP at z; omega
  have ci9 := ci.ex e9 rpn
  have e09 := e.trans e9
  refine Bh.xa (h A' pa rd (by omega)) (fun e' A2 _ f => ⟨f.ex.le2, (e9.le2.trans f.ex.le2), (PF.of e09 f).wk (by omega) (by omega)⟩) (fun y x A2 hy z => ?_)
  obtain ⟨v, g, rfl, hpy, x2, r2, vr, dn⟩ := z
  have pn2 := r2.pn
  have x2n1 := x2.n1
  have x2n2 := x2.n2
  refine ⟨x2.le2, ?_⟩
  have ci2 := ci9.ex x2 rpn
  have gn2 := x2.gn
  obtain ⟨A3, ar', br', y1, y2, y3⟩ := ChI.add rd.gn (by omega) (by omega) ci9.cx ci2 gn2 (by omega) (by omega) vr dn hs
  rw [bo_some, if_pos ci2.cx.kd, y1, bda_ok y2.le2]
  have x02 : Ex RP _ _ A0 A2 := e09.trans x2
  have x03 := x02.tr y2 (fun f i hi => Or.inr (gA0.nz i (ci2.lo i hi) (ci2.cx.lt gn2 hi).2))
  have r3 := r2.ex y2 (fun f z => by have := ci2.lo _ z; omega) (fun f z => by have := ci2.lo _ z; omega)
  have := ih y.1 _ A3 _ ar' br' hpy r3 y3 (x03.wk (by omega) (by omega)) (by rw [List.length_append]; simp; omega)
  have := Bh.kk (A := A3) this (fun e' A4 _ f => f.1) (fun y' x' A4 _ f => f.1)
  exact Bh.mono this (fun e' A4 _ f => ⟨y2.le2.trans f.1, e9.le2.trans (x2.le2.trans (y2.le2.trans f.1)), f.2⟩) (fun y' x' A4 _ f => ⟨y2.le2.trans f.1, e9.le2.trans (x2.le2.trans (y2.le2.trans f.1)), f.2⟩)
theorem ch_stop (hN : 5000 ≤ N) {b1 b2 p z : Nat} (h1 : b1 < 256) (h2 : b2 < 256) (rd : RD A B n p o μ t) (z1 : B (sk B n p) ≠ b1) (z2 : B (sk B n p) ≠ b2) (hz : 0 < z) : ∃ A', chB N (nn b1) (nn b2) R (rn3 (chB N (nn b1) (nn b2) R) z) A x0 1 = some (some (some x0), A') ∧ Ex RP 0 0 A A' ∧ RD A' B n (sk B n p) o μ t := by
  obtain ⟨z, rfl⟩ : ∃ m, z = m + 1 := ⟨z - 1, by omega⟩
  obtain ⟨A1, t1, e1, r1⟩ := takes_eq (N := N) hN rd h1
  rw [if_neg z1] at t1 r1
  obtain ⟨A2, t2, e2, r2⟩ := takes_eq (N := N) hN r1 h2
  rw [sk_sk rd.bk, if_neg z2] at t2 r2
  refine ⟨A2, ?_, e1.trans e2, r2⟩
  have hk : rn3 (chB N (nn b1) (nn b2) R) (z + 1) A2 x0 0 = some (some (some x0), A2) := by
    show chB N (nn b1) (nn b2) R _ A2 x0 0 = _
    unfold chB
    rw [if_pos rfl]
  generalize rn3 (chB N (nn b1) (nn b2) R) (z + 1) = kk at hk ⊢
  unfold chB
  rw [if_neg (by decide), t1, bd_some, if_pos rfl, t2, bd_some, if_pos rfl, hk]
theorem ch_loop (hN : 5000 ≤ N) (h : OKV B n q μ t R r o dd c0 s0 c1 s1) (gA0 : GN A0) (hC0 : C0 ≤ 60) (hS0 : S0 ≤ 700) (hc1 : c1 ≤ C1) (hs1 : s1 ≤ S1) (hC1 : C1 ≤ 100) (hroom : aN A0 + (100 * (n + 1 - p0) + C1) ≤ CB) {b1 b2 k1 k2 : Nat} (hb : (b1 = 43 ∧ k1 = 1 ∧ b2 = 45 ∧ k2 = 2) ∨ (b1 = 42 ∧ k1 = 3 ∧ b2 = 47 ∧ k2 = 4)) :
    ∀ (f z p : Nat) (cs : List Int32) (A : AH) (its : List (Int32 × Nat × Gv)) (ar br : Nat), n - p ≤ f → f + 1 < z → RD A B n p o μ t → ChI A0 A q μ dd x0 li ar sb br v0 sg0 g0 its cs → Ex RP (100 * (p - p0) - C0) (4000 * (p - p0) - S0) A0 A → p0 + 1 + 2 * its.length ≤ p → Bh (rn3 (chB N (nn b1) (nn b2) R) z A x0 1) (sLoop B n b1 b2 (nn k1) (nn k2) r f (p, cs)) (LpF A A0 n p0 C1 S1) (LpS A A0 B n p0 o q μ t (dd + 1) C0 S0) := by
  have h1 : b1 < 256 := by omega
  have h2 : b2 < 256 := by omega
  have hs1' : (nn b1 = 43 ∧ k1 = 1) ∨ (nn b1 = 45 ∧ k1 = 2) ∨ (nn b1 = 42 ∧ k1 = 3) ∨ (nn b1 = 47 ∧ k1 = 4) := by
    rcases hb with ⟨rfl, rfl, _⟩ | ⟨rfl, rfl, _⟩
    · exact Or.inl ⟨rfl, rfl⟩
    · exact Or.inr (Or.inr (Or.inl ⟨rfl, rfl⟩))
  have hs2' : (nn b2 = 43 ∧ k2 = 1) ∨ (nn b2 = 45 ∧ k2 = 2) ∨ (nn b2 = 42 ∧ k2 = 3) ∨ (nn b2 = 47 ∧ k2 = 4) := by
    rcases hb with ⟨_, _, rfl, rfl⟩ | ⟨_, _, rfl, rfl⟩
    · exact Or.inr (Or.inl ⟨rfl, rfl⟩)
    · exact Or.inr (Or.inr (Or.inr ⟨rfl, rfl⟩))
  have hne : b1 ≠ b2 := by omega
  have rpn : ∀ f i, aN A0 ≤ i → ¬ RP f i := fun f i hi z => by have := gA0.lo; unfold RP at z; omega
  have stop : ∀ (z p : Nat) (cs : List Int32) (A : AH) (its : List (Int32 × Nat × Gv)) (ar br : Nat), 0 < z → RD A B n p o μ t → ChI A0 A q μ dd x0 li ar sb br v0 sg0 g0 its cs → Ex RP (100 * (p - p0) - C0) (4000 * (p - p0) - S0) A0 A → p0 + 1 + 2 * its.length ≤ p → B (sk B n p) ≠ b1 → B (sk B n p) ≠ b2 → Bh (chB N (nn b1) (nn b2) R (rn3 (chB N (nn b1) (nn b2) R) z) A x0 1) (.ok (sk B n p, cs) : Rs (Nat × List Int32)) (LpF A A0 n p0 C1 S1) (LpS A A0 B n p0 o q μ t (dd + 1) C0 S0) := by
    intro z p cs A its ar br hz rd ci e hl z1 z2
    obtain ⟨A', y1, y2, y3⟩ := ch_stop (R := R) (x0 := x0) hN h1 h2 rd z1 z2 hz
    have hge := sk_ge B n p
    have ci' := ci.ex y2 rpn
    exact ⟨some x0, A', y1, y2.le2, x0, _, rfl, (by show p0 < sk B n p; omega), (e.trans y2).wk (by show _ ≤ 100 * (sk B n p - p0) - C0; omega) (by show _ ≤ 4000 * (sk B n p - p0) - S0; omega), y3, ci'.done, ci.dn⟩
  intro f
  induction f with
  | zero =>
    intro z p cs A its ar br hf hz rd ci e hl
    obtain ⟨z, rfl⟩ : ∃ m, z = m + 1 := ⟨z - 1, by omega⟩
    have hge := sk_ge B n p
    have b6 : B (sk B n p) = 256 := rd.bk.ge _ (by omega)
    exact stop z p cs A its ar br (by omega) rd ci e hl (by omega) (by omega)
  | succ f ih =>
    intro z p cs A its ar br hf hz rd ci e hl
    obtain ⟨z, rfl⟩ : ∃ m, z = m + 1 := ⟨z - 1, by omega⟩
    have hge := sk_ge B n p
    obtain ⟨A1, t1, e1, r1⟩ := takes_eq (N := N) hN rd h1
    show Bh (chB N (nn b1) (nn b2) R (rn3 (chB N (nn b1) (nn b2) R) z) A x0 1) (if B (sk B n p) = b1 then eb (r (sk B n p + 1)) (fun y => sLoop B n b1 b2 (nn k1) (nn k2) r f (y.1, cs ++ y.2 ++ [nn k1])) else if B (sk B n p) = b2 then eb (r (sk B n p + 1)) (fun y => sLoop B n b1 b2 (nn k1) (nn k2) r f (y.1, cs ++ y.2 ++ [nn k2])) else .ok (sk B n p, cs)) _ _
    by_cases z1 : B (sk B n p) = b1
    · rw [if_pos z1]
      rw [if_pos z1] at t1 r1
      have st := ch_step (A := A) (kk := rn3 (chB N (nn b1) (nn b2) R) z) (lo := sLoop B n b1 b2 (nn k1) (nn k2) r f) h gA0 hC0 hS0 hc1 hs1 hC1 hroom (fun p' cs' A' its' ar' br' hp' => ih z p' cs' A' its' ar' br' (by omega) (by omega)) (show p < sk B n p + 1 by omega) hs1' r1 e1 ci e hl
      generalize rn3 (chB N (nn b1) (nn b2) R) z = kk at st ⊢
      unfold chB
      rw [if_neg (by decide), t1, bd_some, if_neg (by decide)]
      exact st
    · rw [if_neg z1]
      by_cases z2 : B (sk B n p) = b2
      · rw [if_pos z2]
        rw [if_neg z1] at t1 r1
        obtain ⟨A2, t2, e2, r2⟩ := takes_eq (N := N) hN r1 h2
        rw [sk_sk rd.bk, if_pos z2] at t2 r2
        have st := ch_step (A := A) (kk := rn3 (chB N (nn b1) (nn b2) R) z) (lo := sLoop B n b1 b2 (nn k1) (nn k2) r f) h gA0 hC0 hS0 hc1 hs1 hC1 hroom (fun p' cs' A' its' ar' br' hp' => ih z p' cs' A' its' ar' br' (by omega) (by omega)) (show p < sk B n p + 1 by omega) hs2' r2 (e1.trans e2) ci e hl
        generalize rn3 (chB N (nn b1) (nn b2) R) z = kk at st ⊢
        unfold chB
        rw [if_neg (by decide), t1, bd_some, if_pos rfl, t2, bd_some, if_neg (by decide)]
        exact st
      · rw [if_neg z2]
        exact stop z p cs A its ar br (by omega) rd ci e hl z1 z2
/-- sums out of products, products out of atoms -/
theorem chX_ok (hN : 5000 ≤ N) (h : OKV B n q μ t R r o dd c0 s0 c1 s1) (hc0 : 5 ≤ c0 ∧ c0 ≤ 60) (hs0 : 27 ≤ s0 ∧ s0 ≤ 700) (hc1 : c1 ≤ 95) {b1 b2 k1 k2 : Nat} (hb : (b1 = 43 ∧ k1 = 1 ∧ b2 = 45 ∧ k2 = 2) ∨ (b1 = 42 ∧ k1 = 3 ∧ b2 = 47 ∧ k2 = 4)) :
    OKV B n q μ t (chX N (nn b1) (nn b2) R) (fun p => eb (r p) fun x => sLoop B n b1 b2 (nn k1) (nn k2) r (n - x.1) x) o (dd + 1) (c0 - 5) (s0 - 27) (c1 + 5) (s1 + 27) := by
  intro A p rd hroom
  have g := rd.gn
  have lo0 := g.lo
  have pn := rd.pn
  have nb := rd.bk.nb
  have c0e : CB = 1000000 := rfl
  have hs : sgn (nn b1) := by
    rcases hb with ⟨rfl, _⟩ | ⟨rfl, _⟩
    · exact Or.inr (Or.inl rfl)
    · exact Or.inl rfl
  obtain ⟨A2, h2, e2, l2, x2, la, lb, n2⟩ := chain_new g (by omega)
  have r2 := rd.ex e2 (fun _ z => z) (fun _ z => z)
  have rpn : ∀ f i, aN A ≤ i → ¬ RP f i := fun f i hi z => by unfold RP at z; omega
  have lo2 : ∀ i, cI (aN A) (aN A + 1) (aN A + 2) (aN A + 3) (aN A + 4) i → aN A ≤ i := by
    intro i hi; unfold cI at hi; omega
  have main : Bh (bxa A2 (R A2) fun r3 A4 => bo r3 fun q6 => if aK A4 (aN A) = 8 then (bda A4 (X9_add A4 (aN A) (nn b1) q6) fun _ A7 => rn3 (chB N (nn b1) (nn b2) R) N A7 (aN A) 1) else none) (eb (r p) fun x => sLoop B n b1 b2 (nn k1) (nn k2) r (n - x.1) x) (LpF A2 A n p (c1 + 5) (s1 + 27)) (LpS A2 A B n p o q μ t (dd + 1) (c0 - 5) (s0 - 27)) := by
    refine Bh.xa (h A2 p r2 (by omega)) (fun e A' _ f => ⟨f.ex.le2, f.ex.le2, (PF.of (e2.mono (fun _ _ z => z.elim)) f).wk (by omega) (by omega)⟩) (fun y x A4 hy z => ?_)
    obtain ⟨v, g4, rfl, hpy, e4, r4, vr, dn⟩ := z
    refine ⟨e4.le2, ?_⟩
    have pn4 := r4.pn
    have x4 := x2.ex e4 (fun f i hi => rpn f i (lo2 i hi))
    have n41 := e4.n1
    have n42 := e4.n2
    obtain ⟨A5, ar', br', y1, y2, y3, y4, y5, y6⟩ := cadd_eq (v := v) (x := nn b1) e4.gn (by omega) x4 (by simp) rfl hs (isVal_obj vr.isVal)
    have ka : aL A4 (aN A + 2) = 2 := by rw [e4.L (by rw [x2.lx.ka]; decide)]; exact la
    have kb : aL A4 (aN A + 4) = 16 := by rw [e4.L (by rw [x2.sx.ka]; decide)]; exact lb
    obtain ⟨m1, m2⟩ := y6 (by rw [ka]; decide) (by rw [kb]; decide)
    have y2' : Ex (fun _ i => cI (aN A) (aN A + 1) (aN A + 2) (aN A + 3) (aN A + 4) i) 0 0 A4 A5 := Ex.mk y2.n1 (by omega) y2.s1 (by omega) y2.kd y2.vl y2.gn
    rw [bo_some, if_pos x4.kd, y1, bda_ok y2.le2]
    have x4l : ∀ i, cI (aN A) (aN A + 1) (aN A + 2) (aN A + 3) (aN A + 4) i → i < aN A2 := by intro i hi; unfold cI at hi; omega
    have hG : ∀ i, aN A2 ≤ i → aK A4 i ≠ 0 → aN A ≤ i ∧ ¬ cI (aN A) (aN A + 1) ar' (aN A + 3) br' i := by
      intro i hi hk
      refine ⟨by omega, fun z => ?_⟩
      rcases z with z | z | z | z | z
      · omega
      · omega
      · rcases y4 with w | w
        · omega
        · exact hk (by rw [z]; exact w.2)
      · omega
      · rcases y5 with w | w
        · omega
        · exact hk (by rw [z]; exact w.2)
    have vr5 : VR dd q μ A5 (fun i => aN A ≤ i ∧ ¬ cI (aN A) (aN A + 1) ar' (aN A + 3) br' i) v g4 := vr.ex y2' (fun f i hi _ z => by have := x4l i z; omega) (fun i hi hk => hG i hi hk)
    have ci5 : ChI A A5 q μ dd (aN A) (aN A + 1) ar' (aN A + 3) br' v (nn b1) g4 [] y.2 := by
      refine ChI.mk y3 (fun i hi => ?_) vr5 (fun it hi => by simp at hi) (dn.cg (fun e lk _ => rfl))
      rcases hi with z | z | z | z | z
      · omega
      · omega
      · rcases y4 with w | w
        · omega
        · have := w.1; omega
      · omega
      · rcases y5 with w | w
        · omega
        · have := w.1; omega
    have r5 := r4.ex y2' (fun f z => by have := lo2 _ z; omega) (fun f z => by have := lo2 _ z; omega)
    have e05 : Ex RP (100 * (y.1 - p) - (c0 - 5)) (4000 * (y.1 - p) - (s0 - 27)) A A5 := (((e2.mono (Q := RP) (fun _ _ z => z.elim)).trans e4).tr y2' (fun f i hi => Or.inr (g.nz i (lo2 i hi) (by unfold cI at hi; omega)))).wk (by omega) (by omega)
    have lp := ch_loop (N := N) hN h g (C0 := c0 - 5) (S0 := s0 - 27) (C1 := c1 + 5) (S1 := s1 + 27) (by omega) (by omega) (by omega) (by omega) (by omega) hroom hb (n - y.1) N y.1 y.2 A5 [] ar' br' (Nat.le_refl _) (by omega) r5 ci5 e05 (by simp; omega)
    have lp := Bh.kk (A := A5) lp (fun e' A4 _ f => f.1) (fun y' x' A4 _ f => f.1)
    exact Bh.mono lp (fun e' A6 _ f => ⟨y2.le2.trans f.1, e4.le2.trans (y2.le2.trans f.1), f.2⟩) (fun y' x' A6 _ f => ⟨y2.le2.trans f.1, e4.le2.trans (y2.le2.trans f.1), f.2⟩)
  have lA2 : Le A A2 := e2.le2
  have l12 : Le (nw A 8 0 2) A2 := l2
  have main := Bh.kk (A := A2) main (fun e' A4 _ f => f.1) (fun y' x' A4 _ f => f.1)
  have main := Bh.kk (A := nw A 8 0 2) main (fun e' A4 _ f => l12.trans f.1) (fun y' x' A4 _ f => l12.trans f.1)
  have main := Bh.kk (A := A) main (fun e' A4 _ f => lA2.trans f.1) (fun y' x' A4 _ f => lA2.trans f.1)
  unfold chX
  rw [nwO_ok (by omega), bo_some, h2, bda_ok l2]
  exact Bh.mono main (fun e' A6 _ f => f.2) (fun y' x' A6 _ f => f.2)
theorem prod_ok (hN : 5000 ≤ N) {ra : AH → Option (Option (Option Nat) × AH)} {rs : RA} (h : OKV B n q μ t ra (rs o) o dd 60 600 10 10) : OKV B n q μ t (X2_product N ra) (sProd B n rs o) o (dd + 1) 55 573 15 37 := by
  rw [prod_chX]
  exact chX_ok hN h (by omega) (by omega) (by omega) (Or.inr ⟨rfl, rfl, rfl, rfl⟩)
theorem sum_ok (hN : 5000 ≤ N) {ra : AH → Option (Option (Option Nat) × AH)} {rs : RA} (h : OKV B n q μ t ra (rs o) o dd 60 600 10 10) : OKV B n q μ t (X2_sum N ra) (sSum B n rs o) o (dd + 2) 50 546 20 64 := by
  rw [sum_chX]
  exact chX_ok hN (prod_ok hN h) (by omega) (by omega) (by omega) (Or.inl ⟨rfl, rfl, rfl, rfl⟩)
end
