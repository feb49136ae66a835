/-! PURE LEVEL: atoms that are read -/
set_option maxRecDepth 100000
theorem fdx_lt {w : List Int32} : ∀ (js : List Nat) (k m : Nat), fdx w js k = some m → k ≤ m ∧ m < k + js.length := by
  intro js
  induction js with
  | nil => intro k m h; cases h
  | cons j js ih =>
    intro k m h
    unfold fdx at h
    by_cases c : w = kw j
    · rw [if_pos c] at h; cases h; simp
    · rw [if_neg c] at h
      have := ih (k + 1) m h
      simp; omega
theorem has_mu : ∀ μ, (μ = 1 ∨ μ = 63 ∨ μ = 127 ∨ μ = 447) → ∀ k, k < 9 → X0_has (nn μ) (nn k) = some (if Nat.testBit μ k = true then 1 else 0) := by
  rintro μ (rfl | rfl | rfl | rfl) <;> decide +kernel
section
variable {N : Nat} {B : Nat → Nat} {n o μ : Nat} {t : Option Nat} {q : Bool} {A A0 A' : AH} {dd : Nat}
variable {ra : AH → Option (Option (Option Nat) × AH)} {rs : RA}
/-- what an atom gives, behind place p -/
abbrev AtF (A : AH) (n p c s : Nat) (e : Nat × Nat) (A' : AH) : Prop := Le A A' ∧ PF (100 * (n + 1 - p) + c) (4000 * (n + 1 - p) + s) A A' e
abbrev AtS (A : AH) (B : Nat → Nat) (n p o : Nat) (q : Bool) (μ : Nat) (t : Option Nat) (dd : Nat) (y : Nat × List Int32) (x : Option Nat) (A' : AH) : Prop := Le A A' ∧ ∃ v g, x = some v ∧ p < y.1 ∧ Ex RP (100 * (y.1 - p) - 60) (4000 * (y.1 - p) - 600) A A' ∧ RD A' B n y.1 o μ t ∧ VR dd q μ A' (fun i => aN A ≤ i) v g ∧ Den q μ y.2 g
theorem sMust_ok {c p p' : Nat} (h : sMust B n c p = .ok p') : p < p' ∧ p' = sk B n p + 1 ∧ B (sk B n p) = c := by
  unfold sMust at h
  split at h
  · next z => cases h; have := sk_ge B n p; exact ⟨by omega, rfl, z⟩
  · cases h
theorem b77_eq (hN : 5000 ≤ N) {p x3 : Nat} {x1 : Int32} {cs : List Int32} (ho : o < 6) (rd : RD A B n p (o + 1) μ t) : Bh (X2_within_b77 N ra x1 A x3) (eb (sMust B n 41 p) fun p2 => .ok (p2, cs)) (fun e A' => PF 0 0 A A' e) (fun y x A' => x = some x3 ∧ y.2 = cs ∧ p < y.1 ∧ Ex RP 0 0 A A' ∧ RD A' B n y.1 o μ t) := by
  unfold X2_within_b77
  refine Bh.xx (must_eq hN rd (c := 41) (by decide)) (fun e A' _ f => f) (fun y x A' hy z => ?_)
  obtain ⟨x1, r1⟩ := z
  have hs := (sMust_ok hy).1
  rw [lt2_eq, r1.op, show (1 : Int32) = nn 1 from rfl, nn_sub (by omega), show o + 1 - 1 = o by omega]
  obtain ⟨r2, x2⟩ := r1.opn (o' := o) (by omega)
  exact ⟨_, _, rfl, rfl, rfl, hs, x1.trans x2, r2⟩
/-- in round brackets -/
theorem within_eq (hN : 5000 ≤ N) (ha : o < 6 → OKV B n q μ t ra (rs (o + 1)) (o + 1) dd 60 600 10 10) {p two : Nat} (h2 : two ≤ 2) (rd : RD A B n p o μ t) (hr : aN A + (100 * (n + 1 - p)) ≤ CB) : Bh (X2_within N ra A (nn two)) (sWithin B n rs two o p) (AtF A n p 0 0) (AtS A B n p o q μ t (dd + 3)) := by
  obtain ⟨A1, h1, x1, r1, f1⟩ := here_eq hN rd
  have hle := rd.bk.le (sk B n p)
  have hge := sk_ge B n p
  have nb := rd.bk.nb
  have pn := rd.pn
  have hsn := sk_le rd
  have c0e : CB = 1000000 := rfl
  have lo0 := rd.gn.lo
  have ob := rd.ob
  unfold sWithin X2_within
  have core : Bh (bd (X2_here N A) fun r1 A2 => if r1 = 40 then (bx (X2_opens A2 (aI A2 302 9 0)) fun _ A3 => lt2 (wI A3 302 9 0 ((aI A3 302 9 0) + 1)) fun A5 => bxa A5 (X2_sum N ra A5) fun r6 A7 => bo r6 fun q9 => if nn two ≤ 0 then (X2_within_b77 N ra (nn two) A7 q9) else (bx (X2_must N A7 44) fun _ A13 => bo (nwO A13 9 3) fun A15 => ck A15 ( if nn two = 2 then (X2_within_b68 N ra (nn two) A15 q9 1 (aN A13) (aN A13)) else (X2_within_b68 N ra (nn two) A15 q9 0 (aN A13) (aN A13))))) else (bd (X2_wrong A2 1 (aI A2 302 9 0)) fun r21 A22 => bo r21 fun q23 => if q23 = 10 then some (none, A22) else none)) (if B (sk B n p) = 40 then (if o = 6 then .error (4, sk B n p) else eb (sSum B n rs (o + 1) (sk B n p + 1)) fun x => if two = 0 then eb (sMust B n 41 x.1) (fun p2 => .ok (p2, x.2)) else eb (sMust B n 44 x.1) fun p2 => eb (sSum B n rs (o + 1) p2) fun y => eb (sMust B n 41 y.1) fun p4 => .ok (p4, x.2 ++ y.2 ++ [if two = 1 then 5 else 6])) else .error (1, sk B n p) : Rs (Nat × List Int32)) (AtF A n p 0 0) (AtS A B n p o q μ t (dd + 3)) := by
    rw [h1, bd_some]
    by_cases z : B (sk B n p) = 40
    · rw [if_pos z, if_pos (show bv (B (sk B n p)) = (40 : Int32) from (bv_eq hle (by decide)).mpr z), r1.at_]
      have hop := opens_eq r1 (sk B n p)
      by_cases zo : o = 6
      · rw [if_pos zo]
        rw [if_pos zo] at hop
        obtain ⟨A3, h3, f3⟩ := hop
        rw [h3, bx_none]
        have pf := PF.of x1 f3
        exact ⟨A3, rfl, pf.ex.le2, pf.wk (by omega) (by omega)⟩
      · rw [if_neg zo]
        rw [if_neg zo] at hop
        obtain ⟨u, A3, h3, x3, r3, f3⟩ := hop
        rw [h3, bx_some, lt2_eq, r3.at_, nn_succ]
        have hlt : sk B n p < n := sk_lt rd.bk rd.pn z (by decide)
        obtain ⟨r5, x5⟩ := r3.mv (p' := sk B n p + 1) (by omega)
        have x05 := x1.trans (x3.trans x5)
        have n05a := x05.n1
        have n05b := x05.n2
        have sok := sum_ok hN (ha (by omega))
        refine Bh.xa (sok _ _ r5 (by omega)) (fun e A' _ f => ?_) (fun y x A7 hy f => ?_)
        · have pf := PF.of x05 f
          exact ⟨f.ex.le2, pf.ex.le2, pf.wk (by omega) (by omega)⟩
        · obtain ⟨v, g, rfl, hpy, x7, r7, vr, dn⟩ := f
          have pn7 := r7.pn
          refine ⟨x7.le2, ?_⟩
          have x07 := x05.trans x7
          have n7a := x07.n1
          have n7b := x07.n2
          rw [bo_some]
          by_cases zt : two = 0
          · rw [if_pos zt, if_pos (by rw [zt]; decide)]
            refine Bh.mono (b77_eq hN (by omega) r7) (fun e A' _ f => ?_) (fun y' x' A' _ f => ?_)
            · have pf := PF.of x07 f
              exact ⟨f.ex.le2, pf.ex.le2, pf.wk (by omega) (by omega)⟩
            · obtain ⟨f1, f2, f3, f4, f5⟩ := f
              have x08 := x07.trans f4
              exact ⟨f4.le2, x08.le2, v, g, f1, (by omega), x08.wk (by omega) (by omega), f5, (vr.ex f4 (fun f i hi _ z => by unfold RP at z; omega) (fun i hi _ => by show aN A ≤ i; omega)).le (by omega), by rw [f2]; exact dn⟩
          · rw [if_neg zt, if_neg (fun w : nn two ≤ (0 : Int32) => by have := (nn_le (b := 0) (by omega) (by omega)).mp w; omega)]
            refine Bh.xx (must_eq hN r7 (c := 44) (by decide)) (fun e A' _ f => ?_) (fun p2 u A13 hp2 f => ?_)
            · have pf := PF.of x07 f
              exact ⟨f.ex.le2, pf.ex.le2, pf.wk (by omega) (by omega)⟩
            · obtain ⟨x13, r13⟩ := f
              have hp2' := (sMust_ok hp2).1
              have pn13 := r13.pn
              have x013 := x07.trans x13
              have n13a := x13.n1
              have n13b := x13.n2
              rw [nwO_ok (by omega), bo_some]
              have e15 : Ex RP 1 3 A13 (nw A13 9 0 3) := Ex.nw r13.gn (by omega)
              have e15f : Ex (fun _ _ => False) 1 3 A13 (nw A13 9 0 3) := Ex.nw r13.gn (by omega)
              have r15 := r13.ex e15f (fun _ w => w) (fun _ w => w)
              have n15 : aN (nw A13 9 0 3) = aN A13 + 1 := rfl
              have k15 : aK (nw A13 9 0 3) (aN A13) = 9 := by rw [aK_nw, if_pos rfl]
              have key : ∀ (m : Int32), m = (if two = 2 then 1 else 0) → Bh (X2_within_b68 N ra (nn two) (nw A13 9 0 3) v m (aN A13) (aN A13)) (eb (sSum B n rs (o + 1) p2) fun y' => eb (sMust B n 41 y'.1) fun p4 => .ok (p4, y.2 ++ y'.2 ++ [if two = 1 then 5 else 6])) (fun e A' => Le (nw A13 9 0 3) A' ∧ Le A7 A' ∧ AtF A n p 0 0 e A') (fun y' x' A' => Le (nw A13 9 0 3) A' ∧ Le A7 A' ∧ AtS A B n p o q μ t (dd + 3) y' x' A') := by
                intro m hm
                unfold X2_within_b68
                refine Bh.xa (sok _ _ r15 (by omega)) (fun e A' _ f => ?_) (fun y' x' A17 hy' f => ?_)
                · have pf := PF.of (x013.trans e15) f
                  exact ⟨f.ex.le2, f.ex.le2, x13.le2.trans (e15.le2.trans f.ex.le2), pf.ex.le2, pf.wk (by omega) (by omega)⟩
                · obtain ⟨v', g', rfl, hpy', x17, r17, vr', dn'⟩ := f
                  have pn17 := r17.pn
                  have n17a := x17.n1
                  have n17b := x17.n2
                  refine ⟨x17.le2, ?_⟩
                  have k17 : aK A17 (aN A13) = 9 := x17.K k15 (by decide)
                  have e18 : Ex (fun _ i => i = aN A13) 0 0 A17 (wI A17 900 (aN A13) 0 m) := Ex.wI r17.gn rfl (by omega)
                  have e19 : Ex (fun _ i => i = aN A13) 0 0 (wI A17 900 (aN A13) 0 m) (wR (wI A17 900 (aN A13) 0 m) 901 (aN A13) 0 (some v)) := Ex.wR e18.gn rfl (by omega)
                  have e20 : Ex (fun _ i => i = aN A13) 0 0 (wR (wI A17 900 (aN A13) 0 m) 901 (aN A13) 0 (some v)) (wR (wR (wI A17 900 (aN A13) 0 m) 901 (aN A13) 0 (some v)) 902 (aN A13) 0 (some v')) := Ex.wR e19.gn rfl (by omega)
                  have e1720 := e18.trans (e19.trans e20)
                  have hin : X10_init A17 (aN A13) m v v' = some ((), wR (wR (wI A17 900 (aN A13) 0 m) 901 (aN A13) 0 (some v)) 902 (aN A13) 0 (some v')) := by
                    unfold X10_init X8_init
                    rw [bd_some, if_pos (by rw [hm]; split <;> simp), pI_k k17, bo_some, pR_k (by exact k17), bo_some, pR_k (by exact k17), bo_some]
                  rw [bo_some, hin, bd_some]
                  generalize hA20 : wR (wR (wI A17 900 (aN A13) 0 m) 901 (aN A13) 0 (some v)) 902 (aN A13) 0 (some v') = A20 at e1720
                  have r20 := r17.ex e1720 (fun _ w => by omega) (fun _ w => by omega)
                  have x020 : Ex RP _ _ A A20 := ((x013.trans e15).trans x17).tr e1720 (fun f i w => Or.inr (rd.gn.nz i (by rw [show i = aN A13 from w]; omega) (by rw [show i = aN A13 from w]; omega)))
                  refine Bh.mono (b77_eq hN (by omega) r20) (fun e A' _ f => ?_) (fun y2 x2 A' _ f => ?_)
                  · have pf := PF.of x020 f
                    exact ⟨e1720.le2.trans f.ex.le2, x17.le2.trans (e1720.le2.trans f.ex.le2), x13.le2.trans (e15.le2.trans (x17.le2.trans (e1720.le2.trans f.ex.le2))), pf.ex.le2, pf.wk (by omega) (by omega)⟩
                  · obtain ⟨f1, f2, f3, f4, f5⟩ := f
                    have x021 := x020.trans f4
                    refine ⟨e1720.le2.trans f4.le2, x17.le2.trans (e1720.le2.trans f4.le2), x13.le2.trans (e15.le2.trans (x17.le2.trans (e1720.le2.trans f4.le2))), x021.le2, aN A13, pairG m g g', f1, (by omega), x021.wk (by omega) (by omega), f5, ?_, ?_⟩
                    · have vA : VR (dd + 2) q μ A' (fun i => aN A ≤ i) v g := ((((vr.ex x13 (fun f i hi _ z => by unfold RP at z; omega) (fun i hi hk => (⟨by show aN A ≤ i; omega, fun w => by
                          have := x13.K (i := i) rfl hk
                          have h0 := r13.gn.fresh (by omega)
                          rw [w] at this
                          rw [h0] at this
                          exact hk (by rw [w]; exact this.symm)⟩ : aN A ≤ i ∧ i ≠ aN A13))).ex e15 (fun f i hi _ z => by unfold RP at z; omega) (fun i hi _ => hi)).ex x17 (fun f i hi _ z => by unfold RP at z; omega) (fun i hi _ => hi)).ex e1720 (fun f i hi _ w => hi.2 w) (fun i hi _ => hi.1)).ex f4 (fun f i hi _ z => by unfold RP at z; omega) (fun i hi _ => hi)
                      have vB : VR (dd + 2) q μ A' (fun i => aN A ≤ i) v' g' := (vr'.ex e1720 (fun f i hi _ w => by rw [n15] at hi; omega) (fun i hi _ => (by show aN A ≤ i; rw [n15] at hi; omega))).ex f4 (fun f i hi _ z => by unfold RP at z; omega) (fun i hi _ => hi)
                      have kA20 : aK A20 (aN A13) = 9 := by rw [← hA20]; exact k17
                      have k0 : aK A20 (aN A13) ≠ 0 := by rw [kA20]; decide
                      refine ⟨by show aN A ≤ aN A13; omega, Or.inr (Or.inr (Or.inl ⟨f4.K kA20 (by decide), v, v', g, g', ?_, ?_, vA, vB, ?_⟩))⟩
                      · rw [f4.R _ k0 (fun z => by unfold RP at z; omega), ← hA20, aR_wR, if_neg (by omega), aR_wR, if_pos ⟨rfl, rfl, rfl⟩]
                      · rw [f4.R _ k0 (fun z => by unfold RP at z; omega), ← hA20, aR_wR, if_pos ⟨rfl, rfl, rfl⟩]
                      · rw [f4.I _ k0 (fun z => by unfold RP at z; omega), ← hA20, aI_wR, aI_wR, aI_wI, if_pos ⟨rfl, rfl, rfl⟩]
                    · rw [f2, hm]; exact dn.pair dn' two (by omega)
              have fin : ∀ X : Option (Option (Option Nat) × AH), Bh X (eb (sSum B n rs (o + 1) p2) fun y' => eb (sMust B n 41 y'.1) fun p4 => .ok (p4, y.2 ++ y'.2 ++ [if two = 1 then 5 else 6])) (fun e A' => Le (nw A13 9 0 3) A' ∧ Le A7 A' ∧ AtF A n p 0 0 e A') (fun y' x' A' => Le (nw A13 9 0 3) A' ∧ Le A7 A' ∧ AtS A B n p o q μ t (dd + 3) y' x' A') → Bh (ck (nw A13 9 0 3) X) (eb (sSum B n rs (o + 1) p2) fun y' => eb (sMust B n 41 y'.1) fun p4 => .ok (p4, y.2 ++ y'.2 ++ [if two = 1 then 5 else 6])) (fun e A2 => Le A7 A2 ∧ AtF A n p 0 0 e A2) (fun y' x' A' => Le A7 A' ∧ AtS A B n p o q μ t (dd + 3) y' x' A') := fun X hX => Bh.mono (Bh.kk hX (fun _ _ _ f => f.1) (fun _ _ _ _ f => f.1)) (fun _ _ _ f => f.2) (fun _ _ _ _ f => f.2)
              by_cases z2 : two = 2
              · rw [if_pos (show nn two = (2 : Int32) by rw [z2]; rfl)]
                exact fin _ (key 1 (by rw [if_pos z2]))
              · rw [if_neg (fun w : nn two = (2 : Int32) => z2 ((nn_eq (b := 2) (by omega) (by omega)).mp w))]
                exact fin _ (key 0 (by rw [if_neg z2]))
    · rw [if_neg z, if_neg (fun w : bv (B (sk B n p)) = (40 : Int32) => z ((bv_eq hle (by decide)).mp w)), thr, r1.at_]
      have pf := PF.of x1 (PF.thr r1.gn 1 (sk B n p))
      exact ⟨_, rfl, pf.ex.le2, pf.wk (by omega) (by omega)⟩
  exact Bh.kk core (fun _ _ _ f => f.1) (fun _ _ _ _ f => f.1)
end
