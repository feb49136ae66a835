/-! PURE LEVEL: atoms that are read, the whole -/
set_option maxRecDepth 100000
section
variable {N : Nat} {B : Nat → Nat} {n o μ : Nat} {t : Option Nat} {q : Bool} {A A0 A' : AH} {dd : Nat}
variable {ra : AH → Option (Option (Option Nat) × AH)} {rs : RA}
/-- 'meets' with an atom behind it -/
theorem looked_eq (ha : o < 6 → OKV B n true μ t ra (rs (o + 1)) (o + 1) dd 60 600 10 10) {p a : Nat} (rd : RD A B n p o μ t) (hf : aI A 303 9 0 = nn a) (hr : aN A + (100 * (n + 1 - p) + 20) ≤ CB) : Bh (X2_looked ra A 0) (if o = 6 then .error (4, a) else eb (rs (o + 1) p) fun x => .ok (x.1, x.2 ++ [60]) : Rs (Nat × List Int32)) (fun e A' => Le A A' ∧ PF (100 * (n + 1 - p) + 20) (4000 * (n + 1 - p) + 20) A A' e) (fun y x A' => Le A A' ∧ ∃ v g, x = some v ∧ p < y.1 ∧ Ex RP (100 * (y.1 - p) - 50) (4000 * (y.1 - p) - 550) A A' ∧ RD A' B n y.1 o μ t ∧ VR (dd + 1) true μ A' (fun i => aN A ≤ i) v g ∧ Den true μ y.2 g) := by
  have c0e : CB = 1000000 := rfl
  have lo0 := rd.gn.lo
  have hop := opens_eq rd a
  have pn := rd.pn
  unfold X2_looked
  refine Bh.kk ?_ (fun _ _ _ f => f.1) (fun _ _ _ _ f => f.1)
  rw [hf]
  by_cases zo : o = 6
  · rw [if_pos zo]
    rw [if_pos zo] at hop
    obtain ⟨A3, h3, f3⟩ := hop
    rw [h3, bx_none]
    exact ⟨A3, rfl, f3.ex.le2, f3.wk (by omega) (by omega)⟩
  · rw [if_neg zo]
    rw [if_neg zo] at hop
    obtain ⟨u, A1, h1, x1, r1, f1⟩ := hop
    have n1a := x1.n1
    have n1b := x1.n2
    have ob := rd.ob
    rw [h1, bx_some, nwO_ok (by omega), bo_some]
    have e3 : Ex RP 1 3 A1 (nw A1 12 0 3) := Ex.nw r1.gn (by omega)
    have e3f : Ex (fun _ _ => False) 1 3 A1 (nw A1 12 0 3) := Ex.nw r1.gn (by omega)
    have r3 := r1.ex e3f (fun _ w => w) (fun _ w => w)
    have n3 : aN (nw A1 12 0 3) = aN A1 + 1 := rfl
    have k3 : aK (nw A1 12 0 3) (aN A1) = 12 := by rw [aK_nw, if_pos rfl]
    have x13 := x1.trans e3
    have core : Bh (bxa (nw A1 12 0 3) (ra (nw A1 12 0 3)) fun r4 A5 => bo r4 fun q7 => bd (X13_init A5 (aN A1) 0 0 q7) fun _ A8 => lt2 (wI A8 304 9 0 ((aI A8 304 9 0) - 1)) fun A9 => some (some (some (aN A1)), A9)) (eb (rs (o + 1) p) fun x => .ok (x.1, x.2 ++ [60]) : Rs (Nat × List Int32)) (fun e A' => Le (nw A1 12 0 3) A' ∧ Le A A' ∧ PF (100 * (n + 1 - p) + 20) (4000 * (n + 1 - p) + 20) A A' e) (fun y x A' => Le (nw A1 12 0 3) A' ∧ Le A A' ∧ ∃ v g, x = some v ∧ p < y.1 ∧ Ex RP (100 * (y.1 - p) - 50) (4000 * (y.1 - p) - 550) A A' ∧ RD A' B n y.1 o μ t ∧ VR (dd + 1) true μ A' (fun i => aN A ≤ i) v g ∧ Den true μ y.2 g) := by
      refine Bh.xa (ha (by omega) _ _ r3 (by omega)) (fun e A' _ f => ?_) (fun y x A5 hy f => ?_)
      · have pf := PF.of x13 f
        exact ⟨f.ex.le2, f.ex.le2, pf.ex.le2, pf.wk (by omega) (by omega)⟩
      · obtain ⟨v, g, rfl, hpy, x5, r5, vr, dn⟩ := f
        have pn5 := r5.pn
        have n5a := x5.n1
        have n5b := x5.n2
        refine ⟨x5.le2, ?_⟩
        have k5 : aK A5 (aN A1) = 12 := x5.K k3 (by decide)
        have e6 : Ex (fun _ i => i = aN A1) 0 0 A5 (wR A5 1202 (aN A1) 0 (some 0)) := Ex.wR r5.gn rfl (by omega)
        have e7 : Ex (fun _ i => i = aN A1) 0 0 (wR A5 1202 (aN A1) 0 (some 0)) (wI (wR A5 1202 (aN A1) 0 (some 0)) 1200 (aN A1) 0 0) := Ex.wI e6.gn rfl (by omega)
        have e8 : Ex (fun _ i => i = aN A1) 0 0 (wI (wR A5 1202 (aN A1) 0 (some 0)) 1200 (aN A1) 0 0) (wR (wI (wR A5 1202 (aN A1) 0 (some 0)) 1200 (aN A1) 0 0) 1201 (aN A1) 0 (some v)) := Ex.wR e7.gn rfl (by omega)
        have e58 := e6.trans (e7.trans e8)
        have hin : X13_init A5 (aN A1) 0 0 v = some ((), wR (wI (wR A5 1202 (aN A1) 0 (some 0)) 1200 (aN A1) 0 0) 1201 (aN A1) 0 (some v)) := by
          unfold X13_init X8_init
          rw [pR_k k5, bo_some, bd_some, pI_k (by exact k5), bo_some, pR_k (by exact k5), bo_some]
        rw [bo_some, hin, bd_some]
        generalize hA8 : wR (wI (wR A5 1202 (aN A1) 0 (some 0)) 1200 (aN A1) 0 0) 1201 (aN A1) 0 (some v) = A8 at e58
        have r8 := r5.ex e58 (fun _ w => by omega) (fun _ w => by omega)
        rw [lt2_eq, r8.op, show (1 : Int32) = nn 1 from rfl, nn_sub (by omega), show o + 1 - 1 = o by omega]
        obtain ⟨r9, e9⟩ := r8.opn (o' := o) (by omega)
        have x08 : Ex RP _ _ A A8 := (x13.trans x5).tr e58 (fun f i w => Or.inr (rd.gn.nz i (by rw [show i = aN A1 from w]; omega) (by rw [show i = aN A1 from w]; omega)))
        have x09 := x08.trans e9
        have l59 := e58.le2.trans e9.le2
        refine ⟨_, _, rfl, l59, x5.le2.trans l59, x09.le2, aN A1, _, rfl, hpy, x09.wk (by show _ ≤ 100 * (y.1 - p) - 50; omega) (by show _ ≤ 4000 * (y.1 - p) - 550; omega), r9, ?_, dn.look⟩
        have vA : VR dd true μ (wI A8 304 9 0 (nn o)) (fun i => aN A ≤ i) v g := (vr.ex e58 (fun f i hi _ w => by rw [n3] at hi; omega) (fun i hi _ => (by show aN A ≤ i; rw [n3] at hi; omega))).ex e9 (fun f i hi _ z => by unfold RP at z; omega) (fun i hi _ => hi)
        have kA8 : aK A8 (aN A1) = 12 := by rw [← hA8]; exact k5
        refine ⟨by show aN A ≤ aN A1; omega, Or.inr (Or.inr (Or.inr (Or.inr ⟨rfl, kA8, v, g, ?_, ?_, ?_, vA, rfl⟩)))⟩
        · rw [aR_wI, ← hA8, aR_wR, if_neg (by omega), aR_wI, aR_wR, if_pos ⟨rfl, rfl, rfl⟩]
        · rw [aI_wI, if_neg (by omega), ← hA8, aI_wR, aI_wI, if_pos ⟨rfl, rfl, rfl⟩]
        · rw [aR_wI, ← hA8, aR_wR, if_pos ⟨rfl, rfl, rfl⟩]
    exact Bh.mono (Bh.kk core (fun _ _ _ f => f.1) (fun _ _ _ _ f => f.1)) (fun _ _ _ f => f.2) (fun _ _ _ _ f => f.2)
/-- the tail of an atom: a word that is no part -/
theorem b80_eq (hN : 5000 ≤ N) (hq : q = true ↔ μ = 447) (ha : o < 6 → OKV B n q μ t ra (rs (o + 1)) (o + 1) dd 60 600 10 10) (hμ : μ < 1000) {p a x1 : Nat} {w : List Int32} (rd : RD A B n p o μ t) (hf : aI A 303 9 0 = nn a) (hw : StR A x1 w) (hr : aN A + (100 * (n + 1 - p) + 20) ≤ CB) :
    Bh (X2_atom_b80 N ra A x1) (if q = true ∧ w = kw 21 then (if o = 6 then .error (4, a) else eb (rs (o + 1) p) fun x => .ok (x.1, x.2 ++ [60])) else if w = kw 26 then sWithin B n rs 1 o p else if w = kw 27 then sWithin B n rs 2 o p else .error (1, a) : Rs (Nat × List Int32)) (fun e A' => Le A A' ∧ PF (100 * (n + 1 - p) + 20) (4000 * (n + 1 - p) + 20) A A' e) (fun y x A' => Le A A' ∧ ∃ v g, x = some v ∧ p < y.1 ∧ Ex RP (100 * (y.1 - p) - 50) (4000 * (y.1 - p) - 550) A A' ∧ RD A' B n y.1 o μ t ∧ VR (dd + 3) q μ A' (fun i => aN A ≤ i) v g ∧ Den q μ y.2 g) := by
  have g := rd.gn
  have within : ∀ two, two ≤ 2 → Bh (X2_atom_b159 N ra A (nn two)) (sWithin B n rs two o p) (fun e A' => Le A A' ∧ PF (100 * (n + 1 - p) + 20) (4000 * (n + 1 - p) + 20) A A' e) (fun y x A' => Le A A' ∧ ∃ v g, x = some v ∧ p < y.1 ∧ Ex RP (100 * (y.1 - p) - 50) (4000 * (y.1 - p) - 550) A A' ∧ RD A' B n y.1 o μ t ∧ VR (dd + 3) q μ A' (fun i => aN A ≤ i) v g ∧ Den q μ y.2 g) := by
    intro two h2
    unfold X2_atom_b159
    have := within_eq hN ha h2 rd (by omega)
    have e : sWithin B n rs two o p = eb (sWithin B n rs two o p) fun y => .ok y := by cases sWithin B n rs two o p <;> rfl
    rw [e]
    refine Bh.xa this (fun e A' _ f => ⟨f.1, f.1, f.2.wk (by omega) (by omega)⟩) (fun y x A' hy f => ?_)
    obtain ⟨l, v, g, rfl, h1, h2, h3⟩ := f
    rw [bo_some]
    exact ⟨l, _, A', rfl, Le.refl _, l, v, g, rfl, h1, h2.wk (by omega) (by omega), h3⟩
  have b143 : w = kw 26 ∨ w = kw 27 → Bh (X2_atom_b143 N ra A x1) (if w = kw 26 then sWithin B n rs 1 o p else sWithin B n rs 2 o p) (fun e A' => Le A A' ∧ PF (100 * (n + 1 - p) + 20) (4000 * (n + 1 - p) + 20) A A' e) (fun y x A' => Le A A' ∧ ∃ v g, x = some v ∧ p < y.1 ∧ Ex RP (100 * (y.1 - p) - 50) (4000 * (y.1 - p) - 550) A A' ∧ RD A' B n y.1 o μ t ∧ VR (dd + 3) q μ A' (fun i => aN A ≤ i) v g ∧ Den q μ y.2 g) := by
    intro hh
    unfold X2_atom_b143
    rw [if_pos hw.1, equals_eq hN hw (g.kst (j := 26) (by decide)), bo_some]
    by_cases z : w = kw 26
    · rw [if_pos z, if_pos z, if_neg (by decide)]; exact within 1 (by omega)
    · rw [if_neg z, if_neg z, if_pos rfl]; exact within 2 (by omega)
  have b101 : Bh (X2_atom_b101 N ra A x1 (-1)) (if w = kw 26 then sWithin B n rs 1 o p else if w = kw 27 then sWithin B n rs 2 o p else .error (1, a) : Rs (Nat × List Int32)) (fun e A' => Le A A' ∧ PF (100 * (n + 1 - p) + 20) (4000 * (n + 1 - p) + 20) A A' e) (fun y x A' => Le A A' ∧ ∃ v g, x = some v ∧ p < y.1 ∧ Ex RP (100 * (y.1 - p) - 50) (4000 * (y.1 - p) - 550) A A' ∧ RD A' B n y.1 o μ t ∧ VR (dd + 3) q μ A' (fun i => aN A ≤ i) v g ∧ Den q μ y.2 g) := by
    unfold X2_atom_b101
    rw [if_pos rfl, if_pos hw.1, equals_eq hN hw (g.kst (j := 26) (by decide)), bo_some]
    by_cases z : w = kw 26
    · have := b143 (Or.inl z)
      rw [if_pos z] at this
      rw [if_pos z, if_pos z, if_neg (by decide)]; exact this
    · rw [if_neg z, if_neg z, if_pos rfl, if_pos hw.1, equals_eq hN hw (g.kst (j := 27) (by decide)), bo_some]
      by_cases z2 : w = kw 27
      · have := b143 (Or.inr z2)
        rw [if_neg z] at this
        rw [if_pos z2, if_pos z2, if_neg (by decide)]; exact this
      · rw [if_neg z2, if_neg z2, if_pos rfl, thr, hf]
        have pf := PF.thr g 1 a
        exact ⟨_, rfl, pf.ex.le2, pf.wk (by omega) (by omega)⟩
  unfold X2_atom_b80
  rw [rd.cx]
  by_cases zq : q = true
  · have hm := hq.mp zq
    rw [if_pos (show nn μ = (447 : Int32) by rw [hm]; rfl), show CB + 82 = CB + 80 + 2 from rfl, find_eq hN g hw (by decide), bo_some, show kaL.getD 2 [] = [21] from rfl]
    unfold fdx fdx
    by_cases z : w = kw 21
    · rw [if_pos z, if_pos ⟨zq, z⟩]
      subst zq
      unfold X2_atom_b101
      rw [if_neg (by decide)]
      have e : (if o = 6 then .error (4, a) else eb (rs (o + 1) p) fun x => .ok (x.1, x.2 ++ [60]) : Rs (Nat × List Int32)) = eb (if o = 6 then .error (4, a) else eb (rs (o + 1) p) fun x => .ok (x.1, x.2 ++ [60]) : Rs (Nat × List Int32)) fun y => .ok y := by
        generalize (if o = 6 then .error (4, a) else eb (rs (o + 1) p) fun x => .ok (x.1, x.2 ++ [60]) : Rs (Nat × List Int32)) = zz
        cases zz <;> rfl
      rw [e]
      refine Bh.xa (looked_eq ha rd hf hr) (fun e A' _ f => ⟨f.1, f.1, f.2⟩) (fun y x A' hy f => ?_)
      obtain ⟨l, v, g, rfl, h1, h2, h3, h4, h5⟩ := f
      rw [bo_some]
      exact ⟨l, _, A', rfl, Le.refl _, l, v, g, rfl, h1, h2, h3, h4.le (by omega), h5⟩
    · rw [if_neg z, if_neg (fun y => z y.2)]
      exact b101
  · rw [if_neg (fun y : q = true ∧ w = kw 21 => zq y.1), if_neg (fun y : nn μ = (447 : Int32) => zq (hq.mpr ((nn_eq (b := 447) (by omega) (by omega)).mp y)))]
    exact b101
theorem sNum_ok {l m p : Nat} {v : Nat × Nat × Nat} (hB : BOK B n) (h : sNum B n l m p = .ok v) : v.2.1 = sk B n p ∧ v.1 ≤ m ∧ sk B n p < v.2.2 ∧ l ≤ v.1 ∧ v.2.2 = rp isDg B n (sk B n p) := by
  unfold sNum at h
  split at h
  · next c =>
    split at h
    · cases h
    · split at h
      · cases h
      · split at h
        · next z =>
          cases h
          have hlt : sk B n p < n := by
            rcases Nat.lt_or_ge (sk B n p) n with y | y
            · exact y
            · rw [hB.ge _ y] at c; exact absurd c (by decide)
          have := rp_ge isDg B n (sk B n p + 1)
          rw [← rp_t hlt c] at this
          exact ⟨rfl, z.2, this, z.1, rfl⟩
        · cases h
  · cases h
theorem sNum_sk {l m p : Nat} (hB : BOK B n) : sNum B n l m (sk B n p) = sNum B n l m p := by unfold sNum; rw [sk_sk hB]
theorem sWord_sk {p : Nat} (hB : BOK B n) : sWord B n (sk B n p) = sWord B n p := by unfold sWord; rw [sk_sk hB]
theorem atom_ok (hN : 5000 ≤ N) (hq : q = true ↔ μ = 447) (hμ : μ = 1 ∨ μ = 63 ∨ μ = 127 ∨ μ = 447) (ha : o < 6 → OKV B n q μ t ra (rs (o + 1)) (o + 1) dd 60 600 10 10) : OKV B n q μ t (X2_atom N ra) (fun p => sAtom B n rs q μ o p) o (dd + 3) 60 600 10 10 := by
  intro A p rd hr
  obtain ⟨A2, h2, x2, r2, f2⟩ := here_eq hN rd
  obtain ⟨A4, h4, x4, r4, f4⟩ := here_eq hN r2
  rw [sk_sk rd.bk] at h4 r4
  have hle := rd.bk.le (sk B n p)
  have hge := sk_ge B n p
  have pn := rd.pn
  have hsn := sk_le rd
  have c0e : CB = 1000000 := rfl
  have lo0 := rd.gn.lo
  have n2a := x2.n1
  have n2b := x2.n2
  have x04 := x2.trans x4
  have n4a := x04.n1
  have n4b := x04.n2
  show Bh (X2_atom N ra A) (sAtom B n rs q μ o p) _ _
  unfold X2_atom sAtom
  refine Bh.kk ?_ (fun _ _ _ f => f.ex.le2) (fun _ _ _ _ f => by obtain ⟨v, g, h1, h2, h3, h4⟩ := f; exact h3.le2)
  rw [h2, bd_some]
  by_cases z : B (sk B n p) = 40
  · rw [if_pos z, if_pos (show bv (B (sk B n p)) = (40 : Int32) from (bv_eq hle (by decide)).mpr z)]
    have e : sWithin B n rs 0 o (sk B n p) = eb (sWithin B n rs 0 o (sk B n p)) fun y => .ok y := by cases sWithin B n rs 0 o (sk B n p) <;> rfl
    rw [e]
    refine Bh.xa (within_eq (two := 0) hN ha (by omega) r2 (by omega)) (fun e A' _ f => ⟨f.1, (PF.of x2 f.2).wk (by omega) (by omega)⟩) (fun y x A' hy f => ?_)
    obtain ⟨l, v, g, rfl, h1, h3, h5, h6, h7⟩ := f
    rw [bo_some]
    exact ⟨l, _, A', rfl, Le.refl _, v, g, rfl, by omega, (x2.trans h3).wk (by omega) (by omega), h5, h6.mono (fun i hi => by omega), h7⟩
  · rw [if_neg z, if_neg (fun w : bv (B (sk B n p)) = (40 : Int32) => z ((bv_eq hle (by decide)).mp w)), h4, bd_some]
    by_cases zd : isDg (B (sk B n p)) = true
    · rw [if_pos zd, dig_t hle zd, bo_some, if_neg (by decide), nwO_ok (by omega), bo_some]
      have e5 : Ex RP 1 1 A4 (nw A4 10 0 1) := Ex.nw r4.gn (by omega)
      have e5f : Ex (fun _ _ => False) 1 1 A4 (nw A4 10 0 1) := Ex.nw r4.gn (by omega)
      have r5 := r4.ex e5f (fun _ w => w) (fun _ w => w)
      have k5 : aK (nw A4 10 0 1) (aN A4) = 10 := by rw [aK_nw, if_pos rfl]
      have x05 := x04.trans e5
      have core : Bh (bx (X2_number N (nw A4 10 0 1) 0 9999) fun r30 A31 => bd (X11_init A31 (aN A4) (Int32.toInt64 r30)) fun _ A33 => some (some (some (aN A4)), A33)) (eb (sNum B n 0 9999 (sk B n p)) (fun v => .ok (v.2.2, [nn (1000 + v.1)])) : Rs (Nat × List Int32)) (fun e A' => Le (nw A4 10 0 1) A' ∧ PF (100 * (n + 1 - p) + 10) (4000 * (n + 1 - p) + 10) A A' e) (fun y x A' => Le (nw A4 10 0 1) A' ∧ ∃ v g, x = some v ∧ p < y.1 ∧ Ex RP (100 * (y.1 - p) - 60) (4000 * (y.1 - p) - 600) A A' ∧ RD A' B n y.1 o μ t ∧ VR (dd + 3) q μ A' (fun i => aN A ≤ i) v g ∧ Den q μ y.2 g) := by
        refine Bh.xx (number_eq hN r5 (l := 0) (m := 9999) (by decide) (by decide)) (fun e A' _ f => ⟨f.ex.le2, (PF.of x05 f).wk (by omega) (by omega)⟩) (fun v x A6 hv f => ?_)
        obtain ⟨rfl, x6, r6, f6⟩ := f
        obtain ⟨s1, s2, s3, s4, s5⟩ := sNum_ok rd.bk hv
        rw [sk_sk rd.bk] at s1 s3
        have k6 : aK A6 (aN A4) = 10 := x6.K k5 (by decide)
        have e7 : Ex (fun _ i => i = aN A4) 0 0 A6 (wJ A6 1000 (aN A4) 0 (Int32.toInt64 (nn v.1))) := Ex.wJ r6.gn rfl
        have r7 := r6.ex e7 (fun _ w => by omega) (fun _ w => by omega)
        have x07 : Ex RP _ _ A _ := (x05.trans x6).tr e7 (fun f i w => Or.inr (rd.gn.nz i (by rw [show i = aN A4 from w]; omega) (by rw [show i = aN A4 from w]; omega)))
        refine ⟨some (aN A4), wJ A6 1000 (aN A4) 0 (Int32.toInt64 (nn v.1)), ?_, x6.le2.trans e7.le2, aN A4, _, rfl, (by show p < v.2.2; omega), x07.wk (by show _ ≤ 100 * (v.2.2 - p) - 60; omega) (by show _ ≤ 4000 * (v.2.2 - p) - 600; omega), r7, ⟨by show aN A ≤ aN A4; omega, Or.inl ⟨k6, _, (by rw [aJ_wJ, if_pos ⟨rfl, rfl, rfl⟩]), rfl⟩⟩, Den.num s2⟩
        unfold X11_init X8_init
        rw [bd_some, pJ_k k6, bo_some, bd_some]
      exact Bh.mono (Bh.kk core (fun _ _ _ f => f.1) (fun _ _ _ _ f => f.1)) (fun _ _ _ f => f.2) (fun _ _ _ _ f => f.2)
    · rw [if_neg zd, dig_f hle zd, bo_some, if_pos rfl]
      refine Bh.xa (word_eq hN r4 (by omega)) (fun e A' _ f => ⟨f.ex.le2, (PF.of x04 f).wk (by omega) (by omega)⟩) (fun w x A7 hw f => ?_)
      obtain ⟨q9, rfl, x7, r7, f7, ws⟩ := f
      obtain ⟨s1, s2, s3, s4⟩ := sWord_ok hw
      rw [sk_sk rd.bk] at s1 s2 s3
      have hlt : sk B n p < n := by
        rcases Nat.lt_or_ge (sk B n p) n with y | y
        · exact y
        · rw [rd.bk.ge _ y] at s3; exact absurd s3 (by decide)
      have hw2 : sk B n p < w.2 := by
        rw [s2, rp_t hlt s3]
        have := rp_ge isLt B n (sk B n p + 1); omega
      have pn7 := r7.pn
      have x07 := x04.trans x7
      have n7a := x07.n1
      have n7b := x07.n2
      refine ⟨x7.le2, ?_⟩
      rw [bo_some, show CB + 81 = CB + 80 + 1 from rfl, find_eq hN r7.gn ws.st (by decide), bo_some, show kaL.getD 1 [] = askL from rfl]
      have tail : Bh (X2_atom_b80 N ra A7 q9) (if q = true ∧ wdk B w.1 w.2 = kw 21 then (if o = 6 then .error (4, w.1) else eb (rs (o + 1) w.2) fun x => .ok (x.1, x.2 ++ [60])) else if wdk B w.1 w.2 = kw 26 then sWithin B n rs 1 o w.2 else if wdk B w.1 w.2 = kw 27 then sWithin B n rs 2 o w.2 else .error (1, w.1) : Rs (Nat × List Int32)) (fun e A2 => Le A7 A2 ∧ PF (100 * (n + 1 - p) + 10) (4000 * (n + 1 - p) + 10) A A2 e) (fun y x A' => Le A7 A' ∧ ∃ v g, x = some v ∧ p < y.1 ∧ Ex RP (100 * (y.1 - p) - 60) (4000 * (y.1 - p) - 600) A A' ∧ RD A' B n y.1 o μ t ∧ VR (dd + 3) q μ A' (fun i => aN A ≤ i) v g ∧ Den q μ y.2 g) := by
        refine Bh.mono (b80_eq hN hq ha (by omega) r7 f7 ws.st (by omega)) (fun e A' _ f => ⟨f.1, (PF.of x07 f.2).wk (by omega) (by omega)⟩) (fun y x A' _ f => ?_)
        obtain ⟨l, v, g, rfl, h1, h3, h5, h6, h7⟩ := f
        exact ⟨l, v, g, rfl, by omega, (x07.trans h3).wk (by omega) (by omega), h5, h6.mono (fun i hi => by omega), h7⟩
      unfold sPart
      cases hfd : fdx (wdk B w.1 w.2) askL 0 with
      | none =>
        rw [show fdI none = (-1 : Int32) from rfl, if_pos rfl]
        exact tail
      | some k =>
        have hk := (fdx_lt askL 0 k hfd).2
        have hk9 : k < 9 := by simpa [askL] using hk
        rw [show fdI (some k) = nn k from rfl, if_neg (nn_ne1 (by omega)), r7.cx, has_mu μ hμ k hk9, bo_some]
        by_cases zt : Nat.testBit μ k = true
        · rw [if_pos zt, if_neg (by decide), nwO_ok (by omega), bo_some]
          have e8 : Ex RP 1 1 A7 (nw A7 11 0 1) := Ex.nw r7.gn (by omega)
          have e8f : Ex (fun _ _ => False) 1 1 A7 (nw A7 11 0 1) := Ex.nw r7.gn (by omega)
          have r8 := r7.ex e8f (fun _ w => w) (fun _ w => w)
          have k8 : aK (nw A7 11 0 1) (aN A7) = 11 := by rw [aK_nw, if_pos rfl]
          have e9 : Ex (fun _ i => i = aN A7) 0 0 (nw A7 11 0 1) (wI (nw A7 11 0 1) 1100 (aN A7) 0 (nn k)) := Ex.wI r8.gn rfl (by omega)
          have r9 := r8.ex e9 (fun _ w => by omega) (fun _ w => by omega)
          have x09 : Ex RP _ _ A _ := (x07.trans e8).tr e9 (fun f i w => Or.inr (rd.gn.nz i (by rw [show i = aN A7 from w]; omega) (by rw [show i = aN A7 from w]; omega)))
          show Bh _ (match (if Nat.testBit μ k = true then some k else none) with
            | some k => .ok (w.2, [nn (40 + k)])
            | none => _ : Rs (Nat × List Int32)) _ _
          rw [if_pos zt]
          refine ⟨some (aN A7), wI (nw A7 11 0 1) 1100 (aN A7) 0 (nn k), ?_, e8.le2.trans e9.le2, aN A7, _, rfl, (by show p < w.2; omega), x09.wk (by show _ ≤ 100 * (w.2 - p) - 60; omega) (by show _ ≤ 4000 * (w.2 - p) - 600; omega), r9, ⟨by show aN A ≤ aN A7; omega, Or.inr (Or.inl ⟨k8, k, hk9, zt, (by rw [aI_wI, if_pos ⟨rfl, rfl, rfl⟩]), rfl⟩)⟩, Den.part hk9 zt⟩
          unfold X12_init X8_init
          rw [bd_some, pI_k k8, bo_some, bd_some, ck_ok e9.le2]
        · rw [if_neg zt, if_pos rfl]
          show Bh _ (match (if Nat.testBit μ k = true then some k else none) with
            | some k => .ok (w.2, [nn (40 + k)])
            | none => _ : Rs (Nat × List Int32)) _ _
          rw [if_neg zt]
          exact tail
/-- all the depths -/
theorem atomG_ok (hN : 5000 ≤ N) (hq : q = true ↔ μ = 447) (hμ : μ = 1 ∨ μ = 63 ∨ μ = 127 ∨ μ = 447) : ∀ (d o : Nat), o ≤ 6 → 7 ≤ o + d → OKV B n q μ t (atomG N d) (sAtomF B n q μ d o) o (3 * (7 - o)) 60 600 10 10 := by
  intro d
  induction d with
  | zero => intro o h1 h2; omega
  | succ d ih =>
    intro o h1 h2
    have := atom_ok (N := N) (B := B) (n := n) (o := o) (t := t) (ra := atomG N d) (rs := sAtomF B n q μ d) (dd := 3 * (6 - o)) hN hq hμ (fun ho => by
      have := ih (o + 1) (by omega) (by omega)
      rw [show 3 * (7 - (o + 1)) = 3 * (6 - o) by omega] at this
      exact this)
    rw [show 3 * (6 - o) + 3 = 3 * (7 - o) by omega] at this
    exact this
end
