/-! PURE LEVEL: facts that are read, the whole -/
set_option maxRecDepth 100000
section
variable {N : Nat} {B : Nat → Nat} {n o μ : Nat} {t : Option Nat} {q : Bool} {A A' : AH} {dt dv : Nat}
variable {rf : AH → Option (Option (Option Nat) × AH)} {rs rfs : RA}
theorem fact_ok (hN : 5000 ≤ N) (hv : dv ≤ 24) (hsum : OKV B n q μ t (X2_sum N (atomF N)) (rs o) o dv 50 546 20 64) (hadv : BOK B n → Adv B n (rs o)) (hf : o < 6 → OKT B n q μ t rf (rfs (o + 1)) (o + 1) dt 0 30 300 30 100) : OKT B n q μ t (X2_fact N rf) (fun p => sFact B n rs rfs o p) o (dt + 2) 0 30 300 30 100 := by
  intro A p rd hr
  obtain ⟨A2, h2, x2, r2, f2⟩ := here_eq hN rd
  have hle := rd.bk.le (sk B n p)
  have hge := sk_ge B n p
  have pn := rd.pn
  have hsn := sk_le rd
  have c0e : CB = 1000000 := rfl
  have lo0 := rd.gn.lo
  have ob := rd.ob
  have n2a := x2.n1
  have n2b := x2.n2
  have hadv := hadv rd.bk
  have wlp := wl_le rd
  have wlp2 : wl B n p ≤ n - sk B n p := by have := wl_le r2; rw [wl_sk rd.bk] at this; exact this
  show Bh (X2_fact N rf A) (sFact B n rs rfs o p) _ _
  unfold X2_fact sFact
  refine Bh.kk ?_ (fun _ _ _ f => f.ex.le2) (fun _ _ _ _ f => by obtain ⟨v, g, h1, h2, h3, h4⟩ := f; exact h3.le2)
  rw [h2, bd_some]
  have zw : ∀ m, 0 * wl B n m = 0 := fun m => Nat.zero_mul _
  by_cases z : B (sk B n p) = 91
  · rw [if_pos z, if_pos (show bv (B (sk B n p)) = (91 : Int32) from (bv_eq hle (by decide)).mpr z), r2.at_]
    have hop := opens_eq r2 (sk B n p)
    by_cases zo : o = 6
    · rw [if_pos zo]
      rw [if_pos zo] at hop
      obtain ⟨A3, h3, f3⟩ := hop
      rw [h3, bx_none]
      exact ⟨A3, rfl, (PF.of x2 f3).wk (by omega) (by omega)⟩
    · rw [if_neg zo]
      rw [if_neg zo] at hop
      obtain ⟨u, A3, h3, x3, r3, f3⟩ := hop
      rw [h3, bx_some, lt2_eq, r3.at_, nn_succ]
      have hlt : sk B n p < n := sk_lt rd.bk rd.pn z (by decide)
      obtain ⟨r5, x5⟩ := r3.mv (p' := sk B n p + 1) (by omega)
      have x05 := x2.trans (x3.trans x5)
      have n05a := x05.n1
      have n05b := x05.n2
      refine Bh.xa (test_ok hN (hf (by omega)) _ _ r5 (by omega)) (fun e A' _ f => ⟨f.ex.le2, (PF.of x05 f).wk (by omega) (by omega)⟩) (fun y x A7 hy f => ?_)
      obtain ⟨v, g, rfl, hpy, x7, r7, vr, dn⟩ := f
      have pn7 := r7.pn
      have wl7 := wl_le r7
      have x07 := x05.trans x7
      refine ⟨x7.le2, ?_⟩
      rw [bo_some]
      refine Bh.xx (must_eq hN r7 (c := 93) (by decide)) (fun e A' _ f => ⟨f.ex.le2, (PF.of x07 f).wk (by omega) (by omega)⟩) (fun p2 u A8 hp2 f => ?_)
      obtain ⟨x8, r8⟩ := f
      obtain ⟨m1, m2, m3⟩ := sMust_ok hp2
      have w0 : wl B n y.1 = 0 := wl_zero (by rw [m3]; decide)
      rw [lt2_eq, r8.op, show (1 : Int32) = nn 1 from rfl, nn_sub (by omega), show o + 1 - 1 = o by omega]
      obtain ⟨r9, x9⟩ := r8.opn (o' := o) (by omega)
      have x09 := x07.trans (x8.trans x9)
      have z2 := zw p2
      exact ⟨_, _, rfl, x8.le2.trans x9.le2, v, g, rfl, (by show p < p2; omega), x09.wk (by show _ ≤ 110 * (p2 - p) - 30 + 3 * (0 * wl B n p2); omega) (by show _ ≤ 4100 * (p2 - p) - 300 + 6 * (0 * wl B n p2); omega), r9, ((vr.ex (x8.trans x9) (fun f i hi _ z => by unfold RP at z; omega) (fun i hi _ => (by show aN A ≤ i; omega)))), dn⟩
  · rw [if_neg z, if_neg (fun w : bv (B (sk B n p)) = (91 : Int32) => z ((bv_eq hle (by decide)).mp w))]
    refine Bh.xa (passw_eq hN r2 (by omega) (j := 24) (by decide)) (fun e A' _ f => ⟨f.ex.le2, (PF.of x2 f).wk (by omega) (by omega)⟩) (fun y x A4 hy f => ?_)
    obtain ⟨rfl, x4, r4, f4⟩ := f
    rw [wl_sk rd.bk] at x4
    rw [sk_sk rd.bk] at f4
    have n4a := x4.n1
    have n4b := x4.n2
    refine ⟨x4.le2, ?_⟩
    have x04 := x2.trans x4
    obtain ⟨b, p'⟩ := y
    cases b with
    | true =>
      obtain ⟨hp', hlt⟩ := sPass_true hy
      rw [sk_sk rd.bk] at hp' hlt
      have hwp := wl_pos rd.bk hlt
      have hwl : wl B n p = p' - sk B n p := by rw [hp']; rfl
      have r4 : RD A4 B n p' o μ t := r4
      have pn4 := r4.pn
      rw [if_neg (show ¬ (if (true, p').1 = true then (1 : Int32) else 0) = 0 by simp), if_pos (show (true, p').1 = true from rfl), f4 rfl]
      have hop := opens_eq r4 (sk B n p)
      by_cases zo : o = 6
      · rw [if_pos zo]
        rw [if_pos zo] at hop
        obtain ⟨A3, h3, f3⟩ := hop
        rw [h3, bx_none]
        exact ⟨A3, rfl, f3.ex.le2, (PF.of x04 f3).wk (by omega) (by omega)⟩
      · rw [if_neg zo]
        rw [if_neg zo] at hop
        obtain ⟨u, A5, h5, x5, r5, f5⟩ := hop
        have n5a := x5.n1
        have n5b := x5.n2
        rw [h5, bx_some, nwO_ok (by omega), bo_some]
        have e6 : Ex RP 1 1 A5 (nw A5 14 0 1) := Ex.nw r5.gn (by omega)
        have e6f : Ex (fun _ _ => False) 1 1 A5 (nw A5 14 0 1) := Ex.nw r5.gn (by omega)
        have r6 := r5.ex e6f (fun _ w => w) (fun _ w => w)
        have n6 : aN (nw A5 14 0 1) = aN A5 + 1 := rfl
        have k6 : aK (nw A5 14 0 1) (aN A5) = 14 := by rw [aK_nw, if_pos rfl]
        have x06 := x04.trans (x5.trans e6)
        have core : Bh (bxa (nw A5 14 0 1) (rf (nw A5 14 0 1)) fun r30 A31 => bo r30 fun q33 => bd (X16_init A31 (aN A5) q33) fun _ A34 => lt2 (wI A34 304 9 0 ((aI A34 304 9 0) - 1)) fun A35 => some (some (some (aN A5)), A35)) (eb (rfs (o + 1) p') fun x => .ok (x.1, x.2 ++ [12]) : Rs (Nat × List Int32)) (fun e A' => Le (nw A5 14 0 1) A' ∧ PF (110 * (n + 1 - p) + 30) (4100 * (n + 1 - p) + 100) A A' e) (fun y x A' => Le (nw A5 14 0 1) A' ∧ ∃ v g, x = some v ∧ p < y.1 ∧ Ex RP (110 * (y.1 - p) - 30 + 3 * (0 * wl B n y.1)) (4100 * (y.1 - p) - 300 + 6 * (0 * wl B n y.1)) A A' ∧ RD A' B n y.1 o μ t ∧ TR 24 (dt + 2) q μ A' (fun i => aN A ≤ i) v g ∧ Den q μ y.2 g) := by
          refine Bh.xa (hf (by omega) _ _ r6 (by omega)) (fun e A' _ f => ⟨f.ex.le2, f.ex.le2, (PF.of x06 f).wk (by omega) (by omega)⟩) (fun y x A7 hy f => ?_)
          obtain ⟨v, g, rfl, hpy, x7, r7, vr, dn⟩ := f
          have pn7 := r7.pn
          have z7 := zw y.1
          have n7a := x7.n1
          have n7b := x7.n2
          refine ⟨x7.le2, ?_⟩
          have k7 : aK A7 (aN A5) = 14 := x7.K k6 (by decide)
          have e8 : Ex (fun _ i => i = aN A5) 0 0 A7 (wR A7 1400 (aN A5) 0 (some v)) := Ex.wR r7.gn rfl (by omega)
          have hin : X16_init A7 (aN A5) v = some ((), wR A7 1400 (aN A5) 0 (some v)) := by
            unfold X16_init X14_init
            rw [bd_some, pR_k k7, bo_some]
          rw [bo_some, hin, bd_some]
          have r8 := r7.ex e8 (fun _ w => by omega) (fun _ w => by omega)
          rw [lt2_eq, r8.op, show (1 : Int32) = nn 1 from rfl, nn_sub (by omega), show o + 1 - 1 = o by omega]
          obtain ⟨r9, e9⟩ := r8.opn (o' := o) (by omega)
          have x08 : Ex RP _ _ A _ := (x06.trans x7).tr e8 (fun f i w => Or.inr (rd.gn.nz i (by rw [show i = aN A5 from w]; omega) (by rw [show i = aN A5 from w]; omega)))
          have x09 := x08.trans e9
          have l79 := e8.le2.trans e9.le2
          refine ⟨_, _, rfl, l79, x7.le2.trans l79, aN A5, _, rfl, (by show p < y.1; omega), x09.wk (by show _ ≤ 110 * (y.1 - p) - 30 + 3 * (0 * wl B n y.1); omega) (by show _ ≤ 4100 * (y.1 - p) - 300 + 6 * (0 * wl B n y.1); omega), r9, ?_, dn.not vr.tv⟩
          have vA : TR 24 dt q μ (wI (wR A7 1400 (aN A5) 0 (some v)) 304 9 0 (nn o)) (fun i => aN A ≤ i) v g := (vr.ex e8 (fun f i hi _ w => by rw [n6] at hi; omega) (fun i hi _ => (by show aN A ≤ i; rw [n6] at hi; omega))).ex e9 (fun f i hi _ z => by unfold RP at z; omega) (fun i hi _ => hi)
          exact ⟨by show aN A ≤ aN A5; omega, Or.inr (Or.inl ⟨k7, v, g, by rw [aR_wI, aR_wR, if_pos ⟨rfl, rfl, rfl⟩], vA.up, rfl⟩)⟩
        have core := Bh.kk (A := nw A5 14 0 1) core (fun _ _ _ f => f.1) (fun _ _ _ _ f => f.1)
        have l46 : Le A4 (nw A5 14 0 1) := x5.le2.trans e6.le2
        exact Bh.mono core (fun _ _ _ f => ⟨l46.trans f.1, f.2⟩) (fun _ _ _ _ f => ⟨l46.trans f.1, f.2⟩)
    | false =>
      have hp' := sPass_nf rd.bk hy
      subst hp'
      have r4 : RD A4 B n (sk B n p) o μ t := r4
      rw [if_pos (show (if (false, sk B n p).1 = true then (1 : Int32) else 0) = 0 from rfl), if_neg (show ¬ (false, sk B n p).1 = true by simp)]
      refine Bh.xa (passw_eq hN r4 (by omega) (j := 25) (by decide)) (fun e A' _ f => ⟨f.ex.le2, f.ex.le2, (PF.of x04 f).wk (by omega) (by omega)⟩) (fun y x A7 hy f => ?_)
      obtain ⟨rfl, x7, r7, f7⟩ := f
      rw [wl_sk rd.bk] at x7
      have n7a := x7.n1
      have n7b := x7.n2
      refine ⟨x7.le2, ?_⟩
      have x07 := x04.trans x7
      obtain ⟨b, p'⟩ := y
      cases b with
      | true =>
        obtain ⟨hp', hlt⟩ := sPass_true hy
        rw [sk_sk rd.bk] at hp' hlt
        have hwp := wl_pos rd.bk hlt
        have hwl : wl B n p = p' - sk B n p := by rw [hp']; rfl
        have r7 : RD A7 B n p' o μ t := r7
        have pn7 := r7.pn
        have z7 := zw p'
        rw [if_neg (show ¬ (if (true, p').1 = true then (1 : Int32) else 0) = 0 by simp), if_pos (show (true, p').1 = true from rfl), nwO_ok (by omega), bo_some]
        have e8 : Ex RP 1 0 A7 (nw A7 15 0 0) := Ex.nw r7.gn (by omega)
        have e8f : Ex (fun _ _ => False) 1 0 A7 (nw A7 15 0 0) := Ex.nw r7.gn (by omega)
        have r8 := r7.ex e8f (fun _ w => w) (fun _ w => w)
        have k8 : aK (nw A7 15 0 0) (aN A7) = 15 := by rw [aK_nw, if_pos rfl]
        refine ⟨some (aN A7), nw A7 15 0 0, ?_, e8.le2, x7.le2.trans e8.le2, aN A7, _, rfl, (by show p < p'; omega), (x07.trans e8).wk (by show _ ≤ 110 * (p' - p) - 30 + 3 * (0 * wl B n p'); omega) (by show _ ≤ 4100 * (p' - p) - 300 + 6 * (0 * wl B n p'); omega), r8, ⟨by show aN A ≤ aN A7; omega, Or.inl ⟨k8, rfl⟩⟩, Den.all⟩
        unfold X17_init X14_init
        rw [bd_some, bd_some, ck_ok (Le.refl _)]
      | false =>
        have hp' := sPass_nf rd.bk hy
        subst hp'
        have r7 : RD A7 B n (sk B n p) o μ t := r7
        rw [if_pos (show (if (false, sk B n p).1 = true then (1 : Int32) else 0) = 0 from rfl), if_neg (show ¬ (false, sk B n p).1 = true by simp)]
        refine Bh.xa (hsum _ _ r7 (by omega)) (fun e A' _ f => ⟨f.ex.le2, f.ex.le2, x7.le2.trans f.ex.le2, (PF.of x07 f).wk (by omega) (by omega)⟩) (fun y x A10 hy10 f => ?_)
        obtain ⟨v, g, rfl, hpy, x10, r10, vr, dn⟩ := f
        have wE10 := (hadv _ _ hy10).2
        have wE' : wl B n p ≤ y.1 - sk B n p := by
          unfold wE at wE10
          rw [sk_sk rd.bk] at wE10
          unfold wl
          omega
        have pn10 := r10.pn
        refine ⟨x10.le2, ?_⟩
        obtain ⟨A14, h14, x14, r14, f14⟩ := here_eq hN r10
        have hle2 := rd.bk.le (sk B n y.1)
        have hge2 := sk_ge B n y.1
        have hsn2 := sk_le r10
        have x014 := x07.trans (x10.trans x14)
        have n14a := x014.n1
        have n14b := x014.n2
        have x1014 := x10.trans x14
        have l414 : Le A4 A14 := x7.le2.trans x1014.le2
        rw [bo_some, h14, bd_some]
        have tail : ∀ b : Nat, B (sk B n y.1) = b → (b = 60 ∨ b = 62 ∨ b = 61) → Bh (X2_fact_b148 N rf A14 v (nn b)) (eb (rs o (sk B n y.1 + 1)) (fun y2 => .ok (y2.1, y.2 ++ y2.2 ++ [if b = 60 then 7 else if b = 62 then 8 else 9])) : Rs (Nat × List Int32)) (fun e A' => Le A14 A' ∧ PF (110 * (n + 1 - p) + 30) (4100 * (n + 1 - p) + 100) A A' e) (fun y x A' => Le A14 A' ∧ ∃ v g, x = some v ∧ p < y.1 ∧ Ex RP (110 * (y.1 - p) - 30 + 3 * (0 * wl B n y.1)) (4100 * (y.1 - p) - 300 + 6 * (0 * wl B n y.1)) A A' ∧ RD A' B n y.1 o μ t ∧ TR 24 (dt + 2) q μ A' (fun i => aN A ≤ i) v g ∧ Den q μ y.2 g) := by
          intro b hb hb2
          have hlt2 : sk B n y.1 < n := sk_lt rd.bk r10.pn hb (by omega)
          unfold X2_fact_b148
          rw [lt2_eq, r14.at_, nn_succ]
          obtain ⟨r15, x15⟩ := r14.mv (p' := sk B n y.1 + 1) (by omega)
          generalize hA15 : wI A14 302 9 0 (nn (sk B n y.1 + 1)) = A15 at r15 x15
          have n15a := x15.n1
          have n15b := x15.n2
          rw [nwO_ok (by omega), bo_some]
          have e16 : Ex RP 1 3 A15 (nw A15 16 0 3) := Ex.nw r15.gn (by omega)
          have e16f : Ex (fun _ _ => False) 1 3 A15 (nw A15 16 0 3) := Ex.nw r15.gn (by omega)
          have r16 := r15.ex e16f (fun _ w => w) (fun _ w => w)
          have n16 : aN (nw A15 16 0 3) = aN A15 + 1 := rfl
          have k16 : aK (nw A15 16 0 3) (aN A15) = 16 := by rw [aK_nw, if_pos rfl]
          have x016 := x014.trans (x15.trans e16)
          have l1416 : Le A14 (nw A15 16 0 3) := x15.le2.trans e16.le2
          have core : Bh (bxa (nw A15 16 0 3) (X2_sum N (atomF N) (nw A15 16 0 3)) fun r17 A18 => bo r17 fun q20 => bd (X18_init A18 (aN A15) v (nn b) q20) fun _ A21 => some (some (some (aN A15)), A21)) (eb (rs o (sk B n y.1 + 1)) (fun y2 => .ok (y2.1, y.2 ++ y2.2 ++ [if b = 60 then 7 else if b = 62 then 8 else 9])) : Rs (Nat × List Int32)) (fun e A' => Le (nw A15 16 0 3) A' ∧ PF (110 * (n + 1 - p) + 30) (4100 * (n + 1 - p) + 100) A A' e) (fun y x A' => Le (nw A15 16 0 3) A' ∧ ∃ v g, x = some v ∧ p < y.1 ∧ Ex RP (110 * (y.1 - p) - 30 + 3 * (0 * wl B n y.1)) (4100 * (y.1 - p) - 300 + 6 * (0 * wl B n y.1)) A A' ∧ RD A' B n y.1 o μ t ∧ TR 24 (dt + 2) q μ A' (fun i => aN A ≤ i) v g ∧ Den q μ y.2 g) := by
            refine Bh.xa (hsum _ _ r16 (by omega)) (fun e A' _ f => ⟨f.ex.le2, f.ex.le2, (PF.of x016 f).wk (by omega) (by omega)⟩) (fun y2 x A18 hy18 f => ?_)
            obtain ⟨v', g', rfl, hpy', x18, r18, vr', dn'⟩ := f
            have pn18 := r18.pn
            have z18 := zw y2.1
            have n18a := x18.n1
            refine ⟨x18.le2, ?_⟩
            have k18 : aK A18 (aN A15) = 16 := x18.K k16 (by decide)
            have e19 : Ex (fun _ i => i = aN A15) 0 0 A18 (wR A18 1600 (aN A15) 0 (some v)) := Ex.wR r18.gn rfl (by omega)
            have e20 : Ex (fun _ i => i = aN A15) 0 0 (wR A18 1600 (aN A15) 0 (some v)) (wI (wR A18 1600 (aN A15) 0 (some v)) 1602 (aN A15) 0 (nn b)) := Ex.wI e19.gn rfl (by omega)
            have e21 : Ex (fun _ i => i = aN A15) 0 0 (wI (wR A18 1600 (aN A15) 0 (some v)) 1602 (aN A15) 0 (nn b)) (wR (wI (wR A18 1600 (aN A15) 0 (some v)) 1602 (aN A15) 0 (nn b)) 1601 (aN A15) 0 (some v')) := Ex.wR e20.gn rfl (by omega)
            have e1821 := e19.trans (e20.trans e21)
            have hin : X18_init A18 (aN A15) v (nn b) v' = some ((), wR (wI (wR A18 1600 (aN A15) 0 (some v)) 1602 (aN A15) 0 (nn b)) 1601 (aN A15) 0 (some v')) := by
              unfold X18_init X14_init
              rw [bd_some, pR_k k18, bo_some, pI_k (by exact k18), bo_some, pR_k (by exact k18), bo_some]
            rw [bo_some, hin, bd_some]
            have r21 := r18.ex e1821 (fun _ w => by omega) (fun _ w => by omega)
            have x021 : Ex RP _ _ A _ := (x016.trans x18).tr e1821 (fun f i w => Or.inr (rd.gn.nz i (by rw [show i = aN A15 from w]; omega) (by rw [show i = aN A15 from w]; omega)))
            refine ⟨_, _, rfl, e1821.le2, x18.le2.trans e1821.le2, aN A15, _, rfl, (by show p < y2.1; omega), x021.wk (by show _ ≤ 110 * (y2.1 - p) - 30 + 3 * (0 * wl B n y2.1); omega) (by show _ ≤ 4100 * (y2.1 - p) - 300 + 6 * (0 * wl B n y2.1); omega), r21, ?_, dn.than dn' hb2⟩
            have x1415 := x14.trans x15
            have fr15 := r15.gn.fresh (by omega)
            have vA0 : VR dv q μ A15 (fun i => aN A ≤ i ∧ i ≠ aN A15) v g := vr.ex x1415 (fun f i hi _ z => by unfold RP at z; omega) (fun i hi hk => ⟨by omega, fun w => by
              have := x1415.K (i := i) rfl hk
              rw [w, fr15] at this
              exact hk (by rw [w]; exact this.symm)⟩)
            have vA : VR 24 q μ (wR (wI (wR A18 1600 (aN A15) 0 (some v)) 1602 (aN A15) 0 (nn b)) 1601 (aN A15) 0 (some v')) (fun i => aN A ≤ i) v g := (((vA0.ex e16 (fun f i hi _ z => by unfold RP at z; omega) (fun i hi _ => hi)).ex x18 (fun f i hi _ z => by unfold RP at z; omega) (fun i hi _ => hi)).ex e1821 (fun f i hi _ w => hi.2 w) (fun i hi _ => hi.1)).le hv
            have vB : VR 24 q μ (wR (wI (wR A18 1600 (aN A15) 0 (some v)) 1602 (aN A15) 0 (nn b)) 1601 (aN A15) 0 (some v')) (fun i => aN A ≤ i) v' g' := (vr'.ex e1821 (fun f i hi _ w => by rw [n16] at hi; omega) (fun i hi _ => (by show aN A ≤ i; rw [n16] at hi; omega))).le hv
            refine ⟨by show aN A ≤ aN A15; omega, Or.inr (Or.inr (Or.inl ⟨k18, v, v', g, g', ?_, ?_, vA, vB, ?_⟩))⟩
            · rw [aR_wR, if_neg (by omega), aR_wI, aR_wR, if_pos ⟨rfl, rfl, rfl⟩]
            · rw [aR_wR, if_pos ⟨rfl, rfl, rfl⟩]
            · rw [aI_wR, aI_wI, if_pos ⟨rfl, rfl, rfl⟩]
          have core := Bh.kk (A := nw A15 16 0 3) core (fun _ _ _ f => f.1) (fun _ _ _ _ f => f.1)
          exact Bh.mono core (fun _ _ _ f => ⟨l1416.trans f.1, f.2⟩) (fun _ _ _ _ f => ⟨l1416.trans f.1, f.2⟩)
        have out : ∀ {X : Option (Option (Option Nat) × AH)} {x : Rs (Nat × List Int32)}, Bh X x (fun e A' => Le A14 A' ∧ PF (110 * (n + 1 - p) + 30) (4100 * (n + 1 - p) + 100) A A' e) (fun y x A' => Le A14 A' ∧ ∃ v g, x = some v ∧ p < y.1 ∧ Ex RP (110 * (y.1 - p) - 30 + 3 * (0 * wl B n y.1)) (4100 * (y.1 - p) - 300 + 6 * (0 * wl B n y.1)) A A' ∧ RD A' B n y.1 o μ t ∧ TR 24 (dt + 2) q μ A' (fun i => aN A ≤ i) v g ∧ Den q μ y.2 g) → Bh X x (fun e A' => Le A10 A' ∧ Le A7 A' ∧ Le A4 A' ∧ PF (110 * (n + 1 - p) + 30) (4100 * (n + 1 - p) + 100) A A' e) (fun y x A' => Le A10 A' ∧ Le A7 A' ∧ Le A4 A' ∧ ∃ v g, x = some v ∧ p < y.1 ∧ Ex RP (110 * (y.1 - p) - 30 + 3 * (0 * wl B n y.1)) (4100 * (y.1 - p) - 300 + 6 * (0 * wl B n y.1)) A A' ∧ RD A' B n y.1 o μ t ∧ TR 24 (dt + 2) q μ A' (fun i => aN A ≤ i) v g ∧ Den q μ y.2 g) := fun h => Bh.mono h (fun _ _ _ f => ⟨x14.le2.trans f.1, x1014.le2.trans f.1, l414.trans f.1, f.2⟩) (fun _ _ _ _ f => ⟨x14.le2.trans f.1, x1014.le2.trans f.1, l414.trans f.1, f.2⟩)
        by_cases z60 : B (sk B n y.1) = 60
        · have := out (tail 60 z60 (Or.inl rfl))
          rw [z60, if_pos (Or.inl rfl), if_pos (show bv 60 = (60 : Int32) from rfl)]
          exact this
        · by_cases z62 : B (sk B n y.1) = 62
          · have := out (tail 62 z62 (Or.inr (Or.inl rfl)))
            rw [z62, if_pos (Or.inr (Or.inl rfl)), if_neg (show ¬ bv 62 = (60 : Int32) by decide), if_pos (show bv 62 = (62 : Int32) from rfl)]
            exact this
          · by_cases z61 : B (sk B n y.1) = 61
            · have := out (tail 61 z61 (Or.inr (Or.inr rfl)))
              rw [z61, if_pos (Or.inr (Or.inr rfl)), if_neg (show ¬ bv 61 = (60 : Int32) by decide), if_neg (show ¬ bv 61 = (62 : Int32) by decide), if_pos (show bv 61 = (61 : Int32) from rfl)]
              exact this
            · rw [if_neg (show ¬ (B (sk B n y.1) = 60 ∨ B (sk B n y.1) = 62 ∨ B (sk B n y.1) = 61) by omega), if_neg (fun w : bv (B (sk B n y.1)) = (60 : Int32) => z60 ((bv_eq hle2 (by decide)).mp w)), if_neg (fun w : bv (B (sk B n y.1)) = (62 : Int32) => z62 ((bv_eq hle2 (by decide)).mp w)), if_neg (fun w : bv (B (sk B n y.1)) = (61 : Int32) => z61 ((bv_eq hle2 (by decide)).mp w)), thr, r14.at_]
              have pf := PF.thr r14.gn 1 (sk B n y.1)
              exact out ⟨_, rfl, pf.ex.le2, (PF.of x014 pf).wk (by omega) (by omega)⟩
theorem factG_ok (hN : 5000 ≤ N) (hq : q = true ↔ μ = 447) (hμ : μ = 1 ∨ μ = 63 ∨ μ = 127 ∨ μ = 447) : ∀ (d o : Nat), o ≤ 6 → 7 ≤ o + d → OKT B n q μ t (factG N d) (sFactF B n (sSum B n (sAtomF B n q μ 8)) d o) o (2 * (7 - o)) 0 30 300 30 100 := by
  intro d
  induction d with
  | zero => intro o h1 h2; omega
  | succ d ih =>
    intro o h1 h2
    have := fact_ok (N := N) (B := B) (n := n) (o := o) (t := t) (rf := factG N d) (rs := sSum B n (sAtomF B n q μ 8)) (rfs := sFactF B n (sSum B n (sAtomF B n q μ 8)) d) (dt := 2 * (6 - o)) (dv := 3 * (7 - o) + 2) hN (by omega) (sum_ok hN (atomG_ok hN hq hμ 8 o h1 (by omega))) (fun hB => Adv.sum (adv_atomF hB 8 o)) (fun ho => by
      have := ih (o + 1) (by omega) (by omega)
      rw [show 2 * (7 - (o + 1)) = 2 * (6 - o) by omega] at this
      exact this)
    rw [show 2 * (6 - o) + 2 = 2 * (7 - o) by omega] at this
    exact this
end
