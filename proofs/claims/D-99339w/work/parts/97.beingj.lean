/-! PURE LEVEL: statements: beings, both sides -/
set_option maxRecDepth 100000
section
variable {α : Type} {X X' : Option (Option α × AH)} {Y Y' : Option (Unit × mSt)} {S S2 : α → AH → mSt → Prop}
variable {N : Nat} {A A' A1 : AH} {σ σ' σ1 : mSt} {B : Nat → Nat} {n p o μ : Nat} {t : Option Nat} {a0 L C g w nb cd ar c s c' s' c0 s0 : Nat} {be : List Nat}
theorem Jn.mv (h : Jn X Y A1 σ1 a0 c s S) (hX : X' = X) (hY : Y' = Y) (e : Ex (RPa a0) c0 s0 A A1) (m : Cg Kt σ σ1) : Jn X' Y' A σ a0 (c0 + c) (s0 + s) S := by
  rcases h with ⟨e', A', σ', h1, h2, h3, h4, h5, h6, h7⟩ | ⟨r, A', σ', h1, h2, h3, h4, h5⟩
  · exact Or.inl ⟨e', A', σ', hX.trans h1, e.trans h2, h3, h4, hY.trans h5, h6, m.trans h7⟩
  · exact Or.inr ⟨r, A', σ', hX.trans h1, hY.trans h2, e.trans h3, m.trans h4, h5⟩
theorem Jn.ckr (h : Jn X Y A σ a0 c s S) (l : Le A1 A) : Jn (ck A1 X) Y A σ a0 c s S := by
  rcases h with ⟨e', A', σ', h1, h2, h3⟩ | ⟨r, A', σ', h1, h2, h3, h4⟩
  · exact Or.inl ⟨e', A', σ', by rw [h1]; exact ck_ok (l.trans h2.le2), h2, h3⟩
  · exact Or.inr ⟨r, A', σ', by rw [h1]; exact ck_ok (l.trans h3.le2), h2, h3, h4⟩
theorem wdk_let (hB : BOK B n) {a : Nat} : ∀ d ∈ wdk B a (rp isLt B n a), isLet d := by
  intro d hd
  unfold wdk at hd
  obtain ⟨i, hi, rfl⟩ := List.mem_map.mp hd
  have hi := List.mem_range.mp hi
  have hl : isLt (B (a + i)) = true := rp_in hB lt_f6 (p := a) (by omega) (by omega)
  unfold isLt at hl
  simp at hl
  unfold isLet
  rw [show (97 : Int32) = nn 97 from rfl, show (122 : Int32) = nn 122 from rfl, nn_le (by omega) (by omega), nn_le (by omega) (by omega)]
  exact hl
theorem being_j (hN : 5000 ≤ N) (rd : RD A B n p o μ (some a0)) (rm : RM σ B n p) (h : FT A σ a0 L C g w nb cd ar be) (hr : aN A + 20 ≤ CB) (hn : a0 + 7 ≤ aN A) (pl x : Nat) : Jn (X2_places_b86 N x (nn pl) A 2) (M_beingTold N σ (nn pl)) A σ a0 14 13000 (fun r A' σ' => r = 1 ∧ ∃ p' ar' be', RD A' B n p' o μ (some a0) ∧ RM σ' B n p' ∧ p + 7 ≤ p' ∧ FT A' σ' a0 L C g w (nb + 1) cd ar' be' ∧ S53 A σ a0 A' σ') := by
  have a1 := h.a1
  have a2 := h.a2
  have bL := h.bL
  have bC := h.bC
  have bn := h.bn
  have bl := h.bl
  have lar := h.lar
  have hB := rd.bk
  have nb6 := hB.nb
  have lr : LR A (fun i => a0 ≤ i) (a0 + 5) be := LR.mk (by omega) h.lx.kd h.lx.len ⟨ar, h.lx.rf, (by omega), h.lx.ka, h.lx.cap, h.lx.c5, h.lx.el⟩
  have wl6 : ∀ p, wl B n p ≤ 1600 := by
    intro p
    unfold wl
    rcases Nat.lt_or_ge (sk B n p) n with z | z
    · have := rp_le (P := isLt) hB lt_f6 (p := sk B n p) (by omega); omega
    · rw [rp_e (by omega)]; omega
  unfold X2_places_b86 M_beingTold
  obtain ⟨σ0, f1, f2⟩ := full_eq (k := 0) (m := 8) (pl := pl) rm (by decide) h.nbm (by omega) (by decide)
  rw [if_neg (by decide), if_neg (by decide), if_pos rfl, rd.to_, bo_some, gN_k h.k, h.bel, bo_some, if_pos lr.kd, J2_size_LR lr, bo_some, bl, show M_isFull σ 0 8 (nn pl) = _ from f1, bd_some]
  unfold X2_places_b332
  rcases f2 with ⟨z, f2, f3⟩ | ⟨z, rfl⟩
  · obtain ⟨A1, y1, y2⟩ := most_yes rd.gn pl
    rw [if_pos (show nn nb = (8 : Int32) by rw [z]; rfl), if_pos z, if_neg (by decide), y1, bx_none]
    exact (Jn.er (c := 0) (s := 0) rfl y2 rfl f2 f3.lt).wk (by omega) (by omega)
  rw [if_neg (fun q : nn nb = (8 : Int32) => z ((nn_eq (b := 8) (by omega) (by omega)).mp q)), if_neg z, if_pos rfl, most_no, bx_some]
  -- the name
  have nx := nameX hN rd (by omega)
  obtain ⟨v, σ1, m1, m2, m3⟩ := mname_eq hN rm
  have h40a : σ1.1 40 0 = nn L := (m2.I _ (by unfold Kn Kl; omega)).trans h.lvm
  have h40b : σ1.1 40 1 = nn C := (m2.I _ (by unfold Kn Kl; omega)).trans h.cem
  have h41 : σ1.1 41 0 = nn nb := (m2.I _ (by unfold Kn Kl; omega)).trans h.nbm
  rw [m1, bd_some]
  have w0 := wl6 p
  cases hv : sName B n p with
  | error e =>
    rw [hv] at nx m3
    obtain ⟨A1, l1, l2⟩ := nx
    have m3 : RF σ1 e := m3
    rw [l1, bxa_no l2.ex.le2, show rn3 (M_beingTold_b20 N) N σ1 v 0 = _ from dup_bad m3 h41 bn v nb 0 N (by omega) (by omega), bTail_bad m3 h40a h40b]
    exact (Jn.er rfl l2 rfl m3 m2.nt).wk (by omega) (by omega)
  | ok nm =>
    rw [hv] at nx m3
    obtain ⟨r1, A1, l1, q, l2, l3, l4, l5, l6, l7, l8, l9, l10⟩ := nx
    obtain ⟨m4, m5, m6⟩ := m3
    have h1 := h.ex (σ' := σ1) l3 (rp_hi a1) m2
    have hge := sk_ge B n p
    have n1a := l3.n1
    have n1b := l3.n2
    have cs6 : (wdk B nm.1 nm.2).length ≤ 6 := by unfold wdk; simp; omega
    have cs1 : 1 ≤ (wdk B nm.1 nm.2).length := by unfold wdk; simp; omega
    have csl : ∀ d ∈ wdk B nm.1 nm.2, isLet d := by rw [l10, l9]; exact wdk_let hB
    have nd1 : NmD A1 a0 q (wdk B nm.1 nm.2) := ⟨q + 1, by have := l6.lo; omega, l6.st, l6.ar, by have := l6.lo; omega, l6.ka, cs1, cs6, csl⟩
    rw [m4]
    obtain ⟨u1, u2⟩ := find_loopX hN h1 l6.st csl cs6 nb 0 N (by omega) (by omega)
    obtain ⟨d1, d2⟩ := dup_loop (N := N) m5 h41 bn m6 (num27 (wdk B nm.1 nm.2)) nb 0 N (by omega) (by omega)
    have X1 : bxa A (X2_name N A) (fun r62 A63 => bo r62 fun q65 => bo (aR A63 306 9 0) fun q66 => if aK A63 q66 = 2 then ( bo (X1_find N A63 q66 q65) fun r67 => if r67 = (-1) then (bxa A63 (X2_word N A63 (CB + 5)) fun _ A68 => bx (X2_leaf N A68) fun r70 A71 => bxa A71 (X2_word N A71 (CB + 6)) fun _ A73 => bx (X2_free N A73 r70) fun r75 A76 => bo (aR A76 306 9 0) fun q78 => bo (gN 2 A76 210 q78) fun q79 => bo (nwO A76 7 4) fun A80 => ck A80 ( bxa A80 (X2_number_2 N A80 (CB + 7) 0 9) fun r81 A82 => bd (X7_init A82 (aN A76) q65 r70 r75 r81) fun _ A84 => if aK A84 q79 = 18 then ( bda A84 (J2_add A84 q79 (aN A76)) fun r85 A86 => some (some 1, A86)) else none)) else (bd (X2_wrong A63 3 (aI A63 303 9 0)) fun r87 A88 => bo r87 fun q89 => if q89 = 10 then some (none, A88) else none)) else none) = ck A1 (bo (X1_find N A1 a0 q) fun r67 => if r67 = (-1) then (bxa A1 (X2_word N A1 (CB + 5)) fun _ A68 => bx (X2_leaf N A68) fun r70 A71 => bxa A71 (X2_word N A71 (CB + 6)) fun _ A73 => bx (X2_free N A73 r70) fun r75 A76 => bo (aR A76 306 9 0) fun q78 => bo (gN 2 A76 210 q78) fun q79 => bo (nwO A76 7 4) fun A80 => ck A80 ( bxa A80 (X2_number_2 N A80 (CB + 7) 0 9) fun r81 A82 => bd (X7_init A82 (aN A76) q r70 r75 r81) fun _ A84 => if aK A84 q79 = 18 then ( bda A84 (J2_add A84 q79 (aN A76)) fun r85 A86 => some (some (1 : Int32), A86)) else none)) else (bd (X2_wrong A1 3 (aI A1 303 9 0)) fun r87 A88 => bo r87 fun q89 => if q89 = 10 then some (none, A88) else none)) := by
      rw [l1, bxa_ok l3.le2, l2, bo_some, l4.to_, bo_some, if_pos h1.k]
    rw [X1]
    refine (Jn.mv (A1 := A1) (σ1 := σ1) (c0 := 3) (s0 := 2 * wl B n p + 4) (c := 11) (s := 9700) (Jn.ckr ?_ (Le.refl _)) rfl rfl l3.pa m2.nt).wk (by omega) (by omega)
    by_cases dp : DupN σ1 nb 0 (num27 (wdk B nm.1 nm.2))
    · obtain ⟨j, hj, ej⟩ := u1 dp
      obtain ⟨σ2, y1, y2, y3⟩ := d1 dp
      rw [show X1_find N A1 a0 q = some (nn j) from ej, bo_some, if_neg (nn_ne1 (by omega)), thr, l5, show rn3 (M_beingTold_b20 N) N σ1 (num27 (wdk B nm.1 nm.2)) 0 = _ from y1, bTail_bad y2 ((y3.I _ (by unfold Kl; omega)).trans h40a) ((y3.I _ (by unfold Kl; omega)).trans h40b)]
      exact (Jn.er rfl (PF.thr l4.gn 3 nm.1) rfl y2 y3.lt).wk (by omega) (by omega)
    · rw [show X1_find N A1 a0 q = some (-1) from u2 dp, bo_some, if_pos rfl, show rn3 (M_beingTold_b20 N) N σ1 (num27 (wdk B nm.1 nm.2)) 0 = _ from d2 dp]
      unfold bTail
      -- 'on'
      have wx := wordIs_eq hN l4 (by omega) (j := 5) (by decide)
      obtain ⟨σ2, k1, k2, k3⟩ := asks_mq hN m5 (w := 16) (Or.inl ⟨by decide, by decide⟩)
      rw [show wix 16 = 5 from rfl] at k3
      have g40a : σ2.1 40 0 = nn L := (k2.I _ (by unfold Kl; omega)).trans h40a
      have g40b : σ2.1 40 1 = nn C := (k2.I _ (by unfold Kl; omega)).trans h40b
      have w1 := wl6 nm.2
      rw [k1, bd_some]
      cases hv2 : sIs B n 5 nm.2 with
      | error e =>
        rw [hv2] at wx k3
        obtain ⟨A2, t1, t2⟩ := wx
        have k3 : RF σ2 e := k3
        rw [t1, bxa_no t2.ex.le2, leafM_bad k3 g40a, bd_some, bad_asks k3, bd_some, freeM_bad k3 g40b, bd_some, bad_asks k3, bd_some, bad_number k3, bd_some, if_neg k3.ne]
        exact (Jn.er rfl t2 rfl k3 k2.lt).wk (by omega) (by omega)
      | ok p2 =>
        rw [hv2] at wx k3
        obtain ⟨r2, A2, t1, t2, t3⟩ := wx
        have k3 : RM σ2 B n p2 := k3
        have h2 := h1.ex (σ' := σ2) t2 (rp_hi a1) k2.ln
        have nd2 := nd1.ex t2 (fun f i hi _ => rp_hi a1 f i hi)
        have n2a := t2.n1
        have n2b := t2.n2
        have hp2 : nm.2 < p2 := by
          rw [sIs_isH] at hv2
          split at hv2
          · next z =>
            cases hv2
            have := (isH_end hB l4.pn z).1
            have := sk_ge B n nm.2
            omega
          · cases hv2
        rw [t1, bxa_ok t2.le2]
        refine (Jn.mv (A1 := A2) (σ1 := σ2) (c0 := 3) (s0 := 2 * wl B n nm.2 + 4) (c := 8) (s := 6490) (Jn.ckr ?_ (Le.refl _)) rfl rfl t2.pa k2.lt).wk (by omega) (by omega)
        -- the leaf
        have lx := leafX hN t3 h2
        obtain ⟨y, σ3, i1, i2, i3, _⟩ := leafM hN k3 h2
        have e40b : σ3.1 40 1 = nn C := (i2.I _ (by unfold Kl; omega)).trans g40b
        rw [i1, bd_some]
        cases hv3 : sLeaf B n L p2 with
        | error e =>
          rw [hv3] at lx i3
          obtain ⟨A3, s1, s2⟩ := lx
          have i3 : RF σ3 e := i3
          rw [s1, bx_none, bad_asks i3, bd_some, freeM_bad i3 e40b, bd_some, bad_asks i3, bd_some, bad_number i3, bd_some, if_neg i3.ne]
          exact (Jn.er rfl s2 rfl i3 i2.lt).wk (by omega) (by omega)
        | ok l =>
          rw [hv3] at lx i3
          obtain ⟨r3, A3, s1, s2, s3, s4, s5, s6⟩ := lx
          obtain ⟨i4, i5, i6⟩ := i3
          have h3 := h2.ex (σ' := σ3) s3 (rp_hi a1) i2.ln
          have nd3 := nd2.ex s3 (fun f i hi _ => rp_hi a1 f i hi)
          have n3a := s3.n1
          have n3b := s3.n2
          have hl := (sNum_ok hB hv3).2.2.1
          have hg3 := sk_ge B n p2
          rw [s1, bx_some, s2, i4]
          refine (Jn.mv (A1 := A3) (σ1 := σ3) (c0 := 0) (s0 := 0) (c := 8) (s := 6490) ?_ rfl rfl s3.pa i2.lt).wk (by omega) (by omega)
          -- 'at'
          have wx2 := wordIs_eq hN s4 (by omega) (j := 6) (by decide)
          obtain ⟨σ4, o1, o2, o3⟩ := asks_mq hN i5 (w := 17) (Or.inl ⟨by decide, by decide⟩)
          rw [show wix 17 = 6 from rfl] at o3
          have c40b : σ4.1 40 1 = nn C := (o2.I _ (by unfold Kl; omega)).trans e40b
          have w2 := wl6 l.2.2
          rw [o1, bd_some]
          cases hv4 : sIs B n 6 l.2.2 with
          | error e =>
            rw [hv4] at wx2 o3
            obtain ⟨A4, t1', t2'⟩ := wx2
            have o3 : RF σ4 e := o3
            rw [t1', bxa_no t2'.ex.le2, freeM_bad o3 c40b, bd_some, bad_asks o3, bd_some, bad_number o3, bd_some, if_neg o3.ne]
            exact (Jn.er rfl t2' rfl o3 o2.lt).wk (by omega) (by omega)
          | ok p4 =>
            rw [hv4] at wx2 o3
            obtain ⟨r4, A4, t1', t2', t3'⟩ := wx2
            have o3 : RM σ4 B n p4 := o3
            have h4 := h3.ex (σ' := σ4) t2' (rp_hi a1) o2.ln
            have nd4 := nd3.ex t2' (fun f i hi _ => rp_hi a1 f i hi)
            have n4a := t2'.n1
            have n4b := t2'.n2
            have hp4 : l.2.2 < p4 := by
              rw [sIs_isH] at hv4
              split at hv4
              · next z =>
                cases hv4
                have := (isH_end hB s4.pn z).1
                have := sk_ge B n l.2.2
                omega
              · cases hv4
            rw [t1', bxa_ok t2'.le2]
            refine (Jn.mv (A1 := A4) (σ1 := σ4) (c0 := 3) (s0 := 2 * wl B n l.2.2 + 4) (c := 5) (s := 3280) (Jn.ckr ?_ (Le.refl _)) rfl rfl t2'.pa o2.lt).wk (by omega) (by omega)
            -- the cell
            have fx := freeX hN t3' h4 (l := l.1) (by omega)
            obtain ⟨y5, σ5, j1, j2, j3⟩ := freeM hN o3 h4 (l := l.1) (by omega)
            rw [j1, bd_some]
            cases hv5 : sFree B n C (frB σ4 nb) l.1 p4 with
            | error e =>
              rw [hv5] at fx j3
              obtain ⟨A5, q1, q2⟩ := fx
              have j3 : RF σ5 e := j3
              rw [q1, bx_none, bad_asks j3, bd_some, bad_number j3, bd_some, if_neg j3.ne]
              exact (Jn.er rfl q2 rfl j3 j2.lt).wk (by omega) (by omega)
            | ok cc =>
              rw [hv5] at fx j3
              obtain ⟨r5, A5, q1, q2, q3, q4, q5, q6⟩ := fx
              obtain ⟨j4, j5⟩ := j3
              have h5 := h4.ex (σ' := σ5) q3 (rp_hi a1) j2.ln
              have nd5 := nd4.ex q3 (fun f i hi _ => rp_hi a1 f i hi)
              have n5a := q3.n1
              have n5b := q3.n2
              have fe5 : frB σ5 nb = frB σ4 nb := frB_cm j2 (by unfold Kl; omega) (by unfold Kl; omega)
              have hcv : p4 < cc.2.2 := by
                unfold sFree at hv5
                cases hz : sNum B n 0 (C - 1) p4 with
                | error e => rw [hz, eb_er] at hv5; cases hv5
                | ok z =>
                  rw [hz, eb_ok] at hv5
                  have := (sNum_ok hB hz).2.2.1
                  have h9 := sk_ge B n p4
                  split at hv5
                  · cases hv5; omega
                  · cases hv5
              rw [q1, bx_some, q2, j4, q4.to_, bo_some, gN_k h5.k, h5.bel, bo_some, nwO_ok (by omega), bo_some]
              -- the being itself
              have e6 : Ex RP 1 4 A5 (nw A5 7 0 4) := Ex.nw q3.gn (by omega)
              have e6f : Ex (fun _ _ => False) 1 4 A5 (nw A5 7 0 4) := Ex.nw q3.gn (by omega)
              have r6 := q4.ex e6f (fun _ z => z) (fun _ z => z)
              have h6 := h5.ex (σ' := σ5) e6 (rp_hi a1) (Cm.refl σ5)
              have nd6 := nd5.ex e6 (fun f i hi _ => rp_hi a1 f i hi)
              have n6 : aN (nw A5 7 0 4) = aN A5 + 1 := rfl
              have k6 : aK (nw A5 7 0 4) (aN A5) = 7 := by rw [aK_nw, if_pos rfl]
              refine (Jn.mv (A1 := nw A5 7 0 4) (σ1 := σ5) (c0 := 1) (s0 := 4) (c := 4) (s := 3276) (Jn.ckr ?_ (Le.refl _)) rfl rfl ((q3.trans e6).wk (by omega) (by omega)).pa j2.lt).wk (by omega) (by omega)
              -- 'trade'
              have wx3 := wordIs_eq hN r6 (by omega) (j := 7) (by decide)
              obtain ⟨σ6, b1, b2, b3⟩ := asks_mq hN j5 (w := 18) (Or.inl ⟨by decide, by decide⟩)
              rw [show wix 18 = 7 from rfl] at b3
              have w3 := wl6 cc.2.2
              rw [b1, bd_some]
              unfold X2_number_2
              cases hv6 : sIs B n 7 cc.2.2 with
              | error e =>
                rw [hv6] at wx3 b3
                obtain ⟨A7, t1'', t2''⟩ := wx3
                have b3 : RF σ6 e := b3
                rw [t1'', bxa_no t2''.ex.le2, ck_ok t2''.ex.le2, bxa_no t2''.ex.le2, bad_number b3, bd_some, if_neg b3.ne]
                exact (Jn.er rfl t2'' rfl b3 b2.lt).wk (by omega) (by omega)
              | ok p7 =>
                rw [hv6] at wx3 b3
                obtain ⟨r7, A7, t1'', t2'', t3''⟩ := wx3
                have b3 : RM σ6 B n p7 := b3
                have h7 := h6.ex (σ' := σ6) t2'' (rp_hi a1) b2.ln
                have nd7 := nd6.ex t2'' (fun f i hi _ => rp_hi a1 f i hi)
                have n7a := t2''.n1
                have n7b := t2''.n2
                have hp7 : cc.2.2 < p7 := by
                  rw [sIs_isH] at hv6
                  split at hv6
                  · next z =>
                    cases hv6
                    have := (isH_end hB q4.pn z).1
                    have := sk_ge B n cc.2.2
                    omega
                  · cases hv6
                have nx7 := number_eq hN t3'' (l := 0) (m := 9) (by decide) (by decide)
                obtain ⟨y8, σ8, z1, z2, z3⟩ := mnumber_eq hN b3 (l := 0) (m := 9) (by decide) (by decide)
                rw [t1'', bxa_ok t2''.le2, show M_number N σ6 0 9 = _ from z1, bd_some]
                cases hv8 : sNum B n 0 9 p7 with
                | error e =>
                  rw [hv8] at nx7 z3
                  obtain ⟨A8, x1, x2⟩ := nx7
                  have z3 : RF σ8 e := z3
                  have pf := PF.of t2'' x2
                  rw [show X2_number N A7 0 9 = _ from x1, bx_none, ck_ok x2.ex.le2, ck_ok pf.ex.le2, bxa_no pf.ex.le2, if_neg z3.ne]
                  exact (Jn.er rfl pf rfl z3 (b2.lt.trans z2.lt)).wk (by omega) (by omega)
                | ok tv =>
                  rw [hv8] at nx7 z3
                  obtain ⟨r8, A8, x1, x2, x3, x4, x5⟩ := nx7
                  obtain ⟨z4, z5, z6⟩ := z3
                  have h8 := h7.ex (σ' := σ8) x3 (rp_hi a1) z2.ln
                  have nd8 := nd7.ex x3 (fun f i hi _ => rp_hi a1 f i hi)
                  have n8a := x3.n1
                  have n8b := x3.n2
                  have htv := (sNum_ok hB hv8).2.1
                  have htp := (sNum_ok hB hv8).2.2.1
                  have hg8 := sk_ge B n p7
                  have e68 : Ex RP 3 (2 * wl B n cc.2.2 + 4) (nw A5 7 0 4) A8 := (t2''.trans x3).wk (by omega) (by omega)
                  have k8 : aK A8 (aN A5) = 7 := e68.K k6 (by decide)
                  rw [show X2_number N A7 0 9 = _ from x1, bx_some, ck_ok x3.le2, ck_ok e68.le2, bxa_ok e68.le2, x2]
                  -- it is written
                  have w1' : Ex (fun _ i => i = aN A5) 0 0 A8 (wR A8 700 (aN A5) 0 (some q)) := Ex.wR x4.gn rfl (by omega)
                  have w2' : Ex (fun _ i => i = aN A5) 0 0 A8 (wI (wR A8 700 (aN A5) 0 (some q)) 701 (aN A5) 0 (nn l.1)) := w1'.trans (Ex.wI w1'.gn rfl (by omega))
                  have w3' : Ex (fun _ i => i = aN A5) 0 0 A8 (wI (wI (wR A8 700 (aN A5) 0 (some q)) 701 (aN A5) 0 (nn l.1)) 702 (aN A5) 0 (nn cc.1)) := w2'.trans (Ex.wI w2'.gn rfl (by omega))
                  have w4' : Ex (fun _ i => i = aN A5) 0 0 A8 (wI (wI (wI (wR A8 700 (aN A5) 0 (some q)) 701 (aN A5) 0 (nn l.1)) 702 (aN A5) 0 (nn cc.1)) 703 (aN A5) 0 (nn tv.1)) := w3'.trans (Ex.wI w3'.gn rfl (by omega))
                  have hin : X7_init A8 (aN A5) q (nn l.1) (nn cc.1) (nn tv.1) = some ((), wI (wI (wI (wR A8 700 (aN A5) 0 (some q)) 701 (aN A5) 0 (nn l.1)) 702 (aN A5) 0 (nn cc.1)) 703 (aN A5) 0 (nn tv.1)) := by
                    unfold X7_init
                    rw [pR_k k8, bo_some, pI_k (by exact k8), bo_some, pI_k (by exact k8), bo_some, pI_k (by exact k8), bo_some]
                  rw [hin, bd_some]
                  generalize hA9 : wI (wI (wI (wR A8 700 (aN A5) 0 (some q)) 701 (aN A5) 0 (nn l.1)) 702 (aN A5) 0 (nn cc.1)) 703 (aN A5) 0 (nn tv.1) = A9 at w4'
                  have fr5 : aK A5 (aN A5) = 0 := q3.gn.fresh (by omega)
                  have e59 : Ex RP 4 (2 * wl B n cc.2.2 + 8) A5 A9 := ((e6.trans e68).tr w4' (fun f i y => Or.inr (by rw [show i = aN A5 from y]; exact fr5))).wk (by omega) (by omega)
                  have h9 := h5.ex (σ' := σ8) e59 (rp_hi a1) (b2.ln.trans z2.ln)
                  have nd9 := nd5.ex e59 (fun f i hi _ => rp_hi a1 f i hi)
                  have n9a := w4'.n1
                  have n9b := w4'.n2
                  have k9 : aK A9 (aN A5) = 7 := by rw [← hA9]; exact k8
                  have fe8 : frB σ8 nb = frB σ4 nb := by
                    rw [frB_cm z2 (by unfold Kl; omega) (by unfold Kl; omega), frB_cm b2 (by unfold Kl; omega) (by unfold Kl; omega), fe5]
                  obtain ⟨A10, ar', g1, g2, g3⟩ := h9.being w4'.gn (by omega) (by omega) (by omega) (i := aN A5) (l := l.1) (c := cc.1) (t := tv.1) (x := q) (cs := wdk B nm.1 nm.2) k9 (by omega)
                    (by rw [← hA9, aI_wI, if_neg (by omega), aI_wI, if_neg (by omega), aI_wI, if_pos ⟨rfl, rfl, rfl⟩])
                    (by rw [← hA9, aI_wI, if_neg (by omega), aI_wI, if_pos ⟨rfl, rfl, rfl⟩])
                    (by rw [← hA9, aI_wI, if_pos ⟨rfl, rfl, rfl⟩]) s6 q5 htv (by rw [fe8]; exact q6)
                    (by rw [← hA9, aR_wI, aR_wI, aR_wI, aR_wR, if_pos ⟨rfl, rfl, rfl⟩]) nd9
                  have r9 := x4.ex w4' (fun f => by omega) (fun f => by omega)
                  have l9' := h9.lar
                  have eA : Ex (RPa a0) 4 3276 (nw A5 7 0 4) A10 := ((e68.pa.trans (w4'.mono (fun f i y => Or.inr ⟨by omega, by omega⟩))).trans (g2.mono (fun f i y => Or.inr (by have := h9.lx.ha; have := h9.lx.hl; omega)))).wk (by omega) (by omega)
                  refine Jn.ok (r := 1) (A' := A10) (σ' := beS σ8 nb l.1 cc.1 tv.1 (num27 (wdk B nm.1 nm.2))) ?_ ?_ eA (b2.lt.trans (z2.lt.trans (beS_cg.mono (fun k j y => ?_)))) ⟨rfl, tv.2.2, ar', be ++ [aN A5], r9.ex g2 (fun f => by omega) (fun f => by omega), z5.hi beS_cg (fun k j y => by unfold Kbe at y; omega), by omega, g3, (S53.rp h.k a1 (((l3.trans t2).trans s3).trans (t2'.trans q3)) ((((m2.trans k2.ln).trans i2.ln).trans o2.ln).trans j2.ln)).tr ((S53.rp h5.k a1 e59 (b2.ln.trans z2.ln)).tr ⟨g2.I _ (by rw [h9.k]; decide) (by omega), beS_cg.I (by unfold Kbe; omega)⟩)⟩
                  · rw [if_pos h9.lx.kd, g1, bda_ok g2.le2, ck_ok (Le.refl _), ck_ok (w4'.le2.trans g2.le2)]
                  · rw [if_pos z5.bad, z4]
                    have q0 : ∀ s : mSt, s.1 41 0 = nn nb → ld 2 s 41 0 = some (nn nb) := fun s hs => by rw [show (0 : Int32) = nn 0 from rfl, ld_nn (by rfl) (by decide) (by decide), hs]
                    rw [q0 σ8 h9.nbm, bo_some, stL_nn (by rfl) (by show nb < 16; omega) (by omega), bo_some, q0 (mUJ σ8 42 nb (num27 (wdk B nm.1 nm.2))) h9.nbm, bo_some, show (2 : Int32) * nn nb = nn (2 * nb) from nn_mul 2 nb, stI_nn (by rfl) (by show 2 * nb < 16; omega) (by omega), bo_some]
                    rw [q0 (mUI (mUJ σ8 42 nb (num27 (wdk B nm.1 nm.2))) 45 (2 * nb) (nn l.1)) (by rw [mI_UI, if_neg (by omega)]; exact h9.nbm), bo_some, show (2 : Int32) * nn nb = nn (2 * nb) from nn_mul 2 nb, nn_succ, stI_nn (by rfl) (by show 2 * nb + 1 < 16; omega) (by omega), bo_some]
                    rw [q0 (mUI (mUI (mUJ σ8 42 nb (num27 (wdk B nm.1 nm.2))) 45 (2 * nb) (nn l.1)) 45 (2 * nb + 1) (nn cc.1)) (by rw [mI_UI, if_neg (by omega), mI_UI, if_neg (by omega)]; exact h9.nbm), bo_some, stI_nn (by rfl) (by show nb < 16; omega) (by omega), bo_some]
                    rw [q0 (mUI (mUI (mUI (mUJ σ8 42 nb (num27 (wdk B nm.1 nm.2))) 45 (2 * nb) (nn l.1)) 45 (2 * nb + 1) (nn cc.1)) 46 nb (nn tv.1)) (by rw [mI_UI, if_neg (by omega), mI_UI, if_neg (by omega), mI_UI, if_neg (by omega)]; exact h9.nbm), bo_some, nn_succ, show (0 : Int32) = nn 0 from rfl, stI_nn (by rfl) (by decide) (by decide), bo_some]
                    rfl
                  · rcases y with ⟨y1, y2⟩ | ⟨y1, _⟩ | ⟨y1, y2⟩ | ⟨y1, y2⟩
                    · rw [y1]; exact Or.inr (show j < 8 by omega)
                    · rw [y1]; exact Or.inl rfl
                    · rw [y1]; exact Or.inr (show j < 8 by omega)
                    · rw [y1, y2]; exact Or.inr (by decide)
end
