/-! PURE LEVEL: atoms, at the reference -/
set_option maxRecDepth 100000
section
variable {N : Nat} {was : Int32} {σ σ' : mSt} {B : Nat → Nat} {n p p' : Nat} {q : Bool} {μ : Nat} {K W K' W' T : List Int32} {o base o' base' sl : Nat} {e : Nat × Nat}
/-- ')' ends what is within, b being the bracket on which it waits -/
theorem within_end (hN : 5000 ≤ N) {b : Int32} {X : Option (Unit × mSt)} {K0 : List Int32} {σ0 : mSt} {p0 : Nat} {y : Nat × List Int32} (hb : base ≤ W.length) (hk : b = 20 ∨ b = 23 ∨ b = 24) (hX : Cm Kq σ0 σ) (hp0 : p0 ≤ p) (g : GgQ sl T2 noS N was X σ B n p q μ K (W ++ [b]) (o + 1) base y) (hK : K ++ y.2 = K0) : Bm X σ0 (sMust B n 41 y.1) (fun p2 => AtQ sl N was X σ0 B n p0 q μ [] W o base (p2, K0 ++ clC b)) := by
  obtain ⟨σ2, p2, T, K2, x2, z2, w1, w2, w3, w4, w5, w6, w7, w8, w9, w10⟩ := g
  have hB := w3.rm.bk
  have nb := w3.nb
  unfold sMust
  by_cases c : B (sk B n y.1) = 41
  · rw [if_pos c]
    obtain ⟨x2, rfl⟩ : ∃ m, x2 = m + 1 := ⟨x2 - 1, by omega⟩
    obtain ⟨σ3, e1, c1, s1⟩ := G_close (was := was) hN w3 hb w5 hk (by rw [w7]; exact c)
    have hge := sk_ge B n p2
    have ob := s1.qs.ob
    refine ⟨σ3, sk B n p2 + 1, qGG N was x2 z2, N, x2, z2, w1.trans (e1 x2 z2), fun _ _ => rfl, hX.trans (w2.trans c1), ?_, ?_, by omega, by omega, by omega, by omega⟩
    · rw [w4, hK] at s1
      exact s1
    · show sk B n (sk B n p2 + 1) = sk B n (sk B n y.1 + 1)
      rw [w7]
  · rw [if_neg c]
    obtain ⟨σ3, h1, h2, h3⟩ := G_fail (N := N) (was := was) hN w3 hb w5 (by rw [w7]; exact w6) (Or.inl ⟨hk, by rw [w7]; exact c⟩) (x := x2) (z := z2) (by omega) (by omega)
    rw [w7] at h2
    exact ⟨σ3, w1.trans h1, h2, hX.trans (w2.trans h3)⟩
/-- what stands within brackets, after the bracket has been opened -/
theorem within_q (hN : 5000 ≤ N) {ra : RA} (hA : AOK sl N was B n q μ (o + 1) (ra (o + 1))) (hr : Adv B n (ra (o + 1))) {two : Nat} (h2 : two ≤ 2) {σ0 : mSt} {p0 : Nat} {X : Option (Unit × mSt)} {x z : Nat} (hX : X = qEE N was x z σ) (c0 : Cm Kq σ0 σ) (hp0 : p0 ≤ p) (s : SQ σ B n p q μ K (W ++ [if two = 0 then 20 else if two = 1 then 21 else 22]) (o + 1) base sl) (hb : base ≤ W.length) (hx : 3000 ≤ x + p) (hz : 3000 ≤ z + p) :
    Bm X σ0 (eb (sSum B n ra (o + 1) p) fun y => if two = 0 then eb (sMust B n 41 y.1) (fun p2 => .ok (p2, y.2)) else eb (sMust B n 44 y.1) fun p2 => eb (sSum B n ra (o + 1) p2) fun y2 => eb (sMust B n 41 y2.1) fun p4 => .ok (p4, y.2 ++ y2.2 ++ [if two = 1 then 5 else 6]) : Rs (Nat × List Int32)) (AtQ sl N was X σ0 B n p0 q μ K W o base) := by
  have hB := s.rm.bk
  have tb : ∀ b, isBk b → Tb (W ++ [b]) base := fun b h => Or.inr ⟨W, b, rfl, hb, h⟩
  have toA : ∀ {y : Nat × List Int32} {cs : List Int32} {K0 : List Int32}, AtQ sl N was X σ0 B n p0 q μ [] W o base (y.1, K0) → K0 = K ++ cs → AtQ sl N was X σ0 B n p0 q μ K W o base (y.1, cs) := by
    intro y cs K0 h e
    unfold AtQ at h ⊢
    rw [e, List.nil_append] at h
    exact h
  have hbk : isBk (if two = 0 then 20 else if two = 1 then 21 else 22) := by
    unfold isBk
    split
    · decide
    · split <;> decide
  refine Bm.xx (Bm.mv (sum_q (was := was) hN hA hr (tb _ hbk) s hx hz) hX c0 (fun _ _ w => w)) (fun y hy g => ?_)
  by_cases t0 : two = 0
  · rw [if_pos t0]
    rw [if_pos t0] at g
    have g' : GgQ sl T2 noS N was X σ B n p q μ K (W ++ [20]) (o + 1) base y := by rw [hX]; exact g
    refine Bm.xx (within_end hN hb (Or.inl rfl) c0 hp0 g' rfl) (fun p2 hp2 w => ?_)
    exact toA (y := (p2, y.2)) w (by rw [show clC 20 = [] from rfl, List.append_nil])
  · rw [if_neg t0]
    rw [if_neg t0] at g
    obtain ⟨σ2, p2, T, K2, x2, z2, w1, w2, w3, w4, w5, w6, w7, w8, w9, w10⟩ := g
    have nb := w3.nb
    have hge := sk_ge B n p2
    have h12 : (if two = 1 then (21 : Int32) else 22) = 21 ∨ (if two = 1 then (21 : Int32) else 22) = 22 := by
      split
      · exact Or.inl rfl
      · exact Or.inr rfl
    unfold sMust
    by_cases c : B (sk B n y.1) = 44
    · rw [if_pos c]
      obtain ⟨x2, rfl⟩ : ∃ m, x2 = m + 1 := ⟨x2 - 1, by omega⟩
      obtain ⟨z2, rfl⟩ : ∃ m, z2 = m + 1 := ⟨z2 - 1, by omega⟩
      obtain ⟨σ3, e1, c1, s1⟩ := G_comma (was := was) hN w3 hb w5 h12 (by rw [w7]; exact c)
      rw [w4, w7] at s1
      show Bm X σ0 (eb (sSum B n ra (o + 1) (sk B n y.1 + 1)) _) _
      have h34 : (if two = 1 then (21 : Int32) else 22) + 2 = (if two = 1 then 23 else 24) := by split <;> rfl
      rw [h34] at s1
      have hbk2 : isBk (if two = 1 then (23 : Int32) else 24) := by
        unfold isBk
        split <;> decide
      have hX1 : X = qEE N was N z2 σ3 := hX.trans (w1.trans (e1 x2 z2))
      have c03 := c0.trans (w2.trans c1)
      refine Bm.xx (Bm.mv (sum_q (was := was) hN hA hr (tb _ hbk2) s1 (x := N) (z := z2) (by omega) (by omega)) hX1 c03 (fun _ _ w => w)) (fun y2 hy2 g2 => ?_)
      have g2' : GgQ sl T2 noS N was X σ3 B n (sk B n y.1 + 1) q μ (K ++ y.2) (W ++ [if two = 1 then 23 else 24]) (o + 1) base y2 := by rw [hX1]; exact g2
      refine Bm.xx (within_end (p0 := p0) (p := sk B n y.1 + 1) hN hb (by split <;> simp) c03 (by omega) g2' rfl) (fun p4 hp4 w => ?_)
      refine toA (y := (p4, y2.2)) w ?_
      have : clC (if two = 1 then 23 else 24) = [if two = 1 then (5 : Int32) else 6] := by split <;> rfl
      rw [this]
      simp [List.append_assoc]
    · rw [if_neg c]
      obtain ⟨σ3, h1, h2, h3⟩ := G_fail (N := N) (was := was) hN w3 hb w5 (by rw [w7]; exact w6) (Or.inr ⟨h12, by rw [w7]; exact c⟩) (x := x2) (z := z2) (by omega) (by omega)
      rw [w7] at h2
      exact ⟨σ3, hX.trans (w1.trans h1), h2, c0.trans (w2.trans h3)⟩
theorem fdx_app (w : List Int32) (j : Nat) : ∀ (l : List Nat) (k : Nat), fdx w (l ++ [j]) k = match fdx w l k with
    | some m => some m
    | none => if w = kw j then some (k + l.length) else none := by
  intro l
  induction l with
  | nil =>
    intro k
    show (if w = kw j then some k else none) = _
    rfl
  | cons a l ih =>
    intro k
    show (if w = kw a then some k else fdx w (l ++ [j]) (k + 1)) = match (if w = kw a then some k else fdx w l (k + 1)) with
      | some m => some m
      | none => if w = kw j then some (k + (a :: l).length) else none
    by_cases c : w = kw a
    · rw [if_pos c, if_pos c]
    · rw [if_neg c, if_neg c, ih (k + 1), List.length_cons, show k + 1 + l.length = k + (l.length + 1) by omega]
theorem fdx_is {w : List Int32} : ∀ (l : List Nat) (k m : Nat), fdx w l k = some m → ∃ j, l[m - k]? = some j ∧ w = kw j ∧ k ≤ m := by
  intro l
  induction l with
  | nil => intro k m h; cases h
  | cons a l ih =>
    intro k m h
    unfold fdx at h
    by_cases c : w = kw a
    · rw [if_pos c] at h
      cases h
      exact ⟨a, by simp, c, Nat.le_refl _⟩
    · rw [if_neg c] at h
      obtain ⟨j, h1, h2, h3⟩ := ih (k + 1) m h
      refine ⟨j, ?_, h2, by omega⟩
      rw [show m - k = (m - (k + 1)) + 1 by omega, List.getElem?_cons_succ]
      exact h1
theorem ask_wix : ∀ k, k < 9 → askL[k]? = some (wix (84 + k)) := by decide +kernel
theorem sWord_t (h1 : isLt (B (sk B n p)) = true) (h2 : ¬ ptd B (sk B n p) = true) : sWord B n p = .ok (sk B n p, wE B n p) := by
  unfold sWord
  rw [if_pos h1, if_neg h2]
  rfl
/-- an atom -/
theorem atom_q (hN : 5000 ≤ N) {ra : RA} (hA : o < 6 → AOK sl N was B n q μ (o + 1) (ra (o + 1))) (hr : Adv B n (ra (o + 1))) : AOK sl N was B n q μ o (fun p => sAtom B n ra q μ o p) := by
  intro σ p K W base x z s hx hz
  have hB := s.rm.bk
  have hle := hB.le (sk B n p)
  have nb := s.nb
  have pn := s.rm.pn
  have hge := sk_ge B n p
  have ob := s.qs.ob
  have bb := s.qs.bb
  have ss : sk B n (sk B n p) = sk B n p := sk_sk hB
  obtain ⟨x, rfl⟩ : ∃ m, x = m + 2 := ⟨x - 2, by omega⟩
  show Bm (qEE N was (x + 2) z σ) σ (sAtom B n ra q μ o p) (AtQ sl N was (qEE N was (x + 2) z σ) σ B n p q μ K W o base)
  unfold sAtom
  by_cases c40 : B (sk B n p) = 40
  · rw [if_pos c40]
    unfold sWithin
    rw [ss, if_pos c40]
    obtain ⟨σ1, t1, c1, d1⟩ := T_open hN s c40
    rcases d1 with ⟨h6, f⟩ | ⟨h6, s1⟩
    · rw [if_pos h6]
      exact Bm.er (qEE_turn t1) c1 (qEE_bad (by omega) (by omega) (by omega) f)
    · rw [if_neg (by omega)]
      exact within_q hN (hA h6) hr (two := 0) (by decide) (qEE_turn t1) c1 (by omega) (by rw [if_pos rfl]; exact s1) bb (by omega) (by omega)
  · rw [if_neg c40]
    have other : ¬ isH B n 26 p → ¬ isH B n 27 p → wof q μ 9 10 (wnH B n (sk B n p) wnL 0) = none → wof q μ 0 9 (wnH B n (sk B n p) wnL 0) = none → Bm (qEE N was (x + 2) z σ) σ (sNum B n 0 9999 (sk B n p)) (fun v => AtQ sl N was (qEE N was (x + 2) z σ) σ B n p q μ K W o base (v.2.2, [nn (1000 + v.1)])) := by
      intro n1 n2 n3 n4
      obtain ⟨σ1, t1, c1, s1⟩ := T_part (was := was) hN s c40 n1 n2 n3
      refine Bm.mv (P_num (was := was) hN s1 ss n4 (z := z) (by omega)) (t1 x z) c1 (fun v hv w => ?_)
      obtain ⟨σ2, w1, w2, w3⟩ := w
      have hn := (sNum_ok hB hv).2.2.1
      rw [ss] at hn
      refine ⟨σ2, v.2.2, qK N was z, N, N, z, (t1 x z).trans w1, fun σ6 h6 => qK_good h6, c1.trans w2, w3, rfl, by omega, by omega, by omega, by omega⟩
    by_cases cd : isDg (B (sk B n p)) = true
    · rw [if_pos cd]
      have nl : ¬ isLt (B (sk B n p)) = true := by
        unfold isDg at cd
        unfold isLt
        simp at cd ⊢
        omega
      have wn : wnH B n (sk B n p) wnL 0 = none := wnH_no (by rw [ss]; exact fun w => nl w.1) wnL 0
      exact Bm.xx (other (fun w => nl w.1) (fun w => nl w.1) (by rw [wn]; rfl) (by rw [wn]; rfl)) (fun v hv w => w)
    · rw [if_neg cd]
      -- a word that is none: the reference asks a number and fails
      have bad : ¬ isH B n 26 p → ¬ isH B n 27 p → wof q μ 9 10 (wnH B n (sk B n p) wnL 0) = none → wof q μ 0 9 (wnH B n (sk B n p) wnL 0) = none → ∃ σ2, qEE N was (x + 2) z σ = some ((), σ2) ∧ RG σ2 (1, sk B n p) ∧ Cm Kq σ σ2 := by
        intro n1 n2 n3 n4
        have := other n1 n2 n3 n4
        unfold sNum at this
        rw [ss, if_neg cd] at this
        exact this
      by_cases cl : isLt (B (sk B n p)) = true ∧ ¬ ptd B (sk B n p) = true
      · have hw : sWord B n (sk B n p) = .ok (sk B n p, wE B n p) := by
          have := sWord_t (B := B) (n := n) (p := sk B n p) (by rw [ss]; exact cl.1) (by rw [ss]; exact cl.2)
          rw [this]
          unfold wE
          rw [ss]
        rw [hw, eb_ok]
        show Bm _ σ (match sPart μ (wdk B (sk B n p) (wE B n p)) with
          | some k => .ok (wE B n p, [nn (40 + k)])
          | none => if q = true ∧ wdk B (sk B n p) (wE B n p) = kw 21 then (if o = 6 then .error (4, sk B n p) else eb (ra (o + 1) (wE B n p)) fun x => .ok (x.1, x.2 ++ [60])) else if wdk B (sk B n p) (wE B n p) = kw 26 then sWithin B n ra 1 o (wE B n p) else if wdk B (sk B n p) (wE B n p) = kw 27 then sWithin B n ra 2 o (wE B n p) else .error (1, sk B n p) : Rs (Nat × List Int32)) _
        have hH : ∀ j, wdk B (sk B n p) (wE B n p) = kw j → isH B n j p := fun j h => ⟨cl.1, cl.2, h⟩
        have wn : wnH B n (sk B n p) wnL 0 = fdx (wdk B (sk B n p) (wE B n p)) wnL 0 := by
          have := wnH_fdx (B := B) (n := n) (p := sk B n p) (by rw [ss]; exact cl.1) (by rw [ss]; exact cl.2) wnL 0
          rw [this]
          unfold wE
          rw [ss]
        have wapp : fdx (wdk B (sk B n p) (wE B n p)) wnL 0 = match fdx (wdk B (sk B n p) (wE B n p)) askL 0 with
            | some m => some m
            | none => if wdk B (sk B n p) (wE B n p) = kw 21 then some 9 else none := fdx_app _ 21 askL 0
        have mm : ∀ j, (j = 26 ∨ j = 27) → wdk B (sk B n p) (wE B n p) = kw j → Bm (qEE N was (x + 2) z σ) σ (sWithin B n ra (j - 25) o (wE B n p)) (AtQ sl N was (qEE N was (x + 2) z σ) σ B n p q μ K W o base) := by
          intro j hj hjw
          obtain ⟨k1, k2, k3, k4⟩ := isH_end hB pn (hH j hjw)
          obtain ⟨σ1, t1, c1, d1⟩ := T_mm hN s c40 hj (hH j hjw)
          have hge2 := sk_ge B n (wE B n p)
          unfold sWithin
          rcases d1 with ⟨y1, f⟩ | ⟨y1, h6, f⟩ | ⟨y1, h6, s1⟩
          · rw [if_neg y1]
            exact Bm.er (qEE_turn t1) c1 (qEE_bad (by omega) (by omega) (by omega) f)
          · rw [if_pos y1, if_pos h6]
            exact Bm.er (qEE_turn t1) c1 (qEE_bad (by omega) (by omega) (by omega) f)
          · rw [if_pos y1, if_neg (by omega)]
            refine within_q hN (hA h6) hr (two := j - 25) (by omega) (qEE_turn t1) c1 (by omega) ?_ bb (by omega) (by omega)
            rcases hj with rfl | rfl
            · exact s1
            · exact s1
        by_cases w26 : wdk B (sk B n p) (wE B n p) = kw 26
        · have sp : sPart μ (wdk B (sk B n p) (wE B n p)) = none := by
            unfold sPart
            rw [w26, show fdx (kw 26) askL 0 = none by decide]
          rw [sp]
          show Bm _ σ (if _ then _ else _) _
          rw [if_neg (by rw [w26]; exact fun w => absurd w.2 (by decide)), if_pos w26]
          exact mm 26 (Or.inl rfl) w26
        · by_cases w27 : wdk B (sk B n p) (wE B n p) = kw 27
          · have sp : sPart μ (wdk B (sk B n p) (wE B n p)) = none := by
              unfold sPart
              rw [w27, show fdx (kw 27) askL 0 = none by decide]
            rw [sp]
            show Bm _ σ (if _ then _ else _) _
            rw [if_neg (by rw [w27]; exact fun w => absurd w.2 (by decide)), if_neg w26, if_pos w27]
            exact mm 27 (Or.inr rfl) w27
          · have n26 : ¬ isH B n 26 p := fun w => w26 w.2.2
            have n27 : ¬ isH B n 27 p := fun w => w27 w.2.2
            cases hf : fdx (wdk B (sk B n p) (wE B n p)) askL 0 with
            | none =>
              have sp : sPart μ (wdk B (sk B n p) (wE B n p)) = none := by
                unfold sPart
                rw [hf]
              rw [sp]
              rw [hf] at wapp
              show Bm _ σ (if _ then _ else _) _
              by_cases w21 : wdk B (sk B n p) (wE B n p) = kw 21
              · have wapp' : fdx (wdk B (sk B n p) (wE B n p)) wnL 0 = some 9 := by rw [wapp]; exact if_pos w21
                by_cases hq : q = true
                · rw [if_pos ⟨hq, w21⟩]
                  obtain ⟨k1, k2, k3, k4⟩ := isH_end hB pn (hH 21 w21)
                  have hwo : wof q μ 9 10 (wnH B n (sk B n p) wnL 0) = some 9 := by
                    rw [wn, wapp', hq]; rfl
                  obtain ⟨σ1, t1, c1, d1⟩ := T_meets hN s c40 (hH 21 w21) hwo
                  rcases d1 with ⟨h6, f⟩ | ⟨h6, s1⟩
                  · rw [if_pos h6]
                    exact Bm.er (qEE_turn t1) c1 (qEE_bad (by omega) (by omega) (by omega) f)
                  · rw [if_neg (by omega)]
                    refine Bm.xx (Bm.mv (hA h6 σ1 (wE B n p) K (W ++ [60]) base (x + 1) z s1 (by omega) (by omega)) (qEE_turn t1) c1 (fun _ _ w => w)) (fun y hy w => ?_)
                    obtain ⟨σ2, p2, k, v, x2, z2, u1, u2, u3, u4, u5, u6, u7, u8, u9⟩ := w
                    obtain ⟨v, rfl⟩ : ∃ m, v = m + 1 := ⟨v - 1, by omega⟩
                    obtain ⟨σ3, g1, g2, g3⟩ := ends_pop (N := N) (z := v) u4.rm.bad u4.qs bb
                    have hl := u4.le
                    refine ⟨σ3, p2, k, v, x2, z2, ?_, u2, c1.trans (u3.trans g2.wq), ?_, u5, by omega, u7, u8, by omega⟩
                    · rw [qEE_turn t1, u1]
                      unfold qFk
                      rw [g1]
                    · refine u4.ws g2 ?_ ?_
                      · show QS σ3 (K ++ (y.2 ++ [60])) W o base
                        rw [← List.append_assoc]; exact g3
                      · simp only [List.length_append, List.length_singleton] at hl ⊢; omega
                · rw [if_neg (fun w => hq w.1), if_neg w26, if_neg w27]
                  have hq' : q = false := by simpa using hq
                  exact bad n26 n27 (by rw [wn, wapp', hq']; rfl) (by rw [wn, wapp']; rfl)
              · have wapp' : fdx (wdk B (sk B n p) (wE B n p)) wnL 0 = none := by rw [wapp]; exact if_neg w21
                rw [if_neg (fun w => w21 w.2), if_neg w26, if_neg w27]
                exact bad n26 n27 (by rw [wn, wapp']; rfl) (by rw [wn, wapp']; rfl)
            | some k =>
              obtain ⟨j, hj1, hj2, _⟩ := fdx_is askL 0 k hf
              have hk9 : k < 9 := by
                have := (List.getElem?_eq_some_iff.mp hj1).1
                simpa [askL] using this
              rw [Nat.sub_zero, ask_wix k hk9] at hj1
              cases hj1
              rw [hf] at wapp
              have w21 : wdk B (sk B n p) (wE B n p) ≠ kw 21 := by
                rw [hj2]
                have e : ∀ k, k < 9 → kw (wix (84 + k)) ≠ kw 21 := by decide +kernel
                exact e k hk9
              have wapp' : fdx (wdk B (sk B n p) (wE B n p)) wnL 0 = some k := wapp
              have w9 : wof q μ 9 10 (wnH B n (sk B n p) wnL 0) = none := by
                rw [wn, wapp']
                show (if _ then _ else _) = _
                rw [if_neg (fun w => by omega)]
              have ha : alw q μ k = Nat.testBit μ k := if_neg (by omega)
              by_cases tb : Nat.testBit μ k = true
              · have sp : sPart μ (wdk B (sk B n p) (wE B n p)) = some k := by
                  unfold sPart
                  rw [hf]
                  exact if_pos tb
                rw [sp]
                have w0 : wof q μ 0 9 (wnH B n (sk B n p) wnL 0) = some k := by
                  rw [wn, wapp']
                  show (if _ then _ else _) = _
                  rw [if_pos ⟨by omega, by omega, by rw [ha]; exact tb⟩]
                obtain ⟨k1, k2, k3, k4⟩ := isH_end hB pn (hH _ hj2)
                obtain ⟨σ1, t1, c1, s1⟩ := T_part (was := was) hN s c40 n26 n27 w9
                obtain ⟨σ2, u1, u2, u3⟩ := P_part (was := was) hN s1 ss hk9 ((isH_sk hB).mpr (hH _ hj2)) w0 z
                have ew : wE B n (sk B n p) = wE B n p := by unfold wE; rw [ss]
                rw [ew] at u3
                exact ⟨σ2, wE B n p, qK N was z, N, N, z, (t1 x z).trans u1, fun σ6 h6 => qK_good h6, c1.trans u2, u3, rfl, by omega, by omega, by omega, by omega⟩
              · have sp : sPart μ (wdk B (sk B n p) (wE B n p)) = none := by
                  unfold sPart
                  rw [hf]
                  exact if_neg tb
                rw [sp]
                show Bm _ σ (if _ then _ else _) _
                rw [if_neg (fun w => w21 w.2), if_neg w26, if_neg w27]
                exact bad n26 n27 w9 (by
                  rw [wn, wapp']
                  show (if _ then _ else _) = _
                  rw [if_neg (fun w => by rw [ha] at w; exact tb w.2.2)])
      · have hw : sWord B n (sk B n p) = .error (1, sk B n p) := by
          unfold sWord
          rw [ss]
          by_cases h1 : isLt (B (sk B n p)) = true
          · rw [if_pos h1, if_pos (Classical.byContradiction fun w => cl ⟨h1, w⟩)]
          · rw [if_neg h1]
        rw [hw, eb_er]
        have wn : wnH B n (sk B n p) wnL 0 = none := wnH_no (by rw [ss]; exact cl) wnL 0
        exact bad (fun w => cl ⟨w.1, w.2.1⟩) (fun w => cl ⟨w.1, w.2.1⟩) (by rw [wn]; rfl) (by rw [wn]; rfl)
/-- all the depths -/
theorem atomF_q (hN : 5000 ≤ N) (hB : BOK B n) : ∀ (d o : Nat), o ≤ 6 → 7 ≤ o + d → AOK sl N was B n q μ o (sAtomF B n q μ d o) := by
  intro d
  induction d with
  | zero => intro o h1 h2; omega
  | succ d ih =>
    intro o h1 h2
    exact atom_q hN (fun ho => ih (o + 1) (by omega) (by omega)) (adv_atomF hB d (o + 1))
/-- qSums against the spec's sum -/
theorem qSums_eq (hN : 5000 ≤ N) (s : SQ σ B n p q μ K W o base sl) (hW : Top isOp W) : Bm (M_qSums N σ) σ (sSum B n (sAtomF B n q μ 8) o p) (fun y => ∃ σ', M_qSums N σ = some ((), σ') ∧ Cm Kq σ σ' ∧ SQ σ' B n (sk B n y.1) q μ (K ++ y.2) W o base sl) := by
  have hB := s.rm.bk
  have ob := s.qs.ob
  have nb := s.nb
  have c1 : Cm Kw σ (mUI σ 99 0 (nn W.length)) := Cm.UI ⟨by decide, by decide⟩
  have q1 : QS (mUI σ 99 0 (nn W.length)) K W o W.length := by
    have h := s.qs
    refine QS.mk ?_ (fun i v hi => ?_) ?_ (fun i v hi => ?_) ?_ ?_ h.bl (Nat.le_refl _) h.ob
    · rw [mI_UI, if_neg (by decide)]; exact h.cn
    · rw [mI_UI, if_neg (by omega)]; exact h.cs i v hi
    · rw [mI_UI, if_neg (by decide)]; exact h.wn
    · rw [mI_UI, if_neg (by omega)]; exact h.ws i v hi
    · rw [mI_UI, if_neg (by decide)]; exact h.op
    · rw [mI_UI, if_pos ⟨rfl, rfl⟩]
  have s1 := s.ws c1 q1 s.le
  obtain ⟨M, hM⟩ : ∃ m, N = m + 1 := ⟨N - 1, by omega⟩
  have e1 : M_qSums N σ = qEE N (nn base) N M (mUI σ 99 0 (nn W.length)) := by
    unfold M_qSums
    rw [lt2_eq, s.qs.wn, s.qs.bs]
    have : rn3 (M_qSums_b15 N) N (mUI σ 99 0 (nn W.length)) (nn base) 1 = rn3 (M_qSums_b15 N) (M + 1) (mUI σ 99 0 (nn W.length)) (nn base) 1 := by rw [← hM]
    rw [this]
    exact qEE_in s1.rm.bad
  have := sum_q (was := nn base) hN (atomF_q hN hB 8 o ob (by omega)) (adv_atomF hB 8 o) (Or.inl ⟨rfl, hW⟩) s1 (x := N) (z := M) (by omega) (by omega)
  have e : sSum B n (sAtomF B n q μ 8) o p = eb (sSum B n (sAtomF B n q μ 8) o p) fun y => .ok y := by cases sSum B n (sAtomF B n q μ 8) o p <;> rfl
  rw [e]
  refine Bm.xx (Bm.mv this e1 c1.wq (fun _ _ w => w)) (fun y hy w => ?_)
  obtain ⟨σ2, p2, T, K2, x2, z2, w1, w2, w3, w4, w5, w6, w7, w8, w9, w10⟩ := w
  have nb2 := w3.nb
  have hge := sk_ge B n p2
  obtain ⟨σ3, g1, g2, g3⟩ := G_end (N := N) hN w3 w5 (by rw [w7]; exact w6) (b0 := base) (x := x2) (z := z2) s.qs.bb (by omega) (by omega)
  rw [w4, w7] at g3
  exact ⟨σ3, e1.trans (w1.trans g1), c1.wq.trans (w2.trans g2), g3⟩
end
