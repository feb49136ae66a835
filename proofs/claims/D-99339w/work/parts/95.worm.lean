/-! PURE LEVEL: statements: worms -/
set_option maxRecDepth 100000
section
variable {N : Nat} {A A' : AH} {σ σ' : mSt} {B : Nat → Nat} {n p o μ : Nat} {t : Option Nat} {a0 L C g w nb cd ar c s c' s' : Nat} {be : List Nat}
/-- a worm's number is written ahead of its being told -/
theorem FT.wpre (h : FT A σ a0 L C g w nb cd ar be) (gn : GN A) {d : Nat} (hd : 2 ≤ d ∧ d ≤ 4) (v : Int32) : FT (wI A 31 (a0 + d) w v) σ a0 L C g w nb cd ar be ∧ Ex (fun f i => f = 31 ∧ i = a0 + d) 0 0 A (wI A 31 (a0 + d) w v) := by
  have a1 := h.a1
  have a2 := h.a2
  have lar := h.lar
  have e : Ex (fun f i => f = 31 ∧ i = a0 + d) 0 0 A (wI A 31 (a0 + d) w v) := Ex.wI gn ⟨rfl, rfl⟩ (by omega)
  have m : Cg (fun _ _ => False) σ σ := Cg.refl σ
  have kd : aK A (a0 + d) = 31 := by
    have : d = 2 ∨ d = 3 ∨ d = 4 := by omega
    rcases this with rfl | rfl | rfl
    · exact h.wf.2.1
    · exact h.wt.2.1
    · exact h.wc.2.1
  refine ⟨FT.mk (h.fh.ex e m (by omega) (by omega) id id) (h.fg.ex h.k e m (by omega) (by omega) (by omega) id (fun _ _ => id)) (FW.mk h.wm h.wmm h.bw (h.wf.ex h.k e (by omega)) (h.wt.ex h.k e (by omega)) (h.wc.ex h.k e (by omega)) (fun x hx => ?_)) (h.fb.ex h.k e m (by omega) (fun f => by omega) (fun f => by omega) (fun f i hi hk z => ?_) id (fun _ _ => id) (fun _ _ => id) (fun _ _ => id)) h.fo (h.fc.ex h.k e m (fun f _ _ => by omega) (fun f i hi _ => by unfold ownV at hi; omega) (fun i hi _ => hi) (fun _ _ => id) (fun _ _ => id) (fun _ _ => id) id) h.th, e⟩
  · rw [aI_wI, if_neg (by omega), aI_wI, if_neg (by omega), aI_wI, if_neg (by omega)]; exact h.wv x hx
  · unfold isBN at hk
    rw [z.2, kd] at hk; omega
theorem FT.worm (h : FT A σ a0 L C g w nb cd ar be) (gn : GN A) (hw : w < 12) {x y z : Nat} (hx : aI A 31 (a0 + 2) w = nn x) (hy : aI A 31 (a0 + 3) w = nn y) : FT (wI (wI A 31 (a0 + 4) w (nn z)) 204 a0 0 (nn (w + 1))) (mUI (mUI (mUI (mUI σ 44 (3 * w) (nn x)) 44 (3 * w + 1) (nn y)) 44 (3 * w + 2) (nn z)) 41 1 (nn (w + 1))) a0 L C g (w + 1) nb cd ar be ∧ Ex (fun f i => (f = 31 ∧ i = a0 + 4) ∨ (f = 204 ∧ i = a0)) 0 0 A (wI (wI A 31 (a0 + 4) w (nn z)) 204 a0 0 (nn (w + 1))) ∧ Cg (fun k j => (k = 44 ∧ 3 * w ≤ j ∧ j < 36) ∨ (k = 41 ∧ j = 1)) σ (mUI (mUI (mUI (mUI σ 44 (3 * w) (nn x)) 44 (3 * w + 1) (nn y)) 44 (3 * w + 2) (nn z)) 41 1 (nn (w + 1))) := by
  have a1 := h.a1
  have a2 := h.a2
  have lar := h.lar
  have bw := h.bw
  have e1 : Ex (fun f i => (f = 31 ∧ i = a0 + 4) ∨ (f = 204 ∧ i = a0)) 0 0 A (wI A 31 (a0 + 4) w (nn z)) := Ex.wI gn (Or.inl ⟨rfl, rfl⟩) (by omega)
  have e : Ex (fun f i => (f = 31 ∧ i = a0 + 4) ∨ (f = 204 ∧ i = a0)) 0 0 A (wI (wI A 31 (a0 + 4) w (nn z)) 204 a0 0 (nn (w + 1))) := e1.trans (Ex.wI e1.gn (Or.inr ⟨rfl, rfl⟩) (by omega))
  have m : Cg (fun k j => (k = 44 ∧ 3 * w ≤ j ∧ j < 36) ∨ (k = 41 ∧ j = 1)) σ (mUI (mUI (mUI (mUI σ 44 (3 * w) (nn x)) 44 (3 * w + 1) (nn y)) 44 (3 * w + 2) (nn z)) 41 1 (nn (w + 1))) := (Cg.UI (Or.inl ⟨rfl, by omega, by omega⟩)).trans ((Cg.UI (Or.inl ⟨rfl, by omega, by omega⟩)).trans ((Cg.UI (Or.inl ⟨rfl, by omega, by omega⟩)).trans (Cg.UI (Or.inr ⟨rfl, rfl⟩))))
  refine ⟨FT.mk (h.fh.ex e m (by omega) (by omega) (by omega) (by omega)) (h.fg.ex h.k e m (by omega) (by omega) (by omega) (by omega) (fun _ _ => by omega)) (FW.mk ?_ ?_ (by omega) (h.wf.ex h.k e (by omega)) (h.wt.ex h.k e (by omega)) (h.wc.ex h.k e (by omega)) (fun v hv => ?_)) (h.fb.ex h.k e m (by omega) (fun f => by omega) (fun f => by omega) (fun f i hi hk q => ?_) (by omega) (fun _ _ => by omega) (fun _ _ => by omega) (fun _ _ => by omega)) (h.fo.ex h.bn m (fun _ _ => by omega) (fun _ _ => by omega)) (h.fc.ex h.k e m (fun f _ _ => by omega) (fun f i hi _ => by unfold ownV at hi; omega) (fun i hi _ => hi) (fun _ _ => by omega) (fun _ _ => by omega) (fun _ _ => by omega) (by omega)) ?_, e, m⟩
  · rw [aI_wI, if_pos ⟨rfl, rfl, rfl⟩]
  · rw [mI_UI, if_pos ⟨rfl, rfl⟩]
  · by_cases q : v = w
    · subst q
      refine ⟨?_, ?_, ?_⟩
      · rw [e.I _ (by rw [h.wf.2.1]; decide) (by omega), hx, mI_UI, if_neg (by omega), mI_UI, if_neg (by omega), mI_UI, if_neg (by omega), mI_UI, if_pos ⟨rfl, rfl⟩]
      · rw [e.I _ (by rw [h.wt.2.1]; decide) (by omega), hy, mI_UI, if_neg (by omega), mI_UI, if_neg (by omega), mI_UI, if_pos ⟨rfl, rfl⟩]
      · rw [aI_wI, if_neg (by omega), aI_wI, if_pos ⟨rfl, rfl, rfl⟩, mI_UI, if_neg (by omega), mI_UI, if_pos ⟨rfl, rfl⟩]
    · obtain ⟨o1, o2, o3⟩ := h.wv v (by omega)
      refine ⟨?_, ?_, ?_⟩
      · rw [e.I _ (by rw [h.wf.2.1]; decide) (by omega), m.I (by omega)]; exact o1
      · rw [e.I _ (by rw [h.wt.2.1]; decide) (by omega), m.I (by omega)]; exact o2
      · rw [aI_wI, if_neg (by omega), aI_wI, if_neg (by omega), m.I (by omega)]; exact o3
  · unfold isBN at hk
    rcases q with ⟨_, q⟩ | ⟨_, q⟩
    · rw [q, h.wc.2.1] at hk; omega
    · rw [q, h.k] at hk; omega
  · rw [e.I _ (by rw [h.k]; decide) (by omega), m.I (by omega)]; exact h.th
theorem worm_j (hN : 5000 ≤ N) (rd : RD A B n p o μ (some a0)) (rm : RM σ B n p) (h : FT A σ a0 L C g w nb cd ar be) (pl x : Nat) : Jn (X2_places_b86 N x (nn pl) A 1) (M_wormTold N σ (nn pl)) A σ a0 0 0 (fun r A' σ' => r = 1 ∧ ∃ p', RD A' B n p' o μ (some a0) ∧ RM σ' B n p' ∧ p < p' ∧ FT A' σ' a0 L C g (w + 1) nb cd ar be ∧ S53 A σ a0 A' σ') := by
  have a1 := h.a1
  have a2 := h.a2
  have bL := h.bL
  have bC := h.bC
  have bw := h.bw
  have hB := rd.bk
  unfold X2_places_b86 M_wormTold
  obtain ⟨σ0, f1, f2⟩ := full_eq (k := 1) (m := 12) (pl := pl) rm (by decide) h.wmm (by omega) (by decide)
  rw [if_neg (by decide), if_pos rfl, rd.to_, bo_some, gI_k h.k, bo_some, h.wm, show M_isFull σ 1 12 (nn pl) = _ from f1, bd_some]
  unfold X2_places_b198
  rcases f2 with ⟨z, f2, f3⟩ | ⟨z, rfl⟩
  · obtain ⟨A1, y1, y2⟩ := most_yes rd.gn pl
    rw [if_pos (show nn w = (12 : Int32) by rw [z]; rfl), if_pos z, if_neg (by decide), y1, bx_none]
    exact Jn.er rfl y2 rfl f2 f3.lt
  · rw [if_neg (fun q : nn w = (12 : Int32) => z ((nn_eq (b := 12) (by omega) (by omega)).mp q)), if_neg z, if_pos rfl, most_no, bx_some]
    have b43 : ∀ {s : mSt} {e : Nat × Nat} (x y : Int32), RF s e → s.1 40 1 = nn C → M_wormTold_b43 N s x y = some ((), s) := by
      intro s e x y hf h40
      unfold M_wormTold_b43
      rw [show ld 2 s 40 1 = some (nn C) by rw [show (1 : Int32) = nn 1 from rfl, ld_nn (by rfl) (by decide) (by decide), h40], bo_some, bad_number hf, bd_some, if_neg hf.ne]
    have lx := leafX hN rd h
    obtain ⟨y, σ1, m1, m2, m3, _⟩ := leafM hN rm h
    have h40 : σ1.1 40 1 = nn C := (m2.I _ (by unfold Kl; omega)).trans h.cem
    have h40a : σ1.1 40 0 = nn L := (m2.I _ (by unfold Kl; omega)).trans h.lvm
    rw [m1, bd_some]
    cases hv : sLeaf B n L p with
    | error e =>
      rw [hv] at lx m3
      obtain ⟨A1, l1, l2⟩ := lx
      have m3 : RF σ1 e := m3
      rw [l1, bx_none, leafM_bad m3 h40a, bd_some, if_neg m3.ne, b43 _ _ m3 h40]
      exact Jn.er rfl l2 rfl m3 m2.lt
    | ok l =>
      rw [hv] at lx m3
      obtain ⟨r1, A1, l1, l2, l3, l4, l5, l6⟩ := lx
      obtain ⟨m4, m5, m6⟩ := m3
      have hl := (sNum_ok hB hv).2.2.1
      have hge := sk_ge B n p
      have h1 := h.ex (σ' := σ1) l3 (rp_hi a1) m2.ln
      have lx2 := leafX hN l4 h1
      obtain ⟨y2, σ2, n1, n2, n3, _⟩ := leafM hN m5 h1
      have g40 : σ2.1 40 1 = nn C := (n2.I _ (by unfold Kl; omega)).trans h40
      rw [l1, bx_some, l2, m4, n1, bd_some]
      cases hv2 : sLeaf B n L l.2.2 with
      | error e =>
        rw [hv2] at lx2 n3
        obtain ⟨A2, q1, q2⟩ := lx2
        have n3 : RF σ2 e := n3
        rw [q1, bx_none, if_neg n3.ne, b43 _ _ n3 g40]
        exact Jn.er rfl ((PF.of l3 q2).wk (by omega) (by omega)) rfl n3 (m2.lt.trans n2.lt)
      | ok l2' =>
        rw [hv2] at lx2 n3
        obtain ⟨r2, A2, q1, q2, q3, q4, q5, q6⟩ := lx2
        obtain ⟨n4, n5, n6⟩ := n3
        have hl2 := (sNum_ok hB hv2).2.2.1
        have hge2 := sk_ge B n l.2.2
        have h2 := h1.ex (σ' := σ2) q3 (rp_hi a1) n2.ln
        rw [q1, bx_some, q2, n4, if_pos n5.bad]
        by_cases eq : l2'.1 = l.1
        · obtain ⟨σ3, y1, y2, y3⟩ := fail_eq n5.bad 2 l2'.2.1 (by decide)
          rw [eq, if_pos rfl, if_pos rfl, thr, q5, n6, show M_fail σ2 2 (nn l2'.2.1) = _ from y1, bd_some, b43 _ _ y2 ((y3.I _ (by unfold Kl; omega)).trans g40)]
          exact Jn.er rfl ((PF.of (l3.trans q3) (PF.thr q4.gn 2 l2'.2.1)).wk (by omega) (by omega)) rfl y2 (m2.lt.trans (n2.lt.trans y3.lt))
        · rw [if_neg (fun q => eq ((nn_eq (by omega) (by omega)).mp q)), if_neg (fun q => eq ((nn_eq (by omega) (by omega)).mp q).symm)]
          obtain ⟨h3, e3⟩ := h2.wpre q4.gn (d := 2) (by omega) (nn l.1)
          obtain ⟨h4, e4⟩ := h3.wpre e3.gn (d := 3) (by omega) (nn l2'.1)
          have e34 : Ex (RPa a0) 0 0 A2 (wI (wI A2 31 (a0 + 2) w (nn l.1)) 31 (a0 + 3) w (nn l2'.1)) := (e3.mono (fun f i z => Or.inr (by omega))).trans (e4.mono (fun f i z => Or.inr (by omega)))
          have r4 : RD (wI (wI A2 31 (a0 + 2) w (nn l.1)) 31 (a0 + 3) w (nn l2'.1)) B n l2'.2.2 o μ (some a0) := (q4.ex e3 (fun f => by omega) (fun f => by omega)).ex e4 (fun f => by omega) (fun f => by omega)
          have e0 : Ex (RPa a0) 0 0 A (wI (wI A2 31 (a0 + 2) w (nn l.1)) 31 (a0 + 3) w (nn l2'.1)) := ((l3.trans q3).pa.trans e34).wk (by omega) (by omega)
          have hx4 : aI (wI (wI A2 31 (a0 + 2) w (nn l.1)) 31 (a0 + 3) w (nn l2'.1)) 31 (a0 + 2) w = nn l.1 := by rw [aI_wI, if_neg (by omega), aI_wI, if_pos ⟨rfl, rfl, rfl⟩]
          have hy4 : aI (wI (wI A2 31 (a0 + 2) w (nn l.1)) 31 (a0 + 3) w (nn l2'.1)) 31 (a0 + 3) w = nn l2'.1 := by rw [aI_wI, if_pos ⟨rfl, rfl, rfl⟩]
          have hX : ∀ (kk : Int32 → AH → Option (Option Int32 × AH)), (bo (aR A2 306 9 0) fun q31 => bo (gN 2 A2 207 q31) fun q32 => bo (aR A2 306 9 0) fun q33 => bo (gI 2 A2 204 q33) fun v34 => bo (uI_ 31 A2 q32 v34 (nn l.1)) fun A35 => bo (aR A35 306 9 0) fun q36 => bo (gN 2 A35 208 q36) fun q37 => bo (aR A35 306 9 0) fun q38 => bo (gI 2 A35 204 q38) fun v39 => bo (uI_ 31 A35 q37 v39 (nn l2'.1)) fun A40 => bo (aR A40 306 9 0) fun q41 => bo (gN 2 A40 209 q41) fun q42 => bo (aR A40 306 9 0) fun q43 => bo (gI 2 A40 204 q43) fun v44 => bo (aR A40 306 9 0) fun q45 => bo (gI 2 A40 202 q45) fun v46 => kk v46 A40) = kk (nn C) (wI (wI A2 31 (a0 + 2) w (nn l.1)) 31 (a0 + 3) w (nn l2'.1)) := by
            intro kk
            rw [q4.to_, bo_some, gN_k h2.k, h2.wf.1, bo_some, bo_some, gI_k h2.k, bo_some, h2.wm, uI_nn h2.wf.2.1 (by rw [h2.wf.2.2]; omega) (by omega), bo_some, show aR (wI A2 31 (a0 + 2) w (nn l.1)) 306 9 0 = some a0 from q4.to_, bo_some, gN_k h3.k, h3.wt.1, bo_some, bo_some, gI_k h3.k, bo_some, h3.wm, uI_nn h3.wt.2.1 (by rw [h3.wt.2.2]; omega) (by omega), bo_some, r4.to_, bo_some, gN_k h4.k, h4.wc.1, bo_some, bo_some, gI_k h4.k, bo_some, bo_some, gI_k h4.k, bo_some, h4.ce]
          have nx := number_eq hN r4 (l := 0) (m := C - 1) (by omega) (by omega)
          obtain ⟨y3, σ3, k1, k2, k3⟩ := mnumber_eq hN n5 (l := 0) (m := C - 1) (by omega) (by omega)
          have hY : M_wormTold_b43 N σ2 (nn l.1) (nn l2'.1) = if (σ3.1 5 0) = 0 then (bo (ld 2 σ3 41 1) fun v10 => bo (stI 2 σ3 44 (3 * v10) (nn l.1)) fun σ11 => bo (stI 2 σ11 44 ((3 * v10) + 1) (nn l2'.1)) fun σ12 => bo (stI 2 σ12 44 ((3 * v10) + 2) y3) fun σ13 => bo (ld 2 σ13 41 1) fun v14 => bo (stI 2 σ13 41 1 (v14 + 1)) fun σ15 => some ((), σ15)) else (some ((), σ3)) := by
            unfold M_wormTold_b43
            rw [show ld 2 σ2 40 1 = some (nn C) by rw [show (1 : Int32) = nn 1 from rfl, ld_nn (by rfl) (by decide) (by decide), g40], bo_some, show nn C - 1 = nn (C - 1) by rw [show (1 : Int32) = nn 1 from rfl, nn_sub (by omega)], show M_number N σ2 0 (nn (C - 1)) = _ from k1, bd_some]
          rw [hY]
          rw [q4.to_, bo_some, gN_k h2.k, h2.wf.1, bo_some, bo_some, gI_k h2.k, bo_some, h2.wm, uI_nn h2.wf.2.1 (by rw [h2.wf.2.2]; omega) (by omega), bo_some, show aR (wI A2 31 (a0 + 2) w (nn l.1)) 306 9 0 = some a0 from q4.to_, bo_some, gN_k h3.k, h3.wt.1, bo_some, bo_some, gI_k h3.k, bo_some, h3.wm, uI_nn h3.wt.2.1 (by rw [h3.wt.2.2]; omega) (by omega), bo_some, r4.to_, bo_some, gN_k h4.k, h4.wc.1, bo_some, bo_some, gI_k h4.k, bo_some, bo_some, gI_k h4.k, bo_some, h4.ce, h4.wm, show nn C - 1 = nn (C - 1) by rw [show (1 : Int32) = nn 1 from rfl, nn_sub (by omega)]]
          cases hc : sNum B n 0 (C - 1) l2'.2.2 with
          | error e =>
            rw [hc] at nx k3
            obtain ⟨A5, v1, v2⟩ := nx
            have k3 : RF σ3 e := k3
            rw [show X2_number N (wI (wI A2 31 (a0 + 2) w (nn l.1)) 31 (a0 + 3) w (nn l2'.1)) 0 (nn (C - 1)) = _ from v1, bx_none, if_neg k3.ne]
            exact Or.inl ⟨e, A5, σ3, rfl, (e0.trans v2.ex.pa).wk (by omega) (by omega), v2.k, v2.pl, rfl, k3, m2.lt.trans (n2.lt.trans k2.lt)⟩
          | ok cv =>
            rw [hc] at nx k3
            obtain ⟨r5, A5, v1, v2, v3, v4, v5⟩ := nx
            obtain ⟨k4, k5, k6⟩ := k3
            have hcv := (sNum_ok hB hc).2.2.1
            have hge3 := sk_ge B n l2'.2.2
            have h5 := h4.ex (σ' := σ3) v3 (rp_hi a1) k2.ln
            have x5 : aI A5 31 (a0 + 2) w = nn l.1 := (v3.I _ (by rw [h4.wf.2.1]; decide) (rp_hi a1 _ _ (by omega))).trans hx4
            have y5 : aI A5 31 (a0 + 3) w = nn l2'.1 := (v3.I _ (by rw [h4.wt.2.1]; decide) (rp_hi a1 _ _ (by omega))).trans hy4
            obtain ⟨ft, ex, cg⟩ := h5.worm v3.gn (by omega) (z := cv.1) x5 y5
            have k204 : aK (wI A5 31 (a0 + 4) w (nn cv.1)) a0 = 2 := h5.k
            have exA : Ex (RPa a0) 0 0 A (wI (wI A5 31 (a0 + 4) w (nn cv.1)) 204 a0 0 (nn (w + 1))) := ((e0.trans v3.pa).trans (ex.mono (fun f i z => Or.inr (by omega)))).wk (by omega) (by omega)
            refine Jn.ok (r := 1) (A' := wI (wI A5 31 (a0 + 4) w (nn cv.1)) 204 a0 0 (nn (w + 1))) (σ' := mUI (mUI (mUI (mUI σ3 44 (3 * w) (nn l.1)) 44 (3 * w + 1) (nn l2'.1)) 44 (3 * w + 2) (nn cv.1)) 41 1 (nn (w + 1))) ?_ ?_ exA (m2.lt.trans (n2.lt.trans (k2.lt.trans (cg.mono (fun k j z => z.elim (fun z => by rw [z.1]; exact Or.inr (show j < 36 from z.2.2)) (fun z => by rw [z.1, z.2]; exact Or.inr (by decide))))))) ⟨rfl, cv.2.2, v4.ex ex (fun f => by omega) (fun f => by omega), k5.hi cg (fun k j z => by omega), by omega, ft, ((((S53.rp h.k a1 (l3.trans q3) (m2.ln.trans n2.ln)).tr ⟨e3.I _ (by rw [h2.k]; decide) (by omega), rfl⟩).tr ⟨e4.I _ (by rw [h3.k]; decide) (by omega), rfl⟩).tr (S53.rp h4.k a1 v3 k2.ln)).tr ⟨ex.I _ (by rw [h5.k]; decide) (by omega), cg.I (by omega)⟩⟩
            · rw [show X2_number N (wI (wI A2 31 (a0 + 2) w (nn l.1)) 31 (a0 + 3) w (nn l2'.1)) 0 (nn (C - 1)) = _ from v1, bx_some, v2, uI_nn h5.wc.2.1 (by rw [h5.wc.2.2]; omega) (by omega), bo_some, show aR (wI A5 31 (a0 + 4) w (nn cv.1)) 306 9 0 = some a0 from v4.to_, bo_some, gI_k k204, bo_some, aI_wI, if_neg (by omega), h5.wm, nn_succ, pI_k k204, bo_some]
            · rw [if_pos k5.bad, show ld 2 σ3 41 1 = some (nn w) by rw [show (1 : Int32) = nn 1 from rfl, ld_nn (by rfl) (by decide) (by decide), h5.wmm], bo_some, k4, show (3 : Int32) * nn w = nn (3 * w) from nn_mul 3 w, nn_succ, show nn (3 * w) + 2 = nn (3 * w + 2) from nn_add (3 * w) 2, stI_nn (by rfl) (by show 3 * w < 72; omega) (by omega), bo_some, stI_nn (by rfl) (by show 3 * w + 1 < 72; omega) (by omega), bo_some, stI_nn (by rfl) (by show 3 * w + 2 < 72; omega) (by omega), bo_some, show (1 : Int32) = nn 1 from rfl, ld_nn (by rfl) (by decide) (by decide), bo_some, mI_UI, if_neg (by omega), mI_UI, if_neg (by omega), mI_UI, if_neg (by omega), h5.wmm, nn_add, stI_nn (by rfl) (by decide) (by decide), bo_some]
end
