/-! PURE LEVEL: statements: beings -/
set_option maxRecDepth 100000
section
variable {N : Nat} {A A' : AH} {σ σ' : mSt} {B : Nat → Nat} {n p o μ : Nat} {t : Option Nat} {a0 L C g w nb cd ar c s c' s' : Nat} {be : List Nat}
/-- a name is there already -/
def DupN (σ : mSt) (nb k : Nat) (v : Int64) : Prop := ∃ b, k ≤ b ∧ b < nb ∧ σ.2 42 b = v
theorem find_loopX (hN : 5000 ≤ N) (h : FT A σ a0 L C g w nb cd ar be) {x : Nat} {cs : List Int32} (hs : StR A x cs) (hl : ∀ d ∈ cs, isLet d) (h6 : cs.length ≤ 6) : ∀ (f k z : Nat), k + f = nb → f < z → (DupN σ nb k (num27 cs) → ∃ j, j < 8 ∧ rn1 (X1_find_b2 N a0 x A) z (nn k) = some (nn j)) ∧ (¬ DupN σ nb k (num27 cs) → rn1 (X1_find_b2 N a0 x A) z (nn k) = some (-1)) := by
  have bn := h.bn
  have bl := h.bl
  have lar := h.lar
  have lr : LR A (fun i => a0 ≤ i) (a0 + 5) be := LR.mk (by omega) h.lx.kd h.lx.len ⟨ar, h.lx.rf, (by omega), h.lx.ka, h.lx.cap, h.lx.c5, h.lx.el⟩
  intro f
  induction f with
  | zero =>
    intro k z hk hz
    obtain ⟨z, rfl⟩ : ∃ m, z = m + 1 := ⟨z - 1, by omega⟩
    refine ⟨fun v => ?_, fun _ => ?_⟩
    · obtain ⟨b, h1, h2, _⟩ := v; omega
    · show X1_find_b2 N a0 x A _ (nn k) = _
      unfold X1_find_b2
      rw [gN_k h.k, h.bel, bo_some, if_pos lr.kd, J2_size_LR lr, bo_some, bl, if_pos ((nn_le (by omega) (by omega)).mpr (by omega))]
  | succ f ih =>
    intro k z hk hz
    obtain ⟨z, rfl⟩ : ∃ m, z = m + 1 := ⟨z - 1, by omega⟩
    obtain ⟨i1, i2⟩ := ih (k + 1) z (by omega) (by omega)
    obtain ⟨i, hi⟩ : ∃ i, be[k]? = some i := ⟨be[k]'(by omega), List.getElem?_eq_getElem _⟩
    obtain ⟨b1, b2, _, _, _, _, _, _, y, b9, ds, ar', n0, n1, n2, n3, n4, n5, n6, n7, n8⟩ := h.bi k i hi
    have e1 : rn1 (X1_find_b2 N a0 x A) (z + 1) (nn k) = if σ.2 42 k = num27 cs then some (nn k) else rn1 (X1_find_b2 N a0 x A) z (nn (k + 1)) := by
      show X1_find_b2 N a0 x A (rn1 (X1_find_b2 N a0 x A) z) (nn k) = _
      generalize rn1 (X1_find_b2 N a0 x A) z = kk
      unfold X1_find_b2
      rw [gN_k h.k, h.bel, bo_some, if_pos lr.kd, J2_size_LR lr, bo_some, bl, if_neg (fun q => by have := (nn_le (by omega) (by omega)).mp q; omega), bo_some, if_pos lr.kd, J2_get_LR lr hi, bo_some, bo_some, if_pos b2, gN_k b2, b9, bo_some, if_pos n1.1, equals_eq hN n1 hs, bo_some, n8, nn_succ]
      by_cases q : ds = cs
      · rw [if_pos q, if_neg (by decide), if_pos (by rw [q])]
      · rw [if_neg q, if_pos rfl, if_neg (fun v => q ((num27_inj n7 hl n6 h6).mp v))]
    rw [e1]
    by_cases c1 : σ.2 42 k = num27 cs
    · rw [if_pos c1]
      exact ⟨fun _ => ⟨k, by omega, rfl⟩, fun v => absurd ⟨k, Nat.le_refl _, by omega, c1⟩ v⟩
    · rw [if_neg c1]
      refine ⟨fun v => i1 ?_, fun v => i2 (fun y => ?_)⟩
      · obtain ⟨b, h1, h2, h3⟩ := v
        refine ⟨b, ?_, h2, h3⟩
        rcases Nat.lt_or_ge k b with y | y
        · omega
        · have : b = k := by omega
          subst this; exact absurd h3 c1
      · obtain ⟨b, h1, h2, h3⟩ := y
        exact v ⟨b, by omega, h2, h3⟩
/-- what the reference reads behind a name -/
noncomputable def bTail (N : Nat) (σ : mSt) (x2 : Int64) : Option (Unit × mSt) := bd (M_asks N σ 16) fun _ σ6 => bd (M_leafTold N σ6) fun r7 σ8 => bd (M_asks N σ8 17) fun _ σ9 => bd (M_cellTold N σ9 r7) fun r10 σ11 => bd (M_asks N σ11 18) fun _ σ12 => bd (M_number N σ12 0 9) fun r13 σ14 => if (σ14.1 5 0) = 0 then (bo (ld 2 σ14 41 0) fun v15 => bo (stL σ14 42 v15 x2) fun σ16 => bo (ld 2 σ16 41 0) fun v17 => bo (stI 2 σ16 45 (2 * v17) r7) fun σ18 => bo (ld 2 σ18 41 0) fun v19 => bo (stI 2 σ18 45 ((2 * v19) + 1) r10) fun σ20 => bo (ld 2 σ20 41 0) fun v21 => bo (stI 2 σ20 46 v21 r13) fun σ22 => bo (ld 2 σ22 41 0) fun v23 => bo (stI 2 σ22 41 0 (v23 + 1)) fun σ24 => some ((), σ24)) else (some ((), σ14))
theorem bTail_bad {e : Nat × Nat} (h : RF σ e) (h0 : σ.1 40 0 = nn L) (h1 : σ.1 40 1 = nn C) (v : Int64) : bTail N σ v = some ((), σ) := by
  unfold bTail
  rw [bad_asks h, bd_some, leafM_bad h h0, bd_some, bad_asks h, bd_some, freeM_bad h h1, bd_some, bad_asks h, bd_some, bad_number h, bd_some, if_neg h.ne]
theorem bTail_end {kk : mSt → Int64 → Int32 → Option (Unit × mSt)} {k : Nat} (hm : σ.1 41 0 = nn nb) (bn : nb ≤ 8) (hk : k = nb) (v : Int64) : M_beingTold_b20 N kk σ v (nn k) = bTail N σ v := by
  unfold M_beingTold_b20
  rw [show ld 2 σ 41 0 = some (nn nb) by rw [show (0 : Int32) = nn 0 from rfl, ld_nn (by rfl) (by decide) (by decide), hm], bo_some, if_pos ((nn_le (by omega) (by omega)).mpr (by omega))]
  rfl
theorem dup_bad {e : Nat × Nat} (h : RF σ e) (hm : σ.1 41 0 = nn nb) (bn : nb ≤ 8) (v : Int64) : ∀ (f k z : Nat), k + f = nb → f < z → rn3 (M_beingTold_b20 N) z σ v (nn k) = bTail N σ v := by
  intro f
  induction f with
  | zero =>
    intro k z hk hz
    obtain ⟨z, rfl⟩ : ∃ m, z = m + 1 := ⟨z - 1, by omega⟩
    exact bTail_end hm bn (by omega) v
  | succ f ih =>
    intro k z hk hz
    obtain ⟨z, rfl⟩ : ∃ m, z = m + 1 := ⟨z - 1, by omega⟩
    have i1 := ih (k + 1) z (by omega) (by omega)
    show M_beingTold_b20 N (rn3 (M_beingTold_b20 N) z) σ v (nn k) = _
    generalize rn3 (M_beingTold_b20 N) z = kk at i1 ⊢
    unfold M_beingTold_b20 M_beingTold_b59
    rw [show ld 2 σ 41 0 = some (nn nb) by rw [show (0 : Int32) = nn 0 from rfl, ld_nn (by rfl) (by decide) (by decide), hm], bo_some, if_neg (fun q => by have := (nn_le (by omega) (by omega)).mp q; omega), if_neg h.ne, nn_succ, i1]
theorem dup_loop (r : RM σ B n p) (hm : σ.1 41 0 = nn nb) (bn : nb ≤ 8) {pl : Nat} (h39 : σ.1 39 0 = nn pl) (v : Int64) : ∀ (f k z : Nat), k + f = nb → f < z → (DupN σ nb k v → ∃ σ', rn3 (M_beingTold_b20 N) z σ v (nn k) = bTail N σ' v ∧ RF σ' (3, pl) ∧ Cm Kl σ σ') ∧ (¬ DupN σ nb k v → rn3 (M_beingTold_b20 N) z σ v (nn k) = bTail N σ v) := by
  intro f
  induction f with
  | zero =>
    intro k z hk hz
    obtain ⟨z, rfl⟩ : ∃ m, z = m + 1 := ⟨z - 1, by omega⟩
    refine ⟨fun v => ?_, fun _ => bTail_end hm bn (by omega) v⟩
    obtain ⟨b, h1, h2, _⟩ := v; omega
  | succ f ih =>
    intro k z hk hz
    obtain ⟨z, rfl⟩ : ∃ m, z = m + 1 := ⟨z - 1, by omega⟩
    obtain ⟨i1, i2⟩ := ih (k + 1) z (by omega) (by omega)
    have e1 : rn3 (M_beingTold_b20 N) (z + 1) σ v (nn k) = if σ.2 42 k = v then (bd (M_fail σ 3 (nn pl)) fun _ σ26 => rn3 (M_beingTold_b20 N) z σ26 v (nn (k + 1))) else rn3 (M_beingTold_b20 N) z σ v (nn (k + 1)) := by
      show M_beingTold_b20 N (rn3 (M_beingTold_b20 N) z) σ v (nn k) = _
      generalize rn3 (M_beingTold_b20 N) z = kk
      unfold M_beingTold_b20 M_beingTold_b59
      rw [show ld 2 σ 41 0 = some (nn nb) by rw [show (0 : Int32) = nn 0 from rfl, ld_nn (by rfl) (by decide) (by decide), hm], bo_some, if_neg (fun q => by have := (nn_le (by omega) (by omega)).mp q; omega), if_pos r.bad, ldL_nn (by rfl) (by show k < 16; omega) (by omega), bo_some, h39, nn_succ]
    rw [e1]
    by_cases c1 : σ.2 42 k = v
    · rw [if_pos c1]
      refine ⟨fun _ => ?_, fun q => absurd ⟨k, Nat.le_refl _, by omega, c1⟩ q⟩
      obtain ⟨σ2, y1, y2, y3⟩ := fail_eq r.bad 3 pl (by decide)
      refine ⟨σ2, ?_, y2, y3⟩
      rw [show M_fail σ 3 (nn pl) = _ from y1, bd_some]
      exact dup_bad y2 ((y3.I _ (by unfold Kl; omega)).trans hm) bn v f (k + 1) z (by omega) (by omega)
    · rw [if_neg c1]
      refine ⟨fun q => i1 ?_, fun q => i2 (fun y => ?_)⟩
      · obtain ⟨b, h1, h2, h3⟩ := q
        refine ⟨b, ?_, h2, h3⟩
        rcases Nat.lt_or_ge k b with y | y
        · omega
        · have : b = k := by omega
          subst this; exact absurd h3 c1
      · obtain ⟨b, h1, h2, h3⟩ := y
        exact q ⟨b, by omega, h2, h3⟩
/-- a name as it lies -/
def NmD (A : AH) (a0 x : Nat) (cs : List Int32) : Prop := ∃ ar, a0 ≤ x ∧ StR A x cs ∧ aR A 1900 x 0 = some ar ∧ a0 ≤ ar ∧ aK A ar = 33 ∧ 1 ≤ cs.length ∧ cs.length ≤ 6 ∧ (∀ c ∈ cs, isLet c)
theorem NmD.ex {P : Nat → Nat → Prop} {x : Nat} {cs : List Int32} (h : NmD A a0 x cs) (e : Ex P c s A A') (hp : ∀ f i, a0 ≤ i → isBN (aK A i) → ¬ P f i) : NmD A' a0 x cs := by
  obtain ⟨ar, h0, h1, h3, h4, h5, h6, h7, h8⟩ := h
  have k : aK A x ≠ 0 := by rw [h1.1]; decide
  have kx : isBN (aK A x) := Or.inr (Or.inl h1.1)
  have ka : isBN (aK A ar) := Or.inr (Or.inr h5)
  refine ⟨ar, h0, h1.ex e (fun f i _ hi => ?_), (e.R _ k (hp _ _ h0 kx)).trans h3, h4, e.K h5 (by decide), h6, h7, h8⟩
  rcases hi with hi | hi
  · rw [hi]; exact hp f x h0 kx
  · rw [h3] at hi; cases hi; exact hp f ar h4 ka
/-- the writes of the reference for one being more -/
def beS (σ : mSt) (nb l c t : Nat) (v : Int64) : mSt := mUI (mUI (mUI (mUI (mUJ σ 42 nb v) 45 (2 * nb) (nn l)) 45 (2 * nb + 1) (nn c)) 46 nb (nn t)) 41 0 (nn (nb + 1))
def Kbe (nb k j : Nat) : Prop := (k = 42 ∧ j = nb) ∨ (k = 45 ∧ (j = 2 * nb ∨ j = 2 * nb + 1)) ∨ (k = 46 ∧ j = nb) ∨ (k = 41 ∧ j = 0)
theorem beS_cg {l c t : Nat} {v : Int64} : Cg (Kbe nb) σ (beS σ nb l c t v) := by
  unfold beS
  exact (Cg.UJ (Or.inl ⟨rfl, rfl⟩)).trans ((Cg.UI (Or.inr (Or.inl ⟨rfl, Or.inl rfl⟩))).trans ((Cg.UI (Or.inr (Or.inl ⟨rfl, Or.inr rfl⟩))).trans ((Cg.UI (Or.inr (Or.inr (Or.inl ⟨rfl, rfl⟩)))).trans (Cg.UI (Or.inr (Or.inr (Or.inr ⟨rfl, rfl⟩)))))))
theorem FT.being (h : FT A σ a0 L C g w nb cd ar be) (gn : GN A) (hr : aN A + 1 ≤ CB) (hn : a0 + 7 ≤ aN A) (hnb : nb < 8) {i l c t x : Nat} {cs : List Int32} (ki : aK A i = 7) (hi : a0 ≤ i) (i1 : aI A 701 i 0 = nn l) (i2 : aI A 702 i 0 = nn c) (i3 : aI A 703 i 0 = nn t) (hl : l < L) (hc : c < C) (ht : t ≤ 9) (hf : frB σ nb l c = true) (i4 : aR A 700 i 0 = some x) (nm : NmD A a0 x cs) :
    ∃ A' ar', J2_add A (a0 + 5) i = some (1, A') ∧ Ex (fun _ j => j = a0 + 5 ∨ j = ar) 1 16 A A' ∧ FT A' (beS σ nb l c t (num27 cs)) a0 L C g w (nb + 1) cd ar' (be ++ [i]) := by
  have a1 := h.a1
  have a2 := h.a2
  have bL := h.bL
  have bC := h.bC
  have bn := h.bn
  have bl := h.bl
  have lar := h.lar
  obtain ⟨A', ar', h1, h2, h3, h4⟩ := add_eq gn hr h.lx (by omega) (show isObj (aK A i) = true by rw [ki]; decide)
  rw [bl] at h2
  have e : Ex (fun _ j => j = a0 + 5 ∨ j = ar) 1 16 A A' := h2.wk (by omega) (by omega)
  have m : Cg (Kbe nb) σ (beS σ nb l c t (num27 cs)) := beS_cg
  have hk : ∀ k j, Kbe nb k j → (k = 42 ∧ j = nb) ∨ (k = 45 ∧ (j = 2 * nb ∨ j = 2 * nb + 1)) ∨ (k = 46 ∧ j = nb) ∨ (k = 41 ∧ j = 0) := fun k j z => z
  have nk : ∀ {k j : Nat}, ((k = 42 ∧ j = nb) ∨ (k = 45 ∧ (j = 2 * nb ∨ j = 2 * nb + 1)) ∨ (k = 46 ∧ j = nb) ∨ (k = 41 ∧ j = 0) → False) → ¬ Kbe nb k j := fun z => z
  have pBN : ∀ (f j : Nat), a0 ≤ j → isBN (aK A j) → ¬ (j = a0 + 5 ∨ j = ar) := by
    intro f j _ hk z
    unfold isBN at hk
    rcases z with z | z
    · rw [z, h.lx.kd] at hk; omega
    · rw [z, h.lx.ka] at hk; omega
  have v41 : (beS σ nb l c t (num27 cs)).1 41 0 = nn (nb + 1) := by unfold beS; rw [mI_UI, if_pos ⟨rfl, rfl⟩]
  have v46 : (beS σ nb l c t (num27 cs)).1 46 nb = nn t := by unfold beS; rw [mI_UI, if_neg (by omega), mI_UI, if_pos ⟨rfl, rfl⟩]
  have v45b : (beS σ nb l c t (num27 cs)).1 45 (2 * nb + 1) = nn c := by unfold beS; rw [mI_UI, if_neg (by omega), mI_UI, if_neg (by omega), mI_UI, if_pos ⟨rfl, rfl⟩]
  have v45a : (beS σ nb l c t (num27 cs)).1 45 (2 * nb) = nn l := by unfold beS; rw [mI_UI, if_neg (by omega), mI_UI, if_neg (by omega), mI_UI, if_neg (by omega), mI_UI, if_pos ⟨rfl, rfl⟩]
  have v42 : (beS σ nb l c t (num27 cs)).2 42 nb = num27 cs := by unfold beS; rw [mJ_UI, mJ_UI, mJ_UI, mJ_UI, mJ_UJ, if_pos ⟨rfl, rfl⟩]
  have o45 : ∀ j, j < 2 * nb → (beS σ nb l c t (num27 cs)).1 45 j = σ.1 45 j := fun j hj => m.I (nk (by omega))
  have fr := frB_t.mp hf
  have k0 : aK A i ≠ 0 := by rw [ki]; decide
  have kin : isBN (aK A i) := Or.inl ki
  have pi : ∀ f : Nat, ¬ (i = a0 + 5 ∨ i = ar) := fun f => pBN f i hi kin
  refine ⟨A', ar', h1, e, FT.mk (h.fh.ex e m (by omega) (by omega) (nk (by omega)) (nk (by omega))) (h.fg.ex h.k e m (by omega) (by omega) (by omega) (nk (by omega)) (fun _ _ => nk (by omega))) (h.fw.ex h.k e m (by omega) (fun f _ _ => by omega) (fun d _ _ => by omega) (nk (by omega)) (fun _ _ => nk (by omega))) (FB.mk v41 (by omega) ((e.R _ (by rw [h.k]; decide) (by omega)).trans h.bel) h3 ?_ (by rw [List.length_append, List.length_singleton, bl]) (fun b j hj => ?_) (fun x y hx hy e1 e2 => ?_)) (fun b l' hb hl' he => ?_) (h.fc.ex (ar' := ar') h.k e m (fun f _ _ => by omega) (fun f j hj _ => by unfold ownV at hj; omega) (fun j hj hk => ?_) (fun _ _ => nk (by omega)) (fun _ _ => nk (by omega)) (fun _ _ => nk (by omega)) (nk (by omega))) ?_⟩
  · rcases h4 with z | z <;> omega
  · rcases app_get hj with ⟨q1, q2⟩ | ⟨q1, q2⟩
    · exact (h.bi b j q2).ex e pBN (fun y hy => o45 y (by omega)) (m.I (nk (by omega))) (m.J (nk (by omega)))
    · rw [q1, bl, q2]
      obtain ⟨ar2, d0, d1, d2, d3, d4, d5, d6, d7⟩ := nm.ex e pBN
      refine ⟨hi, e.K ki (by decide), ?_, ?_, ?_, ⟨l, hl, v45a⟩, ⟨c, hc, v45b⟩, ⟨t, ht, v46⟩, x, (e.R _ k0 (pi 0)).trans i4, cs, ar2, d0, d1, d2, d3, d4, d5, d6, d7, v42⟩
      · rw [e.I _ k0 (pi 0), v45a]; exact i1
      · rw [e.I _ k0 (pi 0), v45b]; exact i2
      · rw [e.I _ k0 (pi 0), v46]; exact i3
  · by_cases zx : x = nb
    · by_cases zy : y = nb
      · omega
      · subst zx
        rw [v45a, o45 _ (by omega)] at e1
        rw [v45b, o45 _ (by omega)] at e2
        exact absurd ⟨e1.symm, e2.symm⟩ (fr.2 y (by omega))
    · by_cases zy : y = nb
      · subst zy
        rw [v45a, o45 _ (by omega)] at e1
        rw [v45b, o45 _ (by omega)] at e2
        exact absurd ⟨e1, e2⟩ (fr.2 x (by omega))
      · rw [o45 _ (by omega), o45 _ (by omega)] at e1 e2
        exact h.di x y (by omega) (by omega) e1 e2
  · rw [m.I (k := 43) (nk (by omega))]
    by_cases z : b = nb
    · subst z
      rw [v45a] at he
      have : l = l' := (nn_eq (by omega) (by omega)).mp he
      subst this
      rw [v45b]; exact fr.1
    · rw [o45 _ (by omega)] at he
      rw [o45 _ (by omega)]
      exact h.fo b l' (by omega) hl' he
  · refine ⟨hj.1, fun z => ?_⟩
    rcases h4 with q | q
    · exact hj.2 (z.trans q)
    · exact hk (by rw [z, q]; exact gn.fresh (by omega))
  · rw [e.I _ (by rw [h.k]; decide) (by omega), m.I (nk (by omega))]; exact h.th
end
