/-! PURE LEVEL: words as Strings -/
set_option maxRecDepth 100000
def StR (A : AH) (s : Nat) (cs : List Int32) : Prop := aK A s = 19 ∧ aI A 1901 s 0 = 0 ∧ ∃ ar, aR A 1900 s 0 = some ar ∧ aK A ar = 33 ∧ aL A ar = cs.length ∧ cs.length < 5000 ∧ ∀ i v, cs[i]? = some v → aI A 33 ar i = v
theorem kw_len : ∀ j, j < 34 → (kw j).length < 5000 := by decide +kernel
theorem GN.kst {A : AH} (g : GN A) {j : Nat} (hj : j < 34) : StR A (CB + j) (kw j) := by
  have c0 : CB = 1000000 := rfl
  obtain ⟨h1, h2, h3, h4⟩ := g.ct (CB + j) (by omega)
  obtain ⟨a1, a2, a3, a4⟩ := g.ct (CB + j + 40) (by omega)
  refine ⟨?_, ?_, CB + j + 40, ?_, ?_, ?_, kw_len j hj, fun i v hv => ?_⟩
  · rw [h1]; unfold kC; rw [if_neg (by omega), if_pos (by omega)]
  · rw [h3]; rfl
  · rw [h4]; rfl
  · rw [a1]; unfold kC; rw [if_neg (by omega), if_neg (by omega), if_pos (by omega)]
  · rw [a2]; unfold lC; rw [if_pos (by omega), show CB + j + 40 - CB - 40 = j by omega]
  · rw [a3]; unfold iC; rw [if_pos rfl, show CB + j + 40 - CB - 40 = j by omega]
    rw [List.getD_eq_getElem?_getD, hv]; rfl
theorem StR.ex {A A' : AH} {s : Nat} {cs : List Int32} {Q : Nat → Nat → Prop} {c z : Nat} (h : StR A s cs) (e : Ex Q c z A A') (hq : ∀ f i, (aK A i = 19 ∨ aK A i = 33) → (i = s ∨ aR A 1900 s 0 = some i) → ¬ Q f i) : StR A' s cs := by
  obtain ⟨h1, h2, ar, h3, h4, h5, h6, h7⟩ := h
  have k1 : aK A s ≠ 0 := by rw [h1]; decide
  have k2 : aK A ar ≠ 0 := by rw [h4]; decide
  exact ⟨e.K h1 (by decide), (e.I _ k1 (hq _ _ (Or.inl h1) (Or.inl rfl))).trans h2, ar, (e.R _ k1 (hq _ _ (Or.inl h1) (Or.inl rfl))).trans h3, e.K h4 (by decide), (e.L k2).trans h5, h6, fun i v hv => (e.I _ k2 (hq _ _ (Or.inr h4) (Or.inr h3))).trans (h7 i v hv)⟩
theorem eqs_loop {N : Nat} {A : AH} {a b : Nat} {cs ds : List Int32} (ka : aK A a = 33) (kb : aK A b = 33) (la : aL A a = cs.length) (lb : aL A b = cs.length) (l5 : cs.length < 5000) (ld : ds.length = cs.length) (va : ∀ i v, cs[i]? = some v → aI A 33 a i = v) (vb : ∀ i v, ds[i]? = some v → aI A 33 b i = v) :
    ∀ (f k z : Nat), k + f = cs.length → f < z → (∀ i, i < k → cs[i]? = ds[i]?) → rn1 (J9_equals_b9 N a b A) z (nn k) = some (if cs = ds then 1 else 0) := by
  intro f
  induction f with
  | zero =>
    intro k z hk hz hi
    obtain ⟨z, rfl⟩ : ∃ m, z = m + 1 := ⟨z - 1, by omega⟩
    show J9_equals_b9 N a b A _ _ = _
    unfold J9_equals_b9
    rw [aLn_k ka, bo_some, la, if_pos ((nn_le (by omega) (by omega)).mpr (by omega)), if_pos]
    apply List.ext_getElem?
    intro i
    rcases Nat.lt_or_ge i k with q | q
    · exact hi i q
    · rw [List.getElem?_eq_none (by omega), List.getElem?_eq_none (by omega)]
  | succ f ih =>
    intro k z hk hz hi
    obtain ⟨z, rfl⟩ : ∃ m, z = m + 1 := ⟨z - 1, by omega⟩
    have ih' := ih (k + 1) z (by omega) (by omega)
    show J9_equals_b9 N a b A (rn1 (J9_equals_b9 N a b A) z) _ = _
    generalize rn1 (J9_equals_b9 N a b A) z = kk at ih' ⊢
    obtain ⟨x, hx⟩ : ∃ x, cs[k]? = some x := ⟨cs[k]'(by omega), List.getElem?_eq_getElem _⟩
    obtain ⟨y, hy⟩ : ∃ y, ds[k]? = some y := ⟨ds[k]'(by omega), List.getElem?_eq_getElem _⟩
    unfold J9_equals_b9
    rw [aLn_k ka, bo_some, la, if_neg (fun q => by rw [nn_le (by omega) (by omega)] at q; omega), dI_nn ka (by omega) (by omega), bo_some, dI_nn kb (by omega) (by omega), bo_some, va k x hx, vb k y hy]
    by_cases e : x = y
    · rw [if_pos e, nn_succ]
      apply ih'
      intro i h
      by_cases ei : i = k
      · rw [ei, hx, hy, e]
      · exact hi i (by omega)
    · rw [if_neg e, if_neg]
      intro q
      rw [q, hy] at hx
      cases hx
      exact e rfl
theorem equals_eq {N : Nat} (hN : 5000 ≤ N) {A : AH} {a b : Nat} {cs ds : List Int32} (ha : StR A a cs) (hb : StR A b ds) : J6_equals N A a b = some (if cs = ds then 1 else 0) := by
  obtain ⟨h1, h2, ar, h3, h4, h5, h6, h7⟩ := ha
  obtain ⟨g1, g2, br, g3, g4, g5, g6, g7⟩ := hb
  unfold J6_equals
  rw [if_pos ⟨h1, g1⟩]
  by_cases e : a = b
  · rw [if_pos e]
    subst e
    rw [h3] at g3
    cases g3
    rw [if_pos]
    have hl : cs.length = ds.length := by omega
    apply List.ext_getElem?
    intro i
    rcases Nat.lt_or_ge i cs.length with q | q
    · obtain ⟨x, hx⟩ : ∃ x, cs[i]? = some x := ⟨cs[i]'(by omega), List.getElem?_eq_getElem _⟩
      obtain ⟨y, hy⟩ : ∃ y, ds[i]? = some y := ⟨ds[i]'(by omega), List.getElem?_eq_getElem _⟩
      rw [hx, hy, ← h7 i x hx, ← g7 i y hy]
    · rw [List.getElem?_eq_none (by omega), List.getElem?_eq_none (by omega)]
  · rw [if_neg e, if_pos g1, if_pos g1, gI_k h1, bo_some, gI_k g1, bo_some, h2, g2, if_pos rfl]
    have hj : J9_equals N A ar br = some (if cs = ds then 1 else 0) := by
      unfold J9_equals
      rw [aLn_k h4, bo_some, aLn_k g4, bo_some, h5, g5]
      by_cases el : cs.length = ds.length
      · rw [if_pos (by rw [el])]
        exact eqs_loop h4 g4 h5 (by omega) h6 el.symm h7 g7 cs.length 0 N (by omega) (by omega) (fun i hi => by omega)
      · rw [if_neg (fun q => el ((nn_eq (by omega) (by omega)).mp q)), if_neg]
        intro q; exact el (by rw [q])
    unfold J6_equals_b36
    rw [gN_k h1, h3, bo_some, gN_k g1, g3, bo_some, hj, bo_some]
    by_cases q : cs = ds
    · rw [if_pos q, if_neg (by decide)]
    · rw [if_neg q, if_pos rfl]
def fdI (o : Option Nat) : Int32 := match o with
  | some k => nn k
  | none => -1
theorem ka_len : ∀ r, r < 4 → (kaL.getD r []).length < 5000 ∧ ∀ i, i < (kaL.getD r []).length → (kaL.getD r []).getD i 0 < 34 := by decide +kernel
theorem find_loop {N : Nat} (hN : 5000 ≤ N) {A : AH} (g : GN A) {s r : Nat} {cs : List Int32} (hs : StR A s cs) (hr : r < 4) : ∀ (js : List Nat) (k z : Nat), (kaL.getD r []).drop k = js → js.length < z → k ≤ (kaL.getD r []).length → rn1 (X0_find_b2 N s (CB + 80 + r) A) z (nn k) = some (fdI (fdx cs js k)) := by
  have c0 : CB = 1000000 := rfl
  obtain ⟨a1, a2, a3, a4⟩ := g.ct (CB + 80 + r) (by omega)
  have kk40 : aK A (CB + 80 + r) = 40 := by
    rw [a1]; unfold kC; rw [if_neg (by omega), if_neg (by omega), if_neg (by omega), if_pos (by omega)]
  have ll : aL A (CB + 80 + r) = (kaL.getD r []).length := by
    rw [a2]; unfold lC; rw [if_neg (by omega), show CB + 80 + r - CB - 80 = r by omega]
  obtain ⟨l1, l2⟩ := ka_len r hr
  intro js
  induction js with
  | nil =>
    intro k z hk hz hle
    obtain ⟨z, rfl⟩ : ∃ m, z = m + 1 := ⟨z - 1, by omega⟩
    have hk2 : (kaL.getD r []).length ≤ k := by
      have := congrArg List.length hk
      rw [List.length_drop] at this
      simp at this
      simp
      omega
    show X0_find_b2 N s (CB + 80 + r) A _ _ = _
    unfold X0_find_b2
    rw [aLn_k kk40, bo_some, ll, if_pos ((nn_le (by omega) (by omega)).mpr hk2)]
    rfl
  | cons j js ih =>
    intro k z hk hz hle
    obtain ⟨z, rfl⟩ : ∃ m, z = m + 1 := ⟨z - 1, by omega⟩
    have hlt : k < (kaL.getD r []).length := by
      have := congrArg List.length hk
      rw [List.length_drop] at this
      simp only [List.length_cons] at this
      omega
    have hj : (kaL.getD r [])[k]? = some j := by
      have := congrArg (fun l => l[0]?) hk
      simpa using this
    have hjd : (kaL.getD r []).getD k 0 = j := by rw [List.getD_eq_getElem?_getD, hj]; rfl
    have hj34 : j < 34 := by rw [← hjd]; exact l2 k hlt
    have ih' := ih (k + 1) z (by
      have := congrArg (List.drop 1) hk
      rw [List.drop_drop] at this
      simpa using this) (by simp at hz; omega) hlt
    show X0_find_b2 N s (CB + 80 + r) A (rn1 (X0_find_b2 N s (CB + 80 + r) A) z) _ = _
    generalize rn1 (X0_find_b2 N s (CB + 80 + r) A) z = kk at ih' ⊢
    have hst := g.kst hj34
    have hR : aR A 40 (CB + 80 + r) k = some (CB + j) := by
      rw [a4]; unfold rC; rw [if_neg (by decide), if_pos rfl, show CB + 80 + r - CB - 80 = r by omega, hjd]
    unfold X0_find_b2
    rw [aLn_k kk40, bo_some, ll, if_neg (fun q => by rw [nn_le (by omega) (by omega)] at q; omega), dR_nn kk40 (by omega) (by omega), hR, bo_some, if_pos hst.1, equals_eq hN hst hs, bo_some]
    unfold fdx
    by_cases q : cs = kw j
    · rw [if_pos q.symm, if_pos q, if_neg (by decide)]; rfl
    · rw [if_neg (fun z : kw j = cs => q z.symm), if_neg q, if_pos rfl, nn_succ]; exact ih'
theorem find_eq {N : Nat} (hN : 5000 ≤ N) {A : AH} (g : GN A) {s r : Nat} {cs : List Int32} (hs : StR A s cs) (hr : r < 4) : X0_find N A s (CB + 80 + r) = some (fdI (fdx cs (kaL.getD r []) 0)) := find_loop hN g hs hr _ 0 N rfl (by have := (ka_len r hr).1; omega) (Nat.zero_le _)
theorem nb_byte : ∀ b, b < 128 → vp_nar .byte ((Int32.toInt8 (nn b)).toInt32) = nn b ∧ vp_nar .char ((Int32.toUInt32 (sby b) % 65536).toInt32) = nn b := by decide +kernel
/-- the rows of a word, one by one -/
theorem comp_loop {N : Nat} {bs : Nat → Nat} {L x y : Nat} (hb : ∀ k, k < L → bs k < 128) (hL : L < 5000) (hy : y < CB) (hxy : x ≠ y) : ∀ (f k z : Nat) (A : AH), k + f = L → f < z → GN A → aK A x = 34 → aL A x = L → aK A y = 33 → aL A y = L → (∀ i, i < L → aI A 34 x i = nn (bs i)) → (∀ i, i < k → aI A 33 y i = nn (bs i)) →
    ∃ A', rn4 (J7_compress_2_b3 N x y (nn L)) z A (nn k) (nn k) (nn k) = some (nn L, A') ∧ Ex (fun _ i => i = y) 0 0 A A' ∧ ∀ i, i < L → aI A' 33 y i = nn (bs i) := by
  intro f
  induction f with
  | zero =>
    intro k z A hk hz g kx lx ky ly vx vy
    obtain ⟨z, rfl⟩ : ∃ m, z = m + 1 := ⟨z - 1, by omega⟩
    refine ⟨A, ?_, Ex.refl g, fun i hi => vy i (by omega)⟩
    show J7_compress_2_b3 N x y (nn L) _ A _ _ _ = _
    unfold J7_compress_2_b3
    rw [if_pos ((nn_le (by omega) (by omega)).mpr (by omega))]
  | succ f ih =>
    intro k z A hk hz g kx lx ky ly vx vy
    obtain ⟨z, rfl⟩ : ∃ m, z = m + 1 := ⟨z - 1, by omega⟩
    have bk := hb k (by omega)
    obtain ⟨A', h1, h2, h3⟩ := ih (k + 1) z (wI A 33 y k (nn (bs k))) (by omega) (by omega) (g.wI hy) kx lx ky ly (fun i hi => by rw [aI_wI, if_neg (fun q => hxy q.2.1)]; exact vx i hi) (fun i hi => by
      rw [aI_wI]
      by_cases e : i = k
      · rw [if_pos ⟨rfl, rfl, e⟩, e]
      · rw [if_neg (fun q => e q.2.2)]; exact vy i (by omega))
    refine ⟨A', ?_, (Ex.wI (P := fun _ i => i = y) g rfl hy).trans h2, h3⟩
    show J7_compress_2_b3 N x y (nn L) (rn4 (J7_compress_2_b3 N x y (nn L)) z) A _ _ _ = _
    generalize rn4 (J7_compress_2_b3 N x y (nn L)) z = kk at h1 ⊢
    unfold J7_compress_2_b3
    rw [if_neg (fun q => by rw [nn_le (by omega) (by omega)] at q; omega), dI_nn kx (by omega) (by omega), bo_some, vx k (by omega), if_pos (show nn (bs k) ≤ (255 : Int32) from (nn_le (b := 255) (by omega) (by decide)).mpr (by omega)), (nb_byte _ bk).1, uB_nn ky hy (by omega) (by omega), bo_some, nn_succ]
    exact h1
theorem valueOf_eq {N : Nat} (hN : 5000 ≤ N) {A : AH} (g : GN A) {x L : Nat} {bs : Nat → Nat} (hr : aN A + 2 ≤ CB) (h1 : 1 ≤ L) (hL : L < 5000) (kx : aK A x = 34) (lx : aL A x = L) (hb : ∀ k, k < L → bs k < 128) (vx : ∀ i, i < L → aI A 34 x i = nn (bs i)) :
    ∃ A', J6_valueOf N A x = some (some (aN A), A') ∧ Ex (fun _ _ => False) 2 (L + 4) A A' ∧ StR A' (aN A) ((List.range L).map (fun i => nn (bs i))) ∧ aI A' 1902 (aN A) 0 = 0 ∧ aI A' 1903 (aN A) 0 = 0 ∧ aR A' 1900 (aN A) 0 = some (aN A + 1) ∧ aK A' (aN A + 1) = 33 := by
  have c0 : CB = 1000000 := rfl
  have lo := g.lo
  have k0 : aK A (aN A) = 0 := g.fresh (by omega)
  have kx0 : x ≠ aN A := fun q => by rw [q, k0] at kx; omega
  have kx1 : x ≠ aN A + 1 := fun q => by rw [q, g.nz _ (by omega) (by omega)] at kx; omega
  have g1 : GN (nw A 19 0 4) := g.nw (by omega)
  have e1 : Ex (fun _ _ => False) 1 4 A (nw A 19 0 4) := Ex.nw g (by omega)
  have n1 : aN (nw A 19 0 4) = aN A + 1 := rfl
  have e2 : Ex (fun _ _ => False) 1 L (nw A 19 0 4) (nw (nw A 19 0 4) 33 L L) := Ex.nw g1 (by rw [n1]; omega)
  have g2 := e2.gn
  obtain ⟨A3, h3, e3, v3⟩ := comp_loop (N := N) (bs := bs) (L := L) (x := x) (y := aN A + 1) hb hL (by omega) kx1 L 0 N (nw (nw A 19 0 4) 33 L L) (by omega) (by omega) g2 (by rw [aK_nw, n1, if_neg kx1, aK_nw, if_neg kx0]; exact kx) (by rw [aL_nw, n1, if_neg kx1, aL_nw, if_neg kx0]; exact lx) (by rw [aK_nw, n1, if_pos rfl]) (by rw [aL_nw, n1, if_pos rfl]) (fun i hi => by rw [aI_nw, n1, if_neg kx1, aI_nw, if_neg kx0]; exact vx i hi) (fun i hi => by omega)
  have kq2 : aK (nw (nw A 19 0 4) 33 L L) (aN A) = 19 := by rw [aK_nw, n1, if_neg (by omega), aK_nw, if_pos rfl]
  have kb2 : aK (nw (nw A 19 0 4) 33 L L) (aN A + 1) = 33 := by rw [aK_nw, n1, if_pos rfl]
  have lb2 : aL (nw (nw A 19 0 4) 33 L L) (aN A + 1) = L := by rw [aL_nw, n1, if_pos rfl]
  have kq3 : aK A3 (aN A) = 19 := e3.K kq2 (by decide)
  have kb3 : aK A3 (aN A + 1) = 33 := e3.K kb2 (by decide)
  have lb3 : aL A3 (aN A + 1) = L := (e3.L (by rw [kb2]; decide)).trans lb2
  have eA : Ex (fun _ _ => False) 2 (L + 4) A A3 := ((e1.tr e2 (fun _ _ q => q.elim)).tr e3 (fun _ i q => Or.inr (by rw [show i = aN A + 1 from q]; exact g.nz _ (by omega) (by omega)))).wk (by omega) (by omega)
  have eB : Ex (fun _ i => i = aN A) 0 0 A3 (wR (wI A3 1901 (aN A) 0 0) 1900 (aN A) 0 (some (aN A + 1))) := (Ex.wI (P := fun _ i => i = aN A) e3.gn rfl (by omega)).trans (Ex.wR (e3.gn.wI (by omega)) rfl (by omega))
  have lA : Le (nw A 19 0 4) A3 := e2.le2.trans e3.le2
  have lB := eB.le2
  have lC := lA.trans lB
  have lD := eA.le2.trans lB
  refine ⟨wR (wI A3 1901 (aN A) 0 0) 1900 (aN A) 0 (some (aN A + 1)), ?_, (eA.tr eB (fun _ i q => Or.inr (by rw [show i = aN A from q]; exact k0))).wk (by omega) (by omega), ⟨kq3, ?_, aN A + 1, ?_, kb3, ?_, ?_, fun i v hv => ?_⟩, ?_, ?_, ?_, kb3⟩
  · have hc : J7_compress_2 N (nw (nw A 19 0 4) 33 L L) x 0 (aN (nw A 19 0 4)) 0 (nn L) = some (nn L, A3) := by
      unfold J7_compress_2
      rw [n1]; exact h3
    have hcp : J7_compress N (nw A 19 0 4) x 0 (nn L) = some (some (aN A + 1), A3) := by
      unfold J7_compress
      rw [nwA_ok (by rw [n1]; omega) (by omega), bo_some, hc, bd_some, if_pos rfl, ck_ok e3.le2, ck_ok lA, n1]
    have hco : J7_coderFromArrayLen A3 (aN A + 1) (nn L) = some 0 := by
      unfold J7_coderFromArrayLen
      rw [aLn_k kb3, bo_some, lb3, Int32.sub_self]
      rfl
    have hi2 : J6_init_2 N (nw A 19 0 4) (aN A) x 0 (nn L) none = some ((), wR (wI A3 1901 (aN A) 0 0) 1900 (aN A) 0 (some (aN A + 1))) := by
      unfold J6_init_2
      rw [if_neg (fun q => by have := (nn_eq (a := L) (b := 0) (by omega) (by omega)).mp q; omega), hcp, bda_ok lA, bo_some, hco, bo_some, if_pos (Or.inl rfl)]
      unfold pIs pRs
      rw [if_pos ⟨kq3, by omega⟩, bo_some, if_pos ⟨kq3, by omega⟩, bo_some, ck_ok lB, ck_ok lC]
    unfold J6_valueOf
    rw [nwO_ok (by omega), bo_some]
    have hi1 : J6_init N (nw A 19 0 4) (aN A) x = some ((), wR (wI A3 1901 (aN A) 0 0) 1900 (aN A) 0 (some (aN A + 1))) := by
      unfold J6_init
      rw [aLn_k (by rw [aK_nw, if_neg kx0]; exact kx), bo_some, show aL (nw A 19 0 4) x = L by rw [aL_nw, if_neg kx0]; exact lx, hi2, bda_ok lC, ck_ok (Le.refl _), ck_ok lC]
    rw [hi1, bda_ok lC, ck_ok (Le.refl _), ck_ok lC, ck_ok lD]
  · rw [aI_wR, aI_wI, if_pos ⟨rfl, rfl, rfl⟩]
  · rw [aR_wR, if_pos ⟨rfl, rfl, rfl⟩]
  · show aL A3 (aN A + 1) = _
    rw [lb3, List.length_map, List.length_range]
  · rw [List.length_map, List.length_range]; exact hL
  · have hi : i < L := by
      have := (List.getElem?_eq_some_iff.mp hv).1
      simpa using this
    rw [List.getElem?_map, List.getElem?_range hi] at hv
    cases hv
    rw [aI_wR, aI_wI, if_neg (fun q => absurd q.1 (by decide))]
    exact v3 i hi
  · rw [aI_wR, aI_wI, if_neg (fun q => absurd q.1 (by decide)), e3.I _ (by rw [kq2]; decide) (by omega), aI_nw, n1, if_neg (by omega), aI_nw, if_pos rfl]
  · rw [aI_wR, aI_wI, if_neg (fun q => absurd q.1 (by decide)), e3.I _ (by rw [kq2]; decide) (by omega), aI_nw, n1, if_neg (by omega), aI_nw, if_pos rfl]
  · rw [aR_wR, if_pos ⟨rfl, rfl, rfl⟩]
