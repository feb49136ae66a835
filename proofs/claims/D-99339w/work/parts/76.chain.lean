/-! PURE LEVEL: builders and chains that grow -/
set_option maxRecDepth 100000
theorem sgn_nar {s : Int32} (h : sgn s) : vp_nar .byte ((Int32.toInt8 s).toInt32) = s ∧ vp_nar .byte s = s ∧ J9_canEncode s = some 1 := by
  rcases h with rfl | rfl | rfl | rfl <;> decide +kernel
section
variable {A A' : AH} {li ar sb br v x0 : Nat} {ids : List Nat} {ss : List Int32} {x : Int32}
/-- the builder has room for one more -/
theorem ensure_room (g : GN A) (h : SX A sb br ss) (hlt : ss.length < aL A br) : J14_ensureCapacityInternal A sb (nn (ss.length + 1)) = some ((), A) := by
  have c5 := h.c5
  unfold J14_ensureCapacityInternal
  rw [gN_k h.kd, h.rf, bo_some, aLn_k h.ka, bo_some, gI_k h.kd, bo_some, h.cod, sh0, if_pos ((nn_suble (by omega) (by omega)).mpr (by omega)), ck_ok (Le.refl _)]
theorem ensure_grow (g : GN A) (hr : aN A + 1 ≤ CB) (h : SX A sb br ss) (heq : ss.length = aL A br) (hl : ss.length ≤ 2000) : ∃ A', J14_ensureCapacityInternal A sb (nn (ss.length + 1)) = some ((), A') ∧ Ex (fun _ i => i = sb ∨ i = br) 1 (2 * ss.length + 2) A A' ∧ SX A' sb (aN A) ss ∧ ss.length < aL A' (aN A) := by
  have c2 := h.c2
  have fr : aK A (aN A) = 0 := g.fresh (by omega)
  have nsb : sb ≠ aN A := fun q => by have := h.kd; rw [q, fr] at this; omega
  have nbr : br ≠ aN A := fun q => by have := h.ka; rw [q, fr] at this; omega
  have e2 : Ex (fun _ i => i = sb ∨ i = br) 1 (2 * ss.length + 2) A (nw A 33 (2 * ss.length + 2) (2 * ss.length + 2)) := Ex.nw g (by omega)
  generalize hA2 : nw A 33 (2 * ss.length + 2) (2 * ss.length + 2) = A2 at e2
  have hk : ∀ i, aK A2 i = if i = aN A then 33 else aK A i := fun i => by rw [← hA2]; rfl
  have hL : ∀ i, aL A2 i = if i = aN A then (2 * ss.length + 2) else aL A i := fun i => by rw [← hA2]; rfl
  have hR : ∀ f i j, aR A2 f i j = if i = aN A then none else aR A f i j := fun f i j => by rw [← hA2]; rfl
  have hI : ∀ f i j, aI A2 f i j = if i = aN A then 0 else aI A f i j := fun f i j => by rw [← hA2]; rfl
  have g3 : GN (cpI A2 33 br (aN A) 0 0 ss.length) := by
    refine GN.mk e2.gn.nz (fun k hk => ?_) e2.gn.lo e2.gn.ks
    obtain ⟨z1, z2, z3, z4⟩ := e2.gn.ct k hk
    refine ⟨z1, z2, fun f j => ?_, z4⟩
    rw [aI_cpI, if_neg (by omega)]; exact z3 f j
  have e3 : Ex (fun _ i => i = aN A) 0 0 A2 (cpI A2 33 br (aN A) 0 0 ss.length) := Ex.mk (Nat.le_refl _) (Nat.le_refl _) (Nat.le_refl _) (Nat.le_refl _) (fun _ _ => ⟨rfl, rfl⟩) (fun f i j _ hp => ⟨by rw [aI_cpI, if_neg (fun z => hp z.2)], rfl, rfl⟩) g3
  have hcp : cpB_ A2 br 0 (aN A) 0 (nn ss.length) = some (cpI A2 33 br (aN A) 0 0 ss.length) := by
    unfold cpB_
    rw [nn_clamp (by omega), show (0 : Int32).toNatClampNeg = 0 from rfl, cif_t]
    refine ⟨⟨⟨by rw [hk, if_neg nbr]; exact h.ka, h.ha, by rw [hk, if_pos rfl], by omega⟩, ⟨by decide, by decide, nn_nneg (by omega)⟩, ?_, ?_⟩, fun i hi => ?_⟩
    · rw [nn_clamp (by omega), show (0 : Int32).toNatClampNeg = 0 from rfl, hL, if_neg nbr]; omega
    · rw [nn_clamp (by omega), show (0 : Int32).toNatClampNeg = 0 from rfl, hL, if_pos rfl]; omega
    · obtain ⟨w, hw⟩ : ∃ w, ss[i]? = some w := ⟨ss[i]'hi, List.getElem?_eq_getElem _⟩
      rw [Nat.zero_add, hI, if_neg nbr, h.el i w hw]
      exact (sgn_nar (h.sg w (List.mem_of_getElem? hw))).2.1
  have e4 : Ex (fun _ i => i = sb) 0 0 (cpI A2 33 br (aN A) 0 0 ss.length) (wR (cpI A2 33 br (aN A) 0 0 ss.length) 2000 sb 0 (some (aN A))) := Ex.wR g3 rfl h.hl
  have eA : Ex (fun _ i => i = sb ∨ i = br) 1 (2 * ss.length + 2) A (wR (cpI A2 33 br (aN A) 0 0 ss.length) 2000 sb 0 (some (aN A))) := ((e2.tr e3 (fun _ i q => Or.inr (by rw [show i = aN A from q]; exact fr))).tr e4 (fun _ i q => Or.inl (Or.inl q))).wk (by omega) (by omega)
  have lc : Le A (cpI A2 33 br (aN A) 0 0 ss.length) := e2.le2.trans e3.le2
  refine ⟨_, ?_, eA, ?_, ?_⟩
  · have hnc : J14_newCapacity A sb (nn (ss.length + 1)) = some (nn (2 * ss.length + 2), A) := by
      unfold J14_newCapacity
      rw [gN_k h.kd, h.rf, bo_some, aLn_k h.ka, bo_some, gI_k h.kd, bo_some, h.cod, bo_some, sl0, sl0, ← heq, nn_sub (by omega), show ss.length + 1 - ss.length = 1 by omega, show (2 : Int32) = nn 2 from rfl, nn_add, newLen_eq (by omega) (by omega) (by omega) (by omega), bda_ok (Le.refl _), if_neg (fun q : nn (ss.length + (ss.length + 2)) = (2147483647 : Int32) => by have := (nn_eq (b := 2147483647) (by omega) (by omega)).mp q; omega), gI_k h.kd, bo_some, h.cod, sh0, ck_ok (Le.refl _), ck_ok (Le.refl _), show ss.length + (ss.length + 2) = 2 * ss.length + 2 by omega]
    have hc3 : J13_copyOf_3 A br (nn (2 * ss.length + 2)) = some (some (aN A), cpI A2 33 br (aN A) 0 0 ss.length) := by
      unfold J13_copyOf_3 J12_min
      rw [aLn_k h.ka, bo_some, ← heq, if_neg (fun q => by have := (nn_eq (by omega) (by omega)).mp q; omega), nwA_ok (by omega) (by omega), hA2, bo_some, aLn_k (by rw [hk, if_neg nbr]; exact h.ka), bo_some, hL, if_neg nbr, ← heq, if_neg (fun q => by have := (nn_lt (by omega) (by omega)).mp q; omega), bo_some, hcp, bo_some, ck_ok e3.le2, ck_ok lc]
    unfold J14_ensureCapacityInternal
    rw [gN_k h.kd, h.rf, bo_some, aLn_k h.ka, bo_some, gI_k h.kd, bo_some, h.cod, sh0, if_neg (fun q => by have := (nn_suble (by omega) (by omega)).mp q; omega), bo_some, if_pos h.kd, hnc, bda_ok (Le.refl _), gI_k h.kd, bo_some, h.cod, sl0, hc3, bda_ok lc, bo_some, pR_k (by show aK A2 sb = 20; rw [hk, if_neg nsb]; exact h.kd), bo_some, ck_ok e4.le2, ck_ok (lc.trans e4.le2), ck_ok (lc.trans e4.le2)]
  · refine SX.mk (by show aK A2 sb = 20; rw [hk, if_neg nsb]; exact h.kd) ?_ ?_ ?_ (by show aK A2 (aN A) = 33; rw [hk, if_pos rfl]) ?_ ?_ ?_ (fun i w hw => ?_) h.hl (by omega) h.sg
    · rw [aI_wR, aI_cpI, if_neg (fun z => absurd z.1 (by decide)), hI, if_neg nsb]; exact h.cod
    · rw [aI_wR, aI_cpI, if_neg (fun z => absurd z.1 (by decide)), hI, if_neg nsb]; exact h.len
    · rw [aR_wR, if_pos ⟨rfl, rfl, rfl⟩]
    · show _ ≤ aL A2 (aN A); rw [hL, if_pos rfl]; omega
    · show _ ≤ aL A2 (aN A); rw [hL, if_pos rfl]; omega
    · show aL A2 (aN A) < _; rw [hL, if_pos rfl]; omega
    · have hi := (List.getElem?_eq_some_iff.mp hw).1
      rw [aI_wR, aI_cpI, if_pos ⟨rfl, rfl⟩]
      unfold va_cpy
      rw [if_pos ⟨Nat.zero_le _, by omega⟩, Nat.zero_add, Nat.sub_zero, hI, if_neg nbr]
      exact h.el i w hw
  · show _ < aL A2 (aN A); rw [hL, if_pos rfl]; omega
/-- a sign more, after there is room -/
theorem append_at (g : GN A) (h : SX A sb br ss) (hlt : ss.length < aL A br) (hx : sgn x) {A0 : AH} (k0 : aK A0 sb = 20) (l0 : aI A0 2003 sb 0 = nn ss.length) (he : J14_ensureCapacityInternal A0 sb (nn (ss.length + 1)) = some ((), A)) (hle : Le A0 A) : ∃ A', J15_append A0 sb x = some (some sb, A') ∧ Ex (fun _ i => i = sb ∨ i = br) 0 0 A A' ∧ SX A' sb br (ss ++ [x]) := by
  have c5 := h.c5
  obtain ⟨s1, s2, s3⟩ := sgn_nar hx
  have hne : sb ≠ br := fun q => by have := h.kd; rw [q, h.ka] at this; omega
  have e1 : Ex (fun _ i => i = sb ∨ i = br) 0 0 A (wI A 2003 sb 0 (nn (ss.length + 1))) := Ex.wI g (Or.inl rfl) h.hl
  have e2 : Ex (fun _ i => i = sb ∨ i = br) 0 0 (wI A 2003 sb 0 (nn (ss.length + 1))) (wI (wI A 2003 sb 0 (nn (ss.length + 1))) 33 br ss.length x) := Ex.wI e1.gn (Or.inr rfl) h.ha
  have lA : Le A (wI (wI A 2003 sb 0 (nn (ss.length + 1))) 33 br ss.length x) := (e1.trans e2).le2
  refine ⟨_, ?_, e1.trans e2, SX.mk h.kd ?_ ?_ h.rf h.ka ?_ h.c2 h.c5 (fun i w hw => ?_) h.hl h.ha (fun s hs => ?_)⟩
  · have h14 : J14_append A0 sb x = some (some sb, wI (wI A 2003 sb 0 (nn (ss.length + 1))) 33 br ss.length x) := by
      unfold J14_append J14_isLatin1
      rw [gI_k k0, bo_some, if_pos k0, l0, nn_succ, he, bda_ok hle, if_pos h.kd, gI_k h.kd, bo_some, h.cod, if_pos rfl, bo_some, if_neg (by decide), s3, bo_some, if_neg (by decide), gN_k h.kd, h.rf, bo_some, gI_k h.kd, bo_some, h.len, pI_k h.kd, bo_some, nn_succ, s1, uB_nn (by show aK A br = 33; exact h.ka) h.ha (by show _ < aL A br; exact hlt) (by omega), bo_some, ck_ok lA, ck_ok (hle.trans lA)]
    unfold J15_append
    rw [if_pos k0, h14, bda_ok (hle.trans lA), bo_some, ck_ok (Le.refl _), ck_ok (hle.trans lA)]
  · rw [aI_wI, if_neg (by omega), aI_wI, if_neg (by omega)]; exact h.cod
  · rw [aI_wI, if_neg (by omega), aI_wI, if_pos ⟨rfl, rfl, rfl⟩, List.length_append]; rfl
  · rw [List.length_append]; exact hlt
  · rw [aI_wI]
    rcases app_get hw with ⟨q1, q2⟩ | ⟨q1, q2⟩
    · rw [if_neg (by omega), aI_wI, if_neg (by omega)]; exact h.el i w q2
    · rw [if_pos ⟨rfl, rfl, q1⟩, q2]
  · rcases List.mem_append.mp hs with q | q
    · exact h.sg s q
    · rw [List.mem_singleton.mp q]; exact hx
theorem append_room (g : GN A) (h : SX A sb br ss) (hlt : ss.length < aL A br) (hx : sgn x) : ∃ A', J15_append A sb x = some (some sb, A') ∧ Ex (fun _ i => i = sb ∨ i = br) 0 0 A A' ∧ SX A' sb br (ss ++ [x]) := append_at g h hlt hx h.kd h.len (ensure_room g h hlt) (Le.refl _)
theorem append_eq (g : GN A) (hr : aN A + 1 ≤ CB) (h : SX A sb br ss) (hl : ss.length ≤ 2000) (hx : sgn x) : ∃ A' br', J15_append A sb x = some (some sb, A') ∧ Ex (fun _ i => i = sb ∨ i = br) 1 (2 * ss.length + 2) A A' ∧ SX A' sb br' (ss ++ [x]) ∧ (br' = br ∨ br' = aN A) := by
  rcases Nat.lt_or_ge ss.length (aL A br) with q | q
  · obtain ⟨A', h1, h2, h3⟩ := append_room g h q hx
    exact ⟨A', br, h1, h2.wk (by omega) (by omega), h3, Or.inl rfl⟩
  · obtain ⟨A1, h1, h2, h3, h4⟩ := ensure_grow g hr h (by have := h.cap; omega) hl
    obtain ⟨A', y1, y2, y3⟩ := append_at h2.gn h3 h4 hx h.kd h.len h1 h2.le2
    have fr : aK A (aN A) = 0 := g.fresh (by omega)
    refine ⟨A', aN A, y1, (h2.tr y2 (fun _ i q => ?_)).wk (by omega) (by omega), y3, Or.inr rfl⟩
    rcases q with q | q
    · exact Or.inl (Or.inl q)
    · exact Or.inr (by rw [q]; exact fr)
/-! new ones -/
theorem list_new (g : GN A) (hr : aN A + 2 ≤ CB) {c : Nat} (hc : 2 ≤ c) (hc2 : c < 100) : ∃ A', J2_init (nw A 18 0 3) (aN A) (nn c) = some ((), A') ∧ Ex (fun _ _ => False) 2 (3 + c) A A' ∧ Le (nw A 18 0 3) A' ∧ LX A' (aN A) (aN A + 1) [] ∧ aL A' (aN A + 1) = c ∧ aN A' = aN A + 2 := by
  have c0 : CB = 1000000 := rfl
  have lo := g.lo
  have fr : aK A (aN A) = 0 := g.fresh (by omega)
  have e1 : Ex (fun _ _ => False) 1 3 A (nw A 18 0 3) := Ex.nw g (by omega)
  have kk : aK (nw A 18 0 3) (aN A) = 18 := by rw [aK_nw, if_pos rfl]
  have e2 : Ex (fun _ i => i = aN A) 0 0 (nw A 18 0 3) (wI (nw A 18 0 3) 1800 (aN A) 0 0) := Ex.wI e1.gn rfl (by omega)
  have e3 : Ex (fun _ i => i = aN A) 1 c (wI (nw A 18 0 3) 1800 (aN A) 0 0) (nw (wI (nw A 18 0 3) 1800 (aN A) 0 0) 39 c c) := Ex.nw e2.gn (by show aN A + 1 < CB; omega)
  have kk3 : aK (nw (wI (nw A 18 0 3) 1800 (aN A) 0 0) 39 c c) (aN A) = 18 := by
    rw [aK_nw, if_neg (by show ¬ aN A = aN A + 1; omega)]; exact kk
  have e4 : Ex (fun _ i => i = aN A) 0 0 (nw (wI (nw A 18 0 3) 1800 (aN A) 0 0) 39 c c) (wR (nw (wI (nw A 18 0 3) 1800 (aN A) 0 0) 39 c c) 1801 (aN A) 0 (some (aN A + 1))) := Ex.wR e3.gn rfl (by omega)
  have l24 := (e2.trans (e3.trans e4)).le2
  refine ⟨_, ?_, ((e1.tr (e2.trans (e3.trans e4)) (fun _ i q => Or.inr (by rw [show i = aN A from q]; exact fr)))).wk (by omega) (by omega), l24, LX.mk ?_ ?_ ?_ ?_ (Nat.zero_le _) ?_ ?_ (fun i v hv => by simp at hv) (by omega) (by omega) (fun v hv => by simp at hv), ?_, ?_⟩
  · unfold J2_init J1_init J0_init
    rw [bd_some, pI_k kk, bo_some, bd_some, if_neg (fun z : nn c ≤ (0 : Int32) => by have := (nn_le (b := 0) (by omega) (by omega)).mp z; omega), nwA_ok (by show aN A + 1 < CB; omega) (by omega), bo_some, pR_k kk3, bo_some, show aN (wI (nw A 18 0 3) 1800 (aN A) 0 0) = aN A + 1 from rfl, ck_ok e4.le2, ck_ok l24]
  · exact kk3
  · rw [aI_wR, aI_nw, if_neg (by show ¬ aN A = aN A + 1; omega), aI_wI, if_neg (by omega), aI_nw, if_pos rfl]; rfl
  · rw [aR_wR, if_pos ⟨rfl, rfl, rfl⟩]
  · show (if aN A + 1 = aN A + 1 then 39 else _) = 39; rw [if_pos rfl]
  · show 2 ≤ (if aN A + 1 = aN A + 1 then c else _); rw [if_pos rfl]; exact hc
  · show (if aN A + 1 = aN A + 1 then c else _) < 5000; rw [if_pos rfl]; omega
  · show (if aN A + 1 = aN A + 1 then c else _) = c; rw [if_pos rfl]
  · rfl
theorem sb_new (g : GN A) (hr : aN A + 2 ≤ CB) : ∃ A', J15_init (nw A 20 0 4) (aN A) = some ((), A') ∧ Ex (fun _ _ => False) 2 20 A A' ∧ Le (nw A 20 0 4) A' ∧ SX A' (aN A) (aN A + 1) [] ∧ aL A' (aN A + 1) = 16 ∧ aN A' = aN A + 2 := by
  have c0 : CB = 1000000 := rfl
  have lo := g.lo
  have fr : aK A (aN A) = 0 := g.fresh (by omega)
  have e1 : Ex (fun _ _ => False) 1 4 A (nw A 20 0 4) := Ex.nw g (by omega)
  have kk : aK (nw A 20 0 4) (aN A) = 20 := by rw [aK_nw, if_pos rfl]
  have e3 : Ex (fun _ i => i = aN A) 1 16 (nw A 20 0 4) (nw (nw A 20 0 4) 33 16 16) := Ex.nw e1.gn (by show aN A + 1 < CB; omega)
  have kk3 : aK (nw (nw A 20 0 4) 33 16 16) (aN A) = 20 := by
    rw [aK_nw, if_neg (by show ¬ aN A = aN A + 1; omega)]; exact kk
  have e4 : Ex (fun _ i => i = aN A) 0 0 (nw (nw A 20 0 4) 33 16 16) (wR (nw (nw A 20 0 4) 33 16 16) 2000 (aN A) 0 (some (aN A + 1))) := Ex.wR e3.gn rfl (by omega)
  have e5 : Ex (fun _ i => i = aN A) 0 0 (wR (nw (nw A 20 0 4) 33 16 16) 2000 (aN A) 0 (some (aN A + 1))) (wI (wR (nw (nw A 20 0 4) 33 16 16) 2000 (aN A) 0 (some (aN A + 1))) 2001 (aN A) 0 0) := Ex.wI e4.gn rfl (by omega)
  have l24 := (e3.trans (e4.trans e5)).le2
  refine ⟨_, ?_, ((e1.tr (e3.trans (e4.trans e5)) (fun _ i q => Or.inr (by rw [show i = aN A from q]; exact fr)))).wk (by omega) (by omega), l24, SX.mk ?_ ?_ ?_ ?_ ?_ (Nat.zero_le _) ?_ ?_ (fun i v hv => by simp at hv) (by omega) (by omega) (fun v hv => by simp at hv), ?_, ?_⟩
  · have h14 : J14_init (nw A 20 0 4) (aN A) 16 = some ((), wI (wR (nw (nw A 20 0 4) 33 16 16) 2000 (aN A) 0 (some (aN A + 1))) 2001 (aN A) 0 0) := by
      unfold J14_init
      rw [show (16 : Int32) = nn 16 from rfl, nwA_ok (by show aN A + 1 < CB; omega) (by omega), bo_some, pR_k kk3, bo_some, pI_k (by exact kk3), bo_some]
      rw [show aN (nw A 20 0 4) = aN A + 1 from rfl, ck_ok (e4.trans e5).le2, ck_ok l24]
    unfold J15_init
    rw [h14, bda_ok l24, ck_ok (Le.refl _), ck_ok l24]
  · exact kk3
  · rw [aI_wI, if_pos ⟨rfl, rfl, rfl⟩]
  · rw [aI_wI, if_neg (by omega), aI_wR, aI_nw, if_neg (by show ¬ aN A = aN A + 1; omega), aI_nw, if_pos rfl]; rfl
  · rw [aR_wI, aR_wR, if_pos ⟨rfl, rfl, rfl⟩]
  · show (if aN A + 1 = aN A + 1 then 33 else _) = 33; rw [if_pos rfl]
  · show 2 ≤ (if aN A + 1 = aN A + 1 then 16 else _); rw [if_pos rfl]; omega
  · show (if aN A + 1 = aN A + 1 then 16 else _) < 5000; rw [if_pos rfl]; omega
  · show (if aN A + 1 = aN A + 1 then 16 else _) = 16; rw [if_pos rfl]
  · rfl
/-! chains -/
def CX (A : AH) (x0 li ar sb br : Nat) (ids : List Nat) (ss : List Int32) : Prop :=
  (aK A x0 = 8) ∧
  (aR A 800 x0 0 = some li) ∧
  (aR A 801 x0 0 = some sb) ∧
  (LX A li ar ids) ∧
  (SX A sb br ss) ∧
  (x0 < CB)
theorem CX.kd {A : AH} {x0 li ar sb br : Nat} {ids : List Nat} {ss : List Int32} (h : CX A x0 li ar sb br ids ss) : aK A x0 = 8 := h.1
theorem CX.rl {A : AH} {x0 li ar sb br : Nat} {ids : List Nat} {ss : List Int32} (h : CX A x0 li ar sb br ids ss) : aR A 800 x0 0 = some li := h.2.1
theorem CX.rs {A : AH} {x0 li ar sb br : Nat} {ids : List Nat} {ss : List Int32} (h : CX A x0 li ar sb br ids ss) : aR A 801 x0 0 = some sb := h.2.2.1
theorem CX.lx {A : AH} {x0 li ar sb br : Nat} {ids : List Nat} {ss : List Int32} (h : CX A x0 li ar sb br ids ss) : LX A li ar ids := h.2.2.2.1
theorem CX.sx {A : AH} {x0 li ar sb br : Nat} {ids : List Nat} {ss : List Int32} (h : CX A x0 li ar sb br ids ss) : SX A sb br ss := h.2.2.2.2.1
theorem CX.hx {A : AH} {x0 li ar sb br : Nat} {ids : List Nat} {ss : List Int32} (h : CX A x0 li ar sb br ids ss) : x0 < CB := h.2.2.2.2.2
theorem CX.mk {A : AH} {x0 li ar sb br : Nat} {ids : List Nat} {ss : List Int32} (h_kd : aK A x0 = 8) (h_rl : aR A 800 x0 0 = some li) (h_rs : aR A 801 x0 0 = some sb) (h_lx : LX A li ar ids) (h_sx : SX A sb br ss) (h_hx : x0 < CB) : CX A x0 li ar sb br ids ss := ⟨h_kd, h_rl, h_rs, h_lx, h_sx, h_hx⟩
def cI (x0 li ar sb br i : Nat) : Prop := i = x0 ∨ i = li ∨ i = ar ∨ i = sb ∨ i = br
theorem CX.ex {Q : Nat → Nat → Prop} {c s : Nat} (h : CX A x0 li ar sb br ids ss) (e : Ex Q c s A A') (q : ∀ f i, cI x0 li ar sb br i → ¬ Q f i) : CX A' x0 li ar sb br ids ss := by
  have k1 : aK A x0 ≠ 0 := by rw [h.kd]; decide
  exact CX.mk (e.K h.kd (by decide)) ((e.R _ k1 (q _ _ (Or.inl rfl))).trans h.rl) ((e.R _ k1 (q _ _ (Or.inl rfl))).trans h.rs) (h.lx.ex e (fun f => q f _ (Or.inr (Or.inl rfl))) (fun f => q f _ (Or.inr (Or.inr (Or.inl rfl))))) (h.sx.ex e (fun f => q f _ (Or.inr (Or.inr (Or.inr (Or.inl rfl))))) (fun f => q f _ (Or.inr (Or.inr (Or.inr (Or.inr rfl)))))) h.hx
theorem chain_new (g : GN A) (hr : aN A + 5 ≤ CB) : ∃ A', X9_init (nw A 8 0 2) (aN A) = some ((), A') ∧ Ex (fun _ _ => False) 5 27 A A' ∧ Le (nw A 8 0 2) A' ∧ CX A' (aN A) (aN A + 1) (aN A + 2) (aN A + 3) (aN A + 4) [] [] ∧ aL A' (aN A + 2) = 2 ∧ aL A' (aN A + 4) = 16 ∧ aN A' = aN A + 5 := by
  have c0 : CB = 1000000 := rfl
  have lo := g.lo
  have fr : aK A (aN A) = 0 := g.fresh (by omega)
  have e1 : Ex (fun _ _ => False) 1 2 A (nw A 8 0 2) := Ex.nw g (by omega)
  have kk : aK (nw A 8 0 2) (aN A) = 8 := by rw [aK_nw, if_pos rfl]
  have kk0 : aK (nw A 8 0 2) (aN A) ≠ 0 := by rw [kk]; decide
  have n1 : aN (nw A 8 0 2) = aN A + 1 := rfl
  obtain ⟨A2, h2, e2, l2, x2, s2, n2⟩ := list_new e1.gn (c := 2) (by omega) (by omega) (by omega)
  rw [n1] at h2 x2 s2 n2
  have k2 : aK A2 (aN A) = 8 := e2.K kk (by decide)
  have e3 : Ex (fun _ i => i = aN A) 0 0 A2 (wR A2 800 (aN A) 0 (some (aN A + 1))) := Ex.wR e2.gn rfl (by omega)
  have n3 : aN (wR A2 800 (aN A) 0 (some (aN A + 1))) = aN A + 3 := by show aN A2 = _; omega
  have x3 := x2.ex e3 (fun _ => by omega) (fun _ => by omega)
  have k3 : aK (wR A2 800 (aN A) 0 (some (aN A + 1))) (aN A) = 8 := k2
  obtain ⟨A4, h4, e4, l4, x4, s4, n4⟩ := sb_new e3.gn (by omega)
  rw [n3] at h4 x4 s4 n4
  have k4 : aK A4 (aN A) = 8 := e4.K k3 (by decide)
  have e5 : Ex (fun _ i => i = aN A) 0 0 A4 (wR A4 801 (aN A) 0 (some (aN A + 3))) := Ex.wR e4.gn rfl (by omega)
  have r4 : aR A4 800 (aN A) 0 = some (aN A + 1) := by
    rw [e4.R _ (by rw [k3]; decide) (fun q => q), aR_wR, if_pos ⟨rfl, rfl, rfl⟩]
  have ls : aL A4 (aN A + 2) = 2 := by
    rw [e4.L (by show aK A2 (aN A + 2) ≠ 0; rw [show aN A + 2 = aN A + 1 + 1 by omega, x2.ka]; decide)]; exact s2
  have eA : Ex (fun _ _ => False) 5 27 A (wR A4 801 (aN A) 0 (some (aN A + 3))) := ((((e1.trans e2).tr e3 (fun _ i q => Or.inr (by rw [show i = aN A from q]; exact fr))).trans e4).tr e5 (fun _ i q => Or.inr (by rw [show i = aN A from q]; exact fr))).wk (by omega) (by omega)
  have l45 : Le (nw (wR A2 800 (aN A) 0 (some (aN A + 1))) 20 0 4) (wR A4 801 (aN A) 0 (some (aN A + 3))) := l4.trans e5.le2
  have l35 : Le A2 (wR A4 801 (aN A) 0 (some (aN A + 3))) := e3.le2.trans (e4.le2.trans e5.le2)
  have lk : Le (nw A 8 0 2) A2 := e2.le2
  refine ⟨_, ?_, eA, lk.trans l35, CX.mk k4 ?_ ?_ ?_ ?_ (by omega), ls, s4, by show aN A4 = _; omega⟩
  · unfold X9_init X8_init
    rw [bd_some, nwO_ok (by omega), bo_some, n1, show (2 : Int32) = nn 2 from rfl, h2, bda_ok l2, pR_k k2, bo_some, nwO_ok (by omega), bo_some, n3, h4, bda_ok l4, pR_k k4, bo_some, ck_ok e5.le2, ck_ok l45, ck_ok l35, ck_ok (l2.trans l35), ck_ok (lk.trans l35)]
  · rw [aR_wR, if_neg (by omega)]; exact r4
  · rw [aR_wR, if_pos ⟨rfl, rfl, rfl⟩]
  · exact (x3.ex e4 (fun _ q => q) (fun _ q => q)).ex e5 (fun _ => by omega) (fun _ => by omega)
  · exact x4.ex e5 (fun _ => by omega) (fun _ => by omega)
theorem cI_ne (h : CX A x0 li ar sb br ids ss) : x0 ≠ li ∧ x0 ≠ ar ∧ x0 ≠ sb ∧ x0 ≠ br ∧ li ≠ sb ∧ li ≠ br ∧ ar ≠ sb ∧ ar ≠ br := by
  have h1 := h.kd
  have h2 := h.lx.kd
  have h3 := h.lx.ka
  have h4 := h.sx.kd
  have h5 := h.sx.ka
  refine ⟨fun q => ?_, fun q => ?_, fun q => ?_, fun q => ?_, fun q => ?_, fun q => ?_, fun q => ?_, fun q => ?_⟩ <;> subst q <;> simp_all
/-- one more of a chain -/
theorem cadd_eq (g : GN A) (hr : aN A + 2 ≤ CB) (h : CX A x0 li ar sb br ids ss) (hl : ids.length ≤ 2000) (hs : ss.length = ids.length) (hx : sgn x) (hv : isObj (aK A v) = true) : ∃ A' ar' br', X9_add A x0 x v = some ((), A') ∧ Ex (fun _ i => cI x0 li ar sb br i) 2 (4 * ids.length + 2) A A' ∧ CX A' x0 li ar' sb br' (ids ++ [v]) (ss ++ [x]) ∧ (ar' = ar ∨ (aN A ≤ ar' ∧ aK A ar' = 0)) ∧ (br' = br ∨ (aN A ≤ br' ∧ aK A br' = 0)) ∧ (ids.length < aL A ar → ss.length < aL A br → aN A' = aN A ∧ aS A' = aS A) := by
  obtain ⟨d1, d2, d3, d4, d5, d6, d7, d8⟩ := cI_ne h
  obtain ⟨A1, br', h1, e1, x1, b1, z1⟩ : ∃ A1 br', J15_append A sb x = some (some sb, A1) ∧ Ex (fun _ i => i = sb ∨ i = br) 1 (2 * ss.length + 2) A A1 ∧ SX A1 sb br' (ss ++ [x]) ∧ (br' = br ∨ (aN A ≤ br' ∧ aK A br' = 0)) ∧ (ss.length < aL A br → aN A1 = aN A ∧ aS A1 = aS A) := by
    rcases Nat.lt_or_ge ss.length (aL A br) with q | q
    · obtain ⟨A', y1, y2, y3⟩ := append_room g h.sx q hx
      refine ⟨A', br, y1, y2.wk (by omega) (by omega), y3, Or.inl rfl, fun _ => ?_⟩
      have := y2.n1; have := y2.n2; have := y2.s1; have := y2.s2
      omega
    · obtain ⟨A', br', y1, y2, y3, y4⟩ := append_eq g (by omega) h.sx (by omega) hx
      refine ⟨A', br', y1, y2, y3, ?_, fun q2 => by omega⟩
      rcases y4 with y4 | y4
      · exact Or.inl y4
      · exact Or.inr ⟨by omega, by rw [y4]; exact g.fresh (by omega)⟩
  have n1 := e1.n2
  have lx1 := h.lx.ex e1 (fun _ => by omega) (fun _ => by omega)
  have k1 : aK A1 x0 = 8 := e1.K h.kd (by decide)
  have hv0 : aK A v ≠ 0 := fun z => by rw [z] at hv; exact absurd hv (by decide)
  have kv1 : isObj (aK A1 v) = true := by rw [(e1.kd v hv0).1]; exact hv
  have lar : aL A1 ar = aL A ar := e1.L (by rw [h.lx.ka]; decide)
  have r1 : aR A1 800 x0 0 = some li := (e1.R _ (by rw [h.kd]; decide) (by omega)).trans h.rl
  have r2 : aR A1 801 x0 0 = some sb := (e1.R _ (by rw [h.kd]; decide) (by omega)).trans h.rs
  obtain ⟨A2, ar', h2, e2, x2, b2, z2⟩ : ∃ A2 ar', J2_add A1 li v = some (1, A2) ∧ Ex (fun _ i => i = li ∨ i = ar) 1 (2 * ids.length) A1 A2 ∧ LX A2 li ar' (ids ++ [v]) ∧ (ar' = ar ∨ (aN A1 ≤ ar' ∧ aK A1 ar' = 0)) ∧ (ids.length < aL A ar → aN A2 = aN A1 ∧ aS A2 = aS A1) := by
    rcases Nat.lt_or_ge ids.length (aL A1 ar) with q | q
    · obtain ⟨A', y1, y2, y3⟩ := add_room e1.gn lx1 q kv1
      refine ⟨A', ar, y1, y2.wk (by omega) (by omega), y3, Or.inl rfl, fun _ => ?_⟩
      have := y2.n1; have := y2.n2; have := y2.s1; have := y2.s2
      omega
    · obtain ⟨A', ar', y1, y2, y3, y4⟩ := add_eq e1.gn (by omega) lx1 (by omega) kv1
      refine ⟨A', ar', y1, y2, y3, ?_, fun q2 => by omega⟩
      rcases y4 with y4 | y4
      · exact Or.inl y4
      · exact Or.inr ⟨by omega, by rw [y4]; exact e1.gn.fresh (by omega)⟩
  have ndb : br' ≠ li ∧ br' ≠ ar := by
    rcases b1 with rfl | b1
    · exact ⟨fun q => d6 q.symm, fun q => d8 q.symm⟩
    · refine ⟨fun q => ?_, fun q => ?_⟩
      · rw [q, h.lx.kd] at b1; exact absurd b1.2 (by decide)
      · rw [q, h.lx.ka] at b1; exact absurd b1.2 (by decide)
  have x1' := x1.ex e2 (fun _ => by omega) (fun _ => by omega)
  have eA : Ex (fun _ i => cI x0 li ar sb br i) 2 (4 * ids.length + 2) A A2 := ((e1.mono (Q := fun _ i => cI x0 li ar sb br i) (fun _ i q => by unfold cI; omega)).trans (e2.mono (fun _ i q => by unfold cI; omega))).wk (by omega) (by omega)
  refine ⟨A2, ar', br', ?_, eA, CX.mk (e2.K k1 (by decide)) ((e2.R _ (by rw [k1]; decide) (by omega)).trans r1) ((e2.R _ (by rw [k1]; decide) (by omega)).trans r2) x2 x1' h.hx, ?_, b1, fun q1 q2 => ?_⟩
  · unfold X9_add
    rw [gN_k h.kd, h.rs, bo_some, if_pos h.sx.kd, h1, bda_ok e1.le2, bo_some, gN_k k1, r1, bo_some, if_pos lx1.kd, h2, bda_ok e2.le2, ck_ok (Le.refl _), ck_ok e2.le2, ck_ok eA.le2]
  · rcases b2 with b2 | b2
    · exact Or.inl b2
    · right
      refine ⟨Nat.le_trans e1.n1 b2.1, ?_⟩
      rcases Nat.eq_zero_or_pos (aK A ar') with q | q
      · exact q
      · rw [(e1.kd ar' (by omega)).1] at b2; exact b2.2
  · have := z1 q2
    have := z2 q1
    omega
end
