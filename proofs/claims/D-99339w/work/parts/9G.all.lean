/-! PURE LEVEL: a whole folio is read, both sides -/
set_option maxRecDepth 100000
section
variable {N : Nat} {A0 A A' A1 A3 : AH} {σ0 σ σ' σ1 σ3 : mSt} {B : Nat → Nat} {n p1 p2 o μ x : Nat} {t : Option Nat} {a0 L C g w nb cd ar c s c' s' c0 s0 c3 s3 : Nat} {be : List Nat} {P K : Nat → Nat → Prop} {X : Option (Option (Option Nat) × AH)} {Y : Option (Int32 × mSt)}
theorem FolR.ckr (h : FolR N A0 A σ0 B n a0 L C X Y) (l : Le A1 A) : FolR N A0 A1 σ0 B n a0 L C (ck A1 X) Y := by
  rcases h with ⟨e, A', σ', h1, h2, h3⟩ | ⟨A', σ', p1, p2, s, g, w, nb, cd, ar, μ, be, h1, h2, h3⟩
  · exact Or.inl ⟨e, A', σ', by rw [h1, ck_ok (l.trans h2)], l.trans h2, h3⟩
  · exact Or.inr ⟨A', σ', p1, p2, s, g, w, nb, cd, ar, μ, be, by rw [h1, ck_ok (l.trans h2)], l.trans h2, h3⟩
theorem FolR.le_ (h : FolR N A0 A σ0 B n a0 L C X Y) (l : Le A1 A) : FolR N A0 A1 σ0 B n a0 L C X Y := by
  rcases h with ⟨e, A', σ', h1, h2, h3⟩ | ⟨A', σ', p1, p2, s, g, w, nb, cd, ar, μ, be, h1, h2, h3⟩
  · exact Or.inl ⟨e, A', σ', h1, l.trans h2, h3⟩
  · exact Or.inr ⟨A', σ', p1, p2, s, g, w, nb, cd, ar, μ, be, h1, l.trans h2, h3⟩
theorem i32_nn (x : Int32) : ∃ m, x = nn m := ⟨x.toBitVec.toNat, by
  apply Int32.toBitVec_inj.mp
  simp⟩
noncomputable def hT3 (N : Nat) (σ9 : mSt) : Option (Int32 × mSt) := lt2 (mUI σ9 53 0 1) fun σ10 => rn1 (M_folio_b113 N) N σ10
noncomputable def hT2 (N : Nat) (σ4 : mSt) : Option (Int32 × mSt) := bd (M_asks N σ4 12) fun _ σ5 => bd (M_number N σ5 2 8) fun r6 σ7 => bo (stI 2 σ7 40 1 r6) fun σ8 => bd (M_asksSign N σ8 59) fun _ σ9 => hT3 N σ9
noncomputable def hT1 (N : Nat) (σ1 : mSt) : Option (Int32 × mSt) := bd (M_number N σ1 1 6) fun r2 σ3 => bo (stI 2 σ3 40 0 r2) fun σ4 => hT2 N σ4
theorem bo_bd {α β S : Type} (X : Option α) (f : α → Option (β × S)) {γ : Type} (g : β → S → Option γ) : bd (bo X f) g = bo X (fun a => bd (f a) g) := by cases X <;> rfl
theorem folio_hT (hN : 5000 ≤ N) : M_folio N σ = bd (M_asks N (fS σ) 11) fun _ σ1 => hT1 N σ1 := by
  rw [folio_start hN]
  unfold M_folioTold
  simp only [bd_bd, bo_bd]
  rfl
theorem RF.ui {e : Nat × Nat} (h : RF σ e) {k j : Nat} {v : Int32} (h5 : k ≠ 5) (h6 : k ≠ 6) : RF (mUI σ k j v) e := RF.mk (by rw [mI_UI, if_neg (by omega)]; exact h.b) (by rw [mI_UI, if_neg (by omega)]; exact h.pl) h.nz
theorem hT3_bad (hN : 5000 ≤ N) {e : Nat × Nat} (h : RF σ e) (cg : Cg Kt σ0 σ) : ∃ σ', hT3 N σ = M_folio_b135 N σ' ∧ RF σ' e ∧ Cg Kt σ0 σ' := by
  have f1 : RF (mUI σ 53 0 1) e := h.ui (by decide) (by decide)
  refine ⟨mUI σ 53 0 1, ?_, f1, cg.trans (Cg.UI (Or.inl rfl))⟩
  obtain ⟨M, hM⟩ : ∃ m, N = m + 1 := ⟨N - 1, by omega⟩
  unfold hT3
  rw [lt2_eq, show rn1 (M_folio_b113 N) N (mUI σ 53 0 1) = rn1 (M_folio_b113 N) (M + 1) (mUI σ 53 0 1) by rw [← hM]]
  show M_folio_b113 N (rn1 (M_folio_b113 N) M) (mUI σ 53 0 1) = _
  unfold M_folio_b113
  rw [if_neg f1.ne]
theorem hT2n_bad (hN : 5000 ≤ N) {e : Nat × Nat} (h : RF σ e) (cg : Cg Kt σ0 σ) (r6 : Int32) : ∃ σ', (bo (stI 2 σ 40 1 r6) fun σ8 => bd (M_asksSign N σ8 59) fun _ σ9 => hT3 N σ9) = M_folio_b135 N σ' ∧ RF σ' e ∧ Cg Kt σ0 σ' := by
  have f1 : RF (mUI σ 40 1 r6) e := h.ui (by decide) (by decide)
  obtain ⟨σ', y1, y2⟩ := hT3_bad hN f1 (cg.trans (Cg.UI (Or.inr (by decide))))
  exact ⟨σ', by rw [show stI 2 σ 40 1 r6 = some (mUI σ 40 1 r6) from stI_nn (j := 1) (by rfl) (by decide) (by decide), bo_some, bad_asksSign f1, bd_some, y1], y2⟩
theorem hT2_bad (hN : 5000 ≤ N) {e : Nat × Nat} (h : RF σ e) (cg : Cg Kt σ0 σ) : ∃ σ', hT2 N σ = M_folio_b135 N σ' ∧ RF σ' e ∧ Cg Kt σ0 σ' := by
  obtain ⟨σ', y1, y2⟩ := hT2n_bad hN h cg 0
  exact ⟨σ', by unfold hT2; rw [bad_asks h, bd_some, bad_number h, bd_some, y1], y2⟩
theorem hT1n_bad (hN : 5000 ≤ N) {e : Nat × Nat} (h : RF σ e) (cg : Cg Kt σ0 σ) (r2 : Int32) : ∃ σ', (bo (stI 2 σ 40 0 r2) fun σ4 => hT2 N σ4) = M_folio_b135 N σ' ∧ RF σ' e ∧ Cg Kt σ0 σ' := by
  have f1 : RF (mUI σ 40 0 r2) e := h.ui (by decide) (by decide)
  obtain ⟨σ', y1, y2⟩ := hT2_bad hN f1 (cg.trans (Cg.UI (Or.inr (by decide))))
  exact ⟨σ', by rw [show stI 2 σ 40 0 r2 = some (mUI σ 40 0 r2) from stI_nn (j := 0) (by rfl) (by decide) (by decide), bo_some, y1], y2⟩
theorem hT1_bad (hN : 5000 ≤ N) {e : Nat × Nat} (h : RF σ e) (cg : Cg Kt σ0 σ) : ∃ σ', hT1 N σ = M_folio_b135 N σ' ∧ RF σ' e ∧ Cg Kt σ0 σ' := by
  obtain ⟨σ', y1, y2⟩ := hT1n_bad hN h cg 0
  exact ⟨σ', by unfold hT1; rw [bad_number h, bd_some, y1], y2⟩
theorem fS_v (σ : mSt) : (fS σ).1 2 0 = 0 ∧ (fS σ).1 3 0 = σ.1 1 0 ∧ (fS σ).1 4 0 = -1 ∧ (fS σ).1 5 0 = 0 ∧ (fS σ).1 6 0 = -1 ∧ (fS σ).1 52 0 = 0 ∧ (fS σ).1 47 0 = 0 ∧ (fS σ).1 1 0 = 0 := by
  unfold fS
  simp [mI_UI]
theorem fS_41 (σ : mSt) : ∀ k, k < 3 → (fS σ).1 41 k = 0 := by
  intro k hk
  have : k = 0 ∨ k = 1 ∨ k = 2 := by omega
  unfold fS
  rcases this with rfl | rfl | rfl <;> simp [mI_UI]
theorem fS_43 (σ : mSt) : ∀ k, k < 6 → (fS σ).1 43 k = 0 := by
  intro k hk
  have : k = 0 ∨ k = 1 ∨ k = 2 ∨ k = 3 ∨ k = 4 ∨ k = 5 := by omega
  unfold fS
  rcases this with rfl | rfl | rfl | rfl | rfl | rfl <;> simp [mI_UI]
theorem fS_49 (σ : mSt) : ∀ k, k < 4 → (fS σ).1 49 k = -1 := by
  intro k hk
  have : k = 0 ∨ k = 1 ∨ k = 2 ∨ k = 3 := by omega
  unfold fS
  rcases this with rfl | rfl | rfl | rfl <;> simp [mI_UI]
theorem Kf1_lo {k j : Nat} (h : k = 0 ∨ isWd k) : ¬ Kf1 k j := by
  rintro (z | z)
  · rcases h with h | h
    · omega
    · unfold isWd at h; omega
  · rcases h with h | h
    · rw [h] at z; exact Kt_no (k := 0) rfl rfl (Nat.zero_le _) z
    · exact Kt_wd k h j z
theorem fS_rm (hB : BOK B n) (hn : σ.1 1 0 = nn n) (tp : ∀ k, k < n → σ.1 0 k = nn (B k)) (wd : WD σ) : RM (fS σ) B n 0 := by
  obtain ⟨v2, v3, v4, v5, v6, _⟩ := fS_v σ
  refine RM.mk v2 (v3.trans hn) v5 (fun k hk => (fS_cg.I (Kf1_lo (Or.inl rfl))).trans (tp k hk)) hB (Nat.zero_le _) (Or.inl ⟨v4, fun k hk => by omega⟩) (fun k hk j v hv => ?_) v6
  rw [fS_cg.I (Kf1_lo (Or.inr hk))]; exact wd k hk j v hv
theorem all_j (hN : 5000 ≤ N) (g0 : GN A) (hr : aN A + (110 * (n + 1) + 400) ≤ CB) (hB : BOK B n) (tpA : ∀ k, k < n → aI A 33 8 k = sby (B k)) (tpM : ∀ k, k < n → σ.1 0 k = nn (B k)) (hn : σ.1 1 0 = nn n) (wd : WD σ) : ∃ L C, FolR N A A (fS σ) B n (aN A) L C (X2_all N A (nn n)) (M_folio N σ) := by
  have nb6 := hB.nb
  have lo := g0.lo
  obtain ⟨A2, i1, i2, i3, i4, i5, i6, i7, i8, i9, i10, i11, i12, i13, i14⟩ := folio_new g0 (by omega)
  have f41 := fS_41 σ
  have f43 := fS_43 σ
  have f49 := fS_49 σ
  obtain ⟨v2, v3, v4, v5, v6, v52, v47, _⟩ := fS_v σ
  have em2 : FEm A2 (fS σ) (aN A) := FEm.mk i5 lo (by omega) (FG.mk (i6 _ (by decide)) (f41 2 (by decide)) (by decide) i8 (fun l hl => ⟨by rw [i12, f43 l hl], 0, by decide, f43 l hl⟩)) (FW.mk (i6 _ (by decide)) (f41 1 (by decide)) (by decide) i9 i10 i11 (fun x hx => by omega)) (fun L C => FB.mk (f41 0 (by decide)) (by decide) i13 i14 (Nat.le_refl _) rfl (fun b i hi => by cases hi) (fun x y hx => by omega)) (FC.mk (Or.inl ⟨i7 _ (by decide), f49 0 (by decide)⟩) (Or.inl ⟨i7 _ (by decide), f49 1 (by decide)⟩) (Or.inl ⟨i7 _ (by decide), f49 2 (by decide)⟩) (Or.inl ⟨i7 _ (by decide), f49 3 (by decide)⟩) v52 (by decide)) ((i6 _ (by decide)).trans v47.symm) (by omega)
  have x3 : Ex RP 0 0 A2 (wR A2 306 9 0 (some (aN A))) := Ex.wR i3.gn (Or.inl ⟨rfl, by decide, by decide⟩) (by decide)
  have x4 : Ex RP 0 0 A2 (wI (wR A2 306 9 0 (some (aN A))) 301 9 0 (nn n)) := x3.trans (Ex.wI x3.gn (Or.inl ⟨rfl, by decide, by decide⟩) (by decide))
  have x5 : Ex RP 0 0 A2 (wI (wI (wR A2 306 9 0 (some (aN A))) 301 9 0 (nn n)) 302 9 0 0) := x4.trans (Ex.wI x4.gn (Or.inl ⟨rfl, by decide, by decide⟩) (by decide))
  have x6 : Ex RP 0 0 A2 (wI (wI (wI (wR A2 306 9 0 (some (aN A))) 301 9 0 (nn n)) 302 9 0 0) 304 9 0 0) := x5.trans (Ex.wI x5.gn (Or.inl ⟨rfl, by decide, by decide⟩) (by decide))
  obtain ⟨μ, hμ⟩ := i32_nn (aI (wI (wI (wI (wR A2 306 9 0 (some (aN A))) 301 9 0 (nn n)) 302 9 0 0) 304 9 0 0) 305 9 0)
  have rd : RD (wI (wI (wI (wR A2 306 9 0 (some (aN A))) 301 9 0 (nn n)) 302 9 0 0) 304 9 0 0) B n 0 0 μ (some (aN A)) := by
    refine RD.mk x6.gn ?_ ?_ ?_ hμ ?_ (fun k hk => ?_) hB (Nat.zero_le _) (by decide)
    · rw [aI_wI, if_neg (by decide), aI_wI, if_neg (by decide), aI_wI, if_pos ⟨rfl, rfl, rfl⟩]
    · rw [aI_wI, if_neg (by decide), aI_wI, if_pos ⟨rfl, rfl, rfl⟩]; rfl
    · rw [aI_wI, if_pos ⟨rfl, rfl, rfl⟩]; rfl
    · rw [aR_wI, aR_wI, aR_wI, aR_wR, if_pos ⟨rfl, rfl, rfl⟩]
    · rw [x6.I _ (by rw [i3.gn.k8]; decide) (fun z => by unfold RP at z; omega), i3.I _ (by rw [g0.k8]; decide) id]; exact tpA k hk
  generalize hA6 : wI (wI (wI (wR A2 306 9 0 (some (aN A))) 301 9 0 (nn n)) 302 9 0 0) 304 9 0 0 = A6 at rd x6
  have em6 := em2.ex (σ' := fS σ) x6 (fun f i hi z => by unfold RP at z; omega) (Cg.refl (K := fun _ _ => False) _) (fun _ _ _ _ => id)
  have e6 : Ex RP 7 64 A A6 := ((i3.mono (fun _ _ z => z.elim)).trans x6).wk (by omega) (by omega)
  have rm := fS_rm hB hn tpM wd
  have hX : X2_all N A (nn n) = ck A (ck (nw A 2 0 15) (ck A2 (bxa A6 (X2_word N A6 (CB + 0)) fun _ A7 => bo (aR A7 306 9 0) fun q9 => bx (X2_number N A7 1 6) fun r10 A11 => bo (pI 2 A11 201 q9 r10) fun A13 => bo (aR A13 306 9 0) fun q14 => bxa A13 (X2_number_2 N A13 (CB + 1) 2 8) fun r15 A16 => bo (pI 2 A16 202 q14 r15) fun A18 => bx (X2_must N A18 59) fun _ A19 => bo (aR A19 306 9 0) fun q21 => bo (pI 2 A19 200 q21 1) fun A22 => rn1 (X2_all_b76 N (nn n)) N A22))) := by
    unfold X2_all
    rw [nwO_ok (by omega), bo_some, i1, bda_ok i2, lt2_eq, lt2_eq, lt2_eq, lt2_eq, hA6]
  rw [hX, folio_hT hN]
  suffices hs : ∃ L C, FolR N A A6 (fS σ) B n (aN A) L C (bxa A6 (X2_word N A6 (CB + 0)) fun _ A7 => bo (aR A7 306 9 0) fun q9 => bx (X2_number N A7 1 6) fun r10 A11 => bo (pI 2 A11 201 q9 r10) fun A13 => bo (aR A13 306 9 0) fun q14 => bxa A13 (X2_number_2 N A13 (CB + 1) 2 8) fun r15 A16 => bo (pI 2 A16 202 q14 r15) fun A18 => bx (X2_must N A18 59) fun _ A19 => bo (aR A19 306 9 0) fun q21 => bo (pI 2 A19 200 q21 1) fun A22 => rn1 (X2_all_b76 N (nn n)) N A22) (bd (M_asks N (fS σ) 11) fun _ σ1 => hT1 N σ1) by
    obtain ⟨L, C, hs⟩ := hs
    exact ⟨L, C, ((hs.ckr x6.le2).ckr i2).ckr (show Le A (nw A 2 0 15) from ⟨Nat.le_succ _, Nat.le_add_right _ _⟩)⟩
  have hpR : ∀ f i, aN A ≤ i → RP f i → f ≤ 202 ∧ i = aN A := fun f i hi z => by unfold RP at z; omega
  have hkl : ∀ {s t : mSt}, Cm Kl s t → Cg (fun k _ => Kl k) s t := fun h => h.cg (fun _ _ z => z)
  have nkl : ∀ k j : Nat, 41 ≤ k → k ≤ 52 → ¬ Kl k := fun k j h1 h2 z => by unfold Kl at z; omega
  have n6a := e6.n1
  have n6b := e6.n2
  have fin : ∀ {e : Nat × Nat} {A7 : AH} {cc zz : Nat} {σ7 : mSt} {Yf : Option (Int32 × mSt)} {Xf : Option (Option (Option Nat) × AH)}, Xf = some (none, A7) → PF cc zz A A7 e → cc ≤ 200 → zz ≤ 18000 → Le A6 A7 → (∃ σ', Yf = M_folio_b135 N σ' ∧ RF σ' e ∧ Cg Kt (fS σ) σ') → ∃ L C, FolR N A A6 (fS σ) B n (aN A) L C Xf Yf := by
    intro e A7 cc zz σ7 Yf Xf hXf pf h1 h2 hl hY
    obtain ⟨σ', y1, y2, y3⟩ := hY
    exact ⟨0, 0, Or.inl ⟨e, A7, σ', hXf, hl, y1, pf.ex.wk (by omega) (by omega), pf.k, pf.pl, y2, y3⟩⟩
  -- 'folio'
  have wx := wordIs_eq hN rd (by omega) (j := 0) (by decide)
  obtain ⟨σ1, k1, k2, k3⟩ := asks_mq hN rm (w := 11) (Or.inl ⟨by decide, by decide⟩)
  rw [show wix 11 = 0 from rfl] at k3
  have w0 := wl_bd hB (Nat.zero_le n)
  rw [k1, bd_some]
  cases hv : sIs B n 0 0 with
  | error e =>
    rw [hv] at wx k3
    obtain ⟨A7, t1, t2⟩ := wx
    have k3 : RF σ1 e := k3
    rw [t1, bxa_no t2.ex.le2]
    exact fin (σ7 := σ1) rfl (PF.of e6 t2) (by omega) (by omega) t2.ex.le2 (hT1_bad hN k3 k2.lt)
  | ok p =>
    rw [hv] at wx k3
    obtain ⟨r7, A7, t1, t2, t3⟩ := wx
    have k3 : RM σ1 B n p := k3
    have em7 := em6.ex t2 hpR (hkl k2) nkl
    have e7 := e6.trans t2
    have n7a := t2.n1
    have n7b := t2.n2
    rw [t1, bxa_ok t2.le2, t3.to_, bo_some]
    unfold hT1
    -- the leaves
    have nx := number_eq hN t3 (l := 1) (m := 6) (by decide) (by decide)
    obtain ⟨y, σ3, m1, m2, m3⟩ := mnumber_eq hN k3 (l := 1) (m := 6) (by decide) (by decide)
    rw [show M_number N σ1 1 6 = _ from m1, bd_some]
    cases hv2 : sNum B n 1 6 p with
    | error e =>
      rw [hv2] at nx m3
      obtain ⟨A8, s1, s2⟩ := nx
      have m3 : RF σ3 e := m3
      rw [show X2_number N A7 1 6 = _ from s1, bx_none, ck_ok s2.ex.le2]
      exact fin (σ7 := σ1) rfl (PF.of e7 s2) (by omega) (by omega) (t2.le2.trans s2.ex.le2) (hT1n_bad hN m3 (k2.lt.trans m2.lt) y)
    | ok lv =>
      rw [hv2] at nx m3
      obtain ⟨r8, A8, s1, s2, s3, s4, s5⟩ := nx
      obtain ⟨m4, m5, m6⟩ := m3
      obtain ⟨_, lv6, lvp, lv1, _⟩ := sNum_ok hB hv2
      have hge := sk_ge B n p
      have em8 := em7.ex s3 hpR (hkl m2) nkl
      have e8 := e7.trans s3
      have n8a := s3.n1
      have n8b := s3.n2
      have x9 : Ex (fun f i => f = 201 ∧ i = aN A) 0 0 A8 (wI A8 201 (aN A) 0 (nn lv.1)) := Ex.wI s3.gn ⟨rfl, rfl⟩ (by omega)
      have c9 : Cg (fun k j => k = 40 ∧ j = 0) σ3 (mUI σ3 40 0 (nn lv.1)) := Cg.UI ⟨rfl, rfl⟩
      have em9 := em8.ex x9 (fun f i _ z => by omega) c9 (fun k j h1 h2 z => by omega)
      have rd9 := s4.ex x9 (fun f z => by omega) (fun f z => by omega)
      have rm9 := m5.hi c9 (fun k j z => by omega)
      have fr : ∀ i, aN A ≤ i → i < CB → aK A i = 0 := fun i h1 h2 => g0.nz i h1 h2
      have e9 : Ex RP 10 (64 + (2 * wl B n 0 + 4)) A (wI A8 201 (aN A) 0 (nn lv.1)) := (e8.tr x9 (fun f i z => Or.inr (fr i (by omega) (by omega)))).wk (by omega) (by omega)
      rw [show X2_number N A7 1 6 = _ from s1, bx_some, s2, pI_k em8.k, bo_some, rd9.to_, bo_some, m4, show stI 2 σ3 40 0 (nn lv.1) = some (mUI σ3 40 0 (nn lv.1)) from stI_nn (j := 0) (by rfl) (by decide) (by decide), bo_some]
      have cg9 : Cg Kt (fS σ) (mUI σ3 40 0 (nn lv.1)) := k2.lt.trans (m2.lt.trans (Cg.UI (Or.inr (by decide))))
      have l69 : Le A6 (wI A8 201 (aN A) 0 (nn lv.1)) := t2.le2.trans (s3.le2.trans x9.le2)
      have l79 : Le A7 (wI A8 201 (aN A) 0 (nn lv.1)) := s3.le2.trans x9.le2
      have lv9 : aI (wI A8 201 (aN A) 0 (nn lv.1)) 201 (aN A) 0 = nn lv.1 := by rw [aI_wI, if_pos ⟨rfl, rfl, rfl⟩]
      have lm9 : (mUI σ3 40 0 (nn lv.1)).1 40 0 = nn lv.1 := by rw [mI_UI, if_pos ⟨rfl, rfl⟩]
      generalize wI A8 201 (aN A) 0 (nn lv.1) = A9 at *
      generalize mUI σ3 40 0 (nn lv.1) = σ4 at *
      have n9a := e9.n1
      have n9b := e9.n2
      unfold hT2 X2_number_2
      -- 'cells'
      have wx2 := wordIs_eq hN rd9 (by omega) (j := 1) (by decide)
      obtain ⟨σ5, q1, q2, q3⟩ := asks_mq hN rm9 (w := 12) (Or.inl ⟨by decide, by decide⟩)
      rw [show wix 12 = 1 from rfl] at q3
      have w1 := wl_bd hB rd9.pn
      rw [q1, bd_some]
      cases hv3 : sIs B n 1 lv.2.2 with
      | error e =>
        rw [hv3] at wx2 q3
        obtain ⟨A10, b1, b2⟩ := wx2
        have q3 : RF σ5 e := q3
        obtain ⟨σ', y1, y2⟩ := hT2n_bad (N := N) hN q3 (cg9.trans q2.lt) 0
        rw [b1, bxa_no b2.ex.le2, ck_ok b2.ex.le2, bxa_no b2.ex.le2, ck_ok (l79.trans b2.ex.le2), bad_number q3, bd_some]
        exact fin (σ7 := σ1) rfl (PF.of e9 b2) (by omega) (by omega) (l69.trans b2.ex.le2) ⟨σ', y1, y2⟩
      | ok p3 =>
        rw [hv3] at wx2 q3
        obtain ⟨r10, A10, b1, b2, b3⟩ := wx2
        have q3 : RM σ5 B n p3 := q3
        have em10 := em9.ex b2 hpR (hkl q2) nkl
        have e10 := e9.trans b2
        have n10a := b2.n1
        have n10b := b2.n2
        have hp3 : lv.2.2 < p3 := by
          rw [sIs_isH] at hv3
          split at hv3
          · next z =>
            cases hv3
            have := (isH_end hB rd9.pn z).1
            have := sk_ge B n lv.2.2
            omega
          · cases hv3
        -- the cells
        have nx2 := number_eq hN b3 (l := 2) (m := 8) (by decide) (by decide)
        obtain ⟨y2, σ7, o1, o2, o3⟩ := mnumber_eq hN q3 (l := 2) (m := 8) (by decide) (by decide)
        rw [b1, bxa_ok b2.le2, show M_number N σ5 2 8 = _ from o1, bd_some]
        cases hv4 : sNum B n 2 8 p3 with
        | error e =>
          rw [hv4] at nx2 o3
          obtain ⟨A11, d1, d2⟩ := nx2
          have o3 : RF σ7 e := o3
          have l911 := b2.le2.trans d2.ex.le2
          rw [show X2_number N A10 2 8 = _ from d1, bx_none, ck_ok d2.ex.le2, ck_ok l911, bxa_no l911, ck_ok (l79.trans l911)]
          exact fin (σ7 := σ1) rfl (PF.of e10 d2) (by omega) (by omega) (l69.trans l911) (hT2n_bad hN o3 (cg9.trans (q2.lt.trans o2.lt)) y2)
        | ok cv =>
          rw [hv4] at nx2 o3
          obtain ⟨r11, A11, d1, d2, d3, d4, d5⟩ := nx2
          obtain ⟨o4, o5, o6⟩ := o3
          obtain ⟨_, cv8, cvp, cv2, _⟩ := sNum_ok hB hv4
          have hge3 := sk_ge B n p3
          have em11 := em10.ex d3 hpR (hkl o2) nkl
          have e11 := e10.trans d3
          have l911 := b2.le2.trans d3.le2
          have x12 : Ex (fun f i => f = 202 ∧ i = aN A) 0 0 A11 (wI A11 202 (aN A) 0 (nn cv.1)) := Ex.wI d3.gn ⟨rfl, rfl⟩ (by omega)
          have c12 : Cg (fun k j => k = 40 ∧ j = 1) σ7 (mUI σ7 40 1 (nn cv.1)) := Cg.UI ⟨rfl, rfl⟩
          have em12 := em11.ex x12 (fun f i _ z => by omega) c12 (fun k j h1 h2 z => by omega)
          have rd12 := d4.ex x12 (fun f z => by omega) (fun f z => by omega)
          have rm12 := o5.hi c12 (fun k j z => by omega)
          have e12 : Ex RP 13 (64 + (2 * wl B n 0 + 4) + (2 * wl B n lv.2.2 + 4)) A (wI A11 202 (aN A) 0 (nn cv.1)) := (e11.tr x12 (fun f i z => Or.inr (fr i (by omega) (by omega)))).wk (by omega) (by omega)
          rw [show X2_number N A10 2 8 = _ from d1, bx_some, ck_ok d3.le2, ck_ok l911, bxa_ok l911, d2, pI_k em11.k, bo_some, o4, show stI 2 σ7 40 1 (nn cv.1) = some (mUI σ7 40 1 (nn cv.1)) from stI_nn (j := 1) (by rfl) (by decide) (by decide), bo_some]
          have lv12 : aI (wI A11 202 (aN A) 0 (nn cv.1)) 201 (aN A) 0 = nn lv.1 := by
            rw [aI_wI, if_neg (by omega), d3.I _ (by rw [em10.k]; decide) (fun z => by unfold RP at z; omega), b2.I _ (by rw [em9.k]; decide) (fun z => by unfold RP at z; omega)]; exact lv9
          have ce12 : aI (wI A11 202 (aN A) 0 (nn cv.1)) 202 (aN A) 0 = nn cv.1 := by rw [aI_wI, if_pos ⟨rfl, rfl, rfl⟩]
          have lm12 : (mUI σ7 40 1 (nn cv.1)).1 40 0 = nn lv.1 := by
            rw [mI_UI, if_neg (by omega), o2.I _ (by unfold Kl; omega), q2.I _ (by unfold Kl; omega)]; exact lm9
          have cm12 : (mUI σ7 40 1 (nn cv.1)).1 40 1 = nn cv.1 := by rw [mI_UI, if_pos ⟨rfl, rfl⟩]
          have cg12 : Cg Kt (fS σ) (mUI σ7 40 1 (nn cv.1)) := cg9.trans (q2.lt.trans (o2.lt.trans (Cg.UI (Or.inr (by decide)))))
          have l912 : Le A9 (wI A11 202 (aN A) 0 (nn cv.1)) := l911.trans x12.le2
          have l1112 : Le A11 (wI A11 202 (aN A) 0 (nn cv.1)) := x12.le2
          have ft12 := em12.ft lv12 lm12 ce12 cm12 ⟨lv1, lv6⟩ ⟨cv2, cv8⟩
          generalize wI A11 202 (aN A) 0 (nn cv.1) = A12 at *
          generalize mUI σ7 40 1 (nn cv.1) = σ8 at *
          -- ';'
          have mx := must_eq hN rd12 (c := 59) (by decide)
          obtain ⟨σ9, z1, z2, z3⟩ := asksSign_eq hN rm12 (c := 59) (by decide) (by unfold LD; decide)
          have w3 := wl_bd hB rd12.pn
          have n12a := e12.n1
          have n12b := e12.n2
          rw [show M_asksSign N σ8 59 = _ from z1, bd_some]
          cases hv5 : sMust B n 59 cv.2.2 with
          | error e =>
            rw [hv5] at mx z3
            obtain ⟨A13, g1, g2⟩ := mx
            have z3 : RF σ9 e := z3
            have l1113 := l1112.trans g2.ex.le2
            rw [show X2_must N A12 59 = _ from g1, bx_none, ck_ok l1113, ck_ok (l79.trans (l911.trans l1113))]
            exact fin (σ7 := σ1) rfl (PF.of e12 g2) (by omega) (by omega) (l69.trans (l911.trans l1113)) (hT3_bad hN z3 (cg12.trans z2.lt))
          | ok p5 =>
            rw [hv5] at mx z3
            obtain ⟨r13, A13, g1, g2, g3⟩ := mx
            have z3 : RM σ9 B n p5 := z3
            have hp5 := (sMust_ok hv5).1
            have pn5 := g3.pn
            have ft13 := ft12.ex g2 (rp_hi lo) z2.ln
            obtain ⟨ft14, x14⟩ := ft13.w200 (σ' := mUI σ9 53 0 (nn 1)) g2.gn (nn 1) (Cg.UI rfl)
            have l14 : Le A11 (wI A13 200 (aN A) 0 (nn 1)) := l1112.trans (g2.le2.trans x14.le2)
            have nn14 : aN A + 7 ≤ aN (wI A13 200 (aN A) 0 (nn 1)) := by
              have h1 := em12.nn_
              have h2 := g2.n1
              show aN A + 7 ≤ aN A13
              omega
            rw [show X2_must N A12 59 = _ from g1, bx_some, g3.to_, bo_some, pI_k ft13.k, bo_some]
            unfold hT3
            rw [lt2_eq]
            refine ⟨lv.1, cv.1, ?_⟩
            have lst : LSt A (wI A13 200 (aN A) 0 (nn 1)) (fS σ) (mUI σ9 53 0 (nn 1)) B n (aN A) p5 p5 1 lv.1 cv.1 0 0 0 0 (aN A + 6) μ [] :=
              LSt.mk (g3.ex x14 (fun f z => by omega) (fun f z => by omega)) (z3.hi (Cg.UI (K := fun k _ => k = 53) rfl) (fun k j z => by have z : k = 53 := z; omega)) rfl ft14 (by rw [aI_wI, if_pos ⟨rfl, rfl, rfl⟩]) (by rw [mI_UI, if_pos ⟨rfl, rfl⟩]) (by omega) (by omega) ((((e12.trans g2).tr x14 (fun f i z => Or.inr (fr i (by omega) (by omega)))).wk (by omega) (by omega))) (cg12.trans (z2.lt.trans (Cg.UI (Or.inl rfl)))) nn14 fr
            have lp := fol_loop (N := N) (x1 := nn n) hN (by omega) n N N _ _ _ _ _ _ _ _ _ _ _ _ (by omega) (by omega) (by omega) lst
            exact (((lp.ckr l14).ckr (l79.trans l911)).le_ (t2.le2))
end
