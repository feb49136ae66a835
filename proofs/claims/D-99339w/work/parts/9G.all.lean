/-! PURE LEVEL: a whole folio is read, both sides -/
set_option maxRecDepth 100000
section
variable {N : Nat} {A0 A A' A1 A3 : AH} {σ0 σ σ' σ1 σ3 : mSt} {B : Nat → Nat} {n p1 p2 o μ x : Nat} {t : Option Nat} {a0 L C g w nb cd ar c s c' s' c0 s0 c3 s3 : Nat} {be : List Nat} {P K : Nat → Nat → Prop} {X : Option (Option (Option Nat) × AH)} {Y : Option (Int32 × mSt)}
theorem FolR.ckr (h : FolR N A0 A σ0 B n a0 L C X Y) (l : Le A1 A) : FolR N A0 A1 σ0 B n a0 L C (ck A1 X) Y := by
  rcases h with ⟨e, A', σ', h1, h2, h3⟩ | ⟨A', σ', p1, p2, s, g, w, nb, cd, ar, μ, be, h1, h2, h3⟩
  · exact Or.inl ⟨e, A', σ', by rw [h1, ck_ok (l.trans h2)], l.trans h2, h3⟩
  · exact Or.inr ⟨A', σ', p1, p2, s, g, w, nb, cd, ar, μ, be, by rw [h1, ck_ok (l.trans h2)], l.trans h2, h3⟩
theorem FolR.le_ (h : FolR N A0 A σ0 B n a0 L C X Y) (l : Le A1 A) : FolR N A0 A1 σ0 B n a0 L C X Y := by
  rcases h with ⟨e, A', σ', h1, h2, h3⟩ | ⟨A', σ', p1, p2, s, g, w, nb, cd, ar, μ, be, h1, h2, h3⟩
  · exact Or.inl ⟨e, A', σ', h1, l.trans h2, h3⟩
  · exact Or.inr ⟨A', σ', p1, p2, s, g, w, nb, cd, ar, μ, be, h1, l.trans h2, h3⟩
theorem i32_nn (x : Int32) : ∃ m, x = nn m := ⟨x.toBitVec.toNat, by
  apply Int32.toBitVec_inj.mp
  simp⟩
noncomputable def hT3 (N : Nat) (σ9 : mSt) : Option (Int32 × mSt) := lt2 (mUI σ9 53 0 1) fun σ10 => rn1 (M_folio_b113 N) N σ10
noncomputable def hT2 (N : Nat) (σ4 : mSt) : Option (Int32 × mSt) := bd (M_asks N σ4 12) fun _ σ5 => bd (M_number N σ5 2 8) fun r6 σ7 => bo (stI 2 σ7 40 1 r6) fun σ8 => bd (M_asksSign N σ8 59) fun _ σ9 => hT3 N σ9
noncomputable def hT1 (N : Nat) (σ1 : mSt) : Option (Int32 × mSt) := bd (M_number N σ1 1 6) fun r2 σ3 => bo (stI 2 σ3 40 0 r2) fun σ4 => hT2 N σ4
theorem bo_bd {α β S : Type} (X : Option α) (f : α → Option (β × S)) {γ : Type} (g : β → S → Option γ) : bd (bo X f) g = bo X (fun a => bd (f a) g) := by cases X <;> rfl
theorem folio_hT (hN : 5000 ≤ N) : M_folio N σ = bd (M_asks N (fS σ) 11) fun _ σ1 => hT1 N σ1 := by
  rw [folio_start hN]
  unfold M_folioTold
  simp only [bd_bd, bo_bd]
  rfl
theorem RF.ui {e : Nat × Nat} (h : RF σ e) {k j : Nat} {v : Int32} (h5 : k ≠ 5) (h6 : k ≠ 6) : RF (mUI σ k j v) e := RF.mk (by rw [mI_UI, if_neg (by omega)]; exact h.b) (by rw [mI_UI, if_neg (by omega)]; exact h.pl) h.nz
theorem hT3_bad (hN : 5000 ≤ N) {e : Nat × Nat} (h : RF σ e) (cg : Cg Kt σ0 σ) : ∃ σ', hT3 N σ = M_folio_b135 N σ' ∧ RF σ' e ∧ Cg Kt σ0 σ' := by
  have f1 : RF (mUI σ 53 0 1) e := h.ui (by decide) (by decide)
  refine ⟨mUI σ 53 0 1, ?_, f1, cg.trans (Cg.UI (Or.inl rfl))⟩
  obtain ⟨M, hM⟩ : ∃ m, N = m + 1 := ⟨N - 1, by omega⟩
  unfold hT3
  rw [lt2_eq, show rn1 (M_folio_b113 N) N (mUI σ 53 0 1) = rn1 (M_folio_b113 N) (M + 1) (mUI σ 53 0 1) by rw [← hM]]
  show M_folio_b113 N (rn1 (M_folio_b113 N) M) (mUI σ 53 0 1) = _
  unfold M_folio_b113
  rw [if_neg f1.ne]
theorem hT2n_bad (hN : 5000 ≤ N) {e : Nat × Nat} (h : RF σ e) (cg : Cg Kt σ0 σ) (r6 : Int32) : ∃ σ', (bo (stI 2 σ 40 1 r6) fun σ8 => bd (M_asksSign N σ8 59) fun _ σ9 => hT3 N σ9) = M_folio_b135 N σ' ∧ RF σ' e ∧ Cg Kt σ0 σ' := by
  have f1 : RF (mUI σ 40 1 r6) e := h.ui (by decide) (by decide)
  obtain ⟨σ', y1, y2⟩ := hT3_bad hN f1 (cg.trans (Cg.UI (Or.inr (by decide))))
  exact ⟨σ', by rw [show stI 2 σ 40 1 r6 = some (mUI σ 40 1 r6) from stI_nn (j := 1) (by rfl) (by decide) (by decide), bo_some, bad_asksSign f1, bd_some, y1], y2⟩
theorem hT2_bad (hN : 5000 ≤ N) {e : Nat × Nat} (h : RF σ e) (cg : Cg Kt σ0 σ) : ∃ σ', hT2 N σ = M_folio_b135 N σ' ∧ RF σ' e ∧ Cg Kt σ0 σ' := by
  obtain ⟨σ', y1, y2⟩ := hT2n_bad hN h cg 0
  exact ⟨σ', by unfold hT2; rw [bad_asks h, bd_some, bad_number h, bd_some, y1], y2⟩
theorem hT1n_bad (hN : 5000 ≤ N) {e : Nat × Nat} (h : RF σ e) (cg : Cg Kt σ0 σ) (r2 : Int32) : ∃ σ', (bo (stI 2 σ 40 0 r2) fun σ4 => hT2 N σ4) = M_folio_b135 N σ' ∧ RF σ' e ∧ Cg Kt σ0 σ' := by
  have f1 : RF (mUI σ 40 0 r2) e := h.ui (by decide) (by decide)
  obtain ⟨σ', y1, y2⟩ := hT2_bad hN f1 (cg.trans (Cg.UI (Or.inr (by decide))))
  exact ⟨σ', by rw [show stI 2 σ 40 0 r2 = some (mUI σ 40 0 r2) from stI_nn (j := 0) (by rfl) (by decide) (by decide), bo_some, y1], y2⟩
theorem hT1_bad (hN : 5000 ≤ N) {e : Nat × Nat} (h : RF σ e) (cg : Cg Kt σ0 σ) : ∃ σ', hT1 N σ = M_folio_b135 N σ' ∧ RF σ' e ∧ Cg Kt σ0 σ' := by
  obtain ⟨σ', y1, y2⟩ := hT1n_bad hN h cg 0
  exact ⟨σ', by unfold hT1; rw [bad_number h, bd_some, y1], y2⟩
theorem fS_v (σ : mSt) : (fS σ).1 2 0 = 0 ∧ (fS σ).1 3 0 = σ.1 1 0 ∧ (fS σ).1 4 0 = -1 ∧ (fS σ).1 5 0 = 0 ∧ (fS σ).1 6 0 = -1 ∧ (fS σ).1 52 0 = 0 ∧ (fS σ).1 47 0 = 0 ∧ (fS σ).1 1 0 = 0 := by
  unfold fS
  simp [mI_UI]
theorem fS_41 (σ : mSt) : ∀ k, k < 3 → (fS σ).1 41 k = 0 := by
  intro k hk
  have : k = 0 ∨ k = 1 ∨ k = 2 := by omega
  unfold fS
  rcases this with rfl | rfl | rfl <;> simp [mI_UI]
theorem fS_43 (σ : mSt) : ∀ k, k < 6 → (fS σ).1 43 k = 0 := by
  intro k hk
  have : k = 0 ∨ k = 1 ∨ k = 2 ∨ k = 3 ∨ k = 4 ∨ k = 5 := by omega
  unfold fS
  rcases this with rfl | rfl | rfl | rfl | rfl | rfl <;> simp [mI_UI]
theorem fS_49 (σ : mSt) : ∀ k, k < 4 → (fS σ).1 49 k = -1 := by
  intro k hk
  have : k = 0 ∨ k = 1 ∨ k = 2 ∨ k = 3 := by omega
  unfold fS
  rcases this with rfl | rfl | rfl | rfl <;> simp [mI_UI]
theorem Kf1_lo {k j : Nat} (h : k = 0 ∨ isWd k) : ¬ Kf1 k j := by
  rintro (z | z)
  · rcases h with h | h
    · omega
    · unfold isWd at h; omega
  · rcases h with h | h
    · rw [h] at z; exact Kt_no (k := 0) rfl rfl (Nat.zero_le _) z
    · exact Kt_wd k h j z
theorem fS_rm (hB : BOK B n) (hn : σ.1 1 0 = nn n) (tp : ∀ k, k < n → σ.1 0 k = nn (B k)) (wd : WD σ) : RM (fS σ) B n 0 := by
  obtain ⟨v2, v3, v4, v5, v6, _⟩ := fS_v σ
  refine RM.mk v2 (v3.trans hn) v5 (fun k hk => (fS_cg.I (Kf1_lo (Or.inl rfl))).trans (tp k hk)) hB (Nat.zero_le _) (Or.inl ⟨v4, fun k hk => by omega⟩) (fun k hk j v hv => ?_) v6
  rw [fS_cg.I (Kf1_lo (Or.inr hk))]; exact wd k hk j v hv
theorem all_j (hN : 5000 ≤ N) (g0 : GN A) (hr : aN A + (110 * (n + 1) + 400) ≤ CB) (hB : BOK B n) (tpA : ∀ k, k < n → aI A 33 8 k = sby (B k)) (tpM : ∀ k, k < n → σ.1 0 k = nn (B k)) (hn : σ.1 1 0 = nn n) (wd : WD σ) : ∃ L C, FolR N A A (fS σ) B n (aN A) L C (X2_all N A (nn n)) (M_folio N σ) := by
  have nb6 := hB.nb
  have lo := g0.lo
  obtain ⟨A2, i1, i2, i3, i4, i5, i6, i7, i8, i9, i10, i11, i12, i13, i14⟩ := folio_new g0 (by omega)
  have f41 := fS_41 σ
  have f43 := fS_43 σ
  have f49 := fS_49 σ
  obtain ⟨v2, v3, v4, v5, v6, v52, v47, _⟩ := fS_v σ
  have em2 : FEm A2 (fS σ) (aN A) := FEm.mk i5 lo (by omega) (FG.mk (i6 _ (by decide)) (f41 2 (by decide)) (by decide) i8 (fun l hl => ⟨by rw [i12, f43 l hl], 0, by decide, f43 l hl⟩)) (FW.mk (i6 _ (by decide)) (f41 1 (by decide)) (by decide) i9 i10 i11 (fun x hx => by omega)) (fun L C => FB.mk (f41 0 (by decide)) (by decide) i13 i14 (Nat.le_refl _) rfl (fun b i hi => by cases hi) (fun x y hx => by omega)) (FC.mk (Or.inl ⟨i7 _ (by decide), f49 0 (by decide)⟩) (Or.inl ⟨i7 _ (by decide), f49 1 (by decide)⟩) (Or.inl ⟨i7 _ (by decide), f49 2 (by decide)⟩) (Or.inl ⟨i7 _ (by decide), f49 3 (by decide)⟩) v52 (by decide)) ((i6 _ (by decide)).trans v47.symm) (by omega)
  have x3 : Ex RP 0 0 A2 (wR A2 306 9 0 (some (aN A))) := Ex.wR i3.gn (Or.inl ⟨rfl, by decide, by decide⟩) (by decide)
  have x4 : Ex RP 0 0 A2 (wI (wR A2 306 9 0 (some (aN A))) 301 9 0 (nn n)) := x3.trans (Ex.wI x3.gn (Or.inl ⟨rfl, by decide, by decide⟩) (by decide))
  have x5 : Ex RP 0 0 A2 (wI (wI (wR A2 306 9 0 (some (aN A))) 301 9 0 (nn n)) 302 9 0 0) := x4.trans (Ex.wI x4.gn (Or.inl ⟨rfl, by decide, by decide⟩) (by decide))
  have x6 : Ex RP 0 0 A2 (wI (wI (wI (wR A2 306 9 0 (some (aN A))) 301 9 0 (nn n)) 302 9 0 0) 304 9 0 0) := x5.trans (Ex.wI x5.gn (Or.inl ⟨rfl, by decide, by decide⟩) (by decide))
  obtain ⟨μ, hμ⟩ := i32_nn (aI (wI (wI (wI (wR A2 306 9 0 (some (aN A))) 301 9 0 (nn n)) 302 9 0 0) 304 9 0 0) 305 9 0)
  have rd : RD (wI (wI (wI (wR A2 306 9 0 (some (aN A))) 301 9 0 (nn n)) 302 9 0 0) 304 9 0 0) B n 0 0 μ (some (aN A)) := by
    refine RD.mk x6.gn ?_ ?_ ?_ hμ ?_ (fun k hk => ?_) hB (Nat.zero_le _) (by decide)
    · rw [aI_wI, if_neg (by decide), aI_wI, if_neg (by decide), aI_wI, if_pos ⟨rfl, rfl, rfl⟩]
    · rw [aI_wI, if_neg (by decide), aI_wI, if_pos ⟨rfl, rfl, rfl⟩]; rfl
    · rw [aI_wI, if_pos ⟨rfl, rfl, rfl⟩]; rfl
    · rw [aR_wI, aR_wI, aR_wI, aR_wR, if_pos ⟨rfl, rfl, rfl⟩]
    · rw [x6.I _ (by rw [i3.gn.k8]; decide) (fun z => by unfold RP at z; omega), i3.I _ (by rw [g0.k8]; decide) id]; exact tpA k hk
  generalize hA6 : wI (wI (wI (wR A2 306 9 0 (some (aN A))) 301 9 0 (nn n)) 302 9 0 0) 304 9 0 0 = A6 at rd x6
  have em6 := em2.ex (σ' := fS σ) x6 (fun f i hi z => by unfold RP at z; omega) (Cg.refl (K := fun _ _ => False) _) (fun _ _ _ _ => id)
  have e6 : Ex RP 7 64 A A6 := ((i3.mono (fun _ _ z => z.elim)).trans x6).wk (by omega) (by omega)
  have rm := fS_rm hB hn tpM wd
  have hX : X2_all N A (nn n) = ck A (ck (nw A 2 0 15) (ck A2 (bxa A6 (X2_word N A6 (CB + 0)) fun _ A7 => bo (aR A7 306 9 0) fun q9 => bx (X2_number N A7 1 6) fun r10 A11 => bo (pI 2 A11 201 q9 r10) fun A13 => bo (aR A13 306 9 0) fun q14 => bxa A13 (X2_number_2 N A13 (CB + 1) 2 8) fun r15 A16 => bo (pI 2 A16 202 q14 r15) fun A18 => bx (X2_must N A18 59) fun _ A19 => bo (aR A19 306 9 0) fun q21 => bo (pI 2 A19 200 q21 1) fun A22 => rn1 (X2_all_b76 N (nn n)) N A22))) := by
    unfold X2_all
    rw [nwO_ok (by omega), bo_some, i1, bda_ok i2, lt2_eq, lt2_eq, lt2_eq, lt2_eq, hA6]
  rw [hX, folio_hT hN]
  suffices hs : ∃ L C, FolR N A A6 (fS σ) B n (aN A) L C (bxa A6 (X2_word N A6 (CB + 0)) fun _ A7 => bo (aR A7 306 9 0) fun q9 => bx (X2_number N A7 1 6) fun r10 A11 => bo (pI 2 A11 201 q9 r10) fun A13 => bo (aR A13 306 9 0) fun q14 => bxa A13 (X2_number_2 N A13 (CB + 1) 2 8) fun r15 A16 => bo (pI 2 A16 202 q14 r15) fun A18 => bx (X2_must N A18 59) fun _ A19 => bo (aR A19 306 9 0) fun q21 => bo (pI 2 A19 200 q21 1) fun A22 => rn1 (X2_all_b76 N (nn n)) N A22) (bd (M_asks N (fS σ) 11) fun _ σ1 => hT1 N σ1) by
    obtain ⟨L, C, hs⟩ := hs
    exact ⟨L, C, ((hs.ckr x6.le2).ckr i2).ckr (show Le A (nw A 2 0 15) from ⟨Nat.le_succ _, Nat.le_add_right _ _⟩)⟩
  sorry
end
