/-! PURE LEVEL: the head of a folio, both sides -/
set_option maxRecDepth 100000
section
variable {N : Nat} {A0 A A' A1 A3 : AH} {σ0 σ σ' σ1 σ3 : mSt} {B : Nat → Nat} {n p1 p2 o μ x : Nat} {t : Option Nat} {a0 L C g w nb cd ar c s c' s' c0 s0 c3 s3 : Nat} {be : List Nat} {P K : Nat → Nat → Prop}
/-- an empty folio that is being read -/
def FEm (A : AH) (σ : mSt) (a0 : Nat) : Prop :=
  (aK A a0 = 2) ∧
  (1101 ≤ a0) ∧
  (a0 + 7 ≤ CB) ∧
  (FG A σ a0 0) ∧
  (FW A σ a0 0) ∧
  (∀ L C, FB A σ a0 L C 0 (a0 + 6) []) ∧
  (FC A σ a0 (a0 + 6) 0) ∧
  (aI A 205 a0 0 = σ.1 47 0) ∧
  (a0 + 7 ≤ aN A)
theorem FEm.k {A : AH} {σ : mSt} {a0 : Nat} (h : FEm A σ a0) : aK A a0 = 2 := h.1
theorem FEm.a1 {A : AH} {σ : mSt} {a0 : Nat} (h : FEm A σ a0) : 1101 ≤ a0 := h.2.1
theorem FEm.a2 {A : AH} {σ : mSt} {a0 : Nat} (h : FEm A σ a0) : a0 + 7 ≤ CB := h.2.2.1
theorem FEm.fg {A : AH} {σ : mSt} {a0 : Nat} (h : FEm A σ a0) : FG A σ a0 0 := h.2.2.2.1
theorem FEm.fw {A : AH} {σ : mSt} {a0 : Nat} (h : FEm A σ a0) : FW A σ a0 0 := h.2.2.2.2.1
theorem FEm.fb {A : AH} {σ : mSt} {a0 : Nat} (h : FEm A σ a0) : ∀ L C, FB A σ a0 L C 0 (a0 + 6) [] := h.2.2.2.2.2.1
theorem FEm.fc {A : AH} {σ : mSt} {a0 : Nat} (h : FEm A σ a0) : FC A σ a0 (a0 + 6) 0 := h.2.2.2.2.2.2.1
theorem FEm.th {A : AH} {σ : mSt} {a0 : Nat} (h : FEm A σ a0) : aI A 205 a0 0 = σ.1 47 0 := h.2.2.2.2.2.2.2.1
theorem FEm.nn_ {A : AH} {σ : mSt} {a0 : Nat} (h : FEm A σ a0) : a0 + 7 ≤ aN A := h.2.2.2.2.2.2.2.2
theorem FEm.mk {A : AH} {σ : mSt} {a0 : Nat} (h_k : aK A a0 = 2) (h_a1 : 1101 ≤ a0) (h_a2 : a0 + 7 ≤ CB) (h_fg : FG A σ a0 0) (h_fw : FW A σ a0 0) (h_fb : ∀ L C, FB A σ a0 L C 0 (a0 + 6) []) (h_fc : FC A σ a0 (a0 + 6) 0) (h_th : aI A 205 a0 0 = σ.1 47 0) (h_nn_ : a0 + 7 ≤ aN A) : FEm A σ a0 := ⟨h_k, h_a1, h_a2, h_fg, h_fw, h_fb, h_fc, h_th, h_nn_⟩
theorem FEm.ex (h : FEm A σ a0) (e : Ex P c s A A') (hp : ∀ f i, a0 ≤ i → P f i → f ≤ 202 ∧ i = a0) (m : Cg K σ σ') (hk : ∀ k j, 41 ≤ k → k ≤ 52 → ¬ K k j) : FEm A' σ' a0 := by
  have p0 : ∀ f, 203 ≤ f → ¬ P f a0 := fun f hf z => by have := (hp f a0 (Nat.le_refl _) z).1; omega
  have pd : ∀ f d, 1 ≤ d → ¬ P f (a0 + d) := fun f d hd z => by have := (hp f (a0 + d) (by omega) z).2; omega
  have k0 : aK A a0 ≠ 0 := by rw [h.k]; decide
  have n1 := e.n1
  have nn_ := h.nn_
  refine FEm.mk (e.K h.k (by decide)) h.a1 h.a2 (h.fg.ex h.k e m (p0 _ (by decide)) (p0 _ (by decide)) (pd _ _ (by decide)) (hk _ _ (by decide) (by decide)) (fun _ _ => hk _ _ (by decide) (by decide))) (h.fw.ex h.k e m (p0 _ (by decide)) (fun f _ _ => p0 f (by omega)) (fun d _ _ => pd _ d (by omega)) (hk _ _ (by decide) (by decide)) (fun _ _ => hk _ _ (by decide) (by decide))) (fun L C => (h.fb L C).ex h.k e m (p0 _ (by decide)) (fun f => pd f _ (by decide)) (fun f => pd f _ (by decide)) (fun f i hi hq z => ?_) (hk _ _ (by decide) (by decide)) (fun _ _ => hk _ _ (by decide) (by decide)) (fun _ _ => hk _ _ (by decide) (by decide)) (fun _ _ => hk _ _ (by decide) (by decide))) (h.fc.ex h.k e m (fun f _ _ => p0 f (by omega)) (fun f i hi _ z => by have := (hp f i (by unfold ownV at hi; omega) z).2; unfold ownV at hi; omega) (fun i hi _ => hi) (fun _ _ => hk _ _ (by decide) (by decide)) (fun _ _ => hk _ _ (by decide) (by decide)) (fun _ _ => hk _ _ (by decide) (by decide)) (hk _ _ (by decide) (by decide))) ?_ (by omega)
  · have := (hp f i hi z).2
    unfold isBN at hq
    rw [this, h.k] at hq; omega
  · rw [e.I _ k0 (p0 _ (by decide)), m.I (hk _ _ (by decide) (by decide))]; exact h.th
theorem FEm.ft (h : FEm A σ a0) (lv : aI A 201 a0 0 = nn L) (lvm : σ.1 40 0 = nn L) (ce : aI A 202 a0 0 = nn C) (cem : σ.1 40 1 = nn C) (bL : 1 ≤ L ∧ L ≤ 6) (bC : 2 ≤ C ∧ C ≤ 8) : FT A σ a0 L C 0 0 0 0 (a0 + 6) [] :=
  FT.mk (FH.mk h.k h.a1 h.a2 lv lvm ce cem bL bC) h.fg h.fw (h.fb L C) (fun b l hb => by omega) h.fc h.th
/-- the reference makes ready -/
def fS (σ : mSt) : mSt := mUI (mUI (mUI (mUI (mUI (mUI (mUI (mUI (mUI (mUI (mUI (mUI (mUI (mUI (mUI (mUI (mUI (mUI (mUI (mUI (mUI σ 3 0 (σ.1 1 0)) 1 0 0) 2 0 0) 4 0 (-1)) 5 0 0) 6 0 (-1)) 52 0 0) 41 0 0) 41 1 0) 41 2 0) 43 0 0) 43 1 0) 43 2 0) 43 3 0) 43 4 0) 43 5 0) 49 0 (-1)) 49 1 (-1)) 49 2 (-1)) 49 3 (-1)) 47 0 0
def Kf1 (k j : Nat) : Prop := k = 1 ∨ Kt k j
theorem fS_cg : Cg Kf1 σ (fS σ) := by
  unfold fS
  have a : ∀ {k j : Nat}, kall k = true → Kf1 k j := fun h => Or.inr (Or.inl h)
  have b : ∀ {k j : Nat}, j < khalf k → Kf1 k j := fun h => Or.inr (Or.inr h)
  exact (Cg.UI (a rfl)).trans ((Cg.UI (Or.inl rfl)).trans ((Cg.UI (a rfl)).trans ((Cg.UI (a rfl)).trans ((Cg.UI (a rfl)).trans ((Cg.UI (a rfl)).trans ((Cg.UI (a rfl)).trans ((Cg.UI (b (by decide))).trans ((Cg.UI (b (by decide))).trans ((Cg.UI (b (by decide))).trans ((Cg.UI (a rfl)).trans ((Cg.UI (a rfl)).trans ((Cg.UI (a rfl)).trans ((Cg.UI (a rfl)).trans ((Cg.UI (a rfl)).trans ((Cg.UI (a rfl)).trans ((Cg.UI (b (by decide))).trans ((Cg.UI (b (by decide))).trans ((Cg.UI (b (by decide))).trans ((Cg.UI (b (by decide))).trans (Cg.UI (a rfl)))))))))))))))))))))
theorem z40 {z k : Nat} (h : k < 3) : rn2 (M_folio_b40 N) (z + 1) σ (nn k) = rn2 (M_folio_b40 N) z (mUI σ 41 k 0) (nn (k + 1)) := by
  show M_folio_b40 N (rn2 (M_folio_b40 N) z) σ (nn k) = _
  generalize rn2 (M_folio_b40 N) z = kk
  unfold M_folio_b40
  rw [if_neg (fun q : (3 : Int32) ≤ nn k => by have := (nn_le (a := 3) (by omega) (by omega)).mp q; omega), stI_nn (by rfl) (by show k < 6; omega) (by omega), bo_some, nn_succ]
theorem z60 {z k : Nat} (h : k < 6) : rn2 (M_folio_b60 N) (z + 1) σ (nn k) = rn2 (M_folio_b60 N) z (mUI σ 43 k 0) (nn (k + 1)) := by
  show M_folio_b60 N (rn2 (M_folio_b60 N) z) σ (nn k) = _
  generalize rn2 (M_folio_b60 N) z = kk
  unfold M_folio_b60
  rw [if_neg (fun q : (6 : Int32) ≤ nn k => by have := (nn_le (a := 6) (by omega) (by omega)).mp q; omega), stI_nn (by rfl) (by show k < 6; omega) (by omega), bo_some, nn_succ]
theorem z81 {z k : Nat} (h : k < 4) : rn2 (M_folio_b81 N) (z + 1) σ (nn k) = rn2 (M_folio_b81 N) z (mUI σ 49 k (-1)) (nn (k + 1)) := by
  show M_folio_b81 N (rn2 (M_folio_b81 N) z) σ (nn k) = _
  generalize rn2 (M_folio_b81 N) z = kk
  unfold M_folio_b81
  rw [if_neg (fun q : (4 : Int32) ≤ nn k => by have := (nn_le (a := 4) (by omega) (by omega)).mp q; omega), stI_nn (by rfl) (by show k < 8; omega) (by omega), bo_some, nn_succ]
theorem folio_start (hN : 5000 ≤ N) : M_folio N σ = bd (M_folioTold N (fS σ)) fun _ σ9 => lt2 (mUI σ9 53 0 1) fun σ10 => rn1 (M_folio_b113 N) N σ10 := by
  obtain ⟨M, hM⟩ : ∃ m, N = m + 10 := ⟨N - 10, by omega⟩
  have e40 : ∀ s, rn2 (M_folio_b40 N) N s 0 = rn2 (M_folio_b60 N) N (mUI (mUI (mUI s 41 0 0) 41 1 0) 41 2 0) 0 := by
    intro s
    have : rn2 (M_folio_b40 N) N s 0 = rn2 (M_folio_b40 N) (M + 9 + 1) s (nn 0) := by rw [show M + 9 + 1 = N by omega]; rfl
    rw [this, z40 (by decide), z40 (by decide), z40 (by decide)]
    show M_folio_b40 N _ _ _ = _
    unfold M_folio_b40
    rw [if_pos (by decide)]
  have e60 : ∀ s, rn2 (M_folio_b60 N) N s 0 = rn2 (M_folio_b81 N) N (mUI (mUI (mUI (mUI (mUI (mUI s 43 0 0) 43 1 0) 43 2 0) 43 3 0) 43 4 0) 43 5 0) 0 := by
    intro s
    have : rn2 (M_folio_b60 N) N s 0 = rn2 (M_folio_b60 N) (M + 9 + 1) s (nn 0) := by rw [show M + 9 + 1 = N by omega]; rfl
    rw [this, z60 (by decide), z60 (by decide), z60 (by decide), z60 (by decide), z60 (by decide), z60 (by decide)]
    show M_folio_b60 N _ _ _ = _
    unfold M_folio_b60
    rw [if_pos (by decide)]
  have e81 : ∀ s, rn2 (M_folio_b81 N) N s 0 = lt2 (mUI (mUI (mUI (mUI (mUI s 49 0 (-1)) 49 1 (-1)) 49 2 (-1)) 49 3 (-1)) 47 0 0) fun σ8 => bd (M_folioTold N σ8) fun _ σ9 => lt2 (mUI σ9 53 0 1) fun σ10 => rn1 (M_folio_b113 N) N σ10 := by
    intro s
    have : rn2 (M_folio_b81 N) N s 0 = rn2 (M_folio_b81 N) (M + 9 + 1) s (nn 0) := by rw [show M + 9 + 1 = N by omega]; rfl
    rw [this, z81 (by decide), z81 (by decide), z81 (by decide), z81 (by decide)]
    show M_folio_b81 N _ _ _ = _
    unfold M_folio_b81
    rw [if_pos (by decide)]
  unfold M_folio
  rw [lt2_eq, lt2_eq, lt2_eq, lt2_eq, lt2_eq, lt2_eq, lt2_eq, e40, e60, e81, lt2_eq]
  rfl
end
