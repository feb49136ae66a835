/-! PURE LEVEL: one statement, both sides -/
set_option maxRecDepth 100000
/-- one word after the other is taken, if it is there -/
noncomputable def chT (N : Nat) {R : Type} (no : mSt → Option R) : List (Nat × (mSt → Option R)) → mSt → Option R
  | [], σ => no σ
  | k :: ks, σ => bd (M_takes N σ k.1) fun r σ1 => if r = 0 then chT N no ks σ1 else k.2 σ1
section
variable {N : Nat} {A A' A1 : AH} {σ σ' σ1 : mSt} {B : Nat → Nat} {n p o μ : Nat} {t : Option Nat} {a0 L C g w nb cd ar c s c' s' c0 s0 : Nat} {be : List Nat} {P K : Nat → Nat → Prop}
theorem chT_eq (hN : 5000 ≤ N) {R : Type} (no : mSt → Option R) (hB : BOK B n) : ∀ (ks : List (Nat × (mSt → Option R))) (σ : mSt), (∀ e ∈ ks, isWd e.1) → RM σ B n (sk B n p) → (∃ e ∈ ks, isH B n (wix e.1) p ∧ ∃ σ', chT N no ks σ = e.2 σ' ∧ Cm Kl σ σ' ∧ RM σ' B n (wE B n p)) ∨ ((∀ e ∈ ks, ¬ isH B n (wix e.1) p) ∧ ∃ σ', chT N no ks σ = no σ' ∧ Cm Kl σ σ' ∧ RM σ' B n (sk B n p)) := by
  intro ks
  induction ks with
  | nil =>
    intro σ hk r
    exact Or.inr ⟨fun e he => (by cases he), σ, rfl, Cm.refl σ, r⟩
  | cons k ks ih =>
    intro σ hk r
    obtain ⟨σ1, h1, c1, r1⟩ := mtakes_eq hN r (w := k.1) (hk k (by simp))
    have e : chT N no (k :: ks) σ = bd (M_takes N σ k.1) fun r σ1 => if r = 0 then chT N no ks σ1 else k.2 σ1 := rfl
    by_cases c : isH B n (wix k.1) p
    · have c' : isH B n (wix k.1) (sk B n p) := (isH_sk hB).mpr c
      rw [if_pos c'] at h1 r1
      refine Or.inl ⟨k, by simp, c, σ1, ?_, c1, ?_⟩
      · rw [e, h1, bd_some, if_neg (by decide)]
      · have ew : wE B n (sk B n p) = wE B n p := by unfold wE; rw [sk_sk hB]
        rw [ew] at r1; exact r1
    · have c' : ¬ isH B n (wix k.1) (sk B n p) := fun z => c ((isH_sk hB).mp z)
      rw [if_neg c'] at h1 r1
      rw [sk_sk hB] at r1
      have e2 : chT N no (k :: ks) σ = chT N no ks σ1 := by rw [e, h1, bd_some, if_pos rfl]
      rcases ih σ1 (fun j hj => hk j (by simp [hj])) r1 with ⟨e', he, hh, σ2, y1, y2, y3⟩ | ⟨hh, σ2, y1, y2, y3⟩
      · exact Or.inl ⟨e', by simp [he], hh, σ2, e2.trans y1, c1.trans y2, y3⟩
      · refine Or.inr ⟨fun e' he => ?_, σ2, e2.trans y1, c1.trans y2, y3⟩
        rcases List.mem_cons.mp he with z | z
        · subst z; exact c
        · exact hh e' z
/-- both sides stand before a statement, or at the end -/
def LSt (A0 A : AH) (σ0 σ : mSt) (B : Nat → Nat) (n a0 p1 p2 s L C g w nb cd ar μ : Nat) (be : List Nat) : Prop :=
  (RD A B n p1 0 μ (some a0)) ∧
  (RM σ B n p2) ∧
  (sk B n p2 = sk B n p1) ∧
  (FT A σ a0 L C g w nb cd ar be) ∧
  (aI A 200 a0 0 = nn s) ∧
  (σ.1 53 0 = nn s) ∧
  (1 ≤ s ∧ s ≤ 80) ∧
  (cd ≤ p2) ∧
  (Ex RP (110 * p1 + 10) (4100 * p1 + 200) A0 A) ∧
  (Cg Kt σ0 σ) ∧
  (a0 + 7 ≤ aN A) ∧
  (∀ i, a0 ≤ i → i < CB → aK A0 i = 0)
theorem LSt.rd {A0 A : AH} {σ0 σ : mSt} {B : Nat → Nat} {n a0 p1 p2 s L C g w nb cd ar μ : Nat} {be : List Nat} (h : LSt A0 A σ0 σ B n a0 p1 p2 s L C g w nb cd ar μ be) : RD A B n p1 0 μ (some a0) := h.1
theorem LSt.rm {A0 A : AH} {σ0 σ : mSt} {B : Nat → Nat} {n a0 p1 p2 s L C g w nb cd ar μ : Nat} {be : List Nat} (h : LSt A0 A σ0 σ B n a0 p1 p2 s L C g w nb cd ar μ be) : RM σ B n p2 := h.2.1
theorem LSt.sk_ {A0 A : AH} {σ0 σ : mSt} {B : Nat → Nat} {n a0 p1 p2 s L C g w nb cd ar μ : Nat} {be : List Nat} (h : LSt A0 A σ0 σ B n a0 p1 p2 s L C g w nb cd ar μ be) : sk B n p2 = sk B n p1 := h.2.2.1
theorem LSt.ft {A0 A : AH} {σ0 σ : mSt} {B : Nat → Nat} {n a0 p1 p2 s L C g w nb cd ar μ : Nat} {be : List Nat} (h : LSt A0 A σ0 σ B n a0 p1 p2 s L C g w nb cd ar μ be) : FT A σ a0 L C g w nb cd ar be := h.2.2.2.1
theorem LSt.sa {A0 A : AH} {σ0 σ : mSt} {B : Nat → Nat} {n a0 p1 p2 s L C g w nb cd ar μ : Nat} {be : List Nat} (h : LSt A0 A σ0 σ B n a0 p1 p2 s L C g w nb cd ar μ be) : aI A 200 a0 0 = nn s := h.2.2.2.2.1
theorem LSt.sm {A0 A : AH} {σ0 σ : mSt} {B : Nat → Nat} {n a0 p1 p2 s L C g w nb cd ar μ : Nat} {be : List Nat} (h : LSt A0 A σ0 σ B n a0 p1 p2 s L C g w nb cd ar μ be) : σ.1 53 0 = nn s := h.2.2.2.2.2.1
theorem LSt.sb {A0 A : AH} {σ0 σ : mSt} {B : Nat → Nat} {n a0 p1 p2 s L C g w nb cd ar μ : Nat} {be : List Nat} (h : LSt A0 A σ0 σ B n a0 p1 p2 s L C g w nb cd ar μ be) : 1 ≤ s ∧ s ≤ 80 := h.2.2.2.2.2.2.1
theorem LSt.cb {A0 A : AH} {σ0 σ : mSt} {B : Nat → Nat} {n a0 p1 p2 s L C g w nb cd ar μ : Nat} {be : List Nat} (h : LSt A0 A σ0 σ B n a0 p1 p2 s L C g w nb cd ar μ be) : cd ≤ p2 := h.2.2.2.2.2.2.2.1
theorem LSt.ex {A0 A : AH} {σ0 σ : mSt} {B : Nat → Nat} {n a0 p1 p2 s L C g w nb cd ar μ : Nat} {be : List Nat} (h : LSt A0 A σ0 σ B n a0 p1 p2 s L C g w nb cd ar μ be) : Ex RP (110 * p1 + 10) (4100 * p1 + 200) A0 A := h.2.2.2.2.2.2.2.2.1
theorem LSt.cg {A0 A : AH} {σ0 σ : mSt} {B : Nat → Nat} {n a0 p1 p2 s L C g w nb cd ar μ : Nat} {be : List Nat} (h : LSt A0 A σ0 σ B n a0 p1 p2 s L C g w nb cd ar μ be) : Cg Kt σ0 σ := h.2.2.2.2.2.2.2.2.2.1
theorem LSt.nn_ {A0 A : AH} {σ0 σ : mSt} {B : Nat → Nat} {n a0 p1 p2 s L C g w nb cd ar μ : Nat} {be : List Nat} (h : LSt A0 A σ0 σ B n a0 p1 p2 s L C g w nb cd ar μ be) : a0 + 7 ≤ aN A := h.2.2.2.2.2.2.2.2.2.2.1
theorem LSt.fr {A0 A : AH} {σ0 σ : mSt} {B : Nat → Nat} {n a0 p1 p2 s L C g w nb cd ar μ : Nat} {be : List Nat} (h : LSt A0 A σ0 σ B n a0 p1 p2 s L C g w nb cd ar μ be) : ∀ i, a0 ≤ i → i < CB → aK A0 i = 0 := h.2.2.2.2.2.2.2.2.2.2.2
theorem LSt.mk {A0 A : AH} {σ0 σ : mSt} {B : Nat → Nat} {n a0 p1 p2 s L C g w nb cd ar μ : Nat} {be : List Nat} (h_rd : RD A B n p1 0 μ (some a0)) (h_rm : RM σ B n p2) (h_sk_ : sk B n p2 = sk B n p1) (h_ft : FT A σ a0 L C g w nb cd ar be) (h_sa : aI A 200 a0 0 = nn s) (h_sm : σ.1 53 0 = nn s) (h_sb : 1 ≤ s ∧ s ≤ 80) (h_cb : cd ≤ p2) (h_ex : Ex RP (110 * p1 + 10) (4100 * p1 + 200) A0 A) (h_cg : Cg Kt σ0 σ) (h_nn_ : a0 + 7 ≤ aN A) (h_fr : ∀ i, a0 ≤ i → i < CB → aK A0 i = 0) : LSt A0 A σ0 σ B n a0 p1 p2 s L C g w nb cd ar μ be := ⟨h_rd, h_rm, h_sk_, h_ft, h_sa, h_sm, h_sb, h_cb, h_ex, h_cg, h_nn_, h_fr⟩
/-- the fault of the whole, both sides -/
def FltS (A0 : AH) (σ0 : mSt) (n : Nat) (e : Nat × Nat) (A' : AH) (σ' : mSt) : Prop := Ex RP (110 * (n + 1) + 200) (4100 * (n + 1) + 18000) A0 A' ∧ aI A' 406 10 0 = nn e.1 ∧ aI A' 407 10 0 = nn e.2 ∧ RF σ' e ∧ Cg Kt σ0 σ'
theorem FT.w200 (h : FT A σ a0 L C g w nb cd ar be) (gn : GN A) (v : Int32) (m : Cg (fun k _ => k = 53) σ σ') : FT (wI A 200 a0 0 v) σ' a0 L C g w nb cd ar be ∧ Ex (fun f i => f = 200 ∧ i = a0) 0 0 A (wI A 200 a0 0 v) := by
  have a1 := h.a1
  have a2 := h.a2
  have lar := h.lar
  have e : Ex (fun f i => f = 200 ∧ i = a0) 0 0 A (wI A 200 a0 0 v) := Ex.wI gn ⟨rfl, rfl⟩ (by omega)
  refine ⟨FT.mk (h.fh.ex e m (by omega) (by omega) (by omega) (by omega)) (h.fg.ex h.k e m (by omega) (by omega) (by omega) (by omega) (fun _ _ => by omega)) (h.fw.ex h.k e m (by omega) (fun f _ _ => by omega) (fun d _ _ => by omega) (by omega) (fun _ _ => by omega)) (h.fb.ex h.k e m (by omega) (fun f => by omega) (fun f => by omega) (fun f i hi hk z => ?_) (by omega) (fun _ _ => by omega) (fun _ _ => by omega) (fun _ _ => by omega)) (h.fo.ex h.bn m (fun _ _ => by omega) (fun _ _ => by omega)) (h.fc.ex h.k e m (fun f _ _ => by omega) (fun f i hi _ => by unfold ownV at hi; omega) (fun i hi _ => hi) (fun _ _ => by omega) (fun _ _ => by omega) (fun _ _ => by omega) (by omega)) ?_, e⟩
  · unfold isBN at hk
    rw [z.2, h.k] at hk; omega
  · rw [e.I _ (by rw [h.k]; decide) (by omega), m.I (by omega)]; exact h.th
theorem FT.thumb (h : FT A σ a0 L C g w nb cd ar be) (gn : GN A) (v : Int32) : FT (wI A 205 a0 0 v) (mUI σ 47 0 v) a0 L C g w nb cd ar be ∧ Ex (fun f i => f = 205 ∧ i = a0) 0 0 A (wI A 205 a0 0 v) ∧ Cg (fun k _ => k = 47) σ (mUI σ 47 0 v) := by
  have a1 := h.a1
  have a2 := h.a2
  have lar := h.lar
  have e : Ex (fun f i => f = 205 ∧ i = a0) 0 0 A (wI A 205 a0 0 v) := Ex.wI gn ⟨rfl, rfl⟩ (by omega)
  have m : Cg (fun k _ => k = 47) σ (mUI σ 47 0 v) := Cg.UI rfl
  refine ⟨FT.mk (h.fh.ex e m (by omega) (by omega) (by omega) (by omega)) (h.fg.ex h.k e m (by omega) (by omega) (by omega) (by omega) (fun _ _ => by omega)) (h.fw.ex h.k e m (by omega) (fun f _ _ => by omega) (fun d _ _ => by omega) (by omega) (fun _ _ => by omega)) (h.fb.ex h.k e m (by omega) (fun f => by omega) (fun f => by omega) (fun f i hi hk z => ?_) (by omega) (fun _ _ => by omega) (fun _ _ => by omega) (fun _ _ => by omega)) (h.fo.ex h.bn m (fun _ _ => by omega) (fun _ _ => by omega)) (h.fc.ex h.k e m (fun f _ _ => by omega) (fun f i hi _ => by unfold ownV at hi; omega) (fun i hi _ => hi) (fun _ _ => by omega) (fun _ _ => by omega) (fun _ _ => by omega) (by omega)) ?_, e, m⟩
  · unfold isBN at hk
    rw [z.2, h.k] at hk; omega
  · rw [aI_wI, if_pos ⟨rfl, rfl, rfl⟩, mI_UI, if_pos ⟨rfl, rfl⟩]
theorem Ex.top {A0 : AH} (h : Ex RP c s A0 A) (e : Ex (RPa a0) c' s' A A') (fr : ∀ i, a0 ≤ i → i < CB → aK A0 i = 0) : Ex RP (c + c') (s + s') A0 A' := h.tr e (fun f i z => by
  rcases z with z | z
  · exact Or.inl z
  · exact Or.inr (fr i z.1 z.2))
theorem b177_bad {e : Nat × Nat} (h : RF σ e) : ∃ σ', M_statementTold_b177 N σ = some ((), σ') ∧ RF σ' e ∧ Cg Kt σ σ' := by
  refine ⟨mUI σ 53 0 (σ.1 53 0 + 1), ?_, RF.mk ?_ ?_ h.nz, Cg.UI (Or.inl rfl)⟩
  · unfold M_statementTold_b177
    rw [bad_asksSign h, bd_some, lt2_eq]
  · rw [mI_UI, if_neg (by decide)]; exact h.b
  · rw [mI_UI, if_neg (by decide)]; exact h.pl
theorem b177_near (hN : 5000 ≤ N) {p' : Nat} (r : RM σ B n p') (hl : isLt (B (sk B n p')) = true) : ∃ σ', M_statementTold_b177 N σ = some ((), σ') ∧ RF σ' (1, sk B n p') ∧ Cg Kt σ σ' := by
  obtain ⟨σ1, h1, c1, r1⟩ := asksSign_eq hN r (c := 59) (by decide) (by unfold LD; decide)
  unfold sMust at r1
  rw [if_neg (fun z => by rw [z] at hl; exact absurd hl (by decide))] at r1
  have r1 : RF σ1 (1, sk B n p') := r1
  refine ⟨mUI σ1 53 0 (σ1.1 53 0 + 1), ?_, RF.mk ?_ ?_ r1.nz, c1.lt.trans (Cg.UI (Or.inl rfl))⟩
  · unfold M_statementTold_b177
    rw [show M_asksSign N σ 59 = _ from h1, bd_some, lt2_eq]
  · rw [mI_UI, if_neg (by decide)]; exact r1.b
  · rw [mI_UI, if_neg (by decide)]; exact r1.pl
end
