/-! PURE LEVEL: what is read becomes what stands, at the component -/
set_option maxRecDepth 100000
theorem lpA {R : Type} (Bk : (AH → Int32 → Option R) → AH → Int32 → Option R) (nx : AH → Option R) (m : Nat) (st : AH → Nat → AH) (Inv : Nat → AH → Prop) (hs : ∀ kk A i, i < m → Inv i A → Bk kk A (nn i) = kk (st A i) (nn (i + 1))) (hi : ∀ A i, i < m → Inv i A → Inv (i + 1) (st A i)) (he : ∀ kk A, Inv m A → Bk kk A (nn m) = nx A) : ∀ (f i z : Nat) (A : AH), i + f = m → f < z → Inv i A → ∃ A', rn2 Bk z A (nn i) = nx A' ∧ Inv m A' := by
  intro f
  induction f with
  | zero =>
    intro i z σ h1 h2 h
    obtain ⟨z, rfl⟩ : ∃ m, z = m + 1 := ⟨z - 1, by omega⟩
    have : i = m := by omega
    subst this
    exact ⟨σ, he _ σ h, h⟩
  | succ f ih =>
    intro i z σ h1 h2 h
    obtain ⟨z, rfl⟩ : ∃ m, z = m + 1 := ⟨z - 1, by omega⟩
    obtain ⟨σ', y1, y2⟩ := ih (i + 1) z (st σ i) (by omega) (by omega) (hi σ i (by omega) h)
    refine ⟨σ', ?_, y2⟩
    show Bk (rn2 Bk z) σ (nn i) = _
    rw [hs _ _ _ (by omega) h, y1]
section
variable {N : Nat} {A A' A0 : AH} {σ σ' : mSt} {P : Nat → Nat → Prop} {a0 L C g w nb cd ar c s : Nat} {be : List Nat}
theorem GN.ch (h : GN A) (e : Ch P A A') (hp : ∀ f i, P f i → i < CB) : GN A' := by
  refine GN.mk (fun i h1 h2 => ?_) (fun i hi => ?_) (by rw [e.N]; exact h.lo) (h.ks.ch e)
  · rw [e.N] at h1
    rw [e.K]; exact h.nz i h1 h2
  · obtain ⟨q1, q2, q3, q4⟩ := h.ct i hi
    have np : ∀ f, ¬ P f i := fun f z => by have := hp f i z; omega
    exact ⟨by rw [e.K]; exact q1, by rw [e.L]; exact q2, fun f j => (e.I _ (np f)).trans (q3 f j), fun f j => (e.R _ (np f)).trans (q4 f j)⟩
theorem Ch.exx (e : Ch P A A') (h : GN A) (hp : ∀ f i, P f i → i < CB) : Ex P 0 0 A A' :=
  Ex.mk (by rw [e.N]; exact Nat.le_refl _) (by rw [e.N]; exact Nat.le_refl _) (by rw [e.S]; exact Nat.le_refl _) (by rw [e.S]; exact Nat.le_refl _) (fun i _ => ⟨by rw [e.K], by rw [e.L]⟩) (fun f i j _ hq => ⟨e.I j hq, e.J j hq, e.R j hq⟩) (h.ch e hp)
def Pbg (f i : Nat) : Prop := (i = 16 ∧ (f = 600 ∨ f = 601)) ∨ (f = 31 ∧ 17 ≤ i ∧ i ≤ 21)
theorem Pbg_lt : ∀ f i, Pbg f i → i < CB := fun f i z => by
  have : CB = 1000000 := rfl
  unfold Pbg at z; omega
theorem FT.lr (h : FT A σ a0 L C g w nb cd ar be) : LR A (fun i => a0 ≤ i) (a0 + 5) be := LR.mk (by show a0 ≤ a0 + 5; omega) h.lx.kd h.lx.len ⟨ar, h.lx.rf, (by show a0 ≤ ar; have := h.lar; omega), h.lx.ka, h.lx.cap, h.lx.c5, h.lx.el⟩
theorem FT.beingsX (h : FT A σ a0 L C g w nb cd ar be) (r : aR A 100 0 0 = some a0) : X0_beings A = some (nn nb) := by
  unfold X0_beings
  rw [r, bo_some, gN_k h.k, h.bel, bo_some, if_pos h.lr.kd, J2_size_LR h.lr, bo_some, h.bl]
theorem FT.beingX (h : FT A σ a0 L C g w nb cd ar be) (r : aR A 100 0 0 = some a0) {b i : Nat} (hb : be[b]? = some i) : X0_beingOf A (nn b) = some (some i) := by
  unfold X0_beingOf
  rw [r, bo_some, gN_k h.k, h.bel, bo_some, if_pos h.lr.kd, J2_get_LR h.lr hb, bo_some, bo_some, if_pos (h.bi b i hb).2.1]
def Bg12 (A0 : AH) (σ : mSt) (i : Nat) (A : AH) : Prop := Ch Pbg A0 A ∧ aI A 600 16 0 = 0 ∧ aI A 601 16 0 = 0 ∧ ∀ l, l < i → aI A 31 17 l = σ.1 43 l
def Bg44 (A0 : AH) (σ : mSt) (i : Nat) (A : AH) : Prop := Bg12 A0 σ 6 A ∧ ∀ b, b < i → aI A 31 18 b = σ.1 45 (2 * b) ∧ aI A 31 19 b = σ.1 45 (2 * b + 1) ∧ aI A 31 20 b = 5 ∧ aI A 31 21 b = 0
theorem begins_eq (hN : 5000 ≤ N) (gn : GN A) (r100 : aR A 100 0 0 = some a0) (h : FT A σ a0 L C g w nb cd ar be) : ∃ A', X5_begins N A 16 = some ((), A') ∧ Bg44 A σ nb A' := by
  have a1 := h.a1
  have bn := h.bn
  have bl := h.bl
  have ftA : ∀ {D : AH}, Ch Pbg A D → FT D σ a0 L C g w nb cd ar be := fun e => h.exg (e.exx gn Pbg_lt) (fun f i hi z => by unfold Pbg at z; omega) (Cg.refl (K := fun _ _ => False) σ) (fun _ _ _ _ => id)
  have rA : ∀ {D : AH}, Ch Pbg A D → aR D 100 0 0 = some a0 := fun e => (e.R 0 (by unfold Pbg; omega)).trans r100
  have c0 : Ch Pbg A (wI (wI A 600 16 0 0) 601 16 0 0) := (Ch.wI (Or.inl ⟨rfl, Or.inl rfl⟩)).trans (Ch.wI (Or.inl ⟨rfl, Or.inr rfl⟩))
  have i0 : Bg12 A σ 0 (wI (wI A 600 16 0 0) 601 16 0 0) := ⟨c0, by rw [aI_wI, if_neg (by omega), aI_wI, if_pos ⟨rfl, rfl, rfl⟩], by rw [aI_wI, if_pos ⟨rfl, rfl, rfl⟩], fun l hl => by omega⟩
  have l1 : ∃ A', rn2 (X5_begins_b12 N 16) N (wI (wI A 600 16 0 0) 601 16 0 0) (nn 0) = rn2 (X5_begins_b44 N 16) N A' 0 ∧ Bg12 A σ 6 A' :=
    lpA (X5_begins_b12 N 16) (fun D => rn2 (X5_begins_b44 N 16) N D 0) 6 (fun D i => wI D 31 17 i (σ.1 43 i)) (Bg12 A σ) (fun kk D i hi hD => by
      have f := ftA hD.1
      unfold X5_begins_b12
      rw [if_neg (fun q : (6 : Int32) ≤ nn i => by have := (nn_le (a := 6) (by omega) (by omega)).mp q; omega), rA hD.1, bo_some, gN_k f.k, f.gl.1, bo_some, dI_nn f.gl.2.1 (by rw [f.gl.2.2]; exact hi) (by omega), bo_some, (f.glv i hi).1, tI_nn hi (by decide), bo_some, nn_succ]) (fun D i hi hD => by
      refine ⟨hD.1.trans (Ch.wI (Or.inr ⟨rfl, by decide, by decide⟩)), ?_, ?_, fun l hl => ?_⟩
      · rw [aI_wI, if_neg (by omega)]; exact hD.2.1
      · rw [aI_wI, if_neg (by omega)]; exact hD.2.2.1
      · rw [aI_wI]
        by_cases z : l = i
        · rw [if_pos ⟨rfl, rfl, z⟩, z]
        · rw [if_neg (by omega)]; exact hD.2.2.2 l (by omega)) (fun kk D _ => if_pos (by decide)) 6 0 N _ (by omega) (by omega) i0
  obtain ⟨A1, y1, y2⟩ := l1
  have l2 : ∃ A', rn2 (X5_begins_b44 N 16) N A1 (nn 0) = some ((), A') ∧ Bg44 A σ nb A' :=
    lpA (X5_begins_b44 N 16) (fun D => some ((), D)) nb (fun D i => wI (wI (wI (wI D 31 18 i (σ.1 45 (2 * i))) 31 19 i (σ.1 45 (2 * i + 1))) 31 20 i 5) 31 21 i 0) (Bg44 A σ) (fun kk D i hi hD => by
      obtain ⟨j, hj⟩ : ∃ j, be[i]? = some j := ⟨be[i]'(by omega), List.getElem?_eq_getElem _⟩
      have f := ftA hD.1.1
      have c7 : Ch Pbg A (wI D 31 18 i (σ.1 45 (2 * i))) := hD.1.1.trans (Ch.wI (Or.inr ⟨rfl, by decide, by decide⟩))
      have f7 := ftA c7
      obtain ⟨_, k1, k2, k3, _⟩ := f.bi i j hj
      obtain ⟨_, k1', k2', k3', _⟩ := f7.bi i j hj
      unfold X5_begins_b44
      rw [f.beingsX (rA hD.1.1), bo_some, if_neg (fun q => by have := (nn_le (by omega) (by omega)).mp q; omega), f.beingX (rA hD.1.1) hj, bo_some, bo_some, gI_k k1, bo_some, k2, tI_nn (by omega) (by decide), bo_some, f7.beingX (rA c7) hj, bo_some, bo_some, gI_k k1', bo_some, k3', tI_nn (by omega) (by decide), bo_some, tI_nn (by omega) (by decide), bo_some, tI_nn (by omega) (by decide), bo_some, nn_succ]) (fun D i hi hD => by
      have cc : Ch Pbg D (wI (wI (wI (wI D 31 18 i (σ.1 45 (2 * i))) 31 19 i (σ.1 45 (2 * i + 1))) 31 20 i 5) 31 21 i 0) := (Ch.wI (Or.inr ⟨rfl, by decide, by decide⟩)).trans ((Ch.wI (Or.inr ⟨rfl, by decide, by decide⟩)).trans ((Ch.wI (Or.inr ⟨rfl, by decide, by decide⟩)).trans (Ch.wI (Or.inr ⟨rfl, by decide, by decide⟩))))
      have e : ∀ d b, 18 ≤ d → d ≤ 21 → b ≠ i → aI (wI (wI (wI (wI D 31 18 i (σ.1 45 (2 * i))) 31 19 i (σ.1 45 (2 * i + 1))) 31 20 i 5) 31 21 i 0) 31 d b = aI D 31 d b := fun d b _ _ hb => by rw [aI_wI, if_neg (by omega), aI_wI, if_neg (by omega), aI_wI, if_neg (by omega), aI_wI, if_neg (by omega)]
      refine ⟨⟨hD.1.1.trans cc, ?_, ?_, fun l hl => ?_⟩, fun b hb => ?_⟩
      · rw [aI_wI, if_neg (by omega), aI_wI, if_neg (by omega), aI_wI, if_neg (by omega), aI_wI, if_neg (by omega)]; exact hD.1.2.1
      · rw [aI_wI, if_neg (by omega), aI_wI, if_neg (by omega), aI_wI, if_neg (by omega), aI_wI, if_neg (by omega)]; exact hD.1.2.2.1
      · rw [aI_wI, if_neg (by omega), aI_wI, if_neg (by omega), aI_wI, if_neg (by omega), aI_wI, if_neg (by omega)]; exact hD.1.2.2.2 l hl
      · by_cases z : b = i
        · subst z
          refine ⟨?_, ?_, ?_, ?_⟩
          · rw [aI_wI, if_neg (by omega), aI_wI, if_neg (by omega), aI_wI, if_neg (by omega), aI_wI, if_pos ⟨rfl, rfl, rfl⟩]
          · rw [aI_wI, if_neg (by omega), aI_wI, if_neg (by omega), aI_wI, if_pos ⟨rfl, rfl, rfl⟩]
          · rw [aI_wI, if_neg (by omega), aI_wI, if_pos ⟨rfl, rfl, rfl⟩]
          · rw [aI_wI, if_pos ⟨rfl, rfl, rfl⟩]
        · rw [e 18 b (by decide) (by decide) z, e 19 b (by decide) (by decide) z, e 20 b (by decide) (by decide) z, e 21 b (by decide) (by decide) z]
          exact hD.2 b (by omega)) (fun kk D hD => by
      unfold X5_begins_b44
      rw [(ftA hD.1.1).beingsX (rA hD.1.1), bo_some, if_pos ((nn_le (by omega) (by omega)).mpr (Nat.le_refl _))]) nb 0 N A1 (by omega) (by omega) ⟨y2, fun b hb => by omega⟩
  obtain ⟨A2, z1, z2⟩ := l2
  refine ⟨A2, ?_, z2⟩
  unfold X5_begins
  rw [if_pos (by rfl), lt2_eq, lt2_eq, show rn2 (X5_begins_b12 N 16) N (wI (wI A 600 16 0 0) 601 16 0 0) 0 = _ from y1, show rn2 (X5_begins_b44 N 16) N A1 0 = _ from z1]
end
