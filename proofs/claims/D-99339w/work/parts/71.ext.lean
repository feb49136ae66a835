/-! PURE LEVEL: heaps that grow -/
set_option maxRecDepth 100000
def GN (A : AH) : Prop :=
  (∀ i, aN A ≤ i → i < CB → aK A i = 0) ∧
  (CCT A) ∧
  (1101 ≤ aN A) ∧
  (KS A)
theorem GN.nz {A : AH} (h : GN A) : ∀ i, aN A ≤ i → i < CB → aK A i = 0 := h.1
theorem GN.ct {A : AH} (h : GN A) : CCT A := h.2.1
theorem GN.lo {A : AH} (h : GN A) : 1101 ≤ aN A := h.2.2.1
theorem GN.ks {A : AH} (h : GN A) : KS A := h.2.2.2
theorem GN.mk {A : AH} (h_nz : ∀ i, aN A ≤ i → i < CB → aK A i = 0) (h_ct : CCT A) (h_lo : 1101 ≤ aN A) (h_ks : KS A) : GN A := ⟨h_nz, h_ct, h_lo, h_ks⟩
/-- A' has what A has but in P; c cells and s slots more at most -/
def Ex (P : Nat → Nat → Prop) (c s : Nat) (A A' : AH) : Prop :=
  (aN A ≤ aN A') ∧
  (aN A' ≤ aN A + c) ∧
  (aS A ≤ aS A') ∧
  (aS A' ≤ aS A + s) ∧
  (∀ i, aK A i ≠ 0 → aK A' i = aK A i ∧ aL A' i = aL A i) ∧
  (∀ f i j, aK A i ≠ 0 → ¬ P f i → aI A' f i j = aI A f i j ∧ aJ A' f i j = aJ A f i j ∧ aR A' f i j = aR A f i j) ∧
  (GN A')
theorem Ex.n1 {P : Nat → Nat → Prop} {c s : Nat} {A A' : AH} (h : Ex P c s A A') : aN A ≤ aN A' := h.1
theorem Ex.n2 {P : Nat → Nat → Prop} {c s : Nat} {A A' : AH} (h : Ex P c s A A') : aN A' ≤ aN A + c := h.2.1
theorem Ex.s1 {P : Nat → Nat → Prop} {c s : Nat} {A A' : AH} (h : Ex P c s A A') : aS A ≤ aS A' := h.2.2.1
theorem Ex.s2 {P : Nat → Nat → Prop} {c s : Nat} {A A' : AH} (h : Ex P c s A A') : aS A' ≤ aS A + s := h.2.2.2.1
theorem Ex.kd {P : Nat → Nat → Prop} {c s : Nat} {A A' : AH} (h : Ex P c s A A') : ∀ i, aK A i ≠ 0 → aK A' i = aK A i ∧ aL A' i = aL A i := h.2.2.2.2.1
theorem Ex.vl {P : Nat → Nat → Prop} {c s : Nat} {A A' : AH} (h : Ex P c s A A') : ∀ f i j, aK A i ≠ 0 → ¬ P f i → aI A' f i j = aI A f i j ∧ aJ A' f i j = aJ A f i j ∧ aR A' f i j = aR A f i j := h.2.2.2.2.2.1
theorem Ex.gn {P : Nat → Nat → Prop} {c s : Nat} {A A' : AH} (h : Ex P c s A A') : GN A' := h.2.2.2.2.2.2
theorem Ex.mk {P : Nat → Nat → Prop} {c s : Nat} {A A' : AH} (h_n1 : aN A ≤ aN A') (h_n2 : aN A' ≤ aN A + c) (h_s1 : aS A ≤ aS A') (h_s2 : aS A' ≤ aS A + s) (h_kd : ∀ i, aK A i ≠ 0 → aK A' i = aK A i ∧ aL A' i = aL A i) (h_vl : ∀ f i j, aK A i ≠ 0 → ¬ P f i → aI A' f i j = aI A f i j ∧ aJ A' f i j = aJ A f i j ∧ aR A' f i j = aR A f i j) (h_gn : GN A') : Ex P c s A A' := ⟨h_n1, h_n2, h_s1, h_s2, h_kd, h_vl, h_gn⟩
def Le (A A' : AH) : Prop := aN A ≤ aN A' ∧ aS A ≤ aS A'
theorem Le.refl (A : AH) : Le A A := ⟨Nat.le_refl _, Nat.le_refl _⟩
theorem Le.trans {A B C : AH} (h : Le A B) (g : Le B C) : Le A C := ⟨Nat.le_trans h.1 g.1, Nat.le_trans h.2 g.2⟩
section
variable {P Q : Nat → Nat → Prop} {c s c' s' : Nat} {A A' C : AH}
theorem Ex.le2 (h : Ex P c s A A') : Le A A' := ⟨h.n1, h.s1⟩
theorem Ex.refl (g : GN A) : Ex P 0 0 A A := Ex.mk (Nat.le_refl _) (Nat.le_refl _) (Nat.le_refl _) (Nat.le_refl _) (fun _ _ => ⟨rfl, rfl⟩) (fun _ _ _ _ _ => ⟨rfl, rfl, rfl⟩) g
theorem Ex.tr (h : Ex P c s A A') (g : Ex Q c' s' A' C) (d : ∀ f i, Q f i → P f i ∨ aK A i = 0) : Ex P (c + c') (s + s') A C := by
  have h2 := h.n2
  have g2 := g.n2
  have h3 := h.s2
  have g3 := g.s2
  refine Ex.mk (Nat.le_trans h.n1 g.n1) (by omega) (Nat.le_trans h.s1 g.s1) (by omega) (fun i hi => ?_) (fun f i j hi hp => ?_) g.gn
  · have e1 := h.kd i hi
    have e2 := g.kd i (by rw [e1.1]; exact hi)
    exact ⟨e2.1.trans e1.1, e2.2.trans e1.2⟩
  · have e1 := h.kd i hi
    have e3 := h.vl f i j hi hp
    have e2 := g.vl f i j (by rw [e1.1]; exact hi) (fun q => by
      rcases d f i q with z | z
      · exact hp z
      · exact hi z)
    exact ⟨e2.1.trans e3.1, e2.2.1.trans e3.2.1, e2.2.2.trans e3.2.2⟩
theorem Ex.trans (h : Ex P c s A A') (g : Ex P c' s' A' C) : Ex P (c + c') (s + s') A C := h.tr g (fun _ _ q => Or.inl q)
theorem Ex.wk (h : Ex P c s A A') (hc : c ≤ c') (hs : s ≤ s') : Ex P c' s' A A' := by
  have h2 := h.n2
  have h3 := h.s2
  exact Ex.mk h.n1 (by omega) h.s1 (by omega) h.kd h.vl h.gn
theorem Ex.mono (h : Ex P c s A A') (d : ∀ f i, P f i → Q f i) : Ex Q c s A A' := Ex.mk h.n1 h.n2 h.s1 h.s2 h.kd (fun f i j hi hp => h.vl f i j hi (fun q => hp (d f i q))) h.gn
theorem Ex.K (h : Ex P c s A A') {i k : Nat} (hk : aK A i = k) (h0 : k ≠ 0) : aK A' i = k := by
  rw [(h.kd i (by rw [hk]; exact h0)).1]; exact hk
theorem Ex.L (h : Ex P c s A A') {i : Nat} (hk : aK A i ≠ 0) : aL A' i = aL A i := (h.kd i hk).2
theorem Ex.I (h : Ex P c s A A') {f i : Nat} (j : Nat) (hk : aK A i ≠ 0) (hp : ¬ P f i) : aI A' f i j = aI A f i j := (h.vl f i j hk hp).1
theorem Ex.J (h : Ex P c s A A') {f i : Nat} (j : Nat) (hk : aK A i ≠ 0) (hp : ¬ P f i) : aJ A' f i j = aJ A f i j := (h.vl f i j hk hp).2.1
theorem Ex.R (h : Ex P c s A A') {f i : Nat} (j : Nat) (hk : aK A i ≠ 0) (hp : ¬ P f i) : aR A' f i j = aR A f i j := (h.vl f i j hk hp).2.2
theorem GN.fresh (g : GN A) (h : aN A < CB) : aK A (aN A) = 0 := g.nz _ (Nat.le_refl _) h
theorem GN.wI (g : GN A) {f i j : Nat} {v : Int32} (hi : i < CB) : GN (wI A f i j v) := by
  refine GN.mk g.nz (fun k hk => ?_) g.lo g.ks
  obtain ⟨h1, h2, h3, h4⟩ := g.ct k hk
  refine ⟨h1, h2, fun f' j' => ?_, h4⟩
  rw [aI_wI, if_neg (by omega)]; exact h3 f' j'
theorem GN.wJ (g : GN A) {f i j : Nat} {v : Int64} : GN (wJ A f i j v) := GN.mk g.nz g.ct g.lo g.ks
theorem GN.wR (g : GN A) {f i j : Nat} {v : Option Nat} (hi : i < CB) : GN (wR A f i j v) := by
  refine GN.mk g.nz (fun k hk => ?_) g.lo g.ks
  obtain ⟨h1, h2, h3, h4⟩ := g.ct k hk
  refine ⟨h1, h2, h3, fun f' j' => ?_⟩
  rw [aR_wR, if_neg (by omega)]; exact h4 f' j'
theorem GN.nw (g : GN A) {k len sl : Nat} (h : aN A < CB) : GN (nw A k len sl) := by
  have hl := g.lo
  refine GN.mk (fun i h1 h2 => ?_) (fun i hi => ?_) (by rw [aN_nw]; omega) (fun i hi => ?_)
  · rw [aN_nw] at h1
    rw [aK_nw, if_neg (by omega)]; exact g.nz i (by omega) h2
  · obtain ⟨h1, h2, h3, h4⟩ := g.ct i hi
    refine ⟨by rw [aK_nw, if_neg (by omega)]; exact h1, by rw [aL_nw, if_neg (by omega)]; exact h2, fun f j => by rw [aI_nw, if_neg (by omega)]; exact h3 f j, fun f j => by rw [aR_nw, if_neg (by omega)]; exact h4 f j⟩
  · rw [aK_nw, aL_nw, if_neg (by omega), if_neg (by omega)]; exact g.ks i hi
theorem Ex.wI (g : GN A) {f i j : Nat} {v : Int32} (hp : P f i) (hi : i < CB) : Ex P 0 0 A (wI A f i j v) := by
  refine Ex.mk (Nat.le_refl _) (Nat.le_refl _) (Nat.le_refl _) (Nat.le_refl _) (fun _ _ => ⟨rfl, rfl⟩) (fun f' i' j' _ h => ⟨?_, rfl, rfl⟩) (g.wI hi)
  rw [aI_wI, if_neg]
  rintro ⟨rfl, rfl, rfl⟩
  exact h hp
theorem Ex.wJ (g : GN A) {f i j : Nat} {v : Int64} (hp : P f i) : Ex P 0 0 A (wJ A f i j v) := by
  refine Ex.mk (Nat.le_refl _) (Nat.le_refl _) (Nat.le_refl _) (Nat.le_refl _) (fun _ _ => ⟨rfl, rfl⟩) (fun f' i' j' _ h => ⟨rfl, ?_, rfl⟩) g.wJ
  rw [aJ_wJ, if_neg]
  rintro ⟨rfl, rfl, rfl⟩
  exact h hp
theorem Ex.wR (g : GN A) {f i j : Nat} {v : Option Nat} (hp : P f i) (hi : i < CB) : Ex P 0 0 A (wR A f i j v) := by
  refine Ex.mk (Nat.le_refl _) (Nat.le_refl _) (Nat.le_refl _) (Nat.le_refl _) (fun _ _ => ⟨rfl, rfl⟩) (fun f' i' j' _ h => ⟨rfl, rfl, ?_⟩) (g.wR hi)
  rw [aR_wR, if_neg]
  rintro ⟨rfl, rfl, rfl⟩
  exact h hp
theorem Ex.nw (g : GN A) {k len sl : Nat} (h : aN A < CB) : Ex P 1 sl A (nw A k len sl) := by
  have h0 := g.fresh h
  have hne : ∀ i, aK A i ≠ 0 → i ≠ aN A := fun i hi e => hi (by rw [e]; exact h0)
  refine Ex.mk (by rw [aN_nw]; omega) (by rw [aN_nw]; omega) (by rw [aS_nw]; omega) (by rw [aS_nw]; omega) (fun i hi => ?_) (fun f i j hi _ => ?_) (g.nw h)
  · rw [aK_nw, aL_nw, if_neg (hne i hi), if_neg (hne i hi)]; exact ⟨rfl, rfl⟩
  · rw [aI_nw, aJ_nw, aR_nw, if_neg (hne i hi), if_neg (hne i hi), if_neg (hne i hi)]; exact ⟨rfl, rfl, rfl⟩
end
theorem nwO_ok {A : AH} {k sl : Nat} (h : aN A < CB) : nwO A k sl = some (nw A k 0 sl) := if_pos h
theorem nwA_ok {A : AH} {t n : Nat} (h : aN A < CB) (hn : n ≤ 67108864) : nwA A t (nn n) = some (nw A t n n) := by
  unfold nwA
  rw [nn_clamp (by omega), if_pos ⟨h, nn_nneg (by omega), hn⟩]
theorem ck_ok {α : Type} {A A' : AH} {r : α} (h : Le A A') : ck A (some (r, A')) = some (r, A') := if_pos h
theorem bda_ok {α β : Type} {A A2 : AH} {r : α} {g : α → AH → Option (β × AH)} (h : Le A A2) : bda A (some (r, A2)) g = ck A2 (g r A2) := if_pos h
theorem bx_some {α β : Type} (r : α) (A : AH) (g : α → AH → Option (Option β × AH)) : bx (some (some r, A)) g = g r A := rfl
theorem bx_none {α β : Type} (A : AH) (g : α → AH → Option (Option β × AH)) : bx (some (none, A)) g = some (none, A) := rfl
theorem bxa_ok {α β : Type} {A A2 : AH} {r : α} {g : α → AH → Option (Option β × AH)} (h : Le A A2) : bxa A (some (some r, A2)) g = ck A2 (g r A2) := if_pos h
theorem bxa_no {α β : Type} {A A2 : AH} {g : α → AH → Option (Option β × AH)} (h : Le A A2) : bxa A (some (none, A2)) g = some (none, A2) := by
  show bda A (some (none, A2)) _ = _
  rw [bda_ok h]
  exact ck_ok (Le.refl _)
/-! what a reader gives: a fault, or what is read -/
def Bh {α β : Type} (X : Option (Option α × AH)) (x : Rs β) (F : Nat × Nat → AH → Prop) (S : β → α → AH → Prop) : Prop := match x with
  | .error e => ∃ A', X = some (none, A') ∧ F e A'
  | .ok y => ∃ r A', X = some (some r, A') ∧ S y r A'
section
variable {α β γ δ : Type} {X : Option (Option α × AH)} {x : Rs β} {F F' : Nat × Nat → AH → Prop} {S : β → α → AH → Prop} {S' : δ → γ → AH → Prop} {A : AH}
theorem Bh.er {e : Nat × Nat} {A' : AH} (hX : X = some (none, A')) (h : F e A') : Bh X (.error e : Rs β) F S := ⟨A', hX, h⟩
theorem Bh.ok {y : β} {r : α} {A' : AH} (hX : X = some (some r, A')) (h : S y r A') : Bh X (.ok y : Rs β) F S := ⟨r, A', hX, h⟩
theorem Bh.mono {S2 : β → α → AH → Prop} (b : Bh X x F S) (hF : ∀ e A', x = .error e → F e A' → F' e A') (hS : ∀ y r A', x = .ok y → S y r A' → S2 y r A') : Bh X x F' S2 := by
  cases x with
  | error e =>
    obtain ⟨A', h1, h2⟩ := b
    exact ⟨A', h1, hF e A' rfl h2⟩
  | ok y =>
    obtain ⟨r, A', h1, h2⟩ := b
    exact ⟨r, A', h1, hS y r A' rfl h2⟩
theorem Bh.xx {g : α → AH → Option (Option γ × AH)} {h : β → Rs δ} (b : Bh X x F S) (hF : ∀ e A', x = .error e → F e A' → F' e A') (hS : ∀ y r A', x = .ok y → S y r A' → Bh (g r A') (h y) F' S') : Bh (bx X g) (eb x h) F' S' := by
  cases x with
  | error e =>
    obtain ⟨A', h1, h2⟩ := b
    exact ⟨A', by rw [h1]; rfl, hF e A' rfl h2⟩
  | ok y =>
    obtain ⟨r, A', h1, h2⟩ := b
    have := hS y r A' rfl h2
    rw [h1]
    exact this
theorem Bh.kk (b : Bh X x F S) (hF : ∀ e A', x = .error e → F e A' → Le A A') (hS : ∀ y r A', x = .ok y → S y r A' → Le A A') : Bh (ck A X) x F S := by
  cases x with
  | error e =>
    obtain ⟨A', h1, h2⟩ := b
    exact ⟨A', by rw [h1]; exact ck_ok (hF e A' rfl h2), h2⟩
  | ok y =>
    obtain ⟨r, A', h1, h2⟩ := b
    exact ⟨r, A', by rw [h1]; exact ck_ok (hS y r A' rfl h2), h2⟩
theorem Bh.xa {g : α → AH → Option (Option γ × AH)} {h : β → Rs δ} (b : Bh X x F S) (hF : ∀ e A', x = .error e → F e A' → Le A A' ∧ F' e A') (hS : ∀ y r A', x = .ok y → S y r A' → Le A A' ∧ Bh (g r A') (h y) (fun e A2 => Le A' A2 ∧ F' e A2) (fun z r A2 => Le A' A2 ∧ S' z r A2)) : Bh (bxa A X g) (eb x h) F' S' := by
  cases x with
  | error e =>
    obtain ⟨A', h1, h2⟩ := b
    obtain ⟨h3, h4⟩ := hF e A' rfl h2
    refine ⟨A', ?_, h4⟩
    rw [h1]
    show bda A (some (none, A')) _ = _
    rw [bda_ok h3]
    exact ck_ok (Le.refl _)
  | ok y =>
    obtain ⟨r, A', h1, h2⟩ := b
    obtain ⟨h3, h4⟩ := hS y r A' rfl h2
    have h5 : Bh (ck A' (g r A')) (h y) (fun e A2 => Le A' A2 ∧ F' e A2) (fun z r A2 => Le A' A2 ∧ S' z r A2) := Bh.kk h4 (fun _ _ _ q => q.1) (fun _ _ _ _ q => q.1)
    have e1 : bxa A X g = ck A' (g r A') := by
      rw [h1]
      show bda A (some (some r, A')) _ = _
      rw [bda_ok h3]
      rfl
    rw [e1]
    exact Bh.mono h5 (fun _ _ _ q => q.2) (fun _ _ _ _ q => q.2)
end
