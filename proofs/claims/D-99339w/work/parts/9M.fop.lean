/-! PURE LEVEL: the call 'folio' -/
set_option maxRecDepth 100000
section
variable {N : Nat} {A A' A0 : AH} {σ σ' : mSt} {P K : Nat → Nat → Prop} {a0 L C g w nb cd ar c s : Nat} {be : List Nat}
/-- what was read, as what stands -/
theorem FT.fr (h : FT A σ a0 L C g w nb cd ar be) (r : aR A 100 0 0 = some a0) (d : STD σ σ' nb cd) : FR A σ' a0 nb L C w := by
  have a1 := h.a1
  have bL := h.bL
  have bC := h.bC
  have bn := h.bn
  have bw := h.bw
  have bcd := h.bcd
  have bl := h.bl
  have lar := h.lar
  have dy : ∀ i, a0 ≤ i → dyn i := fun i hi => Or.inl (by omega)
  have ow : ∀ i, ownV a0 ar i → dyn i := fun i hi => dy i (by unfold ownV at hi; omega)
  have cv : ∀ {x key μ}, x < 4 → CTv A σ a0 ar x key μ cd → CRv A σ' a0 x key μ := by
    intro x key μ hx h
    rcases h with ⟨h1, h2⟩ | ⟨v, g, cs, s, h1, h2, h3, h4, h5, h6, h7⟩
    · exact Or.inl ⟨h1, (d.f49 x hx).trans h2⟩
    · refine Or.inr ⟨v, g, cs, s, h1, h2.mono ow, h3, (d.f49 x hx).trans h4, (d.f50 x hx).trans h5, by omega, fun i c hi => ?_⟩
      have := (List.getElem?_eq_some_iff.mp hi).1
      rw [d.f51 _ (by omega)]; exact h7 i c hi
  have ct : CTt A σ a0 ar cd → CRt A σ' a0 := by
    intro h
    rcases h with ⟨h1, h2⟩ | ⟨v, g, cs, s, h1, h2, h3, h4, h5, h6, h7⟩
    · exact Or.inl ⟨h1, (d.f49 3 (by decide)).trans h2⟩
    · refine Or.inr ⟨v, g, cs, s, h1, h2.mono ow, h3, (d.f49 3 (by decide)).trans h4, (d.f50 3 (by decide)).trans h5, by omega, fun i c hi => ?_⟩
      have := (List.getElem?_eq_some_iff.mp hi).1
      rw [d.f51 _ (by omega)]; exact h7 i c hi
  have wa : ∀ {key k : Nat} (x : Nat), ArT A a0 key k 12 → (∀ v, v < w → aI A 31 (a0 + k) v = σ.1 44 (3 * v + x)) → x < 3 → ∃ a, aR A key a0 0 = some a ∧ dyn a ∧ aK A a = 31 ∧ aL A a = 12 ∧ ∀ v, v < w → aI A 31 a v = σ'.1 44 (36 + x + 3 * v) := by
    intro key k x ha hv hx
    refine ⟨a0 + k, ha.1, dy _ (by omega), ha.2.1, ha.2.2, fun v hv2 => ?_⟩
    rw [hv v hv2, show 36 + x + 3 * v = 36 + (3 * v + x) by omega, d.f44 _ (by omega)]
  refine FR.mk r h.k (dy _ (Nat.le_refl _)) h.lv ((d.f40 0 (by decide)).trans h.lvm) h.ce ((d.f40 1 (by decide)).trans h.cem) h.wm ((d.f41 1 (by decide)).trans h.wmm) (h.th.trans d.f48.symm) ((d.f41 0 (by decide)).trans h.nbm) (d.f54.trans (if_neg (by omega)).symm) bL.2 bC.2 (fun _ => bC.1) (fun z => by omega) bn bw ?_ (wa 0 h.wf (fun v hv => (h.wv v hv).1) (by decide)) (wa 1 h.wt (fun v hv => (h.wv v hv).2.1) (by decide)) (wa 2 h.wc (fun v hv => (h.wv v hv).2.2) (by decide)) (cv (by decide) h.op) (cv (by decide) h.co) (cv (by decide) h.to_) (ct h.st) (fun z => by omega)
  have lr := h.lr
  obtain ⟨ar', y1, y2, y3, y4, y5, y6⟩ := lr.ar
  refine ⟨a0 + 5, be, h.bel, LR.mk (dy _ (by omega)) lr.kd lr.len ⟨ar', y1, dy _ y2, y3, y4, y5, y6⟩, bl, fun b i hb => ?_⟩
  have hlt := (List.getElem?_eq_some_iff.mp hb).1
  obtain ⟨i1, i2, i3, i4, i5, i6, i7, i8, x, i9, cs, ar2, n0, n1, n2, n3, n4, n5, n6, n7, n8⟩ := h.bi b i hb
  refine ⟨dy _ i1, i2, ?_, ?_, x, i9, cs, ?_, n5, n6, n7, ?_⟩
  · rw [d.f46 _ (by omega)]; exact i5
  · rw [d.f46 _ (by omega)]; exact i8
  · obtain ⟨q1, q2, ar3, q3, q4, q5, q6, q7⟩ := n1
    rw [n2] at q3
    cases q3
    exact ⟨dy _ n0, q1, q2, ar2, n2, dy _ n3, q4, q5, q6, q7⟩
  · rw [d.f42 _ (by omega)]; exact n8
/-- the state at the beginning -/
theorem FT.sr (h : FT A σ a0 L C g w nb cd ar be) (b : Bg44 A0 σ nb A') (d : STD σ σ' nb cd) : SR A' 16 (σ'.1 56) nb L C := by
  have bL := h.bL
  have bC := h.bC
  have bn := h.bn
  have bl := h.bl
  obtain ⟨⟨_, b0, b1, b2⟩, b3⟩ := b
  have bi : ∀ x, x < nb → (∃ l, l < L ∧ σ.1 45 (2 * x) = nn l) ∧ ∃ c, c < C ∧ σ.1 45 (2 * x + 1) = nn c := by
    intro x hx
    obtain ⟨i, hi⟩ : ∃ i, be[x]? = some i := ⟨be[x]'(by omega), List.getElem?_eq_getElem _⟩
    obtain ⟨_, _, _, _, _, i6, i7, _⟩ := h.bi x i hi
    exact ⟨i6, i7⟩
  refine SR.mk (b0.trans d.n0.symm) ⟨0, by decide, d.n0⟩ (fun l hl => (b2 l hl).trans (d.n1 l hl).symm) (fun l hl => ?_) (fun x hx => (b3 x hx).1.trans (d.nl_ x hx).symm) (fun x hx => ?_) (fun x hx => (b3 x hx).2.1.trans (d.nc x hx).symm) (fun x hx => ?_) (fun x hx => (b3 x hx).2.2.1.trans (d.np x hx).symm) (fun x hx => ⟨5, by decide, d.np x hx⟩) (fun x hx => (b3 x hx).2.2.2.trans (d.nm x hx).symm) (fun x hx => ⟨0, by decide, d.nm x hx⟩) (fun x l hx hl he => ?_) (fun x y hx hy e1 e2 => ?_)
  · rw [d.n1 l hl]; exact (h.glv l hl).2
  · rw [d.nl_ x hx]; exact (bi x hx).1
  · rw [d.nc x hx]; exact (bi x hx).2
  · rw [d.nl_ x hx] at he
    rw [d.n1 l hl, d.nc x hx]; exact h.fo x l hx hl he
  · rw [d.nl_ x hx, d.nl_ y hy] at e1
    rw [d.nc x hx, d.nc y hy] at e2
    exact h.di x y hx hy e1 e2
end
