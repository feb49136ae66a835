/-! PURE LEVEL: the folio that stands, while another one or a question is read -/
set_option maxRecDepth 100000
/-- where the reference keeps the folio that stands -/
def Kst (k j : Nat) : Prop := (k = 40 ∧ 2 ≤ j) ∨ (k = 41 ∧ 3 ≤ j) ∨ (k = 42 ∧ 8 ≤ j) ∨ (k = 44 ∧ 36 ≤ j) ∨ (k = 46 ∧ 8 ≤ j) ∨ k = 48 ∨ (k = 49 ∧ 4 ≤ j) ∨ (k = 50 ∧ 4 ≤ j) ∨ (k = 51 ∧ 1600 ≤ j) ∨ k = 54
theorem Kst_t {k j : Nat} (h : Kst k j) : ¬ Kt k j := by
  rcases h with ⟨rfl, h⟩ | ⟨rfl, h⟩ | ⟨rfl, h⟩ | ⟨rfl, h⟩ | ⟨rfl, h⟩ | rfl | ⟨rfl, h⟩ | ⟨rfl, h⟩ | ⟨rfl, h⟩ | rfl
  · exact Kt_no rfl rfl h
  · exact Kt_no rfl rfl h
  · exact Kt_no rfl rfl h
  · exact Kt_no rfl rfl h
  · exact Kt_no rfl rfl h
  · exact Kt_no rfl rfl (Nat.zero_le _)
  · exact Kt_no rfl rfl h
  · exact Kt_no rfl rfl h
  · exact Kt_no rfl rfl h
  · exact Kt_no rfl rfl (Nat.zero_le _)
section
variable {A A' : AH} {σ σ' : mSt} {P : Nat → Nat → Prop} {K : Nat → Nat → Prop} {c s fo nb L C W : Nat}
theorem LR.exg {F : Nat → Prop} {li : Nat} {ids : List Nat} (h : LR A F li ids) (e : Ex P c s A A') (hp : ∀ f i, F i → ¬ P f i) : LR A' F li ids := by
  obtain ⟨ar, a1, a2, a3, a4, a5, a6⟩ := h.ar
  have k1 : aK A li ≠ 0 := by rw [h.kd]; decide
  have k2 : aK A ar ≠ 0 := by rw [a3]; decide
  exact LR.mk h.own (e.K h.kd (by decide)) ((e.I _ k1 (hp _ _ h.own)).trans h.len) ⟨ar, (e.R _ k1 (hp _ _ h.own)).trans a1, a2, e.K a3 (by decide), by rw [e.L k2]; exact a4, by rw [e.L k2]; exact a5, fun i v hv => (e.R _ k2 (hp _ _ a2)).trans (a6 i v hv)⟩
theorem NameR.exg {x : Nat} {v : Int64} (h : NameR A x v) (e : Ex P c s A A') (hp : ∀ f i, dyn i → ¬ P f i) : NameR A' x v := by
  obtain ⟨cs, ⟨h1, h2, h3, ar, h4, h5, h6, h7, h8, h9⟩, g1, g2, g3, g4⟩ := h
  have k1 : aK A x ≠ 0 := by rw [h2]; decide
  have k2 : aK A ar ≠ 0 := by rw [h6]; decide
  exact ⟨cs, ⟨h1, e.K h2 (by decide), (e.I _ k1 (hp _ _ h1)).trans h3, ar, (e.R _ k1 (hp _ _ h1)).trans h4, h5, e.K h6 (by decide), (e.L k2).trans h7, h8, fun i v hv => (e.I _ k2 (hp _ _ h5)).trans (h9 i v hv)⟩, g1, g2, g3, g4⟩
theorem CRv.exg {w key μ : Nat} (hk : aK A fo = 2) (hf : dyn fo) (h : CRv A σ fo w key μ) (e : Ex P c s A A') (hp : ∀ f i, dyn i → ¬ P f i) (m : Cg K σ σ') (d : ∀ k j, Kst k j → ¬ K k j) : CRv A' σ' fo w key μ := by
  have er := e.R (f := key) 0 (show aK A fo ≠ 0 by rw [hk]; decide) (hp _ _ hf)
  have e49 : σ'.1 49 (4 + w) = σ.1 49 (4 + w) := m.I (d _ _ (Or.inr (Or.inr (Or.inr (Or.inr (Or.inr (Or.inr (Or.inl ⟨rfl, by omega⟩))))))))
  have e50 : σ'.1 50 (4 + w) = σ.1 50 (4 + w) := m.I (d _ _ (Or.inr (Or.inr (Or.inr (Or.inr (Or.inr (Or.inr (Or.inr (Or.inl ⟨rfl, by omega⟩)))))))))
  rcases h with ⟨h1, h2⟩ | ⟨v, g, cs, s, h1, h2, h3, h4, h5, h6, h7⟩
  · exact Or.inl ⟨er.trans h1, e49.trans h2⟩
  · exact Or.inr ⟨v, g, cs, s, er.trans h1, h2.ex e (fun f i hi _ => hp f i hi) (fun i hi _ => hi), h3, e49.trans h4, e50.trans h5, h6, fun i c hi => (m.I (d _ _ (Or.inr (Or.inr (Or.inr (Or.inr (Or.inr (Or.inr (Or.inr (Or.inr (Or.inl ⟨rfl, by omega⟩))))))))))).trans (h7 i c hi)⟩
theorem CRt.exg (hk : aK A fo = 2) (hf : dyn fo) (h : CRt A σ fo) (e : Ex P c s A A') (hp : ∀ f i, dyn i → ¬ P f i) (m : Cg K σ σ') (d : ∀ k j, Kst k j → ¬ K k j) : CRt A' σ' fo := by
  have er := e.R (f := 214) 0 (show aK A fo ≠ 0 by rw [hk]; decide) (hp _ _ hf)
  have e49 : σ'.1 49 7 = σ.1 49 7 := m.I (d _ _ (Or.inr (Or.inr (Or.inr (Or.inr (Or.inr (Or.inr (Or.inl ⟨rfl, by omega⟩))))))))
  have e50 : σ'.1 50 7 = σ.1 50 7 := m.I (d _ _ (Or.inr (Or.inr (Or.inr (Or.inr (Or.inr (Or.inr (Or.inr (Or.inl ⟨rfl, by omega⟩)))))))))
  rcases h with ⟨h1, h2⟩ | ⟨v, g, cs, s, h1, h2, h3, h4, h5, h6, h7⟩
  · exact Or.inl ⟨er.trans h1, e49.trans h2⟩
  · exact Or.inr ⟨v, g, cs, s, er.trans h1, h2.ex e (fun f i hi _ => hp f i hi) (fun i hi _ => hi), h3, e49.trans h4, e50.trans h5, h6, fun i c hi => (m.I (d _ _ (Or.inr (Or.inr (Or.inr (Or.inr (Or.inr (Or.inr (Or.inr (Or.inr (Or.inl ⟨rfl, by omega⟩))))))))))).trans (h7 i c hi)⟩
theorem FR.exg (h : FR A σ fo nb L C W) (e : Ex P c s A A') (hp : ∀ f i, dyn i → ¬ P f i) (r : aR A' 100 0 0 = aR A 100 0 0) (m : Cg K σ σ') (d : ∀ k j, Kst k j → ¬ K k j) : FR A' σ' fo nb L C W := by
  have d40 : ∀ j, 2 ≤ j → σ'.1 40 j = σ.1 40 j := fun j hj => m.I (d _ _ (Or.inl ⟨rfl, hj⟩))
  have d41 : ∀ j, 3 ≤ j → σ'.1 41 j = σ.1 41 j := fun j hj => m.I (d _ _ (Or.inr (Or.inl ⟨rfl, hj⟩)))
  have d42 : ∀ j, 8 ≤ j → σ'.2 42 j = σ.2 42 j := fun j hj => m.J (d _ _ (Or.inr (Or.inr (Or.inl ⟨rfl, hj⟩))))
  have d44 : ∀ j, 36 ≤ j → σ'.1 44 j = σ.1 44 j := fun j hj => m.I (d _ _ (Or.inr (Or.inr (Or.inr (Or.inl ⟨rfl, hj⟩)))))
  have d46 : ∀ j, 8 ≤ j → σ'.1 46 j = σ.1 46 j := fun j hj => m.I (d _ _ (Or.inr (Or.inr (Or.inr (Or.inr (Or.inl ⟨rfl, hj⟩))))))
  have d48 : σ'.1 48 0 = σ.1 48 0 := m.I (d _ _ (Or.inr (Or.inr (Or.inr (Or.inr (Or.inr (Or.inl rfl)))))))
  have d54 : σ'.1 54 0 = σ.1 54 0 := m.I (d _ _ (Or.inr (Or.inr (Or.inr (Or.inr (Or.inr (Or.inr (Or.inr (Or.inr (Or.inr rfl))))))))))
  have k0 : aK A fo ≠ 0 := by rw [h.fk]; decide
  have eI : ∀ f j, aI A' f fo j = aI A f fo j := fun f j => e.I j k0 (hp f fo h.fd)
  have eR : ∀ f j, aR A' f fo j = aR A f fo j := fun f j => e.R j k0 (hp f fo h.fd)
  obtain ⟨li, be, b1, b2, b3, b4⟩ := h.be
  obtain ⟨a1, f1, f2, f3, f4, f5⟩ := h.wf
  obtain ⟨a2, t1, t2, t3, t4, t5⟩ := h.wt
  obtain ⟨a3, c1, c2, c3, c4, c5⟩ := h.wc
  have arr : ∀ {a : Nat}, dyn a → aK A a = 31 → aK A' a = 31 ∧ (aL A a = 12 → aL A' a = 12) ∧ ∀ j, aI A' 31 a j = aI A 31 a j := fun ha hk => ⟨e.K hk (by decide), fun hl => by rw [e.L (by rw [hk]; decide)]; exact hl, fun j => e.I j (by rw [hk]; decide) (hp _ _ ha)⟩
  refine FR.mk (r.trans h.fo) (e.K h.fk (by decide)) h.fd ((eI _ _).trans h.lv) ((d40 _ (by decide)).trans h.lvm) ((eI _ _).trans h.ce) ((d40 _ (by decide)).trans h.cem) ((eI _ _).trans h.wm) ((d41 _ (by decide)).trans h.wmm) ?_ ((d41 _ (by decide)).trans h.nbm) (d54.trans h.isf) h.bL h.bC h.bC2 h.bC0 h.bn h.bW ?_ ?_ ?_ ?_ (h.op.exg h.fk h.fd e hp m d) (h.co.exg h.fk h.fd e hp m d) (h.to_.exg h.fk h.fd e hp m d) (h.st.exg h.fk h.fd e hp m d) (fun q => (eR _ _).trans (h.op0 q))
  · rw [eI, d48]; exact h.th
  · refine ⟨li, be, (eR _ _).trans b1, b2.exg e hp, b3, fun b i hb => ?_⟩
    obtain ⟨i1, i2, i3, i4, x, i5, i6⟩ := b4 b i hb
    have ki : aK A i ≠ 0 := by rw [i2]; decide
    refine ⟨i1, e.K i2 (by decide), ?_, ?_, x, (e.R _ ki (hp _ _ i1)).trans i5, ?_⟩
    · rw [e.I _ ki (hp _ _ i1), d46 _ (by omega)]; exact i3
    · rw [d46 _ (by omega)]; exact i4
    · rw [d42 _ (by omega)]; exact i6.exg e hp
  · obtain ⟨q1, q2, q3⟩ := arr f2 f3
    exact ⟨a1, (eR _ _).trans f1, f2, q1, q2 f4, fun w hw => by rw [q3, d44 _ (by omega)]; exact f5 w hw⟩
  · obtain ⟨q1, q2, q3⟩ := arr t2 t3
    exact ⟨a2, (eR _ _).trans t1, t2, q1, q2 t4, fun w hw => by rw [q3, d44 _ (by omega)]; exact t5 w hw⟩
  · obtain ⟨q1, q2, q3⟩ := arr c2 c3
    exact ⟨a3, (eR _ _).trans c1, c2, q1, q2 c4, fun w hw => by rw [q3, d44 _ (by omega)]; exact c5 w hw⟩
end
