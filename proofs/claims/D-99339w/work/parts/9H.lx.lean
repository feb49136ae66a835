/-! PURE LEVEL: what stands, while a folio or a question is read -/
set_option maxRecDepth 100000
/-- of what was made at the beginning only P has changed -/
def Cl (P : Nat → Nat → Prop) (A A' : AH) : Prop :=
  (∀ i, i < 1101 → aK A' i = aK A i) ∧
  (∀ i, i < 1101 → aL A' i = aL A i) ∧
  (∀ f i j, i < 1101 → ¬ P f i → aI A' f i j = aI A f i j) ∧
  (∀ f i j, i < 1101 → ¬ P f i → aJ A' f i j = aJ A f i j) ∧
  (∀ f i j, i < 1101 → ¬ P f i → aR A' f i j = aR A f i j)
theorem Cl.K {P : Nat → Nat → Prop} {A A' : AH} (h : Cl P A A') : ∀ i, i < 1101 → aK A' i = aK A i := h.1
theorem Cl.L {P : Nat → Nat → Prop} {A A' : AH} (h : Cl P A A') : ∀ i, i < 1101 → aL A' i = aL A i := h.2.1
theorem Cl.I {P : Nat → Nat → Prop} {A A' : AH} (h : Cl P A A') : ∀ f i j, i < 1101 → ¬ P f i → aI A' f i j = aI A f i j := h.2.2.1
theorem Cl.J {P : Nat → Nat → Prop} {A A' : AH} (h : Cl P A A') : ∀ f i j, i < 1101 → ¬ P f i → aJ A' f i j = aJ A f i j := h.2.2.2.1
theorem Cl.R {P : Nat → Nat → Prop} {A A' : AH} (h : Cl P A A') : ∀ f i j, i < 1101 → ¬ P f i → aR A' f i j = aR A f i j := h.2.2.2.2
theorem Cl.mk {P : Nat → Nat → Prop} {A A' : AH} (h_K : ∀ i, i < 1101 → aK A' i = aK A i) (h_L : ∀ i, i < 1101 → aL A' i = aL A i) (h_I : ∀ f i j, i < 1101 → ¬ P f i → aI A' f i j = aI A f i j) (h_J : ∀ f i j, i < 1101 → ¬ P f i → aJ A' f i j = aJ A f i j) (h_R : ∀ f i j, i < 1101 → ¬ P f i → aR A' f i j = aR A f i j) : Cl P A A' := ⟨h_K, h_L, h_I, h_J, h_R⟩
theorem stK_ne : ∀ i, i < 1101 → stK i ≠ 0 := by decide +kernel
section
variable {A A' : AH} {σ σ' : mSt} {P : Nat → Nat → Prop} {K : Nat → Nat → Prop} {c s : Nat}
theorem Ex.cl (e : Ex P c s A A') (ks : KS A) : Cl P A A' := by
  have k0 : ∀ i, i < 1101 → aK A i ≠ 0 := fun i hi => by rw [(ks i hi).1]; exact stK_ne i hi
  exact Cl.mk (fun i hi => (e.kd i (k0 i hi)).1) (fun i hi => (e.kd i (k0 i hi)).2) (fun f i j hi hp => (e.vl f i j (k0 i hi) hp).1) (fun f i j hi hp => (e.vl f i j (k0 i hi) hp).2.1) (fun f i j hi hp => (e.vl f i j (k0 i hi) hp).2.2)
theorem KS.cl (h : KS A) (e : Cl P A A') : KS A' := fun i hi => by rw [e.K i hi, e.L i hi]; exact h i hi
theorem SR.cl {x nb L C : Nat} {f f' : Nat → Int32} (h : SR A x f nb L C) (e : Cl P A A') (hx : x + 47 < 1101) (p : ∀ g i, x ≤ i → i < x + 6 → ¬ P g i) (m : ∀ j, j < 39 → f' j = f j) (hn : nb ≤ 8) : SR A' x f' nb L C := by
  have eI : ∀ g d j, d < 6 → aI A' g (x + d) j = aI A g (x + d) j := fun g d j hd => e.I g (x + d) j (by omega) (p g _ (by omega) (by omega))
  have e0 : ∀ g j, aI A' g x j = aI A g x j := fun g j => e.I g x j (by omega) (p g _ (by omega) (by omega))
  refine SR.mk ?_ ?_ ?_ ?_ ?_ ?_ ?_ ?_ ?_ ?_ ?_ ?_ ?_ (fun a' b' ha' hb' y1 y2 => by rw [m _ (by omega), m _ (by omega)] at y1 y2; exact h.di a' b' ha' hb' y1 y2)
  · rw [e0, m _ (by omega)]; exact h.day
  · rw [m _ (by omega)]; exact h.dayb
  · intro l hl; rw [eI _ _ _ (by decide), m _ (by omega)]; exact h.gl l hl
  · intro l hl; rw [m _ (by omega)]; exact h.glb l hl
  · intro l hl; rw [eI _ _ _ (by decide), m _ (by omega)]; exact h.lf l hl
  · intro l hl; rw [m _ (by omega)]; exact h.lfb l hl
  · intro l hl; rw [eI _ _ _ (by decide), m _ (by omega)]; exact h.ce l hl
  · intro l hl; rw [m _ (by omega)]; exact h.ceb l hl
  · intro l hl; rw [eI _ _ _ (by decide), m _ (by omega)]; exact h.pu l hl
  · intro l hl; rw [m _ (by omega)]; exact h.pub l hl
  · intro l hl; rw [eI _ _ _ (by decide), m _ (by omega)]; exact h.me l hl
  · intro l hl; rw [m _ (by omega)]; exact h.meb l hl
  · intro b l hb hl6 hl
    rw [m _ (by omega)] at hl
    rw [m _ (by omega), m _ (by omega)]; exact h.og b l hb hl6 hl
theorem KR.cl {x n : Nat} {ρ : Nat → Nat} (h : KR A x n ρ) (e : Cl P A A') (hx : x + 47 < 1101) (p1 : ¬ P 601 x) (p2 : ¬ P 36 (x + 6)) : KR A' x n ρ := by
  refine KR.mk ?_ h.kb (fun k hk => ?_) h.ri
  · rw [e.I _ _ _ (by omega) p1]; exact h.kn
  · rw [e.R _ _ _ (by omega) p2]; exact h.rr k hk
theorem KV.cl {x n : Nat} {ρ : Nat → Nat} {f f' : Nat → Int32} (h : KV A n ρ f) (k : KR A x n ρ) (e : Cl P A A') (hx : x + 47 < 1101) (p : ∀ i, x + 7 ≤ i → i < x + 47 → ¬ P 31 i) (m : ∀ j, 39 ≤ j → j < 160 → f' j = f j) : KV A' n ρ f' := by
  have kb := k.kb
  refine ⟨by rw [m _ (by omega) (by omega)]; exact h.1, fun c' i hc hi => ?_⟩
  have hr := (k.rr c' (by omega)).2
  rw [e.I _ _ _ (by omega) (p _ hr.1 hr.2), m _ (by omega) (by omega)]; exact h.2 c' i hc hi
theorem IvS.cl {nb q : Nat} (h : IvS A σ nb q) (e : Cl P A A') (m : Cg K σ σ') (p1 : ¬ P 115 0) (p2 : ¬ P 31 126) (p3 : ¬ P 31 127) (k0 : ¬ K 65 0) (k1 : ∀ j, ¬ K 66 j) : IvS A' σ' nb q := by
  refine IvS.mk ?_ ?_ h.b (fun j hj => ?_)
  · rw [e.I _ _ _ (by decide) p1]; exact h.a
  · rw [m.I k0]; exact h.m_
  · rw [e.I _ _ _ (by decide) p2, e.I _ _ _ (by decide) p3, m.I (k1 _), m.I (k1 _)]; exact h.r j hj
theorem IvO.cl {o : Nat} (h : IvO A σ o) (e : Cl P A A') (m : Cg K σ σ') (p1 : ¬ P 124 0) (p2 : ¬ P 33 1100) (k0 : ∀ j, ¬ K 104 j) (k1 : ¬ K 105 0) : IvO A' σ' o := by
  refine IvO.mk ?_ ?_ h.b (fun j hj => ?_)
  · rw [e.I _ _ _ (by decide) p1]; exact h.a
  · rw [m.I k1]; exact h.m
  · rw [e.I _ _ _ (by decide) p2, m.I (k0 _)]; exact h.r j hj
theorem IvU.cl {nb L C u w : Nat} {κ : Nat → Nat} (h : IvU A σ nb L C u w κ) (e : Cl P A A') (m : Cg K σ σ') (hn : nb ≤ 8) (p1 : ¬ P 120 0) (p2 : ¬ P 38 139) (p3 : ∀ f i, 140 ≤ i → i < 1100 → ¬ P f i) (k0 : ∀ j, ¬ K 68 j) (k1 : ¬ K 69 0) (k2 : ¬ K 70 0) : IvU A' σ' nb L C u w κ := by
  have e' : ∀ q, krow σ' q = krow σ q := fun q => funext fun j => m.I (k0 _)
  have hi : ∀ k, k < 20 → 140 ≤ κ k ∧ κ k + 47 < 1100 := by
    intro k hk
    obtain ⟨_, h2, h3⟩ := h.kp k hk
    have hs := isSt_of h2
    unfold isSt at hs
    omega
  refine IvU.mk ?_ ?_ h.ub ?_ h.wb ?_ h.ki ?_
  · rw [e.I _ _ _ (by decide) p1]; exact h.un
  · rw [m.I k1]; exact h.um
  · rw [m.I k2]; exact h.wm
  · intro k hk; rw [e.R _ _ _ (by decide) p2]; exact h.kp k hk
  · intro k hk
    obtain ⟨n, ρ, q1, q2⟩ := h.kr k hk
    have i0 := hi k hk
    refine ⟨n, ρ, q1.cl e (by omega) (p3 _ _ (by omega) (by omega)) (p3 _ _ (by omega) (by omega)), fun hu => ?_⟩
    obtain ⟨r1, r2, r3⟩ := q2 hu
    rw [e']
    exact ⟨r1.cl q1 e (by omega) (fun i h1 h2 => p3 _ _ (by omega) (by omega)) (fun _ _ _ => rfl), r2.cl e (by omega) (fun g i h1 h2 => p3 _ _ (by omega) (by omega)) (fun _ _ => rfl) hn, r3⟩
theorem MO.cl {x : Nat} (h : MO A x) (e : Cl P A A') (hx : x + 1 < 1101) (p : ¬ P 500 x) : MO A' x := by
  obtain ⟨h1, h2, h3, h4⟩ := h
  exact ⟨(e.K _ (by omega)).trans h1, (e.R _ _ 0 (by omega) p).trans h2, (e.K _ (by omega)).trans h3, (e.L _ (by omega)).trans h4⟩
theorem IvH.cl (h : IvH A) (e : Cl P A A') (p1 : ¬ P 111 0) (p2 : ¬ P 112 0) (p3 : ¬ P 37 112) (p4 : ¬ P 37 119) (p5 : ¬ P 36 128) : IvH A' := by
  obtain ⟨h1, h2, h3⟩ := h
  refine ⟨?_, fun l hl => ?_, fun b hb => ?_⟩
  · rw [e.R _ _ _ (by decide) p1, e.R _ _ _ (by decide) p2]; exact h1
  · rw [e.R _ _ _ (by decide) p3, e.R _ _ _ (by decide) p4]; exact h2 l hl
  · rw [e.R _ _ _ (by decide) p5]; exact h3 b hb
theorem IvT.cl {t : Nat} (h : IvT A σ t) (e : Cl P A A') (m : Cg K σ σ') (p2 : ¬ P 33 8) (k0 : ∀ j, ¬ K 0 j) {t' : Nat} (ht : t' ≤ t) (ha : aI A' 102 0 0 = nn t') (hm : σ'.1 1 0 = nn t') : IvT A' σ' t' := by
  have hb := h.b
  refine IvT.mk ha hm (by omega) (fun j hj => ?_)
  rw [e.I _ _ _ (by decide) p2, m.I (k0 _)]; exact h.by_ j hj
end
