/-! PURE LEVEL: stepping, a day -/
set_option maxRecDepth 100000
theorem SR.cgA {A A' : AH} {x : Nat} {f : Nat → Int32} {nb L C : Nat} (h : SR A x f nb L C) (e : aI A' = aI A) : SR A' x f nb L C := by
  refine SR.mk ?_ h.dayb ?_ h.glb ?_ h.lfb ?_ h.ceb ?_ h.pub ?_ h.meb h.og h.di
  · rw [e]; exact h.day
  · intro l hl; rw [e]; exact h.gl l hl
  · intro l hl; rw [e]; exact h.lf l hl
  · intro l hl; rw [e]; exact h.ce l hl
  · intro l hl; rw [e]; exact h.pu l hl
  · intro l hl; rw [e]; exact h.me l hl
theorem isFree_eq {N : Nat} (hN : 5000 ≤ N) {A : AH} {σ : mSt} {fo nb L C W : Nat} (h : FR A σ fo nb L C W) {x : Nat} (hx : isStb x = true) (s : SR A x (σ.1 56) nb L C) {l : Nat} (hl : l < 6) (c : Int32) :
    ∃ r : Int32, (r = 0 ∨ r = 1) ∧ X5_isFree N A x (nn l) c = some r ∧ (∀ {β : Type} (y1 y0 : Option β), (bo (M_hasGloss σ (nn l) c) fun g => if g = 0 then (bo (M_standsOn N σ (nn l) c) fun w => if w = (-1) then y1 else y0) else y0) = if r = 1 then y1 else y0) ∧ (r = 1 ↔ (¬ bitOf (σ.1 56 (1 + l)) c ∧ ∀ b, b < nb → ¬ (σ.1 56 (7 + 4 * b) = nn l ∧ σ.1 56 (7 + 4 * b + 1) = c))) := by
  obtain ⟨g, hg01, hgb, g1, g2⟩ := gloss_eq h s hl c
  obtain ⟨w, hw1, hw0, w1, w2⟩ := who_eq hN h hx s (nn l) c
  have hX : X5_isFree N A x (nn l) c = if g = 0 then (if w = (-1) then some 1 else some 0) else some 0 := by
    have g1' : (bo (sI 6 31 A (x + 1) (nn l)) fun v1 => bo (X0_has v1 c) fun r2 => if r2 = 0 then (bo (X5_who N A x (nn l) c) fun r3 => if r3 = (-1) then (some (1 : Int32)) else (some 0)) else (some 0)) = (bo (bo (sI 6 31 A (x + 1) (nn l)) fun v => X0_has v c) fun r2 => if r2 = 0 then (bo (X5_who N A x (nn l) c) fun r3 => if r3 = (-1) then (some 1) else (some 0)) else (some 0)) := by
      cases sI 6 31 A (x + 1) (nn l) <;> rfl
    unfold X5_isFree
    rw [if_pos hx, g1', g1, bo_some, w1, bo_some]
  have nog : ∀ b, b < nb → w = nn b → ¬ w = -1 := fun b hb e z => by
    have := h.bn
    rw [e] at z; exact nn_ne1 (by omega) z
  rcases hg01 with e0 | e1
  · by_cases hw : w = -1
    · refine ⟨1, Or.inr rfl, ?_, ?_, fun _ => ⟨fun z => ?_, hw0 hw⟩, fun _ => rfl⟩
      · rw [hX, if_pos e0, if_pos hw]
      · intro β y1 y0
        rw [g2, bo_some, if_pos e0, w2, bo_some, if_pos hw, if_pos rfl]
      · rw [e0] at hgb; exact absurd (hgb.mpr z) (by decide)
    · refine ⟨0, Or.inl rfl, ?_, ?_, fun z => absurd z (by decide), fun z => ?_⟩
      · rw [hX, if_pos e0, if_neg hw]
      · intro β y1 y0
        rw [g2, bo_some, if_pos e0, w2, bo_some, if_neg hw, if_neg (by decide)]
      · exfalso
        rcases hw1 with q | ⟨b, hb, _, q1, q2⟩
        · exact hw q
        · exact z.2 b hb ⟨q1, q2⟩
  · refine ⟨0, Or.inl rfl, ?_, ?_, fun z => absurd z (by decide), fun z => absurd (hgb.mp e1) z.1⟩
    · rw [hX, if_neg (by rw [e1]; decide)]
    · intro β y1 y0
      rw [g2, bo_some, if_neg (by rw [e1]; decide), if_neg (by decide)]
theorem step_eq {N : Nat} (hN : 5000 ≤ N) {A : AH} {σ : mSt} {fo nb L C W x : Nat} {th : Bool} {n : Nat} {ρ : Nat → Nat} {ε : Int32} {δ η : Nat → Int32} (hx : isStb x = true) (h : PR A σ fo nb L C W x th n ρ ε δ η) {b o : Nat} (hb : b < nb) (ho : o < 100) (h58 : σ.1 58 0 = σ.1 56 0) (h59 : σ.1 59 0 = nn o) (hs : aR A 214 fo 0 ≠ none) :
    ∃ A' σ', (∀ k, X5_passes_b84 N x (nn o) k A (nn b) = k A' (nn (b + 1))) ∧ (∀ k, M_dayBy_b150 N k σ (nn b) = k σ' (nn (b + 1))) ∧ Ch (PX x) A A' ∧ Cm KD σ σ' ∧ PR A' σ' fo nb L C W x th n ρ ε δ η ∧ σ'.1 58 0 = σ.1 58 0 ∧ σ'.1 59 0 = σ.1 59 0 ∧ σ'.1 56 0 = σ.1 56 0 ∧ σ'.1 62 0 = σ.1 62 0 := by
  have bn := h.fr.bn
  have bL := h.fr.bL
  have bC := h.fr.bC
  have h16 := (st_at hx (d := 0) (by decide)).2.2.2
  obtain ⟨d, hd, ed⟩ := h.st.dayb
  obtain ⟨l, hl, el⟩ := h.st.lfb b hb
  obtain ⟨c, hc, ec⟩ := h.st.ceb b hb
  obtain ⟨p, hp, ep⟩ := h.st.pub b hb
  obtain ⟨i, t, _, _, _, _, ht, et⟩ := h.fr.beingOf hb
  have hop : (if l = o ∨ l + 1 = o then (1 : Int64) else 0) = 0 ∨ (if l = o ∨ l + 1 = o then (1 : Int64) else 0) = 1 := by
    by_cases q : l = o ∨ l + 1 = o
    · rw [if_pos q]; exact Or.inr rfl
    · rw [if_neg q]; exact Or.inl rfl
  have hB : BE 63 (envS d l c t p (if l = o ∨ l + 1 = o then 1 else 0) 0) := envS_BE (by omega) (by omega) (by omega) (by omega) (by omega) hop (by omega)
  obtain ⟨A1, q1, q2, q3, qR, q4⟩ := asks_eq h.fr hx hb (by omega) ho (h.st.day.trans ed) ((h.st.lf b hb).trans el) ((h.st.ce b hb).trans ec) et ((h.st.pu b hb).trans ep)
  have s1 : SameOn dyn A A1 := q2.sameOn (fun f i hi z => dyn12 (z ▸ hi))
  have ef := s1 fo h.fr.fd
  have r1 : aR A1 100 0 0 = some fo := (q2.R 0 (by omega)).trans h.fr.fo
  have mo1 : MO A1 11 := (show Ev true A A1 from q2).MO (Or.inl rfl) h.mo
  have part := part_eq (σ := σ) (b := b) (o := o) (d := d) (l := l) (c := c) (t := t) (p := p) (by omega) (by omega) ho (h58.trans ed) el ec et ep h59 0
  have l49 : ld 2 σ 49 7 = some (σ.1 49 7) := by rw [show (7 : Int32) = nn 7 from rfl, ld_nn (by rfl) (by decide) (by decide)]
  rcases code_casesT hN h.fr.st hB with ⟨y1, y2⟩ | ⟨v, vid, y1, y2, y3, y4, y5⟩
  · exact absurd y1 hs
  obtain ⟨σ1, w1, w2⟩ := y5 σ (nn b) (fun k _ j => ⟨rfl, rfl⟩) (fun k hk hcx => part k (cx63 k hcx))
  have wt : tstF N A1 vid 11 = some (b32 v, A1) := y4 A1 s1 mo1 (fun k hk => q4 k 0 (cx63 k hk))
  have e56 : σ1.1 56 = σ.1 56 := funext fun j => w2.I j (by unfold K55; omega)
  have m1 : Cm KD σ σ1 := w2.mono (fun k z => by unfold K55 at z; unfold KD; omega)
  have c1 : Ch (PX x) A A1 := q2.mono (fun f i z => Or.inr z)
  have f1 : FR A1 σ1 fo nb L C W := PX.fr hx h.fr c1 m1
  have st1 : SR A1 x (σ1.1 56) nb L C := by rw [e56]; exact h.st.cgA q3
  obtain ⟨r, hr01, fX, fM, fr⟩ := isFree_eq hN f1 hx st1 (l := l) (by omega) (nn (c + 1))
  have g2 : sI 8 31 A1 (x + 2) (nn b) = some (nn l) := by rw [sI_nn (by omega) (by decide), q3, h.st.lf b hb, el]
  have g3 : sI 8 31 A1 (x + 3) (nn b) = some (nn c) := by rw [sI_nn (by omega) (by decide), q3, h.st.ce b hb, ec]
  have hv1 : b32 v = 0 ↔ ¬ v = 1 := by
    unfold b32
    by_cases q : v = 1
    · rw [if_pos q]; simp [q]
    · rw [if_neg q]; simp [q]
  have same58 : σ1.1 58 0 = σ.1 58 0 ∧ σ1.1 59 0 = σ.1 59 0 ∧ σ1.1 56 0 = σ.1 56 0 ∧ σ1.1 62 0 = σ.1 62 0 := ⟨w2.I 0 (by unfold K55; omega), w2.I 0 (by unfold K55; omega), by rw [e56], w2.I 0 (by unfold K55; omega)⟩
  -- the heads of both passes
  have hXh : ∀ k, X5_passes_b84 N x (nn o) k A (nn b) = (if nn C ≤ nn c + 1 then X5_passes_b160 N x (nn o) k A1 (nn b) else if r = 0 then X5_passes_b160 N x (nn o) k A1 (nn b) else X5_passes_b161 N x (nn o) k A1 (nn b) 1) := by
    intro k
    unfold X5_passes_b84
    rw [h.fr.beings, bo_some, if_neg (by rw [nn_le (by omega) (by omega)]; omega), h.fr.fo, bo_some, gR_k h.fr.fk, bo_some, if_neg hs, q1, bd_some, g3, bo_some, f1.cellsX, g2, bo_some, bo_some, nn_succ, fX, bo_some]
  have hMh : ∀ k, M_dayBy_b150 N k σ (nn b) = (if v = 1 then (if nn C ≤ nn c + 1 then (M_dayBy_b242 N k σ1 (nn b)) else if r = 1 then (M_dayBy_b242 N k (mUI σ1 56 (7 + 4 * b + 1) (nn (c + 1))) (nn b)) else (M_dayBy_b242 N k σ1 (nn b))) else (M_dayBy_b242 N k σ1 (nn b))) := by
    intro k
    have w1' : M_codesTell N σ 3 (nn b) = some (v, σ1) := w1
    unfold M_dayBy_b150
    rw [h.fr.beingMany, bo_some, if_neg (by rw [nn_le (by omega) (by omega)]; omega), l49, bo_some, if_neg y3, w1', bd_some, m_cellOf σ1 (by omega), bo_some, e56, ec, f1.cells, bo_some, m_leafOf σ1 (by omega), bo_some, e56, el, bo_some, nn_succ]
    have ixe : (7 + (4 * nn b)) + 1 = nn (7 + 4 * b + 1) := ix7a b 1
    rw [ixe, stI_nn (by rfl) (by show 7 + 4 * b + 1 < 160; omega) (by omega), bo_some]
    have := fM (M_dayBy_b242 N k (mUI σ1 56 (7 + 4 * b + 1) (nn (c + 1))) (nn b)) (M_dayBy_b242 N k σ1 (nn b))
    rw [this]
  have hle : nn C ≤ nn c + 1 ↔ C ≤ c + 1 := by rw [nn_succ, nn_le (by omega) (by omega)]
  have b160 : ∀ k, X5_passes_b160 N x (nn o) k A1 (nn b) = k A1 (nn (b + 1)) := by
    intro k
    unfold X5_passes_b160 X5_passes_b161 X5_passes_b199
    rw [if_pos rfl, nn_succ]
  have b242 : ∀ k τ, M_dayBy_b242 N k τ (nn b) = k τ (nn (b + 1)) := by
    intro k τ
    unfold M_dayBy_b242
    rw [nn_succ]
  have b161 : ∀ k, X5_passes_b161 N x (nn o) k A1 (nn b) 1 = if v = 1 then k (wI A1 31 (x + 3) b (nn (c + 1))) (nn (b + 1)) else k A1 (nn (b + 1)) := by
    intro k
    unfold X5_passes_b161 X5_passes_b199
    rw [if_neg (by decide), r1, bo_some, gR_k (ef.1.trans h.fr.fk), bo_some, (ef.2.2 _ _).2.2, y2, bo_some, wt, bd_some, g3, bo_some, nn_succ, nn_succ, tI_nn (by omega) (by decide), bo_some]
    by_cases q : v = 1
    · rw [if_neg (fun z => hv1.mp z q), if_pos q]
    · rw [if_pos (hv1.mpr q), if_neg q]
  by_cases mv : v = 1 ∧ c + 1 < C ∧ r = 1
  · -- it steps
    obtain ⟨z1, z2, z3⟩ := mv
    have hfr := fr.mp z3
    have e2 : ∀ j, (mUI σ1 56 (7 + 4 * b + 1) (nn (c + 1))).1 56 j = if j = 7 + 4 * b + 1 then nn (c + 1) else σ.1 56 j := fun j => by
      rw [mI_UI]
      by_cases z : j = 7 + 4 * b + 1
      · rw [if_pos ⟨rfl, z⟩, if_pos z]
      · rw [if_neg (fun q => z q.2), if_neg z, e56]
    have cA : Ch (PX x) A (wI A1 31 (x + 3) b (nn (c + 1))) := c1.trans (Ch.wI (Or.inl (by omega)))
    have m2 : Cm KD σ (mUI σ1 56 (7 + 4 * b + 1) (nn (c + 1))) := m1.trans (Cm.UI (by unfold KD; omega))
    have e3 : ∀ k j, k ≠ 56 → k ≠ 55 → k ≠ 100 → k ≠ 101 → (mUI σ1 56 (7 + 4 * b + 1) (nn (c + 1))).1 k j = σ.1 k j := fun k j z1 z2 z3 z4 => by
      rw [mI_UI, if_neg (by omega), w2.I j (by unfold K55; omega)]
    have hdi : ∀ a' b', a' < nb → b' < nb → (mUI σ1 56 (7 + 4 * b + 1) (nn (c + 1))).1 56 (7 + 4 * a') = (mUI σ1 56 (7 + 4 * b + 1) (nn (c + 1))).1 56 (7 + 4 * b') → (mUI σ1 56 (7 + 4 * b + 1) (nn (c + 1))).1 56 (7 + 4 * a' + 1) = (mUI σ1 56 (7 + 4 * b + 1) (nn (c + 1))).1 56 (7 + 4 * b' + 1) → a' = b' := by
      intro a' b' ha' hb' y1 y2
      rw [e2, e2, if_neg (by omega), if_neg (by omega)] at y1
      rw [e2, e2] at y2
      have hf2 := hfr.2
      rw [e56] at hf2
      by_cases w1 : a' = b
      · by_cases w2 : b' = b
        · omega
        · rw [if_pos (by omega), if_neg (by omega)] at y2
          exact absurd ⟨by rw [← y1, w1]; exact el, y2.symm⟩ (hf2 b' hb')
      · by_cases w2 : b' = b
        · rw [if_neg (by omega), if_pos (by omega)] at y2
          exact absurd ⟨by rw [y1, w2]; exact el, y2⟩ (hf2 a' ha')
        · rw [if_neg (by omega), if_neg (by omega)] at y2
          exact h.st.di a' b' ha' hb' y1 y2
    refine ⟨_, _, fun k => ?_, fun k => ?_, cA, m2, PR.upd hx h cA m2 ?_ ?_ (e3 62 0 (by omega) (by omega) (by omega) (by omega)) (fun j => e3 63 j (by omega) (by omega) (by omega) (by omega)) ?_ ?_ ?_ ?_ ?_ ?_ hdi, e3 58 0 (by omega) (by omega) (by omega) (by omega), e3 59 0 (by omega) (by omega) (by omega) (by omega), ?_, e3 62 0 (by omega) (by omega) (by omega) (by omega)⟩
    · rw [hXh, if_neg (fun q => by have := hle.mp q; omega), if_neg (by rw [z3]; decide), b161, if_pos z1]
    · rw [hMh, if_pos z1, if_neg (fun q => by have := hle.mp q; omega), if_pos z3, b242]
    · intro f i j z
      rw [aI_wI, if_neg (by omega), q3]
    · intro f i j
      rw [aR_wI, qR]
    · intro j hj
      rw [e2, if_neg (hj b hb).1]
    · intro k hk
      rw [aI_wI, e2]
      by_cases z : k = b
      · rw [if_pos ⟨rfl, rfl, z⟩, if_pos (by omega)]
      · rw [if_neg (fun q => z q.2.2), if_neg (by omega), q3]; exact h.st.ce k hk
    · intro k hk
      rw [e2]
      by_cases z : k = b
      · rw [if_pos (by omega)]; exact ⟨_, z2, rfl⟩
      · rw [if_neg (by omega)]; exact h.st.ceb k hk
    · intro k hk
      rw [aI_wI, if_neg (by omega), q3, e2, if_neg (by omega)]; exact h.st.pu k hk
    · intro k hk
      rw [e2, if_neg (by omega)]; exact h.st.pub k hk
    · intro k l' hk hl6 hl'
      rw [e2, if_neg (by omega)] at hl'
      rw [e2, if_neg (by omega), e2]
      by_cases z : k = b
      · rw [if_pos (by omega)]
        subst z
        rw [el, nn_eq (by omega) (by omega)] at hl'
        subst hl'
        have := hfr.1
        rw [e56] at this
        exact this
      · rw [if_neg (by omega)]
        exact h.st.og k l' hk hl6 hl'
    · rw [e2, if_neg (by omega)]
  · -- it stays
    refine ⟨A1, σ1, fun k => ?_, fun k => ?_, c1, m1, PR.upd hx h c1 m1 (fun f i j _ => by rw [q3]) (fun f i j => by rw [qR]) (w2.I 0 (by unfold K55; omega)) (fun j => w2.I j (by unfold K55; omega)) (fun j _ => by rw [e56]) (fun k hk => by rw [q3, e56]; exact h.st.ce k hk) (fun k hk => by rw [e56]; exact h.st.ceb k hk) (fun k hk => by rw [q3, e56]; exact h.st.pu k hk) (fun k hk => by rw [e56]; exact h.st.pub k hk) (fun k l' hk hl6 hl' => by rw [e56] at hl' ⊢; exact h.st.og k l' hk hl6 hl') (fun a' b' ha' hb' y1 y2 => by rw [e56] at y1 y2; exact h.st.di a' b' ha' hb' y1 y2), same58⟩
    · rw [hXh]
      by_cases z2 : C ≤ c + 1
      · rw [if_pos (hle.mpr z2), b160]
      · rw [if_neg (fun q => z2 (hle.mp q))]
        rcases hr01 with z3 | z3
        · rw [if_pos z3, b160]
        · rw [if_neg (by rw [z3]; decide), b161, if_neg (fun q => mv ⟨q, by omega, z3⟩)]
    · rw [hMh]
      by_cases z1 : v = 1
      · rw [if_pos z1]
        by_cases z2 : C ≤ c + 1
        · rw [if_pos (hle.mpr z2), b242]
        · rw [if_neg (fun q => z2 (hle.mp q)), if_neg (fun q => mv ⟨z1, by omega, q⟩), b242]
      · rw [if_neg z1, b242]
/-! a day: the three loops -/
theorem day_steps {N : Nat} (hN : 5000 ≤ N) {fo nb L C W x : Nat} {th : Bool} {n : Nat} {ρ : Nat → Nat} {ε : Int32} {δ η : Nat → Int32} (hx : isStb x = true) {o : Nat} (ho : o < 100) : ∀ (j b m1 m2 : Nat) (A : AH) (σ : mSt), b + j = nb → j < m1 → j < m2 → PR A σ fo nb L C W x th n ρ ε δ η → σ.1 58 0 = σ.1 56 0 → σ.1 59 0 = nn o →
    ∃ A' σ', rn2 (X5_passes_b84 N x (nn o)) m1 A (nn b) = X5_passes_b205 N x (nn o) A' ∧ rn2 (M_dayBy_b150 N) m2 σ (nn b) = (bo (ld 2 σ' 56 0) fun v7 => bo (stI 2 σ' 56 0 (v7 + 1)) fun σ8 => some ((), σ8)) ∧ Ch (PX x) A A' ∧ Cm KD σ σ' ∧ PR A' σ' fo nb L C W x th n ρ ε δ η ∧ σ'.1 56 0 = σ.1 56 0 ∧ σ'.1 62 0 = σ.1 62 0 := by
  intro j
  induction j with
  | zero =>
    intro b m1 m2 A σ hb h1 h2 h h58 h59
    have bn := h.fr.bn
    obtain ⟨m1, rfl⟩ : ∃ z, m1 = z + 1 := ⟨m1 - 1, by omega⟩
    obtain ⟨m2, rfl⟩ : ∃ z, m2 = z + 1 := ⟨m2 - 1, by omega⟩
    refine ⟨A, σ, ?_, ?_, Ch.refl A, Cm.refl σ, h, rfl, rfl⟩
    · show X5_passes_b84 N x (nn o) _ A (nn b) = _
      unfold X5_passes_b84
      rw [h.fr.beings, bo_some, if_pos (by rw [nn_le (by omega) (by omega)]; omega)]
    · show M_dayBy_b150 N _ σ (nn b) = _
      unfold M_dayBy_b150
      rw [h.fr.beingMany, bo_some, if_pos (by rw [nn_le (by omega) (by omega)]; omega)]
  | succ j ih =>
    intro b m1 m2 A σ hb h1 h2 h h58 h59
    have bn := h.fr.bn
    obtain ⟨m1, rfl⟩ : ∃ z, m1 = z + 1 := ⟨m1 - 1, by omega⟩
    obtain ⟨m2, rfl⟩ : ∃ z, m2 = z + 1 := ⟨m2 - 1, by omega⟩
    by_cases hs : aR A 214 fo 0 = none
    · -- no steps are told
      have h49 : σ.1 49 7 = -1 := by
        rcases h.fr.st with q | ⟨v, g, cs, s, q1, _⟩
        · exact q.2
        · rw [hs] at q1; cases q1
      have hM : ∀ (i b m : Nat), b + i = nb → i < m → rn2 (M_dayBy_b150 N) m σ (nn b) = (bo (ld 2 σ 56 0) fun v7 => bo (stI 2 σ 56 0 (v7 + 1)) fun σ8 => some ((), σ8)) := by
        intro i
        induction i with
        | zero =>
          intro b m hb hm
          obtain ⟨m, rfl⟩ : ∃ z, m = z + 1 := ⟨m - 1, by omega⟩
          show M_dayBy_b150 N _ σ (nn b) = _
          unfold M_dayBy_b150
          rw [h.fr.beingMany, bo_some, if_pos (by rw [nn_le (by omega) (by omega)]; omega)]
        | succ i ih2 =>
          intro b m hb hm
          obtain ⟨m, rfl⟩ : ∃ z, m = z + 1 := ⟨m - 1, by omega⟩
          rw [← ih2 (b + 1) m (by omega) (by omega)]
          show M_dayBy_b150 N (rn2 (M_dayBy_b150 N) m) σ (nn b) = _
          generalize rn2 (M_dayBy_b150 N) m = kk
          have l49 : ld 2 σ 49 7 = some (σ.1 49 7) := by rw [show (7 : Int32) = nn 7 from rfl, ld_nn (by rfl) (by decide) (by decide)]
          unfold M_dayBy_b150 M_dayBy_b242
          rw [h.fr.beingMany, bo_some, if_neg (by rw [nn_le (by omega) (by omega)]; omega), l49, bo_some, if_pos h49, nn_succ]
      refine ⟨A, σ, ?_, hM (j + 1) b (m2 + 1) hb h2, Ch.refl A, Cm.refl σ, h, rfl, rfl⟩
      show X5_passes_b84 N x (nn o) _ A (nn b) = _
      unfold X5_passes_b84
      rw [h.fr.beings, bo_some, if_neg (by rw [nn_le (by omega) (by omega)]; omega), h.fr.fo, bo_some, gR_k h.fr.fk, bo_some, if_pos hs]
    · obtain ⟨A1, σ1, p1, p2, p3, p4, p5, p6, p7, p8, p9⟩ := step_eq hN hx h (b := b) (o := o) (by omega) ho h58 h59 hs
      obtain ⟨A', σ', i1, i2, i3, i4, i5, i6, i7⟩ := ih (b + 1) m1 m2 A1 σ1 (by omega) (by omega) (by omega) p5 (by rw [p6, p8]; exact h58) (by rw [p7]; exact h59)
      refine ⟨A', σ', ?_, ?_, p3.trans i3, p4.trans i4, i5, i6.trans p8, i7.trans p9⟩
      · show X5_passes_b84 N x (nn o) (rn2 (X5_passes_b84 N x (nn o)) m1) A (nn b) = _
        rw [p1, i1]
      · show M_dayBy_b150 N (rn2 (M_dayBy_b150 N) m2) σ (nn b) = _
        rw [p2, i2]
theorem day_reaps {N : Nat} (hN : 5000 ≤ N) {fo nb L C W x : Nat} {th : Bool} {n : Nat} {ρ : Nat → Nat} {ε : Int32} {δ η : Nat → Int32} (hx : isStb x = true) {o : Nat} (ho : o < 100) : ∀ (j b m1 m2 : Nat) (A : AH) (σ : mSt), b + j = nb → j < m1 → j < m2 → PR A σ fo nb L C W x th n ρ ε δ η → σ.1 58 0 = σ.1 56 0 → σ.1 59 0 = nn o →
    ∃ A' σ', rn2 (X5_passes_b59 N x (nn o)) m1 A (nn b) = rn2 (X5_passes_b84 N x (nn o)) N A' 0 ∧ rn2 (M_dayBy_b67 N) m2 σ (nn b) = rn2 (M_dayBy_b150 N) N σ' 0 ∧ Ch (PX x) A A' ∧ Cm KD σ σ' ∧ PR A' σ' fo nb L C W x th n ρ ε δ η ∧ σ'.1 56 0 = σ.1 56 0 ∧ σ'.1 58 0 = σ'.1 56 0 ∧ σ'.1 59 0 = nn o ∧ σ'.1 62 0 = σ.1 62 0 := by
  intro j
  induction j with
  | zero =>
    intro b m1 m2 A σ hb h1 h2 h h58 h59
    have bn := h.fr.bn
    obtain ⟨m1, rfl⟩ : ∃ z, m1 = z + 1 := ⟨m1 - 1, by omega⟩
    obtain ⟨m2, rfl⟩ : ∃ z, m2 = z + 1 := ⟨m2 - 1, by omega⟩
    refine ⟨A, σ, ?_, ?_, Ch.refl A, Cm.refl σ, h, rfl, h58, h59, rfl⟩
    · show X5_passes_b59 N x (nn o) _ A (nn b) = _
      unfold X5_passes_b59
      rw [h.fr.beings, bo_some, if_pos (by rw [nn_le (by omega) (by omega)]; omega)]
    · show M_dayBy_b67 N _ σ (nn b) = _
      unfold M_dayBy_b67
      rw [h.fr.beingMany, bo_some, if_pos (by rw [nn_le (by omega) (by omega)]; omega)]
  | succ j ih =>
    intro b m1 m2 A σ hb h1 h2 h h58 h59
    have bn := h.fr.bn
    obtain ⟨m1, rfl⟩ : ∃ z, m1 = z + 1 := ⟨m1 - 1, by omega⟩
    obtain ⟨m2, rfl⟩ : ∃ z, m2 = z + 1 := ⟨m2 - 1, by omega⟩
    obtain ⟨A1, σ1, p1, p2, p3, p4, p5, p6, p7, p8, p9⟩ := reaps_eq hN hx h (b := b) (o := o) (by omega) ho h58 h59
    obtain ⟨A', σ', i1, i2, i3, i4, i5, i6, i7, i8, i9⟩ := ih (b + 1) m1 m2 A1 σ1 (by omega) (by omega) (by omega) p5 (by rw [p6, p8]; exact h58) (by rw [p7]; exact h59)
    refine ⟨A', σ', ?_, ?_, p3.trans i3, p4.trans i4, i5, i6.trans p8, i7, i8, i9.trans p9⟩
    · rw [← i1]
      show X5_passes_b59 N x (nn o) (rn2 (X5_passes_b59 N x (nn o)) m1) A (nn b) = _
      generalize rn2 (X5_passes_b59 N x (nn o)) m1 = kk
      unfold X5_passes_b59
      rw [h.fr.beings, bo_some, if_neg (by rw [nn_le (by omega) (by omega)]; omega), p1, bd_some, nn_succ]
    · show M_dayBy_b67 N (rn2 (M_dayBy_b67 N) m2) σ (nn b) = _
      rw [p2, i2]
