/-! PURE LEVEL: an image is put on: the whole -/
set_option maxRecDepth 100000
section ON2
variable {A0 A : AH} {σ : mSt} {fo nb L C W n : Nat} {ρ : Nat → Nat} {u w : Nat} {κ : Nat → Nat} {t m o : Nat} {T : Nat → Nat}
theorem IV.un0 (h : IV A σ fo nb L C W n ρ u w κ t m o) : IV (wI A 120 0 0 0) (mUI σ 69 0 0) fo nb L C W n ρ 0 w κ t m o := by
  have c : Ch P120 A (wI A 120 0 0 0) := Ch.wI ⟨rfl, rfl⟩
  have mm : Cm K69 σ (mUI σ 69 0 0) := Cm.UI (Or.inl rfl)
  have U := h.un
  refine IV.mk (h.fr.same (c.sameOn (fun f i hi z => by unfold dyn at hi; unfold P120 at z; omega)) (c.R 0 (by unfold P120; omega)) (mm.sameM (fun k hk z => by unfold Kfo at hk; unfold K69 at z; omega))) (h.ks.ch c) (h.m1.ch c (by unfold P120; omega)) (h.m2.ch c (by unfold P120; omega)) (h.st.ch c (fun g i hg h1 h2 => by unfold P120; omega) (fun j _ => mm.I j (by unfold K69; omega)) h.fr.bn) (by rw [mm.I 0 (by unfold K69; omega)]; exact h.d9) (h.kr.ch c (by unfold P120; omega) (by unfold P120; omega)) (h.kv.ch h.kr c (fun i h1 h2 => by unfold P120; omega) (fun j _ _ => mm.I j (by unfold K69; omega))) (by obtain ⟨n', ρ', k'⟩ := h.kt; exact ⟨n', ρ', k'.ch c (by unfold P120; omega) (by unfold P120; omega)⟩) ((mm.I 0 (by unfold K69; omega)).trans h.th) (IvU.mk ?_ ?_ (by omega) ?_ U.wb (fun k hk => ⟨(c.R k (by unfold P120; omega)).trans (U.kp k hk).1, (U.kp k hk).2⟩) U.ki ?_) (h.tp.ch c mm (by unfold P120; omega) (by unfold P120; omega) (by unfold K69; omega) (by unfold K69; omega)) (by rw [c.I _ (by unfold P120; omega), mm.I _ (by unfold K69; omega)]; exact h.fk) (by rw [c.I _ (by unfold P120; omega), mm.I _ (by unfold K69; omega)]; exact h.fp) (fun k hk => by rw [c.I _ (by unfold P120; omega), mm.I _ (by unfold K69; omega)]; exact h.rf k hk) (h.se.ch c mm (by unfold P120; omega) (by unfold P120; omega) (by unfold P120; omega) (by unfold K69; omega) (by unfold K69; omega)) (by rw [c.J _ (by unfold P120; omega), mm.J _ (by unfold K69; omega)]; exact h.sd) (h.ou.ch c mm (by unfold P120; omega) (by unfold P120; omega) (by unfold K69; omega) (by unfold K69; omega)) (h.hn.ch c (by unfold P120; omega) (by unfold P120; omega) (by unfold P120; omega) (by unfold P120; omega) (by unfold P120; omega)) (h.wd.ch mm (fun q hq z => by unfold isWd at hq; unfold K69 at z; omega))
  · rw [aI_wI, if_pos ⟨rfl, rfl, rfl⟩]; rfl
  · rw [mI_UI, if_pos ⟨rfl, rfl⟩]; rfl
  · rw [mI_UI, if_neg (by omega)]; exact U.wm
  · intro k hk
    obtain ⟨n2, ρ2, b1, _⟩ := U.kr k hk
    have hk2 := st_in (U.kp k hk).2.1 (U.kp k hk).2.2
    have hk3 := (U.kp k hk).2.2
    exact ⟨n2, ρ2, b1.ch c (by unfold P120; omega) (by unfold P120; omega), fun z => by omega⟩
theorem on43 {N : Nat} {σ0 : mSt} (bL : L ≤ 6) (hl : M_leaves σ0 = some (nn L)) (hT : ∀ k, k < 1600 → σ0.1 0 k = nn (T k)) : ∀ (j l q : Nat) (σ : mSt), l + j = L → j < q → Cm (fun k => k = 56) σ0 σ → ∃ σ', rn2 (M_on_b43 N) q σ (nn l) = rn2 (M_on_b75 N) N σ' 0 ∧ Cm (fun k => k = 56) σ σ' ∧ (∀ i, l ≤ i → i < L → σ'.1 56 (1 + i) = nn (T (2 + i))) ∧ (∀ j, (∀ i, l ≤ i → i < L → j ≠ 1 + i) → σ'.1 56 j = σ.1 56 j) := by
  intro j
  induction j with
  | zero =>
    intro l q σ hl2 hq c0
    obtain ⟨q, rfl⟩ : ∃ z, q = z + 1 := ⟨q - 1, by omega⟩
    refine ⟨σ, ?_, Cm.refl σ, fun i h1 h2 => by omega, fun _ _ => rfl⟩
    show M_on_b43 N _ σ (nn l) = _
    unfold M_on_b43
    rw [show M_leaves σ = some (nn L) from by rw [← hl]; unfold M_leaves; rw [c0.ld (by omega)], bo_some, if_pos ((nn_le (by omega) (by omega)).mpr (by omega))]
  | succ j ih =>
    intro l q σ hl2 hq c0
    obtain ⟨q, rfl⟩ : ∃ z, q = z + 1 := ⟨q - 1, by omega⟩
    obtain ⟨σ', p1, p2, p3, p4⟩ := ih (l + 1) q (mUI σ 56 (1 + l) (nn (T (2 + l)))) (by omega) (by omega) (c0.trans Cm.u56)
    have e0 : ld 2 σ 0 (2 + nn l) = some (nn (T (2 + l))) := by
      rw [c0.ld (by omega), show (2 + nn l : Int32) = nn (2 + l) from nn_add 2 l, ld_nn (by rfl) (by show 2 + l < 1600; omega) (by omega), hT _ (by omega)]
    refine ⟨σ', ?_, Cm.u56.trans p2, fun i h1 h2 => ?_, fun i hi => ?_⟩
    · rw [← p1]
      show M_on_b43 N (rn2 (M_on_b43 N) q) σ (nn l) = _
      generalize rn2 (M_on_b43 N) q = kk
      unfold M_on_b43
      rw [show M_leaves σ = some (nn L) from by rw [← hl]; unfold M_leaves; rw [c0.ld (by omega)], bo_some, if_neg (fun z => by have := (nn_le (by omega) (by omega)).mp z; omega), e0, bo_some, show (1 + nn l : Int32) = nn (1 + l) from nn_add 1 l, stI_nn (by rfl) (by show 1 + l < 160; omega) (by omega), bo_some, nn_succ]
    · rcases Nat.eq_or_lt_of_le h1 with z | z
      · subst z
        rw [p4 _ (fun i h1 h2 => by omega), mI_UI, if_pos ⟨rfl, rfl⟩]
      · exact p3 i z h2
    · rw [p4 i (fun i' h1 h2 => hi i' (by omega) h2), mI_UI, if_neg (fun z => hi l (by omega) (by omega) z.2)]
theorem on75 {N : Nat} {σ0 : mSt} (bL : L ≤ 6) (bn : nb ≤ 8) (hl : M_leaves σ0 = some (nn L)) (hb0 : M_beingMany σ0 = some (nn nb)) (hT : TT A σ0 T) : ∀ (j b q : Nat) (σ : mSt), b + j = nb → j < q → Cm (fun k => k = 56) σ0 σ → ∃ σ', rn2 (M_on_b75 N) q σ (nn b) = (bo (stI 2 σ' 56 39 0) fun σ7 => lt2 (mUI σ7 69 0 0) fun σ8 => some (1, σ8)) ∧ Cm (fun k => k = 56) σ σ' ∧ (∀ i, b ≤ i → i < nb → σ'.1 56 (7 + 4 * i) = nn (T (kO L i)) ∧ σ'.1 56 (7 + 4 * i + 1) = nn (T (kO L i + 1)) ∧ σ'.1 56 (7 + 4 * i + 2) = nn (tw2 T (kO L i + 2)) ∧ σ'.1 56 (7 + 4 * i + 3) = nn (tw2 T (kO L i + 4))) ∧ (∀ j, (j < 7 + 4 * b ∨ 7 + 4 * nb ≤ j) → σ'.1 56 j = σ.1 56 j) := by
  intro j
  induction j with
  | zero =>
    intro b q σ hb hq c0
    obtain ⟨q, rfl⟩ : ∃ z, q = z + 1 := ⟨q - 1, by omega⟩
    refine ⟨σ, ?_, Cm.refl σ, fun i h1 h2 => by omega, fun _ _ => rfl⟩
    show M_on_b75 N _ σ (nn b) = _
    unfold M_on_b75
    rw [show M_beingMany σ = some (nn nb) from by rw [← hb0]; unfold M_beingMany; rw [c0.ld (by omega)], bo_some, if_pos ((nn_le (by omega) (by omega)).mpr (by omega))]
  | succ j ih =>
    intro b q σ hb hq c0
    obtain ⟨q, rfl⟩ : ∃ z, q = z + 1 := ⟨q - 1, by omega⟩
    let σ1 := mUI σ 56 (7 + 4 * b) (nn (T (kO L b)))
    let σ2 := mUI σ1 56 (7 + 4 * b + 1) (nn (T (kO L b + 1)))
    let σ3 := mUI σ2 56 (7 + 4 * b + 2) (nn (tw2 T (kO L b + 2)))
    let σ4 := mUI σ3 56 (7 + 4 * b + 3) (nn (tw2 T (kO L b + 4)))
    have c1 : Cm (fun k => k = 56) σ0 σ1 := c0.trans Cm.u56
    have c2 : Cm (fun k => k = 56) σ0 σ2 := c1.trans Cm.u56
    have c3 : Cm (fun k => k = 56) σ0 σ3 := c2.trans Cm.u56
    have c4 : Cm (fun k => k = 56) σ0 σ4 := c3.trans Cm.u56
    have tt : ∀ τ : mSt, Cm (fun k => k = 56) σ0 τ → TT A τ T := fun τ c k hk => ⟨(hT k hk).1, (hT k hk).2.1, (c.I k (by omega)).trans (hT k hk).2.2⟩
    obtain ⟨σ', p1, p2, p3, p4⟩ := ih (b + 1) q σ4 (by omega) (by omega) c4
    have e4 : ∀ j, σ4.1 56 j = if j = 7 + 4 * b + 3 then nn (tw2 T (kO L b + 4)) else if j = 7 + 4 * b + 2 then nn (tw2 T (kO L b + 2)) else if j = 7 + 4 * b + 1 then nn (T (kO L b + 1)) else if j = 7 + 4 * b then nn (T (kO L b)) else σ.1 56 j := by
      intro j
      show (mUI (mUI (mUI (mUI σ 56 (7 + 4 * b) (nn (T (kO L b)))) 56 (7 + 4 * b + 1) (nn (T (kO L b + 1)))) 56 (7 + 4 * b + 2) (nn (tw2 T (kO L b + 2)))) 56 (7 + 4 * b + 3) (nn (tw2 T (kO L b + 4)))).1 56 j = _
      rw [mI_UI, mI_UI, mI_UI, mI_UI]
      by_cases z3 : j = 7 + 4 * b + 3
      · rw [if_pos ⟨rfl, z3⟩, if_pos z3]
      · rw [if_neg (fun q => z3 q.2), if_neg z3]
        by_cases z2 : j = 7 + 4 * b + 2
        · rw [if_pos ⟨rfl, z2⟩, if_pos z2]
        · rw [if_neg (fun q => z2 q.2), if_neg z2]
          by_cases z1 : j = 7 + 4 * b + 1
          · rw [if_pos ⟨rfl, z1⟩, if_pos z1]
          · rw [if_neg (fun q => z1 q.2), if_neg z1]
            by_cases z0 : j = 7 + 4 * b
            · rw [if_pos ⟨rfl, z0⟩, if_pos z0]
            · rw [if_neg (fun q => z0 q.2), if_neg z0]
    refine ⟨σ', ?_, ((Cm.u56.trans Cm.u56).trans (Cm.u56.trans Cm.u56)).trans p2, fun i h1 h2 => ?_, fun j hj => ?_⟩
    · rw [← p1]
      show M_on_b75 N (rn2 (M_on_b75 N) q) σ (nn b) = _
      generalize rn2 (M_on_b75 N) q = kk
      have e0 : ((2 + nn L) + (6 * nn b) : Int32) = nn (kO L b) := by
        rw [show (6 : Int32) = nn 6 from rfl, nn_mul, show (2 + nn L : Int32) = nn (2 + L) from nn_add 2 L, nn_add]
      have i1 : (nn (kO L b) + 1 : Int32) = nn (kO L b + 1) := nn_add _ 1
      have i2 : (nn (kO L b) + 2 : Int32) = nn (kO L b + 2) := nn_add _ 2
      have i4 : (nn (kO L b) + 4 : Int32) = nn (kO L b + 4) := nn_add _ 4
      have s0 : stI 2 σ 56 (7 + (4 * nn b)) (nn (T (kO L b))) = some σ1 := by rw [ix7, stI_nn (by rfl) (by show 7 + 4 * b < 160; omega) (by omega)]
      have s1 : stI 2 σ1 56 ((7 + (4 * nn b)) + 1) (nn (T (kO L b + 1))) = some σ2 := by rw [show ((7 + (4 * nn b)) + 1 : Int32) = nn (7 + 4 * b + 1) from ix7a b 1, stI_nn (by rfl) (by show 7 + 4 * b + 1 < 160; omega) (by omega)]
      have s2 : stI 2 σ2 56 ((7 + (4 * nn b)) + 2) (nn (tw2 T (kO L b + 2))) = some σ3 := by rw [show ((7 + (4 * nn b)) + 2 : Int32) = nn (7 + 4 * b + 2) from ix7a b 2, stI_nn (by rfl) (by show 7 + 4 * b + 2 < 160; omega) (by omega)]
      have s3 : stI 2 σ3 56 ((7 + (4 * nn b)) + 3) (nn (tw2 T (kO L b + 4))) = some σ4 := by rw [show ((7 + (4 * nn b)) + 3 : Int32) = nn (7 + 4 * b + 3) from ix7a b 3, stI_nn (by rfl) (by show 7 + 4 * b + 3 < 160; omega) (by omega)]
      unfold M_on_b75
      rw [show M_beingMany σ = some (nn nb) from by rw [← hb0]; unfold M_beingMany; rw [c0.ld (by omega)], bo_some, if_neg (fun z => by have := (nn_le (by omega) (by omega)).mp z; omega), show M_leaves σ = some (nn L) from by rw [← hl]; unfold M_leaves; rw [c0.ld (by omega)], bo_some, e0, (tt σ c0).m (by unfold kO; omega), bo_some, s0, bo_some, i1, (tt σ1 c1).m (by unfold kO; omega), bo_some, s1, bo_some, i2, (tt σ2 c2).m2 (by unfold kO; omega), bo_some, s2, bo_some, i4, (tt σ3 c3).m2 (by unfold kO; omega), bo_some, s3, bo_some, nn_succ]
    · rcases Nat.eq_or_lt_of_le h1 with z | z
      · subst z
        rw [p4 _ (Or.inl (by omega)), p4 _ (Or.inl (by omega)), p4 _ (Or.inl (by omega)), p4 _ (Or.inl (by omega)), e4, e4, e4, e4]
        refine ⟨?_, ?_, ?_, ?_⟩
        · rw [if_neg (by omega), if_neg (by omega), if_neg (by omega), if_pos rfl]
        · rw [if_neg (by omega), if_neg (by omega), if_pos rfl]
        · rw [if_neg (by omega), if_pos rfl]
        · rw [if_pos rfl]
      · exact p3 i z h2
    · rw [p4 j (by omega), e4, if_neg (by omega), if_neg (by omega), if_neg (by omega), if_neg (by omega)]
theorem on73 {N : Nat} (hN : 5000 ≤ N) (h : IV A0 σ fo nb L C W n ρ u w κ t m o) (hT : TT A0 σ T) (x2 y0 : Int32) : ∃ A, X0_on_b73 N A0 x2 y0 = rn4 (X0_on_b104 N) N A x2 y0 0 ∧ OB A0 A σ L 0 0 (tw2 T 0) T := by
  obtain ⟨n', ρ', kt⟩ := h.kt
  obtain ⟨A7, c1, c2⟩ := copy_eq hN (x := 64) (y := 16) rfl rfl (by decide) h.ks kt h.kr
  have c7 : Ch P64 A0 A7 := c2.ch.mono (fun f i z => by unfold P64; omega)
  have t7 := hT.ch c7 (by unfold P64; omega)
  have t70 : X0_twoAt A7 0 = some (nn (tw2 T 0)) := t7.x2 (k := 0) (by decide)
  have k64 : aK A7 64 = 6 := (h.ks.ch c7).six rfl
  have kr7 := c2.kr kt h.kr
  refine ⟨wI (wI A7 600 64 0 (nn (tw2 T 0))) 601 64 0 0, ?_, OB.mk (c7.trans ((Ch.wI (show P64 600 64 from ⟨by omega, by omega⟩)).trans (Ch.wI ⟨by omega, by omega⟩))) ⟨ρ', KR.mk ?_ (by omega) (fun k hk => ?_) kr7.ri⟩ ?_ (fun i hi => by omega) ?_ (fun i hi => by omega)⟩
  · unfold X0_on_b73
    rw [c1, bd_some, bo_some, t70, bo_some, pI_k k64, bo_some, lt2_eq]
  · rw [aI_wI, if_pos ⟨rfl, rfl, rfl⟩]; rfl
  · exact kr7.rr k hk
  · rw [aI_wI, if_neg (by omega), aI_wI, if_pos ⟨rfl, rfl, rfl⟩]
  · intro i _ hi
    rw [aI_wI, if_neg (by omega), aI_wI, if_neg (by omega), show (65 : Nat) = 64 + 1 from rfl, c2.gl i hi]
    exact h.st.gl i hi
/-- the state that an image tells -/
theorem on_sr {d0 : Nat} {f : Nat → Int32} (h : IV A0 σ fo nb L C W n ρ u w κ t m o) (hT : TT A0 σ T) (B : OB A0 A σ L L nb d0 T) (hd : d0 ≤ 999) (hg : ∀ i, i < L → T (2 + i) < 2 ^ C) (hb : ∀ i, i < nb → goodO T L C i) (f0 : f 0 = nn d0) (f1 : ∀ i, i < L → f (1 + i) = nn (T (2 + i))) (f2 : ∀ i, L ≤ i → i < 6 → f (1 + i) = σ.1 56 (1 + i)) (f3 : ∀ i, i < nb → f (7 + 4 * i) = nn (T (kO L i)) ∧ f (7 + 4 * i + 1) = nn (T (kO L i + 1)) ∧ f (7 + 4 * i + 2) = nn (tw2 T (kO L i + 2)) ∧ f (7 + 4 * i + 3) = nn (tw2 T (kO L i + 4))) : SR A 64 f nb L C := by
  have bL := h.fr.bL
  have bC := h.fr.bC
  have bn := h.fr.bn
  refine SR.mk ?_ ⟨d0, by omega, f0⟩ ?_ ?_ ?_ ?_ ?_ ?_ ?_ ?_ ?_ ?_ ?_ ?_
  · rw [f0]; exact B.day
  · intro l hl
    rcases Nat.lt_or_ge l L with z | z
    · rw [f1 l z]; exact B.gl l z
    · rw [f2 l z hl]; exact B.gr l z hl
  · intro l hl
    rcases Nat.lt_or_ge l L with z | z
    · exact ⟨_, (hT (2 + l) (by omega)).1, f1 l z⟩
    · rw [f2 l z hl]; exact h.st.glb l hl
  · intro b hb'; rw [(f3 b hb').1]; exact (B.be b hb').1
  · intro b hb'; exact ⟨_, (hb b hb').1.1, (f3 b hb').1⟩
  · intro b hb'; rw [(f3 b hb').2.1]; exact (B.be b hb').2.1
  · intro b hb'; exact ⟨_, (hb b hb').1.2, (f3 b hb').2.1⟩
  · intro b hb'; rw [(f3 b hb').2.2.1]; exact (B.be b hb').2.2.1
  · intro b hb'; exact ⟨_, (hb b hb').2.2.2.1, (f3 b hb').2.2.1⟩
  · intro b hb'; rw [(f3 b hb').2.2.2]; exact (B.be b hb').2.2.2
  · intro b hb'; exact ⟨_, (hb b hb').2.2.2.2, (f3 b hb').2.2.2⟩
  · intro b l hb' hl6 hl
    have g := hb b hb'
    have tk := (hT (kO L b) (by unfold kO; omega)).1
    rw [(f3 b hb').1, nn_eq (by omega) (by omega)] at hl
    rw [(f3 b hb').2.1, f1 l (by rw [← hl]; exact g.1.1), ← hl]
    exact g.2.1
  · intro a b ha hb' y1 y2
    have ta := (hT (kO L a) (by unfold kO; omega)).1
    have tb := (hT (kO L b) (by unfold kO; omega)).1
    have ta1 := (hT (kO L a + 1) (by unfold kO; omega)).1
    have tb1 := (hT (kO L b + 1) (by unfold kO; omega)).1
    rw [(f3 a ha).1, (f3 b hb').1, nn_eq (by omega) (by omega)] at y1
    rw [(f3 a ha).2.1, (f3 b hb').2.1, nn_eq (by omega) (by omega)] at y2
    rcases Nat.lt_trichotomy a b with z | z | z
    · exact absurd ⟨a, z, y1, y2⟩ (hb b hb').2.2.1
    · exact z
    · exact absurd ⟨b, z, y1.symm, y2.symm⟩ (hb a ha).2.2.1
theorem on_op {N : Nat} (hN : 5000 ≤ N) (h : IV A σ fo nb L C W n ρ u w κ t m o) : ∃ r A' σ' n' ρ' u', X0_on N A = some (r, A') ∧ M_on N σ = some (r, σ') ∧ IV A' σ' fo nb L C W n' ρ' u' w κ 0 m o ∧ A'.1 = A.1 := by
  have tb := h.tp.b
  have bn := h.fr.bn
  have bL := h.fr.bL
  have bC := h.fr.bC
  have h1 : IV (wI A 102 0 0 0) (mUI σ 1 0 0) fo nb L C W n ρ u w κ 0 m o := h.taped (k := 0) (by decide)
  have hT := h1.tt
  generalize (fun k => ((mUI σ 1 0 0).1 0 k).toNatClampNeg) = T at hT
  have f1 := h1.fr
  obtain ⟨A0, hA0⟩ : ∃ B, B = wI A 102 0 0 0 := ⟨_, rfl⟩
  obtain ⟨σ0, hσ0⟩ : ∃ τ, τ = mUI σ 1 0 0 := ⟨_, rfl⟩
  rw [← hA0, ← hσ0] at h1 hT f1
  have c10 : A0.1 = A.1 := by rw [hA0]; rfl
  have e2L : (2 + nn L : Int32) = nn (2 + L) := nn_add 2 L
  -- refused
  have bad : X0_on N A = X0_on_b73 N A0 (nn (2 + L)) 0 → M_isImage N σ0 (nn t) = some 0 → ∃ r A' σ' n' ρ' u', X0_on N A = some (r, A') ∧ M_on N σ = some (r, σ') ∧ IV A' σ' fo nb L C W n' ρ' u' w κ 0 m o ∧ A'.1 = A.1 := by
    intro hX hM
    obtain ⟨A11, y1, B⟩ := on73 hN h1 hT (nn (2 + L)) 0
    obtain ⟨A', σ', z1, z2, z3, z4⟩ := on208 (N := N) B h1
    refine ⟨0, A', σ', n, ρ, u, ?_, ?_, z3, z4.trans c10⟩
    · rw [hX, y1, on104z hN _ (B.iv h1).fr (by omega), z1]
    · unfold M_on
      rw [lt2_eq, ← hσ0, h.tp.m, hM, bo_some, if_pos rfl, z2]
  have tk : X0_taken A = some (nn t, A0) := by
    unfold X0_taken
    rw [lt2_eq, h.tp.a, hA0]
  have hX0 : X0_on N A = if L = 0 then X0_on_b73 N A0 (nn (2 + L)) 0 else (if nn t = nn (2 + L + 6 * nb + 1) then (bo (X0_byteAt A0 (nn t - 1)) fun r29 => bo (X0_check N A0 8 (nn t - 1)) fun r30 => if r29 = r30 then (bo (X0_twoAt A0 0) fun r31 => if 999 < r31 then (X0_on_b73 N A0 (nn (2 + L)) 0) else (X0_on_b73 N A0 (nn (2 + L)) 1)) else (X0_on_b73 N A0 (nn (2 + L)) 0)) else X0_on_b73 N A0 (nn (2 + L)) 0) := by
    unfold X0_on X0_on_b72
    rw [tk, bd_some, f1.leavesX, e2L, f1.isFolioX, bo_some, f1.beings, bo_some, show (6 : Int32) = nn 6 from rfl, nn_mul, nn_add, nn_succ]
    by_cases z : L = 0
    · rw [if_pos z, if_pos z, if_pos rfl]
    · rw [if_neg z, if_neg z, if_neg (by decide)]
  have hM0 : M_isImage N σ0 (nn t) = if L = 0 then some 0 else (if nn t = nn (2 + L + 6 * nb + 1) then (bo (ld 2 σ0 0 (nn t - 1)) fun v3 => bo (M_checked N σ0 0 (nn t - 1)) fun r4 => if v3 = r4 then (bo (M_twoAt σ0 0) fun r5 => if r5 ≤ 999 then (rn2 (M_isImage_b65 N σ0) N (nn (2 + L)) 2) else (some 0)) else (some 0)) else (some 0)) := by
    unfold M_isImage
    rw [f1.leaves, bo_some, e2L, f1.beingMany, bo_some, show (6 : Int32) = nn 6 from rfl, nn_mul, nn_add, nn_succ]
    by_cases z : L = 0
    · rw [if_pos z, if_pos ((isFolioM f1).mpr z)]
    · rw [if_neg z, if_neg (fun q => z ((isFolioM f1).mp q))]
  by_cases z0 : L = 0
  · rw [if_pos z0] at hX0 hM0; exact bad hX0 hM0
  rw [if_neg z0] at hX0 hM0
  by_cases z1 : t = 2 + L + 6 * nb + 1
  · rw [if_pos (by rw [z1])] at hX0 hM0
    have et : nn t - 1 = nn (t - 1) := nn_sub (a := t) (b := 1) (by omega)
    have k8 := h1.ks 8 (by decide)
    obtain ⟨c, hc, c1, c2⟩ := check_eq hN (A := A0) (σ := σ0) (id := 8) (w := 0) (k := t - 1) (by omega) (k8.1.trans rfl) (by rw [k8.2]; show _ ≤ 1600; omega) rfl (by show _ ≤ 1600; omega) (fun j hj => by
      obtain ⟨x1, x2, x3⟩ := hT j (by omega)
      exact ⟨T j, x1, by rw [x2, sby_and _ x1], x3⟩)
    have tt1 := (hT (t - 1) (by omega)).1
    have t0X : X0_twoAt A0 0 = some (nn (tw2 T 0)) := hT.x2 (k := 0) (by decide)
    have t0M : M_twoAt σ0 0 = some (nn (tw2 T 0)) := hT.m2 (k := 0) (by decide)
    have b0 := hT.b2 (k := 0) (by decide)
    rw [et, hT.x (by omega), bo_some, c1, bo_some, t0X, bo_some] at hX0
    rw [et, hT.m (by omega), bo_some, c2, bo_some, t0M, bo_some] at hM0
    by_cases z2 : T (t - 1) = c
    · rw [if_pos (by rw [z2])] at hX0 hM0
      by_cases z3 : tw2 T 0 ≤ 999
      · rw [if_neg (fun q => by rw [show (999 : Int32) = nn 999 from rfl, nn_lt (by omega) (by omega)] at q; omega)] at hX0
        rw [if_pos (by rw [show (999 : Int32) = nn 999 from rfl, nn_le (by omega) (by omega)]; exact z3)] at hM0
        obtain ⟨A11, y1, B⟩ := on73 hN h1 hT (nn (2 + L)) 1
        -- what is refused later
        have bad2 : Fl N (X0_on N A) A0 σ0 fo nb L C W n ρ u w κ 0 m o → M_isImage N σ0 (nn t) = some 0 → ∃ r A' σ' n' ρ' u', X0_on N A = some (r, A') ∧ M_on N σ = some (r, σ') ∧ IV A' σ' fo nb L C W n' ρ' u' w κ 0 m o ∧ A'.1 = A.1 := by
          rintro ⟨A', σ', x1, x2, x3, x4⟩ hM
          refine ⟨0, A', σ', n, ρ, u, x1, ?_, x3, x4.trans c10⟩
          unfold M_on
          rw [lt2_eq, ← hσ0, h.tp.m, hM, bo_some, if_pos rfl, x2]
        rcases on_gl hN h1 hT (nn (2 + L)) L 0 N N A11 (by omega) (by omega) (by omega) B (fun i hi => by omega) with ⟨g1, g2⟩ | ⟨A12, g1, g2, B2, g3⟩
        · exact bad2 (by rw [hX0, y1]; exact g1) (by rw [hM0]; exact g2)
        · have g1' : rn4 (X0_on_b104 N) N A11 (nn (2 + L)) 1 0 = _ := g1
          have g2' : rn2 (M_isImage_b65 N σ0) N (nn (2 + L)) 2 = _ := g2
          rcases on_be hN h1 hT nb 0 N N A12 (by omega) (by omega) (by omega) B2 (fun i hi => by omega) with ⟨e1, e2⟩ | ⟨A13, e1, e2, B3, e3⟩
          · exact bad2 (by rw [hX0, y1, g1']; exact e1) (by rw [hM0, g2']; exact e2)
          · -- it is put on
            have e1' : rn4 (X0_on_b175 N) N A12 (nn (2 + L)) 1 0 = _ := e1
            have e2' : rn2 (M_isImage_b97 N σ0) N (nn (2 + L)) 0 = some 1 := e2
            have hA := B3.iv h1
            obtain ⟨ρ', kt⟩ := B3.kt
            have cs : Cm (fun k => k = 56) σ0 (mUI σ0 56 0 (nn (tw2 T 0))) := Cm.u56
            obtain ⟨σ2, s1, s2, s3, s4⟩ := on43 (N := N) (T := T) bL f1.leaves (fun k hk => (hT k hk).2.2) L 0 N (mUI σ0 56 0 (nn (tw2 T 0))) (by omega) (by omega) cs
            obtain ⟨σ3, r1, r2, r3, r4⟩ := on75 (N := N) bL bn f1.leaves f1.beingMany hT nb 0 N σ2 (by omega) (by omega) (cs.trans s2)
            have m3 : Cm (fun k => k = 56) σ0 (mUI σ3 56 39 0) := ((cs.trans s2).trans r2).trans Cm.u56
            have v56 : ∀ j, j ≠ 39 → (mUI σ3 56 39 0).1 56 j = σ3.1 56 j := fun j hj => by rw [mI_UI, if_neg (by omega)]
            have v0 : (mUI σ3 56 39 0).1 56 0 = nn (tw2 T 0) := by
              rw [v56 0 (by omega), r4 0 (Or.inl (by omega)), s4 0 (fun i _ _ => by omega), mI_UI, if_pos ⟨rfl, rfl⟩]
            have sr := on_sr (f := (mUI σ3 56 39 0).1 56) h1 hT B3 z3 g3 e3 v0 (fun i hi => by
              rw [v56 _ (by omega), r4 _ (Or.inl (by omega))]; exact s3 i (by omega) hi) (fun i h1 h2 => by
              rw [v56 _ (by omega), r4 _ (Or.inl (by omega)), s4 _ (fun i' _ h' => by omega), mI_UI, if_neg (by omega)]) (fun i hi => by
              rw [v56 _ (by omega), v56 _ (by omega), v56 _ (by omega), v56 _ (by omega)]; exact r3 i (by omega) hi)
            obtain ⟨A16, x1, x2⟩ := copy_eq hN (x := 16) (y := 64) rfl rfl (by decide) hA.ks hA.kr kt
            have h16 := hA.now (A' := A16) (σ' := mUI σ3 56 39 0) (x2.ch.mono (fun f i z => Or.inl (by omega))) (m3.mono (fun k z => by unfold Know; omega)) (x2.sr bn sr) ⟨tw2 T 0, z3, v0⟩ (x2.kr hA.kr kt) ⟨by rw [mI_UI, if_pos ⟨rfl, rfl⟩]; rfl, fun k i hk => by omega⟩ ((m3.I 0 (by omega)).trans h1.th)
            refine ⟨1, _, _, 0, ρ, 0, ?_, ?_, h16.un0, (x2.ch.1.trans B3.ch.1).trans c10⟩
            · rw [hX0, y1, g1', e1']
              unfold X0_on_b208
              rw [if_neg (by decide), x1, bd_some, bo_some, lt2_eq]
            · have s1' : rn2 (M_on_b43 N) N (mUI σ0 56 0 (nn (tw2 T 0))) 0 = _ := s1
              have r1' : rn2 (M_on_b75 N) N σ2 0 = _ := r1
              have st0 : stI 2 σ0 56 0 (nn (tw2 T 0)) = some (mUI σ0 56 0 (nn (tw2 T 0))) := stI_nn (j := 0) (by rfl) (by decide) (by decide)
              have st39 : stI 2 σ3 56 39 0 = some (mUI σ3 56 39 0) := stI_nn (j := 39) (by rfl) (by decide) (by decide)
              unfold M_on
              rw [lt2_eq, ← hσ0, h.tp.m, hM0, g2', e2', bo_some, if_neg (by decide), t0M, bo_some, st0, bo_some, s1', r1', st39, bo_some, lt2_eq]
      · rw [if_pos (by rw [show (999 : Int32) = nn 999 from rfl, nn_lt (by omega) (by omega)]; omega)] at hX0
        rw [if_neg (fun q => by rw [show (999 : Int32) = nn 999 from rfl, nn_le (by omega) (by omega)] at q; exact z3 q)] at hM0
        exact bad hX0 hM0
    · have ne : ¬ nn (T (t - 1)) = nn c := fun q => z2 ((nn_eq (by omega) (by omega)).mp q)
      rw [if_neg ne] at hX0 hM0
      exact bad hX0 hM0
  · have ne : ¬ nn t = nn (2 + L + 6 * nb + 1) := fun q => z1 ((nn_eq (by omega) (by omega)).mp q)
    rw [if_neg ne] at hX0 hM0
    exact bad hX0 hM0
end ON2
