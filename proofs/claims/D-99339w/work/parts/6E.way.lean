/-! PURE LEVEL: ways -/
set_option maxRecDepth 100000
def wId (I : Nat) : Prop := I = 112 ∨ I = 119
theorem way_k : ∀ l, l < 6 → (stK (112 + 1 + l) = 35 ∧ stLn (112 + 1 + l) = 8) ∧ stK (119 + 1 + l) = 35 ∧ stLn (119 + 1 + l) = 8 := by decide
theorem KS.wrow {A : AH} (h : KS A) {I l : Nat} (hI : wId I) (hl : l < 6) : aK A (I + 1 + l) = 35 ∧ aL A (I + 1 + l) = 8 := by
  have w := way_k l hl
  rcases hI with rfl | rfl
  · have h1 := h (112 + 1 + l) (by omega)
    exact ⟨h1.1.trans w.1.1, h1.2.trans w.1.2⟩
  · have h1 := h (119 + 1 + l) (by omega)
    exact ⟨h1.1.trans w.2.1, h1.2.trans w.2.2⟩
theorem KS.wid {A : AH} (h : KS A) {I : Nat} (hI : wId I) : aK A I = 37 ∧ aL A I = 6 := by
  rcases hI with rfl | rfl
  · exact h 112 (by decide)
  · exact h 119 (by decide)
def Pwy (f i : Nat) : Prop := i = 12 ∨ (f = 35 ∧ 113 ≤ i ∧ i ≤ 125) ∨ (f = 111 ∧ i = 0) ∨ (f = 112 ∧ i = 0)
def Kwy (k : Nat) : Prop := k = 55 ∨ k = 58 ∨ k = 64 ∨ k = 100 ∨ k = 101
/-- rows of I are written -/
def Prw (I f i : Nat) : Prop := f = 35 ∧ I + 1 ≤ i ∧ i ≤ I + 6
/-- one side of the reference's places is written -/
def Sd (s : Nat) (σ σ' : mSt) : Prop := ∀ j, ¬ (48 * s ≤ j ∧ j < 48 * s + 48) → σ'.1 64 j = σ.1 64 j
theorem Sd.refl (s : Nat) (σ : mSt) : Sd s σ σ := fun _ _ => rfl
theorem Sd.trans {s : Nat} {σ σ1 σ2 : mSt} (h : Sd s σ σ1) (g : Sd s σ1 σ2) : Sd s σ σ2 := fun j hj => (g j hj).trans (h j hj)
/-- a place: marked or not, on both sides; marked ones are cells without gloss -/
def WE (A : AH) (σ : mSt) (L C : Nat) (g : Nat → Int32) (I s : Nat) : Prop := ∀ l c, l < 6 → c < 8 → ∃ v : Int32, (v = 0 ∨ v = 1 ∧ l < L ∧ c < C ∧ ¬ bitOf (g (1 + l)) (nn c)) ∧ aI A 35 (I + 1 + l) c = v ∧ σ.1 64 (48 * s + 8 * l + c) = v
theorem WE.keep {A A' : AH} {σ σ' : mSt} {L C : Nat} {g : Nat → Int32} {I s : Nat} (h : WE A σ L C g I s) (e1 : ∀ l c, l < 6 → c < 8 → aI A' 35 (I + 1 + l) c = aI A 35 (I + 1 + l) c) (e2 : ∀ l c, l < 6 → c < 8 → σ'.1 64 (48 * s + 8 * l + c) = σ.1 64 (48 * s + 8 * l + c)) : WE A' σ' L C g I s := by
  intro l c hl hc
  obtain ⟨v, h1, h2, h3⟩ := h l c hl hc
  exact ⟨v, h1, (e1 l c hl hc).trans h2, (e2 l c hl hc).trans h3⟩
theorem WE.mark {A : AH} {σ : mSt} {L C : Nat} {g : Nat → Int32} {I s : Nat} (h : WE A σ L C g I s) (bL : L ≤ 6) (bC : C ≤ 8) {l c : Nat} (hl : l < L) (hc : c < C) (hg : ¬ bitOf (g (1 + l)) (nn c)) : WE (wI A 35 (I + 1 + l) c 1) (mUI σ 64 (48 * s + 8 * l + c) 1) L C g I s := by
  intro l' c' hl' hc'
  by_cases z : l' = l ∧ c' = c
  · refine ⟨1, Or.inr ⟨rfl, by omega, by omega, by rw [z.1, z.2]; exact hg⟩, ?_, ?_⟩
    · rw [aI_wI, if_pos (by omega)]
    · rw [mI_UI, if_pos (by omega)]
  · obtain ⟨v, h1, h2, h3⟩ := h l' c' hl' hc'
    refine ⟨v, h1, ?_, ?_⟩
    · rw [aI_wI, if_neg (by omega)]; exact h2
    · rw [mI_UI, if_neg (by omega)]; exact h3
section WAY
variable {A0 A : AH} {σ0 σ : mSt} {fo nb L C W n : Nat} {ρ : Nat → Nat} {u w : Nat} {κ : Nat → Nat} {t m o : Nat}
theorem wy_fr (h : IV A0 σ0 fo nb L C W n ρ u w κ t m o) (c : Ch Pwy A0 A) (mm : Cm Kwy σ0 σ) : FR A σ fo nb L C W ∧ SR A 16 (σ0.1 56) nb L C ∧ KS A ∧ (∀ j, σ.1 56 j = σ0.1 56 j) :=
  ⟨h.fr.same (c.sameOn (fun f i hi z => by unfold dyn at hi; unfold Pwy at z; omega)) (c.R 0 (by unfold Pwy; omega)) (mm.sameM (fun k hk z => by unfold Kfo at hk; unfold Kwy at z; omega)), h.st.ch c (fun g i hg h1 h2 => by unfold Pwy; omega) (fun _ _ => rfl) h.fr.bn, h.ks.ch c, fun j => mm.I j (by unfold Kwy; omega)⟩
theorem Prw.wy {I : Nat} (hI : wId I) {A A' : AH} (c : Ch (Prw I) A A') : Ch Pwy A A' := c.mono (fun f i z => by unfold Prw at z; unfold wId at hI; unfold Pwy; omega)
/-- a place is reached, if it can be -/
theorem comes_eq (h : IV A0 σ0 fo nb L C W n ρ u w κ t m o) (cA : Ch Pwy A0 A) (mm : Cm Kwy σ0 σ) {I s : Nat} (hI : wId I) (hs : s < 2) (rx : aR A 112 0 0 = some I) (rr : ∀ l, l < 6 → aR A 37 I l = some (I + 1 + l)) (E : WE A σ L C (σ0.1 56) I s) (x y : Int32) : ∃ A' σ', X0_comes A x y = some ((), A') ∧ M_comes σ (nn s) x y = some ((), σ') ∧ WE A' σ' L C (σ0.1 56) I s ∧ Ch (Prw I) A A' ∧ Cm (fun k => k = 64) σ σ' ∧ Sd s σ σ' := by
  obtain ⟨fr, st, ks, e56⟩ := wy_fr h cA mm
  have bL := fr.bL
  have bC := fr.bC
  obtain ⟨p, _, hp, q1, q2⟩ := isCell_eq fr x y
  unfold X0_comes M_comes
  rw [q1, q2, bo_some, bo_some, bt0, bt0]
  by_cases c : p
  · obtain ⟨l, k, hl, hk, rfl, rfl⟩ := hp.mp c
    have e17 : aI A 31 17 l = σ0.1 56 (1 + l) := st.gl l (by omega)
    have gx : sI 6 31 A 17 (nn l) = some (σ0.1 56 (1 + l)) := by rw [sI_nn (by omega) (by decide), e17]
    have gm : ld 2 σ 56 (1 + nn l) = some (σ0.1 56 (1 + l)) := by
      rw [show (1 + nn l : Int32) = nn (1 + l) from nn_add 1 l, ld_nn (by rfl) (by show 1 + l < 160; omega) (by omega), e56]
    unfold M_hasGloss X0_has
    rw [if_pos c, if_pos c, gx, bo_some, gm, bo_some]
    by_cases z : ((σ0.1 56 (1 + l) >>> (nn k &&& 31)) &&& 1) = 1
    · rw [if_pos z, bo_some, bo_some, if_neg (by decide), if_neg (by decide)]
      exact ⟨A, σ, rfl, rfl, E, Ch.refl A, Cm.refl σ, Sd.refl s σ⟩
    · obtain ⟨k1, k2⟩ := ks.wrow hI (l := l) (by omega)
      obtain ⟨k3, k4⟩ := ks.wid hI
      rw [if_neg z, bo_some, bo_some, if_pos rfl, if_pos rfl, rx, bo_some, dR_nn k3 (by omega) (by omega), rr l (by omega), bo_some, uI_nn k1 (by omega) (by omega), bo_some, show (((48 * nn s) + (8 * nn l)) + nn k : Int32) = nn (48 * s + 8 * l + k) from by rw [show (48 : Int32) = nn 48 from rfl, nn_mul, show (8 : Int32) = nn 8 from rfl, nn_mul, nn_add, nn_add], stI_nn (by rfl) (by show 48 * s + 8 * l + k < 96; omega) (by omega), bo_some]
      refine ⟨_, _, rfl, rfl, E.mark bL bC hl hk z, Ch.wI ⟨rfl, by omega, by omega⟩, by apply Cm.UI; rfl, fun j hj => ?_⟩
      rw [mI_UI, if_neg (by omega)]
  · rw [if_neg c, if_neg c]
    exact ⟨A, σ, rfl, rfl, E, Ch.refl A, Cm.refl σ, Sd.refl s σ⟩
/-- what stands while places are reached -/
def WS (A0 : AH) (σ0 : mSt) (A : AH) (σ : mSt) (L C I s : Nat) : Prop :=
  (Ch Pwy A0 A) ∧
  (Cm Kwy σ0 σ) ∧
  (wId I) ∧
  (aR A 112 0 0 = some I) ∧
  (∀ l, l < 6 → aR A 37 I l = some (I + 1 + l)) ∧
  (WE A σ L C (σ0.1 56) I s)
theorem WS.ch {A0 : AH} {σ0 : mSt} {A : AH} {σ : mSt} {L C I s : Nat} (h : WS A0 σ0 A σ L C I s) : Ch Pwy A0 A := h.1
theorem WS.cm {A0 : AH} {σ0 : mSt} {A : AH} {σ : mSt} {L C I s : Nat} (h : WS A0 σ0 A σ L C I s) : Cm Kwy σ0 σ := h.2.1
theorem WS.id {A0 : AH} {σ0 : mSt} {A : AH} {σ : mSt} {L C I s : Nat} (h : WS A0 σ0 A σ L C I s) : wId I := h.2.2.1
theorem WS.rx {A0 : AH} {σ0 : mSt} {A : AH} {σ : mSt} {L C I s : Nat} (h : WS A0 σ0 A σ L C I s) : aR A 112 0 0 = some I := h.2.2.2.1
theorem WS.rr {A0 : AH} {σ0 : mSt} {A : AH} {σ : mSt} {L C I s : Nat} (h : WS A0 σ0 A σ L C I s) : ∀ l, l < 6 → aR A 37 I l = some (I + 1 + l) := h.2.2.2.2.1
theorem WS.we {A0 : AH} {σ0 : mSt} {A : AH} {σ : mSt} {L C I s : Nat} (h : WS A0 σ0 A σ L C I s) : WE A σ L C (σ0.1 56) I s := h.2.2.2.2.2
theorem WS.mk {A0 : AH} {σ0 : mSt} {A : AH} {σ : mSt} {L C I s : Nat} (h_ch : Ch Pwy A0 A) (h_cm : Cm Kwy σ0 σ) (h_id : wId I) (h_rx : aR A 112 0 0 = some I) (h_rr : ∀ l, l < 6 → aR A 37 I l = some (I + 1 + l)) (h_we : WE A σ L C (σ0.1 56) I s) : WS A0 σ0 A σ L C I s := ⟨h_ch, h_cm, h_id, h_rx, h_rr, h_we⟩
theorem WS.comes (h : IV A0 σ0 fo nb L C W n ρ u w κ t m o) {I s : Nat} (hs : s < 2) (S : WS A0 σ0 A σ L C I s) (x y : Int32) : ∃ A' σ', X0_comes A x y = some ((), A') ∧ M_comes σ (nn s) x y = some ((), σ') ∧ WS A0 σ0 A' σ' L C I s ∧ Ch (Prw I) A A' ∧ Cm (fun k => k = 64) σ σ' ∧ Sd s σ σ' := by
  obtain ⟨A', σ', p1, p2, p3, p4, p5, p6⟩ := comes_eq h S.ch S.cm S.id hs S.rx S.rr S.we x y
  exact ⟨A', σ', p1, p2, WS.mk (S.ch.trans (Prw.wy S.id p4)) (S.cm.trans (p5.mono (fun k z => by unfold Kwy; omega))) S.id ((p4.R 0 (by unfold Prw; omega)).trans S.rx) (fun l hl => (p4.R l (by unfold Prw; omega)).trans (S.rr l hl)) p3, p4, p5, p6⟩
/-- worms -/
theorem worm_loop {N : Nat} (h : IV A0 σ0 fo nb L C W n ρ u w κ t m o) {I s l c op fr_ : Nat} (hs : s < 2) (k : Nat) : ∀ (j v q1 q2 : Nat) (A : AH) (σ : mSt), v + j = W → j < q1 → j < q2 → WS A0 σ0 A σ L C I s → ∃ A' σ', rn2 (X0_goesOn_b69 N (nn l) (nn c) (nn op)) q1 A (nn v) = some ((), A') ∧ (∀ k39, rn8 (M_goesOn_b180 N k39) q2 σ (nn fr_) (nn s) (nn op) (nn k) (nn l) (nn c) (nn v) = k39 σ' (nn fr_) (nn s) (nn op) (nn (k + 1))) ∧ WS A0 σ0 A' σ' L C I s ∧ Ch (Prw I) A A' ∧ Cm (fun k => k = 64) σ σ' ∧ Sd s σ σ' := by
  have bW := h.fr.bW
  intro j
  induction j with
  | zero =>
    intro v q1 q2 A σ hv h1 h2 S
    obtain ⟨q1, rfl⟩ : ∃ z, q1 = z + 1 := ⟨q1 - 1, by omega⟩
    obtain ⟨q2, rfl⟩ : ∃ z, q2 = z + 1 := ⟨q2 - 1, by omega⟩
    obtain ⟨fr, _⟩ := wy_fr h S.ch S.cm
    refine ⟨A, σ, ?_, fun k39 => ?_, S, Ch.refl A, Cm.refl σ, Sd.refl s σ⟩
    · show X0_goesOn_b69 N (nn l) (nn c) (nn op) _ A (nn v) = _
      unfold X0_goesOn_b69
      rw [fr.fo, bo_some, gI_k fr.fk, bo_some, fr.wm, if_pos ((nn_le (by omega) (by omega)).mpr (by omega))]
    · show M_goesOn_b180 N k39 _ σ (nn fr_) (nn s) (nn op) (nn k) (nn l) (nn c) (nn v) = _
      unfold M_goesOn_b180 M_goesOn_b289
      rw [show (4 : Int32) = nn 4 from rfl, ld_nn (by rfl) (by decide) (by decide), bo_some, fr.wmm, if_pos ((nn_le (by omega) (by omega)).mpr (by omega)), nn_succ]
  | succ j ih =>
    intro v q1 q2 A σ hv h1 h2 S
    obtain ⟨q1, rfl⟩ : ∃ z, q1 = z + 1 := ⟨q1 - 1, by omega⟩
    obtain ⟨q2, rfl⟩ : ∃ z, q2 = z + 1 := ⟨q2 - 1, by omega⟩
    -- the three numbers of a worm, anywhere on the way
    have rd : ∀ (B : AH) (τ : mSt), WS A0 σ0 B τ L C I s → (∀ {β : Type} (g : Int32 → Option β), (bo (aR B 100 0 0) fun q => bo (gN 2 B 209 q) fun q2 => bo (dI_ 31 B q2 (nn v)) g) = g (σ0.1 44 (38 + 3 * v))) ∧ (∀ {β : Type} (g : Int32 → Option β), (bo (aR B 100 0 0) fun q => bo (gN 2 B 207 q) fun q2 => bo (dI_ 31 B q2 (nn v)) g) = g (σ0.1 44 (36 + 3 * v))) ∧ (∀ {β : Type} (g : Int32 → Option β), (bo (aR B 100 0 0) fun q => bo (gN 2 B 208 q) fun q2 => bo (dI_ 31 B q2 (nn v)) g) = g (σ0.1 44 (37 + 3 * v))) ∧ ld 2 τ 44 (38 + (3 * nn v)) = some (σ0.1 44 (38 + 3 * v)) ∧ ld 2 τ 44 (36 + (3 * nn v)) = some (σ0.1 44 (36 + 3 * v)) ∧ ld 2 τ 44 (37 + (3 * nn v)) = some (σ0.1 44 (37 + 3 * v)) := by
      intro B τ SB
      obtain ⟨fr, _⟩ := wy_fr h SB.ch SB.cm
      obtain ⟨a1, f1, f2, f3, f4, f5⟩ := fr.wf
      obtain ⟨a2, t1, t2, t3, t4, t5⟩ := fr.wt
      obtain ⟨a3, c1, c2, c3, c4, c5⟩ := fr.wc
      have e44 : ∀ j, τ.1 44 j = σ0.1 44 j := fun j => SB.cm.I j (by unfold Kwy; omega)
      have ix : ∀ b, b ≤ 38 → ld 2 τ 44 (nn b + (3 * nn v)) = some (σ0.1 44 (b + 3 * v)) := by
        intro b hb
        rw [show (3 : Int32) = nn 3 from rfl, nn_mul, nn_add, ld_nn (by rfl) (by show b + 3 * v < 72; omega) (by omega), e44]
      refine ⟨fun g => ?_, fun g => ?_, fun g => ?_, ix 38 (by omega), ix 36 (by omega), ix 37 (by omega)⟩
      · rw [fr.fo, bo_some, gN_k fr.fk, c1, bo_some, dI_nn c3 (by omega) (by omega), bo_some, c5 v (by omega), e44]
      · rw [fr.fo, bo_some, gN_k fr.fk, f1, bo_some, dI_nn f3 (by omega) (by omega), bo_some, f5 v (by omega), e44]
      · rw [fr.fo, bo_some, gN_k fr.fk, t1, bo_some, dI_nn t3 (by omega) (by omega), bo_some, t5 v (by omega), e44]
    obtain ⟨fr, _⟩ := wy_fr h S.ch S.cm
    obtain ⟨x9, x7, x8, m9, m7, m8⟩ := rd A σ S
    -- first one way
    have one : ∃ A1 σ1, (∀ k69, (if σ0.1 44 (36 + 3 * v) = nn l then (bd (X0_comes A (σ0.1 44 (37 + 3 * v)) (nn c)) fun _ A24 => X0_goesOn_b127 N (nn l) (nn c) (nn op) k69 A24 (nn v)) else X0_goesOn_b127 N (nn l) (nn c) (nn op) k69 A (nn v)) = X0_goesOn_b127 N (nn l) (nn c) (nn op) k69 A1 (nn v)) ∧ (∀ k39 k180, (if σ0.1 44 (36 + 3 * v) = nn l then (bd (M_comes σ (nn s) (σ0.1 44 (37 + 3 * v)) (nn c)) fun _ σ16 => M_goesOn_b247 N k39 k180 σ16 (nn fr_) (nn s) (nn op) (nn k) (nn l) (nn c) (nn v)) else M_goesOn_b247 N k39 k180 σ (nn fr_) (nn s) (nn op) (nn k) (nn l) (nn c) (nn v)) = M_goesOn_b247 N k39 k180 σ1 (nn fr_) (nn s) (nn op) (nn k) (nn l) (nn c) (nn v)) ∧ WS A0 σ0 A1 σ1 L C I s ∧ Ch (Prw I) A A1 ∧ Cm (fun k => k = 64) σ σ1 ∧ Sd s σ σ1 := by
      by_cases z : σ0.1 44 (36 + 3 * v) = nn l
      · obtain ⟨A1, σ1, p1, p2, p3, p4, p5, p6⟩ := S.comes h hs (σ0.1 44 (37 + 3 * v)) (nn c)
        refine ⟨A1, σ1, fun k69 => ?_, fun k39 k180 => ?_, p3, p4, p5, p6⟩
        · rw [if_pos z, p1, bd_some]
        · rw [if_pos z, p2, bd_some]
      · refine ⟨A, σ, fun k69 => ?_, fun k39 k180 => ?_, S, Ch.refl A, Cm.refl σ, Sd.refl s σ⟩
        · rw [if_neg z]
        · rw [if_neg z]
    obtain ⟨A1, σ1, a1, a2, S1, a4, a5, a6⟩ := one
    obtain ⟨_, y7, y8, _, n7, n8⟩ := rd A1 σ1 S1
    have two_ : ∃ A2 σ2, (∀ k69, X0_goesOn_b127 N (nn l) (nn c) (nn op) k69 A1 (nn v) = k69 A2 (nn (v + 1))) ∧ (∀ k39 k180, M_goesOn_b247 N k39 k180 σ1 (nn fr_) (nn s) (nn op) (nn k) (nn l) (nn c) (nn v) = k180 σ2 (nn fr_) (nn s) (nn op) (nn k) (nn l) (nn c) (nn (v + 1))) ∧ WS A0 σ0 A2 σ2 L C I s ∧ Ch (Prw I) A1 A2 ∧ Cm (fun k => k = 64) σ1 σ2 ∧ Sd s σ1 σ2 := by
      by_cases z : σ0.1 44 (37 + 3 * v) = nn l
      · obtain ⟨A2, σ2, p1, p2, p3, p4, p5, p6⟩ := S1.comes h hs (σ0.1 44 (36 + 3 * v)) (nn c)
        refine ⟨A2, σ2, fun k69 => ?_, fun k39 k180 => ?_, p3, p4, p5, p6⟩
        · unfold X0_goesOn_b127 X0_goesOn_b156
          rw [y8, if_pos z, y7, p1, bd_some, nn_succ]
        · unfold M_goesOn_b247 M_goesOn_b283
          rw [n8, bo_some, if_pos z, n7, bo_some, p2, bd_some, nn_succ]
      · refine ⟨A1, σ1, fun k69 => ?_, fun k39 k180 => ?_, S1, Ch.refl A1, Cm.refl σ1, Sd.refl s σ1⟩
        · unfold X0_goesOn_b127 X0_goesOn_b156
          rw [y8, if_neg z, nn_succ]
        · unfold M_goesOn_b247 M_goesOn_b283
          rw [n8, bo_some, if_neg z, nn_succ]
    obtain ⟨A2, σ2, b1, b2, S2, b4, b5, b6⟩ := two_
    have pass : ∃ A3 σ3, (∀ k69, X0_goesOn_b69 N (nn l) (nn c) (nn op) k69 A (nn v) = k69 A3 (nn (v + 1))) ∧ (∀ k39 k180, M_goesOn_b180 N k39 k180 σ (nn fr_) (nn s) (nn op) (nn k) (nn l) (nn c) (nn v) = k180 σ3 (nn fr_) (nn s) (nn op) (nn k) (nn l) (nn c) (nn (v + 1))) ∧ WS A0 σ0 A3 σ3 L C I s ∧ Ch (Prw I) A A3 ∧ Cm (fun k => k = 64) σ σ3 ∧ Sd s σ σ3 := by
      have hX : ∀ k69, X0_goesOn_b69 N (nn l) (nn c) (nn op) k69 A (nn v) = if σ0.1 44 (38 + 3 * v) = nn c then (if σ0.1 44 (36 + 3 * v) = nn l then (bd (X0_comes A (σ0.1 44 (37 + 3 * v)) (nn c)) fun _ A24 => X0_goesOn_b127 N (nn l) (nn c) (nn op) k69 A24 (nn v)) else X0_goesOn_b127 N (nn l) (nn c) (nn op) k69 A (nn v)) else X0_goesOn_b156 N (nn l) (nn c) (nn op) k69 A (nn v) := by
        intro k69
        unfold X0_goesOn_b69
        rw [fr.fo, bo_some, gI_k fr.fk, bo_some, fr.wm, if_neg (fun z => by have := (nn_le (by omega) (by omega)).mp z; omega), ← fr.fo, x9, x7, x8]
      have hM : ∀ k39 k180, M_goesOn_b180 N k39 k180 σ (nn fr_) (nn s) (nn op) (nn k) (nn l) (nn c) (nn v) = if σ0.1 44 (38 + 3 * v) = nn c then (if σ0.1 44 (36 + 3 * v) = nn l then (bd (M_comes σ (nn s) (σ0.1 44 (37 + 3 * v)) (nn c)) fun _ σ16 => M_goesOn_b247 N k39 k180 σ16 (nn fr_) (nn s) (nn op) (nn k) (nn l) (nn c) (nn v)) else M_goesOn_b247 N k39 k180 σ (nn fr_) (nn s) (nn op) (nn k) (nn l) (nn c) (nn v)) else M_goesOn_b283 N k39 k180 σ (nn fr_) (nn s) (nn op) (nn k) (nn l) (nn c) (nn v) := by
        intro k39 k180
        unfold M_goesOn_b180
        rw [show ld 2 σ 41 4 = some (nn W) from by rw [show (4 : Int32) = nn 4 from rfl, ld_nn (by rfl) (by decide) (by decide), fr.wmm], bo_some, if_neg (fun z => by have := (nn_le (by omega) (by omega)).mp z; omega), m9, bo_some, m7, bo_some, m8, bo_some]
      by_cases z : σ0.1 44 (38 + 3 * v) = nn c
      · refine ⟨A2, σ2, fun k69 => ?_, fun k39 k180 => ?_, S2, a4.trans b4, a5.trans b5, a6.trans b6⟩
        · rw [hX, if_pos z, a1, b1]
        · rw [hM, if_pos z, a2, b2]
      · refine ⟨A, σ, fun k69 => ?_, fun k39 k180 => ?_, S, Ch.refl A, Cm.refl σ, Sd.refl s σ⟩
        · rw [hX, if_neg z]; unfold X0_goesOn_b156; rw [nn_succ]
        · rw [hM, if_neg z]; unfold M_goesOn_b283; rw [nn_succ]
    obtain ⟨A3, σ3, c1, c2, S3, c4, c5, c6⟩ := pass
    obtain ⟨A', σ', i1, i2, i3, i4, i5, i6⟩ := ih (v + 1) q1 q2 A3 σ3 (by omega) (by omega) (by omega) S3
    refine ⟨A', σ', ?_, fun k39 => ?_, i3, c4.trans i4, c5.trans i5, c6.trans i6⟩
    · rw [← i1]
      show X0_goesOn_b69 N (nn l) (nn c) (nn op) (rn2 (X0_goesOn_b69 N (nn l) (nn c) (nn op)) q1) A (nn v) = _
      rw [c1]
    · rw [← i2 k39]
      show M_goesOn_b180 N k39 (rn8 (M_goesOn_b180 N k39) q2) σ (nn fr_) (nn s) (nn op) (nn k) (nn l) (nn c) (nn v) = _
      rw [c2]
/-- all places that are reached from one -/
theorem goes_eq {N : Nat} (hN : 5000 ≤ N) (h : IV A0 σ0 fo nb L C W n ρ u w κ t m o) {I s l c op fr_ : Nat} (hs : s < 2) (hl : l < L) (hc : c < C) (hop : op < 100) (hg : ¬ bitOf (σ0.1 56 (1 + l)) (nn c)) (hfr : fr_ < 2) (S : WS A0 σ0 A σ L C I s) (hm : σ.1 64 (48 * fr_ + (8 * l + c)) = 1) : ∃ A' σ', X0_goesOn N A (nn l) (nn c) (nn op) = some ((), A') ∧ (∀ k39, M_goesOn_b39 N k39 σ (nn fr_) (nn s) (nn op) (nn (8 * l + c)) = k39 σ' (nn fr_) (nn s) (nn op) (nn (8 * l + c + 1))) ∧ WS A0 σ0 A' σ' L C I s ∧ Ch (Prw I) A A' ∧ Cm (fun k => k = 64) σ σ' ∧ Sd s σ σ' := by
  have bL := h.fr.bL
  have bC := h.fr.bC
  obtain ⟨fr, st, ks, e56⟩ := wy_fr h S.ch S.cm
  -- it stays
  have stay : ∃ A1 σ1, X0_comes A (nn l) (nn c) = some ((), A1) ∧ stI 5 σ 64 ((48 * nn s) + nn (8 * l + c)) 1 = some σ1 ∧ WS A0 σ0 A1 σ1 L C I s ∧ Ch (Prw I) A A1 ∧ Cm (fun k => k = 64) σ σ1 ∧ Sd s σ σ1 := by
    obtain ⟨A1, σ1, p1, p2, p3, p4, p5, p6⟩ := S.comes h hs (nn l) (nn c)
    refine ⟨A1, σ1, p1, ?_, p3, p4, p5, p6⟩
    obtain ⟨p, _, hp, _, q2⟩ := isCell_eq fr (nn l) (nn c)
    have gm : ld 2 σ 56 (1 + nn l) = some (σ0.1 56 (1 + l)) := by
      rw [show (1 + nn l : Int32) = nn (1 + l) from nn_add 1 l, ld_nn (by rfl) (by show 1 + l < 160; omega) (by omega), e56]
    have z : ¬ ((σ0.1 56 (1 + l) >>> (nn c &&& 31)) &&& 1) = 1 := hg
    have ix : (((48 * nn s) + (8 * nn l)) + nn c : Int32) = (48 * nn s) + nn (8 * l + c) := by
      rw [show (8 : Int32) = nn 8 from rfl, nn_mul, Int32.add_assoc, nn_add]
    unfold M_comes M_hasGloss at p2
    rw [q2, bo_some, bt0, if_pos (hp.mpr ⟨l, c, hl, hc, rfl, rfl⟩), gm, bo_some, if_neg z, bo_some, if_pos rfl, ix] at p2
    cases hst : stI 5 σ 64 ((48 * nn s) + nn (8 * l + c)) 1 with
    | none => rw [hst] at p2; cases p2
    | some τ => rw [hst, bo_some] at p2; cases p2; rfl
  obtain ⟨A1, σ1, a1, a2, S1, a4, a5, a6⟩ := stay
  obtain ⟨A2, σ2, b1, b2, S2, b4, b5, b6⟩ := S1.comes h hs (nn l) (nn c - 1)
  obtain ⟨A3, σ3, c1, c2, S3, c4, c5, c6⟩ := S2.comes h hs (nn l) (nn c + 1)
  obtain ⟨fr3, _⟩ := wy_fr h S3.ch S3.cm
  have l3 := fr3.lies (l := l) (o := op) (by omega) hop
  -- over
  have over : ∃ A4 σ4, (bo (X0_liesOn A3 (nn l) (nn op)) fun r4 => if r4 = 0 then (X0_goesOn_b43 N (nn l) (nn c) (nn op) A3) else (bo (X0_mirrored A3 (nn c)) fun r27 => bd (X0_comes A3 (nn l + 1) r27) fun _ A28 => X0_goesOn_b43 N (nn l) (nn c) (nn op) A28)) = X0_goesOn_b43 N (nn l) (nn c) (nn op) A4 ∧ (∀ k39, (bo (M_liesOnNext σ3 (nn l) (nn op)) fun r7 => if r7 = 0 then (M_goesOn_b144 N k39 σ3 (nn fr_) (nn s) (nn op) (nn (8 * l + c)) (nn l) (nn c)) else (bo (ld 2 σ3 40 3) fun v19 => bd (M_comes σ3 (nn s) (nn l + 1) ((v19 - 1) - nn c)) fun _ σ20 => M_goesOn_b144 N k39 σ20 (nn fr_) (nn s) (nn op) (nn (8 * l + c)) (nn l) (nn c))) = M_goesOn_b144 N k39 σ4 (nn fr_) (nn s) (nn op) (nn (8 * l + c)) (nn l) (nn c)) ∧ WS A0 σ0 A4 σ4 L C I s ∧ Ch (Prw I) A3 A4 ∧ Cm (fun k => k = 64) σ3 σ4 ∧ Sd s σ3 σ4 := by
    by_cases z : liesP L l op
    · obtain ⟨A4, σ4, p1, p2, p3, p4, p5, p6⟩ := S3.comes h hs (nn l + 1) ((nn C - 1) - nn c)
      have mir : X0_mirrored A3 (nn c) = some ((nn C - 1) - nn c) := by unfold X0_mirrored; rw [fr3.cellsX]
      refine ⟨A4, σ4, ?_, fun k39 => ?_, p3, p4, p5, p6⟩
      · rw [l3.1, bo_some, if_pos z, if_neg (by decide), mir, bo_some, p1, bd_some]
      · rw [l3.2, bo_some, if_pos z, if_neg (by decide), fr3.cells, bo_some, p2, bd_some]
    · refine ⟨A3, σ3, ?_, fun k39 => ?_, S3, Ch.refl A3, Cm.refl σ3, Sd.refl s σ3⟩
      · rw [l3.1, bo_some, if_neg z, if_pos rfl]
      · rw [l3.2, bo_some, if_neg z, if_pos rfl]
  obtain ⟨A4, σ4, d1, d2, S4, d4, d5, d6⟩ := over
  obtain ⟨fr4, _⟩ := wy_fr h S4.ch S4.cm
  have l4 := fr4.lies1 (l := l) (o := op) (by omega) hop
  have under : ∃ A5 σ5, X0_goesOn_b43 N (nn l) (nn c) (nn op) A4 = X0_goesOn_b66 N (nn l) (nn c) (nn op) A5 ∧ (∀ k39, M_goesOn_b144 N k39 σ4 (nn fr_) (nn s) (nn op) (nn (8 * l + c)) (nn l) (nn c) = M_goesOn_b177 N k39 σ5 (nn fr_) (nn s) (nn op) (nn (8 * l + c)) (nn l) (nn c)) ∧ WS A0 σ0 A5 σ5 L C I s ∧ Ch (Prw I) A4 A5 ∧ Cm (fun k => k = 64) σ4 σ5 ∧ Sd s σ4 σ5 := by
    unfold X0_goesOn_b43 M_goesOn_b144
    by_cases z : 0 < l ∧ liesP L (l - 1) op
    · obtain ⟨A5, σ5, p1, p2, p3, p4, p5, p6⟩ := S4.comes h hs (nn l - 1) ((nn C - 1) - nn c)
      have mir : X0_mirrored A4 (nn c) = some ((nn C - 1) - nn c) := by unfold X0_mirrored; rw [fr4.cellsX]
      refine ⟨A5, σ5, ?_, fun k39 => ?_, p3, p4, p5, p6⟩
      · rw [l4.1, bo_some, if_pos z, if_neg (by decide), mir, bo_some, p1, bd_some]
      · rw [l4.2, bo_some, if_pos z, if_neg (by decide), fr4.cells, bo_some, p2, bd_some]
    · refine ⟨A4, σ4, ?_, fun k39 => ?_, S4, Ch.refl A4, Cm.refl σ4, Sd.refl s σ4⟩
      · rw [l4.1, bo_some, if_neg z, if_pos rfl]
      · rw [l4.2, bo_some, if_neg z, if_pos rfl]
  obtain ⟨A5, σ5, e1, e2, S5, e4, e5, e6⟩ := under
  have bW := h.fr.bW
  obtain ⟨A', σ', g1, g2, g3, g4, g5, g6⟩ := worm_loop (N := N) h (l := l) (c := c) (op := op) (fr_ := fr_) hs (8 * l + c) W 0 N N A5 σ5 (by omega) (by omega) (by omega) S5
  refine ⟨A', σ', ?_, fun k39 => ?_, g3, ((((a4.trans b4).trans c4).trans d4).trans e4).trans g4, ((((a5.trans b5).trans c5).trans d5).trans e5).trans g5, ((((a6.trans b6).trans c6).trans d6).trans e6).trans g6⟩
  · unfold X0_goesOn
    rw [a1, bd_some, b1, bd_some, c1, bd_some, d1, e1]
    unfold X0_goesOn_b66
    exact g1
  · have dv : (nn (8 * l + c) / 8 : Int32) = nn l := (nn_div (b := 8) (by omega) (by decide)).trans (by rw [show (8 * l + c) / 8 = l by omega])
    have rm : (nn (8 * l + c) - nn (8 * l + c) / 8 * 8 : Int32) = nn c := (nn_rem (b := 8) (by omega) (by decide)).trans (by rw [show (8 * l + c) % 8 = c by omega])
    have ml : ld 5 σ 64 ((48 * nn fr_) + nn (8 * l + c)) = some 1 := by
      rw [show (48 : Int32) = nn 48 from rfl, nn_mul, nn_add, ld_nn (by rfl) (by show 48 * fr_ + (8 * l + c) < 96; omega) (by omega), hm]
    unfold M_goesOn_b39
    rw [rm, dv, if_neg (fun z => by have := (nn_le (a := 48) (by omega) (by omega)).mp z; omega), ml, bo_some, if_neg (by decide), a2, bo_some, b2, bd_some, c2, bd_some, d2, e2]
    unfold M_goesOn_b177
    exact g2 k39
end WAY
