/-! PURE LEVEL: a state copied, its rows too -/
set_option maxRecDepth 100000
section CPY
variable {x y n : Nat} {ρ τ : Nat → Nat}
theorem copy128 {N : Nat} (hx : isStb x = true) (hy : isStb y = true) (hne : x + 48 ≤ y ∨ y + 48 ≤ x) {k : Nat} (hk : k < 40) (k118 : AH → Int32 → Option (Option Nat × AH)) : ∀ (j i m : Nat) (A : AH), i + j = 3 → j < m → KS A → (∀ k, k < 40 → aR A 36 (x + 6) k = some (ρ k) ∧ x + 7 ≤ ρ k ∧ ρ k < x + 47) → (∀ k, k < 40 → aR A 36 (y + 6) k = some (τ k) ∧ y + 7 ≤ τ k ∧ τ k < y + 47) →
    ∃ A', rn3 (X5_copy_b128 N x y k118) m A (nn k) (nn i) = k118 A' (nn (k + 1)) ∧ IO_ A A' ∧ (∀ f q b, ¬ (f = 31 ∧ q = ρ k) → aI A' f q b = aI A f q b) ∧ (∀ b, i ≤ b → b < 3 → aI A' 31 (ρ k) b = aI A 31 (τ k) b) ∧ (∀ b, b < i → aI A' 31 (ρ k) b = aI A 31 (ρ k) b) := by
  intro j
  induction j with
  | zero =>
    intro i m A hi hm ks hR hT
    obtain ⟨m, rfl⟩ : ∃ z, m = z + 1 := ⟨m - 1, by omega⟩
    have : i = 3 := by omega
    subst this
    refine ⟨A, ?_, IO_.refl A, fun _ _ _ _ => rfl, fun l h1 h2 => by omega, fun _ _ => rfl⟩
    show X5_copy_b128 N x y k118 _ A (nn k) (nn 3) = _
    unfold X5_copy_b128
    rw [if_pos (by decide), nn_succ]
  | succ j ih =>
    intro i m A hi hm ks hR hT
    obtain ⟨m, rfl⟩ : ∃ z, m = z + 1 := ⟨m - 1, by omega⟩
    obtain ⟨r1, r2, r3⟩ := hR k hk
    obtain ⟨t1, t2, t3⟩ := hT k hk
    obtain ⟨kr1, kr2⟩ := ks.row hx r2 r3
    obtain ⟨kt1, kt2⟩ := ks.row hy t2 t3
    obtain ⟨A', p1, p2, p3, p4, p5⟩ := ih (i + 1) m (wI A 31 (ρ k) i (aI A 31 (τ k) i)) (by omega) (by omega) ks hR hT
    refine ⟨A', ?_, (IO_.wI ..).trans p2, fun f q b z => ?_, fun b h1 h2 => ?_, fun b h1 => ?_⟩
    · rw [← p1]
      show X5_copy_b128 N x y k118 (rn3 (X5_copy_b128 N x y k118) m) A (nn k) (nn i) = _
      generalize rn3 (X5_copy_b128 N x y k118) m = kk
      unfold X5_copy_b128
      rw [if_neg (by rw [show (3 : Int32) = nn 3 from rfl, nn_le (by omega) (by omega)]; omega), sR_nn (by omega) (by decide), r1, bo_some, sR_nn (by omega) (by decide), t1, bo_some, dI_nn kt1 (by omega) (by omega), bo_some, uI_nn kr1 (by omega) (by omega), bo_some, nn_succ]
    · rw [p3 f q b z, aI_wI, if_neg (by omega)]
    · rcases Nat.eq_or_lt_of_le h1 with z | z
      · rw [p5 b (by omega), aI_wI, if_pos ⟨rfl, rfl, z.symm⟩, z]
      · rw [p4 b z h2, aI_wI, if_neg (by omega)]
    · rw [p5 b (by omega), aI_wI, if_neg (by omega)]
theorem copy118 {N : Nat} (hN : 5000 ≤ N) (hx : isStb x = true) (hy : isStb y = true) (hne : x + 48 ≤ y ∨ y + 48 ≤ x) (hn : n ≤ 40) (hi : ∀ j k, j < 40 → k < 40 → ρ j = ρ k → j = k) : ∀ (j k m : Nat) (A : AH), k + j = n → j < m → KS A → aI A 601 x 0 = nn n → (∀ k, k < 40 → aR A 36 (x + 6) k = some (ρ k) ∧ x + 7 ≤ ρ k ∧ ρ k < x + 47) → (∀ k, k < 40 → aR A 36 (y + 6) k = some (τ k) ∧ y + 7 ≤ τ k ∧ τ k < y + 47) →
    ∃ A', rn2 (X5_copy_b118 N x y) m A (nn k) = some (some x, A') ∧ IO_ A A' ∧ (∀ f q b, ¬ (f = 31 ∧ x + 7 ≤ q ∧ q < x + 47) → aI A' f q b = aI A f q b) ∧ (∀ c b, k ≤ c → c < n → b < 3 → aI A' 31 (ρ c) b = aI A 31 (τ c) b) ∧ (∀ c b, c < k → aI A' 31 (ρ c) b = aI A 31 (ρ c) b) := by
  intro j
  induction j with
  | zero =>
    intro k m A hk hm ks e hR hT
    obtain ⟨m, rfl⟩ : ∃ z, m = z + 1 := ⟨m - 1, by omega⟩
    refine ⟨A, ?_, IO_.refl A, fun _ _ _ _ => rfl, fun c b h1 h2 => by omega, fun _ _ _ => rfl⟩
    show X5_copy_b118 N x y _ A (nn k) = _
    unfold X5_copy_b118
    rw [e, if_pos (by rw [nn_le (by omega) (by omega)]; omega)]
  | succ j ih =>
    intro k m A hk hm ks e hR hT
    obtain ⟨m, rfl⟩ : ∃ z, m = z + 1 := ⟨m - 1, by omega⟩
    obtain ⟨A1, p1, p2, p3, p4, p5⟩ := copy128 (N := N) hx hy hne (k := k) (by omega) (rn2 (X5_copy_b118 N x y) m) 3 0 N A (by omega) (by omega) ks hR hT
    have hrk := hR k (by omega)
    have ks1 : KS A1 := fun i hi => by rw [p2.2.2.1, p2.2.2.2.1]; exact ks i hi
    obtain ⟨A', q1, q2, q3, q4, q5⟩ := ih (k + 1) m A1 (by omega) (by omega) ks1 (by rw [p3 _ _ _ (by omega)]; exact e) (by rw [p2.1]; exact hR) (by rw [p2.1]; exact hT)
    refine ⟨A', ?_, p2.trans q2, fun f q b z => ?_, fun c b h1 h2 h3 => ?_, fun c b h1 => ?_⟩
    · rw [← q1, ← p1]
      show X5_copy_b118 N x y (rn2 (X5_copy_b118 N x y) m) A (nn k) = _
      generalize rn2 (X5_copy_b118 N x y) m = kk
      unfold X5_copy_b118
      rw [e, if_neg (by rw [nn_le (by omega) (by omega)]; omega)]
      rfl
    · rw [q3 f q b z, p3 f q b (fun w => z ⟨w.1, by omega⟩)]
    · rcases Nat.eq_or_lt_of_le h1 with z | z
      · subst z
        rw [q5 k b (by omega), p4 b (by omega) h3]
      · have ht := hT c (by omega)
        rw [q4 c b z h2 h3, p3 _ _ _ (by omega)]
    · rw [q5 c b (by omega), p3 _ _ _ (fun w => by have := hi c k (by omega) (by omega) w.2; omega)]
end CPY
/-- the state y copied to x -/
def CP (A A' : AH) (x y n : Nat) (ρ τ : Nat → Nat) : Prop :=
  (IO_ A A') ∧
  (Ch (fun _ i => x ≤ i ∧ i < x + 48) A A') ∧
  (aI A' 600 x 0 = aI A 600 y 0) ∧
  (aI A' 601 x 0 = aI A 601 y 0) ∧
  (aI A' 608 x 0 = 0) ∧
  (∀ l, l < 6 → aI A' 31 (x + 1) l = aI A 31 (y + 1) l) ∧
  (∀ z b, cpQ z → b < 8 → aI A' 31 (x + z) b = cpS A y z b) ∧
  (∀ c b, c < n → b < 3 → aI A' 31 (ρ c) b = aI A 31 (τ c) b)
theorem CP.io {A A' : AH} {x y n : Nat} {ρ τ : Nat → Nat} (h : CP A A' x y n ρ τ) : IO_ A A' := h.1
theorem CP.ch {A A' : AH} {x y n : Nat} {ρ τ : Nat → Nat} (h : CP A A' x y n ρ τ) : Ch (fun _ i => x ≤ i ∧ i < x + 48) A A' := h.2.1
theorem CP.day {A A' : AH} {x y n : Nat} {ρ τ : Nat → Nat} (h : CP A A' x y n ρ τ) : aI A' 600 x 0 = aI A 600 y 0 := h.2.2.1
theorem CP.kp {A A' : AH} {x y n : Nat} {ρ τ : Nat → Nat} (h : CP A A' x y n ρ τ) : aI A' 601 x 0 = aI A 601 y 0 := h.2.2.2.1
theorem CP.pa {A A' : AH} {x y n : Nat} {ρ τ : Nat → Nat} (h : CP A A' x y n ρ τ) : aI A' 608 x 0 = 0 := h.2.2.2.2.1
theorem CP.gl {A A' : AH} {x y n : Nat} {ρ τ : Nat → Nat} (h : CP A A' x y n ρ τ) : ∀ l, l < 6 → aI A' 31 (x + 1) l = aI A 31 (y + 1) l := h.2.2.2.2.2.1
theorem CP.be {A A' : AH} {x y n : Nat} {ρ τ : Nat → Nat} (h : CP A A' x y n ρ τ) : ∀ z b, cpQ z → b < 8 → aI A' 31 (x + z) b = cpS A y z b := h.2.2.2.2.2.2.1
theorem CP.rw_ {A A' : AH} {x y n : Nat} {ρ τ : Nat → Nat} (h : CP A A' x y n ρ τ) : ∀ c b, c < n → b < 3 → aI A' 31 (ρ c) b = aI A 31 (τ c) b := h.2.2.2.2.2.2.2
theorem CP.mk {A A' : AH} {x y n : Nat} {ρ τ : Nat → Nat} (h_io : IO_ A A') (h_ch : Ch (fun _ i => x ≤ i ∧ i < x + 48) A A') (h_day : aI A' 600 x 0 = aI A 600 y 0) (h_kp : aI A' 601 x 0 = aI A 601 y 0) (h_pa : aI A' 608 x 0 = 0) (h_gl : ∀ l, l < 6 → aI A' 31 (x + 1) l = aI A 31 (y + 1) l) (h_be : ∀ z b, cpQ z → b < 8 → aI A' 31 (x + z) b = cpS A y z b) (h_rw_ : ∀ c b, c < n → b < 3 → aI A' 31 (ρ c) b = aI A 31 (τ c) b) : CP A A' x y n ρ τ := ⟨h_io, h_ch, h_day, h_kp, h_pa, h_gl, h_be, h_rw_⟩
theorem copy_eq {N : Nat} (hN : 5000 ≤ N) {A : AH} {x y n n0 : Nat} {ρ τ : Nat → Nat} (hx : isStb x = true) (hy : isStb y = true) (hxy : x ≠ y) (ks : KS A) (kx : KR A x n0 ρ) (ky : KR A y n τ) : ∃ A', X5_copy N A x y = some (some x, A') ∧ CP A A' x y n ρ τ := by
  have hne := st_disj hx hy hxy
  obtain ⟨A1, e1⟩ : ∃ B, B = wI A 600 x 0 (aI A 600 y 0) := ⟨_, rfl⟩
  obtain ⟨A2, e2⟩ : ∃ B, B = wI A1 601 x 0 (aI A1 601 y 0) := ⟨_, rfl⟩
  obtain ⟨A3, e3⟩ : ∃ B, B = wI A2 608 x 0 0 := ⟨_, rfl⟩
  have io3 : IO_ A A3 := by
    rw [e3, e2, e1]
    exact ((IO_.wI ..).trans (IO_.wI ..)).trans (IO_.wI ..)
  have i3 : ∀ f q k, ¬ (q = x ∧ (f = 600 ∨ f = 601 ∨ f = 608)) → aI A3 f q k = aI A f q k := by
    intro f q k z
    rw [e3, aI_wI, if_neg (by omega), e2, aI_wI, if_neg (by omega), e1, aI_wI, if_neg (by omega)]
  have v600 : aI A3 600 x 0 = aI A 600 y 0 := by
    rw [e3, aI_wI, if_neg (by omega), e2, aI_wI, if_neg (by omega), e1, aI_wI, if_pos ⟨rfl, rfl, rfl⟩]
  have v601 : aI A3 601 x 0 = aI A 601 y 0 := by
    rw [e3, aI_wI, if_neg (by omega), e2, aI_wI, if_pos ⟨rfl, rfl, rfl⟩, e1, aI_wI, if_neg (by omega)]
  have v608 : aI A3 608 x 0 = 0 := by
    rw [e3, aI_wI, if_pos ⟨rfl, rfl, rfl⟩]
  obtain ⟨A4, p1, p2, p3, p4, p5⟩ := copy23 (N := N) hne 6 0 N A3 (by omega) (by omega)
  obtain ⟨A5, q1, q2, q3, q4, q5⟩ := copy49 (N := N) hne 8 0 N A4 (by omega) (by omega)
  have io5 := (io3.trans p2).trans q2
  have ks5 : KS A5 := fun i hi => by rw [io5.2.2.1, io5.2.2.2.1]; exact ks i hi
  have nq : ∀ f q, ¬ (f = 31 ∧ (q = x + 2 ∨ q = x + 3 ∨ q = x + 4 ∨ q = x + 5 ∨ q = x + 47)) → ¬ (f = 31 ∧ ∃ z, cpQ z ∧ q = x + z) := by
    intro f q h r
    obtain ⟨r1, z, hz, r2⟩ := r
    unfold cpQ at hz
    omega
  obtain ⟨A6, r1, r2, r3, r4, r5⟩ := copy118 (N := N) (x := x) (y := y) (n := n) (ρ := ρ) (τ := τ) hN hx hy hne ky.kb kx.ri n 0 N A5 (by omega) (by have := ky.kb; omega) ks5 (by rw [q3 _ _ _ (nq _ _ (by omega)), p3 _ _ _ (by omega), v601]; exact ky.kn) (by rw [io5.1]; exact kx.rr) (by rw [io5.1]; exact ky.rr)
  have io6 := io5.trans r2
  refine ⟨A6, ?_, CP.mk io6 ⟨io6.2.2.2.2, io6.2.2.1, io6.2.2.2.1, fun f i j z => ⟨?_, by rw [io6.2.1], by rw [io6.1]⟩⟩ ?_ ?_ ?_ ?_ ?_ ?_⟩
  · unfold X5_copy
    rw [if_pos hx, if_pos hy, lt2_eq, ← e1, lt2_eq, ← e2, lt2_eq, ← e3, show (0 : Int32) = nn 0 from rfl, p1, show (0 : Int32) = nn 0 from rfl, q1, show (0 : Int32) = nn 0 from rfl, r1]
  · rw [r3 _ _ _ (by omega), q3 _ _ _ (nq _ _ (by omega)), p3 _ _ _ (by omega), i3 _ _ _ (by omega)]
  · rw [r3 _ _ _ (by omega), q3 _ _ _ (nq _ _ (by omega)), p3 _ _ _ (by omega), v600]
  · rw [r3 _ _ _ (by omega), q3 _ _ _ (nq _ _ (by omega)), p3 _ _ _ (by omega), v601]
  · rw [r3 _ _ _ (by omega), q3 _ _ _ (nq _ _ (by omega)), p3 _ _ _ (by omega), v608]
  · intro l hl
    rw [r3 _ _ _ (by omega), q3 _ _ _ (nq _ _ (by omega)), p4 l (by omega) hl, i3 _ _ _ (by omega)]
  · intro z b hz hb
    have hz' : z = 2 ∨ z = 3 ∨ z = 4 ∨ z = 5 ∨ z = 47 := hz
    rw [r3 _ _ _ (by omega), q4 z b hz (by omega) hb]
    unfold cpS
    by_cases w : z = 47
    · rw [if_pos w, if_pos w]
    · rw [if_neg w, if_neg w, p3 _ _ _ (by omega), i3 _ _ _ (by omega)]
  · intro c b hc hb
    have kb := ky.kb
    have ht := (ky.rr c (by omega)).2
    rw [r4 c b (by omega) hc hb, q3 _ _ _ (nq _ _ (by omega)), p3 _ _ _ (by omega), i3 _ _ _ (by omega)]
/-- what a copy gives: the state, its rows -/
theorem CP.sr {A A' : AH} {x y n : Nat} {ρ τ : Nat → Nat} (h : CP A A' x y n ρ τ) {f : Nat → Int32} {nb L C : Nat} (hn : nb ≤ 8) (s : SR A y f nb L C) : SR A' x f nb L C := by
  have b2 : ∀ b, b < nb → aI A' 31 (x + 2) b = aI A 31 (y + 2) b := fun b hb => by rw [h.be 2 b (by unfold cpQ; omega) (by omega)]; unfold cpS; rw [if_neg (by omega)]
  have b3 : ∀ b, b < nb → aI A' 31 (x + 3) b = aI A 31 (y + 3) b := fun b hb => by rw [h.be 3 b (by unfold cpQ; omega) (by omega)]; unfold cpS; rw [if_neg (by omega)]
  have b4 : ∀ b, b < nb → aI A' 31 (x + 4) b = aI A 31 (y + 4) b := fun b hb => by rw [h.be 4 b (by unfold cpQ; omega) (by omega)]; unfold cpS; rw [if_neg (by omega)]
  have b5 : ∀ b, b < nb → aI A' 31 (x + 5) b = aI A 31 (y + 5) b := fun b hb => by rw [h.be 5 b (by unfold cpQ; omega) (by omega)]; unfold cpS; rw [if_neg (by omega)]
  refine SR.mk (h.day.trans s.day) s.dayb (fun l hl => (h.gl l hl).trans (s.gl l hl)) s.glb (fun b hb => (b2 b hb).trans (s.lf b hb)) s.lfb (fun b hb => (b3 b hb).trans (s.ce b hb)) s.ceb (fun b hb => (b4 b hb).trans (s.pu b hb)) s.pub (fun b hb => (b5 b hb).trans (s.me b hb)) s.meb s.og s.di
theorem CP.kr {A A' : AH} {x y n n0 : Nat} {ρ τ : Nat → Nat} (h : CP A A' x y n ρ τ) (kx : KR A x n0 ρ) (ky : KR A y n τ) : KR A' x n ρ := by
  refine KR.mk (h.kp.trans ky.kn) ky.kb (fun k hk => ?_) kx.ri
  rw [h.io.1]; exact kx.rr k hk
theorem CP.kv {A A' : AH} {x y n : Nat} {ρ τ : Nat → Nat} (h : CP A A' x y n ρ τ) {f : Nat → Int32} (kv : KV A n τ f) : KV A' n ρ f :=
  ⟨kv.1, fun k i hk hi => (h.rw_ k i hk hi).trans (kv.2 k i hk hi)⟩
