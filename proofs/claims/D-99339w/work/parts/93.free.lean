/-! PURE LEVEL: leaves, cells and names that are read, on both sides -/
set_option maxRecDepth 100000
section
variable {N : Nat} {A A' : AH} {σ σ' : mSt} {B : Nat → Nat} {n p o μ : Nat} {t : Option Nat} {a0 L C g w nb cd ar c s : Nat} {be : List Nat}
/-- one stands there -/
def StP (σ : mSt) (l c b : Nat) : Prop := σ.1 45 (2 * b) = nn l ∧ σ.1 45 (2 * b + 1) = nn c
theorem StP.dec (σ : mSt) (l c b : Nat) : StP σ l c b ∨ ¬ StP σ l c b := Classical.em _
/-- a cell is free -/
def frB (σ : mSt) (nb l c : Nat) : Bool := !(decide (((σ.1 43 l >>> (nn c &&& 31)) &&& 1) = 1)) && (List.range nb).all (fun b => !(decide (σ.1 45 (2 * b) = nn l) && decide (σ.1 45 (2 * b + 1) = nn c)))
theorem frB_t {l c : Nat} : frB σ nb l c = true ↔ ¬ bitOf (σ.1 43 l) (nn c) ∧ ∀ b, b < nb → ¬ StP σ l c b := by
  unfold frB StP bitOf
  rw [Bool.and_eq_true, Bool.not_eq_true', decide_eq_false_iff_not, List.all_eq_true]
  constructor
  · rintro ⟨h1, h2⟩
    refine ⟨h1, fun b hb z => ?_⟩
    have := h2 b (List.mem_range.mpr hb)
    rw [z.1, z.2] at this
    simp at this
  · rintro ⟨h1, h2⟩
    refine ⟨h1, fun b hb => ?_⟩
    have := h2 b (List.mem_range.mp hb)
    by_cases z1 : σ.1 45 (2 * b) = nn l
    · by_cases z2 : σ.1 45 (2 * b + 1) = nn c
      · exact absurd ⟨z1, z2⟩ this
      · simp [z2]
    · simp [z1]
theorem frB_cm {Q : Nat → Prop} (m : Cm Q σ σ') (h3 : ¬ Q 43) (h5 : ¬ Q 45) : frB σ' nb = frB σ nb := by
  funext l c
  unfold frB
  rw [m.I _ h3]
  congr 2
  funext b
  rw [m.I _ h5, m.I _ h5]
/-- .. at the component -/
theorem free_loop (h : FT A σ a0 L C g w nb cd ar be) {l c : Nat} : ∀ (f k z : Nat), k + f = nb → f < z → ((∃ b, k ≤ b ∧ b < nb ∧ StP σ l c b) → rn1 (X1_isFree_b17 N a0 (nn l) (nn c) A) z (nn k) = some 0) ∧ ((¬ ∃ b, k ≤ b ∧ b < nb ∧ StP σ l c b) → rn1 (X1_isFree_b17 N a0 (nn l) (nn c) A) z (nn k) = some 1) := by
  have bn := h.bn
  have bl := h.bl
  have lr : LR A (fun i => a0 ≤ i) (a0 + 5) be := LR.mk (by omega) h.lx.kd h.lx.len ⟨ar, h.lx.rf, (by have := h.lar; omega), h.lx.ka, h.lx.cap, h.lx.c5, h.lx.el⟩
  intro f
  induction f with
  | zero =>
    intro k z hk hz
    obtain ⟨z, rfl⟩ : ∃ m, z = m + 1 := ⟨z - 1, by omega⟩
    refine ⟨fun v => ?_, fun _ => ?_⟩
    · obtain ⟨b, h1, h2, _⟩ := v; omega
    · show X1_isFree_b17 N a0 (nn l) (nn c) A _ (nn k) = _
      unfold X1_isFree_b17
      rw [gN_k h.k, h.bel, bo_some, if_pos lr.kd, J2_size_LR lr, bo_some, bl, if_pos ((nn_le (by omega) (by omega)).mpr (by omega))]
  | succ f ih =>
    intro k z hk hz
    obtain ⟨z, rfl⟩ : ∃ m, z = m + 1 := ⟨z - 1, by omega⟩
    obtain ⟨i1, i2⟩ := ih (k + 1) z (by omega) (by omega)
    obtain ⟨i, hi⟩ : ∃ i, be[k]? = some i := ⟨be[k]'(by omega), List.getElem?_eq_getElem _⟩
    obtain ⟨b1, b2, b3, b4, _⟩ := h.bi k i hi
    have e1 : rn1 (X1_isFree_b17 N a0 (nn l) (nn c) A) (z + 1) (nn k) = if σ.1 45 (2 * k) = nn l then (if σ.1 45 (2 * k + 1) = nn c then some 0 else rn1 (X1_isFree_b17 N a0 (nn l) (nn c) A) z (nn (k + 1))) else rn1 (X1_isFree_b17 N a0 (nn l) (nn c) A) z (nn (k + 1)) := by
      show X1_isFree_b17 N a0 (nn l) (nn c) A (rn1 (X1_isFree_b17 N a0 (nn l) (nn c) A) z) (nn k) = _
      generalize rn1 (X1_isFree_b17 N a0 (nn l) (nn c) A) z = kk
      unfold X1_isFree_b17 X1_isFree_b72
      rw [gN_k h.k, h.bel, bo_some, if_pos lr.kd, J2_size_LR lr, bo_some, bl, if_neg (fun q => by have := (nn_le (by omega) (by omega)).mp q; omega), bo_some, if_pos lr.kd, J2_get_LR lr hi, bo_some, bo_some, if_pos b2, gI_k b2, bo_some, b3, bo_some, if_pos lr.kd, J2_get_LR lr hi, bo_some, bo_some, if_pos b2, gI_k b2, bo_some, b4, nn_succ]
    rw [e1]
    by_cases c1 : StP σ l c k
    · rw [if_pos c1.1, if_pos c1.2]
      exact ⟨fun _ => rfl, fun v => absurd ⟨k, Nat.le_refl _, by omega, c1⟩ v⟩
    · have e2 : (if σ.1 45 (2 * k) = nn l then (if σ.1 45 (2 * k + 1) = nn c then some (0 : Int32) else rn1 (X1_isFree_b17 N a0 (nn l) (nn c) A) z (nn (k + 1))) else rn1 (X1_isFree_b17 N a0 (nn l) (nn c) A) z (nn (k + 1))) = rn1 (X1_isFree_b17 N a0 (nn l) (nn c) A) z (nn (k + 1)) := by
        by_cases z1 : σ.1 45 (2 * k) = nn l
        · rw [if_pos z1, if_neg (fun z2 => c1 ⟨z1, z2⟩)]
        · rw [if_neg z1]
      rw [e2]
      refine ⟨fun v => i1 ?_, fun v => i2 (fun y => ?_)⟩
      · obtain ⟨b, h1, h2, h3⟩ := v
        refine ⟨b, ?_, h2, h3⟩
        rcases Nat.lt_or_ge k b with y | y
        · omega
        · have : b = k := by omega
          subst this; exact absurd h3 c1
      · obtain ⟨b, h1, h2, h3⟩ := y
        exact v ⟨b, by omega, h2, h3⟩
theorem isFreeX (hN : 5000 ≤ N) (h : FT A σ a0 L C g w nb cd ar be) {l c : Nat} (hl : l < 6) : X1_isFree N A a0 (nn l) (nn c) = some (if frB σ nb l c = true then 1 else 0) := by
  have bn := h.bn
  obtain ⟨i1, i2⟩ := free_loop (N := N) h (l := l) (c := c) nb 0 N (by omega) (by omega)
  obtain ⟨g1, g2, g3⟩ := h.gl
  unfold X1_isFree X0_has
  rw [gN_k h.k, g1, bo_some, dI_nn g2 (by omega) (by omega), bo_some, (h.glv l hl).1]
  by_cases c1 : ((σ.1 43 l >>> (nn c &&& 31)) &&& 1) = 1
  · rw [if_pos c1, bo_some, if_neg (by decide), if_neg (fun v => (frB_t.mp v).1 c1)]
  · rw [if_neg c1, bo_some, if_pos rfl]
    by_cases c2 : ∃ b, b < nb ∧ StP σ l c b
    · obtain ⟨b, h1, h2⟩ := c2
      rw [if_neg (fun v => (frB_t.mp v).2 b h1 h2)]
      exact i1 ⟨b, Nat.zero_le _, h1, h2⟩
    · rw [if_pos (frB_t.mpr ⟨c1, fun b hb v => c2 ⟨b, hb, v⟩⟩)]
      exact i2 (fun v => by obtain ⟨b, _, h1, h2⟩ := v; exact c2 ⟨b, h1, h2⟩)
/-- .. at the reference -/
theorem stands_loop (hm : σ.1 41 0 = nn nb) (bn : nb ≤ 8) {l c : Nat} : ∀ (f k z : Nat), k + f = nb → f < z → ((∃ b, k ≤ b ∧ b < nb ∧ StP σ l c b) → rn3 (M_standsTold_b2 N σ) z (nn l) (nn c) (nn k) = some 1) ∧ ((¬ ∃ b, k ≤ b ∧ b < nb ∧ StP σ l c b) → rn3 (M_standsTold_b2 N σ) z (nn l) (nn c) (nn k) = some 0) := by
  have h41 : ld 2 σ 41 0 = some (nn nb) := by rw [show (0 : Int32) = nn 0 from rfl, ld_nn (by rfl) (by decide) (by decide), hm]
  intro f
  induction f with
  | zero =>
    intro k z hk hz
    obtain ⟨z, rfl⟩ : ∃ m, z = m + 1 := ⟨z - 1, by omega⟩
    refine ⟨fun v => ?_, fun _ => ?_⟩
    · obtain ⟨b, h1, h2, _⟩ := v; omega
    · show M_standsTold_b2 N σ _ (nn l) (nn c) (nn k) = _
      unfold M_standsTold_b2
      rw [h41, bo_some, if_pos ((nn_le (by omega) (by omega)).mpr (by omega))]
  | succ f ih =>
    intro k z hk hz
    obtain ⟨z, rfl⟩ : ∃ m, z = m + 1 := ⟨z - 1, by omega⟩
    obtain ⟨i1, i2⟩ := ih (k + 1) z (by omega) (by omega)
    have e1 : rn3 (M_standsTold_b2 N σ) (z + 1) (nn l) (nn c) (nn k) = if σ.1 45 (2 * k) = nn l then (if σ.1 45 (2 * k + 1) = nn c then some 1 else rn3 (M_standsTold_b2 N σ) z (nn l) (nn c) (nn (k + 1))) else rn3 (M_standsTold_b2 N σ) z (nn l) (nn c) (nn (k + 1)) := by
      show M_standsTold_b2 N σ (rn3 (M_standsTold_b2 N σ) z) (nn l) (nn c) (nn k) = _
      generalize rn3 (M_standsTold_b2 N σ) z = kk
      unfold M_standsTold_b2 M_standsTold_b40
      rw [h41, bo_some, if_neg (fun q => by have := (nn_le (by omega) (by omega)).mp q; omega), show (2 : Int32) * nn k = nn (2 * k) from nn_mul 2 k, ld_nn (by rfl) (by show 2 * k < 16; omega) (by omega), bo_some, nn_succ, ld_nn (by rfl) (by show 2 * k + 1 < 16; omega) (by omega), bo_some, nn_succ]
    rw [e1]
    by_cases c1 : StP σ l c k
    · rw [if_pos c1.1, if_pos c1.2]
      exact ⟨fun _ => rfl, fun v => absurd ⟨k, Nat.le_refl _, by omega, c1⟩ v⟩
    · have e2 : (if σ.1 45 (2 * k) = nn l then (if σ.1 45 (2 * k + 1) = nn c then some (1 : Int32) else rn3 (M_standsTold_b2 N σ) z (nn l) (nn c) (nn (k + 1))) else rn3 (M_standsTold_b2 N σ) z (nn l) (nn c) (nn (k + 1))) = rn3 (M_standsTold_b2 N σ) z (nn l) (nn c) (nn (k + 1)) := by
        by_cases z1 : σ.1 45 (2 * k) = nn l
        · rw [if_pos z1, if_neg (fun z2 => c1 ⟨z1, z2⟩)]
        · rw [if_neg z1]
      rw [e2]
      refine ⟨fun v => i1 ?_, fun v => i2 (fun y => ?_)⟩
      · obtain ⟨b, h1, h2, h3⟩ := v
        refine ⟨b, ?_, h2, h3⟩
        rcases Nat.lt_or_ge k b with y | y
        · omega
        · have : b = k := by omega
          subst this; exact absurd h3 c1
      · obtain ⟨b, h1, h2, h3⟩ := y
        exact v ⟨b, by omega, h2, h3⟩
/-- a leaf -/
def sLeaf (B : Nat → Nat) (n L p : Nat) : Rs (Nat × Nat × Nat) := sNum B n 0 (L - 1) p
/-- a cell that is free -/
def sFree (B : Nat → Nat) (n C : Nat) (fr : Nat → Nat → Bool) (l p : Nat) : Rs (Nat × Nat × Nat) := eb (sNum B n 0 (C - 1) p) fun v => if fr l v.1 = true then .ok v else .error (2, v.2.1)
theorem leafX (hN : 5000 ≤ N) (r : RD A B n p o μ (some a0)) (h : FT A σ a0 L C g w nb cd ar be) : Bh (X2_leaf N A) (sLeaf B n L p) (fun e A' => PF 0 0 A A' e) (fun v x A' => x = nn v.1 ∧ Ex RP 0 0 A A' ∧ RD A' B n v.2.2 o μ (some a0) ∧ aI A' 303 9 0 = nn v.2.1 ∧ v.1 < L) := by
  have bL := h.bL
  unfold X2_leaf sLeaf
  rw [r.to_, bo_some, gI_k h.k, bo_some, h.lv, show (1 : Int32) = nn 1 from rfl, nn_sub bL.1]
  have e : sNum B n 0 (L - 1) p = eb (sNum B n 0 (L - 1) p) fun v => .ok v := by cases sNum B n 0 (L - 1) p <;> rfl
  rw [e]
  refine Bh.xx (number_eq hN r (l := 0) (m := L - 1) (by omega) (by omega)) (fun e A' _ f => f) (fun v x A' hv f => ?_)
  have hm := (sNum_ok r.bk hv).2.1
  exact ⟨_, _, rfl, f.1, f.2.1, f.2.2.1, f.2.2.2, by omega⟩
theorem freeX (hN : 5000 ≤ N) (r : RD A B n p o μ (some a0)) (h : FT A σ a0 L C g w nb cd ar be) {l : Nat} (hl : l < 6) : Bh (X2_free N A (nn l)) (sFree B n C (frB σ nb) l p) (fun e A' => PF 0 0 A A' e) (fun v x A' => x = nn v.1 ∧ Ex RP 0 0 A A' ∧ RD A' B n v.2.2 o μ (some a0) ∧ v.1 < C ∧ frB σ nb l v.1 = true) := by
  have bC := h.bC
  unfold X2_free sFree
  rw [r.to_, bo_some, gI_k h.k, bo_some, h.ce, show (1 : Int32) = nn 1 from rfl, nn_sub (by omega)]
  refine Bh.xx (number_eq hN r (l := 0) (m := C - 1) (by omega) (by omega)) (fun e A' _ f => f) (fun v x A' hv f => ?_)
  obtain ⟨f1, f2, f3, f4⟩ := f
  have hm := (sNum_ok r.bk hv).2.1
  have h' := h.ex (σ' := σ) f2 (rp_hi h.a1) (Cm.refl σ)
  rw [f3.to_, bo_some, if_pos h'.k, f1, isFreeX hN h' hl, bo_some]
  by_cases c1 : frB σ nb l v.1 = true
  · rw [if_pos c1, if_pos c1, if_neg (by decide)]
    exact ⟨_, _, rfl, rfl, f2, f3, by omega, c1⟩
  · rw [if_neg c1, if_neg c1, if_pos rfl, thr, f4]
    exact ⟨_, rfl, (PF.of f2 (PF.thr f3.gn 2 v.2.1)).wk (by omega) (by omega)⟩
theorem leafM (hN : 5000 ≤ N) (r : RM σ B n p) (h : FT A σ a0 L C g w nb cd ar be) : ∃ x σ', M_leafTold N σ = some (x, σ') ∧ Cm Kl σ σ' ∧ Rf σ' (sLeaf B n L p) (fun v => x = nn v.1 ∧ RM σ' B n v.2.2 ∧ σ'.1 10 0 = nn v.2.1) ∧ (σ'.1 5 0 ≠ 0 → x = 0) := by
  have bL := h.bL
  obtain ⟨x, σ1, h1, c1, r1⟩ := mnumber_eq hN r (l := 0) (m := L - 1) (by omega) (by omega)
  unfold M_leafTold sLeaf
  rw [show ld 2 σ 40 0 = some (nn L) by rw [show (0 : Int32) = nn 0 from rfl, ld_nn (by rfl) (by decide) (by decide), h.lvm], bo_some, show (1 : Int32) = nn 1 from rfl, nn_sub bL.1, show M_number N σ 0 (nn (L - 1)) = _ from h1, bd_some]
  by_cases z : σ1.1 5 0 = 0
  · rw [if_pos z]
    exact ⟨x, σ1, rfl, c1, r1, fun w => absurd z w⟩
  · rw [if_neg z]
    refine ⟨0, σ1, rfl, c1, ?_, fun _ => rfl⟩
    cases hv : sNum B n 0 (L - 1) p with
    | error e => rw [hv] at r1; exact r1
    | ok v => rw [hv] at r1; exact absurd r1.2.1.bad z
theorem freeM (hN : 5000 ≤ N) (r : RM σ B n p) (h : FT A σ a0 L C g w nb cd ar be) {l : Nat} (hl : l < 6) : ∃ x σ', M_cellTold N σ (nn l) = some (x, σ') ∧ Cm Kl σ σ' ∧ Rf σ' (sFree B n C (frB σ nb) l p) (fun v => x = nn v.1 ∧ RM σ' B n v.2.2) := by
  have bC := h.bC
  have bn := h.bn
  obtain ⟨x, σ1, h1, c1, r1⟩ := mnumber_eq hN r (l := 0) (m := C - 1) (by omega) (by omega)
  have k41 : ∀ j, σ1.1 41 j = σ.1 41 j := fun j => c1.I j (by unfold Kl; omega)
  have k43 : ∀ j, σ1.1 43 j = σ.1 43 j := fun j => c1.I j (by unfold Kl; omega)
  have fe : frB σ1 nb = frB σ nb := frB_cm c1 (by unfold Kl; omega) (by unfold Kl; omega)
  unfold M_cellTold sFree
  rw [show ld 2 σ 40 1 = some (nn C) by rw [show (1 : Int32) = nn 1 from rfl, ld_nn (by rfl) (by decide) (by decide), h.cem], bo_some, show (1 : Int32) = nn 1 from rfl, nn_sub (by omega), show M_number N σ 0 (nn (C - 1)) = _ from h1, bd_some]
  cases hv : sNum B n 0 (C - 1) p with
  | error e =>
    rw [hv] at r1
    have r1 : RF σ1 e := r1
    unfold M_cellTold_b53
    rw [if_neg r1.ne, if_neg r1.ne]
    exact ⟨_, _, rfl, c1, r1⟩
  | ok v =>
    rw [hv] at r1
    obtain ⟨e1, r1, e2⟩ := r1
    obtain ⟨i1, i2⟩ := stands_loop (N := N) (σ := σ1) (l := l) (c := v.1) ((k41 0).trans h.nbm) bn nb 0 N (by omega) (by omega)
    rw [eb_ok, if_pos r1.bad, ld_nn (by rfl) (by show l < 6; omega) (by omega), bo_some, k43, e1, ← fe]
    have b44 : ∃ x σ', M_cellTold_b44 N σ1 (nn v.1) = some (x, σ') ∧ Cm Kl σ σ' ∧ RF σ' (2, v.2.1) := by
      obtain ⟨σ2, y1, y2, y3⟩ := fail_eq r1.bad 2 v.2.1 (by decide)
      unfold M_cellTold_b44 M_cellTold_b53
      rw [e2, show M_fail σ1 2 (nn v.2.1) = _ from y1, bd_some, if_neg y2.ne]
      exact ⟨_, _, rfl, c1.trans y3, y2⟩
    by_cases c5 : ((σ.1 43 l >>> (nn v.1 &&& 31)) &&& 1) = 1
    · rw [if_pos (show ((σ.1 43 l >>> (nn v.1 &&& 31)) &&& nn 1) = nn 1 from c5)]
      obtain ⟨x2, σ2, y1, y2, y3⟩ := b44
      refine ⟨x2, σ2, y1, y2, ?_⟩
      rw [if_neg (fun q => (frB_t.mp q).1 (by rw [k43]; exact c5))]
      exact y3
    · rw [if_neg (show ¬ ((σ.1 43 l >>> (nn v.1 &&& 31)) &&& nn 1) = nn 1 from c5)]
      by_cases c2 : ∃ b, b < nb ∧ StP σ1 l v.1 b
      · obtain ⟨b, b1, b2⟩ := c2
        rw [show M_standsTold N σ1 (nn l) (nn v.1) = some 1 from i1 ⟨b, Nat.zero_le _, b1, b2⟩, bo_some, if_neg (by decide)]
        obtain ⟨x2, σ2, y1, y2, y3⟩ := b44
        refine ⟨x2, σ2, y1, y2, ?_⟩
        rw [if_neg (fun q => (frB_t.mp q).2 b b1 b2)]
        exact y3
      · rw [show M_standsTold N σ1 (nn l) (nn v.1) = some 0 from i2 (fun q => by obtain ⟨b, _, b1, b2⟩ := q; exact c2 ⟨b, b1, b2⟩), bo_some, if_pos rfl]
        unfold M_cellTold_b53
        rw [if_pos r1.bad]
        refine ⟨_, _, rfl, c1, ?_⟩
        rw [if_pos (frB_t.mpr ⟨by rw [k43]; exact c5, fun b hb q => c2 ⟨b, hb, q⟩⟩)]
        exact ⟨rfl, r1⟩
theorem freeM_bad {e : Nat × Nat} (h : RF σ e) (h40 : σ.1 40 1 = nn C) (x : Int32) : M_cellTold N σ x = some (0, σ) := by
  unfold M_cellTold M_cellTold_b53
  rw [show ld 2 σ 40 1 = some (nn C) by rw [show (1 : Int32) = nn 1 from rfl, ld_nn (by rfl) (by decide) (by decide), h40], bo_some, bad_number h, bd_some, if_neg h.ne, if_neg h.ne]
theorem leafM_bad {e : Nat × Nat} (h : RF σ e) (h40 : σ.1 40 0 = nn L) : M_leafTold N σ = some (0, σ) := by
  unfold M_leafTold
  rw [show ld 2 σ 40 0 = some (nn L) by rw [show (0 : Int32) = nn 0 from rfl, ld_nn (by rfl) (by decide) (by decide), h40], bo_some, bad_number h, bd_some, if_neg h.ne]
/-! names at the component -/
theorem length_eq {x : Nat} {cs : List Int32} (h : StR A x cs) : J6_length A x = some (nn cs.length) := by
  obtain ⟨k1, k2, ar, k3, k4, k5, k6, k7⟩ := h
  unfold J6_length J6_coder
  rw [gN_k k1, k3, bo_some, aLn_k k4, bo_some, if_pos k1, gI_k k1, bo_some, k2, if_pos (by rfl), bo_some, sh0, k5]
theorem nameX (hN : 5000 ≤ N) (r : RD A B n p o μ t) (hr : aN A + 3 ≤ CB) : Bh (X2_name N A) (sName B n p) (fun e A' => PF 3 (2 * wl B n p + 4) A A' e) (fun v x A' => ∃ q, x = some q ∧ Ex RP 3 (2 * wl B n p + 4) A A' ∧ RD A' B n v.2 o μ t ∧ aI A' 303 9 0 = nn v.1 ∧ NWS A A' q (wdk B v.1 v.2) ∧ v.2 ≤ v.1 + 6 ∧ v.1 < v.2 ∧ v.1 = sk B n p ∧ v.2 = wE B n p) := by
  unfold X2_name sName
  apply Bh.kk
  · refine Bh.xa (word_eq hN r hr) (fun e A' _ q => ⟨q.ex.le2, q.wk (by omega) (by omega)⟩) (fun v x A' hv q => ?_)
    obtain ⟨q, rfl, x1, r1, f1, w1⟩ := q
    obtain ⟨s1, s2, s3, s4⟩ := sWord_ok hv
    have el : v.2 - v.1 = wl B n p := by rw [s1, s2]; rfl
    have hlt : v.1 < v.2 := by have := wl_pos r.bk s3; omega
    rw [el] at x1
    refine ⟨x1.le2, ?_⟩
    have hlen : (wdk B v.1 v.2).length = v.2 - v.1 := by unfold wdk; simp
    have nb := r1.bk.nb
    have pn := r1.pn
    rw [bo_some, show X0_find N A' q (CB + 80) = some (fdI (fdx (wdk B v.1 v.2) ownL 0)) from find_eq hN r1.gn w1.st (r := 0) (by decide), bo_some]
    cases hf : fdx (wdk B v.1 v.2) ownL 0 with
    | some k =>
      rw [show fdI (some k) = nn k from rfl, if_neg (nn_ne1 (by
        have h1 := (List.getElem?_eq_some_iff.mp (fdx_is ownL 0 k hf).choose_spec.1).1
        have : ownL.length = 28 := by decide
        omega)), if_pos (by rfl), thr, f1]
      exact ⟨_, rfl, (PF.thr r1.gn 1 v.1).ex.le2, (PF.of x1 (PF.thr r1.gn 1 v.1)).wk (by omega) (by omega)⟩
    | none =>
      rw [show fdI none = (-1 : Int32) from rfl, if_pos rfl, if_pos w1.st.1, length_eq w1.st, bo_some, hlen, if_neg (show ¬ (none : Option Nat).isSome = true by decide)]
      by_cases c6 : v.1 + 6 < v.2
      · rw [if_pos c6, if_neg (fun z : nn (v.2 - v.1) ≤ (6 : Int32) => by have := (nn_le (b := 6) (by omega) (by omega)).mp z; omega), f1, show nn v.1 + 6 = nn (v.1 + 6) from nn_add v.1 6, thr]
        exact ⟨_, rfl, (PF.thr r1.gn 1 (v.1 + 6)).ex.le2, (PF.of x1 (PF.thr r1.gn 1 (v.1 + 6))).wk (by omega) (by omega)⟩
      · rw [if_neg c6, if_pos (show nn (v.2 - v.1) ≤ (6 : Int32) from (nn_le (b := 6) (by omega) (by omega)).mpr (by omega))]
        exact ⟨_, A', rfl, Le.refl _, q, rfl, x1, r1, f1, w1, by omega, hlt, s1, s2⟩
  · intro e A' _ q; exact q.ex.le2
  · intro y x A' _ q
    obtain ⟨q, _, h, _⟩ := q
    exact h.le2
end
