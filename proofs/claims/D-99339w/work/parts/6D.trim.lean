/-! PURE LEVEL: trims -/
set_option maxRecDepth 100000
def sm (f : Nat → Nat) : Nat → Nat
  | 0 => 0
  | k + 1 => sm f k + f k
/-- the fewest: the last goers go to the last free ones -/
def fwW (G F : Nat → Nat) (g m : Nat) : Nat → Nat
  | 0 => 0
  | j + 1 => (G (g - 1 - j) - F (m - 1 - j)) + fwW G F g m j
def fwV (G F : Nat → Nat) (m : Nat) : Nat → Nat
  | 0 => 0
  | j + 1 => fwV G F m j + (G j - F (m - 1 - j))
theorem fw_eq {G F : Nat → Nat} {g m : Nat} (hgm : g ≤ m) (h : ∀ i q, i < g → q < m → F q ≤ G i) : fwW G F g m g = fwV G F m g := by
  have hW : ∀ j, j ≤ g → fwW G F g m j + sm (fun q => F (m - 1 - q)) j + sm G (g - j) = sm G g := by
    intro j
    induction j with
    | zero => intro _; show 0 + 0 + sm G (g - 0) = sm G g; rw [Nat.sub_zero]; omega
    | succ j ih =>
      intro hj
      have i1 := ih (by omega)
      have h1 := h (g - 1 - j) (m - 1 - j) (by omega) (by omega)
      have e : sm G (g - j) = sm G (g - (j + 1)) + G (g - 1 - j) := by
        rw [show g - j = (g - (j + 1)) + 1 by omega]
        show sm G (g - (j + 1)) + G (g - (j + 1)) = _
        rw [show g - (j + 1) = g - 1 - j by omega]
      show ((G (g - 1 - j) - F (m - 1 - j)) + fwW G F g m j) + (sm (fun q => F (m - 1 - q)) j + F (m - 1 - j)) + sm G (g - (j + 1)) = _
      omega
  have hV : ∀ j, j ≤ g → fwV G F m j + sm (fun q => F (m - 1 - q)) j = sm G j := by
    intro j
    induction j with
    | zero => intro _; rfl
    | succ j ih =>
      intro hj
      have i1 := ih (by omega)
      have h1 := h j (m - 1 - j) (by omega) (by omega)
      show (fwV G F m j + (G j - F (m - 1 - j))) + (sm (fun q => F (m - 1 - q)) j + F (m - 1 - j)) = sm G j + G j
      omega
  have w := hW g (Nat.le_refl g)
  have v := hV g (Nat.le_refl g)
  rw [Nat.sub_self] at w
  have : sm G 0 = 0 := rfl
  omega
theorem fwW_le {G F : Nat → Nat} {g m : Nat} (h : ∀ i, i < g → G i ≤ 8) : ∀ j, j ≤ g → fwW G F g m j ≤ 8 * j := by
  intro j
  induction j with
  | zero => intro _; exact Nat.le_refl 0
  | succ j ih =>
    intro hj
    have i1 := ih (by omega)
    have h1 := h (g - 1 - j) (by omega)
    show (G (g - 1 - j) - F (m - 1 - j)) + fwW G F g m j ≤ 8 * (j + 1)
    omega
theorem fwV_le {G F : Nat → Nat} {g m : Nat} (h : ∀ i, i < g → G i ≤ 8) : ∀ j, j ≤ g → fwV G F m j ≤ 8 * j := by
  intro j
  induction j with
  | zero => intro _; exact Nat.le_refl 0
  | succ j ih =>
    intro hj
    have i1 := ih (by omega)
    have h1 := h j (by omega)
    show fwV G F m j + (G j - F (m - 1 - j)) ≤ 8 * (j + 1)
    omega
theorem few_eq {N : Nat} (hN : 5000 ≤ N) {A : AH} {G F : Nat → Nat} {g m : Nat} (hg : g ≤ 8) (hm : m ≤ 8) (aG : ∀ i, i < g → aI A 31 137 i = nn (G i)) (aF : ∀ i, i < m → aI A 31 138 i = nn (F i)) (hG : ∀ i, i < g → G i ≤ 8) (hF : ∀ i j, i < j → j < m → F i < F j) (hFG : ∀ i q, i < g → q < m → F q ≤ G i) : ∀ (j d k f : Nat), k + j = g → f + j ≤ m → j ≤ d → X0_fewest N (fewG N d) A (nn k) (nn g) (nn f) (nn m) = some (nn (fwW G F g m j)) := by
  intro j
  induction j with
  | zero =>
    intro d k f hk hf hd
    unfold X0_fewest
    rw [if_pos (by rw [show k = g by omega])]
    rfl
  | succ j ih =>
    intro d k f hk hf hd
    obtain ⟨d, rfl⟩ : ∃ z, d = z + 1 := ⟨d - 1, by omega⟩
    have hWj := fwW_le (F := F) (m := m) hG j (by omega)
    -- the loop over free cells
    have loop : ∀ (r i q : Nat) (x5 : Int32), i + r = m - j → r < q → f ≤ i → (i = f ∧ x5 = 100000000 ∧ 0 < r ∨ f < i ∧ x5 = nn ((G k - F (i - 1)) + fwW G F g m j)) → rn2 (X0_fewest_b15 N (fewG N (d + 1)) (nn k) (nn g) (nn f) (nn m) A) q x5 (nn i) = some (nn (fwW G F g m (j + 1))) := by
      intro r
      induction r with
      | zero =>
        intro i q x5 hi hq hfi hx
        obtain ⟨q, rfl⟩ : ∃ z, q = z + 1 := ⟨q - 1, by omega⟩
        show X0_fewest_b15 N (fewG N (d + 1)) (nn k) (nn g) (nn f) (nn m) A _ x5 (nn i) = _
        unfold X0_fewest_b15
        have el : (nn m - (nn g - nn k) : Int32) = nn (m - (j + 1)) := by
          rw [nn_sub (by omega), nn_sub (by omega), show m - (g - k) = m - (j + 1) by omega]
        rw [el, if_pos ((nn_lt (by omega) (by omega)).mpr (by omega))]
        rcases hx with ⟨_, _, z⟩ | ⟨z1, z2⟩
        · omega
        · rw [z2]
          show some (nn ((G k - F (i - 1)) + fwW G F g m j)) = some (nn ((G (g - 1 - j) - F (m - 1 - j)) + fwW G F g m j))
          rw [show g - 1 - j = k by omega, show m - 1 - j = i - 1 by omega]
      | succ r ihr =>
        intro i q x5 hi hq hfi hx
        obtain ⟨q, rfl⟩ : ∃ z, q = z + 1 := ⟨q - 1, by omega⟩
        have el : (nn m - (nn g - nn k) : Int32) = nn (m - (j + 1)) := by
          rw [nn_sub (by omega), nn_sub (by omega), show m - (g - k) = m - (j + 1) by omega]
        have rc0 := ih d (k + 1) (i + 1) (by omega) (by omega) (by omega)
        have rc1 : fewG N (d + 1) A (nn (k + 1)) (nn g) (nn (i + 1)) (nn m) = some (nn (fwW G F g m j)) := rc0
        have hle := hFG k i (by omega) (by omega)
        have hgk := hG k (by omega)
        rw [← ihr (i + 1) q (nn ((G k - F i) + fwW G F g m j)) (by omega) (by omega) (by omega) (Or.inr ⟨by omega, by rw [Nat.add_sub_cancel]⟩)]
        show X0_fewest_b15 N (fewG N (d + 1)) (nn k) (nn g) (nn f) (nn m) A (rn2 (X0_fewest_b15 N (fewG N (d + 1)) (nn k) (nn g) (nn f) (nn m) A) q) x5 (nn i) = _
        generalize rn2 (X0_fewest_b15 N (fewG N (d + 1)) (nn k) (nn g) (nn f) (nn m) A) q = kk
        have mn : J12_min x5 (nn ((G k - F i) + fwW G F g m j)) = some (nn ((G k - F i) + fwW G F g m j)) := by
          rcases hx with ⟨_, z, _⟩ | ⟨z1, z2⟩
          · rw [z, show (100000000 : Int32) = nn 100000000 from rfl, min_nn (by omega) (by omega), show min 100000000 ((G k - F i) + fwW G F g m j) = (G k - F i) + fwW G F g m j by omega]
          · have := hF (i - 1) i (by omega) (by omega)
            rw [z2, min_nn (by omega) (by omega), show min ((G k - F (i - 1)) + fwW G F g m j) ((G k - F i) + fwW G F g m j) = (G k - F i) + fwW G F g m j by omega]
        unfold X0_fewest_b15
        rw [el, if_neg (fun q => by have := (nn_lt (by omega) (by omega)).mp q; omega), sI_nn (by omega) (by decide), bo_some, aG k (by omega), sI_nn (by omega) (by decide), bo_some, aF i (by omega), nn_succ, nn_succ, rc1, bo_some, nn_sub hle, nn_add, mn, bo_some]
    unfold X0_fewest
    rw [if_neg (fun q => by have := (nn_eq (by omega) (by omega)).mp q; omega)]
    exact loop (m - j - f) f N 100000000 (by omega) (by omega) (by omega) (Or.inl ⟨rfl, rfl, by omega⟩)
/-- f enumerates, rising, what p holds of between lo and hi -/
def Enm (f : Nat → Nat) (k lo hi : Nat) (p : Nat → Prop) : Prop :=
  (∀ i, i < k → lo ≤ f i ∧ f i < hi ∧ p (f i)) ∧
  (∀ i j, i < j → j < k → f i < f j) ∧
  (∀ c, lo ≤ c → c < hi → p c → ∃ i, i < k ∧ f i = c)
theorem Enm.rg {f : Nat → Nat} {k lo hi : Nat} {p : Nat → Prop} (h : Enm f k lo hi p) : ∀ i, i < k → lo ≤ f i ∧ f i < hi ∧ p (f i) := h.1
theorem Enm.up {f : Nat → Nat} {k lo hi : Nat} {p : Nat → Prop} (h : Enm f k lo hi p) : ∀ i j, i < j → j < k → f i < f j := h.2.1
theorem Enm.al {f : Nat → Nat} {k lo hi : Nat} {p : Nat → Prop} (h : Enm f k lo hi p) : ∀ c, lo ≤ c → c < hi → p c → ∃ i, i < k ∧ f i = c := h.2.2
theorem Enm.mk {f : Nat → Nat} {k lo hi : Nat} {p : Nat → Prop} (h_rg : ∀ i, i < k → lo ≤ f i ∧ f i < hi ∧ p (f i)) (h_up : ∀ i j, i < j → j < k → f i < f j) (h_al : ∀ c, lo ≤ c → c < hi → p c → ∃ i, i < k ∧ f i = c) : Enm f k lo hi p := ⟨h_rg, h_up, h_al⟩
theorem Enm.le {f : Nat → Nat} {k lo hi : Nat} {p : Nat → Prop} (h : Enm f k lo hi p) : ∀ i, i < k → lo + i ≤ f i := by
  intro i
  induction i with
  | zero => intro hi2; exact (h.rg 0 hi2).1
  | succ i ih =>
    intro hi2
    have h1 := ih (by omega)
    have h2 := h.up i (i + 1) (by omega) hi2
    omega
theorem Enm.sz {f : Nat → Nat} {k lo hi : Nat} {p : Nat → Prop} (h : Enm f k lo hi p) : k ≤ hi - lo := by
  rcases Nat.eq_zero_or_pos k with z | z
  · omega
  · have h1 := h.le (k - 1) (by omega)
    have h2 := h.rg (k - 1) (by omega)
    omega
theorem Enm.skip {f : Nat → Nat} {k lo hi : Nat} {p : Nat → Prop} (h : Enm f k lo hi p) (hn : ¬ p hi) : Enm f k lo (hi + 1) p := by
  refine Enm.mk (fun i hi2 => ?_) h.up (fun c h1 h2 h3 => ?_)
  · have := h.rg i hi2; exact ⟨this.1, by omega, this.2.2⟩
  · rcases Nat.lt_or_ge c hi with z | z
    · exact h.al c h1 z h3
    · rw [show c = hi by omega] at h3; exact absurd h3 hn
theorem Enm.push {f : Nat → Nat} {k lo hi : Nat} {p : Nat → Prop} (h : Enm f k lo hi p) (hl : lo ≤ hi) (hp : p hi) : Enm (fun i => if i = k then hi else f i) (k + 1) lo (hi + 1) p := by
  refine Enm.mk (fun i hi2 => ?_) (fun i j hij hj => ?_) (fun c h1 h2 h3 => ?_)
  · show lo ≤ (if i = k then hi else f i) ∧ (if i = k then hi else f i) < hi + 1 ∧ p (if i = k then hi else f i)
    by_cases z : i = k
    · rw [if_pos z]; exact ⟨hl, by omega, hp⟩
    · rw [if_neg z]; have := h.rg i (by omega); exact ⟨this.1, by omega, this.2.2⟩
  · show (if i = k then hi else f i) < (if j = k then hi else f j)
    rw [if_neg (show ¬ i = k by omega)]
    by_cases z : j = k
    · rw [if_pos z]; exact (h.rg i (by omega)).2.1
    · rw [if_neg z]; exact h.up i j hij (by omega)
  · rcases Nat.lt_or_ge c hi with z | z
    · obtain ⟨i, hi2, e⟩ := h.al c h1 z h3
      exact ⟨i, by omega, by show (if i = k then hi else f i) = c; rw [if_neg (by omega)]; exact e⟩
    · exact ⟨k, by omega, by show (if k = k then hi else f k) = c; rw [if_pos rfl]; omega⟩
def P137 (f i : Nat) : Prop := f = 31 ∧ (i = 137 ∨ i = 138)
section TRI
variable {A0 A : AH} {σ : mSt} {fo nb L C W n : Nat} {ρ : Nat → Nat} {u w : Nat} {κ : Nat → Nat} {t m o : Nat}
def occ (σ : mSt) (nb l c : Nat) : Prop := ∃ b, b < nb ∧ σ.1 56 (7 + 4 * b) = nn l ∧ σ.1 56 (7 + 4 * b + 1) = nn c
def fre (σ : mSt) (nb l c : Nat) : Prop := ¬ bitOf (σ.1 56 (1 + l)) (nn c) ∧ ¬ occ σ nb l c
theorem tr_who {N : Nat} (hN : 5000 ≤ N) (h : IV A0 σ fo nb L C W n ρ u w κ t m o) (c : Ch P137 A0 A) (l k : Nat) : ∃ r : Int32, (r = -1 ↔ ¬ occ σ nb l k) ∧ X5_who N A 16 (nn l) (nn k) = some r ∧ M_standsOn N σ (nn l) (nn k) = some r := by
  have bn := h.fr.bn
  have fr : FR A σ fo nb L C W := h.fr.same (c.sameOn (fun f i hi z => by unfold dyn at hi; unfold P137 at z; omega)) (c.R 0 (by unfold P137; omega)) (fun _ _ _ => ⟨rfl, rfl⟩)
  have st : SR A 16 (σ.1 56) nb L C := h.st.ch c (fun g i _ h1 h2 => by unfold P137; omega) (fun _ _ => rfl) bn
  obtain ⟨r, r1, r0, r2, r3⟩ := who_eq hN fr (x := 16) rfl st (nn l) (nn k)
  refine ⟨r, ⟨fun e => ?_, fun e => ?_⟩, r2, r3⟩
  · rintro ⟨b, hb, e1, e2⟩
    exact r0 e b hb ⟨e1, e2⟩
  · rcases r1 with z | ⟨b, hb, _, e1, e2⟩
    · exact z
    · exact absurd ⟨b, hb, e1, e2⟩ e
theorem tr_fre {N : Nat} (hN : 5000 ≤ N) (h : IV A0 σ fo nb L C W n ρ u w κ t m o) (c : Ch P137 A0 A) {l : Nat} (hl : l < L) (k : Nat) : ∃ r : Int32, (r = 0 ↔ ¬ fre σ nb l k) ∧ X5_isFree N A 16 (nn l) (nn k) = some r ∧ (∀ {β : Type} (y1 y0 : Option β), (bo (M_hasGloss σ (nn l) (nn k)) fun g => if g = 0 then (bo (M_standsOn N σ (nn l) (nn k)) fun w => if w = (-1) then y1 else y0) else y0) = if r = 0 then y0 else y1) := by
  have bn := h.fr.bn
  have bL := h.fr.bL
  have fr : FR A σ fo nb L C W := h.fr.same (c.sameOn (fun f i hi z => by unfold dyn at hi; unfold P137 at z; omega)) (c.R 0 (by unfold P137; omega)) (fun _ _ _ => ⟨rfl, rfl⟩)
  have st : SR A 16 (σ.1 56) nb L C := h.st.ch c (fun g i _ h1 h2 => by unfold P137; omega) (fun _ _ => rfl) bn
  obtain ⟨r, r01, r1, r2, r3⟩ := isFree_eq hN fr (x := 16) rfl st (l := l) (by omega) (nn k)
  have hf : r = 1 ↔ fre σ nb l k := by
    rw [r3]
    unfold fre occ
    constructor
    · rintro ⟨h1, h2⟩
      exact ⟨h1, fun ⟨b, hb, e⟩ => h2 b hb e⟩
    · rintro ⟨h1, h2⟩
      exact ⟨h1, fun b hb e => h2 ⟨b, hb, e⟩⟩
  refine ⟨r, ?_, r1, fun y1 y0 => ?_⟩
  · rw [← hf]
    rcases r01 with e | e <;> rw [e] <;> decide
  · rw [r2]
    rcases r01 with e | e <;> rw [e]
    · rw [if_neg (by decide), if_pos rfl]
    · rw [if_pos rfl, if_neg (by decide)]
/-- the component looks through the cells -/
theorem trX {N : Nat} (hN : 5000 ≤ N) (h : IV A0 σ fo nb L C W n ρ u w κ t m o) {l y : Nat} (hl : l < L) (hy : 1 ≤ y) (hy2 : y < C) : ∀ (j c q : Nat) (A : AH) (G F : Nat → Nat) (g k : Nat), c + j = C → j < q → Ch P137 A0 A → (∀ i, i < g → aI A 31 137 i = nn (G i)) → (∀ i, i < k → aI A 31 138 i = nn (F i)) → Enm G g (C - y) (max c (C - y)) (occ σ nb l) → Enm F k 0 (min c (C - y)) (fre σ nb l) → ∃ A' G' F' g' k', rn4 (X0_trim_b44 N (nn l) (nn y)) q A (nn g) (nn k) (nn c) = (if nn g' ≤ nn k' then (bo (X0_fewest N (fewF N) A' 0 (nn g') 0 (nn k')) fun r9 => some (r9, A')) else (some ((-1), A'))) ∧ Ch P137 A0 A' ∧ (∀ i, i < g' → aI A' 31 137 i = nn (G' i)) ∧ (∀ i, i < k' → aI A' 31 138 i = nn (F' i)) ∧ Enm G' g' (C - y) C (occ σ nb l) ∧ Enm F' k' 0 (C - y) (fre σ nb l) := by
  have bC := h.fr.bC
  intro j
  induction j with
  | zero =>
    intro c q A G F g k hc hq cA aG aF eG eF
    obtain ⟨q, rfl⟩ : ∃ z, q = z + 1 := ⟨q - 1, by omega⟩
    have fr : FR A σ fo nb L C W := h.fr.same (cA.sameOn (fun f i hi z => by unfold dyn at hi; unfold P137 at z; omega)) (cA.R 0 (by unfold P137; omega)) (fun _ _ _ => ⟨rfl, rfl⟩)
    rw [show max c (C - y) = C by omega] at eG
    rw [show min c (C - y) = C - y by omega] at eF
    refine ⟨A, G, F, g, k, ?_, cA, aG, aF, eG, eF⟩
    show X0_trim_b44 N (nn l) (nn y) _ A (nn g) (nn k) (nn c) = _
    unfold X0_trim_b44
    rw [fr.cellsX, if_pos ((nn_le (by omega) (by omega)).mpr (by omega))]
  | succ j ih =>
    intro c q A G F g k hc hq cA aG aF eG eF
    obtain ⟨q, rfl⟩ : ∃ z, q = z + 1 := ⟨q - 1, by omega⟩
    have fr : FR A σ fo nb L C W := h.fr.same (cA.sameOn (fun f i hi z => by unfold dyn at hi; unfold P137 at z; omega)) (cA.R 0 (by unfold P137; omega)) (fun _ _ _ => ⟨rfl, rfl⟩)
    have gs := eG.sz
    have fs := eF.sz
    have hX : rn4 (X0_trim_b44 N (nn l) (nn y)) (q + 1) A (nn g) (nn k) (nn c) = (if nn c < nn (C - y) then (X0_trim_b75 N (nn l) (nn y) (rn4 (X0_trim_b44 N (nn l) (nn y)) q) A (nn g) (nn k) (nn c) 0) else (X0_trim_b75 N (nn l) (nn y) (rn4 (X0_trim_b44 N (nn l) (nn y)) q) A (nn g) (nn k) (nn c) 1)) := by
      show X0_trim_b44 N (nn l) (nn y) (rn4 (X0_trim_b44 N (nn l) (nn y)) q) A (nn g) (nn k) (nn c) = _
      generalize rn4 (X0_trim_b44 N (nn l) (nn y)) q = kk
      unfold X0_trim_b44
      rw [fr.cellsX, if_neg (fun z => by have := (nn_le (by omega) (by omega)).mp z; omega), fr.cellsX, nn_sub (by omega)]
    rw [hX]
    rcases Nat.lt_or_ge c (C - y) with z | z
    · rw [if_pos ((nn_lt (by omega) (by omega)).mpr z)]
      obtain ⟨r, r0, r1, _⟩ := tr_fre hN h cA hl c
      rw [show max c (C - y) = max (c + 1) (C - y) by omega] at eG
      rw [show min c (C - y) = c by omega] at eF fs
      have e75 : X0_trim_b75 N (nn l) (nn y) (rn4 (X0_trim_b44 N (nn l) (nn y)) q) A (nn g) (nn k) (nn c) 0 = if r = 0 then rn4 (X0_trim_b44 N (nn l) (nn y)) q A (nn g) (nn k) (nn (c + 1)) else rn4 (X0_trim_b44 N (nn l) (nn y)) q (wI A 31 138 k (nn c)) (nn g) (nn (k + 1)) (nn (c + 1)) := by
        generalize rn4 (X0_trim_b44 N (nn l) (nn y)) q = kk
        unfold X0_trim_b75 X0_trim_b107 X0_trim_b137
        rw [if_pos rfl, if_pos rfl, r1, bo_some, tI_nn (by omega) (by decide), bo_some, nn_succ, nn_succ]
      rw [e75]
      by_cases r00 : r = 0
      · rw [if_pos r00]
        refine ih (c + 1) q A G F g k (by omega) (by omega) cA aG aF eG ?_
        rw [show min (c + 1) (C - y) = c + 1 by omega]
        exact eF.skip (r0.mp r00)
      · rw [if_neg r00]
        refine ih (c + 1) q _ G (fun i => if i = k then c else F i) g (k + 1) (by omega) (by omega) (cA.trans (Ch.wI ⟨rfl, Or.inr rfl⟩)) (fun i hi => ?_) (fun i hi => ?_) eG ?_
        · rw [aI_wI, if_neg (by omega)]; exact aG i hi
        · show aI (wI A 31 138 k (nn c)) 31 138 i = nn (if i = k then c else F i)
          rw [aI_wI]
          by_cases v : i = k
          · rw [if_pos ⟨rfl, rfl, v⟩, if_pos v]
          · rw [if_neg (fun q => v q.2.2), if_neg v]; exact aF i (by omega)
        · rw [show min (c + 1) (C - y) = c + 1 by omega]
          exact eF.push (by omega) (Classical.byContradiction fun q => r00 (r0.mpr q))
    · rw [if_neg (fun q => by have := (nn_lt (by omega) (by omega)).mp q; omega)]
      obtain ⟨r, r0, r1, _⟩ := tr_who hN h cA l c
      rw [show max c (C - y) = c by omega] at eG gs
      rw [show min c (C - y) = min (c + 1) (C - y) by omega] at eF
      have e75 : X0_trim_b75 N (nn l) (nn y) (rn4 (X0_trim_b44 N (nn l) (nn y)) q) A (nn g) (nn k) (nn c) 1 = if r = -1 then rn4 (X0_trim_b44 N (nn l) (nn y)) q A (nn g) (nn k) (nn (c + 1)) else rn4 (X0_trim_b44 N (nn l) (nn y)) q (wI A 31 137 g (nn c)) (nn (g + 1)) (nn k) (nn (c + 1)) := by
        generalize rn4 (X0_trim_b44 N (nn l) (nn y)) q = kk
        unfold X0_trim_b75 X0_trim_b107 X0_trim_b137
        have n10 : ¬ (1 : Int32) = 0 := by decide
        simp only [if_neg n10, r1, bo_some, nn_succ]
        rw [tI_nn (by omega) (by decide), bo_some]
      rw [e75]
      by_cases r00 : r = -1
      · rw [if_pos r00]
        refine ih (c + 1) q A G F g k (by omega) (by omega) cA aG aF ?_ eF
        rw [show max (c + 1) (C - y) = c + 1 by omega]
        exact eG.skip (r0.mp r00)
      · rw [if_neg r00]
        refine ih (c + 1) q _ (fun i => if i = g then c else G i) F (g + 1) k (by omega) (by omega) (cA.trans (Ch.wI ⟨rfl, Or.inl rfl⟩)) (fun i hi => ?_) (fun i hi => ?_) ?_ eF
        · show aI (wI A 31 137 g (nn c)) 31 137 i = nn (if i = g then c else G i)
          rw [aI_wI]
          by_cases v : i = g
          · rw [if_pos ⟨rfl, rfl, v⟩, if_pos v]
          · rw [if_neg (fun q => v q.2.2), if_neg v]; exact aG i (by omega)
        · rw [aI_wI, if_neg (by omega)]; exact aF i hi
        · rw [show max (c + 1) (C - y) = c + 1 by omega]
          exact eG.push z (Classical.byContradiction fun q => r00 (r0.mpr q))
/-- the reference seeks a free cell -/
theorem trW {N : Nat} (hN : 5000 ≤ N) (h : IV A0 σ fo nb L C W n ρ u w κ t m o) {l y c i k : Nat} {F : Nat → Nat} (hl : l < L) (hy2 : y < C) (hc : c < C) (hcl : C - y ≤ c) (eF : Enm F k 0 (C - y) (fre σ nb l)) {v : Nat} (hv : v < 1000) : ∀ (P q : Nat), P < q → P ≤ C - y → (∀ a, a < k → (F a < P ↔ a < k - i)) → (k ≤ i ∧ ∀ k63, rn4 (M_trim_b88 N σ k63) q (nn l) (nn P - 1) (nn v) (nn c) = some (-1)) ∨ (i < k ∧ F (k - 1 - i) ≤ C - y ∧ (∀ a, a < k → (F a < F (k - 1 - i) ↔ a < k - (i + 1))) ∧ ∀ k63, rn4 (M_trim_b88 N σ k63) q (nn l) (nn P - 1) (nn v) (nn c) = k63 (nn l) (nn (F (k - 1 - i)) - 1) (nn (v + (c - F (k - 1 - i)))) (nn (c + 1))) := by
  have bC := h.fr.bC
  intro P
  induction P with
  | zero =>
    intro q hq hP hF
    obtain ⟨q, rfl⟩ : ∃ z, q = z + 1 := ⟨q - 1, by omega⟩
    left
    refine ⟨?_, fun k63 => ?_⟩
    · rcases Nat.lt_or_ge i k with z | z
      · have := (hF 0 (by omega)).mpr (by omega); omega
      · exact z
    · show M_trim_b88 N σ k63 _ (nn l) (nn 0 - 1) (nn v) (nn c) = _
      unfold M_trim_b88 M_trim_b120
      rw [if_pos (by decide), if_neg (by decide)]
  | succ P ih =>
    intro q hq hP hF
    obtain ⟨q, rfl⟩ : ∃ z, q = z + 1 := ⟨q - 1, by omega⟩
    have eP : nn (P + 1) - 1 = nn P := nn_sub (a := P + 1) (b := 1) (by omega)
    have em : (nn P + (-1) : Int32) = nn P - 1 := (Int32.sub_eq_add_neg ..).symm
    obtain ⟨r, r0, _, r2⟩ := tr_fre hN h (Ch.refl A0) hl P
    have hM : ∀ k63, rn4 (M_trim_b88 N σ k63) (q + 1) (nn l) (nn (P + 1) - 1) (nn v) (nn c) = if r = 0 then rn4 (M_trim_b88 N σ k63) q (nn l) (nn P - 1) (nn v) (nn c) else k63 (nn l) (nn P - 1) (nn v + (nn c - nn P)) (nn (c + 1)) := by
      intro k63
      rw [eP]
      show M_trim_b88 N σ k63 (rn4 (M_trim_b88 N σ k63) q) (nn l) (nn P) (nn v) (nn c) = _
      generalize rn4 (M_trim_b88 N σ k63) q = kk
      unfold M_trim_b88 M_trim_b120 M_trim_b114 M_trim_b140
      rw [if_neg (nn_nneg (by omega)), if_pos (nn_ge0 (by omega)), em, nn_succ]
      exact r2 _ _
    by_cases r00 : r = 0
    · have nf := r0.mp r00
      have hF' : ∀ a, a < k → (F a < P ↔ a < k - i) := by
        intro a ha
        rw [← hF a ha]
        have : F a ≠ P := fun e => nf (by rw [← e]; exact (eF.rg a ha).2.2)
        omega
      rcases ih q (by omega) (by omega) hF' with ⟨i1, i2⟩ | ⟨i1, i2, i3, i4⟩
      · exact Or.inl ⟨i1, fun k63 => by rw [hM, if_pos r00]; exact i2 k63⟩
      · exact Or.inr ⟨i1, i2, i3, fun k63 => by rw [hM, if_pos r00]; exact i4 k63⟩
    · have isf : fre σ nb l P := Classical.byContradiction fun q => r00 (r0.mpr q)
      obtain ⟨a, ha, ea⟩ := eF.al P (by omega) (by omega) isf
      have a1 := (hF a ha).mp (by omega)
      have ea2 : a = k - 1 - i := by
        rcases Nat.lt_or_ge (a + 1) (k - i) with z | z
        · have h1 := (hF (a + 1) (by omega)).mpr z
          have h2 := eF.up a (a + 1) (by omega) (by omega)
          omega
        · omega
      rw [ea2] at ea
      right
      refine ⟨by omega, by omega, fun b hb => ?_, fun k63 => ?_⟩
      · rw [ea]
        have h1 := hF b hb
        constructor
        · intro z
          have := h1.mp (by omega)
          rcases Nat.lt_or_ge b (k - (i + 1)) with y1 | y1
          · exact y1
          · have : b = k - 1 - i := by omega
            rw [this] at z; omega
        · intro z
          have := eF.up b (k - 1 - i) (by omega) (by omega)
          omega
      · rw [hM, if_neg r00, ea, nn_sub (by omega), nn_add]
theorem trM {N : Nat} (hN : 5000 ≤ N) (h : IV A0 σ fo nb L C W n ρ u w κ t m o) {l y g k : Nat} {G F : Nat → Nat} (hl : l < L) (hy2 : y < C) (eG : Enm G g (C - y) C (occ σ nb l)) (eF : Enm F k 0 (C - y) (fre σ nb l)) : ∀ (j c q P i : Nat), c + j = C → j < q → C - y ≤ c → P ≤ C - y → i ≤ k → i ≤ g → (∀ a, a < k → (F a < P ↔ a < k - i)) → (∀ a, a < g → (G a < c ↔ a < i)) → rn4 (M_trim_b63 N σ) q (nn l) (nn P - 1) (nn (fwV G F k i)) (nn c) = some (if g ≤ k then nn (fwV G F k g) else -1) := by
  have bC := h.fr.bC
  intro j
  induction j with
  | zero =>
    intro c q P i hc hq hcl hP hik hig hF hG
    obtain ⟨q, rfl⟩ : ∃ z, q = z + 1 := ⟨q - 1, by omega⟩
    have : i = g := by
      rcases Nat.lt_or_ge i g with z | z
      · have := (hG i z).mp (by have := (eG.rg i z).2.1; omega); omega
      · omega
    subst this
    show M_trim_b63 N σ _ (nn l) (nn P - 1) _ (nn c) = _
    unfold M_trim_b63
    rw [h.fr.cells, bo_some, if_pos ((nn_le (by omega) (by omega)).mpr (by omega)), if_pos hik]
  | succ j ih =>
    intro c q P i hc hq hcl hP hik hig hF hG
    obtain ⟨q, rfl⟩ : ∃ z, q = z + 1 := ⟨q - 1, by omega⟩
    obtain ⟨r, r0, _, r2⟩ := tr_who hN h (Ch.refl A0) l c
    have hVi := fwV_le (F := F) (m := k) (g := g) (G := G) (fun a ha => by have := (eG.rg a ha).2.1; omega) i hig
    have gs := eG.sz
    have hM : rn4 (M_trim_b63 N σ) (q + 1) (nn l) (nn P - 1) (nn (fwV G F k i)) (nn c) = if r = -1 then rn4 (M_trim_b63 N σ) q (nn l) (nn P - 1) (nn (fwV G F k i)) (nn (c + 1)) else rn4 (M_trim_b88 N σ (rn4 (M_trim_b63 N σ) q)) N (nn l) (nn P - 1) (nn (fwV G F k i)) (nn c) := by
      show M_trim_b63 N σ (rn4 (M_trim_b63 N σ) q) (nn l) (nn P - 1) _ (nn c) = _
      generalize rn4 (M_trim_b63 N σ) q = kk
      unfold M_trim_b63 M_trim_b140
      rw [h.fr.cells, bo_some, if_neg (fun z => by have := (nn_le (by omega) (by omega)).mp z; omega), r2, bo_some, nn_succ]
    rw [hM]
    by_cases r00 : r = -1
    · rw [if_pos r00]
      have no := r0.mp r00
      refine ih (c + 1) q P i (by omega) (by omega) (by omega) hP hik hig hF (fun a ha => ?_)
      rw [← hG a ha]
      have : G a ≠ c := fun e => no (by rw [← e]; exact (eG.rg a ha).2.2)
      omega
    · rw [if_neg r00]
      have yes : occ σ nb l c := Classical.byContradiction fun q => r00 (r0.mpr q)
      obtain ⟨a, ha, ea⟩ := eG.al c hcl (by omega) yes
      have eai : a = i := by
        have h1 := hG a ha
        rcases Nat.lt_trichotomy a i with z | z | z
        · have := h1.mpr z; omega
        · exact z
        · have h2 := (hG i (by omega)).mp (by have := eG.up i a z ha; omega); omega
      subst eai
      rcases trW hN h (i := a) hl hy2 (by omega) hcl eF (v := fwV G F k a) (by omega) P N (by omega) hP hF with ⟨w1, w2⟩ | ⟨w1, w2, w3, w4⟩
      · rw [w2, if_neg (by omega)]
      · rw [w4]
        have := ih (c + 1) q (F (k - 1 - a)) (a + 1) (by omega) (by omega) (by omega) w2 (by omega) (by omega) w3 (fun b hb => by
          have h1 := hG b hb
          rcases Nat.lt_trichotomy b a with z | z | z
          · have := h1.mpr z; omega
          · subst z; omega
          · have := eG.up a b z hb; omega)
        rw [← this]
        show rn4 (M_trim_b63 N σ) q (nn l) (nn (F (k - 1 - a)) - 1) (nn (fwV G F k a + (c - F (k - 1 - a)))) (nn (c + 1)) = rn4 (M_trim_b63 N σ) q (nn l) (nn (F (k - 1 - a)) - 1) (nn (fwV G F k a + (G a - F (k - 1 - a)))) (nn (c + 1))
        rw [ea]
theorem trim_op {N : Nat} (hN : 5000 ≤ N) (h : IV A σ fo nb L C W n ρ u w κ t m o) (x y : Int32) : ∃ r A', X0_trim N A x y = some (r, A') ∧ M_trim N σ x y = some r ∧ IV A' σ fo nb L C W n ρ u w κ t m o ∧ A'.1 = A.1 := by
  have bL := h.fr.bL
  have bC := h.fr.bC
  unfold X0_trim M_trim
  rw [h.fr.leavesX, (is_eq x 0 (nn L - 1)).1, bo_some, bt0, h.fr.cellsX, (is_eq y 1 (nn C - 1)).1, bo_some, bt0, h.fr.leaves, bo_some, show M_isIn (Int32.toInt64 x) 0 (Int32.toInt64 (nn L - 1)) = _ from (is_eq x 0 (nn L - 1)).2, bo_some, bt0, h.fr.cells, bo_some, show M_isIn (Int32.toInt64 y) 1 (Int32.toInt64 (nn C - 1)) = _ from (is_eq y 1 (nn C - 1)).2, bo_some, bt0, bo_some]
  by_cases c1 : 0 ≤ x ∧ x ≤ nn L - 1
  · obtain ⟨l, hl, rfl⟩ := (rng_ex (by omega)).mp c1
    rw [if_pos c1, if_pos c1, if_neg (show ¬ σ.1 54 0 = 0 from fun q => by have := (isFolioM h.fr).mp q; omega)]
    by_cases c2 : 1 ≤ y ∧ y ≤ nn C - 1
    · obtain ⟨k, hk, rfl⟩ := (rng_ex (by omega)).mp ⟨Int32.le_trans (by decide) c2.1, c2.2⟩
      have hk1 : 1 ≤ k := by
        have := c2.1
        rw [show (1 : Int32) = nn 1 from rfl, nn_le (by omega) (by omega)] at this
        exact this
      rw [if_pos c2, if_pos c2]
      have e0 : ∀ p : Nat → Prop, Enm (fun _ => 0) 0 0 0 p := fun p => Enm.mk (fun i hi => by omega) (fun i j _ hj => by omega) (fun c h1 h2 _ => by omega)
      have e1 : Enm (fun _ => 0) 0 (C - k) (max 0 (C - k)) (occ σ nb l) := by
        rw [show max 0 (C - k) = C - k by omega]
        exact Enm.mk (fun i hi => by omega) (fun i j _ hj => by omega) (fun c h1 h2 _ => by omega)
      have e2 : Enm (fun _ => 0) 0 0 (min 0 (C - k)) (fre σ nb l) := by
        rw [show min 0 (C - k) = 0 by omega]; exact e0 _
      obtain ⟨A', G, F, g, q, x1, x2, x3, x4, x5, x6⟩ := trX hN h hl hk1 hk C 0 N A (fun _ => 0) (fun _ => 0) 0 0 (by omega) (by omega) (Ch.refl A) (fun i hi => by omega) (fun i hi => by omega) e1 e2
      have gs := x5.sz
      have qs := x6.sz
      have hm := trM hN h hl hk x5 x6 k (C - k) N (C - k) 0 (by omega) (by omega) (by omega) (by omega) (by omega) (by omega) (fun a ha => by have := (x6.rg a ha).2.1; omega) (fun a ha => by have := (x5.rg a ha).1; omega)
      have x1' : rn4 (X0_trim_b44 N (nn l) (nn k)) N A 0 0 0 = _ := x1
      have hm' : rn4 (M_trim_b63 N σ) N (nn l) ((nn C - nn k) - 1) 0 (nn C - nn k) = some (if g ≤ q then nn (fwV G F q g) else -1) := by
        rw [nn_sub (by omega)]; exact hm
      obtain ⟨n', ρ', kt⟩ := h.kt
      have hI : IV A' σ fo nb L C W n ρ u w κ t m o := h.frame (x2.mono (fun f i z => by unfold P137 at z; unfold Psc; omega)) (Cm.refl σ) (fun _ => rfl) h.th ⟨n', ρ', kt.ch x2 (by unfold P137; omega) (by unfold P137; omega)⟩ (h.hn.ch x2 (by unfold P137; omega) (by unfold P137; omega) (by unfold P137; omega) (by unfold P137; omega) (by unfold P137; omega))
      rw [x1', hm']
      by_cases z : g ≤ q
      · have few := few_eq hN (g := g) (m := q) (by omega) (by omega) x3 x4 (fun i hi => by have := (x5.rg i hi).2.1; omega) x6.up (fun i a hi ha => by have := (x5.rg i hi).1; have := (x6.rg a ha).2.1; omega) g 16 0 0 (by omega) (by omega) (by omega)
        have few' : X0_fewest N (fewF N) A' 0 (nn g) 0 (nn q) = some (nn (fwW G F g q g)) := few
        rw [if_pos ((nn_le (by omega) (by omega)).mpr z), few', bo_some, if_pos z, fw_eq z (fun i a hi ha => by have := (x5.rg i hi).1; have := (x6.rg a ha).2.1; omega)]
        exact ⟨_, A', rfl, rfl, hI, x2.1⟩
      · rw [if_neg (fun q => z ((nn_le (by omega) (by omega)).mp q)), if_neg z]
        exact ⟨_, A', rfl, rfl, hI, x2.1⟩
    · rw [if_neg c2, if_neg c2]
      exact ⟨_, A, rfl, rfl, h, rfl⟩
  · rw [if_neg c1, if_neg c1]
    refine ⟨-1, A, rfl, ?_, h, rfl⟩
    split <;> rfl
end TRI
