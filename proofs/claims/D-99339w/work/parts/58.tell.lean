/-! PURE LEVEL: what is kept of meetings -/
set_option maxRecDepth 100000
def Ptl (x f i : Nat) : Prop := (f = 601 ∧ i = x) ∨ (f = 36 ∧ i = x + 6) ∨ (f = 31 ∧ x + 7 ≤ i ∧ i < x + 47)
theorem tells66 {N : Nat} {A : AH} {x m r : Nat} (hx : isStb x = true) (ks : KS A) (hm : m < 40) (e : aI A 601 x 0 = nn m) (hr : aR A 36 (x + 6) m = some r) (h1 : x + 7 ≤ r) (h2 : r < x + 47) (a b : Int32) :
    ∃ A', X5_tells_b66 N x a b A = some ((), A') ∧ Ch (Ptl x) A A' ∧ aR A' = aR A ∧ aI A' 601 x 0 = nn (m + 1) ∧ (∀ q i, q ≠ r → aI A' 31 q i = aI A 31 q i) ∧ aI A' 31 r 0 = aI A 600 x 0 ∧ aI A' 31 r 1 = a ∧ aI A' 31 r 2 = b := by
  obtain ⟨k1, k2⟩ := ks.row hx h1 h2
  have u : ∀ (B : AH) (j : Nat) (v : Int32), j < 3 → aK B = aK A → aL B = aL A → uI_ 31 B r (nn j) v = some (wI B 31 r j v) := by
    intro B j v hj q1 q2
    exact uI_nn (by rw [q1]; exact k1) (by rw [q2, k2]; exact hj) (by omega)
  have s : ∀ (B : AH), aR B = aR A → aI B 601 x 0 = nn m → sR 40 36 B (x + 6) (aI B 601 x 0) = some r := by
    intro B q1 q2
    rw [q2, sR_nn hm (by decide), q1, hr]
  have i601 : ∀ (B : AH) (j : Nat) (v : Int32), aI (wI B 31 r j v) 601 x 0 = aI B 601 x 0 := fun B j v => by rw [aI_wI, if_neg (by omega)]
  let A2 := wI A 31 r 0 (aI A 600 x 0)
  let A4 := wI A2 31 r 1 a
  let A6 := wI A4 31 r 2 b
  have e2 : aI A2 601 x 0 = nn m := (i601 _ _ _).trans e
  have e4 : aI A4 601 x 0 = nn m := (i601 _ _ _).trans e2
  have e6 : aI A6 601 x 0 = nn m := (i601 _ _ _).trans e4
  refine ⟨wI A6 601 x 0 (nn (m + 1)), ?_, ?_, rfl, ?_, ?_, ?_, ?_, ?_⟩
  · unfold X5_tells_b66
    rw [s A rfl e, bo_some, show (0 : Int32) = nn 0 from rfl, u A 0 _ (by decide) rfl rfl, bo_some]
    rw [s A2 rfl e2, bo_some, show (1 : Int32) = nn 1 from rfl, u A2 1 _ (by decide) rfl rfl, bo_some]
    rw [s A4 rfl e4, bo_some, show (2 : Int32) = nn 2 from rfl, u A4 2 _ (by decide) rfl rfl, bo_some, lt2_eq]
    rw [e6, nn_add]
  · have p : Ptl x 31 r := Or.inr (Or.inr ⟨rfl, h1, h2⟩)
    exact (((Ch.wI p).trans (Ch.wI p)).trans (Ch.wI p)).trans (Ch.wI (Or.inl ⟨rfl, rfl⟩))
  · rw [aI_wI, if_pos ⟨rfl, rfl, rfl⟩]
  · intro q i hq
    rw [aI_wI, if_neg (by omega), aI_wI, if_neg (by omega), aI_wI, if_neg (by omega), aI_wI, if_neg (by omega)]
  · rw [aI_wI, if_neg (by omega), aI_wI, if_neg (by omega), aI_wI, if_neg (by omega), aI_wI, if_pos ⟨rfl, rfl, rfl⟩]
  · rw [aI_wI, if_neg (by omega), aI_wI, if_neg (by omega), aI_wI, if_pos ⟨rfl, rfl, rfl⟩]
  · rw [aI_wI, if_neg (by omega), aI_wI, if_pos ⟨rfl, rfl, rfl⟩]
theorem tells_loop {N : Nat} {x : Nat} {a b : Int32} {ρ : Nat → Nat} (q : Nat) (hi : ∀ k, k < 40 → x + 7 ≤ ρ k ∧ ρ k < x + 47) (hx : isStb x = true) : ∀ (j k n : Nat) (A : AH), k + j = 40 → 1 ≤ k → j < n → KS A → (∀ i, i < 40 → aR A 36 (x + 6) i = some (if i + 1 < k then ρ (i + 1) else ρ i)) →
    ∃ B, Ch (Ptl x) A B ∧ aI B = aI A ∧ (∀ i, i < 40 → aR B 36 (x + 6) i = some (if i + 1 < 40 then ρ (i + 1) else ρ i)) ∧ rn3 (X5_tells_b19 N x a b) n A q (nn k) = (bo (tR 40 36 B (x + 6) 39 q) fun A9 => lt2 (wI A9 601 x 0 ((aI A9 601 x 0) - 1)) fun A10 => X5_tells_b66 N x a b A10) := by
  intro j
  induction j with
  | zero =>
    intro k n A hk h1 hn ks hR
    obtain ⟨n, rfl⟩ : ∃ z, n = z + 1 := ⟨n - 1, by omega⟩
    have : k = 40 := by omega
    subst this
    refine ⟨A, Ch.refl A, rfl, hR, ?_⟩
    show X5_tells_b19 N x a b _ A q (nn 40) = _
    unfold X5_tells_b19
    rw [if_pos (by decide)]
  | succ j ih =>
    intro k n A hk h1 hn ks hR
    obtain ⟨n, rfl⟩ : ∃ z, n = z + 1 := ⟨n - 1, by omega⟩
    have hrk : aR A 36 (x + 6) k = some (ρ k) := by rw [hR k (by omega), if_neg (by omega)]
    have e1 : nn k - 1 = nn (k - 1) := nn_sub (a := k) (b := 1) h1
    have hok : okR 36 (aK A (ρ k)) = true := by
      rw [(ks.row hx (hi k (by omega)).1 (hi k (by omega)).2).1]; rfl
    obtain ⟨B, b1, b2, b3, b4⟩ := ih (k + 1) n (wR A 36 (x + 6) (k - 1) (some (ρ k))) (by omega) (by omega) (by omega) ks (by
      intro i hi2
      rw [aR_wR]
      by_cases z : i = k - 1
      · rw [if_pos ⟨rfl, rfl, z⟩, if_pos (by omega), show i + 1 = k by omega]
      · rw [if_neg (by omega), hR i hi2]
        by_cases y : i + 1 < k
        · rw [if_pos y, if_pos (by omega)]
        · rw [if_neg y, if_neg (by omega)])
    refine ⟨B, (Ch.wR (Or.inr (Or.inl ⟨rfl, rfl⟩))).trans b1, b2, b3, ?_⟩
    rw [← b4]
    show X5_tells_b19 N x a b (rn3 (X5_tells_b19 N x a b) n) A q (nn k) = _
    generalize rn3 (X5_tells_b19 N x a b) n = kk
    unfold X5_tells_b19
    rw [if_neg (by rw [show (40 : Int32) = nn 40 from rfl, nn_le (by omega) (by omega)]; omega), sR_nn (by omega) (by decide), hrk, bo_some, e1, tR_nn (by omega) (by decide) hok, bo_some, nn_succ]
/-- behind telling: n rows were kept -/
def TOLDr (A A' : AH) (n : Nat) (ρ ρ' : Nat → Nat) (d a b : Int32) : Prop := (∀ k i, k + 1 < min 40 (n + 1) → aI A' 31 (ρ' k) i = aI A 31 (ρ (if n = 40 then k + 1 else k)) i) ∧ aI A' 31 (ρ' (min 40 (n + 1) - 1)) 0 = d ∧ aI A' 31 (ρ' (min 40 (n + 1) - 1)) 1 = a ∧ aI A' 31 (ρ' (min 40 (n + 1) - 1)) 2 = b
theorem tellsX {N : Nat} (hN : 5000 ≤ N) {A : AH} {x n : Nat} {ρ : Nat → Nat} (hx : isStb x = true) (ks : KS A) (k : KR A x n ρ) (a b : Int32) : ∃ A' ρ', X5_tells N A x a b = some ((), A') ∧ Ch (Ptl x) A A' ∧ KR A' x (min 40 (n + 1)) ρ' ∧ TOLDr A A' n ρ ρ' (aI A 600 x 0) a b := by
  have kb := k.kb
  by_cases h40 : n = 40
  · subst h40
    have r0 := k.rr 0 (by decide)
    obtain ⟨B, b1, b2, b3, b4⟩ := tells_loop (N := N) (a := a) (b := b) (ρ 0) (fun j hj => (k.rr j hj).2) hx 39 1 N A (by decide) (by decide) (by omega) ks (by
      intro i hi
      rw [if_neg (by omega)]; exact (k.rr i hi).1)
    have ksB := ks.ch b1
    have hok : okR 36 (aK B (ρ 0)) = true := by rw [(ksB.row hx r0.2.1 r0.2.2).1]; rfl
    let B1 := wR B 36 (x + 6) 39 (some (ρ 0))
    let B2 := wI B1 601 x 0 (nn 39)
    have e601 : aI B 601 x 0 = nn 40 := by rw [b2]; exact k.kn
    have ksB2 : KS B2 := ksB
    obtain ⟨A', t1, t2, t3, t4, t5, t6, t7, t8⟩ := tells66 (N := N) (A := B2) (m := 39) (r := ρ 0) hx ksB2 (by decide) (by show aI B2 601 x 0 = _; rw [aI_wI, if_pos ⟨rfl, rfl, rfl⟩]) (by show aR B2 36 (x + 6) 39 = _; rw [aR_wI, aR_wR, if_pos ⟨rfl, rfl, rfl⟩]) r0.2.1 r0.2.2 a b
    have c2 : Ch (Ptl x) A B2 := (b1.trans (Ch.wR (Or.inr (Or.inl ⟨rfl, rfl⟩)))).trans (Ch.wI (Or.inl ⟨rfl, rfl⟩))
    have i2 : ∀ q i, aI B2 31 q i = aI A 31 q i := by
      intro q i
      rw [aI_wI, if_neg (by omega), aI_wR, b2]
    refine ⟨A', fun i => if i + 1 < 40 then ρ (i + 1) else ρ 0, ?_, c2.trans t2, KR.mk t4 (by decide) ?_ ?_, ?_, ?_, ?_, ?_⟩
    · unfold X5_tells
      rw [if_pos hx, k.kn, if_pos (by rfl), show (0 : Int32) = nn 0 from rfl, sR_nn (by decide) (by decide), r0.1, bo_some]
      have b4' : rn3 (X5_tells_b19 N x a b) N A (ρ 0) 1 = _ := b4
      rw [b4', show (39 : Int32) = nn 39 from rfl, tR_nn (by decide) (by decide) hok, bo_some, lt2_eq]
      rw [show aI (wR B 36 (x + 6) 39 (some (ρ 0))) 601 x 0 = nn 40 from e601, show nn 40 - 1 = nn 39 from rfl]
      exact t1
    · intro i hi
      show aR A' 36 (x + 6) i = some (if i + 1 < 40 then ρ (i + 1) else ρ 0) ∧ x + 7 ≤ (if i + 1 < 40 then ρ (i + 1) else ρ 0) ∧ (if i + 1 < 40 then ρ (i + 1) else ρ 0) < x + 47
      rw [t3, aR_wI, aR_wR]
      by_cases z : i = 39
      · subst z
        rw [if_pos ⟨rfl, rfl, rfl⟩, if_neg (by omega)]
        exact ⟨rfl, r0.2⟩
      · rw [if_neg (by omega), b3 i hi, if_pos (by omega), if_pos (by omega)]
        exact ⟨rfl, (k.rr (i + 1) (by omega)).2⟩
    · intro i j hi hj e
      have e : (if i + 1 < 40 then ρ (i + 1) else ρ 0) = (if j + 1 < 40 then ρ (j + 1) else ρ 0) := e
      by_cases z1 : i + 1 < 40
      · by_cases z2 : j + 1 < 40
        · rw [if_pos z1, if_pos z2] at e
          have := k.ri _ _ z1 z2 e
          omega
        · rw [if_pos z1, if_neg z2] at e
          have := k.ri _ _ z1 (by omega) e
          omega
      · by_cases z2 : j + 1 < 40
        · rw [if_neg z1, if_pos z2] at e
          have := k.ri _ _ (by omega) z2 e
          omega
        · omega
    · intro i j hi
      show aI A' 31 (if i + 1 < 40 then ρ (i + 1) else ρ 0) j = _
      have hi' : i + 1 < 40 := by omega
      rw [if_pos hi', if_pos rfl, t5 _ _ (fun e => by have := k.ri _ _ hi' (by omega) e; omega), i2]
    · show aI A' 31 (if 39 + 1 < 40 then ρ (39 + 1) else ρ 0) 0 = _
      rw [if_neg (by omega), t6, aI_wI, if_neg (by omega), aI_wR, b2]
    · show aI A' 31 (if 39 + 1 < 40 then ρ (39 + 1) else ρ 0) 1 = _
      rw [if_neg (by omega), t7]
    · show aI A' 31 (if 39 + 1 < 40 then ρ (39 + 1) else ρ 0) 2 = _
      rw [if_neg (by omega), t8]
  · have hn : n < 40 := by omega
    have rn := k.rr n hn
    obtain ⟨A', t1, t2, t3, t4, t5, t6, t7, t8⟩ := tells66 (N := N) (m := n) (r := ρ n) hx ks hn k.kn rn.1 rn.2.1 rn.2.2 a b
    have em : min 40 (n + 1) = n + 1 := by omega
    refine ⟨A', ρ, ?_, t2, ?_, ?_, ?_, ?_, ?_⟩
    · unfold X5_tells
      rw [if_pos hx, k.kn, if_neg (by rw [show (40 : Int32) = nn 40 from rfl, nn_eq (by omega) (by omega)]; exact h40)]
      exact t1
    · rw [em]
      exact KR.mk t4 (by omega) (fun i hi => by rw [t3]; exact k.rr i hi) k.ri
    · intro i j hi
      rw [if_neg h40, t5 _ _ (fun e => by have := k.ri _ _ (by omega) hn e; omega)]
    · rw [em, show n + 1 - 1 = n by omega]; exact t6
    · rw [em, show n + 1 - 1 = n by omega]; exact t7
    · rw [em, show n + 1 - 1 = n by omega]; exact t8
/-! the reference keeps -/
theorem kept64 {N : Nat} {σ : mSt} {m : Nat} (hm : 1 ≤ m) (hm2 : m ≤ 40) (e : σ.1 56 39 = nn m) (a b : Int32) : ∃ σ', M_isKept_b64 N σ a b = some ((), σ') ∧ Cm (fun k => k = 56) σ σ' ∧ ∀ j, σ'.1 56 j = if j = 37 + 3 * m then σ.1 56 0 else if j = 38 + 3 * m then a else if j = 39 + 3 * m then b else σ.1 56 j := by
  have i0 : ((40 + (3 * nn m)) - 3 : Int32) = nn (37 + 3 * m) := by
    rw [show (3 : Int32) = nn 3 from rfl, nn_mul, show (40 : Int32) = nn 40 from rfl, nn_add, nn_sub (by omega), show 40 + 3 * m - 3 = 37 + 3 * m by omega]
  have e39 : ld 2 σ 56 39 = some (nn m) := by
    rw [show (39 : Int32) = nn 39 from rfl, ld_nn (by rfl) (by decide) (by decide), e]
  have st : ∀ (τ : mSt) (j : Nat) (v : Int32), j < 160 → stI 2 τ 56 (nn j) v = some (mUI τ 56 j v) := fun τ j v hj => stI_nn (by rfl) hj (by omega)
  refine ⟨mUI (mUI (mUI σ 56 (37 + 3 * m) (σ.1 56 0)) 56 (37 + 3 * m + 1) a) 56 (37 + 3 * m + 2) b, ?_, (Cm.u56.trans Cm.u56).trans Cm.u56, ?_⟩
  · unfold M_isKept_b64
    rw [e39, bo_some, m_day, bo_some, i0, st _ _ _ (by omega), bo_some, show (1 : Int32) = nn 1 from rfl, nn_add, st _ _ _ (by omega), bo_some, show (2 : Int32) = nn 2 from rfl, nn_add, st _ _ _ (by omega), bo_some]
  · intro j
    rw [mI_UI, mI_UI, mI_UI]
    by_cases z0 : j = 37 + 3 * m
    · rw [if_neg (by omega), if_neg (by omega), if_pos ⟨rfl, z0⟩, if_pos z0]
    · rw [if_neg z0]
      by_cases z1 : j = 38 + 3 * m
      · rw [if_neg (by omega), if_pos ⟨rfl, by omega⟩, if_pos z1]
      · rw [if_neg z1]
        by_cases z2 : j = 39 + 3 * m
        · rw [if_pos ⟨rfl, by omega⟩, if_pos z2]
        · rw [if_neg (by omega), if_neg (by omega), if_neg (by omega), if_neg z2]
theorem kept_loop {N : Nat} {a b : Int32} (f : Nat → Int32) : ∀ (j k n : Nat) (σ : mSt), k + j = 157 → 40 ≤ k → j < n → (∀ i, σ.1 56 i = if 40 ≤ i ∧ i < k then f (i + 3) else f i) →
    ∃ τ, Cm (fun k => k = 56) σ τ ∧ (∀ i, τ.1 56 i = if 40 ≤ i ∧ i < 157 then f (i + 3) else f i) ∧ rn4 (M_isKept_b23 N) n σ a b (nn k) = M_isKept_b64 N τ a b := by
  intro j
  induction j with
  | zero =>
    intro k n σ hk h1 hn hR
    obtain ⟨n, rfl⟩ : ∃ z, n = z + 1 := ⟨n - 1, by omega⟩
    have : k = 157 := by omega
    subst this
    refine ⟨σ, Cm.refl σ, hR, ?_⟩
    show M_isKept_b23 N _ σ a b (nn 157) = _
    unfold M_isKept_b23
    rw [if_pos (by decide)]
  | succ j ih =>
    intro k n σ hk h1 hn hR
    obtain ⟨n, rfl⟩ : ∃ z, n = z + 1 := ⟨n - 1, by omega⟩
    obtain ⟨τ, t1, t2, t3⟩ := ih (k + 1) n (mUI σ 56 k (f (k + 3))) (by omega) (by omega) (by omega) (by
      intro i
      rw [mI_UI]
      by_cases z : i = k
      · rw [if_pos ⟨rfl, z⟩, if_pos (by omega), z]
      · rw [if_neg (by omega), hR i]
        by_cases y : 40 ≤ i ∧ i < k
        · rw [if_pos y, if_pos (by omega)]
        · rw [if_neg y, if_neg (by omega)])
    refine ⟨τ, Cm.u56.trans t1, t2, ?_⟩
    rw [← t3]
    show M_isKept_b23 N (rn4 (M_isKept_b23 N) n) σ a b (nn k) = _
    generalize rn4 (M_isKept_b23 N) n = kk
    unfold M_isKept_b23
    rw [if_neg (by rw [show (157 : Int32) = nn 157 from rfl, nn_le (by omega) (by omega)]; omega), show (3 : Int32) = nn 3 from rfl, nn_add, ld_nn (by rfl) (by show k + 3 < 160; omega) (by omega), bo_some, hR (k + 3), if_neg (by omega), stI_nn (by rfl) (by show k < 160; omega) (by omega), bo_some, nn_succ]
theorem keptM {N : Nat} (hN : 5000 ≤ N) {σ : mSt} {n : Nat} (hn : n ≤ 40) (e : σ.1 56 39 = nn n) (h61 : σ.1 61 0 = 0) (a b : Int32) : ∃ σ', M_isKept N σ a b = some ((), σ') ∧ Cm (fun k => k = 56) σ σ' ∧ (∀ j, j < 39 → σ'.1 56 j = σ.1 56 j) ∧ σ'.1 56 39 = nn (min 40 (n + 1)) ∧ (∀ k i, i < 3 → k + 1 < min 40 (n + 1) → σ'.1 56 (40 + 3 * k + i) = σ.1 56 (40 + 3 * (if n = 40 then k + 1 else k) + i)) ∧ σ'.1 56 (40 + 3 * (min 40 (n + 1) - 1)) = σ.1 56 0 ∧ σ'.1 56 (40 + 3 * (min 40 (n + 1) - 1) + 1) = a ∧ σ'.1 56 (40 + 3 * (min 40 (n + 1) - 1) + 2) = b := by
  have e39 : ld 2 σ 56 39 = some (nn n) := by
    rw [show (39 : Int32) = nn 39 from rfl, ld_nn (by rfl) (by decide) (by decide), e]
  by_cases h40 : n = 40
  · subst h40
    obtain ⟨τ, t1, t2, t3⟩ := kept_loop (N := N) (a := a) (b := b) (σ.1 56) 117 40 N σ (by decide) (by decide) (by omega) (by intro i; rw [if_neg (by omega)])
    have et : τ.1 56 39 = nn 40 := by rw [t2, if_neg (by omega)]; exact e
    obtain ⟨σ', s1, s2, s3⟩ := kept64 (N := N) (m := 40) (by decide) (by decide) et a b
    refine ⟨σ', ?_, t1.trans s2, ?_, ?_, ?_, ?_, ?_, ?_⟩
    · unfold M_isKept
      rw [if_pos h61, e39, bo_some, if_pos (by rfl)]
      have t3' : rn4 (M_isKept_b23 N) N σ a b 40 = _ := t3
      rw [t3']; exact s1
    · intro j hj
      rw [s3, if_neg (by omega), if_neg (by omega), if_neg (by omega), t2, if_neg (by omega)]
    · rw [s3, if_neg (by omega), if_neg (by omega), if_neg (by omega)]; exact et
    · intro k i hi hk
      have hk' : k + 1 < 40 := by omega
      rw [s3, if_neg (by omega), if_neg (by omega), if_neg (by omega), t2, if_pos (by omega), if_pos rfl, show 40 + 3 * k + i + 3 = 40 + 3 * (k + 1) + i by omega]
    · rw [s3, if_pos (by decide), t2, if_neg (by omega)]
    · rw [s3, if_neg (by decide), if_pos (by decide)]
    · rw [s3, if_neg (by decide), if_neg (by decide), if_pos (by decide)]
  · have em : min 40 (n + 1) = n + 1 := by omega
    have e2 : (mUI σ 56 39 (nn (n + 1))).1 56 39 = nn (n + 1) := by rw [mI_UI, if_pos ⟨rfl, rfl⟩]
    obtain ⟨σ', s1, s2, s3⟩ := kept64 (N := N) (m := n + 1) (by omega) (by omega) e2 a b
    refine ⟨σ', ?_, Cm.u56.trans s2, ?_, ?_, ?_, ?_, ?_, ?_⟩
    · unfold M_isKept
      rw [if_pos h61, e39, bo_some, if_neg (by rw [show (40 : Int32) = nn 40 from rfl, nn_eq (by omega) (by omega)]; exact h40), bo_some, nn_succ, show (39 : Int32) = nn 39 from rfl, stI_nn (by rfl) (by decide) (by decide), bo_some]
      exact s1
    · intro j hj
      rw [s3, if_neg (by omega), if_neg (by omega), if_neg (by omega), mI_UI, if_neg (by omega)]
    · rw [em, s3, if_neg (by omega), if_neg (by omega), if_neg (by omega)]; exact e2
    · intro k i hi hk
      rw [s3, if_neg (by omega), if_neg (by omega), if_neg (by omega), mI_UI, if_neg (by omega), if_neg h40]
    · rw [em, s3, if_pos (by omega), mI_UI, if_neg (by omega)]
    · rw [em, s3, if_neg (by omega), if_pos (by omega)]
    · rw [em, s3, if_neg (by omega), if_neg (by omega), if_pos (by omega)]
