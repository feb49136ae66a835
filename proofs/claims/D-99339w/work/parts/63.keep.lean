/-! PURE LEVEL: acts that are kept -/
set_option maxRecDepth 100000
theorem KS.six {A : AH} (h : KS A) {x : Nat} (hx : isStb x = true) : aK A x = 6 := (h.st hx (d := 0) (by decide)).1
theorem keep62 {N : Nat} (hN : 5000 ≤ N) {A : AH} {κ : Nat → Nat} {v n : Nat} {ρ : Nat → Nat} (ks : KS A) (ev : aI A 120 0 0 = nn v) (hv : v < 20) (kp : ∀ k, k < 20 → aR A 38 139 k = some (κ k) ∧ isStb (κ k) = true ∧ 140 ≤ κ k) (k16 : KR A 16 n ρ) (kv : ∃ n' ρ', KR A (κ v) n' ρ') :
    ∃ A' ρ', X0_keeps_b62 N A = some ((), A') ∧ Ch (fun f i => (κ v ≤ i ∧ i < κ v + 48) ∨ (f = 120 ∧ i = 0)) A A' ∧ aI A' 120 0 0 = nn (v + 1) ∧ KR A' (κ v) n ρ' ∧ (∀ f nb L C, nb ≤ 8 → SR A 16 f nb L C → SR A' (κ v) f nb L C) ∧ (∀ f, KV A n ρ f → KV A' n ρ' f) := by
  obtain ⟨q1, q2, q3⟩ := kp v hv
  obtain ⟨n', ρ', k'⟩ := kv
  obtain ⟨A3, c1, c2⟩ := copy_eq hN (x := κ v) (y := 16) q2 rfl (by omega) ks k' k16
  have e3 : aI A3 120 0 0 = nn v := (c2.ch.I 0 (by omega)).trans ev
  have c3 : Ch (fun f i => f = 120 ∧ i = 0) A3 (wI A3 120 0 0 (nn (v + 1))) := by apply Ch.wI; exact ⟨rfl, rfl⟩
  have kr3 := c2.kr k' k16
  refine ⟨wI A3 120 0 0 (nn (v + 1)), ρ', ?_, (c2.ch.mono (fun f i z => Or.inl z)).trans (c3.mono (fun f i z => Or.inr z)), ?_, kr3.ch c3 (by omega) (by omega), fun f nb L C h8 s => (c2.sr h8 s).ch c3 (fun g i _ h1 h2 => by omega) (fun _ _ => rfl) h8, fun f hf => (c2.kv hf).ch kr3 c3 (fun i h1 h2 => by omega) (fun _ _ _ => rfl)⟩
  · unfold X0_keeps_b62
    rw [ev, sR_nn hv (by decide), q1, bo_some, if_pos (ks.six q2), c1, bd_some, bo_some, lt2_eq, e3, nn_succ]
  · rw [aI_wI, if_pos ⟨rfl, rfl, rfl⟩]
theorem keep18 {N : Nat} {κ : Nat → Nat} (q : Nat) (hi : ∀ k, k < 20 → isStb (κ k) = true) : ∀ (j k n : Nat) (A : AH), k + j = 20 → 1 ≤ k → j < n → KS A → (∀ i, i < 20 → aR A 38 139 i = some (if i + 1 < k then κ (i + 1) else κ i)) →
    ∃ B, Ch (fun f i => f = 38 ∧ i = 139) A B ∧ aI B = aI A ∧ (∀ i, i < 20 → aR B 38 139 i = some (if i + 1 < 20 then κ (i + 1) else κ i)) ∧ rn3 (X0_keeps_b18 N) n A q (nn k) = (bo (tR 20 38 B 139 19 q) fun A7 => lt2 (wI A7 120 0 0 ((aI A7 120 0 0) - 1)) fun A8 => X0_keeps_b62 N A8) := by
  intro j
  induction j with
  | zero =>
    intro k n A hk h1 hn ks hR
    obtain ⟨n, rfl⟩ : ∃ z, n = z + 1 := ⟨n - 1, by omega⟩
    have : k = 20 := by omega
    subst this
    refine ⟨A, Ch.refl A, rfl, hR, ?_⟩
    show X0_keeps_b18 N _ A q (nn 20) = _
    unfold X0_keeps_b18
    rw [if_pos (by decide)]
  | succ j ih =>
    intro k n A hk h1 hn ks hR
    obtain ⟨n, rfl⟩ : ∃ z, n = z + 1 := ⟨n - 1, by omega⟩
    have hrk : aR A 38 139 k = some (κ k) := by rw [hR k (by omega), if_neg (by omega)]
    have e1 : nn k - 1 = nn (k - 1) := nn_sub (a := k) (b := 1) h1
    have hok : okR 38 (aK A (κ k)) = true := by
      rw [ks.six (hi k (by omega))]; rfl
    obtain ⟨B, b1, b2, b3, b4⟩ := ih (k + 1) n (wR A 38 139 (k - 1) (some (κ k))) (by omega) (by omega) (by omega) ks (by
      intro i hi2
      rw [aR_wR]
      by_cases z : i = k - 1
      · rw [if_pos ⟨rfl, rfl, z⟩, if_pos (by omega), show i + 1 = k by omega]
      · rw [if_neg (by omega), hR i hi2]
        by_cases y : i + 1 < k
        · rw [if_pos y, if_pos (by omega)]
        · rw [if_neg y, if_neg (by omega)])
    refine ⟨B, Ch.trans (by apply Ch.wR; exact ⟨rfl, rfl⟩) b1, b2, b3, ?_⟩
    rw [← b4]
    show X0_keeps_b18 N (rn3 (X0_keeps_b18 N) n) A q (nn k) = _
    generalize rn3 (X0_keeps_b18 N) n = kk
    unfold X0_keeps_b18
    rw [if_neg (by rw [show (20 : Int32) = nn 20 from rfl, nn_le (by omega) (by omega)]; omega), sR_nn (by omega) (by decide), hrk, bo_some, e1, tR_nn (by omega) (by decide) hok, bo_some, nn_succ]
def Pk (f i : Nat) : Prop := (140 ≤ i ∧ i < 1100) ∨ (f = 120 ∧ i = 0) ∨ (f = 38 ∧ i = 139)
def Kk (k : Nat) : Prop := k = 68 ∨ k = 69 ∨ k = 70
theorem keepM_loop {N : Nat} {w : Nat} (hw : w < 20) : ∀ (j i q : Nat) (σ : mSt), i + j = 160 → j < q → σ.1 70 0 = nn w → ∃ σ', rn2 (M_keeps_b15 N) q σ (nn i) = (if 20 ≤ (σ'.1 69 0) then (some ((), σ')) else (lt2 (mUI σ' 69 0 ((σ'.1 69 0) + 1)) fun σ2 => some ((), σ2))) ∧ Cm (fun k => k = 68) σ σ' ∧ (∀ b, b < 3200 → σ'.1 68 b = if 160 * w + i ≤ b ∧ b < 160 * w + 160 then σ.1 56 (b - 160 * w) else σ.1 68 b) := by
  intro j
  induction j with
  | zero =>
    intro i q σ hi hq e
    obtain ⟨q, rfl⟩ : ∃ z, q = z + 1 := ⟨q - 1, by omega⟩
    have : i = 160 := by omega
    subst this
    refine ⟨σ, ?_, Cm.refl σ, fun b hb => by rw [if_neg (by omega)]⟩
    show M_keeps_b15 N _ σ (nn 160) = _
    unfold M_keeps_b15
    rw [if_pos (by decide)]
  | succ j ih =>
    intro i q σ hi hq e
    obtain ⟨q, rfl⟩ : ∃ z, q = z + 1 := ⟨q - 1, by omega⟩
    have c1 : Cm (fun k => k = 68) σ (mUI σ 68 (160 * w + i) (σ.1 56 i)) := by apply Cm.UI; rfl
    obtain ⟨σ', p1, p2, p3⟩ := ih (i + 1) q (mUI σ 68 (160 * w + i) (σ.1 56 i)) (by omega) (by omega) (by rw [mI_UI, if_neg (by omega)]; exact e)
    refine ⟨σ', ?_, c1.trans p2, fun b hb => ?_⟩
    · rw [← p1]
      show M_keeps_b15 N (rn2 (M_keeps_b15 N) q) σ (nn i) = _
      generalize rn2 (M_keeps_b15 N) q = kk
      unfold M_keeps_b15
      rw [if_neg (by rw [show (160 : Int32) = nn 160 from rfl, nn_le (by omega) (by omega)]; omega), ld_nn (by rfl) (by show i < 160; omega) (by omega), bo_some, e, show (160 : Int32) = nn 160 from rfl, nn_mul, nn_add, stI_nn (by rfl) (by show 160 * w + i < 3200; omega) (by omega), bo_some, nn_succ]
    · rw [p3 b hb, mI_UI, mI_UI]
      by_cases z : b = 160 * w + i
      · rw [if_neg (by omega), if_pos ⟨rfl, z⟩, if_pos (by omega), show b - 160 * w = i by omega]
      · rw [if_neg (show ¬ (68 = 68 ∧ b = 160 * w + i) from fun q => z q.2)]
        by_cases y : 160 * w + (i + 1) ≤ b ∧ b < 160 * w + 160
        · rw [if_pos y, if_neg (by omega), if_pos (by omega)]
        · rw [if_neg y, if_neg (by omega)]
theorem keepM {N : Nat} (hN : 5000 ≤ N) {σ : mSt} {u w : Nat} (hu : u ≤ 20) (hw : w < 20) (eu : σ.1 69 0 = nn u) (ew : σ.1 70 0 = nn w) : ∃ σ', M_keeps N σ = some ((), σ') ∧ Cm Kk σ σ' ∧ σ'.1 69 0 = nn (min 20 (u + 1)) ∧ σ'.1 70 0 = nn ((w + 1) % 20) ∧ (∀ j, j < 160 → krow σ' ((w + 1) % 20) j = σ.1 56 j) ∧ ∀ q, q < 20 → q ≠ (w + 1) % 20 → ∀ j, j < 160 → krow σ' q j = krow σ q j := by
  have hw' : (w + 1) % 20 < 20 := Nat.mod_lt _ (by decide)
  have ewn : ((σ.1 70 0 + 1) - (σ.1 70 0 + 1) / 20 * 20 : Int32) = nn ((w + 1) % 20) := by
    rw [ew, nn_succ, show (20 : Int32) = nn 20 from rfl, nn_rem (by omega) (by decide)]
  generalize (w + 1) % 20 = w' at *
  have c0 : Cm Kk σ (mUI σ 70 0 (nn w')) := Cm.UI (by unfold Kk; omega)
  obtain ⟨σ1, p1, p2, p3⟩ := keepM_loop (N := N) hw' 160 0 N (mUI σ 70 0 (nn w')) (by omega) (by omega) (by rw [mI_UI, if_pos ⟨rfl, rfl⟩])
  have c1 : Cm Kk σ σ1 := c0.trans (p2.mono (fun k z => Or.inl z))
  have e69 : σ1.1 69 0 = nn u := by rw [(p2 69 0 (by omega)).1, mI_UI, if_neg (by omega)]; exact eu
  have e70 : σ1.1 70 0 = nn w' := by rw [(p2 70 0 (by omega)).1, mI_UI, if_pos ⟨rfl, rfl⟩]
  have r1 : ∀ j, j < 160 → krow σ1 w' j = σ.1 56 j := by
    intro j hj
    show σ1.1 68 (160 * w' + j) = _
    rw [p3 _ (by omega), if_pos (by omega), mI_UI, if_neg (by omega), show 160 * w' + j - 160 * w' = j by omega]
  have r2 : ∀ q, q < 20 → q ≠ w' → ∀ j, j < 160 → krow σ1 q j = krow σ q j := by
    intro q hq hne j hj
    show σ1.1 68 (160 * q + j) = σ.1 68 (160 * q + j)
    rw [p3 _ (by omega), if_neg (by omega), mI_UI, if_neg (by omega)]
  have p1' : M_keeps N σ = (if 20 ≤ (σ1.1 69 0) then (some ((), σ1)) else (lt2 (mUI σ1 69 0 ((σ1.1 69 0) + 1)) fun σ2 => some ((), σ2))) := by
    unfold M_keeps
    rw [ewn, lt2_eq]
    exact p1
  by_cases z : u = 20
  · refine ⟨σ1, ?_, c1, ?_, e70, r1, r2⟩
    · rw [p1', e69, if_pos (by rw [z]; decide)]
    · rw [e69, show min 20 (u + 1) = u by omega]
  · refine ⟨mUI σ1 69 0 (nn (u + 1)), ?_, c1.trans (Cm.UI (by unfold Kk; omega)), ?_, ?_, ?_, ?_⟩
    · rw [p1', e69, if_neg (by rw [show (20 : Int32) = nn 20 from rfl, nn_le (by omega) (by omega)]; omega), lt2_eq, nn_succ]
    · rw [mI_UI, if_pos ⟨rfl, rfl⟩, show min 20 (u + 1) = u + 1 by omega]
    · rw [mI_UI, if_neg (by omega)]; exact e70
    · intro j hj
      show (mUI σ1 69 0 (nn (u + 1))).1 68 _ = _
      rw [mI_UI, if_neg (by omega)]; exact r1 j hj
    · intro q hq hne j hj
      show (mUI σ1 69 0 (nn (u + 1))).1 68 _ = _
      rw [mI_UI, if_neg (by omega)]; exact r2 q hq hne j hj
section KEE
variable {A : AH} {σ : mSt} {fo nb L C W n : Nat} {ρ : Nat → Nat} {u w : Nat} {κ : Nat → Nat} {t m o : Nat}
theorem st_in {x : Nat} (hx : isStb x = true) (h : 140 ≤ x) : x + 48 ≤ 1100 := by
  have hs := isSt_of hx
  unfold isSt at hs
  omega
theorem keeps_eq {N : Nat} (hN : 5000 ≤ N) (h : IV A σ fo nb L C W n ρ u w κ t m o) : ∃ A' σ' u' w' κ', X0_keeps N A = some ((), A') ∧ M_keeps N σ = some ((), σ') ∧ Ch Pk A A' ∧ Cm Kk σ σ' ∧ IV A' σ' fo nb L C W n ρ u' w' κ' t m o := by
  have U := h.un
  have ub := U.ub
  have wb := U.wb
  have bn := h.fr.bn
  obtain ⟨σ', m1, m2, m3, m4, m5, m6⟩ := keepM hN ub wb U.um U.wm
  have fin : ∀ (A1 : AH) (κ1 : Nat → Nat) (v : Nat), Ch (fun f i => (f = 38 ∧ i = 139) ∨ (f = 120 ∧ i = 0)) A A1 → v < 20 → v + 1 = min 20 (u + 1) → aI A1 120 0 0 = nn v → (∀ k, k < 20 → aR A1 38 139 k = some (κ1 k) ∧ isStb (κ1 k) = true ∧ 140 ≤ κ1 k) → (∀ j k, j < 20 → k < 20 → κ1 j = κ1 k → j = k) → (∀ k, k < 20 → ∃ k0, k0 < 20 ∧ κ1 k = κ k0 ∧ (k < v → k0 < u ∧ rix ((w + 1) % 20) (v + 1) k = rix w u k0 ∧ rix w u k0 ≠ (w + 1) % 20)) → ∃ A', X0_keeps_b62 N A1 = some ((), A') ∧ Ch Pk A A' ∧ IV A' σ' fo nb L C W n ρ (v + 1) ((w + 1) % 20) κ1 t m o := by
    intro A1 κ1 v c1 hv hvu ev kp ki hk0
    have ks1 := h.ks.ch c1
    have kr1 : ∀ k, k < 20 → ∃ n' ρ', KR A1 (κ1 k) n' ρ' := by
      intro k hk
      obtain ⟨k0, hk00, e0, _⟩ := hk0 k hk
      obtain ⟨n', ρ', q, _⟩ := U.kr k0 hk00
      have hst := (U.kp k0 hk00).2
      exact ⟨n', ρ', by rw [e0]; exact q.ch c1 (by omega) (by omega)⟩
    obtain ⟨A', ρ', f1, f2, f3, f4, f5, f6⟩ := keep62 hN ks1 ev hv kp (h.kr.ch c1 (by omega) (by omega)) (kr1 v hv)
    have hv48 := st_in (kp v hv).2.1 (kp v hv).2.2
    have hv140 := (kp v hv).2.2
    have cA : Ch Pk A A' := (c1.mono (fun f i z => by unfold Pk; omega)).trans (f2.mono (fun f i z => by unfold Pk; omega))
    refine ⟨A', f1, cA, IV.mk (h.fr.same (cA.sameOn (fun f i hi z => by unfold dyn at hi; unfold Pk at z; omega)) (cA.R 0 (by unfold Pk; omega)) (m2.sameM (fun k hk z => by unfold Kfo at hk; unfold Kk at z; omega))) (h.ks.ch cA) (h.m1.ch cA (by unfold Pk; omega)) (h.m2.ch cA (by unfold Pk; omega)) (h.st.ch cA (fun g i hg h1 h2 => by unfold Pk; omega) (fun j _ => m2.I j (by unfold Kk; omega)) h.fr.bn) (by rw [m2.I 0 (by unfold Kk; omega)]; exact h.d9) (h.kr.ch cA (by unfold Pk; omega) (by unfold Pk; omega)) (h.kv.ch h.kr cA (fun i h1 h2 => by unfold Pk; omega) (fun j _ _ => m2.I j (by unfold Kk; omega))) (by obtain ⟨n', ρ', k'⟩ := h.kt; exact ⟨n', ρ', k'.ch cA (by unfold Pk; omega) (by unfold Pk; omega)⟩) ((m2.I 0 (by unfold Kk; omega)).trans h.th) (IvU.mk f3 (by rw [hvu]; exact m3) (by omega) m4 (Nat.mod_lt _ (by decide)) (fun k hk => ⟨(f2.R k (by omega)).trans (kp k hk).1, (kp k hk).2⟩) ki ?_) (h.tp.ch cA m2 (by unfold Pk; omega) (by unfold Pk; omega) (by unfold Kk; omega) (by unfold Kk; omega)) (by rw [cA.I _ (by unfold Pk; omega), m2.I _ (by unfold Kk; omega)]; exact h.fk) (by rw [cA.I _ (by unfold Pk; omega), m2.I _ (by unfold Kk; omega)]; exact h.fp) (fun k hk => by rw [cA.I _ (by unfold Pk; omega), m2.I _ (by unfold Kk; omega)]; exact h.rf k hk) (h.se.ch cA m2 (by unfold Pk; omega) (by unfold Pk; omega) (by unfold Pk; omega) (by unfold Kk; omega) (by unfold Kk; omega)) (by rw [cA.J _ (by unfold Pk; omega), m2.J _ (by unfold Kk; omega)]; exact h.sd) (h.ou.ch cA m2 (by unfold Pk; omega) (by unfold Pk; omega) (by unfold Kk; omega) (by unfold Kk; omega)) (h.hn.ch cA (by unfold Pk; omega) (by unfold Pk; omega) (by unfold Pk; omega) (by unfold Pk; omega) (by unfold Pk; omega)) (h.wd.ch m2 (fun q hq z => by unfold isWd at hq; unfold Kk at z; omega))⟩
    intro k hk
    by_cases z : k = v
    · subst z
      have er : rix ((w + 1) % 20) (k + 1) k = (w + 1) % 20 := by unfold rix; omega
      refine ⟨n, ρ', f4, fun _ => ?_⟩
      rw [er]
      refine ⟨(f6 _ (h.kv.ch h.kr c1 (fun i h1 h2 => by omega) (fun _ _ _ => rfl))).ch f4 (Ch.refl (P := fun _ _ => False) A') (fun _ _ _ z => z) (fun j h1 h2 => m5 j h2), (f5 _ _ _ _ bn (h.st.ch c1 (fun g i _ h1 h2 => by omega) (fun _ _ => rfl) bn)).ch (Ch.refl (P := fun _ _ => False) A') (fun _ _ _ _ _ z => z) (fun j h1 => m5 j (by omega)) bn, ?_⟩
      rw [m5 0 (by decide)]; exact h.d9
    · obtain ⟨k0, hk00, e0, hk1⟩ := hk0 k hk
      obtain ⟨n', ρ'', q1, q2⟩ := U.kr k0 hk00
      have hk140 := (kp k hk).2.2
      have hk48 := st_in (kp k hk).2.1 hk140
      have hdj := st_disj (kp k hk).2.1 (kp v hv).2.1 (fun e => z (ki k v hk hv e))
      rw [e0] at hk140 hk48 hdj
      have q1' : KR A' (κ1 k) n' ρ'' := by
        rw [e0]
        exact (q1.ch c1 (by omega) (by omega)).ch f2 (by omega) (by omega)
      refine ⟨n', ρ'', q1', fun hu => ?_⟩
      obtain ⟨g1, g2, g3⟩ := hk1 (Nat.lt_of_le_of_ne (Nat.le_of_lt_succ hu) z)
      obtain ⟨s1, s2, s3⟩ := q2 g1
      have hx := rix_lt w u k0
      have er : ∀ j, j < 160 → krow σ' (rix ((w + 1) % 20) (v + 1) k) j = krow σ (rix w u k0) j := by
        intro j hj
        rw [g2]; exact m6 _ hx g3 j hj
      rw [e0]
      refine ⟨((s1.ch q1 c1 (fun i h1 h2 => by omega) (fun _ _ _ => rfl)).ch (q1.ch c1 (by omega) (by omega)) f2 (fun i h1 h2 => by omega) (fun j _ h2 => er j h2)), (s2.ch c1 (fun g i _ h1 h2 => by omega) (fun _ _ => rfl) bn).ch f2 (fun g i _ h1 h2 => by omega) (fun j h1 => er j (by omega)) bn, ?_⟩
      rw [er 0 (by decide)]; exact s3
  by_cases h20 : u = 20
  · subst h20
    obtain ⟨B, b1, b2, b3, b4⟩ := keep18 (N := N) (κ 0) (fun k hk => (U.kp k hk).2.1) 19 1 N A (by decide) (by decide) (by omega) h.ks (by
      intro i hi
      rw [if_neg (by omega)]; exact (U.kp i hi).1)
    have ksB := h.ks.ch b1
    have hok : okR 38 (aK B (κ 0)) = true := by rw [ksB.six (U.kp 0 (by decide)).2.1]; rfl
    have e120 : aI B 120 0 0 = nn 20 := by rw [b2]; exact U.un
    have cB : Ch (fun f i => (f = 38 ∧ i = 139) ∨ (f = 120 ∧ i = 0)) A (wI (wR B 38 139 19 (some (κ 0))) 120 0 0 (nn 19)) := by
      have x1 : Ch (fun f i => (f = 38 ∧ i = 139) ∨ (f = 120 ∧ i = 0)) A B := b1.mono (fun f i z => Or.inl z)
      have x2 : Ch (fun f i => (f = 38 ∧ i = 139) ∨ (f = 120 ∧ i = 0)) B (wR B 38 139 19 (some (κ 0))) := by apply Ch.wR; exact Or.inl ⟨rfl, rfl⟩
      have x3 : Ch (fun f i => (f = 38 ∧ i = 139) ∨ (f = 120 ∧ i = 0)) (wR B 38 139 19 (some (κ 0))) (wI (wR B 38 139 19 (some (κ 0))) 120 0 0 (nn 19)) := by apply Ch.wI; exact Or.inr ⟨rfl, rfl⟩
      exact (x1.trans x2).trans x3
    obtain ⟨A', f1, f2, f3⟩ := fin (wI (wR B 38 139 19 (some (κ 0))) 120 0 0 (nn 19)) (fun i => if i + 1 < 20 then κ (i + 1) else κ 0) 19 cB (by decide) (by decide) (by rw [aI_wI, if_pos ⟨rfl, rfl, rfl⟩]) (by
        intro k hk
        rw [aR_wI, aR_wR]
        by_cases z : k = 19
        · subst z
          rw [if_pos ⟨rfl, rfl, rfl⟩]
          exact ⟨rfl, (U.kp 0 (by decide)).2⟩
        · rw [if_neg (by omega), b3 k hk, if_pos (by omega)]
          show some (κ (k + 1)) = some (if k + 1 < 20 then κ (k + 1) else κ 0) ∧ isStb (if k + 1 < 20 then κ (k + 1) else κ 0) = true ∧ 140 ≤ (if k + 1 < 20 then κ (k + 1) else κ 0)
          rw [if_pos (by omega)]
          exact ⟨rfl, (U.kp (k + 1) (by omega)).2⟩) (by
        intro i j hi hj e
        have e : (if i + 1 < 20 then κ (i + 1) else κ 0) = (if j + 1 < 20 then κ (j + 1) else κ 0) := e
        by_cases z1 : i + 1 < 20
        · by_cases z2 : j + 1 < 20
          · rw [if_pos z1, if_pos z2] at e
            have := U.ki _ _ z1 z2 e
            omega
          · rw [if_pos z1, if_neg z2] at e
            have := U.ki _ _ z1 (by omega) e
            omega
        · by_cases z2 : j + 1 < 20
          · rw [if_neg z1, if_pos z2] at e
            have := U.ki _ _ (by omega) z2 e
            omega
          · omega) (by
        intro k hk
        by_cases z : k + 1 < 20
        · refine ⟨k + 1, z, if_pos z, fun hk19 => ⟨by omega, ?_, ?_⟩⟩
          · unfold rix; omega
          · unfold rix; omega
        · exact ⟨0, by decide, if_neg z, fun hk19 => by omega⟩)
    refine ⟨A', σ', _, _, _, ?_, m1, f2, m2, f3⟩
    unfold X0_keeps
    have b4' : rn3 (X0_keeps_b18 N) N A (κ 0) 1 = _ := b4
    rw [U.un, if_pos (by rfl), show (0 : Int32) = nn 0 from rfl, sR_nn (by decide) (by decide), (U.kp 0 (by decide)).1, bo_some, b4', show (19 : Int32) = nn 19 from rfl, tR_nn (by decide) (by decide) hok, bo_some, lt2_eq]
    rw [show aI (wR B 38 139 19 (some (κ 0))) 120 0 0 = nn 20 from e120, show nn 20 - 1 = nn 19 from rfl]
    exact f1
  · obtain ⟨A', f1, f2, f3⟩ := fin A κ u (Ch.refl A) (by omega) (by omega) U.un U.kp U.ki (by
        intro k hk
        refine ⟨k, hk, rfl, fun hku => ⟨hku, ?_, ?_⟩⟩
        · unfold rix; omega
        · unfold rix; omega)
    refine ⟨A', σ', _, _, _, ?_, m1, f2, m2, f3⟩
    unfold X0_keeps
    rw [U.un, if_neg (by rw [show (20 : Int32) = nn 20 from rfl, nn_eq (by omega) (by omega)]; exact h20)]
    exact f1
def Pnow (_f i : Nat) : Prop := (16 ≤ i ∧ i < 64) ∨ i = 12
def Know (k : Nat) : Prop := (55 ≤ k ∧ k ≤ 60) ∨ k = 62 ∨ k = 63 ∨ k = 100 ∨ k = 101
/-- the state of now is another one -/
theorem IV.now {A' : AH} {σ' : mSt} {n' : Nat} {ρ' : Nat → Nat} (h : IV A σ fo nb L C W n ρ u w κ t m o) (c : Ch Pnow A A') (mm : Cm Know σ σ') (st : SR A' 16 (σ'.1 56) nb L C) (d9 : ∃ d, d ≤ 999 ∧ σ'.1 56 0 = nn d) (kr : KR A' 16 n' ρ') (kv : KV A' n' ρ' (σ'.1 56)) (th : σ'.1 61 0 = 0) : IV A' σ' fo nb L C W n' ρ' u w κ t m o :=
  IV.mk (h.fr.same (c.sameOn (fun f i hi z => by unfold dyn at hi; unfold Pnow at z; omega)) (c.R 0 (by unfold Pnow; omega)) (mm.sameM (fun k hk z => by unfold Kfo at hk; unfold Know at z; omega))) (h.ks.ch c) (h.m1.ch c (by unfold Pnow; omega)) (h.m2.ch c (by unfold Pnow; omega)) st d9 kr kv (by obtain ⟨n', ρ', k'⟩ := h.kt; exact ⟨n', ρ', k'.ch c (by unfold Pnow; omega) (by unfold Pnow; omega)⟩) th (h.un.ch c mm h.fr.bn (by unfold Pnow; omega) (by unfold Pnow; omega) (fun f i h1 h2 => by unfold Pnow; omega) (by unfold Know; omega) (by unfold Know; omega) (by unfold Know; omega)) (h.tp.ch c mm (by unfold Pnow; omega) (by unfold Pnow; omega) (by unfold Know; omega) (by unfold Know; omega)) (by rw [c.I _ (by unfold Pnow; omega), mm.I _ (by unfold Know; omega)]; exact h.fk) (by rw [c.I _ (by unfold Pnow; omega), mm.I _ (by unfold Know; omega)]; exact h.fp) (fun k hk => by rw [c.I _ (by unfold Pnow; omega), mm.I _ (by unfold Know; omega)]; exact h.rf k hk) (h.se.ch c mm (by unfold Pnow; omega) (by unfold Pnow; omega) (by unfold Pnow; omega) (by unfold Know; omega) (by unfold Know; omega)) (by rw [c.J _ (by unfold Pnow; omega), mm.J _ (by unfold Know; omega)]; exact h.sd) (h.ou.ch c mm (by unfold Pnow; omega) (by unfold Pnow; omega) (by unfold Know; omega) (by unfold Know; omega)) (h.hn.ch c (by unfold Pnow; omega) (by unfold Pnow; omega) (by unfold Pnow; omega) (by unfold Pnow; omega) (by unfold Pnow; omega)) (h.wd.ch mm (fun q hq z => by unfold isWd at hq; unfold Know at z; omega))
theorem undoM_loop {N : Nat} {w : Nat} (hw : w < 20) : ∀ (j i q : Nat) (σ : mSt), i + j = 160 → j < q → σ.1 70 0 = nn w → ∃ σ', rn2 (M_undo_b21 N) q σ (nn i) = (lt2 (mUI σ' 70 0 ((((σ'.1 70 0) + 20) - 1) - (((σ'.1 70 0) + 20) - 1) / 20 * 20)) fun σ1 => lt2 (mUI σ1 69 0 ((σ1.1 69 0) - 1)) fun σ2 => some (1, σ2)) ∧ Cm (fun k => k = 56) σ σ' ∧ (∀ b, b < 160 → σ'.1 56 b = if i ≤ b then krow σ w b else σ.1 56 b) := by
  intro j
  induction j with
  | zero =>
    intro i q σ hi hq e
    obtain ⟨q, rfl⟩ : ∃ z, q = z + 1 := ⟨q - 1, by omega⟩
    have : i = 160 := by omega
    subst this
    refine ⟨σ, ?_, Cm.refl σ, fun b hb => by rw [if_neg (by omega)]⟩
    show M_undo_b21 N _ σ (nn 160) = _
    unfold M_undo_b21
    rw [if_pos (by decide)]
  | succ j ih =>
    intro i q σ hi hq e
    obtain ⟨q, rfl⟩ : ∃ z, q = z + 1 := ⟨q - 1, by omega⟩
    obtain ⟨σ', p1, p2, p3⟩ := ih (i + 1) q (mUI σ 56 i (krow σ w i)) (by omega) (by omega) (by rw [mI_UI, if_neg (by omega)]; exact e)
    refine ⟨σ', ?_, Cm.u56.trans p2, fun b hb => ?_⟩
    · rw [← p1]
      show M_undo_b21 N (rn2 (M_undo_b21 N) q) σ (nn i) = _
      generalize rn2 (M_undo_b21 N) q = kk
      unfold M_undo_b21
      rw [if_neg (by rw [show (160 : Int32) = nn 160 from rfl, nn_le (by omega) (by omega)]; omega), e, show (160 : Int32) = nn 160 from rfl, nn_mul, nn_add, ld_nn (by rfl) (by show 160 * w + i < 3200; omega) (by omega), bo_some, stI_nn (by rfl) (by show i < 160; omega) (by omega), bo_some, nn_succ]
      rfl
    · have ek : krow (mUI σ 56 i (krow σ w i)) w b = krow σ w b := by
        show (mUI σ 56 i (krow σ w i)).1 68 _ = _
        rw [mI_UI, if_neg (by omega)]; rfl
      rw [p3 b hb, ek, mI_UI]
      by_cases z : b = i
      · rw [if_neg (by omega), if_pos ⟨rfl, z⟩, if_pos (by omega), z]
      · rw [if_neg (show ¬ (56 = 56 ∧ b = i) from fun q => z q.2)]
        by_cases y : i + 1 ≤ b
        · rw [if_pos y, if_pos (by omega)]
        · rw [if_neg y, if_neg (by omega)]
def P120 (f i : Nat) : Prop := f = 120 ∧ i = 0
def K69 (k : Nat) : Prop := k = 69 ∨ k = 70
theorem undo_op {N : Nat} (hN : 5000 ≤ N) (h : IV A σ fo nb L C W n ρ u w κ t m o) : ∃ r A' σ' n' ρ' u' w', X0_undo N A = some (r, A') ∧ M_undo N σ = some (r, σ') ∧ IV A' σ' fo nb L C W n' ρ' u' w' κ t m o ∧ A'.1 = A.1 := by
  have U := h.un
  have ub := U.ub
  have wb := U.wb
  have bn := h.fr.bn
  unfold X0_undo M_undo
  rw [U.un, U.um]
  by_cases z : u = 0
  · obtain ⟨A', σ', r1, r2, r3, r4, r5⟩ := refuses_eq h (k := 4) (by decide)
    have r1' : X0_refuses A 4 = some (-1, A') := r1
    have r3' := r3 (fun σ3 => some ((0 : Int32), σ3))
    rw [show (nn 4) = (4 : Int32) from rfl] at r3'
    rw [if_pos (by rw [z]; rfl), if_pos (by rw [z]; rfl), r1', bd_some, if_pos (by decide), r3']
    exact ⟨0, _, _, _, _, _, _, rfl, rfl, r4, r5.1⟩
  · have ne : ¬ nn u = 0 := by
      rw [show (0 : Int32) = nn 0 from rfl, nn_eq (by omega) (by omega)]; exact z
    have e1 : nn u - 1 = nn (u - 1) := nn_sub (a := u) (b := 1) (by omega)
    have c1 : Ch P120 A (wI A 120 0 0 (nn (u - 1))) := Ch.wI ⟨rfl, rfl⟩
    obtain ⟨q1, q2, q3⟩ := U.kp (u - 1) (by omega)
    obtain ⟨n', ρ', k1, k2⟩ := U.kr (u - 1) (by omega)
    obtain ⟨k3, k4, k5⟩ := k2 (by omega)
    have hst := st_in q2 q3
    have k1' : KR (wI A 120 0 0 (nn (u - 1))) (κ (u - 1)) n' ρ' := k1.ch c1 (by unfold P120; omega) (by unfold P120; omega)
    obtain ⟨A', g1, g2⟩ := copy_eq hN (x := 16) (y := κ (u - 1)) rfl q2 (by omega) (h.ks.ch c1) (h.kr.ch c1 (by unfold P120; omega) (by unfold P120; omega)) k1'
    obtain ⟨σ1, p1, p2, p3⟩ := undoM_loop (N := N) wb 160 0 N σ (by omega) (by omega) U.wm
    have ew : ((((σ1.1 70 0) + 20) - 1) - (((σ1.1 70 0) + 20) - 1) / 20 * 20 : Int32) = nn ((w + 19) % 20) := by
      rw [(p2 70 0 (by omega)).1, U.wm, show (20 : Int32) = nn 20 from rfl, nn_add, show (1 : Int32) = nn 1 from rfl, nn_sub (by omega), nn_rem (by omega) (by decide), show w + 20 - 1 = w + 19 by omega]
    have eu : (mUI σ1 70 0 (nn ((w + 19) % 20))).1 69 0 = nn u := by rw [mI_UI, if_neg (by omega), (p2 69 0 (by omega)).1]; exact U.um
    have erx : rix w u (u - 1) = w := by unfold rix; omega
    rw [erx] at k3 k4 k5
    have m1 : Cm K69 σ1 (mUI (mUI σ1 70 0 (nn ((w + 19) % 20))) 69 0 (nn (u - 1))) := (Cm.UI (Or.inr rfl)).trans (Cm.UI (Or.inl rfl))
    -- the ring with one less
    have hU : IvU (wI A 120 0 0 (nn (u - 1))) (mUI (mUI σ 70 0 (nn ((w + 19) % 20))) 69 0 (nn (u - 1))) nb L C (u - 1) ((w + 19) % 20) κ := by
      have m0 : Cm K69 σ (mUI (mUI σ 70 0 (nn ((w + 19) % 20))) 69 0 (nn (u - 1))) := (Cm.UI (Or.inr rfl)).trans (Cm.UI (Or.inl rfl))
      refine IvU.mk ?_ ?_ (by omega) ?_ (Nat.mod_lt _ (by decide)) (fun k hk => ⟨(c1.R k (by unfold P120; omega)).trans (U.kp k hk).1, (U.kp k hk).2⟩) U.ki ?_
      · rw [aI_wI, if_pos ⟨rfl, rfl, rfl⟩]
      · rw [mI_UI, if_pos ⟨rfl, rfl⟩]
      · rw [mI_UI, if_neg (by omega), mI_UI, if_pos ⟨rfl, rfl⟩]
      · intro k hk
        obtain ⟨n2, ρ2, b1, b2⟩ := U.kr k hk
        have hk2 := st_in (U.kp k hk).2.1 (U.kp k hk).2.2
        have hk3 := (U.kp k hk).2.2
        refine ⟨n2, ρ2, b1.ch c1 (by unfold P120; omega) (by unfold P120; omega), fun hku => ?_⟩
        obtain ⟨b3, b4, b5⟩ := b2 (by omega)
        have er : rix ((w + 19) % 20) (u - 1) k = rix w u k := by unfold rix; omega
        have ek : ∀ q, krow (mUI (mUI σ 70 0 (nn ((w + 19) % 20))) 69 0 (nn (u - 1))) q = krow σ q := fun q => funext fun j => m0.I _ (by unfold K69; omega)
        rw [er, ek]
        exact ⟨b3.ch b1 c1 (fun i h1 h2 => by unfold P120; omega) (fun _ _ _ => rfl), b4.ch c1 (fun g i _ h1 h2 => by unfold P120; omega) (fun _ _ => rfl) bn, b5⟩
    have m0 : Cm K69 σ (mUI (mUI σ 70 0 (nn ((w + 19) % 20))) 69 0 (nn (u - 1))) := (Cm.UI (Or.inr rfl)).trans (Cm.UI (Or.inl rfl))
    have h1 : IV (wI A 120 0 0 (nn (u - 1))) (mUI (mUI σ 70 0 (nn ((w + 19) % 20))) 69 0 (nn (u - 1))) fo nb L C W n ρ (u - 1) ((w + 19) % 20) κ t m o := IV.mk (h.fr.same (c1.sameOn (fun f i hi z => by unfold dyn at hi; unfold P120 at z; omega)) (c1.R 0 (by unfold P120; omega)) (m0.sameM (fun k hk z => by unfold Kfo at hk; unfold K69 at z; omega))) (h.ks.ch c1) (h.m1.ch c1 (by unfold P120; omega)) (h.m2.ch c1 (by unfold P120; omega)) (h.st.ch c1 (fun g i hg h1 h2 => by unfold P120; omega) (fun j _ => m0.I j (by unfold K69; omega)) h.fr.bn) (by rw [m0.I 0 (by unfold K69; omega)]; exact h.d9) (h.kr.ch c1 (by unfold P120; omega) (by unfold P120; omega)) (h.kv.ch h.kr c1 (fun i h1 h2 => by unfold P120; omega) (fun j _ _ => m0.I j (by unfold K69; omega))) (by obtain ⟨n', ρ', k'⟩ := h.kt; exact ⟨n', ρ', k'.ch c1 (by unfold P120; omega) (by unfold P120; omega)⟩) ((m0.I 0 (by unfold K69; omega)).trans h.th) hU (h.tp.ch c1 m0 (by unfold P120; omega) (by unfold P120; omega) (by unfold K69; omega) (by unfold K69; omega)) (by rw [c1.I _ (by unfold P120; omega), m0.I _ (by unfold K69; omega)]; exact h.fk) (by rw [c1.I _ (by unfold P120; omega), m0.I _ (by unfold K69; omega)]; exact h.fp) (fun k hk => by rw [c1.I _ (by unfold P120; omega), m0.I _ (by unfold K69; omega)]; exact h.rf k hk) (h.se.ch c1 m0 (by unfold P120; omega) (by unfold P120; omega) (by unfold P120; omega) (by unfold K69; omega) (by unfold K69; omega)) (by rw [c1.J _ (by unfold P120; omega), m0.J _ (by unfold K69; omega)]; exact h.sd) (h.ou.ch c1 m0 (by unfold P120; omega) (by unfold P120; omega) (by unfold K69; omega) (by unfold K69; omega)) (h.hn.ch c1 (by unfold P120; omega) (by unfold P120; omega) (by unfold P120; omega) (by unfold P120; omega) (by unfold P120; omega)) (h.wd.ch m0 (fun q hq z => by unfold isWd at hq; unfold K69 at z; omega))
    have e56 : ∀ j, j < 160 → (mUI (mUI σ1 70 0 (nn ((w + 19) % 20))) 69 0 (nn (u - 1))).1 56 j = krow σ w j := by
      intro j hj
      rw [m1.I _ (by unfold K69; omega), p3 j hj, if_pos (by omega)]
    have mm : Cm Know (mUI (mUI σ 70 0 (nn ((w + 19) % 20))) 69 0 (nn (u - 1))) (mUI (mUI σ1 70 0 (nn ((w + 19) % 20))) 69 0 (nn (u - 1))) := by
      intro k j hk
      have hk' : ¬ k = 56 := fun e => hk (by unfold Know; omega)
      have := p2 k j hk'
      refine ⟨?_, this.2⟩
      rw [mI_UI, mI_UI, mI_UI, mI_UI, this.1]
    have st1 := (g2.sr bn (k4.ch c1 (fun g i _ h1 h2 => by unfold P120; omega) (fun _ _ => rfl) bn)).ch (Ch.refl (P := fun _ _ => False) A') (fun _ _ _ _ _ z => z) (fun j h1 => e56 j (by omega)) bn
    have kr1 := g2.kr (h.kr.ch c1 (by unfold P120; omega) (by unfold P120; omega)) k1'
    have kv1 := (g2.kv (k3.ch k1 c1 (fun i h1 h2 => by unfold P120; omega) (fun _ _ _ => rfl))).ch kr1 (Ch.refl (P := fun _ _ => False) A') (fun _ _ _ z => z) (fun j h1 h2 => e56 j h2)
    have p1' : rn2 (M_undo_b21 N) N σ 0 = _ := p1
    refine ⟨1, A', mUI (mUI σ1 70 0 (nn ((w + 19) % 20))) 69 0 (nn (u - 1)), n', ρ, u - 1, (w + 19) % 20, ?_, ?_, h1.now (g2.ch.mono (fun f i z => Or.inl z)) mm st1 (by rw [e56 0 (by decide)]; exact k5) kr1 kv1 ?_, ?_⟩
    · rw [if_neg ne, lt2_eq, e1, aI_wI, if_pos ⟨rfl, rfl, rfl⟩, sR_nn (by omega) (by decide), aR_wI, q1, bo_some, g1, bd_some, bo_some]
    · rw [if_neg ne, p1', lt2_eq, ew, lt2_eq, eu, e1]
    · rw [m1.I 0 (by unfold K69; omega), (p2 61 0 (by omega)).1]; exact h.th
    · exact g2.ch.1
end KEE
