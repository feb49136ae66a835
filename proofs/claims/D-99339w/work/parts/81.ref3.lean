/-! PURE LEVEL: the reference's numbers -/
set_option maxRecDepth 100000
section
variable {N : Nat} {σ σ' : mSt} {B : Nat → Nat} {n p : Nat}
theorem RM.num (r : RM σ B n p) (v : Int32) : RM (mUI σ 10 0 v) B n p ∧ Cm Kl σ (mUI σ 10 0 v) := by
  refine ⟨RM.mk ?_ ?_ ?_ (fun k hk => ?_) r.bk r.pn ?_ (fun k hk j w hv => ?_) (by rw [mI_UI, if_neg (by decide)]; exact r.b6), Cm.UI (Or.inr (Or.inr (Or.inr (Or.inr rfl))))⟩
  · rw [mI_UI, if_neg (by decide)]; exact r.at_
  · rw [mI_UI, if_neg (by decide)]; exact r.en
  · rw [mI_UI, if_neg (by decide)]; exact r.bad
  · rw [mI_UI, if_neg (by omega)]; exact r.tp k hk
  · rw [mI_UI, if_neg (by decide)]; exact r.ed
  · rw [mI_UI]
    by_cases z : k = 10 ∧ j = 0
    · exfalso
      have := hk
      unfold isWd at this
      omega
    · rw [if_neg z]; exact r.wd k hk j w hv
/-- in the midst of digits: what stays -/
def RN (σ : mSt) (B : Nat → Nat) (n p : Nat) : Prop :=
  (σ.1 2 0 = nn p) ∧
  (σ.1 3 0 = nn n) ∧
  (σ.1 5 0 = 0) ∧
  (∀ k, k < n → σ.1 0 k = nn (B k)) ∧
  (BOK B n) ∧
  (p ≤ n) ∧
  (WD σ) ∧
  (σ.1 6 0 = -1)
theorem RN.at_ {σ : mSt} {B : Nat → Nat} {n p : Nat} (h : RN σ B n p) : σ.1 2 0 = nn p := h.1
theorem RN.en {σ : mSt} {B : Nat → Nat} {n p : Nat} (h : RN σ B n p) : σ.1 3 0 = nn n := h.2.1
theorem RN.bad {σ : mSt} {B : Nat → Nat} {n p : Nat} (h : RN σ B n p) : σ.1 5 0 = 0 := h.2.2.1
theorem RN.tp {σ : mSt} {B : Nat → Nat} {n p : Nat} (h : RN σ B n p) : ∀ k, k < n → σ.1 0 k = nn (B k) := h.2.2.2.1
theorem RN.bk {σ : mSt} {B : Nat → Nat} {n p : Nat} (h : RN σ B n p) : BOK B n := h.2.2.2.2.1
theorem RN.pn {σ : mSt} {B : Nat → Nat} {n p : Nat} (h : RN σ B n p) : p ≤ n := h.2.2.2.2.2.1
theorem RN.wd {σ : mSt} {B : Nat → Nat} {n p : Nat} (h : RN σ B n p) : WD σ := h.2.2.2.2.2.2.1
theorem RN.b6 {σ : mSt} {B : Nat → Nat} {n p : Nat} (h : RN σ B n p) : σ.1 6 0 = -1 := h.2.2.2.2.2.2.2
theorem RN.mk {σ : mSt} {B : Nat → Nat} {n p : Nat} (h_at_ : σ.1 2 0 = nn p) (h_en : σ.1 3 0 = nn n) (h_bad : σ.1 5 0 = 0) (h_tp : ∀ k, k < n → σ.1 0 k = nn (B k)) (h_bk : BOK B n) (h_pn : p ≤ n) (h_wd : WD σ) (h_b6 : σ.1 6 0 = -1) : RN σ B n p := ⟨h_at_, h_en, h_bad, h_tp, h_bk, h_pn, h_wd, h_b6⟩
theorem RN.mv (r : RN σ B n p) {p' : Nat} (h : p' ≤ n) : RN (mUI σ 2 0 (nn p')) B n p' ∧ Cm Kl σ (mUI σ 2 0 (nn p')) := by
  refine ⟨RN.mk ?_ ?_ ?_ (fun k hk => ?_) r.bk h (fun k hk j v hv => ?_) (by rw [mI_UI, if_neg (by decide)]; exact r.b6), Cm.UI (Or.inl rfl)⟩
  · rw [mI_UI, if_pos ⟨rfl, rfl⟩]
  · rw [mI_UI, if_neg (by decide)]; exact r.en
  · rw [mI_UI, if_neg (by decide)]; exact r.bad
  · rw [mI_UI, if_neg (by omega)]; exact r.tp k hk
  · have : ¬ (k = 2 ∧ j = 0) := fun z => by
      have := hk
      unfold isWd at this
      omega
    rw [mI_UI, if_neg this]; exact r.wd k hk j v hv
theorem RN.done (r : RN σ B n p) (h1 : 1 ≤ p) (h2 : LD (B (p - 1))) (v : Int32) : RM (mUI (mUI σ 4 0 (nn p)) 10 0 v) B n p ∧ Cm Kl σ (mUI (mUI σ 4 0 (nn p)) 10 0 v) ∧ (mUI (mUI σ 4 0 (nn p)) 10 0 v).1 10 0 = v := by
  refine ⟨RM.mk ?_ ?_ ?_ (fun k hk => ?_) r.bk r.pn (Or.inr ⟨p, ?_, Nat.le_refl _, h1, h2, fun k k1 k2 => by omega⟩) (fun k hk j w hv => ?_) (by rw [mI_UI, if_neg (by decide), mI_UI, if_neg (by decide)]; exact r.b6), (Cm.UI (Or.inr (Or.inl rfl))).trans (Cm.UI (Or.inr (Or.inr (Or.inr (Or.inr rfl))))), ?_⟩
  · rw [mI_UI, if_neg (by decide), mI_UI, if_neg (by decide)]; exact r.at_
  · rw [mI_UI, if_neg (by decide), mI_UI, if_neg (by decide)]; exact r.en
  · rw [mI_UI, if_neg (by decide), mI_UI, if_neg (by decide)]; exact r.bad
  · rw [mI_UI, if_neg (by omega), mI_UI, if_neg (by omega)]; exact r.tp k hk
  · rw [mI_UI, if_neg (by decide), mI_UI, if_pos ⟨rfl, rfl⟩]
  · have : ¬ (k = 10 ∧ j = 0) ∧ ¬ (k = 4 ∧ j = 0 ∧ False) := ⟨fun z => by
      obtain ⟨z1, z2⟩ := z
      subst z1
      have := hk
      unfold isWd at this
      omega, fun z => z.2.2⟩
    have h4 : ¬ (k = 4 ∧ j = 0) := fun z => by
      have := hk
      unfold isWd at this
      omega
    rw [mI_UI, if_neg this.1, mI_UI, if_neg h4]; exact r.wd k hk j w hv
  · rw [mI_UI, if_pos ⟨rfl, rfl⟩]
theorem RM.rn (r : RM σ B n p) : RN σ B n p := RN.mk r.at_ r.en r.bad r.tp r.bk r.pn r.wd r.b6
theorem mnum_loop {l m a : Nat} (hm : m < 100000) (hl : l < 100000) (hd : isDg (B a) = true) : ∀ (f k z : Nat) (σ : mSt), n - (a + k) = f → f < z → k ≤ 4 → (∀ i, i < k → isDg (B (a + i)) = true) → RN σ B n (a + k) →
    ∃ x σ', rn5 (M_number_b49 N) z σ (nn l) (nn m) (nn a) (nn (dvl B a k)) = some (x, σ') ∧ Cm Kl σ σ' ∧ Rf σ' (if a + 4 < rp isDg B n (a + k) then .error (1, a + 4) else if l ≤ dvl B a (rp isDg B n (a + k) - a) ∧ dvl B a (rp isDg B n (a + k) - a) ≤ m then .ok (dvl B a (rp isDg B n (a + k) - a), a, rp isDg B n (a + k)) else .error (2, a) : Rs (Nat × Nat × Nat)) (fun v => x = nn v.1 ∧ RM σ' B n v.2.2 ∧ σ'.1 10 0 = nn v.2.1) := by
  have stop : ∀ (k : Nat) (σ : mSt), k ≤ 4 → (∀ i, i < k → isDg (B (a + i)) = true) → RN σ B n (a + k) → ¬ isDg (B (a + k)) = true → ∃ x σ', M_number_b129 N σ (nn l) (nn m) (nn a) (nn (dvl B a k)) = some (x, σ') ∧ Cm Kl σ σ' ∧ Rf σ' (if l ≤ dvl B a k ∧ dvl B a k ≤ m then .ok (dvl B a k, a, a + k) else .error (2, a) : Rs (Nat × Nat × Nat)) (fun v => x = nn v.1 ∧ RM σ' B n v.2.2 ∧ σ'.1 10 0 = nn v.2.1) := by
    intro k σ hk hi r c
    have hv := dvl_lt k hi
    have hv4 : 10 ^ k ≤ 10 ^ 4 := Nat.pow_le_pow_right (by decide) hk
    have nb := r.bk.nb
    have hk1 : 1 ≤ k := by
      rcases Nat.eq_zero_or_pos k with y | y
      · subst y; exact absurd hd c
      · exact y
    obtain ⟨d1, d2, d3⟩ := r.done (by omega) (by rw [show a + k - 1 = a + (k - 1) by omega]; exact Or.inr (hi (k - 1) (by omega))) (nn a)
    have h01 : M_isIn (Int32.toInt64 (nn (dvl B a k))) (Int32.toInt64 (nn l)) (Int32.toInt64 (nn m)) = some (if nn l ≤ nn (dvl B a k) ∧ nn (dvl B a k) ≤ nn m then 1 else 0) := (is_eq _ _ _).2
    unfold M_number_b129
    rw [lt2_eq, lt2_eq, r.at_, h01, bo_some]
    by_cases z : l ≤ dvl B a k ∧ dvl B a k ≤ m
    · rw [if_pos z, if_pos (show nn l ≤ nn (dvl B a k) ∧ nn (dvl B a k) ≤ nn m from ⟨(nn_le (by omega) (by omega)).mpr z.1, (nn_le (by omega) (by omega)).mpr z.2⟩), if_neg (by decide)]
      exact ⟨_, _, rfl, d2, rfl, d1, d3⟩
    · rw [if_neg z, if_neg (show ¬ (nn l ≤ nn (dvl B a k) ∧ nn (dvl B a k) ≤ nn m) from fun w => z ⟨(nn_le (by omega) (by omega)).mp w.1, (nn_le (by omega) (by omega)).mp w.2⟩), if_pos rfl]
      obtain ⟨σ2, y1, y2, y3⟩ := fail_eq d1.bad 2 a (by decide)
      rw [show (2 : Int32) = nn 2 from rfl, y1, bd_some]
      exact ⟨_, _, rfl, d2.trans y3, y2⟩
  intro f
  induction f with
  | zero =>
    intro k z σ hf hz hk hi r
    obtain ⟨z, rfl⟩ : ∃ m, z = m + 1 := ⟨z - 1, by omega⟩
    have nb := r.bk.nb
    have pn := r.pn
    have b6 : B (a + k) = 256 := r.bk.ge _ (by omega)
    rw [rp_e (by omega), if_neg (by omega), show a + k - a = k by omega]
    show ∃ x σ', M_number_b49 N _ σ _ _ _ _ = _ ∧ _
    unfold M_number_b49
    rw [r.en, r.at_, if_pos ((nn_le (by omega) (by omega)).mpr (by omega))]
    exact stop k σ hk hi r (by rw [b6]; decide)
  | succ f ih =>
    intro k z σ hf hz hk hi r
    obtain ⟨z, rfl⟩ : ∃ m, z = m + 1 := ⟨z - 1, by omega⟩
    have hv := dvl_lt k hi
    have hv4 : 10 ^ k ≤ 10 ^ 4 := Nat.pow_le_pow_right (by decide) hk
    have nb := r.bk.nb
    have b2 := r.bk.lt (a + k) (by omega)
    have hb : ld 2 σ 0 (nn (a + k)) = some (nn (B (a + k))) := by rw [ld_nn (by rfl) (by show a + k < 1600; omega) (by omega), r.tp _ (by omega)]
    show ∃ x σ', M_number_b49 N (rn5 (M_number_b49 N) z) σ _ _ _ _ = _ ∧ _
    by_cases c : isDg (B (a + k)) = true
    · have e : rp isDg B n (a + k) = rp isDg B n (a + k + 1) := rp_t (by omega) c
      have hge := rp_ge isDg B n (a + k + 1)
      by_cases k4 : k = 4
      · rw [if_pos (by omega)]
        generalize rn5 (M_number_b49 N) z = kk
        obtain ⟨σ2, y1, y2, y3⟩ := fail_eq r.bad 1 (a + 4) (by decide)
        subst k4
        unfold M_number_b49
        rw [r.en, r.at_, if_neg (fun q => by have := (nn_le (by omega) (by omega)).mp q; omega), hb, bo_some, ← bv_nn b2, mdig_t (by omega) c, bo_some, if_neg (by decide), nn_sub (by omega), show a + 4 - a = 4 by omega, if_pos (by rfl), show (1 : Int32) = nn 1 from rfl, y1, bd_some]
        exact ⟨_, _, rfl, y3, y2⟩
      · obtain ⟨r2, c2⟩ := r.mv (p' := a + (k + 1)) (by omega)
        have hc := c
        unfold isDg at hc
        simp at hc
        obtain ⟨x, σ', h1, h2, h3⟩ := ih (k + 1) z _ (by omega) (by omega) (by omega) (fun i h => by
          by_cases ei : i = k
          · rw [ei]; exact c
          · exact hi i (by omega)) r2
        rw [show a + (k + 1) = a + k + 1 by omega] at h1 h2 h3
        rw [e]
        refine ⟨x, σ', ?_, (by rw [show a + (k + 1) = a + k + 1 by omega] at c2; exact c2.trans h2), h3⟩
        generalize rn5 (M_number_b49 N) z = kk at h1 ⊢
        unfold M_number_b49
        rw [r.en, r.at_, if_neg (fun q => by have := (nn_le (by omega) (by omega)).mp q; omega), hb, bo_some, ← bv_nn b2, mdig_t (by omega) c, bo_some, if_neg (by decide), nn_sub (by omega), show a + k - a = k by omega, if_neg (fun q => k4 ((nn_eq (by omega) (by decide)).mp (q.trans (show (4 : Int32) = nn 4 from rfl)))), bo_some, lt2_eq, nn_succ, bv_nn b2, show (10 : Int32) = nn 10 from rfl, nn_mul, nn_add, show (48 : Int32) = nn 48 from rfl, nn_sub (by omega), show 10 * dvl B a k + B (a + k) - 48 = dvl B a (k + 1) by show _ = 10 * dvl B a k + (B (a + k) - 48); omega]
        exact h1
    · have e : rp isDg B n (a + k) = a + k := rp_f (by simpa using c)
      rw [e, if_neg (by omega), show a + k - a = k by omega]
      generalize rn5 (M_number_b49 N) z = kk
      unfold M_number_b49
      rw [r.en, r.at_, if_neg (fun q => by have := (nn_le (by omega) (by omega)).mp q; omega), hb, bo_some, ← bv_nn b2, mdig_f (by omega) c, bo_some, if_pos rfl]
      exact stop k σ hk hi r c
theorem mnumber_eq (hN : 5000 ≤ N) (r : RM σ B n p) {l m : Nat} (hm : m < 100000) (hl : l < 100000) : ∃ x σ', M_number N σ (nn l) (nn m) = some (x, σ') ∧ Cm Kl σ σ' ∧ Rf σ' (sNum B n l m p) (fun v => x = nn v.1 ∧ RM σ' B n v.2.2 ∧ σ'.1 10 0 = nn v.2.1) := by
  obtain ⟨σ1, h1, h2, h3⟩ := look_eq hN r
  have hle := r.bk.le (sk B n p)
  have nb := r.bk.nb
  have hb30 : ∃ x σ', M_number_b30 N σ1 = some (x, σ') ∧ Cm Kl σ σ' ∧ RF σ' (1, sk B n p) := by
    unfold M_number_b30
    obtain ⟨σ2, y1, y2, y3⟩ := fail_eq h3.bad 1 (sk B n p) (by decide)
    rw [h3.at_, show (1 : Int32) = nn 1 from rfl, y1, bd_some]
    exact ⟨_, _, rfl, h2.trans y3, y2⟩
  unfold M_number sNum
  rw [if_pos r.bad, h1, bd_some]
  by_cases c : isDg (B (sk B n p)) = true
  · rw [mdig_t hle c, bo_some, if_pos c, if_neg (by decide)]
    by_cases c2 : ptd B (sk B n p) = true
    · rw [if_pos c2, if_pos (h3.ended.mpr c2)]
      exact hb30
    · rw [if_neg c2, if_neg (fun z => c2 (h3.ended.mp z)), h3.at_]
      obtain ⟨x, σ', y1, y2, y3⟩ := mnum_loop (N := N) hm hl c (n - (sk B n p + 0)) 0 N σ1 rfl (by omega) (by omega) (fun i hi => by omega) h3.rn
      exact ⟨x, σ', y1, h2.trans y2, y3⟩
  · rw [mdig_f hle c, bo_some, if_neg c, if_pos rfl]
    exact hb30
end
