/-! PURE LEVEL: the reference's reader -/
set_option maxRecDepth 100000
def LD (b : Nat) : Prop := isLt b = true ∨ isDg b = true
def RM (σ : mSt) (B : Nat → Nat) (n p : Nat) : Prop :=
  (σ.1 2 0 = nn p) ∧
  (σ.1 3 0 = nn n) ∧
  (σ.1 5 0 = 0) ∧
  (∀ k, k < n → σ.1 0 k = nn (B k)) ∧
  (BOK B n) ∧
  (p ≤ n) ∧
  ((σ.1 4 0 = -1 ∧ ∀ k, k < p → ¬ LD (B k)) ∨ ∃ e, σ.1 4 0 = nn e ∧ e ≤ p ∧ 1 ≤ e ∧ LD (B (e - 1)) ∧ ∀ k, e ≤ k → k < p → ¬ LD (B k)) ∧
  (WD σ) ∧
  (σ.1 6 0 = -1)
theorem RM.at_ {σ : mSt} {B : Nat → Nat} {n p : Nat} (h : RM σ B n p) : σ.1 2 0 = nn p := h.1
theorem RM.en {σ : mSt} {B : Nat → Nat} {n p : Nat} (h : RM σ B n p) : σ.1 3 0 = nn n := h.2.1
theorem RM.bad {σ : mSt} {B : Nat → Nat} {n p : Nat} (h : RM σ B n p) : σ.1 5 0 = 0 := h.2.2.1
theorem RM.tp {σ : mSt} {B : Nat → Nat} {n p : Nat} (h : RM σ B n p) : ∀ k, k < n → σ.1 0 k = nn (B k) := h.2.2.2.1
theorem RM.bk {σ : mSt} {B : Nat → Nat} {n p : Nat} (h : RM σ B n p) : BOK B n := h.2.2.2.2.1
theorem RM.pn {σ : mSt} {B : Nat → Nat} {n p : Nat} (h : RM σ B n p) : p ≤ n := h.2.2.2.2.2.1
theorem RM.ed {σ : mSt} {B : Nat → Nat} {n p : Nat} (h : RM σ B n p) : (σ.1 4 0 = -1 ∧ ∀ k, k < p → ¬ LD (B k)) ∨ ∃ e, σ.1 4 0 = nn e ∧ e ≤ p ∧ 1 ≤ e ∧ LD (B (e - 1)) ∧ ∀ k, e ≤ k → k < p → ¬ LD (B k) := h.2.2.2.2.2.2.1
theorem RM.wd {σ : mSt} {B : Nat → Nat} {n p : Nat} (h : RM σ B n p) : WD σ := h.2.2.2.2.2.2.2.1
theorem RM.b6 {σ : mSt} {B : Nat → Nat} {n p : Nat} (h : RM σ B n p) : σ.1 6 0 = -1 := h.2.2.2.2.2.2.2.2
theorem RM.mk {σ : mSt} {B : Nat → Nat} {n p : Nat} (h_at_ : σ.1 2 0 = nn p) (h_en : σ.1 3 0 = nn n) (h_bad : σ.1 5 0 = 0) (h_tp : ∀ k, k < n → σ.1 0 k = nn (B k)) (h_bk : BOK B n) (h_pn : p ≤ n) (h_ed : (σ.1 4 0 = -1 ∧ ∀ k, k < p → ¬ LD (B k)) ∨ ∃ e, σ.1 4 0 = nn e ∧ e ≤ p ∧ 1 ≤ e ∧ LD (B (e - 1)) ∧ ∀ k, e ≤ k → k < p → ¬ LD (B k)) (h_wd : WD σ) (h_b6 : σ.1 6 0 = -1) : RM σ B n p := ⟨h_at_, h_en, h_bad, h_tp, h_bk, h_pn, h_ed, h_wd, h_b6⟩
def Kl (k : Nat) : Prop := k = 2 ∨ k = 4 ∨ k = 5 ∨ k = 6 ∨ k = 10
theorem bl_nLD {b : Nat} (h : isBl b = true) : ¬ LD b := by
  unfold isBl at h
  unfold LD isLt isDg
  simp at h ⊢
  omega
section
variable {N : Nat} {σ σ' : mSt} {B : Nat → Nat} {n p : Nat}
theorem RM.mv (r : RM σ B n p) {p' : Nat} (h : p ≤ p') (h2 : p' ≤ n) (hn : ∀ k, p ≤ k → k < p' → ¬ LD (B k)) : RM (mUI σ 2 0 (nn p')) B n p' ∧ Cm Kl σ (mUI σ 2 0 (nn p')) := by
  refine ⟨RM.mk ?_ ?_ ?_ (fun k hk => ?_) r.bk h2 ?_ (fun k hk j v hv => ?_) (by rw [mI_UI, if_neg (by decide)]; exact r.b6), Cm.UI (Or.inl rfl)⟩
  · rw [mI_UI, if_pos ⟨rfl, rfl⟩]
  · rw [mI_UI, if_neg (by decide)]; exact r.en
  · rw [mI_UI, if_neg (by decide)]; exact r.bad
  · rw [mI_UI, if_neg (by omega)]; exact r.tp k hk
  · rw [mI_UI, if_neg (by decide)]
    rcases r.ed with ⟨e1, e2⟩ | ⟨e, e1, e2, e3, e4, e5⟩
    · refine Or.inl ⟨e1, fun k hk => ?_⟩
      rcases Nat.lt_or_ge k p with z | z
      · exact e2 k z
      · exact hn k z hk
    · refine Or.inr ⟨e, e1, by omega, e3, e4, fun k hk1 hk2 => ?_⟩
      rcases Nat.lt_or_ge k p with z | z
      · exact e5 k hk1 z
      · exact hn k z hk2
  · have : ¬ (k = 2 ∧ j = 0) := fun z => by
      have := hk
      unfold isWd at this
      omega
    rw [mI_UI, if_neg this]; exact r.wd k hk j v hv
theorem RM.hb (r : RM σ B n p) (h : p < n) : ld 2 σ 0 (nn p) = some (nn (B p)) := by
  have := r.bk.nb
  rw [ld_nn (by rfl) (by show p < 1600; omega) (by omega), r.tp p h]
theorem look_loop : ∀ (f p z : Nat) (σ : mSt), n - p = f → f < z → RM σ B n p → ∃ σ', rn1 (M_look_b0 N) z σ = some (bv (B (sk B n p)), σ') ∧ Cm Kl σ σ' ∧ RM σ' B n (sk B n p) := by
  have stop : ∀ (p : Nat) (σ : mSt), RM σ B n p → M_look_b52 N σ = some (bv (B p), σ) := by
    intro p σ r
    have nb := r.bk.nb
    have pn := r.pn
    unfold M_look_b52
    rw [r.en, r.at_]
    by_cases c : n ≤ p
    · rw [if_pos ((nn_le (by omega) (by omega)).mpr c), r.bk.ge p c]; rfl
    · rw [if_neg (fun q => c ((nn_le (by omega) (by omega)).mp q)), r.hb (by omega), bo_some, bv_nn (r.bk.lt p (by omega))]
  intro f
  induction f with
  | zero =>
    intro p z σ hf hz r
    obtain ⟨z, rfl⟩ : ∃ m, z = m + 1 := ⟨z - 1, by omega⟩
    have nb := r.bk.nb
    have pn := r.pn
    have e : sk B n p = p := rp_e (by omega)
    refine ⟨σ, ?_, Cm.refl σ, by rw [e]; exact r⟩
    show M_look_b0 N _ σ = _
    unfold M_look_b0
    rw [r.en, r.at_, if_pos ((nn_le (by omega) (by omega)).mpr (by omega)), stop p σ r, e]
  | succ f ih =>
    intro p z σ hf hz r
    obtain ⟨z, rfl⟩ : ∃ m, z = m + 1 := ⟨z - 1, by omega⟩
    have nb := r.bk.nb
    have b2 := r.bk.lt p (by omega)
    show ∃ σ', M_look_b0 N (rn1 (M_look_b0 N) z) σ = _ ∧ _
    by_cases c : isBl (B p) = true
    · have e : sk B n p = sk B n (p + 1) := rp_t (by omega) c
      obtain ⟨r2, c2⟩ := r.mv (p' := p + 1) (by omega) (by omega) (fun k h1 h2 => by rw [show k = p by omega]; exact bl_nLD c)
      obtain ⟨σ', h1, h2, h3⟩ := ih (p + 1) z _ (by omega) (by omega) r2
      refine ⟨σ', ?_, c2.trans h2, by rw [e]; exact h3⟩
      generalize rn1 (M_look_b0 N) z = kk at h1 ⊢
      have hb : M_look_b39 N kk σ = some (bv (B (sk B n p)), σ') := by
        unfold M_look_b39
        rw [lt2_eq, r.at_, nn_succ, h1, e]
      unfold M_look_b0
      rw [r.en, r.at_, if_neg (fun q => by have := (nn_le (by omega) (by omega)).mp q; omega), r.hb (by omega), bo_some]
      unfold isBl at c
      by_cases c1 : B p = 10
      · rw [if_pos (show nn (B p) = (10 : Int32) by rw [c1]; rfl)]; exact hb
      · have c2 : B p = 32 := by simpa [c1] using c
        rw [if_neg (fun w : nn (B p) = (10 : Int32) => c1 ((nn_eq (b := 10) (by omega) (by omega)).mp w)), bo_some, if_pos (show nn (B p) = (32 : Int32) by rw [c2]; rfl)]; exact hb
    · have e : sk B n p = p := rp_f (by simpa using c)
      refine ⟨σ, ?_, Cm.refl σ, by rw [e]; exact r⟩
      generalize rn1 (M_look_b0 N) z = kk
      unfold M_look_b0
      unfold isBl at c
      have c1 : B p ≠ 10 := fun z => c (by simp [z])
      have c2 : B p ≠ 32 := fun z => c (by simp [z])
      rw [r.en, r.at_, if_neg (fun q => by have := (nn_le (by omega) (by omega)).mp q; omega), r.hb (by omega), bo_some, if_neg (fun w : nn (B p) = (10 : Int32) => c1 ((nn_eq (b := 10) (by omega) (by omega)).mp w)), bo_some, if_neg (fun w : nn (B p) = (32 : Int32) => c2 ((nn_eq (b := 32) (by omega) (by omega)).mp w)), stop p σ r, e]
theorem look_eq (hN : 5000 ≤ N) (r : RM σ B n p) : ∃ σ', M_look N σ = some (bv (B (sk B n p)), σ') ∧ Cm Kl σ σ' ∧ RM σ' B n (sk B n p) := look_loop (n - p) p N σ rfl (by have := r.bk.nb; omega) r
theorem mlet_t {b : Nat} (hb : b ≤ 256) (h : isLt b = true) : M_isLetter (bv b) = some 1 := let_t hb h
theorem mlet_f {b : Nat} (hb : b ≤ 256) (h : ¬ isLt b = true) : M_isLetter (bv b) = some 0 := let_f hb h
theorem mdig_t {b : Nat} (hb : b ≤ 256) (h : isDg b = true) : M_isDigit (bv b) = some 1 := dig_t hb h
theorem mdig_f {b : Nat} (hb : b ≤ 256) (h : ¬ isDg b = true) : M_isDigit (bv b) = some 0 := dig_f hb h
/-- 'ended' tells whether a letter or a digit stands before -/
theorem RM.ended (r : RM σ B n p) : σ.1 2 0 = σ.1 4 0 ↔ ptd B p = true := by
  have nb := r.bk.nb
  have pn := r.pn
  unfold ptd
  rw [r.at_]
  rcases r.ed with ⟨e1, e2⟩ | ⟨e, e1, e2, e3, e4, e5⟩
  · rw [e1]
    constructor
    · intro h; exact absurd h (nn_ne1 (by omega))
    · intro h
      simp at h
      exact absurd h.2 (fun z => e2 (p - 1) (by omega) z)
  · rw [e1, nn_eq (by omega) (by omega)]
    constructor
    · rintro rfl
      simp
      exact ⟨e3, e4⟩
    · intro h
      simp at h
      rcases Nat.lt_or_ge e p with z | z
      · exact absurd h.2 (fun y => e5 (p - 1) (by omega) (by omega) y)
      · omega
end
