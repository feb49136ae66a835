/-! PURE LEVEL: the reference's words, signs and numbers -/
set_option maxRecDepth 100000
theorem wd_ml : ∀ k, k < 94 → ((11 ≤ k ∧ k ≤ 38) ∨ (72 ≤ k ∧ k ≤ 93)) → mt k = 4 ∧ ml k = (kw (wix k)).length ∧ (kw (wix k)).length < 10 := by decide +kernel
/-- the word j stands next -/
abbrev isH (B : Nat → Nat) (n j p : Nat) : Prop := isLt (B (sk B n p)) = true ∧ ¬ ptd B (sk B n p) = true ∧ wdk B (sk B n p) (wE B n p) = kw j
def RF (σ : mSt) (e : Nat × Nat) : Prop :=
  (σ.1 5 0 = nn e.1) ∧
  (σ.1 6 0 = nn e.2) ∧
  (1 ≤ e.1 ∧ e.1 ≤ 5)
theorem RF.b {σ : mSt} {e : Nat × Nat} (h : RF σ e) : σ.1 5 0 = nn e.1 := h.1
theorem RF.pl {σ : mSt} {e : Nat × Nat} (h : RF σ e) : σ.1 6 0 = nn e.2 := h.2.1
theorem RF.nz {σ : mSt} {e : Nat × Nat} (h : RF σ e) : 1 ≤ e.1 ∧ e.1 ≤ 5 := h.2.2
theorem RF.mk {σ : mSt} {e : Nat × Nat} (h_b : σ.1 5 0 = nn e.1) (h_pl : σ.1 6 0 = nn e.2) (h_nz : 1 ≤ e.1 ∧ e.1 ≤ 5) : RF σ e := ⟨h_b, h_pl, h_nz⟩
section
variable {N : Nat} {σ σ' : mSt} {B : Nat → Nat} {n p : Nat}
theorem sIs_isH {j : Nat} : sIs B n j p = if isH B n j p then .ok (wE B n p) else .error (1, sk B n p) := by
  unfold sIs sWord
  by_cases c1 : isLt (B (sk B n p)) = true
  · rw [if_pos c1]
    by_cases c2 : ptd B (sk B n p) = true
    · rw [if_pos c2, eb_er, if_neg (show ¬ isH B n j p from fun z => z.2.1 c2)]
    · rw [if_neg c2, eb_ok]
      by_cases c3 : wdk B (sk B n p) (wE B n p) = kw j
      · rw [if_pos (show isH B n j p from ⟨c1, c2, c3⟩)]
        exact if_pos c3
      · rw [if_neg (show ¬ isH B n j p from fun z => c3 z.2.2)]
        exact if_neg c3
  · rw [if_neg c1, eb_er, if_neg (show ¬ isH B n j p from fun z => c1 z.1)]
theorem fail_eq (hb : σ.1 5 0 = 0) (k pl : Nat) (hk : 1 ≤ k ∧ k ≤ 5) : ∃ σ', M_fail σ (nn k) (nn pl) = some ((), σ') ∧ RF σ' (k, pl) ∧ Cm Kl σ σ' := by
  refine ⟨mUI (mUI σ 5 0 (nn k)) 6 0 (nn pl), ?_, RF.mk ?_ ?_ hk, (Cm.UI (Or.inr (Or.inr (Or.inl rfl)))).trans (Cm.UI (Or.inr (Or.inr (Or.inr (Or.inl rfl)))))⟩
  · unfold M_fail
    rw [if_pos hb, lt2_eq, lt2_eq]
  · rw [mI_UI, if_neg (by decide), mI_UI, if_pos ⟨rfl, rfl⟩]
  · rw [mI_UI, if_pos ⟨rfl, rfl⟩]
theorem RM.tok (r : RM σ B n p) {e : Nat} (h1 : p ≤ e) (h2 : e ≤ n) (h3 : 1 ≤ e) (h4 : LD (B (e - 1))) : RM (mUI (mUI σ 2 0 (nn e)) 4 0 (nn e)) B n e ∧ Cm Kl σ (mUI (mUI σ 2 0 (nn e)) 4 0 (nn e)) := by
  refine ⟨RM.mk ?_ ?_ ?_ (fun k hk => ?_) r.bk h2 (Or.inr ⟨e, ?_, Nat.le_refl _, h3, h4, fun k k1 k2 => by omega⟩) (fun k hk j v hv => ?_) (by rw [mI_UI, if_neg (by decide), mI_UI, if_neg (by decide)]; exact r.b6), (Cm.UI (Or.inl rfl)).trans (Cm.UI (Or.inr (Or.inl rfl)))⟩
  · rw [mI_UI, if_neg (by decide), mI_UI, if_pos ⟨rfl, rfl⟩]
  · rw [mI_UI, if_neg (by decide), mI_UI, if_neg (by decide)]; exact r.en
  · rw [mI_UI, if_neg (by decide), mI_UI, if_neg (by decide)]; exact r.bad
  · rw [mI_UI, if_neg (by omega), mI_UI, if_neg (by omega)]; exact r.tp k hk
  · rw [mI_UI, if_pos ⟨rfl, rfl⟩]
  · have : ¬ (k = 2 ∧ j = 0) ∧ ¬ (k = 4 ∧ j = 0) := by
      have := hk
      unfold isWd at this
      omega
    rw [mI_UI, if_neg this.2, mI_UI, if_neg this.1]; exact r.wd k hk j v hv
theorem here_cmp (r : RM σ B n p) {w e : Nat} (hw : isWd w) (he : p ≤ e) (hen : e ≤ n) (hl : e - p = (kw (wix w)).length) : ∀ (f i z : Nat), i + f = e - p → f < z → (∀ m, m < i → (kw (wix w))[m]? = some (nn (B (p + m)))) → rn3 (M_isHere_b76 N) z σ w (nn i) = some (if wdk B p e = kw (wix w) then 1 else 0, σ) := by
  have nb := r.bk.nb
  have hw' := hw
  unfold isWd at hw'
  obtain ⟨m1, m2, m3⟩ := wd_ml w (by omega) hw'
  have hln : lnC w = some (nn (ml w)) := by unfold lnC; rw [if_pos m1]
  have hlen : (wdk B p e).length = e - p := by unfold wdk; simp
  have hget : ∀ i, i < e - p → (wdk B p e)[i]? = some (nn (B (p + i))) := by
    intro i hi
    unfold wdk
    rw [List.getElem?_map, List.getElem?_range hi]; rfl
  intro f
  induction f with
  | zero =>
    intro i z hi hz hm
    obtain ⟨z, rfl⟩ : ∃ m, z = m + 1 := ⟨z - 1, by omega⟩
    show M_isHere_b76 N _ σ w _ = _
    unfold M_isHere_b76
    rw [hln, bo_some, if_pos ((nn_le (by omega) (by omega)).mpr (by omega)), if_pos]
    apply List.ext_getElem?
    intro k
    rcases Nat.lt_or_ge k (e - p) with y | y
    · rw [hget k y, hm k (by omega)]
    · rw [List.getElem?_eq_none (by omega), List.getElem?_eq_none (by omega)]
  | succ f ih =>
    intro i z hi hz hm
    obtain ⟨z, rfl⟩ : ∃ m, z = m + 1 := ⟨z - 1, by omega⟩
    have ih' := ih (i + 1) z (by omega) (by omega)
    show M_isHere_b76 N (rn3 (M_isHere_b76 N) z) σ w _ = _
    generalize rn3 (M_isHere_b76 N) z = kk at ih' ⊢
    obtain ⟨x, hx⟩ : ∃ x, (kw (wix w))[i]? = some x := ⟨(kw (wix w))[i]'(by omega), List.getElem?_eq_getElem _⟩
    unfold M_isHere_b76
    rw [hln, bo_some, if_neg (fun q => by have := (nn_le (by omega) (by omega)).mp q; omega), r.at_, nn_add, ld_nn (by rfl) (by show p + i < 1600; omega) (by omega), bo_some, r.tp _ (by omega), ld_nn m1 (by omega) (by omega), bo_some, r.wd w hw i x hx]
    by_cases c : nn (B (p + i)) = x
    · rw [if_pos c, nn_succ]
      apply ih'
      intro m hm2
      by_cases em : m = i
      · rw [em, hx, c]
      · exact hm m (by omega)
    · rw [if_neg c, if_neg]
      intro y
      have := hget i (by omega)
      rw [y, hx] at this
      cases this
      exact c rfl
theorem here_let (r : RM σ B n p) {w : Nat} (hw : isWd w) : ∀ (f k z : Nat), n - k = f → f < z → p ≤ k → k ≤ n → rn3 (M_isHere_b35 N) z σ w (nn k) = M_isHere_b61 N σ w (nn (rp isLt B n k)) := by
  have nb := r.bk.nb
  intro f
  induction f with
  | zero =>
    intro k z hf hz hp hk
    obtain ⟨z, rfl⟩ : ∃ m, z = m + 1 := ⟨z - 1, by omega⟩
    rw [rp_e (by omega)]
    show M_isHere_b35 N _ σ w _ = _
    unfold M_isHere_b35
    rw [r.en, if_pos ((nn_le (by omega) (by omega)).mpr (by omega))]
  | succ f ih =>
    intro k z hf hz hp hk
    obtain ⟨z, rfl⟩ : ∃ m, z = m + 1 := ⟨z - 1, by omega⟩
    have ih' := ih (k + 1) z (by omega) (by omega) (by omega) (by omega)
    have hl := r.bk.lt k (by omega)
    show M_isHere_b35 N (rn3 (M_isHere_b35 N) z) σ w _ = _
    generalize rn3 (M_isHere_b35 N) z = kk at ih' ⊢
    unfold M_isHere_b35
    rw [r.en, if_neg (fun q => by have := (nn_le (by omega) (by omega)).mp q; omega), ld_nn (by rfl) (by show k < 1600; omega) (by omega), bo_some, r.tp k (by omega), ← bv_nn hl]
    by_cases c : isLt (B k) = true
    · rw [mlet_t (by omega) c, bo_some, if_neg (by decide), nn_succ, rp_t (by omega) c]; exact ih'
    · rw [mlet_f (by omega) c, bo_some, if_pos rfl, rp_f (by simpa using c)]
theorem isHere_eq (hN : 5000 ≤ N) (r : RM σ B n p) {w : Nat} (hw : isWd w) : ∃ σ', M_isHere N σ w = some (if isH B n (wix w) p then 1 else 0, σ') ∧ Cm Kl σ σ' ∧ RM σ' B n (sk B n p) := by
  obtain ⟨σ', h1, h2, h3⟩ := look_eq hN r
  have nb := r.bk.nb
  have hle := r.bk.le (sk B n p)
  have pn := h3.pn
  refine ⟨σ', ?_, h2, h3⟩
  unfold M_isHere
  rw [if_pos r.bad, h1, bd_some]
  by_cases c1 : isLt (B (sk B n p)) = true
  · rw [mlet_t hle c1, bo_some, if_neg (by decide)]
    by_cases c2 : ptd B (sk B n p) = true
    · rw [if_pos (h3.ended.mpr c2), if_neg (fun z => z.2.1 c2)]
    · rw [if_neg (fun z => c2 (h3.ended.mp z)), h3.at_, here_let h3 hw (n - sk B n p) (sk B n p) N rfl (by omega) (Nat.le_refl _) pn]
      have hge := rp_ge isLt B n (sk B n p)
      have hle2 : rp isLt B n (sk B n p) ≤ n := rp_le r.bk lt_f6 pn
      have hw' := hw
      unfold isWd at hw'
      obtain ⟨m1, m2, m3⟩ := wd_ml w (by omega) hw'
      have hln : lnC w = some (nn (ml w)) := by unfold lnC; rw [if_pos m1]
      unfold M_isHere_b61
      rw [hln, bo_some, h3.at_, nn_sub hge]
      by_cases c3 : rp isLt B n (sk B n p) - sk B n p = (kw (wix w)).length
      · rw [if_pos (by rw [c3, m2])]
        have := here_cmp (N := N) h3 hw hge hle2 c3 (rp isLt B n (sk B n p) - sk B n p) 0 N (by omega) (by omega) (fun m hm => by omega)
        rw [show (0 : Int32) = nn 0 from rfl, this]
        by_cases c4 : wdk B (sk B n p) (rp isLt B n (sk B n p)) = kw (wix w)
        · rw [if_pos c4, if_pos ⟨c1, c2, c4⟩]
        · rw [if_neg c4, if_neg (fun z => c4 z.2.2)]; rfl
      · rw [if_neg (fun z => c3 (by have := (nn_eq (by omega) (by omega)).mp z; omega)), if_neg]
        intro z
        apply c3
        have := congrArg List.length z.2.2
        unfold wdk wE at this
        simp only [List.length_map, List.length_range] at this
        exact this
  · rw [mlet_f hle c1, bo_some, if_pos rfl, if_neg (fun z => c1 z.1)]
theorem isH_end {j : Nat} (hB : BOK B n) (hp : p ≤ n) (h : isH B n j p) : sk B n p < wE B n p ∧ wE B n p ≤ n ∧ LD (B (wE B n p - 1)) ∧ wE B n p - sk B n p = (kw j).length := by
  have hsn : sk B n p ≤ n := rp_le hB bl_f6 hp
  have hlt : sk B n p < n := by
    rcases Nat.lt_or_ge (sk B n p) n with y | y
    · exact y
    · have := h.1; rw [hB.ge _ y] at this; exact absurd this (by decide)
  have h2 : sk B n p < wE B n p := by
    unfold wE
    rw [rp_t hlt h.1]
    have := rp_ge isLt B n (sk B n p + 1); omega
  refine ⟨h2, rp_le hB lt_f6 hsn, Or.inl (rp_in (p := sk B n p) hB lt_f6 (by omega) (by unfold wE at h2 ⊢; omega)), ?_⟩
  have := congrArg List.length h.2.2
  unfold wdk at this
  simp only [List.length_map, List.length_range] at this
  exact this
theorem mtakes_eq (hN : 5000 ≤ N) (r : RM σ B n p) {w : Nat} (hw : isWd w) : ∃ σ', M_takes N σ w = some (if isH B n (wix w) p then 1 else 0, σ') ∧ Cm Kl σ σ' ∧ RM σ' B n (if isH B n (wix w) p then wE B n p else sk B n p) := by
  obtain ⟨σ1, h1, h2, h3⟩ := isHere_eq hN r hw
  have nb := r.bk.nb
  unfold M_takes
  rw [h1, bd_some]
  by_cases c : isH B n (wix w) p
  · rw [if_pos c, if_pos c, if_neg (by decide)]
    have hw' := hw
    unfold isWd at hw'
    obtain ⟨m1, m2, m3⟩ := wd_ml w (by omega) hw'
    have hln : lnC w = some (nn (ml w)) := by unfold lnC; rw [if_pos m1]
    obtain ⟨e1, e2, e3, e4⟩ := isH_end r.bk r.pn c
    obtain ⟨r2, c2⟩ := h3.tok (e := wE B n p) (by omega) e2 (by omega) e3
    refine ⟨_, ?_, h2.trans c2, r2⟩
    rw [hln, bo_some, lt2_eq, lt2_eq, h3.at_, nn_add, m2, ← e4, show sk B n p + (wE B n p - sk B n p) = wE B n p by omega, mI_UI, if_pos ⟨rfl, rfl⟩]
  · rw [if_neg c, if_neg c, if_pos rfl]
    exact ⟨σ1, rfl, h2, h3⟩
/-- what the reference gives for x: as told, or with the fault -/
def Rf {α : Type} (σ' : mSt) (x : Rs α) (S : α → Prop) : Prop := match x with
  | .error e => RF σ' e
  | .ok y => S y
theorem asks_mq (hN : 5000 ≤ N) (r : RM σ B n p) {w : Nat} (hw : isWd w) : ∃ σ', M_asks N σ w = some ((), σ') ∧ Cm Kl σ σ' ∧ Rf σ' (sIs B n (wix w) p) (fun p' => RM σ' B n p') := by
  obtain ⟨σ1, h1, h2, h3⟩ := mtakes_eq hN r hw
  unfold M_asks
  rw [if_pos r.bad, h1, bd_some, sIs_isH]
  by_cases c : isH B n (wix w) p
  · rw [if_pos c] at h3
    rw [if_pos c, if_pos c, if_neg (by decide)]
    exact ⟨σ1, rfl, h2, h3⟩
  · rw [if_neg c] at h3
    rw [if_neg c, if_neg c, if_pos rfl, h3.at_]
    obtain ⟨σ2, y1, y2, y3⟩ := fail_eq h3.bad 1 (sk B n p) (by decide)
    exact ⟨σ2, by rw [show (1 : Int32) = nn 1 from rfl, y1, bd_some], h2.trans y3, y2⟩
theorem takesSign_eq (hN : 5000 ≤ N) (r : RM σ B n p) {c : Nat} (hc : c < 256) (hld : ¬ LD c) : ∃ σ', M_takesSign N σ (nn c) = some (if B (sk B n p) = c then 1 else 0, σ') ∧ Cm Kl σ σ' ∧ RM σ' B n (if B (sk B n p) = c then sk B n p + 1 else sk B n p) := by
  obtain ⟨σ1, h1, h2, h3⟩ := look_eq hN r
  have hle := r.bk.le (sk B n p)
  unfold M_takesSign
  rw [if_pos r.bad, h1, bd_some]
  by_cases z : B (sk B n p) = c
  · rw [if_pos z, if_pos z, if_pos ((bv_eq hle hc).mpr z), lt2_eq, h3.at_, nn_succ]
    obtain ⟨r2, c2⟩ := h3.mv (p' := sk B n p + 1) (by omega) (sk_lt r.bk r.pn z (by omega)) (fun k k1 k2 => by rw [show k = sk B n p by omega, z]; exact hld)
    exact ⟨_, rfl, h2.trans c2, r2⟩
  · rw [if_neg z, if_neg z, if_neg (fun w => z ((bv_eq hle hc).mp w))]
    exact ⟨σ1, rfl, h2, h3⟩
theorem asksSign_eq (hN : 5000 ≤ N) (r : RM σ B n p) {c : Nat} (hc : c < 256) (hld : ¬ LD c) : ∃ σ', M_asksSign N σ (nn c) = some ((), σ') ∧ Cm Kl σ σ' ∧ Rf σ' (sMust B n c p) (fun p' => RM σ' B n p') := by
  obtain ⟨σ1, h1, h2, h3⟩ := takesSign_eq hN r hc hld
  unfold M_asksSign sMust
  rw [if_pos r.bad, h1, bd_some]
  by_cases z : B (sk B n p) = c
  · rw [if_pos z] at h3
    rw [if_pos z, if_pos z, if_neg (by decide)]
    exact ⟨σ1, rfl, h2, h3⟩
  · rw [if_neg z] at h3
    rw [if_neg z, if_neg z, if_pos rfl, h3.at_]
    obtain ⟨σ2, y1, y2, y3⟩ := fail_eq h3.bad 1 (sk B n p) (by decide)
    exact ⟨σ2, by rw [show (1 : Int32) = nn 1 from rfl, y1, bd_some], h2.trans y3, y2⟩
end
