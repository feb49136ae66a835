/-! PURE LEVEL: names, at the reference -/
set_option maxRecDepth 100000
/-- one word after the other is asked for -/
noncomputable def chn (N : Nat) {R : Type} (yes no : mSt → Option R) : List Nat → mSt → Option R
  | [], σ => no σ
  | k :: ks, σ => bd (M_isHere N σ k) fun r σ1 => if r = 0 then chn N yes no ks σ1 else yes σ1
section
variable {N : Nat} {σ σ' : mSt} {B : Nat → Nat} {n p : Nat}
theorem chn_eq (hN : 5000 ≤ N) {R : Type} (yes no : mSt → Option R) (hB : BOK B n) : ∀ (ks : List Nat) (σ : mSt), (∀ k ∈ ks, isWd k) → RM σ B n (sk B n p) → ∃ σ', Cm Kl σ σ' ∧ RM σ' B n (sk B n p) ∧ ((∃ k ∈ ks, isH B n (wix k) p) → chn N yes no ks σ = yes σ') ∧ ((¬ ∃ k ∈ ks, isH B n (wix k) p) → chn N yes no ks σ = no σ') := by
  intro ks
  induction ks with
  | nil =>
    intro σ hk r
    refine ⟨σ, Cm.refl σ, r, fun w => ?_, fun _ => rfl⟩
    obtain ⟨k, h, _⟩ := w
    cases h
  | cons k ks ih =>
    intro σ hk r
    obtain ⟨σ1, h1, c1, r1⟩ := whr_one hN r hB (w := k) (hk k (by simp))
    have e : chn N yes no (k :: ks) σ = bd (M_isHere N σ k) fun r σ1 => if r = 0 then chn N yes no ks σ1 else yes σ1 := rfl
    by_cases c : isH B n (wix k) p
    · rw [if_pos c] at h1
      refine ⟨σ1, c1, r1, fun _ => ?_, fun w => absurd ⟨k, by simp, c⟩ w⟩
      rw [e, h1, bd_some, if_neg (by decide)]
    · rw [if_neg c] at h1
      obtain ⟨σ2, c2, r2, y, z⟩ := ih σ1 (fun j hj => hk j (by simp [hj])) r1
      have e2 : chn N yes no (k :: ks) σ = chn N yes no ks σ1 := by rw [e, h1, bd_some, if_pos rfl]
      refine ⟨σ2, c1.trans c2, r2, fun w => ?_, fun w => ?_⟩
      · rw [e2]
        apply y
        obtain ⟨j, hj, hh⟩ := w
        rcases List.mem_cons.mp hj with q | q
        · subst q; exact absurd hh c
        · exact ⟨j, q, hh⟩
      · rw [e2]
        exact z (fun v => by
          obtain ⟨j, hj, hh⟩ := v
          exact w ⟨j, by simp [hj], hh⟩)
/-- one of the own words stands next -/
def ownH (B : Nat → Nat) (n p : Nat) : Prop := ∃ j, j < 28 ∧ isH B n j p
theorem own_wd {ks : List Nat} (h : ∀ k ∈ ks, 11 ≤ k ∧ k ≤ 38) : ∀ k ∈ ks, isWd k := fun k hk => Or.inl (h k hk)
theorem own_in {ks : List Nat} (h : ∀ k ∈ ks, 11 ≤ k ∧ k ≤ 38) (w : ∃ k ∈ ks, isH B n (wix k) p) : ownH B n p := by
  obtain ⟨k, hk, hh⟩ := w
  have := h k hk
  refine ⟨k - 11, by omega, ?_⟩
  rw [show wix k = k - 11 from if_pos (by omega)] at hh
  exact hh
theorem isOwn_eq (hN : 5000 ≤ N) (r : RM σ B n (sk B n p)) : ∃ σ', Cm Kl σ σ' ∧ RM σ' B n (sk B n p) ∧ (ownH B n p → M_isOwnHere N σ = some (1, σ')) ∧ (¬ ownH B n p → M_isOwnHere N σ = some (0, σ')) := by
  have hB := r.bk
  have d5 : ∀ s, M_isOwnHere_b299 N s 1 = some (1, s) := fun s => if_neg (by decide)
  have d4 : ∀ s, M_isOwnHere_b223 N s 1 = some (1, s) := fun s => by
    rw [show M_isOwnHere_b223 N s 1 = M_isOwnHere_b294 N s from if_neg (by decide)]; exact d5 s
  have d3 : ∀ s, M_isOwnHere_b147 N s 1 = some (1, s) := fun s => by
    rw [show M_isOwnHere_b147 N s 1 = M_isOwnHere_b218 N s from if_neg (by decide)]; exact d4 s
  have d2 : ∀ s, M_isOwnHere_b71 N s 1 = some (1, s) := fun s => by
    rw [show M_isOwnHere_b71 N s 1 = M_isOwnHere_b142 N s from if_neg (by decide)]; exact d3 s
  have e1 : M_isOwnHere N σ = chn N (fun s => M_isOwnHere_b66 N s) (fun s => M_isOwnHere_b71 N s 0) [11, 12, 13, 14, 15, 16] σ := rfl
  have e2 : ∀ s, M_isOwnHere_b71 N s 0 = chn N (fun s => M_isOwnHere_b142 N s) (fun s => M_isOwnHere_b147 N s 0) [17, 18, 19, 20, 21, 22] s := fun s => if_pos rfl
  have e3 : ∀ s, M_isOwnHere_b147 N s 0 = chn N (fun s => M_isOwnHere_b218 N s) (fun s => M_isOwnHere_b223 N s 0) [23, 24, 25, 26, 27, 28] s := fun s => if_pos rfl
  have e4 : ∀ s, M_isOwnHere_b223 N s 0 = chn N (fun s => M_isOwnHere_b294 N s) (fun s => M_isOwnHere_b299 N s 0) [29, 30, 31, 32, 33, 34] s := fun s => if_pos rfl
  have e5 : ∀ s, M_isOwnHere_b299 N s 0 = chn N (fun s => some (1, s)) (fun s => some (0, s)) [35, 36, 37, 38] s := fun s => if_pos rfl
  obtain ⟨s1, c1, r1, y1, z1⟩ := chn_eq (p := p) hN (fun s => M_isOwnHere_b66 N s) (fun s => M_isOwnHere_b71 N s 0) hB [11, 12, 13, 14, 15, 16] σ (own_wd (by decide)) r
  by_cases q1 : ∃ k ∈ [11, 12, 13, 14, 15, 16], isH B n (wix k) p
  · exact ⟨s1, c1, r1, fun _ => by rw [e1, y1 q1]; exact d2 s1, fun w => absurd (own_in (by decide) q1) w⟩
  obtain ⟨s2, c2, r2, y2, z2⟩ := chn_eq (p := p) hN (fun s => M_isOwnHere_b142 N s) (fun s => M_isOwnHere_b147 N s 0) hB [17, 18, 19, 20, 21, 22] s1 (own_wd (by decide)) r1
  by_cases q2 : ∃ k ∈ [17, 18, 19, 20, 21, 22], isH B n (wix k) p
  · exact ⟨s2, c1.trans c2, r2, fun _ => by rw [e1, z1 q1, e2, y2 q2]; exact d3 s2, fun w => absurd (own_in (by decide) q2) w⟩
  obtain ⟨s3, c3, r3, y3, z3⟩ := chn_eq (p := p) hN (fun s => M_isOwnHere_b218 N s) (fun s => M_isOwnHere_b223 N s 0) hB [23, 24, 25, 26, 27, 28] s2 (own_wd (by decide)) r2
  by_cases q3 : ∃ k ∈ [23, 24, 25, 26, 27, 28], isH B n (wix k) p
  · exact ⟨s3, c1.trans (c2.trans c3), r3, fun _ => by rw [e1, z1 q1, e2, z2 q2, e3, y3 q3]; exact d4 s3, fun w => absurd (own_in (by decide) q3) w⟩
  obtain ⟨s4, c4, r4, y4, z4⟩ := chn_eq (p := p) hN (fun s => M_isOwnHere_b294 N s) (fun s => M_isOwnHere_b299 N s 0) hB [29, 30, 31, 32, 33, 34] s3 (own_wd (by decide)) r3
  by_cases q4 : ∃ k ∈ [29, 30, 31, 32, 33, 34], isH B n (wix k) p
  · exact ⟨s4, c1.trans (c2.trans (c3.trans c4)), r4, fun _ => by rw [e1, z1 q1, e2, z2 q2, e3, z3 q3, e4, y4 q4]; exact d5 s4, fun w => absurd (own_in (by decide) q4) w⟩
  obtain ⟨s5, c5, r5, y5, z5⟩ := chn_eq (p := p) hN (fun s => some ((1 : Int32), s)) (fun s => some ((0 : Int32), s)) hB [35, 36, 37, 38] s4 (own_wd (by decide)) r4
  have cc := c1.trans (c2.trans (c3.trans (c4.trans c5)))
  by_cases q5 : ∃ k ∈ [35, 36, 37, 38], isH B n (wix k) p
  · exact ⟨s5, cc, r5, fun _ => by rw [e1, z1 q1, e2, z2 q2, e3, z3 q3, e4, z4 q4, e5, y5 q5], fun w => absurd (own_in (by decide) q5) w⟩
  refine ⟨s5, cc, r5, fun w => ?_, fun _ => by rw [e1, z1 q1, e2, z2 q2, e3, z3 q3, e4, z4 q4, e5, z5 q5]⟩
  exfalso
  obtain ⟨j, hj, hh⟩ := w
  have hw : wix (j + 11) = j := by
    show (if j + 11 < 72 then j + 11 - 11 else _) = j
    rw [if_pos (by omega)]; omega
  have hm : ∀ j, j < 28 → (j + 11) ∈ [11, 12, 13, 14, 15, 16] ∨ (j + 11) ∈ [17, 18, 19, 20, 21, 22] ∨ (j + 11) ∈ [23, 24, 25, 26, 27, 28] ∨ (j + 11) ∈ [29, 30, 31, 32, 33, 34] ∨ (j + 11) ∈ [35, 36, 37, 38] := by decide
  rw [← hw] at hh
  rcases hm j hj with v | v | v | v | v
  · exact q1 ⟨_, v, hh⟩
  · exact q2 ⟨_, v, hh⟩
  · exact q3 ⟨_, v, hh⟩
  · exact q4 ⟨_, v, hh⟩
  · exact q5 ⟨_, v, hh⟩
end
/-- the own words, by their numbers -/
def ownL : List Nat := kaL.getD 0 []
/-- a name: where it begins and ends -/
def sName (B : Nat → Nat) (n p : Nat) : Rs (Nat × Nat) := eb (sWord B n p) fun w => if (fdx (wdk B w.1 w.2) ownL 0).isSome = true then .error (1, w.1) else if w.1 + 6 < w.2 then .error (1, w.1 + 6) else .ok w
def Kn (k : Nat) : Prop := Kl k ∨ k = 39
section
variable {N : Nat} {σ σ' : mSt} {B : Nat → Nat} {n p : Nat}
theorem own_fdx (h1 : isLt (B (sk B n p)) = true) (h2 : ¬ ptd B (sk B n p) = true) : (fdx (wdk B (sk B n p) (wE B n p)) ownL 0).isSome = true ↔ ownH B n p := by
  constructor
  · intro h
    cases hf : fdx (wdk B (sk B n p) (wE B n p)) ownL 0 with
    | none => rw [hf] at h; cases h
    | some k =>
      obtain ⟨j, hj1, hj2, _⟩ := fdx_is ownL 0 k hf
      have hj : ∀ j ∈ ownL, j < 28 := by decide
      exact ⟨j, hj j (List.mem_of_getElem? hj1), h1, h2, hj2⟩
  · rintro ⟨j, hj, hh⟩
    have key : ∀ (l : List Nat) (k : Nat), j ∈ l → (fdx (wdk B (sk B n p) (wE B n p)) l k).isSome = true := by
      intro l
      induction l with
      | nil => intro k h; cases h
      | cons a l ih =>
        intro k h
        unfold fdx
        by_cases c : wdk B (sk B n p) (wE B n p) = kw a
        · rw [if_pos c]; rfl
        · rw [if_neg c]
          rcases List.mem_cons.mp h with q | q
          · subst q; exact absurd hh.2.2 c
          · exact ih (k + 1) q
    have hm : ∀ j, j < 28 → j ∈ ownL := by decide
    exact key ownL 0 (hm j hj)
theorem wdk_succ {a k : Nat} : wdk B a (a + (k + 1)) = wdk B a (a + k) ++ [nn (B (a + k))] := by
  unfold wdk
  rw [show a + (k + 1) - a = k + 1 by omega, show a + k - a = k by omega, List.range_succ, List.map_append]
  rfl
theorem num27_snoc (l : List Int32) (c : Int32) : num27 (l ++ [c]) = ((27 * num27 l + Int32.toInt64 c) - 97) + 1 := by
  unfold num27
  rw [List.foldl_append, List.foldl_cons, List.foldl_nil]
theorem RN.end_ (r : RN σ B n p) (h1 : 1 ≤ p) (h2 : LD (B (p - 1))) : RM (mUI σ 4 0 (nn p)) B n p ∧ Cm Kl σ (mUI σ 4 0 (nn p)) := by
  refine ⟨RM.mk ?_ ?_ ?_ (fun k hk => ?_) r.bk r.pn (Or.inr ⟨p, ?_, Nat.le_refl _, h1, h2, fun k k1 k2 => by omega⟩) (fun k hk j w hv => ?_) (by rw [mI_UI, if_neg (by decide)]; exact r.b6), Cm.UI (Or.inr (Or.inl rfl))⟩
  · rw [mI_UI, if_neg (by decide)]; exact r.at_
  · rw [mI_UI, if_neg (by decide)]; exact r.en
  · rw [mI_UI, if_neg (by decide)]; exact r.bad
  · rw [mI_UI, if_neg (by omega)]; exact r.tp k hk
  · rw [mI_UI, if_pos ⟨rfl, rfl⟩]
  · have h4 : ¬ (k = 4 ∧ j = 0) := fun z => by
      have := hk
      unfold isWd at this
      omega
    rw [mI_UI, if_neg h4]; exact r.wd k hk j w hv
theorem name_loop {a : Nat} (hl : isLt (B a) = true) : ∀ (f k z : Nat) (σ : mSt), n - (a + k) = f → f < z → k ≤ 6 → (∀ i, i < k → isLt (B (a + i)) = true) → RN σ B n (a + k) → σ.1 39 0 = nn a →
    ∃ x σ', rn2 (M_name_b58 N) z σ (num27 (wdk B a (a + k))) = some (x, σ') ∧ Cm Kl σ σ' ∧ Rf σ' (if a + 6 < rp isLt B n (a + k) then .error (1, a + 6) else .ok (a, rp isLt B n (a + k)) : Rs (Nat × Nat)) (fun w => x = num27 (wdk B w.1 w.2) ∧ RM σ' B n w.2) := by
  have stop : ∀ (k : Nat) (σ : mSt), (∀ i, i < k → isLt (B (a + i)) = true) → RN σ B n (a + k) → ¬ isLt (B (a + k)) = true → ∃ x σ', M_name_b145 N σ (num27 (wdk B a (a + k))) = some (x, σ') ∧ Cm Kl σ σ' ∧ Rf σ' (.ok (a, a + k) : Rs (Nat × Nat)) (fun w => x = num27 (wdk B w.1 w.2) ∧ RM σ' B n w.2) := by
    intro k σ hi r c
    have hk1 : 1 ≤ k := by
      rcases Nat.eq_zero_or_pos k with y | y
      · subst y; exact absurd hl c
      · exact y
    obtain ⟨d1, d2⟩ := r.end_ (by omega) (by rw [show a + k - 1 = a + (k - 1) by omega]; exact Or.inl (hi (k - 1) (by omega)))
    refine ⟨_, _, ?_, d2, rfl, d1⟩
    unfold M_name_b145
    rw [lt2_eq, r.at_]
  intro f
  induction f with
  | zero =>
    intro k z σ hf hz hk hi r h39
    obtain ⟨z, rfl⟩ : ∃ m, z = m + 1 := ⟨z - 1, by omega⟩
    have nb := r.bk.nb
    have pn := r.pn
    have b6 : B (a + k) = 256 := r.bk.ge _ (by omega)
    rw [rp_e (by omega), if_neg (by omega)]
    show ∃ x σ', M_name_b58 N _ σ _ = _ ∧ _
    unfold M_name_b58
    rw [r.en, r.at_, if_pos ((nn_le (by omega) (by omega)).mpr (by omega))]
    exact stop k σ hi r (by rw [b6]; decide)
  | succ f ih =>
    intro k z σ hf hz hk hi r h39
    obtain ⟨z, rfl⟩ : ∃ m, z = m + 1 := ⟨z - 1, by omega⟩
    have nb := r.bk.nb
    have b2 := r.bk.lt (a + k) (by omega)
    have hb : ld 2 σ 0 (nn (a + k)) = some (nn (B (a + k))) := by rw [ld_nn (by rfl) (by show a + k < 1600; omega) (by omega), r.tp _ (by omega)]
    show ∃ x σ', M_name_b58 N (rn2 (M_name_b58 N) z) σ _ = _ ∧ _
    by_cases c : isLt (B (a + k)) = true
    · have e : rp isLt B n (a + k) = rp isLt B n (a + k + 1) := rp_t (by omega) c
      have hge := rp_ge isLt B n (a + k + 1)
      by_cases k6 : k = 6
      · rw [if_pos (by omega)]
        generalize rn2 (M_name_b58 N) z = kk
        obtain ⟨σ2, y1, y2, y3⟩ := fail_eq r.bad 1 (a + 6) (by decide)
        subst k6
        unfold M_name_b58
        rw [r.en, r.at_, if_neg (fun q => by have := (nn_le (by omega) (by omega)).mp q; omega), hb, bo_some, ← bv_nn b2, mlet_t (by omega) c, bo_some, if_neg (by decide), h39, nn_sub (by omega), show a + 6 - a = 6 by omega, if_pos (by rfl), show (1 : Int32) = nn 1 from rfl, y1, bd_some]
        exact ⟨_, _, rfl, y3, y2⟩
      · obtain ⟨r2, c2⟩ := r.mv (p' := a + (k + 1)) (by omega)
        obtain ⟨x, σ', h1, h2, h3⟩ := ih (k + 1) z _ (by omega) (by omega) (by omega) (fun i h => by
          by_cases ei : i = k
          · rw [ei]; exact c
          · exact hi i (by omega)) r2 (by rw [mI_UI, if_neg (by decide)]; exact h39)
        rw [show a + (k + 1) = a + k + 1 by omega] at h2 h3 c2
        rw [e]
        refine ⟨x, σ', ?_, c2.trans h2, h3⟩
        rw [wdk_succ, num27_snoc] at h1
        generalize rn2 (M_name_b58 N) z = kk at h1 ⊢
        unfold M_name_b58
        rw [r.en, r.at_, if_neg (fun q => by have := (nn_le (by omega) (by omega)).mp q; omega), hb, bo_some, ← bv_nn b2, mlet_t (by omega) c, bo_some, if_neg (by decide), h39, nn_sub (by omega), show a + k - a = k by omega, if_neg (fun q : nn k = (6 : Int32) => k6 ((nn_eq (b := 6) (by omega) (by omega)).mp q)), bo_some, lt2_eq, nn_succ, bv_nn b2]
        exact h1
    · have e : rp isLt B n (a + k) = a + k := rp_f (by simpa using c)
      rw [e, if_neg (by omega)]
      generalize rn2 (M_name_b58 N) z = kk
      unfold M_name_b58
      rw [r.en, r.at_, if_neg (fun q => by have := (nn_le (by omega) (by omega)).mp q; omega), hb, bo_some, ← bv_nn b2, mlet_f (by omega) c, bo_some, if_pos rfl]
      exact stop k σ hi r c
theorem mname_eq (hN : 5000 ≤ N) (r : RM σ B n p) : ∃ x σ', M_name N σ = some (x, σ') ∧ Cm Kn σ σ' ∧ Rf σ' (sName B n p) (fun w => x = num27 (wdk B w.1 w.2) ∧ RM σ' B n w.2 ∧ σ'.1 39 0 = nn w.1) := by
  obtain ⟨σ1, h1, h2, h3⟩ := look_eq hN r
  have hle := r.bk.le (sk B n p)
  have nb := r.bk.nb
  have ln : ∀ {s t : mSt}, Cm Kl s t → Cm Kn s t := fun h => h.mono (fun _ z => Or.inl z)
  have hb37 : ∀ s, RM s B n (sk B n p) → ∃ x σ', M_name_b37 N s = some (x, σ') ∧ Cm Kn s σ' ∧ RF σ' (1, sk B n p) := by
    intro s rs
    unfold M_name_b37
    obtain ⟨σ2, y1, y2, y3⟩ := fail_eq rs.bad 1 (sk B n p) (by decide)
    rw [rs.at_, show (1 : Int32) = nn 1 from rfl, y1, bd_some]
    exact ⟨_, _, rfl, ln y3, y2⟩
  unfold M_name sName
  rw [if_pos r.bad, h1, bd_some]
  by_cases c : isLt (B (sk B n p)) = true
  · rw [mlet_t hle c, bo_some, if_neg (by decide)]
    by_cases c2 : ptd B (sk B n p) = true
    · rw [if_pos (h3.ended.mpr c2)]
      obtain ⟨x, σ2, y1, y2, y3⟩ := hb37 σ1 h3
      refine ⟨x, σ2, y1, (ln h2).trans y2, ?_⟩
      unfold sWord
      rw [if_pos c, if_pos c2, eb_er]
      exact y3
    · rw [if_neg (fun z => c2 (h3.ended.mp z)), sWord_t c c2, eb_ok]
      obtain ⟨σ2, i1, i2, i3, i4⟩ := isOwn_eq hN h3
      by_cases ow : ownH B n p
      · rw [i3 ow, bd_some, if_neg (by decide)]
        obtain ⟨x, σ3, y1, y2, y3⟩ := hb37 σ2 i2
        refine ⟨x, σ3, y1, (ln h2).trans ((ln i1).trans y2), ?_⟩
        show Rf σ3 (if (fdx (wdk B (sk B n p) (wE B n p)) ownL 0).isSome = true then _ else _) _
        rw [if_pos ((own_fdx c c2).mpr ow)]
        exact y3
      · rw [i4 ow, bd_some, if_pos rfl, lt2_eq, i2.at_]
        have cm39 : Cm (fun k => k = 39) σ2 (mUI σ2 39 0 (nn (sk B n p))) := Cm.UI rfl
        have rn : RN (mUI σ2 39 0 (nn (sk B n p))) B n (sk B n p + 0) := by
          refine RN.mk ?_ ?_ ?_ (fun k hk => ?_) i2.bk i2.pn (fun k hk j v hv => ?_) (by rw [mI_UI, if_neg (by decide)]; exact i2.b6)
          · rw [mI_UI, if_neg (by decide)]; exact i2.at_
          · rw [mI_UI, if_neg (by decide)]; exact i2.en
          · rw [mI_UI, if_neg (by decide)]; exact i2.bad
          · rw [mI_UI, if_neg (by omega)]; exact i2.tp k hk
          · have h4 : ¬ (k = 39 ∧ j = 0) := fun z => by
              have := hk
              unfold isWd at this
              omega
            rw [mI_UI, if_neg h4]; exact i2.wd k hk j v hv
        obtain ⟨x, σ3, y1, y2, y3⟩ := name_loop (N := N) c (n - (sk B n p + 0)) 0 N _ rfl (by omega) (by omega) (fun i hi => by omega) rn (by rw [mI_UI, if_pos ⟨rfl, rfl⟩])
        refine ⟨x, σ3, ?_, (ln h2).trans ((ln i1).trans ((cm39.mono (fun _ z => Or.inr z)).trans (ln y2))), ?_⟩
        · have e0 : num27 (wdk B (sk B n p) (sk B n p + 0)) = 0 := by
            unfold wdk
            rw [show sk B n p + 0 - sk B n p = 0 by omega]
            rfl
          rw [e0] at y1
          exact y1
        · show Rf σ3 (if (fdx (wdk B (sk B n p) (wE B n p)) ownL 0).isSome = true then _ else _) _
          rw [if_neg (fun w => ow ((own_fdx c c2).mp w))]
          show Rf σ3 (if sk B n p + 6 < wE B n p then .error (1, sk B n p + 6) else .ok (sk B n p, wE B n p)) _
          have y3 : Rf σ3 (if sk B n p + 6 < wE B n p then .error (1, sk B n p + 6) else .ok (sk B n p, wE B n p) : Rs (Nat × Nat)) (fun w => x = num27 (wdk B w.1 w.2) ∧ RM σ3 B n w.2) := y3
          by_cases c6 : sk B n p + 6 < wE B n p
          · rw [if_pos c6] at y3 ⊢
            exact y3
          · rw [if_neg c6] at y3 ⊢
            refine ⟨y3.1, y3.2, ?_⟩
            rw [y2.I _ (by unfold Kl; omega), mI_UI, if_pos ⟨rfl, rfl⟩]
  · rw [mlet_f hle c, bo_some, if_pos rfl]
    obtain ⟨x, σ2, y1, y2, y3⟩ := hb37 σ1 h3
    refine ⟨x, σ2, y1, (ln h2).trans y2, ?_⟩
    unfold sWord
    rw [if_neg c, eb_er]
    exact y3
/-! names are told apart by their numbers -/
theorem numR_inj : ∀ (a b : List Nat), (∀ d ∈ a, 1 ≤ d ∧ d ≤ 26) → (∀ d ∈ b, 1 ≤ d ∧ d ≤ 26) → numR a = numR b → a = b := by
  intro a
  induction a with
  | nil =>
    intro b _ hb h
    cases b with
    | nil => rfl
    | cons d r =>
      have := hb d (by simp)
      have h : 0 = d + 27 * numR r := h
      omega
  | cons c a ih =>
    intro b ha hb h
    have h1 := ha c (by simp)
    cases b with
    | nil =>
      have h : c + 27 * numR a = 0 := h
      omega
    | cons d r =>
      have h2 := hb d (by simp)
      have h : c + 27 * numR a = d + 27 * numR r := h
      have h3 : c = d := by omega
      have h4 : numR a = numR r := by omega
      rw [h3, ih r (fun x hx => ha x (by simp [hx])) (fun x hx => hb x (by simp [hx])) h4]
theorem num27_inj {a b : List Int32} (ha : ∀ c ∈ a, isLet c) (hb : ∀ c ∈ b, isLet c) (la : a.length ≤ 6) (lb : b.length ≤ 6) : num27 a = num27 b ↔ a = b := by
  constructor
  · intro h
    obtain ⟨ds, e1, h1⟩ := let_ex ha
    obtain ⟨es, e2, h2⟩ := let_ex hb
    have n1 : num27 a = nl (numR ds.reverse) := by
      have := num27_eq ds h1 0
      unfold num27
      rw [e1, show (0 : Int64) = nl 0 from rfl, this, ← numR_eq, List.reverse_reverse]
    have n2 : num27 b = nl (numR es.reverse) := by
      have := num27_eq es h2 0
      unfold num27
      rw [e2, show (0 : Int64) = nl 0 from rfl, this, ← numR_eq, List.reverse_reverse]
    have l1 : ds.length ≤ 6 := by rw [e1, List.length_map] at la; exact la
    have l2 : es.length ≤ 6 := by rw [e2, List.length_map] at lb; exact lb
    have b1 := numR_lt ds.reverse (fun d hd => h1 d (by simpa using hd))
    have b2 := numR_lt es.reverse (fun d hd => h2 d (by simpa using hd))
    have p1 : 27 ^ ds.reverse.length ≤ 27 ^ 6 := Nat.pow_le_pow_right (by decide) (by rw [List.length_reverse]; exact l1)
    have p2 : 27 ^ es.reverse.length ≤ 27 ^ 6 := Nat.pow_le_pow_right (by decide) (by rw [List.length_reverse]; exact l2)
    have h6 : (27 : Nat) ^ 6 = 387420489 := by decide
    rw [n1, n2] at h
    have h3 : numR ds.reverse = numR es.reverse := by
      have := congrArg Int64.toInt h
      rw [Int64.toInt_ofNat_of_lt (by omega), Int64.toInt_ofNat_of_lt (by omega)] at this
      omega
    have h4 := numR_inj _ _ (fun d hd => h1 d (by simpa using hd)) (fun d hd => h2 d (by simpa using hd)) h3
    have h5 : ds = es := by
      have := congrArg List.reverse h4
      rw [List.reverse_reverse, List.reverse_reverse] at this
      exact this
    rw [e1, e2, h5]
  · intro h; rw [h]
end
