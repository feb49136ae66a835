/-! PURE LEVEL: words that are read -/
set_option maxRecDepth 100000
/-- q is a new String of A', made since A -/
def NWS (A A' : AH) (q : Nat) (cs : List Int32) : Prop :=
  (StR A' q cs) ∧
  (aI A' 1902 q 0 = 0) ∧
  (aI A' 1903 q 0 = 0) ∧
  (aR A' 1900 q 0 = some (q + 1)) ∧
  (aN A ≤ q) ∧
  (q + 1 < CB) ∧
  (aK A' (q + 1) = 33)
theorem NWS.st {A A' : AH} {q : Nat} {cs : List Int32} (h : NWS A A' q cs) : StR A' q cs := h.1
theorem NWS.h1 {A A' : AH} {q : Nat} {cs : List Int32} (h : NWS A A' q cs) : aI A' 1902 q 0 = 0 := h.2.1
theorem NWS.h2 {A A' : AH} {q : Nat} {cs : List Int32} (h : NWS A A' q cs) : aI A' 1903 q 0 = 0 := h.2.2.1
theorem NWS.ar {A A' : AH} {q : Nat} {cs : List Int32} (h : NWS A A' q cs) : aR A' 1900 q 0 = some (q + 1) := h.2.2.2.1
theorem NWS.lo {A A' : AH} {q : Nat} {cs : List Int32} (h : NWS A A' q cs) : aN A ≤ q := h.2.2.2.2.1
theorem NWS.hi {A A' : AH} {q : Nat} {cs : List Int32} (h : NWS A A' q cs) : q + 1 < CB := h.2.2.2.2.2.1
theorem NWS.ka {A A' : AH} {q : Nat} {cs : List Int32} (h : NWS A A' q cs) : aK A' (q + 1) = 33 := h.2.2.2.2.2.2
theorem NWS.mk {A A' : AH} {q : Nat} {cs : List Int32} (h_st : StR A' q cs) (h_h1 : aI A' 1902 q 0 = 0) (h_h2 : aI A' 1903 q 0 = 0) (h_ar : aR A' 1900 q 0 = some (q + 1)) (h_lo : aN A ≤ q) (h_hi : q + 1 < CB) (h_ka : aK A' (q + 1) = 33) : NWS A A' q cs := ⟨h_st, h_h1, h_h2, h_ar, h_lo, h_hi, h_ka⟩
section
variable {N : Nat} {A A' : AH} {B : Nat → Nat} {n p o μ : Nat} {t : Option Nat}
theorem lt_128 {b : Nat} (h : isLt b = true) : b < 128 := by
  unfold isLt at h
  simp at h
  omega
theorem fill_loop (hN : 5000 ≤ N) {a L x : Nat} (hL : 1 ≤ L) (hn : a + L ≤ n) (hl : ∀ i, i < L → isLt (B (a + i)) = true) (hx : 1101 ≤ x) (hx2 : x < CB) : ∀ (f k z : Nat) (A : AH), k + f = L → f < z → RD A B n (a + L) o μ t → aI A 303 9 0 = nn a → aN A + 2 ≤ CB → aK A x = 34 → aL A x = L → (∀ i, i < k → aI A 34 x i = nn (B (a + i))) →
    ∃ A', rn3 (X2_word_2_b76 N) z A x (nn (a + k)) = some (some (some (aN A)), A') ∧ Ex (fun _ i => i = x) 2 (L + 4) A A' ∧ NWS A A' (aN A) ((List.range L).map (fun i => nn (B (a + i)))) := by
  intro f
  induction f with
  | zero =>
    intro k z A hk hz r h3 hr kx lx vx
    obtain ⟨z, rfl⟩ : ∃ m, z = m + 1 := ⟨z - 1, by omega⟩
    have nb := r.bk.nb
    obtain ⟨A', h1, h2, h4, h5, h6, h7, h8⟩ := valueOf_eq hN r.gn (x := x) (L := L) (bs := fun i => B (a + i)) hr hL (by omega) kx lx (fun k hk => lt_128 (hl k hk)) (fun i hi => vx i (by omega))
    refine ⟨A', ?_, h2.mono (fun _ _ q => q.elim), NWS.mk h4 h5 h6 h7 (Nat.le_refl _) (by omega) h8⟩
    show X2_word_2_b76 N _ A _ _ = _
    unfold X2_word_2_b76
    rw [r.at_, if_pos ((nn_le (by omega) (by omega)).mpr (by omega)), h1, bda_ok h2.le2, bo_some, ck_ok (Le.refl _)]
  | succ f ih =>
    intro k z A hk hz r h3 hr kx lx vx
    obtain ⟨z, rfl⟩ : ∃ m, z = m + 1 := ⟨z - 1, by omega⟩
    have nb := r.bk.nb
    have b8 := lt_128 (hl k (by omega))
    have e1 : Ex (fun _ i => i = x) 0 0 A (wI A 34 x k (nn (B (a + k)))) := Ex.wI r.gn rfl hx2
    have r1 := r.ex e1 (fun _ => by omega) (fun _ => by omega)
    obtain ⟨A', h1, h2, h4⟩ := ih (k + 1) z _ (by omega) (by omega) r1 (by rw [aI_wI, if_neg (fun q => absurd q.1 (by decide))]; exact h3) hr kx lx (fun i hi => by
      rw [aI_wI]
      by_cases e : i = k
      · rw [if_pos ⟨rfl, rfl, e⟩, e]
      · rw [if_neg (fun q => e q.2.2)]; exact vx i (by omega))
    refine ⟨A', ?_, (e1.trans h2).wk (by omega) (by omega), NWS.mk h4.st h4.h1 h4.h2 h4.ar h4.lo h4.hi h4.ka⟩
    show X2_word_2_b76 N (rn3 (X2_word_2_b76 N) z) A _ _ = _
    generalize rn3 (X2_word_2_b76 N) z = kk at h1 ⊢
    unfold X2_word_2_b76
    rw [r.at_, if_neg (fun q => by rw [nn_le (by omega) (by omega)] at q; omega), sI_nn (by omega) (by decide), bo_some, r.tp _ (by omega), (nb_byte _ b8).2, h3, nn_sub (by omega), show a + k - a = k by omega, uI_nn kx (by omega) (by omega), bo_some, nn_succ]
    exact h1
theorem let_loop (hN : 5000 ≤ N) {a : Nat} (ha : isLt (B a) = true) : ∀ (f k z : Nat) (A : AH), n - (a + k) = f → f < z → (∀ i, i < k → isLt (B (a + i)) = true) → RD A B n (a + k) o μ t → aI A 303 9 0 = nn a → aN A + 3 ≤ CB →
    ∃ A' q, rn1 (X2_word_2_b32 N) z A = some (some (some q), A') ∧ Ex RP 3 (2 * (rp isLt B n (a + k) - a) + 4) A A' ∧ RD A' B n (rp isLt B n (a + k)) o μ t ∧ aI A' 303 9 0 = nn a ∧ NWS A A' q (wdk B a (rp isLt B n (a + k))) := by
  have base : ∀ (k : Nat) (A : AH) (kk : AH → Option (Option (Option Nat) × AH)), (∀ i, i < k → isLt (B (a + i)) = true) → RD A B n (a + k) o μ t → aI A 303 9 0 = nn a → aN A + 3 ≤ CB → ¬ isLt (B (a + k)) = true →
    ∃ A' q, X2_word_2_b32 N kk A = some (some (some q), A') ∧ Ex RP 3 (2 * k + 4) A A' ∧ RD A' B n (a + k) o μ t ∧ aI A' 303 9 0 = nn a ∧ NWS A A' q (wdk B a (a + k)) := by
    intro k A kk hi r h3 hr c
    have nb := r.bk.nb
    have pn := r.pn
    have lo := r.gn.lo
    have c0 : CB = 1000000 := rfl
    have hk1 : 1 ≤ k := by
      rcases Nat.eq_zero_or_pos k with q | q
      · subst q; exact absurd ha c
      · exact q
    have e1 : Ex (fun _ _ => False) 1 k A (nw A 34 k k) := Ex.nw r.gn (by omega)
    have r1 := r.ex e1 (fun _ q => q) (fun _ q => q)
    have f0 := r.gn.fresh (by omega)
    obtain ⟨A', h1, h2, h4⟩ := fill_loop hN (x := aN A) (L := k) hk1 r.pn hi lo (by omega) k 0 N (nw A 34 k k) (by omega) (by omega) r1 (by rw [aI_nw, if_neg (by omega)]; exact h3) (by rw [aN_nw]; omega) (by rw [aK_nw, if_pos rfl]) (by rw [aL_nw, if_pos rfl]) (fun i hi => by omega)
    have e2 : Ex RP 3 (2 * k + 4) A A' := ((e1.mono (fun _ _ q => q.elim)).tr h2 (fun _ i q => Or.inr (by rw [show i = aN A from q]; exact f0))).wk (by omega) (by omega)
    have r2 := r1.ex h2 (fun _ => by omega) (fun _ => by omega)
    have k9 : aK (nw A 34 k k) 9 ≠ 0 := by rw [r1.gn.k9]; decide
    refine ⟨A', _, ?_, e2, r2, ?_, NWS.mk ?_ h4.h1 h4.h2 h4.ar (by have := h4.lo; rw [aN_nw] at this ⊢; omega) h4.hi h4.ka⟩
    · unfold X2_word_2_b32
      rw [r.hb, bo_some, let_f (r.bk.le _) c, bo_some, if_pos rfl, r.at_, h3, nn_sub (by omega), show a + k - a = k by omega, nwA_ok (by omega) (by omega), bo_some, show aI (nw A 34 k k) 303 9 0 = nn a by rw [aI_nw, if_neg (by omega)]; exact h3]
      rw [show nn a = nn (a + 0) from rfl, h1, ck_ok h2.le2]
    · rw [h2.I _ k9 (by omega), aI_nw, if_neg (by omega)]; exact h3
    · unfold wdk
      rw [show a + k - a = k by omega]; exact h4.st
  intro f
  induction f with
  | zero =>
    intro k z A hf hz hi r h3 hr
    obtain ⟨z, rfl⟩ : ∃ m, z = m + 1 := ⟨z - 1, by omega⟩
    have b6 : B (a + k) = 256 := r.bk.ge _ (by omega)
    have e : rp isLt B n (a + k) = a + k := rp_e (by omega)
    rw [e, show a + k - a = k by omega]
    exact base k A _ hi r h3 hr (by rw [b6]; decide)
  | succ f ih =>
    intro k z A hf hz hi r h3 hr
    obtain ⟨z, rfl⟩ : ∃ m, z = m + 1 := ⟨z - 1, by omega⟩
    by_cases c : isLt (B (a + k)) = true
    · have e : rp isLt B n (a + k) = rp isLt B n (a + k + 1) := rp_t (by omega) c
      obtain ⟨r2, x2⟩ := r.mv (p' := a + (k + 1)) (by omega)
      obtain ⟨A', q, h1, h2, h4, h5, h6⟩ := ih (k + 1) z _ (by omega) (by omega) (fun i h => by
        by_cases ei : i = k
        · rw [ei]; exact c
        · exact hi i (by omega)) r2 (by rw [aI_wI, if_neg (by decide)]; exact h3) hr
      rw [show a + (k + 1) = a + k + 1 by omega] at h1 h2 h4 h6
      rw [e]
      refine ⟨A', q, ?_, (x2.trans h2).wk (by omega) (by omega), h4, h5, NWS.mk h6.st h6.h1 h6.h2 h6.ar h6.lo h6.hi h6.ka⟩
      show X2_word_2_b32 N (rn1 (X2_word_2_b32 N) z) A = _
      generalize rn1 (X2_word_2_b32 N) z = kk at h1 ⊢
      unfold X2_word_2_b32
      rw [r.hb, bo_some, let_t (r.bk.le _) c, bo_some, if_neg (by decide), lt2_eq, r.at_, nn_succ]
      exact h1
    · have e : rp isLt B n (a + k) = a + k := rp_f (by simpa using c)
      rw [e, show a + k - a = k by omega]
      exact base k A _ hi r h3 hr c
theorem word_eq (hN : 5000 ≤ N) (r : RD A B n p o μ t) (hr : aN A + 3 ≤ CB) : Bh (X2_word_2 N A) (sWord B n p) (fun e A' => PF 0 0 A A' e) (fun w x A' => ∃ q, x = some q ∧ Ex RP 3 (2 * (w.2 - w.1) + 4) A A' ∧ RD A' B n w.2 o μ t ∧ aI A' 303 9 0 = nn w.1 ∧ NWS A A' q (wdk B w.1 w.2)) := by
  obtain ⟨A1, h1, x1, r1, f1⟩ := here_eq hN r
  have hle := r.bk.le (sk B n p)
  have hn := r.bk.nb
  have n1 : aN A1 = aN A := by have := x1.n1; have := x1.n2; omega
  unfold sWord X2_word_2
  apply Bh.kk
  · rw [h1, bd_some]
    by_cases c : isLt (B (sk B n p)) = true
    · rw [let_t (by omega) c, bo_some, if_pos c, if_neg (by decide)]
      have hp := parted_eq r1
      by_cases c2 : ptd B (sk B n p) = true
      · rw [if_pos c2]
        rw [if_pos c2] at hp
        obtain ⟨A2, h2, f2⟩ := hp
        rw [h2]
        exact ⟨A2, rfl, PF.of x1 f2⟩
      · rw [if_neg c2]
        rw [if_neg c2] at hp
        obtain ⟨u, A2, h2, f2⟩ := hp
        subst f2
        rw [h2, bx_some, lt2_eq, r1.at_]
        obtain ⟨r2, x2, e2⟩ := r1.frm (v := nn (sk B n p))
        obtain ⟨A', q, y1, y2, y3, y4, y5⟩ := let_loop hN c (n - (sk B n p + 0)) 0 N _ rfl (by omega) (fun i hi => by omega) r2 e2 (by rw [show aN (wI A2 303 9 0 (nn (sk B n p))) = aN A2 from rfl]; omega)
        refine ⟨some q, A', y1, q, rfl, (x1.trans (x2.trans y2)).wk (by omega) (by show 0 + (0 + (2 * (rp isLt B n (sk B n p) - sk B n p) + 4)) ≤ 2 * (rp isLt B n (sk B n p) - sk B n p) + 4; omega), y3, y4, NWS.mk y5.st y5.h1 y5.h2 y5.ar (by have := y5.lo; rw [← n1]; exact this) y5.hi y5.ka⟩
    · rw [let_f (by omega) c, bo_some, if_neg c, if_pos rfl, thr, r1.at_]
      exact ⟨_, rfl, PF.of x1 (PF.thr r1.gn 1 _)⟩
  · intro e A' _ q; exact q.ex.le2
  · rintro y x A' _ ⟨q, _, h, _⟩; exact h.le2
/-- the word that stands next has so many letters -/
def wl (B : Nat → Nat) (n p : Nat) : Nat := rp isLt B n (sk B n p) - sk B n p
theorem wl_pos {p : Nat} (hB : BOK B n) (h : isLt (B (sk B n p)) = true) : 1 ≤ wl B n p := by
  unfold wl
  have hlt : sk B n p < n := by
    rcases Nat.lt_or_ge (sk B n p) n with q | q
    · exact q
    · rw [hB.ge _ q] at h; exact absurd h (by decide)
  rw [rp_t hlt h]
  have := rp_ge isLt B n (sk B n p + 1)
  omega
theorem sWord_ok {w : Nat × Nat} (h : sWord B n p = .ok w) : w.1 = sk B n p ∧ w.2 = rp isLt B n (sk B n p) ∧ isLt (B (sk B n p)) = true ∧ ¬ ptd B (sk B n p) = true := by
  unfold sWord at h
  split at h
  · next c =>
    split at h
    · cases h
    · next c2 => cases h; exact ⟨rfl, rfl, c, c2⟩
  · cases h
theorem wordIs_eq (hN : 5000 ≤ N) (r : RD A B n p o μ t) (hr : aN A + 3 ≤ CB) {j : Nat} (hj : j < 34) : Bh (X2_word N A (CB + j)) (sIs B n j p) (fun e A' => PF 3 (2 * wl B n p + 4) A A' e) (fun p' _ A' => Ex RP 3 (2 * wl B n p + 4) A A' ∧ RD A' B n p' o μ t) := by
  unfold X2_word sIs
  apply Bh.kk
  · refine Bh.xa (word_eq hN r hr) (fun e A' _ q => ⟨q.ex.le2, q.wk (by omega) (by omega)⟩) (fun w x A' hw q => ?_)
    obtain ⟨q, rfl, x1, r1, f1, w1⟩ := q
    obtain ⟨s1, s2, s3, s4⟩ := sWord_ok hw
    have el : w.2 - w.1 = wl B n p := by rw [s1, s2]; rfl
    rw [el] at x1
    refine ⟨x1.le2, ?_⟩
    rw [bo_some, if_pos w1.st.1, equals_eq hN w1.st (r1.gn.kst hj), bo_some]
    by_cases c : wdk B w.1 w.2 = kw j
    · rw [if_pos c, if_pos c, if_neg (by decide)]
      exact ⟨(), A', rfl, Le.refl _, x1, r1⟩
    · rw [if_neg c, if_neg c, if_pos rfl, thr, f1]
      exact ⟨_, rfl, (PF.thr r1.gn 1 w.1).ex.le2, (PF.of x1 (PF.thr r1.gn 1 w.1)).wk (by omega) (by omega)⟩
  · intro e A' _ q; exact q.ex.le2
  · intro y x A' _ q; exact q.1.le2
theorem passw_eq (hN : 5000 ≤ N) (r : RD A B n p o μ t) (hr : aN A + 3 ≤ CB) {j : Nat} (hj : j < 34) : Bh (X2_passes N A (CB + j)) (sPass B n j p) (fun e A' => PF 0 0 A A' e) (fun y x A' => x = (if y.1 = true then 1 else 0) ∧ Ex RP (3 * wl B n p) (6 * wl B n p) A A' ∧ RD A' B n y.2 o μ t ∧ (y.1 = true → aI A' 303 9 0 = nn (sk B n p))) := by
  obtain ⟨A1, h1, x1, r1, f1⟩ := here_eq hN r
  have hle := r.bk.le (sk B n p)
  have n1 : aN A1 = aN A := by have := x1.n1; have := x1.n2; omega
  unfold X2_passes sPass
  apply Bh.kk
  · rw [h1, bd_some]
    by_cases c : isLt (B (sk B n p)) = true
    · rw [let_t (by omega) c, bo_some, if_pos c, if_neg (by decide)]
      have hw1 := wl_pos r.bk c
      have es : sWord B n (sk B n p) = sWord B n p := by unfold sWord; rw [sk_sk r.bk]
      have := word_eq hN r1 (by omega)
      rw [es] at this
      refine Bh.xa this (fun e A' _ q => ⟨q.ex.le2, PF.of x1 q⟩) (fun w x A' hw q => ?_)
      obtain ⟨q, rfl, x2, r2, f2, w1⟩ := q
      obtain ⟨s1, s2, s3, s4⟩ := sWord_ok hw
      have el : w.2 - w.1 = wl B n p := by rw [s1, s2]; rfl
      rw [el] at x2
      refine ⟨x2.le2, ?_⟩
      rw [bo_some, if_pos w1.st.1, equals_eq hN w1.st (r2.gn.kst hj), bo_some]
      have x3 := (x1.trans x2).wk (c' := 3 * wl B n p) (s' := 6 * wl B n p) (by omega) (by omega)
      by_cases c2 : wdk B w.1 w.2 = kw j
      · rw [if_pos c2, if_pos c2, if_neg (by decide)]
        exact ⟨1, A', rfl, Le.refl _, rfl, x3, r2, fun _ => by rw [f2, s1]⟩
      · rw [if_neg c2, if_neg c2, if_pos rfl, lt2_eq, r.at_]
        obtain ⟨r3, x4⟩ := r2.mv (p' := p) r.pn
        exact ⟨0, _, rfl, x4.le2, rfl, (x3.trans x4), r3, fun q => by cases q⟩
    · rw [let_f (by omega) c, bo_some, if_neg c, if_pos rfl]
      exact ⟨0, A1, rfl, rfl, x1.wk (by omega) (by omega), r1, fun q => by cases q⟩
  · intro e A' _ q; exact q.ex.le2
  · intro y x A' _ q; exact q.2.1.le2
end
