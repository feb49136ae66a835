/-! PURE LEVEL: the evaluation of codes -/
set_option maxRecDepth 100000
def K100 (k : Nat) : Prop := k = 100 ∨ k = 101
def K55 (k : Nat) : Prop := k = 55 ∨ k = 100 ∨ k = 101
theorem k100_55 (k : Nat) (h : K100 k) : K55 k := Or.inr h
def PL (σ : mSt) (st : List Int64) : Prop :=
  (σ.1 101 0 = nn st.length) ∧
  (st.length ≤ 1700) ∧
  (∀ i v, st.reverse[i]? = some v → σ.2 100 i = v)
theorem PL.len {σ : mSt} {st : List Int64} (h : PL σ st) : σ.1 101 0 = nn st.length := h.1
theorem PL.sm {σ : mSt} {st : List Int64} (h : PL σ st) : st.length ≤ 1700 := h.2.1
theorem PL.at_ {σ : mSt} {st : List Int64} (h : PL σ st) : ∀ i v, st.reverse[i]? = some v → σ.2 100 i = v := h.2.2
theorem PL.mk {σ : mSt} {st : List Int64} (h_len : σ.1 101 0 = nn st.length) (h_sm : st.length ≤ 1700) (h_at_ : ∀ i v, st.reverse[i]? = some v → σ.2 100 i = v) : PL σ st := ⟨h_len, h_sm, h_at_⟩
theorem PL.top {σ : mSt} {x : Int64} {r : List Int64} (h : PL σ (x :: r)) : σ.2 100 r.length = x := h.at_ r.length x (by simp)
theorem PL.pop {σ : mSt} {x : Int64} {r : List Int64} (h : PL σ (x :: r)) {i : Nat} {v : Int64} (hi : r.reverse[i]? = some v) : σ.2 100 i = v := by
  apply h.at_
  have hl : i < r.reverse.length := (List.getElem?_eq_some_iff.mp hi).1
  rw [List.reverse_cons, List.getElem?_append_left hl]
  exact hi
/-- one more on the pile, of which r stays -/
theorem PL.set {σ : mSt} {r : List Int64} {x : Int64} (hs : r.length < 1700) (h : ∀ i v, r.reverse[i]? = some v → σ.2 100 i = v) : PL (mUI (mUJ σ 100 r.length x) 101 0 (nn (r.length + 1))) (x :: r) := by
  refine PL.mk ?_ ?_ ?_
  · rw [mI_UI, if_pos ⟨rfl, rfl⟩]; rfl
  · simp; omega
  · intro i v hi
    rw [mJ_UI, mJ_UJ]
    rw [List.reverse_cons] at hi
    by_cases e : i = r.length
    · rw [if_pos ⟨rfl, e⟩]
      subst e
      have : (r.reverse ++ [x])[r.length]? = some x := by simp
      rw [this] at hi
      cases hi; rfl
    · rw [if_neg (fun q => e q.2)]
      apply h
      have hl : i < (r.reverse ++ [x]).length := (List.getElem?_eq_some_iff.mp hi).1
      rw [List.getElem?_append_left (by simp at hl ⊢; omega)] at hi
      exact hi
theorem Cm.pl {σ : mSt} {n : Nat} {x : Int64} {y : Int32} : Cm K100 σ (mUI (mUJ σ 100 n x) 101 0 y) := (Cm.UJ (Or.inl rfl)).trans (Cm.UI (Or.inr rfl))
theorem M_qPuts_PL {σ : mSt} {st : List Int64} (h : PL σ st) (hs : st.length < 1700) (x : Int64) : ∃ σ', M_qPuts σ x = some ((), σ') ∧ PL σ' (x :: st) ∧ Cm K100 σ σ' := by
  refine ⟨_, ?_, PL.set hs h.at_, Cm.pl⟩
  unfold M_qPuts
  rw [h.len, stL_nn (by rfl) (by exact hs) (by omega), bo_some, lt2_eq, mI_UJ, h.len, nn_succ]
theorem M_qJoins_PL {σ : mSt} {a b : Int64} {r : List Int64} (h : PL σ (b :: a :: r)) (c : Int32) : ∃ σ', M_qJoins σ c = some ((), σ') ∧ PL σ' (jn c a b :: r) ∧ Cm K100 σ σ' := by
  have hs := h.sm
  simp only [List.length_cons] at hs
  have hb : σ.2 100 (r.length + 1) = b := h.top
  have ha : σ.2 100 r.length = a := h.pop (by simp)
  have hr : ∀ i v, r.reverse[i]? = some v → σ.2 100 i = v := by
    intro i v hi
    apply h.pop
    have hl : i < r.reverse.length := (List.getElem?_eq_some_iff.mp hi).1
    rw [List.reverse_cons, List.getElem?_append_left hl]
    exact hi
  have hlen : σ.1 101 0 = nn (r.length + 2) := h.len
  have e1 : nn (r.length + 2) - 1 = nn (r.length + 1) := nn_sub (a := r.length + 2) (b := 1) (by omega)
  have e2 : nn (r.length + 2) - 2 = nn r.length := nn_sub (a := r.length + 2) (b := 2) (by omega)
  have put : ∀ y : Int64, M_qPuts (mUI σ 101 0 (nn r.length)) y = some ((), mUI (mUJ (mUI σ 101 0 (nn r.length)) 100 r.length y) 101 0 (nn (r.length + 1))) := by
    intro y
    unfold M_qPuts
    rw [mI_UI, if_pos ⟨rfl, rfl⟩, stL_nn (by rfl) (by show r.length < 1700; omega) (by omega), bo_some, lt2_eq, mI_UJ, mI_UI, if_pos ⟨rfl, rfl⟩, nn_succ]
  refine ⟨mUI (mUJ (mUI σ 101 0 (nn r.length)) 100 r.length (jn c a b)) 101 0 (nn (r.length + 1)), ?_, PL.set (by omega) hr, (Cm.UI (Or.inr rfl)).trans Cm.pl⟩
  unfold M_qJoins M_qJoins_b161 M_qJoins_b181 M_qJoins_b200 M_qJoins_b219 M_qJoins_b238 M_qJoins_b270
  rw [hlen, e1, e2, ldL_nn (by rfl) (by show r.length + 1 < 1700; omega) (by omega), bo_some, ldL_nn (by rfl) (by show r.length < 1700; omega) (by omega), bo_some, lt2_eq, ha, hb]
  simp only [M_qClip_eq, M_qFloor_eq, bo_some, put, bd_some]
  unfold jn
  by_cases c1 : c = 1
  · rw [if_pos c1, if_pos c1]
  rw [if_neg c1, if_neg c1]
  by_cases c2 : c = 2
  · rw [if_pos c2, if_pos c2]
  rw [if_neg c2, if_neg c2]
  by_cases c3 : c = 3
  · rw [if_pos c3, if_pos c3]
  rw [if_neg c3, if_neg c3]
  by_cases c4 : c = 4
  · rw [if_pos c4, if_pos c4]
  rw [if_neg c4, if_neg c4]
  by_cases c5 : c = 5
  · rw [if_pos c5, if_pos c5]
    split <;> rfl
  rw [if_neg c5, if_neg c5]
  by_cases c6 : c = 6
  · rw [if_pos c6, if_pos c6]
    split <;> rfl
  rw [if_neg c6, if_neg c6]
  by_cases c7 : c = 7
  · rw [if_pos c7, if_pos c7]
    split <;> rfl
  rw [if_neg c7, if_neg c7]
  by_cases c8 : c = 8
  · rw [if_pos c8, if_pos c8]
    split <;> rfl
  rw [if_neg c8, if_neg c8]
  by_cases c9 : c = 9
  · rw [if_pos c9, if_pos c9]
    split <;> rfl
  rw [if_neg c9, if_neg c9]
  by_cases c10 : c = 10
  · rw [if_pos c10, if_pos c10]
  rw [if_neg c10, if_neg c10]
  split <;> rfl
theorem ld_cg {t : Nat} {σ σ' : mSt} {k : Nat} (h : ∀ j, σ'.1 k j = σ.1 k j) (i : Int32) : ld t σ' k i = ld t σ k i := by
  unfold ld; rw [h]
theorem ldL_cg {σ σ' : mSt} {k : Nat} (h : ∀ j, σ'.2 k j = σ.2 k j) (i : Int32) : ldL σ' k i = ldL σ k i := by
  unfold ldL; rw [h]
theorem Cm.ld {K : Nat → Prop} {σ σ' : mSt} (h : Cm K σ σ') {t k : Nat} (hk : ¬ K k) (i : Int32) : ld t σ' k i = ld t σ k i := ld_cg (fun j => h.I j hk) i
theorem Cm.ldL {K : Nat → Prop} {σ σ' : mSt} (h : Cm K σ σ') {k : Nat} (hk : ¬ K k) (i : Int32) : ldL σ' k i = ldL σ k i := ldL_cg (fun j => h.J j hk) i
theorem M_qPartOf_cg {σ σ' : mSt} (h : Cm K55 σ σ') (k b : Int32) : M_qPartOf σ' k b = M_qPartOf σ k b := by
  have d1 : ∀ i, ld 2 σ' 56 i = ld 2 σ 56 i := h.ld (by unfold K55; omega)
  have d2 : ∀ i, ld 2 σ' 46 i = ld 2 σ 46 i := h.ld (by unfold K55; omega)
  have d3 : σ'.1 58 0 = σ.1 58 0 := h.I 0 (by unfold K55; omega)
  have d4 : σ'.1 59 0 = σ.1 59 0 := h.I 0 (by unfold K55; omega)
  have d5 : σ'.1 60 0 = σ.1 60 0 := h.I 0 (by unfold K55; omega)
  unfold M_qPartOf M_leafOf M_cellOf M_purseOf
  simp only [d1, d2, d3, d4, d5]
theorem M_doMeet_cg {σ σ' : mSt} (d1 : ∀ i, ld 2 σ' 56 i = ld 2 σ 56 i) (d2 : ∀ i, ld 2 σ' 40 i = ld 2 σ 40 i) (a b o : Int32) : M_doMeet σ' a b o = M_doMeet σ a b o := by
  unfold M_doMeet M_liesOnNext M_leaves M_leafOf M_cellOf
  simp only [d1, d2]
theorem M_qOf_cg {σ σ' : mSt} (h : Cm K55 σ σ') (k : Int32) (x : Int64) (b : Int32) : M_qOf σ' k x b = M_qOf σ k x b := by
  have d1 : ∀ i, ld 2 σ' 56 i = ld 2 σ 56 i := h.ld (by unfold K55; omega)
  have d2 : ∀ i, ld 2 σ' 40 i = ld 2 σ 40 i := h.ld (by unfold K55; omega)
  have d3 : ∀ i, ld 2 σ' 41 i = ld 2 σ 41 i := h.ld (by unfold K55; omega)
  have d4 : σ'.1 59 0 = σ.1 59 0 := h.I 0 (by unfold K55; omega)
  unfold M_qOf M_beingMany
  simp only [d3, d4, M_doMeet_cg d1 d2]
theorem cstp_len {e : En} {lk : Int64 → Int64} {c : Int32} {st st' : List Int64} (h : cstp e lk c st = some st') : st'.length ≤ st.length + 1 := by
  unfold cstp at h
  repeat' split at h
  all_goals first
    | cases h; simp
    | cases h
theorem qnot_PL {σ : mSt} {x : Int64} {r : List Int64} (h : PL σ (x :: r)) (y : Int64) : ldL σ 100 ((σ.1 101 0) - 1) = some x ∧ stL σ 100 ((σ.1 101 0) - 1) y = some (mUJ σ 100 r.length y) ∧ PL (mUJ σ 100 r.length y) (y :: r) ∧ Cm K100 σ (mUJ σ 100 r.length y) := by
  have hs := h.sm
  simp only [List.length_cons] at hs
  have hlen : σ.1 101 0 = nn (r.length + 1) := h.len
  have e1 : nn (r.length + 1) - 1 = nn r.length := nn_sub (a := r.length + 1) (b := 1) (by omega)
  rw [hlen, e1]
  refine ⟨?_, stL_nn (by rfl) (by show r.length < 1700; omega) (by omega), ?_, Cm.UJ (Or.inl rfl)⟩
  · rw [ldL_nn (by rfl) (by show r.length < 1700; omega) (by omega), h.top]
  · have := PL.set (σ := σ) (x := y) (r := r) (by omega) (fun i v hi => h.pop hi)
    refine PL.mk ?_ this.sm ?_
    · rw [mI_UJ]; exact h.len
    · exact this.at_
/-- codes of the standing folio, from s on -/
def CodesAt (σ : mSt) (s : Nat) (cs : List Int32) : Prop := s + cs.length ≤ 1600 ∧ ∀ i c, cs[i]? = some c → σ.1 51 (1600 + (s + i)) = c
theorem codesTell_loop {N μ : Nat} {w : Nat} {b : Int32} {e : En} {lk : Int64 → Int64} {s : Nat} {cs : List Int32} (hw : w < 4)
    (nl : ∀ c ∈ cs, c < 60 ∨ 1000 ≤ c) (pt : ∀ c ∈ cs, c < 40 ∨ (∃ k, k < 9 ∧ cx μ k ∧ c = nn (40 + k)) ∨ 60 ≤ c) {fin : Int64} :
    ∀ (rest pre : List Int32) (st : List Int64) (σ : mSt) (n : Nat), cs = pre ++ rest → CodesAt σ s cs → σ.1 50 (4 + w) = nn (s + cs.length) → (∀ k, k < 9 → cx μ k → M_qPartOf σ (nn k) b = some (e k)) → PL σ st → st.length ≤ pre.length → crun e lk rest st = some [fin] → rest.length < n →
      ∃ σ', rn4 (M_codesTell_b22 N) n σ (nn w) b (nn (s + pre.length)) = some (fin, σ') ∧ Cm K100 σ σ' := by
  intro rest
  induction rest with
  | nil =>
    intro pre st σ n he hC hE hP hL hlt hr hn
    obtain ⟨n, rfl⟩ : ∃ m, n = m + 1 := ⟨n - 1, by simp at hn; omega⟩
    have hst : st = [fin] := by
      have : some st = some [fin] := hr
      cases this; rfl
    subst hst
    refine ⟨σ, ?_, Cm.refl σ⟩
    show M_codesTell_b22 N (rn4 (M_codesTell_b22 N) n) σ (nn w) b _ = _
    generalize rn4 (M_codesTell_b22 N) n = kk
    unfold M_codesTell_b22
    have e1 : (4 : Int32) + nn w = nn (4 + w) := nn_add 4 w
    have h0 := hL.top
    have e0 : ldL σ 100 0 = some fin := by
      rw [show (0 : Int32) = nn 0 from rfl, ldL_nn (by rfl) (by decide) (by decide)]
      exact congrArg some h0
    have hlc : cs.length = pre.length := by rw [he]; simp
    have hC1 := hC.1
    rw [e1, ld_nn (by rfl) (by show 4 + w < 8; omega) (by omega), bo_some, hE, if_pos (by rw [nn_le (by omega) (by omega)]; omega), e0, bo_some]
  | cons c rest ih =>
    intro pre st σ n he hC hE hP hL hlt hr hn
    obtain ⟨n, rfl⟩ : ∃ m, n = m + 1 := ⟨n - 1, by simp at hn; omega⟩
    have hlc : cs.length = pre.length + (rest.length + 1) := by rw [he]; simp
    have hC1 := hC.1
    have hcin : c ∈ cs := by rw [he]; simp
    have hcv : σ.1 51 (1600 + (s + pre.length)) = c := hC.2 pre.length c (by rw [he]; simp)
    obtain ⟨st', hst', hr'⟩ : ∃ st', cstp e lk c st = some st' ∧ crun e lk rest st' = some [fin] := by
      have hr : bo (cstp e lk c st) (crun e lk rest) = some [fin] := hr
      exact bo_s hr
    have hl' := cstp_len hst'
    have go : ∀ σ1, PL σ1 st' → Cm K100 σ σ1 → ∃ σ', M_codesTell_b147 N (rn4 (M_codesTell_b22 N) n) σ1 (nn w) b (nn (s + pre.length)) = some (fin, σ') ∧ Cm K100 σ σ' := by
      intro σ1 hL1 hm
      have hl2 : (pre ++ [c]).length = pre.length + 1 := by simp
      obtain ⟨σ', h1, h2⟩ := ih (pre ++ [c]) st' σ1 n (by rw [he]; simp) ⟨hC.1, fun i c hi => (hm.I _ (by unfold K100; omega)).trans (hC.2 i c hi)⟩ ((hm.I _ (by unfold K100; omega)).trans hE) (fun k hk hc => (M_qPartOf_cg (hm.mono k100_55) _ _).trans (hP k hk hc)) hL1 (by omega) hr' (by simp at hn; omega)
      refine ⟨σ', ?_, hm.trans h2⟩
      unfold M_codesTell_b147
      rw [nn_succ, Nat.add_assoc, ← hl2]
      exact h1
    have e1 : (4 : Int32) + nn w = nn (4 + w) := nn_add 4 w
    have e2 : (1600 : Int32) + nn (s + pre.length) = nn (1600 + (s + pre.length)) := nn_add 1600 _
    show ∃ σ', M_codesTell_b22 N (rn4 (M_codesTell_b22 N) n) σ (nn w) b (nn (s + pre.length)) = some (fin, σ') ∧ Cm K100 σ σ'
    clear ih
    generalize rn4 (M_codesTell_b22 N) n = kk at go ⊢
    unfold M_codesTell_b22
    rw [e1, ld_nn (by rfl) (by show 4 + w < 8; omega) (by omega), bo_some, hE, if_neg (by rw [nn_le (by omega) (by omega)]; omega), e2, ld_nn (by rfl) (by show 1600 + (s + pre.length) < 3200; omega) (by omega), bo_some, hcv]
    unfold cstp at hst'
    by_cases c1 : c < 1000
    · rw [if_pos c1] at hst'
      have c60 : c < 60 := by
        rcases nl c hcin with q | q
        · exact q
        · exact absurd c1 (Int32.not_lt.mpr q)
      rw [if_pos c60] at hst'
      by_cases c40 : c < 40
      · rw [if_pos c40] at hst'
        by_cases c13 : c = 13
        · rw [if_pos c13] at hst'
          cases hst'
          obtain ⟨σ1, p1, p2, p3⟩ := M_qPuts_PL hL (by omega) 1
          obtain ⟨σ', g1, g2⟩ := go σ1 p2 p3
          refine ⟨σ', ?_, g2⟩
          rw [if_pos c1, if_pos c40, if_pos c13, p1, bd_some, g1]
        · rw [if_neg c13] at hst'
          by_cases c12 : c = 12
          · rw [if_pos c12] at hst'
            cases st with
            | nil => cases hst'
            | cons x r =>
              cases hst'
              obtain ⟨p1, p2, p3, p4⟩ := qnot_PL hL (1 - x)
              obtain ⟨σ', g1, g2⟩ := go _ p3 p4
              refine ⟨σ', ?_, g2⟩
              rw [if_pos c1, if_pos c40, if_neg c13, if_pos c12, p1, bo_some, p2, bo_some, g1]
          · rw [if_neg c12] at hst'
            match st, hst' with
            | y :: a :: r, hst' =>
              cases hst'
              obtain ⟨σ1, p1, p2, p3⟩ := M_qJoins_PL hL c
              obtain ⟨σ', g1, g2⟩ := go σ1 p2 p3
              refine ⟨σ', ?_, g2⟩
              rw [if_pos c1, if_pos c40, if_neg c13, if_neg c12, p1, bd_some, g1]
      · rw [if_neg c40] at hst'
        cases hst'
        obtain ⟨k, hk, hcx, rfl⟩ : ∃ k, k < 9 ∧ cx μ k ∧ c = nn (40 + k) := by
          rcases pt c hcin with q | q | q
          · exact absurd q c40
          · exact q
          · exact absurd c60 (Int32.not_lt.mpr q)
        have e3 : nn (40 + k) - 40 = nn k := by
          have := nn_sub (a := 40 + k) (b := 40) (by omega)
          rw [show 40 + k - 40 = k by omega] at this
          exact this
        obtain ⟨σ1, p1, p2, p3⟩ := M_qPuts_PL hL (by omega) (e k)
        rw [e3, nn_clamp (by omega)] at go
        obtain ⟨σ', g1, g2⟩ := go σ1 p2 p3
        refine ⟨σ', ?_, g2⟩
        rw [if_pos c1, if_neg c40, e3, hP k hk hcx, bo_some, p1, bd_some, g1]
    · rw [if_neg c1] at hst'
      cases hst'
      obtain ⟨σ1, p1, p2, p3⟩ := M_qPuts_PL hL (by omega) (Int32.toInt64 (c - 1000))
      obtain ⟨σ', g1, g2⟩ := go σ1 p2 p3
      refine ⟨σ', ?_, g2⟩
      rw [if_neg c1, p1, bd_some, g1]
theorem codesTell_eq {N μ : Nat} (hN : 5000 ≤ N) {σ : mSt} {w s : Nat} {b : Int32} {cs : List Int32} {g : Gv} {e : En} (hw : w < 4) (hD : Den false μ cs g) (hB : BE μ e) (hs : σ.1 49 (4 + w) = nn s) (hE : σ.1 50 (4 + w) = nn (s + cs.length)) (hC : CodesAt σ s cs) (hP : ∀ k, k < 9 → cx μ k → M_qPartOf σ (nn k) b = some (e k)) (lk : Int64 → Int64) : ∃ σ', M_codesTell N σ (nn w) b = some (g e lk, σ') ∧ Cm K55 σ σ' := by
  obtain ⟨r, hr⟩ : ∃ r, M_kindBy (nn w) = some r := by
    unfold M_kindBy
    split
    · exact ⟨_, rfl⟩
    · split <;> exact ⟨_, rfl⟩
  have hm : Cm K55 σ (mUI (mUI σ 55 0 r) 101 0 0) := (Cm.UI (Or.inl rfl)).trans (Cm.UI (Or.inr (Or.inr rfl)))
  have e1 : (4 : Int32) + nn w = nn (4 + w) := nn_add 4 w
  have hL : PL (mUI (mUI σ 55 0 r) 101 0 0) [] := PL.mk (by rw [mI_UI, if_pos ⟨rfl, rfl⟩]; rfl) (by simp) (fun i v hi => by simp at hi)
  have hC1 := hC.1
  obtain ⟨σ', h1, h2⟩ := codesTell_loop (N := N) (b := b) (s := s) (lk := lk) hw (hD.nl rfl) hD.pt cs [] [] (mUI (mUI σ 55 0 r) 101 0 0) N rfl ⟨hC.1, fun i c hi => (hm.I _ (by unfold K55; omega)).trans (hC.2 i c hi)⟩ ((hm.I _ (by unfold K55; omega)).trans hE) (fun k hk hc => (M_qPartOf_cg hm _ _).trans (hP k hk hc)) hL (by simp) (hD.run e lk [] hB) (by omega)
  refine ⟨σ', ?_, hm.trans (h2.mono k100_55)⟩
  unfold M_codesTell
  rw [hr, bo_some, lt2_eq, lt2_eq, e1, hm.ld (by unfold K55; omega), ld_nn (by rfl) (by show 4 + w < 8; omega) (by omega), bo_some, hs]
  exact h1
