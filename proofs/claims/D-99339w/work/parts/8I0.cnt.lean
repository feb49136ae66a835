/-! PURE LEVEL: codes against bytes -/
set_option maxRecDepth 100000
section
variable {B : Nat → Nat} {n o : Nat} {q : Bool} {μ : Nat} {r : Nat → Rs (Nat × List Int32)}
/-- no more codes than bytes -/
def Cnt (r : Nat → Rs (Nat × List Int32)) : Prop := ∀ p y, r p = .ok y → y.2.length + p ≤ y.1
theorem cnt_loop {c1 c2 : Nat} {k1 k2 : Int32} (hr : Cnt r) : ∀ (f a : Nat) (x y : Nat × List Int32), sLoop B n c1 c2 k1 k2 r f x = .ok y → x.2.length + a ≤ x.1 → y.2.length + a ≤ y.1 := by
  intro f
  induction f with
  | zero =>
    intro a x y h hx
    have h : (.ok (sk B n x.1, x.2) : Rs (Nat × List Int32)) = .ok y := h
    cases h
    have := sk_ge B n x.1
    show x.2.length + a ≤ sk B n x.1
    omega
  | succ f ih =>
    intro a x y h hx
    have hge := sk_ge B n x.1
    have h : (if B (sk B n x.1) = c1 then eb (r (sk B n x.1 + 1)) (fun y => sLoop B n c1 c2 k1 k2 r f (y.1, x.2 ++ y.2 ++ [k1])) else if B (sk B n x.1) = c2 then eb (r (sk B n x.1 + 1)) (fun y => sLoop B n c1 c2 k1 k2 r f (y.1, x.2 ++ y.2 ++ [k2])) else .ok (sk B n x.1, x.2)) = .ok y := h
    have one : ∀ k, eb (r (sk B n x.1 + 1)) (fun y => sLoop B n c1 c2 k1 k2 r f (y.1, x.2 ++ y.2 ++ [k])) = .ok y → y.2.length + a ≤ y.1 := by
      intro k h
      cases hz : r (sk B n x.1 + 1) with
      | error e => rw [hz, eb_er] at h; cases h
      | ok z =>
        rw [hz, eb_ok] at h
        have h1 := hr _ _ hz
        exact ih a _ _ h (by simp only [List.length_append, List.length_singleton]; omega)
    split at h
    · exact one k1 h
    · split at h
      · exact one k2 h
      · cases h
        show x.2.length + a ≤ sk B n x.1
        omega
theorem cnt_prod {ra : RA} (h : Cnt (ra o)) : Cnt (sProd B n ra o) := by
  intro p y hy
  unfold sProd at hy
  cases hx : ra o p with
  | error e => rw [hx, eb_er] at hy; cases hy
  | ok x =>
    rw [hx, eb_ok] at hy
    exact cnt_loop h _ p _ _ hy (h _ _ hx)
theorem cnt_sum {ra : RA} (h : Cnt (ra o)) : Cnt (sSum B n ra o) := by
  intro p y hy
  unfold sSum at hy
  cases hx : sProd B n ra o p with
  | error e => rw [hx, eb_er] at hy; cases hy
  | ok x =>
    rw [hx, eb_ok] at hy
    exact cnt_loop (cnt_prod h) _ p _ _ hy (cnt_prod h _ _ hx)
theorem cnt_within {ra : RA} (h : Cnt (ra (o + 1))) {two p : Nat} {y : Nat × List Int32} (hy : sWithin B n ra two o p = .ok y) : y.2.length + p ≤ y.1 := by
  have hge := sk_ge B n p
  unfold sWithin at hy
  split at hy
  · split at hy
    · cases hy
    · cases hx : sSum B n ra (o + 1) (sk B n p + 1) with
      | error e => rw [hx, eb_er] at hy; cases hy
      | ok x =>
        rw [hx, eb_ok] at hy
        have h1 := cnt_sum h _ _ hx
        split at hy
        · cases hm : sMust B n 41 x.1 with
          | error e => rw [hm, eb_er] at hy; cases hy
          | ok m =>
            rw [hm, eb_ok] at hy
            cases hy
            have := (sMust_ok hm).1
            show x.2.length + p ≤ m; omega
        · cases hm : sMust B n 44 x.1 with
          | error e => rw [hm, eb_er] at hy; cases hy
          | ok m =>
            rw [hm, eb_ok] at hy
            have hm1 := (sMust_ok hm).1
            cases hz : sSum B n ra (o + 1) m with
            | error e => rw [hz, eb_er] at hy; cases hy
            | ok z =>
              rw [hz, eb_ok] at hy
              have h2 := cnt_sum h _ _ hz
              cases hk : sMust B n 41 z.1 with
              | error e => rw [hk, eb_er] at hy; cases hy
              | ok k =>
                rw [hk, eb_ok] at hy
                cases hy
                have := (sMust_ok hk).1
                simp only [List.length_append, List.length_singleton]
                show _ ≤ k; omega
  · cases hy
theorem cnt_atom {ra : RA} (hB : BOK B n) (h : Cnt (ra (o + 1))) : Cnt (fun p => sAtom B n ra q μ o p) := by
  intro p y hy
  have hge := sk_ge B n p
  have hy : sAtom B n ra q μ o p = .ok y := hy
  unfold sAtom at hy
  split at hy
  · have := cnt_within h hy; omega
  · split at hy
    · cases hx : sNum B n 0 9999 (sk B n p) with
      | error e => rw [hx, eb_er] at hy; cases hy
      | ok v =>
        rw [hx, eb_ok] at hy
        cases hy
        have h1 := (sNum_ok hB hx).2.2.1
        rw [sk_sk hB] at h1
        show 1 + p ≤ v.2.2; omega
    · cases hx : sWord B n (sk B n p) with
      | error e => rw [hx, eb_er] at hy; cases hy
      | ok w =>
        rw [hx, eb_ok] at hy
        obtain ⟨s1, s2, s3, s4⟩ := sWord_ok hx
        rw [sk_sk hB] at s1 s2 s3
        have hlt : sk B n p < n := by
          rcases Nat.lt_or_ge (sk B n p) n with y | y
          · exact y
          · rw [hB.ge _ y] at s3; exact absurd s3 (by decide)
        have hw2 : sk B n p < w.2 := by
          rw [s2, rp_t hlt s3]
          have := rp_ge isLt B n (sk B n p + 1); omega
        split at hy
        · cases hy
          show 1 + p ≤ w.2; omega
        · split at hy
          · split at hy
            · cases hy
            · cases hz : ra (o + 1) w.2 with
              | error e => rw [hz, eb_er] at hy; cases hy
              | ok z =>
                rw [hz, eb_ok] at hy
                cases hy
                have := h _ _ hz
                simp only [List.length_append, List.length_singleton]
                show _ ≤ z.1; omega
          · split at hy
            · have := cnt_within h hy; omega
            · split at hy
              · have := cnt_within h hy; omega
              · cases hy
theorem cnt_atomF (hB : BOK B n) : ∀ (d o : Nat), Cnt (sAtomF B n q μ d o) := by
  intro d
  induction d with
  | zero => intro o p y hy; cases hy
  | succ d ih => intro o; exact cnt_atom hB (ih (o + 1))
/-! the same of tests -/
theorem cnt_pass {j p : Nat} {w : Bool × Nat} (hB : BOK B n) (h : sPass B n j p = .ok w) : p ≤ w.2 ∧ (w.1 = true → p < w.2) := by
  obtain ⟨b, p'⟩ := w
  have h1 := sk_ge B n p
  cases b with
  | true =>
    obtain ⟨e1, e2⟩ := sPass_true h
    have hlt : sk B n p < n := by
      rcases Nat.lt_or_ge (sk B n p) n with y | y
      · exact y
      · rw [hB.ge _ y] at e2; exact absurd e2 (by decide)
    rw [rp_t hlt e2] at e1
    have := rp_ge isLt B n (sk B n p + 1)
    exact ⟨by show p ≤ p'; omega, fun _ => by show p < p'; omega⟩
  | false =>
    refine ⟨?_, fun w => Bool.noConfusion w⟩
    show p ≤ p'
    rcases sPass_false h with z | z <;> omega
theorem cnt_wloop {j : Nat} {k : Int32} (hB : BOK B n) (hr : Cnt r) : ∀ (f a : Nat) (x y : Nat × List Int32), sWLoop B n j k r f x = .ok y → x.2.length + a ≤ x.1 → y.2.length + a ≤ y.1 := by
  intro f
  induction f with
  | zero =>
    intro a x y h hx
    have h' : eb (sPass B n j x.1) (fun w => (.ok (w.2, x.2) : Rs (Nat × List Int32))) = .ok y := h
    cases hp : sPass B n j x.1 with
    | error e => rw [hp, eb_er] at h'; cases h'
    | ok w =>
      rw [hp, eb_ok] at h'
      cases h'
      have := (cnt_pass hB hp).1
      show x.2.length + a ≤ w.2; omega
  | succ f ih =>
    intro a x y h hx
    have h' : eb (sPass B n j x.1) (fun w => if w.1 = true then eb (r w.2) (fun z => sWLoop B n j k r f (z.1, x.2 ++ z.2 ++ [k])) else (.ok (w.2, x.2) : Rs (Nat × List Int32))) = .ok y := h
    cases hp : sPass B n j x.1 with
    | error e => rw [hp, eb_er] at h'; cases h'
    | ok w =>
      obtain ⟨c1, c2⟩ := cnt_pass hB hp
      rw [hp, eb_ok] at h'
      by_cases c : w.1 = true
      · have c2 := c2 c
        rw [if_pos c] at h'
        cases hr2 : r w.2 with
        | error e => rw [hr2, eb_er] at h'; cases h'
        | ok z =>
          rw [hr2, eb_ok] at h'
          have h2 := hr _ _ hr2
          exact ih a _ _ h' (by simp only [List.length_append, List.length_singleton]; omega)
      · rw [if_neg c] at h'
        cases h'
        show x.2.length + a ≤ w.2; omega
theorem cnt_both {rf : RA} (hB : BOK B n) (h : Cnt (rf o)) : Cnt (sBoth B n rf o) := by
  intro p y hy
  unfold sBoth at hy
  cases hx : rf o p with
  | error e => rw [hx, eb_er] at hy; cases hy
  | ok x =>
    rw [hx, eb_ok] at hy
    exact cnt_wloop hB h _ p _ _ hy (h _ _ hx)
theorem cnt_test {rf : RA} (hB : BOK B n) (h : Cnt (rf o)) : Cnt (sTest B n rf o) := by
  intro p y hy
  unfold sTest at hy
  cases hx : sBoth B n rf o p with
  | error e => rw [hx, eb_er] at hy; cases hy
  | ok x =>
    rw [hx, eb_ok] at hy
    exact cnt_wloop hB (cnt_both hB h) _ p _ _ hy (cnt_both hB h _ _ hx)
theorem cnt_fact2 {rs rf : RA} (hB : BOK B n) (hs : Cnt (rs o)) (h : Cnt (rf (o + 1))) {p : Nat} {y : Nat × List Int32} (hy : sFact B n rs rf o p = .ok y) : y.2.length + p ≤ y.1 ∧ p < y.1 := by
  have hge := sk_ge B n p
  unfold sFact at hy
  split at hy
  · split at hy
    · cases hy
    · cases hx : sTest B n rf (o + 1) (sk B n p + 1) with
      | error e => rw [hx, eb_er] at hy; cases hy
      | ok x =>
        rw [hx, eb_ok] at hy
        have h1 := cnt_test hB h _ _ hx
        cases hm : sMust B n 93 x.1 with
        | error e => rw [hm, eb_er] at hy; cases hy
        | ok m =>
          rw [hm, eb_ok] at hy
          cases hy
          have := (sMust_ok hm).1
          exact ⟨by show x.2.length + p ≤ m; omega, by show p < m; omega⟩
  · cases hp : sPass B n 24 (sk B n p) with
    | error e => rw [hp, eb_er] at hy; cases hy
    | ok w =>
      obtain ⟨c1, c2⟩ := cnt_pass hB hp
      rw [hp, eb_ok] at hy
      by_cases c : w.1 = true
      · have c2 := c2 c
        rw [if_pos c] at hy
        split at hy
        · cases hy
        · cases hx : rf (o + 1) w.2 with
          | error e => rw [hx, eb_er] at hy; cases hy
          | ok x =>
            rw [hx, eb_ok] at hy
            have h1 := h _ _ hx
            cases hy
            refine ⟨?_, by show p < x.1; omega⟩
            simp only [List.length_append, List.length_singleton]
            show _ ≤ x.1; omega
      · rw [if_neg c] at hy
        cases hp2 : sPass B n 25 w.2 with
        | error e => rw [hp2, eb_er] at hy; cases hy
        | ok v =>
          obtain ⟨d1, d2⟩ := cnt_pass hB hp2
          rw [hp2, eb_ok] at hy
          by_cases d : v.1 = true
          · have d2 := d2 d
            rw [if_pos d] at hy
            cases hy
            exact ⟨by show 1 + p ≤ v.2; omega, by show p < v.2; omega⟩
          · rw [if_neg d] at hy
            cases hx : rs o v.2 with
            | error e => rw [hx, eb_er] at hy; cases hy
            | ok x =>
              rw [hx, eb_ok] at hy
              have h1 := hs _ _ hx
              have hg2 := sk_ge B n x.1
              split at hy
              · cases hz : rs o (sk B n x.1 + 1) with
                | error e => rw [hz, eb_er] at hy; cases hy
                | ok z =>
                  rw [hz, eb_ok] at hy
                  have h2 := hs _ _ hz
                  cases hy
                  refine ⟨?_, by show p < z.1; omega⟩
                  simp only [List.length_append, List.length_singleton]
                  show _ ≤ z.1; omega
              · cases hy
theorem cnt_factF {rs : RA} (hB : BOK B n) (hs : ∀ o, Cnt (rs o)) : ∀ (d o : Nat), Cnt (sFactF B n rs d o) := by
  intro d
  induction d with
  | zero => intro o p y hy; cases hy
  | succ d ih => intro o p y hy; exact (cnt_fact2 hB (hs o) (ih (o + 1)) hy).1
theorem adv_factF {rs : RA} (hB : BOK B n) (hs : ∀ o, Cnt (rs o)) : ∀ (d o p : Nat) (y : Nat × List Int32), sFactF B n rs d o p = .ok y → p < y.1 := by
  intro d o p y hy
  cases d with
  | zero => cases hy
  | succ d => exact (cnt_fact2 hB (hs o) (cnt_factF hB hs d (o + 1)) hy).2
end
