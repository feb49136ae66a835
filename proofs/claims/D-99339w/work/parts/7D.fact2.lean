/-! PURE LEVEL: facts that are read -/
set_option maxRecDepth 100000
section
variable {N : Nat} {B : Nat → Nat} {n o μ : Nat} {t : Option Nat} {q : Bool} {A A' : AH} {dt dv : Nat}
/-- the end of the word that stands next -/
def wE (B : Nat → Nat) (n p : Nat) : Nat := rp isLt B n (sk B n p)
theorem adv_loop {c1 c2 : Nat} {k1 k2 : Int32} {r : Nat → Rs (Nat × List Int32)} (hr : ∀ p y, r p = .ok y → p < y.1) : ∀ (f : Nat) (x y : Nat × List Int32), sLoop B n c1 c2 k1 k2 r f x = .ok y → x.1 ≤ y.1 := by
  intro f
  induction f with
  | zero => intro x y h; cases h; exact sk_ge B n x.1
  | succ f ih =>
    intro x y h
    have hge := sk_ge B n x.1
    unfold sLoop at h
    split at h
    · cases hx : r (sk B n x.1 + 1) with
      | error e => rw [hx, eb_er] at h; cases h
      | ok z =>
        rw [hx, eb_ok] at h
        have h1 := ih _ _ h
        have h2 := hr _ _ hx
        have h1' : z.1 ≤ y.1 := h1
        omega
    · split at h
      · cases hx : r (sk B n x.1 + 1) with
        | error e => rw [hx, eb_er] at h; cases h
        | ok z =>
          rw [hx, eb_ok] at h
          have h1 := ih _ _ h
          have h2 := hr _ _ hx
          have h1' : z.1 ≤ y.1 := h1
          omega
      · cases h; exact hge
/-- it goes on, past the word that stands next -/
def Adv (B : Nat → Nat) (n : Nat) (r : Nat → Rs (Nat × List Int32)) : Prop := ∀ p y, r p = .ok y → p < y.1 ∧ wE B n p ≤ y.1
theorem Adv.prod {ra : RA} (h : Adv B n (ra o)) : Adv B n (sProd B n ra o) := by
  intro p y hy
  unfold sProd at hy
  cases hx : ra o p with
  | error e => rw [hx, eb_er] at hy; cases hy
  | ok x =>
    rw [hx, eb_ok] at hy
    have h1 := h p x hx
    have h2 := adv_loop (fun p y hp => (h p y hp).1) _ _ _ hy
    exact ⟨by omega, by omega⟩
theorem Adv.sum {ra : RA} (h : Adv B n (ra o)) : Adv B n (sSum B n ra o) := by
  intro p y hy
  unfold sSum at hy
  cases hx : sProd B n ra o p with
  | error e => rw [hx, eb_er] at hy; cases hy
  | ok x =>
    rw [hx, eb_ok] at hy
    have h1 := Adv.prod h p x hx
    have h2 := adv_loop (fun p y hp => (Adv.prod h p y hp).1) _ _ _ hy
    exact ⟨by omega, by omega⟩
theorem adv_within {ra : RA} (h : Adv B n (ra (o + 1))) {two p : Nat} {y : Nat × List Int32} (hy : sWithin B n ra two o p = .ok y) : sk B n p < y.1 := by
  unfold sWithin at hy
  split at hy
  · split at hy
    · cases hy
    · cases hx : sSum B n ra (o + 1) (sk B n p + 1) with
      | error e => rw [hx, eb_er] at hy; cases hy
      | ok x =>
        rw [hx, eb_ok] at hy
        have h1 := (Adv.sum h _ _ hx).1
        split at hy
        · cases hm : sMust B n 41 x.1 with
          | error e => rw [hm, eb_er] at hy; cases hy
          | ok m =>
            rw [hm, eb_ok] at hy
            cases hy
            have := (sMust_ok hm).1
            show _ < m; omega
        · cases hm : sMust B n 44 x.1 with
          | error e => rw [hm, eb_er] at hy; cases hy
          | ok m =>
            rw [hm, eb_ok] at hy
            have hm1 := (sMust_ok hm).1
            cases hz : sSum B n ra (o + 1) m with
            | error e => rw [hz, eb_er] at hy; cases hy
            | ok z =>
              rw [hz, eb_ok] at hy
              have h2 := (Adv.sum h _ _ hz).1
              cases hk : sMust B n 41 z.1 with
              | error e => rw [hk, eb_er] at hy; cases hy
              | ok k =>
                rw [hk, eb_ok] at hy
                cases hy
                have := (sMust_ok hk).1
                show _ < k; omega
  · cases hy
theorem adv_atom {ra : RA} {μ : Nat} (hB : BOK B n) (h : Adv B n (ra (o + 1))) : Adv B n (fun p => sAtom B n ra q μ o p) := by
  intro p y hy
  have hge := sk_ge B n p
  have hy : sAtom B n ra q μ o p = .ok y := hy
  unfold sAtom at hy
  unfold wE
  split at hy
  · next c =>
    have h1 := adv_within h hy
    rw [sk_sk hB] at h1
    rw [rp_f (by rw [c]; rfl)]
    exact ⟨by omega, by omega⟩
  · split at hy
    · next c =>
      cases hx : sNum B n 0 9999 (sk B n p) with
      | error e => rw [hx, eb_er] at hy; cases hy
      | ok v =>
        rw [hx, eb_ok] at hy
        cases hy
        have h1 := (sNum_ok hB hx).2.2.1
        rw [sk_sk hB] at h1
        rw [rp_f (by unfold isDg at c; unfold isLt; simp at c ⊢; omega)]
        exact ⟨by show p < v.2.2; omega, by show _ ≤ v.2.2; omega⟩
    · cases hx : sWord B n (sk B n p) with
      | error e => rw [hx, eb_er] at hy; cases hy
      | ok w =>
        rw [hx, eb_ok] at hy
        obtain ⟨s1, s2, s3, s4⟩ := sWord_ok hx
        rw [sk_sk hB] at s1 s2 s3
        have hlt : sk B n p < n := by
          rcases Nat.lt_or_ge (sk B n p) n with y | y
          · exact y
          · rw [hB.ge _ y] at s3; exact absurd s3 (by decide)
        have hw2 : sk B n p < w.2 := by
          rw [s2, rp_t hlt s3]
          have := rp_ge isLt B n (sk B n p + 1); omega
        rw [← s2]
        have fin : w.2 ≤ y.1 → p < y.1 ∧ w.2 ≤ y.1 := fun z => ⟨by omega, z⟩
        apply fin
        split at hy
        · cases hy; exact Nat.le_refl _
        · split at hy
          · split at hy
            · cases hy
            · cases hz : ra (o + 1) w.2 with
              | error e => rw [hz, eb_er] at hy; cases hy
              | ok z =>
                rw [hz, eb_ok] at hy
                cases hy
                have := (h _ _ hz).1
                show _ ≤ z.1; omega
          · have g2 := sk_ge B n w.2
            split at hy
            · have := adv_within h hy; omega
            · split at hy
              · have := adv_within h hy; omega
              · cases hy
theorem adv_atomF {μ : Nat} (hB : BOK B n) : ∀ (d o : Nat), Adv B n (sAtomF B n q μ d o) := by
  intro d
  induction d with
  | zero => intro o p y hy; cases hy
  | succ d ih => intro o; exact adv_atom hB (ih (o + 1))
variable {rf : AH → Option (Option (Option Nat) × AH)} {rs rfs : RA}
theorem sPass_nf {j p p' : Nat} (hB : BOK B n) (h : sPass B n j (sk B n p) = .ok (false, p')) : p' = sk B n p := by
  rcases sPass_false h with z | ⟨z, _⟩
  · exact z
  · rw [z, sk_sk hB]
end
