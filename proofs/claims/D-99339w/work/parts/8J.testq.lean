/-! PURE LEVEL: tests, at the reference: the whole -/
set_option maxRecDepth 100000
/-- a test ends with a fault, or at a letter that stands too near (then what follows fails there) -/
def Et (sl : Nat) (X : Option (Unit × mSt)) (σ : mSt) (B : Nat → Nat) (n : Nat) (q : Bool) (μ : Nat) (e : Nat × Nat) : Prop := ∃ σ', X = some ((), σ') ∧ Cm Kq σ σ' ∧ (RF σ' e ∨ ∃ p' K' o', SQ σ' B n p' q μ K' [] o' 0 sl ∧ e = (1, sk B n p') ∧ isLt (B (sk B n p')) = true)
def Bt {α : Type} (sl : Nat) (X : Option (Unit × mSt)) (σ : mSt) (B : Nat → Nat) (n : Nat) (q : Bool) (μ : Nat) (x : Rs α) (S : α → Prop) : Prop := match x with
  | .error e => Et sl X σ B n q μ e
  | .ok y => S y
section
variable {α β : Type} {sl : Nat} {X X' : Option (Unit × mSt)} {σ σ' : mSt} {B : Nat → Nat} {n : Nat} {q : Bool} {μ : Nat} {x : Rs α} {S S1 : α → Prop} {S2 : β → Prop}
theorem Bt.xx {h : α → Rs β} (b : Bt sl X σ B n q μ x S1) (hS : ∀ y, x = .ok y → S1 y → Bt sl X σ B n q μ (h y) S2) : Bt sl X σ B n q μ (eb x h) S2 := by
  cases x with
  | error e => exact b
  | ok y => exact hS y rfl b
theorem Bt.mv (b : Bt sl X' σ' B n q μ x S1) (hX : X = X') (c : Cm Kq σ σ') (hS : ∀ y, x = .ok y → S1 y → S y) : Bt sl X σ B n q μ x S := by
  cases x with
  | error e =>
    obtain ⟨σ2, h1, h2, h3⟩ := b
    exact ⟨σ2, hX.trans h1, c.trans h2, h3⟩
  | ok y => exact hS y rfl b
theorem Bt.er {e : Nat × Nat} (hX : X = X') (c : Cm Kq σ σ') (h : ∃ σ2, X' = some ((), σ2) ∧ RF σ2 e ∧ Cm Kq σ' σ2) : Bt sl X σ B n q μ (.error e : Rs α) S := by
  obtain ⟨σ2, h1, h2, h3⟩ := h
  exact ⟨σ2, hX.trans h1, c.trans h3, Or.inl h2⟩
end
/-- a fact has been read: the nots that wait for it come next -/
def DtQ (sl : Nat) (N : Nat) (X : Option (Unit × mSt)) (σ : mSt) (B : Nat → Nat) (n p : Nat) (q : Bool) (μ : Nat) (K W : List Int32) (o : Nat) (y : Nat × List Int32) : Prop :=
  ∃ σ' p' k v x z, X = tD N k v σ' ∧ (∀ σ6 : mSt, σ6.1 5 0 = 0 → k σ6 = tG N x z σ6) ∧ Cm Kq σ σ' ∧ SQ σ' B n p' q μ (K ++ y.2) W o 0 sl ∧ sk B n p' = sk B n y.1 ∧ p < p' ∧ 3000 ≤ x + p' ∧ 3000 ≤ z + p' ∧ 4000 + o ≤ v
def GtQ (sl : Nat) (TT : List Int32 → Prop) (NS : Nat → Prop) (N : Nat) (X : Option (Unit × mSt)) (σ : mSt) (B : Nat → Nat) (n p : Nat) (q : Bool) (μ : Nat) (K W : List Int32) (o : Nat) (y : Nat × List Int32) : Prop :=
  ∃ σ' p' T K' x z, X = tG N x z σ' ∧ Cm Kq σ σ' ∧ SQ σ' B n p' q μ K' (W ++ T) o 0 sl ∧ K' ++ T.reverse = K ++ y.2 ∧ TT T ∧ NS y.1 ∧ sk B n p' = sk B n y.1 ∧ p < p' ∧ 3000 ≤ x + p' ∧ 3000 ≤ z + p'
def FOK (sl : Nat) (N : Nat) (B : Nat → Nat) (n : Nat) (q : Bool) (μ o : Nat) (r : Nat → Rs (Nat × List Int32)) : Prop :=
  ∀ (σ : mSt) (p : Nat) (K W : List Int32) (x : Nat), SQ σ B n p q μ K W o 0 sl → (∀ c ∈ W, isTw c) → 3000 ≤ x + p → Bt sl (tE N x σ) σ B n q μ (r p) (DtQ sl N (tE N x σ) σ B n p q μ K W o)
def T10 (T : List Int32) : Prop := T = [] ∨ T = [10]
def TAO (T : List Int32) : Prop := ∀ c ∈ T, isAO c
section
variable {N : Nat} {σ σ' : mSt} {B : Nat → Nat} {n p p' : Nat} {q : Bool} {μ : Nat} {K W K' W' T : List Int32} {o base o' base' sl : Nat} {e : Nat × Nat}
variable {r : Nat → Rs (Nat × List Int32)}
/-- the word j doesn't stand next, nor a letter too near -/
def noJ (B : Nat → Nat) (n j p : Nat) : Prop := ¬ isH B n j p ∧ ¬ (isLt (B (sk B n p)) = true ∧ ptd B (sk B n p) = true)
theorem noJ_cg {j : Nat} (h : sk B n p = sk B n p') (g : noJ B n j p) : noJ B n j p' := by
  unfold noJ at g ⊢
  rw [← isH_cg h, ← h]; exact g
theorem sPass_t {j : Nat} (h : isH B n j p) : sPass B n j p = .ok (true, wE B n p) := by
  unfold sPass sWord
  rw [if_pos h.1, if_pos h.1, if_neg h.2.1, eb_ok]
  exact if_pos h.2.2
theorem sPass_e {j : Nat} (h1 : isLt (B (sk B n p)) = true) (h2 : ptd B (sk B n p) = true) : sPass B n j p = .error (1, sk B n p) := by
  unfold sPass sWord
  rw [if_pos h1, if_pos h1, if_pos h2, eb_er]
theorem sPass_f {j : Nat} (hB : BOK B n) (h : noJ B n j p) : ∃ p', sPass B n j p = .ok (false, p') ∧ sk B n p' = sk B n p ∧ p ≤ p' := by
  unfold sPass sWord
  by_cases c : isLt (B (sk B n p)) = true
  · have c2 : ¬ ptd B (sk B n p) = true := fun w => h.2 ⟨c, w⟩
    refine ⟨p, ?_, rfl, Nat.le_refl _⟩
    rw [if_pos c, if_pos c, if_neg c2, eb_ok]
    exact if_neg (fun w => h.1 ⟨c, c2, w⟩)
  · exact ⟨sk B n p, by rw [if_neg c], sk_sk hB, sk_ge B n p⟩
theorem DtQ.stop {X : Option (Unit × mSt)} {y : Nat × List Int32} (h : DtQ sl N X σ B n p q μ K W o y) (hW : Top is12 W) : ∃ σ' p' x z, X = tG N x z σ' ∧ Cm Kq σ σ' ∧ SQ σ' B n p' q μ (K ++ y.2) W o 0 sl ∧ sk B n p' = sk B n y.1 ∧ p < p' ∧ 3000 ≤ x + p' ∧ 3000 ≤ z + p' := by
  obtain ⟨σ', p', k, v, x, z, h1, h2, h3, h4, h5, h6, h7, h8, h9⟩ := h
  obtain ⟨v, rfl⟩ : ∃ m, v = m + 1 := ⟨v - 1, by omega⟩
  refine ⟨σ', p', x, z, ?_, h3, h4, h5, h6, h7, h8⟩
  rw [h1]
  unfold tD
  rw [nots_stop h4.rm.bad h4.qs hW, bd_some, h2 _ h4.rm.bad]
/-- a letter too near: the run ends there -/
theorem GT_near (hN : 5000 ≤ N) (s : SQ σ B n p q μ K W o 0 sl) (h1 : isLt (B (sk B n p)) = true) (h2 : ptd B (sk B n p) = true) {x z : Nat} (hx : 1 ≤ x) (hz : 1 ≤ z) {X : Option (Unit × mSt)} (hX : X = tG N x z σ) {σ0 : mSt} (c : Cm Kq σ0 σ) : Et sl X σ0 B n q μ (1, sk B n p) := by
  have n1 : ∀ j, ¬ isH B n j p := fun j w => w.2.1 h2
  by_cases hW : 25 ∈ W
  · obtain ⟨σ', y1, y2, y3⟩ := GT_fail hN s (fun w => by rw [w] at h1; exact absurd h1 (by decide)) (n1 23) (n1 22) hW hx hz
    exact ⟨σ', hX.trans y1, c.trans y3, Or.inl y2⟩
  · obtain ⟨σ', y1, y2, y3⟩ := GT_end hN s (n1 23) (n1 22) hW hx hz
    exact ⟨σ', hX.trans y1, c.trans y2, Or.inr ⟨_, _, _, y3, by rw [sk_sk s.rm.bk], by rw [sk_sk s.rm.bk]; exact h1⟩⟩
theorem both_loop (hN : 5000 ≤ N) (hF : FOK sl N B n q μ o r) (hr : ∀ p y, r p = .ok y → p < y.1) (hW : ∀ c ∈ W, isTw c) (hT10 : Top is10 W) {σ0 : mSt} {p0 : Nat} {K0 : List Int32} {X : Option (Unit × mSt)} : ∀ (f : Nat) (y : Nat × List Int32) (σ : mSt) (p : Nat) (T K : List Int32) (x z : Nat), n - y.1 ≤ f → X = tG N x z σ → Cm Kq σ0 σ → SQ σ B n p q μ K (W ++ T) o 0 sl → K ++ T.reverse = K0 ++ y.2 → T10 T → sk B n p = sk B n y.1 → p0 < p → 3000 ≤ x + p → 3000 ≤ z + p → Bt sl X σ0 B n q μ (sWLoop B n 23 10 r f y) (GtQ sl T10 (noJ B n 23) N X σ0 B n p0 q μ K0 W o) := by
  intro f
  induction f with
  | zero =>
    intro y σ p T K x z hf hX c s hK hT hs hp hx hz
    have hge := sk_ge B n y.1
    have b6 : B (sk B n y.1) = 256 := s.rm.bk.ge _ (by omega)
    have nj : noJ B n 23 y.1 := by
      refine ⟨fun w => ?_, fun w => ?_⟩
      · have := w.1; rw [b6] at this; exact absurd this (by decide)
      · have := w.1; rw [b6] at this; exact absurd this (by decide)
    obtain ⟨p', h1, h2, h3⟩ := sPass_f s.rm.bk nj
    show Bt sl X σ0 B n q μ (eb (sPass B n 23 y.1) fun y' => .ok (y'.2, y.2)) _
    rw [h1, eb_ok]
    exact ⟨σ, p, T, K, x, z, hX, c, s, hK, hT, noJ_cg h2.symm nj, hs.trans h2.symm, hp, hx, hz⟩
  | succ f ih =>
    intro y σ p T K x z hf hX c s hK hT hs hp hx hz
    have hB := s.rm.bk
    have hge := sk_ge B n y.1
    have nb := s.nb
    have pn := s.rm.pn
    show Bt sl X σ0 B n q μ (eb (sPass B n 23 y.1) fun y' => if y'.1 = true then eb (r y'.2) (fun w => sWLoop B n 23 10 r f (w.1, y.2 ++ w.2 ++ [10])) else .ok (y'.2, y.2)) _
    by_cases c1 : isH B n 23 y.1
    · rw [sPass_t c1, eb_ok]
      show Bt sl X σ0 B n q μ (eb (r (wE B n y.1)) (fun w => sWLoop B n 23 10 r f (w.1, y.2 ++ w.2 ++ [10]))) _
      have cp : isH B n 23 p := (isH_cg hs).mpr c1
      have ew : wE B n p = wE B n y.1 := by unfold wE; rw [hs]
      obtain ⟨k1, k2, k3, k4⟩ := isH_end hB pn cp
      have hgp := sk_ge B n p
      obtain ⟨z, rfl⟩ : ∃ m, z = m + 1 := ⟨z - 1, by omega⟩
      obtain ⟨σ1, e1, d1, s1⟩ := GT_and hN s hT hT10 cp
      have hX1 : X = tE N x σ1 := hX.trans (e1 x z)
      have hT' : T.reverse = T := by
        rcases hT with rfl | rfl <;> rfl
      rw [← hT', hK, ew] at s1
      rw [ew] at k1
      refine Bt.xx (Bt.mv (hF σ1 (wE B n y.1) _ _ x s1 (fun d hd => ?_) (by omega)) hX1 (c.trans d1) (fun _ _ w => w)) (fun y2 hy2 w => ?_)
      · rcases List.mem_append.mp hd with w | w
        · exact hW d w
        · rw [List.mem_singleton] at w; exact Or.inl w
      · obtain ⟨σ2, p2, x2, z2, w1, w2, w3, w4, w5, w6, w7⟩ := w.stop (Or.inr ⟨W, 10, rfl, by unfold is12; decide⟩)
        have hadv := hr _ _ hy2
        exact ih (y2.1, y.2 ++ y2.2 ++ [10]) σ2 p2 [10] _ x2 z2 (by show n - y2.1 ≤ f; rw [hs] at k1; omega) (hX1.trans w1) (c.trans (d1.trans w2)) w3 (by simp [List.append_assoc]) (Or.inr rfl) w4 (by omega) w6 w7
    · by_cases c2 : isLt (B (sk B n y.1)) = true ∧ ptd B (sk B n y.1) = true
      · rw [sPass_e c2.1 c2.2, eb_er]
        have := GT_near hN s (by rw [hs]; exact c2.1) (by rw [hs]; exact c2.2) (x := x) (z := z) (by omega) (by omega) hX c
        rw [hs] at this
        exact this
      · obtain ⟨p', h1, h2, h3⟩ := sPass_f hB (show noJ B n 23 y.1 from ⟨c1, c2⟩)
        rw [h1, eb_ok]
        show Bt sl X σ0 B n q μ (if false = true then _ else _) _
        rw [if_neg (by decide)]
        exact ⟨σ, p, T, K, x, z, hX, c, s, hK, hT, noJ_cg h2.symm ⟨c1, c2⟩, hs.trans h2.symm, hp, hx, hz⟩
theorem both_q (hN : 5000 ≤ N) {rf : RA} (hF : FOK sl N B n q μ o (rf o)) (hr : ∀ p y, rf o p = .ok y → p < y.1) (hW : ∀ c ∈ W, isTw c) (hT10 : Top is10 W) (hT12 : Top is12 W) (s : SQ σ B n p q μ K W o 0 sl) {x : Nat} (hx : 3000 ≤ x + p) : Bt sl (tE N x σ) σ B n q μ (sBoth B n rf o p) (GtQ sl T10 (noJ B n 23) N (tE N x σ) σ B n p q μ K W o) := by
  unfold sBoth
  refine Bt.xx (hF σ p K W x s hW hx) (fun y hy w => ?_)
  obtain ⟨σ2, p2, x2, z2, w1, w2, w3, w4, w5, w6, w7⟩ := w.stop hT12
  exact both_loop hN hF hr hW hT10 _ y σ2 p2 [] _ x2 z2 (Nat.le_refl _) w1 w2 (by rw [List.append_nil]; exact w3) (by simp) (Or.inl rfl) w4 w5 w6 w7
theorem adv_wloop {j : Nat} {k : Int32} (hB : BOK B n) (hr : ∀ p y, r p = .ok y → p < y.1) : ∀ (f : Nat) (x y : Nat × List Int32), sWLoop B n j k r f x = .ok y → x.1 ≤ y.1 := by
  have ps : ∀ (p : Nat) (w : Bool × Nat), sPass B n j p = .ok w → p ≤ w.2 := by
    intro p w hw
    obtain ⟨b, p'⟩ := w
    cases b with
    | true =>
      have := (sPass_true hw).1
      have h1 := sk_ge B n p
      have h2 := rp_ge isLt B n (sk B n p)
      show p ≤ p'
      omega
    | false =>
      have h1 := sk_ge B n p
      show p ≤ p'
      rcases sPass_false hw with z | z
      · omega
      · omega
  intro f
  induction f with
  | zero =>
    intro x y h
    have h' : eb (sPass B n j x.1) (fun w => (.ok (w.2, x.2) : Rs (Nat × List Int32))) = .ok y := h
    cases hp : sPass B n j x.1 with
    | error e => rw [hp, eb_er] at h'; cases h'
    | ok w =>
      rw [hp, eb_ok] at h'
      cases h'
      exact ps _ _ hp
  | succ f ih =>
    intro x y h
    have h' : eb (sPass B n j x.1) (fun w => if w.1 = true then eb (r w.2) (fun z => sWLoop B n j k r f (z.1, x.2 ++ z.2 ++ [k])) else (.ok (w.2, x.2) : Rs (Nat × List Int32))) = .ok y := h
    cases hp : sPass B n j x.1 with
    | error e => rw [hp, eb_er] at h'; cases h'
    | ok w =>
      have := ps _ _ hp
      rw [hp, eb_ok] at h'
      by_cases c : w.1 = true
      · rw [if_pos c] at h'
        cases hr2 : r w.2 with
        | error e => rw [hr2, eb_er] at h'; cases h'
        | ok z =>
          rw [hr2, eb_ok] at h'
          have h1 := ih _ _ h'
          have h2 := hr _ _ hr2
          have h1 : z.1 ≤ y.1 := h1
          omega
      · rw [if_neg c] at h'
        cases h'
        exact this
theorem adv_both {rf : RA} (hB : BOK B n) (hr : ∀ p y, rf o p = .ok y → p < y.1) : ∀ p y, sBoth B n rf o p = .ok y → p < y.1 := by
  intro p y h
  unfold sBoth at h
  cases hx : rf o p with
  | error e => rw [hx, eb_er] at h; cases h
  | ok x =>
    rw [hx, eb_ok] at h
    have h1 := hr _ _ hx
    have h2 := adv_wloop hB hr _ _ _ h
    omega
theorem test_loop (hN : 5000 ≤ N) {rf : RA} (hF : FOK sl N B n q μ o (rf o)) (hr : ∀ p y, rf o p = .ok y → p < y.1) (hr2 : ∀ p y, sBoth B n rf o p = .ok y → p < y.1) (hW : ∀ c ∈ W, isTw c) (hAO : Top isAO W) {σ0 : mSt} {p0 : Nat} {K0 : List Int32} {X : Option (Unit × mSt)} : ∀ (f : Nat) (y : Nat × List Int32) (σ : mSt) (p : Nat) (T K : List Int32) (x z : Nat), n - y.1 ≤ f → X = tG N x z σ → Cm Kq σ0 σ → SQ σ B n p q μ K (W ++ T) o 0 sl → K ++ T.reverse = K0 ++ y.2 → TAO T → noJ B n 23 y.1 → sk B n p = sk B n y.1 → p0 < p → 3000 ≤ x + p → 3000 ≤ z + p → Bt sl X σ0 B n q μ (sWLoop B n 22 11 (sBoth B n rf o) f y) (GtQ sl TAO (fun p => noJ B n 23 p ∧ noJ B n 22 p) N X σ0 B n p0 q μ K0 W o) := by
  intro f
  induction f with
  | zero =>
    intro y σ p T K x z hf hX c s hK hT hm hs hp hx hz
    have hge := sk_ge B n y.1
    have b6 : B (sk B n y.1) = 256 := s.rm.bk.ge _ (by omega)
    have nj : noJ B n 22 y.1 := by
      refine ⟨fun w => ?_, fun w => ?_⟩
      · have := w.1; rw [b6] at this; exact absurd this (by decide)
      · have := w.1; rw [b6] at this; exact absurd this (by decide)
    obtain ⟨p', h1, h2, h3⟩ := sPass_f s.rm.bk nj
    show Bt sl X σ0 B n q μ (eb (sPass B n 22 y.1) fun y' => .ok (y'.2, y.2)) _
    rw [h1, eb_ok]
    exact ⟨σ, p, T, K, x, z, hX, c, s, hK, hT, ⟨noJ_cg h2.symm hm, noJ_cg h2.symm nj⟩, hs.trans h2.symm, hp, hx, hz⟩
  | succ f ih =>
    intro y σ p T K x z hf hX c s hK hT hm hs hp hx hz
    have hB := s.rm.bk
    have hge := sk_ge B n y.1
    have nb := s.nb
    have pn := s.rm.pn
    show Bt sl X σ0 B n q μ (eb (sPass B n 22 y.1) fun y' => if y'.1 = true then eb (sBoth B n rf o y'.2) (fun w => sWLoop B n 22 11 (sBoth B n rf o) f (w.1, y.2 ++ w.2 ++ [11])) else .ok (y'.2, y.2)) _
    by_cases c1 : isH B n 22 y.1
    · rw [sPass_t c1, eb_ok]
      show Bt sl X σ0 B n q μ (eb (sBoth B n rf o (wE B n y.1)) (fun w => sWLoop B n 22 11 (sBoth B n rf o) f (w.1, y.2 ++ w.2 ++ [11]))) _
      have cp : isH B n 22 p := (isH_cg hs).mpr c1
      have ew : wE B n p = wE B n y.1 := by unfold wE; rw [hs]
      obtain ⟨k1, k2, k3, k4⟩ := isH_end hB pn cp
      have hgp := sk_ge B n p
      obtain ⟨z, rfl⟩ : ∃ m, z = m + 1 := ⟨z - 1, by omega⟩
      obtain ⟨σ1, e1, d1, s1⟩ := GT_or hN s hT hAO cp
      have hX1 : X = tE N x σ1 := hX.trans (e1 x z)
      rw [hK, ew] at s1
      rw [ew] at k1
      have hW2 : ∀ d ∈ W ++ [11], isTw d := by
        intro d hd
        rcases List.mem_append.mp hd with w | w
        · exact hW d w
        · rw [List.mem_singleton] at w; exact Or.inr (Or.inl w)
      refine Bt.xx (Bt.mv (both_q hN hF hr hW2 (Or.inr ⟨W, 11, rfl, by unfold is10; decide⟩) (Or.inr ⟨W, 11, rfl, by unfold is12; decide⟩) s1 (x := x) (by omega)) hX1 (c.trans d1) (fun _ _ w => w)) (fun y2 hy2 w => ?_)
      obtain ⟨σ2, p2, Q, K2, x2, z2, w1, w2, w3, w4, w5, w6, w7, w8, w9, w10⟩ := w
      have hadv := hr2 _ _ hy2
      refine ih (y2.1, y.2 ++ y2.2 ++ [11]) σ2 p2 (11 :: Q) K2 x2 z2 (by show n - y2.1 ≤ f; rw [hs] at k1; omega) (hX1.trans w1) (c.trans (d1.trans w2)) (by rw [List.append_assoc] at w3; exact w3) ?_ (fun d hd => ?_) w6 w7 (by omega) w9 w10
      · rw [List.reverse_cons, ← List.append_assoc, w4]
        simp [List.append_assoc]
      · rcases List.mem_cons.mp hd with z | z
        · exact Or.inr z
        · rcases w5 with rfl | rfl
          · cases z
          · rw [List.mem_singleton] at z; exact Or.inl z
    · by_cases c2 : isLt (B (sk B n y.1)) = true ∧ ptd B (sk B n y.1) = true
      · rw [sPass_e c2.1 c2.2, eb_er]
        have := GT_near hN s (by rw [hs]; exact c2.1) (by rw [hs]; exact c2.2) (x := x) (z := z) (by omega) (by omega) hX c
        rw [hs] at this
        exact this
      · obtain ⟨p', h1, h2, h3⟩ := sPass_f hB (show noJ B n 22 y.1 from ⟨c1, c2⟩)
        rw [h1, eb_ok]
        show Bt sl X σ0 B n q μ (if false = true then _ else _) _
        rw [if_neg (by decide)]
        exact ⟨σ, p, T, K, x, z, hX, c, s, hK, hT, ⟨noJ_cg h2.symm hm, noJ_cg h2.symm ⟨c1, c2⟩⟩, hs.trans h2.symm, hp, hx, hz⟩
def isAN (c : Int32) : Prop := c = 10 ∨ c = 11 ∨ c = 12
theorem Top.wk {P Q : Int32 → Prop} (h : Top P W) (d : ∀ c, Q c → P c) : Top Q W := by
  rcases h with h | ⟨W1, b, e, h⟩
  · exact Or.inl h
  · exact Or.inr ⟨W1, b, e, fun w => h (d _ w)⟩
theorem test_q (hN : 5000 ≤ N) {rf : RA} (hF : FOK sl N B n q μ o (rf o)) (hr : ∀ p y, rf o p = .ok y → p < y.1) (hW : ∀ c ∈ W, isTw c) (hT : Top isAN W) (s : SQ σ B n p q μ K W o 0 sl) {x : Nat} (hx : 3000 ≤ x + p) : Bt sl (tE N x σ) σ B n q μ (sTest B n rf o p) (GtQ sl TAO (fun p => noJ B n 23 p ∧ noJ B n 22 p) N (tE N x σ) σ B n p q μ K W o) := by
  unfold sTest
  refine Bt.xx (both_q hN hF hr hW (hT.wk (fun c w => Or.inl w)) (hT.wk (fun c w => Or.inr (Or.inr w))) s hx) (fun y hy w => ?_)
  obtain ⟨σ2, p2, Q, K2, x2, z2, w1, w2, w3, w4, w5, w6, w7, w8, w9, w10⟩ := w
  refine test_loop hN hF hr (adv_both s.rm.bk hr) hW (hT.wk (fun c w => w.elim Or.inl (fun v => Or.inr (Or.inl v)))) _ y σ2 p2 Q K2 x2 z2 (Nat.le_refl _) w1 w2 w3 w4 (fun d hd => ?_) w6 w7 w8 w9 w10
  rcases w5 with rfl | rfl
  · cases hd
  · rw [List.mem_singleton] at hd; exact Or.inl hd
end
