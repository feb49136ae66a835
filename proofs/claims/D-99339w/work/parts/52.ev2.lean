/-! PURE LEVEL: the evaluation of objects -/
set_option maxRecDepth 100000
theorem Ev.MO {q : Bool} {A B : AH} {w : Nat} (h : Ev q A B) (hw : w = 11 ∨ w = 13) (m : MO A w) : MO B w := by
  have hc := h.ch
  have h12 : ¬ w = 12 := by omega
  obtain ⟨m1, m2, m3, m4⟩ := m
  exact ⟨(congrFun hc.K w).trans m1, (hc.R 0 h12).trans m2, (congrFun hc.K _).trans m3, (congrFun hc.L _).trans m4⟩
theorem Ev.mom {q : Bool} {A B : AH} {w : Nat} (h : Ev q A B) (hq : q = true → w = 13) : mom B w = mom A w := by
  funext k
  cases q with
  | false => rw [show B = A from h]
  | true =>
    have := hq rfl
    subst this
    exact h.ch.J k (by decide)
theorem val_eval {N : Nat} (hN : 5000 ≤ N) {q : Bool} {μ : Nat} {F : Nat → Prop} (hF : ¬ F 12) {w : Nat} (hw : w = 11 ∨ w = 13) {lk : Int64 → Int64} {A0 : AH} (m0 : MO A0 w) (hq : q = true → w = 13) {dq : Nat}
    (orc : q = true → ∀ D, dq ≤ D → ∀ A, Ev q A0 A → ∀ x, ∃ A2, Ch P12 A A2 ∧ X0_looked (valG N D) A 0 x = some (lk x, A2)) :
    ∀ (d D : Nat) (A : AH) (v : Nat) (g : Gv), d + dq ≤ D → Ev q A0 A → VR d q μ A F v g → ∃ A2, Ev q A A2 ∧ valG N D A v w = some (g (mom A0 w) lk, A2) := by
  intro d
  induction d with
  | zero => intro D A v g _ _ h; exact False.elim h
  | succ d ih =>
    intro D A v g hD hA h
    obtain ⟨D, rfl⟩ : ∃ E, D = E + 1 := ⟨D - 1, by omega⟩
    have hD' : d + dq ≤ D := by omega
    have m := hA.MO hw m0
    obtain ⟨hv, h⟩ := h
    rcases h with ⟨hk, c, h1, h2⟩ | ⟨hk, k, h1, _, h2, h3⟩ | ⟨hk, v1, v2, g1, g2, h1, h2, h3, h4, h5⟩ | ⟨hk, li, sb, v0, s0, g0, its, h1, h2, h3, h4, h5, h6, h7⟩ | ⟨hqt, hk, v1, g1, h1, h2, h3, h4, h5⟩
    · refine ⟨A, Ev.refl q A, ?_⟩
      subst h2
      show (if aK A v = 8 then _ else _) = _
      rw [if_neg (by omega), if_neg (by omega), if_pos hk]
      unfold X11_at
      rw [gJ_k hk, bo_some, bo_some, h1]
    · refine ⟨A, Ev.refl q A, ?_⟩
      subst h3
      have hm := congrFun (hA.mom hq) k
      have hm : aJ A 32 (w + 1) k = mom A0 w k := hm
      show (if aK A v = 8 then _ else _) = _
      rw [if_neg (by omega), if_neg (by omega), if_neg (by omega), if_pos hk]
      unfold X12_at
      rw [gN_k m.1, m.2.1, bo_some, gI_k hk, bo_some, h2, dJ_nn m.2.2.1 (by rw [m.2.2.2]; exact h1) (by omega), bo_some, X0_held_eq, bo_some, bo_some, hm]
    · obtain ⟨A2, hA2, r1⟩ := ih D A v1 g1 hD' hA h3
      have hs := hA2.same hF
      obtain ⟨A3, hA3, r2⟩ := ih D A2 v2 g2 hD' (hA.trans hA2) (h4.same hs)
      have hs3 := (hA2.trans hA3).same hF
      refine ⟨A3, hA2.trans hA3, ?_⟩
      subst h5
      show (if aK A v = 8 then _ else _) = _
      rw [if_neg (by omega), if_pos hk]
      unfold X10_at X10_at_b35
      rw [gR_k hk, bo_some, h1, bo_some, r1, bd_some, gR_k ((hs v hv).1.trans hk), bo_some, ((hs v hv).2.2 902 0).2.2, h2, bo_some, r2, bd_some, gI_k ((hs3 v hv).1.trans hk), bo_some, ((hs3 v hv).2.2 900 0).1]
      unfold pairG
      split
      · split <;> rfl
      · split <;> rfl
    · obtain ⟨A2, hA2, r1⟩ := ih D A v0 g0 hD' hA h5
      have hs := hA2.same hF
      have hsm := h3.small
      simp only [List.length_cons, List.length_map] at hsm
      have hrv : ∀ it ∈ its, isVal (aK A2 it.2.1) = true ∧ sgn it.1 ∧ ∀ B, Ev q A2 B → ∃ B2, Ev q B B2 ∧ valG N D B it.2.1 w = some (it.2.2 (mom A0 w) lk, B2) := by
        intro it hi
        refine ⟨((h6 it hi).1.same hs).isVal, (h6 it hi).2, fun B hB => ?_⟩
        exact ih D B it.2.1 it.2.2 hD' ((hA.trans hA2).trans hB) (((h6 it hi).1.same hs).same (hB.same hF))
      obtain ⟨A3, hA3, r2⟩ := chain_loop (N := N) (rv := valG N D) hF (x1 := w) ((hs v hv).1.trans hk) hv (((hs v hv).2.2 800 0).2.2.trans h1) (((hs v hv).2.2 801 0).2.2.trans h2) (h3.same hs) (h4.same hs) hrv its [] (g0 (mom A0 w) lk) A2 N rfl (by omega) (Ev.refl q A2)
      refine ⟨A3, hA2.trans hA3, ?_⟩
      subst h7
      show (if aK A v = 8 then _ else _) = _
      rw [if_pos hk]
      unfold X9_at
      have hg : J2_get A li 0 = some (some v0) := J2_get_LR h3 (i := 0) rfl
      rw [gN_k hk, h1, bo_some, if_pos h3.kd, hg, bo_some, bo_some, if_pos h5.isVal, r1, bd_some]
      exact r2
    · obtain ⟨A2, hA2, r1⟩ := ih D A v1 g1 hD' hA h4
      obtain ⟨A3, hA3, r2⟩ := orc hqt D (by omega) A2 (hA.trans hA2) (g1 (mom A0 w) lk)
      have hA3' : Ev q A2 A3 := by rw [hqt]; exact hA3
      refine ⟨A3, hA2.trans hA3', ?_⟩
      subst h5
      show (if aK A v = 8 then _ else _) = _
      rw [if_neg (by omega), if_neg (by omega), if_neg (by omega), if_neg (by omega), if_pos hk]
      unfold X13_at
      rw [gN_k hk, h1, bo_some, gI_k hk, bo_some, h2, gR_k hk, bo_some, h3, bo_some, r1, bd_some, if_pos rfl, r2, bd_some, X0_held_eq, bo_some]
/-- evaluation without 'meets' -/
theorem val0 {N : Nat} (hN : 5000 ≤ N) {μ : Nat} {F : Nat → Prop} (hF : ¬ F 12) {w : Nat} (hw : w = 11 ∨ w = 13) {A : AH} (m : MO A w) {d D v : Nat} {g : Gv} (hD : d ≤ D) (h : VR d false μ A F v g) (lk : Int64 → Int64) : valG N D A v w = some (g (mom A w) lk, A) := by
  obtain ⟨A2, h1, h2⟩ := val_eval hN (q := false) hF hw (lk := lk) m (fun h => by cases h) (dq := 0) (fun h => by cases h) d D A v g hD rfl h
  rw [h2, show A2 = A from h1]
/-! tests -/
def andG (all : Int32) (ts : List (Nat × Gv)) : Gv := fun e lk => if ∀ t ∈ ts, (t.2 e lk = 1 ↔ all = 1) then all.toInt64 else 1 - all.toInt64
def thanG (s : Int32) (g1 g2 : Gv) : Gv := fun e lk => if s = 60 then (if g2 e lk ≤ g1 e lk then 0 else 1) else if s = 62 then (if g1 e lk ≤ g2 e lk then 0 else 1) else (if g1 e lk = g2 e lk then 1 else 0)
/-- the object v tells g, which is 0 or 1; dv: how deep its sums are -/
def TR (dv : Nat) : Nat → Bool → Nat → AH → (Nat → Prop) → Nat → Gv → Prop
  | 0, _, _, _, _, _, _ => False
  | d + 1, q, μ, A, F, v, g => F v ∧ (
      (aK A v = 15 ∧ g = fun _ _ => 1) ∨
      (aK A v = 14 ∧ ∃ v1 g1, aR A 1400 v 0 = some v1 ∧ TR dv d q μ A F v1 g1 ∧ g = fun e lk => 1 - g1 e lk) ∨
      (aK A v = 16 ∧ ∃ v1 v2 g1 g2, aR A 1600 v 0 = some v1 ∧ aR A 1601 v 0 = some v2 ∧ VR dv q μ A F v1 g1 ∧ VR dv q μ A F v2 g2 ∧ g = thanG (aI A 1602 v 0) g1 g2) ∨
      (aK A v = 13 ∧ ∃ li, ∃ ts : List (Nat × Gv), aR A 1300 v 0 = some li ∧ (aI A 1301 v 0 = 0 ∨ aI A 1301 v 0 = 1) ∧ LR A F li (ts.map (fun t => t.1)) ∧ (∀ t ∈ ts, TR dv d q μ A F t.1 t.2) ∧ g = andG (aI A 1301 v 0) ts))
theorem TR.same {dv d : Nat} {q : Bool} {μ : Nat} {A A' : AH} {F : Nat → Prop} (s : SameOn F A A') : ∀ {v : Nat} {g : Gv}, TR dv d q μ A F v g → TR dv d q μ A' F v g := by
  induction d with
  | zero => intro v g h; exact h
  | succ d ih =>
    rintro v g ⟨hF, h⟩
    have sv := s v hF
    refine ⟨hF, ?_⟩
    rcases h with ⟨hk, h1⟩ | ⟨hk, v1, g1, h1, h2, h3⟩ | ⟨hk, v1, v2, g1, g2, h1, h2, h3, h4, h5⟩ | ⟨hk, li, ts, h1, h2, h3, h4, h5⟩
    · exact Or.inl ⟨sv.1.trans hk, h1⟩
    · exact Or.inr (Or.inl ⟨sv.1.trans hk, v1, g1, ((sv.2.2 _ _).2.2).trans h1, ih h2, h3⟩)
    · refine Or.inr (Or.inr (Or.inl ⟨sv.1.trans hk, v1, v2, g1, g2, ((sv.2.2 _ _).2.2).trans h1, ((sv.2.2 _ _).2.2).trans h2, h3.same s, h4.same s, ?_⟩))
      rw [(sv.2.2 _ _).1]; exact h5
    · refine Or.inr (Or.inr (Or.inr ⟨sv.1.trans hk, li, ts, ((sv.2.2 _ _).2.2).trans h1, ?_, h3.same s, fun t ht => ih (h4 t ht), ?_⟩))
      · rw [(sv.2.2 _ _).1]; exact h2
      · rw [(sv.2.2 _ _).1]; exact h5
theorem TR.mono {dv d : Nat} {q : Bool} {μ : Nat} {A : AH} {F G : Nat → Prop} (s : ∀ i, F i → G i) : ∀ {v : Nat} {g : Gv}, TR dv d q μ A F v g → TR dv d q μ A G v g := by
  induction d with
  | zero => intro v g h; exact h
  | succ d ih =>
    rintro v g ⟨hF, h⟩
    refine ⟨s _ hF, ?_⟩
    rcases h with h | ⟨hk, v1, g1, h1, h2, h3⟩ | ⟨hk, v1, v2, g1, g2, h1, h2, h3, h4, h5⟩ | ⟨hk, li, ts, h1, h2, h3, h4, h5⟩
    · exact Or.inl h
    · exact Or.inr (Or.inl ⟨hk, v1, g1, h1, ih h2, h3⟩)
    · exact Or.inr (Or.inr (Or.inl ⟨hk, v1, v2, g1, g2, h1, h2, h3.mono s, h4.mono s, h5⟩))
    · exact Or.inr (Or.inr (Or.inr ⟨hk, li, ts, h1, h2, h3.mono s, fun t ht => ih (h4 t ht), h5⟩))
theorem TR.up {dv d : Nat} {q : Bool} {μ : Nat} {A : AH} {F : Nat → Prop} : ∀ {v : Nat} {g : Gv}, TR dv d q μ A F v g → TR dv (d + 1) q μ A F v g := by
  induction d with
  | zero => intro v g h; exact False.elim h
  | succ d ih =>
    rintro v g ⟨hF, h⟩
    refine ⟨hF, ?_⟩
    rcases h with h | ⟨hk, v1, g1, h1, h2, h3⟩ | h | ⟨hk, li, ts, h1, h2, h3, h4, h5⟩
    · exact Or.inl h
    · exact Or.inr (Or.inl ⟨hk, v1, g1, h1, ih h2, h3⟩)
    · exact Or.inr (Or.inr (Or.inl h))
    · exact Or.inr (Or.inr (Or.inr ⟨hk, li, ts, h1, h2, h3, fun t ht => ih (h4 t ht), h5⟩))
theorem TR.le {dv d D : Nat} {q : Bool} {μ : Nat} {A : AH} {F : Nat → Prop} {v : Nat} {g : Gv} (h : TR dv d q μ A F v g) (hd : d ≤ D) : TR dv D q μ A F v g := by
  induction hd with
  | refl => exact h
  | step _ ih => exact ih.up
theorem TR.isTst {dv d : Nat} {q : Bool} {μ : Nat} {A : AH} {F : Nat → Prop} {v : Nat} {g : Gv} (h : TR dv d q μ A F v g) : isTst (aK A v) = true := by
  cases d with
  | zero => exact False.elim h
  | succ d =>
    rcases h.2 with h | h | h | h <;> rw [h.1] <;> rfl
theorem TR.tv {dv d : Nat} {q : Bool} {μ : Nat} {A : AH} {F : Nat → Prop} : ∀ {v : Nat} {g : Gv}, TR dv d q μ A F v g → Tv g := by
  induction d with
  | zero => intro v g h; exact False.elim h
  | succ d ih =>
    rintro v g ⟨hF, h⟩ e lk
    rcases h with ⟨hk, h1⟩ | ⟨hk, v1, g1, h1, h2, h3⟩ | ⟨hk, v1, v2, g1, g2, h1, h2, h3, h4, h5⟩ | ⟨hk, li, ts, h1, h2, h3, h4, h5⟩
    · subst h1; exact Or.inr rfl
    · subst h3
      rcases ih h2 e lk with q | q
      · right; show 1 - g1 e lk = 1; rw [q]; rfl
      · left; show 1 - g1 e lk = 0; rw [q]; rfl
    · subst h5
      unfold thanG
      split
      · split <;> simp
      · split
        · split <;> simp
        · split <;> simp
    · subst h5
      unfold andG
      rcases h2 with q | q <;> rw [q] <;> split <;> first | exact Or.inl rfl | exact Or.inr rfl
theorem TR.cg {dv d : Nat} {q : Bool} {μ : Nat} {A : AH} {F : Nat → Prop} {e e' : En} (he : ∀ k, cx μ k → e k = e' k) (lk : Int64 → Int64) : ∀ {v : Nat} {g : Gv}, TR dv d q μ A F v g → g e lk = g e' lk := by
  induction d with
  | zero => intro v g h; exact False.elim h
  | succ d ih =>
    rintro v g ⟨hF, h⟩
    rcases h with ⟨hk, h1⟩ | ⟨hk, v1, g1, h1, h2, h3⟩ | ⟨hk, v1, v2, g1, g2, h1, h2, h3, h4, h5⟩ | ⟨hk, li, ts, h1, h2, h3, h4, h5⟩
    · subst h1; rfl
    · subst h3; show 1 - g1 e lk = 1 - g1 e' lk; rw [ih h2]
    · subst h5; unfold thanG; rw [h3.cg he, h4.cg he]
    · subst h5
      unfold andG
      have : (∀ t ∈ ts, (t.2 e lk = 1 ↔ aI A 1301 v 0 = 1)) ↔ (∀ t ∈ ts, (t.2 e' lk = 1 ↔ aI A 1301 v 0 = 1)) := by
        constructor
        · intro h t ht; rw [← ih (h4 t ht)]; exact h t ht
        · intro h t ht; rw [ih (h4 t ht)]; exact h t ht
      simp only [this]
/-- a test's answer as an int -/
def b32 (x : Int64) : Int32 := if x = 1 then 1 else 0
theorem facts_loop {N : Nat} {q : Bool} {rh : AH → Nat → Nat → Option (Int32 × AH)} {A0 : AH} {F : Nat → Prop} (hF : ¬ F 12) {x0 x1 li : Nat} {ts : List (Nat × Gv)} {e : En} {lk : Int64 → Int64}
    (hk : aK A0 x0 = 13) (hx : F x0) (h1 : aR A0 1300 x0 0 = some li) (ha : aI A0 1301 x0 0 = 0 ∨ aI A0 1301 x0 0 = 1) (h3 : LR A0 F li (ts.map (fun t => t.1)))
    (hrv : ∀ t ∈ ts, isTst (aK A0 t.1) = true ∧ (t.2 e lk = 0 ∨ t.2 e lk = 1) ∧ ∀ A, Ev q A0 A → ∃ A2, Ev q A A2 ∧ rh A t.1 x1 = some (b32 (t.2 e lk), A2)) :
    ∀ (rest pre : List (Nat × Gv)) (A : AH) (n : Nat), ts = pre ++ rest → rest.length < n → Ev q A0 A →
      ∃ A2, Ev q A A2 ∧ rn2 (X15_holds_b2 N rh x0 x1) n A (nn pre.length) = some (b32 (andG (aI A0 1301 x0 0) rest e lk), A2) := by
  intro rest
  induction rest with
  | nil =>
    intro pre A n he hn hA
    obtain ⟨n, rfl⟩ : ∃ m, n = m + 1 := ⟨n - 1, by simp at hn; omega⟩
    have hs := hA.same hF
    have l3 := h3.same hs
    have hsm := l3.small
    simp only [List.length_map] at hsm
    refine ⟨A, Ev.refl q A, ?_⟩
    show X15_holds_b2 N rh x0 x1 _ A _ = _
    have hx0 := hs x0 hx
    rw [he, List.append_nil] at hsm
    unfold X15_holds_b2
    rw [gN_k (hx0.1.trans hk), (hx0.2.2 1300 0).2.2, h1, bo_some, if_pos l3.kd, J2_size_LR l3, bo_some, if_pos, gI_k (hx0.1.trans hk), bo_some, (hx0.2.2 1301 0).1]
    · rcases ha with ha | ha <;> rw [ha] <;> simp [andG, b32] <;> rfl
    · rw [List.length_map, he, List.append_nil, nn_le (by omega) (by omega)]
      omega
  | cons t rest ih =>
    intro pre A n he hn hA
    obtain ⟨n, rfl⟩ : ∃ m, n = m + 1 := ⟨n - 1, by simp at hn; omega⟩
    have hs := hA.same hF
    have l3 := h3.same hs
    have hsm := l3.small
    simp only [List.length_map] at hsm
    have hit : t ∈ ts := by rw [he]; simp
    obtain ⟨hv, ht01, hr⟩ := hrv t hit
    obtain ⟨A2, hA2, hr⟩ := hr A hA
    have hlen : ts.length = pre.length + (rest.length + 1) := by rw [he]; simp
    have g1 : (ts.map (fun t => t.1))[pre.length]? = some t.1 := by
      rw [he]; simp
    obtain ⟨A3, hA3, hr3⟩ := ih (pre ++ [t]) A2 n (by rw [he]; simp) (by simp at hn; omega) (hA.trans hA2)
    have e1 : (pre ++ [t]).length = pre.length + 1 := by simp
    rw [e1] at hr3
    have hx0 := hs x0 hx
    have hx2 := (hA.trans hA2).same hF x0 hx
    have hstep : ∀ z : Option (Int32 × AH), (bo (gI 13 A2 1301 x0) fun v9 => if b32 (t.2 e lk) = v9 then z else (bo (gI 13 A2 1301 x0) fun v10 => if v10 = 0 then (some (1, A2)) else (some (0, A2)))) = (if (t.2 e lk = 1 ↔ aI A0 1301 x0 0 = 1) then z else some (1 - aI A0 1301 x0 0, A2)) := by
      intro z
      rw [gI_k (hx2.1.trans hk), bo_some, bo_some, (hx2.2.2 1301 0).1]
      rcases ha with ha | ha <;> rcases ht01 with ht | ht <;> rw [ha, ht] <;> simp [b32] <;> rfl
    have htot : ∃ A4, Ev q A A4 ∧ (if (t.2 e lk = 1 ↔ aI A0 1301 x0 0 = 1) then rn2 (X15_holds_b2 N rh x0 x1) n A2 (nn (pre.length + 1)) else some (1 - aI A0 1301 x0 0, A2)) = some (b32 (andG (aI A0 1301 x0 0) (t :: rest) e lk), A4) := by
      by_cases hc : (t.2 e lk = 1 ↔ aI A0 1301 x0 0 = 1)
      · refine ⟨A3, hA2.trans hA3, ?_⟩
        rw [if_pos hc, hr3]
        have : andG (aI A0 1301 x0 0) (t :: rest) e lk = andG (aI A0 1301 x0 0) rest e lk := by
          unfold andG
          congr 1
          simp [hc]
        rw [this]
      · refine ⟨A2, hA2, ?_⟩
        rw [if_neg hc]
        have : andG (aI A0 1301 x0 0) (t :: rest) e lk = 1 - (aI A0 1301 x0 0).toInt64 := by
          unfold andG
          rw [if_neg]
          intro h
          exact hc (h t (by simp))
        rw [this]
        rcases ha with ha | ha <;> rw [ha] <;> rfl
    obtain ⟨A4, hA4, hr4⟩ := htot
    refine ⟨A4, hA4, ?_⟩
    show X15_holds_b2 N rh x0 x1 (rn2 (X15_holds_b2 N rh x0 x1) n) A _ = _
    clear ih hr3
    generalize rn2 (X15_holds_b2 N rh x0 x1) n = kk at hr4 ⊢
    unfold X15_holds_b2
    rw [gN_k (hx0.1.trans hk), (hx0.2.2 1300 0).2.2, h1, bo_some, if_pos l3.kd, J2_size_LR l3, bo_some, if_neg, bo_some, if_pos l3.kd, J2_get_LR l3 g1, bo_some, bo_some, if_pos, hr, bd_some, nn_succ, hstep, hr4]
    · rw [congrFun hA.ch.K t.1]; exact hv
    · rw [List.length_map, nn_le (by omega) (by omega)]
      omega
theorem tst_eval {N : Nat} (hN : 5000 ≤ N) {q : Bool} {μ : Nat} {F : Nat → Prop} (hF : ¬ F 12) {w : Nat} (hw : w = 11 ∨ w = 13) {lk : Int64 → Int64} {A0 : AH} (m0 : MO A0 w) (hq : q = true → w = 13) {dv dq : Nat} (hdv : dv + dq ≤ 64)
    (orc : q = true → ∀ D, dq ≤ D → ∀ A, Ev q A0 A → ∀ x, ∃ A2, Ch P12 A A2 ∧ X0_looked (valG N D) A 0 x = some (lk x, A2)) :
    ∀ (d D : Nat) (A : AH) (v : Nat) (g : Gv), d ≤ D → Ev q A0 A → TR dv d q μ A F v g → ∃ A2, Ev q A A2 ∧ tstG N D A v w = some (b32 (g (mom A0 w) lk), A2) := by
  intro d
  induction d with
  | zero => intro D A v g _ _ h; exact False.elim h
  | succ d ih =>
    intro D A v g hD hA h
    obtain ⟨D, rfl⟩ : ∃ E, D = E + 1 := ⟨D - 1, by omega⟩
    have hD' : d ≤ D := by omega
    obtain ⟨hv, h⟩ := h
    rcases h with ⟨hk, h1⟩ | ⟨hk, v1, g1, h1, h2, h3⟩ | ⟨hk, v1, v2, g1, g2, h1, h2, h3, h4, h5⟩ | ⟨hk, li, ts, h1, h2, h3, h4, h5⟩
    · refine ⟨A, Ev.refl q A, ?_⟩
      subst h1
      show (if aK A v = 13 then _ else _) = _
      rw [if_neg (by omega), if_neg (by omega), if_pos hk]
      rfl
    · obtain ⟨A2, hA2, r1⟩ := ih D A v1 g1 hD' hA h2
      refine ⟨A2, hA2, ?_⟩
      have h01 := h2.tv (mom A0 w) lk
      subst h3
      show (if aK A v = 13 then _ else _) = _
      rw [if_neg (by omega), if_pos hk]
      unfold X16_holds
      rw [gR_k hk, bo_some, h1, bo_some, r1, bd_some]
      show (if b32 (g1 (mom A0 w) lk) = 0 then some ((1 : Int32), A2) else some (0, A2)) = some (b32 (1 - g1 (mom A0 w) lk), A2)
      rcases h01 with h01 | h01 <;> rw [h01] <;> rfl
    · obtain ⟨A2, hA2, r1⟩ := val_eval hN hF hw m0 hq orc dv 64 A v1 g1 hdv hA h3
      have hs := hA2.same hF
      obtain ⟨A3, hA3, r2⟩ := val_eval hN hF hw m0 hq orc dv 64 A2 v2 g2 hdv (hA.trans hA2) (h4.same hs)
      have hs3 := (hA2.trans hA3).same hF
      refine ⟨A3, hA2.trans hA3, ?_⟩
      subst h5
      show (if aK A v = 13 then _ else _) = _
      rw [if_neg (by omega), if_neg (by omega), if_neg (by omega), if_pos hk]
      unfold X18_holds valF
      rw [gR_k hk, bo_some, h1, bo_some, r1, bd_some, gR_k ((hs v hv).1.trans hk), bo_some, ((hs v hv).2.2 1601 0).2.2, h2, bo_some, r2, bd_some, gI_k ((hs3 v hv).1.trans hk), bo_some, bo_some, ((hs3 v hv).2.2 1602 0).1]
      unfold thanG
      split
      · split <;> rfl
      · split
        · split <;> rfl
        · split <;> rfl
    · have hrv : ∀ t ∈ ts, isTst (aK A t.1) = true ∧ (t.2 (mom A0 w) lk = 0 ∨ t.2 (mom A0 w) lk = 1) ∧ ∀ B, Ev q A B → ∃ B2, Ev q B B2 ∧ tstG N D B t.1 w = some (b32 (t.2 (mom A0 w) lk), B2) := by
        intro t ht
        exact ⟨(h4 t ht).isTst, (h4 t ht).tv _ _, fun B hB => ih D B t.1 t.2 hD' (hA.trans hB) ((h4 t ht).same (hB.same hF))⟩
      have hsm := h3.small
      simp only [List.length_map] at hsm
      obtain ⟨A2, hA2, r⟩ := facts_loop (N := N) (rh := tstG N D) hF (x1 := w) hk hv h1 h2 h3 hrv ts [] A N rfl (by omega) (Ev.refl q A)
      refine ⟨A2, hA2, ?_⟩
      subst h5
      show (if aK A v = 13 then _ else _) = _
      rw [if_pos hk]
      exact r
theorem tst0 {N : Nat} (hN : 5000 ≤ N) {μ : Nat} {F : Nat → Prop} (hF : ¬ F 12) {w : Nat} (hw : w = 11 ∨ w = 13) {A : AH} (m : MO A w) {dv d D v : Nat} {g : Gv} (hdv : dv ≤ 64) (hD : d ≤ D) (h : TR dv d false μ A F v g) (lk : Int64 → Int64) : tstG N D A v w = some (b32 (g (mom A w) lk), A) := by
  obtain ⟨A2, h1, h2⟩ := tst_eval hN (q := false) hF hw (lk := lk) m (fun h => by cases h) (dv := dv) (dq := 0) (by omega) (fun h => by cases h) d D A v g hD rfl h
  rw [h2, show A2 = A from h1]
