/-! PURE LEVEL: behind a part, at the reference -/
set_option maxRecDepth 100000
section
variable {N : Nat} {was : Int32} {σ σ' : mSt} {B : Nat → Nat} {n p p' : Nat} {q : Bool} {μ : Nat} {K W K' W' T : List Int32} {o base o' base' sl : Nat} {e : Nat × Nat}
/-- nothing on top, or what is no P -/
def Top (P : Int32 → Prop) (W : List Int32) : Prop := W = [] ∨ ∃ W1 b, W = W1 ++ [b] ∧ ¬ P b
def is34 (c : Int32) : Prop := c = 3 ∨ c = 4
theorem isOn_top {P : Int32 → Prop} (h : QS σ K W o base) (hW : Top P W) {c : Int32} (hc : P c) : M_qIsOn σ c = some 0 := by
  rcases hW with rfl | ⟨W1, b, rfl, hb⟩
  · exact qIsOn_nil h c
  · rw [qIsOn_eq h c, if_neg (fun z => hb (by rw [z]; exact hc))]
theorem qPush2 (h : QS σ K W o base) (hl : K.length + W.length < 1650) (c : Int32) : ∃ σ', (∀ r : Int32, (bo (stI 2 σ 96 (σ.1 97 0) c) fun σ7 => lt2 (mUI σ7 97 0 ((σ7.1 97 0) + 1)) fun σ8 => some (r, σ8)) = some (r, σ')) ∧ Cm Kw σ σ' ∧ QS σ' K (W ++ [c]) o base := by
  obtain ⟨σ', y1, y2, y3⟩ := qPush_eq h hl c
  refine ⟨σ', fun r => ?_, y2, y3⟩
  cases hs : stI 2 σ 96 (σ.1 97 0) c with
  | none => rw [hs, bo_none] at y1; cases y1
  | some s =>
    rw [hs, bo_some] at y1
    cases y1
    rw [bo_some, lt2_eq]
theorem m_drop (h : QS σ K (W ++ T) o base) (hb : base ≤ W.length) (hT : T = [] ∨ ∃ c, T = [c] ∧ is34 c) (hW : Top is34 W) (hl : K.length + (W ++ T).length < 1650) (c : Int32) {z : Nat} (hz : 2 ≤ z) : ∃ σ', rn2 (M_qGoesOn_b162 N) z σ c = some (1, σ') ∧ Cm Kw σ σ' ∧ QS σ' (K ++ T) (W ++ [c]) o base := by
  obtain ⟨z, rfl⟩ : ∃ m, z = m + 2 := ⟨z - 2, by omega⟩
  rw [List.length_append] at hl
  have push : ∀ (kk : mSt → Int32 → Option (Int32 × mSt)) (σ : mSt) (K : List Int32), QS σ K W o base → K.length + W.length < 1650 → ∃ σ', M_qGoesOn_b162 N kk σ c = some (1, σ') ∧ Cm Kw σ σ' ∧ QS σ' K (W ++ [c]) o base := by
    intro kk σ K h hl
    obtain ⟨σ', y1, y2, y3⟩ := qPush2 h hl c
    refine ⟨σ', ?_, y2, y3⟩
    unfold M_qGoesOn_b162
    rw [isOn_top h hW (Or.inl rfl), bo_some, if_pos rfl, isOn_top h hW (Or.inr rfl), bo_some, if_pos rfl, y1]
  rcases hT with rfl | ⟨d, rfl, hd⟩
  · rw [List.append_nil] at h ⊢
    exact push _ σ K h (by simp at hl; omega)
  · obtain ⟨σ1, y1, y2, y3⟩ := qDrops_eq h hb
    obtain ⟨σ2, w1, w2, w3⟩ := push (rn2 (M_qGoesOn_b162 N) z) σ1 (K ++ [d]) y3 (by rw [List.length_append]; simp at hl ⊢; omega)
    refine ⟨σ2, ?_, y2.trans w2, w3⟩
    show M_qGoesOn_b162 N (M_qGoesOn_b162 N (rn2 (M_qGoesOn_b162 N) z)) σ c = _
    generalize M_qGoesOn_b162 N (rn2 (M_qGoesOn_b162 N) z) = kk at w1 ⊢
    have hk : M_qGoesOn_b178 N kk σ c = some (1, σ2) := by
      unfold M_qGoesOn_b178
      rw [y1, bd_some, w1]
    unfold M_qGoesOn_b162
    rcases hd with rfl | rfl
    · rw [show M_qIsOn σ 3 = some 1 by rw [qIsOn_eq h]; rfl, bo_some, if_neg (by decide), hk]
    · rw [show M_qIsOn σ 3 = some 0 by rw [qIsOn_eq h]; rfl, bo_some, if_pos rfl, show M_qIsOn σ 4 = some 1 by rw [qIsOn_eq h]; rfl, bo_some, if_neg (by decide), hk]
theorem a_drop (hb : base ≤ W.length) (hW : Top isOp W) (c : Int32) : ∀ (R K : List Int32) (z : Nat) (σ : mSt), R.length < z → (∀ d ∈ R, isOp d) → QS σ K (W ++ R.reverse) o base → K.length + W.length + R.length < 1650 → ∃ σ', rn2 (M_qGoesOn_b247 N) z σ c = some (1, σ') ∧ Cm Kw σ σ' ∧ QS σ' (K ++ R) (W ++ [c]) o base := by
  intro R
  induction R with
  | nil =>
    intro K z σ hz hR h hl
    obtain ⟨z, rfl⟩ : ∃ m, z = m + 1 := ⟨z - 1, by omega⟩
    rw [List.reverse_nil, List.append_nil] at h
    obtain ⟨σ', y1, y2, y3⟩ := qPush2 h (by simp at hl; omega) c
    refine ⟨σ', ?_, y2, by rw [List.append_nil]; exact y3⟩
    show M_qGoesOn_b247 N _ σ c = _
    unfold M_qGoesOn_b247
    rw [isOn_top h hW (show isOp 3 by unfold isOp; decide), bo_some, if_pos rfl, isOn_top h hW (show isOp 4 by unfold isOp; decide), bo_some, if_pos rfl, isOn_top h hW (show isOp 1 by unfold isOp; decide), bo_some, if_pos rfl, isOn_top h hW (show isOp 2 by unfold isOp; decide), bo_some, if_pos rfl, y1]
  | cons d R ih =>
    intro K z σ hz hR h hl
    obtain ⟨z, rfl⟩ : ∃ m, z = m + 1 := ⟨z - 1, by omega⟩
    rw [List.reverse_cons, ← List.append_assoc] at h
    obtain ⟨σ1, y1, y2, y3⟩ := qDrops_eq h (by rw [List.length_append]; omega)
    obtain ⟨σ2, w1, w2, w3⟩ := ih (K ++ [d]) z σ1 (by simp at hz; omega) (fun e he => hR e (by simp [he])) y3 (by rw [List.length_append]; simp at hl ⊢; omega)
    refine ⟨σ2, ?_, y2.trans w2, by rw [List.append_assoc] at w3; exact w3⟩
    show M_qGoesOn_b247 N (rn2 (M_qGoesOn_b247 N) z) σ c = _
    generalize rn2 (M_qGoesOn_b247 N) z = kk at w1 ⊢
    have hk : M_qGoesOn_b279 N kk σ c = some (1, σ2) := by
      unfold M_qGoesOn_b279
      rw [y1, bd_some, w1]
    unfold M_qGoesOn_b247
    rcases hR d (by simp) with rfl | rfl | rfl | rfl
    · rw [show M_qIsOn σ 3 = some 0 by rw [qIsOn_eq h]; rfl, bo_some, if_pos rfl, show M_qIsOn σ 4 = some 0 by rw [qIsOn_eq h]; rfl, bo_some, if_pos rfl, show M_qIsOn σ 1 = some 1 by rw [qIsOn_eq h]; rfl, bo_some, if_neg (by decide), hk]
    · rw [show M_qIsOn σ 3 = some 0 by rw [qIsOn_eq h]; rfl, bo_some, if_pos rfl, show M_qIsOn σ 4 = some 0 by rw [qIsOn_eq h]; rfl, bo_some, if_pos rfl, show M_qIsOn σ 1 = some 0 by rw [qIsOn_eq h]; rfl, bo_some, if_pos rfl, show M_qIsOn σ 2 = some 1 by rw [qIsOn_eq h]; rfl, bo_some, if_neg (by decide), hk]
    · rw [show M_qIsOn σ 3 = some 1 by rw [qIsOn_eq h]; rfl, bo_some, if_neg (by decide), hk]
    · rw [show M_qIsOn σ 3 = some 0 by rw [qIsOn_eq h]; rfl, bo_some, if_pos rfl, show M_qIsOn σ 4 = some 1 by rw [qIsOn_eq h]; rfl, bo_some, if_neg (by decide), hk]
/-- the turn begins with a look -/
theorem G_look (hN : 5000 ≤ N) (s : SQ σ B n p q μ K W o base sl) : ∃ σ1, Cm Kq σ σ1 ∧ SQ σ1 B n (sk B n p) q μ K W o base sl ∧ (B (sk B n p) ≠ 41 → ∀ kk, M_qGoesOn_b0 N kk σ = M_qGoesOn_b122 N σ1) ∧ (B (sk B n p) = 41 → ∀ b, M_qBracket N σ1 = some b → ∀ kk, M_qGoesOn_b0 N kk σ = if b = 20 then M_qGoesOn_b43 N kk σ1 else if b = 23 then M_qGoesOn_b43 N kk σ1 else if b = 24 then M_qGoesOn_b43 N kk σ1 else M_qGoesOn_b122 N σ1) := by
  obtain ⟨σ1, h1, c1, r1⟩ := look_eq hN s.rm
  have hle := s.rm.bk.le (sk B n p)
  refine ⟨σ1, c1.lq, s.rd c1 r1 (sk_ge B n p), fun z kk => ?_, fun z b hb kk => ?_⟩
  · unfold M_qGoesOn_b0
    rw [if_pos s.rm.bad, h1, bd_some, if_neg (fun w : bv (B (sk B n p)) = (41 : Int32) => z ((bv_eq hle (by decide)).mp w))]
  · unfold M_qGoesOn_b0
    rw [if_pos s.rm.bad, h1, bd_some, if_pos (show bv (B (sk B n p)) = (41 : Int32) by rw [z]; rfl), hb, bo_some, bo_some, bo_some]
/-- one sign is asked -/
theorem G_sign (hN : 5000 ≤ N) (hp : sk B n p = p) (s : SQ σ B n p q μ K W o base sl) (b : Nat) (hb : b < 256) (hld : ¬ LD b) : ∃ σ1, Cm Kq σ σ1 ∧ M_takesSign N σ (nn b) = some (if B p = b then 1 else 0, σ1) ∧ SQ σ1 B n (if B p = b then p + 1 else p) q μ K W o base sl := by
  obtain ⟨σ1, h1, c1, r1⟩ := takesSign_eq hN s.rm hb hld
  rw [hp] at h1 r1
  exact ⟨σ1, c1.lq, h1, s.rd c1 r1 (by split <;> omega)⟩
theorem tape_back (s : SQ σ B n (p + 1) q μ K W o base sl) : ld 2 σ 0 ((σ.1 2 0) - 1) = some (nn (B p)) := by
  have nb := s.nb
  have pn := s.rm.pn
  rw [s.rm.at_, show (1 : Int32) = nn 1 from rfl, nn_sub (by omega), show p + 1 - 1 = p by omega, ld_nn (by rfl) (by show p < 1600; omega) (by omega), s.rm.tp p (by omega)]
theorem nsg (b : Nat) (h : b = 42 ∨ b = 47 ∨ b = 43 ∨ b = 45 ∨ b = 44 ∨ b = 41) : b < 256 ∧ ¬ LD b := by
  rcases h with rfl | rfl | rfl | rfl | rfl | rfl <;> (unfold LD; decide)
/-- what GoesOn gives is gone on with -/
theorem qGG_one {x z : Nat} (h : ∀ kk, M_qGoesOn_b0 N kk σ = some (1, σ')) (hb : σ'.1 5 0 = 0) : qGG N was (x + 1) (z + 1) σ = qEE N was N z σ' := by
  unfold qGG
  show bd (M_qGoesOn_b0 N (rn1 (M_qGoesOn_b0 N) x) σ) _ = _
  rw [h, bd_some]
  unfold qRest
  rw [if_neg (by decide)]
  exact qEE_in hb
theorem G_mul (hN : 5000 ≤ N) (s : SQ σ B n p q μ K (W ++ T) o base sl) (hb : base ≤ W.length) (hT : T = [] ∨ ∃ c, T = [c] ∧ is34 c) (hW : Top is34 W) {b : Nat} {c : Int32} (hbc : (b = 42 ∧ c = 3) ∨ (b = 47 ∧ c = 4)) (h : B (sk B n p) = b) : ∃ σ', (∀ x z, qGG N was (x + 1) (z + 1) σ = qEE N was N z σ') ∧ Cm Kq σ σ' ∧ SQ σ' B n (sk B n p + 1) q μ (K ++ T) (W ++ [c]) o base sl := by
  have hB := s.rm.bk
  obtain ⟨σ1, c1, s1, e1, _⟩ := G_look hN s
  have e1 := e1 (by omega)
  have hge := sk_ge B n p
  have hl := s.le
  have fin : ∀ σ2, SQ σ2 B n (sk B n p + 1) q μ K (W ++ T) o base sl → Cm Kq σ σ2 → (∀ kk, M_qGoesOn_b0 N kk σ = M_qGoesOn_b140 N σ2) → ∃ σ', (∀ x z, qGG N was (x + 1) (z + 1) σ = qEE N was N z σ') ∧ Cm Kq σ σ' ∧ SQ σ' B n (sk B n p + 1) q μ (K ++ T) (W ++ [c]) o base sl := by
    intro σ2 s2 c2 e2
    obtain ⟨σ3, d1, d2, d3⟩ := m_drop (N := N) s2.qs hb hT hW s2.le5 c (z := N) (by omega)
    have hlen : (K ++ T).length + (W ++ [c]).length + sl ≤ sk B n p + 1 := by
      simp only [List.length_append, List.length_singleton] at hl ⊢; omega
    have s3 := s2.ws d2 d3 hlen
    refine ⟨σ3, fun x z => qGG_one (fun kk => ?_) s3.rm.bad, c2.trans d2.wq, s3⟩
    rw [e2 kk]
    unfold M_qGoesOn_b140 M_qGoesOn_b161
    rw [tape_back s2, bo_some, h]
    rcases hbc with ⟨rfl, rfl⟩ | ⟨rfl, rfl⟩
    · rw [if_pos (by rfl)]; exact d1
    · rw [if_neg (by decide)]; exact d1
  obtain ⟨σ2, c2, h2, s2⟩ := G_sign hN (sk_sk hB) s1 42 (by decide) (by unfold LD; decide)
  rcases hbc with ⟨rfl, rfl⟩ | ⟨rfl, rfl⟩
  · rw [if_pos h] at h2 s2
    refine fin σ2 s2 (c1.trans c2) (fun kk => ?_)
    rw [e1 kk]
    unfold M_qGoesOn_b122
    rw [show M_takesSign N σ1 42 = _ from h2, bd_some, if_neg (by decide)]
  · rw [if_neg (by omega)] at h2 s2
    obtain ⟨σ3, c3, h3, s3⟩ := G_sign hN (sk_sk hB) s2 47 (by decide) (by unfold LD; decide)
    rw [if_pos h] at h3 s3
    refine fin σ3 s3 (c1.trans (c2.trans c3)) (fun kk => ?_)
    rw [e1 kk]
    unfold M_qGoesOn_b122
    rw [show M_takesSign N σ1 42 = _ from h2, bd_some, if_pos rfl, show M_takesSign N σ2 47 = _ from h3, bd_some, if_neg (by decide)]
theorem G_add (hN : 5000 ≤ N) (s : SQ σ B n p q μ K (W ++ T) o base sl) (hb : base ≤ W.length) (hT : ∀ c ∈ T, isOp c) (hW : Top isOp W) {b : Nat} {c : Int32} (hbc : (b = 43 ∧ c = 1) ∨ (b = 45 ∧ c = 2)) (h : B (sk B n p) = b) : ∃ σ', (∀ x z, qGG N was (x + 1) (z + 1) σ = qEE N was N z σ') ∧ Cm Kq σ σ' ∧ SQ σ' B n (sk B n p + 1) q μ (K ++ T.reverse) (W ++ [c]) o base sl := by
  have hB := s.rm.bk
  obtain ⟨σ1, c1, s1, e1, _⟩ := G_look hN s
  have e1 := e1 (by omega)
  have hge := sk_ge B n p
  have hl := s.le
  have nb := s1.nb
  have fin : ∀ σ2, SQ σ2 B n (sk B n p + 1) q μ K (W ++ T) o base sl → Cm Kq σ σ2 → (∀ kk, M_qGoesOn_b0 N kk σ = M_qGoesOn_b225 N σ2) → ∃ σ', (∀ x z, qGG N was (x + 1) (z + 1) σ = qEE N was N z σ') ∧ Cm Kq σ σ' ∧ SQ σ' B n (sk B n p + 1) q μ (K ++ T.reverse) (W ++ [c]) o base sl := by
    intro σ2 s2 c2 e2
    have hl2 : K.length + W.length + T.reverse.length < 1650 := by
      rw [List.length_append] at hl; rw [List.length_reverse]; omega
    obtain ⟨σ3, d1, d2, d3⟩ := a_drop (N := N) hb hW c T.reverse K N σ2 (by rw [List.length_append] at hl; rw [List.length_reverse]; omega) (fun d hd => hT d (by simpa using hd)) (by rw [List.reverse_reverse]; exact s2.qs) hl2
    have hlen : (K ++ T.reverse).length + (W ++ [c]).length + sl ≤ sk B n p + 1 := by
      simp only [List.length_append, List.length_singleton, List.length_reverse] at hl ⊢; omega
    have s3 := s2.ws d2 d3 hlen
    refine ⟨σ3, fun x z => qGG_one (fun kk => ?_) s3.rm.bad, c2.trans d2.wq, s3⟩
    rw [e2 kk]
    unfold M_qGoesOn_b225 M_qGoesOn_b246
    rw [tape_back s2, bo_some, h]
    rcases hbc with ⟨rfl, rfl⟩ | ⟨rfl, rfl⟩
    · rw [if_pos (by rfl)]; exact d1
    · rw [if_neg (by decide)]; exact d1
  obtain ⟨σ2, c2, h2, s2⟩ := G_sign hN (sk_sk hB) s1 42 (by decide) (by unfold LD; decide)
  rw [if_neg (by omega)] at h2 s2
  obtain ⟨σ3, c3, h3, s3⟩ := G_sign hN (sk_sk hB) s2 47 (by decide) (by unfold LD; decide)
  rw [if_neg (by omega)] at h3 s3
  obtain ⟨σ4, c4, h4, s4⟩ := G_sign hN (sk_sk hB) s3 43 (by decide) (by unfold LD; decide)
  rcases hbc with ⟨rfl, rfl⟩ | ⟨rfl, rfl⟩
  · rw [if_pos h] at h4 s4
    refine fin σ4 s4 (c1.trans (c2.trans (c3.trans c4))) (fun kk => ?_)
    rw [e1 kk]
    unfold M_qGoesOn_b122
    rw [show M_takesSign N σ1 42 = _ from h2, bd_some, if_pos rfl, show M_takesSign N σ2 47 = _ from h3, bd_some, if_pos rfl, show M_takesSign N σ3 43 = _ from h4, bd_some, if_neg (by decide)]
  · rw [if_neg (by omega)] at h4 s4
    obtain ⟨σ5, c5, h5, s5⟩ := G_sign hN (sk_sk hB) s4 45 (by decide) (by unfold LD; decide)
    rw [if_pos h] at h5 s5
    refine fin σ5 s5 (c1.trans (c2.trans (c3.trans (c4.trans c5)))) (fun kk => ?_)
    rw [e1 kk]
    unfold M_qGoesOn_b122
    rw [show M_takesSign N σ1 42 = _ from h2, bd_some, if_pos rfl, show M_takesSign N σ2 47 = _ from h3, bd_some, if_pos rfl, show M_takesSign N σ3 43 = _ from h4, bd_some, if_pos rfl, show M_takesSign N σ4 45 = _ from h5, bd_some, if_neg (by decide)]
/-- no sign -/
def noS (b : Nat) : Prop := b ≠ 42 ∧ b ≠ 47 ∧ b ≠ 43 ∧ b ≠ 45
theorem G_none (hN : 5000 ≤ N) (hp : sk B n p = p) (s : SQ σ B n p q μ K W o base sl) (h : noS (B p)) : ∃ σ1, Cm Kq σ σ1 ∧ SQ σ1 B n p q μ K W o base sl ∧ ∀ b, M_qBracket N σ1 = some b → M_qGoesOn_b122 N σ = if b = 21 then M_qGoesOn_b326 N σ1 else if b = 22 then M_qGoesOn_b326 N σ1 else if b = -1 then some (0, σ1) else bd (M_fail σ1 1 (σ1.1 2 0)) fun _ σ30 => some (0, σ30) := by
  obtain ⟨n1, n2, n3, n4⟩ := h
  obtain ⟨σ2, c2, h2, s2⟩ := G_sign hN hp s 42 (by decide) (by unfold LD; decide)
  rw [if_neg n1] at h2 s2
  obtain ⟨σ3, c3, h3, s3⟩ := G_sign hN hp s2 47 (by decide) (by unfold LD; decide)
  rw [if_neg n2] at h3 s3
  obtain ⟨σ4, c4, h4, s4⟩ := G_sign hN hp s3 43 (by decide) (by unfold LD; decide)
  rw [if_neg n3] at h4 s4
  obtain ⟨σ5, c5, h5, s5⟩ := G_sign hN hp s4 45 (by decide) (by unfold LD; decide)
  rw [if_neg n4] at h5 s5
  refine ⟨σ5, c2.trans (c3.trans (c4.trans c5)), s5, fun b hb => ?_⟩
  unfold M_qGoesOn_b122
  rw [show M_takesSign N σ 42 = _ from h2, bd_some, if_pos rfl, show M_takesSign N σ2 47 = _ from h3, bd_some, if_pos rfl, show M_takesSign N σ3 43 = _ from h4, bd_some, if_pos rfl, show M_takesSign N σ4 45 = _ from h5, bd_some, if_pos rfl, hb, bo_some, bo_some, bo_some, if_pos s5.rm.bad]
end
