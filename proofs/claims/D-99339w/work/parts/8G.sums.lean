/-! PURE LEVEL: products and sums, at the reference -/
set_option maxRecDepth 100000
/-- a part has been read: what waits for it comes next -/
def AtQ (sl : Nat) (N : Nat) (was : Int32) (X : Option (Unit × mSt)) (σ : mSt) (B : Nat → Nat) (n p : Nat) (q : Bool) (μ : Nat) (K W : List Int32) (o base : Nat) (y : Nat × List Int32) : Prop :=
  ∃ σ' p' k v x z, X = qFk N k v σ' ∧ (∀ σ6 : mSt, σ6.1 5 0 = 0 → k σ6 = qGG N was x z σ6) ∧ Cm Kq σ σ' ∧ SQ σ' B n p' q μ (K ++ y.2) W o base sl ∧ sk B n p' = sk B n y.1 ∧ p < p' ∧ 3000 ≤ x + p' ∧ 3000 ≤ z + p' ∧ 4000 + o ≤ v
/-- a product or a sum has been read, T still waits -/
def GgQ (sl : Nat) (TT : List Int32 → Prop) (NS : Nat → Prop) (N : Nat) (was : Int32) (X : Option (Unit × mSt)) (σ : mSt) (B : Nat → Nat) (n p : Nat) (q : Bool) (μ : Nat) (K W : List Int32) (o base : Nat) (y : Nat × List Int32) : Prop :=
  ∃ σ' p' T K' x z, X = qGG N was x z σ' ∧ Cm Kq σ σ' ∧ SQ σ' B n p' q μ K' (W ++ T) o base sl ∧ K' ++ T.reverse = K ++ y.2 ∧ TT T ∧ NS (B (sk B n y.1)) ∧ sk B n p' = sk B n y.1 ∧ p < p' ∧ 3000 ≤ x + p' ∧ 3000 ≤ z + p'
def AOK (sl : Nat) (N : Nat) (was : Int32) (B : Nat → Nat) (n : Nat) (q : Bool) (μ o : Nat) (r : Nat → Rs (Nat × List Int32)) : Prop :=
  ∀ (σ : mSt) (p : Nat) (K W : List Int32) (base x z : Nat), SQ σ B n p q μ K W o base sl → 3000 ≤ x + p → 3000 ≤ z + p → Bm (qEE N was x z σ) σ (r p) (AtQ sl N was (qEE N was x z σ) σ B n p q μ K W o base)
def T1 (T : List Int32) : Prop := T = [] ∨ ∃ c, T = [c] ∧ is34 c
def noM (b : Nat) : Prop := b ≠ 42 ∧ b ≠ 47
def T2 (T : List Int32) : Prop := ∀ c ∈ T, isOp c
section
variable {N : Nat} {was : Int32} {σ σ' : mSt} {B : Nat → Nat} {n p p' : Nat} {q : Bool} {μ : Nat} {K W K' W' T : List Int32} {o base o' base' sl : Nat} {e : Nat × Nat}
variable {r : Nat → Rs (Nat × List Int32)}
/-- where a sum may begin .. -/
def Tb (W : List Int32) (base : Nat) : Prop := (W.length = base ∧ Top isOp W) ∨ ∃ W1 b, W = W1 ++ [b] ∧ base ≤ W1.length ∧ isBk b
/-- .. and a product -/
def Tp (W : List Int32) (base : Nat) : Prop := Tb W base ∨ ∃ W1 b, W = W1 ++ [b] ∧ base ≤ W1.length ∧ (b = 1 ∨ b = 2)
theorem bk_nop {b : Int32} (h : isBk b) : ¬ isOp b := by
  unfold isOp
  rcases h with rfl | rfl | rfl | rfl | rfl <;> decide
theorem bk_lt {b : Int32} (h : isBk b) : b < 60 := by
  rcases h with rfl | rfl | rfl | rfl | rfl <;> decide
theorem op_lt {b : Int32} (h : isOp b) : b < 60 := by
  rcases h with rfl | rfl | rfl | rfl <;> decide
theorem is34_op {b : Int32} (h : is34 b) : isOp b := by
  rcases h with rfl | rfl
  · exact Or.inr (Or.inr (Or.inl rfl))
  · exact Or.inr (Or.inr (Or.inr rfl))
theorem Tb.top (h : Tb W base) : Top isOp W := by
  rcases h with ⟨_, h⟩ | ⟨W1, b, e, _, h⟩
  · exact h
  · exact Or.inr ⟨W1, b, e, bk_nop h⟩
theorem Tb.bb (h : Tb W base) : base ≤ W.length := by
  rcases h with ⟨h, _⟩ | ⟨W1, b, rfl, h, _⟩
  · omega
  · rw [List.length_append]; omega
theorem Tp.bb (h : Tp W base) : base ≤ W.length := by
  rcases h with h | ⟨W1, b, rfl, h, _⟩
  · exact h.bb
  · rw [List.length_append]; omega
theorem Tp.top (h : Tp W base) : Top is34 W := by
  rcases h with h | ⟨W1, b, e, _, h⟩
  · rcases h.top with z | ⟨W1, b, e, z⟩
    · exact Or.inl z
    · exact Or.inr ⟨W1, b, e, fun w => z (is34_op w)⟩
  · refine Or.inr ⟨W1, b, e, ?_⟩
    unfold is34
    rcases h with rfl | rfl <;> decide
theorem Tp.stop (h : Tp W base) : W.length = base ∨ ∃ W1 b, W = W1 ++ [b] ∧ b < 60 ∧ base ≤ W1.length := by
  rcases h with (⟨h, _⟩ | ⟨W1, b, e, h1, h2⟩) | ⟨W1, b, e, h1, h2⟩
  · exact Or.inl h
  · exact Or.inr ⟨W1, b, e, bk_lt h2, h1⟩
  · refine Or.inr ⟨W1, b, e, ?_, h1⟩
    rcases h2 with rfl | rfl <;> decide
/-- nothing waits for the part -/
theorem AtQ.stop {X : Option (Unit × mSt)} {y : Nat × List Int32} (h : AtQ sl N was X σ B n p q μ K W o base y) (hW : W.length = base ∨ ∃ W1 b, W = W1 ++ [b] ∧ b < 60 ∧ base ≤ W1.length) : ∃ σ' p' x z, X = qGG N was x z σ' ∧ Cm Kq σ σ' ∧ SQ σ' B n p' q μ (K ++ y.2) W o base sl ∧ sk B n p' = sk B n y.1 ∧ p < p' ∧ 3000 ≤ x + p' ∧ 3000 ≤ z + p' := by
  obtain ⟨σ', p', k, v, x, z, h1, h2, h3, h4, h5, h6, h7, h8, h9⟩ := h
  obtain ⟨v, rfl⟩ : ∃ m, v = m + 1 := ⟨v - 1, by omega⟩
  refine ⟨σ', p', x, z, ?_, h3, h4, h5, h6, h7, h8⟩
  rw [h1]
  unfold qFk
  rw [ends_stop h4.rm.bad h4.qs hW, bd_some, h2 _ h4.rm.bad]
theorem prod_loop (hN : 5000 ≤ N) (hA : AOK sl N was B n q μ o r) (hr : ∀ p y, r p = .ok y → p < y.1) (hW : Tp W base) {σ0 : mSt} {p0 : Nat} {K0 : List Int32} {X : Option (Unit × mSt)} : ∀ (f : Nat) (y : Nat × List Int32) (σ : mSt) (p : Nat) (T K : List Int32) (x z : Nat), n - y.1 ≤ f → X = qGG N was x z σ → Cm Kq σ0 σ → SQ σ B n p q μ K (W ++ T) o base sl → K ++ T.reverse = K0 ++ y.2 → T1 T → sk B n p = sk B n y.1 → p0 < p → 3000 ≤ x + p → 3000 ≤ z + p → Bm X σ0 (sLoop B n 42 47 3 4 r f y) (GgQ sl T1 noM N was X σ0 B n p0 q μ K0 W o base) := by
  intro f
  induction f with
  | zero =>
    intro y σ p T K x z hf hX c s hK hT hs hp hx hz
    have hge := sk_ge B n y.1
    have b6 : B (sk B n y.1) = 256 := s.rm.bk.ge _ (by omega)
    refine ⟨σ, p, T, K, x, z, hX, c, s, hK, hT, ?_, ?_, hp, hx, hz⟩
    · show noM (B (sk B n (sk B n y.1)))
      rw [sk_sk s.rm.bk, b6]; unfold noM; decide
    · show sk B n p = sk B n (sk B n y.1)
      rw [sk_sk s.rm.bk]; exact hs
  | succ f ih =>
    intro y σ p T K x z hf hX c s hK hT hs hp hx hz
    have hB := s.rm.bk
    have hge := sk_ge B n y.1
    have nb := s.nb
    have hgp := sk_ge B n p
    have step : ∀ (b : Nat) (k : Int32), (b = 42 ∧ k = 3) ∨ (b = 47 ∧ k = 4) → B (sk B n y.1) = b → Bm X σ0 (eb (r (sk B n y.1 + 1)) fun y2 => sLoop B n 42 47 3 4 r f (y2.1, y.2 ++ y2.2 ++ [k])) (GgQ sl T1 noM N was X σ0 B n p0 q μ K0 W o base) := by
      intro b k hbk hb
      obtain ⟨x, rfl⟩ : ∃ m, x = m + 1 := ⟨x - 1, by omega⟩
      obtain ⟨z, rfl⟩ : ∃ m, z = m + 1 := ⟨z - 1, by omega⟩
      obtain ⟨σ1, e1, c1, s1⟩ := G_mul (was := was) hN s hW.bb hT hW.top hbk (by rw [hs]; exact hb)
      have hX1 : X = qEE N was N z σ1 := hX.trans (e1 x z)
      have hk : isOp k := by rcases hbk with ⟨_, rfl⟩ | ⟨_, rfl⟩ <;> (unfold isOp; decide)
      have hT' : T.reverse = T := by
        rcases hT with rfl | ⟨c, rfl, _⟩ <;> rfl
      rw [← hT', hK] at s1
      rw [hs] at s1
      have := hA σ1 (sk B n y.1 + 1) _ _ base N z s1 (by omega) (by omega)
      refine Bm.xx (Bm.mv this hX1 (c.trans c1) (fun _ _ w => w)) (fun y2 hy2 w => ?_)
      obtain ⟨σ2, p2, x2, z2, w1, w2, w3, w4, w5, w6, w7⟩ := w.stop (Or.inr ⟨W, k, rfl, op_lt hk, hW.bb⟩)
      have hadv := hr _ _ hy2
      refine ih (y2.1, y.2 ++ y2.2 ++ [k]) σ2 p2 [k] _ x2 z2 (by show n - y2.1 ≤ f; omega) (hX1.trans w1) (c.trans (c1.trans w2)) w3 (by simp [List.append_assoc]) (Or.inr ⟨k, rfl, ?_⟩) w4 (by omega) w6 w7
      rcases hbk with ⟨_, rfl⟩ | ⟨_, rfl⟩
      · exact Or.inl rfl
      · exact Or.inr rfl
    show Bm X σ0 (if B (sk B n y.1) = 42 then _ else if B (sk B n y.1) = 47 then _ else _) _
    by_cases z1 : B (sk B n y.1) = 42
    · rw [if_pos z1]
      exact step 42 3 (Or.inl ⟨rfl, rfl⟩) z1
    · rw [if_neg z1]
      by_cases z2 : B (sk B n y.1) = 47
      · rw [if_pos z2]
        exact step 47 4 (Or.inr ⟨rfl, rfl⟩) z2
      · rw [if_neg z2]
        refine ⟨σ, p, T, K, x, z, hX, c, s, hK, hT, ?_, ?_, hp, hx, hz⟩
        · show noM (B (sk B n (sk B n y.1)))
          rw [sk_sk hB]; exact ⟨z1, z2⟩
        · show sk B n p = sk B n (sk B n y.1)
          rw [sk_sk hB]; exact hs
/-- a product -/
theorem prod_q (hN : 5000 ≤ N) {ra : RA} (hA : AOK sl N was B n q μ o (ra o)) (hr : ∀ p y, ra o p = .ok y → p < y.1) (hW : Tp W base) (s : SQ σ B n p q μ K W o base sl) {x z : Nat} (hx : 3000 ≤ x + p) (hz : 3000 ≤ z + p) : Bm (qEE N was x z σ) σ (sProd B n ra o p) (GgQ sl T1 noM N was (qEE N was x z σ) σ B n p q μ K W o base) := by
  unfold sProd
  refine Bm.xx (hA σ p K W base x z s hx hz) (fun y hy w => ?_)
  obtain ⟨σ2, p2, x2, z2, w1, w2, w3, w4, w5, w6, w7⟩ := w.stop hW.stop
  exact prod_loop hN hA hr hW _ y σ2 p2 [] _ x2 z2 (Nat.le_refl _) w1 w2 (by rw [List.append_nil]; exact w3) (by simp) (Or.inl rfl) w4 w5 w6 w7
theorem sum_loop (hN : 5000 ≤ N) {ra : RA} (hA : AOK sl N was B n q μ o (ra o)) (hr : ∀ p y, ra o p = .ok y → p < y.1) (hr2 : ∀ p y, sProd B n ra o p = .ok y → p < y.1) (hW : Tb W base) {σ0 : mSt} {p0 : Nat} {K0 : List Int32} {X : Option (Unit × mSt)} : ∀ (f : Nat) (y : Nat × List Int32) (σ : mSt) (p : Nat) (T K : List Int32) (x z : Nat), n - y.1 ≤ f → X = qGG N was x z σ → Cm Kq σ0 σ → SQ σ B n p q μ K (W ++ T) o base sl → K ++ T.reverse = K0 ++ y.2 → T2 T → noM (B (sk B n y.1)) → sk B n p = sk B n y.1 → p0 < p → 3000 ≤ x + p → 3000 ≤ z + p → Bm X σ0 (sLoop B n 43 45 1 2 (sProd B n ra o) f y) (GgQ sl T2 noS N was X σ0 B n p0 q μ K0 W o base) := by
  intro f
  induction f with
  | zero =>
    intro y σ p T K x z hf hX c s hK hT hm hs hp hx hz
    have hge := sk_ge B n y.1
    have b6 : B (sk B n y.1) = 256 := s.rm.bk.ge _ (by omega)
    refine ⟨σ, p, T, K, x, z, hX, c, s, hK, hT, ?_, ?_, hp, hx, hz⟩
    · show noS (B (sk B n (sk B n y.1)))
      rw [sk_sk s.rm.bk, b6]; unfold noS; decide
    · show sk B n p = sk B n (sk B n y.1)
      rw [sk_sk s.rm.bk]; exact hs
  | succ f ih =>
    intro y σ p T K x z hf hX c s hK hT hm hs hp hx hz
    have hB := s.rm.bk
    have hge := sk_ge B n y.1
    have nb := s.nb
    have hgp := sk_ge B n p
    have step : ∀ (b : Nat) (k : Int32), (b = 43 ∧ k = 1) ∨ (b = 45 ∧ k = 2) → B (sk B n y.1) = b → Bm X σ0 (eb (sProd B n ra o (sk B n y.1 + 1)) fun y2 => sLoop B n 43 45 1 2 (sProd B n ra o) f (y2.1, y.2 ++ y2.2 ++ [k])) (GgQ sl T2 noS N was X σ0 B n p0 q μ K0 W o base) := by
      intro b k hbk hb
      obtain ⟨x, rfl⟩ : ∃ m, x = m + 1 := ⟨x - 1, by omega⟩
      obtain ⟨z, rfl⟩ : ∃ m, z = m + 1 := ⟨z - 1, by omega⟩
      obtain ⟨σ1, e1, c1, s1⟩ := G_add (was := was) hN s hW.bb hT hW.top hbk (by rw [hs]; exact hb)
      have hX1 : X = qEE N was N z σ1 := hX.trans (e1 x z)
      have hk : isOp k := by rcases hbk with ⟨_, rfl⟩ | ⟨_, rfl⟩ <;> (unfold isOp; decide)
      have hk12 : k = 1 ∨ k = 2 := by rcases hbk with ⟨_, rfl⟩ | ⟨_, rfl⟩ <;> decide
      rw [hK, hs] at s1
      have := prod_q (was := was) (x := N) (z := z) hN hA hr (Or.inr ⟨W, k, rfl, hW.bb, hk12⟩) s1 (by omega) (by omega)
      refine Bm.xx (Bm.mv this hX1 (c.trans c1) (fun _ _ w => w)) (fun y2 hy2 w => ?_)
      obtain ⟨σ2, p2, Q, K2, x2, z2, w1, w2, w3, w4, w5, w6, w7, w8, w9, w10⟩ := w
      have hadv := hr2 _ _ hy2
      have hQ : ∀ d ∈ Q, isOp d := by
        intro d hd
        rcases w5 with rfl | ⟨d', rfl, h3⟩
        · cases hd
        · rw [List.mem_singleton] at hd; rw [hd]; exact is34_op h3
      refine ih (y2.1, y.2 ++ y2.2 ++ [k]) σ2 p2 (k :: Q) K2 x2 z2 (by show n - y2.1 ≤ f; omega) (hX1.trans w1) (c.trans (c1.trans w2)) (by rw [List.append_assoc] at w3; exact w3) ?_ (fun d hd => ?_) w6 w7 (by omega) w9 w10
      · rw [List.reverse_cons, ← List.append_assoc, w4]
        simp [List.append_assoc]
      · rcases List.mem_cons.mp hd with z | z
        · rw [z]; exact hk
        · exact hQ d z
    show Bm X σ0 (if B (sk B n y.1) = 43 then _ else if B (sk B n y.1) = 45 then _ else _) _
    by_cases z1 : B (sk B n y.1) = 43
    · rw [if_pos z1]
      exact step 43 1 (Or.inl ⟨rfl, rfl⟩) z1
    · rw [if_neg z1]
      by_cases z2 : B (sk B n y.1) = 45
      · rw [if_pos z2]
        exact step 45 2 (Or.inr ⟨rfl, rfl⟩) z2
      · rw [if_neg z2]
        refine ⟨σ, p, T, K, x, z, hX, c, s, hK, hT, ?_, ?_, hp, hx, hz⟩
        · show noS (B (sk B n (sk B n y.1)))
          rw [sk_sk hB]; exact ⟨hm.1, hm.2, z1, z2⟩
        · show sk B n p = sk B n (sk B n y.1)
          rw [sk_sk hB]; exact hs
/-- a sum -/
theorem sum_q (hN : 5000 ≤ N) {ra : RA} (hA : AOK sl N was B n q μ o (ra o)) (hr : Adv B n (ra o)) (hW : Tb W base) (s : SQ σ B n p q μ K W o base sl) {x z : Nat} (hx : 3000 ≤ x + p) (hz : 3000 ≤ z + p) : Bm (qEE N was x z σ) σ (sSum B n ra o p) (GgQ sl T2 noS N was (qEE N was x z σ) σ B n p q μ K W o base) := by
  have hr1 : ∀ p y, ra o p = .ok y → p < y.1 := fun p y h => (hr p y h).1
  have hr2 : ∀ p y, sProd B n ra o p = .ok y → p < y.1 := fun p y h => (Adv.prod hr p y h).1
  unfold sSum
  refine Bm.xx (prod_q hN hA hr1 (Or.inl hW) s hx hz) (fun y hy w => ?_)
  obtain ⟨σ2, p2, Q, K2, x2, z2, w1, w2, w3, w4, w5, w6, w7, w8, w9, w10⟩ := w
  have hQ : ∀ d ∈ Q, isOp d := by
    intro d hd
    rcases w5 with rfl | ⟨d', rfl, h3⟩
    · cases hd
    · rw [List.mem_singleton] at hd; rw [hd]; exact is34_op h3
  exact sum_loop hN hA hr1 hr2 hW _ y σ2 p2 Q K2 x2 z2 (Nat.le_refl _) w1 w2 w3 w4 hQ w6 w7 w8 w9 w10
end
