/-! PURE LEVEL: codes and objects of the standing folio tell the same -/
set_option maxRecDepth 100000
theorem code_cases {N : Nat} (hN : 5000 ≤ N) {A : AH} {σ : mSt} {fo w key μ : Nat} (hw : w < 4) (h : CRv A σ fo w key μ) {e : En} (hB : BE μ e) :
    (aR A key fo 0 = none ∧ σ.1 49 (4 + w) = -1) ∨ ∃ (v : Int64) (vid : Nat), (-1000000 ≤ v ∧ v ≤ 1000000) ∧ aR A key fo 0 = some vid ∧ σ.1 49 (4 + w) ≠ -1 ∧
      (∀ A5, SameOn dyn A A5 → MO A5 11 → (∀ k, cx μ k → mom A5 11 k = e k) → valF N A5 vid 11 = some (v, A5)) ∧
      (∀ σ1 b, SameM Kfo σ σ1 → (∀ k, k < 9 → cx μ k → M_qPartOf σ1 (nn k) b = some (e k)) → ∃ σ2, M_codesTell N σ1 (nn w) b = some (v, σ2) ∧ Cm K55 σ1 σ2) := by
  rcases h with h | ⟨v, g, cs, s, h1, h2, h3, h4, h5, h6⟩
  · exact Or.inl h
  · refine Or.inr ⟨g e id, v, h3.bd e id hB, h1, ?_, ?_, ?_⟩
    · have := h6.1
      rw [h4]; exact nn_ne1 (by omega)
    · intro A5 hs hm he
      have hv := h2.same hs
      have := val0 hN dyn12 (w := 11) (Or.inl rfl) hm (D := 64) (by decide) hv id
      unfold valF
      rw [this, hv.cg he]
    · intro σ1 b hm hP
      have m49 := hm 49 (by unfold Kfo; omega)
      have m50 := hm 50 (by unfold Kfo; omega)
      have m51 := hm 51 (by unfold Kfo; omega)
      exact codesTell_eq hN hw h3 hB ((m49 _).1.trans h4) ((m50 _).1.trans h5) ⟨h6.1, fun i c hi => (m51 _).1.trans (h6.2 i c hi)⟩ hP id
theorem code_casesT {N : Nat} (hN : 5000 ≤ N) {A : AH} {σ : mSt} {fo : Nat} (h : CRt A σ fo) {e : En} (hB : BE 63 e) :
    (aR A 214 fo 0 = none ∧ σ.1 49 7 = -1) ∨ ∃ (v : Int64) (vid : Nat), (v = 0 ∨ v = 1) ∧ aR A 214 fo 0 = some vid ∧ σ.1 49 7 ≠ -1 ∧
      (∀ A5, SameOn dyn A A5 → MO A5 11 → (∀ k, cx 63 k → mom A5 11 k = e k) → tstF N A5 vid 11 = some (b32 v, A5)) ∧
      (∀ σ1 b, SameM Kfo σ σ1 → (∀ k, k < 9 → cx 63 k → M_qPartOf σ1 (nn k) b = some (e k)) → ∃ σ2, M_codesTell N σ1 3 b = some (v, σ2) ∧ Cm K55 σ1 σ2) := by
  rcases h with h | ⟨v, g, cs, s, h1, h2, h3, h4, h5, h6⟩
  · exact Or.inl h
  · refine Or.inr ⟨g e id, v, h2.tv e id, h1, ?_, ?_, ?_⟩
    · have := h6.1
      rw [h4]; exact nn_ne1 (by omega)
    · intro A5 hs hm he
      have hv := h2.same hs
      have := tst0 hN dyn12 (w := 11) (Or.inl rfl) hm (dv := 24) (D := 32) (by decide) (by decide) hv id
      unfold tstF
      rw [this, hv.cg he]
    · intro σ1 b hm hP
      have m49 := hm 49 (by unfold Kfo; omega)
      have m50 := hm 50 (by unfold Kfo; omega)
      have m51 := hm 51 (by unfold Kfo; omega)
      exact codesTell_eq hN (w := 3) (by decide) h3 hB ((m49 _).1.trans h4) ((m50 _).1.trans h5) ⟨h6.1, fun i c hi => (m51 _).1.trans (h6.2 i c hi)⟩ hP id
theorem bd64 {k : Nat} (h : k ≤ 1000000) : -1000000 ≤ (nn k).toInt64 ∧ (nn k).toInt64 ≤ 1000000 := by
  rw [Int64.le_iff_toInt_le, Int64.le_iff_toInt_le, Int32.toInt_toInt64, nn_toInt (by omega), show ((-1000000 : Int64)).toInt = -1000000 from rfl, show ((1000000 : Int64)).toInt = 1000000 from rfl]
  omega
theorem cx63 : ∀ k, cx 63 k → k < 6 := by
  intro k hk
  unfold cx at hk
  rcases Nat.lt_or_ge k 6 with q | q
  · exact q
  · rw [Nat.testBit_lt_two_pow (Nat.lt_of_lt_of_le (by decide : 63 < 2 ^ 6) (Nat.pow_le_pow_right (by decide) q))] at hk
    cases hk
theorem cx127 : ∀ k, cx 127 k → k < 7 := by
  intro k hk
  unfold cx at hk
  rcases Nat.lt_or_ge k 7 with q | q
  · exact q
  · rw [Nat.testBit_lt_two_pow (Nat.lt_of_lt_of_le (by decide : 127 < 2 ^ 7) (Nat.pow_le_pow_right (by decide) q))] at hk
    cases hk
/-- what is asked of a being: day, leaf, cell, trade, purse, open, other -/
def envS (d l c t p : Nat) (op : Int64) (ot : Nat) : En := fun k => if k = 0 then (nn d).toInt64 else if k = 1 then (nn l).toInt64 else if k = 2 then (nn c).toInt64 else if k = 3 then (nn t).toInt64 else if k = 4 then (nn p).toInt64 else if k = 5 then op else (nn ot).toInt64
theorem envS_BE {μ d l c t p ot : Nat} {op : Int64} (h1 : d ≤ 100000) (h2 : l ≤ 100) (h3 : c ≤ 100) (h4 : t ≤ 100) (h5 : p ≤ 10000) (h6 : op = 0 ∨ op = 1) (h7 : ot ≤ 100) : BE μ (envS d l c t p op ot) := by
  intro k _
  unfold envS
  repeat' split
  · exact bd64 (by omega)
  · exact bd64 (by omega)
  · exact bd64 (by omega)
  · exact bd64 (by omega)
  · exact bd64 (by omega)
  · rcases h6 with h | h <;> rw [h] <;> decide
  · exact bd64 (by omega)
/-- only longs have changed -/
def JO (A B : AH) : Prop := aI B = aI A ∧ aK B = aK A ∧ aL B = aL A ∧ aR B = aR A
theorem JO.refl (A : AH) : JO A A := ⟨rfl, rfl, rfl, rfl⟩
theorem JO.wJ {A B : AH} (h : JO A B) (f i j : Nat) (v : Int64) : JO A (wJ B f i j v) := ⟨(aI_wJ B f i j v).trans h.1, (aK_wJ B f i j v).trans h.2.1, (aL_wJ B f i j v).trans h.2.2.1, (aR_wJ B f i j v).trans h.2.2.2⟩
theorem JO.beingOf {A B : AH} (h : JO A B) (b : Int32) : X0_beingOf B b = X0_beingOf A b := by
  unfold X0_beingOf J2_get J2_elementData gI gN dR_
  rw [h.1, h.2.1, h.2.2.1, h.2.2.2]
section ASK
variable {A : AH} {σ : mSt} {fo nb L C W : Nat}
theorem asks_mom {A A' : AH} {d l c t p : Nat} {op : Int64} (h : A' = wJ (wJ (wJ (wJ (wJ (wJ A 32 12 0 (nn d).toInt64) 32 12 1 (nn l).toInt64) 32 12 2 (nn c).toInt64) 32 12 3 (nn t).toInt64) 32 12 4 (nn p).toInt64) 32 12 5 op) (k ot : Nat) (hk : k < 6) : aJ A' 32 12 k = envS d l c t p op ot k := by
  rw [h]
  unfold envS
  generalize (nn d).toInt64 = v0
  generalize (nn l).toInt64 = v1
  generalize (nn c).toInt64 = v2
  generalize (nn t).toInt64 = v3
  generalize (nn p).toInt64 = v4
  rw [aJ_wJ, aJ_wJ, aJ_wJ, aJ_wJ, aJ_wJ, aJ_wJ]
  have hk' : k = 0 ∨ k = 1 ∨ k = 2 ∨ k = 3 ∨ k = 4 ∨ k = 5 := by omega
  rcases hk' with rfl | rfl | rfl | rfl | rfl | rfl
  · rw [if_neg (by omega), if_neg (by omega), if_neg (by omega), if_neg (by omega), if_neg (by omega), if_pos (by omega), if_pos (by omega)]
  · rw [if_neg (by omega), if_neg (by omega), if_neg (by omega), if_neg (by omega), if_pos (by omega), if_neg (by omega), if_pos (by omega)]
  · rw [if_neg (by omega), if_neg (by omega), if_neg (by omega), if_pos (by omega), if_neg (by omega), if_neg (by omega), if_pos (by omega)]
  · rw [if_neg (by omega), if_neg (by omega), if_pos (by omega), if_neg (by omega), if_neg (by omega), if_neg (by omega), if_pos (by omega)]
  · rw [if_neg (by omega), if_pos (by omega), if_neg (by omega), if_neg (by omega), if_neg (by omega), if_neg (by omega), if_pos (by omega)]
  · rw [if_pos (by omega), if_neg (by omega), if_neg (by omega), if_neg (by omega), if_neg (by omega), if_neg (by omega), if_pos (by omega)]
theorem asks_jo {A : AH} {v0 v1 v2 v3 v4 v5 : Int64} : JO A (wJ (wJ (wJ (wJ (wJ (wJ A 32 12 0 v0) 32 12 1 v1) 32 12 2 v2) 32 12 3 v3) 32 12 4 v4) 32 12 5 v5) ∧ Ch P12 A (wJ (wJ (wJ (wJ (wJ (wJ A 32 12 0 v0) 32 12 1 v1) 32 12 2 v2) 32 12 3 v3) 32 12 4 v4) 32 12 5 v5) := by
  refine ⟨((((((JO.refl A).wJ _ _ _ _).wJ _ _ _ _).wJ _ _ _ _).wJ _ _ _ _).wJ _ _ _ _).wJ _ _ _ _, ?_⟩
  refine Ch.trans ?_ (Ch.wJ rfl)
  refine Ch.trans ?_ (Ch.wJ rfl)
  refine Ch.trans ?_ (Ch.wJ rfl)
  refine Ch.trans ?_ (Ch.wJ rfl)
  refine Ch.trans ?_ (Ch.wJ rfl)
  exact Ch.wJ rfl
theorem tJ_0 (B : AH) (v : Int64) : tJ 9 B 12 0 v = some (wJ B 32 12 0 v) := tJ_nn (k := 0) (by decide) (by decide)
theorem tJ_1 (B : AH) (v : Int64) : tJ 9 B 12 1 v = some (wJ B 32 12 1 v) := tJ_nn (k := 1) (by decide) (by decide)
theorem tJ_2 (B : AH) (v : Int64) : tJ 9 B 12 2 v = some (wJ B 32 12 2 v) := tJ_nn (k := 2) (by decide) (by decide)
theorem tJ_3 (B : AH) (v : Int64) : tJ 9 B 12 3 v = some (wJ B 32 12 3 v) := tJ_nn (k := 3) (by decide) (by decide)
theorem tJ_4 (B : AH) (v : Int64) : tJ 9 B 12 4 v = some (wJ B 32 12 4 v) := tJ_nn (k := 4) (by decide) (by decide)
theorem tJ_5 (B : AH) (v : Int64) : tJ 9 B 12 5 v = some (wJ B 32 12 5 v) := tJ_nn (k := 5) (by decide) (by decide)
theorem asks_tail {B : AH} {x b i l t p o : Nat} (hl : l < 100) (ho : o < 100) (g1 : X0_beingOf B (nn b) = some (some i)) (g2 : aK B i = 7) (g4 : aI B 703 i 0 = nn t) (s4 : ∀ v, sI 8 31 (wJ B 32 12 3 v) (x + 4) (nn b) = some (nn p)) (s2 : ∀ v w, sI 8 31 (wJ (wJ B 32 12 3 v) 32 12 4 w) (x + 2) (nn b) = some (nn l)) :
    (bo (X0_beingOf B (nn b)) fun r6 => bo r6 fun q7 => bo (gI 7 B 703 q7) fun v8 => bo (tJ 9 B 12 3 (Int32.toInt64 v8)) fun A9 => bo (sI 8 31 A9 (x + 4) (nn b)) fun v10 => bo (tJ 9 A9 12 4 (Int32.toInt64 v10)) fun A11 => bo (sI 8 31 A11 (x + 2) (nn b)) fun v12 => bo (X0_isOpen v12 (nn o)) fun r13 => if r13 = 0 then (X5_asks_b127 x (nn b) (nn o) A11 0 5) else (X5_asks_b127 x (nn b) (nn o) A11 1 5)) = some ((), wJ (wJ (wJ B 32 12 3 (nn t).toInt64) 32 12 4 (nn p).toInt64) 32 12 5 (if l = o ∨ l + 1 = o then 1 else 0)) := by
  have hio := (isOpenX hl ho).1
  rw [g1, bo_some, bo_some, gI_k g2, bo_some, g4, tJ_3, bo_some, s4, bo_some, tJ_4, bo_some, s2, bo_some, hio, bo_some]
  unfold X5_asks_b127
  rw [tJ_5, tJ_5, bo_some, bo_some]
  by_cases q : l = o ∨ l + 1 = o
  · rw [if_pos q, if_pos q, if_neg (by decide)]
  · rw [if_neg q, if_neg q, if_pos rfl]
theorem asks_key (h : FR A σ fo nb L C W) {x : Nat} (hx : isStb x = true) {b o d l c t p : Nat} (hb : b < nb) (hl : l < 100) (ho : o < 100) (e0 : aI A 600 x 0 = nn d) (e1 : aI A 31 (x + 2) b = nn l) (e2 : aI A 31 (x + 3) b = nn c) (e3 : σ.1 46 (8 + b) = nn t) (e4 : aI A 31 (x + 4) b = nn p) :
    X5_asks A x (nn b) (nn o) = some ((), wJ (wJ (wJ (wJ (wJ (wJ A 32 12 0 (nn d).toInt64) 32 12 1 (nn l).toInt64) 32 12 2 (nn c).toInt64) 32 12 3 (nn t).toInt64) 32 12 4 (nn p).toInt64) 32 12 5 (if l = o ∨ l + 1 = o then 1 else 0)) := by
  have bn := h.bn
  obtain ⟨i, t', g1, g2, g3, g4, g5, g6⟩ := h.beingOf hb
  have s2 : ∀ B, JO A B → sI 8 31 B (x + 2) (nn b) = some (nn l) := fun B hB => by rw [sI_nn (by omega) (by decide), hB.1, e1]
  have s3 : ∀ B, JO A B → sI 8 31 B (x + 3) (nn b) = some (nn c) := fun B hB => by rw [sI_nn (by omega) (by decide), hB.1, e2]
  have s4 : ∀ B, JO A B → sI 8 31 B (x + 4) (nn b) = some (nn p) := fun B hB => by rw [sI_nn (by omega) (by decide), hB.1, e4]
  have j1 : JO A (wJ A 32 12 0 (nn d).toInt64) := (JO.refl A).wJ _ _ _ _
  have j3 := j1.wJ 32 12 1 (nn l).toInt64
  have j5 := j3.wJ 32 12 2 (nn c).toInt64
  unfold X5_asks
  rw [if_pos hx, e0, tJ_0, bo_some, s2 _ j1, bo_some, tJ_1, bo_some, s3 _ j3, bo_some, tJ_2, bo_some]
  refine asks_tail (i := i) hl ho ?_ ?_ ?_ ?_ ?_
  · rw [j5.beingOf]; exact g1
  · rw [j5.2.1]; exact g2
  · rw [j5.1]; exact g4.trans e3
  · intro v; exact s4 _ (j5.wJ _ _ _ _)
  · intro v w; exact s2 _ ((j5.wJ _ _ _ _).wJ _ _ _ _)
/-- the component asks a being -/
theorem asks_eq (h : FR A σ fo nb L C W) {x : Nat} (hx : isStb x = true) {b o d l c t p : Nat} (hb : b < nb) (hl : l < 100) (ho : o < 100) (e0 : aI A 600 x 0 = nn d) (e1 : aI A 31 (x + 2) b = nn l) (e2 : aI A 31 (x + 3) b = nn c) (e3 : σ.1 46 (8 + b) = nn t) (e4 : aI A 31 (x + 4) b = nn p) :
    ∃ A', X5_asks A x (nn b) (nn o) = some ((), A') ∧ Ch P12 A A' ∧ aI A' = aI A ∧ aR A' = aR A ∧ ∀ k ot, k < 6 → mom A' 11 k = envS d l c t p (if l = o ∨ l + 1 = o then 1 else 0) ot k :=
  ⟨_, asks_key h hx hb hl ho e0 e1 e2 e3 e4, asks_jo.2, asks_jo.1.1, asks_jo.1.2.2.2, fun k ot hk => asks_mom rfl k ot hk⟩
/-- what the reference's codes ask of a being -/
theorem part_eq {b o d l c t p : Nat} (hb : b < 8) (hl : l < 100) (ho : o < 100) (e0 : σ.1 58 0 = nn d) (e1 : σ.1 56 (7 + 4 * b) = nn l) (e2 : σ.1 56 (7 + 4 * b + 1) = nn c) (e3 : σ.1 46 (8 + b) = nn t) (e4 : σ.1 56 (7 + 4 * b + 2) = nn p) (e5 : σ.1 59 0 = nn o) (ot : Nat) :
    ∀ k, k < 6 → M_qPartOf σ (nn k) (nn b) = some (envS d l c t p (if l = o ∨ l + 1 = o then 1 else 0) ot k) := by
  have hio := (isOpenX hl ho).2
  have h46 : ld 2 σ 46 (8 + nn b) = some (nn t) := by
    rw [show (8 : Int32) = nn 8 from rfl, nn_add, ld_nn (by rfl) (by show 8 + b < 16; omega) (by omega), e3]
  intro k hk
  have hk' : k = 0 ∨ k = 1 ∨ k = 2 ∨ k = 3 ∨ k = 4 ∨ k = 5 := by omega
  unfold M_qPartOf
  rw [m_leafOf σ hb, m_cellOf σ hb, m_purseOf σ hb, h46, e0, e1, e2, e4, e5]
  simp only [bo_some, hio]
  rcases hk' with rfl | rfl | rfl | rfl | rfl | rfl
  · rfl
  · rfl
  · rfl
  · rfl
  · rfl
  · unfold envS
    by_cases q : l = o ∨ l + 1 = o
    · simp only [if_pos q]; rfl
    · simp only [if_neg q]; rfl
end ASK
