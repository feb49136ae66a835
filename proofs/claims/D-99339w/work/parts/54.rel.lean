/-! PURE LEVEL: the folio that stands, and a state, on both sides -/
set_option maxRecDepth 100000
/-- cells that are made while reading, and those of the empty folio: never written again -/
def dyn (i : Nat) : Prop := 1101 ≤ i ∨ (1 ≤ i ∧ i ≤ 7)
def KS (A : AH) : Prop := ∀ i, i < 1101 → aK A i = stK i ∧ aL A i = stLn i
theorem dyn12 : ¬ dyn 12 := by unfold dyn; omega
def bitOf (g c : Int32) : Prop := ((g >>> (c &&& 31)) &&& 1) = 1
/-- a String of letters, and its number -/
def bytesL (A : AH) (s : Nat) (cs : List Int32) : Prop := dyn s ∧ aK A s = 19 ∧ aI A 1901 s 0 = 0 ∧ ∃ ar, aR A 1900 s 0 = some ar ∧ dyn ar ∧ aK A ar = 33 ∧ aL A ar = cs.length ∧ cs.length < 5000 ∧ ∀ i v, cs[i]? = some v → aI A 33 ar i = v
def num27 (cs : List Int32) : Int64 := cs.foldl (fun v c => ((27 * v + Int32.toInt64 c) - 97) + 1) 0
def isLet (c : Int32) : Prop := 97 ≤ c ∧ c ≤ 122
def NameR (A : AH) (s : Nat) (v : Int64) : Prop := ∃ cs : List Int32, bytesL A s cs ∧ 1 ≤ cs.length ∧ cs.length ≤ 6 ∧ (∀ c ∈ cs, isLet c) ∧ v = num27 cs
def CRv (A : AH) (σ : mSt) (fo w key μ : Nat) : Prop := (aR A key fo 0 = none ∧ σ.1 49 (4 + w) = -1) ∨ ∃ v g cs s, aR A key fo 0 = some v ∧ VR 24 false μ A dyn v g ∧ Den false μ cs g ∧ σ.1 49 (4 + w) = nn s ∧ σ.1 50 (4 + w) = nn (s + cs.length) ∧ CodesAt σ s cs
def CRt (A : AH) (σ : mSt) (fo : Nat) : Prop := (aR A 214 fo 0 = none ∧ σ.1 49 7 = -1) ∨ ∃ v g cs s, aR A 214 fo 0 = some v ∧ TR 24 16 false 63 A dyn v g ∧ Den false 63 cs g ∧ σ.1 49 7 = nn s ∧ σ.1 50 7 = nn (s + cs.length) ∧ CodesAt σ s cs
/-- the folio that stands: nb beings, L leaves, C cells, W worms -/
def FR (A : AH) (σ : mSt) (fo nb L C W : Nat) : Prop :=
  (aR A 100 0 0 = some fo) ∧
  (aK A fo = 2) ∧
  (dyn fo) ∧
  (aI A 201 fo 0 = nn L) ∧
  (σ.1 40 2 = nn L) ∧
  (aI A 202 fo 0 = nn C) ∧
  (σ.1 40 3 = nn C) ∧
  (aI A 204 fo 0 = nn W) ∧
  (σ.1 41 4 = nn W) ∧
  (aI A 205 fo 0 = σ.1 48 0) ∧
  (σ.1 41 3 = nn nb) ∧
  (σ.1 54 0 = if L = 0 then 0 else 1) ∧
  (L ≤ 6) ∧
  (C ≤ 8) ∧
  (L ≠ 0 → 2 ≤ C) ∧
  (L = 0 → C = 0 ∧ nb = 0) ∧
  (nb ≤ 8) ∧
  (W ≤ 12) ∧
  (∃ li, ∃ be : List Nat, aR A 210 fo 0 = some li ∧ LR A dyn li be ∧ be.length = nb ∧ ∀ b i, be[b]? = some i → dyn i ∧ aK A i = 7 ∧ aI A 703 i 0 = σ.1 46 (8 + b) ∧ (∃ t, t ≤ 9 ∧ σ.1 46 (8 + b) = nn t) ∧ ∃ s, aR A 700 i 0 = some s ∧ NameR A s (σ.2 42 (8 + b))) ∧
  (∃ a, aR A 207 fo 0 = some a ∧ dyn a ∧ aK A a = 31 ∧ aL A a = 12 ∧ ∀ w, w < W → aI A 31 a w = σ.1 44 (36 + 3 * w)) ∧
  (∃ a, aR A 208 fo 0 = some a ∧ dyn a ∧ aK A a = 31 ∧ aL A a = 12 ∧ ∀ w, w < W → aI A 31 a w = σ.1 44 (37 + 3 * w)) ∧
  (∃ a, aR A 209 fo 0 = some a ∧ dyn a ∧ aK A a = 31 ∧ aL A a = 12 ∧ ∀ w, w < W → aI A 31 a w = σ.1 44 (38 + 3 * w)) ∧
  (CRv A σ fo 0 211 1) ∧
  (CRv A σ fo 1 212 63) ∧
  (CRv A σ fo 2 213 127) ∧
  (CRt A σ fo) ∧
  (L = 0 → aR A 211 fo 0 = none)
theorem FR.fo {A : AH} {σ : mSt} {fo nb L C W : Nat} (h : FR A σ fo nb L C W) : aR A 100 0 0 = some fo := h.1
theorem FR.fk {A : AH} {σ : mSt} {fo nb L C W : Nat} (h : FR A σ fo nb L C W) : aK A fo = 2 := h.2.1
theorem FR.fd {A : AH} {σ : mSt} {fo nb L C W : Nat} (h : FR A σ fo nb L C W) : dyn fo := h.2.2.1
theorem FR.lv {A : AH} {σ : mSt} {fo nb L C W : Nat} (h : FR A σ fo nb L C W) : aI A 201 fo 0 = nn L := h.2.2.2.1
theorem FR.lvm {A : AH} {σ : mSt} {fo nb L C W : Nat} (h : FR A σ fo nb L C W) : σ.1 40 2 = nn L := h.2.2.2.2.1
theorem FR.ce {A : AH} {σ : mSt} {fo nb L C W : Nat} (h : FR A σ fo nb L C W) : aI A 202 fo 0 = nn C := h.2.2.2.2.2.1
theorem FR.cem {A : AH} {σ : mSt} {fo nb L C W : Nat} (h : FR A σ fo nb L C W) : σ.1 40 3 = nn C := h.2.2.2.2.2.2.1
theorem FR.wm {A : AH} {σ : mSt} {fo nb L C W : Nat} (h : FR A σ fo nb L C W) : aI A 204 fo 0 = nn W := h.2.2.2.2.2.2.2.1
theorem FR.wmm {A : AH} {σ : mSt} {fo nb L C W : Nat} (h : FR A σ fo nb L C W) : σ.1 41 4 = nn W := h.2.2.2.2.2.2.2.2.1
theorem FR.th {A : AH} {σ : mSt} {fo nb L C W : Nat} (h : FR A σ fo nb L C W) : aI A 205 fo 0 = σ.1 48 0 := h.2.2.2.2.2.2.2.2.2.1
theorem FR.nbm {A : AH} {σ : mSt} {fo nb L C W : Nat} (h : FR A σ fo nb L C W) : σ.1 41 3 = nn nb := h.2.2.2.2.2.2.2.2.2.2.1
theorem FR.isf {A : AH} {σ : mSt} {fo nb L C W : Nat} (h : FR A σ fo nb L C W) : σ.1 54 0 = if L = 0 then 0 else 1 := h.2.2.2.2.2.2.2.2.2.2.2.1
theorem FR.bL {A : AH} {σ : mSt} {fo nb L C W : Nat} (h : FR A σ fo nb L C W) : L ≤ 6 := h.2.2.2.2.2.2.2.2.2.2.2.2.1
theorem FR.bC {A : AH} {σ : mSt} {fo nb L C W : Nat} (h : FR A σ fo nb L C W) : C ≤ 8 := h.2.2.2.2.2.2.2.2.2.2.2.2.2.1
theorem FR.bC2 {A : AH} {σ : mSt} {fo nb L C W : Nat} (h : FR A σ fo nb L C W) : L ≠ 0 → 2 ≤ C := h.2.2.2.2.2.2.2.2.2.2.2.2.2.2.1
theorem FR.bC0 {A : AH} {σ : mSt} {fo nb L C W : Nat} (h : FR A σ fo nb L C W) : L = 0 → C = 0 ∧ nb = 0 := h.2.2.2.2.2.2.2.2.2.2.2.2.2.2.2.1
theorem FR.bn {A : AH} {σ : mSt} {fo nb L C W : Nat} (h : FR A σ fo nb L C W) : nb ≤ 8 := h.2.2.2.2.2.2.2.2.2.2.2.2.2.2.2.2.1
theorem FR.bW {A : AH} {σ : mSt} {fo nb L C W : Nat} (h : FR A σ fo nb L C W) : W ≤ 12 := h.2.2.2.2.2.2.2.2.2.2.2.2.2.2.2.2.2.1
theorem FR.be {A : AH} {σ : mSt} {fo nb L C W : Nat} (h : FR A σ fo nb L C W) : ∃ li, ∃ be : List Nat, aR A 210 fo 0 = some li ∧ LR A dyn li be ∧ be.length = nb ∧ ∀ b i, be[b]? = some i → dyn i ∧ aK A i = 7 ∧ aI A 703 i 0 = σ.1 46 (8 + b) ∧ (∃ t, t ≤ 9 ∧ σ.1 46 (8 + b) = nn t) ∧ ∃ s, aR A 700 i 0 = some s ∧ NameR A s (σ.2 42 (8 + b)) := h.2.2.2.2.2.2.2.2.2.2.2.2.2.2.2.2.2.2.1
theorem FR.wf {A : AH} {σ : mSt} {fo nb L C W : Nat} (h : FR A σ fo nb L C W) : ∃ a, aR A 207 fo 0 = some a ∧ dyn a ∧ aK A a = 31 ∧ aL A a = 12 ∧ ∀ w, w < W → aI A 31 a w = σ.1 44 (36 + 3 * w) := h.2.2.2.2.2.2.2.2.2.2.2.2.2.2.2.2.2.2.2.1
theorem FR.wt {A : AH} {σ : mSt} {fo nb L C W : Nat} (h : FR A σ fo nb L C W) : ∃ a, aR A 208 fo 0 = some a ∧ dyn a ∧ aK A a = 31 ∧ aL A a = 12 ∧ ∀ w, w < W → aI A 31 a w = σ.1 44 (37 + 3 * w) := h.2.2.2.2.2.2.2.2.2.2.2.2.2.2.2.2.2.2.2.2.1
theorem FR.wc {A : AH} {σ : mSt} {fo nb L C W : Nat} (h : FR A σ fo nb L C W) : ∃ a, aR A 209 fo 0 = some a ∧ dyn a ∧ aK A a = 31 ∧ aL A a = 12 ∧ ∀ w, w < W → aI A 31 a w = σ.1 44 (38 + 3 * w) := h.2.2.2.2.2.2.2.2.2.2.2.2.2.2.2.2.2.2.2.2.2.1
theorem FR.op {A : AH} {σ : mSt} {fo nb L C W : Nat} (h : FR A σ fo nb L C W) : CRv A σ fo 0 211 1 := h.2.2.2.2.2.2.2.2.2.2.2.2.2.2.2.2.2.2.2.2.2.2.1
theorem FR.co {A : AH} {σ : mSt} {fo nb L C W : Nat} (h : FR A σ fo nb L C W) : CRv A σ fo 1 212 63 := h.2.2.2.2.2.2.2.2.2.2.2.2.2.2.2.2.2.2.2.2.2.2.2.1
theorem FR.to_ {A : AH} {σ : mSt} {fo nb L C W : Nat} (h : FR A σ fo nb L C W) : CRv A σ fo 2 213 127 := h.2.2.2.2.2.2.2.2.2.2.2.2.2.2.2.2.2.2.2.2.2.2.2.2.1
theorem FR.st {A : AH} {σ : mSt} {fo nb L C W : Nat} (h : FR A σ fo nb L C W) : CRt A σ fo := h.2.2.2.2.2.2.2.2.2.2.2.2.2.2.2.2.2.2.2.2.2.2.2.2.2.1
theorem FR.op0 {A : AH} {σ : mSt} {fo nb L C W : Nat} (h : FR A σ fo nb L C W) : L = 0 → aR A 211 fo 0 = none := h.2.2.2.2.2.2.2.2.2.2.2.2.2.2.2.2.2.2.2.2.2.2.2.2.2.2
theorem FR.mk {A : AH} {σ : mSt} {fo nb L C W : Nat} (h_fo : aR A 100 0 0 = some fo) (h_fk : aK A fo = 2) (h_fd : dyn fo) (h_lv : aI A 201 fo 0 = nn L) (h_lvm : σ.1 40 2 = nn L) (h_ce : aI A 202 fo 0 = nn C) (h_cem : σ.1 40 3 = nn C) (h_wm : aI A 204 fo 0 = nn W) (h_wmm : σ.1 41 4 = nn W) (h_th : aI A 205 fo 0 = σ.1 48 0) (h_nbm : σ.1 41 3 = nn nb) (h_isf : σ.1 54 0 = if L = 0 then 0 else 1) (h_bL : L ≤ 6) (h_bC : C ≤ 8) (h_bC2 : L ≠ 0 → 2 ≤ C) (h_bC0 : L = 0 → C = 0 ∧ nb = 0) (h_bn : nb ≤ 8) (h_bW : W ≤ 12) (h_be : ∃ li, ∃ be : List Nat, aR A 210 fo 0 = some li ∧ LR A dyn li be ∧ be.length = nb ∧ ∀ b i, be[b]? = some i → dyn i ∧ aK A i = 7 ∧ aI A 703 i 0 = σ.1 46 (8 + b) ∧ (∃ t, t ≤ 9 ∧ σ.1 46 (8 + b) = nn t) ∧ ∃ s, aR A 700 i 0 = some s ∧ NameR A s (σ.2 42 (8 + b))) (h_wf : ∃ a, aR A 207 fo 0 = some a ∧ dyn a ∧ aK A a = 31 ∧ aL A a = 12 ∧ ∀ w, w < W → aI A 31 a w = σ.1 44 (36 + 3 * w)) (h_wt : ∃ a, aR A 208 fo 0 = some a ∧ dyn a ∧ aK A a = 31 ∧ aL A a = 12 ∧ ∀ w, w < W → aI A 31 a w = σ.1 44 (37 + 3 * w)) (h_wc : ∃ a, aR A 209 fo 0 = some a ∧ dyn a ∧ aK A a = 31 ∧ aL A a = 12 ∧ ∀ w, w < W → aI A 31 a w = σ.1 44 (38 + 3 * w)) (h_op : CRv A σ fo 0 211 1) (h_co : CRv A σ fo 1 212 63) (h_to_ : CRv A σ fo 2 213 127) (h_st : CRt A σ fo) (h_op0 : L = 0 → aR A 211 fo 0 = none) : FR A σ fo nb L C W := ⟨h_fo, h_fk, h_fd, h_lv, h_lvm, h_ce, h_cem, h_wm, h_wmm, h_th, h_nbm, h_isf, h_bL, h_bC, h_bC2, h_bC0, h_bn, h_bW, h_be, h_wf, h_wt, h_wc, h_op, h_co, h_to_, h_st, h_op0⟩
/-- the reference's fields that tell of the folio that stands -/
def Kfo (k : Nat) : Prop := k = 40 ∨ k = 41 ∨ k = 42 ∨ k = 44 ∨ k = 46 ∨ k = 48 ∨ k = 49 ∨ k = 50 ∨ k = 51 ∨ k = 54
def SameM (K : Nat → Prop) (σ σ' : mSt) : Prop := ∀ k, K k → ∀ j, σ'.1 k j = σ.1 k j ∧ σ'.2 k j = σ.2 k j
theorem Cm.sameM {K G : Nat → Prop} {σ σ' : mSt} (h : Cm K σ σ') (d : ∀ k, G k → ¬ K k) : SameM G σ σ' := fun k hk j => h k j (d k hk)
theorem Ch.sameOn {P : Nat → Nat → Prop} {A A' : AH} {F : Nat → Prop} (h : Ch P A A') (d : ∀ f i, F i → ¬ P f i) : SameOn F A A' := fun i hi => ⟨congrFun h.K i, congrFun h.L i, fun f j => h.2.2.2 f i j (d f i hi)⟩
theorem bytesL.same {A A' : AH} {s : Nat} {cs : List Int32} (h : bytesL A s cs) (e : SameOn dyn A A') : bytesL A' s cs := by
  obtain ⟨h1, h2, h3, ar, h4, h5, h6, h7, h8, h9⟩ := h
  have es := e s h1
  have ea := e ar h5
  exact ⟨h1, es.1.trans h2, (es.2.2 _ _).1.trans h3, ar, (es.2.2 _ _).2.2.trans h4, h5, ea.1.trans h6, ea.2.1.trans h7, h8, fun i v hv => (ea.2.2 _ _).1.trans (h9 i v hv)⟩
theorem CRv.same {A A' : AH} {σ σ' : mSt} {fo w key μ : Nat} (hf : dyn fo) (h : CRv A σ fo w key μ) (e : SameOn dyn A A') (m : SameM Kfo σ σ') : CRv A' σ' fo w key μ := by
  have m49 := m 49 (by unfold Kfo; omega)
  have m50 := m 50 (by unfold Kfo; omega)
  have m51 := m 51 (by unfold Kfo; omega)
  have ef := (e fo hf).2.2 key 0
  rcases h with ⟨h1, h2⟩ | ⟨v, g, cs, s, h1, h2, h3, h4, h5, h6⟩
  · exact Or.inl ⟨ef.2.2.trans h1, (m49 _).1.trans h2⟩
  · exact Or.inr ⟨v, g, cs, s, ef.2.2.trans h1, h2.same e, h3, (m49 _).1.trans h4, (m50 _).1.trans h5, h6.1, fun i c hi => (m51 _).1.trans (h6.2 i c hi)⟩
theorem CRt.same {A A' : AH} {σ σ' : mSt} {fo : Nat} (hf : dyn fo) (h : CRt A σ fo) (e : SameOn dyn A A') (m : SameM Kfo σ σ') : CRt A' σ' fo := by
  have m49 := m 49 (by unfold Kfo; omega)
  have m50 := m 50 (by unfold Kfo; omega)
  have m51 := m 51 (by unfold Kfo; omega)
  have ef := (e fo hf).2.2 214 0
  rcases h with ⟨h1, h2⟩ | ⟨v, g, cs, s, h1, h2, h3, h4, h5, h6⟩
  · exact Or.inl ⟨ef.2.2.trans h1, (m49 _).1.trans h2⟩
  · exact Or.inr ⟨v, g, cs, s, ef.2.2.trans h1, h2.same e, h3, (m49 _).1.trans h4, (m50 _).1.trans h5, h6.1, fun i c hi => (m51 _).1.trans (h6.2 i c hi)⟩
theorem FR.same {A A' : AH} {σ σ' : mSt} {fo nb L C W : Nat} (h : FR A σ fo nb L C W) (e : SameOn dyn A A') (r : aR A' 100 0 0 = aR A 100 0 0) (m : SameM Kfo σ σ') : FR A' σ' fo nb L C W := by
  have m40 := m 40 (by unfold Kfo; omega)
  have m41 := m 41 (by unfold Kfo; omega)
  have m42 := m 42 (by unfold Kfo; omega)
  have m44 := m 44 (by unfold Kfo; omega)
  have m46 := m 46 (by unfold Kfo; omega)
  have m48 := m 48 (by unfold Kfo; omega)
  have m54 := m 54 (by unfold Kfo; omega)
  have ef := e fo h.fd
  obtain ⟨li, be, b1, b2, b3, b4⟩ := h.be
  obtain ⟨a1, f1, f2, f3, f4, f5⟩ := h.wf
  obtain ⟨a2, t1, t2, t3, t4, t5⟩ := h.wt
  obtain ⟨a3, c1, c2, c3, c4, c5⟩ := h.wc
  refine FR.mk (r.trans h.fo) (ef.1.trans h.fk) h.fd ((ef.2.2 _ _).1.trans h.lv) ((m40 _).1.trans h.lvm) ((ef.2.2 _ _).1.trans h.ce) ((m40 _).1.trans h.cem) ((ef.2.2 _ _).1.trans h.wm) ((m41 _).1.trans h.wmm) ?_ ((m41 _).1.trans h.nbm) ((m54 _).1.trans h.isf) h.bL h.bC h.bC2 h.bC0 h.bn h.bW ?_ ?_ ?_ ?_ (h.op.same h.fd e m) (h.co.same h.fd e m) (h.to_.same h.fd e m) (h.st.same h.fd e m) (fun q => (ef.2.2 _ _).2.2.trans (h.op0 q))
  · rw [(ef.2.2 _ _).1, (m48 _).1]; exact h.th
  · refine ⟨li, be, (ef.2.2 _ _).2.2.trans b1, b2.same e, b3, fun b i hb => ?_⟩
    obtain ⟨i1, i2, i3, i4, s, i5, cs, i6, i7⟩ := b4 b i hb
    have ei := e i i1
    refine ⟨i1, ei.1.trans i2, ?_, ?_, s, (ei.2.2 _ _).2.2.trans i5, cs, i6.same e, ?_⟩
    · rw [(ei.2.2 _ _).1, (m46 _).1]; exact i3
    · rw [(m46 _).1]; exact i4
    · rw [(m42 _).2]; exact i7
  · exact ⟨a1, (ef.2.2 _ _).2.2.trans f1, f2, (e a1 f2).1.trans f3, (e a1 f2).2.1.trans f4, fun w hw => by rw [((e a1 f2).2.2 _ _).1, (m44 _).1]; exact f5 w hw⟩
  · exact ⟨a2, (ef.2.2 _ _).2.2.trans t1, t2, (e a2 t2).1.trans t3, (e a2 t2).2.1.trans t4, fun w hw => by rw [((e a2 t2).2.2 _ _).1, (m44 _).1]; exact t5 w hw⟩
  · exact ⟨a3, (ef.2.2 _ _).2.2.trans c1, c2, (e a3 c2).1.trans c3, (e a3 c2).2.1.trans c4, fun w hw => by rw [((e a3 c2).2.2 _ _).1, (m44 _).1]; exact c5 w hw⟩
section FRA
variable {A : AH} {σ : mSt} {fo nb L C W : Nat}
theorem FR.beings (h : FR A σ fo nb L C W) : X0_beings A = some (nn nb) := by
  obtain ⟨li, be, b1, b2, b3, b4⟩ := h.be
  unfold X0_beings
  rw [h.fo, bo_some, gN_k h.fk, b1, bo_some, if_pos b2.kd, J2_size_LR b2, bo_some, b3]
theorem FR.beingMany (h : FR A σ fo nb L C W) : M_beingMany σ = some (nn nb) := by
  unfold M_beingMany
  rw [show (3 : Int32) = nn 3 from rfl, ld_nn (by rfl) (by decide) (by decide), bo_some, h.nbm]
theorem FR.leaves (h : FR A σ fo nb L C W) : M_leaves σ = some (nn L) := by
  unfold M_leaves
  rw [show (2 : Int32) = nn 2 from rfl, ld_nn (by rfl) (by decide) (by decide), bo_some, h.lvm]
theorem FR.cells (h : FR A σ fo nb L C W) : ld 2 σ 40 3 = some (nn C) := by
  rw [show (3 : Int32) = nn 3 from rfl, ld_nn (by rfl) (by decide) (by decide), h.cem]
theorem FR.leavesX (h : FR A σ fo nb L C W) {β : Type} (g : Int32 → Option β) : (bo (aR A 100 0 0) fun q => bo (gI 2 A 201 q) g) = g (nn L) := by
  rw [h.fo, bo_some, gI_k h.fk, bo_some, h.lv]
theorem FR.cellsX (h : FR A σ fo nb L C W) {β : Type} (g : Int32 → Option β) : (bo (aR A 100 0 0) fun q => bo (gI 2 A 202 q) g) = g (nn C) := by
  rw [h.fo, bo_some, gI_k h.fk, bo_some, h.ce]
theorem FR.beingOf (h : FR A σ fo nb L C W) {b : Nat} (hb : b < nb) : ∃ i t, X0_beingOf A (nn b) = some (some i) ∧ aK A i = 7 ∧ dyn i ∧ aI A 703 i 0 = σ.1 46 (8 + b) ∧ t ≤ 9 ∧ σ.1 46 (8 + b) = nn t := by
  obtain ⟨li, be, b1, b2, b3, b4⟩ := h.be
  obtain ⟨i, hi⟩ : ∃ i, be[b]? = some i := ⟨be[b]'(by omega), List.getElem?_eq_getElem _⟩
  obtain ⟨i1, i2, i3, ⟨t, ht, i4⟩, s, i5, i6⟩ := b4 b i hi
  refine ⟨i, t, ?_, i2, i1, i3, ht, i4⟩
  unfold X0_beingOf
  rw [h.fo, bo_some, gN_k h.fk, b1, bo_some, if_pos b2.kd, J2_get_LR b2 hi, bo_some, bo_some, if_pos i2]
theorem FR.tradeX (h : FR A σ fo nb L C W) {b : Nat} (hb : b < nb) {β : Type} (g : Int32 → Option β) : (bo (X0_beingOf A (nn b)) fun r => bo r fun q => bo (gI 7 A 703 q) g) = g (σ.1 46 (8 + b)) := by
  obtain ⟨i, t, h1, h2, h3, h4, h5, h6⟩ := h.beingOf hb
  rw [h1, bo_some, bo_some, gI_k h2, bo_some, h4]
theorem FR.isFolioX (h : FR A σ fo nb L C W) : X0_isFolio A = some (if L = 0 then 0 else 1) := by
  unfold X0_isFolio
  rw [h.leavesX]
  have hb := h.bL
  by_cases e : L = 0
  · subst e
    rw [if_pos (by decide), if_pos rfl]
  · rw [if_neg, if_neg e]
    rw [show (0 : Int32) = nn 0 from rfl, nn_le (by omega) (by omega)]
    omega
end FRA
/-- the state with number x, and the same in the reference's row f -/
def SR (A : AH) (x : Nat) (f : Nat → Int32) (nb L C : Nat) : Prop :=
  (aI A 600 x 0 = f 0) ∧
  (∃ d, d ≤ 1100 ∧ f 0 = nn d) ∧
  (∀ l, l < 6 → aI A 31 (x + 1) l = f (1 + l)) ∧
  (∀ l, l < 6 → ∃ v, v < 256 ∧ f (1 + l) = nn v) ∧
  (∀ b, b < nb → aI A 31 (x + 2) b = f (7 + 4 * b)) ∧
  (∀ b, b < nb → ∃ l, l < L ∧ f (7 + 4 * b) = nn l) ∧
  (∀ b, b < nb → aI A 31 (x + 3) b = f (7 + 4 * b + 1)) ∧
  (∀ b, b < nb → ∃ c, c < C ∧ f (7 + 4 * b + 1) = nn c) ∧
  (∀ b, b < nb → aI A 31 (x + 4) b = f (7 + 4 * b + 2)) ∧
  (∀ b, b < nb → ∃ p, p ≤ 9999 ∧ f (7 + 4 * b + 2) = nn p) ∧
  (∀ b, b < nb → aI A 31 (x + 5) b = f (7 + 4 * b + 3)) ∧
  (∀ b, b < nb → ∃ m, m ≤ 9999 ∧ f (7 + 4 * b + 3) = nn m) ∧
  (∀ b l, b < nb → l < 6 → f (7 + 4 * b) = nn l → ¬ bitOf (f (1 + l)) (f (7 + 4 * b + 1))) ∧
  (∀ a b, a < nb → b < nb → f (7 + 4 * a) = f (7 + 4 * b) → f (7 + 4 * a + 1) = f (7 + 4 * b + 1) → a = b)
theorem SR.day {A : AH} {x : Nat} {f : Nat → Int32} {nb L C : Nat} (h : SR A x f nb L C) : aI A 600 x 0 = f 0 := h.1
theorem SR.dayb {A : AH} {x : Nat} {f : Nat → Int32} {nb L C : Nat} (h : SR A x f nb L C) : ∃ d, d ≤ 1100 ∧ f 0 = nn d := h.2.1
theorem SR.gl {A : AH} {x : Nat} {f : Nat → Int32} {nb L C : Nat} (h : SR A x f nb L C) : ∀ l, l < 6 → aI A 31 (x + 1) l = f (1 + l) := h.2.2.1
theorem SR.glb {A : AH} {x : Nat} {f : Nat → Int32} {nb L C : Nat} (h : SR A x f nb L C) : ∀ l, l < 6 → ∃ v, v < 256 ∧ f (1 + l) = nn v := h.2.2.2.1
theorem SR.lf {A : AH} {x : Nat} {f : Nat → Int32} {nb L C : Nat} (h : SR A x f nb L C) : ∀ b, b < nb → aI A 31 (x + 2) b = f (7 + 4 * b) := h.2.2.2.2.1
theorem SR.lfb {A : AH} {x : Nat} {f : Nat → Int32} {nb L C : Nat} (h : SR A x f nb L C) : ∀ b, b < nb → ∃ l, l < L ∧ f (7 + 4 * b) = nn l := h.2.2.2.2.2.1
theorem SR.ce {A : AH} {x : Nat} {f : Nat → Int32} {nb L C : Nat} (h : SR A x f nb L C) : ∀ b, b < nb → aI A 31 (x + 3) b = f (7 + 4 * b + 1) := h.2.2.2.2.2.2.1
theorem SR.ceb {A : AH} {x : Nat} {f : Nat → Int32} {nb L C : Nat} (h : SR A x f nb L C) : ∀ b, b < nb → ∃ c, c < C ∧ f (7 + 4 * b + 1) = nn c := h.2.2.2.2.2.2.2.1
theorem SR.pu {A : AH} {x : Nat} {f : Nat → Int32} {nb L C : Nat} (h : SR A x f nb L C) : ∀ b, b < nb → aI A 31 (x + 4) b = f (7 + 4 * b + 2) := h.2.2.2.2.2.2.2.2.1
theorem SR.pub {A : AH} {x : Nat} {f : Nat → Int32} {nb L C : Nat} (h : SR A x f nb L C) : ∀ b, b < nb → ∃ p, p ≤ 9999 ∧ f (7 + 4 * b + 2) = nn p := h.2.2.2.2.2.2.2.2.2.1
theorem SR.me {A : AH} {x : Nat} {f : Nat → Int32} {nb L C : Nat} (h : SR A x f nb L C) : ∀ b, b < nb → aI A 31 (x + 5) b = f (7 + 4 * b + 3) := h.2.2.2.2.2.2.2.2.2.2.1
theorem SR.meb {A : AH} {x : Nat} {f : Nat → Int32} {nb L C : Nat} (h : SR A x f nb L C) : ∀ b, b < nb → ∃ m, m ≤ 9999 ∧ f (7 + 4 * b + 3) = nn m := h.2.2.2.2.2.2.2.2.2.2.2.1
theorem SR.og {A : AH} {x : Nat} {f : Nat → Int32} {nb L C : Nat} (h : SR A x f nb L C) : ∀ b l, b < nb → l < 6 → f (7 + 4 * b) = nn l → ¬ bitOf (f (1 + l)) (f (7 + 4 * b + 1)) := h.2.2.2.2.2.2.2.2.2.2.2.2.1
theorem SR.di {A : AH} {x : Nat} {f : Nat → Int32} {nb L C : Nat} (h : SR A x f nb L C) : ∀ a b, a < nb → b < nb → f (7 + 4 * a) = f (7 + 4 * b) → f (7 + 4 * a + 1) = f (7 + 4 * b + 1) → a = b := h.2.2.2.2.2.2.2.2.2.2.2.2.2
theorem SR.mk {A : AH} {x : Nat} {f : Nat → Int32} {nb L C : Nat} (h_day : aI A 600 x 0 = f 0) (h_dayb : ∃ d, d ≤ 1100 ∧ f 0 = nn d) (h_gl : ∀ l, l < 6 → aI A 31 (x + 1) l = f (1 + l)) (h_glb : ∀ l, l < 6 → ∃ v, v < 256 ∧ f (1 + l) = nn v) (h_lf : ∀ b, b < nb → aI A 31 (x + 2) b = f (7 + 4 * b)) (h_lfb : ∀ b, b < nb → ∃ l, l < L ∧ f (7 + 4 * b) = nn l) (h_ce : ∀ b, b < nb → aI A 31 (x + 3) b = f (7 + 4 * b + 1)) (h_ceb : ∀ b, b < nb → ∃ c, c < C ∧ f (7 + 4 * b + 1) = nn c) (h_pu : ∀ b, b < nb → aI A 31 (x + 4) b = f (7 + 4 * b + 2)) (h_pub : ∀ b, b < nb → ∃ p, p ≤ 9999 ∧ f (7 + 4 * b + 2) = nn p) (h_me : ∀ b, b < nb → aI A 31 (x + 5) b = f (7 + 4 * b + 3)) (h_meb : ∀ b, b < nb → ∃ m, m ≤ 9999 ∧ f (7 + 4 * b + 3) = nn m) (h_og : ∀ b l, b < nb → l < 6 → f (7 + 4 * b) = nn l → ¬ bitOf (f (1 + l)) (f (7 + 4 * b + 1))) (h_di : ∀ a b, a < nb → b < nb → f (7 + 4 * a) = f (7 + 4 * b) → f (7 + 4 * a + 1) = f (7 + 4 * b + 1) → a = b) : SR A x f nb L C := ⟨h_day, h_dayb, h_gl, h_glb, h_lf, h_lfb, h_ce, h_ceb, h_pu, h_pub, h_me, h_meb, h_og, h_di⟩
/-- its rows, in the order ρ; n of them are kept -/
def KR (A : AH) (x n : Nat) (ρ : Nat → Nat) : Prop :=
  (aI A 601 x 0 = nn n) ∧
  (n ≤ 40) ∧
  (∀ k, k < 40 → aR A 36 (x + 6) k = some (ρ k) ∧ x + 7 ≤ ρ k ∧ ρ k < x + 47) ∧
  (∀ j k, j < 40 → k < 40 → ρ j = ρ k → j = k)
theorem KR.kn {A : AH} {x n : Nat} {ρ : Nat → Nat} (h : KR A x n ρ) : aI A 601 x 0 = nn n := h.1
theorem KR.kb {A : AH} {x n : Nat} {ρ : Nat → Nat} (h : KR A x n ρ) : n ≤ 40 := h.2.1
theorem KR.rr {A : AH} {x n : Nat} {ρ : Nat → Nat} (h : KR A x n ρ) : ∀ k, k < 40 → aR A 36 (x + 6) k = some (ρ k) ∧ x + 7 ≤ ρ k ∧ ρ k < x + 47 := h.2.2.1
theorem KR.ri {A : AH} {x n : Nat} {ρ : Nat → Nat} (h : KR A x n ρ) : ∀ j k, j < 40 → k < 40 → ρ j = ρ k → j = k := h.2.2.2
theorem KR.mk {A : AH} {x n : Nat} {ρ : Nat → Nat} (h_kn : aI A 601 x 0 = nn n) (h_kb : n ≤ 40) (h_rr : ∀ k, k < 40 → aR A 36 (x + 6) k = some (ρ k) ∧ x + 7 ≤ ρ k ∧ ρ k < x + 47) (h_ri : ∀ j k, j < 40 → k < 40 → ρ j = ρ k → j = k) : KR A x n ρ := ⟨h_kn, h_kb, h_rr, h_ri⟩
def KV (A : AH) (n : Nat) (ρ : Nat → Nat) (f : Nat → Int32) : Prop := f 39 = nn n ∧ ∀ k i, k < n → i < 3 → aI A 31 (ρ k) i = f (40 + 3 * k + i)
theorem st_at {x d : Nat} (hx : isStb x = true) (hd : d < 48) : stO (x + d) = d + 1 ∧ x + d < 1101 ∧ ¬ dyn (x + d) ∧ 16 ≤ x := by
  have h := isSt_of hx
  unfold isSt at h
  unfold stO dyn
  rcases h with h | h | ⟨h1, h2, h3⟩
  · subst h
    refine ⟨?_, by omega, by omega, by omega⟩
    rw [if_neg (by omega), if_pos (by omega)]; omega
  · subst h
    refine ⟨?_, by omega, by omega, by omega⟩
    rw [if_neg (by omega), if_pos (by omega)]; omega
  · refine ⟨?_, by omega, by omega, by omega⟩
    rw [if_neg (by omega), if_neg (by omega), if_neg (by omega), if_pos (by omega)]; omega
theorem KS.st {A : AH} (h : KS A) {x d : Nat} (hx : isStb x = true) (hd : d < 48) : aK A (x + d) = stKs (d + 1) ∧ aL A (x + d) = stLs (d + 1) := by
  obtain ⟨h1, h2, _⟩ := st_at hx hd
  have hk := h _ h2
  unfold stK stLn at hk
  rw [h1, if_pos (by omega), if_pos (by omega)] at hk
  exact hk
theorem KS.row {A : AH} (h : KS A) {x r : Nat} (hx : isStb x = true) (h1 : x + 7 ≤ r) (h2 : r < x + 47) : aK A r = 31 ∧ aL A r = 3 := by
  have := h.st hx (d := r - x) (by omega)
  rw [show x + (r - x) = r by omega] at this
  unfold stKs stLs at this
  rw [if_neg (by omega), if_neg (by omega), if_neg (by omega), if_neg (by omega), if_neg (by omega), if_pos (by omega)] at this
  exact this
theorem KS.ch {P : Nat → Nat → Prop} {A A' : AH} (h : KS A) (c : Ch P A A') : KS A' := fun i hi => by
  rw [c.K, c.L]; exact h i hi
