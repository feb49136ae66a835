/-! PURE LEVEL: the folio that is being read, on both sides -/
set_option maxRecDepth 100000
def Cg (K : Nat → Nat → Prop) (σ σ' : mSt) : Prop := ∀ k j, ¬ K k j → σ'.1 k j = σ.1 k j ∧ σ'.2 k j = σ.2 k j
theorem Cg.refl {K : Nat → Nat → Prop} (σ : mSt) : Cg K σ σ := fun _ _ _ => ⟨rfl, rfl⟩
theorem Cg.trans {K : Nat → Nat → Prop} {σ σ1 σ2 : mSt} (h : Cg K σ σ1) (g : Cg K σ1 σ2) : Cg K σ σ2 := fun k j hk => ⟨(g k j hk).1.trans (h k j hk).1, (g k j hk).2.trans (h k j hk).2⟩
theorem Cg.mono {K L : Nat → Nat → Prop} {σ σ1 : mSt} (h : Cg K σ σ1) (g : ∀ k j, K k j → L k j) : Cg L σ σ1 := fun k j hk => h k j (fun q => hk (g k j q))
theorem Cg.UI {K : Nat → Nat → Prop} {σ : mSt} {k i : Nat} {v : Int32} (h : K k i) : Cg K σ (mUI σ k i v) := by
  intro a j ha
  refine ⟨?_, rfl⟩
  rw [mI_UI, if_neg]
  rintro ⟨rfl, rfl⟩
  exact ha h
theorem Cg.UJ {K : Nat → Nat → Prop} {σ : mSt} {k i : Nat} {v : Int64} (h : K k i) : Cg K σ (mUJ σ k i v) := by
  intro a j ha
  refine ⟨rfl, ?_⟩
  rw [mJ_UJ, if_neg]
  rintro ⟨rfl, rfl⟩
  exact ha h
theorem Cg.I {K : Nat → Nat → Prop} {σ σ' : mSt} (h : Cg K σ σ') {k j : Nat} (hk : ¬ K k j) : σ'.1 k j = σ.1 k j := (h k j hk).1
theorem Cg.J {K : Nat → Nat → Prop} {σ σ' : mSt} (h : Cg K σ σ') {k j : Nat} (hk : ¬ K k j) : σ'.2 k j = σ.2 k j := (h k j hk).2
theorem Cm.cg {Q : Nat → Prop} {K : Nat → Nat → Prop} {σ σ' : mSt} (h : Cm Q σ σ') (d : ∀ k j, Q k → K k j) : Cg K σ σ' := fun k j hk => h k j (fun q => hk (d k j q))
/-- what the reading of a folio may write -/
def kall (k : Nat) : Bool := (decide (2 ≤ k) && decide (k ≤ 6)) || k == 10 || k == 39 || k == 43 || k == 45 || k == 47 || k == 52 || k == 53 || k == 55 || (decide (94 ≤ k) && decide (k ≤ 99))
def khalf (k : Nat) : Nat := if k = 40 then 2 else if k = 41 then 3 else if k = 42 then 8 else if k = 44 then 36 else if k = 46 then 8 else if k = 49 then 4 else if k = 50 then 4 else if k = 51 then 1600 else 0
def Kt (k j : Nat) : Prop := kall k = true ∨ j < khalf k
theorem Kt_no {k j t : Nat} (h1 : kall k = false) (h2 : khalf k = t) (h : t ≤ j) : ¬ Kt k j := by
  rintro (z | z)
  · rw [h1] at z; cases z
  · omega
theorem Kl_Kt {k j : Nat} (z : Kl k) : Kt k j := by
  rcases z with rfl | rfl | rfl | rfl | rfl <;> exact Or.inl rfl
theorem Kw_Kt {k j : Nat} (z : Kw k) : Kt k j := by
  have e : ∀ k, k < 100 → 94 ≤ k → kall k = true := by decide
  exact Or.inl (e k (by unfold Kw at z; omega) z.1)
theorem Kq_Kt {k j : Nat} (z : Kq k) : Kt k j := by
  rcases z with z | z
  · exact Kl_Kt z
  · exact Kw_Kt (by unfold Kw; omega)
theorem Kn_Kt {k j : Nat} (z : Kn k) : Kt k j := by
  rcases z with z | rfl
  · exact Kl_Kt z
  · exact Or.inl rfl
theorem Kt_wd : ∀ k, isWd k → ∀ j, ¬ Kt k j := by
  intro k hk j
  have e : ∀ k, k < 94 → (11 ≤ k ∧ k ≤ 38) ∨ (72 ≤ k ∧ k ≤ 93) → kall k = false ∧ khalf k = 0 := by decide
  obtain ⟨e1, e2⟩ := e k (by unfold isWd at hk; omega) hk
  exact Kt_no e1 e2 (Nat.zero_le _)
theorem Cm.nt {σ σ' : mSt} (h : Cm Kn σ σ') : Cg Kt σ σ' := h.cg (fun _ _ z => Kn_Kt z)
theorem Cm.lt {σ σ' : mSt} (h : Cm Kl σ σ') : Cg Kt σ σ' := h.cg (fun _ _ z => Kl_Kt z)
theorem Cm.qt {σ σ' : mSt} (h : Cm Kq σ σ') : Cg Kt σ σ' := h.cg (fun _ _ z => Kq_Kt z)
theorem Cm.ln {σ σ' : mSt} (h : Cm Kl σ σ') : Cm Kn σ σ' := h.mono (fun _ z => Or.inl z)
/-- the name of a being, b-th of those read -/
def NmT (A : AH) (σ : mSt) (a0 b s : Nat) : Prop := ∃ cs ar : _, a0 ≤ s ∧ StR A s cs ∧ aR A 1900 s 0 = some ar ∧ a0 ≤ ar ∧ aK A ar = 33 ∧ 1 ≤ cs.length ∧ cs.length ≤ 6 ∧ (∀ c ∈ cs, isLet c) ∧ σ.2 42 b = num27 cs
def BeT (A : AH) (σ : mSt) (a0 L C b i : Nat) : Prop := a0 ≤ i ∧ aK A i = 7 ∧ aI A 701 i 0 = σ.1 45 (2 * b) ∧ aI A 702 i 0 = σ.1 45 (2 * b + 1) ∧ aI A 703 i 0 = σ.1 46 b ∧ (∃ l, l < L ∧ σ.1 45 (2 * b) = nn l) ∧ (∃ c, c < C ∧ σ.1 45 (2 * b + 1) = nn c) ∧ (∃ t, t ≤ 9 ∧ σ.1 46 b = nn t) ∧ ∃ s, aR A 700 i 0 = some s ∧ NmT A σ a0 b s
def CTv (A : AH) (σ : mSt) (a0 w key μ cd : Nat) : Prop := (aR A key a0 0 = none ∧ σ.1 49 w = -1) ∨ ∃ v g cs s, aR A key a0 0 = some v ∧ VR 24 false μ A (fun i => a0 ≤ i) v g ∧ Den false μ cs g ∧ σ.1 49 w = nn s ∧ σ.1 50 w = nn (s + cs.length) ∧ s + cs.length ≤ cd ∧ ∀ i c, cs[i]? = some c → σ.1 51 (s + i) = c
def CTt (A : AH) (σ : mSt) (a0 cd : Nat) : Prop := (aR A 214 a0 0 = none ∧ σ.1 49 3 = -1) ∨ ∃ v g cs s, aR A 214 a0 0 = some v ∧ TR 24 16 false 63 A (fun i => a0 ≤ i) v g ∧ Den false 63 cs g ∧ σ.1 49 3 = nn s ∧ σ.1 50 3 = nn (s + cs.length) ∧ s + cs.length ≤ cd ∧ ∀ i c, cs[i]? = some c → σ.1 51 (s + i) = c
/-- an array of the folio -/
def ArT (A : AH) (a0 key d len : Nat) : Prop := aR A key a0 0 = some (a0 + d) ∧ aK A (a0 + d) = 31 ∧ aL A (a0 + d) = len
/-- the folio a0 is read: L leaves, C cells, g glosses, w worms, nb beings, cd codes -/
def FT_1 (A : AH) (σ : mSt) (a0 L C g w nb cd ar : Nat) (be : List Nat) : Prop :=
  (aK A a0 = 2) ∧
  (1101 ≤ a0) ∧
  (a0 + 7 ≤ CB) ∧
  (aI A 201 a0 0 = nn L) ∧
  (σ.1 40 0 = nn L) ∧
  (aI A 202 a0 0 = nn C) ∧
  (σ.1 40 1 = nn C) ∧
  (aI A 203 a0 0 = nn g)
def FT_2 (A : AH) (σ : mSt) (a0 L C g w nb cd ar : Nat) (be : List Nat) : Prop :=
  (σ.1 41 2 = nn g) ∧
  (aI A 204 a0 0 = nn w) ∧
  (σ.1 41 1 = nn w) ∧
  (σ.1 41 0 = nn nb) ∧
  (aI A 205 a0 0 = σ.1 47 0) ∧
  (1 ≤ L ∧ L ≤ 6) ∧
  (2 ≤ C ∧ C ≤ 8) ∧
  (g ≤ 20)
def FT_3 (A : AH) (σ : mSt) (a0 L C g w nb cd ar : Nat) (be : List Nat) : Prop :=
  (w ≤ 12) ∧
  (nb ≤ 8) ∧
  (ArT A a0 206 1 6) ∧
  (∀ l, l < 6 → aI A 31 (a0 + 1) l = σ.1 43 l ∧ ∃ v, v < 256 ∧ σ.1 43 l = nn v) ∧
  (ArT A a0 207 2 12) ∧
  (ArT A a0 208 3 12) ∧
  (ArT A a0 209 4 12) ∧
  (∀ x, x < w → aI A 31 (a0 + 2) x = σ.1 44 (3 * x) ∧ aI A 31 (a0 + 3) x = σ.1 44 (3 * x + 1) ∧ aI A 31 (a0 + 4) x = σ.1 44 (3 * x + 2))
def FT_4 (A : AH) (σ : mSt) (a0 L C g w nb cd ar : Nat) (be : List Nat) : Prop :=
  (aR A 210 a0 0 = some (a0 + 5)) ∧
  (LX A (a0 + 5) ar be) ∧
  (a0 ≤ ar) ∧
  (be.length = nb) ∧
  (∀ b i, be[b]? = some i → BeT A σ a0 L C b i) ∧
  (∀ b l, b < nb → l < 6 → σ.1 45 (2 * b) = nn l → ¬ bitOf (σ.1 43 l) (σ.1 45 (2 * b + 1))) ∧
  (∀ x y, x < nb → y < nb → σ.1 45 (2 * x) = σ.1 45 (2 * y) → σ.1 45 (2 * x + 1) = σ.1 45 (2 * y + 1) → x = y) ∧
  (CTv A σ a0 0 211 1 cd)
def FT_5 (A : AH) (σ : mSt) (a0 L C g w nb cd ar : Nat) (be : List Nat) : Prop :=
  (CTv A σ a0 1 212 63 cd) ∧
  (CTv A σ a0 2 213 127 cd) ∧
  (CTt A σ a0 cd) ∧
  (σ.1 52 0 = nn cd) ∧
  (cd ≤ 1600)
def FT (A : AH) (σ : mSt) (a0 L C g w nb cd ar : Nat) (be : List Nat) : Prop := FT_1 A σ a0 L C g w nb cd ar be ∧ FT_2 A σ a0 L C g w nb cd ar be ∧ FT_3 A σ a0 L C g w nb cd ar be ∧ FT_4 A σ a0 L C g w nb cd ar be ∧ FT_5 A σ a0 L C g w nb cd ar be
theorem FT.g_1 {A : AH} {σ : mSt} {a0 L C g w nb cd ar : Nat} {be : List Nat} (h : FT A σ a0 L C g w nb cd ar be) : FT_1 A σ a0 L C g w nb cd ar be := h.1
theorem FT_1.k {A : AH} {σ : mSt} {a0 L C g w nb cd ar : Nat} {be : List Nat} (h : FT_1 A σ a0 L C g w nb cd ar be) : aK A a0 = 2 := h.1
theorem FT.k {A : AH} {σ : mSt} {a0 L C g w nb cd ar : Nat} {be : List Nat} (h : FT A σ a0 L C g w nb cd ar be) : aK A a0 = 2 := FT_1.k (FT.g_1 h)
theorem FT_1.a1 {A : AH} {σ : mSt} {a0 L C g w nb cd ar : Nat} {be : List Nat} (h : FT_1 A σ a0 L C g w nb cd ar be) : 1101 ≤ a0 := h.2.1
theorem FT.a1 {A : AH} {σ : mSt} {a0 L C g w nb cd ar : Nat} {be : List Nat} (h : FT A σ a0 L C g w nb cd ar be) : 1101 ≤ a0 := FT_1.a1 (FT.g_1 h)
theorem FT_1.a2 {A : AH} {σ : mSt} {a0 L C g w nb cd ar : Nat} {be : List Nat} (h : FT_1 A σ a0 L C g w nb cd ar be) : a0 + 7 ≤ CB := h.2.2.1
theorem FT.a2 {A : AH} {σ : mSt} {a0 L C g w nb cd ar : Nat} {be : List Nat} (h : FT A σ a0 L C g w nb cd ar be) : a0 + 7 ≤ CB := FT_1.a2 (FT.g_1 h)
theorem FT_1.lv {A : AH} {σ : mSt} {a0 L C g w nb cd ar : Nat} {be : List Nat} (h : FT_1 A σ a0 L C g w nb cd ar be) : aI A 201 a0 0 = nn L := h.2.2.2.1
theorem FT.lv {A : AH} {σ : mSt} {a0 L C g w nb cd ar : Nat} {be : List Nat} (h : FT A σ a0 L C g w nb cd ar be) : aI A 201 a0 0 = nn L := FT_1.lv (FT.g_1 h)
theorem FT_1.lvm {A : AH} {σ : mSt} {a0 L C g w nb cd ar : Nat} {be : List Nat} (h : FT_1 A σ a0 L C g w nb cd ar be) : σ.1 40 0 = nn L := h.2.2.2.2.1
theorem FT.lvm {A : AH} {σ : mSt} {a0 L C g w nb cd ar : Nat} {be : List Nat} (h : FT A σ a0 L C g w nb cd ar be) : σ.1 40 0 = nn L := FT_1.lvm (FT.g_1 h)
theorem FT_1.ce {A : AH} {σ : mSt} {a0 L C g w nb cd ar : Nat} {be : List Nat} (h : FT_1 A σ a0 L C g w nb cd ar be) : aI A 202 a0 0 = nn C := h.2.2.2.2.2.1
theorem FT.ce {A : AH} {σ : mSt} {a0 L C g w nb cd ar : Nat} {be : List Nat} (h : FT A σ a0 L C g w nb cd ar be) : aI A 202 a0 0 = nn C := FT_1.ce (FT.g_1 h)
theorem FT_1.cem {A : AH} {σ : mSt} {a0 L C g w nb cd ar : Nat} {be : List Nat} (h : FT_1 A σ a0 L C g w nb cd ar be) : σ.1 40 1 = nn C := h.2.2.2.2.2.2.1
theorem FT.cem {A : AH} {σ : mSt} {a0 L C g w nb cd ar : Nat} {be : List Nat} (h : FT A σ a0 L C g w nb cd ar be) : σ.1 40 1 = nn C := FT_1.cem (FT.g_1 h)
theorem FT_1.gm {A : AH} {σ : mSt} {a0 L C g w nb cd ar : Nat} {be : List Nat} (h : FT_1 A σ a0 L C g w nb cd ar be) : aI A 203 a0 0 = nn g := h.2.2.2.2.2.2.2
theorem FT.gm {A : AH} {σ : mSt} {a0 L C g w nb cd ar : Nat} {be : List Nat} (h : FT A σ a0 L C g w nb cd ar be) : aI A 203 a0 0 = nn g := FT_1.gm (FT.g_1 h)
theorem FT.g_2 {A : AH} {σ : mSt} {a0 L C g w nb cd ar : Nat} {be : List Nat} (h : FT A σ a0 L C g w nb cd ar be) : FT_2 A σ a0 L C g w nb cd ar be := h.2.1
theorem FT_2.gmm {A : AH} {σ : mSt} {a0 L C g w nb cd ar : Nat} {be : List Nat} (h : FT_2 A σ a0 L C g w nb cd ar be) : σ.1 41 2 = nn g := h.1
theorem FT.gmm {A : AH} {σ : mSt} {a0 L C g w nb cd ar : Nat} {be : List Nat} (h : FT A σ a0 L C g w nb cd ar be) : σ.1 41 2 = nn g := FT_2.gmm (FT.g_2 h)
theorem FT_2.wm {A : AH} {σ : mSt} {a0 L C g w nb cd ar : Nat} {be : List Nat} (h : FT_2 A σ a0 L C g w nb cd ar be) : aI A 204 a0 0 = nn w := h.2.1
theorem FT.wm {A : AH} {σ : mSt} {a0 L C g w nb cd ar : Nat} {be : List Nat} (h : FT A σ a0 L C g w nb cd ar be) : aI A 204 a0 0 = nn w := FT_2.wm (FT.g_2 h)
theorem FT_2.wmm {A : AH} {σ : mSt} {a0 L C g w nb cd ar : Nat} {be : List Nat} (h : FT_2 A σ a0 L C g w nb cd ar be) : σ.1 41 1 = nn w := h.2.2.1
theorem FT.wmm {A : AH} {σ : mSt} {a0 L C g w nb cd ar : Nat} {be : List Nat} (h : FT A σ a0 L C g w nb cd ar be) : σ.1 41 1 = nn w := FT_2.wmm (FT.g_2 h)
theorem FT_2.nbm {A : AH} {σ : mSt} {a0 L C g w nb cd ar : Nat} {be : List Nat} (h : FT_2 A σ a0 L C g w nb cd ar be) : σ.1 41 0 = nn nb := h.2.2.2.1
theorem FT.nbm {A : AH} {σ : mSt} {a0 L C g w nb cd ar : Nat} {be : List Nat} (h : FT A σ a0 L C g w nb cd ar be) : σ.1 41 0 = nn nb := FT_2.nbm (FT.g_2 h)
theorem FT_2.th {A : AH} {σ : mSt} {a0 L C g w nb cd ar : Nat} {be : List Nat} (h : FT_2 A σ a0 L C g w nb cd ar be) : aI A 205 a0 0 = σ.1 47 0 := h.2.2.2.2.1
theorem FT.th {A : AH} {σ : mSt} {a0 L C g w nb cd ar : Nat} {be : List Nat} (h : FT A σ a0 L C g w nb cd ar be) : aI A 205 a0 0 = σ.1 47 0 := FT_2.th (FT.g_2 h)
theorem FT_2.bL {A : AH} {σ : mSt} {a0 L C g w nb cd ar : Nat} {be : List Nat} (h : FT_2 A σ a0 L C g w nb cd ar be) : 1 ≤ L ∧ L ≤ 6 := h.2.2.2.2.2.1
theorem FT.bL {A : AH} {σ : mSt} {a0 L C g w nb cd ar : Nat} {be : List Nat} (h : FT A σ a0 L C g w nb cd ar be) : 1 ≤ L ∧ L ≤ 6 := FT_2.bL (FT.g_2 h)
theorem FT_2.bC {A : AH} {σ : mSt} {a0 L C g w nb cd ar : Nat} {be : List Nat} (h : FT_2 A σ a0 L C g w nb cd ar be) : 2 ≤ C ∧ C ≤ 8 := h.2.2.2.2.2.2.1
theorem FT.bC {A : AH} {σ : mSt} {a0 L C g w nb cd ar : Nat} {be : List Nat} (h : FT A σ a0 L C g w nb cd ar be) : 2 ≤ C ∧ C ≤ 8 := FT_2.bC (FT.g_2 h)
theorem FT_2.bg {A : AH} {σ : mSt} {a0 L C g w nb cd ar : Nat} {be : List Nat} (h : FT_2 A σ a0 L C g w nb cd ar be) : g ≤ 20 := h.2.2.2.2.2.2.2
theorem FT.bg {A : AH} {σ : mSt} {a0 L C g w nb cd ar : Nat} {be : List Nat} (h : FT A σ a0 L C g w nb cd ar be) : g ≤ 20 := FT_2.bg (FT.g_2 h)
theorem FT.g_3 {A : AH} {σ : mSt} {a0 L C g w nb cd ar : Nat} {be : List Nat} (h : FT A σ a0 L C g w nb cd ar be) : FT_3 A σ a0 L C g w nb cd ar be := h.2.2.1
theorem FT_3.bw {A : AH} {σ : mSt} {a0 L C g w nb cd ar : Nat} {be : List Nat} (h : FT_3 A σ a0 L C g w nb cd ar be) : w ≤ 12 := h.1
theorem FT.bw {A : AH} {σ : mSt} {a0 L C g w nb cd ar : Nat} {be : List Nat} (h : FT A σ a0 L C g w nb cd ar be) : w ≤ 12 := FT_3.bw (FT.g_3 h)
theorem FT_3.bn {A : AH} {σ : mSt} {a0 L C g w nb cd ar : Nat} {be : List Nat} (h : FT_3 A σ a0 L C g w nb cd ar be) : nb ≤ 8 := h.2.1
theorem FT.bn {A : AH} {σ : mSt} {a0 L C g w nb cd ar : Nat} {be : List Nat} (h : FT A σ a0 L C g w nb cd ar be) : nb ≤ 8 := FT_3.bn (FT.g_3 h)
theorem FT_3.gl {A : AH} {σ : mSt} {a0 L C g w nb cd ar : Nat} {be : List Nat} (h : FT_3 A σ a0 L C g w nb cd ar be) : ArT A a0 206 1 6 := h.2.2.1
theorem FT.gl {A : AH} {σ : mSt} {a0 L C g w nb cd ar : Nat} {be : List Nat} (h : FT A σ a0 L C g w nb cd ar be) : ArT A a0 206 1 6 := FT_3.gl (FT.g_3 h)
theorem FT_3.glv {A : AH} {σ : mSt} {a0 L C g w nb cd ar : Nat} {be : List Nat} (h : FT_3 A σ a0 L C g w nb cd ar be) : ∀ l, l < 6 → aI A 31 (a0 + 1) l = σ.1 43 l ∧ ∃ v, v < 256 ∧ σ.1 43 l = nn v := h.2.2.2.1
theorem FT.glv {A : AH} {σ : mSt} {a0 L C g w nb cd ar : Nat} {be : List Nat} (h : FT A σ a0 L C g w nb cd ar be) : ∀ l, l < 6 → aI A 31 (a0 + 1) l = σ.1 43 l ∧ ∃ v, v < 256 ∧ σ.1 43 l = nn v := FT_3.glv (FT.g_3 h)
theorem FT_3.wf {A : AH} {σ : mSt} {a0 L C g w nb cd ar : Nat} {be : List Nat} (h : FT_3 A σ a0 L C g w nb cd ar be) : ArT A a0 207 2 12 := h.2.2.2.2.1
theorem FT.wf {A : AH} {σ : mSt} {a0 L C g w nb cd ar : Nat} {be : List Nat} (h : FT A σ a0 L C g w nb cd ar be) : ArT A a0 207 2 12 := FT_3.wf (FT.g_3 h)
theorem FT_3.wt {A : AH} {σ : mSt} {a0 L C g w nb cd ar : Nat} {be : List Nat} (h : FT_3 A σ a0 L C g w nb cd ar be) : ArT A a0 208 3 12 := h.2.2.2.2.2.1
theorem FT.wt {A : AH} {σ : mSt} {a0 L C g w nb cd ar : Nat} {be : List Nat} (h : FT A σ a0 L C g w nb cd ar be) : ArT A a0 208 3 12 := FT_3.wt (FT.g_3 h)
theorem FT_3.wc {A : AH} {σ : mSt} {a0 L C g w nb cd ar : Nat} {be : List Nat} (h : FT_3 A σ a0 L C g w nb cd ar be) : ArT A a0 209 4 12 := h.2.2.2.2.2.2.1
theorem FT.wc {A : AH} {σ : mSt} {a0 L C g w nb cd ar : Nat} {be : List Nat} (h : FT A σ a0 L C g w nb cd ar be) : ArT A a0 209 4 12 := FT_3.wc (FT.g_3 h)
theorem FT_3.wv {A : AH} {σ : mSt} {a0 L C g w nb cd ar : Nat} {be : List Nat} (h : FT_3 A σ a0 L C g w nb cd ar be) : ∀ x, x < w → aI A 31 (a0 + 2) x = σ.1 44 (3 * x) ∧ aI A 31 (a0 + 3) x = σ.1 44 (3 * x + 1) ∧ aI A 31 (a0 + 4) x = σ.1 44 (3 * x + 2) := h.2.2.2.2.2.2.2
theorem FT.wv {A : AH} {σ : mSt} {a0 L C g w nb cd ar : Nat} {be : List Nat} (h : FT A σ a0 L C g w nb cd ar be) : ∀ x, x < w → aI A 31 (a0 + 2) x = σ.1 44 (3 * x) ∧ aI A 31 (a0 + 3) x = σ.1 44 (3 * x + 1) ∧ aI A 31 (a0 + 4) x = σ.1 44 (3 * x + 2) := FT_3.wv (FT.g_3 h)
theorem FT.g_4 {A : AH} {σ : mSt} {a0 L C g w nb cd ar : Nat} {be : List Nat} (h : FT A σ a0 L C g w nb cd ar be) : FT_4 A σ a0 L C g w nb cd ar be := h.2.2.2.1
theorem FT_4.bel {A : AH} {σ : mSt} {a0 L C g w nb cd ar : Nat} {be : List Nat} (h : FT_4 A σ a0 L C g w nb cd ar be) : aR A 210 a0 0 = some (a0 + 5) := h.1
theorem FT.bel {A : AH} {σ : mSt} {a0 L C g w nb cd ar : Nat} {be : List Nat} (h : FT A σ a0 L C g w nb cd ar be) : aR A 210 a0 0 = some (a0 + 5) := FT_4.bel (FT.g_4 h)
theorem FT_4.lx {A : AH} {σ : mSt} {a0 L C g w nb cd ar : Nat} {be : List Nat} (h : FT_4 A σ a0 L C g w nb cd ar be) : LX A (a0 + 5) ar be := h.2.1
theorem FT.lx {A : AH} {σ : mSt} {a0 L C g w nb cd ar : Nat} {be : List Nat} (h : FT A σ a0 L C g w nb cd ar be) : LX A (a0 + 5) ar be := FT_4.lx (FT.g_4 h)
theorem FT_4.lar {A : AH} {σ : mSt} {a0 L C g w nb cd ar : Nat} {be : List Nat} (h : FT_4 A σ a0 L C g w nb cd ar be) : a0 ≤ ar := h.2.2.1
theorem FT.lar {A : AH} {σ : mSt} {a0 L C g w nb cd ar : Nat} {be : List Nat} (h : FT A σ a0 L C g w nb cd ar be) : a0 ≤ ar := FT_4.lar (FT.g_4 h)
theorem FT_4.bl {A : AH} {σ : mSt} {a0 L C g w nb cd ar : Nat} {be : List Nat} (h : FT_4 A σ a0 L C g w nb cd ar be) : be.length = nb := h.2.2.2.1
theorem FT.bl {A : AH} {σ : mSt} {a0 L C g w nb cd ar : Nat} {be : List Nat} (h : FT A σ a0 L C g w nb cd ar be) : be.length = nb := FT_4.bl (FT.g_4 h)
theorem FT_4.bi {A : AH} {σ : mSt} {a0 L C g w nb cd ar : Nat} {be : List Nat} (h : FT_4 A σ a0 L C g w nb cd ar be) : ∀ b i, be[b]? = some i → BeT A σ a0 L C b i := h.2.2.2.2.1
theorem FT.bi {A : AH} {σ : mSt} {a0 L C g w nb cd ar : Nat} {be : List Nat} (h : FT A σ a0 L C g w nb cd ar be) : ∀ b i, be[b]? = some i → BeT A σ a0 L C b i := FT_4.bi (FT.g_4 h)
theorem FT_4.og {A : AH} {σ : mSt} {a0 L C g w nb cd ar : Nat} {be : List Nat} (h : FT_4 A σ a0 L C g w nb cd ar be) : ∀ b l, b < nb → l < 6 → σ.1 45 (2 * b) = nn l → ¬ bitOf (σ.1 43 l) (σ.1 45 (2 * b + 1)) := h.2.2.2.2.2.1
theorem FT.og {A : AH} {σ : mSt} {a0 L C g w nb cd ar : Nat} {be : List Nat} (h : FT A σ a0 L C g w nb cd ar be) : ∀ b l, b < nb → l < 6 → σ.1 45 (2 * b) = nn l → ¬ bitOf (σ.1 43 l) (σ.1 45 (2 * b + 1)) := FT_4.og (FT.g_4 h)
theorem FT_4.di {A : AH} {σ : mSt} {a0 L C g w nb cd ar : Nat} {be : List Nat} (h : FT_4 A σ a0 L C g w nb cd ar be) : ∀ x y, x < nb → y < nb → σ.1 45 (2 * x) = σ.1 45 (2 * y) → σ.1 45 (2 * x + 1) = σ.1 45 (2 * y + 1) → x = y := h.2.2.2.2.2.2.1
theorem FT.di {A : AH} {σ : mSt} {a0 L C g w nb cd ar : Nat} {be : List Nat} (h : FT A σ a0 L C g w nb cd ar be) : ∀ x y, x < nb → y < nb → σ.1 45 (2 * x) = σ.1 45 (2 * y) → σ.1 45 (2 * x + 1) = σ.1 45 (2 * y + 1) → x = y := FT_4.di (FT.g_4 h)
theorem FT_4.op {A : AH} {σ : mSt} {a0 L C g w nb cd ar : Nat} {be : List Nat} (h : FT_4 A σ a0 L C g w nb cd ar be) : CTv A σ a0 0 211 1 cd := h.2.2.2.2.2.2.2
theorem FT.op {A : AH} {σ : mSt} {a0 L C g w nb cd ar : Nat} {be : List Nat} (h : FT A σ a0 L C g w nb cd ar be) : CTv A σ a0 0 211 1 cd := FT_4.op (FT.g_4 h)
theorem FT.g_5 {A : AH} {σ : mSt} {a0 L C g w nb cd ar : Nat} {be : List Nat} (h : FT A σ a0 L C g w nb cd ar be) : FT_5 A σ a0 L C g w nb cd ar be := h.2.2.2.2
theorem FT_5.co {A : AH} {σ : mSt} {a0 L C g w nb cd ar : Nat} {be : List Nat} (h : FT_5 A σ a0 L C g w nb cd ar be) : CTv A σ a0 1 212 63 cd := h.1
theorem FT.co {A : AH} {σ : mSt} {a0 L C g w nb cd ar : Nat} {be : List Nat} (h : FT A σ a0 L C g w nb cd ar be) : CTv A σ a0 1 212 63 cd := FT_5.co (FT.g_5 h)
theorem FT_5.to_ {A : AH} {σ : mSt} {a0 L C g w nb cd ar : Nat} {be : List Nat} (h : FT_5 A σ a0 L C g w nb cd ar be) : CTv A σ a0 2 213 127 cd := h.2.1
theorem FT.to_ {A : AH} {σ : mSt} {a0 L C g w nb cd ar : Nat} {be : List Nat} (h : FT A σ a0 L C g w nb cd ar be) : CTv A σ a0 2 213 127 cd := FT_5.to_ (FT.g_5 h)
theorem FT_5.st {A : AH} {σ : mSt} {a0 L C g w nb cd ar : Nat} {be : List Nat} (h : FT_5 A σ a0 L C g w nb cd ar be) : CTt A σ a0 cd := h.2.2.1
theorem FT.st {A : AH} {σ : mSt} {a0 L C g w nb cd ar : Nat} {be : List Nat} (h : FT A σ a0 L C g w nb cd ar be) : CTt A σ a0 cd := FT_5.st (FT.g_5 h)
theorem FT_5.cdm {A : AH} {σ : mSt} {a0 L C g w nb cd ar : Nat} {be : List Nat} (h : FT_5 A σ a0 L C g w nb cd ar be) : σ.1 52 0 = nn cd := h.2.2.2.1
theorem FT.cdm {A : AH} {σ : mSt} {a0 L C g w nb cd ar : Nat} {be : List Nat} (h : FT A σ a0 L C g w nb cd ar be) : σ.1 52 0 = nn cd := FT_5.cdm (FT.g_5 h)
theorem FT_5.bcd {A : AH} {σ : mSt} {a0 L C g w nb cd ar : Nat} {be : List Nat} (h : FT_5 A σ a0 L C g w nb cd ar be) : cd ≤ 1600 := h.2.2.2.2
theorem FT.bcd {A : AH} {σ : mSt} {a0 L C g w nb cd ar : Nat} {be : List Nat} (h : FT A σ a0 L C g w nb cd ar be) : cd ≤ 1600 := FT_5.bcd (FT.g_5 h)
theorem FT.mk {A : AH} {σ : mSt} {a0 L C g w nb cd ar : Nat} {be : List Nat} (h_k : aK A a0 = 2) (h_a1 : 1101 ≤ a0) (h_a2 : a0 + 7 ≤ CB) (h_lv : aI A 201 a0 0 = nn L) (h_lvm : σ.1 40 0 = nn L) (h_ce : aI A 202 a0 0 = nn C) (h_cem : σ.1 40 1 = nn C) (h_gm : aI A 203 a0 0 = nn g) (h_gmm : σ.1 41 2 = nn g) (h_wm : aI A 204 a0 0 = nn w) (h_wmm : σ.1 41 1 = nn w) (h_nbm : σ.1 41 0 = nn nb) (h_th : aI A 205 a0 0 = σ.1 47 0) (h_bL : 1 ≤ L ∧ L ≤ 6) (h_bC : 2 ≤ C ∧ C ≤ 8) (h_bg : g ≤ 20) (h_bw : w ≤ 12) (h_bn : nb ≤ 8) (h_gl : ArT A a0 206 1 6) (h_glv : ∀ l, l < 6 → aI A 31 (a0 + 1) l = σ.1 43 l ∧ ∃ v, v < 256 ∧ σ.1 43 l = nn v) (h_wf : ArT A a0 207 2 12) (h_wt : ArT A a0 208 3 12) (h_wc : ArT A a0 209 4 12) (h_wv : ∀ x, x < w → aI A 31 (a0 + 2) x = σ.1 44 (3 * x) ∧ aI A 31 (a0 + 3) x = σ.1 44 (3 * x + 1) ∧ aI A 31 (a0 + 4) x = σ.1 44 (3 * x + 2)) (h_bel : aR A 210 a0 0 = some (a0 + 5)) (h_lx : LX A (a0 + 5) ar be) (h_lar : a0 ≤ ar) (h_bl : be.length = nb) (h_bi : ∀ b i, be[b]? = some i → BeT A σ a0 L C b i) (h_og : ∀ b l, b < nb → l < 6 → σ.1 45 (2 * b) = nn l → ¬ bitOf (σ.1 43 l) (σ.1 45 (2 * b + 1))) (h_di : ∀ x y, x < nb → y < nb → σ.1 45 (2 * x) = σ.1 45 (2 * y) → σ.1 45 (2 * x + 1) = σ.1 45 (2 * y + 1) → x = y) (h_op : CTv A σ a0 0 211 1 cd) (h_co : CTv A σ a0 1 212 63 cd) (h_to_ : CTv A σ a0 2 213 127 cd) (h_st : CTt A σ a0 cd) (h_cdm : σ.1 52 0 = nn cd) (h_bcd : cd ≤ 1600) : FT A σ a0 L C g w nb cd ar be := ⟨⟨h_k, h_a1, h_a2, h_lv, h_lvm, h_ce, h_cem, h_gm⟩, ⟨h_gmm, h_wm, h_wmm, h_nbm, h_th, h_bL, h_bC, h_bg⟩, ⟨h_bw, h_bn, h_gl, h_glv, h_wf, h_wt, h_wc, h_wv⟩, ⟨h_bel, h_lx, h_lar, h_bl, h_bi, h_og, h_di, h_op⟩, ⟨h_co, h_to_, h_st, h_cdm, h_bcd⟩⟩
/-- the fields of the reference that FT tells of -/
def Kf (k : Nat) : Prop := (40 ≤ k ∧ k ≤ 47) ∨ (49 ≤ k ∧ k ≤ 52)
section
variable {A A' : AH} {σ σ' : mSt} {a0 L C g w nb cd ar c s : Nat} {be : List Nat} {P : Nat → Nat → Prop}
theorem NmT.ex {b x : Nat} (h : NmT A σ a0 b x) (e : Ex P c s A A') (hp : ∀ f i, a0 ≤ i → ¬ P f i) (h2 : σ'.2 42 b = σ.2 42 b) : NmT A' σ' a0 b x := by
  obtain ⟨cs, ar, h0, h1, h3, h4, h5, h6, h7, h8, h9⟩ := h
  have k : aK A x ≠ 0 := by rw [h1.1]; decide
  refine ⟨cs, ar, h0, h1.ex e (fun f i _ hi => ?_), (e.R _ k (hp _ _ h0)).trans h3, h4, e.K h5 (by decide), h6, h7, h8, h2.trans h9⟩
  rcases hi with hi | hi
  · rw [hi]; exact hp f x h0
  · rw [h3] at hi; cases hi; exact hp f ar h4
theorem BeT.ex {b i : Nat} (h : BeT A σ a0 L C b i) (e : Ex P c s A A') (hp : ∀ f i, a0 ≤ i → ¬ P f i) (m45 : ∀ j, j ≤ 2 * b + 1 → σ'.1 45 j = σ.1 45 j) (m46 : σ'.1 46 b = σ.1 46 b) (m42 : σ'.2 42 b = σ.2 42 b) : BeT A' σ' a0 L C b i := by
  obtain ⟨h1, h2, h3, h4, h5, h6, h7, h8, x, h9, h10⟩ := h
  have k : aK A i ≠ 0 := by rw [h2]; decide
  refine ⟨h1, e.K h2 (by decide), ?_, ?_, ?_, ?_, ?_, ?_, x, (e.R _ k (hp _ _ h1)).trans h9, h10.ex e hp m42⟩
  · rw [e.I _ k (hp _ _ h1), m45 _ (by omega)]; exact h3
  · rw [e.I _ k (hp _ _ h1), m45 _ (by omega)]; exact h4
  · rw [e.I _ k (hp _ _ h1), m46]; exact h5
  · rw [m45 _ (by omega)]; exact h6
  · rw [m45 _ (by omega)]; exact h7
  · rw [m46]; exact h8
theorem CTv.ex {x key μ cd' : Nat} (h : CTv A σ a0 x key μ cd) (e : Ex P c s A A') (hr : aR A' key a0 0 = aR A key a0 0) (hp : ∀ f i, a0 ≤ i → aK A i ≠ 0 → ¬ P f i) (m49 : σ'.1 49 x = σ.1 49 x) (m50 : σ'.1 50 x = σ.1 50 x) (m51 : ∀ j, j < cd → σ'.1 51 j = σ.1 51 j) (hc : cd ≤ cd') : CTv A' σ' a0 x key μ cd' := by
  rcases h with ⟨h1, h2⟩ | ⟨v, g, cs, s, h1, h2, h3, h4, h5, h6, h7⟩
  · exact Or.inl ⟨hr.trans h1, m49.trans h2⟩
  · refine Or.inr ⟨v, g, cs, s, hr.trans h1, h2.ex e (fun f i hi hk => hp f i hi hk) (fun i hi _ => hi), h3, m49.trans h4, m50.trans h5, by omega, fun i c hi => ?_⟩
    have := (List.getElem?_eq_some_iff.mp hi).1
    rw [m51 _ (by omega)]; exact h7 i c hi
theorem CTt.ex {cd' : Nat} (h : CTt A σ a0 cd) (e : Ex P c s A A') (hr : aR A' 214 a0 0 = aR A 214 a0 0) (hp : ∀ f i, a0 ≤ i → aK A i ≠ 0 → ¬ P f i) (m49 : σ'.1 49 3 = σ.1 49 3) (m50 : σ'.1 50 3 = σ.1 50 3) (m51 : ∀ j, j < cd → σ'.1 51 j = σ.1 51 j) (hc : cd ≤ cd') : CTt A' σ' a0 cd' := by
  rcases h with ⟨h1, h2⟩ | ⟨v, g, cs, s, h1, h2, h3, h4, h5, h6, h7⟩
  · exact Or.inl ⟨hr.trans h1, m49.trans h2⟩
  · refine Or.inr ⟨v, g, cs, s, hr.trans h1, h2.ex e (fun f i hi hk => hp f i hi hk) (fun i hi _ => hi), h3, m49.trans h4, m50.trans h5, by omega, fun i c hi => ?_⟩
    have := (List.getElem?_eq_some_iff.mp hi).1
    rw [m51 _ (by omega)]; exact h7 i c hi
theorem ArT.ex {key d len : Nat} (hk : aK A a0 = 2) (h : ArT A a0 key d len) (e : Ex P c s A A') (hp : ¬ P key a0) : ArT A' a0 key d len := by
  obtain ⟨h1, h2, h3⟩ := h
  exact ⟨(e.R _ (by rw [hk]; decide) hp).trans h1, e.K h2 (by decide), (e.L (by rw [h2]; decide)).trans h3⟩
/-- nothing of it is touched -/
theorem FT.ex (h : FT A σ a0 L C g w nb cd ar be) (e : Ex P c s A A') (hp : ∀ f i, a0 ≤ i → ¬ P f i) (m : Cm Kn σ σ') : FT A' σ' a0 L C g w nb cd ar be := by
  have k0 : aK A a0 ≠ 0 := by rw [h.k]; decide
  have p0 : ∀ f, ¬ P f a0 := fun f => hp f a0 (Nat.le_refl _)
  have n : ∀ k, 40 ≤ k → k ≤ 54 → ¬ Kn k := fun k h1 h2 z => by unfold Kn Kl at z; omega
  have m40 : ∀ j, σ'.1 40 j = σ.1 40 j := fun j => m.I j (n 40 (by decide) (by decide))
  have m41 : ∀ j, σ'.1 41 j = σ.1 41 j := fun j => m.I j (n 41 (by decide) (by decide))
  have m43 : ∀ j, σ'.1 43 j = σ.1 43 j := fun j => m.I j (n 43 (by decide) (by decide))
  have m44 : ∀ j, σ'.1 44 j = σ.1 44 j := fun j => m.I j (n 44 (by decide) (by decide))
  have m45 : ∀ j, σ'.1 45 j = σ.1 45 j := fun j => m.I j (n 45 (by decide) (by decide))
  have m46 : ∀ j, σ'.1 46 j = σ.1 46 j := fun j => m.I j (n 46 (by decide) (by decide))
  have m47 : ∀ j, σ'.1 47 j = σ.1 47 j := fun j => m.I j (n 47 (by decide) (by decide))
  have m49 : ∀ j, σ'.1 49 j = σ.1 49 j := fun j => m.I j (n 49 (by decide) (by decide))
  have m50 : ∀ j, σ'.1 50 j = σ.1 50 j := fun j => m.I j (n 50 (by decide) (by decide))
  have m51 : ∀ j, σ'.1 51 j = σ.1 51 j := fun j => m.I j (n 51 (by decide) (by decide))
  have m52 : ∀ j, σ'.1 52 j = σ.1 52 j := fun j => m.I j (n 52 (by decide) (by decide))
  have j42 : ∀ j, σ'.2 42 j = σ.2 42 j := fun j => m.J j (n 42 (by decide) (by decide))
  have e0 : ∀ f j, aI A' f a0 j = aI A f a0 j := fun f j => e.I j k0 (p0 f)
  have r0 : ∀ f j, aR A' f a0 j = aR A f a0 j := fun f j => e.R j k0 (p0 f)
  have ea : ∀ {key d len}, ArT A a0 key d len → ∀ f j, aI A' f (a0 + d) j = aI A f (a0 + d) j := fun h f j => e.I j (by rw [h.2.1]; decide) (hp f _ (Nat.le_add_right _ _))
  have hp' : ∀ f i, a0 ≤ i → aK A i ≠ 0 → ¬ P f i := fun f i hi _ => hp f i hi
  have z1 := h.gl.ex h.k e (p0 _)
  have z2 := h.wf.ex h.k e (p0 _)
  have z3 := h.wt.ex h.k e (p0 _)
  have z4 := h.wc.ex h.k e (p0 _)
  have z5 := h.lx.ex e (fun f => hp f _ (Nat.le_add_right _ _)) (fun f => hp f _ h.lar)
  have z6 : ∀ b i, be[b]? = some i → BeT A' σ' a0 L C b i := fun b i hi => (h.bi b i hi).ex e hp (fun j _ => m45 j) (m46 b) (j42 b)
  have z7 := h.op.ex e (r0 211 0) hp' (m49 0) (m50 0) (fun j _ => m51 j) (Nat.le_refl cd)
  have z8 := h.co.ex e (r0 212 0) hp' (m49 1) (m50 1) (fun j _ => m51 j) (Nat.le_refl cd)
  have z9 := h.to_.ex e (r0 213 0) hp' (m49 2) (m50 2) (fun j _ => m51 j) (Nat.le_refl cd)
  have z10 := h.st.ex e (r0 214 0) hp' (m49 3) (m50 3) (fun j _ => m51 j) (Nat.le_refl cd)
  refine FT.mk (e.K h.k (by decide)) h.a1 h.a2 ((e0 _ _).trans h.lv) ((m40 _).trans h.lvm) ((e0 _ _).trans h.ce) ((m40 _).trans h.cem) ((e0 _ _).trans h.gm) ((m41 _).trans h.gmm) ((e0 _ _).trans h.wm) ((m41 _).trans h.wmm) ((m41 _).trans h.nbm) ?_ h.bL h.bC h.bg h.bw h.bn z1 (fun l hl => ?_) z2 z3 z4 (fun x hx => ?_) ((r0 _ _).trans h.bel) z5 h.lar h.bl z6 (fun b l hb hl => ?_) (fun x y hx hy => ?_) z7 z8 z9 z10 ((m52 _).trans h.cdm) h.bcd
  · rw [e0, m47]; exact h.th
  · rw [ea h.gl, m43]; exact h.glv l hl
  · rw [ea h.wf, ea h.wt, ea h.wc, m44, m44, m44]; exact h.wv x hx
  · rw [m45, m43, m45]; exact h.og b l hb hl
  · rw [m45, m45, m45, m45]; exact h.di x y hx hy
theorem rp_hi (h : 1101 ≤ a0) : ∀ f i, a0 ≤ i → ¬ RP f i := fun f i hi z => by unfold RP at z; omega
end
