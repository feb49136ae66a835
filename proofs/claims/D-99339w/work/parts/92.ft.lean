/-! PURE LEVEL: the folio that is being read, on both sides -/
set_option maxRecDepth 100000
def Cg (K : Nat → Nat → Prop) (σ σ' : mSt) : Prop := ∀ k j, ¬ K k j → σ'.1 k j = σ.1 k j ∧ σ'.2 k j = σ.2 k j
theorem Cg.refl {K : Nat → Nat → Prop} (σ : mSt) : Cg K σ σ := fun _ _ _ => ⟨rfl, rfl⟩
theorem Cg.trans {K : Nat → Nat → Prop} {σ σ1 σ2 : mSt} (h : Cg K σ σ1) (g : Cg K σ1 σ2) : Cg K σ σ2 := fun k j hk => ⟨(g k j hk).1.trans (h k j hk).1, (g k j hk).2.trans (h k j hk).2⟩
theorem Cg.mono {K L : Nat → Nat → Prop} {σ σ1 : mSt} (h : Cg K σ σ1) (g : ∀ k j, K k j → L k j) : Cg L σ σ1 := fun k j hk => h k j (fun q => hk (g k j q))
theorem Cg.UI {K : Nat → Nat → Prop} {σ : mSt} {k i : Nat} {v : Int32} (h : K k i) : Cg K σ (mUI σ k i v) := by
  intro a j ha
  refine ⟨?_, rfl⟩
  rw [mI_UI, if_neg]
  rintro ⟨rfl, rfl⟩
  exact ha h
theorem Cg.UJ {K : Nat → Nat → Prop} {σ : mSt} {k i : Nat} {v : Int64} (h : K k i) : Cg K σ (mUJ σ k i v) := by
  intro a j ha
  refine ⟨rfl, ?_⟩
  rw [mJ_UJ, if_neg]
  rintro ⟨rfl, rfl⟩
  exact ha h
theorem Cg.I {K : Nat → Nat → Prop} {σ σ' : mSt} (h : Cg K σ σ') {k j : Nat} (hk : ¬ K k j) : σ'.1 k j = σ.1 k j := (h k j hk).1
theorem Cg.J {K : Nat → Nat → Prop} {σ σ' : mSt} (h : Cg K σ σ') {k j : Nat} (hk : ¬ K k j) : σ'.2 k j = σ.2 k j := (h k j hk).2
theorem Cm.cg {Q : Nat → Prop} {K : Nat → Nat → Prop} {σ σ' : mSt} (h : Cm Q σ σ') (d : ∀ k j, Q k → K k j) : Cg K σ σ' := fun k j hk => h k j (fun q => hk (d k j q))
/-- what the reading of a folio may write -/
def kall (k : Nat) : Bool := (decide (2 ≤ k) && decide (k ≤ 6)) || k == 10 || k == 39 || k == 43 || k == 45 || k == 47 || k == 52 || k == 53 || k == 55 || (decide (94 ≤ k) && decide (k ≤ 99))
def khalf (k : Nat) : Nat := if k = 40 then 2 else if k = 41 then 3 else if k = 42 then 8 else if k = 44 then 36 else if k = 46 then 8 else if k = 49 then 4 else if k = 50 then 4 else if k = 51 then 1600 else 0
def Kt (k j : Nat) : Prop := kall k = true ∨ j < khalf k
theorem Kt_no {k j t : Nat} (h1 : kall k = false) (h2 : khalf k = t) (h : t ≤ j) : ¬ Kt k j := by
  rintro (z | z)
  · rw [h1] at z; cases z
  · omega
theorem Kl_Kt {k j : Nat} (z : Kl k) : Kt k j := by
  rcases z with rfl | rfl | rfl | rfl | rfl <;> exact Or.inl rfl
theorem Kw_Kt {k j : Nat} (z : Kw k) : Kt k j := by
  have e : ∀ k, k < 100 → 94 ≤ k → kall k = true := by decide
  exact Or.inl (e k (by unfold Kw at z; omega) z.1)
theorem Kq_Kt {k j : Nat} (z : Kq k) : Kt k j := by
  rcases z with z | z
  · exact Kl_Kt z
  · exact Kw_Kt (by unfold Kw; omega)
theorem Kn_Kt {k j : Nat} (z : Kn k) : Kt k j := by
  rcases z with z | rfl
  · exact Kl_Kt z
  · exact Or.inl rfl
theorem Kt_wd : ∀ k, isWd k → ∀ j, ¬ Kt k j := by
  intro k hk j
  have e : ∀ k, k < 94 → (11 ≤ k ∧ k ≤ 38) ∨ (72 ≤ k ∧ k ≤ 93) → kall k = false ∧ khalf k = 0 := by decide
  obtain ⟨e1, e2⟩ := e k (by unfold isWd at hk; omega) hk
  exact Kt_no e1 e2 (Nat.zero_le _)
theorem Cm.nt {σ σ' : mSt} (h : Cm Kn σ σ') : Cg Kt σ σ' := h.cg (fun _ _ z => Kn_Kt z)
theorem Cm.lt {σ σ' : mSt} (h : Cm Kl σ σ') : Cg Kt σ σ' := h.cg (fun _ _ z => Kl_Kt z)
theorem Cm.qt {σ σ' : mSt} (h : Cm Kq σ σ') : Cg Kt σ σ' := h.cg (fun _ _ z => Kq_Kt z)
theorem Cm.ln {σ σ' : mSt} (h : Cm Kl σ σ') : Cm Kn σ σ' := h.mono (fun _ z => Or.inl z)
/-- the name of a being, b-th of those read -/
def NmT (A : AH) (σ : mSt) (a0 b s : Nat) : Prop := ∃ cs ar : _, a0 ≤ s ∧ StR A s cs ∧ aR A 1900 s 0 = some ar ∧ a0 ≤ ar ∧ aK A ar = 33 ∧ 1 ≤ cs.length ∧ cs.length ≤ 6 ∧ (∀ c ∈ cs, isLet c) ∧ σ.2 42 b = num27 cs
def BeT (A : AH) (σ : mSt) (a0 L C b i : Nat) : Prop := a0 ≤ i ∧ aK A i = 7 ∧ aI A 701 i 0 = σ.1 45 (2 * b) ∧ aI A 702 i 0 = σ.1 45 (2 * b + 1) ∧ aI A 703 i 0 = σ.1 46 b ∧ (∃ l, l < L ∧ σ.1 45 (2 * b) = nn l) ∧ (∃ c, c < C ∧ σ.1 45 (2 * b + 1) = nn c) ∧ (∃ t, t ≤ 9 ∧ σ.1 46 b = nn t) ∧ ∃ s, aR A 700 i 0 = some s ∧ NmT A σ a0 b s
/-- where the values of the folio may lie -/
def ownV (a0 ar i : Nat) : Prop := a0 + 7 ≤ i ∧ i ≠ ar
def CTv (A : AH) (σ : mSt) (a0 ar w key μ cd : Nat) : Prop := (aR A key a0 0 = none ∧ σ.1 49 w = -1) ∨ ∃ v g cs s, aR A key a0 0 = some v ∧ VR 24 false μ A (ownV a0 ar) v g ∧ Den false μ cs g ∧ σ.1 49 w = nn s ∧ σ.1 50 w = nn (s + cs.length) ∧ s + cs.length ≤ cd ∧ ∀ i c, cs[i]? = some c → σ.1 51 (s + i) = c
def CTt (A : AH) (σ : mSt) (a0 ar cd : Nat) : Prop := (aR A 214 a0 0 = none ∧ σ.1 49 3 = -1) ∨ ∃ v g cs s, aR A 214 a0 0 = some v ∧ TR 24 16 false 63 A (ownV a0 ar) v g ∧ Den false 63 cs g ∧ σ.1 49 3 = nn s ∧ σ.1 50 3 = nn (s + cs.length) ∧ s + cs.length ≤ cd ∧ ∀ i c, cs[i]? = some c → σ.1 51 (s + i) = c
/-- an array of the folio -/
def ArT (A : AH) (a0 key d len : Nat) : Prop := aR A key a0 0 = some (a0 + d) ∧ aK A (a0 + d) = 31 ∧ aL A (a0 + d) = len
/-- the folio a0 is read: L leaves, C cells .. -/
def FH (A : AH) (σ : mSt) (a0 L C : Nat) : Prop :=
  (aK A a0 = 2) ∧
  (1101 ≤ a0) ∧
  (a0 + 7 ≤ CB) ∧
  (aI A 201 a0 0 = nn L) ∧
  (σ.1 40 0 = nn L) ∧
  (aI A 202 a0 0 = nn C) ∧
  (σ.1 40 1 = nn C) ∧
  (1 ≤ L ∧ L ≤ 6) ∧
  (2 ≤ C ∧ C ≤ 8)
theorem FH.k {A : AH} {σ : mSt} {a0 L C : Nat} (h : FH A σ a0 L C) : aK A a0 = 2 := h.1
theorem FH.a1 {A : AH} {σ : mSt} {a0 L C : Nat} (h : FH A σ a0 L C) : 1101 ≤ a0 := h.2.1
theorem FH.a2 {A : AH} {σ : mSt} {a0 L C : Nat} (h : FH A σ a0 L C) : a0 + 7 ≤ CB := h.2.2.1
theorem FH.lv {A : AH} {σ : mSt} {a0 L C : Nat} (h : FH A σ a0 L C) : aI A 201 a0 0 = nn L := h.2.2.2.1
theorem FH.lvm {A : AH} {σ : mSt} {a0 L C : Nat} (h : FH A σ a0 L C) : σ.1 40 0 = nn L := h.2.2.2.2.1
theorem FH.ce {A : AH} {σ : mSt} {a0 L C : Nat} (h : FH A σ a0 L C) : aI A 202 a0 0 = nn C := h.2.2.2.2.2.1
theorem FH.cem {A : AH} {σ : mSt} {a0 L C : Nat} (h : FH A σ a0 L C) : σ.1 40 1 = nn C := h.2.2.2.2.2.2.1
theorem FH.bL {A : AH} {σ : mSt} {a0 L C : Nat} (h : FH A σ a0 L C) : 1 ≤ L ∧ L ≤ 6 := h.2.2.2.2.2.2.2.1
theorem FH.bC {A : AH} {σ : mSt} {a0 L C : Nat} (h : FH A σ a0 L C) : 2 ≤ C ∧ C ≤ 8 := h.2.2.2.2.2.2.2.2
theorem FH.mk {A : AH} {σ : mSt} {a0 L C : Nat} (h_k : aK A a0 = 2) (h_a1 : 1101 ≤ a0) (h_a2 : a0 + 7 ≤ CB) (h_lv : aI A 201 a0 0 = nn L) (h_lvm : σ.1 40 0 = nn L) (h_ce : aI A 202 a0 0 = nn C) (h_cem : σ.1 40 1 = nn C) (h_bL : 1 ≤ L ∧ L ≤ 6) (h_bC : 2 ≤ C ∧ C ≤ 8) : FH A σ a0 L C := ⟨h_k, h_a1, h_a2, h_lv, h_lvm, h_ce, h_cem, h_bL, h_bC⟩
/-- .. g glosses .. -/
def FG (A : AH) (σ : mSt) (a0 g : Nat) : Prop :=
  (aI A 203 a0 0 = nn g) ∧
  (σ.1 41 2 = nn g) ∧
  (g ≤ 20) ∧
  (ArT A a0 206 1 6) ∧
  (∀ l, l < 6 → aI A 31 (a0 + 1) l = σ.1 43 l ∧ ∃ v, v < 256 ∧ σ.1 43 l = nn v)
theorem FG.gm {A : AH} {σ : mSt} {a0 g : Nat} (h : FG A σ a0 g) : aI A 203 a0 0 = nn g := h.1
theorem FG.gmm {A : AH} {σ : mSt} {a0 g : Nat} (h : FG A σ a0 g) : σ.1 41 2 = nn g := h.2.1
theorem FG.bg {A : AH} {σ : mSt} {a0 g : Nat} (h : FG A σ a0 g) : g ≤ 20 := h.2.2.1
theorem FG.gl {A : AH} {σ : mSt} {a0 g : Nat} (h : FG A σ a0 g) : ArT A a0 206 1 6 := h.2.2.2.1
theorem FG.glv {A : AH} {σ : mSt} {a0 g : Nat} (h : FG A σ a0 g) : ∀ l, l < 6 → aI A 31 (a0 + 1) l = σ.1 43 l ∧ ∃ v, v < 256 ∧ σ.1 43 l = nn v := h.2.2.2.2
theorem FG.mk {A : AH} {σ : mSt} {a0 g : Nat} (h_gm : aI A 203 a0 0 = nn g) (h_gmm : σ.1 41 2 = nn g) (h_bg : g ≤ 20) (h_gl : ArT A a0 206 1 6) (h_glv : ∀ l, l < 6 → aI A 31 (a0 + 1) l = σ.1 43 l ∧ ∃ v, v < 256 ∧ σ.1 43 l = nn v) : FG A σ a0 g := ⟨h_gm, h_gmm, h_bg, h_gl, h_glv⟩
/-- .. w worms, the thumb .. -/
def FW (A : AH) (σ : mSt) (a0 w : Nat) : Prop :=
  (aI A 204 a0 0 = nn w) ∧
  (σ.1 41 1 = nn w) ∧
  (w ≤ 12) ∧
  (ArT A a0 207 2 12) ∧
  (ArT A a0 208 3 12) ∧
  (ArT A a0 209 4 12) ∧
  (∀ x, x < w → aI A 31 (a0 + 2) x = σ.1 44 (3 * x) ∧ aI A 31 (a0 + 3) x = σ.1 44 (3 * x + 1) ∧ aI A 31 (a0 + 4) x = σ.1 44 (3 * x + 2))
theorem FW.wm {A : AH} {σ : mSt} {a0 w : Nat} (h : FW A σ a0 w) : aI A 204 a0 0 = nn w := h.1
theorem FW.wmm {A : AH} {σ : mSt} {a0 w : Nat} (h : FW A σ a0 w) : σ.1 41 1 = nn w := h.2.1
theorem FW.bw {A : AH} {σ : mSt} {a0 w : Nat} (h : FW A σ a0 w) : w ≤ 12 := h.2.2.1
theorem FW.wf {A : AH} {σ : mSt} {a0 w : Nat} (h : FW A σ a0 w) : ArT A a0 207 2 12 := h.2.2.2.1
theorem FW.wt {A : AH} {σ : mSt} {a0 w : Nat} (h : FW A σ a0 w) : ArT A a0 208 3 12 := h.2.2.2.2.1
theorem FW.wc {A : AH} {σ : mSt} {a0 w : Nat} (h : FW A σ a0 w) : ArT A a0 209 4 12 := h.2.2.2.2.2.1
theorem FW.wv {A : AH} {σ : mSt} {a0 w : Nat} (h : FW A σ a0 w) : ∀ x, x < w → aI A 31 (a0 + 2) x = σ.1 44 (3 * x) ∧ aI A 31 (a0 + 3) x = σ.1 44 (3 * x + 1) ∧ aI A 31 (a0 + 4) x = σ.1 44 (3 * x + 2) := h.2.2.2.2.2.2
theorem FW.mk {A : AH} {σ : mSt} {a0 w : Nat} (h_wm : aI A 204 a0 0 = nn w) (h_wmm : σ.1 41 1 = nn w) (h_bw : w ≤ 12) (h_wf : ArT A a0 207 2 12) (h_wt : ArT A a0 208 3 12) (h_wc : ArT A a0 209 4 12) (h_wv : ∀ x, x < w → aI A 31 (a0 + 2) x = σ.1 44 (3 * x) ∧ aI A 31 (a0 + 3) x = σ.1 44 (3 * x + 1) ∧ aI A 31 (a0 + 4) x = σ.1 44 (3 * x + 2)) : FW A σ a0 w := ⟨h_wm, h_wmm, h_bw, h_wf, h_wt, h_wc, h_wv⟩
/-- .. nb beings .. -/
def FB (A : AH) (σ : mSt) (a0 L C nb ar : Nat) (be : List Nat) : Prop :=
  (σ.1 41 0 = nn nb) ∧
  (nb ≤ 8) ∧
  (aR A 210 a0 0 = some (a0 + 5)) ∧
  (LX A (a0 + 5) ar be) ∧
  (a0 + 6 ≤ ar) ∧
  (be.length = nb) ∧
  (∀ b i, be[b]? = some i → BeT A σ a0 L C b i) ∧
  (∀ x y, x < nb → y < nb → σ.1 45 (2 * x) = σ.1 45 (2 * y) → σ.1 45 (2 * x + 1) = σ.1 45 (2 * y + 1) → x = y)
theorem FB.nbm {A : AH} {σ : mSt} {a0 L C nb ar : Nat} {be : List Nat} (h : FB A σ a0 L C nb ar be) : σ.1 41 0 = nn nb := h.1
theorem FB.bn {A : AH} {σ : mSt} {a0 L C nb ar : Nat} {be : List Nat} (h : FB A σ a0 L C nb ar be) : nb ≤ 8 := h.2.1
theorem FB.bel {A : AH} {σ : mSt} {a0 L C nb ar : Nat} {be : List Nat} (h : FB A σ a0 L C nb ar be) : aR A 210 a0 0 = some (a0 + 5) := h.2.2.1
theorem FB.lx {A : AH} {σ : mSt} {a0 L C nb ar : Nat} {be : List Nat} (h : FB A σ a0 L C nb ar be) : LX A (a0 + 5) ar be := h.2.2.2.1
theorem FB.lar {A : AH} {σ : mSt} {a0 L C nb ar : Nat} {be : List Nat} (h : FB A σ a0 L C nb ar be) : a0 + 6 ≤ ar := h.2.2.2.2.1
theorem FB.bl {A : AH} {σ : mSt} {a0 L C nb ar : Nat} {be : List Nat} (h : FB A σ a0 L C nb ar be) : be.length = nb := h.2.2.2.2.2.1
theorem FB.bi {A : AH} {σ : mSt} {a0 L C nb ar : Nat} {be : List Nat} (h : FB A σ a0 L C nb ar be) : ∀ b i, be[b]? = some i → BeT A σ a0 L C b i := h.2.2.2.2.2.2.1
theorem FB.di {A : AH} {σ : mSt} {a0 L C nb ar : Nat} {be : List Nat} (h : FB A σ a0 L C nb ar be) : ∀ x y, x < nb → y < nb → σ.1 45 (2 * x) = σ.1 45 (2 * y) → σ.1 45 (2 * x + 1) = σ.1 45 (2 * y + 1) → x = y := h.2.2.2.2.2.2.2
theorem FB.mk {A : AH} {σ : mSt} {a0 L C nb ar : Nat} {be : List Nat} (h_nbm : σ.1 41 0 = nn nb) (h_bn : nb ≤ 8) (h_bel : aR A 210 a0 0 = some (a0 + 5)) (h_lx : LX A (a0 + 5) ar be) (h_lar : a0 + 6 ≤ ar) (h_bl : be.length = nb) (h_bi : ∀ b i, be[b]? = some i → BeT A σ a0 L C b i) (h_di : ∀ x y, x < nb → y < nb → σ.1 45 (2 * x) = σ.1 45 (2 * y) → σ.1 45 (2 * x + 1) = σ.1 45 (2 * y + 1) → x = y) : FB A σ a0 L C nb ar be := ⟨h_nbm, h_bn, h_bel, h_lx, h_lar, h_bl, h_bi, h_di⟩
def OGT (σ : mSt) (nb : Nat) : Prop := ∀ b l, b < nb → l < 6 → σ.1 45 (2 * b) = nn l → ¬ bitOf (σ.1 43 l) (σ.1 45 (2 * b + 1))
/-- .. cd codes -/
def FC (A : AH) (σ : mSt) (a0 ar cd : Nat) : Prop :=
  (CTv A σ a0 ar 0 211 1 cd) ∧
  (CTv A σ a0 ar 1 212 63 cd) ∧
  (CTv A σ a0 ar 2 213 127 cd) ∧
  (CTt A σ a0 ar cd) ∧
  (σ.1 52 0 = nn cd) ∧
  (cd ≤ 1600)
theorem FC.op {A : AH} {σ : mSt} {a0 ar cd : Nat} (h : FC A σ a0 ar cd) : CTv A σ a0 ar 0 211 1 cd := h.1
theorem FC.co {A : AH} {σ : mSt} {a0 ar cd : Nat} (h : FC A σ a0 ar cd) : CTv A σ a0 ar 1 212 63 cd := h.2.1
theorem FC.to_ {A : AH} {σ : mSt} {a0 ar cd : Nat} (h : FC A σ a0 ar cd) : CTv A σ a0 ar 2 213 127 cd := h.2.2.1
theorem FC.st {A : AH} {σ : mSt} {a0 ar cd : Nat} (h : FC A σ a0 ar cd) : CTt A σ a0 ar cd := h.2.2.2.1
theorem FC.cdm {A : AH} {σ : mSt} {a0 ar cd : Nat} (h : FC A σ a0 ar cd) : σ.1 52 0 = nn cd := h.2.2.2.2.1
theorem FC.bcd {A : AH} {σ : mSt} {a0 ar cd : Nat} (h : FC A σ a0 ar cd) : cd ≤ 1600 := h.2.2.2.2.2
theorem FC.mk {A : AH} {σ : mSt} {a0 ar cd : Nat} (h_op : CTv A σ a0 ar 0 211 1 cd) (h_co : CTv A σ a0 ar 1 212 63 cd) (h_to_ : CTv A σ a0 ar 2 213 127 cd) (h_st : CTt A σ a0 ar cd) (h_cdm : σ.1 52 0 = nn cd) (h_bcd : cd ≤ 1600) : FC A σ a0 ar cd := ⟨h_op, h_co, h_to_, h_st, h_cdm, h_bcd⟩
def FT (A : AH) (σ : mSt) (a0 L C g w nb cd ar : Nat) (be : List Nat) : Prop :=
  (FH A σ a0 L C) ∧
  (FG A σ a0 g) ∧
  (FW A σ a0 w) ∧
  (FB A σ a0 L C nb ar be) ∧
  (OGT σ nb) ∧
  (FC A σ a0 ar cd) ∧
  (aI A 205 a0 0 = σ.1 47 0)
theorem FT.fh {A : AH} {σ : mSt} {a0 L C g w nb cd ar : Nat} {be : List Nat} (h : FT A σ a0 L C g w nb cd ar be) : FH A σ a0 L C := h.1
theorem FT.fg {A : AH} {σ : mSt} {a0 L C g w nb cd ar : Nat} {be : List Nat} (h : FT A σ a0 L C g w nb cd ar be) : FG A σ a0 g := h.2.1
theorem FT.fw {A : AH} {σ : mSt} {a0 L C g w nb cd ar : Nat} {be : List Nat} (h : FT A σ a0 L C g w nb cd ar be) : FW A σ a0 w := h.2.2.1
theorem FT.fb {A : AH} {σ : mSt} {a0 L C g w nb cd ar : Nat} {be : List Nat} (h : FT A σ a0 L C g w nb cd ar be) : FB A σ a0 L C nb ar be := h.2.2.2.1
theorem FT.fo {A : AH} {σ : mSt} {a0 L C g w nb cd ar : Nat} {be : List Nat} (h : FT A σ a0 L C g w nb cd ar be) : OGT σ nb := h.2.2.2.2.1
theorem FT.fc {A : AH} {σ : mSt} {a0 L C g w nb cd ar : Nat} {be : List Nat} (h : FT A σ a0 L C g w nb cd ar be) : FC A σ a0 ar cd := h.2.2.2.2.2.1
theorem FT.th {A : AH} {σ : mSt} {a0 L C g w nb cd ar : Nat} {be : List Nat} (h : FT A σ a0 L C g w nb cd ar be) : aI A 205 a0 0 = σ.1 47 0 := h.2.2.2.2.2.2
theorem FT.mk {A : AH} {σ : mSt} {a0 L C g w nb cd ar : Nat} {be : List Nat} (h_fh : FH A σ a0 L C) (h_fg : FG A σ a0 g) (h_fw : FW A σ a0 w) (h_fb : FB A σ a0 L C nb ar be) (h_fo : OGT σ nb) (h_fc : FC A σ a0 ar cd) (h_th : aI A 205 a0 0 = σ.1 47 0) : FT A σ a0 L C g w nb cd ar be := ⟨h_fh, h_fg, h_fw, h_fb, h_fo, h_fc, h_th⟩
section
variable {A A' : AH} {σ σ' : mSt} {a0 L C g w nb cd ar c s : Nat} {be : List Nat} {P : Nat → Nat → Prop} {K : Nat → Nat → Prop}
theorem FT.k (h : FT A σ a0 L C g w nb cd ar be) : aK A a0 = 2 := FH.k h.fh
theorem FT.a1 (h : FT A σ a0 L C g w nb cd ar be) : 1101 ≤ a0 := FH.a1 h.fh
theorem FT.a2 (h : FT A σ a0 L C g w nb cd ar be) : a0 + 7 ≤ CB := FH.a2 h.fh
theorem FT.lv (h : FT A σ a0 L C g w nb cd ar be) : aI A 201 a0 0 = nn L := FH.lv h.fh
theorem FT.lvm (h : FT A σ a0 L C g w nb cd ar be) : σ.1 40 0 = nn L := FH.lvm h.fh
theorem FT.ce (h : FT A σ a0 L C g w nb cd ar be) : aI A 202 a0 0 = nn C := FH.ce h.fh
theorem FT.cem (h : FT A σ a0 L C g w nb cd ar be) : σ.1 40 1 = nn C := FH.cem h.fh
theorem FT.bL (h : FT A σ a0 L C g w nb cd ar be) : 1 ≤ L ∧ L ≤ 6 := FH.bL h.fh
theorem FT.bC (h : FT A σ a0 L C g w nb cd ar be) : 2 ≤ C ∧ C ≤ 8 := FH.bC h.fh
theorem FT.gm (h : FT A σ a0 L C g w nb cd ar be) : aI A 203 a0 0 = nn g := FG.gm h.fg
theorem FT.gmm (h : FT A σ a0 L C g w nb cd ar be) : σ.1 41 2 = nn g := FG.gmm h.fg
theorem FT.bg (h : FT A σ a0 L C g w nb cd ar be) : g ≤ 20 := FG.bg h.fg
theorem FT.gl (h : FT A σ a0 L C g w nb cd ar be) : ArT A a0 206 1 6 := FG.gl h.fg
theorem FT.glv (h : FT A σ a0 L C g w nb cd ar be) : ∀ l, l < 6 → aI A 31 (a0 + 1) l = σ.1 43 l ∧ ∃ v, v < 256 ∧ σ.1 43 l = nn v := FG.glv h.fg
theorem FT.wm (h : FT A σ a0 L C g w nb cd ar be) : aI A 204 a0 0 = nn w := FW.wm h.fw
theorem FT.wmm (h : FT A σ a0 L C g w nb cd ar be) : σ.1 41 1 = nn w := FW.wmm h.fw
theorem FT.bw (h : FT A σ a0 L C g w nb cd ar be) : w ≤ 12 := FW.bw h.fw
theorem FT.wf (h : FT A σ a0 L C g w nb cd ar be) : ArT A a0 207 2 12 := FW.wf h.fw
theorem FT.wt (h : FT A σ a0 L C g w nb cd ar be) : ArT A a0 208 3 12 := FW.wt h.fw
theorem FT.wc (h : FT A σ a0 L C g w nb cd ar be) : ArT A a0 209 4 12 := FW.wc h.fw
theorem FT.wv (h : FT A σ a0 L C g w nb cd ar be) : ∀ x, x < w → aI A 31 (a0 + 2) x = σ.1 44 (3 * x) ∧ aI A 31 (a0 + 3) x = σ.1 44 (3 * x + 1) ∧ aI A 31 (a0 + 4) x = σ.1 44 (3 * x + 2) := FW.wv h.fw
theorem FT.nbm (h : FT A σ a0 L C g w nb cd ar be) : σ.1 41 0 = nn nb := FB.nbm h.fb
theorem FT.bn (h : FT A σ a0 L C g w nb cd ar be) : nb ≤ 8 := FB.bn h.fb
theorem FT.bel (h : FT A σ a0 L C g w nb cd ar be) : aR A 210 a0 0 = some (a0 + 5) := FB.bel h.fb
theorem FT.lx (h : FT A σ a0 L C g w nb cd ar be) : LX A (a0 + 5) ar be := FB.lx h.fb
theorem FT.lar (h : FT A σ a0 L C g w nb cd ar be) : a0 + 6 ≤ ar := FB.lar h.fb
theorem FT.bl (h : FT A σ a0 L C g w nb cd ar be) : be.length = nb := FB.bl h.fb
theorem FT.bi (h : FT A σ a0 L C g w nb cd ar be) : ∀ b i, be[b]? = some i → BeT A σ a0 L C b i := FB.bi h.fb
theorem FT.di (h : FT A σ a0 L C g w nb cd ar be) : ∀ x y, x < nb → y < nb → σ.1 45 (2 * x) = σ.1 45 (2 * y) → σ.1 45 (2 * x + 1) = σ.1 45 (2 * y + 1) → x = y := FB.di h.fb
theorem FT.op (h : FT A σ a0 L C g w nb cd ar be) : CTv A σ a0 ar 0 211 1 cd := FC.op h.fc
theorem FT.co (h : FT A σ a0 L C g w nb cd ar be) : CTv A σ a0 ar 1 212 63 cd := FC.co h.fc
theorem FT.to_ (h : FT A σ a0 L C g w nb cd ar be) : CTv A σ a0 ar 2 213 127 cd := FC.to_ h.fc
theorem FT.st (h : FT A σ a0 L C g w nb cd ar be) : CTt A σ a0 ar cd := FC.st h.fc
theorem FT.cdm (h : FT A σ a0 L C g w nb cd ar be) : σ.1 52 0 = nn cd := FC.cdm h.fc
theorem FT.bcd (h : FT A σ a0 L C g w nb cd ar be) : cd ≤ 1600 := FC.bcd h.fc
/-- a being and its name are of these kinds -/
def isBN (k : Nat) : Prop := k = 7 ∨ k = 19 ∨ k = 33
theorem NmT.ex {b x : Nat} (h : NmT A σ a0 b x) (e : Ex P c s A A') (hp : ∀ f i, a0 ≤ i → isBN (aK A i) → ¬ P f i) (h2 : σ'.2 42 b = σ.2 42 b) : NmT A' σ' a0 b x := by
  obtain ⟨cs, ar, h0, h1, h3, h4, h5, h6, h7, h8, h9⟩ := h
  have k : aK A x ≠ 0 := by rw [h1.1]; decide
  have kx : isBN (aK A x) := Or.inr (Or.inl h1.1)
  have ka : isBN (aK A ar) := Or.inr (Or.inr h5)
  refine ⟨cs, ar, h0, h1.ex e (fun f i _ hi => ?_), (e.R _ k (hp _ _ h0 kx)).trans h3, h4, e.K h5 (by decide), h6, h7, h8, h2.trans h9⟩
  rcases hi with hi | hi
  · rw [hi]; exact hp f x h0 kx
  · rw [h3] at hi; cases hi; exact hp f ar h4 ka
theorem BeT.ex {b i : Nat} (h : BeT A σ a0 L C b i) (e : Ex P c s A A') (hp : ∀ f i, a0 ≤ i → isBN (aK A i) → ¬ P f i) (m45 : ∀ j, j ≤ 2 * b + 1 → σ'.1 45 j = σ.1 45 j) (m46 : σ'.1 46 b = σ.1 46 b) (m42 : σ'.2 42 b = σ.2 42 b) : BeT A' σ' a0 L C b i := by
  obtain ⟨h1, h2, h3, h4, h5, h6, h7, h8, x, h9, h10⟩ := h
  have k : aK A i ≠ 0 := by rw [h2]; decide
  have ki : isBN (aK A i) := Or.inl h2
  refine ⟨h1, e.K h2 (by decide), ?_, ?_, ?_, ?_, ?_, ?_, x, (e.R _ k (hp _ _ h1 ki)).trans h9, h10.ex e hp m42⟩
  · rw [e.I _ k (hp _ _ h1 ki), m45 _ (by omega)]; exact h3
  · rw [e.I _ k (hp _ _ h1 ki), m45 _ (by omega)]; exact h4
  · rw [e.I _ k (hp _ _ h1 ki), m46]; exact h5
  · rw [m45 _ (by omega)]; exact h6
  · rw [m45 _ (by omega)]; exact h7
  · rw [m46]; exact h8
theorem CTv.ex {x key μ cd' ar' : Nat} (h : CTv A σ a0 ar x key μ cd) (e : Ex P c s A A') (hr : aR A' key a0 0 = aR A key a0 0) (hp : ∀ f i, ownV a0 ar i → aK A i ≠ 0 → ¬ P f i) (hq : ∀ i, ownV a0 ar i → aK A i ≠ 0 → ownV a0 ar' i) (m49 : σ'.1 49 x = σ.1 49 x) (m50 : σ'.1 50 x = σ.1 50 x) (m51 : ∀ j, j < cd → σ'.1 51 j = σ.1 51 j) (hc : cd ≤ cd') : CTv A' σ' a0 ar' x key μ cd' := by
  rcases h with ⟨h1, h2⟩ | ⟨v, g, cs, s, h1, h2, h3, h4, h5, h6, h7⟩
  · exact Or.inl ⟨hr.trans h1, m49.trans h2⟩
  · refine Or.inr ⟨v, g, cs, s, hr.trans h1, h2.ex e hp hq, h3, m49.trans h4, m50.trans h5, by omega, fun i c hi => ?_⟩
    have := (List.getElem?_eq_some_iff.mp hi).1
    rw [m51 _ (by omega)]; exact h7 i c hi
theorem CTt.ex {cd' ar' : Nat} (h : CTt A σ a0 ar cd) (e : Ex P c s A A') (hr : aR A' 214 a0 0 = aR A 214 a0 0) (hp : ∀ f i, ownV a0 ar i → aK A i ≠ 0 → ¬ P f i) (hq : ∀ i, ownV a0 ar i → aK A i ≠ 0 → ownV a0 ar' i) (m49 : σ'.1 49 3 = σ.1 49 3) (m50 : σ'.1 50 3 = σ.1 50 3) (m51 : ∀ j, j < cd → σ'.1 51 j = σ.1 51 j) (hc : cd ≤ cd') : CTt A' σ' a0 ar' cd' := by
  rcases h with ⟨h1, h2⟩ | ⟨v, g, cs, s, h1, h2, h3, h4, h5, h6, h7⟩
  · exact Or.inl ⟨hr.trans h1, m49.trans h2⟩
  · refine Or.inr ⟨v, g, cs, s, hr.trans h1, h2.ex e hp hq, h3, m49.trans h4, m50.trans h5, by omega, fun i c hi => ?_⟩
    have := (List.getElem?_eq_some_iff.mp hi).1
    rw [m51 _ (by omega)]; exact h7 i c hi
theorem ArT.ex {key d len : Nat} (hk : aK A a0 = 2) (h : ArT A a0 key d len) (e : Ex P c s A A') (hp : ¬ P key a0) : ArT A' a0 key d len := by
  obtain ⟨h1, h2, h3⟩ := h
  exact ⟨(e.R _ (by rw [hk]; decide) hp).trans h1, e.K h2 (by decide), (e.L (by rw [h2]; decide)).trans h3⟩
theorem ArT.I {key d len f j : Nat} (h : ArT A a0 key d len) (e : Ex P c s A A') (hp : ¬ P f (a0 + d)) : aI A' f (a0 + d) j = aI A f (a0 + d) j := e.I j (by rw [h.2.1]; decide) hp
/-! what stays, part by part -/
theorem FH.ex (h : FH A σ a0 L C) (e : Ex P c s A A') (m : Cg K σ σ') (p1 : ¬ P 201 a0) (p2 : ¬ P 202 a0) (k1 : ¬ K 40 0) (k2 : ¬ K 40 1) : FH A' σ' a0 L C := by
  have k0 : aK A a0 ≠ 0 := by rw [h.k]; decide
  exact FH.mk (e.K h.k (by decide)) h.a1 h.a2 ((e.I _ k0 p1).trans h.lv) ((m.I k1).trans h.lvm) ((e.I _ k0 p2).trans h.ce) ((m.I k2).trans h.cem) h.bL h.bC
theorem FG.ex (h : FG A σ a0 g) (hk : aK A a0 = 2) (e : Ex P c s A A') (m : Cg K σ σ') (p1 : ¬ P 203 a0) (p2 : ¬ P 206 a0) (p3 : ¬ P 31 (a0 + 1)) (k1 : ¬ K 41 2) (k2 : ∀ l, l < 6 → ¬ K 43 l) : FG A' σ' a0 g := by
  have k0 : aK A a0 ≠ 0 := by rw [hk]; decide
  refine FG.mk ((e.I _ k0 p1).trans h.gm) ((m.I k1).trans h.gmm) h.bg (h.gl.ex hk e p2) (fun l hl => ?_)
  rw [h.gl.I e p3, m.I (k2 l hl)]; exact h.glv l hl
theorem FW.ex (h : FW A σ a0 w) (hk : aK A a0 = 2) (e : Ex P c s A A') (m : Cg K σ σ') (p1 : ¬ P 204 a0) (p2 : ∀ f, 207 ≤ f → f ≤ 209 → ¬ P f a0) (p3 : ∀ d, 2 ≤ d → d ≤ 4 → ¬ P 31 (a0 + d)) (k1 : ¬ K 41 1) (k2 : ∀ j, j < 36 → ¬ K 44 j) : FW A' σ' a0 w := by
  have k0 : aK A a0 ≠ 0 := by rw [hk]; decide
  have bw := h.bw
  refine FW.mk ((e.I _ k0 p1).trans h.wm) ((m.I k1).trans h.wmm) h.bw (h.wf.ex hk e (p2 _ (by decide) (by decide))) (h.wt.ex hk e (p2 _ (by decide) (by decide))) (h.wc.ex hk e (p2 _ (by decide) (by decide))) (fun x hx => ?_)
  rw [h.wf.I e (p3 _ (by decide) (by decide)), h.wt.I e (p3 _ (by decide) (by decide)), h.wc.I e (p3 _ (by decide) (by decide)), m.I (k2 _ (by omega)), m.I (k2 _ (by omega)), m.I (k2 _ (by omega))]; exact h.wv x hx
theorem FB.ex (h : FB A σ a0 L C nb ar be) (hk : aK A a0 = 2) (e : Ex P c s A A') (m : Cg K σ σ') (p1 : ¬ P 210 a0) (p2 : ∀ f, ¬ P f (a0 + 5)) (p3 : ∀ f, ¬ P f ar) (p4 : ∀ f i, a0 ≤ i → isBN (aK A i) → ¬ P f i) (k1 : ¬ K 41 0) (k2 : ∀ j, j < 16 → ¬ K 45 j) (k3 : ∀ j, j < 8 → ¬ K 46 j) (k4 : ∀ j, j < 8 → ¬ K 42 j) : FB A' σ' a0 L C nb ar be := by
  have k0 : aK A a0 ≠ 0 := by rw [hk]; decide
  have bn := h.bn
  have bl := h.bl
  refine FB.mk ((m.I k1).trans h.nbm) h.bn ((e.R _ k0 p1).trans h.bel) (h.lx.ex e p2 p3) h.lar h.bl (fun b i hi => ?_) (fun x y hx hy => ?_)
  · have hb := (List.getElem?_eq_some_iff.mp hi).1
    exact (h.bi b i hi).ex e p4 (fun j hj => m.I (k2 j (by omega))) (m.I (k3 b (by omega))) (m.J (k4 b (by omega)))
  · rw [m.I (k2 _ (by omega)), m.I (k2 _ (by omega)), m.I (k2 _ (by omega)), m.I (k2 _ (by omega))]; exact h.di x y hx hy
theorem OGT.ex (h : OGT σ nb) (bn : nb ≤ 8) (m : Cg K σ σ') (k1 : ∀ l, l < 6 → ¬ K 43 l) (k2 : ∀ j, j < 16 → ¬ K 45 j) : OGT σ' nb := by
  intro b l hb hl
  rw [m.I (k2 _ (by omega)), m.I (k2 _ (by omega)), m.I (k1 l hl)]; exact h b l hb hl
theorem FC.ex {ar' : Nat} (h : FC A σ a0 ar cd) (hk : aK A a0 = 2) (e : Ex P c s A A') (m : Cg K σ σ') (p1 : ∀ f, 211 ≤ f → f ≤ 214 → ¬ P f a0) (p2 : ∀ f i, ownV a0 ar i → aK A i ≠ 0 → ¬ P f i) (p3 : ∀ i, ownV a0 ar i → aK A i ≠ 0 → ownV a0 ar' i) (k1 : ∀ j, j < 4 → ¬ K 49 j) (k2 : ∀ j, j < 4 → ¬ K 50 j) (k3 : ∀ j, j < 1600 → ¬ K 51 j) (k4 : ¬ K 52 0) : FC A' σ' a0 ar' cd := by
  have k0 : aK A a0 ≠ 0 := by rw [hk]; decide
  have bcd := h.bcd
  have r0 : ∀ f, 211 ≤ f → f ≤ 214 → aR A' f a0 0 = aR A f a0 0 := fun f h1 h2 => e.R 0 k0 (p1 f h1 h2)
  have m51 : ∀ j, j < cd → σ'.1 51 j = σ.1 51 j := fun j hj => m.I (k3 j (by omega))
  exact FC.mk (h.op.ex e (r0 _ (by decide) (by decide)) p2 p3 (m.I (k1 _ (by decide))) (m.I (k2 _ (by decide))) m51 (Nat.le_refl _)) (h.co.ex e (r0 _ (by decide) (by decide)) p2 p3 (m.I (k1 _ (by decide))) (m.I (k2 _ (by decide))) m51 (Nat.le_refl _)) (h.to_.ex e (r0 _ (by decide) (by decide)) p2 p3 (m.I (k1 _ (by decide))) (m.I (k2 _ (by decide))) m51 (Nat.le_refl _)) (h.st.ex e (r0 _ (by decide) (by decide)) p2 p3 (m.I (k1 _ (by decide))) (m.I (k2 _ (by decide))) m51 (Nat.le_refl _)) ((m.I k4).trans h.cdm) h.bcd
/-- nothing of it is touched -/
theorem FT.ex (h : FT A σ a0 L C g w nb cd ar be) (e : Ex P c s A A') (hp : ∀ f i, a0 ≤ i → ¬ P f i) (m : Cm Kn σ σ') : FT A' σ' a0 L C g w nb cd ar be := by
  have n : ∀ k, 40 ≤ k → k ≤ 54 → ¬ Kn k := fun k h1 h2 z => by unfold Kn Kl at z; omega
  have m' : Cg (fun k _ => Kn k) σ σ' := m.cg (fun _ _ z => z)
  have lar := h.lar
  have p0 : ∀ f, ¬ P f a0 := fun f => hp f a0 (Nat.le_refl _)
  have pd : ∀ f d, ¬ P f (a0 + d) := fun f d => hp f _ (Nat.le_add_right _ _)
  have k0 : aK A a0 ≠ 0 := by rw [h.k]; decide
  refine FT.mk (h.fh.ex e m' (p0 _) (p0 _) (n _ (by decide) (by decide)) (n _ (by decide) (by decide))) (h.fg.ex h.k e m' (p0 _) (p0 _) (pd _ _) (n _ (by decide) (by decide)) (fun _ _ => n _ (by decide) (by decide))) (h.fw.ex h.k e m' (p0 _) (fun f _ _ => p0 f) (fun d _ _ => pd _ d) (n _ (by decide) (by decide)) (fun _ _ => n _ (by decide) (by decide))) (h.fb.ex h.k e m' (p0 _) (fun f => pd f _) (fun f => hp f _ (by omega)) (fun f i hi _ => hp f i hi) (n _ (by decide) (by decide)) (fun _ _ => n _ (by decide) (by decide)) (fun _ _ => n _ (by decide) (by decide)) (fun _ _ => n _ (by decide) (by decide))) (h.fo.ex h.bn m' (fun _ _ => n _ (by decide) (by decide)) (fun _ _ => n _ (by decide) (by decide))) (h.fc.ex h.k e m' (fun f _ _ => p0 f) (fun f i hi _ => hp f i (by unfold ownV at hi; omega)) (fun i hi _ => hi) (fun _ _ => n _ (by decide) (by decide)) (fun _ _ => n _ (by decide) (by decide)) (fun _ _ => n _ (by decide) (by decide)) (n _ (by decide) (by decide))) ?_
  rw [e.I _ k0 (p0 _), m'.I (n _ (by decide) (by decide))]; exact h.th
theorem rp_hi (h : 1101 ≤ a0) : ∀ f i, a0 ≤ i → ¬ RP f i := fun f i hi z => by unfold RP at z; omega
end
