/-! PURE LEVEL: the relation between calls -/
set_option maxRecDepth 100000
def sby (v : Nat) : Int32 := if v < 128 then nn v else nn v - 256
theorem sby_and : ∀ v, v < 256 → sby v &&& 255 = nn v := by decide +kernel
def IvT (A : AH) (σ : mSt) (t : Nat) : Prop :=
  (aI A 102 0 0 = nn t) ∧
  (σ.1 1 0 = nn t) ∧
  (t ≤ 1600) ∧
  (∀ j, j < 1600 → ∃ v, v < 256 ∧ σ.1 0 j = nn v ∧ aI A 33 8 j = sby v)
theorem IvT.a {A : AH} {σ : mSt} {t : Nat} (h : IvT A σ t) : aI A 102 0 0 = nn t := h.1
theorem IvT.m {A : AH} {σ : mSt} {t : Nat} (h : IvT A σ t) : σ.1 1 0 = nn t := h.2.1
theorem IvT.b {A : AH} {σ : mSt} {t : Nat} (h : IvT A σ t) : t ≤ 1600 := h.2.2.1
theorem IvT.by_ {A : AH} {σ : mSt} {t : Nat} (h : IvT A σ t) : ∀ j, j < 1600 → ∃ v, v < 256 ∧ σ.1 0 j = nn v ∧ aI A 33 8 j = sby v := h.2.2.2
theorem IvT.mk {A : AH} {σ : mSt} {t : Nat} (h_a : aI A 102 0 0 = nn t) (h_m : σ.1 1 0 = nn t) (h_b : t ≤ 1600) (h_by_ : ∀ j, j < 1600 → ∃ v, v < 256 ∧ σ.1 0 j = nn v ∧ aI A 33 8 j = sby v) : IvT A σ t := ⟨h_a, h_m, h_b, h_by_⟩
def IvS (A : AH) (σ : mSt) (nb m : Nat) : Prop :=
  (aI A 115 0 0 = nn m) ∧
  (σ.1 65 0 = nn m) ∧
  (m ≤ 16) ∧
  (∀ k, k < m → ∃ b c, b < nb ∧ c < 256 ∧ aI A 31 126 k = nn b ∧ aI A 31 127 k = nn c ∧ σ.1 66 (2 * k) = nn b ∧ σ.1 66 (2 * k + 1) = nn c)
theorem IvS.a {A : AH} {σ : mSt} {nb m : Nat} (h : IvS A σ nb m) : aI A 115 0 0 = nn m := h.1
theorem IvS.m_ {A : AH} {σ : mSt} {nb m : Nat} (h : IvS A σ nb m) : σ.1 65 0 = nn m := h.2.1
theorem IvS.b {A : AH} {σ : mSt} {nb m : Nat} (h : IvS A σ nb m) : m ≤ 16 := h.2.2.1
theorem IvS.r {A : AH} {σ : mSt} {nb m : Nat} (h : IvS A σ nb m) : ∀ k, k < m → ∃ b c, b < nb ∧ c < 256 ∧ aI A 31 126 k = nn b ∧ aI A 31 127 k = nn c ∧ σ.1 66 (2 * k) = nn b ∧ σ.1 66 (2 * k + 1) = nn c := h.2.2.2
theorem IvS.mk {A : AH} {σ : mSt} {nb m : Nat} (h_a : aI A 115 0 0 = nn m) (h_m_ : σ.1 65 0 = nn m) (h_b : m ≤ 16) (h_r : ∀ k, k < m → ∃ b c, b < nb ∧ c < 256 ∧ aI A 31 126 k = nn b ∧ aI A 31 127 k = nn c ∧ σ.1 66 (2 * k) = nn b ∧ σ.1 66 (2 * k + 1) = nn c) : IvS A σ nb m := ⟨h_a, h_m_, h_b, h_r⟩
def IvO (A : AH) (σ : mSt) (o : Nat) : Prop :=
  (aI A 124 0 0 = nn o) ∧
  (σ.1 105 0 = nn o) ∧
  (o ≤ 57) ∧
  (∀ j, j < o → (aI A 33 1100 j &&& 255) = σ.1 104 j)
theorem IvO.a {A : AH} {σ : mSt} {o : Nat} (h : IvO A σ o) : aI A 124 0 0 = nn o := h.1
theorem IvO.m {A : AH} {σ : mSt} {o : Nat} (h : IvO A σ o) : σ.1 105 0 = nn o := h.2.1
theorem IvO.b {A : AH} {σ : mSt} {o : Nat} (h : IvO A σ o) : o ≤ 57 := h.2.2.1
theorem IvO.r {A : AH} {σ : mSt} {o : Nat} (h : IvO A σ o) : ∀ j, j < o → (aI A 33 1100 j &&& 255) = σ.1 104 j := h.2.2.2
theorem IvO.mk {A : AH} {σ : mSt} {o : Nat} (h_a : aI A 124 0 0 = nn o) (h_m : σ.1 105 0 = nn o) (h_b : o ≤ 57) (h_r : ∀ j, j < o → (aI A 33 1100 j &&& 255) = σ.1 104 j) : IvO A σ o := ⟨h_a, h_m, h_b, h_r⟩
def IvH (A : AH) : Prop := ((aR A 111 0 0 = some 112 ∧ aR A 112 0 0 = some 119) ∨ (aR A 111 0 0 = some 119 ∧ aR A 112 0 0 = some 112)) ∧ (∀ l, l < 6 → aR A 37 112 l = some (113 + l) ∧ aR A 37 119 l = some (120 + l)) ∧ ∀ b, b < 8 → aR A 36 128 b = some (129 + b)
/-- the place in the ring of what is kept as the k-th of u, the newest lying at w -/
def rix (w u k : Nat) : Nat := (w + 21 + k - u) % 20
def krow (σ : mSt) (q : Nat) : Nat → Int32 := fun j => σ.1 68 (160 * q + j)
theorem rix_lt (w u k : Nat) : rix w u k < 20 := Nat.mod_lt _ (by decide)
def IvU (A : AH) (σ : mSt) (nb L C u w : Nat) (κ : Nat → Nat) : Prop :=
  (aI A 120 0 0 = nn u) ∧
  (σ.1 69 0 = nn u) ∧
  (u ≤ 20) ∧
  (σ.1 70 0 = nn w) ∧
  (w < 20) ∧
  (∀ k, k < 20 → aR A 38 139 k = some (κ k) ∧ isStb (κ k) = true ∧ 140 ≤ κ k) ∧
  (∀ j k, j < 20 → k < 20 → κ j = κ k → j = k) ∧
  (∀ k, k < 20 → ∃ n ρ, KR A (κ k) n ρ ∧ (k < u → KV A n ρ (krow σ (rix w u k)) ∧ SR A (κ k) (krow σ (rix w u k)) nb L C ∧ ∃ d, d ≤ 999 ∧ krow σ (rix w u k) 0 = nn d))
theorem IvU.un {A : AH} {σ : mSt} {nb L C u w : Nat} {κ : Nat → Nat} (h : IvU A σ nb L C u w κ) : aI A 120 0 0 = nn u := h.1
theorem IvU.um {A : AH} {σ : mSt} {nb L C u w : Nat} {κ : Nat → Nat} (h : IvU A σ nb L C u w κ) : σ.1 69 0 = nn u := h.2.1
theorem IvU.ub {A : AH} {σ : mSt} {nb L C u w : Nat} {κ : Nat → Nat} (h : IvU A σ nb L C u w κ) : u ≤ 20 := h.2.2.1
theorem IvU.wm {A : AH} {σ : mSt} {nb L C u w : Nat} {κ : Nat → Nat} (h : IvU A σ nb L C u w κ) : σ.1 70 0 = nn w := h.2.2.2.1
theorem IvU.wb {A : AH} {σ : mSt} {nb L C u w : Nat} {κ : Nat → Nat} (h : IvU A σ nb L C u w κ) : w < 20 := h.2.2.2.2.1
theorem IvU.kp {A : AH} {σ : mSt} {nb L C u w : Nat} {κ : Nat → Nat} (h : IvU A σ nb L C u w κ) : ∀ k, k < 20 → aR A 38 139 k = some (κ k) ∧ isStb (κ k) = true ∧ 140 ≤ κ k := h.2.2.2.2.2.1
theorem IvU.ki {A : AH} {σ : mSt} {nb L C u w : Nat} {κ : Nat → Nat} (h : IvU A σ nb L C u w κ) : ∀ j k, j < 20 → k < 20 → κ j = κ k → j = k := h.2.2.2.2.2.2.1
theorem IvU.kr {A : AH} {σ : mSt} {nb L C u w : Nat} {κ : Nat → Nat} (h : IvU A σ nb L C u w κ) : ∀ k, k < 20 → ∃ n ρ, KR A (κ k) n ρ ∧ (k < u → KV A n ρ (krow σ (rix w u k)) ∧ SR A (κ k) (krow σ (rix w u k)) nb L C ∧ ∃ d, d ≤ 999 ∧ krow σ (rix w u k) 0 = nn d) := h.2.2.2.2.2.2.2
theorem IvU.mk {A : AH} {σ : mSt} {nb L C u w : Nat} {κ : Nat → Nat} (h_un : aI A 120 0 0 = nn u) (h_um : σ.1 69 0 = nn u) (h_ub : u ≤ 20) (h_wm : σ.1 70 0 = nn w) (h_wb : w < 20) (h_kp : ∀ k, k < 20 → aR A 38 139 k = some (κ k) ∧ isStb (κ k) = true ∧ 140 ≤ κ k) (h_ki : ∀ j k, j < 20 → k < 20 → κ j = κ k → j = k) (h_kr : ∀ k, k < 20 → ∃ n ρ, KR A (κ k) n ρ ∧ (k < u → KV A n ρ (krow σ (rix w u k)) ∧ SR A (κ k) (krow σ (rix w u k)) nb L C ∧ ∃ d, d ≤ 999 ∧ krow σ (rix w u k) 0 = nn d)) : IvU A σ nb L C u w κ := ⟨h_un, h_um, h_ub, h_wm, h_wb, h_kp, h_ki, h_kr⟩
def wixL : List Nat := [28, 29, 30, 31, 32, 33, 24, 23, 22, 25, 26, 27, 13, 14, 15, 7, 16, 17, 18, 19, 20, 21]
def wix (k : Nat) : Nat := if k < 72 then k - 11 else wixL.getD (k - 72) 0
def isWd (k : Nat) : Prop := (11 ≤ k ∧ k ≤ 38) ∨ (72 ≤ k ∧ k ≤ 93)
/-- the letters of the reference's words -/
def WD (σ : mSt) : Prop := ∀ k, isWd k → ∀ j v, (ksL.getD (wix k) [])[j]? = some v → σ.1 k j = v
def IV (A : AH) (σ : mSt) (fo nb L C W n : Nat) (ρ : Nat → Nat) (u w : Nat) (κ : Nat → Nat) (t m o : Nat) : Prop :=
  (FR A σ fo nb L C W) ∧
  (KS A) ∧
  (MO A 11) ∧
  (MO A 13) ∧
  (SR A 16 (σ.1 56) nb L C) ∧
  (∃ d, d ≤ 999 ∧ σ.1 56 0 = nn d) ∧
  (KR A 16 n ρ) ∧
  (KV A n ρ (σ.1 56)) ∧
  (∃ n' ρ', KR A 64 n' ρ') ∧
  (σ.1 61 0 = 0) ∧
  (IvU A σ nb L C u w κ) ∧
  (IvT A σ t) ∧
  (aI A 103 0 0 = σ.1 7 0) ∧
  (aI A 104 0 0 = σ.1 8 0) ∧
  (∀ k, k < 6 → aI A 31 15 k = σ.1 9 k) ∧
  (IvS A σ nb m) ∧
  (∃ s, s < 2147483648 ∧ aJ A 121 0 0 = nl s ∧ σ.2 71 0 = nl s) ∧
  (IvO A σ o) ∧
  (IvH A) ∧
  (WD σ)
theorem IV.fr {A : AH} {σ : mSt} {fo nb L C W n : Nat} {ρ : Nat → Nat} {u w : Nat} {κ : Nat → Nat} {t m o : Nat} (h : IV A σ fo nb L C W n ρ u w κ t m o) : FR A σ fo nb L C W := h.1
theorem IV.ks {A : AH} {σ : mSt} {fo nb L C W n : Nat} {ρ : Nat → Nat} {u w : Nat} {κ : Nat → Nat} {t m o : Nat} (h : IV A σ fo nb L C W n ρ u w κ t m o) : KS A := h.2.1
theorem IV.m1 {A : AH} {σ : mSt} {fo nb L C W n : Nat} {ρ : Nat → Nat} {u w : Nat} {κ : Nat → Nat} {t m o : Nat} (h : IV A σ fo nb L C W n ρ u w κ t m o) : MO A 11 := h.2.2.1
theorem IV.m2 {A : AH} {σ : mSt} {fo nb L C W n : Nat} {ρ : Nat → Nat} {u w : Nat} {κ : Nat → Nat} {t m o : Nat} (h : IV A σ fo nb L C W n ρ u w κ t m o) : MO A 13 := h.2.2.2.1
theorem IV.st {A : AH} {σ : mSt} {fo nb L C W n : Nat} {ρ : Nat → Nat} {u w : Nat} {κ : Nat → Nat} {t m o : Nat} (h : IV A σ fo nb L C W n ρ u w κ t m o) : SR A 16 (σ.1 56) nb L C := h.2.2.2.2.1
theorem IV.d9 {A : AH} {σ : mSt} {fo nb L C W n : Nat} {ρ : Nat → Nat} {u w : Nat} {κ : Nat → Nat} {t m o : Nat} (h : IV A σ fo nb L C W n ρ u w κ t m o) : ∃ d, d ≤ 999 ∧ σ.1 56 0 = nn d := h.2.2.2.2.2.1
theorem IV.kr {A : AH} {σ : mSt} {fo nb L C W n : Nat} {ρ : Nat → Nat} {u w : Nat} {κ : Nat → Nat} {t m o : Nat} (h : IV A σ fo nb L C W n ρ u w κ t m o) : KR A 16 n ρ := h.2.2.2.2.2.2.1
theorem IV.kv {A : AH} {σ : mSt} {fo nb L C W n : Nat} {ρ : Nat → Nat} {u w : Nat} {κ : Nat → Nat} {t m o : Nat} (h : IV A σ fo nb L C W n ρ u w κ t m o) : KV A n ρ (σ.1 56) := h.2.2.2.2.2.2.2.1
theorem IV.kt {A : AH} {σ : mSt} {fo nb L C W n : Nat} {ρ : Nat → Nat} {u w : Nat} {κ : Nat → Nat} {t m o : Nat} (h : IV A σ fo nb L C W n ρ u w κ t m o) : ∃ n' ρ', KR A 64 n' ρ' := h.2.2.2.2.2.2.2.2.1
theorem IV.th {A : AH} {σ : mSt} {fo nb L C W n : Nat} {ρ : Nat → Nat} {u w : Nat} {κ : Nat → Nat} {t m o : Nat} (h : IV A σ fo nb L C W n ρ u w κ t m o) : σ.1 61 0 = 0 := h.2.2.2.2.2.2.2.2.2.1
theorem IV.un {A : AH} {σ : mSt} {fo nb L C W n : Nat} {ρ : Nat → Nat} {u w : Nat} {κ : Nat → Nat} {t m o : Nat} (h : IV A σ fo nb L C W n ρ u w κ t m o) : IvU A σ nb L C u w κ := h.2.2.2.2.2.2.2.2.2.2.1
theorem IV.tp {A : AH} {σ : mSt} {fo nb L C W n : Nat} {ρ : Nat → Nat} {u w : Nat} {κ : Nat → Nat} {t m o : Nat} (h : IV A σ fo nb L C W n ρ u w κ t m o) : IvT A σ t := h.2.2.2.2.2.2.2.2.2.2.2.1
theorem IV.fk {A : AH} {σ : mSt} {fo nb L C W n : Nat} {ρ : Nat → Nat} {u w : Nat} {κ : Nat → Nat} {t m o : Nat} (h : IV A σ fo nb L C W n ρ u w κ t m o) : aI A 103 0 0 = σ.1 7 0 := h.2.2.2.2.2.2.2.2.2.2.2.2.1
theorem IV.fp {A : AH} {σ : mSt} {fo nb L C W n : Nat} {ρ : Nat → Nat} {u w : Nat} {κ : Nat → Nat} {t m o : Nat} (h : IV A σ fo nb L C W n ρ u w κ t m o) : aI A 104 0 0 = σ.1 8 0 := h.2.2.2.2.2.2.2.2.2.2.2.2.2.1
theorem IV.rf {A : AH} {σ : mSt} {fo nb L C W n : Nat} {ρ : Nat → Nat} {u w : Nat} {κ : Nat → Nat} {t m o : Nat} (h : IV A σ fo nb L C W n ρ u w κ t m o) : ∀ k, k < 6 → aI A 31 15 k = σ.1 9 k := h.2.2.2.2.2.2.2.2.2.2.2.2.2.2.1
theorem IV.se {A : AH} {σ : mSt} {fo nb L C W n : Nat} {ρ : Nat → Nat} {u w : Nat} {κ : Nat → Nat} {t m o : Nat} (h : IV A σ fo nb L C W n ρ u w κ t m o) : IvS A σ nb m := h.2.2.2.2.2.2.2.2.2.2.2.2.2.2.2.1
theorem IV.sd {A : AH} {σ : mSt} {fo nb L C W n : Nat} {ρ : Nat → Nat} {u w : Nat} {κ : Nat → Nat} {t m o : Nat} (h : IV A σ fo nb L C W n ρ u w κ t m o) : ∃ s, s < 2147483648 ∧ aJ A 121 0 0 = nl s ∧ σ.2 71 0 = nl s := h.2.2.2.2.2.2.2.2.2.2.2.2.2.2.2.2.1
theorem IV.ou {A : AH} {σ : mSt} {fo nb L C W n : Nat} {ρ : Nat → Nat} {u w : Nat} {κ : Nat → Nat} {t m o : Nat} (h : IV A σ fo nb L C W n ρ u w κ t m o) : IvO A σ o := h.2.2.2.2.2.2.2.2.2.2.2.2.2.2.2.2.2.1
theorem IV.hn {A : AH} {σ : mSt} {fo nb L C W n : Nat} {ρ : Nat → Nat} {u w : Nat} {κ : Nat → Nat} {t m o : Nat} (h : IV A σ fo nb L C W n ρ u w κ t m o) : IvH A := h.2.2.2.2.2.2.2.2.2.2.2.2.2.2.2.2.2.2.1
theorem IV.wd {A : AH} {σ : mSt} {fo nb L C W n : Nat} {ρ : Nat → Nat} {u w : Nat} {κ : Nat → Nat} {t m o : Nat} (h : IV A σ fo nb L C W n ρ u w κ t m o) : WD σ := h.2.2.2.2.2.2.2.2.2.2.2.2.2.2.2.2.2.2.2
theorem IV.mk {A : AH} {σ : mSt} {fo nb L C W n : Nat} {ρ : Nat → Nat} {u w : Nat} {κ : Nat → Nat} {t m o : Nat} (h_fr : FR A σ fo nb L C W) (h_ks : KS A) (h_m1 : MO A 11) (h_m2 : MO A 13) (h_st : SR A 16 (σ.1 56) nb L C) (h_d9 : ∃ d, d ≤ 999 ∧ σ.1 56 0 = nn d) (h_kr : KR A 16 n ρ) (h_kv : KV A n ρ (σ.1 56)) (h_kt : ∃ n' ρ', KR A 64 n' ρ') (h_th : σ.1 61 0 = 0) (h_un : IvU A σ nb L C u w κ) (h_tp : IvT A σ t) (h_fk : aI A 103 0 0 = σ.1 7 0) (h_fp : aI A 104 0 0 = σ.1 8 0) (h_rf : ∀ k, k < 6 → aI A 31 15 k = σ.1 9 k) (h_se : IvS A σ nb m) (h_sd : ∃ s, s < 2147483648 ∧ aJ A 121 0 0 = nl s ∧ σ.2 71 0 = nl s) (h_ou : IvO A σ o) (h_hn : IvH A) (h_wd : WD σ) : IV A σ fo nb L C W n ρ u w κ t m o := ⟨h_fr, h_ks, h_m1, h_m2, h_st, h_d9, h_kr, h_kv, h_kt, h_th, h_un, h_tp, h_fk, h_fp, h_rf, h_se, h_sd, h_ou, h_hn, h_wd⟩
section SAM
variable {P : Nat → Nat → Prop} {K : Nat → Prop} {A A' : AH} {σ σ' : mSt}
theorem SR.ch {x : Nat} {f f' : Nat → Int32} {nb L C : Nat} (h : SR A x f nb L C) (c : Ch P A A') (p : ∀ g i, (g = 600 ∨ g = 31) → x ≤ i → i < x + 6 → ¬ P g i) (e : ∀ j, j < 39 → f' j = f j) (hn : nb ≤ 8) : SR A' x f' nb L C := by
  refine SR.mk ?_ ?_ ?_ ?_ ?_ ?_ ?_ ?_ ?_ ?_ ?_ ?_ ?_ (fun a' b' ha' hb' y1 y2 => by rw [e _ (by omega), e _ (by omega)] at y1 y2; exact h.di a' b' ha' hb' y1 y2)
  · rw [c.I _ (p _ _ (by omega) (by omega) (by omega)), e _ (by omega)]; exact h.day
  · rw [e _ (by omega)]; exact h.dayb
  · intro l hl; rw [c.I _ (p _ _ (by omega) (by omega) (by omega)), e _ (by omega)]; exact h.gl l hl
  · intro l hl; rw [e _ (by omega)]; exact h.glb l hl
  · intro l hl; rw [c.I _ (p _ _ (by omega) (by omega) (by omega)), e _ (by omega)]; exact h.lf l hl
  · intro l hl; rw [e _ (by omega)]; exact h.lfb l hl
  · intro l hl; rw [c.I _ (p _ _ (by omega) (by omega) (by omega)), e _ (by omega)]; exact h.ce l hl
  · intro l hl; rw [e _ (by omega)]; exact h.ceb l hl
  · intro l hl; rw [c.I _ (p _ _ (by omega) (by omega) (by omega)), e _ (by omega)]; exact h.pu l hl
  · intro l hl; rw [e _ (by omega)]; exact h.pub l hl
  · intro l hl; rw [c.I _ (p _ _ (by omega) (by omega) (by omega)), e _ (by omega)]; exact h.me l hl
  · intro l hl; rw [e _ (by omega)]; exact h.meb l hl
  · intro b l hb hl6 hl
    rw [e _ (by omega)] at hl
    rw [e _ (by omega), e _ (by omega)]; exact h.og b l hb hl6 hl
theorem KR.ch {x n : Nat} {ρ : Nat → Nat} (h : KR A x n ρ) (c : Ch P A A') (p1 : ¬ P 601 x) (p2 : ¬ P 36 (x + 6)) : KR A' x n ρ := by
  refine KR.mk ?_ h.kb (fun k hk => ?_) h.ri
  · rw [c.I _ p1]; exact h.kn
  · rw [c.R _ p2]; exact h.rr k hk
theorem KV.ch {x n : Nat} {ρ : Nat → Nat} {f f' : Nat → Int32} (h : KV A n ρ f) (k : KR A x n ρ) (c : Ch P A A') (p : ∀ i, x + 7 ≤ i → i < x + 47 → ¬ P 31 i) (e : ∀ j, 39 ≤ j → j < 160 → f' j = f j) : KV A' n ρ f' := by
  have kb := k.kb
  refine ⟨by rw [e _ (by omega) (by omega)]; exact h.1, fun c' i hc hi => ?_⟩
  have hr := (k.rr c' (by omega)).2
  rw [c.I _ (p _ hr.1 hr.2), e _ (by omega) (by omega)]; exact h.2 c' i hc hi
theorem IvT.ch {t : Nat} (h : IvT A σ t) (c : Ch P A A') (m : Cm K σ σ') (p1 : ¬ P 102 0) (p2 : ¬ P 33 8) (k0 : ¬ K 0) (k1 : ¬ K 1) : IvT A' σ' t := by
  refine IvT.mk ?_ ?_ h.b (fun j hj => ?_)
  · rw [c.I _ p1]; exact h.a
  · rw [m.I _ k1]; exact h.m
  · rw [c.I _ p2, m.I _ k0]; exact h.by_ j hj
theorem IvS.ch {nb q : Nat} (h : IvS A σ nb q) (c : Ch P A A') (m : Cm K σ σ') (p1 : ¬ P 115 0) (p2 : ¬ P 31 126) (p3 : ¬ P 31 127) (k0 : ¬ K 65) (k1 : ¬ K 66) : IvS A' σ' nb q := by
  refine IvS.mk ?_ ?_ h.b (fun j hj => ?_)
  · rw [c.I _ p1]; exact h.a
  · rw [m.I _ k0]; exact h.m_
  · rw [c.I _ p2, c.I _ p3, m.I _ k1, m.I _ k1]; exact h.r j hj
theorem IvO.ch {o : Nat} (h : IvO A σ o) (c : Ch P A A') (m : Cm K σ σ') (p1 : ¬ P 124 0) (p2 : ¬ P 33 1100) (k0 : ¬ K 104) (k1 : ¬ K 105) : IvO A' σ' o := by
  refine IvO.mk ?_ ?_ h.b (fun j hj => ?_)
  · rw [c.I _ p1]; exact h.a
  · rw [m.I _ k1]; exact h.m
  · rw [c.I _ p2, m.I _ k0]; exact h.r j hj
theorem IvU.ch {nb L C u w : Nat} {κ : Nat → Nat} (h : IvU A σ nb L C u w κ) (c : Ch P A A') (m : Cm K σ σ') (hn : nb ≤ 8) (p1 : ¬ P 120 0) (p2 : ¬ P 38 139) (p3 : ∀ f i, 140 ≤ i → i < 1100 → ¬ P f i) (k0 : ¬ K 68) (k1 : ¬ K 69) (k2 : ¬ K 70) : IvU A' σ' nb L C u w κ := by
  have e : ∀ q, krow σ' q = krow σ q := fun q => funext fun j => m.I _ k0
  have hi : ∀ k, k < 20 → ∀ d, d < 48 → 140 ≤ κ k + d ∧ κ k + d < 1100 := by
    intro k hk d hd
    obtain ⟨_, h2, h3⟩ := h.kp k hk
    have hs := isSt_of h2
    unfold isSt at hs
    omega
  refine IvU.mk ?_ ?_ h.ub ?_ h.wb ?_ h.ki ?_
  · rw [c.I _ p1]; exact h.un
  · rw [m.I _ k1]; exact h.um
  · rw [m.I _ k2]; exact h.wm
  · intro k hk; rw [c.R _ p2]; exact h.kp k hk
  · intro k hk
    obtain ⟨n, ρ, q1, q2⟩ := h.kr k hk
    have i0 := hi k hk 0 (by decide)
    have i6 := hi k hk 6 (by decide)
    have i47 := hi k hk 47 (by decide)
    refine ⟨n, ρ, q1.ch c (p3 _ _ (by omega) (by omega)) (p3 _ _ (by omega) (by omega)), fun hu => ?_⟩
    obtain ⟨r1, r2, r3⟩ := q2 hu
    rw [e]
    exact ⟨r1.ch q1 c (fun i h1 h2 => p3 _ _ (by omega) (by omega)) (fun _ _ _ => rfl), r2.ch c (fun g i _ h1 h2 => p3 _ _ (by omega) (by omega)) (fun _ _ => rfl) hn, r3⟩
theorem WD.ch (h : WD σ) (m : Cm K σ σ') (k : ∀ q, isWd q → ¬ K q) : WD σ' := by
  intro q hq j v hv
  rw [m.I _ (k q hq)]; exact h q hq j v hv
theorem MO.ch {x : Nat} (h : MO A x) (c : Ch P A A') (p : ¬ P 500 x) : MO A' x := by
  obtain ⟨h1, h2, h3, h4⟩ := h
  exact ⟨(congrFun c.K _).trans h1, (c.R 0 p).trans h2, (congrFun c.K _).trans h3, (congrFun c.L _).trans h4⟩
theorem IvH.ch (h : IvH A) (c : Ch P A A') (p1 : ¬ P 111 0) (p2 : ¬ P 112 0) (p3 : ¬ P 37 112) (p4 : ¬ P 37 119) (p5 : ¬ P 36 128) : IvH A' := by
  obtain ⟨h1, h2, h3⟩ := h
  refine ⟨?_, fun l hl => ?_, fun b hb => ?_⟩
  · rw [c.R _ p1, c.R _ p2]; exact h1
  · rw [c.R _ p3, c.R _ p4]; exact h2 l hl
  · rw [c.R _ p5]; exact h3 b hb
end SAM
/-- what may be written and forgotten -/
def Psc (f i : Nat) : Prop := i = 12 ∨ i = 14 ∨ (64 ≤ i ∧ i < 112) ∨ (f = 35 ∧ 113 ≤ i ∧ i ≤ 125) ∨ (f = 31 ∧ 129 ≤ i ∧ i ≤ 136) ∨ i = 137 ∨ i = 138 ∨ (f = 122 ∧ i = 0) ∨ (f = 111 ∧ i = 0) ∨ (f = 112 ∧ i = 0)
def Ksc (k : Nat) : Prop := (2 ≤ k ∧ k ≤ 6) ∨ k = 10 ∨ k = 39 ∨ k = 43 ∨ k = 45 ∨ k = 47 ∨ k = 52 ∨ k = 53 ∨ (55 ≤ k ∧ k ≤ 60) ∨ (61 ≤ k ∧ k ≤ 64) ∨ k = 67 ∨ (94 ≤ k ∧ k ≤ 103)
theorem IV.frame {A A' : AH} {σ σ' : mSt} {fo nb L C W n : Nat} {ρ : Nat → Nat} {u w : Nat} {κ : Nat → Nat} {t m o : Nat} (h : IV A σ fo nb L C W n ρ u w κ t m o) (c : Ch Psc A A') (mm : Cm Ksc σ σ') (e56 : ∀ j, σ'.1 56 j = σ.1 56 j) (e61 : σ'.1 61 0 = 0) (kt : ∃ n' ρ', KR A' 64 n' ρ') (hn : IvH A') : IV A' σ' fo nb L C W n ρ u w κ t m o := by
  have f56 : σ'.1 56 = σ.1 56 := funext e56
  have nb8 := h.fr.bn
  have sd : SameOn dyn A A' := c.sameOn (fun f i hi z => by unfold dyn at hi; unfold Psc at z; omega)
  refine IV.mk (h.fr.same sd (c.R 0 (by unfold Psc; omega)) (mm.sameM (fun k hk z => by unfold Kfo at hk; unfold Ksc at z; omega))) (h.ks.ch c) (h.m1.ch c (by unfold Psc; omega)) (h.m2.ch c (by unfold Psc; omega)) ?_ ?_ ?_ ?_ kt e61 (h.un.ch c mm nb8 (by unfold Psc; omega) (by unfold Psc; omega) (fun f i h1 h2 => by unfold Psc; omega) (by unfold Ksc; omega) (by unfold Ksc; omega) (by unfold Ksc; omega)) (h.tp.ch c mm (by unfold Psc; omega) (by unfold Psc; omega) (by unfold Ksc; omega) (by unfold Ksc; omega)) ?_ ?_ ?_ (h.se.ch c mm (by unfold Psc; omega) (by unfold Psc; omega) (by unfold Psc; omega) (by unfold Ksc; omega) (by unfold Ksc; omega)) ?_ (h.ou.ch c mm (by unfold Psc; omega) (by unfold Psc; omega) (by unfold Ksc; omega) (by unfold Ksc; omega)) hn (h.wd.ch mm (fun q hq z => by unfold isWd at hq; unfold Ksc at z; omega))
  · exact h.st.ch c (fun g i _ h1 h2 => by unfold Psc; omega) (fun j _ => e56 j) nb8
  · rw [e56]; exact h.d9
  · exact h.kr.ch c (by unfold Psc; omega) (by unfold Psc; omega)
  · exact h.kv.ch h.kr c (fun i h1 h2 => by unfold Psc; omega) (fun j _ _ => e56 j)
  · rw [c.I _ (by unfold Psc; omega), mm.I _ (by unfold Ksc; omega)]; exact h.fk
  · rw [c.I _ (by unfold Psc; omega), mm.I _ (by unfold Ksc; omega)]; exact h.fp
  · intro k hk
    rw [c.I _ (by unfold Psc; omega), mm.I _ (by unfold Ksc; omega)]; exact h.rf k hk
  · rw [c.J _ (by unfold Psc; omega), mm.J _ (by unfold Ksc; omega)]; exact h.sd
/-- only a number was told, by 'opens' -/
theorem IV.op {A A' : AH} {σ σ' : mSt} {fo nb L C W n : Nat} {ρ : Nat → Nat} {u w : Nat} {κ : Nat → Nat} {t m o : Nat} (h : IV A σ fo nb L C W n ρ u w κ t m o) (c : Ch P12 A A') (mm : Cm Kop σ σ') : IV A' σ' fo nb L C W n ρ u w κ t m o := by
  obtain ⟨n', ρ', k⟩ := h.kt
  exact h.frame (c.mono (fun f i z => Or.inl z)) (mm.mono (fun k z => by unfold Kop at z; unfold Ksc; omega)) (fun j => mm.I j (by unfold Kop; omega)) ((mm.I 0 (by unfold Kop; omega)).trans h.th) ⟨n', ρ', k.ch c (by decide) (by decide)⟩ (h.hn.ch c (by decide) (by decide) (by decide) (by decide) (by decide))
/-! tests of arguments -/
theorem is_eq (x a b : Int32) : X0_is x a b = some (if a ≤ x ∧ x ≤ b then 1 else 0) ∧ M_isIn x.toInt64 a.toInt64 b.toInt64 = some (if a ≤ x ∧ x ≤ b then 1 else 0) := by
  have l1 : ∀ y z : Int32, y.toInt64 < z.toInt64 ↔ y < z := by
    intro y z
    rw [Int64.lt_iff_toInt_lt, Int32.toInt_toInt64, Int32.toInt_toInt64, Int32.lt_iff_toInt_lt]
  unfold X0_is M_isIn
  simp only [l1]
  by_cases h1 : x < a
  · rw [if_pos h1, if_neg (fun q => absurd h1 (Int32.not_lt.mpr q.1))]
    exact ⟨rfl, rfl⟩
  · rw [if_neg h1]
    by_cases h2 : b < x
    · rw [if_pos h2, if_neg (fun q => absurd h2 (Int32.not_lt.mpr q.2))]
      exact ⟨rfl, rfl⟩
    · rw [if_neg h2, if_pos ⟨Int32.not_lt.mp h1, Int32.not_lt.mp h2⟩]
      exact ⟨rfl, rfl⟩
theorem bt01 {p : Prop} [Decidable p] : ((if p then (1 : Int32) else 0) &&& 1) = (if p then (1 : Int32) else 0) := by
  by_cases h : p
  · rw [if_pos h]; rfl
  · rw [if_neg h]; rfl
theorem bt0 {p : Prop} [Decidable p] {β : Type} (y0 y1 : β) : (if (if p then (1 : Int32) else 0) = 0 then y0 else y1) = if p then y1 else y0 := by
  by_cases h : p
  · rw [if_pos h, if_pos h, if_neg (by decide)]
  · rw [if_neg h, if_neg h, if_pos rfl]
/-- a number between bounds that are small -/
theorem rng_ex {x : Int32} {n : Nat} (hn : n < 2147483648) : (0 ≤ x ∧ x ≤ nn n - 1) ↔ ∃ k, k < n ∧ x = nn k := by
  constructor
  · rintro ⟨h1, h2⟩
    rw [nn_of h1] at h2
    refine ⟨x.toNatClampNeg, ?_, nn_of h1⟩
    have h3 : (nn n - 1).toInt = (n : Int) - 1 := by
      rw [Int32.toInt_sub, nn_toInt hn, show ((1 : Int32)).toInt = 1 from rfl, Int.bmod_eq_of_le (by omega) (by omega)]
    rw [Int32.le_iff_toInt_le, nn_toInt (Int32.toNatClampNeg_lt x), h3] at h2
    omega
  · rintro ⟨k, hk, rfl⟩
    refine ⟨nn_ge0 (by omega), ?_⟩
    rw [show (1 : Int32) = nn 1 from rfl, nn_sub (by omega), nn_le (by omega) (by omega)]
    omega
theorem isBeing_eq {A : AH} {σ : mSt} {fo nb L C W : Nat} (h : FR A σ fo nb L C W) (x : Int32) : ∃ p : Prop, ∃ _ : Decidable p, (p ↔ ∃ b, b < nb ∧ x = nn b) ∧ X0_isBeing A x = some (if p then 1 else 0) ∧ M_isBeing σ x = some (if p then 1 else 0) := by
  have bn := h.bn
  have e64 : Int32.toInt64 (nn nb - 1) = (nn nb - 1).toInt64 := rfl
  have hm := (is_eq x 0 (nn nb - 1)).2
  refine ⟨0 ≤ x ∧ x ≤ nn nb - 1, inferInstance, rng_ex (by omega), ?_, ?_⟩
  · unfold X0_isBeing
    rw [h.beings, bo_some]
    by_cases h1 : x < 0
    · rw [if_pos h1, if_neg (fun q => absurd h1 (Int32.not_lt.mpr q.1))]
    · have h0 : 0 ≤ x := Int32.not_lt.mp h1
      rw [if_neg h1]
      by_cases h2 : nn nb ≤ x
      · rw [if_pos h2, if_neg]
        intro q
        obtain ⟨k, hk, e⟩ := (rng_ex (by omega)).mp q
        rw [e, nn_le (by omega) (by omega)] at h2
        omega
      · rw [if_neg h2, if_pos]
        rw [rng_ex (by omega)]
        exact nn_ex h0 (Int32.not_le.mp h2) (by omega)
  · unfold M_isBeing
    rw [h.beingMany, bo_some]
    have hm' : M_isIn (Int32.toInt64 x) 0 (Int32.toInt64 (nn nb - 1)) = some (if 0 ≤ x ∧ x ≤ nn nb - 1 then 1 else 0) := hm
    rw [hm', bo_some, bt01, if_pos rfl]
theorem isCell_eq {A : AH} {σ : mSt} {fo nb L C W : Nat} (h : FR A σ fo nb L C W) (x y : Int32) : ∃ p : Prop, ∃ _ : Decidable p, (p ↔ ∃ l c, l < L ∧ c < C ∧ x = nn l ∧ y = nn c) ∧ X0_isCell A x y = some (if p then 1 else 0) ∧ M_isCell σ x y = some (if p then 1 else 0) := by
  have bL := h.bL
  have bC := h.bC
  have m1 : M_isIn (Int32.toInt64 x) 0 (Int32.toInt64 (nn L - 1)) = some (if 0 ≤ x ∧ x ≤ nn L - 1 then 1 else 0) := (is_eq x 0 (nn L - 1)).2
  have m2 : M_isIn (Int32.toInt64 y) 0 (Int32.toInt64 (nn C - 1)) = some (if 0 ≤ y ∧ y ≤ nn C - 1 then 1 else 0) := (is_eq y 0 (nn C - 1)).2
  refine ⟨(0 ≤ x ∧ x ≤ nn L - 1) ∧ 0 ≤ y ∧ y ≤ nn C - 1, inferInstance, ?_, ?_, ?_⟩
  · rw [rng_ex (by omega), rng_ex (by omega)]
    constructor
    · rintro ⟨⟨l, h1, h2⟩, c, h3, h4⟩
      exact ⟨l, c, h1, h3, h2, h4⟩
    · rintro ⟨l, c, h1, h3, h2, h4⟩
      exact ⟨⟨l, h1, h2⟩, c, h3, h4⟩
  · unfold X0_isCell
    rw [h.leavesX, (is_eq x 0 (nn L - 1)).1, bo_some, bt0, h.cellsX, (is_eq y 0 (nn C - 1)).1, bo_some, bt0]
    by_cases h1 : 0 ≤ x ∧ x ≤ nn L - 1
    · by_cases h2 : 0 ≤ y ∧ y ≤ nn C - 1
      · rw [if_pos h1, if_pos h2, if_pos ⟨h1, h2⟩]
      · rw [if_pos h1, if_neg h2, if_neg (fun q => h2 q.2)]
    · rw [if_neg h1, if_neg (fun q => h1 q.1)]
  · unfold M_isCell
    rw [h.isf, h.leaves, bo_some, m1, bo_some, bt0, h.cells, bo_some, m2, bo_some, bt0]
    by_cases h1 : 0 ≤ x ∧ x ≤ nn L - 1
    · have hL : ¬ L = 0 := by
        obtain ⟨k, hk, _⟩ := (rng_ex (by omega)).mp h1
        omega
      rw [if_neg (by rw [if_neg hL]; decide)]
      by_cases h2 : 0 ≤ y ∧ y ≤ nn C - 1
      · rw [if_pos h1, if_pos h2, if_pos ⟨h1, h2⟩]
      · rw [if_pos h1, if_neg h2, if_neg (fun q => h2 q.2)]
    · rw [if_neg h1, if_neg (show ¬ ((0 ≤ x ∧ x ≤ nn L - 1) ∧ 0 ≤ y ∧ y ≤ nn C - 1) from fun q => h1 q.1)]
      split <;> rfl
theorem isFolioM {A : AH} {σ : mSt} {fo nb L C W : Nat} (h : FR A σ fo nb L C W) : (σ.1 54 0 = 0 ↔ L = 0) := by
  rw [h.isf]
  by_cases e : L = 0
  · rw [if_pos e]; exact ⟨fun _ => e, fun _ => rfl⟩
  · rw [if_neg e]; exact ⟨fun z => absurd z (by decide), fun z => absurd z e⟩
theorem isAhead_eq {A : AH} {σ : mSt} {fo nb L C W : Nat} (h : FR A σ fo nb L C W) {d : Nat} (hd : d ≤ 1100) (e0 : aI A 600 16 0 = nn d) (e1 : σ.1 56 0 = nn d) (x : Int32) {a b : Nat} (ha : a ≤ 1000) (hb : b ≤ 1000) : ∃ p : Prop, ∃ _ : Decidable p, (p ↔ ¬ L = 0 ∧ ∃ k, a ≤ k ∧ k ≤ b ∧ x = nn k ∧ d + k ≤ 999) ∧ X0_isAhead A x (nn a) (nn b) = some (if p then 1 else 0) ∧ M_isAhead σ x (nn a) (nn b) = some (if p then 1 else 0) := by
  by_cases hL : L = 0
  · refine ⟨False, inferInstance, ⟨fun z => z.elim, fun z => z.1 hL⟩, ?_, ?_⟩
    · unfold X0_isAhead
      rw [h.isFolioX, bo_some, if_pos hL, if_pos rfl, if_neg (fun z => z)]
    · unfold M_isAhead
      rw [if_pos ((isFolioM h).mpr hL), if_neg (fun z => z)]
  · have X1 : X0_isAhead A x (nn a) (nn b) = (if nn a ≤ x ∧ x ≤ nn b then (if 999 < nn d + x then some 0 else some 1) else some 0) := by
      unfold X0_isAhead
      rw [h.isFolioX, bo_some, if_neg hL, if_neg (by decide), (is_eq x (nn a) (nn b)).1, bo_some, bt0, e0]
    have M1 : M_isAhead σ x (nn a) (nn b) = (if nn a ≤ x ∧ x ≤ nn b then (if 999 < nn d + x then some 0 else some 1) else some 0) := by
      unfold M_isAhead
      rw [if_neg (fun z => hL ((isFolioM h).mp z)), (is_eq x (nn a) (nn b)).2, bo_some, bt0, m_day, bo_some, e1]
    by_cases h1 : nn a ≤ x ∧ x ≤ nn b
    · have h0 : 0 ≤ x := Int32.le_trans (nn_ge0 (by omega)) h1.1
      obtain ⟨k, hk⟩ : ∃ k, x = nn k ∧ k < 2147483648 := ⟨x.toNatClampNeg, nn_of h0, Int32.toNatClampNeg_lt x⟩
      obtain ⟨rfl, hk2⟩ := hk
      have h3 := (nn_le (by omega) hk2).mp h1.1
      have h4 := (nn_le hk2 (by omega)).mp h1.2
      have key : (if 999 < nn d + nn k then some (0 : Int32) else some 1) = some (if d + k ≤ 999 then 1 else 0) := by
        rw [nn_add, show (999 : Int32) = nn 999 from rfl]
        by_cases z : d + k ≤ 999
        · rw [if_neg (fun q => by have := (nn_lt (by omega) (by omega)).mp q; omega), if_pos z]
        · rw [if_pos ((nn_lt (by omega) (by omega)).mpr (by omega)), if_neg z]
      refine ⟨d + k ≤ 999, inferInstance, ⟨fun z => ⟨hL, k, h3, h4, rfl, z⟩, ?_⟩, ?_, ?_⟩
      · rintro ⟨_, k', h5, h6, h7, h8⟩
        have := (nn_eq hk2 (by omega)).mp h7
        omega
      · rw [X1, if_pos h1, key]
      · rw [M1, if_pos h1, key]
    · refine ⟨False, inferInstance, ⟨fun z => z.elim, ?_⟩, ?_, ?_⟩
      · rintro ⟨_, k, h5, h6, rfl, _⟩
        exact h1 ⟨(nn_le (by omega) (by omega)).mpr h5, (nn_le (by omega) (by omega)).mpr h6⟩
      · rw [X1, if_neg h1, if_neg (fun z => z)]
      · rw [M1, if_neg h1, if_neg (fun z => z)]
