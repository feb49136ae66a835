/-! PURE LEVEL: which word of a sum stands next, at the reference -/
set_option maxRecDepth 100000
section
variable {N : Nat} {σ σ' : mSt} {B : Nat → Nat} {n p : Nat}
/-- the ten words, by numbers -/
def wnL : List Nat := [13, 14, 15, 7, 16, 17, 18, 19, 20, 21]
/-- what the reference tells of the word that stands next -/
def wnH (B : Nat → Nat) (n p : Nat) : List Nat → Nat → Option Nat
  | [], _ => none
  | j :: js, k => if isH B n j p then some k else wnH B n p js (k + 1)
theorem isH_sk {j : Nat} (hB : BOK B n) : isH B n j (sk B n p) ↔ isH B n j p := by
  unfold isH wE
  rw [sk_sk hB]
theorem whr_one (hN : 5000 ≤ N) (r : RM σ B n (sk B n p)) (hB : BOK B n) {w : Nat} (hw : isWd w) : ∃ σ', M_isHere N σ w = some (if isH B n (wix w) p then 1 else 0, σ') ∧ Cm Kl σ σ' ∧ RM σ' B n (sk B n p) := by
  obtain ⟨σ', h1, h2, h3⟩ := isHere_eq hN r hw
  rw [sk_sk hB] at h3
  refine ⟨σ', ?_, h2, h3⟩
  rw [h1]
  by_cases c : isH B n (wix w) p
  · rw [if_pos c, if_pos ((isH_sk hB).mpr c)]
  · rw [if_neg c, if_neg (fun z => c ((isH_sk hB).mp z))]
theorem qWordHere_eq (hN : 5000 ≤ N) (r : RM σ B n p) : ∃ σ', M_qWordHere N σ = some (fdI (wnH B n p wnL 0), σ') ∧ Cm Kl σ σ' ∧ RM σ' B n (sk B n p) := by
  have hB := r.bk
  unfold M_qWordHere wnL
  obtain ⟨s1, h1, c1, r1⟩ := isHere_eq hN r (w := 84) (Or.inr ⟨by decide, by decide⟩)
  rw [show wix 84 = 13 from rfl] at h1
  rw [h1, bd_some]
  unfold wnH
  by_cases z1 : isH B n 13 p
  · rw [if_pos z1, if_pos z1, if_neg (by decide)]
    exact ⟨_, rfl, c1, r1⟩
  rw [if_neg z1, if_neg z1, if_pos rfl]
  obtain ⟨s2, h2, c2, r2⟩ := whr_one hN r1 hB (w := 85) (Or.inr ⟨by decide, by decide⟩)
  rw [show wix 85 = 14 from rfl] at h2
  have k2 := c1.trans c2
  rw [h2, bd_some]
  unfold wnH
  by_cases z2 : isH B n 14 p
  · rw [if_pos z2, if_pos z2, if_neg (by decide)]
    exact ⟨_, rfl, k2, r2⟩
  rw [if_neg z2, if_neg z2, if_pos rfl]
  obtain ⟨s3, h3, c3, r3⟩ := whr_one hN r2 hB (w := 86) (Or.inr ⟨by decide, by decide⟩)
  rw [show wix 86 = 15 from rfl] at h3
  have k3 := k2.trans c3
  rw [h3, bd_some]
  unfold wnH
  by_cases z3 : isH B n 15 p
  · rw [if_pos z3, if_pos z3, if_neg (by decide)]
    exact ⟨_, rfl, k3, r3⟩
  rw [if_neg z3, if_neg z3, if_pos rfl]
  obtain ⟨s4, h4, c4, r4⟩ := whr_one hN r3 hB (w := 87) (Or.inr ⟨by decide, by decide⟩)
  rw [show wix 87 = 7 from rfl] at h4
  have k4 := k3.trans c4
  rw [h4, bd_some]
  unfold wnH
  by_cases z4 : isH B n 7 p
  · rw [if_pos z4, if_pos z4, if_neg (by decide)]
    exact ⟨_, rfl, k4, r4⟩
  rw [if_neg z4, if_neg z4, if_pos rfl]
  obtain ⟨s5, h5, c5, r5⟩ := whr_one hN r4 hB (w := 88) (Or.inr ⟨by decide, by decide⟩)
  rw [show wix 88 = 16 from rfl] at h5
  have k5 := k4.trans c5
  rw [h5, bd_some]
  unfold wnH
  by_cases z5 : isH B n 16 p
  · rw [if_pos z5, if_pos z5, if_neg (by decide)]
    exact ⟨_, rfl, k5, r5⟩
  rw [if_neg z5, if_neg z5, if_pos rfl]
  obtain ⟨s6, h6, c6, r6⟩ := whr_one hN r5 hB (w := 89) (Or.inr ⟨by decide, by decide⟩)
  rw [show wix 89 = 17 from rfl] at h6
  have k6 := k5.trans c6
  rw [h6, bd_some]
  unfold wnH
  by_cases z6 : isH B n 17 p
  · rw [if_pos z6, if_pos z6, if_neg (by decide)]
    exact ⟨_, rfl, k6, r6⟩
  rw [if_neg z6, if_neg z6, if_pos rfl]
  obtain ⟨s7, h7, c7, r7⟩ := whr_one hN r6 hB (w := 90) (Or.inr ⟨by decide, by decide⟩)
  rw [show wix 90 = 18 from rfl] at h7
  have k7 := k6.trans c7
  rw [h7, bd_some]
  unfold wnH
  by_cases z7 : isH B n 18 p
  · rw [if_pos z7, if_pos z7, if_neg (by decide)]
    exact ⟨_, rfl, k7, r7⟩
  rw [if_neg z7, if_neg z7, if_pos rfl]
  obtain ⟨s8, h8, c8, r8⟩ := whr_one hN r7 hB (w := 91) (Or.inr ⟨by decide, by decide⟩)
  rw [show wix 91 = 19 from rfl] at h8
  have k8 := k7.trans c8
  rw [h8, bd_some]
  unfold wnH
  by_cases z8 : isH B n 19 p
  · rw [if_pos z8, if_pos z8, if_neg (by decide)]
    exact ⟨_, rfl, k8, r8⟩
  rw [if_neg z8, if_neg z8, if_pos rfl]
  obtain ⟨s9, h9, c9, r9⟩ := whr_one hN r8 hB (w := 92) (Or.inr ⟨by decide, by decide⟩)
  rw [show wix 92 = 20 from rfl] at h9
  have k9 := k8.trans c9
  rw [h9, bd_some]
  unfold wnH
  by_cases z9 : isH B n 20 p
  · rw [if_pos z9, if_pos z9, if_neg (by decide)]
    exact ⟨_, rfl, k9, r9⟩
  rw [if_neg z9, if_neg z9, if_pos rfl]
  obtain ⟨s10, h10, c10, r10⟩ := whr_one hN r9 hB (w := 93) (Or.inr ⟨by decide, by decide⟩)
  rw [show wix 93 = 21 from rfl] at h10
  have k10 := k9.trans c10
  rw [h10, bd_some]
  unfold wnH
  by_cases z10 : isH B n 21 p
  · rw [if_pos z10, if_pos z10, if_neg (by decide)]
    exact ⟨_, rfl, k10, r10⟩
  rw [if_neg z10, if_neg z10, if_pos rfl]
  unfold wnH
  exact ⟨_, rfl, k10, r10⟩
end
