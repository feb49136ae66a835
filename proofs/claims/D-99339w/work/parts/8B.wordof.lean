/-! PURE LEVEL: the words of a sum that may be asked, at the reference -/
set_option maxRecDepth 100000
section
variable {N : Nat} {σ σ' : mSt} {B : Nat → Nat} {n p : Nat} {q : Bool} {μ : Nat}
def alw (q : Bool) (μ k : Nat) : Bool := if k = 9 then q else Nat.testBit μ k
def wof (q : Bool) (μ a b : Nat) (x : Option Nat) : Option Nat := match x with
  | some k => if a ≤ k ∧ k < b ∧ alw q μ k = true then some k else none
  | none => none
theorem wnH_lt : ∀ (js : List Nat) (k m : Nat), wnH B n p js k = some m → k ≤ m ∧ m < k + js.length := by
  intro js
  induction js with
  | nil => intro k m h; cases h
  | cons j js ih =>
    intro k m h
    unfold wnH at h
    by_cases c : isH B n j p
    · rw [if_pos c] at h; cases h; simp
    · rw [if_neg c] at h
      have := ih (k + 1) m h
      simp; omega
theorem qWordOf_eq (hN : 5000 ≤ N) (r : RM σ B n p) (ht : tkR (σ.1 55 0) q μ) {a b : Nat} (ha : a ≤ 10) (hb : b ≤ 10) : ∃ σ', M_qWordOf N σ (nn a) (nn b) = some (fdI (wof q μ a b (wnH B n p wnL 0)), σ') ∧ Cm Kl σ σ' ∧ RM σ' B n (sk B n p) := by
  obtain ⟨σ', h1, h2, h3⟩ := qWordHere_eq hN r
  refine ⟨σ', ?_, h2, h3⟩
  have ht' : tkR (σ'.1 55 0) q μ := by rw [h2.I _ (by unfold Kl; omega)]; exact ht
  unfold M_qWordOf
  rw [h1, bd_some]
  cases hw : wnH B n p wnL 0 with
  | none =>
    rw [show fdI none = (-1 : Int32) from rfl, if_pos (show (-1 : Int32) < nn a from Int32.lt_of_lt_of_le (by decide) (nn_ge0 (by omega)))]
    rfl
  | some k =>
    have hk : k < 10 := by have := (wnH_lt wnL 0 k hw).2; simpa [wnL] using this
    rw [show fdI (some k) = nn k from rfl]
    unfold wof
    by_cases c1 : a ≤ k
    · rw [if_neg (fun z => by have := (nn_lt (by omega) (by omega)).mp z; omega)]
      by_cases c2 : k < b
      · rw [if_neg (fun z => by have := (nn_le (by omega) (by omega)).mp z; omega), allow_eq ht' hk, bo_some]
        by_cases c3 : alw q μ k = true
        · rw [if_pos (show (if k = 9 then q else Nat.testBit μ k) = true from c3), if_neg (by decide)]
          show _ = some (fdI (if a ≤ k ∧ k < b ∧ alw q μ k = true then some k else none), σ')
          rw [if_pos ⟨c1, c2, c3⟩]; rfl
        · rw [if_neg (show ¬ (if k = 9 then q else Nat.testBit μ k) = true from c3), if_pos rfl]
          show _ = some (fdI (if a ≤ k ∧ k < b ∧ alw q μ k = true then some k else none), σ')
          rw [if_neg (fun z => c3 z.2.2)]; rfl
      · rw [if_pos ((nn_le (by omega) (by omega)).mpr (by omega))]
        show _ = some (fdI (if a ≤ k ∧ k < b ∧ alw q μ k = true then some k else none), σ')
        rw [if_neg (fun z => c2 z.2.1)]; rfl
    · rw [if_pos ((nn_lt (by omega) (by omega)).mpr (by omega))]
      show _ = some (fdI (if a ≤ k ∧ k < b ∧ alw q μ k = true then some k else none), σ')
      rw [if_neg (fun z => c1 z.1)]; rfl
end
