/-! PURE LEVEL: the reference's words of a sum and what may be asked -/
set_option maxRecDepth 100000
section
variable {N : Nat} {σ σ' : mSt} {B : Nat → Nat} {n p : Nat}
/-- textKind against the bits of what may be asked -/
def tkR (x : Int32) (q : Bool) (μ : Nat) : Prop := (x = 0 ∧ μ = 1 ∧ q = false) ∨ (x = 1 ∧ μ = 63 ∧ q = false) ∨ (x = 2 ∧ μ = 127 ∧ q = false) ∨ (x = 3 ∧ μ = 447 ∧ q = true)
theorem allow_eq {q : Bool} {μ k : Nat} (h : tkR (σ.1 55 0) q μ) (hk : k < 10) : M_isAllowed σ (nn k) = some (if (if k = 9 then q else Nat.testBit μ k) = true then 1 else 0) := by
  have e : ∀ k, k < 10 → k = 0 ∨ k = 1 ∨ k = 2 ∨ k = 3 ∨ k = 4 ∨ k = 5 ∨ k = 6 ∨ k = 7 ∨ k = 8 ∨ k = 9 := by omega
  unfold M_isAllowed
  rcases h with ⟨h1, h2, h3⟩ | ⟨h1, h2, h3⟩ | ⟨h1, h2, h3⟩ | ⟨h1, h2, h3⟩ <;> rw [h1, h2, h3] <;> rcases e k hk with rfl | rfl | rfl | rfl | rfl | rfl | rfl | rfl | rfl | rfl <;> decide +kernel
theorem wnH_fdx (h1 : isLt (B (sk B n p)) = true) (h2 : ¬ ptd B (sk B n p) = true) : ∀ (js : List Nat) (k : Nat), wnH B n p js k = fdx (wdk B (sk B n p) (wE B n p)) js k := by
  intro js
  induction js with
  | nil => intro k; rfl
  | cons j js ih =>
    intro k
    unfold wnH fdx
    by_cases c : wdk B (sk B n p) (wE B n p) = kw j
    · rw [if_pos c, if_pos (show isH B n j p from ⟨h1, h2, c⟩)]
    · rw [if_neg c, if_neg (show ¬ isH B n j p from fun z => c z.2.2)]; exact ih (k + 1)
theorem wnH_no (h : ¬ (isLt (B (sk B n p)) = true ∧ ¬ ptd B (sk B n p) = true)) : ∀ (js : List Nat) (k : Nat), wnH B n p js k = none := by
  intro js
  induction js with
  | nil => intro k; rfl
  | cons j js ih =>
    intro k
    unfold wnH
    rw [if_neg (show ¬ isH B n j p from fun z => h ⟨z.1, z.2.1⟩)]; exact ih (k + 1)
end
