/-! PURE LEVEL: the reference asks a word of a sum -/
set_option maxRecDepth 100000
section
variable {N : Nat} {σ σ' : mSt} {B : Nat → Nat} {n p : Nat}
theorem qAsksWord_eq (hN : 5000 ≤ N) (r : RM σ B n p) {k : Nat} (hk : k < 10) : ∃ σ', M_qAsksWord N σ (nn k) = some ((), σ') ∧ Cm Kl σ σ' ∧ Rf σ' (sIs B n (wix (84 + k)) p) (fun p' => RM σ' B n p') := by
  obtain ⟨σ', h1, h2, h3⟩ := asks_mq hN r (w := 84 + k) (Or.inr ⟨by omega, by omega⟩)
  refine ⟨σ', ?_, h2, h3⟩
  have e : ∀ k, k < 10 → k = 0 ∨ k = 1 ∨ k = 2 ∨ k = 3 ∨ k = 4 ∨ k = 5 ∨ k = 6 ∨ k = 7 ∨ k = 8 ∨ k = 9 := by omega
  have key : ∀ m, m < 10 → M_qAsksWord N σ (nn m) = bd (M_asks N σ (84 + m)) fun _ σ1 => some ((), σ1) := by
    intro m hm
    rcases e m hm with rfl | rfl | rfl | rfl | rfl | rfl | rfl | rfl | rfl | rfl <;> rfl
  rw [key k hk, h1, bd_some]
end
