/-! PURE LEVEL: with a fault nothing is read any more, at the reference -/
set_option maxRecDepth 100000
section
variable {N : Nat} {σ σ' : mSt} {B : Nat → Nat} {n p : Nat}
theorem RF.ne {e : Nat × Nat} (h : RF σ e) : ¬ σ.1 5 0 = 0 := by
  have hz := h.nz
  rw [h.b]
  intro z
  have := (nn_eq (b := 0) (by omega) (by omega)).mp z
  omega
theorem bad_asks {e : Nat × Nat} (h : RF σ e) (w : Nat) : M_asks N σ w = some ((), σ) := by
  unfold M_asks; rw [if_neg h.ne]
theorem bad_asksSign {e : Nat × Nat} (h : RF σ e) (c : Int32) : M_asksSign N σ c = some ((), σ) := by
  unfold M_asksSign; rw [if_neg h.ne]
theorem bad_number {e : Nat × Nat} (h : RF σ e) (a b : Int32) : M_number N σ a b = some (0, σ) := by
  unfold M_number; rw [if_neg h.ne]
theorem bad_isHere {e : Nat × Nat} (h : RF σ e) (w : Nat) : M_isHere N σ w = some (0, σ) := by
  unfold M_isHere; rw [if_neg h.ne]
theorem bad_takes {e : Nat × Nat} (h : RF σ e) (w : Nat) : M_takes N σ w = some (0, σ) := by
  unfold M_takes; rw [bad_isHere h, bd_some, if_pos rfl]
theorem bad_takesSign {e : Nat × Nat} (h : RF σ e) (c : Int32) : M_takesSign N σ c = some (0, σ) := by
  unfold M_takesSign; rw [if_neg h.ne]
theorem bad_opens {e : Nat × Nat} (h : RF σ e) (c d : Int32) : M_qOpens σ c d = some ((), σ) := by
  unfold M_qOpens; rw [if_neg h.ne]
theorem bad_fail {e : Nat × Nat} (h : RF σ e) (c d : Int32) : M_fail σ c d = some ((), σ) := by
  unfold M_fail; rw [if_neg h.ne]
end
