/-! PURE LEVEL: the run of the reference's sums: what each stage owes -/
set_option maxRecDepth 100000
/-- with a fault, the run ends with it -/
def EndR (N : Nat) (was : Int32) (σ : mSt) (X : Option (Unit × mSt)) (e : Nat × Nat) : Prop := ∃ σ', X = some ((), σ') ∧ RF σ' e ∧ Cm Kq σ σ'
/-- the state of the reader of sums at place p -/
def SQ (σ : mSt) (B : Nat → Nat) (n p : Nat) (q : Bool) (μ : Nat) (K W : List Int32) (o base sl : Nat) : Prop :=
  (RM σ B n p) ∧
  (QS σ K W o base) ∧
  (tkR (σ.1 55 0) q μ) ∧
  (K.length + W.length + sl ≤ p)
theorem SQ.rm {σ : mSt} {B : Nat → Nat} {n p : Nat} {q : Bool} {μ : Nat} {K W : List Int32} {o base sl : Nat} (h : SQ σ B n p q μ K W o base sl) : RM σ B n p := h.1
theorem SQ.qs {σ : mSt} {B : Nat → Nat} {n p : Nat} {q : Bool} {μ : Nat} {K W : List Int32} {o base sl : Nat} (h : SQ σ B n p q μ K W o base sl) : QS σ K W o base := h.2.1
theorem SQ.tk {σ : mSt} {B : Nat → Nat} {n p : Nat} {q : Bool} {μ : Nat} {K W : List Int32} {o base sl : Nat} (h : SQ σ B n p q μ K W o base sl) : tkR (σ.1 55 0) q μ := h.2.2.1
theorem SQ.le {σ : mSt} {B : Nat → Nat} {n p : Nat} {q : Bool} {μ : Nat} {K W : List Int32} {o base sl : Nat} (h : SQ σ B n p q μ K W o base sl) : K.length + W.length + sl ≤ p := h.2.2.2
theorem SQ.mk {σ : mSt} {B : Nat → Nat} {n p : Nat} {q : Bool} {μ : Nat} {K W : List Int32} {o base sl : Nat} (h_rm : RM σ B n p) (h_qs : QS σ K W o base) (h_tk : tkR (σ.1 55 0) q μ) (h_le : K.length + W.length + sl ≤ p) : SQ σ B n p q μ K W o base sl := ⟨h_rm, h_qs, h_tk, h_le⟩
section
variable {N : Nat} {was : Int32} {σ σ' : mSt} {B : Nat → Nat} {n p : Nat} {q : Bool} {μ : Nat} {K W : List Int32} {o base : Nat} {e : Nat × Nat}
/-- a fault seen by the outer loop -/
theorem bad_rest (hN : 1 ≤ N) (h : RF σ e) (z : Nat) : ∃ σ', qRest N was (z + 1) 0 σ = some ((), σ') ∧ RF σ' e ∧ Cm Kq σ σ' := by
  obtain ⟨N, rfl⟩ : ∃ m, N = m + 1 := ⟨N - 1, by omega⟩
  refine ⟨mUI σ 99 0 was, ?_, RF.mk ?_ ?_ h.nz, Cm.UI (Or.inr (Or.inr (Or.inr (Or.inr (Or.inr (Or.inr rfl))))))⟩
  · unfold qRest M_qSums_b48 M_qSums_b49
    rw [if_pos rfl]
    show M_qSums_b15 (N + 1) _ σ was 0 = _
    unfold M_qSums_b15
    rw [if_pos rfl]
    show M_qSums_b53 (N + 1) _ σ was = _
    unfold M_qSums_b53 M_qSums_b78
    rw [if_neg h.ne, lt2_eq]
  · rw [mI_UI, if_neg (by decide)]; exact h.b
  · rw [mI_UI, if_neg (by decide)]; exact h.pl
end
