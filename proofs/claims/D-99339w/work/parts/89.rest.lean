/-! PURE LEVEL: what is left of the run, while the reference reads a sum -/
set_option maxRecDepth 100000
/-- behind qGoesOn: was = the base before; z turns are left -/
noncomputable def qRest (N : Nat) (was : Int32) (z : Nat) (r5 : Int32) (σ6 : mSt) : Option (Unit × mSt) := if r5 = 0 then (M_qSums_b48 N (rn3 (M_qSums_b15 N) z) σ6 was) else (M_qSums_b49 N (rn3 (M_qSums_b15 N) z) σ6 was 1)
/-- in qGoesOn's loop -/
noncomputable def qGG (N : Nat) (was : Int32) (x z : Nat) (σ : mSt) : Option (Unit × mSt) := bd (rn1 (M_qGoesOn_b0 N) x σ) (qRest N was z)
/-- in qEndsPart's loop -/
noncomputable def qF0 (N : Nat) (was : Int32) (y x z : Nat) (σ : mSt) : Option (Unit × mSt) := bd (rn1 (M_qEndsPart_b0 N) y σ) fun _ σ6 => qGG N was x z σ6
/-- in qPartTold's loop -/
noncomputable def qEE (N : Nat) (was : Int32) (x z : Nat) (σ : mSt) : Option (Unit × mSt) := bd (rn2 (M_qPartTold_b2 N) x σ 1) fun _ σ4 => if (σ4.1 5 0) = 0 then (bd (M_qGoesOn N σ4) (qRest N was z)) else (M_qSums_b48 N (rn3 (M_qSums_b15 N) z) σ4 was)
theorem qEE_in {N : Nat} {was : Int32} {z : Nat} {σ : mSt} (h : σ.1 5 0 = 0) : rn3 (M_qSums_b15 N) (z + 1) σ was 1 = qEE N was N z σ := by
  show M_qSums_b15 N (rn3 (M_qSums_b15 N) z) σ was 1 = _
  unfold qEE qRest
  generalize rn3 (M_qSums_b15 N) z = kk
  unfold M_qSums_b15
  rw [if_neg (by decide), if_pos h]
  rfl
