/-! PURE LEVEL: the part itself, at the reference -/
set_option maxRecDepth 100000
theorem bd_bd {α β γ S T : Type} (X : Option (α × S)) (f : α → S → Option (β × T)) (g : β → T → Option γ) : bd (bd X f) g = bd X (fun a s => bd (f a s) g) := by
  cases X <;> rfl
/-- in qEndsPart's loop, with what follows -/
noncomputable def qFk (N : Nat) (k : mSt → Option (Unit × mSt)) (y : Nat) (σ : mSt) : Option (Unit × mSt) := bd (rn1 (M_qEndsPart_b0 N) y σ) fun _ σ6 => k σ6
/-- what the run gives for x: it ends with the fault, or goes on as told -/
def Bm {α : Type} (X : Option (Unit × mSt)) (σ : mSt) (x : Rs α) (S : α → Prop) : Prop := match x with
  | .error e => ∃ σ', X = some ((), σ') ∧ RG σ' e ∧ Cm Kq σ σ'
  | .ok y => S y
section
variable {α β : Type} {X X' : Option (Unit × mSt)} {σ σ' : mSt} {x : Rs α} {S S1 : α → Prop} {S2 : β → Prop}
theorem Bm.xx {h : α → Rs β} (b : Bm X σ x S1) (hS : ∀ y, x = .ok y → S1 y → Bm X σ (h y) S2) : Bm X σ (eb x h) S2 := by
  cases x with
  | error e => exact b
  | ok y => exact hS y rfl b
theorem Bm.mv (b : Bm X' σ' x S1) (hX : X = X') (c : Cm Kq σ σ') (hS : ∀ y, x = .ok y → S1 y → S y) : Bm X σ x S := by
  cases x with
  | error e =>
    obtain ⟨σ2, h1, h2, h3⟩ := b
    exact ⟨σ2, hX.trans h1, h2, c.trans h3⟩
  | ok y => exact hS y rfl b
theorem Bm.er {e : Nat × Nat} (hX : X = X') (c : Cm Kq σ σ') (h : ∃ σ2, X' = some ((), σ2) ∧ RG σ2 e ∧ Cm Kq σ' σ2) : Bm X σ (.error e : Rs α) S := by
  obtain ⟨σ2, h1, h2, h3⟩ := h
  exact ⟨σ2, hX.trans h1, h2, c.trans h3⟩
end
section
variable {N : Nat} {was : Int32} {σ σ' : mSt} {B : Nat → Nat} {n p p' : Nat} {q : Bool} {μ : Nat} {K W K' W' : List Int32} {o base o' base' sl : Nat} {e : Nat × Nat}
/-- a code is told, then what waits for it -/
theorem P_code (s : SQ σ B n p q μ K W o base sl) (hl : K.length + W.length + sl < p) (c : Int32) (z : Nat) : ∃ σ', bd (M_qPartTold_b237 N σ c) (fun _ => qK N was z) = qFk N (qK N was z) N σ' ∧ Cm Kq σ σ' ∧ SQ σ' B n p q μ (K ++ [c]) W o base sl := by
  obtain ⟨σ1, h1, c1, q1⟩ := qCode_eq s.qs s.le5 c
  refine ⟨σ1, ?_, c1.wq, s.ws c1 q1 (by rw [List.length_append, List.length_singleton]; omega)⟩
  unfold M_qPartTold_b237 qFk
  rw [h1, bd_some, bd_bd]
  rfl
theorem P_part (hN : 5000 ≤ N) (s : SQ σ B n p q μ K W o base sl) (hp : sk B n p = p) {k : Nat} (hk : k < 9) (h : isH B n (wix (84 + k)) p) (hw : wof q μ 0 9 (wnH B n p wnL 0) = some k) (z : Nat) : ∃ σ', bd (M_qPartTold_b186 N σ) (fun _ => qK N was z) = qFk N (qK N was z) N σ' ∧ Cm Kq σ σ' ∧ SQ σ' B n (wE B n p) q μ (K ++ [nn (40 + k)]) W o base sl := by
  have hl := s.le
  obtain ⟨k1, k2, k3, k4⟩ := isH_end s.rm.bk s.rm.pn h
  rw [hp] at k1
  obtain ⟨σ1, h1, c1, r1⟩ := qWordOf_eq hN s.rm s.tk (a := 0) (b := 9) (by decide) (by decide)
  rw [hw, show fdI (some k) = nn k from rfl] at h1
  rw [hp] at r1
  have s1 := s.rd c1 r1 (Nat.le_refl _)
  obtain ⟨σ2, h2, c2, r2⟩ := qAsksWord_eq hN r1 (k := k) (by omega)
  rw [sIs_isH, if_pos h] at r2
  have s2 := s1.rd c2 r2 (by omega)
  obtain ⟨σ3, h3, c3, s3⟩ := P_code (N := N) (was := was) s2 (by omega) (nn (40 + k)) z
  refine ⟨σ3, ?_, c1.lq.trans (c2.lq.trans c3), s3⟩
  unfold M_qPartTold_b186
  rw [if_pos s.rm.bad, show M_qWordOf N σ 0 9 = _ from h1, bd_some, if_neg (nn_ne1 (by omega)), h2, bd_some]
  unfold M_qPartTold_b212
  rw [if_neg (nn_ne1 (by omega)), show (40 : Int32) + nn k = nn (40 + k) from nn_add 40 k]
  exact h3
theorem P_num (hN : 5000 ≤ N) (s : SQ σ B n p q μ K W o base sl) (hp : sk B n p = p) (hw : wof q μ 0 9 (wnH B n p wnL 0) = none) {z : Nat} (hz : 1 ≤ z) : Bm (bd (M_qPartTold_b186 N σ) (fun _ => qK N was z)) σ (sNum B n 0 9999 p) (fun v => ∃ σ', bd (M_qPartTold_b186 N σ) (fun _ => qK N was z) = qFk N (qK N was z) N σ' ∧ Cm Kq σ σ' ∧ SQ σ' B n v.2.2 q μ (K ++ [nn (1000 + v.1)]) W o base sl) := by
  have hl := s.le
  obtain ⟨σ1, h1, c1, r1⟩ := qWordOf_eq hN s.rm s.tk (a := 0) (b := 9) (by decide) (by decide)
  rw [hw, show fdI none = (-1 : Int32) from rfl] at h1
  rw [hp] at r1
  have s1 := s.rd c1 r1 (Nat.le_refl _)
  obtain ⟨x, σ2, h2, c2, r2⟩ := mnumber_eq hN r1 (l := 0) (m := 9999) (by decide) (by decide)
  have key : bd (M_qPartTold_b186 N σ) (fun _ => qK N was z) = bd (M_qPartTold_b237 N σ2 (1000 + x)) (fun _ => qK N was z) := by
    unfold M_qPartTold_b186
    rw [if_pos s.rm.bad, show M_qWordOf N σ 0 9 = _ from h1, bd_some, if_pos rfl]
    unfold M_qPartTold_b212
    rw [if_pos rfl, show M_number N σ1 0 9999 = _ from h2, bd_some]
  rw [key]
  cases hv : sNum B n 0 9999 p with
  | error e =>
    rw [hv] at r2
    have q2 : QS σ2 K W o base := s1.qs.cm c2 (fun k h1 h2 z => by unfold Kl at z; omega)
    obtain ⟨σ3, h3, c3, q3⟩ := qCode_eq q2 s.le5 (1000 + x)
    have f3 : RG σ3 e := RG.mk (r2.cmw c3) ⟨(K ++ [1000 + x]).length, by have := s.le5; rw [List.length_append, List.length_singleton]; omega, q3.cn⟩
    obtain ⟨σ4, h4, f4, c4⟩ := qK_bad (was := was) (N := N) (by omega) hz f3
    refine ⟨σ4, ?_, f4, c1.lq.trans (c2.lq.trans (c3.wq.trans c4))⟩
    unfold M_qPartTold_b237 M_qEndsPart
    obtain ⟨M, hM⟩ : ∃ m, N = m + 1 := ⟨N - 1, by omega⟩
    have e5 : rn1 (M_qEndsPart_b0 N) N σ3 = some ((), σ3) := by
      rw [show rn1 (M_qEndsPart_b0 N) N σ3 = rn1 (M_qEndsPart_b0 N) (M + 1) σ3 by rw [← hM]]
      show M_qEndsPart_b0 N _ σ3 = _
      unfold M_qEndsPart_b0
      rw [if_neg f3.ne]
    rw [h3, bd_some, e5, bd_some, bd_some, h4]
  | ok v =>
    rw [hv] at r2
    obtain ⟨w1, w2, w3⟩ := r2
    have o1 := (sNum_ok s.rm.bk hv).2.2.1
    rw [hp] at o1
    have s2 := s1.rd c2 w2 (by omega)
    obtain ⟨σ3, h3, c3, s3⟩ := P_code (N := N) (was := was) s2 (by omega) (nn (1000 + v.1)) z
    refine ⟨σ3, ?_, c1.lq.trans (c2.lq.trans c3), s3⟩
    rw [w1, show (1000 : Int32) + nn v.1 = nn (1000 + v.1) from nn_add 1000 v.1]
    exact h3
end
