/-! PURE LEVEL: statements: codes -/
set_option maxRecDepth 100000
section
variable {N : Nat} {A A' A1 : AH} {σ σ' σ1 : mSt} {B : Nat → Nat} {n p o μ : Nat} {t : Option Nat} {a0 L C g w nb cd ar c s c' s' c0 s0 : Nat} {be : List Nat}
theorem RD.ctx (r : RD A B n p o μ t) (μ' : Nat) : RD (wI A 305 9 0 (nn μ')) B n p o μ' t ∧ Ex RP 0 0 A (wI A 305 9 0 (nn μ')) := by
  refine ⟨RD.mk (r.gn.wI (by decide)) ?_ ?_ ?_ ?_ r.to_ (fun k hk => ?_) r.bk r.pn r.ob, Ex.wI r.gn (Or.inl ⟨rfl, by decide, by decide⟩) (by decide)⟩
  · rw [aI_wI, if_neg (by decide)]; exact r.sz
  · rw [aI_wI, if_neg (by decide)]; exact r.at_
  · rw [aI_wI, if_neg (by decide)]; exact r.op
  · rw [aI_wI, if_pos ⟨rfl, rfl, rfl⟩]
  · rw [aI_wI, if_neg (fun z => absurd z.1 (by decide))]; exact r.tp k hk
/-- the codes are copied -/
theorem copy_loop {K : List Int32} {wh : Nat} (hw : wh < 4) (hb : cd + K.length ≤ 1600) : ∀ (f i z : Nat) (σ : mSt), i + f = K.length → f < z → σ.1 95 0 = nn K.length → (∀ j d, K[j]? = some d → σ.1 94 j = d) → σ.1 52 0 = nn (cd + i) → (∀ j d, j < i → K[j]? = some d → σ.1 51 (cd + j) = d) → ∃ σ', rn3 (M_codesTold_b95 N) z σ (nn wh) (nn i) = some ((), σ') ∧ Cg (fun k j => (k = 51 ∧ cd ≤ j ∧ j < cd + K.length) ∨ k = 52 ∨ (k = 50 ∧ j = wh)) σ σ' ∧ σ'.1 52 0 = nn (cd + K.length) ∧ σ'.1 50 wh = nn (cd + K.length) ∧ (∀ j d, K[j]? = some d → σ'.1 51 (cd + j) = d) := by
  intro f
  induction f with
  | zero =>
    intro i z σ hi hz h95 h94 h52 h51
    obtain ⟨z, rfl⟩ : ∃ m, z = m + 1 := ⟨z - 1, by omega⟩
    have ei : i = K.length := by omega
    subst ei
    refine ⟨mUI σ 50 wh (nn (cd + K.length)), ?_, Cg.UI (Or.inr (Or.inr ⟨rfl, rfl⟩)), ?_, ?_, fun j d hj => ?_⟩
    · show M_codesTold_b95 N _ σ (nn wh) _ = _
      unfold M_codesTold_b95
      rw [h95, if_pos ((nn_le (by omega) (by omega)).mpr (by omega)), h52, stI_nn (by rfl) (by show wh < 8; omega) (by omega), bo_some]
    · rw [mI_UI, if_neg (by omega)]; exact h52
    · rw [mI_UI, if_pos ⟨rfl, rfl⟩]
    · rw [mI_UI, if_neg (by omega)]
      exact h51 j d (List.getElem?_eq_some_iff.mp hj).1 hj
  | succ f ih =>
    intro i z σ hi hz h95 h94 h52 h51
    obtain ⟨z, rfl⟩ : ∃ m, z = m + 1 := ⟨z - 1, by omega⟩
    obtain ⟨d, hd⟩ : ∃ d, K[i]? = some d := ⟨K[i]'(by omega), List.getElem?_eq_getElem _⟩
    obtain ⟨σ', y1, y2, y3, y4, y5⟩ := ih (i + 1) z (mUI (mUI σ 51 (cd + i) d) 52 0 (nn (cd + (i + 1)))) (by omega) (by omega) (by rw [mI_UI, if_neg (by omega), mI_UI, if_neg (by omega)]; exact h95) (fun j d hj => by rw [mI_UI, if_neg (by omega), mI_UI, if_neg (by omega)]; exact h94 j d hj) (by rw [mI_UI, if_pos ⟨rfl, rfl⟩]) (fun j e hj he => by
      rw [mI_UI, if_neg (by omega), mI_UI]
      by_cases q : j = i
      · subst q
        rw [hd] at he
        cases he
        rw [if_pos ⟨rfl, rfl⟩]
      · rw [if_neg (by omega)]; exact h51 j e (by omega) he)
    refine ⟨σ', ?_, ((Cg.UI (Or.inl ⟨rfl, by omega, by omega⟩)).trans (Cg.UI (Or.inr (Or.inl rfl)))).trans y2, y3, y4, y5⟩
    show M_codesTold_b95 N (rn3 (M_codesTold_b95 N) z) σ (nn wh) (nn i) = _
    generalize rn3 (M_codesTold_b95 N) z = kk at y1 ⊢
    unfold M_codesTold_b95
    rw [h95, if_neg (fun q => by have := (nn_le (by omega) (by omega)).mp q; omega), ld_nn (by rfl) (by show i < 1700; omega) (by omega), bo_some, h94 i d hd, h52, stI_nn (by rfl) (by show cd + i < 3200; omega) (by omega), bo_some, lt2_eq, mI_UI, if_neg (by omega), h52, nn_succ, nn_succ]
    exact y1
/-- the codes K are told as those of wh -/
def Kcp (wh k j : Nat) : Prop := (k = 51 ∧ j < 1600) ∨ k = 52 ∨ (k = 50 ∧ j = wh) ∨ (k = 49 ∧ j = wh)
theorem told_eq {K : List Int32} {wh sl : Nat} {q : Bool} {p' o' : Nat} (hN : 5000 ≤ N) (hw : wh < 4) (s : SQ σ B n p' q μ K [] o' 0 sl) (hc : cd ≤ sl) (h52 : σ.1 52 0 = nn cd) : ∃ σ', M_codesTold_b75 N σ (nn wh) = some ((), σ') ∧ Cg (fun k j => (k = 51 ∧ cd ≤ j ∧ j < cd + K.length) ∨ k = 52 ∨ (k = 50 ∧ j = wh) ∨ (k = 49 ∧ j = wh)) σ σ' ∧ cd + K.length ≤ p' ∧ σ'.1 52 0 = nn (cd + K.length) ∧ σ'.1 49 wh = nn cd ∧ σ'.1 50 wh = nn (cd + K.length) ∧ (∀ j d, K[j]? = some d → σ'.1 51 (cd + j) = d) := by
  have le := s.le
  have nb := s.nb
  simp only [List.length_nil] at le
  obtain ⟨σ', y1, y2, y3, y4, y5⟩ := copy_loop (N := N) (cd := cd) (K := K) hw (by omega) K.length 0 N (mUI σ 49 wh (nn cd)) (by omega) (by omega) (by rw [mI_UI, if_neg (by omega)]; exact s.qs.cn) (fun j d hj => by rw [mI_UI, if_neg (by omega)]; exact s.qs.cs j d hj) (by rw [mI_UI, if_neg (by omega)]; exact h52) (fun j d hj _ => by omega)
  refine ⟨σ', ?_, (Cg.UI (Or.inr (Or.inr (Or.inr ⟨rfl, rfl⟩)))).trans (y2.mono (fun k j z => by omega)), by omega, y3, ?_, y4, y5⟩
  · unfold M_codesTold_b75
    rw [if_pos s.rm.bad, h52, stI_nn (by rfl) (by show wh < 8; omega) (by omega), bo_some]
    exact y1
  · rw [y2.I (by omega), mI_UI, if_pos ⟨rfl, rfl⟩]
end
