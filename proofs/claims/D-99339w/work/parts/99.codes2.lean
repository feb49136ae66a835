/-! PURE LEVEL: statements: what codes leave -/
set_option maxRecDepth 100000
section
variable {N : Nat} {A A' A1 : AH} {σ σ' σ1 : mSt} {B : Nat → Nat} {n p o μ : Nat} {t : Option Nat} {a0 L C g w nb cd ar c s c' s' c0 s0 : Nat} {be : List Nat}
def muOf (wh : Nat) : Nat := if wh = 0 then 1 else if wh = 2 then 127 else 63
theorem FT.code0 (h : FT A σ a0 L C g w nb cd ar be) (gn : GN A) {v : Nat} {gv : Gv} {cs : List Int32} (vr : VR 24 false 1 A (ownV a0 ar) v gv) (dn : Den false 1 cs gv) (hb : cd + cs.length ≤ 1600) (m : Cg (fun k j => (k = 51 ∧ cd ≤ j ∧ j < cd + cs.length) ∨ k = 52 ∨ (k = 50 ∧ j = 0) ∨ (k = 49 ∧ j = 0)) σ σ') (c52 : σ'.1 52 0 = nn (cd + cs.length)) (c49 : σ'.1 49 0 = nn cd) (c50 : σ'.1 50 0 = nn (cd + cs.length)) (c51 : ∀ j d, cs[j]? = some d → σ'.1 51 (cd + j) = d) : FT (wR A 211 a0 0 (some v)) σ' a0 L C g w nb (cd + cs.length) ar be ∧ Ex (fun f i => f = 211 ∧ i = a0) 0 0 A (wR A 211 a0 0 (some v)) := by
  have a1 := h.a1
  have a2 := h.a2
  have lar := h.lar
  have bcd := h.bcd
  have k0 : aK A a0 ≠ 0 := by rw [h.k]; decide
  have e : Ex (fun f i => f = 211 ∧ i = a0) 0 0 A (wR A 211 a0 0 (some v)) := Ex.wR gn ⟨rfl, rfl⟩ (by omega)
  have hv : ∀ f i, ownV a0 ar i → aK A i ≠ 0 → ¬ (f = 211 ∧ i = a0) := fun f i hi _ => by unfold ownV at hi; omega
  have hq : ∀ i, ownV a0 ar i → aK A i ≠ 0 → ownV a0 ar i := fun i hi _ => hi
  have vr2 := vr.ex (G := ownV a0 ar) e hv hq
  have rK : aR (wR A 211 a0 0 (some v)) 211 a0 0 = some v := by rw [aR_wR, if_pos ⟨rfl, rfl, rfl⟩]
  have m51 : ∀ j, j < cd → σ'.1 51 j = σ.1 51 j := fun j hj => m.I (by omega)
  refine ⟨FT.mk (h.fh.ex e m (by omega) (by omega) (by omega) (by omega)) (h.fg.ex h.k e m (by omega) (by omega) (by omega) (by omega) (fun _ _ => by omega)) (h.fw.ex h.k e m (by omega) (fun f _ _ => by omega) (fun d _ _ => by omega) (by omega) (fun _ _ => by omega)) (h.fb.ex h.k e m (by omega) (fun f => by omega) (fun f => by omega) (fun f i hi hk z => ?_) (by omega) (fun _ _ => by omega) (fun _ _ => by omega) (fun _ _ => by omega)) (h.fo.ex h.bn m (fun _ _ => by omega) (fun _ _ => by omega)) (FC.mk (Or.inr ⟨v, gv, cs, cd, rK, vr2, dn, c49, c50, Nat.le_refl _, c51⟩) (h.co.ex e (e.R _ k0 (by omega)) hv hq (m.I (by omega)) (m.I (by omega)) m51 (by omega)) (h.to_.ex e (e.R _ k0 (by omega)) hv hq (m.I (by omega)) (m.I (by omega)) m51 (by omega)) (h.st.ex e (e.R _ k0 (by omega)) hv hq (m.I (by omega)) (m.I (by omega)) m51 (by omega)) c52 (by omega)) ?_, e⟩
  · unfold isBN at hk
    rw [z.2, h.k] at hk; omega
  · rw [e.I _ k0 (by omega), m.I (by omega)]; exact h.th
theorem FT.code1 (h : FT A σ a0 L C g w nb cd ar be) (gn : GN A) {v : Nat} {gv : Gv} {cs : List Int32} (vr : VR 24 false 63 A (ownV a0 ar) v gv) (dn : Den false 63 cs gv) (hb : cd + cs.length ≤ 1600) (m : Cg (fun k j => (k = 51 ∧ cd ≤ j ∧ j < cd + cs.length) ∨ k = 52 ∨ (k = 50 ∧ j = 1) ∨ (k = 49 ∧ j = 1)) σ σ') (c52 : σ'.1 52 0 = nn (cd + cs.length)) (c49 : σ'.1 49 1 = nn cd) (c50 : σ'.1 50 1 = nn (cd + cs.length)) (c51 : ∀ j d, cs[j]? = some d → σ'.1 51 (cd + j) = d) : FT (wR A 212 a0 0 (some v)) σ' a0 L C g w nb (cd + cs.length) ar be ∧ Ex (fun f i => f = 212 ∧ i = a0) 0 0 A (wR A 212 a0 0 (some v)) := by
  have a1 := h.a1
  have a2 := h.a2
  have lar := h.lar
  have bcd := h.bcd
  have k0 : aK A a0 ≠ 0 := by rw [h.k]; decide
  have e : Ex (fun f i => f = 212 ∧ i = a0) 0 0 A (wR A 212 a0 0 (some v)) := Ex.wR gn ⟨rfl, rfl⟩ (by omega)
  have hv : ∀ f i, ownV a0 ar i → aK A i ≠ 0 → ¬ (f = 212 ∧ i = a0) := fun f i hi _ => by unfold ownV at hi; omega
  have hq : ∀ i, ownV a0 ar i → aK A i ≠ 0 → ownV a0 ar i := fun i hi _ => hi
  have vr2 := vr.ex (G := ownV a0 ar) e hv hq
  have rK : aR (wR A 212 a0 0 (some v)) 212 a0 0 = some v := by rw [aR_wR, if_pos ⟨rfl, rfl, rfl⟩]
  have m51 : ∀ j, j < cd → σ'.1 51 j = σ.1 51 j := fun j hj => m.I (by omega)
  refine ⟨FT.mk (h.fh.ex e m (by omega) (by omega) (by omega) (by omega)) (h.fg.ex h.k e m (by omega) (by omega) (by omega) (by omega) (fun _ _ => by omega)) (h.fw.ex h.k e m (by omega) (fun f _ _ => by omega) (fun d _ _ => by omega) (by omega) (fun _ _ => by omega)) (h.fb.ex h.k e m (by omega) (fun f => by omega) (fun f => by omega) (fun f i hi hk z => ?_) (by omega) (fun _ _ => by omega) (fun _ _ => by omega) (fun _ _ => by omega)) (h.fo.ex h.bn m (fun _ _ => by omega) (fun _ _ => by omega)) (FC.mk (h.op.ex e (e.R _ k0 (by omega)) hv hq (m.I (by omega)) (m.I (by omega)) m51 (by omega)) (Or.inr ⟨v, gv, cs, cd, rK, vr2, dn, c49, c50, Nat.le_refl _, c51⟩) (h.to_.ex e (e.R _ k0 (by omega)) hv hq (m.I (by omega)) (m.I (by omega)) m51 (by omega)) (h.st.ex e (e.R _ k0 (by omega)) hv hq (m.I (by omega)) (m.I (by omega)) m51 (by omega)) c52 (by omega)) ?_, e⟩
  · unfold isBN at hk
    rw [z.2, h.k] at hk; omega
  · rw [e.I _ k0 (by omega), m.I (by omega)]; exact h.th
theorem FT.code2 (h : FT A σ a0 L C g w nb cd ar be) (gn : GN A) {v : Nat} {gv : Gv} {cs : List Int32} (vr : VR 24 false 127 A (ownV a0 ar) v gv) (dn : Den false 127 cs gv) (hb : cd + cs.length ≤ 1600) (m : Cg (fun k j => (k = 51 ∧ cd ≤ j ∧ j < cd + cs.length) ∨ k = 52 ∨ (k = 50 ∧ j = 2) ∨ (k = 49 ∧ j = 2)) σ σ') (c52 : σ'.1 52 0 = nn (cd + cs.length)) (c49 : σ'.1 49 2 = nn cd) (c50 : σ'.1 50 2 = nn (cd + cs.length)) (c51 : ∀ j d, cs[j]? = some d → σ'.1 51 (cd + j) = d) : FT (wR A 213 a0 0 (some v)) σ' a0 L C g w nb (cd + cs.length) ar be ∧ Ex (fun f i => f = 213 ∧ i = a0) 0 0 A (wR A 213 a0 0 (some v)) := by
  have a1 := h.a1
  have a2 := h.a2
  have lar := h.lar
  have bcd := h.bcd
  have k0 : aK A a0 ≠ 0 := by rw [h.k]; decide
  have e : Ex (fun f i => f = 213 ∧ i = a0) 0 0 A (wR A 213 a0 0 (some v)) := Ex.wR gn ⟨rfl, rfl⟩ (by omega)
  have hv : ∀ f i, ownV a0 ar i → aK A i ≠ 0 → ¬ (f = 213 ∧ i = a0) := fun f i hi _ => by unfold ownV at hi; omega
  have hq : ∀ i, ownV a0 ar i → aK A i ≠ 0 → ownV a0 ar i := fun i hi _ => hi
  have vr2 := vr.ex (G := ownV a0 ar) e hv hq
  have rK : aR (wR A 213 a0 0 (some v)) 213 a0 0 = some v := by rw [aR_wR, if_pos ⟨rfl, rfl, rfl⟩]
  have m51 : ∀ j, j < cd → σ'.1 51 j = σ.1 51 j := fun j hj => m.I (by omega)
  refine ⟨FT.mk (h.fh.ex e m (by omega) (by omega) (by omega) (by omega)) (h.fg.ex h.k e m (by omega) (by omega) (by omega) (by omega) (fun _ _ => by omega)) (h.fw.ex h.k e m (by omega) (fun f _ _ => by omega) (fun d _ _ => by omega) (by omega) (fun _ _ => by omega)) (h.fb.ex h.k e m (by omega) (fun f => by omega) (fun f => by omega) (fun f i hi hk z => ?_) (by omega) (fun _ _ => by omega) (fun _ _ => by omega) (fun _ _ => by omega)) (h.fo.ex h.bn m (fun _ _ => by omega) (fun _ _ => by omega)) (FC.mk (h.op.ex e (e.R _ k0 (by omega)) hv hq (m.I (by omega)) (m.I (by omega)) m51 (by omega)) (h.co.ex e (e.R _ k0 (by omega)) hv hq (m.I (by omega)) (m.I (by omega)) m51 (by omega)) (Or.inr ⟨v, gv, cs, cd, rK, vr2, dn, c49, c50, Nat.le_refl _, c51⟩) (h.st.ex e (e.R _ k0 (by omega)) hv hq (m.I (by omega)) (m.I (by omega)) m51 (by omega)) c52 (by omega)) ?_, e⟩
  · unfold isBN at hk
    rw [z.2, h.k] at hk; omega
  · rw [e.I _ k0 (by omega), m.I (by omega)]; exact h.th
theorem FT.code3 (h : FT A σ a0 L C g w nb cd ar be) (gn : GN A) {v : Nat} {gv : Gv} {cs : List Int32} (vr : TR 24 16 false 63 A (ownV a0 ar) v gv) (dn : Den false 63 cs gv) (hb : cd + cs.length ≤ 1600) (m : Cg (fun k j => (k = 51 ∧ cd ≤ j ∧ j < cd + cs.length) ∨ k = 52 ∨ (k = 50 ∧ j = 3) ∨ (k = 49 ∧ j = 3)) σ σ') (c52 : σ'.1 52 0 = nn (cd + cs.length)) (c49 : σ'.1 49 3 = nn cd) (c50 : σ'.1 50 3 = nn (cd + cs.length)) (c51 : ∀ j d, cs[j]? = some d → σ'.1 51 (cd + j) = d) : FT (wR A 214 a0 0 (some v)) σ' a0 L C g w nb (cd + cs.length) ar be ∧ Ex (fun f i => f = 214 ∧ i = a0) 0 0 A (wR A 214 a0 0 (some v)) := by
  have a1 := h.a1
  have a2 := h.a2
  have lar := h.lar
  have bcd := h.bcd
  have k0 : aK A a0 ≠ 0 := by rw [h.k]; decide
  have e : Ex (fun f i => f = 214 ∧ i = a0) 0 0 A (wR A 214 a0 0 (some v)) := Ex.wR gn ⟨rfl, rfl⟩ (by omega)
  have hv : ∀ f i, ownV a0 ar i → aK A i ≠ 0 → ¬ (f = 214 ∧ i = a0) := fun f i hi _ => by unfold ownV at hi; omega
  have hq : ∀ i, ownV a0 ar i → aK A i ≠ 0 → ownV a0 ar i := fun i hi _ => hi
  have vr2 := vr.ex (G := ownV a0 ar) e hv hq
  have rK : aR (wR A 214 a0 0 (some v)) 214 a0 0 = some v := by rw [aR_wR, if_pos ⟨rfl, rfl, rfl⟩]
  have m51 : ∀ j, j < cd → σ'.1 51 j = σ.1 51 j := fun j hj => m.I (by omega)
  refine ⟨FT.mk (h.fh.ex e m (by omega) (by omega) (by omega) (by omega)) (h.fg.ex h.k e m (by omega) (by omega) (by omega) (by omega) (fun _ _ => by omega)) (h.fw.ex h.k e m (by omega) (fun f _ _ => by omega) (fun d _ _ => by omega) (by omega) (fun _ _ => by omega)) (h.fb.ex h.k e m (by omega) (fun f => by omega) (fun f => by omega) (fun f i hi hk z => ?_) (by omega) (fun _ _ => by omega) (fun _ _ => by omega) (fun _ _ => by omega)) (h.fo.ex h.bn m (fun _ _ => by omega) (fun _ _ => by omega)) (FC.mk (h.op.ex e (e.R _ k0 (by omega)) hv hq (m.I (by omega)) (m.I (by omega)) m51 (by omega)) (h.co.ex e (e.R _ k0 (by omega)) hv hq (m.I (by omega)) (m.I (by omega)) m51 (by omega)) (h.to_.ex e (e.R _ k0 (by omega)) hv hq (m.I (by omega)) (m.I (by omega)) m51 (by omega)) (Or.inr ⟨v, gv, cs, cd, rK, vr2, dn, c49, c50, Nat.le_refl _, c51⟩) c52 (by omega)) ?_, e⟩
  · unfold isBN at hk
    rw [z.2, h.k] at hk; omega
  · rw [e.I _ k0 (by omega), m.I (by omega)]; exact h.th
/-- the reference begins a sum or a test -/
def q0S (σ : mSt) (r : Int32) : mSt := mUI (mUI (mUI (mUI (mUI σ 55 0 r) 95 0 0) 97 0 0) 98 0 0) 99 0 0
theorem q0_ok (r : RM σ B n p) {wh : Nat} (hw : wh < 4) : ∃ x, M_kindBy (nn wh) = some x ∧ SQ (q0S σ x) B n p false (muOf wh) [] [] 0 0 p ∧ Cg Kt σ (q0S σ x) := by
  have key : ∀ x : Int32, tkR x false (muOf wh) → SQ (q0S σ x) B n p false (muOf wh) [] [] 0 0 p ∧ Cg Kt σ (q0S σ x) := by
    intro x hx
    have cg : Cg Kt σ (q0S σ x) := (Cg.UI (Or.inl rfl)).trans ((Cg.UI (Or.inl rfl)).trans ((Cg.UI (Or.inl rfl)).trans ((Cg.UI (Or.inl rfl)).trans (Cg.UI (Or.inl rfl)))))
    have m : Cg (fun k _ => k = 55 ∨ (94 ≤ k ∧ k ≤ 99)) σ (q0S σ x) := (Cg.UI (Or.inl rfl)).trans ((Cg.UI (Or.inr ⟨by decide, by decide⟩)).trans ((Cg.UI (Or.inr ⟨by decide, by decide⟩)).trans ((Cg.UI (Or.inr ⟨by decide, by decide⟩)).trans (Cg.UI (Or.inr ⟨by decide, by decide⟩)))))
    have rm : RM (q0S σ x) B n p := by
      refine RM.mk ((m.I (by omega)).trans r.at_) ((m.I (by omega)).trans r.en) ((m.I (by omega)).trans r.bad) (fun k hk => (m.I (by omega)).trans (r.tp k hk)) r.bk r.pn ?_ (fun k hk j v hv => ?_) ((m.I (by omega)).trans r.b6)
      · rw [m.I (k := 4) (by omega)]; exact r.ed
      · have := hk
        unfold isWd at this
        rw [m.I (by omega)]; exact r.wd k hk j v hv
    refine ⟨SQ.mk rm (QS.mk ?_ (fun i c hi => by cases hi) ?_ (fun i c hi => by cases hi) ?_ ?_ (by simp) (by simp) (by decide)) ?_ (by simp), cg⟩
    · unfold q0S; rw [mI_UI, if_neg (by decide), mI_UI, if_neg (by decide), mI_UI, if_neg (by decide), mI_UI, if_pos ⟨rfl, rfl⟩]; rfl
    · unfold q0S; rw [mI_UI, if_neg (by decide), mI_UI, if_neg (by decide), mI_UI, if_pos ⟨rfl, rfl⟩]; rfl
    · unfold q0S; rw [mI_UI, if_neg (by decide), mI_UI, if_pos ⟨rfl, rfl⟩]; rfl
    · unfold q0S; rw [mI_UI, if_pos ⟨rfl, rfl⟩]; rfl
    · unfold q0S; rw [mI_UI, if_neg (by decide), mI_UI, if_neg (by decide), mI_UI, if_neg (by decide), mI_UI, if_neg (by decide), mI_UI, if_pos ⟨rfl, rfl⟩]; exact hx
  have : wh = 0 ∨ wh = 1 ∨ wh = 2 ∨ wh = 3 := by omega
  rcases this with rfl | rfl | rfl | rfl
  · exact ⟨0, rfl, key 0 (Or.inl ⟨rfl, rfl, rfl⟩)⟩
  · exact ⟨1, rfl, key 1 (Or.inr (Or.inl ⟨rfl, rfl, rfl⟩))⟩
  · exact ⟨2, rfl, key 2 (Or.inr (Or.inr (Or.inl ⟨rfl, rfl, rfl⟩)))⟩
  · exact ⟨1, rfl, key 1 (Or.inr (Or.inl ⟨rfl, rfl, rfl⟩))⟩
end
