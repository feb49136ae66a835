/-! PURE LEVEL: the reference's codes and waits -/
set_option maxRecDepth 100000
def Kq (k : Nat) : Prop := Kl k ∨ k = 94 ∨ k = 95 ∨ k = 96 ∨ k = 97 ∨ k = 98 ∨ k = 99
/-- codes K, waits W (the last on top), o open, from base on -/
def QS (σ : mSt) (K W : List Int32) (o base : Nat) : Prop :=
  (σ.1 95 0 = nn K.length) ∧
  (∀ i c, K[i]? = some c → σ.1 94 i = c) ∧
  (σ.1 97 0 = nn W.length) ∧
  (∀ i c, W[i]? = some c → σ.1 96 i = c) ∧
  (σ.1 98 0 = nn o) ∧
  (σ.1 99 0 = nn base) ∧
  (K.length + W.length ≤ 1650) ∧
  (base ≤ W.length) ∧
  (o ≤ 6)
theorem QS.cn {σ : mSt} {K W : List Int32} {o base : Nat} (h : QS σ K W o base) : σ.1 95 0 = nn K.length := h.1
theorem QS.cs {σ : mSt} {K W : List Int32} {o base : Nat} (h : QS σ K W o base) : ∀ i c, K[i]? = some c → σ.1 94 i = c := h.2.1
theorem QS.wn {σ : mSt} {K W : List Int32} {o base : Nat} (h : QS σ K W o base) : σ.1 97 0 = nn W.length := h.2.2.1
theorem QS.ws {σ : mSt} {K W : List Int32} {o base : Nat} (h : QS σ K W o base) : ∀ i c, W[i]? = some c → σ.1 96 i = c := h.2.2.2.1
theorem QS.op {σ : mSt} {K W : List Int32} {o base : Nat} (h : QS σ K W o base) : σ.1 98 0 = nn o := h.2.2.2.2.1
theorem QS.bs {σ : mSt} {K W : List Int32} {o base : Nat} (h : QS σ K W o base) : σ.1 99 0 = nn base := h.2.2.2.2.2.1
theorem QS.bl {σ : mSt} {K W : List Int32} {o base : Nat} (h : QS σ K W o base) : K.length + W.length ≤ 1650 := h.2.2.2.2.2.2.1
theorem QS.bb {σ : mSt} {K W : List Int32} {o base : Nat} (h : QS σ K W o base) : base ≤ W.length := h.2.2.2.2.2.2.2.1
theorem QS.ob {σ : mSt} {K W : List Int32} {o base : Nat} (h : QS σ K W o base) : o ≤ 6 := h.2.2.2.2.2.2.2.2
theorem QS.mk {σ : mSt} {K W : List Int32} {o base : Nat} (h_cn : σ.1 95 0 = nn K.length) (h_cs : ∀ i c, K[i]? = some c → σ.1 94 i = c) (h_wn : σ.1 97 0 = nn W.length) (h_ws : ∀ i c, W[i]? = some c → σ.1 96 i = c) (h_op : σ.1 98 0 = nn o) (h_bs : σ.1 99 0 = nn base) (h_bl : K.length + W.length ≤ 1650) (h_bb : base ≤ W.length) (h_ob : o ≤ 6) : QS σ K W o base := ⟨h_cn, h_cs, h_wn, h_ws, h_op, h_bs, h_bl, h_bb, h_ob⟩
section
variable {N : Nat} {σ σ' : mSt} {B : Nat → Nat} {n p : Nat} {K W : List Int32} {o base : Nat}
theorem QS.cm (h : QS σ K W o base) {Q : Nat → Prop} (m : Cm Q σ σ') (d : ∀ k, 94 ≤ k → k ≤ 99 → ¬ Q k) : QS σ' K W o base :=
  QS.mk ((m.I _ (d _ (by omega) (by omega))).trans h.cn) (fun i c hi => (m.I _ (d _ (by omega) (by omega))).trans (h.cs i c hi)) ((m.I _ (d _ (by omega) (by omega))).trans h.wn) (fun i c hi => (m.I _ (d _ (by omega) (by omega))).trans (h.ws i c hi)) ((m.I _ (d _ (by omega) (by omega))).trans h.op) ((m.I _ (d _ (by omega) (by omega))).trans h.bs) h.bl h.bb h.ob
theorem RM.cm (r : RM σ B n p) {Q : Nat → Prop} (m : Cm Q σ σ') (d : ∀ k, k < 94 → ¬ Q k) : RM σ' B n p := by
  refine RM.mk ((m.I _ (d _ (by omega))).trans r.at_) ((m.I _ (d _ (by omega))).trans r.en) ((m.I _ (d _ (by omega))).trans r.bad) (fun k hk => (m.I _ (d _ (by omega))).trans (r.tp k hk)) r.bk r.pn ?_ (fun k hk j v hv => ?_) ((m.I _ (d _ (by omega))).trans r.b6)
  · rw [m.I _ (d 4 (by omega))]; exact r.ed
  · have := hk
    unfold isWd at this
    rw [m.I _ (d k (by omega))]; exact r.wd k hk j v hv
def Kw (k : Nat) : Prop := 94 ≤ k ∧ k ≤ 99
theorem qCode_eq (h : QS σ K W o base) (hl : K.length + W.length < 1650) (c : Int32) : ∃ σ', M_qCode σ c = some ((), σ') ∧ Cm Kw σ σ' ∧ QS σ' (K ++ [c]) W o base := by
  have bl := h.bl
  refine ⟨mUI (mUI σ 94 K.length c) 95 0 (nn (K.length + 1)), ?_, (Cm.UI ⟨by decide, by decide⟩).trans (Cm.UI ⟨by decide, by decide⟩), QS.mk ?_ (fun i v hi => ?_) ?_ (fun i v hi => ?_) ?_ ?_ ?_ h.bb h.ob⟩
  · unfold M_qCode
    rw [h.cn, stI_nn (by rfl) (by show K.length < 1700; omega) (by omega), bo_some, lt2_eq, mI_UI, if_neg (by omega), h.cn, nn_succ]
  · rw [mI_UI, if_pos ⟨rfl, rfl⟩, List.length_append]; rfl
  · rw [mI_UI, if_neg (by omega), mI_UI]
    rcases app_get hi with ⟨q1, q2⟩ | ⟨q1, q2⟩
    · rw [if_neg (by omega)]; exact h.cs i v q2
    · rw [if_pos ⟨rfl, q1⟩, q2]
  · rw [mI_UI, if_neg (by decide), mI_UI, if_neg (by omega)]; exact h.wn
  · rw [mI_UI, if_neg (by omega), mI_UI, if_neg (by omega)]; exact h.ws i v hi
  · rw [mI_UI, if_neg (by decide), mI_UI, if_neg (by omega)]; exact h.op
  · rw [mI_UI, if_neg (by decide), mI_UI, if_neg (by omega)]; exact h.bs
  · rw [List.length_append]; simp; omega
/-- the last one that waits becomes a code -/
theorem qDrops_eq {c : Int32} (h : QS σ K (W ++ [c]) o base) (hb : base ≤ W.length) : ∃ σ', M_qDrops σ = some ((), σ') ∧ Cm Kw σ σ' ∧ QS σ' (K ++ [c]) W o base := by
  have bl := h.bl
  rw [List.length_append, List.length_singleton] at bl
  have wn := h.wn
  rw [List.length_append, List.length_singleton] at wn
  have h1 : QS (mUI σ 97 0 (nn W.length)) K W o base := by
    refine QS.mk ?_ (fun i v hi => ?_) ?_ (fun i v hi => ?_) ?_ ?_ (by omega) hb h.ob
    · rw [mI_UI, if_neg (by decide)]; exact h.cn
    · rw [mI_UI, if_neg (by omega)]; exact h.cs i v hi
    · rw [mI_UI, if_pos ⟨rfl, rfl⟩]
    · rw [mI_UI, if_neg (by omega)]
      exact h.ws i v (by rw [List.getElem?_append_left (List.getElem?_eq_some_iff.mp hi).1]; exact hi)
    · rw [mI_UI, if_neg (by decide)]; exact h.op
    · rw [mI_UI, if_neg (by decide)]; exact h.bs
  obtain ⟨σ', y1, y2, y3⟩ := qCode_eq h1 (by omega) c
  refine ⟨σ', ?_, (Cm.UI ⟨by decide, by decide⟩).trans y2, y3⟩
  unfold M_qDrops
  rw [lt2_eq, wn, show (1 : Int32) = nn 1 from rfl, nn_sub (by omega), show W.length + 1 - 1 = W.length by omega, mI_UI, if_pos ⟨rfl, rfl⟩, ld_nn (by rfl) (by show W.length < 1700; omega) (by omega), bo_some, mI_UI, if_neg (by omega), h.ws W.length c (by simp), y1, bd_some]
/-- something more waits -/
theorem qPush_eq (h : QS σ K W o base) (hl : K.length + W.length < 1650) (c : Int32) : ∃ σ', (bo (stI 2 σ 96 (σ.1 97 0) c) fun σ7 => some (mUI σ7 97 0 ((σ7.1 97 0) + 1))) = some σ' ∧ Cm Kw σ σ' ∧ QS σ' K (W ++ [c]) o base := by
  have bl := h.bl
  have bb := h.bb
  refine ⟨mUI (mUI σ 96 W.length c) 97 0 (nn (W.length + 1)), ?_, (Cm.UI ⟨by decide, by decide⟩).trans (Cm.UI ⟨by decide, by decide⟩), QS.mk ?_ (fun i v hi => ?_) ?_ (fun i v hi => ?_) ?_ ?_ ?_ ?_ h.ob⟩
  · rw [h.wn, stI_nn (by rfl) (by show W.length < 1700; omega) (by omega), bo_some, mI_UI, if_neg (by omega), h.wn, nn_succ]
  · rw [mI_UI, if_neg (by decide), mI_UI, if_neg (by omega)]; exact h.cn
  · rw [mI_UI, if_neg (by omega), mI_UI, if_neg (by omega)]; exact h.cs i v hi
  · rw [mI_UI, if_pos ⟨rfl, rfl⟩, List.length_append]; rfl
  · rw [mI_UI, if_neg (by omega), mI_UI]
    rcases app_get hi with ⟨q1, q2⟩ | ⟨q1, q2⟩
    · rw [if_neg (by omega)]; exact h.ws i v q2
    · rw [if_pos ⟨rfl, q1⟩, q2]
  · rw [mI_UI, if_neg (by decide), mI_UI, if_neg (by omega)]; exact h.op
  · rw [mI_UI, if_neg (by decide), mI_UI, if_neg (by omega)]; exact h.bs
  · rw [List.length_append]; simp; omega
  · rw [List.length_append]; simp; omega
end
