/-! PURE LEVEL: what closes, at the reference -/
set_option maxRecDepth 100000
section
variable {N : Nat} {was : Int32} {σ σ' : mSt} {B : Nat → Nat} {n p p' : Nat} {q : Bool} {μ : Nat} {K W K' W' T : List Int32} {o base o' base' sl : Nat} {e : Nat × Nat}
theorem QS.mvp (h : QS σ K W o base) (v : Int32) : QS (mUI σ 2 0 v) K W o base := h.cm (Q := fun k => k = 2) (Cm.UI rfl) (fun k h1 h2 z => by omega)
/-- a bracket goes -/
theorem QS.pop {c : Int32} (h : QS σ K (W ++ [c]) (o + 1) base) (hb : base ≤ W.length) : ∃ σ', mUI (mUI σ 97 0 ((σ.1 97 0) - 1)) 98 0 (((mUI σ 97 0 ((σ.1 97 0) - 1)).1 98 0) - 1) = σ' ∧ ld 2 σ' 96 (σ'.1 97 0) = some c ∧ Cm Kw σ σ' ∧ QS σ' K W o base := by
  have bl := h.bl
  have ob := h.ob
  rw [List.length_append, List.length_singleton] at bl
  have wn := h.wn
  rw [List.length_append, List.length_singleton] at wn
  have e1 : (σ.1 97 0) - 1 = nn W.length := by rw [wn, show (1 : Int32) = nn 1 from rfl, nn_sub (by omega), show W.length + 1 - 1 = W.length by omega]
  have e2 : (mUI σ 97 0 (nn W.length)).1 98 0 - 1 = nn o := by rw [mI_UI, if_neg (by decide), h.op, show (1 : Int32) = nn 1 from rfl, nn_sub (by omega), show o + 1 - 1 = o by omega]
  rw [e1, e2]
  have q1 : QS (mUI (mUI σ 97 0 (nn W.length)) 98 0 (nn o)) K W o base := by
    refine QS.mk ?_ (fun i v hi => ?_) ?_ (fun i v hi => ?_) ?_ ?_ (by omega) hb (by omega)
    · rw [mI_UI, if_neg (by decide), mI_UI, if_neg (by decide)]; exact h.cn
    · rw [mI_UI, if_neg (by omega), mI_UI, if_neg (by omega)]; exact h.cs i v hi
    · rw [mI_UI, if_neg (by decide), mI_UI, if_pos ⟨rfl, rfl⟩]
    · rw [mI_UI, if_neg (by omega), mI_UI, if_neg (by omega)]
      exact h.ws i v (by rw [List.getElem?_append_left (List.getElem?_eq_some_iff.mp hi).1]; exact hi)
    · rw [mI_UI, if_pos ⟨rfl, rfl⟩]
    · rw [mI_UI, if_neg (by decide), mI_UI, if_neg (by decide)]; exact h.bs
  refine ⟨_, rfl, ?_, (Cm.UI ⟨by decide, by decide⟩).trans (Cm.UI ⟨by decide, by decide⟩), q1⟩
  rw [q1.wn, ld_nn (by rfl) (by show W.length < 1700; omega) (by omega), mI_UI, if_neg (by omega), mI_UI, if_neg (by omega), h.ws W.length c (by simp)]
/-- a bracket becomes another one -/
theorem QS.chg {c d : Int32} (h : QS σ K (W ++ [c]) o base) : ∃ σ', stI 2 σ 96 ((σ.1 97 0) - 1) d = some σ' ∧ ld 2 σ 96 ((σ.1 97 0) - 1) = some c ∧ Cm Kw σ σ' ∧ QS σ' K (W ++ [d]) o base := by
  have bl := h.bl
  have bb := h.bb
  rw [List.length_append, List.length_singleton] at bl bb
  obtain ⟨t1, t2⟩ := h.top
  have e1 : (σ.1 97 0) - 1 = nn W.length := by rw [t1, show (1 : Int32) = nn 1 from rfl, nn_sub (by omega), show W.length + 1 - 1 = W.length by omega]
  rw [e1]
  refine ⟨_, stI_nn (by rfl) (by show W.length < 1700; omega) (by omega), t2, Cm.UI ⟨by decide, by decide⟩, ?_⟩
  refine QS.mk ?_ (fun i v hi => ?_) ?_ (fun i v hi => ?_) ?_ ?_ (by rw [List.length_append, List.length_singleton]; omega) (by rw [List.length_append, List.length_singleton]; omega) h.ob
  · rw [mI_UI, if_neg (by omega)]; exact h.cn
  · rw [mI_UI, if_neg (by omega)]; exact h.cs i v hi
  · rw [mI_UI, if_neg (by omega), t1, List.length_append, List.length_singleton]
  · rw [mI_UI]
    rcases app_get hi with ⟨q1, q2⟩ | ⟨q1, q2⟩
    · rw [if_neg (by omega)]
      exact h.ws i v (by rw [List.getElem?_append_left q1]; exact q2)
    · rw [if_pos ⟨rfl, q1⟩, q2]
  · rw [mI_UI, if_neg (by omega)]; exact h.op
  · rw [mI_UI, if_neg (by omega)]; exact h.bs
/-- the codes that a closing bracket tells -/
def clC (b : Int32) : List Int32 := if b = 20 then [] else if b = 23 then [5] else [6]
theorem G_close (hN : 5000 ≤ N) {b : Int32} (s : SQ σ B n p q μ K (W ++ [b] ++ T) (o + 1) base sl) (hb : base ≤ W.length) (hT : ∀ c ∈ T, isOp c) (hk : b = 20 ∨ b = 23 ∨ b = 24) (h : B (sk B n p) = 41) : ∃ σ', (∀ x z, qGG N was (x + 1) z σ = qFk N (qGG N was x z) N σ') ∧ Cm Kq σ σ' ∧ SQ σ' B n (sk B n p + 1) q μ (K ++ T.reverse ++ clC b) W o base sl := by
  have hB := s.rm.bk
  have hbk : isBk b := by unfold isBk; rcases hk with rfl | rfl | rfl <;> decide
  obtain ⟨σ1, c1, s1, _, e1⟩ := G_look hN s
  have e1 := e1 h b (qBracket_at hN hbk s1.qs hT hb)
  have hge := sk_ge B n p
  have hl := s.le
  have nb := s1.nb
  have hlt : sk B n p < n := sk_lt hB s.rm.pn h (by decide)
  simp only [List.length_append, List.length_singleton] at hl
  obtain ⟨s2, c2⟩ := s1.step (Cm.refl _) s1.qs hlt (by rw [h]; unfold LD; decide) (by simp only [List.length_append, List.length_singleton]; omega)
  generalize hs2 : mUI σ1 2 0 (σ1.1 2 0 + 1) = σ2 at s2 c2
  obtain ⟨σ3, d1, d2, d3⟩ := drops_loop (N := N) (W0 := W ++ [b]) T.reverse K N σ2 (by rw [List.length_reverse]; omega) (fun c hc => hT c (by simpa using hc)) (by rw [List.reverse_reverse]; exact s2.qs) (by rw [List.length_append]; omega) (Or.inr ⟨W, b, rfl, hbk, hb⟩)
  obtain ⟨σ4, p1, p2, p3, p4⟩ := d3.pop hb
  have s4 : SQ σ4 B n (sk B n p + 1) q μ (K ++ T.reverse) W o base sl := s2.ws (d2.trans p3) p4 (by simp only [List.length_append, List.length_reverse]; omega)
  have key : ∀ kk, M_qGoesOn_b0 N kk σ = if b = 20 then M_qGoesOn_b115 N kk σ4 else if b = 23 then M_qGoesOn_b112 N kk σ4 5 else M_qGoesOn_b112 N kk σ4 6 := by
    intro kk
    have e2 : M_qGoesOn_b43 N kk σ1 = if b = 20 then M_qGoesOn_b115 N kk σ4 else if b = 23 then M_qGoesOn_b112 N kk σ4 5 else M_qGoesOn_b112 N kk σ4 6 := by
      unfold M_qGoesOn_b43
      rw [lt2_eq, hs2, show M_qDropsToBracket N σ2 = some ((), σ3) from d1, bd_some, lt2_eq, lt2_eq, p1, p2, bo_some, bo_some]
    rw [e1 kk]
    rcases hk with rfl | rfl | rfl
    · rw [if_pos rfl]; exact e2
    · rw [if_neg (by decide), if_pos rfl]; exact e2
    · rw [if_neg (by decide), if_neg (by decide), if_pos rfl]; exact e2
  have c4 : Cm Kq σ σ4 := c1.trans (c2.trans (d2.wq.trans p3.wq))
  have open_ : ∀ x z, qGG N was (x + 1) z σ = bd (M_qGoesOn_b0 N (rn1 (M_qGoesOn_b0 N) x) σ) (qRest N was z) := fun x z => rfl
  have code : ∀ c : Int32, ∃ σ', (∀ kk, M_qGoesOn_b112 N kk σ4 c = bd (M_qEndsPart N σ') fun _ σ39 => kk σ39) ∧ Cm Kq σ4 σ' ∧ SQ σ' B n (sk B n p + 1) q μ (K ++ T.reverse ++ [c]) W o base sl := by
    intro c
    obtain ⟨σ5, y1, y2, y3⟩ := qCode_eq s4.qs s4.le5 c
    refine ⟨σ5, fun kk => ?_, y2.wq, s4.ws y2 y3 (by simp only [List.length_append, List.length_reverse, List.length_singleton]; omega)⟩
    unfold M_qGoesOn_b112 M_qGoesOn_b115
    rw [y1, bd_some]
  rcases hk with rfl | rfl | rfl
  · refine ⟨σ4, fun x z => ?_, c4, by rw [show clC 20 = [] from rfl, List.append_nil]; exact s4⟩
    rw [open_, key, if_pos rfl]
    unfold M_qGoesOn_b115
    rw [bd_bd]
    rfl
  · obtain ⟨σ5, y1, y2, y3⟩ := code 5
    refine ⟨σ5, fun x z => ?_, c4.trans y2, y3⟩
    rw [open_, key, if_neg (by decide), if_pos rfl, y1, bd_bd]
    rfl
  · obtain ⟨σ5, y1, y2, y3⟩ := code 6
    refine ⟨σ5, fun x z => ?_, c4.trans y2, y3⟩
    rw [open_, key, if_neg (by decide), if_neg (by decide), y1, bd_bd]
    rfl
/-- the comma of min and max -/
theorem G_comma (hN : 5000 ≤ N) {b : Int32} (s : SQ σ B n p q μ K (W ++ [b] ++ T) o base sl) (hb : base ≤ W.length) (hT : ∀ c ∈ T, isOp c) (hk : b = 21 ∨ b = 22) (h : B (sk B n p) = 44) : ∃ σ', (∀ x z, qGG N was (x + 1) (z + 1) σ = qEE N was N z σ') ∧ Cm Kq σ σ' ∧ SQ σ' B n (sk B n p + 1) q μ (K ++ T.reverse) (W ++ [b + 2]) o base sl := by
  have hB := s.rm.bk
  have hbk : isBk b := by unfold isBk; rcases hk with rfl | rfl <;> decide
  obtain ⟨σ1, c1, s1, e1, _⟩ := G_look hN s
  have e1 := e1 (by omega)
  obtain ⟨σ2, c2, s2, e2⟩ := G_none hN (sk_sk hB) s1 (by unfold noS; omega)
  have e2 := e2 b (qBracket_at hN hbk s2.qs hT hb)
  have hl := s.le
  have hge := sk_ge B n p
  have nb := s1.nb
  simp only [List.length_append, List.length_singleton] at hl
  obtain ⟨σ3, h3, c3, r3⟩ := asksSign_eq hN s2.rm (c := 44) (by decide) (by unfold LD; decide)
  unfold sMust at r3
  rw [sk_sk hB, if_pos h] at r3
  have s3 := s2.rd c3 r3 (by omega)
  obtain ⟨σ4, d1, d2, d3⟩ := drops_loop (N := N) (W0 := W ++ [b]) T.reverse K N σ3 (by rw [List.length_reverse]; omega) (fun c hc => hT c (by simpa using hc)) (by rw [List.reverse_reverse]; exact s3.qs) (by rw [List.length_append]; omega) (Or.inr ⟨W, b, rfl, hbk, hb⟩)
  obtain ⟨σ5, p1, p2, p3, p4⟩ := d3.chg (d := b + 2)
  have s5 : SQ σ5 B n (sk B n p + 1) q μ (K ++ T.reverse) (W ++ [b + 2]) o base sl := s3.ws (d2.trans p3) p4 (by simp only [List.length_append, List.length_reverse, List.length_singleton]; omega)
  refine ⟨σ5, fun x z => qGG_one (fun kk => ?_) s5.rm.bad, c1.trans (c2.trans (c3.lq.trans (d2.wq.trans p3.wq))), s5⟩
  have e3 : M_qGoesOn_b326 N σ2 = some (1, σ5) := by
    unfold M_qGoesOn_b326
    rw [show M_asksSign N σ2 44 = _ from h3, bd_some, if_pos s3.rm.bad, show M_qDropsToBracket N σ3 = some ((), σ4) from d1, bd_some, p2, bo_some, p1, bo_some]
  rw [e1 kk, e2]
  rcases hk with rfl | rfl
  · rw [if_pos rfl]; exact e3
  · rw [if_neg (by decide), if_pos rfl]; exact e3
/-- a bracket that isn't closed -/
theorem G_fail (hN : 5000 ≤ N) {b : Int32} (s : SQ σ B n p q μ K (W ++ [b] ++ T) o base sl) (hb : base ≤ W.length) (hT : ∀ c ∈ T, isOp c) (hs : noS (B (sk B n p))) (hk : ((b = 20 ∨ b = 23 ∨ b = 24) ∧ B (sk B n p) ≠ 41) ∨ ((b = 21 ∨ b = 22) ∧ B (sk B n p) ≠ 44)) {x z : Nat} (hz : 1 ≤ z) (hx : 1 ≤ x) : ∃ σ', qGG N was x z σ = some ((), σ') ∧ RG σ' (1, sk B n p) ∧ Cm Kq σ σ' := by
  obtain ⟨x, rfl⟩ : ∃ m, x = m + 1 := ⟨x - 1, by omega⟩
  obtain ⟨z, rfl⟩ : ∃ m, z = m + 1 := ⟨z - 1, by omega⟩
  have hB := s.rm.bk
  have hbk : isBk b := by
    unfold isBk
    rcases hk with ⟨rfl | rfl | rfl, _⟩ | ⟨rfl | rfl, _⟩ <;> decide
  obtain ⟨σ1, c1, s1, e0, e1⟩ := G_look hN s
  obtain ⟨σ2, c2, s2, e2⟩ := G_none hN (sk_sk hB) s1 hs
  have e2 := e2 b (qBracket_at hN hbk s2.qs hT hb)
  have hb0 : ∀ kk, M_qGoesOn_b0 N kk σ = M_qGoesOn_b122 N σ1 := by
    intro kk
    by_cases w : B (sk B n p) = 41
    · rw [e1 w b (qBracket_at hN hbk s1.qs hT hb)]
      rcases hk with ⟨_, w2⟩ | ⟨rfl | rfl, _⟩
      · exact absurd w w2
      · rw [if_neg (by decide), if_neg (by decide), if_neg (by decide)]
      · rw [if_neg (by decide), if_neg (by decide), if_neg (by decide)]
    · exact e0 w kk
  have main : ∃ σ3, M_qGoesOn_b122 N σ1 = some (0, σ3) ∧ RG σ3 (1, sk B n p) ∧ Cm Kq σ2 σ3 := by
    have f326 : (b = 21 ∨ b = 22) → B (sk B n p) ≠ 44 → ∃ σ3, M_qGoesOn_b326 N σ2 = some (0, σ3) ∧ RG σ3 (1, sk B n p) ∧ Cm Kq σ2 σ3 := by
      intro _ w
      obtain ⟨σ3, h3, c3, r3⟩ := asksSign_eq hN s2.rm (c := 44) (by decide) (by unfold LD; decide)
      unfold sMust at r3
      rw [sk_sk hB, if_neg w] at r3
      have r3 : RF σ3 (1, sk B n p) := r3
      refine ⟨σ3, ?_, s2.rg c3 r3, c3.lq⟩
      unfold M_qGoesOn_b326
      rw [show M_asksSign N σ2 44 = _ from h3, bd_some, if_neg r3.ne]
    have ff : ∃ σ3, (bd (M_fail σ2 1 (σ2.1 2 0)) fun _ σ30 => some ((0 : Int32), σ30)) = some (0, σ3) ∧ RG σ3 (1, sk B n p) ∧ Cm Kq σ2 σ3 := by
      obtain ⟨σ3, y1, y2, y3⟩ := fail_eq s2.rm.bad 1 (sk B n p) (by decide)
      exact ⟨σ3, by rw [s2.rm.at_, show M_fail σ2 1 (nn (sk B n p)) = _ from y1, bd_some], s2.rg y3 y2, y3.lq⟩
    rw [e2]
    rcases hk with ⟨rfl | rfl | rfl, w⟩ | ⟨rfl | rfl, w⟩
    · rw [if_neg (by decide), if_neg (by decide), if_neg (by decide)]; exact ff
    · rw [if_neg (by decide), if_neg (by decide), if_neg (by decide)]; exact ff
    · rw [if_neg (by decide), if_neg (by decide), if_neg (by decide)]; exact ff
    · rw [if_pos rfl]; exact f326 (Or.inl rfl) w
    · rw [if_neg (by decide), if_pos rfl]; exact f326 (Or.inr rfl) w
  obtain ⟨σ3, m1, m2, m3⟩ := main
  obtain ⟨σ4, k1, k2, k3⟩ := bad_rest2 (N := N) (was := was) (by omega) m2 z
  refine ⟨σ4, ?_, k2, c1.trans (c2.trans (m3.trans k3))⟩
  unfold qGG
  show bd (M_qGoesOn_b0 N (rn1 (M_qGoesOn_b0 N) x) σ) _ = _
  rw [hb0, m1, bd_some, k1]
/-- all that waits is told at the end of a sum -/
theorem e_drop : ∀ (R K : List Int32) (z : Nat) (σ : mSt), R.length < z → σ.1 5 0 = 0 → QS σ K (W ++ R.reverse) o base → base = W.length → ∃ σ', rn2 (M_qSums_b53 N) z σ was = some ((), mUI σ' 99 0 was) ∧ Cm Kw σ σ' ∧ QS σ' (K ++ R) W o base := by
  intro R
  induction R with
  | nil =>
    intro K z σ hz h0 h hb
    obtain ⟨z, rfl⟩ : ∃ m, z = m + 1 := ⟨z - 1, by omega⟩
    rw [List.reverse_nil, List.append_nil] at h
    have bl := h.bl
    refine ⟨σ, ?_, Cm.refl σ, by rw [List.append_nil]; exact h⟩
    show M_qSums_b53 N _ σ was = _
    unfold M_qSums_b53 M_qSums_b78
    rw [if_pos h0, h.wn, h.bs, if_pos ((nn_le (by omega) (by omega)).mpr (by omega)), lt2_eq]
  | cons c R ih =>
    intro K z σ hz h0 h hb
    obtain ⟨z, rfl⟩ : ∃ m, z = m + 1 := ⟨z - 1, by omega⟩
    rw [List.reverse_cons, ← List.append_assoc] at h
    have bl := h.bl
    have wn := h.wn
    rw [List.length_append, List.length_singleton, List.length_append] at bl wn
    obtain ⟨σ1, y1, y2, y3⟩ := qDrops_eq h (by rw [List.length_append]; omega)
    obtain ⟨σ2, w1, w2, w3⟩ := ih (K ++ [c]) z σ1 (by simp at hz; omega) (by rw [y2.I _ (by unfold Kw; omega)]; exact h0) y3 hb
    refine ⟨σ2, ?_, y2.trans w2, by rw [List.append_assoc] at w3; exact w3⟩
    show M_qSums_b53 N (rn2 (M_qSums_b53 N) z) σ was = _
    generalize rn2 (M_qSums_b53 N) z = kk at w1 ⊢
    unfold M_qSums_b53
    rw [if_pos h0, wn, h.bs, if_neg (fun w => by have := (nn_le (by omega) (by omega)).mp w; omega), y1, bd_some, w1]
/-- the sum ends -/
theorem G_end (hN : 5000 ≤ N) (s : SQ σ B n p q μ K (W ++ T) o W.length sl) (hT : ∀ c ∈ T, isOp c) (hs : noS (B (sk B n p))) {b0 x z : Nat} (hb0 : b0 ≤ W.length) (hz : 1 ≤ z) (hx : 1 ≤ x) : ∃ σ', qGG N (nn b0) x z σ = some ((), σ') ∧ Cm Kq σ σ' ∧ SQ σ' B n (sk B n p) q μ (K ++ T.reverse) W o b0 sl := by
  obtain ⟨x, rfl⟩ : ∃ m, x = m + 1 := ⟨x - 1, by omega⟩
  obtain ⟨z, rfl⟩ : ∃ m, z = m + 1 := ⟨z - 1, by omega⟩
  have hB := s.rm.bk
  obtain ⟨σ1, c1, s1, e0, e1⟩ := G_look hN s
  obtain ⟨σ2, c2, s2, e2⟩ := G_none hN (sk_sk hB) s1 hs
  have e2 := e2 (-1) (qBracket_no hN s2.qs hT rfl)
  have hl := s2.le
  have nb := s1.nb
  simp only [List.length_append] at hl
  have hb : ∀ kk, M_qGoesOn_b0 N kk σ = M_qGoesOn_b122 N σ1 := by
    intro kk
    by_cases w : B (sk B n p) = 41
    · rw [e1 w (-1) (qBracket_no hN s1.qs hT rfl), if_neg (by decide), if_neg (by decide), if_neg (by decide)]
    · exact e0 w kk
  obtain ⟨σ3, d1, d2, d3⟩ := e_drop (N := N) (was := nn b0) T.reverse K N σ2 (by rw [List.length_reverse]; omega) s2.rm.bad (by rw [List.reverse_reverse]; exact s2.qs) rfl
  have s3 : SQ σ3 B n (sk B n p) q μ (K ++ T.reverse) W o W.length sl := s2.ws d2 d3 (by simp only [List.length_append, List.length_reverse]; omega)
  have c4 : Cm Kw σ3 (mUI σ3 99 0 (nn b0)) := Cm.UI ⟨by decide, by decide⟩
  refine ⟨mUI σ3 99 0 (nn b0), ?_, c1.trans (c2.trans (d2.wq.trans c4.wq)), s3.ws c4 ?_ s3.le⟩
  · unfold qGG
    show bd (M_qGoesOn_b0 N (rn1 (M_qGoesOn_b0 N) x) σ) _ = _
    rw [hb, e2, if_neg (by decide), if_neg (by decide), if_pos rfl, bd_some]
    unfold qRest M_qSums_b48 M_qSums_b49
    rw [if_pos rfl]
    show M_qSums_b15 N (rn3 (M_qSums_b15 N) z) σ2 (nn b0) 0 = _
    rw [show M_qSums_b15 N (rn3 (M_qSums_b15 N) z) σ2 (nn b0) 0 = rn2 (M_qSums_b53 N) N σ2 (nn b0) from if_pos rfl, d1]
  · have h := s3.qs
    refine QS.mk ?_ (fun i v hi => ?_) ?_ (fun i v hi => ?_) ?_ ?_ h.bl hb0 h.ob
    · rw [mI_UI, if_neg (by decide)]; exact h.cn
    · rw [mI_UI, if_neg (by omega)]; exact h.cs i v hi
    · rw [mI_UI, if_neg (by decide)]; exact h.wn
    · rw [mI_UI, if_neg (by omega)]; exact h.ws i v hi
    · rw [mI_UI, if_neg (by decide)]; exact h.op
    · rw [mI_UI, if_pos ⟨rfl, rfl⟩]
end
