/-! PURE LEVEL: statements: glosses, worms -/
set_option maxRecDepth 100000
def RPa (a0 f i : Nat) : Prop := RP f i ∨ (a0 ≤ i ∧ i < CB)
/-- both sides fault with the same, or both go on -/
def Jn {α : Type} (X : Option (Option α × AH)) (Y : Option (Unit × mSt)) (A : AH) (σ : mSt) (a0 c s : Nat) (S : α → AH → mSt → Prop) : Prop :=
  (∃ e A' σ', X = some (none, A') ∧ Ex (RPa a0) c s A A' ∧ aI A' 406 10 0 = nn e.1 ∧ aI A' 407 10 0 = nn e.2 ∧ Y = some ((), σ') ∧ RF σ' e ∧ Cg Kt σ σ') ∨ (∃ r A' σ', X = some (some r, A') ∧ Y = some ((), σ') ∧ Ex (RPa a0) c s A A' ∧ Cg Kt σ σ' ∧ S r A' σ')
section
variable {α : Type} {X : Option (Option α × AH)} {Y : Option (Unit × mSt)} {S S2 : α → AH → mSt → Prop}
variable {N : Nat} {A A' : AH} {σ σ' : mSt} {B : Nat → Nat} {n p o μ : Nat} {t : Option Nat} {a0 L C g w nb cd ar c s c' s' : Nat} {be : List Nat}
theorem Ex.pa (h : Ex RP c s A A') : Ex (RPa a0) c s A A' := h.mono (fun _ _ z => Or.inl z)
theorem Jn.er {e : Nat × Nat} (hX : X = some (none, A')) (pf : PF c s A A' e) (hY : Y = some ((), σ')) (rf : RF σ' e) (cg : Cg Kt σ σ') : Jn X Y A σ a0 c s S :=
  Or.inl ⟨e, A', σ', hX, pf.ex.pa, pf.k, pf.pl, hY, rf, cg⟩
theorem Jn.ok {r : α} (hX : X = some (some r, A')) (hY : Y = some ((), σ')) (ex : Ex (RPa a0) c s A A') (cg : Cg Kt σ σ') (h : S r A' σ') : Jn X Y A σ a0 c s S :=
  Or.inr ⟨r, A', σ', hX, hY, ex, cg, h⟩
theorem Jn.wk (h : Jn X Y A σ a0 c s S) (hc : c ≤ c') (hs : s ≤ s') : Jn X Y A σ a0 c' s' S := by
  rcases h with ⟨e, A', σ', h1, h2, h3⟩ | ⟨r, A', σ', h1, h2, h3, h4⟩
  · exact Or.inl ⟨e, A', σ', h1, h2.wk hc hs, h3⟩
  · exact Or.inr ⟨r, A', σ', h1, h2, h3.wk hc hs, h4⟩
theorem RM.hi {K : Nat → Nat → Prop} (r : RM σ B n p) (m : Cg K σ σ') (d : ∀ k j, K k j → 40 ≤ k ∧ k ≤ 55) : RM σ' B n p := by
  have e : ∀ k j, k < 40 → σ'.1 k j = σ.1 k j := fun k j hk => m.I (fun z => by have := d k j z; omega)
  refine RM.mk ((e _ _ (by decide)).trans r.at_) ((e _ _ (by decide)).trans r.en) ((e _ _ (by decide)).trans r.bad) (fun k hk => (e _ _ (by decide)).trans (r.tp k hk)) r.bk r.pn ?_ (fun k hk j v hv => ?_) ((e _ _ (by decide)).trans r.b6)
  · rw [e 4 0 (by decide)]; exact r.ed
  · have := hk
    unfold isWd at this
    rw [m.I (fun z => by have := d k j z; omega)]; exact r.wd k hk j v hv
/-! which statement it is -/
def pxP (v : List Int32) : Int32 := if v = kw 3 then 1 else if v = kw 4 then 2 else if v = kw 2 then 0 else -1
def pxM (v : List Int32) : Int32 := if v = kw 9 then 1 else if v = kw 10 then 2 else if v = kw 8 then 0 else if v = kw 11 then 3 else if v = kw 12 then 4 else -1
/-- the hash of the String x is told -/
def HsT (A : AH) (x : Nat) (v : List Int32) : Prop := (hsh v ≠ 0 ∧ aI A 1902 x 0 = hsh v) ∨ (hsh v = 0 ∧ aI A 1902 x 0 = 0 ∧ aI A 1903 x 0 ≠ 0)
theorem kwh : hsh (kw 3) = 3655443 ∧ hsh (kw 4) = 93618367 ∧ hsh (kw 2) = 98450442 ∧ hsh (kw 9) = 3059624 ∧ hsh (kw 10) = 3565883 ∧ hsh (kw 8) = 105948009 ∧ hsh (kw 11) = 109761319 ∧ hsh (kw 12) = 110342614 := by decide
abbrev Phs (x f i : Nat) : Prop := i = x ∧ (f = 1902 ∨ f = 1903)
theorem StR.hs {x : Nat} {v : List Int32} (h : StR A x v) (e : Ex (Phs x) c s A A') : StR A' x v := by
  obtain ⟨h1, h2, ar, h3, h4, h5, h6, h7⟩ := h
  have k1 : aK A x ≠ 0 := by rw [h1]; decide
  have k2 : aK A ar ≠ 0 := by rw [h4]; decide
  exact ⟨e.K h1 (by decide), (e.I _ k1 (fun z => by omega)).trans h2, ar, (e.R _ k1 (fun z => by omega)).trans h3, e.K h4 (by decide), (e.L k2).trans h5, h6, fun i v hv => (e.I _ k2 (fun z => by omega)).trans (h7 i v hv)⟩
theorem places_eq (hN : 5000 ≤ N) (gn : GN A) {x : Nat} {v : List Int32} {A0 : AH} (h : NWS A0 A x v) (hl : 1 ≤ v.length) (x2 : Int32) : ∃ A2, X2_places N A x x2 = ck A (ck A2 (X2_places_b86 N x x2 A2 (pxP v))) ∧ Ex (Phs x) 0 0 A A2 ∧ HsT A2 x v ∧ StR A2 x v := by
  have hi := h.hi
  obtain ⟨A2, h1, h2, h3⟩ := hash_new hN gn h.st h.h1 h.h2 h.ar (by omega) (by omega) hl
  have st2 : StR A2 x v := h.st.hs h2
  refine ⟨A2, ?_, h2, h3, st2⟩
  obtain ⟨w3, w4, w2, _⟩ := kwh
  have q3 := equals_eq hN st2 (h2.gn.kst (j := 3) (by decide))
  have q4 := equals_eq hN st2 (h2.gn.kst (j := 4) (by decide))
  have q2 := equals_eq hN st2 (h2.gn.kst (j := 2) (by decide))
  unfold X2_places
  rw [if_pos h.st.1, h1, bda_ok h2.le2, if_pos st2.1, if_pos st2.1, if_pos st2.1, q3, q4, q2, bo_some, bo_some, bo_some]
  unfold pxP
  by_cases c3 : v = kw 3
  · rw [if_pos c3, if_pos c3, c3, w3, if_pos rfl, if_neg (by decide)]
  · rw [if_neg c3, if_neg c3]
    by_cases c4 : v = kw 4
    · rw [if_pos c4, if_pos c4, c4, w4, if_neg (by decide), if_pos rfl, if_neg (by decide)]
    · rw [if_neg c4, if_neg c4]
      by_cases c2 : v = kw 2
      · rw [if_pos c2, if_pos c2, c2, w2, if_neg (by decide), if_neg (by decide), if_pos rfl, if_neg (by decide)]
      · rw [if_neg c2, if_neg c2, if_pos rfl, if_pos rfl, if_pos rfl, ite_self, ite_self, ite_self]
theorem more_eq (hN : 5000 ≤ N) (gn : GN A) {x : Nat} {v : List Int32} (st : StR A x v) (hs : HsT A x v) (x2 : Int32) : X2_more N A x x2 = ck A (ck A (X2_more_b132 N x x2 A (pxM v))) := by
  obtain ⟨_, _, _, w9, w10, w8, w11, w12⟩ := kwh
  have q9 := equals_eq hN st (gn.kst (j := 9) (by decide))
  have q10 := equals_eq hN st (gn.kst (j := 10) (by decide))
  have q8 := equals_eq hN st (gn.kst (j := 8) (by decide))
  have q11 := equals_eq hN st (gn.kst (j := 11) (by decide))
  have q12 := equals_eq hN st (gn.kst (j := 12) (by decide))
  unfold X2_more
  rw [if_pos st.1, hash_old st.1 hs, bda_ok (Le.refl _), if_pos st.1, if_pos st.1, if_pos st.1, if_pos st.1, if_pos st.1, q9, q10, q8, q11, q12, bo_some, bo_some, bo_some, bo_some, bo_some]
  unfold pxM
  by_cases c9 : v = kw 9
  · rw [if_pos c9, if_pos c9, c9, w9, if_pos rfl, if_neg (by decide)]
  · rw [if_neg c9, if_neg c9]
    by_cases c10 : v = kw 10
    · rw [if_pos c10, if_pos c10, c10, w10, if_neg (by decide), if_pos rfl, if_neg (by decide)]
    · rw [if_neg c10, if_neg c10]
      by_cases c8 : v = kw 8
      · rw [if_pos c8, if_pos c8, c8, w8, if_neg (by decide), if_neg (by decide), if_pos rfl, if_neg (by decide)]
      · rw [if_neg c8, if_neg c8]
        by_cases c11 : v = kw 11
        · rw [if_pos c11, if_pos c11, c11, w11, if_neg (by decide), if_neg (by decide), if_neg (by decide), if_pos rfl, if_neg (by decide)]
        · rw [if_neg c11, if_neg c11]
          by_cases c12 : v = kw 12
          · rw [if_pos c12, if_pos c12, c12, w12, if_neg (by decide), if_neg (by decide), if_neg (by decide), if_neg (by decide), if_pos rfl, if_neg (by decide)]
          · rw [if_neg c12, if_neg c12, if_pos rfl, if_pos rfl, if_pos rfl, if_pos rfl, if_pos rfl, ite_self, ite_self, ite_self, ite_self, ite_self]
/-! glosses -/
theorem gl_or : ∀ c, c < 8 → ∀ v, v < 256 → (nn v ||| ((1 : Int32) <<< (nn c &&& 31))) = nn (v ||| (1 <<< c)) ∧ (v ||| (1 <<< c)) < 256 := by decide +kernel
theorem gl_bit : ∀ c, c < 8 → ∀ d, d < 8 → c ≠ d → ∀ v, v < 256 → ((nn (v ||| (1 <<< c)) >>> (nn d &&& 31)) &&& 1) = 1 → ((nn v >>> (nn d &&& 31)) &&& 1) = 1 := by decide +kernel
theorem FT.gloss (h : FT A σ a0 L C g w nb cd ar be) (gn : GN A) {l c v : Nat} (hl : l < L) (hc : c < C) (hv : v < 256) (ev : σ.1 43 l = nn v) (hf : frB σ nb l c = true) (hg : g < 20) : FT (wI (wI A 31 (a0 + 1) l (nn (v ||| (1 <<< c)))) 203 a0 0 (nn (g + 1))) (mUI (mUI σ 43 l (nn (v ||| (1 <<< c)))) 41 2 (nn (g + 1))) a0 L C (g + 1) w nb cd ar be ∧ Ex (fun f i => (f = 31 ∧ i = a0 + 1) ∨ (f = 203 ∧ i = a0)) 0 0 A (wI (wI A 31 (a0 + 1) l (nn (v ||| (1 <<< c)))) 203 a0 0 (nn (g + 1))) ∧ Cg (fun k j => (k = 43 ∧ j = l) ∨ (k = 41 ∧ j = 2)) σ (mUI (mUI σ 43 l (nn (v ||| (1 <<< c)))) 41 2 (nn (g + 1))) := by
  have a1 := h.a1
  have a2 := h.a2
  have bL := h.bL
  have bC := h.bC
  have bn := h.bn
  have bl := h.bl
  have lar := h.lar
  have e1 : Ex (fun f i => (f = 31 ∧ i = a0 + 1) ∨ (f = 203 ∧ i = a0)) 0 0 A (wI A 31 (a0 + 1) l (nn (v ||| (1 <<< c)))) := Ex.wI gn (Or.inl ⟨rfl, rfl⟩) (by omega)
  have e2 : Ex (fun f i => (f = 31 ∧ i = a0 + 1) ∨ (f = 203 ∧ i = a0)) 0 0 A (wI (wI A 31 (a0 + 1) l (nn (v ||| (1 <<< c)))) 203 a0 0 (nn (g + 1))) := e1.trans (Ex.wI e1.gn (Or.inr ⟨rfl, rfl⟩) (by omega))
  have m : Cg (fun k j => (k = 43 ∧ j = l) ∨ (k = 41 ∧ j = 2)) σ (mUI (mUI σ 43 l (nn (v ||| (1 <<< c)))) 41 2 (nn (g + 1))) := (Cg.UI (Or.inl ⟨rfl, rfl⟩)).trans (Cg.UI (Or.inr ⟨rfl, rfl⟩))
  have lt := (gl_or c (by omega) v hv).2
  have eA : ∀ l', aI (wI (wI A 31 (a0 + 1) l (nn (v ||| (1 <<< c)))) 203 a0 0 (nn (g + 1))) 31 (a0 + 1) l' = if l' = l then nn (v ||| (1 <<< c)) else aI A 31 (a0 + 1) l' := by
    intro l'
    rw [aI_wI, if_neg (by omega), aI_wI]
    by_cases z : l' = l
    · rw [if_pos ⟨rfl, rfl, z⟩, if_pos z]
    · rw [if_neg (by omega), if_neg z]
  have eS : ∀ l', (mUI (mUI σ 43 l (nn (v ||| (1 <<< c)))) 41 2 (nn (g + 1))).1 43 l' = if l' = l then nn (v ||| (1 <<< c)) else σ.1 43 l' := by
    intro l'
    rw [mI_UI, if_neg (by omega), mI_UI]
    by_cases z : l' = l
    · rw [if_pos ⟨rfl, z⟩, if_pos z]
    · rw [if_neg (by omega), if_neg z]
  have e45 : ∀ j, (mUI (mUI σ 43 l (nn (v ||| (1 <<< c)))) 41 2 (nn (g + 1))).1 45 j = σ.1 45 j := fun j => by rw [mI_UI, if_neg (by omega), mI_UI, if_neg (by omega)]
  refine ⟨FT.mk (h.fh.ex e2 m (by omega) (by omega) (by omega) (by omega)) (FG.mk ?_ ?_ (by omega) (h.gl.ex h.k e2 (by omega)) (fun l' hl' => ?_)) (h.fw.ex h.k e2 m (by omega) (fun f _ _ => by omega) (fun d _ _ => by omega) (by omega) (fun j _ => by omega)) (h.fb.ex h.k e2 m (by omega) (fun f => by omega) (fun f => by omega) (fun f i hi hk z => ?_) (by omega) (fun j _ => by omega) (fun j _ => by omega) (fun j _ => by omega)) (fun b l' hb hl' he => ?_) (h.fc.ex h.k e2 m (fun f _ _ => by omega) (fun f i hi _ => by unfold ownV at hi; omega) (fun i hi _ => hi) (fun j _ => by omega) (fun j _ => by omega) (fun j _ => by omega) (by omega)) ?_, e2, m⟩
  · rw [aI_wI, if_pos ⟨rfl, rfl, rfl⟩]
  · rw [mI_UI, if_pos ⟨rfl, rfl⟩]
  · rw [eA, eS]
    by_cases z : l' = l
    · rw [if_pos z, if_pos z]
      exact ⟨rfl, _, lt, rfl⟩
    · rw [if_neg z, if_neg z]
      exact h.glv l' hl'
  · unfold isBN at hk
    rcases z with ⟨_, z⟩ | ⟨_, z⟩
    · rw [z, h.gl.2.1] at hk; omega
    · rw [z, h.k] at hk; omega
  · rw [e45] at he
    rw [e45, eS]
    have old := h.fo b l' hb hl' he
    by_cases z : l' = l
    · rw [if_pos z]
      subst z
      obtain ⟨i, hi⟩ : ∃ i, be[b]? = some i := ⟨be[b]'(by omega), List.getElem?_eq_getElem _⟩
      obtain ⟨_, _, _, _, _, _, ⟨d, hd, ed⟩, _⟩ := h.bi b i hi
      rw [ed] at old ⊢
      rw [ev] at old
      intro q
      have hcd : c ≠ d := by
        intro q2
        subst q2
        exact (frB_t.mp hf).2 b hb ⟨he, ed⟩
      exact old (gl_bit c (by omega) d (by omega) hcd v hv q)
    · rw [if_neg z]; exact old
  · rw [aI_wI, if_neg (by omega), aI_wI, if_neg (by omega), mI_UI, if_neg (by omega), mI_UI, if_neg (by omega)]; exact h.th
theorem full_eq (r : RM σ B n p) {k x m pl : Nat} (hk : k < 3) (hx : σ.1 41 k = nn x) (hx2 : x < 1000) (hm : m < 1000) : ∃ σ', M_isFull σ (nn k) (nn m) (nn pl) = some (if x = m then 1 else 0, σ') ∧ ((x = m ∧ RF σ' (5, pl) ∧ Cm Kl σ σ') ∨ (x ≠ m ∧ σ' = σ)) := by
  unfold M_isFull M_isFull_b23
  rw [if_pos r.bad, ld_nn (by rfl) (by show k < 6; omega) (by omega), bo_some, hx]
  by_cases z : x = m
  · obtain ⟨σ2, y1, y2, y3⟩ := fail_eq r.bad 5 pl (by decide)
    rw [if_pos z, if_pos (by rw [z]), show M_fail σ 5 (nn pl) = _ from y1, bd_some, if_neg y2.ne]
    exact ⟨σ2, rfl, Or.inl ⟨z, y2, y3⟩⟩
  · rw [if_neg z, if_neg (fun q => z ((nn_eq (by omega) (by omega)).mp q)), if_pos r.bad]
    exact ⟨σ, rfl, Or.inr ⟨z, rfl⟩⟩
theorem most_no (x2 : Int32) : X2_most A 0 x2 = some (some (), A) := if_pos rfl
theorem most_yes (gn : GN A) (pl : Nat) : ∃ A', X2_most A 1 (nn pl) = some (none, A') ∧ PF 0 0 A A' (5, pl) := by
  refine ⟨_, ?_, PF.thr gn 5 pl⟩
  unfold X2_most
  rw [if_neg (by decide)]
  exact thr A 5 (nn pl)
/-- how many statements there are stays as it was -/
abbrev S53 (A : AH) (σ : mSt) (a0 : Nat) (A' : AH) (σ' : mSt) : Prop := aI A' 200 a0 0 = aI A 200 a0 0 ∧ σ'.1 53 0 = σ.1 53 0
theorem S53.rp (hk : aK A a0 = 2) (a1 : 1101 ≤ a0) (e : Ex RP c s A A') (m : Cm Kn σ σ') : S53 A σ a0 A' σ' := ⟨e.I _ (by rw [hk]; decide) (fun z => by unfold RP at z; omega), m.I _ (by unfold Kn Kl; omega)⟩
theorem S53.tr {A2 : AH} {σ2 : mSt} (h : S53 A σ a0 A' σ') (g : S53 A' σ' a0 A2 σ2) : S53 A σ a0 A2 σ2 := ⟨g.1.trans h.1, g.2.trans h.2⟩
/-- a gloss -/
theorem gloss_j (hN : 5000 ≤ N) (rd : RD A B n p o μ (some a0)) (rm : RM σ B n p) (h : FT A σ a0 L C g w nb cd ar be) (pl x : Nat) : Jn (X2_places_b86 N x (nn pl) A 0) (M_glossTold N σ (nn pl)) A σ a0 0 0 (fun r A' σ' => r = 1 ∧ ∃ p', RD A' B n p' o μ (some a0) ∧ RM σ' B n p' ∧ p < p' ∧ FT A' σ' a0 L C (g + 1) w nb cd ar be ∧ S53 A σ a0 A' σ') := by
  have a1 := h.a1
  have a2 := h.a2
  have bL := h.bL
  have bC := h.bC
  have bg := h.bg
  have hB := rd.bk
  unfold X2_places_b86 M_glossTold
  obtain ⟨σ0, f1, f2⟩ := full_eq (k := 2) (m := 20) (pl := pl) rm (by decide) h.gmm (by omega) (by decide)
  rw [if_pos rfl, rd.to_, bo_some, gI_k h.k, bo_some, h.gm, show M_isFull σ 2 20 (nn pl) = _ from f1, bd_some]
  unfold X2_places_b134
  rcases f2 with ⟨z, f2, f3⟩ | ⟨z, rfl⟩
  · obtain ⟨A1, y1, y2⟩ := most_yes rd.gn pl
    rw [if_pos (show nn g = (20 : Int32) by rw [z]; rfl), if_pos z, if_neg (by decide), y1, bx_none]
    exact Jn.er rfl y2 rfl f2 f3.lt
  · rw [if_neg (fun q : nn g = (20 : Int32) => z ((nn_eq (b := 20) (by omega) (by omega)).mp q)), if_neg z, if_pos rfl, most_no, bx_some]
    have lx := leafX hN rd h
    obtain ⟨y, σ1, m1, m2, m3, _⟩ := leafM hN rm h
    rw [m1, bd_some]
    cases hv : sLeaf B n L p with
    | error e =>
      rw [hv] at lx m3
      obtain ⟨A1, l1, l2⟩ := lx
      have m3 : RF σ1 e := m3
      have h40 : σ1.1 40 1 = nn C := (m2.I _ (by unfold Kl; omega)).trans h.cem
      rw [l1, bx_none, freeM_bad m3 h40, bd_some, if_neg m3.ne]
      exact Jn.er rfl l2 rfl m3 m2.lt
    | ok l =>
      rw [hv] at lx m3
      obtain ⟨r1, A1, l1, l2, l3, l4, l5, l6⟩ := lx
      obtain ⟨m4, m5, m6⟩ := m3
      have hl := (sNum_ok hB hv).2.2.1
      have hge := sk_ge B n p
      have h1 := h.ex (σ' := σ1) l3 (rp_hi a1) m2.ln
      obtain ⟨g1, g2, g3⟩ := h1.gl
      obtain ⟨gv, v, hv256, gv2⟩ := h1.glv l.1 (by omega)
      have fx := freeX hN l4 h1 (l := l.1) (by omega)
      obtain ⟨y2, σ2, n1, n2, n3⟩ := freeM hN m5 h1 (l := l.1) (by omega)
      rw [l1, bx_some, l2, m4, l4.to_, bo_some, gN_k h1.k, g1, bo_some, dI_nn g2 (by omega) (by omega), bo_some, gv, n1, bd_some]
      cases hc : sFree B n C (frB σ1 nb) l.1 l.2.2 with
      | error e =>
        rw [hc] at fx n3
        obtain ⟨A2, q1, q2⟩ := fx
        have n3 : RF σ2 e := n3
        rw [q1, bx_none, if_neg n3.ne]
        exact Jn.er rfl ((PF.of l3 q2).wk (by omega) (by omega)) rfl n3 (m2.lt.trans n2.lt)
      | ok c =>
        rw [hc] at fx n3
        obtain ⟨r2, A2, q1, q2, q3, q4, q5, q6⟩ := fx
        obtain ⟨n4, n5⟩ := n3
        have h2 := h1.ex (σ' := σ2) q3 (rp_hi a1) n2.ln
        obtain ⟨g1', g2', g3'⟩ := h2.gl
        have gv3 : σ2.1 43 l.1 = nn v := (n2.I _ (by unfold Kl; omega)).trans gv2
        have fe : frB σ2 nb = frB σ1 nb := frB_cm n2 (by unfold Kl; omega) (by unfold Kl; omega)
        obtain ⟨ft, ex, cg⟩ := h2.gloss q3.gn (l := l.1) (c := c.1) (v := v) l6 q5 hv256 gv3 (by rw [fe]; exact q6) (by omega)
        have go := (gl_or c.1 (by omega) v hv256).1
        have hcv : l.2.2 < c.2.2 := by
          unfold sFree at hc
          cases hz : sNum B n 0 (C - 1) l.2.2 with
          | error e => rw [hz, eb_er] at hc; cases hc
          | ok z =>
            rw [hz, eb_ok] at hc
            have := (sNum_ok hB hz).2.2.1
            have h9 := sk_ge B n l.2.2
            split at hc
            · cases hc; omega
            · cases hc
        have k203 : aK (wI A2 31 (a0 + 1) l.1 (nn (v ||| (1 <<< c.1)))) a0 = 2 := h2.k
        have exA : Ex (RPa a0) 0 0 A (wI (wI A2 31 (a0 + 1) l.1 (nn (v ||| (1 <<< c.1)))) 203 a0 0 (nn (g + 1))) := ((l3.trans q3).pa.trans (ex.mono (fun f i z => Or.inr (by omega)))).wk (by omega) (by omega)
        refine Jn.ok (r := 1) (A' := wI (wI A2 31 (a0 + 1) l.1 (nn (v ||| (1 <<< c.1)))) 203 a0 0 (nn (g + 1))) (σ' := mUI (mUI σ2 43 l.1 (nn (v ||| (1 <<< c.1)))) 41 2 (nn (g + 1))) ?_ ?_ exA (m2.lt.trans (n2.lt.trans (cg.mono (fun k j z => z.elim (fun z => by rw [z.1]; exact Or.inl rfl) (fun z => by rw [z.1, z.2]; exact Or.inr (by decide)))))) ⟨rfl, c.2.2, q4.ex ex (fun f => by omega) (fun f => by omega), n5.hi cg (fun k j z => by omega), by omega, ft, (S53.rp h.k a1 (l3.trans q3) (m2.ln.trans n2.ln)).tr ⟨ex.I _ (by rw [h2.k]; decide) (by omega), cg.I (by omega)⟩⟩
        · rw [q1, bx_some, q2, gv2, go, uI_nn g2' (by omega) (by omega), bo_some, show aR (wI A2 31 (a0 + 1) l.1 (nn (v ||| (1 <<< c.1)))) 306 9 0 = some a0 from q4.to_, bo_some, gI_k k203, bo_some, aI_wI, if_neg (by omega), h2.gm, nn_succ, pI_k k203, bo_some]
        · rw [if_pos n5.bad, ld_nn (by rfl) (by show l.1 < 6; omega) (by omega), bo_some, gv3, n4, go, stI_nn (by rfl) (by show l.1 < 6; omega) (by omega), bo_some, show (2 : Int32) = nn 2 from rfl, ld_nn (by rfl) (by decide) (by decide), bo_some, mI_UI, if_neg (by omega), h2.gmm, nn_succ, stI_nn (by rfl) (by decide) (by decide), bo_some]
end
