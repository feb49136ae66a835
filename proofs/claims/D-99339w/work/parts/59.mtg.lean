/-! PURE LEVEL: a meeting -/
set_option maxRecDepth 100000
/-- both sides in the midst of a day; th: it is only thought -/
def PR (A : AH) (σ : mSt) (fo nb L C W x : Nat) (th : Bool) (n : Nat) (ρ : Nat → Nat) (ε : Int32) (δ η : Nat → Int32) : Prop :=
  (FR A σ fo nb L C W) ∧
  (KS A) ∧
  (MO A 11) ∧
  (SR A x (σ.1 56) nb L C) ∧
  (KR A x n ρ) ∧
  (th = false → KV A n ρ (σ.1 56)) ∧
  (σ.1 61 0 = if th = true then 1 else 0) ∧
  (aI A 608 x 0 = σ.1 62 0 + ε) ∧
  (∀ b, b < nb → aI A 31 (x + 47) b = σ.1 63 b + δ b) ∧
  (th = true → ∀ j, 39 ≤ j → σ.1 56 j = η j)
theorem PR.fr {A : AH} {σ : mSt} {fo nb L C W x : Nat} {th : Bool} {n : Nat} {ρ : Nat → Nat} {ε : Int32} {δ η : Nat → Int32} (h : PR A σ fo nb L C W x th n ρ ε δ η) : FR A σ fo nb L C W := h.1
theorem PR.ks {A : AH} {σ : mSt} {fo nb L C W x : Nat} {th : Bool} {n : Nat} {ρ : Nat → Nat} {ε : Int32} {δ η : Nat → Int32} (h : PR A σ fo nb L C W x th n ρ ε δ η) : KS A := h.2.1
theorem PR.mo {A : AH} {σ : mSt} {fo nb L C W x : Nat} {th : Bool} {n : Nat} {ρ : Nat → Nat} {ε : Int32} {δ η : Nat → Int32} (h : PR A σ fo nb L C W x th n ρ ε δ η) : MO A 11 := h.2.2.1
theorem PR.st {A : AH} {σ : mSt} {fo nb L C W x : Nat} {th : Bool} {n : Nat} {ρ : Nat → Nat} {ε : Int32} {δ η : Nat → Int32} (h : PR A σ fo nb L C W x th n ρ ε δ η) : SR A x (σ.1 56) nb L C := h.2.2.2.1
theorem PR.kr {A : AH} {σ : mSt} {fo nb L C W x : Nat} {th : Bool} {n : Nat} {ρ : Nat → Nat} {ε : Int32} {δ η : Nat → Int32} (h : PR A σ fo nb L C W x th n ρ ε δ η) : KR A x n ρ := h.2.2.2.2.1
theorem PR.kv {A : AH} {σ : mSt} {fo nb L C W x : Nat} {th : Bool} {n : Nat} {ρ : Nat → Nat} {ε : Int32} {δ η : Nat → Int32} (h : PR A σ fo nb L C W x th n ρ ε δ η) : th = false → KV A n ρ (σ.1 56) := h.2.2.2.2.2.1
theorem PR.tf {A : AH} {σ : mSt} {fo nb L C W x : Nat} {th : Bool} {n : Nat} {ρ : Nat → Nat} {ε : Int32} {δ η : Nat → Int32} (h : PR A σ fo nb L C W x th n ρ ε δ η) : σ.1 61 0 = if th = true then 1 else 0 := h.2.2.2.2.2.2.1
theorem PR.pa {A : AH} {σ : mSt} {fo nb L C W x : Nat} {th : Bool} {n : Nat} {ρ : Nat → Nat} {ε : Int32} {δ η : Nat → Int32} (h : PR A σ fo nb L C W x th n ρ ε δ η) : aI A 608 x 0 = σ.1 62 0 + ε := h.2.2.2.2.2.2.2.1
theorem PR.mn {A : AH} {σ : mSt} {fo nb L C W x : Nat} {th : Bool} {n : Nat} {ρ : Nat → Nat} {ε : Int32} {δ η : Nat → Int32} (h : PR A σ fo nb L C W x th n ρ ε δ η) : ∀ b, b < nb → aI A 31 (x + 47) b = σ.1 63 b + δ b := h.2.2.2.2.2.2.2.2.1
theorem PR.hi {A : AH} {σ : mSt} {fo nb L C W x : Nat} {th : Bool} {n : Nat} {ρ : Nat → Nat} {ε : Int32} {δ η : Nat → Int32} (h : PR A σ fo nb L C W x th n ρ ε δ η) : th = true → ∀ j, 39 ≤ j → σ.1 56 j = η j := h.2.2.2.2.2.2.2.2.2
theorem PR.mk {A : AH} {σ : mSt} {fo nb L C W x : Nat} {th : Bool} {n : Nat} {ρ : Nat → Nat} {ε : Int32} {δ η : Nat → Int32} (h_fr : FR A σ fo nb L C W) (h_ks : KS A) (h_mo : MO A 11) (h_st : SR A x (σ.1 56) nb L C) (h_kr : KR A x n ρ) (h_kv : th = false → KV A n ρ (σ.1 56)) (h_tf : σ.1 61 0 = if th = true then 1 else 0) (h_pa : aI A 608 x 0 = σ.1 62 0 + ε) (h_mn : ∀ b, b < nb → aI A 31 (x + 47) b = σ.1 63 b + δ b) (h_hi : th = true → ∀ j, 39 ≤ j → σ.1 56 j = η j) : PR A σ fo nb L C W x th n ρ ε δ η := ⟨h_fr, h_ks, h_mo, h_st, h_kr, h_kv, h_tf, h_pa, h_mn, h_hi⟩
def PX (x : Nat) (_f i : Nat) : Prop := (x ≤ i ∧ i < x + 48) ∨ i = 12
def KD (k : Nat) : Prop := k = 55 ∨ k = 56 ∨ k = 58 ∨ k = 59 ∨ k = 60 ∨ k = 62 ∨ k = 63 ∨ k = 100 ∨ k = 101
theorem PX.dyn {x : Nat} (hx : isStb x = true) {A A' : AH} (h : Ch (PX x) A A') : SameOn dyn A A' := by
  apply h.sameOn
  intro f i hi hp
  rcases hp with ⟨h1, h2⟩ | h1
  · have := (st_at hx (d := i - x) (by omega)).2.2.1
    rw [show x + (i - x) = i by omega] at this
    exact this hi
  · exact dyn12 (h1 ▸ hi)
theorem PX.fr {x : Nat} (hx : isStb x = true) {A A' : AH} {σ σ' : mSt} {fo nb L C W : Nat} (h : FR A σ fo nb L C W) (c : Ch (PX x) A A') (m : Cm KD σ σ') : FR A' σ' fo nb L C W := by
  have h16 := (st_at hx (d := 0) (by decide)).2.2.2
  exact h.same (PX.dyn hx c) (c.R 0 (by unfold PX; omega)) (m.sameM (fun k hk z => by unfold Kfo at hk; unfold KD at z; omega))
theorem PX.mo {x : Nat} (hx : isStb x = true) {A A' : AH} (h : MO A 11) (c : Ch (PX x) A A') : MO A' 11 := by
  have h16 := (st_at hx (d := 0) (by decide)).2.2.2
  obtain ⟨h1, h2, h3, h4⟩ := h
  exact ⟨(congrFun c.K _).trans h1, (c.R 0 (by unfold PX; omega)).trans h2, (congrFun c.K _).trans h3, (congrFun c.L _).trans h4⟩
theorem m_isMet {σ : mSt} {b m : Nat} (hb : b < 8) (hm : m ≤ 9999) (e : σ.1 56 (7 + 4 * b + 3) = nn m) : ∃ σ', M_isMet σ (nn b) = some ((), σ') ∧ Cm (fun k => k = 56 ∨ k = 63) σ σ' ∧ (∀ j, σ'.1 56 j = if j = 7 + 4 * b + 3 then nn (min 9999 (m + 1)) else σ.1 56 j) ∧ ∀ j, σ'.1 63 j = if j = b then σ.1 63 b + 1 else σ.1 63 j := by
  have d63 : ∀ τ : mSt, M_isMet_b31 τ (nn b) = some ((), mUI τ 63 b (τ.1 63 b + 1)) := by
    intro τ
    unfold M_isMet_b31
    rw [ld_nn (by rfl) (by show b < 8; omega) (by omega), bo_some, stI_nn (by rfl) (by show b < 8; omega) (by omega), bo_some]
  unfold M_isMet
  rw [m_metOf σ hb, bo_some, e, show (9999 : Int32) = nn 9999 from rfl]
  by_cases z : 9999 ≤ m
  · rw [if_pos ((nn_le (by omega) (by omega)).mpr z), d63]
    refine ⟨_, rfl, Cm.UI (Or.inr rfl), fun j => ?_, fun j => ?_⟩
    · rw [mI_UI, if_neg (by omega)]
      by_cases y : j = 7 + 4 * b + 3
      · rw [if_pos y, y, e, show min 9999 (m + 1) = m by omega]
      · rw [if_neg y]
    · rw [mI_UI]
      by_cases y : j = b
      · rw [if_pos ⟨rfl, y⟩, if_pos y]
      · rw [if_neg (fun q => y q.2), if_neg y]
  · rw [if_neg (fun q => z ((nn_le (by omega) (by omega)).mp q)), bo_some, nn_succ, show (3 : Int32) = nn 3 from rfl, ix7a, stI_nn (by rfl) (by show 7 + 4 * b + 3 < 160; omega) (by omega), bo_some, d63]
    refine ⟨_, rfl, (Cm.UI (Or.inl rfl)).trans (Cm.UI (Or.inr rfl)), fun j => ?_, fun j => ?_⟩
    · rw [mI_UI, if_neg (by omega), mI_UI]
      by_cases y : j = 7 + 4 * b + 3
      · rw [if_pos ⟨rfl, y⟩, if_pos y, show min 9999 (m + 1) = m + 1 by omega]
      · rw [if_neg (fun q => y q.2), if_neg y]
    · have e63 : ∀ j, (mUI σ 56 (7 + 4 * b + 3) (nn (m + 1))).1 63 j = σ.1 63 j := fun j => by rw [mI_UI, if_neg (by omega)]
      rw [mI_UI, e63, e63]
      by_cases y : j = b
      · rw [if_pos ⟨rfl, y⟩, if_pos y]
      · rw [if_neg (fun q => y q.2), if_neg y]
theorem meeting_eq {N : Nat} (hN : 5000 ≤ N) {A : AH} {σ : mSt} {fo nb L C W x : Nat} {th : Bool} {n : Nat} {ρ : Nat → Nat} {ε : Int32} {δ η : Nat → Int32} (hx : isStb x = true) (h : PR A σ fo nb L C W x th n ρ ε δ η) {a b o : Nat} (ha : a < nb) (hb : b < nb) (hne : a ≠ b) (ho : o < 100) (h58 : σ.1 58 0 = σ.1 56 0) (h59 : σ.1 59 0 = nn o) :
    ∃ A' σ' n' ρ', X5_meeting N A x (nn a) (nn b) (nn o) = some ((), A') ∧ M_meet N σ (nn a) (nn b) = some ((), σ') ∧ Ch (PX x) A A' ∧ Cm KD σ σ' ∧ PR A' σ' fo nb L C W x th n' ρ' ε δ η ∧ σ'.1 58 0 = σ.1 58 0 ∧ σ'.1 59 0 = σ.1 59 0 ∧ σ'.1 56 0 = σ.1 56 0 ∧ σ'.1 62 0 = σ.1 62 0 + 1 := by
  have bn := h.fr.bn
  have bL := h.fr.bL
  have bC := h.fr.bC
  have h16 := (st_at hx (d := 0) (by decide)).2.2.2
  obtain ⟨d, hd, ed⟩ := h.st.dayb
  obtain ⟨la, hla, ela⟩ := h.st.lfb a ha
  obtain ⟨ca, hca, eca⟩ := h.st.ceb a ha
  obtain ⟨pa, hpa, epa⟩ := h.st.pub a ha
  obtain ⟨pb, hpb, epb⟩ := h.st.pub b hb
  obtain ⟨ma, hma, ema⟩ := h.st.meb a ha
  obtain ⟨mb, hmb, emb⟩ := h.st.meb b hb
  obtain ⟨ia, ta, _, _, _, _, hta, eta⟩ := h.fr.beingOf ha
  obtain ⟨ib, tb, _, _, _, _, htb, etb⟩ := h.fr.beingOf hb
  -- the toll, one number for both sides
  have hop : (if la = o ∨ la + 1 = o then (1 : Int64) else 0) = 0 ∨ (if la = o ∨ la + 1 = o then (1 : Int64) else 0) = 1 := by split <;> simp
  have hB : BE 127 (envS d la ca ta pa (if la = o ∨ la + 1 = o then 1 else 0) tb) := envS_BE (by omega) (by omega) (by omega) (by omega) (by omega) hop (by omega)
  have toll : ∃ v : Int64, (-1000000 ≤ v ∧ v ≤ 1000000) ∧
      (∀ B, SameOn dyn A B → (aR B 213 fo 0 = none ∧ v = 1) ∨ ∃ vid, aR B 213 fo 0 = some vid ∧ ∀ A5, SameOn dyn B A5 → MO A5 11 → (∀ k, cx 127 k → mom A5 11 k = envS d la ca ta pa (if la = o ∨ la + 1 = o then 1 else 0) tb k) → valF N A5 vid 11 = some (v, A5)) ∧
      (∀ τ : mSt, SameM Kfo σ τ → (∀ k, k < 9 → cx 127 k → M_qPartOf τ (nn k) (nn a) = some (envS d la ca ta pa (if la = o ∨ la + 1 = o then 1 else 0) tb k)) → ∃ τ', Cm K55 τ τ' ∧ (bo (ld 2 τ 49 6) fun v7 => if v7 = (-1) then (M_meet_b60 N τ (nn a) (nn b) 1) else (bd (M_codesTell N τ 2 (nn a)) fun r8 σ9 => M_meet_b60 N σ9 (nn a) (nn b) r8)) = M_meet_b60 N τ' (nn a) (nn b) v) := by
    have l49 : ∀ τ : mSt, ld 2 τ 49 6 = some (τ.1 49 6) := fun τ => by rw [show (6 : Int32) = nn 6 from rfl, ld_nn (by rfl) (by decide) (by decide)]
    rcases code_cases hN (by decide) h.fr.to_ hB with ⟨q1, q2⟩ | ⟨v, vid, q1, q2, q3, q4, q5⟩
    · refine ⟨1, by decide, fun B hs => Or.inl ⟨((hs fo h.fr.fd).2.2 _ _).2.2.trans q1, rfl⟩, fun τ hm _ => ⟨τ, Cm.refl τ, ?_⟩⟩
      rw [l49, bo_some, (hm 49 (by unfold Kfo; omega) 6).1, if_pos q2]
    · refine ⟨v, q1, fun B hs => Or.inr ⟨vid, ((hs fo h.fr.fd).2.2 _ _).2.2.trans q2, fun A5 h5 m5 e5 => q4 A5 ?_ m5 e5⟩, fun τ hm hP => ?_⟩
      · intro i hi
        have y1 := hs i hi
        have y2 := h5 i hi
        exact ⟨y2.1.trans y1.1, y2.2.1.trans y1.2.1, fun f j => ⟨(y2.2.2 f j).1.trans (y1.2.2 f j).1, (y2.2.2 f j).2.1.trans (y1.2.2 f j).2.1, (y2.2.2 f j).2.2.trans (y1.2.2 f j).2.2⟩⟩
      · obtain ⟨τ', y1, y2⟩ := q5 τ (nn a) hm hP
        refine ⟨τ', y2, ?_⟩
        have y1' : M_codesTell N τ 2 (nn a) = some (v, τ') := y1
        rw [l49, bo_some, (hm 49 (by unfold Kfo; omega) 6).1, if_neg q3, y1', bd_some]
  obtain ⟨v, hv, tX, tM⟩ := toll
  -- the component
  let A3 := wI A 31 (x + 5) a (nn (min 9999 (ma + 1)))
  let A6 := wI A3 31 (x + 5) b (nn (min 9999 (mb + 1)))
  let A8 := wI A6 31 (x + 47) a (aI A6 31 (x + 47) a + 1)
  let A10 := wI A8 31 (x + 47) b (aI A8 31 (x + 47) b + 1)
  have c10 : Ch (fun f i => f = 31 ∧ (i = x + 5 ∨ i = x + 47)) A A10 := (((Ch.wI ⟨rfl, Or.inl rfl⟩).trans (Ch.wI ⟨rfl, Or.inl rfl⟩)).trans (Ch.wI ⟨rfl, Or.inr rfl⟩)).trans (Ch.wI ⟨rfl, Or.inr rfl⟩)
  have c10' : Ch (PX x) A A10 := c10.mono (fun f i z => Or.inl (by omega))
  have s10 := PX.dyn hx c10'
  have f10 : FR A10 σ fo nb L C W := PX.fr hx h.fr c10' (Cm.refl σ)
  obtain ⟨A11, p1, p2, p3⟩ := paysX (N := N) f10 hx (PX.mo hx h.mo c10') ha hb hne (by omega) ho ((c10.I 0 (by omega)).trans (h.st.day.trans ed)) ((c10.I a (by omega)).trans ((h.st.lf a ha).trans ela)) ((c10.I a (by omega)).trans ((h.st.ce a ha).trans eca)) eta ((c10.I a (by omega)).trans ((h.st.pu a ha).trans epa)) etb ((c10.I b (by omega)).trans ((h.st.pu b hb).trans epb)) hpa hpb hv (tX A10 s10)
  have c11' : Ch (PX x) A10 A11 := p2.mono (fun f i z => by unfold PX; omega)
  have kr11 : KR A11 x n ρ := by
    have hR : ∀ k, aR A11 36 (x + 6) k = aR A 36 (x + 6) k := fun k => (p2.R k (by omega)).trans (c10.R k (by omega))
    refine KR.mk ?_ h.kr.kb (fun k hk => by rw [hR]; exact h.kr.rr k hk) h.kr.ri
    rw [p2.I 0 (by omega), c10.I 0 (by omega)]; exact h.kr.kn
  obtain ⟨A12, ρ', q1, q2, q3, q4⟩ := tellsX hN hx ((h.ks.ch c10).ch p2) kr11 (nn a) (nn b)
  have c12' : Ch (PX x) A11 A12 := q2.mono (fun f i z => by unfold Ptl at z; unfold PX; omega)
  let A13 := wI A12 608 x 0 (aI A12 608 x 0 + 1)
  have c13' : Ch (PX x) A12 A13 := Ch.wI (Or.inl (by omega))
  have i12 : ∀ f i j, ¬ Ptl x f i → ¬ (i = 12 ∨ i = x + 4) → ¬ (f = 31 ∧ (i = x + 5 ∨ i = x + 47)) → aI A12 f i j = aI A f i j := fun f i j z1 z2 z3 => (q2.I j z1).trans ((p2.I j z2).trans (c10.I j z3))
  have i13 : ∀ f i j, ¬ (f = 608 ∧ i = x) → aI A13 f i j = aI A12 f i j := fun f i j z => by
    show aI (wI A12 608 x 0 (aI A12 608 x 0 + 1)) f i j = _
    rw [aI_wI, if_neg (by omega)]
  -- the reference
  let σ1 := mUI σ 62 0 (σ.1 62 0 + 1)
  obtain ⟨σ2, r1, r2, r3, r4⟩ := m_isMet (σ := σ1) (b := a) (by omega) hma (by show σ1.1 56 _ = _; rw [mI_UI, if_neg (by omega)]; exact ema)
  have e56_1 : ∀ j, σ1.1 56 j = σ.1 56 j := fun j => by show (mUI σ 62 0 _).1 56 j = _; rw [mI_UI, if_neg (by omega)]
  obtain ⟨σ3, t1, t2, t3, t4⟩ := m_isMet (σ := σ2) (b := b) (by omega) hmb (by rw [r3, if_neg (by omega), e56_1]; exact emb)
  have m3 : Cm KD σ σ3 := ((Cm.UI (by unfold KD; omega)).trans (r2.mono (fun k z => by unfold KD; omega))).trans (t2.mono (fun k z => by unfold KD; omega))
  have e56_3 : ∀ j, σ3.1 56 j = if j = 7 + 4 * b + 3 then nn (min 9999 (mb + 1)) else if j = 7 + 4 * a + 3 then nn (min 9999 (ma + 1)) else σ.1 56 j := fun j => by rw [t3, r3, e56_1]
  -- what is kept
  have kept : ∃ σ4, M_isKept N σ3 (nn a) (nn b) = some ((), σ4) ∧ Cm (fun k => k = 56) σ3 σ4 ∧ (∀ j, j < 39 → σ4.1 56 j = σ3.1 56 j) ∧ (th = false → KV A12 (min 40 (n + 1)) ρ' (σ4.1 56)) ∧ (th = true → ∀ j, σ4.1 56 j = σ3.1 56 j) := by
    cases hth : th with
    | true =>
      refine ⟨σ3, ?_, Cm.refl σ3, fun j _ => rfl, fun z => (by cases z), fun _ j => rfl⟩
      unfold M_isKept
      rw [if_neg]
      rw [m3.I 0 (by unfold KD; omega), h.tf, hth]; decide
    | false =>
      have kv := h.kv hth
      obtain ⟨σ4, y1, y2, y3, y4, y5, y6, y7, y8⟩ := keptM hN (σ := σ3) (n := n) h.kr.kb (by rw [e56_3, if_neg (by omega), if_neg (by omega)]; exact kv.1) (by rw [m3.I 0 (by unfold KD; omega), h.tf, hth]; rfl) (nn a) (nn b)
      refine ⟨σ4, y1, y2, y3, fun _ => ⟨y4, ?_⟩, fun z => (by cases z)⟩
      intro k i hk hi
      have kb := h.kr.kb
      obtain ⟨w1, w2, w3, w4⟩ := q4
      by_cases z : k + 1 < min 40 (n + 1)
      · obtain ⟨kk, ekk, hk1, hk2⟩ : ∃ kk, (if n = 40 then k + 1 else k) = kk ∧ kk < 40 ∧ kk < n := by
          by_cases q : n = 40
          · exact ⟨k + 1, if_pos q, by omega, by omega⟩
          · exact ⟨k, if_neg q, by omega, by omega⟩
        have w1' := w1 k i z
        have y5' := y5 k i hi z
        rw [ekk] at w1' y5'
        have hr : aI A11 31 (ρ kk) i = aI A 31 (ρ kk) i := by
          have hb2 := (h.kr.rr kk hk1).2
          exact (p2.I i (by omega)).trans (c10.I i (by omega))
        rw [w1', y5', e56_3, if_neg (by omega), if_neg (by omega), hr]
        exact kv.2 _ i hk2 hi
      · have hk' : k = min 40 (n + 1) - 1 := by omega
        subst hk'
        have e600 : aI A11 600 x 0 = σ3.1 56 0 := by
          rw [p2.I 0 (by omega), c10.I 0 (by omega), e56_3, if_neg (by omega), if_neg (by omega)]; exact h.st.day
        have hi3 : i = 0 ∨ i = 1 ∨ i = 2 := by omega
        rcases hi3 with rfl | rfl | rfl
        · rw [w2, Nat.add_zero, y6, e600]
        · rw [w3, y7]
        · rw [w4, y8]
  obtain ⟨σ4, s1, s2, s3, s4, s5⟩ := kept
  have m4 : Cm KD σ σ4 := m3.trans (s2.mono (fun k z => by unfold KD; omega))
  let σ6 := mUI σ4 60 0 (nn tb)
  have m6 : Cm KD σ σ6 := m4.trans (Cm.UI (by unfold KD; omega))
  have e56_6 : ∀ j, σ6.1 56 j = σ4.1 56 j := fun j => by show (mUI σ4 60 0 _).1 56 j = _; rw [mI_UI, if_neg (by omega)]
  have e56_6l : ∀ j, j < 39 → σ6.1 56 j = if j = 7 + 4 * b + 3 then nn (min 9999 (mb + 1)) else if j = 7 + 4 * a + 3 then nn (min 9999 (ma + 1)) else σ.1 56 j := fun j hj => by rw [e56_6, s3 j hj, e56_3]
  have h6m : ∀ k j, k ≠ 56 → k ≠ 60 → k ≠ 62 → k ≠ 63 → σ6.1 k j = σ.1 k j := by
    intro k j z1 z2 z3 z4
    show (mUI σ4 60 0 _).1 k j = _
    rw [mI_UI, if_neg (by omega), (s2 k j z1).1, (t2 k j (by omega)).1, (r2 k j (by omega)).1]
    show (mUI σ 62 0 _).1 k j = _
    rw [mI_UI, if_neg (by omega)]
  have sm6 : SameM Kfo σ σ6 := m6.sameM (fun k hk z => by unfold Kfo at hk; unfold KD at z; omega)
  have part := part_eq (σ := σ6) (b := a) (o := o) (d := d) (l := la) (c := ca) (t := ta) (p := pa) (by omega) (by omega) ho ((h6m 58 0 (by omega) (by omega) (by omega) (by omega)).trans (h58.trans ed)) (by rw [e56_6l _ (by omega), if_neg (by omega), if_neg (by omega)]; exact ela) (by rw [e56_6l _ (by omega), if_neg (by omega), if_neg (by omega)]; exact eca) ((h6m 46 _ (by omega) (by omega) (by omega) (by omega)).trans eta) (by rw [e56_6l _ (by omega), if_neg (by omega), if_neg (by omega)]; exact epa) ((h6m 59 0 (by omega) (by omega) (by omega) (by omega)).trans h59) tb
  obtain ⟨σ9, u1, u2⟩ := tM σ6 sm6 (by
    intro k hk hc
    have hk7 := cx127 k hc
    rcases Nat.lt_or_ge k 6 with z | z
    · exact part k z
    · have : k = 6 := by omega
      subst this
      unfold M_qPartOf
      rw [if_neg (by decide), if_neg (by decide), if_neg (by decide), if_neg (by decide), if_neg (by decide), if_neg (by decide), if_pos (by rfl)]
      show some (Int32.toInt64 ((mUI σ4 60 0 (nn tb)).1 60 0)) = _
      rw [mI_UI, if_pos ⟨rfl, rfl⟩]; rfl)
  have e56_9 : ∀ j, σ9.1 56 j = σ6.1 56 j := fun j => u1.I j (by unfold K55; omega)
  obtain ⟨σ', v1, v2, v3⟩ := m_meet60 (N := N) (σ := σ9) (a := a) (b := b) (p := pa) (pb := pb) (by omega) (by omega) hne (by rw [e56_9, e56_6l _ (by omega), if_neg (by omega), if_neg (by omega)]; exact epa) (by rw [e56_9, e56_6l _ (by omega), if_neg (by omega), if_neg (by omega)]; exact epb) hpa hpb hv
  have m' : Cm KD σ σ' := (m6.trans (u1.mono (fun k z => by unfold K55 at z; unfold KD; omega))).trans (v2.mono (fun k z => by unfold KD; omega))
  have cA : Ch (PX x) A A13 := ((c10'.trans c11').trans c12').trans c13'
  have e46 : ld 2 σ4 46 (8 + nn b) = some (nn tb) := by
    rw [show (8 : Int32) = nn 8 from rfl, nn_add, ld_nn (by rfl) (by show 8 + b < 16; omega) (by omega), m4.I _ (by unfold KD; omega), etb]
  have low : ∀ j, j < 39 → σ'.1 56 j = if j = 7 + 4 * a + 2 then nn (payV v pa pb).1 else if j = 7 + 4 * b + 2 then nn (payV v pa pb).2 else if j = 7 + 4 * b + 3 then nn (min 9999 (mb + 1)) else if j = 7 + 4 * a + 3 then nn (min 9999 (ma + 1)) else σ.1 56 j := fun j hj => by rw [v3, e56_9, e56_6l j hj]
  have keep : ∀ j, j < 39 → j ≠ 7 + 4 * a + 2 → j ≠ 7 + 4 * b + 2 → j ≠ 7 + 4 * b + 3 → j ≠ 7 + 4 * a + 3 → σ'.1 56 j = σ.1 56 j := fun j hj z1 z2 z3 z4 => by rw [low j hj, if_neg z1, if_neg z2, if_neg z3, if_neg z4]
  have pl := payV_le (v := v) hpa hpb
  refine ⟨A13, σ', min 40 (n + 1), ρ', ?_, ?_, cA, m', PR.mk (PX.fr hx h.fr cA m') (h.ks.ch cA) (PX.mo hx h.mo cA) (SR.mk ?_ ?_ ?_ ?_ ?_ ?_ ?_ ?_ ?_ ?_ ?_ ?_ ?_ (fun a' b' ha' hb' y1 y2 => by rw [keep _ (by omega) (by omega) (by omega) (by omega) (by omega), keep _ (by omega) (by omega) (by omega) (by omega) (by omega)] at y1 y2; exact h.st.di a' b' ha' hb' y1 y2)) ?_ ?_ ?_ ?_ ?_ (fun hth j hj => by rw [v3, if_neg (by omega), if_neg (by omega), e56_9, e56_6, s5 hth, e56_3, if_neg (by omega), if_neg (by omega)]; exact h.hi hth j hj), ?_, ?_, ?_, ?_⟩
  · -- the component's walk
    have g5 : ∀ (B : AH) (k : Nat), k < 8 → sI 8 31 B (x + 5) (nn k) = some (aI B 31 (x + 5) k) := fun B k hk => sI_nn hk (by decide)
    have g47 : ∀ (B : AH) (k : Nat), k < 8 → sI 8 31 B (x + 47) (nn k) = some (aI B 31 (x + 47) k) := fun B k hk => sI_nn hk (by decide)
    have w5 : ∀ (B : AH) (k : Nat) (y : Int32), k < 8 → tI 8 31 B (x + 5) (nn k) y = some (wI B 31 (x + 5) k y) := fun B k y hk => tI_nn hk (by decide)
    have w47 : ∀ (B : AH) (k : Nat) (y : Int32), k < 8 → tI 8 31 B (x + 47) (nn k) y = some (wI B 31 (x + 47) k y) := fun B k y hk => tI_nn hk (by decide)
    have mb3 : aI A3 31 (x + 5) b = nn mb := by
      show aI (wI A 31 (x + 5) a _) 31 (x + 5) b = _
      rw [aI_wI, if_neg (fun z => hne z.2.2.symm)]; exact (h.st.me b hb).trans emb
    unfold X5_meeting
    rw [if_pos hx, g5 A a (by omega), bo_some, (h.st.me a ha).trans ema, nn_succ, show (9999 : Int32) = nn 9999 from rfl, min_nn (by omega) (by omega), bo_some, w5 A a _ (by omega), bo_some]
    rw [g5 A3 b (by omega), bo_some, mb3, nn_succ, min_nn (by omega) (by omega), bo_some, w5 A3 b _ (by omega), bo_some, g47 A6 a (by omega), bo_some, w47 A6 a _ (by omega), bo_some, g47 A8 b (by omega), bo_some, w47 A8 b _ (by omega), bo_some]
    rw [show X5_pays N (wI (wI (wI (wI A 31 (x + 5) a (nn (min 9999 (ma + 1)))) 31 (x + 5) b (nn (min 9999 (mb + 1)))) 31 (x + 47) a (aI A6 31 (x + 47) a + 1)) 31 (x + 47) b (aI A8 31 (x + 47) b + 1)) x (nn a) (nn b) (nn o) = some ((), A11) from p1, bd_some, q1, bd_some, lt2_eq]
  · unfold M_meet
    rw [lt2_eq, show M_isMet (mUI σ 62 0 (σ.1 62 0 + 1)) (nn a) = some ((), σ2) from r1, bd_some, t1, bd_some, s1, bd_some, e46, bo_some, lt2_eq]
    exact u2.trans v1
  · -- day
    rw [i13 _ _ _ (by omega), i12 _ _ _ (by unfold Ptl; omega) (by omega) (by omega), keep 0 (by omega) (by omega) (by omega) (by omega) (by omega)]; exact h.st.day
  · rw [keep 0 (by omega) (by omega) (by omega) (by omega) (by omega)]; exact h.st.dayb
  · intro l hl
    rw [i13 _ _ _ (by omega), i12 _ _ _ (by unfold Ptl; omega) (by omega) (by omega), keep _ (by omega) (by omega) (by omega) (by omega) (by omega)]; exact h.st.gl l hl
  · intro l hl
    rw [keep _ (by omega) (by omega) (by omega) (by omega) (by omega)]; exact h.st.glb l hl
  · intro k hk
    rw [i13 _ _ _ (by omega), i12 _ _ _ (by unfold Ptl; omega) (by omega) (by omega), keep _ (by omega) (by omega) (by omega) (by omega) (by omega)]; exact h.st.lf k hk
  · intro k hk
    rw [keep _ (by omega) (by omega) (by omega) (by omega) (by omega)]; exact h.st.lfb k hk
  · intro k hk
    rw [i13 _ _ _ (by omega), i12 _ _ _ (by unfold Ptl; omega) (by omega) (by omega), keep _ (by omega) (by omega) (by omega) (by omega) (by omega)]; exact h.st.ce k hk
  · intro k hk
    rw [keep _ (by omega) (by omega) (by omega) (by omega) (by omega)]; exact h.st.ceb k hk
  · intro k hk
    rw [i13 _ _ _ (by omega), q2.I _ (by unfold Ptl; omega), p3, low _ (by omega)]
    by_cases z1 : k = a
    · rw [if_pos z1, if_pos (show 7 + 4 * k + 2 = 7 + 4 * a + 2 by omega)]
    · rw [if_neg z1, if_neg (show ¬ 7 + 4 * k + 2 = 7 + 4 * a + 2 by omega)]
      by_cases z2 : k = b
      · rw [if_pos z2, if_pos (show 7 + 4 * k + 2 = 7 + 4 * b + 2 by omega)]
      · rw [if_neg z2, if_neg (show ¬ 7 + 4 * k + 2 = 7 + 4 * b + 2 by omega), if_neg (show ¬ 7 + 4 * k + 2 = 7 + 4 * b + 3 by omega), if_neg (show ¬ 7 + 4 * k + 2 = 7 + 4 * a + 3 by omega), c10.I _ (by omega)]; exact h.st.pu k hk
  · intro k hk
    rw [low _ (by omega)]
    by_cases z1 : k = a
    · rw [if_pos (by omega)]; exact ⟨_, pl.1, rfl⟩
    · rw [if_neg (by omega)]
      by_cases z2 : k = b
      · rw [if_pos (by omega)]; exact ⟨_, pl.2, rfl⟩
      · rw [if_neg (by omega), if_neg (by omega), if_neg (by omega)]; exact h.st.pub k hk
  · intro k hk
    rw [i13 _ _ _ (by omega), q2.I _ (by unfold Ptl; omega), p2.I _ (by omega), low _ (by omega), if_neg (by omega), if_neg (by omega)]
    show aI (wI (wI (wI (wI A 31 (x + 5) a (nn (min 9999 (ma + 1)))) 31 (x + 5) b (nn (min 9999 (mb + 1)))) 31 (x + 47) a (aI A6 31 (x + 47) a + 1)) 31 (x + 47) b (aI A8 31 (x + 47) b + 1)) 31 (x + 5) k = _
    rw [aI_wI, if_neg (by omega), aI_wI, if_neg (by omega), aI_wI, aI_wI]
    by_cases z2 : k = b
    · rw [if_pos ⟨rfl, rfl, z2⟩, if_pos (show 7 + 4 * k + 3 = 7 + 4 * b + 3 by omega)]
    · rw [if_neg (show ¬ (31 = 31 ∧ x + 5 = x + 5 ∧ k = b) from fun q => z2 q.2.2), if_neg (show ¬ 7 + 4 * k + 3 = 7 + 4 * b + 3 by omega)]
      by_cases z1 : k = a
      · rw [if_pos ⟨rfl, rfl, z1⟩, if_pos (show 7 + 4 * k + 3 = 7 + 4 * a + 3 by omega)]
      · rw [if_neg (show ¬ (31 = 31 ∧ x + 5 = x + 5 ∧ k = a) from fun q => z1 q.2.2), if_neg (show ¬ 7 + 4 * k + 3 = 7 + 4 * a + 3 by omega)]; exact h.st.me k hk
  · intro k hk
    rw [low _ (by omega), if_neg (by omega), if_neg (by omega)]
    by_cases z2 : k = b
    · rw [if_pos (by omega)]; exact ⟨_, by omega, rfl⟩
    · rw [if_neg (by omega)]
      by_cases z1 : k = a
      · rw [if_pos (by omega)]; exact ⟨_, by omega, rfl⟩
      · rw [if_neg (by omega)]; exact h.st.meb k hk
  · intro k l hk hl
    intro hl6
    rw [keep _ (by omega) (by omega) (by omega) (by omega) (by omega)] at hl6
    rw [keep _ (by omega) (by omega) (by omega) (by omega) (by omega), keep _ (by omega) (by omega) (by omega) (by omega) (by omega)]
    exact h.st.og k l hk hl hl6
  · -- rows
    refine KR.mk ?_ q3.kb ?_ q3.ri
    · rw [i13 _ _ _ (by omega)]; exact q3.kn
    · intro k hk
      exact q3.rr k hk
  · intro hth
    obtain ⟨k1, k2⟩ := s4 hth
    refine ⟨?_, fun k i hk hi => ?_⟩
    · rw [v3, if_neg (by omega), if_neg (by omega), e56_9, e56_6]; exact k1
    · rw [i13 _ _ _ (by omega), v3, if_neg (by omega), if_neg (by omega), e56_9, e56_6]; exact k2 k i hk hi
  · rw [m'.I 0 (by unfold KD; omega)]; exact h.tf
  · -- pairs
    show aI (wI A12 608 x 0 (aI A12 608 x 0 + 1)) 608 x 0 = _
    rw [aI_wI, if_pos ⟨rfl, rfl, rfl⟩, i12 _ _ _ (by unfold Ptl; omega) (by omega) (by omega), h.pa, (v2 62 0 (by omega)).1, u1.I 0 (by unfold K55; omega)]
    show _ = (mUI σ4 60 0 (nn tb)).1 62 0 + ε
    rw [mI_UI, if_neg (by omega), (s2 62 0 (by omega)).1, (t2 62 0 (by omega)).1, (r2 62 0 (by omega)).1]
    show _ = (mUI σ 62 0 (σ.1 62 0 + 1)).1 62 0 + ε
    rw [mI_UI, if_pos ⟨rfl, rfl⟩, Int32.add_assoc, Int32.add_comm ε 1, ← Int32.add_assoc]
  · -- met since then
    intro k hk
    have e63 : σ'.1 63 k = if k = b then (if k = a then σ.1 63 a + 1 else σ.1 63 k) + 1 else if k = a then σ.1 63 a + 1 else σ.1 63 k := by
      rw [(v2 63 k (by omega)).1, u1.I k (by unfold K55; omega)]
      show (mUI σ4 60 0 (nn tb)).1 63 k = _
      rw [mI_UI, if_neg (by omega), (s2 63 k (by omega)).1, t4, r4, r4]
      have e1 : ∀ j, σ1.1 63 j = σ.1 63 j := fun j => by show (mUI σ 62 0 _).1 63 j = _; rw [mI_UI, if_neg (by omega)]
      rw [e1, e1, e1]
      by_cases z2 : k = b
      · rw [if_pos z2, if_pos z2, z2]
      · rw [if_neg z2, if_neg z2]
    rw [i13 _ _ _ (by omega), q2.I _ (by unfold Ptl; omega), p2.I _ (by omega), e63]
    show aI (wI (wI (wI (wI A 31 (x + 5) a (nn (min 9999 (ma + 1)))) 31 (x + 5) b (nn (min 9999 (mb + 1)))) 31 (x + 47) a (aI A6 31 (x + 47) a + 1)) 31 (x + 47) b (aI A8 31 (x + 47) b + 1)) 31 (x + 47) k = _
    have a6 : ∀ j, aI A6 31 (x + 47) j = aI A 31 (x + 47) j := fun j => by
      show aI (wI (wI A 31 (x + 5) a _) 31 (x + 5) b _) 31 (x + 47) j = _
      rw [aI_wI, if_neg (by omega), aI_wI, if_neg (by omega)]
    have a8 : aI A8 31 (x + 47) b = aI A 31 (x + 47) b := by
      show aI (wI A6 31 (x + 47) a _) 31 (x + 47) b = _
      rw [aI_wI, if_neg (by omega), a6]
    rw [aI_wI, a8, aI_wI, a6 a]
    by_cases z2 : k = b
    · rw [if_pos ⟨rfl, rfl, z2⟩, if_pos z2, if_neg (by omega), h.mn b hb, z2, Int32.add_assoc, Int32.add_comm (δ b) 1, ← Int32.add_assoc]
    · rw [if_neg (by omega), if_neg z2]
      by_cases z1 : k = a
      · rw [if_pos ⟨rfl, rfl, z1⟩, if_pos z1, h.mn a ha, z1, Int32.add_assoc, Int32.add_comm (δ a) 1, ← Int32.add_assoc]
      · rw [if_neg (by omega), if_neg z1, aI_wI, if_neg (by omega), aI_wI, if_neg (by omega)]; exact h.mn k hk
  · rw [(v2 58 0 (by omega)).1, u1.I 0 (by unfold K55; omega)]; exact h6m 58 0 (by omega) (by omega) (by omega) (by omega)
  · rw [(v2 59 0 (by omega)).1, u1.I 0 (by unfold K55; omega)]; exact h6m 59 0 (by omega) (by omega) (by omega) (by omega)
  · exact keep 0 (by omega) (by omega) (by omega) (by omega) (by omega)
  · rw [(v2 62 0 (by omega)).1, u1.I 0 (by unfold K55; omega)]
    show (mUI σ4 60 0 (nn tb)).1 62 0 = _
    rw [mI_UI, if_neg (by omega), (s2 62 0 (by omega)).1, (t2 62 0 (by omega)).1, (r2 62 0 (by omega)).1]
    show (mUI σ 62 0 (σ.1 62 0 + 1)).1 62 0 = _
    rw [mI_UI, if_pos ⟨rfl, rfl⟩]
