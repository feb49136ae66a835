/-! PURE LEVEL: reaping, stepping -/
set_option maxRecDepth 100000
/-- only cells and purses of beings have changed -/
theorem PR.upd {A A' : AH} {σ σ' : mSt} {fo nb L C W x : Nat} {th : Bool} {n : Nat} {ρ : Nat → Nat} {ε : Int32} {δ η : Nat → Int32} (hx : isStb x = true) (h : PR A σ fo nb L C W x th n ρ ε δ η) (c : Ch (PX x) A A') (m : Cm KD σ σ')
    (hI : ∀ f i j, ¬ (f = 31 ∧ (i = x + 3 ∨ i = x + 4)) → aI A' f i j = aI A f i j) (hR : ∀ f i j, aR A' f i j = aR A f i j) (h62 : σ'.1 62 0 = σ.1 62 0) (h63 : ∀ j, σ'.1 63 j = σ.1 63 j)
    (h56 : ∀ j, (∀ b, b < nb → j ≠ 7 + 4 * b + 1 ∧ j ≠ 7 + 4 * b + 2) → σ'.1 56 j = σ.1 56 j)
    (ce : ∀ b, b < nb → aI A' 31 (x + 3) b = σ'.1 56 (7 + 4 * b + 1)) (ceb : ∀ b, b < nb → ∃ c, c < C ∧ σ'.1 56 (7 + 4 * b + 1) = nn c)
    (pu : ∀ b, b < nb → aI A' 31 (x + 4) b = σ'.1 56 (7 + 4 * b + 2)) (pub : ∀ b, b < nb → ∃ p, p ≤ 9999 ∧ σ'.1 56 (7 + 4 * b + 2) = nn p)
    (og : ∀ b l, b < nb → l < 6 → σ'.1 56 (7 + 4 * b) = nn l → ¬ bitOf (σ'.1 56 (1 + l)) (σ'.1 56 (7 + 4 * b + 1)))
    (di : ∀ a b, a < nb → b < nb → σ'.1 56 (7 + 4 * a) = σ'.1 56 (7 + 4 * b) → σ'.1 56 (7 + 4 * a + 1) = σ'.1 56 (7 + 4 * b + 1) → a = b) : PR A' σ' fo nb L C W x th n ρ ε δ η := by
  have bn := h.fr.bn
  have s := h.st
  refine PR.mk (PX.fr hx h.fr c m) (h.ks.ch c) (PX.mo hx h.mo c) (SR.mk ?_ ?_ ?_ ?_ ?_ ?_ ce ceb pu pub ?_ ?_ og di) ?_ ?_ ?_ ?_ ?_ (fun hth j hj => (h56 j (fun b hb => by omega)).trans (h.hi hth j hj))
  · rw [hI _ _ _ (by omega), h56 0 (fun b hb => by omega)]; exact s.day
  · rw [h56 0 (fun b hb => by omega)]; exact s.dayb
  · intro l hl
    rw [hI _ _ _ (by omega), h56 _ (fun b hb => by omega)]; exact s.gl l hl
  · intro l hl
    rw [h56 _ (fun b hb => by omega)]; exact s.glb l hl
  · intro b hb
    rw [hI _ _ _ (by omega), h56 _ (fun b hb => by omega)]; exact s.lf b hb
  · intro b hb
    rw [h56 _ (fun b hb => by omega)]; exact s.lfb b hb
  · intro b hb
    rw [hI _ _ _ (by omega), h56 _ (fun b hb => by omega)]; exact s.me b hb
  · intro b hb
    rw [h56 _ (fun b hb => by omega)]; exact s.meb b hb
  · refine KR.mk ?_ h.kr.kb (fun k hk => by rw [hR]; exact h.kr.rr k hk) h.kr.ri
    rw [hI _ _ _ (by omega)]; exact h.kr.kn
  · intro hth
    have kv := h.kv hth
    have kb := h.kr.kb
    refine ⟨?_, fun k i hk hi => ?_⟩
    · rw [h56 _ (fun b hb => by omega)]; exact kv.1
    · have hr := (h.kr.rr k (by omega)).2
      rw [hI _ _ _ (by omega), h56 _ (fun b hb => by omega)]; exact kv.2 k i hk hi
  · rw [m.I 0 (by unfold KD; omega)]; exact h.tf
  · rw [hI _ _ _ (by omega), h62]; exact h.pa
  · intro b hb
    rw [hI _ _ _ (by omega), h63]; exact h.mn b hb
theorem nl_of {y : Int64} {k : Nat} (hk : k < 2147483648) (h : y.toInt = (k : Int)) : y = nl k := by
  apply Int64.toInt_inj.mp
  rw [h, nl_toInt hk]
/-- a purse behind reaping v -/
def reapV (v : Int64) (p : Nat) : Nat := (max 0 (min 9999 ((p : Int) + max (-99) (min 99 v.toInt)))).toNat
theorem reapV_le (v : Int64) (p : Nat) : reapV v p ≤ 9999 := by unfold reapV; omega
theorem clip99 (v : Int64) : ∃ c : Int64, c.toInt = max (-99) (min 99 v.toInt) ∧ (∀ {β : Type} (g : Int64 → Option β), (bo (J12_min_2 99 v) fun r9 => bo (J12_max_2 (-99) r9) g) = g c) ∧ (∀ {β : Type} (g : Int64 → β), (if (-99) ≤ v then (if v ≤ 99 then g v else g 99) else g (-99)) = g c) := by
  have i99 : ((99 : Int64)).toInt = 99 := rfl
  have im : ((-99 : Int64)).toInt = -99 := rfl
  by_cases h1 : v < 99
  · have h1' := Int64.lt_iff_toInt_lt.mp h1
    by_cases h2 : (-99) < v
    · have h2' := Int64.lt_iff_toInt_lt.mp h2
      refine ⟨v, by omega, fun g => ?_, fun g => ?_⟩
      · unfold J12_min_2 J12_max_2; rw [if_pos h1, bo_some, if_pos h2, bo_some]
      · rw [if_pos (Int64.le_of_lt h2), if_pos (Int64.le_of_lt h1)]
    · have h2' : v.toInt ≤ -99 := by
        have := Int64.le_iff_toInt_le.mp (Int64.not_lt.mp h2)
        rw [im] at this; exact this
      refine ⟨-99, by omega, fun g => ?_, fun g => ?_⟩
      · unfold J12_min_2 J12_max_2; rw [if_pos h1, bo_some, if_neg h2, bo_some]
      · by_cases h3 : (-99) ≤ v
        · have : v = -99 := Int64.le_antisymm (Int64.not_lt.mp h2) h3
          rw [if_pos h3, if_pos (Int64.le_of_lt h1), this]
        · rw [if_neg h3]
  · have h1' : 99 ≤ v.toInt := by
      have := Int64.le_iff_toInt_le.mp (Int64.not_lt.mp h1)
      rw [i99] at this; exact this
    refine ⟨99, by omega, fun g => ?_, fun g => ?_⟩
    · unfold J12_min_2 J12_max_2; rw [if_neg h1, bo_some, if_pos (by decide), bo_some]
    · rw [if_pos (by rw [Int64.le_iff_toInt_le, im]; omega)]
      by_cases h3 : v ≤ 99
      · have : v = 99 := Int64.le_antisymm h3 (Int64.not_lt.mp h1)
        rw [if_pos h3, this]
      · rw [if_neg h3]
theorem clipP {s : Int64} {k : Int} (hs : s.toInt = k) (h1 : -200 ≤ k) (h2 : k ≤ 20000) : (∀ {β : Type} (g : Int64 → Option β), (bo (J12_min_2 9999 s) fun r12 => bo (J12_max_2 0 r12) g) = g (nl (max 0 (min 9999 k)).toNat)) ∧ ∀ (σ : mSt) (b : Nat), b < 8 → M_purseIs σ (nn b) s = some ((), mUI σ 56 (7 + 4 * b + 2) (nn (max 0 (min 9999 k)).toNat)) := by
  have i9 : ((9999 : Int64)).toInt = 9999 := rfl
  have i0 : ((0 : Int64)).toInt = 0 := rfl
  constructor
  · intro β g
    unfold J12_min_2 J12_max_2
    by_cases z1 : s < 9999
    · have z1' := Int64.lt_iff_toInt_lt.mp z1
      rw [if_pos z1, bo_some]
      by_cases z2 : 0 < s
      · have z2' := Int64.lt_iff_toInt_lt.mp z2
        rw [if_pos z2, bo_some, nl_of (y := s) (k := (max 0 (min 9999 k)).toNat) (by omega) (by omega)]
      · have z2' : s.toInt ≤ 0 := by
          have := Int64.le_iff_toInt_le.mp (Int64.not_lt.mp z2)
          rw [i0] at this; exact this
        rw [if_neg z2, bo_some, show (max 0 (min 9999 k)).toNat = 0 by omega]; rfl
    · have z1' : 9999 ≤ s.toInt := by
        have := Int64.le_iff_toInt_le.mp (Int64.not_lt.mp z1)
        rw [i9] at this; exact this
      rw [if_neg z1, bo_some, if_pos (by decide), bo_some, show (max 0 (min 9999 k)).toNat = 9999 by omega]; rfl
  · intro σ b hb
    by_cases z : 0 ≤ k
    · obtain ⟨q, rfl⟩ : ∃ q : Nat, k = (q : Int) := ⟨k.toNat, by omega⟩
      rw [nl_of (k := q) (by omega) hs, m_purseIs σ hb (by omega), show (max 0 (min 9999 (q : Int))).toNat = min 9999 q by omega]
    · unfold M_purseIs M_purseIs_b38
      rw [if_neg (by rw [Int64.le_iff_toInt_le, i0]; omega), show (2 : Int32) = nn 2 from rfl, ix7a, show (0 : Int32) = nn 0 from rfl, stI_nn (by rfl) (by show 7 + 4 * b + 2 < 160; omega) (by omega), bo_some, show (max 0 (min 9999 k)).toNat = 0 by omega]
theorem reaps49 {N : Nat} {A : AH} {x b p : Nat} {y2 : Int32} (hb : b < 8) (hp : p ≤ 9999) (e : aI A 31 (x + 4) b = nn p) (v : Int64) : X5_reaps_b49 N x (nn b) y2 A v = some ((), wI A 31 (x + 4) b (nn (reapV v p))) := by
  obtain ⟨c, hc, g1, g2⟩ := clip99 v
  have hs : ((nn p).toInt64 + c).toInt = (p : Int) + max (-99) (min 99 v.toInt) := by
    rw [Int64.toInt_add, nn_64 (by omega), nl_toInt (by omega), hc, Int.bmod_eq_of_le (by omega) (by omega)]
  unfold X5_reaps_b49
  rw [g1, sI_nn hb (by decide), bo_some, e, (clipP hs (by omega) (by omega)).1, nl_32 (by omega), tI_nn hb (by decide), bo_some]
  rfl
theorem m_reaps {N : Nat} {σ : mSt} {b p : Nat} (hb : b < 8) (hp : p ≤ 9999) (e : σ.1 56 (7 + 4 * b + 2) = nn p) (v : Int64) (k : mSt → Int32 → Option (Unit × mSt)) : M_dayBy_b100 N k σ (nn b) v = k (mUI σ 56 (7 + 4 * b + 2) (nn (reapV v p))) (nn (b + 1)) := by
  obtain ⟨c, hc, g1, g2⟩ := clip99 v
  have hs : ((nn p).toInt64 + c).toInt = (p : Int) + max (-99) (min 99 v.toInt) := by
    rw [Int64.toInt_add, nn_64 (by omega), nl_toInt (by omega), hc, Int.bmod_eq_of_le (by omega) (by omega)]
  have key : M_dayBy_b138 N k σ (nn b) c (nn p).toInt64 (nn b) = k (mUI σ 56 (7 + 4 * b + 2) (nn (reapV v p))) (nn (b + 1)) := by
    unfold M_dayBy_b138
    rw [(clipP hs (by omega) (by omega)).2 σ b hb, bd_some, nn_succ]
    rfl
  unfold M_dayBy_b100
  rw [m_purseOf σ hb, bo_some, e, g2 (fun y => M_dayBy_b138 N k σ (nn b) y (nn p).toInt64 (nn b)), key]
theorem reaps_eq {N : Nat} (hN : 5000 ≤ N) {A : AH} {σ : mSt} {fo nb L C W x : Nat} {th : Bool} {n : Nat} {ρ : Nat → Nat} {ε : Int32} {δ η : Nat → Int32} (hx : isStb x = true) (h : PR A σ fo nb L C W x th n ρ ε δ η) {b o : Nat} (hb : b < nb) (ho : o < 100) (h58 : σ.1 58 0 = σ.1 56 0) (h59 : σ.1 59 0 = nn o) :
    ∃ A' σ', X5_reaps N A x (nn b) (nn o) = some ((), A') ∧ (∀ k, M_dayBy_b67 N k σ (nn b) = k σ' (nn (b + 1))) ∧ Ch (PX x) A A' ∧ Cm KD σ σ' ∧ PR A' σ' fo nb L C W x th n ρ ε δ η ∧ σ'.1 58 0 = σ.1 58 0 ∧ σ'.1 59 0 = σ.1 59 0 ∧ σ'.1 56 0 = σ.1 56 0 ∧ σ'.1 62 0 = σ.1 62 0 := by
  have bn := h.fr.bn
  have bL := h.fr.bL
  have bC := h.fr.bC
  have h16 := (st_at hx (d := 0) (by decide)).2.2.2
  obtain ⟨d, hd, ed⟩ := h.st.dayb
  obtain ⟨l, hl, el⟩ := h.st.lfb b hb
  obtain ⟨c, hc, ec⟩ := h.st.ceb b hb
  obtain ⟨p, hp, ep⟩ := h.st.pub b hb
  obtain ⟨i, t, _, _, _, _, ht, et⟩ := h.fr.beingOf hb
  have hop : (if l = o ∨ l + 1 = o then (1 : Int64) else 0) = 0 ∨ (if l = o ∨ l + 1 = o then (1 : Int64) else 0) = 1 := by
    by_cases q : l = o ∨ l + 1 = o
    · rw [if_pos q]; exact Or.inr rfl
    · rw [if_neg q]; exact Or.inl rfl
  have hB : BE 63 (envS d l c t p (if l = o ∨ l + 1 = o then 1 else 0) 0) := envS_BE (by omega) (by omega) (by omega) (by omega) (by omega) hop (by omega)
  obtain ⟨A1, q1, q2, q3, qR, q4⟩ := asks_eq h.fr hx hb (by omega) ho (h.st.day.trans ed) ((h.st.lf b hb).trans el) ((h.st.ce b hb).trans ec) et ((h.st.pu b hb).trans ep)
  have s1 : SameOn dyn A A1 := q2.sameOn (fun f i hi z => dyn12 (z ▸ hi))
  have ef := s1 fo h.fr.fd
  have r1 : aR A1 100 0 0 = some fo := (q2.R 0 (by omega)).trans h.fr.fo
  have mo1 : MO A1 11 := (show Ev true A A1 from q2).MO (Or.inl rfl) h.mo
  have i1 : ∀ f i j, aI A1 f i j = aI A f i j := fun f i j => by rw [q3]
  have l49 : ∀ τ : mSt, ld 2 τ 49 5 = some (τ.1 49 5) := fun τ => by rw [show (5 : Int32) = nn 5 from rfl, ld_nn (by rfl) (by decide) (by decide)]
  have part := part_eq (σ := σ) (b := b) (o := o) (d := d) (l := l) (c := c) (t := t) (p := p) (by omega) (by omega) ho (h58.trans ed) el ec et ep h59 0
  -- one number on both sides
  have one : ∃ (v : Int64) (σ1 : mSt), Cm K55 σ σ1 ∧ X5_reaps N A x (nn b) (nn o) = X5_reaps_b49 N x (nn b) (nn o) A1 v ∧ ∀ k, M_dayBy_b67 N k σ (nn b) = M_dayBy_b100 N k σ1 (nn b) v := by
    have hm0 : ∀ k, M_dayBy_b67 N k σ (nn b) = (bo (ld 2 σ 49 5) fun v19 => if v19 = (-1) then (bo (M_cellOf σ (nn b)) fun r24 => M_dayBy_b100 N k σ (nn b) (Int32.toInt64 r24)) else (bd (M_codesTell N σ 1 (nn b)) fun r20 σ21 => M_dayBy_b100 N k σ21 (nn b) r20)) := by
      intro k
      unfold M_dayBy_b67
      rw [h.fr.beingMany, bo_some, if_neg (by rw [nn_le (by omega) (by omega)]; omega)]
    have hx0 : X5_reaps N A x (nn b) (nn o) = (bo (gR 2 A1 212 fo) fun v3 => if v3 = none then (bo (sI 8 31 A1 (x + 3) (nn b)) fun v15 => X5_reaps_b49 N x (nn b) (nn o) A1 (Int32.toInt64 v15)) else (bo (aR A1 100 0 0) fun q4 => bo (gR 2 A1 212 q4) fun v5 => bo v5 fun q6 => bd (valF N A1 q6 11) fun r7 A8 => X5_reaps_b49 N x (nn b) (nn o) A8 r7)) := by
      unfold X5_reaps
      rw [if_pos hx, q1, bd_some, r1, bo_some]
    rcases code_cases hN (by decide) h.fr.co hB with ⟨y1, y2⟩ | ⟨v, vid, y1, y2, y3, y4, y5⟩
    · refine ⟨(nn c).toInt64, σ, Cm.refl σ, ?_, fun k => ?_⟩
      · rw [hx0, gR_k (ef.1.trans h.fr.fk), bo_some, (ef.2.2 _ _).2.2, y1, if_pos rfl, sI_nn (by omega) (by decide), bo_some, i1, h.st.ce b hb, ec]
      · rw [hm0, l49, bo_some, if_pos y2, m_cellOf σ (by omega), bo_some, ec]
    · obtain ⟨σ1, w1, w2⟩ := y5 σ (nn b) (fun k _ j => ⟨rfl, rfl⟩) (fun k hk hcx => part k (cx63 k hcx))
      have w1' : M_codesTell N σ 1 (nn b) = some (v, σ1) := w1
      refine ⟨v, σ1, w2, ?_, fun k => ?_⟩
      · rw [hx0, gR_k (ef.1.trans h.fr.fk), bo_some, (ef.2.2 _ _).2.2, y2, if_neg (by simp), r1, bo_some, gR_k (ef.1.trans h.fr.fk), bo_some, (ef.2.2 _ _).2.2, y2, bo_some, y4 A1 s1 mo1 (fun k hk => q4 k 0 (cx63 k hk)), bd_some]
      · rw [hm0, l49, bo_some, if_neg y3, w1', bd_some]
  obtain ⟨v, σ1, w1, w2, w3⟩ := one
  have e56 : ∀ j, σ1.1 56 j = σ.1 56 j := fun j => w1.I j (by unfold K55; omega)
  have cA : Ch (PX x) A (wI A1 31 (x + 4) b (nn (reapV v p))) := (q2.mono (fun f i z => Or.inr z)).trans (Ch.wI (Or.inl (by omega)))
  have m1 : Cm KD σ (mUI σ1 56 (7 + 4 * b + 2) (nn (reapV v p))) := (w1.mono (fun k z => by unfold K55 at z; unfold KD; omega)).trans (Cm.UI (by unfold KD; omega))
  have e2 : ∀ j, (mUI σ1 56 (7 + 4 * b + 2) (nn (reapV v p))).1 56 j = if j = 7 + 4 * b + 2 then nn (reapV v p) else σ.1 56 j := fun j => by
    rw [mI_UI]
    by_cases z : j = 7 + 4 * b + 2
    · rw [if_pos ⟨rfl, z⟩, if_pos z]
    · rw [if_neg (fun q => z q.2), if_neg z, e56]
  have e3 : ∀ k j, k ≠ 56 → k ≠ 55 → k ≠ 100 → k ≠ 101 → (mUI σ1 56 (7 + 4 * b + 2) (nn (reapV v p))).1 k j = σ.1 k j := fun k j z1 z2 z3 z4 => by
    rw [mI_UI, if_neg (by omega), w1.I j (by unfold K55; omega)]
  refine ⟨wI A1 31 (x + 4) b (nn (reapV v p)), mUI σ1 56 (7 + 4 * b + 2) (nn (reapV v p)), ?_, ?_, cA, m1, PR.upd hx h cA m1 ?_ ?_ (e3 62 0 (by omega) (by omega) (by omega) (by omega)) (fun j => e3 63 j (by omega) (by omega) (by omega) (by omega)) ?_ ?_ ?_ ?_ ?_ ?_ (fun a' b' ha' hb' y1 y2 => by rw [e2, e2, if_neg (by omega), if_neg (by omega)] at y1 y2; exact h.st.di a' b' ha' hb' y1 y2), e3 58 0 (by omega) (by omega) (by omega) (by omega), e3 59 0 (by omega) (by omega) (by omega) (by omega), ?_, e3 62 0 (by omega) (by omega) (by omega) (by omega)⟩
  · rw [w2, reaps49 (by omega) hp (by rw [i1]; exact (h.st.pu b hb).trans ep)]
  · intro k
    rw [w3, m_reaps (by omega) hp (by rw [e56]; exact ep)]
  · intro f i j z
    rw [aI_wI, if_neg (by omega), i1]
  · intro f i j
    rw [aR_wI, qR]
  · intro j hj
    rw [e2, if_neg (hj b hb).2]
  · intro k hk
    rw [aI_wI, if_neg (by omega), i1, e2, if_neg (by omega)]; exact h.st.ce k hk
  · intro k hk
    rw [e2, if_neg (by omega)]; exact h.st.ceb k hk
  · intro k hk
    rw [aI_wI, e2]
    by_cases z : k = b
    · rw [if_pos ⟨rfl, rfl, z⟩, if_pos (by omega)]
    · rw [if_neg (fun q => z q.2.2), if_neg (by omega), i1]; exact h.st.pu k hk
  · intro k hk
    rw [e2]
    by_cases z : k = b
    · rw [if_pos (by omega)]; exact ⟨_, reapV_le v p, rfl⟩
    · rw [if_neg (by omega)]; exact h.st.pub k hk
  · intro k l' hk hl6 hl'
    rw [e2, if_neg (by omega)] at hl'
    rw [e2, if_neg (by omega), e2, if_neg (by omega)]
    exact h.st.og k l' hk hl6 hl'
  · rw [e2, if_neg (by omega)]
