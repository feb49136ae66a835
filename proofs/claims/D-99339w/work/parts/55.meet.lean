/-! PURE LEVEL: openings, who meets whom, who stands where -/
set_option maxRecDepth 100000
theorem rem_int {v m : Int64} {M : Nat} (hm : m.toInt = (M : Int)) (hM : 1 ≤ M) (hM2 : M ≤ 100) (hv1 : -1000000 ≤ v.toInt) (hv2 : v.toInt ≤ 1000000) : (v - v / m * m).toInt = v.toInt.tmod M := by
  have hq : (v / m).toInt = v.toInt.tdiv M := by
    rw [← hm]
    apply Int64.toInt_div_of_ne_right
    intro e
    rw [e] at hm
    have : ((-1 : Int64)).toInt = -1 := rfl
    omega
  have hdm : v.toInt.tdiv M * M + v.toInt.tmod M = v.toInt := Int.tdiv_mul_add_tmod v.toInt M
  have hab : (v.toInt.tmod M).natAbs < M := by
    rw [Int.natAbs_tmod]
    exact Nat.mod_lt _ (by omega)
  have hmul : (v / m * m).toInt = v.toInt.tdiv M * M := by
    rw [Int64.toInt_mul, hq, hm]
    apply Int.bmod_eq_of_le <;> omega
  rw [Int64.toInt_sub, hmul]
  rw [Int.bmod_eq_of_le (by omega) (by omega)]
  omega
theorem nnL1 {L : Nat} (h : L ≤ 6) : ((nn L).toInt64 + 1).toInt = ((L + 1 : Nat) : Int) ∧ (nn L + 1).toInt64 = (nn L).toInt64 + 1 := by
  have h1 : (nn L).toInt64.toInt = (L : Int) := by rw [Int32.toInt_toInt64, nn_toInt (by omega)]
  have h2 : ((nn L).toInt64 + 1).toInt = ((L + 1 : Nat) : Int) := by
    rw [Int64.toInt_add, h1, show ((1 : Int64)).toInt = 1 from rfl, Int.bmod_eq_of_le (by omega) (by omega)]
    omega
  refine ⟨h2, ?_⟩
  apply Int64.toInt_inj.mp
  rw [h2, nn_succ, Int32.toInt_toInt64, nn_toInt (by omega)]
/-- the opening out of a number, on both sides -/
theorem open_num {v : Int64} {L : Nat} (hL : L ≤ 6) (hv : -1000000 ≤ v ∧ v ≤ 1000000) : ∃ r, r ≤ L ∧ (bo (J12_floorMod v ((nn L).toInt64 + 1)) fun r11 => some (Int64.toInt32 r11)) = some (nn r) ∧ ¬ (Int32.toInt64 (nn L + 1)) = 0 ∧
    (if 0 ≤ (Int64.toInt32 (v - v / (Int32.toInt64 (nn L + 1)) * (Int32.toInt64 (nn L + 1)))) then some (Int64.toInt32 (v - v / (Int32.toInt64 (nn L + 1)) * (Int32.toInt64 (nn L + 1)))) else some (((Int64.toInt32 (v - v / (Int32.toInt64 (nn L + 1)) * (Int32.toInt64 (nn L + 1)))) + nn L) + 1)) = some (nn r) := by
  obtain ⟨e1, e2⟩ := nnL1 hL
  have hv1 : -1000000 ≤ v.toInt := Int64.le_iff_toInt_le.mp hv.1
  have hv2 : v.toInt ≤ 1000000 := Int64.le_iff_toInt_le.mp hv.2
  rw [e2]
  generalize hm : (nn L).toInt64 + 1 = m at e1 ⊢
  have hr := rem_int (v := v) e1 (by omega) (by omega) hv1 hv2
  generalize hρ : v - v / m * m = ρ at hr
  have hm0 : ¬ m = 0 := by
    intro e; rw [e] at e1
    have : ((0 : Int64)).toInt = 0 := rfl
    omega
  have hab : (v.toInt.tmod (L + 1 : Nat)).natAbs < L + 1 := by
    rw [Int.natAbs_tmod]
    exact Nat.mod_lt _ (by omega)
  have hmp : 0 ≤ m := by rw [Int64.le_iff_toInt_le, e1, show ((0 : Int64)).toInt = 0 from rfl]; omega
  have t32 : ∀ (y : Int64) (k : Nat), k < 100 → y.toInt = (k : Int) → y.toInt32 = nn k := by
    intro y k hk hy
    apply Int32.toInt_inj.mp
    rw [Int64.toInt_toInt32, hy, nn_toInt (by omega)]
    apply Int.bmod_eq_of_le <;> omega
  have hxs := xor_sign v m
  unfold J12_floorMod
  rw [if_pos hm0, hρ]
  by_cases hs : 0 ≤ ρ.toInt
  · -- nothing to mend
    obtain ⟨k, hk⟩ : ∃ k : Nat, ρ.toInt = (k : Int) := ⟨ρ.toInt.toNat, by omega⟩
    have hkL : k < L + 1 := by omega
    have hx : (if 0 ≤ (v ^^^ m) then some ρ else if ρ = 0 then some ρ else some (ρ + m)) = some ρ := by
      by_cases h1 : 0 ≤ (v ^^^ m)
      · rw [if_pos h1]
      · rw [if_neg h1]
        have hvn : ¬ 0 ≤ v := fun q => h1 (hxs.mpr ⟨fun _ => hmp, fun _ => q⟩)
        have hvn' : v.toInt < 0 := by
          rw [Int64.le_iff_toInt_le, show ((0 : Int64)).toInt = 0 from rfl] at hvn; omega
        have hneg : v.toInt.tmod (L + 1 : Nat) ≤ 0 := by
          have := Int.tmod_nonneg ((L + 1 : Nat) : Int) (a := -v.toInt) (by omega)
          rw [Int.neg_tmod] at this
          omega
        rw [if_pos]
        apply Int64.toInt_inj.mp
        rw [show ((0 : Int64)).toInt = 0 from rfl]; omega
    refine ⟨k, by omega, ?_, hm0, ?_⟩
    · rw [hx, bo_some, t32 ρ k (by omega) hk]
    · rw [t32 ρ k (by omega) hk, if_pos (nn_ge0 (by omega))]
  · obtain ⟨k, hk⟩ : ∃ k : Nat, ρ.toInt + (L + 1) = (k : Int) := ⟨(ρ.toInt + (L + 1)).toNat, by omega⟩
    have hvn : v.toInt < 0 := by
      rcases Int.lt_or_le v.toInt 0 with q | q
      · exact q
      · have := Int.tmod_nonneg ((L + 1 : Nat) : Int) q
        omega
    have h1 : ¬ 0 ≤ (v ^^^ m) := by
      intro q
      have := (hxs.mp q).mpr hmp
      rw [Int64.le_iff_toInt_le, show ((0 : Int64)).toInt = 0 from rfl] at this
      omega
    have h2 : ¬ ρ = 0 := by
      intro q; rw [q] at hs; exact hs (by decide)
    have h3 : (ρ + m).toInt = (k : Int) := by
      rw [Int64.toInt_add, e1, Int.bmod_eq_of_le (by omega) (by omega)]; omega
    have h4 : (ρ.toInt32).toInt = ρ.toInt := by
      rw [Int64.toInt_toInt32]
      apply Int.bmod_eq_of_le <;> omega
    refine ⟨k, by omega, ?_, hm0, ?_⟩
    · rw [if_neg h1, if_neg h2, bo_some, t32 (ρ + m) k (by omega) h3]
    · rw [if_neg (by rw [Int32.le_iff_toInt_le, h4, show ((0 : Int32)).toInt = 0 from rfl]; exact hs)]
      congr 1
      apply Int32.toInt_inj.mp
      rw [Int32.toInt_add, Int32.toInt_add, h4, nn_toInt (by omega), nn_toInt (by omega), show ((1 : Int32)).toInt = 1 from rfl]
      rw [Int.bmod_eq_of_le (n := (ρ.toInt + ↑L)) (by omega) (by omega)]
      rw [Int.bmod_eq_of_le (by omega) (by omega)]
      omega
def Kop (k : Nat) : Prop := k = 55 ∨ k = 58 ∨ k = 100 ∨ k = 101
theorem opening_eq {N : Nat} (hN : 5000 ≤ N) {A : AH} {σ : mSt} {fo nb L C W : Nat} (h : FR A σ fo nb L C W) {x : Nat} (hx : x ≤ 3000) :
    ∃ r σ', r ≤ L ∧ M_openingOn N σ (nn x) = some (nn r, σ') ∧ Cm Kop σ σ' ∧ ∀ D, 24 ≤ D → ∀ A1, SameOn dyn A A1 → aR A1 100 0 0 = aR A 100 0 0 → MO A1 11 → ∃ A', X0_openingOf (valG N D) A1 (nn x) = some (nn r, A') ∧ Ch P12 A1 A' := by
  have e49 : ld 2 σ 49 4 = some (σ.1 49 4) := by rw [show (4 : Int32) = nn 4 from rfl, ld_nn (by rfl) (by decide) (by decide)]
  rcases h.op with ⟨h1, h2⟩ | ⟨v, g, cs, s, h1, h2, h3, h4, h5, h6⟩
  · refine ⟨0, σ, by omega, ?_, Cm.refl σ, fun D hD A1 hs hr hm => ⟨A1, ?_, Ch.refl A1⟩⟩
    · unfold M_openingOn
      split
      · rfl
      · rw [e49, bo_some, if_pos h2]; rfl
    · unfold X0_openingOf
      have ef := hs fo h.fd
      rw [hr, h.fo, bo_some, gR_k (ef.1.trans h.fk), bo_some, (ef.2.2 _ _).2.2, h1, if_pos rfl]; rfl
  · by_cases hL0 : L = 0
    · -- no folio: nothing is told
      exfalso
      rw [h.op0 hL0] at h1
      cases h1
    · have hi : ¬ σ.1 54 0 = 0 := by rw [h.isf, if_neg hL0]; decide
      let e : En := fun _ => (nn x).toInt64
      have hB : BE 1 e := by
        intro k _
        show -1000000 ≤ (nn x).toInt64 ∧ (nn x).toInt64 ≤ 1000000
        rw [Int64.le_iff_toInt_le, Int64.le_iff_toInt_le, Int32.toInt_toInt64, nn_toInt (by omega), show ((-1000000 : Int64)).toInt = -1000000 from rfl, show ((1000000 : Int64)).toInt = 1000000 from rfl]
        omega
      have c0 : ∀ k, cx 1 k → k = 0 := by
        intro k hk
        unfold cx at hk
        rcases Nat.eq_zero_or_pos k with q | q
        · exact q
        · rw [Nat.testBit_lt_two_pow (Nat.lt_of_lt_of_le (by decide : 1 < 2 ^ 1) (Nat.pow_le_pow_right (by decide) q))] at hk
          cases hk
      let σ1 := mUI σ 58 0 (nn x)
      have hm1 : Cm Kop σ σ1 := Cm.UI (Or.inr (Or.inl rfl))
      have hP : ∀ k, k < 9 → cx 1 k → M_qPartOf σ1 (nn k) 0 = some (e k) := by
        intro k _ hk
        rw [c0 k hk]
        unfold M_qPartOf
        rw [if_pos (by rfl)]
        show some (Int32.toInt64 ((mUI σ 58 0 (nn x)).1 58 0)) = _
        rw [mI_UI, if_pos ⟨rfl, rfl⟩]
      obtain ⟨σ', t1, t2⟩ := codesTell_eq hN (w := 0) (s := s) (b := 0) (by decide) h3 hB (σ := σ1) ((hm1.I _ (by unfold Kop; omega)).trans h4) ((hm1.I _ (by unfold Kop; omega)).trans h5) ⟨h6.1, fun i c hi => (hm1.I _ (by unfold Kop; omega)).trans (h6.2 i c hi)⟩ hP id
      have hbd := h3.bd e id hB
      obtain ⟨r, hr, o1, o2, o3⟩ := open_num h.bL hbd
      have hm2 : Cm Kop σ σ' := hm1.trans (t2.mono (fun k hk => by unfold K55 at hk; unfold Kop; omega))
      have hlv : M_leaves σ' = some (nn L) := by
        unfold M_leaves
        rw [hm2.ld (by unfold Kop; omega)]
        exact h.leaves
      refine ⟨r, σ', hr, ?_, hm2, fun D hD A1 hs hr1 hm => ⟨wJ A1 32 12 0 (nn x).toInt64, ?_, Ch.wJ rfl⟩⟩
      · have hne : ¬ σ.1 49 4 = -1 := by
          have : σ.1 49 4 = nn s := h4
          have h61 := h6.1
          rw [this]; exact nn_ne1 (by omega)
        unfold M_openingOn
        rw [if_neg hi, e49, bo_some, if_neg hne, lt2_eq]
        have t1' : M_codesTell N (mUI σ 58 0 (nn x)) 0 0 = some (g e id, σ') := t1
        rw [t1', bd_some, hlv, bo_some, if_pos o2]
        split at o3
        · next q =>
          rw [if_pos q, Option.some.inj o3]
        · next q =>
          rw [if_neg q, bo_some]
          have o3' := Option.some.inj o3
          rw [o3']
      · have ef := hs fo h.fd
        have hc : Ch P12 A1 (wJ A1 32 12 0 (nn x).toInt64) := Ch.wJ rfl
        have hv : VR 24 false 1 (wJ A1 32 12 0 (nn x).toInt64) dyn v g := (h2.same hs).same (hc.sameOn (fun f i hi q => dyn12 (q ▸ hi)))
        have hmo : MO (wJ A1 32 12 0 (nn x).toInt64) 11 := hm
        have hval := val0 hN dyn12 (w := 11) (Or.inl rfl) hmo hD hv id
        have hg : g (mom (wJ A1 32 12 0 (nn x).toInt64) 11) id = g e id := by
          apply hv.cg
          intro k hk
          rw [c0 k hk]
          show aJ (wJ A1 32 12 0 (nn x).toInt64) 32 12 0 = _
          rw [aJ_wJ, if_pos ⟨rfl, rfl, rfl⟩]
        rw [hg] at hval
        unfold X0_openingOf
        rw [hr1, h.fo, bo_some, gR_k (ef.1.trans h.fk), bo_some, (ef.2.2 _ _).2.2, h1, if_neg (by simp), show (0 : Int32) = nn 0 from rfl, tJ_nn (by decide) (by decide), bo_some, aR_wJ, hr1, h.fo, bo_some]
        rw [gR_k (show aK (wJ A1 32 12 0 (nn x).toInt64) fo = 2 from ef.1.trans h.fk), bo_some, aR_wJ, (ef.2.2 _ _).2.2, h1, bo_some, hval, bd_some, aR_wJ, hr1, h.fo, bo_some, gI_k (show aK (wJ A1 32 12 0 (nn x).toInt64) fo = 2 from ef.1.trans h.fk), bo_some, aI_wJ, (ef.2.2 _ _).1, h.lv]
        cases hj : J12_floorMod (g e id) ((nn L).toInt64 + 1) with
        | none => rw [hj] at o1; cases o1
        | some y =>
          rw [hj, bo_some] at o1
          rw [bo_some, Option.some.inj o1]
theorem min_nn {a b : Nat} (ha : a < 2147483648) (hb : b < 2147483648) : J12_min (nn a) (nn b) = some (nn (min a b)) := by
  unfold J12_min
  by_cases z : b < a
  · rw [if_pos ((nn_lt hb ha).mpr z), show min a b = b by omega]
  · rw [if_neg (fun q => z ((nn_lt hb ha).mp q)), show min a b = a by omega]
/-! lying on, meeting -/
abbrev liesP (L l o : Nat) : Prop := l + 1 < L ∧ ¬ (l = o ∨ l + 1 = o)
section LIE
variable {A : AH} {σ : mSt} {fo nb L C W : Nat}
theorem isOpenX {l o : Nat} (hl : l < 100) (ho : o < 100) : X0_isOpen (nn l) (nn o) = some (if l = o ∨ l + 1 = o then 1 else 0) ∧ M_isOpen (nn l) (nn o) = some (if l = o ∨ l + 1 = o then 1 else 0) := by
  have h1 : nn l = nn o ↔ l = o := nn_eq (by omega) (by omega)
  have h2 : nn l = nn o - 1 ↔ l + 1 = o := by
    constructor
    · intro e
      have := congrArg (fun z => z + 1) e
      simp only [Int32.sub_add_cancel] at this
      rw [nn_succ, nn_eq (by omega) (by omega)] at this
      exact this
    · intro e
      rw [← e, ← nn_succ, Int32.add_sub_cancel]
  unfold X0_isOpen M_isOpen
  simp only [h1, h2]
  constructor
  · by_cases q1 : l = o
    · simp [q1]
    · by_cases q2 : l + 1 = o
      · simp [q1, q2]
      · simp [q1, q2]
  · by_cases q1 : l = o
    · by_cases q2 : l + 1 = o
      · omega
      · simp [q1]
    · by_cases q2 : l + 1 = o
      · simp [q1, q2]
      · simp [q1, q2]
theorem FR.lies (h : FR A σ fo nb L C W) {l o : Nat} (hl : l < 100) (ho : o < 100) : X0_liesOn A (nn l) (nn o) = some (if liesP L l o then 1 else 0) ∧ M_liesOnNext σ (nn l) (nn o) = some (if liesP L l o then 1 else 0) := by
  have hb := h.bL
  obtain ⟨o1, o2⟩ := isOpenX hl ho
  have hle : nn L ≤ nn l + 1 ↔ L ≤ l + 1 := by rw [nn_succ, nn_le (by omega) (by omega)]
  have fin : ∀ {β : Type} (z : Option Int32), z = (if nn L ≤ nn l + 1 then some 0 else bo (some (if l = o ∨ l + 1 = o then (1 : Int32) else 0)) fun r2 => if r2 = 0 then some 1 else some 0) → z = some (if liesP L l o then 1 else 0) := by
    intro _ z hz
    rw [hz]
    by_cases q : L ≤ l + 1
    · rw [if_pos (hle.mpr q), if_neg (by unfold liesP; omega)]
    · rw [if_neg (fun z => q (hle.mp z)), bo_some]
      by_cases q2 : l = o ∨ l + 1 = o
      · rw [if_pos q2, if_neg (by decide), if_neg (by unfold liesP; omega)]
      · rw [if_neg q2, if_pos rfl, if_pos (by unfold liesP; omega)]
  constructor
  · apply fin (β := Nat)
    unfold X0_liesOn
    rw [if_neg (nn_nneg (by omega)), h.leavesX, o1]
  · apply fin (β := Nat)
    unfold M_liesOnNext
    rw [if_neg (nn_nneg (by omega)), h.leaves, bo_some, o2]
theorem FR.lies1 (h : FR A σ fo nb L C W) {l o : Nat} (hl : l < 100) (ho : o < 100) : X0_liesOn A (nn l - 1) (nn o) = some (if 0 < l ∧ liesP L (l - 1) o then 1 else 0) ∧ M_liesOnNext σ (nn l - 1) (nn o) = some (if 0 < l ∧ liesP L (l - 1) o then 1 else 0) := by
  rcases Nat.eq_zero_or_pos l with q | q
  · subst q
    have hneg : nn 0 - 1 < 0 := by decide
    have hz : ¬ (0 < 0 ∧ liesP L (0 - 1) o) := fun z => absurd z.1 (by omega)
    unfold X0_liesOn M_liesOnNext
    rw [if_pos hneg, if_pos hneg, if_neg hz]
    exact ⟨rfl, rfl⟩
  · have e : nn l - 1 = nn (l - 1) := nn_sub (a := l) (b := 1) q
    have := h.lies (l := l - 1) (o := o) (by omega) ho
    rw [e, this.1, this.2]
    simp [q]
abbrev meetP (L C la ca lb cb o : Nat) : Prop := (la = lb + 1 ∨ lb = la + 1) ∧ liesP L (min la lb) o ∧ ca + cb + 1 = C
theorem ix7 (b : Nat) : (7 : Int32) + 4 * nn b = nn (7 + 4 * b) := by
  rw [show (4 : Int32) = nn 4 from rfl, nn_mul, show (7 : Int32) = nn 7 from rfl, nn_add]
theorem ix7a (b k : Nat) : (7 : Int32) + 4 * nn b + nn k = nn (7 + 4 * b + k) := by rw [ix7, nn_add]
theorem m_leafOf (σ : mSt) {b : Nat} (hb : b < 8) : M_leafOf σ (nn b) = some (σ.1 56 (7 + 4 * b)) := by
  unfold M_leafOf
  rw [ix7, ld_nn (by rfl) (by show 7 + 4 * b < 160; omega) (by omega), bo_some]
theorem m_cellOf (σ : mSt) {b : Nat} (hb : b < 8) : M_cellOf σ (nn b) = some (σ.1 56 (7 + 4 * b + 1)) := by
  unfold M_cellOf
  rw [show (1 : Int32) = nn 1 from rfl, ix7a, ld_nn (by rfl) (by show 7 + 4 * b + 1 < 160; omega) (by omega), bo_some]
theorem m_purseOf (σ : mSt) {b : Nat} (hb : b < 8) : M_purseOf σ (nn b) = some (σ.1 56 (7 + 4 * b + 2)) := by
  unfold M_purseOf
  rw [show (2 : Int32) = nn 2 from rfl, ix7a, ld_nn (by rfl) (by show 7 + 4 * b + 2 < 160; omega) (by omega), bo_some]
theorem m_metOf (σ : mSt) {b : Nat} (hb : b < 8) : ld 2 σ 56 ((7 + (4 * nn b)) + 3) = some (σ.1 56 (7 + 4 * b + 3)) := by
  rw [show (3 : Int32) = nn 3 from rfl, ix7a, ld_nn (by rfl) (by show 7 + 4 * b + 3 < 160; omega) (by omega)]
theorem m_day (σ : mSt) : ld 2 σ 56 0 = some (σ.1 56 0) := by
  rw [show (0 : Int32) = nn 0 from rfl, ld_nn (by rfl) (by decide) (by decide)]
theorem abs_nn : ∀ a, a < 6 → ∀ b, b < 6 → J12_abs (nn a - nn b) = some (nn (if a ≤ b then b - a else a - b)) := by decide +kernel
theorem meet_eq (h : FR A σ fo nb L C W) {x : Nat} (hx : isStb x = true) (s : SR A x (σ.1 56) nb L C) {a b o la ca lb cb : Nat} (ha : a < nb) (hb : b < nb) (ho : o < 100) (e1 : σ.1 56 (7 + 4 * a) = nn la) (e2 : σ.1 56 (7 + 4 * a + 1) = nn ca) (e3 : σ.1 56 (7 + 4 * b) = nn lb) (e4 : σ.1 56 (7 + 4 * b + 1) = nn cb) (h1 : la < L) (h2 : ca < C) (h3 : lb < L) (h4 : cb < C) :
    X5_meet A x (nn a) (nn b) (nn o) = some (if meetP L C la ca lb cb o then 1 else 0) ∧ M_doMeet σ (nn a) (nn b) (nn o) = some (if meetP L C la ca lb cb o then 1 else 0) := by
  have bn := h.bn
  have bL := h.bL
  have bC := h.bC
  have sl : ∀ k, k < nb → sI 8 31 A (x + 2) (nn k) = some (σ.1 56 (7 + 4 * k)) := fun k hk => by rw [sI_nn (by omega) (by decide), s.lf k hk]
  have sc : ∀ k, k < nb → sI 8 31 A (x + 3) (nn k) = some (σ.1 56 (7 + 4 * k + 1)) := fun k hk => by rw [sI_nn (by omega) (by decide), s.ce k hk]
  have hmin : J12_min (nn la) (nn lb) = some (nn (min la lb)) := min_nn (by omega) (by omega)
  have hmir : X0_mirrored A (nn cb) = some (nn (C - 1 - cb)) := by
    unfold X0_mirrored
    rw [h.cellsX, show (1 : Int32) = nn 1 from rfl, nn_sub (by omega), nn_sub (by omega)]
  have hl := h.lies (l := min la lb) (o := o) (by omega) ho
  constructor
  · unfold X5_meet X5_meet_b25
    rw [if_pos hx, sl a ha, bo_some, sl b hb, bo_some, e1, e3, abs_nn la (by omega) lb (by omega), bo_some]
    have q : (nn (if la ≤ lb then lb - la else la - lb) = 1) ↔ (la = lb + 1 ∨ lb = la + 1) := by
      rw [show (1 : Int32) = nn 1 from rfl, nn_eq (by split <;> omega) (by omega)]
      split <;> omega
    by_cases c1 : la = lb + 1 ∨ lb = la + 1
    · rw [if_pos (q.mpr c1), if_neg (by decide), bo_some, bo_some, hmin, bo_some, hl.1, bo_some]
      by_cases c2 : liesP L (min la lb) o
      · rw [if_pos c2, if_neg (by decide), sc a ha, bo_some, sc b hb, bo_some, e2, e4, hmir, bo_some]
        by_cases c3 : ca + cb + 1 = C
        · rw [if_pos (by rw [show C - 1 - cb = ca by omega]), if_pos ⟨c1, c2, c3⟩]
        · rw [if_neg (fun q => c3 (by have := (nn_eq (by omega) (by omega)).mp q; omega)), if_neg (fun z => c3 z.2.2)]
      · rw [if_neg c2, if_pos rfl, if_neg (fun z => c2 z.2.1)]
    · rw [if_neg (fun z => c1 (q.mp z)), if_pos rfl, if_neg (fun z => c1 z.1)]
  · have n1 : nn C - 1 = nn (C - 1) := nn_sub (a := C) (b := 1) (by omega)
    unfold M_doMeet
    rw [m_cellOf σ (by omega), bo_some, m_cellOf σ (by omega), bo_some, h.cells, bo_some, e2, e4, nn_add, n1, m_leafOf σ (by omega), bo_some, m_leafOf σ (by omega), bo_some, e1, e3, nn_succ, nn_succ]
    by_cases c3 : ca + cb + 1 = C
    · rw [if_pos (by rw [show C - 1 = ca + cb by omega])]
      by_cases c1 : lb = la + 1
      · have hl2 : M_liesOnNext σ (nn la) (nn o) = some (if liesP L la o then 1 else 0) := (h.lies (l := la) (o := o) (by omega) ho).2
        have em : min la lb = la := by omega
        rw [if_pos (by rw [c1]), hl2, bo_some]
        by_cases c2 : liesP L la o
        · rw [if_pos c2, if_pos (by decide), if_pos ⟨Or.inr c1, by rw [em]; exact c2, c3⟩]
        · rw [if_neg c2, if_pos (by decide), if_neg (fun z => c2 (by have := z.2.1; rw [em] at this; exact this))]
      · rw [if_neg (fun q => c1 ((nn_eq (by omega) (by omega)).mp q))]
        by_cases c4 : la = lb + 1
        · have hl2 : M_liesOnNext σ (nn lb) (nn o) = some (if liesP L lb o then 1 else 0) := (h.lies (l := lb) (o := o) (by omega) ho).2
          have em : min la lb = lb := by omega
          rw [if_pos (by rw [c4]), hl2, bo_some]
          by_cases c2 : liesP L lb o
          · rw [if_pos c2, if_neg (by decide), if_pos ⟨Or.inl c4, by rw [em]; exact c2, c3⟩]
          · rw [if_neg c2, if_pos rfl, if_neg (fun z => c2 (by have := z.2.1; rw [em] at this; exact this))]
        · rw [if_neg (fun q => c4 ((nn_eq (by omega) (by omega)).mp q)), if_neg (fun z => z.1.elim c4 c1)]
    · rw [if_neg (fun q => c3 (by have := (nn_eq (by omega) (by omega)).mp q; omega)), if_neg (fun z => c3 z.2.2)]
/-- meeting: one answer on both sides -/
theorem meet_ex (h : FR A σ fo nb L C W) {x : Nat} (hx : isStb x = true) (s : SR A x (σ.1 56) nb L C) {a b o : Nat} (ha : a < nb) (hb : b < nb) (ho : o < 100) : ∃ r : Int32, (r = 0 ∨ r = 1) ∧ X5_meet A x (nn a) (nn b) (nn o) = some r ∧ M_doMeet σ (nn a) (nn b) (nn o) = some r := by
  obtain ⟨la, h1, e1⟩ := s.lfb a ha
  obtain ⟨ca, h2, e2⟩ := s.ceb a ha
  obtain ⟨lb, h3, e3⟩ := s.lfb b hb
  obtain ⟨cb, h4, e4⟩ := s.ceb b hb
  have := meet_eq h hx s ha hb ho e1 e2 e3 e4 h1 h2 h3 h4
  refine ⟨_, ?_, this.1, this.2⟩
  by_cases z : meetP L C la ca lb cb o
  · rw [if_pos z]; exact Or.inr rfl
  · rw [if_neg z]; exact Or.inl rfl
theorem who_loop {N : Nat} (h : FR A σ fo nb L C W) {x : Nat} (s : SR A x (σ.1 56) nb L C) (l c : Int32) : ∀ (j k n m : Nat), k + j = nb → j < n → j < m → ∃ r : Int32, (r = -1 ∨ ∃ b, b < nb ∧ r = nn b ∧ σ.1 56 (7 + 4 * b) = l ∧ σ.1 56 (7 + 4 * b + 1) = c) ∧ (r = -1 → ∀ b, k ≤ b → b < nb → ¬ (σ.1 56 (7 + 4 * b) = l ∧ σ.1 56 (7 + 4 * b + 1) = c)) ∧ rn1 (X5_who_b2 N x l c A) n (nn k) = some r ∧ rn3 (M_standsOn_b2 N σ) m l c (nn k) = some r := by
  have bn := h.bn
  intro j
  induction j with
  | zero =>
    intro k n m hk hn hm
    obtain ⟨n, rfl⟩ : ∃ z, n = z + 1 := ⟨n - 1, by omega⟩
    obtain ⟨m, rfl⟩ : ∃ z, m = z + 1 := ⟨m - 1, by omega⟩
    refine ⟨-1, Or.inl rfl, fun _ b h1 h2 => by omega, ?_, ?_⟩
    · show X5_who_b2 N x l c A _ (nn k) = _
      unfold X5_who_b2
      rw [h.beings, bo_some, if_pos (by rw [nn_le (by omega) (by omega)]; omega)]
    · show M_standsOn_b2 N σ _ l c (nn k) = _
      unfold M_standsOn_b2
      rw [h.beingMany, bo_some, if_pos (by rw [nn_le (by omega) (by omega)]; omega)]
  | succ j ih =>
    intro k n m hk hn hm
    obtain ⟨n, rfl⟩ : ∃ z, n = z + 1 := ⟨n - 1, by omega⟩
    obtain ⟨m, rfl⟩ : ∃ z, m = z + 1 := ⟨m - 1, by omega⟩
    obtain ⟨r, hr, hr0, i1, i2⟩ := ih (k + 1) n m (by omega) (by omega) (by omega)
    have sl : sI 8 31 A (x + 2) (nn k) = some (σ.1 56 (7 + 4 * k)) := by rw [sI_nn (by omega) (by decide), s.lf k (by omega)]
    have sc : sI 8 31 A (x + 3) (nn k) = some (σ.1 56 (7 + 4 * k + 1)) := by rw [sI_nn (by omega) (by decide), s.ce k (by omega)]
    have hx1 : rn1 (X5_who_b2 N x l c A) (n + 1) (nn k) = if σ.1 56 (7 + 4 * k) = l ∧ σ.1 56 (7 + 4 * k + 1) = c then some (nn k) else rn1 (X5_who_b2 N x l c A) n (nn (k + 1)) := by
      show X5_who_b2 N x l c A (rn1 (X5_who_b2 N x l c A) n) (nn k) = _
      generalize rn1 (X5_who_b2 N x l c A) n = kk
      unfold X5_who_b2 X5_who_b35
      rw [h.beings, bo_some, if_neg (by rw [nn_le (by omega) (by omega)]; omega), sl, bo_some, sc, bo_some, nn_succ]
      by_cases q1 : σ.1 56 (7 + 4 * k) = l
      · rw [if_pos q1]
        by_cases q2 : σ.1 56 (7 + 4 * k + 1) = c
        · rw [if_pos q2, if_pos ⟨q1, q2⟩]
        · rw [if_neg q2, if_neg (fun z => q2 z.2)]
      · rw [if_neg q1, if_neg (fun z => q1 z.1)]
    have hm1 : rn3 (M_standsOn_b2 N σ) (m + 1) l c (nn k) = if σ.1 56 (7 + 4 * k) = l ∧ σ.1 56 (7 + 4 * k + 1) = c then some (nn k) else rn3 (M_standsOn_b2 N σ) m l c (nn (k + 1)) := by
      show M_standsOn_b2 N σ (rn3 (M_standsOn_b2 N σ) m) l c (nn k) = _
      generalize rn3 (M_standsOn_b2 N σ) m = kk
      unfold M_standsOn_b2 M_standsOn_b30
      rw [h.beingMany, bo_some, if_neg (by rw [nn_le (by omega) (by omega)]; omega), m_leafOf σ (by omega), bo_some, m_cellOf σ (by omega), bo_some, nn_succ]
      by_cases q1 : σ.1 56 (7 + 4 * k) = l
      · rw [if_pos q1]
        by_cases q2 : σ.1 56 (7 + 4 * k + 1) = c
        · rw [if_pos q2, if_pos ⟨q1, q2⟩]
        · rw [if_neg q2, if_neg (fun z => q2 z.2)]
      · rw [if_neg q1, if_neg (fun z => q1 z.1)]
    rw [hx1, hm1]
    by_cases q : σ.1 56 (7 + 4 * k) = l ∧ σ.1 56 (7 + 4 * k + 1) = c
    · exact ⟨nn k, Or.inr ⟨k, by omega, rfl, q.1, q.2⟩, fun e => absurd e (nn_ne1 (by omega)), if_pos q, if_pos q⟩
    · refine ⟨r, hr, fun e b h1 h2 => ?_, (if_neg q).trans i1, (if_neg q).trans i2⟩
      rcases Nat.eq_or_lt_of_le h1 with z | z
      · subst z; exact q
      · exact hr0 e b z h2
/-- who stands on a cell -/
theorem who_eq {N : Nat} (hN : 5000 ≤ N) (h : FR A σ fo nb L C W) {x : Nat} (hx : isStb x = true) (s : SR A x (σ.1 56) nb L C) (l c : Int32) : ∃ r : Int32, (r = -1 ∨ ∃ b, b < nb ∧ r = nn b ∧ σ.1 56 (7 + 4 * b) = l ∧ σ.1 56 (7 + 4 * b + 1) = c) ∧ (r = -1 → ∀ b, b < nb → ¬ (σ.1 56 (7 + 4 * b) = l ∧ σ.1 56 (7 + 4 * b + 1) = c)) ∧ X5_who N A x l c = some r ∧ M_standsOn N σ l c = some r := by
  have bn := h.bn
  obtain ⟨r, h1, h0, h2, h3⟩ := who_loop (N := N) h s l c nb 0 N N (by omega) (by omega) (by omega)
  refine ⟨r, h1, fun e b hb => h0 e b (by omega) hb, ?_, h3⟩
  unfold X5_who
  rw [if_pos hx]
  exact h2
theorem gloss_eq (h : FR A σ fo nb L C W) {x : Nat} (s : SR A x (σ.1 56) nb L C) {l : Nat} (hl : l < 6) (c : Int32) : ∃ r : Int32, (r = 0 ∨ r = 1) ∧ (r = 1 ↔ bitOf (σ.1 56 (1 + l)) c) ∧ (bo (sI 6 31 A (x + 1) (nn l)) fun v => X0_has v c) = some r ∧ M_hasGloss σ (nn l) c = some r := by
  have e1 : sI 6 31 A (x + 1) (nn l) = some (σ.1 56 (1 + l)) := by rw [sI_nn hl (by decide), s.gl l hl]
  have e2 : ld 2 σ 56 (1 + nn l) = some (σ.1 56 (1 + l)) := by
    rw [show (1 : Int32) = nn 1 from rfl, nn_add, ld_nn (by rfl) (by show 1 + l < 160; omega) (by omega)]
  unfold M_hasGloss X0_has
  rw [e1, bo_some, e2, bo_some]
  by_cases q : ((σ.1 56 (1 + l) >>> (c &&& 31)) &&& 1) = 1
  · exact ⟨1, Or.inr rfl, ⟨fun _ => q, fun _ => rfl⟩, if_pos q, if_pos q⟩
  · exact ⟨0, Or.inl rfl, ⟨fun z => absurd z (by decide), fun z => absurd z q⟩, if_neg q, if_neg q⟩
end LIE
