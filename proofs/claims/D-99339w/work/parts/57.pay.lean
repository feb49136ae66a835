/-! PURE LEVEL: paying, telling -/
set_option maxRecDepth 100000
theorem Cm.u56 {σ : mSt} {i : Nat} {v : Int32} : Cm (fun k => k = 56) σ (mUI σ 56 i v) := by
  apply Cm.UI; rfl
abbrev nl (k : Nat) : Int64 := Int64.ofNat k
theorem nl_toInt {k : Nat} (h : k < 2147483648) : (nl k).toInt = (k : Int) := Int64.toInt_ofNat_of_lt (by omega)
theorem nl_le {a b : Nat} (ha : a < 2147483648) (hb : b < 2147483648) : nl a ≤ nl b ↔ a ≤ b := by
  rw [Int64.le_iff_toInt_le, nl_toInt ha, nl_toInt hb]; omega
theorem nl_lt {a b : Nat} (ha : a < 2147483648) (hb : b < 2147483648) : nl a < nl b ↔ a < b := by
  rw [Int64.lt_iff_toInt_lt, nl_toInt ha, nl_toInt hb]; omega
theorem nl_add (a b : Nat) : nl a + nl b = nl (a + b) := (Int64.ofNat_add a b).symm
theorem nl_sub {a b : Nat} (h : b ≤ a) : nl a - nl b = nl (a - b) := (Int64.ofNat_sub a b h).symm
theorem nl_32 {k : Nat} (h : k < 2147483648) : (nl k).toInt32 = nn k := by
  apply Int32.toInt_inj.mp
  rw [Int64.toInt_toInt32, nl_toInt h, nn_toInt h]
  apply Int.bmod_eq_of_le <;> omega
theorem nn_64 {k : Nat} (h : k < 2147483648) : (nn k).toInt64 = nl k := nn_to64 h
theorem nl_abs {v : Int64} (h : -1000000 ≤ v ∧ v ≤ 1000000) : v.toInt.natAbs ≤ 1000000 ∧ (0 ≤ v → v = nl v.toInt.natAbs) ∧ (¬ 0 ≤ v → -v = nl v.toInt.natAbs) := by
  have h1 : -1000000 ≤ v.toInt := Int64.le_iff_toInt_le.mp h.1
  have h2 : v.toInt ≤ 1000000 := Int64.le_iff_toInt_le.mp h.2
  refine ⟨by omega, fun q => ?_, fun q => ?_⟩
  · rw [Int64.le_iff_toInt_le, show ((0 : Int64)).toInt = 0 from rfl] at q
    apply Int64.toInt_inj.mp
    rw [nl_toInt (by omega)]; omega
  · rw [Int64.le_iff_toInt_le, show ((0 : Int64)).toInt = 0 from rfl] at q
    apply Int64.toInt_inj.mp
    rw [nl_toInt (by omega), Int64.toInt_neg, Int.bmod_eq_of_le (by omega) (by omega)]; omega
theorem abs2_nl {v : Int64} (h : -1000000 ≤ v ∧ v ≤ 1000000) : J12_abs_2 v = some (nl v.toInt.natAbs) := by
  obtain ⟨_, h1, h2⟩ := nl_abs h
  unfold J12_abs_2
  by_cases q : 0 ≤ v
  · rw [if_pos q]; exact congrArg some (h1 q)
  · rw [if_neg q]; exact congrArg some (h2 q)
theorem min2_nl {a b : Nat} (ha : a < 2147483648) (hb : b < 2147483648) : J12_min_2 (nl a) (nl b) = some (nl (min a b)) := by
  unfold J12_min_2
  by_cases z : b < a
  · rw [if_pos ((nl_lt hb ha).mpr z), show min a b = b by omega]
  · rw [if_neg (fun q => z ((nl_lt hb ha).mp q)), show min a b = a by omega]
/-- purses behind a payment: of the first, of the second -/
def payV (v : Int64) (p pb : Nat) : Nat × Nat := if 0 ≤ v then (p - min p v.toInt.natAbs, min 9999 (pb + min p v.toInt.natAbs)) else (min 9999 (p + min pb v.toInt.natAbs), pb - min pb v.toInt.natAbs)
theorem payV_le {v : Int64} {p pb : Nat} (h1 : p ≤ 9999) (h2 : pb ≤ 9999) : (payV v p pb).1 ≤ 9999 ∧ (payV v p pb).2 ≤ 9999 := by
  unfold payV
  split <;> constructor <;> show _ ≤ 9999 <;> omega
theorem pays96 {N : Nat} {A : AH} {x : Nat} {y1 y2 y3 : Int32} {v : Int64} (hv : -1000000 ≤ v ∧ v ≤ 1000000) {fr to_ pf pt : Nat} (hfr : fr < 8) (hto : to_ < 8) (hne : fr ≠ to_) (e1 : aI A 31 (x + 4) fr = nn pf) (e2 : aI A 31 (x + 4) to_ = nn pt) (h1 : pf ≤ 9999) (h2 : pt ≤ 9999) :
    X5_pays_b96 N x y1 y2 y3 A v (nn fr) (nn to_) = some ((), wI (wI A 31 (x + 4) fr (nn (pf - min pf v.toInt.natAbs))) 31 (x + 4) to_ (nn (min 9999 (pt + min pf v.toInt.natAbs)))) := by
  obtain ⟨hT, _, _⟩ := nl_abs hv
  have s1 : sI 8 31 A (x + 4) (nn fr) = some (nn pf) := by rw [sI_nn hfr (by decide), e1]
  have s2 : ∀ w, sI 8 31 (wI A 31 (x + 4) fr w) (x + 4) (nn to_) = some (nn pt) := by
    intro w
    rw [sI_nn hto (by decide), aI_wI, if_neg (fun q => hne q.2.2.symm), e2]
  unfold X5_pays_b96
  rw [s1, bo_some, abs2_nl hv, bo_some, nn_64 (by omega), min2_nl (by omega) (by omega), bo_some, bo_some, nl_32 (by omega), nn_sub (by omega), tI_nn hfr (by decide), bo_some, s2, bo_some, nn_add, show (9999 : Int32) = nn 9999 from rfl, min_nn (by omega) (by omega), bo_some, tI_nn hto (by decide), bo_some]
theorem paysX {N : Nat} {A : AH} {σ : mSt} {fo nb L C W : Nat} (h : FR A σ fo nb L C W) {x : Nat} (hx : isStb x = true) (mo : MO A 11) {a b o d l c t p tb pb : Nat} (ha : a < nb) (hb : b < nb) (hne : a ≠ b) (hl : l < 100) (ho : o < 100) (e0 : aI A 600 x 0 = nn d) (e1 : aI A 31 (x + 2) a = nn l) (e2 : aI A 31 (x + 3) a = nn c) (e3 : σ.1 46 (8 + a) = nn t) (e4 : aI A 31 (x + 4) a = nn p) (e5 : σ.1 46 (8 + b) = nn tb) (e6 : aI A 31 (x + 4) b = nn pb) (hp : p ≤ 9999) (hpb : pb ≤ 9999) {v : Int64} (hv : -1000000 ≤ v ∧ v ≤ 1000000)
    (hval : (aR A 213 fo 0 = none ∧ v = 1) ∨ ∃ vid, aR A 213 fo 0 = some vid ∧ ∀ A5, SameOn dyn A A5 → MO A5 11 → (∀ k, cx 127 k → mom A5 11 k = envS d l c t p (if l = o ∨ l + 1 = o then 1 else 0) tb k) → valF N A5 vid 11 = some (v, A5)) :
    ∃ A', X5_pays N A x (nn a) (nn b) (nn o) = some ((), A') ∧ Ch (fun _ i => i = 12 ∨ i = x + 4) A A' ∧ (∀ k, aI A' 31 (x + 4) k = if k = a then nn (payV v p pb).1 else if k = b then nn (payV v p pb).2 else aI A 31 (x + 4) k) := by
  have bn := h.bn
  have hx16 := (st_at hx (d := 4) (by decide)).2.2
  obtain ⟨A1, q1, q2, q3, _, q4⟩ := asks_eq h hx ha hl ho e0 e1 e2 e3 e4
  have hs1 : SameOn dyn A A1 := q2.sameOn (fun f i hi z => dyn12 (z ▸ hi))
  have h1 : FR A1 σ fo nb L C W := h.same hs1 (q2.R 0 (by decide)) (fun k _ j => ⟨rfl, rfl⟩)
  let A5 := wJ A1 32 12 6 (nn tb).toInt64
  have c5 : Ch P12 A1 A5 := Ch.wJ rfl
  have hs5 : SameOn dyn A A5 := (q2.trans c5).sameOn (fun f i hi z => dyn12 (z ▸ hi))
  have mo5 : MO A5 11 := (show Ev true A A5 from q2.trans c5).MO (Or.inl rfl) mo
  have hm5 : ∀ k, cx 127 k → mom A5 11 k = envS d l c t p (if l = o ∨ l + 1 = o then 1 else 0) tb k := by
    intro k hk
    have hk7 := cx127 k hk
    rcases Nat.lt_or_ge k 6 with z | z
    · rw [← q4 k tb z]
      show aJ A5 32 12 k = aJ A1 32 12 k
      rw [aJ_wJ, if_neg (by omega)]
    · have : k = 6 := by omega
      subst this
      show aJ A5 32 12 6 = _
      rw [aJ_wJ, if_pos ⟨rfl, rfl, rfl⟩]; rfl
  have p5 : ∀ k, aI A5 31 (x + 4) k = aI A 31 (x + 4) k := fun k => by rw [aI_wJ, q3]
  have last : ∃ A', X5_pays_b68 N x (nn a) (nn b) (nn o) A5 v = some ((), A') ∧ Ch (fun _ i => i = 12 ∨ i = x + 4) A5 A' ∧ (∀ k, aI A' 31 (x + 4) k = if k = a then nn (payV v p pb).1 else if k = b then nn (payV v p pb).2 else aI A 31 (x + 4) k) := by
    unfold X5_pays_b68 X5_pays_b82 payV
    by_cases z : 0 ≤ v
    · rw [if_pos z, if_pos z, if_pos z, pays96 hv (by omega) (by omega) hne ((p5 a).trans e4) ((p5 b).trans e6) hp hpb]
      refine ⟨_, rfl, (Ch.wI (Or.inr rfl)).trans (Ch.wI (Or.inr rfl)), fun k => ?_⟩
      rw [aI_wI, aI_wI]
      by_cases y1 : k = a
      · rw [if_neg (by omega), if_pos ⟨rfl, rfl, y1⟩, if_pos y1]
      · rw [if_neg y1]
        by_cases y2 : k = b
        · rw [if_pos ⟨rfl, rfl, y2⟩, if_pos y2]
        · rw [if_neg (by omega), if_neg (by omega), if_neg y2, p5]
    · rw [if_neg z, if_neg z, if_neg z, pays96 hv (by omega) (by omega) (Ne.symm hne) ((p5 b).trans e6) ((p5 a).trans e4) hpb hp]
      refine ⟨_, rfl, (Ch.wI (Or.inr rfl)).trans (Ch.wI (Or.inr rfl)), fun k => ?_⟩
      rw [aI_wI, aI_wI]
      by_cases y1 : k = a
      · rw [if_pos ⟨rfl, rfl, y1⟩, if_pos y1]
      · rw [if_neg y1, if_neg (by omega)]
        by_cases y2 : k = b
        · rw [if_pos ⟨rfl, rfl, y2⟩, if_pos y2]
        · rw [if_neg (by omega), if_neg y2, p5]
  obtain ⟨A', r1, r2, r3⟩ := last
  refine ⟨A', ?_, ((q2.trans c5).mono (fun f i z => Or.inl z)).trans r2, r3⟩
  have ef := hs5 fo h.fd
  obtain ⟨i, t', g1, g2, g3, g4, g5, g6⟩ := h1.beingOf hb
  unfold X5_pays
  rw [if_pos hx, q1, bd_some, g1, bo_some, bo_some, gI_k g2, bo_some, g4, e5, show (6 : Int32) = nn 6 from rfl, tJ_nn (by decide) (by decide), bo_some]
  rw [show aR (wJ A1 32 12 6 (nn tb).toInt64) 100 0 0 = some fo from h1.fo, bo_some, gR_k (show aK A5 fo = 2 from ef.1.trans h.fk), bo_some]
  rcases hval with ⟨y1, y2⟩ | ⟨vid, y1, y2⟩
  · rw [show aR A5 213 fo 0 = none from (ef.2.2 _ _).2.2.trans y1, if_pos rfl]
    rw [← y2]; exact r1
  · rw [show aR A5 213 fo 0 = some vid from (ef.2.2 _ _).2.2.trans y1, if_neg (by simp), bo_some]
    rw [gR_k (show aK A5 fo = 2 from ef.1.trans h.fk), bo_some, show aR A5 213 fo 0 = some vid from (ef.2.2 _ _).2.2.trans y1, bo_some, y2 A5 hs5 mo5 hm5, bd_some]
    exact r1
/-! the reference pays -/
theorem m_purseIs (σ : mSt) {b : Nat} (hb : b < 8) {k : Nat} (hk : k ≤ 2000000) : M_purseIs σ (nn b) (nl k) = some ((), mUI σ 56 (7 + 4 * b + 2) (nn (min 9999 k))) := by
  have ix : stI 2 σ 56 ((7 + (4 * nn b)) + 2) (nn (min 9999 k)) = some (mUI σ 56 (7 + 4 * b + 2) (nn (min 9999 k))) := by
    rw [show (2 : Int32) = nn 2 from rfl, ix7a, stI_nn (by rfl) (by show 7 + 4 * b + 2 < 160; omega) (by omega)]
  unfold M_purseIs M_purseIs_b38
  rw [show (0 : Int64) = nl 0 from rfl, if_pos ((nl_le (by omega) (by omega)).mpr (by omega)), show (9999 : Int64) = nl 9999 from rfl, nl_32 (by omega)]
  by_cases z : k ≤ 9999
  · rw [if_pos ((nl_le (by omega) (by omega)).mpr z)]
    rw [show min 9999 k = k by omega] at ix ⊢
    rw [ix, bo_some]
  · rw [if_neg (fun q => z ((nl_le (by omega) (by omega)).mp q))]
    rw [show min 9999 k = 9999 by omega] at ix ⊢
    rw [show (9999 : Int32) = nn 9999 from rfl, ix, bo_some]
theorem m_pays {σ : mSt} {fr to_ pf pt T : Nat} (hfr : fr < 8) (hto : to_ < 8) (hne : fr ≠ to_) (e1 : σ.1 56 (7 + 4 * fr + 2) = nn pf) (e2 : σ.1 56 (7 + 4 * to_ + 2) = nn pt) (h1 : pf ≤ 9999) (h2 : pt ≤ 9999) (hT : T ≤ 1000000) : M_pays σ (nn fr) (nn to_) (nl T) = some ((), mUI (mUI σ 56 (7 + 4 * fr + 2) (nn (pf - min pf T))) 56 (7 + 4 * to_ + 2) (nn (min 9999 (pt + min pf T)))) := by
  have key : ∀ y : Nat, y ≤ pf → M_pays_b21 σ (nn fr) (nn to_) (nl y) = some ((), mUI (mUI σ 56 (7 + 4 * fr + 2) (nn (pf - y))) 56 (7 + 4 * to_ + 2) (nn (min 9999 (pt + y)))) := by
    intro y hy
    unfold M_pays_b21
    rw [m_purseOf σ hfr, bo_some, e1, nn_64 (by omega), nl_sub hy, m_purseIs σ hfr (by omega), bd_some, m_purseOf _ hto, bo_some, mI_UI, if_neg (by omega), e2, nn_64 (by omega), nl_add, m_purseIs _ hto (by omega), bd_some, show min 9999 (pf - y) = pf - y by omega]
  unfold M_pays
  rw [m_purseOf σ hfr, bo_some, e1, nn_64 (by omega), bo_some, nn_64 (by omega)]
  by_cases z : T ≤ pf
  · rw [if_pos ((nl_le (by omega) (by omega)).mpr z), key T z, show min pf T = T by omega]
  · rw [if_neg (fun q => z ((nl_le (by omega) (by omega)).mp q)), key pf (by omega), show min pf T = pf by omega]
theorem m_meet60 {N : Nat} {σ : mSt} {a b p pb : Nat} (ha : a < 8) (hb : b < 8) (hne : a ≠ b) (e1 : σ.1 56 (7 + 4 * a + 2) = nn p) (e2 : σ.1 56 (7 + 4 * b + 2) = nn pb) (h1 : p ≤ 9999) (h2 : pb ≤ 9999) {v : Int64} (hv : -1000000 ≤ v ∧ v ≤ 1000000) :
    ∃ σ', M_meet_b60 N σ (nn a) (nn b) v = some ((), σ') ∧ Cm (fun k => k = 56) σ σ' ∧ ∀ j, σ'.1 56 j = if j = 7 + 4 * a + 2 then nn (payV v p pb).1 else if j = 7 + 4 * b + 2 then nn (payV v p pb).2 else σ.1 56 j := by
  obtain ⟨hT, n1, n2⟩ := nl_abs hv
  unfold M_meet_b60 payV
  by_cases z : 0 ≤ v
  · rw [if_pos z, if_pos z]
    have := m_pays ha hb hne e1 e2 h1 h2 hT
    rw [← n1 z] at this
    refine ⟨_, by rw [this, bd_some], Cm.u56.trans Cm.u56, fun j => ?_⟩
    rw [mI_UI, mI_UI]
    by_cases y1 : j = 7 + 4 * a + 2
    · rw [if_neg (by omega), if_pos ⟨rfl, y1⟩, if_pos y1]
    · rw [if_neg y1]
      by_cases y2 : j = 7 + 4 * b + 2
      · rw [if_pos ⟨rfl, y2⟩, if_pos y2]
      · rw [if_neg (by omega), if_neg (by omega), if_neg y2]
  · rw [if_neg z, if_neg z, n2 z]
    have := m_pays hb ha (Ne.symm hne) e2 e1 h2 h1 hT
    refine ⟨_, by rw [this, bd_some], Cm.u56.trans Cm.u56, fun j => ?_⟩
    rw [mI_UI, mI_UI]
    by_cases y1 : j = 7 + 4 * a + 2
    · rw [if_pos ⟨rfl, y1⟩, if_pos y1]
    · rw [if_neg y1, if_neg (by omega)]
      by_cases y2 : j = 7 + 4 * b + 2
      · rw [if_pos ⟨rfl, y2⟩, if_pos y2]
      · rw [if_neg (by omega), if_neg y2]
