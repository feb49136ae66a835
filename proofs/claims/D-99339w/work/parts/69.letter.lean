/-! PURE LEVEL: letters of names -/
set_option maxRecDepth 100000
def numR : List Nat → Nat
  | [] => 0
  | d :: r => d + 27 * numR r
theorem numR_eq (rs : List Nat) : rs.reverse.foldl (fun v d => 27 * v + d) 0 = numR rs := by
  induction rs with
  | nil => rfl
  | cons d r ih =>
    rw [List.reverse_cons, List.foldl_append, ih]
    show 27 * numR r + d = d + 27 * numR r
    omega
theorem numR_lt : ∀ (rs : List Nat), (∀ d ∈ rs, 1 ≤ d ∧ d ≤ 26) → numR rs < 27 ^ rs.length := by
  intro rs
  induction rs with
  | nil => intro _; exact Nat.one_pos
  | cons d r ih =>
    intro h
    have h1 := h d (by simp)
    have h2 := ih (fun x hx => h x (by simp [hx]))
    show d + 27 * numR r < 27 ^ (r.length + 1)
    rw [Nat.pow_succ]
    omega
theorem num27_eq : ∀ (ds : List Nat), (∀ d ∈ ds, 1 ≤ d ∧ d ≤ 26) → ∀ v : Nat, (ds.map (fun d => nn (d + 96))).foldl (fun v c => ((27 * v + Int32.toInt64 c) - 97) + 1) (nl v) = nl (ds.foldl (fun v d => 27 * v + d) v) := by
  intro ds
  induction ds with
  | nil => intro _ v; rfl
  | cons d ds ih =>
    intro h v
    have h1 := h d (by simp)
    have e1 : (((27 * nl v + Int32.toInt64 (nn (d + 96))) - 97) + 1 : Int64) = nl (27 * v + d) := by
      rw [nn_64 (by omega), show (27 : Int64) = nl 27 from rfl, nl_mul, nl_add, show (97 : Int64) = nl 97 from rfl, nl_sub (by omega), show (1 : Int64) = nl 1 from rfl, nl_add, show 27 * v + (d + 96) - 97 + 1 = 27 * v + d by omega]
    rw [List.map_cons, List.foldl_cons, List.foldl_cons, e1]
    exact ih (fun x hx => h x (by simp [hx])) (27 * v + d)
theorem let_ex {cs : List Int32} (h : ∀ c ∈ cs, isLet c) : ∃ ds : List Nat, cs = ds.map (fun d => nn (d + 96)) ∧ ∀ d ∈ ds, 1 ≤ d ∧ d ≤ 26 := by
  induction cs with
  | nil => exact ⟨[], rfl, fun d hd => by cases hd⟩
  | cons c cs ih =>
    obtain ⟨ds, e, hd⟩ := ih (fun x hx => h x (by simp [hx]))
    obtain ⟨h1, h2⟩ := h c (by simp)
    have h0 : 0 ≤ c := Int32.le_trans (by decide) h1
    have ec := nn_of h0
    have hl := Int32.toNatClampNeg_lt c
    rw [ec, show (97 : Int32) = nn 97 from rfl, nn_le (by omega) (by omega)] at h1
    rw [ec, show (122 : Int32) = nn 122 from rfl, nn_le (by omega) (by omega)] at h2
    refine ⟨(c.toNatClampNeg - 96) :: ds, ?_, fun d hd2 => ?_⟩
    · rw [List.map_cons, ← e, show c.toNatClampNeg - 96 + 96 = c.toNatClampNeg by omega, ← ec]
    · rcases List.mem_cons.mp hd2 with z | z
      · omega
      · exact hd d z
theorem let73 {N : Nat} {σ : mSt} {k : Nat} (hk : k < 100) : ∀ (j i q : Nat) (rs : List Nat) (d : Nat), i = k + j → j < q → i < 100 → rs.length ≤ 6 → (∀ d ∈ rs, 1 ≤ d ∧ d ≤ 26) → rs[j]? = some d → rn3 (M_letter_b73 N σ) q (nn k) (nl (numR rs)) (nn i) = some (nn d) := by
  intro j
  induction j with
  | zero =>
    intro i q rs d hi hq hi2 hl hr hd
    obtain ⟨q, rfl⟩ : ∃ y, q = y + 1 := ⟨q - 1, by omega⟩
    cases rs with
    | nil => cases hd
    | cons e r =>
      have : e = d := by simpa using hd
      subst this
      have h1 := hr e (by simp)
      have hb := numR_lt (e :: r) hr
      have hp : 27 ^ (e :: r).length ≤ 27 ^ 6 := Nat.pow_le_pow_right (by decide) hl
      have h6 : (27 : Nat) ^ 6 = 387420489 := by decide
      show M_letter_b73 N σ _ (nn k) (nl (numR (e :: r))) (nn i) = _
      unfold M_letter_b73
      rw [if_pos ((nn_le (by omega) (by omega)).mpr (by omega)), show (27 : Int64) = nl 27 from rfl, nl_rem (by omega) (by decide), nl_32 (by omega)]
      show some (nn ((e + 27 * numR r) % 27)) = some (nn e)
      rw [show (e + 27 * numR r) % 27 = e by omega]
  | succ j ih =>
    intro i q rs d hi hq hi2 hl hr hd
    obtain ⟨q, rfl⟩ : ∃ y, q = y + 1 := ⟨q - 1, by omega⟩
    cases rs with
    | nil => cases hd
    | cons e r =>
      have h1 := hr e (by simp)
      have hb := numR_lt (e :: r) hr
      have hp : 27 ^ (e :: r).length ≤ 27 ^ 6 := Nat.pow_le_pow_right (by decide) hl
      have h6 : (27 : Nat) ^ 6 = 387420489 := by decide
      have hd' : r[j]? = some d := by simpa using hd
      rw [← ih (i - 1) q r d (by omega) (by omega) (by omega) (by simp at hl; omega) (fun x hx => hr x (by simp [hx])) hd']
      show M_letter_b73 N σ (rn3 (M_letter_b73 N σ) q) (nn k) (nl (numR (e :: r))) (nn i) = _
      generalize rn3 (M_letter_b73 N σ) q = kk
      unfold M_letter_b73
      have ei : (nn i + (-1) : Int32) = nn (i - 1) := by
        rw [← nn_sub (a := i) (b := 1) (by omega), Int32.sub_eq_add_neg]; rfl
      rw [if_neg (fun z => by have := (nn_le (by omega) (by omega)).mp z; omega), show (27 : Int64) = nl 27 from rfl, nl_div (by omega) (by decide), ei]
      show kk (nn k) (nl ((e + 27 * numR r) / 27)) _ = _
      rw [show (e + 27 * numR r) / 27 = numR r by omega]
theorem let38 {N : Nat} {σ : mSt} {k : Nat} {v : Int64} : ∀ (rs : List Nat) (c q : Nat), rs.length < q → rs.length ≤ 6 → c + rs.length < 100 → (∀ d ∈ rs, 1 ≤ d ∧ d ≤ 26) → rn4 (M_letter_b38 N σ) q (nn k) v (nn c) (nl (numR rs)) = if nn k < nn (c + rs.length) then rn3 (M_letter_b73 N σ) N (nn k) v (nn (c + rs.length) - 1) else some 0 := by
  intro rs
  induction rs with
  | nil =>
    intro c q hq hl hc hr
    obtain ⟨q, rfl⟩ : ∃ y, q = y + 1 := ⟨q - 1, by omega⟩
    show M_letter_b38 N σ _ (nn k) v (nn c) (nl (numR [])) = _
    unfold M_letter_b38
    rw [if_pos (show nl (numR []) ≤ 0 by decide)]
    rfl
  | cons e r ih =>
    intro c q hq hl hc hr
    have hq' : r.length + 1 < q := hq
    have hl' : r.length + 1 ≤ 6 := hl
    have hc' : c + (r.length + 1) < 100 := hc
    obtain ⟨q, rfl⟩ : ∃ y, q = y + 1 := ⟨q - 1, by omega⟩
    have h1 := hr e (by simp)
    have hb := numR_lt (e :: r) hr
    have hp : 27 ^ (e :: r).length ≤ 27 ^ 6 := Nat.pow_le_pow_right (by decide) hl
    have h6 : (27 : Nat) ^ 6 = 387420489 := by decide
    have hne : ¬ nl (numR (e :: r)) ≤ 0 := by
      rw [show (0 : Int64) = nl 0 from rfl, nl_le (by omega) (by omega)]
      show ¬ e + 27 * numR r ≤ 0
      omega
    have := ih (c + 1) q (by omega) (by omega) (by omega) (fun x hx => hr x (by simp [hx]))
    rw [show c + (e :: r).length = c + 1 + r.length by simp; omega, ← this]
    show M_letter_b38 N σ (rn4 (M_letter_b38 N σ) q) (nn k) v (nn c) (nl (numR (e :: r))) = _
    generalize rn4 (M_letter_b38 N σ) q = kk
    unfold M_letter_b38
    rw [if_neg hne, nn_succ, show (27 : Int64) = nl 27 from rfl, nl_div (by omega) (by decide)]
    show kk (nn k) v (nn (c + 1)) (nl ((e + 27 * numR r) / 27)) = _
    rw [show (e + 27 * numR r) / 27 = numR r by omega]
theorem chr27 : ∀ d, d < 27 → ((Int32.toUInt32 (nn (d + 96) &&& 255) % 65536).toInt32) = nn (d + 96) ∧ vp_nar .char (nn (d + 96)) = nn (d + 96) ∧ (d = 0 ∨ (nn (d + 96) - 97) + 1 = nn d) := by decide +kernel
theorem letter_op {N : Nat} (hN : 5000 ≤ N) {A : AH} {σ : mSt} {fo nb L C W : Nat} (h : FR A σ fo nb L C W) (x y : Int32) : ∃ r, X0_letter A x y = some (r, A) ∧ M_letter N σ x y = some r := by
  have bn := h.bn
  obtain ⟨p, _, hp, q1, q2⟩ := isBeing_eq h x
  unfold X0_letter M_letter
  rw [q1, q2, bo_some, bo_some, bt0, bt0, (is_eq y 0 5).1, show M_isIn (Int32.toInt64 y) 0 5 = _ from (is_eq y 0 5).2, bo_some, bo_some, bt0, bt0]
  by_cases c : p
  · rw [if_pos c, if_pos c]
    by_cases c2 : 0 ≤ y ∧ y ≤ 5
    · rw [if_pos c2, if_pos c2]
      obtain ⟨b, hb, rfl⟩ := hp.mp c
      obtain ⟨k, hk, rfl⟩ := (rng_ex (n := 6) (by decide)).mp c2
      obtain ⟨li, be, b1, b2, b3, b4⟩ := h.be
      obtain ⟨i, hi⟩ : ∃ i, be[b]? = some i := ⟨be[b]'(by omega), List.getElem?_eq_getElem _⟩
      obtain ⟨i1, i2, i3, i4, s, i5, cs, i6, l1, l2, l3, l4⟩ := b4 b i hi
      obtain ⟨s1, s2, s3, ar, s4, s5, s6, s7, s8, s9⟩ := i6
      obtain ⟨ds, ed, hd⟩ := let_ex l3
      have hlen : cs.length = ds.length := by rw [ed]; simp
      have ev : σ.2 42 (8 + b) = nl (numR ds.reverse) := by
        rw [l4, ed]
        unfold num27
        have := num27_eq ds hd 0
        rw [show (0 : Int64) = nl 0 from rfl, this, ← numR_eq, List.reverse_reverse]
      have hbo : X0_beingOf A (nn b) = some (some i) := by
        unfold X0_beingOf
        rw [h.fo, bo_some, gN_k h.fk, b1, bo_some, if_pos b2.kd, J2_get_LR b2 hi, bo_some, bo_some, if_pos i2]
      have hlx : J6_length A s = some (nn ds.length) := by
        unfold J6_length J6_coder
        rw [gN_k s2, s4, bo_some, aLn_k s6, bo_some, if_pos s2, gI_k s2, bo_some, s3, if_pos (by decide), bo_some, s7, hlen, show ((0 : Int32) &&& 31) = 0 from rfl, Int32.shiftRight_zero]
      have hM : M_letter N σ (nn b) (nn k) = _ := rfl
      have hL : ldL σ 42 (8 + nn b) = some (nl (numR ds.reverse)) := by
        rw [show (8 : Int32) = nn 8 from rfl, nn_add, ldL_nn (by rfl) (by show 8 + b < 16; omega) (by omega), ev]
      have hrv : ∀ d ∈ ds.reverse, 1 ≤ d ∧ d ≤ 26 := fun d hd2 => hd d (List.mem_reverse.mp hd2)
      have l38 := let38 (N := N) (σ := σ) (k := k) (v := nl (numR ds.reverse)) ds.reverse 0 N (by rw [List.length_reverse]; omega) (by rw [List.length_reverse]; omega) (by rw [List.length_reverse]; omega) hrv
      have l38' : rn4 (M_letter_b38 N σ) N (nn k) (nl (numR ds.reverse)) 0 (nl (numR ds.reverse)) = _ := l38
      rw [hbo, bo_some, bo_some, if_pos i2, hL, bo_some, l38', List.length_reverse, Nat.zero_add]
      unfold X7_letter
      rw [gN_k i2, i5, bo_some, if_pos s2, hlx, bo_some]
      by_cases z : ds.length ≤ k
      · rw [if_pos ((nn_le (by omega) (by omega)).mpr z), bd_some, if_neg (fun q => by have := (nn_lt (by omega) (by omega)).mp q; omega)]
        exact ⟨_, rfl, rfl⟩
      · obtain ⟨d, hdk⟩ : ∃ d, ds[k]? = some d := ⟨ds[k]'(by omega), List.getElem?_eq_getElem _⟩
        have hdm : d ∈ ds := List.mem_of_getElem? hdk
        have hd1 := hd d hdm
        obtain ⟨w1, w2, w3⟩ := chr27 d (by omega)
        have hcs : cs[k]? = some (nn (d + 96)) := by rw [ed]; simp [hdk]
        have hch : J6_charAt A s (nn k) = some (nn (d + 96), A) := by
          unfold J6_charAt J6_isLatin1 J9_charAt J6_checkIndex J8_checkIndex
          rw [if_pos s2, gI_k s2, bo_some, s3, if_pos rfl, bo_some, if_neg (by decide), gN_k s2, s4, bo_some, aLn_k s6, bo_some, if_neg (nn_nneg (by omega)), if_pos ((nn_lt (by omega) (by omega)).mpr (by omega)), bo_some, bd_some, dI_nn s6 (by omega) (by omega), bo_some, s9 k _ hcs, w1, if_pos w2, bd_some, if_pos w2]
        have hrk : ds.reverse[ds.length - 1 - k]? = some d := by
          rw [List.getElem?_reverse (by omega), show ds.length - 1 - (ds.length - 1 - k) = k by omega]; exact hdk
        have := let73 (N := N) (σ := σ) (k := k) (by omega) (ds.length - 1 - k) (ds.length - 1) N ds.reverse d (by omega) (by omega) (by omega) (by rw [List.length_reverse]; omega) hrv hrk
        rw [if_neg (fun q => by have := (nn_le (by omega) (by omega)).mp q; omega), bo_some, if_pos s2, hch, bd_some, bd_some, if_pos ((nn_lt (by omega) (by omega)).mpr (by omega)), show (nn ds.length - 1 : Int32) = nn (ds.length - 1) from nn_sub (a := ds.length) (b := 1) (by omega), this, w3.resolve_left (by omega)]
        exact ⟨_, rfl, rfl⟩
    · rw [if_neg c2, if_neg c2]; exact ⟨_, rfl, rfl⟩
  · rw [if_neg c, if_neg c]; exact ⟨_, rfl, rfl⟩
