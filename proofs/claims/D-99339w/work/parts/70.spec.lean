/-! PURE LEVEL: the parser as plain functions over positions -/
set_option maxRecDepth 100000
abbrev Rs (α : Type) : Type := Except (Nat × Nat) α
def eb {α β : Type} (x : Rs α) (g : α → Rs β) : Rs β := match x with
  | .error e => .error e
  | .ok a => g a
theorem eb_ok {α β : Type} (a : α) (g : α → Rs β) : eb (.ok a) g = g a := rfl
theorem eb_er {α β : Type} (e : Nat × Nat) (g : α → Rs β) : eb (.error e : Rs α) g = .error e := rfl
def isLt (b : Nat) : Bool := decide (97 ≤ b) && decide (b ≤ 122)
def isDg (b : Nat) : Bool := decide (48 ≤ b) && decide (b ≤ 57)
def isBl (b : Nat) : Bool := decide (b = 32) || decide (b = 10)
def runP (P : Nat → Bool) (B : Nat → Nat) : Nat → Nat → Nat
  | 0, p => p
  | f + 1, p => if P (B p) = true then runP P B f (p + 1) else p
def rp (P : Nat → Bool) (B : Nat → Nat) (n p : Nat) : Nat := runP P B (n - p) p
/-- bytes, and 256 at the end -/
def BOK (B : Nat → Nat) (n : Nat) : Prop :=
  (∀ k, k < n → B k < 256) ∧
  (∀ k, n ≤ k → B k = 256) ∧
  (n ≤ 1600)
theorem BOK.lt {B : Nat → Nat} {n : Nat} (h : BOK B n) : ∀ k, k < n → B k < 256 := h.1
theorem BOK.ge {B : Nat → Nat} {n : Nat} (h : BOK B n) : ∀ k, n ≤ k → B k = 256 := h.2.1
theorem BOK.nb {B : Nat → Nat} {n : Nat} (h : BOK B n) : n ≤ 1600 := h.2.2
theorem BOK.mk {B : Nat → Nat} {n : Nat} (h_lt : ∀ k, k < n → B k < 256) (h_ge : ∀ k, n ≤ k → B k = 256) (h_nb : n ≤ 1600) : BOK B n := ⟨h_lt, h_ge, h_nb⟩
theorem BOK.le {B : Nat → Nat} {n : Nat} (h : BOK B n) (k : Nat) : B k ≤ 256 := by
  rcases Nat.lt_or_ge k n with q | q
  · have := h.lt k q; omega
  · have := h.ge k q; omega
theorem rp_t {P : Nat → Bool} {B : Nat → Nat} {n p : Nat} (hp : p < n) (h : P (B p) = true) : rp P B n p = rp P B n (p + 1) := by
  unfold rp
  rw [show n - p = (n - (p + 1)) + 1 by omega]
  show (if P (B p) = true then _ else p) = _
  rw [if_pos h]
theorem rp_f {P : Nat → Bool} {B : Nat → Nat} {n p : Nat} (h : P (B p) = false) : rp P B n p = p := by
  unfold rp
  cases n - p with
  | zero => rfl
  | succ f =>
    show (if P (B p) = true then _ else p) = _
    rw [if_neg (by rw [h]; decide)]
theorem rp_e {P : Nat → Bool} {B : Nat → Nat} {n p : Nat} (h : n ≤ p) : rp P B n p = p := by
  unfold rp
  rw [show n - p = 0 by omega]
  rfl
theorem rp_all {P : Nat → Bool} {B : Nat → Nat} {n : Nat} (hB : BOK B n) (h6 : P 256 = false) : ∀ f p, n - p = f → p ≤ rp P B n p ∧ rp P B n p ≤ max p n ∧ P (B (rp P B n p)) = false ∧ (∀ k, p ≤ k → k < rp P B n p → P (B k) = true) := by
  intro f
  induction f with
  | zero =>
    intro p hp
    rw [rp_e (by omega), hB.ge p (by omega)]
    exact ⟨Nat.le_refl _, by omega, h6, fun k h1 h2 => by omega⟩
  | succ f ih =>
    intro p hp
    by_cases c : P (B p) = true
    · rw [rp_t (by omega) c]
      obtain ⟨i1, i2, i3, i4⟩ := ih (p + 1) (by omega)
      refine ⟨by omega, by omega, i3, fun k h1 h2 => ?_⟩
      by_cases ek : k = p
      · rw [ek]; exact c
      · exact i4 k (by omega) h2
    · have c' : P (B p) = false := by simpa using c
      rw [rp_f c']
      exact ⟨Nat.le_refl _, by omega, c', fun k h1 h2 => by omega⟩
section
variable {B : Nat → Nat} {n p : Nat}
theorem rp_ge (P : Nat → Bool) (B : Nat → Nat) (n p : Nat) : p ≤ rp P B n p := by
  unfold rp
  generalize n - p = f
  induction f generalizing p with
  | zero => exact Nat.le_refl _
  | succ f ih =>
    show p ≤ (if P (B p) = true then _ else p)
    split
    · have := ih (p + 1); omega
    · exact Nat.le_refl _
theorem rp_le {P : Nat → Bool} (hB : BOK B n) (h6 : P 256 = false) (hp : p ≤ n) : rp P B n p ≤ n := by
  have := (rp_all hB h6 (n - p) p rfl).2.1; omega
theorem rp_stop {P : Nat → Bool} (hB : BOK B n) (h6 : P 256 = false) : P (B (rp P B n p)) = false := (rp_all hB h6 (n - p) p rfl).2.2.1
theorem rp_in {P : Nat → Bool} (hB : BOK B n) (h6 : P 256 = false) {k : Nat} (h1 : p ≤ k) (h2 : k < rp P B n p) : P (B k) = true := (rp_all hB h6 (n - p) p rfl).2.2.2 k h1 h2
end
def sk (B : Nat → Nat) (n p : Nat) : Nat := rp isBl B n p
/-- whether a letter or a digit stands before -/
def ptd (B : Nat → Nat) (a : Nat) : Bool := decide (1 ≤ a) && (isLt (B (a - 1)) || isDg (B (a - 1)))
def wdk (B : Nat → Nat) (a e : Nat) : List Int32 := (List.range (e - a)).map (fun i => nn (B (a + i)))
abbrev kw (j : Nat) : List Int32 := ksL.getD j []
def fdx (w : List Int32) : List Nat → Nat → Option Nat
  | [], _ => none
  | j :: js, k => if w = kw j then some k else fdx w js (k + 1)
def dvl (B : Nat → Nat) (a : Nat) : Nat → Nat
  | 0 => 0
  | k + 1 => 10 * dvl B a k + (B (a + k) - 48)
section
variable (B : Nat → Nat) (n : Nat)
/-- a word: where it begins and ends -/
def sWord (p : Nat) : Rs (Nat × Nat) := if isLt (B (sk B n p)) = true then (if ptd B (sk B n p) = true then .error (1, sk B n p) else .ok (sk B n p, rp isLt B n (sk B n p))) else .error (1, sk B n p)
def sIs (j p : Nat) : Rs Nat := eb (sWord B n p) fun w => if wdk B w.1 w.2 = kw j then .ok w.2 else .error (1, w.1)
def sPass (j p : Nat) : Rs (Bool × Nat) := if isLt (B (sk B n p)) = true then eb (sWord B n p) (fun w => if wdk B w.1 w.2 = kw j then .ok (true, w.2) else .ok (false, p)) else .ok (false, sk B n p)
/-- a number: it, where it begins and ends -/
def sNum (l m p : Nat) : Rs (Nat × Nat × Nat) := if isDg (B (sk B n p)) = true then (if ptd B (sk B n p) = true then .error (1, sk B n p) else if sk B n p + 4 < rp isDg B n (sk B n p) then .error (1, sk B n p + 4) else if l ≤ dvl B (sk B n p) (rp isDg B n (sk B n p) - sk B n p) ∧ dvl B (sk B n p) (rp isDg B n (sk B n p) - sk B n p) ≤ m then .ok (dvl B (sk B n p) (rp isDg B n (sk B n p) - sk B n p), sk B n p, rp isDg B n (sk B n p)) else .error (2, sk B n p)) else .error (1, sk B n p)
def sMust (c p : Nat) : Rs Nat := if B (sk B n p) = c then .ok (sk B n p + 1) else .error (1, sk B n p)
abbrev RA : Type := Nat → Nat → Rs (Nat × List Int32)
/-- after the first: c1 and c2 are the signs, k1 and k2 their codes; r reads what stands between -/
def sLoop (c1 c2 : Nat) (k1 k2 : Int32) (r : Nat → Rs (Nat × List Int32)) : Nat → Nat × List Int32 → Rs (Nat × List Int32)
  | 0, x => .ok (sk B n x.1, x.2)
  | f + 1, x => if B (sk B n x.1) = c1 then eb (r (sk B n x.1 + 1)) (fun y => sLoop c1 c2 k1 k2 r f (y.1, x.2 ++ y.2 ++ [k1])) else if B (sk B n x.1) = c2 then eb (r (sk B n x.1 + 1)) (fun y => sLoop c1 c2 k1 k2 r f (y.1, x.2 ++ y.2 ++ [k2])) else .ok (sk B n x.1, x.2)
def sProd (ra : RA) (o p : Nat) : Rs (Nat × List Int32) := eb (ra o p) fun x => sLoop B n 42 47 3 4 (ra o) (n - x.1) x
def sSum (ra : RA) (o p : Nat) : Rs (Nat × List Int32) := eb (sProd B n ra o p) fun x => sLoop B n 43 45 1 2 (sProd B n ra o) (n - x.1) x
def sWithin (ra : RA) (two : Nat) (o p : Nat) : Rs (Nat × List Int32) := if B (sk B n p) = 40 then (if o = 6 then .error (4, sk B n p) else eb (sSum B n ra (o + 1) (sk B n p + 1)) fun x => if two = 0 then eb (sMust B n 41 x.1) (fun p2 => .ok (p2, x.2)) else eb (sMust B n 44 x.1) fun p2 => eb (sSum B n ra (o + 1) p2) fun y => eb (sMust B n 41 y.1) fun p4 => .ok (p4, x.2 ++ y.2 ++ [if two = 1 then 5 else 6])) else .error (1, sk B n p)
def askL : List Nat := [13, 14, 15, 7, 16, 17, 18, 19, 20]
/-- a part with its allowance; none of these -/
def sPart (μ : Nat) (w : List Int32) : Option Nat := match fdx w askL 0 with
  | some k => if Nat.testBit μ k = true then some k else none
  | none => none
def sAtom (ra : RA) (q : Bool) (μ o p : Nat) : Rs (Nat × List Int32) :=
  if B (sk B n p) = 40 then sWithin B n ra 0 o (sk B n p)
  else if isDg (B (sk B n p)) = true then eb (sNum B n 0 9999 (sk B n p)) (fun v => .ok (v.2.2, [nn (1000 + v.1)]))
  else eb (sWord B n (sk B n p)) fun w => match sPart μ (wdk B w.1 w.2) with
    | some k => .ok (w.2, [nn (40 + k)])
    | none => if q = true ∧ wdk B w.1 w.2 = kw 21 then (if o = 6 then .error (4, w.1) else eb (ra (o + 1) w.2) fun x => .ok (x.1, x.2 ++ [60]))
      else if wdk B w.1 w.2 = kw 26 then sWithin B n ra 1 o w.2 else if wdk B w.1 w.2 = kw 27 then sWithin B n ra 2 o w.2 else .error (1, w.1)
def sAtomF (q : Bool) (μ : Nat) : Nat → RA
  | 0 => fun _ _ => .error (0, 0)
  | d + 1 => fun o p => sAtom B n (sAtomF q μ d) q μ o p
/-- the same with words between -/
def sWLoop (j : Nat) (k : Int32) (r : Nat → Rs (Nat × List Int32)) : Nat → Nat × List Int32 → Rs (Nat × List Int32)
  | 0, x => eb (sPass B n j x.1) fun y => .ok (y.2, x.2)
  | f + 1, x => eb (sPass B n j x.1) fun y => if y.1 = true then eb (r y.2) (fun z => sWLoop j k r f (z.1, x.2 ++ z.2 ++ [k])) else .ok (y.2, x.2)
def sBoth (rf : RA) (o p : Nat) : Rs (Nat × List Int32) := eb (rf o p) fun x => sWLoop B n 23 10 (rf o) (n - x.1) x
def sTest (rf : RA) (o p : Nat) : Rs (Nat × List Int32) := eb (sBoth B n rf o p) fun x => sWLoop B n 22 11 (sBoth B n rf o) (n - x.1) x
def sFact (rs rf : RA) (o p : Nat) : Rs (Nat × List Int32) :=
  if B (sk B n p) = 91 then (if o = 6 then .error (4, sk B n p) else eb (sTest B n rf (o + 1) (sk B n p + 1)) fun x => eb (sMust B n 93 x.1) fun p2 => .ok (p2, x.2))
  else eb (sPass B n 24 (sk B n p)) fun y => if y.1 = true then (if o = 6 then .error (4, sk B n p) else eb (rf (o + 1) y.2) fun x => .ok (x.1, x.2 ++ [12]))
  else eb (sPass B n 25 y.2) fun z => if z.1 = true then .ok (z.2, [13])
  else eb (rs o z.2) fun x => if B (sk B n x.1) = 60 ∨ B (sk B n x.1) = 62 ∨ B (sk B n x.1) = 61 then eb (rs o (sk B n x.1 + 1)) (fun y => .ok (y.1, x.2 ++ y.2 ++ [if B (sk B n x.1) = 60 then 7 else if B (sk B n x.1) = 62 then 8 else 9])) else .error (1, sk B n x.1)
def sFactF (rs : RA) : Nat → RA
  | 0 => fun _ _ => .error (0, 0)
  | d + 1 => fun o p => sFact B n rs (sFactF rs d) o p
end
