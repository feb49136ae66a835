/-! PURE LEVEL: the hash of a word -/
set_option maxRecDepth 100000
def hsh (cs : List Int32) : Int32 := cs.foldl (fun h c => 31 * h + (c &&& 255)) 0
section
variable {N : Nat} {A A' : AH}
theorem hsh_snoc (l : List Int32) (c : Int32) : hsh (l ++ [c]) = 31 * hsh l + (c &&& 255) := by
  unfold hsh
  rw [List.foldl_append, List.foldl_cons, List.foldl_nil]
theorem take_snoc {l : List Int32} {k : Nat} {c : Int32} (h : l[k]? = some c) : l.take (k + 1) = l.take k ++ [c] := by
  rw [List.take_add_one, h]
  rfl
theorem hsh_loop {ar : Nat} {cs : List Int32} (ka : aK A ar = 33) (la : aL A ar = cs.length) (l5 : cs.length < 5000) (va : ∀ i v, cs[i]? = some v → aI A 33 ar i = v) : ∀ (f k z : Nat), k + f = cs.length → f < z → rn3 (J10_signedHashCode_b8 N ar 0 (nn cs.length) A) z (hsh (cs.take k)) (nn cs.length) (nn k) = some (hsh cs) := by
  intro f
  induction f with
  | zero =>
    intro k z hk hz
    obtain ⟨z, rfl⟩ : ∃ m, z = m + 1 := ⟨z - 1, by omega⟩
    show J10_signedHashCode_b8 N ar 0 (nn cs.length) A _ _ _ _ = _
    unfold J10_signedHashCode_b8
    rw [if_pos ((nn_le (by omega) (by omega)).mpr (by omega)), List.take_of_length_le (by omega)]
  | succ f ih =>
    intro k z hk hz
    obtain ⟨z, rfl⟩ : ∃ m, z = m + 1 := ⟨z - 1, by omega⟩
    have ih' := ih (k + 1) z (by omega) (by omega)
    obtain ⟨c, hc⟩ : ∃ c, cs[k]? = some c := ⟨cs[k]'(by omega), List.getElem?_eq_getElem _⟩
    show J10_signedHashCode_b8 N ar 0 (nn cs.length) A (rn3 (J10_signedHashCode_b8 N ar 0 (nn cs.length) A) z) _ _ _ = _
    generalize rn3 (J10_signedHashCode_b8 N ar 0 (nn cs.length) A) z = kk at ih' ⊢
    unfold J10_signedHashCode_b8
    rw [if_neg (fun q => by have := (nn_le (by omega) (by omega)).mp q; omega), dI_nn ka (by omega) (by omega), bo_some, va k c hc, nn_succ]
    rw [take_snoc hc, hsh_snoc] at ih'
    exact ih'
/-- the hash of a new String, told for the first time -/
theorem hash_new (hN : 5000 ≤ N) {s ar : Nat} {cs : List Int32} (g : GN A) (h : StR A s cs) (h1 : aI A 1902 s 0 = 0) (h2 : aI A 1903 s 0 = 0) (har : aR A 1900 s 0 = some ar) (hlt : ar < CB) (hs : s < CB) (hl1 : 1 ≤ cs.length) : ∃ A', J6_hashCode N A s = some (hsh cs, A') ∧ Ex (fun f i => i = s ∧ (f = 1902 ∨ f = 1903)) 0 0 A A' ∧ ((hsh cs ≠ 0 ∧ aI A' 1902 s 0 = hsh cs) ∨ (hsh cs = 0 ∧ aI A' 1902 s 0 = 0 ∧ aI A' 1903 s 0 ≠ 0)) := by
  obtain ⟨k1, k2, ar', k3, k4, k5, k6, k7⟩ := h
  rw [har] at k3
  cases k3
  have hl := hsh_loop (N := N) k4 k5 k6 k7 cs.length 0 N (by omega) (by omega)
  have e9 : J9_hashCode N A ar = some (hsh cs, A) := by
    unfold J9_hashCode
    rw [aLn_k k4, bo_some, k5, if_neg (fun w : nn cs.length = (0 : Int32) => by have := (nn_eq (b := 0) (by omega) (by omega)).mp w; omega)]
    by_cases z1 : cs.length = 1
    · obtain ⟨c, hc⟩ : ∃ c, cs[0]? = some c := ⟨cs[0]'(by omega), List.getElem?_eq_getElem _⟩
      have ecs : cs = [c] := by
        match cs, z1, hc with
        | [d], _, hc => cases hc; rfl
      rw [if_pos (show nn cs.length = (1 : Int32) by rw [z1]; rfl), show dI_ 33 A ar 0 = _ from dI_nn (k := 0) k4 (by omega) (by omega), bo_some, k7 0 c hc, ck_ok (Le.refl _), ecs]
      show some (c &&& 255, A) = some (31 * 0 + (c &&& 255), A)
      rw [show (31 : Int32) * 0 = 0 from rfl, Int32.zero_add]
    · unfold J10_vectorizedHashCode J10_signedHashCode
      rw [if_neg (fun w : nn cs.length = (1 : Int32) => by have := (nn_eq (b := 1) (by omega) (by omega)).mp w; omega), bo_some, if_pos rfl, if_pos ⟨k4, hlt⟩, show (0 : Int32) + nn cs.length = nn cs.length by rw [Int32.zero_add], show rn3 (J10_signedHashCode_b8 N ar 0 (nn cs.length) A) N 0 (nn cs.length) 0 = _ from hl, bo_some, ck_ok (Le.refl _), bda_ok (Le.refl _), ck_ok (Le.refl _), ck_ok (Le.refl _)]
  have key : J6_hashCode N A s = ck A (ck A (J6_hashCode_b40 N s A (hsh cs))) := by
    unfold J6_hashCode J6_isLatin1
    rw [gI_k k1, bo_some, h1, if_pos rfl, gI_k k1, bo_some, h2, if_pos rfl, if_pos k1, gI_k k1, bo_some, k2, if_pos rfl, bo_some, if_neg (by decide), gN_k k1, har, bo_some, e9, bda_ok (Le.refl _)]
  have ps : ∀ f v, (f = 1902 ∨ f = 1903) → pIs A f s v = some (wI A f s 0 v) := by
    intro f v hf
    exact if_pos ⟨k1, hs⟩
  have hc : ∀ f v, ck A (ck A (some (hsh cs, wI A f s 0 v))) = some (hsh cs, wI A f s 0 v) := fun f v => by
    have h := ck_ok (r := hsh cs) (show Le A (wI A f s 0 v) from ⟨Nat.le_refl _, Nat.le_refl _⟩)
    rw [h, h]
  rw [key]
  unfold J6_hashCode_b40
  by_cases z : hsh cs = 0
  · rw [if_pos z, ps _ _ (Or.inr rfl), bo_some]
    refine ⟨wI A 1903 s 0 1, hc _ _, Ex.wI g ⟨rfl, Or.inr rfl⟩ hs, Or.inr ⟨z, ?_, ?_⟩⟩
    · rw [aI_wI, if_neg (by omega)]; exact h1
    · rw [aI_wI, if_pos ⟨rfl, rfl, rfl⟩]; decide
  · rw [if_neg z, ps _ _ (Or.inl rfl), bo_some]
    refine ⟨wI A 1902 s 0 (hsh cs), hc _ _, Ex.wI g ⟨rfl, Or.inl rfl⟩ hs, Or.inl ⟨z, ?_⟩⟩
    rw [aI_wI, if_pos ⟨rfl, rfl, rfl⟩]
/-- .. and once more -/
theorem hash_old {s : Nat} {v : Int32} (k1 : aK A s = 19) (h : (v ≠ 0 ∧ aI A 1902 s 0 = v) ∨ (v = 0 ∧ aI A 1902 s 0 = 0 ∧ aI A 1903 s 0 ≠ 0)) : J6_hashCode N A s = some (v, A) := by
  unfold J6_hashCode
  rcases h with ⟨h1, h2⟩ | ⟨h1, h2, h3⟩
  · rw [gI_k k1, bo_some, h2, if_neg h1, ck_ok (Le.refl _)]
  · rw [gI_k k1, bo_some, h2, if_pos rfl, gI_k k1, bo_some, if_neg h3, ck_ok (Le.refl _), h1]
end
