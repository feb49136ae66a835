/-! PURE LEVEL: what is read keeps, and what its codes tell -/
set_option maxRecDepth 100000
section
variable {P : Nat → Nat → Prop} {c s : Nat} {A A' : AH} {F G : Nat → Prop} {q : Bool} {μ : Nat}
/-- with the kind known -/
abbrev Fk (A : AH) (F : Nat → Prop) (i : Nat) : Prop := F i ∧ aK A i ≠ 0
theorem LR.kx {li : Nat} {ids : List Nat} (h : LR A F li ids) : LR A (Fk A F) li ids := by
  obtain ⟨ar, h1, h2, h3, h4, h5, h6⟩ := h.ar
  exact LR.mk ⟨h.own, by rw [h.kd]; decide⟩ h.kd h.len ⟨ar, h1, ⟨h2, by rw [h3]; decide⟩, h3, h4, h5, h6⟩
theorem SBR.kx {li : Nat} {ss : List Int32} (h : SBR A F li ss) : SBR A (Fk A F) li ss := by
  obtain ⟨ar, h1, h2, h3, h4, h5, h6, h7⟩ := h.ar
  exact SBR.mk ⟨h.own, by rw [h.kd]; decide⟩ h.kd h.cod h.len ⟨ar, h1, ⟨h2, by rw [h3]; decide⟩, h3, h4, h5, h6, h7⟩
theorem VR.kx {d : Nat} : ∀ {v : Nat} {g : Gv}, VR d q μ A F v g → VR d q μ A (Fk A F) v g := by
  induction d with
  | zero => intro v g h; exact h
  | succ d ih =>
    rintro v g ⟨hF, h⟩
    rcases h with ⟨hk, h⟩ | ⟨hk, h⟩ | ⟨hk, v1, v2, g1, g2, h1, h2, h3, h4, h5⟩ | ⟨hk, li, sb, v0, s0, g0, its, h1, h2, h3, h4, h5, h6, h7⟩ | ⟨hq, hk, v1, g1, h1, h2, h3, h4, h5⟩
    · exact ⟨⟨hF, by rw [hk]; decide⟩, Or.inl ⟨hk, h⟩⟩
    · exact ⟨⟨hF, by rw [hk]; decide⟩, Or.inr (Or.inl ⟨hk, h⟩)⟩
    · exact ⟨⟨hF, by rw [hk]; decide⟩, Or.inr (Or.inr (Or.inl ⟨hk, v1, v2, g1, g2, h1, h2, ih h3, ih h4, h5⟩))⟩
    · exact ⟨⟨hF, by rw [hk]; decide⟩, Or.inr (Or.inr (Or.inr (Or.inl ⟨hk, li, sb, v0, s0, g0, its, h1, h2, h3.kx, h4.kx, ih h5, fun it hi => ⟨ih (h6 it hi).1, (h6 it hi).2⟩, h7⟩)))⟩
    · exact ⟨⟨hF, by rw [hk]; decide⟩, Or.inr (Or.inr (Or.inr (Or.inr ⟨hq, hk, v1, g1, h1, h2, h3, ih h4, h5⟩)))⟩
theorem TR.kx {dv d : Nat} : ∀ {v : Nat} {g : Gv}, TR dv d q μ A F v g → TR dv d q μ A (Fk A F) v g := by
  induction d with
  | zero => intro v g h; exact h
  | succ d ih =>
    rintro v g ⟨hF, h⟩
    rcases h with ⟨hk, h⟩ | ⟨hk, v1, g1, h1, h2, h3⟩ | ⟨hk, v1, v2, g1, g2, h1, h2, h3, h4, h5⟩ | ⟨hk, li, ts, h1, h2, h3, h4, h5⟩
    · exact ⟨⟨hF, by rw [hk]; decide⟩, Or.inl ⟨hk, h⟩⟩
    · exact ⟨⟨hF, by rw [hk]; decide⟩, Or.inr (Or.inl ⟨hk, v1, g1, h1, ih h2, h3⟩)⟩
    · exact ⟨⟨hF, by rw [hk]; decide⟩, Or.inr (Or.inr (Or.inl ⟨hk, v1, v2, g1, g2, h1, h2, h3.kx, h4.kx, h5⟩))⟩
    · exact ⟨⟨hF, by rw [hk]; decide⟩, Or.inr (Or.inr (Or.inr ⟨hk, li, ts, h1, h2, h3.kx, fun t ht => ih (h4 t ht), h5⟩))⟩
theorem Ex.sameK (e : Ex P c s A A') (d : ∀ f i, F i → aK A i ≠ 0 → ¬ P f i) : SameOn (Fk A F) A A' := fun i hi => ⟨(e.kd i hi.2).1, (e.kd i hi.2).2, fun f j => e.vl f i j hi.2 (d f i hi.1 hi.2)⟩
theorem VR.ex {d v : Nat} {g : Gv} (h : VR d q μ A F v g) (e : Ex P c s A A') (hd : ∀ f i, F i → aK A i ≠ 0 → ¬ P f i) (hm : ∀ i, F i → aK A i ≠ 0 → G i) : VR d q μ A' G v g := (h.kx.same (e.sameK hd)).mono (fun i hi => hm i hi.1 hi.2)
theorem TR.ex {dv d v : Nat} {g : Gv} (h : TR dv d q μ A F v g) (e : Ex P c s A A') (hd : ∀ f i, F i → aK A i ≠ 0 → ¬ P f i) (hm : ∀ i, F i → aK A i ≠ 0 → G i) : TR dv d q μ A' G v g := (h.kx.same (e.sameK hd)).mono (fun i hi => hm i hi.1 hi.2)
end
/-! codes -/
section
variable {q : Bool} {μ : Nat} {cs c1 c2 : List Int32} {g g1 g2 : Gv}
theorem Den.app2 (h1 : Den q μ c1 g1) (h2 : Den q μ c2 g2) {k : Nat} (hk : 1 ≤ k ∧ k ≤ 11) (hg : ∀ e lk, BE μ e → g e lk = jn (nn k) (g1 e lk) (g2 e lk)) (hb : ∀ e lk, BE μ e → -1000000 ≤ g e lk ∧ g e lk ≤ 1000000) : Den q μ (c1 ++ c2 ++ [nn k]) g := by
  have k1 : nn k < (1000 : Int32) := (nn_lt (b := 1000) (by omega) (by omega)).mpr (by omega)
  have k2 : nn k < (60 : Int32) := (nn_lt (b := 60) (by omega) (by omega)).mpr (by omega)
  have k3 : nn k < (40 : Int32) := (nn_lt (b := 40) (by omega) (by omega)).mpr (by omega)
  have k4 : ¬ nn k = (13 : Int32) := fun z => by have := (nn_eq (b := 13) (by omega) (by omega)).mp z; omega
  have k5 : ¬ nn k = (12 : Int32) := fun z => by have := (nn_eq (b := 12) (by omega) (by omega)).mp z; omega
  refine Den.mk (fun e lk st he => ?_) hb (fun hq c hc => ?_) (fun c hc => ?_)
  · rw [crun_app, crun_app, h1.run e lk st he, bo_some, h2.run e lk _ he, bo_some]
    show bo (cstp e lk (nn k) _) _ = _
    unfold cstp
    rw [if_pos k1, if_pos k2, if_pos k3, if_neg k4, if_neg k5, hg e lk he]
    rfl
  · rcases List.mem_append.mp hc with hc | hc
    · rcases List.mem_append.mp hc with hc | hc
      · exact h1.nl hq c hc
      · exact h2.nl hq c hc
    · rw [List.mem_singleton.mp hc]; exact Or.inl k2
  · rcases List.mem_append.mp hc with hc | hc
    · rcases List.mem_append.mp hc with hc | hc
      · exact h1.pt c hc
      · exact h2.pt c hc
    · rw [List.mem_singleton.mp hc]; exact Or.inl k3
theorem Den.num {v : Nat} (hv : v ≤ 9999) : Den q μ [nn (1000 + v)] (fun _ _ => (nn v).toInt64) := by
  have k1 : ¬ nn (1000 + v) < (1000 : Int32) := fun z => by have := (nn_lt (b := 1000) (by omega) (by omega)).mp z; omega
  refine Den.mk (fun e lk st he => ?_) (fun e lk he => ?_) (fun hq c hc => ?_) (fun c hc => ?_)
  · show bo (cstp e lk _ _) _ = _
    unfold cstp
    rw [if_neg k1, show nn (1000 + v) - (1000 : Int32) = nn v from (nn_sub (a := 1000 + v) (b := 1000) (by omega)).trans (by rw [show 1000 + v - 1000 = v by omega])]
    rfl
  · rw [Int64.le_iff_toInt_le, Int64.le_iff_toInt_le, Int32.toInt_toInt64, nn_toInt (by omega), show ((-1000000 : Int64)).toInt = -1000000 from rfl, show ((1000000 : Int64)).toInt = 1000000 from rfl]
    omega
  · rw [List.mem_singleton.mp hc]; exact Or.inr (Int32.not_lt.mp k1)
  · rw [List.mem_singleton.mp hc]; exact Or.inr (Or.inr (Int32.le_trans (by decide) (Int32.not_lt.mp k1)))
theorem Den.part {k : Nat} (hk : k < 9) (hc : cx μ k) : Den q μ [nn (40 + k)] (fun e _ => hld (e k)) := by
  have k1 : nn (40 + k) < (1000 : Int32) := (nn_lt (b := 1000) (by omega) (by omega)).mpr (by omega)
  have k2 : nn (40 + k) < (60 : Int32) := (nn_lt (b := 60) (by omega) (by omega)).mpr (by omega)
  have k3 : ¬ nn (40 + k) < (40 : Int32) := fun z => by have := (nn_lt (b := 40) (by omega) (by omega)).mp z; omega
  refine Den.mk (fun e lk st he => ?_) (fun e lk he => hld_bd _) (fun hq c hc => ?_) (fun c hc' => ?_)
  · show bo (cstp e lk _ _) _ = _
    unfold cstp
    rw [if_pos k1, if_pos k2, if_neg k3, show nn (40 + k) - (40 : Int32) = nn k from (nn_sub (a := 40 + k) (b := 40) (by omega)).trans (by rw [show 40 + k - 40 = k by omega]), nn_clamp (by omega)]
    show some (e k :: st) = some (hld (e k) :: st)
    rw [hld_id (he k hc)]
  · rw [List.mem_singleton.mp hc]; exact Or.inl k2
  · rw [List.mem_singleton.mp hc']; exact Or.inr (Or.inl ⟨k, hk, hc, rfl⟩)
theorem Den.look (h : Den true μ cs g) : Den true μ (cs ++ [60]) (fun e lk => hld (lk (g e lk))) := by
  refine Den.mk (fun e lk st he => ?_) (fun e lk he => hld_bd _) (fun hq => by cases hq) (fun c hc => ?_)
  · rw [crun_app, h.run e lk st he, bo_some]
    rfl
  · rcases List.mem_append.mp hc with hc | hc
    · exact h.pt c hc
    · rw [List.mem_singleton.mp hc]; exact Or.inr (Or.inr (by decide))
theorem Den.all : Den q μ [13] (fun _ _ => 1) := by
  refine Den.mk (fun e lk st he => rfl) (fun e lk he => by decide) (fun hq c hc => ?_) (fun c hc => ?_)
  · rw [List.mem_singleton.mp hc]; exact Or.inl (by decide)
  · rw [List.mem_singleton.mp hc]; exact Or.inl (by decide)
theorem tv_bd {x : Int64} (h : x = 0 ∨ x = 1) : -1000000 ≤ x ∧ x ≤ 1000000 := by rcases h with rfl | rfl <;> decide
theorem Den.not (h : Den q μ cs g) (ht : Tv g) : Den q μ (cs ++ [12]) (fun e lk => 1 - g e lk) := by
  refine Den.mk (fun e lk st he => ?_) (fun e lk he => ?_) (fun hq c hc => ?_) (fun c hc => ?_)
  · rw [crun_app, h.run e lk st he, bo_some]
    rfl
  · rcases ht e lk with z | z <;> rw [z] <;> decide
  · rcases List.mem_append.mp hc with hc | hc
    · exact h.nl hq c hc
    · rw [List.mem_singleton.mp hc]; exact Or.inl (by decide)
  · rcases List.mem_append.mp hc with hc | hc
    · exact h.pt c hc
    · rw [List.mem_singleton.mp hc]; exact Or.inl (by decide)
theorem Den.cg (h : Den q μ cs g) (e : ∀ e lk, BE μ e → g1 e lk = g e lk) : Den q μ cs g1 := by
  refine Den.mk (fun e' lk st he => ?_) (fun e' lk he => ?_) h.nl h.pt
  · rw [e e' lk he]; exact h.run e' lk st he
  · rw [e e' lk he]; exact h.bd e' lk he
theorem Den.pair (h1 : Den q μ c1 g1) (h2 : Den q μ c2 g2) (two : Nat) (ht : two = 1 ∨ two = 2) : Den q μ (c1 ++ c2 ++ [if two = 1 then 5 else 6]) (pairG (if two = 2 then 1 else 0) g1 g2) := by
  have e : (if two = 1 then (5 : Int32) else 6) = nn (if two = 1 then 5 else 6) := by rcases ht with rfl | rfl <;> rfl
  rw [e]
  refine Den.app2 h1 h2 (by split <;> omega) (fun e' lk he => ?_) (fun e' lk he => ?_)
  · unfold pairG jn
    have l5 : ∀ a b : Int64, (if b ≤ a then b else a) = if a ≤ b then a else b := by
      intro a b
      by_cases z1 : b ≤ a <;> by_cases z2 : a ≤ b <;> simp [z1, z2]
      · exact Int64.le_antisymm z1 z2
      · rcases Int64.le_total a b with z | z
        · exact absurd z z2
        · exact absurd z z1
    rcases ht with rfl | rfl
    · show (if g1 e' lk ≤ g2 e' lk then g1 e' lk else g2 e' lk) = if g2 e' lk ≤ g1 e' lk then g2 e' lk else g1 e' lk
      rw [l5]
    · show (if g1 e' lk ≤ g2 e' lk then g2 e' lk else g1 e' lk) = if g1 e' lk ≤ g2 e' lk then g2 e' lk else g1 e' lk
      rfl
  · unfold pairG
    have b1 := h1.bd e' lk he
    have b2 := h2.bd e' lk he
    split <;> split <;> assumption
theorem chainG_app (g0 : Gv) (its : List (Int32 × Nat × Gv)) (it : Int32 × Nat × Gv) (e : En) (lk : Int64 → Int64) : chainG g0 (its ++ [it]) e lk = hld (two it.1 (chainG g0 its e lk) (it.2.2 e lk)) := by
  unfold chainG
  rw [List.foldl_append, List.foldl_cons, List.foldl_nil]
theorem Den.step {g0 : Gv} {its : List (Int32 × Nat × Gv)} {v : Nat} (h1 : Den q μ c1 (chainG g0 its)) (h2 : Den q μ c2 g2) {s : Int32} {k : Nat} (hs : (s = 43 ∧ k = 1) ∨ (s = 45 ∧ k = 2) ∨ (s = 42 ∧ k = 3) ∨ (s = 47 ∧ k = 4)) : Den q μ (c1 ++ c2 ++ [nn k]) (chainG g0 (its ++ [(s, v, g2)])) := by
  refine Den.app2 h1 h2 (by omega) (fun e lk he => ?_) (fun e lk he => by rw [chainG_app]; exact hld_bd _)
  rw [chainG_app]
  have b1 := h1.bd e lk he
  generalize chainG g0 its e lk = a at b1
  show hld (two s a (g2 e lk)) = _
  generalize g2 e lk = b
  rcases hs with ⟨rfl, rfl⟩ | ⟨rfl, rfl⟩ | ⟨rfl, rfl⟩ | ⟨rfl, rfl⟩
  · unfold two jn
    rw [if_neg (by decide), if_pos (by decide), if_pos (by decide)]
  · unfold two jn
    rw [if_neg (by decide), if_neg (by decide), if_pos (by decide), if_neg (by decide), if_pos (by decide)]
  · unfold two jn
    rw [if_pos (by decide), if_neg (by decide), if_neg (by decide), if_pos (by decide)]
  · unfold two jn
    rw [if_neg (by decide), if_neg (by decide), if_neg (by decide), if_neg (by decide), if_neg (by decide), if_neg (by decide), if_pos (by decide), hld_fdv b1]
theorem jn7 (a b : Int64) : jn (nn 7) a b = if b ≤ a then 0 else 1 := by
  unfold jn
  rw [if_neg (show ¬ nn 7 = (1 : Int32) by decide), if_neg (show ¬ nn 7 = (2 : Int32) by decide), if_neg (show ¬ nn 7 = (3 : Int32) by decide), if_neg (show ¬ nn 7 = (4 : Int32) by decide), if_neg (show ¬ nn 7 = (5 : Int32) by decide), if_neg (show ¬ nn 7 = (6 : Int32) by decide), if_pos (show nn 7 = (7 : Int32) by decide)]
theorem jn8 (a b : Int64) : jn (nn 8) a b = if a ≤ b then 0 else 1 := by
  unfold jn
  rw [if_neg (show ¬ nn 8 = (1 : Int32) by decide), if_neg (show ¬ nn 8 = (2 : Int32) by decide), if_neg (show ¬ nn 8 = (3 : Int32) by decide), if_neg (show ¬ nn 8 = (4 : Int32) by decide), if_neg (show ¬ nn 8 = (5 : Int32) by decide), if_neg (show ¬ nn 8 = (6 : Int32) by decide), if_neg (show ¬ nn 8 = (7 : Int32) by decide), if_pos (show nn 8 = (8 : Int32) by decide)]
theorem jn9 (a b : Int64) : jn (nn 9) a b = if a = b then 1 else 0 := by
  unfold jn
  rw [if_neg (show ¬ nn 9 = (1 : Int32) by decide), if_neg (show ¬ nn 9 = (2 : Int32) by decide), if_neg (show ¬ nn 9 = (3 : Int32) by decide), if_neg (show ¬ nn 9 = (4 : Int32) by decide), if_neg (show ¬ nn 9 = (5 : Int32) by decide), if_neg (show ¬ nn 9 = (6 : Int32) by decide), if_neg (show ¬ nn 9 = (7 : Int32) by decide), if_neg (show ¬ nn 9 = (8 : Int32) by decide), if_pos (show nn 9 = (9 : Int32) by decide)]
theorem Den.than (h1 : Den q μ c1 g1) (h2 : Den q μ c2 g2) {b : Nat} (hb : b = 60 ∨ b = 62 ∨ b = 61) : Den q μ (c1 ++ c2 ++ [if b = 60 then 7 else if b = 62 then 8 else 9]) (thanG (nn b) g1 g2) := by
  have tv : ∀ e lk, thanG (nn b) g1 g2 e lk = 0 ∨ thanG (nn b) g1 g2 e lk = 1 := by
    intro e lk
    unfold thanG
    split
    · split
      · exact Or.inl rfl
      · exact Or.inr rfl
    · split
      · split
        · exact Or.inl rfl
        · exact Or.inr rfl
      · split
        · exact Or.inr rfl
        · exact Or.inl rfl
  have e : (if b = 60 then (7 : Int32) else if b = 62 then 8 else 9) = nn (if b = 60 then 7 else if b = 62 then 8 else 9) := by rcases hb with rfl | rfl | rfl <;> rfl
  rw [e]
  refine Den.app2 h1 h2 (k := if b = 60 then 7 else if b = 62 then 8 else 9) (by rcases hb with rfl | rfl | rfl <;> decide) (fun e' lk he => ?_) (fun e' lk he => tv_bd (tv e' lk))
  unfold thanG
  generalize g1 e' lk = a
  generalize g2 e' lk = b'
  rcases hb with rfl | rfl | rfl
  · exact (jn7 a b').symm
  · exact (jn8 a b').symm
  · exact (jn9 a b').symm
theorem andG_one (all : Int32) (h : all = 0 ∨ all = 1) (v : Nat) {e : En} {lk : Int64 → Int64} (ht : g e lk = 0 ∨ g e lk = 1) : andG all [(v, g)] e lk = g e lk := by
  unfold andG
  rcases h with rfl | rfl <;> rcases ht with z | z <;> simp [z]
theorem andG_app1 (ts : List (Nat × Gv)) (v : Nat) {e : En} {lk : Int64 → Int64} (ht : g e lk = 0 ∨ g e lk = 1) : andG 1 (ts ++ [(v, g)]) e lk = andG 1 ts e lk * g e lk := by
  unfold andG
  by_cases z : ∀ t ∈ ts, (t.2 e lk = 1 ↔ (1 : Int32) = 1)
  · rw [if_pos z]
    rcases ht with y | y
    · rw [y, if_neg]
      · rfl
      · intro w
        have := (w (v, g) (by simp)).mpr rfl
        rw [show (v, g).2 e lk = g e lk from rfl, y] at this
        exact absurd this (by decide)
    · rw [y, if_pos]
      · rfl
      · intro t ht
        rcases List.mem_append.mp ht with q | q
        · exact z t q
        · rw [List.mem_singleton.mp q]; exact ⟨fun _ => rfl, fun _ => y⟩
  · rw [if_neg z, if_neg (fun w => z (fun t ht => w t (by simp [ht])))]
    rcases ht with y | y <;> rw [y] <;> decide
theorem andG_app0 (ts : List (Nat × Gv)) (v : Nat) {e : En} {lk : Int64 → Int64} (ht : g e lk = 0 ∨ g e lk = 1) : andG 0 (ts ++ [(v, g)]) e lk = if (andG 0 ts e lk + g e lk) ≤ 0 then 0 else 1 := by
  unfold andG
  by_cases z : ∀ t ∈ ts, (t.2 e lk = 1 ↔ (0 : Int32) = 1)
  · rw [if_pos z]
    rcases ht with y | y
    · rw [y, if_pos]
      · decide
      · intro t ht
        rcases List.mem_append.mp ht with q | q
        · exact z t q
        · rw [List.mem_singleton.mp q]
          show g e lk = 1 ↔ _
          rw [y]; decide
    · rw [y, if_neg]
      · decide
      · intro w
        have := (w (v, g) (by simp)).mp y
        exact absurd this (by decide)
  · rw [if_neg z, if_neg (fun w => z (fun t ht => w t (by simp [ht])))]
    rcases ht with y | y <;> rw [y] <;> decide
theorem andG_tv (all : Int32) (h : all = 0 ∨ all = 1) (ts : List (Nat × Gv)) (e : En) (lk : Int64 → Int64) : andG all ts e lk = 0 ∨ andG all ts e lk = 1 := by
  unfold andG
  rcases h with rfl | rfl <;> split
  · exact Or.inl rfl
  · exact Or.inr rfl
  · exact Or.inr rfl
  · exact Or.inl rfl
theorem Den.tstep {ts : List (Nat × Gv)} {v : Nat} {all : Int32} {k : Nat} (ha : (all = 1 ∧ k = 10) ∨ (all = 0 ∧ k = 11)) (h1 : Den q μ c1 (andG all ts)) (h2 : Den q μ c2 g2) (ht : Tv g2) : Den q μ (c1 ++ c2 ++ [nn k]) (andG all (ts ++ [(v, g2)])) := by
  have h01 : all = 0 ∨ all = 1 := ha.elim (fun h => Or.inr h.1) (fun h => Or.inl h.1)
  refine Den.app2 h1 h2 (by omega) (fun e lk he => ?_) (fun e lk he => tv_bd (andG_tv all h01 _ e lk))
  rcases ha with ⟨rfl, rfl⟩ | ⟨rfl, rfl⟩
  · rw [andG_app1 ts v (ht e lk)]; rfl
  · rw [andG_app0 ts v (ht e lk)]; rfl
end
