/-! ROWS OF THE COMPONENT'S WORLD -/
set_option maxRecDepth 100000
/-- words that don't ride in the lists, but hold on all the same -/
def nwOK : Cond → Bool
  | .fieldLinkNest .. => true
  | .methodLinkNest .. => true
  | .castable .. => true
  | .declares .. => true
  | _ => false
theorem nw_on {w : Cond} (h : nwOK w = true) : w.onTables = true := by
  cases w <;> first | rfl | cases h
theorem nw_warm {w : Cond} (h : nwOK w = true) {s U : State} (hW : s.WarmedH U.vm) (hZ : va_Nw w s) : va_Nw w U := by
  cases w <;> first | cases h; done | exact va_Nw.warmF hW hZ | exact va_Nw.warmM hW hZ | exact va_Nw.warmC hW hZ | exact va_Nw.warmD hW hZ
def cNW (U : State) : Prop := ∀ w ∈ lw_tbl, nwOK w = true → va_Nw w U
theorem cNW.warm {s U : State} (hW : s.WarmedH U.vm) (h : cNW s) : cNW U := fun w hw hn => nw_warm hn hW (h w hw hn)
theorem cNW.same {s U : State} (e : s.vm = U.vm) (h : cNW s) : cNW U := fun w hw hn => va_Nw.same (nw_on hn) e (h w hw hn)
def lstM : List (MethodName × MethodName) := [(⟨"java/util/List", "size", "()I"⟩, yJ2_size), (⟨"java/util/List", "get", "(I)Ljava/lang/Object;"⟩, yJ2_get), (⟨"java/util/List", "add", "(Ljava/lang/Object;)Z"⟩, yJ2_add)]
/-- Strings that the code names: class, entry, text, number -/
def ldcL : List (String × Nat × String × Nat) := [("MarginFolk$Reader", 120, "folio", 0), ("MarginFolk$Reader", 122, "cells", 1), ("MarginFolk$Reader", 148, "gloss", 2), ("MarginFolk$Reader", 150, "worm", 3), ("MarginFolk$Reader", 152, "being", 4), ("MarginFolk$Reader", 192, "on", 5), ("MarginFolk$Reader", 194, "at", 6), ("MarginFolk$Reader", 197, "trade", 7), ("MarginFolk$Reader", 212, "opens", 8), ("MarginFolk$Reader", 214, "corn", 9), ("MarginFolk$Reader", 216, "toll", 10), ("MarginFolk$Reader", 218, "steps", 11), ("MarginFolk$Reader", 220, "thumb", 12), ("MarginFolk$Reader", 289, "min", 26), ("MarginFolk$Reader", 291, "max", 27), ("MarginFolk$Reader", 304, "or", 22), ("MarginFolk$Reader", 313, "and", 23), ("MarginFolk$Reader", 315, "not", 24), ("MarginFolk$Reader", 322, "all", 25)]
/-- statics that are read: class, field, type, value -/
def stcL : List (String × String × String × (Int32 ⊕ Nat)) := [("java/lang/String", "COMPACT_STRINGS", "Z", .inl 1), ("MarginFolk", "OWN", "[Ljava/lang/String;", .inr (CB + 80)), ("MarginFolk", "ASKED", "[Ljava/lang/String;", .inr (CB + 81)), ("MarginFolk", "LOOKED", "[Ljava/lang/String;", .inr (CB + 82)), ("MarginFolk", "TOLD_OF", "[Ljava/lang/String;", .inr (CB + 83))]
/-- statics of which only 'a reference or null' is known: class, field, type -/
def stqL : List (String × String × String) := [("jdk/internal/util/Preconditions", "SIOOBE_FORMATTER", "Ljava/util/function/BiFunction;")]
/-- what Throwable's two statics hold: null, or the object that has the number CB + 91 + k -/
def uq (ad : Nat → Nat) (k : Nat) : Option Nat := if ad (CB + 95 + k) = 0 then none else some (CB + 91 + k)
def stuL : List (String × String × String × Nat) := [("java/lang/Throwable", "UNASSIGNED_STACK", "[Ljava/lang/StackTraceElement;", 0), ("java/lang/Throwable", "SUPPRESSED_SENTINEL", "Ljava/util/List;", 1)]
def stcV (ad : Nat → Nat) : Int32 ⊕ Nat → Value
  | .inl v => .int v
  | .inr i => .ref (ad i)
/-- a constant's cell: an object of the class that has number n among the world's, its fields; an array -/
def kOb (dC : Nat → ClassId) (dI : Nat → Nat → Nat) (ad : Nat → Nat) (n i : Nat) (H : Heap) : Prop := ∃ cell : Cell, H[ad i]? = some cell ∧ cell.cls = dC n ∧ cell.vm.isStatics = false ∧ cell.vm ≠ .unknown ∧ cell.slots[dI n 0]? = some (.ref (ad (i + 40))) ∧ cell.slots[dI n 1]? = some (.int 0) ∧ cell.slots[dI n 2]? = some (.int (iC 1902 i 0)) ∧ cell.slots[dI n 3]? = some (.int 0)
def kAr (ad : Nat → Nat) (ty : FieldType) (i : Nat) (v : Nat → Value) (U : State) (H : Heap) : Prop := ∃ cell : Cell, H[ad i]? = some cell ∧ U.isArrayOf cell ty ∧ cell.vm ≠ .unknown ∧ cell.slots.size = lC i ∧ ∀ j, j < lC i → cell.slots[j]? = some (v j)
/-- the rows of an int[][] are of the class int[] -/
def gT (ac : Nat → ClassId) (U : State) : Prop := (∃ kA : Class, U.vm.classes[ac 36]? = some kA ∧ kA.kind = .array (ac 31) (.array .int)) ∧ ∃ kB : Class, U.vm.classes[ac 31]? = some kB
theorem gT.moved {ac : Nat → ClassId} {u U : State} (hvm : u.vm.Alike U.vm) (h : gT ac u) : gT ac U := by
  obtain ⟨⟨kA, h1, h2⟩, kB, h3⟩ := h
  obtain ⟨k', hk', he⟩ := hvm.2.2 _ _ h1
  obtain ⟨k3, hk3, -⟩ := hvm.2.2 _ _ h3
  exact ⟨⟨k', hk', by rw [he]; exact h2⟩, k3, hk3⟩
/-- private methods of AbstractStringBuilder that are called on a StringBuilder -/
def sbP : List MethodName := [yJ14_ensureCapacityInternal, yJ14_newCapacity]
/-- what the tables tell beyond the lists of words: private methods found from the subclass, arrays over references, the class object of Object[], getClass -/
def cX2 (ad : Nat → Nat) (U : State) : Prop :=
  (∀ y ∈ sbP, (Cond.selects "java/lang/StringBuilder" y y).before #[] U = true) ∧ (∀ C ∈ ["java/lang/Object", "MarginFolk$State"], va_AO C U) ∧ (∀ t ∈ [FieldType.int, FieldType.boolean], (Cond.arrayOver (.array t)).before #[] U = true) ∧ va_Mi "[Ljava/lang/Object;" (ad (CB + 93)) U ∧ va_Dc U
theorem aoA_moved {t : FieldType} {u U : State} (hvm : u.vm.Alike U.vm) (h : (Cond.arrayOver (.array t)).before #[] u = true) : (Cond.arrayOver (.array t)).before #[] U = true := by
  obtain ⟨comp, c, k, h1, h2, h3, h4, h5⟩ := arrayOverA_spec h
  obtain ⟨k', hk', he⟩ := hvm.2.2 _ _ h3
  have hkind : k'.kind = .array comp (.array t) := by rw [he]; exact h4
  have f1 : U.vm.findClass (FieldType.array t).toString = some comp := by rw [hvm.findClass]; exact h1
  have f2 : U.vm.findClass ("[" ++ (FieldType.array t).toString) = some c := by rw [hvm.findClass]; exact h5
  simp only [Cond.before, Cond.holds, Cond.value, f1, Option.bind_some, beq_iff_eq]
  rw [Option.bind_eq_some_iff]
  refine ⟨c, (hvm.findIdx?_eq _ (fun _ => rfl)).trans h2, ?_⟩
  simp [hk', hkind, f2]
theorem cX2.moved {ad : Nat → Nat} {u U : State} (hs : ∀ y ∈ sbP, (Cond.selects "java/lang/StringBuilder" y y).before #[] u = true → (Cond.selects "java/lang/StringBuilder" y y).before #[] U = true) (hvm : u.vm.Alike U.vm) (h : cX2 ad u) : cX2 ad U :=
  ⟨fun y hy => hs y hy (h.1 y hy), fun C hC => (h.2.1 C hC).moved hvm, fun t ht => aoA_moved hvm (h.2.2.1 t ht), h.2.2.2.1.moved hvm, h.2.2.2.2.moved hvm⟩
theorem cX2.warm {ad : Nat → Nat} {s U : State} (hW : s.WarmedH U.vm) (h : cX2 ad s) : cX2 ad U := h.moved (fun _ _ q => word_at hW (Or.inl rfl) q) hW.alike
theorem cX2.same {ad : Nat → Nat} {s U : State} (e : s.vm = U.vm) (h : cX2 ad s) : cX2 ad U := h.moved (fun _ _ q => va_tabs rfl e q) (by rw [e]; exact Vm.Alike.refl _)
def cX (dC : Nat → ClassId) (dI : Nat → Nat → Nat) (ac : Nat → ClassId) (ad : Nat → Nat) (U : State) (H : Heap) : Prop :=
  gT ac U ∧   (∀ i, kC i = 19 → kOb dC dI ad 18 i H) ∧ (∀ i, kC i = 33 → kAr ad .byte i (fun j => .int (iC 33 i j)) U H) ∧ (∀ i, kC i = 40 → kAr ad (.object "java/lang/String") i (fun j => va_rf ((rC 40 i j).map ad)) U H) ∧ (∀ i, kC i ≠ 0 → ¬ cF ad (ad i)) ∧
  (∀ q ∈ ldcL, vk_R q.1 q.2.1 q.2.2.1 (ad (CB + q.2.2.2)) U) ∧ (∀ q ∈ stcL, va_Z q.1 q.2.1 q.2.2.1 (stcV ad q.2.2.2) (cF ad) U H) ∧ (∀ x ∈ lstM, va_Fw "java/util/ArrayList" x.1 x.2 U) ∧ (∀ i j, kC i = 19 → kC j = 19 → ad i = ad j → i = j) ∧ (∀ q ∈ stqL, va_Zq q.1 q.2.1 q.2.2 (cF ad) U H) ∧ (∀ q ∈ stuL, va_Z q.1 q.2.1 q.2.2.1 (va_rf ((uq ad q.2.2.2).map ad)) (cF ad) U H) ∧ cX2 ad U
/-- what holds all through a walk of a method of the class own -/
def cE (p : Program) (s : State) (m : MethodId) (args : Array Value) (own : String) (dC : Nat → ClassId) (dI : Nat → Nat → Nat) (ac : Nat → ClassId) (ad : Nat → Nat) : Prop :=
  p.tables.exec = Jvm.exec ∧ s.vm.findClass own = some m.cls ∧ (∀ w ∈ lw_all, w.before args s = true) ∧ va_K (dC, dI) cCL (cTY ac) s ∧ cNW s ∧ cX dC dI ac ad s s.heap
def cS (dC : Nat → ClassId) (dI : Nat → Nat → Nat) (ac : Nat → ClassId) (ad : Nat → Nat) (b : Prop) (H0 : Heap) (n0 s0 n1 s1 : Nat) (A : AH) (H : Heap) (locs : List Loc) : Prop :=
  cW dC dI ac ad b A H ∧ va_S (cF ad) H0 H locs ∧ n0 ≤ aN A ∧ s0 ≤ aS A ∧ aN A ≤ n1 ∧ aS A ≤ s1
def cPre (dC : Nat → ClassId) (dI : Nat → Nat → Nat) (ac : Nat → ClassId) (ad : Nat → Nat) (b : Prop) (A : AH) (U : State) : Prop :=
  cW dC dI ac ad b A U.heap ∧ va_K (dC, dI) cCL (cTY ac) U ∧ cNW U ∧ cX dC dI ac ad U U.heap
theorem kC_k (i : Nat) : kC i = 0 ∨ kC i = 19 ∨ kC i = 33 ∨ kC i = 40 := by
  unfold kC
  split
  · exact Or.inl rfl
  · split
    · exact Or.inr (Or.inl rfl)
    · split
      · exact Or.inr (Or.inr (Or.inl rfl))
      · split
        · exact Or.inr (Or.inr (Or.inr rfl))
        · exact Or.inl rfl
def nck (c : Nat) : Bool := c != 0 && c != 19 && c != 33 && c != 40
section CWL
variable {dC : Nat → ClassId} {dI : Nat → Nat → Nat} {ac : Nat → ClassId} {ad : Nat → Nat} {b : Prop} {A : AH} {H : Heap}
theorem cW.lt2 (h : cW dC dI ac ad b A H) {i c : Nat} (hk : aK A i = c) (hc : c ≠ 0) (hi : i < CB) : i < aN A := by
  by_cases h1 : i < aN A
  · exact h1
  · exact absurd (h.2.2.2.1 i (by omega) hi) (by rw [hk]; exact hc)
theorem cW.lt (h : cW dC dI ac ad b A H) {i c : Nat} (hk : aK A i = c) (hc : nck c = true) : i < aN A := by
  have h0 : c ≠ 0 ∧ c ≠ 19 ∧ c ≠ 33 ∧ c ≠ 40 := by
    unfold nck at hc
    simp only [Bool.and_eq_true, bne_iff_ne, ne_eq] at hc
    exact ⟨hc.1.1.1, hc.1.1.2, hc.1.2, hc.2⟩
  by_cases h1 : i < CB
  · exact h.lt2 hk h0.1 h1
  · have h2 := (h.2.2.2.2.2.2 i (by omega)).1
    rw [hk] at h2
    have := kC_k i
    omega
theorem cW.inj (h : cW dC dI ac ad b A H) {i j : Nat} (hi : i < aN A) (hj : j < aN A) (e : ad i = ad j) : i = j := h.2.1.1 i j _ _ (wC_at ad ac A hi) (wC_at ad ac A hj) e
end CWL
/-- how a field is named from the class own: by its own link, or by a nest mate's -/
def FLk (own : String) (index : Nat) (ref n d : String) : Prop := Cond.fieldLink own index ref n d ∈ lw_all ∨ ∃ host, Cond.fieldLinkNest own index ref n d host ∈ lw_tbl
/-- a step of the world: nothing but the cell i has another content -/
theorem cce_ob (ad : Nat → Nat) (ac : Nat → ClassId) (A : AH) {i c : Nat} (hk : aK A i = c) (hc : c < 31) : cce ad ac A i = .inr (c - 1, cfs ad A c i) := by
  subst hk
  simp [cce, hc]
theorem cce_ar (ad : Nat → Nat) (ac : Nat → ClassId) (A : AH) {i c : Nat} (hk : aK A i = c) (hc : 31 ≤ c) : cce ad ac A i = .inl (ac c, aL A i, cco ad A c i) := by
  subst hk
  have : ¬ aK A i < 31 := by omega
  simp [cce, this]
theorem cce_same (ad : Nat → Nat) (ac : Nat → ClassId) (A A' : AH) (j : Nat) (h1 : aK A' = aK A) (h2 : aL A' = aL A) (hI : ∀ f k, aI A' f j k = aI A f j k) (hJ : ∀ f k, aJ A' f j k = aJ A f j k) (hR : ∀ f k, aR A' f j k = aR A f j k) : cce ad ac A' j = cce ad ac A j := by
  have e1 : ∀ f t, cfv ad A' f j t = cfv ad A f j t := by
    intro f t
    simp only [cfv, hI, hJ, hR]
  have e2 : ∀ c, cfs ad A' c j = cfs ad A c j := by
    intro c
    simp only [cfs, e1]
  have e3 : ∀ c, cco ad A' c j = cco ad A c j := by
    intro c
    have q1 : aI A' c j = aI A c j := funext fun k => hI c k
    have q2 : aJ A' 32 j = aJ A 32 j := funext fun k => hJ 32 k
    simp only [cco, q1, q2, hR]
  simp only [cce, h1, h2, e2, e3]
theorem cce_wIo (ad : Nat → Nat) (ac : Nat → ClassId) (A : AH) (f i k : Nat) (v : Int32) {j : Nat} (h : j ≠ i) : cce ad ac (wI A f i k v) j = cce ad ac A j := cce_same ad ac A _ j rfl rfl (fun f' k' => by rw [aI_wI, if_neg (fun q => h q.2.1)]) (fun _ _ => rfl) (fun _ _ => rfl)
theorem cce_wJo (ad : Nat → Nat) (ac : Nat → ClassId) (A : AH) (f i k : Nat) (v : Int64) {j : Nat} (h : j ≠ i) : cce ad ac (wJ A f i k v) j = cce ad ac A j := cce_same ad ac A _ j rfl rfl (fun _ _ => rfl) (fun f' k' => by rw [aJ_wJ, if_neg (fun q => h q.2.1)]) (fun _ _ => rfl)
theorem cce_wRo (ad : Nat → Nat) (ac : Nat → ClassId) (A : AH) (f i k : Nat) (v : Option Nat) {j : Nat} (h : j ≠ i) : cce ad ac (wR A f i k v) j = cce ad ac A j := cce_same ad ac A _ j rfl rfl (fun _ _ => rfl) (fun _ _ => rfl) (fun f' k' => by rw [aR_wR, if_neg (fun q => h q.2.1)])
theorem CST_wI {A : AH} {f i k : Nat} {v : Int32} (h : CST A) : CST (wI A f i k v) := h
theorem CST_wJ {A : AH} {f i k : Nat} {v : Int64} (h : CST A) : CST (wJ A f i k v) := h
theorem sref_key {f i t : Nat} (h : sref f i = some t) : skey f = true := by
  have hl : ∀ (L : List (Nat × Nat)) (K : List Nat), (∀ q ∈ L, q.1 ∈ K) → ∀ f t, L.lookup f = some t → f ∈ K := by
    intro L
    induction L with
    | nil => intro K _ f t h; cases h
    | cons a L ih =>
      intro K hK f t h
      rw [List.lookup_cons] at h
      split at h
      · next e =>
        have := eq_of_beq e
        rw [this]
        exact hK a List.mem_cons_self
      · exact ih K (fun q hq => hK q (List.mem_cons_of_mem _ hq)) f t h
  unfold sref at h
  unfold skey
  rw [List.contains_eq_mem, decide_eq_true_eq]
  split at h
  · exact hl srL _ (by decide) f t h
  · split at h
    · split at h
      · next e => subst e; decide
      · split at h
        · next e => subst e; decide
        · cases h
    · split at h
      · split at h
        · next e => subst e; decide
        · cases h
      · split at h
        · split at h
          · next e => subst e; decide
          · cases h
        · split at h
          · split at h
            · next e => subst e; decide
            · cases hq : srS.lookup f with
              | none => rw [hq] at h; cases h
              | some d => exact hl srS _ (by decide) f d hq
          · cases h
theorem CST_wR {A : AH} {f i k : Nat} {v : Option Nat} (hf : skey f = false) (h : CST A) : CST (wR A f i k v) := by
  refine ⟨h.1, h.2.1, fun i' f' t hi hs => ?_⟩
  rw [aR_wR, if_neg]
  · exact h.2.2 i' f' t hi hs
  · intro q
    have := sref_key hs
    rw [q.1, hf] at this
    cases this
theorem CCT_wI {A : AH} {f i k : Nat} {v : Int32} (hi : i < CB) (h : CCT A) : CCT (wI A f i k v) := fun j hj => ⟨(h j hj).1, (h j hj).2.1, fun f' k' => by rw [aI_wI, if_neg (fun q => by omega)]; exact (h j hj).2.2.1 f' k', (h j hj).2.2.2⟩
theorem CCT_wJ {A : AH} {f i k : Nat} {v : Int64} (h : CCT A) : CCT (wJ A f i k v) := h
theorem CCT_wR {A : AH} {f i k : Nat} {v : Option Nat} (hi : i < CB) (h : CCT A) : CCT (wR A f i k v) := fun j hj => ⟨(h j hj).1, (h j hj).2.1, (h j hj).2.2.1, fun f' k' => by rw [aR_wR, if_neg (fun q => by omega)]; exact (h j hj).2.2.2 f' k'⟩
section CR
variable {p : Program} {l : Launch} {e : Env} {R : Room} {s : State} {m : MethodId} {args : Array Value} {below : List Frame} {meth : Method} {c : Code} {H : Heap} {locs : List Loc} {cells slots : Nat} {Q : State → Prop}
variable {cc : ByteArray} {pc : Nat} {ls : Array Slot} {rest : List Value} {own : String} {dC : Nat → ClassId} {dI : Nat → Nat → Nat} {ac : Nat → ClassId} {ad : Nat → Nat} {b : Prop} {H0 : Heap} {n0 s0 n1 s1 : Nat} {A A' : AH}
/-- a field is read -/
theorem c_g (E : cE p s m args own dC dI ac ad) (hb : c.code = cc) (hW : cW dC dI ac ad b A H) {kd k i t index : Nat} {C ref : String} {T : u_T} {N : Nat} {ty : Nat → FieldType} (hci : CI kd C T N ty) (hk : aK A i = kd) (hi : i < aN A) (ht : (cty kd)[k]? = some t) (hl : FLk own index ref (T k).2.1 (T k).2.2.1) (hsame : ∀ x, s.fieldFound? (T k).1 (T k).2.1 (T k).2.2.1 = some x → s.fieldFound? ref (T k).2.1 (T k).2.2.1 = some x) (hdg : decode cc pc = .ok (.getfield index, 3))
    (kk : W p l e R s m args below meth c H locs cells slots Q (F0 m (pc + 3) ls (cfv ad A (100 * kd + k) i t :: rest))) : W p l e R s m args below meth c H locs cells slots Q (F0 m pc ls (.ref (ad i) :: rest)) := by
  have hkN : k < N := by rw [← hci.2.2.2.2.1]; exact (List.getElem?_eq_some_iff.mp ht).1
  have he : (wC ad ac A)[i]? = some (ad i, .inr (kd - 1, cfs ad A kd i)) := by rw [wC_at ad ac A hi, cce_ob ad ac A hk hci.2.2.2.2.2.2]
  rcases hl with hl | ⟨host, hl⟩
  · exact va_get (D := (dC, dI)) (ci := kd - 1) E.1 hb E.2.2.1 hci.2.1 E.2.1 E.2.2.2.1 hW.1 i he hci.1 k hkN (E.2.2.1 _ hl) hsame (cfs_at ad A kd i ht) hdg kk
  · exact va_getN (D := (dC, dI)) (ci := kd - 1) E.1 hb E.2.2.1 hci.2.1 E.2.1 E.2.2.2.1 hW.1 i he hci.1 k hkN (va_Nw.use rfl (E.2.2.2.2.1 _ hl rfl)) hsame (cfs_at ad A kd i ht) hdg kk
theorem c_gI (E : cE p s m args own dC dI ac ad) (hb : c.code = cc) (hS : cS dC dI ac ad b H0 n0 s0 n1 s1 A H locs) {kd k i f index : Nat} {C ref : String} {T : u_T} {N : Nat} {ty : Nat → FieldType} (hci : CI kd C T N ty) (hk : aK A i = kd) (hn : nck kd = true) (ht : (cty kd)[k]? = some 0) (hf : 100 * kd + k = f) (hl : FLk own index ref (T k).2.1 (T k).2.2.1) (hsame : ∀ x, s.fieldFound? (T k).1 (T k).2.1 (T k).2.2.1 = some x → s.fieldFound? ref (T k).2.1 (T k).2.2.1 = some x) (hdg : decode cc pc = .ok (.getfield index, 3))
    (kk : W p l e R s m args below meth c H locs cells slots Q (F0 m (pc + 3) ls (.int (aI A f i 0) :: rest))) : W p l e R s m args below meth c H locs cells slots Q (F0 m pc ls (.ref (ad i) :: rest)) := by
  subst hf
  exact c_g E hb hS.1 hci hk (hS.1.lt hk hn) ht hl hsame hdg kk
theorem c_gJ (E : cE p s m args own dC dI ac ad) (hb : c.code = cc) (hS : cS dC dI ac ad b H0 n0 s0 n1 s1 A H locs) {kd k i f index : Nat} {C ref : String} {T : u_T} {N : Nat} {ty : Nat → FieldType} (hci : CI kd C T N ty) (hk : aK A i = kd) (hn : nck kd = true) (ht : (cty kd)[k]? = some 1) (hf : 100 * kd + k = f) (hl : FLk own index ref (T k).2.1 (T k).2.2.1) (hsame : ∀ x, s.fieldFound? (T k).1 (T k).2.1 (T k).2.2.1 = some x → s.fieldFound? ref (T k).2.1 (T k).2.2.1 = some x) (hdg : decode cc pc = .ok (.getfield index, 3))
    (kk : W p l e R s m args below meth c H locs cells slots Q (F0 m (pc + 3) ls (.long (aJ A f i 0) :: rest))) : W p l e R s m args below meth c H locs cells slots Q (F0 m pc ls (.ref (ad i) :: rest)) := by
  subst hf
  exact c_g E hb hS.1 hci hk (hS.1.lt hk hn) ht hl hsame hdg kk
theorem c_gR (E : cE p s m args own dC dI ac ad) (hb : c.code = cc) (hS : cS dC dI ac ad b H0 n0 s0 n1 s1 A H locs) {kd k i f index : Nat} {C ref : String} {T : u_T} {N : Nat} {ty : Nat → FieldType} (hci : CI kd C T N ty) (hk : aK A i = kd) (hn : nck kd = true) (ht : (cty kd)[k]? = some 2) (hf : 100 * kd + k = f) (hl : FLk own index ref (T k).2.1 (T k).2.2.1) (hsame : ∀ x, s.fieldFound? (T k).1 (T k).2.1 (T k).2.2.1 = some x → s.fieldFound? ref (T k).2.1 (T k).2.2.1 = some x) (hdg : decode cc pc = .ok (.getfield index, 3))
    (kk : W p l e R s m args below meth c H locs cells slots Q (F0 m (pc + 3) ls (va_rf ((aR A f i 0).map ad) :: rest))) : W p l e R s m args below meth c H locs cells slots Q (F0 m pc ls (.ref (ad i) :: rest)) := by
  subst hf
  exact c_g E hb hS.1 hci hk (hS.1.lt hk hn) ht hl hsame hdg kk
theorem c_gN (E : cE p s m args own dC dI ac ad) (hb : c.code = cc) (hS : cS dC dI ac ad b H0 n0 s0 n1 s1 A H locs) {kd k i f q index : Nat} {C ref : String} {T : u_T} {N : Nat} {ty : Nat → FieldType} (hci : CI kd C T N ty) (hk : aK A i = kd) (hn : nck kd = true) (ht : (cty kd)[k]? = some 2) (hf : 100 * kd + k = f) (hr : aR A f i 0 = some q) (hl : FLk own index ref (T k).2.1 (T k).2.2.1) (hsame : ∀ x, s.fieldFound? (T k).1 (T k).2.1 (T k).2.2.1 = some x → s.fieldFound? ref (T k).2.1 (T k).2.2.1 = some x) (hdg : decode cc pc = .ok (.getfield index, 3))
    (kk : W p l e R s m args below meth c H locs cells slots Q (F0 m (pc + 3) ls (.ref (ad q) :: rest))) : W p l e R s m args below meth c H locs cells slots Q (F0 m pc ls (.ref (ad i) :: rest)) := by
  refine c_gR E hb hS hci hk hn ht hf hl hsame hdg ?_
  rw [hr]
  exact kk
/-- a field is written: any value -/
theorem c_p (E : cE p s m args own dC dI ac ad) (hb : c.code = cc) (hS : cS dC dI ac ad b H0 n0 s0 n1 s1 A H locs) {kd k i t index : Nat} {C ref : String} {T : u_T} {N : Nat} {ty : Nat → FieldType} (hci : CI kd C T N ty) (hk : aK A i = kd) (hi : i < aN A) (ht : (cty kd)[k]? = some t) (hfin : (T k).2.2.2 = false ∨ (meth.name = "<init>" ∧ (T k).1 = own ∧ (T k).2.2.2 = true ∧ Cond.fieldLink own index ref (T k).2.1 (T k).2.2.1 ∈ lw_all)) (hl : FLk own index ref (T k).2.1 (T k).2.2.1) (hsame : ∀ x, s.fieldFound? (T k).1 (T k).2.1 (T k).2.2.1 = some x → s.fieldFound? ref (T k).2.1 (T k).2.2.1 = some x) {v : Value} (hnv : narrow (ty k) v = v) (hfit : fits (ty k) v = true)
    (hn' : aN A' = aN A) (hs' : aS A' = aS A) (hv : cfv ad A' (100 * kd + k) i t = v) (ho : ∀ k' t', k' ≠ k → cfv ad A' (100 * kd + k') i t' = cfv ad A (100 * kd + k') i t') (hK' : aK A' = aK A) (hoth : ∀ j, j ≠ i → cce ad ac A' j = cce ad ac A j) (hb' : b → CST A → CST A') (hc' : CCT A → CCT A')
    (hdg : decode cc pc = .ok (.putfield index, 3)) (kk : ∀ (H : Heap) (locs : List Loc), cS dC dI ac ad b H0 n0 s0 n1 s1 A' H locs → W p l e R s m args below meth c H locs cells slots Q (F0 m (pc + 3) ls rest)) : W p l e R s m args below meth c H locs cells slots Q (F0 m pc ls (v :: .ref (ad i) :: rest)) := by
  have hkN : k < N := by rw [← hci.2.2.2.2.1]; exact (List.getElem?_eq_some_iff.mp ht).1
  have he : (wC ad ac A)[i]? = some (ad i, .inr (kd - 1, cfs ad A kd i)) := by rw [wC_at ad ac A hi, cce_ob ad ac A hk hci.2.2.2.2.2.2]
  have hap := va_apart (own := own) E.2.2.1 hci.2.1 ty hci.2.2.1 hci.2.2.2.1 E.2.2.2.1 hci.1
  obtain ⟨r, h1, cell, q1, q2, q3, q4⟩ := hS.1.1 i _ he
  have hr : r = (C, T, N) := Option.some.inj (h1.symm.trans hci.1)
  subst hr
  obtain ⟨hSl, hfc, kC, hkC, hkind⟩ := E.2.2.2.1.1 (kd - 1) _ hci.1
  obtain ⟨cf, kf, fi, f, hfi, hsl⟩ := hSl k hkN
  have hst := (u_facts hfc hkC (u_lays E.2.2.1 hci.2.1 hkN) hfi).1
  have hend : ∀ H' : Heap, H'[ad i]? = some (cell.setSlot f.slot v) → H'.size = H.size → (∀ q, q ≠ ad i → H'[q]? = H[q]?) → W p l e R s m args below meth c H' (locs ++ [⟨ad i, f.slot⟩]) cells slots Q (F0 m (pc + 3) ls rest) := by
    intro H' e1 e2 e3
    rw [hsl] at e1 ⊢
    have hset := cfs_set ad A A' kd i ht v hv ho
    have hws := wC_set ad ac A A' i hn' hoth
    rw [cce_ob ad ac A' (by rw [hK']; exact hk) hci.2.2.2.2.2.2, ← hset] at hws
    refine kk H' _ ⟨⟨?_, ?_, ?_, ?_, ?_, ?_, hc' hS.1.2.2.2.2.2.2⟩, hS.2.1.put e2 e3 (hS.1.2.1.2 i _ he), by rw [hn', hs']; exact hS.2.2⟩
    · rw [← hws]
      exact hS.1.1.set hS.1.2.1 he ⟨_, hci.1, t_OB.to (V := updV (vp_V (cfs ad A kd i)) k v) ⟨_, e1, q2, q3, t_set q4 hap hkN v⟩ (fun j _ => vp_updV_set (by rw [cfs_len, hci.2.2.2.2.1]; exact hkN) v j)⟩ e3
    · rw [← hws]
      exact hS.1.2.1.set he
    · rw [hn', e2]
      exact hS.1.2.2.1
    · rw [hn', hK']
      exact hS.1.2.2.2.1
    · rw [hn']
      exact hS.1.2.2.2.2.1
    · exact fun hb => hb' hb (hS.1.2.2.2.2.2.1 hb)
  rcases hfin with hfin | ⟨hin2, hdecl, hfin, hl⟩
  · have hlay := E.2.2.1 _ (hci.2.1 _ (u_in_lay hkN))
    unfold u_lay at hlay
    rw [if_neg (by rw [hfin]; decide)] at hlay
    have h6 := u_store hfc hkC hkind hlay hfi (hci.2.2.1 k hkN) hnv hfit
    rcases hl with hl | ⟨host, hl⟩
    · exact W.putK E.1 hb (f := f) ⟨E.2.1, E.2.2.1 _ hl, ⟨_, _, _, hsame _ hfi⟩, hst⟩ (by rw [q2]; exact h6) q1 q3 (by rw [hsl]; exact k2_hasslot (q4 k hkN)) rfl rfl hdg hend
    · exact va_WputK E.1 hb (f := f) E.2.1 (va_Nw.use rfl (E.2.2.2.2.1 _ hl rfl)) (hsame _ hfi) hst (by rw [q2]; exact h6) q1 q3 (by rw [hsl]; exact k2_hasslot (q4 k hkN)) rfl rfl hdg hend
  · have hlay := E.2.2.1 _ (hci.2.1 _ (u_in_lay hkN))
    unfold u_lay at hlay
    rw [if_pos hfin] at hlay
    have hcf : m.cls = cf := by
      obtain ⟨_, _, c', _, _, _, -, -, hf', -, -, -, hown2, -⟩ := Cond.laysFinal_spec hlay
      have e1 : c' = cf := by have := hfi.symm.trans hf'; simp at this; exact this.1.symm
      rw [hdecl] at hown2
      rw [← e1]; exact Option.some.inj (E.2.1.symm.trans hown2)
    have h6 := u_fits hfc hkC hkind (Or.inr hlay) hfi (hci.2.2.1 k hkN) hnv hfit
    exact W.putFinK E.1 hb E.2.1 (E.2.2.1 _ hl) (hsame _ hfi) hst hcf hin2 (by rw [q2]; exact h6) q1 q3 (by rw [hsl]; exact k2_hasslot (q4 k hkN)) rfl rfl hdg hend
end CR
