/-! AN ARRAY OF ARRAYS IS MADE (multianewarray, two counts): own law over the model's 'make' -/
set_option maxRecDepth 100000
def mnV (h0 i : Nat) : Nat → Value := fun j => if j < i then .ref (h0 + 1 + j) else .null
theorem mnV_up (h0 i : Nat) : updV (mnV h0 i) i (.ref (h0 + 1 + i)) = mnV h0 (i + 1) := by
  funext j
  by_cases h : j = i
  · subst h
    simp [updV, mnV]
  · by_cases h2 : j < i
    · simp [updV, mnV, h, h2, Nat.lt_succ_of_lt h2]
    · have h3 : ¬ j < i + 1 := by omega
      simp [updV, mnV, h, h2, h3]
def mnS (s : State) (c d : ClassId) (N M : Nat) (v : Value) : Nat → State
  | 0 => s.pushCell (arrV c N (mnV s.heap.size 0))
  | i + 1 => ((mnS s c d N M v i).pushCell (arrV d M fun _ => v)).setCell s.heap.size (arrV c N (mnV s.heap.size (i + 1)))
theorem mnS_f (s : State) (c d : ClassId) (N M : Nat) (v : Value) : ∀ i, (mnS s c d N M v i).heap.size = s.heap.size + 1 + i ∧ (mnS s c d N M v i).heap[s.heap.size]? = some (arrV c N (mnV s.heap.size i)) ∧ (mnS s c d N M v i).vm = s.vm ∧ (mnS s c d N M v i).slotsUsed = s.slotsUsed + N + i * M ∧
    (∀ a, a < s.heap.size → (mnS s c d N M v i).heap[a]? = s.heap[a]?) ∧ (∀ j, j < i → (mnS s c d N M v i).heap[s.heap.size + 1 + j]? = some (arrV d M fun _ => v))
  | 0 => ⟨by simp [mnS], by simp [mnS], rfl, by simp [mnS, arrV_size], fun a ha => State.heap_pushCell_of_lt _ _ ha, fun j h => absurd h (Nat.not_lt_zero _)⟩
  | i + 1 => by
    obtain ⟨h1, h2, h3, h4, h5, h6⟩ := mnS_f s c d N M v i
    have hlt : s.heap.size < (mnS s c d N M v i).heap.size := by omega
    have hb : ((mnS s c d N M v i).pushCell (arrV d M fun _ => v)).heap[s.heap.size]? = some (arrV c N (mnV s.heap.size i)) := by rw [State.heap_pushCell_of_lt (h := hlt)]; exact h2
    refine ⟨?_, State.heap_setCell_self hb, by simp [mnS, h3], ?_, fun a ha => ?_, fun j hj => ?_⟩
    · simp [mnS, State.setCell, h1]
      omega
    · simp [mnS, h4, arrV_size, Nat.succ_mul]
      omega
    · show (((mnS s c d N M v i).pushCell (arrV d M fun _ => v)).setCell s.heap.size _).heap[a]? = _
      have hl9 : a < (mnS s c d N M v i).heap.size := by rw [h1]; omega
      rw [State.heap_setCell_other (Nat.ne_of_gt ha), State.heap_pushCell_of_lt (h := hl9)]
      exact h5 a ha
    · show (((mnS s c d N M v i).pushCell (arrV d M fun _ => v)).setCell s.heap.size _).heap[s.heap.size + 1 + j]? = _
      rw [State.heap_setCell_other (show s.heap.size ≠ s.heap.size + 1 + j by omega)]
      by_cases hji : j < i
      · have hl9 : s.heap.size + 1 + j < (mnS s c d N M v i).heap.size := by rw [h1]; omega
        rw [State.heap_pushCell_of_lt (h := hl9)]
        exact h6 j hji
      · have e9 : j = i := by omega
        subst e9
        rw [← h1]
        exact State.heap_pushCell_size _ _
theorem mnS_top (s : State) (f : JFrame) (c d : ClassId) (N M : Nat) (v : Value) : ∀ i, mnS (s.setTop f) c d N M v i = (mnS s c d N M v i).setTop f
  | 0 => rfl
  | i + 1 => by simp only [mnS, mnS_top s f c d N M v i, State.heap_setTop, State.pushCell_setTop, State.setCell_setTop]
theorem mn_fits {t : FieldType} (h : t.isReference = true) (q : Option Addr) : fits t (va_rf q) = true := by
  cases q <;> cases t <;> simp [FieldType.isReference] at h <;> rfl
section MN1
variable {E : CtlPost} {e : Env} {d : Bool} {acts : List Action} {s : State}
theorem mn_row {g cc : ClassId} {kc : Class} {ty : FieldType} {k : Int32} (hkc : s.vm.classes[g]? = some kc) (hkk : kc.kind = .array cc ty) (hk : ¬ k < 0) (hl2 : ¬ k.toNatClampNeg > e.platform.arrayLengthLimit) (hh2 : ¬ k.toNatClampNeg * componentBytes ty > e.platform.maxHeapBytes) (hdf : fits ty (defaultValue ty) = true)
    (h1 : s.heap.size < e.platform.maxCells) (h2 : s.slotsUsed + k.toNatClampNeg ≤ e.platform.maxSlots) {Q : Addr → Pre} (hq : ∀ acts', Q s.heap.size d acts' (s.pushCell (arrV g k.toNatClampNeg fun _ => defaultValue ty))) : wp (multianewarray.make g [k]) Q E e d acts s := by
  rw [multianewarray.make]
  simp only [wp_bind', W.ite, hk, if_false, wp_pure', W.theClass, hkc, hkk, Option.some.injEq, exists_eq_left']
  refine W.newArray_of hkc hkk hl2 hh2 h1 h2 hdf (fun acts' => ?_)
  have := hq acts'
  rw [← arrV_new] at this
  exact this
theorem mn_all {a g cc : ClassId} {ka kc : Class} {t0 ty : FieldType} {n k : Int32} (hka : s.vm.classes[a]? = some ka) (hkka : ka.kind = .array g t0) (hrf : t0.isReference = true) (hkc : s.vm.classes[g]? = some kc) (hkk : kc.kind = .array cc ty) (hn : ¬ n < 0) (hk : ¬ k < 0)
    (hl1 : ¬ n.toNatClampNeg > e.platform.arrayLengthLimit) (hh1 : ¬ n.toNatClampNeg * componentBytes t0 > e.platform.maxHeapBytes) (hl2 : ¬ k.toNatClampNeg > e.platform.arrayLengthLimit) (hh2 : ¬ k.toNatClampNeg * componentBytes ty > e.platform.maxHeapBytes) (hdf : fits ty (defaultValue ty) = true)
    (h1 : s.heap.size + 1 + n.toNatClampNeg ≤ e.platform.maxCells) (h2 : s.slotsUsed + n.toNatClampNeg + n.toNatClampNeg * k.toNatClampNeg ≤ e.platform.maxSlots) {Q : Addr → Pre} (hq : ∀ d' acts', Q s.heap.size d' acts' (mnS s a g n.toNatClampNeg k.toNatClampNeg (defaultValue ty) n.toNatClampNeg)) : wp (multianewarray.make a [n, k]) Q E e d acts s := by
  have hfi : ([k].find? (· < 0)) = none := by simp [hk]
  rw [multianewarray.make]
  simp only [wp_bind', W.ite, hn, if_false, wp_pure', W.theClass, hka, hkka, Option.some.injEq, exists_eq_left']
  refine W.newArray_of hka hkka hl1 hh1 (by omega) (Nat.le_trans (Nat.le_add_right _ _) h2) (mn_fits hrf none) (fun acts1 => ?_)
  simp only [hfi]
  rw [ite_self, wp_bind', Std.Legacy.Range.forIn_eq_forIn_range']
  have hsz : ([:n.toNatClampNeg] : Std.Legacy.Range).size = n.toNatClampNeg := by simp [Std.Legacy.Range.size]
  rw [hsz]
  generalize hN : n.toNatClampNeg = N at *
  generalize hM : k.toNatClampNeg = M at *
  show wp (forIn (List.range' 0 N 1) PUnit.unit _) _ E e d _ _
  refine wp_forIn_inv (fun L s' => ∃ i, i ≤ N ∧ L = List.range' i (N - i) ∧ s' = mnS s a g N M (defaultValue ty) i) _ _ ⟨0, Nat.zero_le _, rfl, by rw [arrV_new]; rfl⟩ ?_ ?_
  · intro x L s' d' acts' Q' hI hnext
    obtain ⟨i, hi, hL, rfl⟩ := hI
    have hlt : i < N := by
      rcases Nat.lt_or_ge i N with h | h
      · exact h
      · rw [show N - i = 0 by omega] at hL
        cases hL
    rw [show N - i = (N - (i + 1)) + 1 by omega, List.range'_succ] at hL
    obtain ⟨hx, hL⟩ := List.cons.inj hL
    subst hx
    obtain ⟨f1, f2, f3, f4, f5, f6⟩ := mnS_f s a g N M (defaultValue ty) x
    have hmul : x * M + M ≤ N * M := by
      have := Nat.mul_le_mul_right M (show x + 1 ≤ N from hlt)
      rw [Nat.succ_mul] at this
      exact this
    simp only [wp_bind']
    subst hM
    refine mn_row (by rw [f3]; exact hkc) hkk hk hl2 hh2 hdf (by rw [f1]; omega) (by rw [f4]; omega) (fun acts2 => ?_)
    have hlt0 : s.heap.size < (mnS s a g N k.toNatClampNeg (defaultValue ty) x).heap.size := by rw [f1]; omega
    simp only [wp_bind', W.writeLoc, wp_pure']
    refine ⟨arrV a N (mnV s.heap.size x), by rw [State.heap_pushCell_of_lt (h := hlt0)]; exact f2, by simp [arrV], by rw [arrV_size]; exact hlt, ?_, hnext _ _ _ ⟨x + 1, hlt, hL, ?_⟩⟩
    · show State.fitsSlot _ a .none x _ = true
      simp [State.fitsSlot, State.slotType?, f3, hka, hkka, show ∀ q, fits t0 (.ref q) = true from fun q => mn_fits hrf (some q)]
    · rw [f1, arrV_store, mnV_up]
      rfl
  · intro s' d' acts' hI
    obtain ⟨i, hi, hL, rfl⟩ := hI
    have hiN : i = N := by
      rcases Nat.lt_or_ge i N with h | h
      · rw [show N - i = (N - (i + 1)) + 1 by omega, List.range'_succ] at hL
        cases hL
      · omega
    subst hiN
    simp only [wp_pure']
    exact hq _ _
end MN1
theorem mn_over {args : Array Value} {s : State} {t : FieldType} (h : (Cond.arrayOver (.array t)).before args s = true) : ∃ g a k, s.vm.findClass (FieldType.array t).toString = some g ∧ s.vm.classes[a]? = some k ∧ k.kind = .array g (.array t) ∧ s.vm.findClass ("[" ++ (FieldType.array t).toString) = some a := by
  simp only [Cond.before, Cond.holds, Cond.value, beq_iff_eq] at h
  cases hc : s.vm.findClass (FieldType.array t).toString with
  | none => simp [hc] at h
  | some g =>
    simp only [hc, Option.bind_some, Option.bind_eq_some_iff, Option.map_eq_some_iff] at h
    obtain ⟨a, hi, k, hk, hb⟩ := h
    obtain ⟨hlt, hp, -⟩ := Array.findIdx?_eq_some_iff_getElem.mp hi
    have hkk : s.vm.classes[a] = k := (Array.getElem?_eq_some_iff.mp hk).2
    rw [hkk] at hp
    cases hkind : k.kind with
    | array g2 ty =>
      rw [hkind] at hb hp
      simp at hb hp
      exact ⟨g, a, k, rfl, hk, by rw [hkind, hp, hb.1], hb.2⟩
    | _ => rw [hkind] at hb; simp at hb
section MN2
variable {p : Program} {l : Launch} {e : Env} {R : Room} {s : State} {m : MethodId} {args : Array Value} {below : List Frame} {meth : Method} {c : Code} {T : State} {locs : List Loc} {cells slots : Nat}
theorem mn_stand (X : Stand p l e R s m args below meth c T locs cells slots) (a g : ClassId) (N M : Nat) (v : Value) : ∀ i, Stand p l e R s m args below meth c (mnS T a g N M v i) locs (cells + 1 + i) (slots + N + i * M)
  | 0 => by
    have h := X.pushed (arrV a N (mnV T.heap.size 0))
    rw [arrV_size] at h
    simpa [mnS] using h
  | i + 1 => by
    have Xi := mn_stand X a g N M v i
    obtain ⟨f1, f2, f3, f4, f5, f6⟩ := mnS_f T a g N M v i
    have hlt0 : T.heap.size < (mnS T a g N M v i).heap.size := by rw [f1]; omega
    have hcell : ((mnS T a g N M v i).pushCell (arrV g M fun _ => v)).heap[T.heap.size]? = some (arrV a N (mnV T.heap.size i)) := by rw [State.heap_pushCell_of_lt (h := hlt0)]; exact f2
    have h := (Xi.pushed (arrV g M fun _ => v)).stored hcell i (.ref (T.heap.size + 1 + i))
    rw [arrV_size, arrV_store, mnV_up] at h
    have h2 : Stand p l e R s m args below meth c (mnS T a g N M v (i + 1)) locs (cells + 1 + i + 1) (slots + N + i * M + M) :=
      ⟨h.admits, h.cas, h.clock, h.frames, h.room, h.hears, h.method, h.code, h.here, h.tail, h.warmed, h.limits, h.bytes, h.same.drop_fresh (by intro x hx; simp at hx; subst hx; exact X.same.2.1)⟩
    rw [show slots + N + (i + 1) * M = slots + N + i * M + M by rw [Nat.succ_mul]; omega]
    exact h2
theorem mn_law (X : Stand p l e R s m args below meth c T locs cells slots) (hexec : p.tables.exec = Jvm.exec) {own : String} {index : Nat} {ty : FieldType} (hown : s.vm.findClass own = some m.cls) (hcl : (Cond.classLink own index ("[" ++ (FieldType.array ty).toString)).before args s = true) (hov : (Cond.arrayOver (.array ty)).before args s = true) (har : (Cond.arrayClass ty).before args s = true)
    {g : JFrame} (hg : g.method = m) (hdg : decode c.code g.pc = .ok (.multianewarray index 2, 4)) {n k : Int32} {rest : List Value} (hst : g.stack = .int k :: .int n :: rest) (hn : ¬ n < 0) (hk : ¬ k < 0) (hb1 : n.toNatClampNeg * 4 ≤ 536870912) (hb2 : k.toNatClampNeg * componentBytes ty ≤ 536870912) (hb3 : k.toNatClampNeg ≤ 536870912)
    (hdf : fits ty (defaultValue ty) = true) (hcells : cells + (1 + n.toNatClampNeg) ≤ R.cells) (hslots : slots + (n.toNatClampNeg + n.toNatClampNeg * k.toNatClampNeg) ≤ R.slots) :
    ∃ (vm1 : Vm) (a d : ClassId), s.WarmedH vm1 ∧ s.vm.findClass ("[" ++ (FieldType.array ty).toString) = some a ∧ s.vm.findClass (FieldType.array ty).toString = some d ∧
      Stand p l e R s m args below meth c (mnS (T.setVm vm1) a d n.toNatClampNeg k.toNatClampNeg (defaultValue ty) n.toNatClampNeg) locs (cells + 1 + n.toNatClampNeg) (slots + n.toNatClampNeg + n.toNatClampNeg * k.toNatClampNeg) ∧
      ∀ target, Steps p.tables e below ((mnS (T.setVm vm1) a d n.toNatClampNeg k.toNatClampNeg (defaultValue ty) n.toNatClampNeg).setTop { g with pc := g.pc + 4, stack := .ref T.heap.size :: rest }) target → Steps p.tables e below (T.setTop g) target := by
  subst hg
  have hpl : e.platform.magicAccessors = ({} : Platform).magicAccessors := by rw [X.admits.platform]
  obtain ⟨d, a, ka, hd, hka, hkka, hna⟩ := mn_over hov
  obtain ⟨d9, kc, cc, hd9, hkc, hkk⟩ := Cond.arrayClass_spec har
  cases Option.some.inj (hd9.symm.trans hd)
  obtain ⟨c0, hfc, hlk⟩ := Cond.classLink_spec hown hcl e.platform hpl
  cases Option.some.inj (hna.symm.trans hfc)
  obtain ⟨hg1, hw1, hr1⟩ := State.classEntry (e := e) X.warmed hlk
  generalize T.vm.noted g.method.cls index (.cls a) = vm1 at hg1 hw1 hr1
  obtain ⟨ka1, hka1, ea⟩ := hw1.alike.2.2 _ _ hka
  obtain ⟨kc1, hkc1, ec⟩ := hw1.alike.2.2 _ _ hkc
  have X1 := X.noted hw1
  obtain ⟨hr2, hr3⟩ := X.roomAbove hcells hslots
  have XF := mn_stand X1 a d n.toNatClampNeg k.toNatClampNeg (defaultValue ty) n.toNatClampNeg
  refine ⟨vm1, a, d, hw1, hna, hd, XF, fun target hrest => ?_⟩
  have hl1 : ¬ n.toNatClampNeg > e.platform.arrayLengthLimit := by rw [Launch.admits_arrayLengthLimit X.admits]; omega
  have hh1 : ¬ n.toNatClampNeg * componentBytes (.array ty) > e.platform.maxHeapBytes := by
    rw [Launch.admits_maxHeapBytes X.admits]
    show ¬ n.toNatClampNeg * 4 > 536870912
    omega
  have hl2 : ¬ k.toNatClampNeg > e.platform.arrayLengthLimit := by rw [Launch.admits_arrayLengthLimit X.admits]; omega
  have hh2 : ¬ k.toNatClampNeg * componentBytes ty > e.platform.maxHeapBytes := by rw [Launch.admits_maxHeapBytes X.admits]; omega
  jvm_step X.here [hexec, hdg]
  simp only [multianewarray.sem, wp_bind', W.resolveClassAt_links (State.method?_setTop g X.here.top) hg1]
  rw [W.popN, if_neg (by decide)]
  refine ⟨g, State.topJava?_setTop' (s := T.setVm vm1) g X.here.top, [.int n, .int k], rest, rfl, hst, ?_⟩
  simp only [List.mapM_cons, List.mapM_nil, wp_bind', wp_pure']
  refine mn_all (ka := ka1) (kc := kc1) (g := d) (cc := cc) (t0 := .array ty) (ty := ty) hka1 (by rw [ea]; exact hkka) rfl hkc1 (by rw [ec]; exact hkk) hn hk hl1 hh1 hl2 hh2 hdf (by show T.heap.size + 1 + _ ≤ _; omega) (by show T.slotsUsed + _ + _ ≤ _; omega) (fun d' acts' => ?_)
  have e9 : ((T.setTop g).setVm vm1).setTop { g with stack := rest } = (T.setVm vm1).setTop { g with stack := rest } := by
    show ((T.setVm vm1).setTop g).setTop _ = _
    rw [State.setTop_setTop]
  rw [e9, mnS_top]
  simp only [wp_bind', W.mark, W.pushRef, State.topJava?_setTop' _ XF.here.top, Option.some.injEq, exists_eq_left', State.setTop_setTop, State.heap_setTop]
  intro acts
  simp [jvm, XF.here.top]
  exact hrest
end MN2
section C12
variable {p : Program} {l : Launch} {e : Env} {R : Room} {s : State} {m : MethodId} {args : Array Value} {below : List Frame} {meth : Method} {c : Code} {H : Heap} {locs : List Loc} {cells slots : Nat} {Q : State → Prop}
variable {cc : ByteArray} {pc : Nat} {ls : Array Slot} {rest : List Value} {own : String} {dC : Nat → ClassId} {dI : Nat → Nat → Nat} {ac : Nat → ClassId} {ad : Nat → Nat} {b : Prop} {H0 : Heap} {n0 s0 n1 s1 : Nat} {A A' : AH}
theorem mn_ext (c9 : ClassId) (N : Nat) {f g : Nat → Value} (h : ∀ j, j < N → f j = g j) : arrV c9 N f = arrV c9 N g := by
  unfold arrV
  congr 1
  apply Array.ext_getElem?
  intro i
  by_cases hi : i < N
  · simp [hi, h i hi]
  · simp [hi]
/-- an array of arrays: int[][] (36), boolean[][] (37) -/
theorem c_anew2 (E : cE p s m args own dC dI ac ad) (hb : c.code = cc) (hS : cS dC dI ac ad b H0 n0 s0 n1 s1 A H locs) (hcs : n0 + cells ≤ aN A ∧ s0 + slots ≤ aS A) {t u index : Nat} {n k : Int32} {ty : FieldType} (ht : (t = 36 ∧ u = 31 ∧ ty = .int) ∨ (t = 37 ∧ u = 35 ∧ ty = .boolean)) (hl : Cond.classLink own index ("[" ++ (FieldType.array ty).toString) ∈ lw_all) (harr : Cond.arrayClass ty ∈ lw_all) (hn : (aN A + (1 + n.toNatClampNeg) ≤ CB ∧ ¬ n < 0 ∧ ¬ k < 0) ∧ n.toNatClampNeg ≤ 65536 ∧ k.toNatClampNeg ≤ 65536) (hw : A' = nw2 A t u n.toNatClampNeg k.toNatClampNeg) (hup : aN A' ≤ n1 ∧ aS A' ≤ s1) (hR : n1 ≤ n0 + R.cells ∧ s1 ≤ s0 + R.slots) (hdg : decode cc pc = .ok (.multianewarray index 2, 4))
    (kk : ∀ (H : Heap) (cells slots : Nat), cS dC dI ac ad b H0 n0 s0 n1 s1 A' H locs → n0 + cells ≤ aN A' ∧ s0 + slots ≤ aS A' → W p l e R s m args below meth c H locs cells slots Q (F0 m (pc + 4) ls (.ref (ad (aN A)) :: rest))) : W p l e R s m args below meth c H locs cells slots Q (F0 m pc ls (.int k :: .int n :: rest)) := by
  subst hw
  have hup2 := hup
  rw [aN_nw2, aS_nw2] at hup
  generalize hNn : n.toNatClampNeg = N at hn hup hup2 kk
  generalize hKk : k.toNatClampNeg = K at hn hup hup2 kk
  have had : ∀ j, aN A + j < CB → ad (aN A + j) = H.size + j := hS.1.2.2.1
  have had0 : ad (aN A) = H.size := had 0 (by omega)
  have hao : (Cond.arrayOver (.array ty)).before args s = true := by
    rcases ht with ⟨-, -, rfl⟩ | ⟨-, -, rfl⟩
    · exact (cX2E E).2.2.1 _ (by simp)
    · exact (cX2E E).2.2.1 _ (by simp)
  have hac : s.vm.findClass ("[" ++ (FieldType.array ty).toString) = some (ac t) := by
    rcases ht with ⟨rfl, -, rfl⟩ | ⟨rfl, -, rfl⟩
    · exact (E.2.2.2.1.2 5 _ rfl).2
    · exact (E.2.2.2.1.2 6 _ rfl).2
  have hau : s.vm.findClass (FieldType.array ty).toString = some (ac u) := by
    rcases ht with ⟨-, rfl, rfl⟩ | ⟨-, rfl, rfl⟩
    · exact (E.2.2.2.1.2 0 _ rfl).2
    · exact (E.2.2.2.1.2 4 _ rfl).2
  have hcb : componentBytes ty ≤ 4 := by rcases ht with ⟨-, -, rfl⟩ | ⟨-, -, rfl⟩ <;> decide
  have hdv : defaultValue ty = .int 0 := by rcases ht with ⟨-, -, rfl⟩ | ⟨-, -, rfl⟩ <;> rfl
  have htu : 36 ≤ t ∧ u ≠ 32 ∧ u < 36 ∧ 31 ≤ u ∧ t ≠ u := by omega
  intro T hT X
  have hb2 : K * componentBytes ty ≤ 536870912 := Nat.le_trans (Nat.mul_le_mul hn.2.2 hcb) (by decide)
  obtain ⟨vm₁, cA, comp, hW, hfA, hfC, X1, st⟩ := mn_law X E.1 E.2.1 (E.2.2.1 _ hl) hao (E.2.2.1 _ harr) (g := F0 m pc ls (.int k :: .int n :: rest)) rfl (by rw [hb]; exact hdg) rfl hn.1.2.1 hn.1.2.2 (by rw [hNn]; omega) (by rw [hKk]; exact hb2) (by rw [hKk]; omega) (by rcases ht with ⟨-, -, rfl⟩ | ⟨-, -, rfl⟩ <;> decide) (by rw [hNn]; omega) (by rw [hNn, hKk]; omega)
  rw [hNn, hKk, hdv] at X1 st
  cases hfA.symm.trans hac
  cases hfC.symm.trans hau
  obtain ⟨f1, f2, f3, f4, fo, fi⟩ := mnS_f (T.setVm vm₁) (ac t) (ac u) N K (.int 0) N
  generalize hF : mnS (T.setVm vm₁) (ac t) (ac u) N K (.int 0) N = F at X1 st f1 f2 f3 f4 fo fi
  have hTs : (T.setVm vm₁).heap.size = H.size := by rw [← hT]; rfl
  have hTs2 : T.heap.size = H.size := by rw [hT]
  rw [hTs] at f1 f2
  rw [hTs] at fo fi
  have hcS : cS dC dI ac ad b H0 n0 s0 n1 s1 (nw2 A t u N K) F.heap locs := by
    refine cS_grow hS (d := 1 + N) hn.1.1 rfl (by rw [aS_nw2]; omega) hup2 (fun i hi => ?_) (fun j hj => ?_) (by rw [f1]; omega) (fun q hq => by rw [fo q hq, ← hT]; rfl)
    · have h1 : i ≠ aN A := by omega
      have h2 : ¬ (aN A < i ∧ i < aN A + (1 + N)) := by omega
      have h3 : ¬ (aN A ≤ i ∧ i < aN A + (1 + N)) := by omega
      simp only [aK_nw2, aL_nw2, aI_nw2, aJ_nw2, aR_nw2, if_neg h1, if_neg h2, if_neg h3]
      exact ⟨trivial, trivial, fun _ _ => trivial, fun _ _ => trivial, fun _ _ => trivial⟩
    · by_cases h0 : j = 0
      · subst h0
        rw [Nat.add_zero, had0, cce_ar ad ac _ (show aK (nw2 A t u N K) (aN A) = t by rw [aK_nw2, if_pos rfl]) (by omega)]
        show F.heap[H.size]? = _
        rw [f2, aL_nw2, if_pos rfl, cco_R ad _ _ htu.1, vp_cell_q]
        congr 1
        refine mn_ext _ _ ?_
        intro j hj
        show mnV H.size N j = _
        rw [mnV, if_pos hj, aR_nw2, if_pos rfl, if_pos ⟨rfl, hj⟩, Option.map_some, had (1 + j) (by omega), Nat.add_assoc]
        rfl
      · have h1 : aN A + j ≠ aN A := by omega
        have h2 : aN A < aN A + j ∧ aN A + j < aN A + (1 + N) := by omega
        rw [cce_ar ad ac _ (show aK (nw2 A t u N K) (aN A + j) = u by rw [aK_nw2, if_neg h1, if_pos h2]) htu.2.2.2.1, had j (by omega)]
        have h3 := fi (j - 1) (by omega)
        rw [show H.size + 1 + (j - 1) = H.size + j by omega] at h3
        show F.heap[H.size + j]? = _
        rw [h3, aL_nw2, if_neg h1, if_pos h2, cco_I ad _ _ ⟨htu.2.1, htu.2.2.1⟩, vp_cell_i]
        have h4 : aI (nw2 A t u N K) u (aN A + j) = fun _ => 0 := funext fun i => by rw [aI_nw2, if_pos ⟨by omega, h2.2⟩]
        rw [h4]
  obtain ⟨t2, a1, b1⟩ := kk F.heap (cells + 1 + N) (slots + N + N * K) hcS (by rw [aN_nw2, aS_nw2]; omega) F rfl X1
  refine ⟨t2, st t2 ?_, b1⟩
  rw [had0] at a1
  rw [hTs2]
  exact a1
end C12
