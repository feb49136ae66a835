set_option maxRecDepth 100000
/-! java/util/AbstractCollection.<init>()V: RW -/
noncomputable def J0_init (A0 : AH) (x0 : Nat) : Option (Unit × AH) :=
  some ((), A0)
abbrev rJ0_init : Room := { frames := 1, cells := 0, slots := 0, locals := 20 }
set_option maxHeartbeats 4000000 in
theorem zJ0_init {l : Launch} {dC : Nat → ClassId} {dI : Nat → Nat → Nat} {ac : Nat → ClassId} {ad : Nat → Nat} {b : Prop} {A0 : AH} {x0 : Nat} {A' : AH} (hf : J0_init A0 x0 = some ((), A')) : Met l yJ0_init (ws_ yJ0_init cJ0_init 1 none) { frames := 1, cells := 0, slots := 0, locals := 20 } (va_Pc [.ref (ad x0)] (cPre dC dI ac ad b A0)) (cQv dC dI ac ad b (aN A0) (aS A0) (aN A0) (aS A0) A') 0 0 (cF ad) := by
  unfold J0_init at hf
  refine c_of ⟨Nat.le_refl _, Nat.le_refl _⟩ RJ0 plJ0_init rfl (Nat.le_of_ble_eq_true rfl) ?_
  intro p e s m args below meth c E hb hr hlk hnm hml hS ls hl
  have hl : lv_has ls 1 [(0, .ref (ad x0))] := hl
  refine lv_aload_n E.1 hb dJ0_init_0 rfl (lv_at hl 0 rfl) ?_
  refine W.objInit E.1 hb E.2.1 (E.2.2.1 _ q215) (E.2.2.1 _ q196) (E.2.2.1 _ q197) rfl (by rw [hml]; exact hl.1) rfl dJ0_init_1 (Nat.le_of_ble_eq_true rfl) (Nat.le_of_ble_eq_true rfl) ?_
  refine W.eq (g2 := F0 m 4 ls []) rfl ?_
  exact c_vr E hb hr hlk hS ⟨Nat.le_refl 0, Nat.le_refl 0⟩ hf dJ0_init_4
theorem gnJ0_init : yJ0_init.cls ≠ "java/lang/invoke/MethodHandle" ∧ yJ0_init.cls ≠ "java/lang/invoke/VarHandle" ∧ (parseMethodDescriptor yJ0_init.desc).map (fun d => d.parameters.length) = some 0 := by decide +kernel
theorem fk_J1_7_J2 : FLk RJ1 7 "java/util/AbstractList" (TJ2 0).2.1 (TJ2 0).2.2.1 := Or.inl q222
/-! java/util/AbstractList.<init>()V: RW -/
noncomputable def J1_init (A0 : AH) (x0 : Nat) : Option (Unit × AH) :=
  bd (J0_init A0 x0) fun _ A1 => bo (pI 18 A1 1800 x0 0) fun A2 => some ((), A2)
abbrev rJ1_init : Room := { frames := 2, cells := 0, slots := 0, locals := 40 }
set_option maxHeartbeats 4000000 in
theorem zJ1_init {l : Launch} {dC : Nat → ClassId} {dI : Nat → Nat → Nat} {ac : Nat → ClassId} {ad : Nat → Nat} {b : Prop} {A0 : AH} {x0 : Nat} {A' : AH} (hf : J1_init A0 x0 = some ((), A')) : Met l yJ1_init (ws_ yJ1_init cJ1_init 1 none) { frames := 2, cells := 0, slots := 0, locals := 40 } (va_Pc [.ref (ad x0)] (cPre dC dI ac ad b A0)) (cQv dC dI ac ad b (aN A0) (aS A0) (aN A0) (aS A0) A') 0 0 (cF ad) := by
  unfold J1_init at hf
  refine c_of ⟨Nat.le_refl _, Nat.le_refl _⟩ RJ1 plJ1_init rfl (Nat.le_of_ble_eq_true rfl) ?_
  intro p e s m args below meth c E hb hr hlk hnm hml hS ls hl
  have hl : lv_has ls 1 [(0, .ref (ad x0))] := hl
  refine lv_aload_n E.1 hb dJ1_init_0 rfl (lv_at hl 0 rfl) ?_
  obtain ⟨_, A1, h1, hf⟩ := bd_s hf
  refine c_kv hS (va_runI ⟨E.1, hb, hml, E.2.1, E.2.2.1⟩ (zJ0_init h1) (cwI 0 E.2.2.1 (lw_meth q214) rfl rfl rfl (E.2.2.1 _ q154) (E.2.2.1 _ q212) (E.2.2.1 _ q213) rfl gnJ0_init ⟨Nat.le_of_ble_eq_true rfl, Nat.le_of_ble_eq_true rfl⟩) (c_preS E hS _) rfl rfl hl.1 rfl (lv_room (Nat.le_of_ble_eq_true rfl)) dJ1_init_1 ⟨Nat.le_refl 0, Nat.le_refl 0⟩) hS.2.2.2.2 (fun H locs hS hn => ?_)
  refine lv_aload_n E.1 hb dJ1_init_4 rfl (lv_at hl 0 rfl) ?_
  refine lv_iconst (v := 0) E.1 hb dJ1_init_5 rfl ?_
  obtain ⟨A2, hk, hw, hf⟩ := pI_s hf
  refine c_pI (k := 0) (f := 1800) E hb hS ci_18 hk (hS.1.lt hk rfl) rfl rfl (Or.inl rfl) fk_J1_7_J2 (fun _ h => h) rfl rfl hw dJ1_init_6 (fun H locs hS => ?_)
  exact c_vr E hb hr hlk hS ⟨Nat.le_refl 0, Nat.le_refl 0⟩ hf dJ1_init_9
/-! jdk/internal/util/ArraysSupport.signedHashCode(I[BII)I: RO -/
noncomputable def J10_signedHashCode_b8 (N : Nat) (x1 : Nat) (x2 : Int32) (x3 : Int32) (A : AH) (k8 : Int32 → Int32 → Int32 → Option Int32) (x0 : Int32) (x4 : Int32) (x5 : Int32) : Option Int32 :=
  if x4 ≤ x5 then (some x0) else (bo (dI_ 33 A x1 x5) fun v1 => k8 ((31 * x0) + (v1 &&& 255)) x4 (x5 + 1))
noncomputable def J10_signedHashCode (N : Nat) (A : AH) (x0 : Int32) (x1 : Nat) (x2 : Int32) (x3 : Int32) : Option Int32 :=
  rn3 (J10_signedHashCode_b8 N x1 x2 x3 A) N x0 (x2 + x3) x2
abbrev rJ10_signedHashCode : Room := { frames := 0, cells := 0, slots := 0, locals := 0 }
set_option maxHeartbeats 4000000 in
theorem zJ10_signedHashCode {l : Launch} {dC : Nat → ClassId} {dI : Nat → Nat → Nat} {ac : Nat → ClassId} {ad : Nat → Nat} {b : Prop} {N : Nat} {A : AH} {x0 : Int32} {x1 : Nat} {x2 : Int32} {x3 : Int32} {r : Int32} (hf : J10_signedHashCode N A x0 x1 x2 x3 = some r) : Met l yJ10_signedHashCode (ws_ yJ10_signedHashCode cJ10_signedHashCode 6 (some .int)) { frames := 0, cells := 0, slots := 0, locals := 0 } (va_Pc [.int x0, .ref (ad x1), .int x2, .int x3] (cPre dC dI ac ad b A)) (cQi dC dI ac ad b (aN A) (aS A) (aN A) (aS A) r A) 0 0 (cF ad) := by
  unfold J10_signedHashCode at hf
  refine c_of ⟨Nat.le_refl _, Nat.le_refl _⟩ RJ10 plJ10_signedHashCode rfl (Nat.le_of_ble_eq_true rfl) ?_
  intro p e s m args below meth c E hb hr hlk hnm hml hS ls hl
  have hl : lv_has ls 6 [(0, .int x0), (1, .ref (ad x1)), (2, .int x2), (3, .int x3)] := hl
  have hL8 : ∀ (n : Nat) (x0 : Int32) (x4 : Int32) (x5 : Int32), rn3 (J10_signedHashCode_b8 N x1 x2 x3 A) n x0 x4 x5 = some r → ∀ (H : Heap) (locs : List Loc), cS dC dI ac ad b s.heap (aN A) (aS A) (aN A) (aS A) A H locs → ∀ (ls : Array Slot), lv_has ls 6 [(1, .ref (ad x1)), (2, .int x2), (3, .int x3), (0, .int x0), (4, .int x4), (5, .int x5)] → W p l e rJ10_signedHashCode s m args below meth c H locs 0 0 (MQ below (cQi dC dI ac ad b (aN A) (aS A) (aN A) (aS A) r A) args s 0 0 (cF ad)) (F0 m 8 ls []) := by
    intro  n
    induction n with
    | zero =>
      intro x0 x4 x5 hf
      cases hf
    | succ n ih =>
      intro x0 x4 x5 hf H locs hS ls hl
      have hf : J10_signedHashCode_b8 N x1 x2 x3 A (rn3 (J10_signedHashCode_b8 N x1 x2 x3 A) n) x0 x4 x5 = some r := hf
      have hk8 := ih
      generalize rn3 (J10_signedHashCode_b8 N x1 x2 x3 A) n = k8 at hf hk8
      unfold J10_signedHashCode_b8 at hf
      refine lv_iload E.1 hb dJ10_signedHashCode_8 (lv_at hl 5 rfl) ?_
      refine lv_iload E.1 hb dJ10_signedHashCode_10 (lv_at hl 4 rfl) ?_
      refine lv_icmp_ge (tgt := 35) E.1 hb dJ10_signedHashCode_12 (by decide) (fun hc => ?_) (fun hc => ?_)
      · have hf := it_s hc hf
        refine lv_iload_n E.1 hb dJ10_signedHashCode_35 rfl (lv_at hl 3 rfl) ?_
        exact c_ir E hb hr hlk hS ⟨Nat.le_refl 0, Nat.le_refl 0⟩ (ro_s hf) dJ10_signedHashCode_36
      · have hf := if_s hc hf
        refine lv_bipush (v := 31) E.1 hb dJ10_signedHashCode_15 rfl ?_
        refine lv_iload_n E.1 hb dJ10_signedHashCode_17 rfl (lv_at hl 3 rfl) ?_
        refine lv_imul E.1 hb dJ10_signedHashCode_18 ?_
        refine lv_aload_n E.1 hb dJ10_signedHashCode_19 rfl (lv_at hl 0 rfl) ?_
        refine lv_iload E.1 hb dJ10_signedHashCode_20 (lv_at hl 5 rfl) ?_
        obtain ⟨hg, hf⟩ := dI_s hf
        refine c_bld E hb hS hg dJ10_signedHashCode_22 ?_
        refine lv_sipush (v := 255) E.1 hb dJ10_signedHashCode_23 rfl ?_
        refine lv_iand E.1 hb dJ10_signedHashCode_26 ?_
        refine lv_iadd E.1 hb dJ10_signedHashCode_27 ?_
        refine lv_istore_n (lv' := [(0, .int ((31 * x0) + ((aI A 33 x1 x5.toNatClampNeg) &&& 255))), (1, .ref (ad x1)), (2, .int x2), (3, .int x3), (4, .int x4), (5, .int x5)]) E.1 hb dJ10_signedHashCode_28 rfl hl (by decide) rfl (fun ls hl => ?_)
        refine lv_iinc (v := (x5 + 1)) (lv' := [(5, .int (x5 + 1)), (0, .int ((31 * x0) + ((aI A 33 x1 x5.toNatClampNeg) &&& 255))), (1, .ref (ad x1)), (2, .int x2), (3, .int x3), (4, .int x4)]) E.1 hb dJ10_signedHashCode_29 hl (k := 5) rfl rfl (by decide) rfl (fun ls hl => ?_)
        refine lv_goto (tgt := 8) E.1 hb dJ10_signedHashCode_32 (by decide) ?_
        exact hk8 ((31 * x0) + ((aI A 33 x1 x5.toNatClampNeg) &&& 255)) x4 (x5 + 1) hf _ _ hS _ (lv_sub hl [2, 3, 4, 1, 5, 0] rfl)
  refine lv_iload_n E.1 hb dJ10_signedHashCode_0 rfl (lv_at hl 2 rfl) ?_
  refine lv_iload_n E.1 hb dJ10_signedHashCode_1 rfl (lv_at hl 3 rfl) ?_
  refine lv_iadd E.1 hb dJ10_signedHashCode_2 ?_
  refine lv_istore (lv' := [(4, .int (x2 + x3)), (0, .int x0), (1, .ref (ad x1)), (2, .int x2), (3, .int x3)]) E.1 hb dJ10_signedHashCode_3 hl (by decide) rfl (fun ls hl => ?_)
  refine lv_iload_n E.1 hb dJ10_signedHashCode_5 rfl (lv_at hl 3 rfl) ?_
  refine lv_istore (lv' := [(5, .int x2), (4, .int (x2 + x3)), (0, .int x0), (1, .ref (ad x1)), (2, .int x2), (3, .int x3)]) E.1 hb dJ10_signedHashCode_6 hl (by decide) rfl (fun ls hl => ?_)
  exact hL8 N x0 (x2 + x3) x2 hf _ _ hS _ (lv_sub hl [3, 4, 5, 2, 1, 0] rfl)
/-! jdk/internal/util/ArraysSupport.utf16hashCode(I[BII)I: P -/
noncomputable def J10_utf16hashCode_b8 (N : Nat) (x1 : Nat) (x2 : Int32) (x3 : Int32) (k8 : Int32 → Int32 → Int32 → Option Int32) (x0 : Int32) (x4 : Int32) (x5 : Int32) : Option Int32 :=
  if x4 ≤ x5 then (some x0) else (none)
noncomputable def J10_utf16hashCode (N : Nat) (x0 : Int32) (x1 : Nat) (x2 : Int32) (x3 : Int32) : Option Int32 :=
  rn3 (J10_utf16hashCode_b8 N x1 x2 x3) N x0 (x2 + x3) x2
abbrev rJ10_utf16hashCode : Room := { frames := 0, cells := 0, slots := 0, locals := 0 }
set_option maxHeartbeats 4000000 in
theorem zJ10_utf16hashCode {l : Launch} {dC : Nat → ClassId} {dI : Nat → Nat → Nat} {ac : Nat → ClassId} {ad : Nat → Nat} {b : Prop} {N : Nat} {A : AH} {x0 : Int32} {x1 : Nat} {x2 : Int32} {x3 : Int32} {r : Int32} (hf : J10_utf16hashCode N x0 x1 x2 x3 = some r) : Met l yJ10_utf16hashCode (ws_ yJ10_utf16hashCode cJ10_utf16hashCode 6 (some .int)) { frames := 0, cells := 0, slots := 0, locals := 0 } (va_Pc [.int x0, .ref (ad x1), .int x2, .int x3] (cPre dC dI ac ad b A)) (cQi dC dI ac ad b (aN A) (aS A) (aN A) (aS A) r A) 0 0 (cF ad) := by
  unfold J10_utf16hashCode at hf
  refine c_of ⟨Nat.le_refl _, Nat.le_refl _⟩ RJ10 plJ10_utf16hashCode rfl (Nat.le_of_ble_eq_true rfl) ?_
  intro p e s m args below meth c E hb hr hlk hnm hml hS ls hl
  have hl : lv_has ls 6 [(0, .int x0), (1, .ref (ad x1)), (2, .int x2), (3, .int x3)] := hl
  have hL8 : ∀ (n : Nat) (x0 : Int32) (x4 : Int32) (x5 : Int32), rn3 (J10_utf16hashCode_b8 N x1 x2 x3) n x0 x4 x5 = some r → ∀ (H : Heap) (locs : List Loc), cS dC dI ac ad b s.heap (aN A) (aS A) (aN A) (aS A) A H locs → ∀ (ls : Array Slot), lv_has ls 6 [(1, .ref (ad x1)), (2, .int x2), (3, .int x3), (0, .int x0), (4, .int x4), (5, .int x5)] → W p l e rJ10_utf16hashCode s m args below meth c H locs 0 0 (MQ below (cQi dC dI ac ad b (aN A) (aS A) (aN A) (aS A) r A) args s 0 0 (cF ad)) (F0 m 8 ls []) := by
    intro  n
    induction n with
    | zero =>
      intro x0 x4 x5 hf
      cases hf
    | succ n ih =>
      intro x0 x4 x5 hf H locs hS ls hl
      have hf : J10_utf16hashCode_b8 N x1 x2 x3 (rn3 (J10_utf16hashCode_b8 N x1 x2 x3) n) x0 x4 x5 = some r := hf
      have hk8 := ih
      generalize rn3 (J10_utf16hashCode_b8 N x1 x2 x3) n = k8 at hf hk8
      unfold J10_utf16hashCode_b8 at hf
      refine lv_iload E.1 hb dJ10_utf16hashCode_8 (lv_at hl 5 rfl) ?_
      refine lv_iload E.1 hb dJ10_utf16hashCode_10 (lv_at hl 4 rfl) ?_
      refine lv_icmp_ge (tgt := 38) E.1 hb dJ10_utf16hashCode_12 (by decide) (fun hc => ?_) (fun hc => ?_)
      · have hf := it_s hc hf
        refine lv_iload_n E.1 hb dJ10_utf16hashCode_38 rfl (lv_at hl 3 rfl) ?_
        exact c_ir E hb hr hlk hS ⟨Nat.le_refl 0, Nat.le_refl 0⟩ (ro_s hf) dJ10_utf16hashCode_39
      · have hf := if_s hc hf
        cases hf
  refine lv_iload_n E.1 hb dJ10_utf16hashCode_0 rfl (lv_at hl 2 rfl) ?_
  refine lv_iload_n E.1 hb dJ10_utf16hashCode_1 rfl (lv_at hl 3 rfl) ?_
  refine lv_iadd E.1 hb dJ10_utf16hashCode_2 ?_
  refine lv_istore (lv' := [(4, .int (x2 + x3)), (0, .int x0), (1, .ref (ad x1)), (2, .int x2), (3, .int x3)]) E.1 hb dJ10_utf16hashCode_3 hl (by decide) rfl (fun ls hl => ?_)
  refine lv_iload_n E.1 hb dJ10_utf16hashCode_5 rfl (lv_at hl 3 rfl) ?_
  refine lv_istore (lv' := [(5, .int x2), (4, .int (x2 + x3)), (0, .int x0), (1, .ref (ad x1)), (2, .int x2), (3, .int x3)]) E.1 hb dJ10_utf16hashCode_6 hl (by decide) rfl (fun ls hl => ?_)
  exact hL8 N x0 (x2 + x3) x2 hf _ _ hS _ (lv_sub hl [3, 4, 5, 2, 1, 0] rfl)
/-! jdk/internal/util/ArraysSupport.hashCode(I[CII)I: RO -/
noncomputable def J10_hashCode_b8 (N : Nat) (x1 : Nat) (x2 : Int32) (x3 : Int32) (A : AH) (k8 : Int32 → Int32 → Int32 → Option Int32) (x0 : Int32) (x4 : Int32) (x5 : Int32) : Option Int32 :=
  if x4 ≤ x5 then (some x0) else (bo (dI_ 34 A x1 x5) fun v1 => k8 ((31 * x0) + v1) x4 (x5 + 1))
noncomputable def J10_hashCode (N : Nat) (A : AH) (x0 : Int32) (x1 : Nat) (x2 : Int32) (x3 : Int32) : Option Int32 :=
  rn3 (J10_hashCode_b8 N x1 x2 x3 A) N x0 (x2 + x3) x2
abbrev rJ10_hashCode : Room := { frames := 0, cells := 0, slots := 0, locals := 0 }
set_option maxHeartbeats 4000000 in
theorem zJ10_hashCode {l : Launch} {dC : Nat → ClassId} {dI : Nat → Nat → Nat} {ac : Nat → ClassId} {ad : Nat → Nat} {b : Prop} {N : Nat} {A : AH} {x0 : Int32} {x1 : Nat} {x2 : Int32} {x3 : Int32} {r : Int32} (hf : J10_hashCode N A x0 x1 x2 x3 = some r) : Met l yJ10_hashCode (ws_ yJ10_hashCode cJ10_hashCode 6 (some .int)) { frames := 0, cells := 0, slots := 0, locals := 0 } (va_Pc [.int x0, .ref (ad x1), .int x2, .int x3] (cPre dC dI ac ad b A)) (cQi dC dI ac ad b (aN A) (aS A) (aN A) (aS A) r A) 0 0 (cF ad) := by
  unfold J10_hashCode at hf
  refine c_of ⟨Nat.le_refl _, Nat.le_refl _⟩ RJ10 plJ10_hashCode rfl (Nat.le_of_ble_eq_true rfl) ?_
  intro p e s m args below meth c E hb hr hlk hnm hml hS ls hl
  have hl : lv_has ls 6 [(0, .int x0), (1, .ref (ad x1)), (2, .int x2), (3, .int x3)] := hl
  have hL8 : ∀ (n : Nat) (x0 : Int32) (x4 : Int32) (x5 : Int32), rn3 (J10_hashCode_b8 N x1 x2 x3 A) n x0 x4 x5 = some r → ∀ (H : Heap) (locs : List Loc), cS dC dI ac ad b s.heap (aN A) (aS A) (aN A) (aS A) A H locs → ∀ (ls : Array Slot), lv_has ls 6 [(1, .ref (ad x1)), (2, .int x2), (3, .int x3), (0, .int x0), (4, .int x4), (5, .int x5)] → W p l e rJ10_hashCode s m args below meth c H locs 0 0 (MQ below (cQi dC dI ac ad b (aN A) (aS A) (aN A) (aS A) r A) args s 0 0 (cF ad)) (F0 m 8 ls []) := by
    intro  n
    induction n with
    | zero =>
      intro x0 x4 x5 hf
      cases hf
    | succ n ih =>
      intro x0 x4 x5 hf H locs hS ls hl
      have hf : J10_hashCode_b8 N x1 x2 x3 A (rn3 (J10_hashCode_b8 N x1 x2 x3 A) n) x0 x4 x5 = some r := hf
      have hk8 := ih
      generalize rn3 (J10_hashCode_b8 N x1 x2 x3 A) n = k8 at hf hk8
      unfold J10_hashCode_b8 at hf
      refine lv_iload E.1 hb dJ10_hashCode_8 (lv_at hl 5 rfl) ?_
      refine lv_iload E.1 hb dJ10_hashCode_10 (lv_at hl 4 rfl) ?_
      refine lv_icmp_ge (tgt := 31) E.1 hb dJ10_hashCode_12 (by decide) (fun hc => ?_) (fun hc => ?_)
      · have hf := it_s hc hf
        refine lv_iload_n E.1 hb dJ10_hashCode_31 rfl (lv_at hl 3 rfl) ?_
        exact c_ir E hb hr hlk hS ⟨Nat.le_refl 0, Nat.le_refl 0⟩ (ro_s hf) dJ10_hashCode_32
      · have hf := if_s hc hf
        refine lv_bipush (v := 31) E.1 hb dJ10_hashCode_15 rfl ?_
        refine lv_iload_n E.1 hb dJ10_hashCode_17 rfl (lv_at hl 3 rfl) ?_
        refine lv_imul E.1 hb dJ10_hashCode_18 ?_
        refine lv_aload_n E.1 hb dJ10_hashCode_19 rfl (lv_at hl 0 rfl) ?_
        refine lv_iload E.1 hb dJ10_hashCode_20 (lv_at hl 5 rfl) ?_
        obtain ⟨hg, hf⟩ := dI_s hf
        refine d_ld E hb hS hg rfl (Or.inr (Or.inr (Or.inl ⟨rfl, rfl⟩))) dJ10_hashCode_22 ?_
        refine lv_iadd E.1 hb dJ10_hashCode_23 ?_
        refine lv_istore_n (lv' := [(0, .int ((31 * x0) + (aI A 34 x1 x5.toNatClampNeg))), (1, .ref (ad x1)), (2, .int x2), (3, .int x3), (4, .int x4), (5, .int x5)]) E.1 hb dJ10_hashCode_24 rfl hl (by decide) rfl (fun ls hl => ?_)
        refine lv_iinc (v := (x5 + 1)) (lv' := [(5, .int (x5 + 1)), (0, .int ((31 * x0) + (aI A 34 x1 x5.toNatClampNeg))), (1, .ref (ad x1)), (2, .int x2), (3, .int x3), (4, .int x4)]) E.1 hb dJ10_hashCode_25 hl (k := 5) rfl rfl (by decide) rfl (fun ls hl => ?_)
        refine lv_goto (tgt := 8) E.1 hb dJ10_hashCode_28 (by decide) ?_
        exact hk8 ((31 * x0) + (aI A 34 x1 x5.toNatClampNeg)) x4 (x5 + 1) hf _ _ hS _ (lv_sub hl [2, 3, 4, 1, 5, 0] rfl)
  refine lv_iload_n E.1 hb dJ10_hashCode_0 rfl (lv_at hl 2 rfl) ?_
  refine lv_iload_n E.1 hb dJ10_hashCode_1 rfl (lv_at hl 3 rfl) ?_
  refine lv_iadd E.1 hb dJ10_hashCode_2 ?_
  refine lv_istore (lv' := [(4, .int (x2 + x3)), (0, .int x0), (1, .ref (ad x1)), (2, .int x2), (3, .int x3)]) E.1 hb dJ10_hashCode_3 hl (by decide) rfl (fun ls hl => ?_)
  refine lv_iload_n E.1 hb dJ10_hashCode_5 rfl (lv_at hl 3 rfl) ?_
  refine lv_istore (lv' := [(5, .int x2), (4, .int (x2 + x3)), (0, .int x0), (1, .ref (ad x1)), (2, .int x2), (3, .int x3)]) E.1 hb dJ10_hashCode_6 hl (by decide) rfl (fun ls hl => ?_)
  exact hL8 N x0 (x2 + x3) x2 hf _ _ hS _ (lv_sub hl [3, 4, 5, 2, 1, 0] rfl)
/-! jdk/internal/util/ArraysSupport.hashCode(I[BII)I: RO -/
noncomputable def J10_hashCode_2_b8 (N : Nat) (x1 : Nat) (x2 : Int32) (x3 : Int32) (A : AH) (k8 : Int32 → Int32 → Int32 → Option Int32) (x0 : Int32) (x4 : Int32) (x5 : Int32) : Option Int32 :=
  if x4 ≤ x5 then (some x0) else (bo (dI_ 33 A x1 x5) fun v1 => k8 ((31 * x0) + v1) x4 (x5 + 1))
noncomputable def J10_hashCode_2 (N : Nat) (A : AH) (x0 : Int32) (x1 : Nat) (x2 : Int32) (x3 : Int32) : Option Int32 :=
  rn3 (J10_hashCode_2_b8 N x1 x2 x3 A) N x0 (x2 + x3) x2
abbrev rJ10_hashCode_2 : Room := { frames := 0, cells := 0, slots := 0, locals := 0 }
set_option maxHeartbeats 4000000 in
theorem zJ10_hashCode_2 {l : Launch} {dC : Nat → ClassId} {dI : Nat → Nat → Nat} {ac : Nat → ClassId} {ad : Nat → Nat} {b : Prop} {N : Nat} {A : AH} {x0 : Int32} {x1 : Nat} {x2 : Int32} {x3 : Int32} {r : Int32} (hf : J10_hashCode_2 N A x0 x1 x2 x3 = some r) : Met l yJ10_hashCode_2 (ws_ yJ10_hashCode_2 cJ10_hashCode_2 6 (some .int)) { frames := 0, cells := 0, slots := 0, locals := 0 } (va_Pc [.int x0, .ref (ad x1), .int x2, .int x3] (cPre dC dI ac ad b A)) (cQi dC dI ac ad b (aN A) (aS A) (aN A) (aS A) r A) 0 0 (cF ad) := by
  unfold J10_hashCode_2 at hf
  refine c_of ⟨Nat.le_refl _, Nat.le_refl _⟩ RJ10 plJ10_hashCode_2 rfl (Nat.le_of_ble_eq_true rfl) ?_
  intro p e s m args below meth c E hb hr hlk hnm hml hS ls hl
  have hl : lv_has ls 6 [(0, .int x0), (1, .ref (ad x1)), (2, .int x2), (3, .int x3)] := hl
  have hL8 : ∀ (n : Nat) (x0 : Int32) (x4 : Int32) (x5 : Int32), rn3 (J10_hashCode_2_b8 N x1 x2 x3 A) n x0 x4 x5 = some r → ∀ (H : Heap) (locs : List Loc), cS dC dI ac ad b s.heap (aN A) (aS A) (aN A) (aS A) A H locs → ∀ (ls : Array Slot), lv_has ls 6 [(1, .ref (ad x1)), (2, .int x2), (3, .int x3), (0, .int x0), (4, .int x4), (5, .int x5)] → W p l e rJ10_hashCode_2 s m args below meth c H locs 0 0 (MQ below (cQi dC dI ac ad b (aN A) (aS A) (aN A) (aS A) r A) args s 0 0 (cF ad)) (F0 m 8 ls []) := by
    intro  n
    induction n with
    | zero =>
      intro x0 x4 x5 hf
      cases hf
    | succ n ih =>
      intro x0 x4 x5 hf H locs hS ls hl
      have hf : J10_hashCode_2_b8 N x1 x2 x3 A (rn3 (J10_hashCode_2_b8 N x1 x2 x3 A) n) x0 x4 x5 = some r := hf
      have hk8 := ih
      generalize rn3 (J10_hashCode_2_b8 N x1 x2 x3 A) n = k8 at hf hk8
      unfold J10_hashCode_2_b8 at hf
      refine lv_iload E.1 hb dJ10_hashCode_2_8 (lv_at hl 5 rfl) ?_
      refine lv_iload E.1 hb dJ10_hashCode_2_10 (lv_at hl 4 rfl) ?_
      refine lv_icmp_ge (tgt := 31) E.1 hb dJ10_hashCode_2_12 (by decide) (fun hc => ?_) (fun hc => ?_)
      · have hf := it_s hc hf
        refine lv_iload_n E.1 hb dJ10_hashCode_2_31 rfl (lv_at hl 3 rfl) ?_
        exact c_ir E hb hr hlk hS ⟨Nat.le_refl 0, Nat.le_refl 0⟩ (ro_s hf) dJ10_hashCode_2_32
      · have hf := if_s hc hf
        refine lv_bipush (v := 31) E.1 hb dJ10_hashCode_2_15 rfl ?_
        refine lv_iload_n E.1 hb dJ10_hashCode_2_17 rfl (lv_at hl 3 rfl) ?_
        refine lv_imul E.1 hb dJ10_hashCode_2_18 ?_
        refine lv_aload_n E.1 hb dJ10_hashCode_2_19 rfl (lv_at hl 0 rfl) ?_
        refine lv_iload E.1 hb dJ10_hashCode_2_20 (lv_at hl 5 rfl) ?_
        obtain ⟨hg, hf⟩ := dI_s hf
        refine c_bld E hb hS hg dJ10_hashCode_2_22 ?_
        refine lv_iadd E.1 hb dJ10_hashCode_2_23 ?_
        refine lv_istore_n (lv' := [(0, .int ((31 * x0) + (aI A 33 x1 x5.toNatClampNeg))), (1, .ref (ad x1)), (2, .int x2), (3, .int x3), (4, .int x4), (5, .int x5)]) E.1 hb dJ10_hashCode_2_24 rfl hl (by decide) rfl (fun ls hl => ?_)
        refine lv_iinc (v := (x5 + 1)) (lv' := [(5, .int (x5 + 1)), (0, .int ((31 * x0) + (aI A 33 x1 x5.toNatClampNeg))), (1, .ref (ad x1)), (2, .int x2), (3, .int x3), (4, .int x4)]) E.1 hb dJ10_hashCode_2_25 hl (k := 5) rfl rfl (by decide) rfl (fun ls hl => ?_)
        refine lv_goto (tgt := 8) E.1 hb dJ10_hashCode_2_28 (by decide) ?_
        exact hk8 ((31 * x0) + (aI A 33 x1 x5.toNatClampNeg)) x4 (x5 + 1) hf _ _ hS _ (lv_sub hl [2, 3, 4, 1, 5, 0] rfl)
  refine lv_iload_n E.1 hb dJ10_hashCode_2_0 rfl (lv_at hl 2 rfl) ?_
  refine lv_iload_n E.1 hb dJ10_hashCode_2_1 rfl (lv_at hl 3 rfl) ?_
  refine lv_iadd E.1 hb dJ10_hashCode_2_2 ?_
  refine lv_istore (lv' := [(4, .int (x2 + x3)), (0, .int x0), (1, .ref (ad x1)), (2, .int x2), (3, .int x3)]) E.1 hb dJ10_hashCode_2_3 hl (by decide) rfl (fun ls hl => ?_)
  refine lv_iload_n E.1 hb dJ10_hashCode_2_5 rfl (lv_at hl 3 rfl) ?_
  refine lv_istore (lv' := [(5, .int x2), (4, .int (x2 + x3)), (0, .int x0), (1, .ref (ad x1)), (2, .int x2), (3, .int x3)]) E.1 hb dJ10_hashCode_2_6 hl (by decide) rfl (fun ls hl => ?_)
  exact hL8 N x0 (x2 + x3) x2 hf _ _ hS _ (lv_sub hl [3, 4, 5, 2, 1, 0] rfl)
/-! jdk/internal/util/ArraysSupport.hashCode(I[SII)I: P -/
noncomputable def J10_hashCode_3_b8 (N : Nat) (x1 : Nat) (x2 : Int32) (x3 : Int32) (k8 : Int32 → Int32 → Int32 → Option Int32) (x0 : Int32) (x4 : Int32) (x5 : Int32) : Option Int32 :=
  if x4 ≤ x5 then (some x0) else (none)
noncomputable def J10_hashCode_3 (N : Nat) (x0 : Int32) (x1 : Nat) (x2 : Int32) (x3 : Int32) : Option Int32 :=
  rn3 (J10_hashCode_3_b8 N x1 x2 x3) N x0 (x2 + x3) x2
abbrev rJ10_hashCode_3 : Room := { frames := 0, cells := 0, slots := 0, locals := 0 }
set_option maxHeartbeats 4000000 in
theorem zJ10_hashCode_3 {l : Launch} {dC : Nat → ClassId} {dI : Nat → Nat → Nat} {ac : Nat → ClassId} {ad : Nat → Nat} {b : Prop} {N : Nat} {A : AH} {x0 : Int32} {x1 : Nat} {x2 : Int32} {x3 : Int32} {r : Int32} (hf : J10_hashCode_3 N x0 x1 x2 x3 = some r) : Met l yJ10_hashCode_3 (ws_ yJ10_hashCode_3 cJ10_hashCode_3 6 (some .int)) { frames := 0, cells := 0, slots := 0, locals := 0 } (va_Pc [.int x0, .ref (ad x1), .int x2, .int x3] (cPre dC dI ac ad b A)) (cQi dC dI ac ad b (aN A) (aS A) (aN A) (aS A) r A) 0 0 (cF ad) := by
  unfold J10_hashCode_3 at hf
  refine c_of ⟨Nat.le_refl _, Nat.le_refl _⟩ RJ10 plJ10_hashCode_3 rfl (Nat.le_of_ble_eq_true rfl) ?_
  intro p e s m args below meth c E hb hr hlk hnm hml hS ls hl
  have hl : lv_has ls 6 [(0, .int x0), (1, .ref (ad x1)), (2, .int x2), (3, .int x3)] := hl
  have hL8 : ∀ (n : Nat) (x0 : Int32) (x4 : Int32) (x5 : Int32), rn3 (J10_hashCode_3_b8 N x1 x2 x3) n x0 x4 x5 = some r → ∀ (H : Heap) (locs : List Loc), cS dC dI ac ad b s.heap (aN A) (aS A) (aN A) (aS A) A H locs → ∀ (ls : Array Slot), lv_has ls 6 [(1, .ref (ad x1)), (2, .int x2), (3, .int x3), (0, .int x0), (4, .int x4), (5, .int x5)] → W p l e rJ10_hashCode_3 s m args below meth c H locs 0 0 (MQ below (cQi dC dI ac ad b (aN A) (aS A) (aN A) (aS A) r A) args s 0 0 (cF ad)) (F0 m 8 ls []) := by
    intro  n
    induction n with
    | zero =>
      intro x0 x4 x5 hf
      cases hf
    | succ n ih =>
      intro x0 x4 x5 hf H locs hS ls hl
      have hf : J10_hashCode_3_b8 N x1 x2 x3 (rn3 (J10_hashCode_3_b8 N x1 x2 x3) n) x0 x4 x5 = some r := hf
      have hk8 := ih
      generalize rn3 (J10_hashCode_3_b8 N x1 x2 x3) n = k8 at hf hk8
      unfold J10_hashCode_3_b8 at hf
      refine lv_iload E.1 hb dJ10_hashCode_3_8 (lv_at hl 5 rfl) ?_
      refine lv_iload E.1 hb dJ10_hashCode_3_10 (lv_at hl 4 rfl) ?_
      refine lv_icmp_ge (tgt := 31) E.1 hb dJ10_hashCode_3_12 (by decide) (fun hc => ?_) (fun hc => ?_)
      · have hf := it_s hc hf
        refine lv_iload_n E.1 hb dJ10_hashCode_3_31 rfl (lv_at hl 3 rfl) ?_
        exact c_ir E hb hr hlk hS ⟨Nat.le_refl 0, Nat.le_refl 0⟩ (ro_s hf) dJ10_hashCode_3_32
      · have hf := if_s hc hf
        cases hf
  refine lv_iload_n E.1 hb dJ10_hashCode_3_0 rfl (lv_at hl 2 rfl) ?_
  refine lv_iload_n E.1 hb dJ10_hashCode_3_1 rfl (lv_at hl 3 rfl) ?_
  refine lv_iadd E.1 hb dJ10_hashCode_3_2 ?_
  refine lv_istore (lv' := [(4, .int (x2 + x3)), (0, .int x0), (1, .ref (ad x1)), (2, .int x2), (3, .int x3)]) E.1 hb dJ10_hashCode_3_3 hl (by decide) rfl (fun ls hl => ?_)
  refine lv_iload_n E.1 hb dJ10_hashCode_3_5 rfl (lv_at hl 3 rfl) ?_
  refine lv_istore (lv' := [(5, .int x2), (4, .int (x2 + x3)), (0, .int x0), (1, .ref (ad x1)), (2, .int x2), (3, .int x3)]) E.1 hb dJ10_hashCode_3_6 hl (by decide) rfl (fun ls hl => ?_)
  exact hL8 N x0 (x2 + x3) x2 hf _ _ hS _ (lv_sub hl [3, 4, 5, 2, 1, 0] rfl)
/-! jdk/internal/util/ArraysSupport.hashCode(I[III)I: RO -/
noncomputable def J10_hashCode_4_b8 (N : Nat) (x1 : Nat) (x2 : Int32) (x3 : Int32) (A : AH) (k8 : Int32 → Int32 → Int32 → Option Int32) (x0 : Int32) (x4 : Int32) (x5 : Int32) : Option Int32 :=
  if x4 ≤ x5 then (some x0) else (bo (dI_ 31 A x1 x5) fun v1 => k8 ((31 * x0) + v1) x4 (x5 + 1))
noncomputable def J10_hashCode_4 (N : Nat) (A : AH) (x0 : Int32) (x1 : Nat) (x2 : Int32) (x3 : Int32) : Option Int32 :=
  rn3 (J10_hashCode_4_b8 N x1 x2 x3 A) N x0 (x2 + x3) x2
abbrev rJ10_hashCode_4 : Room := { frames := 0, cells := 0, slots := 0, locals := 0 }
set_option maxHeartbeats 4000000 in
theorem zJ10_hashCode_4 {l : Launch} {dC : Nat → ClassId} {dI : Nat → Nat → Nat} {ac : Nat → ClassId} {ad : Nat → Nat} {b : Prop} {N : Nat} {A : AH} {x0 : Int32} {x1 : Nat} {x2 : Int32} {x3 : Int32} {r : Int32} (hf : J10_hashCode_4 N A x0 x1 x2 x3 = some r) : Met l yJ10_hashCode_4 (ws_ yJ10_hashCode_4 cJ10_hashCode_4 6 (some .int)) { frames := 0, cells := 0, slots := 0, locals := 0 } (va_Pc [.int x0, .ref (ad x1), .int x2, .int x3] (cPre dC dI ac ad b A)) (cQi dC dI ac ad b (aN A) (aS A) (aN A) (aS A) r A) 0 0 (cF ad) := by
  unfold J10_hashCode_4 at hf
  refine c_of ⟨Nat.le_refl _, Nat.le_refl _⟩ RJ10 plJ10_hashCode_4 rfl (Nat.le_of_ble_eq_true rfl) ?_
  intro p e s m args below meth c E hb hr hlk hnm hml hS ls hl
  have hl : lv_has ls 6 [(0, .int x0), (1, .ref (ad x1)), (2, .int x2), (3, .int x3)] := hl
  have hL8 : ∀ (n : Nat) (x0 : Int32) (x4 : Int32) (x5 : Int32), rn3 (J10_hashCode_4_b8 N x1 x2 x3 A) n x0 x4 x5 = some r → ∀ (H : Heap) (locs : List Loc), cS dC dI ac ad b s.heap (aN A) (aS A) (aN A) (aS A) A H locs → ∀ (ls : Array Slot), lv_has ls 6 [(1, .ref (ad x1)), (2, .int x2), (3, .int x3), (0, .int x0), (4, .int x4), (5, .int x5)] → W p l e rJ10_hashCode_4 s m args below meth c H locs 0 0 (MQ below (cQi dC dI ac ad b (aN A) (aS A) (aN A) (aS A) r A) args s 0 0 (cF ad)) (F0 m 8 ls []) := by
    intro  n
    induction n with
    | zero =>
      intro x0 x4 x5 hf
      cases hf
    | succ n ih =>
      intro x0 x4 x5 hf H locs hS ls hl
      have hf : J10_hashCode_4_b8 N x1 x2 x3 A (rn3 (J10_hashCode_4_b8 N x1 x2 x3 A) n) x0 x4 x5 = some r := hf
      have hk8 := ih
      generalize rn3 (J10_hashCode_4_b8 N x1 x2 x3 A) n = k8 at hf hk8
      unfold J10_hashCode_4_b8 at hf
      refine lv_iload E.1 hb dJ10_hashCode_4_8 (lv_at hl 5 rfl) ?_
      refine lv_iload E.1 hb dJ10_hashCode_4_10 (lv_at hl 4 rfl) ?_
      refine lv_icmp_ge (tgt := 31) E.1 hb dJ10_hashCode_4_12 (by decide) (fun hc => ?_) (fun hc => ?_)
      · have hf := it_s hc hf
        refine lv_iload_n E.1 hb dJ10_hashCode_4_31 rfl (lv_at hl 3 rfl) ?_
        exact c_ir E hb hr hlk hS ⟨Nat.le_refl 0, Nat.le_refl 0⟩ (ro_s hf) dJ10_hashCode_4_32
      · have hf := if_s hc hf
        refine lv_bipush (v := 31) E.1 hb dJ10_hashCode_4_15 rfl ?_
        refine lv_iload_n E.1 hb dJ10_hashCode_4_17 rfl (lv_at hl 3 rfl) ?_
        refine lv_imul E.1 hb dJ10_hashCode_4_18 ?_
        refine lv_aload_n E.1 hb dJ10_hashCode_4_19 rfl (lv_at hl 0 rfl) ?_
        refine lv_iload E.1 hb dJ10_hashCode_4_20 (lv_at hl 5 rfl) ?_
        obtain ⟨hg, hf⟩ := dI_s hf
        refine d_ld E hb hS hg rfl (Or.inl ⟨rfl, rfl⟩) dJ10_hashCode_4_22 ?_
        refine lv_iadd E.1 hb dJ10_hashCode_4_23 ?_
        refine lv_istore_n (lv' := [(0, .int ((31 * x0) + (aI A 31 x1 x5.toNatClampNeg))), (1, .ref (ad x1)), (2, .int x2), (3, .int x3), (4, .int x4), (5, .int x5)]) E.1 hb dJ10_hashCode_4_24 rfl hl (by decide) rfl (fun ls hl => ?_)
        refine lv_iinc (v := (x5 + 1)) (lv' := [(5, .int (x5 + 1)), (0, .int ((31 * x0) + (aI A 31 x1 x5.toNatClampNeg))), (1, .ref (ad x1)), (2, .int x2), (3, .int x3), (4, .int x4)]) E.1 hb dJ10_hashCode_4_25 hl (k := 5) rfl rfl (by decide) rfl (fun ls hl => ?_)
        refine lv_goto (tgt := 8) E.1 hb dJ10_hashCode_4_28 (by decide) ?_
        exact hk8 ((31 * x0) + (aI A 31 x1 x5.toNatClampNeg)) x4 (x5 + 1) hf _ _ hS _ (lv_sub hl [2, 3, 4, 1, 5, 0] rfl)
  refine lv_iload_n E.1 hb dJ10_hashCode_4_0 rfl (lv_at hl 2 rfl) ?_
  refine lv_iload_n E.1 hb dJ10_hashCode_4_1 rfl (lv_at hl 3 rfl) ?_
  refine lv_iadd E.1 hb dJ10_hashCode_4_2 ?_
  refine lv_istore (lv' := [(4, .int (x2 + x3)), (0, .int x0), (1, .ref (ad x1)), (2, .int x2), (3, .int x3)]) E.1 hb dJ10_hashCode_4_3 hl (by decide) rfl (fun ls hl => ?_)
  refine lv_iload_n E.1 hb dJ10_hashCode_4_5 rfl (lv_at hl 3 rfl) ?_
  refine lv_istore (lv' := [(5, .int x2), (4, .int (x2 + x3)), (0, .int x0), (1, .ref (ad x1)), (2, .int x2), (3, .int x3)]) E.1 hb dJ10_hashCode_4_6 hl (by decide) rfl (fun ls hl => ?_)
  exact hL8 N x0 (x2 + x3) x2 hf _ _ hS _ (lv_sub hl [3, 4, 5, 2, 1, 0] rfl)
/-! java/lang/StringUTF16.newBytesLength(I)I: RW -/
noncomputable def J7_newBytesLength (A0 : AH) (x0 : Int32) : Option (Int32 × AH) :=
  ck A0 (if 0 ≤ x0 then (if x0 < 1073741823 then (some ((x0 <<< (1 &&& 31)), A0)) else (none)) else (none))
set_option maxHeartbeats 4000000 in
theorem zJ7_newBytesLength {l : Launch} {dC : Nat → ClassId} {dI : Nat → Nat → Nat} {ac : Nat → ClassId} {ad : Nat → Nat} {b : Prop} {A0 : AH} {x0 : Int32} {r : Int32} {A' : AH} (hf : J7_newBytesLength A0 x0 = some (r, A')) : Met l yJ7_newBytesLength (ws_ yJ7_newBytesLength cJ7_newBytesLength 1 (some .int)) { frames := 0, cells := aN A' - aN A0, slots := aS A' - aS A0, locals := 0 } (va_Pc [.int x0] (cPre dC dI ac ad b A0)) (cQi dC dI ac ad b (aN A0) (aS A0) (aN A') (aS A') r A') (aN A' - aN A0) (aS A' - aS A0) (cF ad) := by
  unfold J7_newBytesLength at hf
  obtain ⟨hck0, hf⟩ := ck_s hf
  refine c_of hck0 RJ7 plJ7_newBytesLength rfl (Nat.le_of_ble_eq_true rfl) ?_
  intro p e s m args below meth c E hb hr hlk hnm hml hS ls hl
  have hl : lv_has ls 1 [(0, .int x0)] := hl
  have hcs : aN A0 + 0 ≤ aN A0 ∧ aS A0 + 0 ≤ aS A0 := ⟨Nat.le_refl _, Nat.le_refl _⟩
  refine lv_iload_n E.1 hb dJ7_newBytesLength_0 rfl (lv_at hl 0 rfl) ?_
  refine lv_if_ge (tgt := 12) E.1 hb dJ7_newBytesLength_1 (by decide) (fun hc => ?_) (fun hc => ?_)
  · have hf := it_s hc hf
    refine lv_iload_n E.1 hb dJ7_newBytesLength_12 rfl (lv_at hl 0 rfl) ?_
    refine lv_ldc E.1 hb E.2.1 (E.2.2.1 _ q645) dJ7_newBytesLength_13 ?_
    refine lv_icmp_lt (tgt := 55) E.1 hb dJ7_newBytesLength_15 (by decide) (fun hc => ?_) (fun hc => ?_)
    · have hf := it_s hc hf
      refine lv_iload_n E.1 hb dJ7_newBytesLength_55 rfl (lv_at hl 0 rfl) ?_
      refine lv_iconst (v := 1) E.1 hb dJ7_newBytesLength_56 rfl ?_
      refine lv_ishl E.1 hb dJ7_newBytesLength_57 ?_
      exact c_ir E hb hr hlk hS (rm_e ⟨Nat.le_trans hcs.1 hS.2.2.2.2.1, Nat.le_trans hcs.2 hS.2.2.2.2.2⟩) hf dJ7_newBytesLength_58
    · have hf := if_s hc hf
      cases hf
  · have hf := if_s hc hf
    cases hf
theorem gw_J7_11 : GoodIn lw_all (va_wsS RJ7 11 yJ7_newBytesLength (ws_ yJ7_newBytesLength cJ7_newBytesLength 1 (some .int))) := lw_S q642 q643 q166 q644
theorem gnJ7_newBytesLength : yJ7_newBytesLength.cls ≠ "java/lang/invoke/MethodHandle" ∧ yJ7_newBytesLength.cls ≠ "java/lang/invoke/VarHandle" ∧ (parseMethodDescriptor yJ7_newBytesLength.desc).map (fun d => d.parameters.length) = some 1 := by decide +kernel
/-! java/lang/StringUTF16.newBytesFor(I)[B: RW -/
noncomputable def J7_newBytesFor (A0 : AH) (x0 : Int32) : Option (Option Nat × AH) :=
  ck A0 (bda A0 (J7_newBytesLength A0 x0) fun r1 A2 => bo (nwA A2 33 r1) fun A3 => ck A3 ( some ((some (aN A2)), A3)))
set_option maxHeartbeats 4000000 in
theorem zJ7_newBytesFor {l : Launch} {dC : Nat → ClassId} {dI : Nat → Nat → Nat} {ac : Nat → ClassId} {ad : Nat → Nat} {b : Prop} {A0 : AH} {x0 : Int32} {r : Option Nat} {A' : AH} (hf : J7_newBytesFor A0 x0 = some (r, A')) : Met l yJ7_newBytesFor (ws_ yJ7_newBytesFor cJ7_newBytesFor 1 (some (.array .byte))) { frames := 1, cells := aN A' - aN A0, slots := aS A' - aS A0, locals := 20 } (va_Pc [.int x0] (cPre dC dI ac ad b A0)) (cQq dC dI ac ad b (aN A0) (aS A0) (aN A') (aS A') r A') (aN A' - aN A0) (aS A' - aS A0) (cF ad) := by
  unfold J7_newBytesFor at hf
  obtain ⟨hck0, hf⟩ := ck_s hf
  refine c_of hck0 RJ7 plJ7_newBytesFor rfl (Nat.le_of_ble_eq_true rfl) ?_
  intro p e s m args below meth c E hb hr hlk hnm hml hS ls hl
  have hl : lv_has ls 1 [(0, .int x0)] := hl
  have hcs : aN A0 + 0 ≤ aN A0 ∧ aS A0 + 0 ≤ aS A0 := ⟨Nat.le_refl _, Nat.le_refl _⟩
  refine lv_iload_n E.1 hb dJ7_newBytesFor_0 rfl (lv_at hl 0 rfl) ?_
  obtain ⟨r1, A2, h1, hge, hup, hf⟩ := bda_s hf
  refine c_ki hS (va_runS ⟨E.1, hb, hml, E.2.1, E.2.2.1⟩ (zJ7_newBytesLength h1) (va_cwS 1 E.2.2.1 gw_J7_11 rfl rfl rfl gnJ7_newBytesLength ⟨Nat.le_of_ble_eq_true rfl, Nat.le_of_ble_eq_true rfl⟩) (c_preS E hS _) rfl rfl hl.1 rfl (lv_room (Nat.le_of_ble_eq_true rfl)) dJ7_newBytesFor_1 (rm_a hcs hge hup)) hup (fun H locs hS hn => ?_)
  have hcs := rm_a2 hcs hge
  obtain ⟨A3, hn9, hw, hf⟩ := nwA_s hf
  obtain ⟨hck, hf⟩ := ck_s hf
  refine c_newa (atype := .byte) E hb hS hcs (Or.inr (Or.inr (Or.inl ⟨rfl, rfl⟩))) q377 hn9 hw hck (rm_up _ _ _ _) dJ7_newBytesFor_4 (fun H cells slots hS hcs => ?_)
  exact c_ar E hb hr (Or.inr ⟨_, rfl⟩) hlk hS (rm_e ⟨Nat.le_trans hcs.1 hS.2.2.2.2.1, Nat.le_trans hcs.2 hS.2.2.2.2.2⟩) (v := (some (aN A2))) hf dJ7_newBytesFor_6
theorem fk_J14_15_J15 : FLk RJ14 15 "java/lang/AbstractStringBuilder" (TJ15 0).2.1 (TJ15 0).2.2.1 := Or.inl q992
theorem fk_J14_22_J15 : FLk RJ14 22 "java/lang/AbstractStringBuilder" (TJ15 1).2.1 (TJ15 1).2.2.1 := Or.inl q993
/-! java/lang/AbstractStringBuilder.<init>(I)V: RW -/
noncomputable def J14_init (A0 : AH) (x0 : Nat) (x1 : Int32) : Option (Unit × AH) :=
  ck A0 (bo (nwA A0 33 x1) fun A1 => ck A1 ( bo (pR 20 A1 2000 x0 (some (aN A0))) fun A2 => bo (pI 20 A2 2001 x0 0) fun A3 => some ((), A3)))
set_option maxHeartbeats 4000000 in
theorem zJ14_init {l : Launch} {dC : Nat → ClassId} {dI : Nat → Nat → Nat} {ac : Nat → ClassId} {ad : Nat → Nat} {b : Prop} {A0 : AH} {x0 : Nat} {x1 : Int32} {A' : AH} (hf : J14_init A0 x0 x1 = some ((), A')) : Met l yJ14_init (ws_ yJ14_init cJ14_init 2 none) { frames := 2, cells := aN A' - aN A0, slots := aS A' - aS A0, locals := 40 } (va_Pc [.ref (ad x0), .int x1] (cPre dC dI ac ad b A0)) (cQv dC dI ac ad b (aN A0) (aS A0) (aN A') (aS A') A') (aN A' - aN A0) (aS A' - aS A0) (cF ad) := by
  unfold J14_init at hf
  obtain ⟨hck0, hf⟩ := ck_s hf
  refine c_of hck0 RJ14 plJ14_init rfl (Nat.le_of_ble_eq_true rfl) ?_
  intro p e s m args below meth c E hb hr hlk hnm hml hS ls hl
  have hl : lv_has ls 2 [(0, .ref (ad x0)), (1, .int x1)] := hl
  have hcs : aN A0 + 0 ≤ aN A0 ∧ aS A0 + 0 ≤ aS A0 := ⟨Nat.le_refl _, Nat.le_refl _⟩
  refine lv_aload_n E.1 hb dJ14_init_0 rfl (lv_at hl 0 rfl) ?_
  refine W.objInit E.1 hb E.2.1 (E.2.2.1 _ q989) (E.2.2.1 _ q196) (E.2.2.1 _ q197) rfl (by rw [hml]; exact hl.1) rfl dJ14_init_1 (Nat.le_of_ble_eq_true rfl) (Nat.le_of_ble_eq_true rfl) ?_
  refine W.eq (g2 := F0 m 4 ls []) rfl ?_
  refine c_gst E hb hS 0 rfl (Or.inl q990) rfl dJ14_init_4 ?_
  refine lv_if_eq (tgt := 25) E.1 hb dJ14_init_7 (by decide) (fun hc => ?_) (fun hc => ?_)
  · exact absurd hc (by decide)
  · refine lv_aload_n E.1 hb dJ14_init_10 rfl (lv_at hl 0 rfl) ?_
    refine lv_iload_n E.1 hb dJ14_init_11 rfl (lv_at hl 1 rfl) ?_
    obtain ⟨A1, hn9, hw, hf⟩ := nwA_s hf
    obtain ⟨hck, hf⟩ := ck_s hf
    refine c_newa (atype := .byte) E hb hS hcs (Or.inr (Or.inr (Or.inl ⟨rfl, rfl⟩))) q377 hn9 hw hck (rm_up _ _ _ _) dJ14_init_12 (fun H cells slots hS hcs => ?_)
    obtain ⟨A2, hk, hw, hf⟩ := pR_s hf
    refine c_pR (k := 0) (f := 2000) (r := (some (aN A0))) E hb hS ci_20 hk (hS.1.lt hk rfl) rfl rfl (fun _ => rfl) (Or.inl rfl) fk_J14_15_J15 (fun _ h => h) (fun q => by cases q <;> exact ⟨rfl, rfl⟩) hw dJ14_init_14 (fun H locs hS => ?_)
    have hcs := rm_w (A2 := A2) hcs (by rw [hw]; exact ⟨rfl, rfl⟩)
    refine lv_aload_n E.1 hb dJ14_init_17 rfl (lv_at hl 0 rfl) ?_
    refine lv_iconst (v := 0) E.1 hb dJ14_init_18 rfl ?_
    obtain ⟨A3, hk, hw, hf⟩ := pI_s hf
    refine c_pI (k := 1) (f := 2001) E hb hS ci_20 hk (hS.1.lt hk rfl) rfl rfl (Or.inl rfl) fk_J14_22_J15 (fun _ h => h) rfl rfl hw dJ14_init_19 (fun H locs hS => ?_)
    have hcs := rm_w (A2 := A3) hcs (by rw [hw]; exact ⟨rfl, rfl⟩)
    refine lv_goto (tgt := 38) E.1 hb dJ14_init_22 (by decide) ?_
    exact c_vr E hb hr hlk hS (rm_e ⟨Nat.le_trans hcs.1 hS.2.2.2.2.1, Nat.le_trans hcs.2 hS.2.2.2.2.2⟩) hf dJ14_init_38
theorem gnJ14_init : yJ14_init.cls ≠ "java/lang/invoke/MethodHandle" ∧ yJ14_init.cls ≠ "java/lang/invoke/VarHandle" ∧ (parseMethodDescriptor yJ14_init.desc).map (fun d => d.parameters.length) = some 1 := by decide +kernel
/-! java/lang/StringBuilder.<init>()V: RW -/
noncomputable def J15_init (A0 : AH) (x0 : Nat) : Option (Unit × AH) :=
  ck A0 (bda A0 (J14_init A0 x0 16) fun _ A1 => some ((), A1))
set_option maxHeartbeats 4000000 in
theorem zJ15_init {l : Launch} {dC : Nat → ClassId} {dI : Nat → Nat → Nat} {ac : Nat → ClassId} {ad : Nat → Nat} {b : Prop} {A0 : AH} {x0 : Nat} {A' : AH} (hf : J15_init A0 x0 = some ((), A')) : Met l yJ15_init (ws_ yJ15_init cJ15_init 1 none) { frames := 3, cells := aN A' - aN A0, slots := aS A' - aS A0, locals := 61 } (va_Pc [.ref (ad x0)] (cPre dC dI ac ad b A0)) (cQv dC dI ac ad b (aN A0) (aS A0) (aN A') (aS A') A') (aN A' - aN A0) (aS A' - aS A0) (cF ad) := by
  unfold J15_init at hf
  obtain ⟨hck0, hf⟩ := ck_s hf
  refine c_of hck0 RJ15 plJ15_init rfl (Nat.le_of_ble_eq_true rfl) ?_
  intro p e s m args below meth c E hb hr hlk hnm hml hS ls hl
  have hl : lv_has ls 1 [(0, .ref (ad x0))] := hl
  have hcs : aN A0 + 0 ≤ aN A0 ∧ aS A0 + 0 ≤ aS A0 := ⟨Nat.le_refl _, Nat.le_refl _⟩
  refine lv_aload_n E.1 hb dJ15_init_0 rfl (lv_at hl 0 rfl) ?_
  refine lv_bipush (v := 16) E.1 hb dJ15_init_1 rfl ?_
  obtain ⟨_, A1, h1, hge, hup, hf⟩ := bda_s hf
  refine c_kv hS (va_runI ⟨E.1, hb, hml, E.2.1, E.2.2.1⟩ (zJ14_init h1) (cwI 1 E.2.2.1 (lw_meth q988) rfl rfl rfl (E.2.2.1 _ q177) (E.2.2.1 _ q986) (E.2.2.1 _ q987) rfl gnJ14_init ⟨Nat.le_of_ble_eq_true rfl, Nat.le_of_ble_eq_true rfl⟩) (c_preS E hS _) rfl rfl hl.1 rfl (lv_room (Nat.le_of_ble_eq_true rfl)) dJ15_init_3 (rm_a hcs hge hup)) hup (fun H locs hS hn => ?_)
  have hcs := rm_a2 hcs hge
  exact c_vr E hb hr hlk hS (rm_e ⟨Nat.le_trans hcs.1 hS.2.2.2.2.1, Nat.le_trans hcs.2 hS.2.2.2.2.2⟩) hf dJ15_init_6
theorem gw_J10_62 : GoodIn lw_all (va_wsS RJ10 62 yJ10_signedHashCode (ws_ yJ10_signedHashCode cJ10_signedHashCode 6 (some .int))) := lw_S q739 q740 q169 q741
theorem gnJ10_signedHashCode : yJ10_signedHashCode.cls ≠ "java/lang/invoke/MethodHandle" ∧ yJ10_signedHashCode.cls ≠ "java/lang/invoke/VarHandle" ∧ (parseMethodDescriptor yJ10_signedHashCode.desc).map (fun d => d.parameters.length) = some 4 := by decide +kernel
theorem gw_J10_75 : GoodIn lw_all (va_wsS RJ10 75 yJ10_hashCode_2 (ws_ yJ10_hashCode_2 cJ10_hashCode_2 6 (some .int))) := lw_S q762 q763 q169 q764
theorem gnJ10_hashCode_2 : yJ10_hashCode_2.cls ≠ "java/lang/invoke/MethodHandle" ∧ yJ10_hashCode_2.cls ≠ "java/lang/invoke/VarHandle" ∧ (parseMethodDescriptor yJ10_hashCode_2.desc).map (fun d => d.parameters.length) = some 4 := by decide +kernel
/-! jdk/internal/util/ArraysSupport.vectorizedHashCode(Ljava/lang/Object;IIII)I: RW -/
noncomputable def J10_vectorizedHashCode (N : Nat) (A0 : AH) (x0 : Nat) (x1 : Int32) (x2 : Int32) (x3 : Int32) (x4 : Int32) : Option (Int32 × AH) :=
  ck A0 (if x4 = 4 then (if aK A0 x0 = 33 ∧ x0 < CB then (bo (J10_signedHashCode N A0 x3 x0 x1 x2) fun r1 => some (r1, A0)) else none) else (if x4 = 5 then (none) else (if x4 = 6 then (none) else (if x4 = 7 then (none) else (if x4 = 8 then (if aK A0 x0 = 33 ∧ x0 < CB then (bo (J10_hashCode_2 N A0 x3 x0 x1 x2) fun r2 => some (r2, A0)) else none) else (if x4 = 9 then (none) else (if x4 = 10 then (none) else (none))))))))
set_option maxHeartbeats 4000000 in
theorem zJ10_vectorizedHashCode {l : Launch} {dC : Nat → ClassId} {dI : Nat → Nat → Nat} {ac : Nat → ClassId} {ad : Nat → Nat} {b : Prop} {N : Nat} {A0 : AH} {x0 : Nat} {x1 : Int32} {x2 : Int32} {x3 : Int32} {x4 : Int32} {r : Int32} {A' : AH} (hf : J10_vectorizedHashCode N A0 x0 x1 x2 x3 x4 = some (r, A')) : Met l yJ10_vectorizedHashCode (ws_ yJ10_vectorizedHashCode cJ10_vectorizedHashCode 5 (some .int)) { frames := 4, cells := aN A' - aN A0, slots := aS A' - aS A0, locals := 81 } (va_Pc [.ref (ad x0), .int x1, .int x2, .int x3, .int x4] (cPre dC dI ac ad b A0)) (cQi dC dI ac ad b (aN A0) (aS A0) (aN A') (aS A') r A') (aN A' - aN A0) (aS A' - aS A0) (cF ad) := by
  unfold J10_vectorizedHashCode at hf
  obtain ⟨hck0, hf⟩ := ck_s hf
  refine c_of hck0 RJ10 plJ10_vectorizedHashCode rfl (Nat.le_of_ble_eq_true rfl) ?_
  intro p e s m args below meth c E hb hr hlk hnm hml hS ls hl
  have hl : lv_has ls 5 [(0, .ref (ad x0)), (1, .int x1), (2, .int x2), (3, .int x3), (4, .int x4)] := hl
  have hcs : aN A0 + 0 ≤ aN A0 ∧ aS A0 + 0 ≤ aS A0 := ⟨Nat.le_refl _, Nat.le_refl _⟩
  refine lv_iload E.1 hb dJ10_vectorizedHashCode_0 (lv_at hl 4 rfl) ?_
  by_cases hc4 : x4 = 4
  · have hf := it_s hc4 hf
    refine lv_tableIn (tgt := 44) E.1 hb dJ10_vectorizedHashCode_2 (by rw [hc4]; decide) (by rw [hc4]; decide) (by rw [hc4]; rfl) (by decide) ?_
    refine lv_iload_n E.1 hb dJ10_vectorizedHashCode_44 rfl (lv_at hl 3 rfl) ?_
    refine lv_aload_n E.1 hb dJ10_vectorizedHashCode_45 rfl (lv_at hl 0 rfl) ?_
    obtain ⟨hg, hf⟩ := gu_s hf
    refine c_castB E hb hS hg q738 dJ10_vectorizedHashCode_46 ?_
    refine lv_iload_n E.1 hb dJ10_vectorizedHashCode_49 rfl (lv_at hl 1 rfl) ?_
    refine lv_iload_n E.1 hb dJ10_vectorizedHashCode_50 rfl (lv_at hl 2 rfl) ?_
    obtain ⟨r1, h1, hf⟩ := bo_s hf
    refine c_ki hS (va_runS ⟨E.1, hb, hml, E.2.1, E.2.2.1⟩ (zJ10_signedHashCode h1) (va_cwS 4 E.2.2.1 gw_J10_62 rfl rfl rfl gnJ10_signedHashCode ⟨Nat.le_of_ble_eq_true rfl, Nat.le_of_ble_eq_true rfl⟩) (c_preS E hS _) rfl rfl hl.1 rfl (lv_room (Nat.le_of_ble_eq_true rfl)) dJ10_vectorizedHashCode_51 (rm_n hcs hS.2.2.2.2)) hS.2.2.2.2 (fun H locs hS hn => ?_)
    have hcs := rm_n2 hcs hn
    refine lv_goto (tgt := 157) E.1 hb dJ10_vectorizedHashCode_54 (by decide) ?_
    exact c_ir E hb hr hlk hS (rm_e ⟨Nat.le_trans hcs.1 hS.2.2.2.2.1, Nat.le_trans hcs.2 hS.2.2.2.2.2⟩) hf dJ10_vectorizedHashCode_157
  · have hf := if_s hc4 hf
    by_cases hc5 : x4 = 5
    · have hf := it_s hc5 hf
      refine lv_tableIn (tgt := 57) E.1 hb dJ10_vectorizedHashCode_2 (by rw [hc5]; decide) (by rw [hc5]; decide) (by rw [hc5]; rfl) (by decide) ?_
      cases hf
    · have hf := if_s hc5 hf
      by_cases hc6 : x4 = 6
      · have hf := it_s hc6 hf
        refine lv_tableIn (tgt := 129) E.1 hb dJ10_vectorizedHashCode_2 (by rw [hc6]; decide) (by rw [hc6]; decide) (by rw [hc6]; rfl) (by decide) ?_
        cases hf
      · have hf := if_s hc6 hf
        by_cases hc7 : x4 = 7
        · have hf := it_s hc7 hf
          refine lv_tableIn (tgt := 129) E.1 hb dJ10_vectorizedHashCode_2 (by rw [hc7]; decide) (by rw [hc7]; decide) (by rw [hc7]; rfl) (by decide) ?_
          cases hf
        · have hf := if_s hc7 hf
          by_cases hc8 : x4 = 8
          · have hf := it_s hc8 hf
            refine lv_tableIn (tgt := 90) E.1 hb dJ10_vectorizedHashCode_2 (by rw [hc8]; decide) (by rw [hc8]; decide) (by rw [hc8]; rfl) (by decide) ?_
            refine lv_iload_n E.1 hb dJ10_vectorizedHashCode_90 rfl (lv_at hl 3 rfl) ?_
            refine lv_aload_n E.1 hb dJ10_vectorizedHashCode_91 rfl (lv_at hl 0 rfl) ?_
            obtain ⟨hg, hf⟩ := gu_s hf
            refine c_castB E hb hS hg q738 dJ10_vectorizedHashCode_92 ?_
            refine lv_iload_n E.1 hb dJ10_vectorizedHashCode_95 rfl (lv_at hl 1 rfl) ?_
            refine lv_iload_n E.1 hb dJ10_vectorizedHashCode_96 rfl (lv_at hl 2 rfl) ?_
            obtain ⟨r2, h1, hf⟩ := bo_s hf
            refine c_ki hS (va_runS ⟨E.1, hb, hml, E.2.1, E.2.2.1⟩ (zJ10_hashCode_2 h1) (va_cwS 4 E.2.2.1 gw_J10_75 rfl rfl rfl gnJ10_hashCode_2 ⟨Nat.le_of_ble_eq_true rfl, Nat.le_of_ble_eq_true rfl⟩) (c_preS E hS _) rfl rfl hl.1 rfl (lv_room (Nat.le_of_ble_eq_true rfl)) dJ10_vectorizedHashCode_97 (rm_n hcs hS.2.2.2.2)) hS.2.2.2.2 (fun H locs hS hn => ?_)
            have hcs := rm_n2 hcs hn
            refine lv_goto (tgt := 157) E.1 hb dJ10_vectorizedHashCode_100 (by decide) ?_
            exact c_ir E hb hr hlk hS (rm_e ⟨Nat.le_trans hcs.1 hS.2.2.2.2.1, Nat.le_trans hcs.2 hS.2.2.2.2.2⟩) hf dJ10_vectorizedHashCode_157
          · have hf := if_s hc8 hf
            by_cases hc9 : x4 = 9
            · have hf := it_s hc9 hf
              refine lv_tableIn (tgt := 103) E.1 hb dJ10_vectorizedHashCode_2 (by rw [hc9]; decide) (by rw [hc9]; decide) (by rw [hc9]; rfl) (by decide) ?_
              cases hf
            · have hf := if_s hc9 hf
              by_cases hc10 : x4 = 10
              · have hf := it_s hc10 hf
                refine lv_tableIn (tgt := 116) E.1 hb dJ10_vectorizedHashCode_2 (by rw [hc10]; decide) (by rw [hc10]; decide) (by rw [hc10]; rfl) (by decide) ?_
                cases hf
              · have hf := if_s hc10 hf
                cases hf
/-! java/lang/Math.max(II)I: P -/
noncomputable def J12_max (x0 : Int32) (x1 : Int32) : Option Int32 :=
  if x0 < x1 then (some x1) else (some x0)
abbrev rJ12_max : Room := { frames := 0, cells := 0, slots := 0, locals := 0 }
set_option maxHeartbeats 4000000 in
theorem zJ12_max {l : Launch} {dC : Nat → ClassId} {dI : Nat → Nat → Nat} {ac : Nat → ClassId} {ad : Nat → Nat} {b : Prop} {A : AH} {x0 : Int32} {x1 : Int32} {r : Int32} (hf : J12_max x0 x1 = some r) : Met l yJ12_max (ws_ yJ12_max cJ12_max 2 (some .int)) { frames := 0, cells := 0, slots := 0, locals := 0 } (va_Pc [.int x0, .int x1] (cPre dC dI ac ad b A)) (cQi dC dI ac ad b (aN A) (aS A) (aN A) (aS A) r A) 0 0 (cF ad) := by
  unfold J12_max at hf
  refine c_of ⟨Nat.le_refl _, Nat.le_refl _⟩ RJ12 plJ12_max rfl (Nat.le_of_ble_eq_true rfl) ?_
  intro p e s m args below meth c E hb hr hlk hnm hml hS ls hl
  have hl : lv_has ls 2 [(0, .int x0), (1, .int x1)] := hl
  refine lv_iload_n E.1 hb dJ12_max_0 rfl (lv_at hl 0 rfl) ?_
  refine lv_iload_n E.1 hb dJ12_max_1 rfl (lv_at hl 1 rfl) ?_
  refine lv_icmp_lt (tgt := 9) E.1 hb dJ12_max_2 (by decide) (fun hc => ?_) (fun hc => ?_)
  · have hf := it_s hc hf
    refine lv_iload_n E.1 hb dJ12_max_9 rfl (lv_at hl 1 rfl) ?_
    exact c_ir E hb hr hlk hS ⟨Nat.le_refl 0, Nat.le_refl 0⟩ (ro_s hf) dJ12_max_10
  · have hf := if_s hc hf
    refine lv_iload_n E.1 hb dJ12_max_5 rfl (lv_at hl 0 rfl) ?_
    refine lv_goto (tgt := 10) E.1 hb dJ12_max_6 (by decide) ?_
    exact c_ir E hb hr hlk hS ⟨Nat.le_refl 0, Nat.le_refl 0⟩ (ro_s hf) dJ12_max_10
/-! jdk/internal/util/ArraysSupport.hugeLength(II)I: RW -/
noncomputable def J10_hugeLength (A0 : AH) (x0 : Int32) (x1 : Int32) : Option (Int32 × AH) :=
  ck A0 (if 0 ≤ (x0 + x1) then (if 2147483639 < (x0 + x1) then (some ((x0 + x1), A0)) else (some (2147483639, A0))) else (none))
set_option maxHeartbeats 4000000 in
theorem zJ10_hugeLength {l : Launch} {dC : Nat → ClassId} {dI : Nat → Nat → Nat} {ac : Nat → ClassId} {ad : Nat → Nat} {b : Prop} {A0 : AH} {x0 : Int32} {x1 : Int32} {r : Int32} {A' : AH} (hf : J10_hugeLength A0 x0 x1 = some (r, A')) : Met l yJ10_hugeLength (ws_ yJ10_hugeLength cJ10_hugeLength 3 (some .int)) { frames := 4, cells := aN A' - aN A0, slots := aS A' - aS A0, locals := 81 } (va_Pc [.int x0, .int x1] (cPre dC dI ac ad b A0)) (cQi dC dI ac ad b (aN A0) (aS A0) (aN A') (aS A') r A') (aN A' - aN A0) (aS A' - aS A0) (cF ad) := by
  unfold J10_hugeLength at hf
  obtain ⟨hck0, hf⟩ := ck_s hf
  refine c_of hck0 RJ10 plJ10_hugeLength rfl (Nat.le_of_ble_eq_true rfl) ?_
  intro p e s m args below meth c E hb hr hlk hnm hml hS ls hl
  have hl : lv_has ls 3 [(0, .int x0), (1, .int x1)] := hl
  have hcs : aN A0 + 0 ≤ aN A0 ∧ aS A0 + 0 ≤ aS A0 := ⟨Nat.le_refl _, Nat.le_refl _⟩
  refine lv_iload_n E.1 hb dJ10_hugeLength_0 rfl (lv_at hl 0 rfl) ?_
  refine lv_iload_n E.1 hb dJ10_hugeLength_1 rfl (lv_at hl 1 rfl) ?_
  refine lv_iadd E.1 hb dJ10_hugeLength_2 ?_
  refine lv_istore_n (lv' := [(2, .int (x0 + x1)), (0, .int x0), (1, .int x1)]) E.1 hb dJ10_hugeLength_3 rfl hl (by decide) rfl (fun ls hl => ?_)
  refine lv_iload_n E.1 hb dJ10_hugeLength_4 rfl (lv_at hl 0 rfl) ?_
  refine lv_if_ge (tgt := 49) E.1 hb dJ10_hugeLength_5 (by decide) (fun hc => ?_) (fun hc => ?_)
  · have hf := it_s hc hf
    refine lv_iload_n E.1 hb dJ10_hugeLength_49 rfl (lv_at hl 0 rfl) ?_
    refine lv_ldc E.1 hb E.2.1 (E.2.2.1 _ q908) dJ10_hugeLength_50 ?_
    refine lv_icmp_gt (tgt := 58) E.1 hb dJ10_hugeLength_52 (by decide) (fun hc => ?_) (fun hc => ?_)
    · have hf := it_s hc hf
      refine lv_iload_n E.1 hb dJ10_hugeLength_58 rfl (lv_at hl 0 rfl) ?_
      exact c_ir E hb hr hlk hS (rm_e ⟨Nat.le_trans hcs.1 hS.2.2.2.2.1, Nat.le_trans hcs.2 hS.2.2.2.2.2⟩) hf dJ10_hugeLength_59
    · have hf := if_s hc hf
      refine lv_ldc E.1 hb E.2.1 (E.2.2.1 _ q908) dJ10_hugeLength_55 ?_
      exact c_ir E hb hr hlk hS (rm_e ⟨Nat.le_trans hcs.1 hS.2.2.2.2.1, Nat.le_trans hcs.2 hS.2.2.2.2.2⟩) hf dJ10_hugeLength_57
  · have hf := if_s hc hf
    cases hf
theorem gw_J10_201 : GoodIn lw_all (va_wsS RJ10 201 yJ10_hugeLength (ws_ yJ10_hugeLength cJ10_hugeLength 3 (some .int))) := lw_S q909 q910 q169 q911
theorem gnJ10_hugeLength : yJ10_hugeLength.cls ≠ "java/lang/invoke/MethodHandle" ∧ yJ10_hugeLength.cls ≠ "java/lang/invoke/VarHandle" ∧ (parseMethodDescriptor yJ10_hugeLength.desc).map (fun d => d.parameters.length) = some 2 := by decide +kernel
theorem gw_J10_194 : GoodIn lw_all (va_wsS RJ10 194 yJ12_max (ws_ yJ12_max cJ12_max 2 (some .int))) := lw_S q905 q906 q172 q907
theorem gnJ12_max : yJ12_max.cls ≠ "java/lang/invoke/MethodHandle" ∧ yJ12_max.cls ≠ "java/lang/invoke/VarHandle" ∧ (parseMethodDescriptor yJ12_max.desc).map (fun d => d.parameters.length) = some 2 := by decide +kernel
/-! jdk/internal/util/ArraysSupport.newLength(III)I: RW -/
noncomputable def J10_newLength_b21 (x0 : Int32) (x1 : Int32) (x2 : Int32) (A : AH) : Option (Int32 × AH) :=
  bda A (J10_hugeLength A x0 x1) fun r2 A3 => some (r2, A3)
noncomputable def J10_newLength (A0 : AH) (x0 : Int32) (x1 : Int32) (x2 : Int32) : Option (Int32 × AH) :=
  ck A0 (bo (J12_max x1 x2) fun r1 => if (x0 + r1) ≤ 0 then (J10_newLength_b21 x0 x1 x2 A0) else (if 2147483639 < (x0 + r1) then (J10_newLength_b21 x0 x1 x2 A0) else (some ((x0 + r1), A0))))
set_option maxHeartbeats 4000000 in
theorem zJ10_newLength {l : Launch} {dC : Nat → ClassId} {dI : Nat → Nat → Nat} {ac : Nat → ClassId} {ad : Nat → Nat} {b : Prop} {A0 : AH} {x0 : Int32} {x1 : Int32} {x2 : Int32} {r : Int32} {A' : AH} (hf : J10_newLength A0 x0 x1 x2 = some (r, A')) : Met l yJ10_newLength (ws_ yJ10_newLength cJ10_newLength 4 (some .int)) { frames := 5, cells := aN A' - aN A0, slots := aS A' - aS A0, locals := 103 } (va_Pc [.int x0, .int x1, .int x2] (cPre dC dI ac ad b A0)) (cQi dC dI ac ad b (aN A0) (aS A0) (aN A') (aS A') r A') (aN A' - aN A0) (aS A' - aS A0) (cF ad) := by
  unfold J10_newLength at hf
  obtain ⟨hck0, hf⟩ := ck_s hf
  refine c_of hck0 RJ10 plJ10_newLength rfl (Nat.le_of_ble_eq_true rfl) ?_
  intro p e s m args below meth c E hb hr hlk hnm hml hS ls hl
  have hl : lv_has ls 4 [(0, .int x0), (1, .int x1), (2, .int x2)] := hl
  have hcs : aN A0 + 0 ≤ aN A0 ∧ aS A0 + 0 ≤ aS A0 := ⟨Nat.le_refl _, Nat.le_refl _⟩
  have hB21 : ∀ (A : AH), J10_newLength_b21 x0 x1 x2 A = some (r, A') → ∀ (H : Heap) (locs : List Loc) (cells slots : Nat), aN A0 + cells ≤ aN A ∧ aS A0 + slots ≤ aS A →  cS dC dI ac ad b s.heap (aN A0) (aS A0) (aN A') (aS A') A H locs → ∀ (ls : Array Slot), lv_has ls 4 [(0, .int x0), (1, .int x1), (2, .int x2)] → W p l e { frames := 5, cells := aN A' - aN A0, slots := aS A' - aS A0, locals := 103 } s m args below meth c H locs cells slots (MQ below (cQi dC dI ac ad b (aN A0) (aS A0) (aN A') (aS A') r A') args s (aN A' - aN A0) (aS A' - aS A0) (cF ad)) (F0 m 21 ls []) := by
    intro A hf H locs cells slots hcs hS ls hl
    unfold J10_newLength_b21 at hf
    refine lv_iload_n E.1 hb dJ10_newLength_21 rfl (lv_at hl 0 rfl) ?_
    refine lv_iload_n E.1 hb dJ10_newLength_22 rfl (lv_at hl 1 rfl) ?_
    obtain ⟨r2, A3, h1, hge, hup, hf⟩ := bda_s hf
    refine c_ki hS (va_runS ⟨E.1, hb, hml, E.2.1, E.2.2.1⟩ (zJ10_hugeLength h1) (va_cwS 2 E.2.2.1 gw_J10_201 rfl rfl rfl gnJ10_hugeLength ⟨Nat.le_of_ble_eq_true rfl, Nat.le_of_ble_eq_true rfl⟩) (c_preS E hS _) rfl rfl hl.1 rfl (lv_room (Nat.le_of_ble_eq_true rfl)) dJ10_newLength_23 (rm_a hcs hge hup)) hup (fun H locs hS hn => ?_)
    have hcs := rm_a2 hcs hge
    exact c_ir E hb hr hlk hS (rm_e ⟨Nat.le_trans hcs.1 hS.2.2.2.2.1, Nat.le_trans hcs.2 hS.2.2.2.2.2⟩) hf dJ10_newLength_26
  refine lv_iload_n E.1 hb dJ10_newLength_0 rfl (lv_at hl 0 rfl) ?_
  refine lv_iload_n E.1 hb dJ10_newLength_1 rfl (lv_at hl 1 rfl) ?_
  refine lv_iload_n E.1 hb dJ10_newLength_2 rfl (lv_at hl 2 rfl) ?_
  obtain ⟨r1, h1, hf⟩ := bo_s hf
  refine c_ki hS (va_runS ⟨E.1, hb, hml, E.2.1, E.2.2.1⟩ (zJ12_max h1) (va_cwS 2 E.2.2.1 gw_J10_194 rfl rfl rfl gnJ12_max ⟨Nat.le_of_ble_eq_true rfl, Nat.le_of_ble_eq_true rfl⟩) (c_preS E hS _) rfl rfl hl.1 rfl (lv_room (Nat.le_of_ble_eq_true rfl)) dJ10_newLength_3 (rm_n hcs hS.2.2.2.2)) hS.2.2.2.2 (fun H locs hS hn => ?_)
  have hcs := rm_n2 hcs hn
  refine lv_iadd E.1 hb dJ10_newLength_6 ?_
  refine lv_istore_n (lv' := [(3, .int (x0 + r1)), (0, .int x0), (1, .int x1), (2, .int x2)]) E.1 hb dJ10_newLength_7 rfl hl (by decide) rfl (fun ls hl => ?_)
  refine lv_iconst (v := 0) E.1 hb dJ10_newLength_8 rfl ?_
  refine lv_iload_n E.1 hb dJ10_newLength_9 rfl (lv_at hl 0 rfl) ?_
  refine lv_icmp_ge (tgt := 21) E.1 hb dJ10_newLength_10 (by decide) (fun hc => ?_) (fun hc => ?_)
  · have hf := it_s hc hf
    exact hB21 A0 hf _ _ _ _ hcs hS _ (lv_sub hl [1, 2, 3] rfl)
  · have hf := if_s hc hf
    refine lv_iload_n E.1 hb dJ10_newLength_13 rfl (lv_at hl 0 rfl) ?_
    refine lv_ldc E.1 hb E.2.1 (E.2.2.1 _ q908) dJ10_newLength_14 ?_
    refine lv_icmp_gt (tgt := 21) E.1 hb dJ10_newLength_16 (by decide) (fun hc => ?_) (fun hc => ?_)
    · have hf := it_s hc hf
      exact hB21 A0 hf _ _ _ _ hcs hS _ (lv_sub hl [1, 2, 3] rfl)
    · have hf := if_s hc hf
      refine lv_iload_n E.1 hb dJ10_newLength_19 rfl (lv_at hl 0 rfl) ?_
      exact c_ir E hb hr hlk hS (rm_e ⟨Nat.le_trans hcs.1 hS.2.2.2.2.1, Nat.le_trans hcs.2 hS.2.2.2.2.2⟩) hf dJ10_newLength_20
/-! jdk/internal/util/Preconditions.checkIndex(IILjava/util/function/BiFunction;)I: P -/
noncomputable def J8_checkIndex (x0 : Int32) (x1 : Int32) : Option Int32 :=
  if x0 < 0 then (none) else (if x0 < x1 then (some x0) else (none))
abbrev rJ8_checkIndex : Room := { frames := 0, cells := 0, slots := 0, locals := 0 }
set_option maxHeartbeats 4000000 in
theorem zJ8_checkIndex {l : Launch} {dC : Nat → ClassId} {dI : Nat → Nat → Nat} {ac : Nat → ClassId} {ad : Nat → Nat} {b : Prop} {A : AH} {x0 : Int32} {x1 : Int32} {x2 : Value} (hux2 : x2.category = 1) {r : Int32} (hf : J8_checkIndex x0 x1 = some r) : Met l yJ8_checkIndex (ws_ yJ8_checkIndex cJ8_checkIndex 3 (some .int)) { frames := 0, cells := 0, slots := 0, locals := 0 } (va_Pc [.int x0, .int x1, x2] (cPre dC dI ac ad b A)) (cQi dC dI ac ad b (aN A) (aS A) (aN A) (aS A) r A) 0 0 (cF ad) := by
  unfold J8_checkIndex at hf
  have hsl9 : (lg_sl [.int x0, .int x1, x2]).length ≤ 3 := by
    cases x2 <;> first | (cases hux2; done) | exact Nat.le_of_ble_eq_true rfl
  refine c_of ⟨Nat.le_refl _, Nat.le_refl _⟩ RJ8 plJ8_checkIndex rfl hsl9 ?_
  intro p e s m args below meth c E hb hr hlk hnm hml hS ls hl
  have hl : lv_has ls 3 [(0, .int x0), (1, .int x1), (2, x2)] := hl
  refine lv_iload_n E.1 hb dJ8_checkIndex_0 rfl (lv_at hl 0 rfl) ?_
  refine lv_if_lt (tgt := 9) E.1 hb dJ8_checkIndex_1 (by decide) (fun hc => ?_) (fun hc => ?_)
  · have hf := it_s hc hf
    cases hf
  · have hf := if_s hc hf
    refine lv_iload_n E.1 hb dJ8_checkIndex_4 rfl (lv_at hl 0 rfl) ?_
    refine lv_iload_n E.1 hb dJ8_checkIndex_5 rfl (lv_at hl 1 rfl) ?_
    refine lv_icmp_lt (tgt := 16) E.1 hb dJ8_checkIndex_6 (by decide) (fun hc => ?_) (fun hc => ?_)
    · have hf := it_s hc hf
      refine lv_iload_n E.1 hb dJ8_checkIndex_16 rfl (lv_at hl 0 rfl) ?_
      exact c_ir E hb hr hlk hS ⟨Nat.le_refl 0, Nat.le_refl 0⟩ (ro_s hf) dJ8_checkIndex_17
    · have hf := if_s hc hf
      cases hf
theorem gw_J11_105 : GoodIn lw_all (va_wsS RJ11 105 yJ8_checkIndex (ws_ yJ8_checkIndex cJ8_checkIndex 3 (some .int))) := lw_S q817 q818 q167 q819
theorem gnJ8_checkIndex : yJ8_checkIndex.cls ≠ "java/lang/invoke/MethodHandle" ∧ yJ8_checkIndex.cls ≠ "java/lang/invoke/VarHandle" ∧ (parseMethodDescriptor yJ8_checkIndex.desc).map (fun d => d.parameters.length) = some 3 := by decide +kernel
/-! java/util/Objects.checkIndex(II)I: P -/
noncomputable def J11_checkIndex (x0 : Int32) (x1 : Int32) : Option Int32 :=
  bo (J8_checkIndex x0 x1) fun r1 => some r1
abbrev rJ11_checkIndex : Room := { frames := 1, cells := 0, slots := 0, locals := 22 }
set_option maxHeartbeats 4000000 in
theorem zJ11_checkIndex {l : Launch} {dC : Nat → ClassId} {dI : Nat → Nat → Nat} {ac : Nat → ClassId} {ad : Nat → Nat} {b : Prop} {A : AH} {x0 : Int32} {x1 : Int32} {r : Int32} (hf : J11_checkIndex x0 x1 = some r) : Met l yJ11_checkIndex (ws_ yJ11_checkIndex cJ11_checkIndex 2 (some .int)) { frames := 1, cells := 0, slots := 0, locals := 22 } (va_Pc [.int x0, .int x1] (cPre dC dI ac ad b A)) (cQi dC dI ac ad b (aN A) (aS A) (aN A) (aS A) r A) 0 0 (cF ad) := by
  unfold J11_checkIndex at hf
  refine c_of ⟨Nat.le_refl _, Nat.le_refl _⟩ RJ11 plJ11_checkIndex rfl (Nat.le_of_ble_eq_true rfl) ?_
  intro p e s m args below meth c E hb hr hlk hnm hml hS ls hl
  have hl : lv_has ls 2 [(0, .int x0), (1, .int x1)] := hl
  refine lv_iload_n E.1 hb dJ11_checkIndex_0 rfl (lv_at hl 0 rfl) ?_
  refine lv_iload_n E.1 hb dJ11_checkIndex_1 rfl (lv_at hl 1 rfl) ?_
  refine lv_null E.1 hb dJ11_checkIndex_2 ?_
  obtain ⟨r1, h1, hf⟩ := bo_s hf
  refine c_ki hS (va_runS ⟨E.1, hb, hml, E.2.1, E.2.2.1⟩ (zJ8_checkIndex rfl h1) (va_cwS 3 E.2.2.1 gw_J11_105 rfl rfl rfl gnJ8_checkIndex ⟨Nat.le_of_ble_eq_true rfl, Nat.le_of_ble_eq_true rfl⟩) (c_preS E hS _) rfl rfl hl.1 rfl (lv_room (Nat.le_of_ble_eq_true rfl)) dJ11_checkIndex_3 ⟨Nat.le_refl 0, Nat.le_refl 0⟩) hS.2.2.2.2 (fun H locs hS hn => ?_)
  exact c_ir E hb hr hlk hS ⟨Nat.le_refl 0, Nat.le_refl 0⟩ (ro_s hf) dJ11_checkIndex_6
/-! java/lang/Math.min(II)I: P -/
noncomputable def J12_min (x0 : Int32) (x1 : Int32) : Option Int32 :=
  if x1 < x0 then (some x1) else (some x0)
abbrev rJ12_min : Room := { frames := 0, cells := 0, slots := 0, locals := 0 }
set_option maxHeartbeats 4000000 in
theorem zJ12_min {l : Launch} {dC : Nat → ClassId} {dI : Nat → Nat → Nat} {ac : Nat → ClassId} {ad : Nat → Nat} {b : Prop} {A : AH} {x0 : Int32} {x1 : Int32} {r : Int32} (hf : J12_min x0 x1 = some r) : Met l yJ12_min (ws_ yJ12_min cJ12_min 2 (some .int)) { frames := 0, cells := 0, slots := 0, locals := 0 } (va_Pc [.int x0, .int x1] (cPre dC dI ac ad b A)) (cQi dC dI ac ad b (aN A) (aS A) (aN A) (aS A) r A) 0 0 (cF ad) := by
  unfold J12_min at hf
  refine c_of ⟨Nat.le_refl _, Nat.le_refl _⟩ RJ12 plJ12_min rfl (Nat.le_of_ble_eq_true rfl) ?_
  intro p e s m args below meth c E hb hr hlk hnm hml hS ls hl
  have hl : lv_has ls 2 [(0, .int x0), (1, .int x1)] := hl
  refine lv_iload_n E.1 hb dJ12_min_0 rfl (lv_at hl 0 rfl) ?_
  refine lv_iload_n E.1 hb dJ12_min_1 rfl (lv_at hl 1 rfl) ?_
  refine lv_icmp_gt (tgt := 9) E.1 hb dJ12_min_2 (by decide) (fun hc => ?_) (fun hc => ?_)
  · have hf := it_s hc hf
    refine lv_iload_n E.1 hb dJ12_min_9 rfl (lv_at hl 1 rfl) ?_
    exact c_ir E hb hr hlk hS ⟨Nat.le_refl 0, Nat.le_refl 0⟩ (ro_s hf) dJ12_min_10
  · have hf := if_s hc hf
    refine lv_iload_n E.1 hb dJ12_min_5 rfl (lv_at hl 0 rfl) ?_
    refine lv_goto (tgt := 10) E.1 hb dJ12_min_6 (by decide) ?_
    exact c_ir E hb hr hlk hS ⟨Nat.le_refl 0, Nat.le_refl 0⟩ (ro_s hf) dJ12_min_10
/-! java/lang/Math.min(JJ)J: P -/
noncomputable def J12_min_2 (x0 : Int64) (x2 : Int64) : Option Int64 :=
  if x2 < x0 then (some x2) else (some x0)
abbrev rJ12_min_2 : Room := { frames := 0, cells := 0, slots := 0, locals := 0 }
set_option maxHeartbeats 4000000 in
theorem zJ12_min_2 {l : Launch} {dC : Nat → ClassId} {dI : Nat → Nat → Nat} {ac : Nat → ClassId} {ad : Nat → Nat} {b : Prop} {A : AH} {x0 : Int64} {x2 : Int64} {r : Int64} (hf : J12_min_2 x0 x2 = some r) : Met l yJ12_min_2 (ws_ yJ12_min_2 cJ12_min_2 4 (some .long)) { frames := 0, cells := 0, slots := 0, locals := 0 } (va_Pc [.long x0, .long x2] (cPre dC dI ac ad b A)) (cQl dC dI ac ad b (aN A) (aS A) (aN A) (aS A) r A) 0 0 (cF ad) := by
  unfold J12_min_2 at hf
  refine c_of ⟨Nat.le_refl _, Nat.le_refl _⟩ RJ12 plJ12_min_2 rfl (Nat.le_of_ble_eq_true rfl) ?_
  intro p e s m args below meth c E hb hr hlk hnm hml hS ls hl
  have hl : lv_has ls 4 [(0, .long x0), (2, .long x2)] := hl
  refine lv_lload_n E.1 hb dJ12_min_2_0 rfl (lv_at hl 0 rfl) ?_
  refine lv_lload_n E.1 hb dJ12_min_2_1 rfl (lv_at hl 1 rfl) ?_
  refine lv_lc_gt (tgt := 10) E.1 hb dJ12_min_2_2 dJ12_min_2_3 (by decide) (fun hc => ?_) (fun hc => ?_)
  · have hf := it_s hc hf
    refine lv_lload_n E.1 hb dJ12_min_2_10 rfl (lv_at hl 1 rfl) ?_
    exact c_lr E hb hr hlk hS ⟨Nat.le_refl 0, Nat.le_refl 0⟩ (ro_s hf) dJ12_min_2_11
  · have hf := if_s hc hf
    refine lv_lload_n E.1 hb dJ12_min_2_6 rfl (lv_at hl 0 rfl) ?_
    refine lv_goto (tgt := 11) E.1 hb dJ12_min_2_7 (by decide) ?_
    exact c_lr E hb hr hlk hS ⟨Nat.le_refl 0, Nat.le_refl 0⟩ (ro_s hf) dJ12_min_2_11
/-! java/lang/Math.max(JJ)J: P -/
noncomputable def J12_max_2 (x0 : Int64) (x2 : Int64) : Option Int64 :=
  if x0 < x2 then (some x2) else (some x0)
abbrev rJ12_max_2 : Room := { frames := 0, cells := 0, slots := 0, locals := 0 }
set_option maxHeartbeats 4000000 in
theorem zJ12_max_2 {l : Launch} {dC : Nat → ClassId} {dI : Nat → Nat → Nat} {ac : Nat → ClassId} {ad : Nat → Nat} {b : Prop} {A : AH} {x0 : Int64} {x2 : Int64} {r : Int64} (hf : J12_max_2 x0 x2 = some r) : Met l yJ12_max_2 (ws_ yJ12_max_2 cJ12_max_2 4 (some .long)) { frames := 0, cells := 0, slots := 0, locals := 0 } (va_Pc [.long x0, .long x2] (cPre dC dI ac ad b A)) (cQl dC dI ac ad b (aN A) (aS A) (aN A) (aS A) r A) 0 0 (cF ad) := by
  unfold J12_max_2 at hf
  refine c_of ⟨Nat.le_refl _, Nat.le_refl _⟩ RJ12 plJ12_max_2 rfl (Nat.le_of_ble_eq_true rfl) ?_
  intro p e s m args below meth c E hb hr hlk hnm hml hS ls hl
  have hl : lv_has ls 4 [(0, .long x0), (2, .long x2)] := hl
  refine lv_lload_n E.1 hb dJ12_max_2_0 rfl (lv_at hl 0 rfl) ?_
  refine lv_lload_n E.1 hb dJ12_max_2_1 rfl (lv_at hl 1 rfl) ?_
  refine lv_lc_lt (tgt := 10) E.1 hb dJ12_max_2_2 dJ12_max_2_3 (by decide) (fun hc => ?_) (fun hc => ?_)
  · have hf := it_s hc hf
    refine lv_lload_n E.1 hb dJ12_max_2_10 rfl (lv_at hl 1 rfl) ?_
    exact c_lr E hb hr hlk hS ⟨Nat.le_refl 0, Nat.le_refl 0⟩ (ro_s hf) dJ12_max_2_11
  · have hf := if_s hc hf
    refine lv_lload_n E.1 hb dJ12_max_2_6 rfl (lv_at hl 0 rfl) ?_
    refine lv_goto (tgt := 11) E.1 hb dJ12_max_2_7 (by decide) ?_
    exact c_lr E hb hr hlk hS ⟨Nat.le_refl 0, Nat.le_refl 0⟩ (ro_s hf) dJ12_max_2_11
/-! java/lang/Math.abs(I)I: P -/
noncomputable def J12_abs (x0 : Int32) : Option Int32 :=
  if 0 ≤ x0 then (some x0) else (some (-x0))
abbrev rJ12_abs : Room := { frames := 0, cells := 0, slots := 0, locals := 0 }
set_option maxHeartbeats 4000000 in
theorem zJ12_abs {l : Launch} {dC : Nat → ClassId} {dI : Nat → Nat → Nat} {ac : Nat → ClassId} {ad : Nat → Nat} {b : Prop} {A : AH} {x0 : Int32} {r : Int32} (hf : J12_abs x0 = some r) : Met l yJ12_abs (ws_ yJ12_abs cJ12_abs 1 (some .int)) { frames := 0, cells := 0, slots := 0, locals := 0 } (va_Pc [.int x0] (cPre dC dI ac ad b A)) (cQi dC dI ac ad b (aN A) (aS A) (aN A) (aS A) r A) 0 0 (cF ad) := by
  unfold J12_abs at hf
  refine c_of ⟨Nat.le_refl _, Nat.le_refl _⟩ RJ12 plJ12_abs rfl (Nat.le_of_ble_eq_true rfl) ?_
  intro p e s m args below meth c E hb hr hlk hnm hml hS ls hl
  have hl : lv_has ls 1 [(0, .int x0)] := hl
  refine lv_iload_n E.1 hb dJ12_abs_0 rfl (lv_at hl 0 rfl) ?_
  refine lv_if_ge (tgt := 9) E.1 hb dJ12_abs_1 (by decide) (fun hc => ?_) (fun hc => ?_)
  · have hf := it_s hc hf
    refine lv_iload_n E.1 hb dJ12_abs_9 rfl (lv_at hl 0 rfl) ?_
    exact c_ir E hb hr hlk hS ⟨Nat.le_refl 0, Nat.le_refl 0⟩ (ro_s hf) dJ12_abs_10
  · have hf := if_s hc hf
    refine lv_iload_n E.1 hb dJ12_abs_4 rfl (lv_at hl 0 rfl) ?_
    refine lv_ineg E.1 hb dJ12_abs_5 ?_
    refine lv_goto (tgt := 10) E.1 hb dJ12_abs_6 (by decide) ?_
    exact c_ir E hb hr hlk hS ⟨Nat.le_refl 0, Nat.le_refl 0⟩ (ro_s hf) dJ12_abs_10
/-! java/lang/Math.floorDiv(JJ)J: P -/
noncomputable def J12_floorDiv (x0 : Int64) (x2 : Int64) : Option Int64 :=
  if ¬ x2 = 0 then (if 0 ≤ (x0 ^^^ x2) then (some (x0 / x2)) else (if ((x0 / x2) * x2) = x0 then (some (x0 / x2)) else (some ((x0 / x2) - 1)))) else none
abbrev rJ12_floorDiv : Room := { frames := 0, cells := 0, slots := 0, locals := 0 }
set_option maxHeartbeats 4000000 in
theorem zJ12_floorDiv {l : Launch} {dC : Nat → ClassId} {dI : Nat → Nat → Nat} {ac : Nat → ClassId} {ad : Nat → Nat} {b : Prop} {A : AH} {x0 : Int64} {x2 : Int64} {r : Int64} (hf : J12_floorDiv x0 x2 = some r) : Met l yJ12_floorDiv (ws_ yJ12_floorDiv cJ12_floorDiv 6 (some .long)) { frames := 0, cells := 0, slots := 0, locals := 0 } (va_Pc [.long x0, .long x2] (cPre dC dI ac ad b A)) (cQl dC dI ac ad b (aN A) (aS A) (aN A) (aS A) r A) 0 0 (cF ad) := by
  unfold J12_floorDiv at hf
  refine c_of ⟨Nat.le_refl _, Nat.le_refl _⟩ RJ12 plJ12_floorDiv rfl (Nat.le_of_ble_eq_true rfl) ?_
  intro p e s m args below meth c E hb hr hlk hnm hml hS ls hl
  have hl : lv_has ls 6 [(0, .long x0), (2, .long x2)] := hl
  refine lv_lload_n E.1 hb dJ12_floorDiv_0 rfl (lv_at hl 0 rfl) ?_
  refine lv_lload_n E.1 hb dJ12_floorDiv_1 rfl (lv_at hl 1 rfl) ?_
  obtain ⟨hg, hf⟩ := gu_s hf
  refine lv_ldiv E.1 hb dJ12_floorDiv_2 hg ?_
  refine lv_lstore (lv' := [(4, .long (x0 / x2)), (0, .long x0), (2, .long x2)]) E.1 hb dJ12_floorDiv_3 hl (by decide) rfl (fun ls hl => ?_)
  refine lv_lload_n E.1 hb dJ12_floorDiv_5 rfl (lv_at hl 1 rfl) ?_
  refine lv_lload_n E.1 hb dJ12_floorDiv_6 rfl (lv_at hl 2 rfl) ?_
  refine lv_lxor E.1 hb dJ12_floorDiv_7 ?_
  refine lv_lconst (v := 0) E.1 hb dJ12_floorDiv_8 rfl ?_
  refine lv_lc_ge (tgt := 27) E.1 hb dJ12_floorDiv_9 dJ12_floorDiv_10 (by decide) (fun hc => ?_) (fun hc => ?_)
  · have hf := it_s hc hf
    refine lv_lload E.1 hb dJ12_floorDiv_27 (lv_at hl 0 rfl) ?_
    exact c_lr E hb hr hlk hS ⟨Nat.le_refl 0, Nat.le_refl 0⟩ (ro_s hf) dJ12_floorDiv_29
  · have hf := if_s hc hf
    refine lv_lload E.1 hb dJ12_floorDiv_13 (lv_at hl 0 rfl) ?_
    refine lv_lload_n E.1 hb dJ12_floorDiv_15 rfl (lv_at hl 2 rfl) ?_
    refine lv_lmul E.1 hb dJ12_floorDiv_16 ?_
    refine lv_lload_n E.1 hb dJ12_floorDiv_17 rfl (lv_at hl 1 rfl) ?_
    refine lv_lc_eq (tgt := 27) E.1 hb dJ12_floorDiv_18 dJ12_floorDiv_19 (by decide) (fun hc => ?_) (fun hc => ?_)
    · have hf := it_s hc hf
      refine lv_lload E.1 hb dJ12_floorDiv_27 (lv_at hl 0 rfl) ?_
      exact c_lr E hb hr hlk hS ⟨Nat.le_refl 0, Nat.le_refl 0⟩ (ro_s hf) dJ12_floorDiv_29
    · have hf := if_s hc hf
      refine lv_lload E.1 hb dJ12_floorDiv_22 (lv_at hl 0 rfl) ?_
      refine lv_lconst (v := 1) E.1 hb dJ12_floorDiv_24 rfl ?_
      refine lv_lsub E.1 hb dJ12_floorDiv_25 ?_
      exact c_lr E hb hr hlk hS ⟨Nat.le_refl 0, Nat.le_refl 0⟩ (ro_s hf) dJ12_floorDiv_26
/-! java/lang/Math.floorMod(JJ)J: P -/
noncomputable def J12_floorMod (x0 : Int64) (x2 : Int64) : Option Int64 :=
  if ¬ x2 = 0 then (if 0 ≤ (x0 ^^^ x2) then (some (x0 - x0 / x2 * x2)) else (if (x0 - x0 / x2 * x2) = 0 then (some (x0 - x0 / x2 * x2)) else (some ((x0 - x0 / x2 * x2) + x2)))) else none
abbrev rJ12_floorMod : Room := { frames := 0, cells := 0, slots := 0, locals := 0 }
set_option maxHeartbeats 4000000 in
theorem zJ12_floorMod {l : Launch} {dC : Nat → ClassId} {dI : Nat → Nat → Nat} {ac : Nat → ClassId} {ad : Nat → Nat} {b : Prop} {A : AH} {x0 : Int64} {x2 : Int64} {r : Int64} (hf : J12_floorMod x0 x2 = some r) : Met l yJ12_floorMod (ws_ yJ12_floorMod cJ12_floorMod 6 (some .long)) { frames := 0, cells := 0, slots := 0, locals := 0 } (va_Pc [.long x0, .long x2] (cPre dC dI ac ad b A)) (cQl dC dI ac ad b (aN A) (aS A) (aN A) (aS A) r A) 0 0 (cF ad) := by
  unfold J12_floorMod at hf
  refine c_of ⟨Nat.le_refl _, Nat.le_refl _⟩ RJ12 plJ12_floorMod rfl (Nat.le_of_ble_eq_true rfl) ?_
  intro p e s m args below meth c E hb hr hlk hnm hml hS ls hl
  have hl : lv_has ls 6 [(0, .long x0), (2, .long x2)] := hl
  refine lv_lload_n E.1 hb dJ12_floorMod_0 rfl (lv_at hl 0 rfl) ?_
  refine lv_lload_n E.1 hb dJ12_floorMod_1 rfl (lv_at hl 1 rfl) ?_
  obtain ⟨hg, hf⟩ := gu_s hf
  refine lv_lrem E.1 hb dJ12_floorMod_2 hg ?_
  refine lv_lstore (lv' := [(4, .long (x0 - x0 / x2 * x2)), (0, .long x0), (2, .long x2)]) E.1 hb dJ12_floorMod_3 hl (by decide) rfl (fun ls hl => ?_)
  refine lv_lload_n E.1 hb dJ12_floorMod_5 rfl (lv_at hl 1 rfl) ?_
  refine lv_lload_n E.1 hb dJ12_floorMod_6 rfl (lv_at hl 2 rfl) ?_
  refine lv_lxor E.1 hb dJ12_floorMod_7 ?_
  refine lv_lconst (v := 0) E.1 hb dJ12_floorMod_8 rfl ?_
  refine lv_lc_ge (tgt := 25) E.1 hb dJ12_floorMod_9 dJ12_floorMod_10 (by decide) (fun hc => ?_) (fun hc => ?_)
  · have hf := it_s hc hf
    refine lv_lload E.1 hb dJ12_floorMod_25 (lv_at hl 0 rfl) ?_
    exact c_lr E hb hr hlk hS ⟨Nat.le_refl 0, Nat.le_refl 0⟩ (ro_s hf) dJ12_floorMod_27
  · have hf := if_s hc hf
    refine lv_lload E.1 hb dJ12_floorMod_13 (lv_at hl 0 rfl) ?_
    refine lv_lconst (v := 0) E.1 hb dJ12_floorMod_15 rfl ?_
    refine lv_lc_eq (tgt := 25) E.1 hb dJ12_floorMod_16 dJ12_floorMod_17 (by decide) (fun hc => ?_) (fun hc => ?_)
    · have hf := it_s hc hf
      refine lv_lload E.1 hb dJ12_floorMod_25 (lv_at hl 0 rfl) ?_
      exact c_lr E hb hr hlk hS ⟨Nat.le_refl 0, Nat.le_refl 0⟩ (ro_s hf) dJ12_floorMod_27
    · have hf := if_s hc hf
      refine lv_lload E.1 hb dJ12_floorMod_20 (lv_at hl 0 rfl) ?_
      refine lv_lload_n E.1 hb dJ12_floorMod_22 rfl (lv_at hl 2 rfl) ?_
      refine lv_ladd E.1 hb dJ12_floorMod_23 ?_
      exact c_lr E hb hr hlk hS ⟨Nat.le_refl 0, Nat.le_refl 0⟩ (ro_s hf) dJ12_floorMod_24
/-! java/lang/Math.abs(J)J: P -/
noncomputable def J12_abs_2 (x0 : Int64) : Option Int64 :=
  if 0 ≤ x0 then (some x0) else (some (-x0))
abbrev rJ12_abs_2 : Room := { frames := 0, cells := 0, slots := 0, locals := 0 }
set_option maxHeartbeats 4000000 in
theorem zJ12_abs_2 {l : Launch} {dC : Nat → ClassId} {dI : Nat → Nat → Nat} {ac : Nat → ClassId} {ad : Nat → Nat} {b : Prop} {A : AH} {x0 : Int64} {r : Int64} (hf : J12_abs_2 x0 = some r) : Met l yJ12_abs_2 (ws_ yJ12_abs_2 cJ12_abs_2 2 (some .long)) { frames := 0, cells := 0, slots := 0, locals := 0 } (va_Pc [.long x0] (cPre dC dI ac ad b A)) (cQl dC dI ac ad b (aN A) (aS A) (aN A) (aS A) r A) 0 0 (cF ad) := by
  unfold J12_abs_2 at hf
  refine c_of ⟨Nat.le_refl _, Nat.le_refl _⟩ RJ12 plJ12_abs_2 rfl (Nat.le_of_ble_eq_true rfl) ?_
  intro p e s m args below meth c E hb hr hlk hnm hml hS ls hl
  have hl : lv_has ls 2 [(0, .long x0)] := hl
  refine lv_lload_n E.1 hb dJ12_abs_2_0 rfl (lv_at hl 0 rfl) ?_
  refine lv_lconst (v := 0) E.1 hb dJ12_abs_2_1 rfl ?_
  refine lv_lc_ge (tgt := 11) E.1 hb dJ12_abs_2_2 dJ12_abs_2_3 (by decide) (fun hc => ?_) (fun hc => ?_)
  · have hf := it_s hc hf
    refine lv_lload_n E.1 hb dJ12_abs_2_11 rfl (lv_at hl 0 rfl) ?_
    exact c_lr E hb hr hlk hS ⟨Nat.le_refl 0, Nat.le_refl 0⟩ (ro_s hf) dJ12_abs_2_12
  · have hf := if_s hc hf
    refine lv_lload_n E.1 hb dJ12_abs_2_6 rfl (lv_at hl 0 rfl) ?_
    refine lv_lneg E.1 hb dJ12_abs_2_7 ?_
    refine lv_goto (tgt := 12) E.1 hb dJ12_abs_2_8 (by decide) ?_
    exact c_lr E hb hr hlk hS ⟨Nat.le_refl 0, Nat.le_refl 0⟩ (ro_s hf) dJ12_abs_2_12
theorem gw_J13_304 : GoodIn lw_all (va_wsS RJ13 304 yJ12_min (ws_ yJ12_min cJ12_min 2 (some .int))) := lw_S q946 q947 q172 q948
theorem gnJ12_min : yJ12_min.cls ≠ "java/lang/invoke/MethodHandle" ∧ yJ12_min.cls ≠ "java/lang/invoke/VarHandle" ∧ (parseMethodDescriptor yJ12_min.desc).map (fun d => d.parameters.length) = some 2 := by decide +kernel
/-! java/util/Arrays.copyOf([Ljava/lang/Object;ILjava/lang/Class;)[Ljava/lang/Object;: RW -/
noncomputable def J13_copyOf_2_b24 (x0 : Nat) (x1 : Int32) (x2 : Nat) (A : AH) (y0 : Nat) : Option (Option Nat × AH) :=
  bo (aLn 39 A x0) fun v2 => bo (J12_min v2 x1) fun r3 => bo (cpO_ A x0 0 y0 0 r3) fun A4 => some ((some y0), A4)
noncomputable def J13_copyOf_2 (A0 : AH) (x0 : Nat) (x1 : Int32) (x2 : Nat) : Option (Option Nat × AH) :=
  ck A0 (if x2 = (CB + 93) then ( bo (nwA A0 39 x1) fun A1 => ck A1 ( J13_copyOf_2_b24 x0 x1 x2 A1 (aN A0))) else none)
set_option maxHeartbeats 4000000 in
theorem zJ13_copyOf_2 {l : Launch} {dC : Nat → ClassId} {dI : Nat → Nat → Nat} {ac : Nat → ClassId} {ad : Nat → Nat} {b : Prop} {A0 : AH} {x0 : Nat} {x1 : Int32} {x2 : Nat} {r : Option Nat} {A' : AH} (hf : J13_copyOf_2 A0 x0 x1 x2 = some (r, A')) : Met l yJ13_copyOf_2 (ws_ yJ13_copyOf_2 cJ13_copyOf_2 4 (some (.array (.object "java/lang/Object")))) { frames := 1, cells := aN A' - aN A0, slots := aS A' - aS A0, locals := 40 } (va_Pc [.ref (ad x0), .int x1, .ref (ad x2)] (cPre dC dI ac ad b A0)) (cQq dC dI ac ad b (aN A0) (aS A0) (aN A') (aS A') r A') (aN A' - aN A0) (aS A' - aS A0) (cF ad) := by
  unfold J13_copyOf_2 at hf
  obtain ⟨hck0, hf⟩ := ck_s hf
  refine c_of hck0 RJ13 plJ13_copyOf_2 rfl (Nat.le_of_ble_eq_true rfl) ?_
  intro p e s m args below meth c E hb hr hlk hnm hml hS ls hl
  have hl : lv_has ls 4 [(0, .ref (ad x0)), (1, .int x1), (2, .ref (ad x2))] := hl
  have hcs : aN A0 + 0 ≤ aN A0 ∧ aS A0 + 0 ≤ aS A0 := ⟨Nat.le_refl _, Nat.le_refl _⟩
  have hB24 : ∀ (A : AH) (y0 : Nat), J13_copyOf_2_b24 x0 x1 x2 A y0 = some (r, A') → ∀ (H : Heap) (locs : List Loc) (cells slots : Nat), aN A0 + cells ≤ aN A ∧ aS A0 + slots ≤ aS A →  cS dC dI ac ad b s.heap (aN A0) (aS A0) (aN A') (aS A') A H locs → ∀ (ls : Array Slot), lv_has ls 4 [(0, .ref (ad x0)), (1, .int x1), (2, .ref (ad x2))] → W p l e { frames := 1, cells := aN A' - aN A0, slots := aS A' - aS A0, locals := 40 } s m args below meth c H locs cells slots (MQ below (cQq dC dI ac ad b (aN A0) (aS A0) (aN A') (aS A') r A') args s (aN A' - aN A0) (aS A' - aS A0) (cF ad)) (F0 m 24 ls [.ref (ad y0)]) := by
    intro A y0 hf H locs cells slots hcs hS ls hl
    unfold J13_copyOf_2_b24 at hf
    refine lv_astore_n (lv' := [(3, .ref (ad y0)), (0, .ref (ad x0)), (1, .int x1), (2, .ref (ad x2))]) E.1 hb dJ13_copyOf_2_24 rfl hl (by decide) rfl (fun ls hl => ?_)
    refine lv_aload_n E.1 hb dJ13_copyOf_2_25 rfl (lv_at hl 1 rfl) ?_
    refine lv_iconst (v := 0) E.1 hb dJ13_copyOf_2_26 rfl ?_
    refine lv_aload_n E.1 hb dJ13_copyOf_2_27 rfl (lv_at hl 0 rfl) ?_
    refine lv_iconst (v := 0) E.1 hb dJ13_copyOf_2_28 rfl ?_
    refine lv_aload_n E.1 hb dJ13_copyOf_2_29 rfl (lv_at hl 1 rfl) ?_
    obtain ⟨hk, hf⟩ := aLn_s hf
    refine c_aln E hb hS hk (hS.1.lt hk rfl) (by decide) dJ13_copyOf_2_30 ?_
    refine lv_iload_n E.1 hb dJ13_copyOf_2_31 rfl (lv_at hl 2 rfl) ?_
    obtain ⟨r3, h1, hf⟩ := bo_s hf
    refine c_ki hS (va_runS ⟨E.1, hb, hml, E.2.1, E.2.2.1⟩ (zJ12_min h1) (va_cwS 2 E.2.2.1 gw_J13_304 rfl rfl rfl gnJ12_min ⟨Nat.le_of_ble_eq_true rfl, Nat.le_of_ble_eq_true rfl⟩) (c_preS E hS _) rfl rfl hl.1 rfl (lv_room (Nat.le_of_ble_eq_true rfl)) dJ13_copyOf_2_32 (rm_n hcs hS.2.2.2.2)) hS.2.2.2.2 (fun H locs hS hn => ?_)
    have hcs := rm_n2 hcs hn
    obtain ⟨A4, hg, hw, hf⟩ := cpO_s hf
    refine c_cpO E hb (by rw [hml]; exact hl.1.symm) hS q949 q951 q950 q174 hg hw (Nat.le_of_ble_eq_true rfl) (Nat.le_of_ble_eq_true rfl) dJ13_copyOf_2_35 (fun H locs hS => ?_)
    have hcs := rm_w (A2 := A4) hcs (by rw [hw]; exact ⟨rfl, rfl⟩)
    refine lv_aload_n E.1 hb dJ13_copyOf_2_38 rfl (lv_at hl 0 rfl) ?_
    exact c_ar E hb hr (Or.inr ⟨_, rfl⟩) hlk hS (rm_e ⟨Nat.le_trans hcs.1 hS.2.2.2.2.1, Nat.le_trans hcs.2 hS.2.2.2.2.2⟩) (v := (some y0)) hf dJ13_copyOf_2_39
  refine lv_aload_n E.1 hb dJ13_copyOf_2_0 rfl (lv_at hl 2 rfl) ?_
  refine c_ldcM E hb q944 dJ13_copyOf_2_1 ?_
  obtain ⟨hg, hf⟩ := gu_s hf
  refine c_acmpM (tgt := 13) E hb hg dJ13_copyOf_2_3 (by decide) ?_
  refine lv_iload_n E.1 hb dJ13_copyOf_2_6 rfl (lv_at hl 1 rfl) ?_
  obtain ⟨A1, hn9, hw, hf⟩ := nwA_s hf
  obtain ⟨hck, hf⟩ := ck_s hf
  refine c_anew E hb hS hcs (Or.inl ⟨rfl, rfl⟩) q945 hn9 hw hck (rm_up _ _ _ _) dJ13_copyOf_2_7 (fun H cells slots hS hcs => ?_)
  refine lv_goto (tgt := 24) E.1 hb dJ13_copyOf_2_10 (by decide) ?_
  exact hB24 A1 (aN A0) hf _ _ _ _ hcs hS _ (lv_sub hl [0, 1, 2] rfl)
theorem gw_J13_300 : GoodIn lw_all (va_wsS RJ13 300 yJ13_copyOf_2 (ws_ yJ13_copyOf_2 cJ13_copyOf_2 4 (some (.array (.object "java/lang/Object"))))) := lw_S q941 q942 q173 q943
theorem gnJ13_copyOf_2 : yJ13_copyOf_2.cls ≠ "java/lang/invoke/MethodHandle" ∧ yJ13_copyOf_2.cls ≠ "java/lang/invoke/VarHandle" ∧ (parseMethodDescriptor yJ13_copyOf_2.desc).map (fun d => d.parameters.length) = some 3 := by decide +kernel
/-! java/util/Arrays.copyOf([Ljava/lang/Object;I)[Ljava/lang/Object;: RW -/
noncomputable def J13_copyOf (A0 : AH) (x0 : Nat) (x1 : Int32) : Option (Option Nat × AH) :=
  ck A0 (if aK A0 x0 = 39 then ( bda A0 (J13_copyOf_2 A0 x0 x1 (CB + 93)) fun r1 A2 => bo r1 fun q3 => some ((some q3), A2)) else none)
set_option maxHeartbeats 4000000 in
theorem zJ13_copyOf {l : Launch} {dC : Nat → ClassId} {dI : Nat → Nat → Nat} {ac : Nat → ClassId} {ad : Nat → Nat} {b : Prop} {A0 : AH} {x0 : Nat} {x1 : Int32} {r : Option Nat} {A' : AH} (hf : J13_copyOf A0 x0 x1 = some (r, A')) : Met l yJ13_copyOf (ws_ yJ13_copyOf cJ13_copyOf 2 (some (.array (.object "java/lang/Object")))) { frames := 2, cells := aN A' - aN A0, slots := aS A' - aS A0, locals := 63 } (va_Pc [.ref (ad x0), .int x1] (cPre dC dI ac ad b A0)) (cQq dC dI ac ad b (aN A0) (aS A0) (aN A') (aS A') r A') (aN A' - aN A0) (aS A' - aS A0) (cF ad) := by
  unfold J13_copyOf at hf
  obtain ⟨hck0, hf⟩ := ck_s hf
  refine c_of hck0 RJ13 plJ13_copyOf rfl (Nat.le_of_ble_eq_true rfl) ?_
  intro p e s m args below meth c E hb hr hlk hnm hml hS ls hl
  have hl : lv_has ls 2 [(0, .ref (ad x0)), (1, .int x1)] := hl
  have hcs : aN A0 + 0 ≤ aN A0 ∧ aS A0 + 0 ≤ aS A0 := ⟨Nat.le_refl _, Nat.le_refl _⟩
  refine lv_aload_n E.1 hb dJ13_copyOf_0 rfl (lv_at hl 0 rfl) ?_
  refine lv_iload_n E.1 hb dJ13_copyOf_1 rfl (lv_at hl 1 rfl) ?_
  refine lv_aload_n E.1 hb dJ13_copyOf_2 rfl (lv_at hl 0 rfl) ?_
  obtain ⟨hg, hf⟩ := gu_s hf
  refine c_getC E hb (by rw [hml]; exact hl.1.symm) hS hg q915 q2570 q916 q940 (Nat.le_of_ble_eq_true rfl) (Nat.le_of_ble_eq_true rfl) dJ13_copyOf_3 ?_
  obtain ⟨r1, A2, h1, hge, hup, hf⟩ := bda_s hf
  refine c_kq hS (va_runS ⟨E.1, hb, hml, E.2.1, E.2.2.1⟩ (zJ13_copyOf_2 h1) (va_cwS 3 E.2.2.1 gw_J13_300 rfl rfl rfl gnJ13_copyOf_2 ⟨Nat.le_of_ble_eq_true rfl, Nat.le_of_ble_eq_true rfl⟩) (c_preS E hS _) rfl rfl hl.1 rfl (lv_room (Nat.le_of_ble_eq_true rfl)) dJ13_copyOf_6 (rm_a hcs hge hup)) hup (fun H locs hS hn => ?_)
  have hcs := rm_a2 hcs hge
  obtain ⟨q3, hr9, hf⟩ := bo_s hf
  refine c_dr hr9 ?_
  exact c_ar E hb hr (Or.inr ⟨_, rfl⟩) hlk hS (rm_e ⟨Nat.le_trans hcs.1 hS.2.2.2.2.1, Nat.le_trans hcs.2 hS.2.2.2.2.2⟩) (v := (some q3)) hf dJ13_copyOf_9
/-! java/util/Arrays.copyOf([BI)[B: RW -/
noncomputable def J13_copyOf_3 (A0 : AH) (x0 : Nat) (x1 : Int32) : Option (Option Nat × AH) :=
  ck A0 (bo (aLn 33 A0 x0) fun v1 => if x1 = v1 then (none) else (bo (nwA A0 33 x1) fun A2 => ck A2 ( bo (aLn 33 A2 x0) fun v3 => bo (J12_min v3 x1) fun r4 => bo (cpB_ A2 x0 0 (aN A0) 0 r4) fun A5 => some ((some (aN A0)), A5))))
set_option maxHeartbeats 4000000 in
theorem zJ13_copyOf_3 {l : Launch} {dC : Nat → ClassId} {dI : Nat → Nat → Nat} {ac : Nat → ClassId} {ad : Nat → Nat} {b : Prop} {A0 : AH} {x0 : Nat} {x1 : Int32} {r : Option Nat} {A' : AH} (hf : J13_copyOf_3 A0 x0 x1 = some (r, A')) : Met l yJ13_copyOf_3 (ws_ yJ13_copyOf_3 cJ13_copyOf_3 3 (some (.array .byte))) { frames := 1, cells := aN A' - aN A0, slots := aS A' - aS A0, locals := 40 } (va_Pc [.ref (ad x0), .int x1] (cPre dC dI ac ad b A0)) (cQq dC dI ac ad b (aN A0) (aS A0) (aN A') (aS A') r A') (aN A' - aN A0) (aS A' - aS A0) (cF ad) := by
  unfold J13_copyOf_3 at hf
  obtain ⟨hck0, hf⟩ := ck_s hf
  refine c_of hck0 RJ13 plJ13_copyOf_3 rfl (Nat.le_of_ble_eq_true rfl) ?_
  intro p e s m args below meth c E hb hr hlk hnm hml hS ls hl
  have hl : lv_has ls 3 [(0, .ref (ad x0)), (1, .int x1)] := hl
  have hcs : aN A0 + 0 ≤ aN A0 ∧ aS A0 + 0 ≤ aS A0 := ⟨Nat.le_refl _, Nat.le_refl _⟩
  refine lv_iload_n E.1 hb dJ13_copyOf_3_0 rfl (lv_at hl 1 rfl) ?_
  refine lv_aload_n E.1 hb dJ13_copyOf_3_1 rfl (lv_at hl 0 rfl) ?_
  obtain ⟨hk, hf⟩ := aLn_s hf
  refine c_bln E hb hS hk (Or.inl rfl) dJ13_copyOf_3_2 ?_
  refine lv_icmp_ne (tgt := 14) E.1 hb dJ13_copyOf_3_3 (by decide) (fun hc => ?_) (fun hc => ?_)
  · have hf := if_s hc hf
    refine lv_iload_n E.1 hb dJ13_copyOf_3_14 rfl (lv_at hl 1 rfl) ?_
    obtain ⟨A2, hn9, hw, hf⟩ := nwA_s hf
    obtain ⟨hck, hf⟩ := ck_s hf
    refine c_newa (atype := .byte) E hb hS hcs (Or.inr (Or.inr (Or.inl ⟨rfl, rfl⟩))) q377 hn9 hw hck (rm_up _ _ _ _) dJ13_copyOf_3_15 (fun H cells slots hS hcs => ?_)
    refine lv_astore_n (lv' := [(2, .ref (ad (aN A0))), (0, .ref (ad x0)), (1, .int x1)]) E.1 hb dJ13_copyOf_3_17 rfl hl (by decide) rfl (fun ls hl => ?_)
    refine lv_aload_n E.1 hb dJ13_copyOf_3_18 rfl (lv_at hl 1 rfl) ?_
    refine lv_iconst (v := 0) E.1 hb dJ13_copyOf_3_19 rfl ?_
    refine lv_aload_n E.1 hb dJ13_copyOf_3_20 rfl (lv_at hl 0 rfl) ?_
    refine lv_iconst (v := 0) E.1 hb dJ13_copyOf_3_21 rfl ?_
    refine lv_aload_n E.1 hb dJ13_copyOf_3_22 rfl (lv_at hl 1 rfl) ?_
    obtain ⟨hk, hf⟩ := aLn_s hf
    refine c_bln E hb hS hk (Or.inl rfl) dJ13_copyOf_3_23 ?_
    refine lv_iload_n E.1 hb dJ13_copyOf_3_24 rfl (lv_at hl 2 rfl) ?_
    obtain ⟨r4, h1, hf⟩ := bo_s hf
    refine c_ki hS (va_runS ⟨E.1, hb, hml, E.2.1, E.2.2.1⟩ (zJ12_min h1) (va_cwS 2 E.2.2.1 gw_J13_304 rfl rfl rfl gnJ12_min ⟨Nat.le_of_ble_eq_true rfl, Nat.le_of_ble_eq_true rfl⟩) (c_preS E hS _) rfl rfl hl.1 rfl (lv_room (Nat.le_of_ble_eq_true rfl)) dJ13_copyOf_3_25 (rm_n hcs hS.2.2.2.2)) hS.2.2.2.2 (fun H locs hS hn => ?_)
    have hcs := rm_n2 hcs hn
    obtain ⟨A5, hg, hw, hf⟩ := cpB_s hf
    refine c_cpB E hb (by rw [hml]; exact hl.1.symm) hS q949 q951 q950 q174 hg hw (Nat.le_of_ble_eq_true rfl) (Nat.le_of_ble_eq_true rfl) dJ13_copyOf_3_28 (fun H locs hS => ?_)
    have hcs := rm_w (A2 := A5) hcs (by rw [hw]; exact ⟨rfl, rfl⟩)
    refine lv_aload_n E.1 hb dJ13_copyOf_3_31 rfl (lv_at hl 0 rfl) ?_
    exact c_ar E hb hr (Or.inr ⟨_, rfl⟩) hlk hS (rm_e ⟨Nat.le_trans hcs.1 hS.2.2.2.2.1, Nat.le_trans hcs.2 hS.2.2.2.2.2⟩) (v := (some (aN A0))) hf dJ13_copyOf_3_32
  · have hf := it_s hc hf
    cases hf
theorem gw_J14_114 : GoodIn lw_all (va_wsS RJ14 114 yJ10_newLength (ws_ yJ10_newLength cJ10_newLength 4 (some .int))) := lw_S q1109 q903 q169 q904
theorem gnJ10_newLength : yJ10_newLength.cls ≠ "java/lang/invoke/MethodHandle" ∧ yJ10_newLength.cls ≠ "java/lang/invoke/VarHandle" ∧ (parseMethodDescriptor yJ10_newLength.desc).map (fun d => d.parameters.length) = some 3 := by decide +kernel
/-! java/lang/AbstractStringBuilder.newCapacity(I)I: RW -/
noncomputable def J14_newCapacity (A0 : AH) (x0 : Nat) (x1 : Int32) : Option (Int32 × AH) :=
  ck A0 (bo (gN 20 A0 2000 x0) fun q1 => bo (aLn 33 A0 q1) fun v2 => bo (gI 20 A0 2001 x0) fun v3 => bo (gI 20 A0 2001 x0) fun v4 => bda A0 (J10_newLength A0 v2 ((x1 <<< (v3 &&& 31)) - v2) (v2 + (2 <<< (v4 &&& 31)))) fun r5 A6 => if r5 = 2147483647 then (none) else (bo (gI 20 A6 2001 x0) fun v7 => some ((r5 >>> (v7 &&& 31)), A6)))
set_option maxHeartbeats 4000000 in
theorem zJ14_newCapacity {l : Launch} {dC : Nat → ClassId} {dI : Nat → Nat → Nat} {ac : Nat → ClassId} {ad : Nat → Nat} {b : Prop} {A0 : AH} {x0 : Nat} {x1 : Int32} {r : Int32} {A' : AH} (hf : J14_newCapacity A0 x0 x1 = some (r, A')) : Met l yJ14_newCapacity (ws_ yJ14_newCapacity cJ14_newCapacity 6 (some .int)) { frames := 6, cells := aN A' - aN A0, slots := aS A' - aS A0, locals := 126 } (va_Pc [.ref (ad x0), .int x1] (cPre dC dI ac ad b A0)) (cQi dC dI ac ad b (aN A0) (aS A0) (aN A') (aS A') r A') (aN A' - aN A0) (aS A' - aS A0) (cF ad) := by
  unfold J14_newCapacity at hf
  obtain ⟨hck0, hf⟩ := ck_s hf
  refine c_of hck0 RJ14 plJ14_newCapacity rfl (Nat.le_of_ble_eq_true rfl) ?_
  intro p e s m args below meth c E hb hr hlk hnm hml hS ls hl
  have hl : lv_has ls 6 [(0, .ref (ad x0)), (1, .int x1)] := hl
  have hcs : aN A0 + 0 ≤ aN A0 ∧ aS A0 + 0 ≤ aS A0 := ⟨Nat.le_refl _, Nat.le_refl _⟩
  refine lv_aload_n E.1 hb dJ14_newCapacity_0 rfl (lv_at hl 0 rfl) ?_
  obtain ⟨q1, hk, hf⟩ := gN_s hf
  refine c_gN (k := 0) (f := 2000) E hb hS ci_20 hk.1 rfl rfl rfl hk.2 fk_J14_15_J15 (fun _ h => h) dJ14_newCapacity_1 ?_
  obtain ⟨hk, hf⟩ := aLn_s hf
  refine c_bln E hb hS hk (Or.inl rfl) dJ14_newCapacity_4 ?_
  refine lv_istore_n (lv' := [(2, .int (Int32.ofNat (aL A0 q1))), (0, .ref (ad x0)), (1, .int x1)]) E.1 hb dJ14_newCapacity_5 rfl hl (by decide) rfl (fun ls hl => ?_)
  refine lv_iload_n E.1 hb dJ14_newCapacity_6 rfl (lv_at hl 2 rfl) ?_
  refine lv_aload_n E.1 hb dJ14_newCapacity_7 rfl (lv_at hl 1 rfl) ?_
  obtain ⟨hk, hf⟩ := gI_s hf
  refine c_gI (k := 1) (f := 2001) E hb hS ci_20 hk rfl rfl rfl fk_J14_22_J15 (fun _ h => h) dJ14_newCapacity_8 ?_
  refine lv_ishl E.1 hb dJ14_newCapacity_11 ?_
  refine lv_istore_n (lv' := [(3, .int (x1 <<< ((aI A0 2001 x0 0) &&& 31))), (2, .int (Int32.ofNat (aL A0 q1))), (0, .ref (ad x0)), (1, .int x1)]) E.1 hb dJ14_newCapacity_12 rfl hl (by decide) rfl (fun ls hl => ?_)
  refine lv_iload_n E.1 hb dJ14_newCapacity_13 rfl (lv_at hl 0 rfl) ?_
  refine lv_iload_n E.1 hb dJ14_newCapacity_14 rfl (lv_at hl 1 rfl) ?_
  refine lv_isub E.1 hb dJ14_newCapacity_15 ?_
  refine lv_istore (lv' := [(4, .int ((x1 <<< ((aI A0 2001 x0 0) &&& 31)) - (Int32.ofNat (aL A0 q1)))), (3, .int (x1 <<< ((aI A0 2001 x0 0) &&& 31))), (2, .int (Int32.ofNat (aL A0 q1))), (0, .ref (ad x0)), (1, .int x1)]) E.1 hb dJ14_newCapacity_16 hl (by decide) rfl (fun ls hl => ?_)
  refine lv_iload_n E.1 hb dJ14_newCapacity_18 rfl (lv_at hl 2 rfl) ?_
  refine lv_iload E.1 hb dJ14_newCapacity_19 (lv_at hl 0 rfl) ?_
  refine lv_iload_n E.1 hb dJ14_newCapacity_21 rfl (lv_at hl 2 rfl) ?_
  refine lv_iconst (v := 2) E.1 hb dJ14_newCapacity_22 rfl ?_
  refine lv_aload_n E.1 hb dJ14_newCapacity_23 rfl (lv_at hl 3 rfl) ?_
  obtain ⟨hk, hf⟩ := gI_s hf
  refine c_gI (k := 1) (f := 2001) E hb hS ci_20 hk rfl rfl rfl fk_J14_22_J15 (fun _ h => h) dJ14_newCapacity_24 ?_
  refine lv_ishl E.1 hb dJ14_newCapacity_27 ?_
  refine lv_iadd E.1 hb dJ14_newCapacity_28 ?_
  obtain ⟨r5, A6, h1, hge, hup, hf⟩ := bda_s hf
  refine c_ki hS (va_runS ⟨E.1, hb, hml, E.2.1, E.2.2.1⟩ (zJ10_newLength h1) (va_cwS 3 E.2.2.1 gw_J14_114 rfl rfl rfl gnJ10_newLength ⟨Nat.le_of_ble_eq_true rfl, Nat.le_of_ble_eq_true rfl⟩) (c_preS E hS _) rfl rfl hl.1 rfl (lv_room (Nat.le_of_ble_eq_true rfl)) dJ14_newCapacity_29 (rm_a hcs hge hup)) hup (fun H locs hS hn => ?_)
  have hcs := rm_a2 hcs hge
  refine lv_istore (lv' := [(5, .int r5), (4, .int ((x1 <<< ((aI A0 2001 x0 0) &&& 31)) - (Int32.ofNat (aL A0 q1)))), (3, .int (x1 <<< ((aI A0 2001 x0 0) &&& 31))), (2, .int (Int32.ofNat (aL A0 q1))), (0, .ref (ad x0)), (1, .int x1)]) E.1 hb dJ14_newCapacity_32 hl (by decide) rfl (fun ls hl => ?_)
  refine lv_iload E.1 hb dJ14_newCapacity_34 (lv_at hl 0 rfl) ?_
  refine lv_ldc E.1 hb E.2.1 (E.2.2.1 _ q1110) dJ14_newCapacity_36 ?_
  refine lv_icmp_ne (tgt := 51) E.1 hb dJ14_newCapacity_38 (by decide) (fun hc => ?_) (fun hc => ?_)
  · have hf := if_s hc hf
    refine lv_iload E.1 hb dJ14_newCapacity_51 (lv_at hl 0 rfl) ?_
    refine lv_aload_n E.1 hb dJ14_newCapacity_53 rfl (lv_at hl 4 rfl) ?_
    obtain ⟨hk, hf⟩ := gI_s hf
    refine c_gI (k := 1) (f := 2001) E hb hS ci_20 hk rfl rfl rfl fk_J14_22_J15 (fun _ h => h) dJ14_newCapacity_54 ?_
    refine lv_ishr E.1 hb dJ14_newCapacity_57 ?_
    exact c_ir E hb hr hlk hS (rm_e ⟨Nat.le_trans hcs.1 hS.2.2.2.2.1, Nat.le_trans hcs.2 hS.2.2.2.2.2⟩) hf dJ14_newCapacity_58
  · have hf := it_s hc hf
    cases hf
theorem gnJ14_newCapacity : yJ14_newCapacity.cls ≠ "java/lang/invoke/MethodHandle" ∧ yJ14_newCapacity.cls ≠ "java/lang/invoke/VarHandle" ∧ (parseMethodDescriptor yJ14_newCapacity.desc).map (fun d => d.parameters.length) = some 1 := by decide +kernel
theorem gw_J14_108 : GoodIn lw_all (va_wsS RJ14 108 yJ13_copyOf_3 (ws_ yJ13_copyOf_3 cJ13_copyOf_3 3 (some (.array .byte)))) := lw_S q1111 q1112 q173 q1113
theorem gnJ13_copyOf_3 : yJ13_copyOf_3.cls ≠ "java/lang/invoke/MethodHandle" ∧ yJ13_copyOf_3.cls ≠ "java/lang/invoke/VarHandle" ∧ (parseMethodDescriptor yJ13_copyOf_3.desc).map (fun d => d.parameters.length) = some 2 := by decide +kernel
/-! java/lang/AbstractStringBuilder.ensureCapacityInternal(I)V: RW -/
noncomputable def J14_ensureCapacityInternal (A0 : AH) (x0 : Nat) (x1 : Int32) : Option (Unit × AH) :=
  ck A0 (bo (gN 20 A0 2000 x0) fun q1 => bo (aLn 33 A0 q1) fun v2 => bo (gI 20 A0 2001 x0) fun v3 => if (x1 - (v2 >>> (v3 &&& 31))) ≤ 0 then (some ((), A0)) else (bo (gN 20 A0 2000 x0) fun q4 => if aK A0 x0 = 20 then ( bda A0 (J14_newCapacity A0 x0 x1) fun r5 A6 => bo (gI 20 A6 2001 x0) fun v7 => bda A6 (J13_copyOf_3 A6 q4 (r5 <<< (v7 &&& 31))) fun r8 A9 => bo r8 fun q10 => bo (pR 20 A9 2000 x0 (some q10)) fun A11 => some ((), A11)) else none))
set_option maxHeartbeats 4000000 in
theorem zJ14_ensureCapacityInternal {l : Launch} {dC : Nat → ClassId} {dI : Nat → Nat → Nat} {ac : Nat → ClassId} {ad : Nat → Nat} {b : Prop} {A0 : AH} {x0 : Nat} {x1 : Int32} {A' : AH} (hf : J14_ensureCapacityInternal A0 x0 x1 = some ((), A')) : Met l yJ14_ensureCapacityInternal (ws_ yJ14_ensureCapacityInternal cJ14_ensureCapacityInternal 3 none) { frames := 7, cells := aN A' - aN A0, slots := aS A' - aS A0, locals := 151 } (va_Pc [.ref (ad x0), .int x1] (cPre dC dI ac ad b A0)) (cQv dC dI ac ad b (aN A0) (aS A0) (aN A') (aS A') A') (aN A' - aN A0) (aS A' - aS A0) (cF ad) := by
  unfold J14_ensureCapacityInternal at hf
  obtain ⟨hck0, hf⟩ := ck_s hf
  refine c_of hck0 RJ14 plJ14_ensureCapacityInternal rfl (Nat.le_of_ble_eq_true rfl) ?_
  intro p e s m args below meth c E hb hr hlk hnm hml hS ls hl
  have hl : lv_has ls 3 [(0, .ref (ad x0)), (1, .int x1)] := hl
  have hcs : aN A0 + 0 ≤ aN A0 ∧ aS A0 + 0 ≤ aS A0 := ⟨Nat.le_refl _, Nat.le_refl _⟩
  refine lv_aload_n E.1 hb dJ14_ensureCapacityInternal_0 rfl (lv_at hl 0 rfl) ?_
  obtain ⟨q1, hk, hf⟩ := gN_s hf
  refine c_gN (k := 0) (f := 2000) E hb hS ci_20 hk.1 rfl rfl rfl hk.2 fk_J14_15_J15 (fun _ h => h) dJ14_ensureCapacityInternal_1 ?_
  obtain ⟨hk, hf⟩ := aLn_s hf
  refine c_bln E hb hS hk (Or.inl rfl) dJ14_ensureCapacityInternal_4 ?_
  refine lv_aload_n E.1 hb dJ14_ensureCapacityInternal_5 rfl (lv_at hl 0 rfl) ?_
  obtain ⟨hk, hf⟩ := gI_s hf
  refine c_gI (k := 1) (f := 2001) E hb hS ci_20 hk rfl rfl rfl fk_J14_22_J15 (fun _ h => h) dJ14_ensureCapacityInternal_6 ?_
  refine lv_ishr E.1 hb dJ14_ensureCapacityInternal_9 ?_
  refine lv_istore_n (lv' := [(2, .int ((Int32.ofNat (aL A0 q1)) >>> ((aI A0 2001 x0 0) &&& 31))), (0, .ref (ad x0)), (1, .int x1)]) E.1 hb dJ14_ensureCapacityInternal_10 rfl hl (by decide) rfl (fun ls hl => ?_)
  refine lv_iload_n E.1 hb dJ14_ensureCapacityInternal_11 rfl (lv_at hl 2 rfl) ?_
  refine lv_iload_n E.1 hb dJ14_ensureCapacityInternal_12 rfl (lv_at hl 0 rfl) ?_
  refine lv_isub E.1 hb dJ14_ensureCapacityInternal_13 ?_
  refine lv_if_le (tgt := 38) E.1 hb dJ14_ensureCapacityInternal_14 (by decide) (fun hc => ?_) (fun hc => ?_)
  · have hf := it_s hc hf
    exact c_vr E hb hr hlk hS (rm_e ⟨Nat.le_trans hcs.1 hS.2.2.2.2.1, Nat.le_trans hcs.2 hS.2.2.2.2.2⟩) hf dJ14_ensureCapacityInternal_38
  · have hf := if_s hc hf
    refine lv_aload_n E.1 hb dJ14_ensureCapacityInternal_17 rfl (lv_at hl 1 rfl) ?_
    refine lv_aload_n E.1 hb dJ14_ensureCapacityInternal_18 rfl (lv_at hl 1 rfl) ?_
    obtain ⟨q4, hk, hf⟩ := gN_s hf
    refine c_gN (k := 0) (f := 2000) E hb hS ci_20 hk.1 rfl rfl rfl hk.2 fk_J14_15_J15 (fun _ h => h) dJ14_ensureCapacityInternal_19 ?_
    refine lv_aload_n E.1 hb dJ14_ensureCapacityInternal_22 rfl (lv_at hl 1 rfl) ?_
    refine lv_iload_n E.1 hb dJ14_ensureCapacityInternal_23 rfl (lv_at hl 2 rfl) ?_
    obtain ⟨hkr, hf⟩ := gu_s hf
    obtain ⟨r5, A6, h1, hge, hup, hf⟩ := bda_s hf
    refine c_ki hS (va_runU ⟨E.1, hb, hml, E.2.1, E.2.2.1⟩ (zJ14_newCapacity h1) (c_cwP E 1 (List.mem_cons_of_mem _ List.mem_cons_self) q1105 q2533 q1107 q177 q1108 rfl rfl gnJ14_newCapacity ⟨Nat.le_of_ble_eq_true rfl, Nat.le_of_ble_eq_true rfl⟩) (c_preV E hS ci_20 hkr (hS.1.lt hkr rfl) _) rfl rfl hl.1 rfl (lv_room (Nat.le_of_ble_eq_true rfl)) dJ14_ensureCapacityInternal_24 (rm_a hcs hge hup)) hup (fun H locs hS hn => ?_)
    have hcs := rm_a2 hcs hge
    refine lv_aload_n E.1 hb dJ14_ensureCapacityInternal_27 rfl (lv_at hl 1 rfl) ?_
    obtain ⟨hk, hf⟩ := gI_s hf
    refine c_gI (k := 1) (f := 2001) E hb hS ci_20 hk rfl rfl rfl fk_J14_22_J15 (fun _ h => h) dJ14_ensureCapacityInternal_28 ?_
    refine lv_ishl E.1 hb dJ14_ensureCapacityInternal_31 ?_
    obtain ⟨r8, A9, h1, hge, hup, hf⟩ := bda_s hf
    refine c_kq hS (va_runS ⟨E.1, hb, hml, E.2.1, E.2.2.1⟩ (zJ13_copyOf_3 h1) (va_cwS 2 E.2.2.1 gw_J14_108 rfl rfl rfl gnJ13_copyOf_3 ⟨Nat.le_of_ble_eq_true rfl, Nat.le_of_ble_eq_true rfl⟩) (c_preS E hS _) rfl rfl hl.1 rfl (lv_room (Nat.le_of_ble_eq_true rfl)) dJ14_ensureCapacityInternal_32 (rm_a hcs hge hup)) hup (fun H locs hS hn => ?_)
    have hcs := rm_a2 hcs hge
    obtain ⟨q10, hr9, hf⟩ := bo_s hf
    refine c_dr hr9 ?_
    obtain ⟨A11, hk, hw, hf⟩ := pR_s hf
    refine c_pR (k := 0) (f := 2000) (r := (some q10)) E hb hS ci_20 hk (hS.1.lt hk rfl) rfl rfl (fun _ => rfl) (Or.inl rfl) fk_J14_15_J15 (fun _ h => h) (fun q => by cases q <;> exact ⟨rfl, rfl⟩) hw dJ14_ensureCapacityInternal_35 (fun H locs hS => ?_)
    have hcs := rm_w (A2 := A11) hcs (by rw [hw]; exact ⟨rfl, rfl⟩)
    exact c_vr E hb hr hlk hS (rm_e ⟨Nat.le_trans hcs.1 hS.2.2.2.2.1, Nat.le_trans hcs.2 hS.2.2.2.2.2⟩) hf dJ14_ensureCapacityInternal_38
/-! java/lang/AbstractStringBuilder.isLatin1()Z: RO -/
noncomputable def J14_isLatin1 (A : AH) (x0 : Nat) : Option Int32 :=
  bo (gI 20 A 2001 x0) fun v1 => if v1 = 0 then (some 1) else (some 0)
abbrev rJ14_isLatin1 : Room := { frames := 0, cells := 0, slots := 0, locals := 0 }
set_option maxHeartbeats 4000000 in
theorem zJ14_isLatin1 {l : Launch} {dC : Nat → ClassId} {dI : Nat → Nat → Nat} {ac : Nat → ClassId} {ad : Nat → Nat} {b : Prop} {A : AH} {x0 : Nat} {r : Int32} (hf : J14_isLatin1 A x0 = some r) : Met l yJ14_isLatin1 (ws_ yJ14_isLatin1 cJ14_isLatin1 1 (some .boolean)) { frames := 0, cells := 0, slots := 0, locals := 0 } (va_Pc [.ref (ad x0)] (cPre dC dI ac ad b A)) (cQi dC dI ac ad b (aN A) (aS A) (aN A) (aS A) r A) 0 0 (cF ad) := by
  unfold J14_isLatin1 at hf
  refine c_of ⟨Nat.le_refl _, Nat.le_refl _⟩ RJ14 plJ14_isLatin1 rfl (Nat.le_of_ble_eq_true rfl) ?_
  intro p e s m args below meth c E hb hr hlk hnm hml hS ls hl
  have hl : lv_has ls 1 [(0, .ref (ad x0))] := hl
  refine c_gst E hb hS 0 rfl (Or.inl q990) rfl dJ14_isLatin1_0 ?_
  refine lv_if_eq (tgt := 17) E.1 hb dJ14_isLatin1_3 (by decide) (fun hc => ?_) (fun hc => ?_)
  · exact absurd hc (by decide)
  · refine lv_aload_n E.1 hb dJ14_isLatin1_6 rfl (lv_at hl 0 rfl) ?_
    obtain ⟨hk, hf⟩ := gI_s hf
    refine c_gI (k := 1) (f := 2001) E hb hS ci_20 hk rfl rfl rfl fk_J14_22_J15 (fun _ h => h) dJ14_isLatin1_7 ?_
    refine lv_if_ne (tgt := 17) E.1 hb dJ14_isLatin1_10 (by decide) (fun hc => ?_) (fun hc => ?_)
    · have hf := if_s hc hf
      refine lv_iconst (v := 0) E.1 hb dJ14_isLatin1_17 rfl ?_
      exact c_zr (ty := .boolean) E hb hr hlk hS ⟨Nat.le_refl 0, Nat.le_refl 0⟩ rfl (ro_s hf) dJ14_isLatin1_18
    · have hf := it_s hc hf
      refine lv_iconst (v := 1) E.1 hb dJ14_isLatin1_13 rfl ?_
      refine lv_goto (tgt := 18) E.1 hb dJ14_isLatin1_14 (by decide) ?_
      exact c_zr (ty := .boolean) E hb hr hlk hS ⟨Nat.le_refl 0, Nat.le_refl 0⟩ rfl (ro_s hf) dJ14_isLatin1_18
/-! java/lang/StringLatin1.canEncode(C)Z: P -/
noncomputable def J9_canEncode (x0 : Int32) : Option Int32 :=
  if 255 < x0 then (some 0) else (some 1)
abbrev rJ9_canEncode : Room := { frames := 0, cells := 0, slots := 0, locals := 0 }
set_option maxHeartbeats 4000000 in
theorem zJ9_canEncode {l : Launch} {dC : Nat → ClassId} {dI : Nat → Nat → Nat} {ac : Nat → ClassId} {ad : Nat → Nat} {b : Prop} {A : AH} {x0 : Int32} {r : Int32} (hf : J9_canEncode x0 = some r) : Met l yJ9_canEncode (ws_ yJ9_canEncode cJ9_canEncode 1 (some .boolean)) { frames := 0, cells := 0, slots := 0, locals := 0 } (va_Pc [.int x0] (cPre dC dI ac ad b A)) (cQi dC dI ac ad b (aN A) (aS A) (aN A) (aS A) r A) 0 0 (cF ad) := by
  unfold J9_canEncode at hf
  refine c_of ⟨Nat.le_refl _, Nat.le_refl _⟩ RJ9 plJ9_canEncode rfl (Nat.le_of_ble_eq_true rfl) ?_
  intro p e s m args below meth c E hb hr hlk hnm hml hS ls hl
  have hl : lv_has ls 1 [(0, .int x0)] := hl
  refine lv_iload_n E.1 hb dJ9_canEncode_0 rfl (lv_at hl 0 rfl) ?_
  refine lv_sipush (v := 255) E.1 hb dJ9_canEncode_1 rfl ?_
  refine lv_icmp_gt (tgt := 11) E.1 hb dJ9_canEncode_4 (by decide) (fun hc => ?_) (fun hc => ?_)
  · have hf := it_s hc hf
    refine lv_iconst (v := 0) E.1 hb dJ9_canEncode_11 rfl ?_
    exact c_zr (ty := .boolean) E hb hr hlk hS ⟨Nat.le_refl 0, Nat.le_refl 0⟩ rfl (ro_s hf) dJ9_canEncode_12
  · have hf := if_s hc hf
    refine lv_iconst (v := 1) E.1 hb dJ9_canEncode_7 rfl ?_
    refine lv_goto (tgt := 12) E.1 hb dJ9_canEncode_8 (by decide) ?_
    exact c_zr (ty := .boolean) E hb hr hlk hS ⟨Nat.le_refl 0, Nat.le_refl 0⟩ rfl (ro_s hf) dJ9_canEncode_12
/-! java/lang/StringUTF16.length([B)I: RO -/
noncomputable def J7_length (A : AH) (x0 : Nat) : Option Int32 :=
  bo (aLn 33 A x0) fun v1 => some (v1 >>> (1 &&& 31))
abbrev rJ7_length : Room := { frames := 0, cells := 0, slots := 0, locals := 0 }
set_option maxHeartbeats 4000000 in
theorem zJ7_length {l : Launch} {dC : Nat → ClassId} {dI : Nat → Nat → Nat} {ac : Nat → ClassId} {ad : Nat → Nat} {b : Prop} {A : AH} {x0 : Nat} {r : Int32} (hf : J7_length A x0 = some r) : Met l yJ7_length (ws_ yJ7_length cJ7_length 1 (some .int)) { frames := 0, cells := 0, slots := 0, locals := 0 } (va_Pc [.ref (ad x0)] (cPre dC dI ac ad b A)) (cQi dC dI ac ad b (aN A) (aS A) (aN A) (aS A) r A) 0 0 (cF ad) := by
  unfold J7_length at hf
  refine c_of ⟨Nat.le_refl _, Nat.le_refl _⟩ RJ7 plJ7_length rfl (Nat.le_of_ble_eq_true rfl) ?_
  intro p e s m args below meth c E hb hr hlk hnm hml hS ls hl
  have hl : lv_has ls 1 [(0, .ref (ad x0))] := hl
  refine lv_aload_n E.1 hb dJ7_length_0 rfl (lv_at hl 0 rfl) ?_
  obtain ⟨hk, hf⟩ := aLn_s hf
  refine c_bln E hb hS hk (Or.inl rfl) dJ7_length_1 ?_
  refine lv_iconst (v := 1) E.1 hb dJ7_length_2 rfl ?_
  refine lv_ishr E.1 hb dJ7_length_3 ?_
  exact c_ir E hb hr hlk hS ⟨Nat.le_refl 0, Nat.le_refl 0⟩ (ro_s hf) dJ7_length_4
/-! jdk/internal/util/Preconditions.checkFromIndexSize(IIILjava/util/function/BiFunction;)I: P -/
noncomputable def J8_checkFromIndexSize (x0 : Int32) (x1 : Int32) (x2 : Int32) (x3 : Nat) : Option Int32 :=
  if ((x2 ||| x0) ||| x1) < 0 then (none) else (if x1 ≤ (x2 - x0) then (some x0) else (none))
abbrev rJ8_checkFromIndexSize : Room := { frames := 0, cells := 0, slots := 0, locals := 0 }
set_option maxHeartbeats 4000000 in
theorem zJ8_checkFromIndexSize {l : Launch} {dC : Nat → ClassId} {dI : Nat → Nat → Nat} {ac : Nat → ClassId} {ad : Nat → Nat} {b : Prop} {A : AH} {x0 : Int32} {x1 : Int32} {x2 : Int32} {x3 : Nat} {r : Int32} (hf : J8_checkFromIndexSize x0 x1 x2 x3 = some r) : Met l yJ8_checkFromIndexSize (ws_ yJ8_checkFromIndexSize cJ8_checkFromIndexSize 4 (some .int)) { frames := 0, cells := 0, slots := 0, locals := 0 } (va_Pc [.int x0, .int x1, .int x2, .ref (ad x3)] (cPre dC dI ac ad b A)) (cQi dC dI ac ad b (aN A) (aS A) (aN A) (aS A) r A) 0 0 (cF ad) := by
  unfold J8_checkFromIndexSize at hf
  refine c_of ⟨Nat.le_refl _, Nat.le_refl _⟩ RJ8 plJ8_checkFromIndexSize rfl (Nat.le_of_ble_eq_true rfl) ?_
  intro p e s m args below meth c E hb hr hlk hnm hml hS ls hl
  have hl : lv_has ls 4 [(0, .int x0), (1, .int x1), (2, .int x2), (3, .ref (ad x3))] := hl
  refine lv_iload_n E.1 hb dJ8_checkFromIndexSize_0 rfl (lv_at hl 2 rfl) ?_
  refine lv_iload_n E.1 hb dJ8_checkFromIndexSize_1 rfl (lv_at hl 0 rfl) ?_
  refine lv_ior E.1 hb dJ8_checkFromIndexSize_2 ?_
  refine lv_iload_n E.1 hb dJ8_checkFromIndexSize_3 rfl (lv_at hl 1 rfl) ?_
  refine lv_ior E.1 hb dJ8_checkFromIndexSize_4 ?_
  refine lv_if_lt (tgt := 15) E.1 hb dJ8_checkFromIndexSize_5 (by decide) (fun hc => ?_) (fun hc => ?_)
  · have hf := it_s hc hf
    cases hf
  · have hf := if_s hc hf
    refine lv_iload_n E.1 hb dJ8_checkFromIndexSize_8 rfl (lv_at hl 1 rfl) ?_
    refine lv_iload_n E.1 hb dJ8_checkFromIndexSize_9 rfl (lv_at hl 2 rfl) ?_
    refine lv_iload_n E.1 hb dJ8_checkFromIndexSize_10 rfl (lv_at hl 0 rfl) ?_
    refine lv_isub E.1 hb dJ8_checkFromIndexSize_11 ?_
    refine lv_icmp_le (tgt := 23) E.1 hb dJ8_checkFromIndexSize_12 (by decide) (fun hc => ?_) (fun hc => ?_)
    · have hf := it_s hc hf
      refine lv_iload_n E.1 hb dJ8_checkFromIndexSize_23 rfl (lv_at hl 0 rfl) ?_
      exact c_ir E hb hr hlk hS ⟨Nat.le_refl 0, Nat.le_refl 0⟩ (ro_s hf) dJ8_checkFromIndexSize_24
    · have hf := if_s hc hf
      cases hf
theorem gw_J14_83 : GoodIn lw_all (va_wsU RJ14 83 "java/lang/StringBuilder" RJ14 yJ14_isLatin1 yJ14_isLatin1 (ws_ yJ14_isLatin1 cJ14_isLatin1 1 (some .boolean))) := lw_U q1121 q1123 q1124 q1122 q177 q1125
theorem gnJ14_isLatin1 : yJ14_isLatin1.cls ≠ "java/lang/invoke/MethodHandle" ∧ yJ14_isLatin1.cls ≠ "java/lang/invoke/VarHandle" ∧ (parseMethodDescriptor yJ14_isLatin1.desc).map (fun d => d.parameters.length) = some 0 := by decide +kernel
/-! java/lang/AbstractStringBuilder.inflate()V: RW -/
noncomputable def J14_inflate (A0 : AH) (x0 : Nat) : Option (Unit × AH) :=
  ck A0 (if aK A0 x0 = 20 then ( bo (J14_isLatin1 A0 x0) fun r1 => if r1 = 0 then (some ((), A0)) else (none)) else none)
set_option maxHeartbeats 4000000 in
theorem zJ14_inflate {l : Launch} {dC : Nat → ClassId} {dI : Nat → Nat → Nat} {ac : Nat → ClassId} {ad : Nat → Nat} {b : Prop} {A0 : AH} {x0 : Nat} {A' : AH} (hf : J14_inflate A0 x0 = some ((), A')) : Met l yJ14_inflate (ws_ yJ14_inflate cJ14_inflate 2 none) { frames := 2, cells := aN A' - aN A0, slots := aS A' - aS A0, locals := 40 } (va_Pc [.ref (ad x0)] (cPre dC dI ac ad b A0)) (cQv dC dI ac ad b (aN A0) (aS A0) (aN A') (aS A') A') (aN A' - aN A0) (aS A' - aS A0) (cF ad) := by
  unfold J14_inflate at hf
  obtain ⟨hck0, hf⟩ := ck_s hf
  refine c_of hck0 RJ14 plJ14_inflate rfl (Nat.le_of_ble_eq_true rfl) ?_
  intro p e s m args below meth c E hb hr hlk hnm hml hS ls hl
  have hl : lv_has ls 2 [(0, .ref (ad x0))] := hl
  have hcs : aN A0 + 0 ≤ aN A0 ∧ aS A0 + 0 ≤ aS A0 := ⟨Nat.le_refl _, Nat.le_refl _⟩
  refine lv_aload_n E.1 hb dJ14_inflate_0 rfl (lv_at hl 0 rfl) ?_
  obtain ⟨hkr, hf⟩ := gu_s hf
  obtain ⟨r1, h1, hf⟩ := bo_s hf
  refine c_ki hS (va_runU ⟨E.1, hb, hml, E.2.1, E.2.2.1⟩ (zJ14_isLatin1 h1) (va_cwU 0 E.2.2.1 gw_J14_83 rfl rfl rfl rfl gnJ14_isLatin1 ⟨Nat.le_of_ble_eq_true rfl, Nat.le_of_ble_eq_true rfl⟩) (c_preV E hS ci_20 hkr (hS.1.lt hkr rfl) _) rfl rfl hl.1 rfl (lv_room (Nat.le_of_ble_eq_true rfl)) dJ14_inflate_1 (rm_n hcs hS.2.2.2.2)) hS.2.2.2.2 (fun H locs hS hn => ?_)
  have hcs := rm_n2 hcs hn
  refine lv_if_ne (tgt := 8) E.1 hb dJ14_inflate_4 (by decide) (fun hc => ?_) (fun hc => ?_)
  · have hf := if_s hc hf
    cases hf
  · have hf := it_s hc hf
    exact c_vr E hb hr hlk hS (rm_e ⟨Nat.le_trans hcs.1 hS.2.2.2.2.1, Nat.le_trans hcs.2 hS.2.2.2.2.2⟩) hf dJ14_inflate_7
theorem gw_J6_1059 : GoodIn lw_all (va_wsS RJ6 1059 yJ8_checkIndex (ws_ yJ8_checkIndex cJ8_checkIndex 3 (some .int))) := lw_S q1148 q818 q167 q819
/-! java/lang/String.checkIndex(II)V: RW -/
noncomputable def J6_checkIndex (A0 : AH) (x0 : Int32) (x1 : Int32) : Option (Unit × AH) :=
  bo (J8_checkIndex x0 x1) fun r2 => some ((), A0)
abbrev rJ6_checkIndex : Room := { frames := 1, cells := 0, slots := 0, locals := 22 }
set_option maxHeartbeats 4000000 in
theorem zJ6_checkIndex {l : Launch} {dC : Nat → ClassId} {dI : Nat → Nat → Nat} {ac : Nat → ClassId} {ad : Nat → Nat} {b : Prop} {A0 : AH} {x0 : Int32} {x1 : Int32} {A' : AH} (hf : J6_checkIndex A0 x0 x1 = some ((), A')) : Met l yJ6_checkIndex (ws_ yJ6_checkIndex cJ6_checkIndex 2 none) { frames := 1, cells := 0, slots := 0, locals := 22 } (va_Pc [.int x0, .int x1] (cPre dC dI ac ad b A0)) (cQv dC dI ac ad b (aN A0) (aS A0) (aN A0) (aS A0) A') 0 0 (cF ad) := by
  unfold J6_checkIndex at hf
  refine c_of ⟨Nat.le_refl _, Nat.le_refl _⟩ RJ6 plJ6_checkIndex rfl (Nat.le_of_ble_eq_true rfl) ?_
  intro p e s m args below meth c E hb hr hlk hnm hml hS ls hl
  have hl : lv_has ls 2 [(0, .int x0), (1, .int x1)] := hl
  refine lv_iload_n E.1 hb dJ6_checkIndex_0 rfl (lv_at hl 0 rfl) ?_
  refine lv_iload_n E.1 hb dJ6_checkIndex_1 rfl (lv_at hl 1 rfl) ?_
  refine c_gsq E hb hS 0 rfl (Or.inl q670) rfl dJ6_checkIndex_2 (fun uu1 huuu1 => ?_)
  obtain ⟨r2, h1, hf⟩ := bo_s hf
  refine c_ki hS (va_runS ⟨E.1, hb, hml, E.2.1, E.2.2.1⟩ (zJ8_checkIndex huuu1 h1) (va_cwS 3 E.2.2.1 gw_J6_1059 rfl rfl rfl gnJ8_checkIndex ⟨Nat.le_of_ble_eq_true rfl, Nat.le_of_ble_eq_true rfl⟩) (c_preS E hS _) rfl rfl hl.1 rfl (lv_room (Nat.le_of_ble_eq_true rfl)) dJ6_checkIndex_5 ⟨Nat.le_refl 0, Nat.le_refl 0⟩) hS.2.2.2.2 (fun H locs hS hn => ?_)
  refine lv_pop E.1 hb dJ6_checkIndex_8 rfl ?_
  exact c_vr E hb hr hlk hS ⟨Nat.le_refl 0, Nat.le_refl 0⟩ hf dJ6_checkIndex_9
theorem gw_J7_48 : GoodIn lw_all (va_wsS RJ7 48 yJ7_length (ws_ yJ7_length cJ7_length 1 (some .int))) := lw_S q651 q652 q166 q653
theorem gnJ7_length : yJ7_length.cls ≠ "java/lang/invoke/MethodHandle" ∧ yJ7_length.cls ≠ "java/lang/invoke/VarHandle" ∧ (parseMethodDescriptor yJ7_length.desc).map (fun d => d.parameters.length) = some 1 := by decide +kernel
theorem gw_J7_414 : GoodIn lw_all (va_wsS RJ7 414 yJ6_checkIndex (ws_ yJ6_checkIndex cJ6_checkIndex 2 none)) := lw_S q1145 q1146 q165 q1147
theorem gnJ6_checkIndex : yJ6_checkIndex.cls ≠ "java/lang/invoke/MethodHandle" ∧ yJ6_checkIndex.cls ≠ "java/lang/invoke/VarHandle" ∧ (parseMethodDescriptor yJ6_checkIndex.desc).map (fun d => d.parameters.length) = some 2 := by decide +kernel
/-! java/lang/StringUTF16.checkIndex(I[B)V: RW -/
noncomputable def J7_checkIndex (A0 : AH) (x0 : Int32) (x1 : Nat) : Option (Unit × AH) :=
  bo (J7_length A0 x1) fun r1 => bd (J6_checkIndex A0 x0 r1) fun _ A2 => some ((), A2)
abbrev rJ7_checkIndex : Room := { frames := 2, cells := 0, slots := 0, locals := 43 }
set_option maxHeartbeats 4000000 in
theorem zJ7_checkIndex {l : Launch} {dC : Nat → ClassId} {dI : Nat → Nat → Nat} {ac : Nat → ClassId} {ad : Nat → Nat} {b : Prop} {A0 : AH} {x0 : Int32} {x1 : Nat} {A' : AH} (hf : J7_checkIndex A0 x0 x1 = some ((), A')) : Met l yJ7_checkIndex (ws_ yJ7_checkIndex cJ7_checkIndex 2 none) { frames := 2, cells := 0, slots := 0, locals := 43 } (va_Pc [.int x0, .ref (ad x1)] (cPre dC dI ac ad b A0)) (cQv dC dI ac ad b (aN A0) (aS A0) (aN A0) (aS A0) A') 0 0 (cF ad) := by
  unfold J7_checkIndex at hf
  refine c_of ⟨Nat.le_refl _, Nat.le_refl _⟩ RJ7 plJ7_checkIndex rfl (Nat.le_of_ble_eq_true rfl) ?_
  intro p e s m args below meth c E hb hr hlk hnm hml hS ls hl
  have hl : lv_has ls 2 [(0, .int x0), (1, .ref (ad x1))] := hl
  refine lv_iload_n E.1 hb dJ7_checkIndex_0 rfl (lv_at hl 0 rfl) ?_
  refine lv_aload_n E.1 hb dJ7_checkIndex_1 rfl (lv_at hl 1 rfl) ?_
  obtain ⟨r1, h1, hf⟩ := bo_s hf
  refine c_ki hS (va_runS ⟨E.1, hb, hml, E.2.1, E.2.2.1⟩ (zJ7_length h1) (va_cwS 1 E.2.2.1 gw_J7_48 rfl rfl rfl gnJ7_length ⟨Nat.le_of_ble_eq_true rfl, Nat.le_of_ble_eq_true rfl⟩) (c_preS E hS _) rfl rfl hl.1 rfl (lv_room (Nat.le_of_ble_eq_true rfl)) dJ7_checkIndex_2 ⟨Nat.le_refl 0, Nat.le_refl 0⟩) hS.2.2.2.2 (fun H locs hS hn => ?_)
  obtain ⟨_, A2, h1, hf⟩ := bd_s hf
  refine c_kv hS (va_runS ⟨E.1, hb, hml, E.2.1, E.2.2.1⟩ (zJ6_checkIndex h1) (va_cwS 2 E.2.2.1 gw_J7_414 rfl rfl rfl gnJ6_checkIndex ⟨Nat.le_of_ble_eq_true rfl, Nat.le_of_ble_eq_true rfl⟩) (c_preS E hS _) rfl rfl hl.1 rfl (lv_room (Nat.le_of_ble_eq_true rfl)) dJ7_checkIndex_5 ⟨Nat.le_refl 0, Nat.le_refl 0⟩) hS.2.2.2.2 (fun H locs hS hn => ?_)
  exact c_vr E hb hr hlk hS ⟨Nat.le_refl 0, Nat.le_refl 0⟩ hf dJ7_checkIndex_8
theorem fk_J14_79_J15 : FLk RJ14 79 "java/lang/AbstractStringBuilder" (TJ15 3).2.1 (TJ15 3).2.2.1 := Or.inl q994
theorem gnJ14_ensureCapacityInternal : yJ14_ensureCapacityInternal.cls ≠ "java/lang/invoke/MethodHandle" ∧ yJ14_ensureCapacityInternal.cls ≠ "java/lang/invoke/VarHandle" ∧ (parseMethodDescriptor yJ14_ensureCapacityInternal.desc).map (fun d => d.parameters.length) = some 1 := by decide +kernel
theorem gw_J14_191 : GoodIn lw_all (va_wsS RJ14 191 yJ9_canEncode (ws_ yJ9_canEncode cJ9_canEncode 1 (some .boolean))) := lw_S q1126 q1127 q168 q1128
theorem gnJ9_canEncode : yJ9_canEncode.cls ≠ "java/lang/invoke/MethodHandle" ∧ yJ9_canEncode.cls ≠ "java/lang/invoke/VarHandle" ∧ (parseMethodDescriptor yJ9_canEncode.desc).map (fun d => d.parameters.length) = some 1 := by decide +kernel
/-! java/lang/AbstractStringBuilder.append(C)Ljava/lang/AbstractStringBuilder;: RW -/
noncomputable def J14_append (A0 : AH) (x0 : Nat) (x1 : Int32) : Option (Option Nat × AH) :=
  ck A0 (bo (gI 20 A0 2003 x0) fun v1 => if aK A0 x0 = 20 then ( bda A0 (J14_ensureCapacityInternal A0 x0 (v1 + 1)) fun _ A2 => if aK A2 x0 = 20 then ( bo (J14_isLatin1 A2 x0) fun r3 => if r3 = 0 then (none) else (bo (J9_canEncode x1) fun r4 => if r4 = 0 then (none) else (bo (gN 20 A2 2000 x0) fun q5 => bo (gI 20 A2 2003 x0) fun v6 => bo (pI 20 A2 2003 x0 (v6 + 1)) fun A7 => bo (uB_ A7 q5 v6 (vp_nar .byte ((Int32.toInt8 x1).toInt32))) fun A8 => some ((some x0), A8)))) else none) else none)
set_option maxHeartbeats 4000000 in
theorem zJ14_append {l : Launch} {dC : Nat → ClassId} {dI : Nat → Nat → Nat} {ac : Nat → ClassId} {ad : Nat → Nat} {b : Prop} {A0 : AH} {x0 : Nat} {x1 : Int32} {r : Option Nat} {A' : AH} (hf : J14_append A0 x0 x1 = some (r, A')) : Met l yJ14_append (ws_ yJ14_append cJ14_append 2 (some (.object "java/lang/AbstractStringBuilder"))) { frames := 8, cells := aN A' - aN A0, slots := aS A' - aS A0, locals := 173 } (va_Pc [.ref (ad x0), .int x1] (cPre dC dI ac ad b A0)) (cQq dC dI ac ad b (aN A0) (aS A0) (aN A') (aS A') r A') (aN A' - aN A0) (aS A' - aS A0) (cF ad) := by
  unfold J14_append at hf
  obtain ⟨hck0, hf⟩ := ck_s hf
  refine c_of hck0 RJ14 plJ14_append rfl (Nat.le_of_ble_eq_true rfl) ?_
  intro p e s m args below meth c E hb hr hlk hnm hml hS ls hl
  have hl : lv_has ls 2 [(0, .ref (ad x0)), (1, .int x1)] := hl
  have hcs : aN A0 + 0 ≤ aN A0 ∧ aS A0 + 0 ≤ aS A0 := ⟨Nat.le_refl _, Nat.le_refl _⟩
  refine lv_aload_n E.1 hb dJ14_append_0 rfl (lv_at hl 0 rfl) ?_
  refine lv_aload_n E.1 hb dJ14_append_1 rfl (lv_at hl 0 rfl) ?_
  obtain ⟨hk, hf⟩ := gI_s hf
  refine c_gI (k := 3) (f := 2003) E hb hS ci_20 hk rfl rfl rfl fk_J14_79_J15 (fun _ h => h) dJ14_append_2 ?_
  refine lv_iconst (v := 1) E.1 hb dJ14_append_5 rfl ?_
  refine lv_iadd E.1 hb dJ14_append_6 ?_
  obtain ⟨hkr, hf⟩ := gu_s hf
  obtain ⟨_, A2, h1, hge, hup, hf⟩ := bda_s hf
  refine c_kv hS (va_runU ⟨E.1, hb, hml, E.2.1, E.2.2.1⟩ (zJ14_ensureCapacityInternal h1) (c_cwP E 1 List.mem_cons_self q1101 q2532 q1103 q177 q1104 rfl rfl gnJ14_ensureCapacityInternal ⟨Nat.le_of_ble_eq_true rfl, Nat.le_of_ble_eq_true rfl⟩) (c_preV E hS ci_20 hkr (hS.1.lt hkr rfl) _) rfl rfl hl.1 rfl (lv_room (Nat.le_of_ble_eq_true rfl)) dJ14_append_7 (rm_a hcs hge hup)) hup (fun H locs hS hn => ?_)
  have hcs := rm_a2 hcs hge
  refine lv_aload_n E.1 hb dJ14_append_10 rfl (lv_at hl 0 rfl) ?_
  obtain ⟨hkr, hf⟩ := gu_s hf
  obtain ⟨r3, h1, hf⟩ := bo_s hf
  refine c_ki hS (va_runU ⟨E.1, hb, hml, E.2.1, E.2.2.1⟩ (zJ14_isLatin1 h1) (va_cwU 0 E.2.2.1 gw_J14_83 rfl rfl rfl rfl gnJ14_isLatin1 ⟨Nat.le_of_ble_eq_true rfl, Nat.le_of_ble_eq_true rfl⟩) (c_preV E hS ci_20 hkr (hS.1.lt hkr rfl) _) rfl rfl hl.1 rfl (lv_room (Nat.le_of_ble_eq_true rfl)) dJ14_append_11 (rm_n hcs hS.2.2.2.2)) hS.2.2.2.2 (fun H locs hS hn => ?_)
  have hcs := rm_n2 hcs hn
  refine lv_if_eq (tgt := 45) E.1 hb dJ14_append_14 (by decide) (fun hc => ?_) (fun hc => ?_)
  · have hf := it_s hc hf
    cases hf
  · have hf := if_s hc hf
    refine lv_iload_n E.1 hb dJ14_append_17 rfl (lv_at hl 1 rfl) ?_
    obtain ⟨r4, h1, hf⟩ := bo_s hf
    refine c_ki hS (va_runS ⟨E.1, hb, hml, E.2.1, E.2.2.1⟩ (zJ9_canEncode h1) (va_cwS 1 E.2.2.1 gw_J14_191 rfl rfl rfl gnJ9_canEncode ⟨Nat.le_of_ble_eq_true rfl, Nat.le_of_ble_eq_true rfl⟩) (c_preS E hS _) rfl rfl hl.1 rfl (lv_room (Nat.le_of_ble_eq_true rfl)) dJ14_append_18 (rm_n hcs hS.2.2.2.2)) hS.2.2.2.2 (fun H locs hS hn => ?_)
    have hcs := rm_n2 hcs hn
    refine lv_if_eq (tgt := 45) E.1 hb dJ14_append_21 (by decide) (fun hc => ?_) (fun hc => ?_)
    · have hf := it_s hc hf
      cases hf
    · have hf := if_s hc hf
      refine lv_aload_n E.1 hb dJ14_append_24 rfl (lv_at hl 0 rfl) ?_
      obtain ⟨q5, hk, hf⟩ := gN_s hf
      refine c_gN (k := 0) (f := 2000) E hb hS ci_20 hk.1 rfl rfl rfl hk.2 fk_J14_15_J15 (fun _ h => h) dJ14_append_25 ?_
      refine lv_aload_n E.1 hb dJ14_append_28 rfl (lv_at hl 0 rfl) ?_
      refine lv_dup E.1 hb dJ14_append_29 rfl ?_
      obtain ⟨hk, hf⟩ := gI_s hf
      refine c_gI (k := 3) (f := 2003) E hb hS ci_20 hk rfl rfl rfl fk_J14_79_J15 (fun _ h => h) dJ14_append_30 ?_
      refine lv_dup_x1 E.1 hb dJ14_append_33 rfl rfl ?_
      refine lv_iconst (v := 1) E.1 hb dJ14_append_34 rfl ?_
      refine lv_iadd E.1 hb dJ14_append_35 ?_
      obtain ⟨A7, hk, hw, hf⟩ := pI_s hf
      refine c_pI (k := 3) (f := 2003) E hb hS ci_20 hk (hS.1.lt hk rfl) rfl rfl (Or.inl rfl) fk_J14_79_J15 (fun _ h => h) rfl rfl hw dJ14_append_36 (fun H locs hS => ?_)
      have hcs := rm_w (A2 := A7) hcs (by rw [hw]; exact ⟨rfl, rfl⟩)
      refine lv_iload_n E.1 hb dJ14_append_39 rfl (lv_at hl 1 rfl) ?_
      refine lv_i2b E.1 hb dJ14_append_40 rfl ?_
      obtain ⟨A8, hg, hw, hf⟩ := uB_s hf
      refine c_bst E hb hS hg hw dJ14_append_41 (fun H locs hS => ?_)
      have hcs := rm_w (A2 := A8) hcs (by rw [hw]; exact ⟨rfl, rfl⟩)
      refine lv_goto (tgt := 75) E.1 hb dJ14_append_42 (by decide) ?_
      refine lv_aload_n E.1 hb dJ14_append_75 rfl (lv_at hl 0 rfl) ?_
      exact c_ar E hb hr (Or.inl ⟨_, rfl⟩) hlk hS (rm_e ⟨Nat.le_trans hcs.1 hS.2.2.2.2.1, Nat.le_trans hcs.2 hS.2.2.2.2.2⟩) (v := (some x0)) hf dJ14_append_76
theorem gw_J14_138 : GoodIn lw_all (va_wsS RJ14 138 yJ12_min (ws_ yJ12_min cJ12_min 2 (some .int))) := lw_S q1328 q947 q172 q948
theorem gw_J14_144 : GoodIn lw_all (va_wsS RJ14 144 yJ6_checkIndex (ws_ yJ6_checkIndex cJ6_checkIndex 2 none)) := lw_S q1329 q1146 q165 q1147
/-! java/lang/AbstractStringBuilder.charAt(I)C: RW -/
noncomputable def J14_charAt (A0 : AH) (x0 : Nat) (x1 : Int32) : Option (Int32 × AH) :=
  bo (gI 20 A0 2001 x0) fun v1 => bo (gN 20 A0 2000 x0) fun q2 => bo (gI 20 A0 2003 x0) fun v3 => bo (aLn 33 A0 q2) fun v4 => bo (J12_min v3 (v4 >>> (v1 &&& 31))) fun r5 => bd (J6_checkIndex A0 x1 r5) fun _ A6 => if v1 = 0 then (bo (dI_ 33 A6 q2 x1) fun v7 => if vp_nar .char ((Int32.toUInt32 (v7 &&& 255) % 65536).toInt32) = ((Int32.toUInt32 (v7 &&& 255) % 65536).toInt32) then some (((Int32.toUInt32 (v7 &&& 255) % 65536).toInt32), A6) else none) else (none)
abbrev rJ14_charAt : Room := { frames := 2, cells := 0, slots := 0, locals := 43 }
set_option maxHeartbeats 4000000 in
theorem zJ14_charAt {l : Launch} {dC : Nat → ClassId} {dI : Nat → Nat → Nat} {ac : Nat → ClassId} {ad : Nat → Nat} {b : Prop} {A0 : AH} {x0 : Nat} {x1 : Int32} {r : Int32} {A' : AH} (hf : J14_charAt A0 x0 x1 = some (r, A')) : Met l yJ14_charAt (ws_ yJ14_charAt cJ14_charAt 5 (some .char)) { frames := 2, cells := 0, slots := 0, locals := 43 } (va_Pc [.ref (ad x0), .int x1] (cPre dC dI ac ad b A0)) (cQi dC dI ac ad b (aN A0) (aS A0) (aN A0) (aS A0) r A') 0 0 (cF ad) := by
  unfold J14_charAt at hf
  refine c_of ⟨Nat.le_refl _, Nat.le_refl _⟩ RJ14 plJ14_charAt rfl (Nat.le_of_ble_eq_true rfl) ?_
  intro p e s m args below meth c E hb hr hlk hnm hml hS ls hl
  have hl : lv_has ls 5 [(0, .ref (ad x0)), (1, .int x1)] := hl
  refine lv_aload_n E.1 hb dJ14_charAt_0 rfl (lv_at hl 0 rfl) ?_
  obtain ⟨hk, hf⟩ := gI_s hf
  refine c_gI (k := 1) (f := 2001) E hb hS ci_20 hk rfl rfl rfl fk_J14_22_J15 (fun _ h => h) dJ14_charAt_1 ?_
  refine lv_istore_n (lv' := [(2, .int (aI A0 2001 x0 0)), (0, .ref (ad x0)), (1, .int x1)]) E.1 hb dJ14_charAt_4 rfl hl (by decide) rfl (fun ls hl => ?_)
  refine lv_aload_n E.1 hb dJ14_charAt_5 rfl (lv_at hl 1 rfl) ?_
  obtain ⟨q2, hk, hf⟩ := gN_s hf
  refine c_gN (k := 0) (f := 2000) E hb hS ci_20 hk.1 rfl rfl rfl hk.2 fk_J14_15_J15 (fun _ h => h) dJ14_charAt_6 ?_
  refine lv_astore_n (lv' := [(3, .ref (ad q2)), (2, .int (aI A0 2001 x0 0)), (0, .ref (ad x0)), (1, .int x1)]) E.1 hb dJ14_charAt_9 rfl hl (by decide) rfl (fun ls hl => ?_)
  refine lv_aload_n E.1 hb dJ14_charAt_10 rfl (lv_at hl 2 rfl) ?_
  obtain ⟨hk, hf⟩ := gI_s hf
  refine c_gI (k := 3) (f := 2003) E hb hS ci_20 hk rfl rfl rfl fk_J14_79_J15 (fun _ h => h) dJ14_charAt_11 ?_
  refine lv_aload_n E.1 hb dJ14_charAt_14 rfl (lv_at hl 0 rfl) ?_
  obtain ⟨hk, hf⟩ := aLn_s hf
  refine c_bln E hb hS hk (Or.inl rfl) dJ14_charAt_15 ?_
  refine lv_iload_n E.1 hb dJ14_charAt_16 rfl (lv_at hl 1 rfl) ?_
  refine lv_ishr E.1 hb dJ14_charAt_17 ?_
  obtain ⟨r5, h1, hf⟩ := bo_s hf
  refine c_ki hS (va_runS ⟨E.1, hb, hml, E.2.1, E.2.2.1⟩ (zJ12_min h1) (va_cwS 2 E.2.2.1 gw_J14_138 rfl rfl rfl gnJ12_min ⟨Nat.le_of_ble_eq_true rfl, Nat.le_of_ble_eq_true rfl⟩) (c_preS E hS _) rfl rfl hl.1 rfl (lv_room (Nat.le_of_ble_eq_true rfl)) dJ14_charAt_18 ⟨Nat.le_refl 0, Nat.le_refl 0⟩) hS.2.2.2.2 (fun H locs hS hn => ?_)
  refine lv_istore (lv' := [(4, .int r5), (3, .ref (ad q2)), (2, .int (aI A0 2001 x0 0)), (0, .ref (ad x0)), (1, .int x1)]) E.1 hb dJ14_charAt_21 hl (by decide) rfl (fun ls hl => ?_)
  refine lv_iload_n E.1 hb dJ14_charAt_23 rfl (lv_at hl 4 rfl) ?_
  refine lv_iload E.1 hb dJ14_charAt_24 (lv_at hl 0 rfl) ?_
  obtain ⟨_, A6, h1, hf⟩ := bd_s hf
  refine c_kv hS (va_runS ⟨E.1, hb, hml, E.2.1, E.2.2.1⟩ (zJ6_checkIndex h1) (va_cwS 2 E.2.2.1 gw_J14_144 rfl rfl rfl gnJ6_checkIndex ⟨Nat.le_of_ble_eq_true rfl, Nat.le_of_ble_eq_true rfl⟩) (c_preS E hS _) rfl rfl hl.1 rfl (lv_room (Nat.le_of_ble_eq_true rfl)) dJ14_charAt_26 ⟨Nat.le_refl 0, Nat.le_refl 0⟩) hS.2.2.2.2 (fun H locs hS hn => ?_)
  refine lv_iload_n E.1 hb dJ14_charAt_29 rfl (lv_at hl 2 rfl) ?_
  refine lv_if_ne (tgt := 42) E.1 hb dJ14_charAt_30 (by decide) (fun hc => ?_) (fun hc => ?_)
  · have hf := if_s hc hf
    cases hf
  · have hf := it_s hc hf
    refine lv_aload_n E.1 hb dJ14_charAt_33 rfl (lv_at hl 1 rfl) ?_
    refine lv_iload_n E.1 hb dJ14_charAt_34 rfl (lv_at hl 4 rfl) ?_
    obtain ⟨hg, hf⟩ := dI_s hf
    refine c_bld E hb hS hg dJ14_charAt_35 ?_
    refine lv_sipush (v := 255) E.1 hb dJ14_charAt_36 rfl ?_
    refine lv_iand E.1 hb dJ14_charAt_39 ?_
    refine lv_i2c E.1 hb dJ14_charAt_40 rfl ?_
    obtain ⟨hn, hf⟩ := gu_s hf
    exact c_zr (ty := .char) E hb hr hlk hS ⟨Nat.le_refl 0, Nat.le_refl 0⟩ (nr_c hn) hf dJ14_charAt_41
theorem gw_J15_50 : GoodIn lw_all (va_wsSU RJ15 50 yJ14_append (ws_ yJ14_append cJ14_append 2 (some (.object "java/lang/AbstractStringBuilder")))) := lw_SU q1098 q2531 q1003 q1099 q177 q1100
theorem gnJ14_append : yJ14_append.cls ≠ "java/lang/invoke/MethodHandle" ∧ yJ14_append.cls ≠ "java/lang/invoke/VarHandle" ∧ (parseMethodDescriptor yJ14_append.desc).map (fun d => d.parameters.length) = some 1 := by decide +kernel
/-! java/lang/StringBuilder.append(C)Ljava/lang/StringBuilder;: RW -/
noncomputable def J15_append (A0 : AH) (x0 : Nat) (x1 : Int32) : Option (Option Nat × AH) :=
  ck A0 (if aK A0 x0 = 20 then ( bda A0 (J14_append A0 x0 x1) fun r1 A2 => bo r1 fun q3 => some ((some x0), A2)) else none)
set_option maxHeartbeats 4000000 in
theorem zJ15_append {l : Launch} {dC : Nat → ClassId} {dI : Nat → Nat → Nat} {ac : Nat → ClassId} {ad : Nat → Nat} {b : Prop} {A0 : AH} {x0 : Nat} {x1 : Int32} {r : Option Nat} {A' : AH} (hf : J15_append A0 x0 x1 = some (r, A')) : Met l yJ15_append (ws_ yJ15_append cJ15_append 2 (some (.object "java/lang/StringBuilder"))) { frames := 9, cells := aN A' - aN A0, slots := aS A' - aS A0, locals := 194 } (va_Pc [.ref (ad x0), .int x1] (cPre dC dI ac ad b A0)) (cQq dC dI ac ad b (aN A0) (aS A0) (aN A') (aS A') r A') (aN A' - aN A0) (aS A' - aS A0) (cF ad) := by
  unfold J15_append at hf
  obtain ⟨hck0, hf⟩ := ck_s hf
  refine c_of hck0 RJ15 plJ15_append rfl (Nat.le_of_ble_eq_true rfl) ?_
  intro p e s m args below meth c E hb hr hlk hnm hml hS ls hl
  have hl : lv_has ls 2 [(0, .ref (ad x0)), (1, .int x1)] := hl
  have hcs : aN A0 + 0 ≤ aN A0 ∧ aS A0 + 0 ≤ aS A0 := ⟨Nat.le_refl _, Nat.le_refl _⟩
  refine lv_aload_n E.1 hb dJ15_append_0 rfl (lv_at hl 0 rfl) ?_
  refine lv_iload_n E.1 hb dJ15_append_1 rfl (lv_at hl 1 rfl) ?_
  obtain ⟨hkr, hf⟩ := gu_s hf
  obtain ⟨r1, A2, h1, hge, hup, hf⟩ := bda_s hf
  refine c_kq hS (va_runSU (E.2.2.2.1.1 19 _ ci_20.1).2 ⟨E.1, hb, hml, E.2.1, E.2.2.1⟩ (zJ14_append h1) (va_cwSU 1 E.2.2.1 gw_J15_50 rfl rfl rfl ⟨by decide, gnJ14_append.2.2⟩ ⟨Nat.le_of_ble_eq_true rfl, Nat.le_of_ble_eq_true rfl⟩) (c_preV E hS ci_20 hkr (hS.1.lt hkr rfl) _) rfl rfl hl.1 rfl (lv_room (Nat.le_of_ble_eq_true rfl)) dJ15_append_2 (rm_a hcs hge hup)) hup (fun H locs hS hn => ?_)
  have hcs := rm_a2 hcs hge
  obtain ⟨q3, hr9, hf⟩ := bo_s hf
  refine c_dr hr9 ?_
  refine lv_pop E.1 hb dJ15_append_5 rfl ?_
  refine lv_aload_n E.1 hb dJ15_append_6 rfl (lv_at hl 0 rfl) ?_
  exact c_ar E hb hr (Or.inl ⟨_, rfl⟩) hlk hS (rm_e ⟨Nat.le_trans hcs.1 hS.2.2.2.2.1, Nat.le_trans hcs.2 hS.2.2.2.2.2⟩) (v := (some x0)) hf dJ15_append_7
theorem gw_J15_329 : GoodIn lw_all (va_wsSU RJ15 329 yJ14_charAt (ws_ yJ14_charAt cJ14_charAt 5 (some .char))) := lw_SU q1325 q2535 q1003 q1326 q177 q1327
theorem gnJ14_charAt : yJ14_charAt.cls ≠ "java/lang/invoke/MethodHandle" ∧ yJ14_charAt.cls ≠ "java/lang/invoke/VarHandle" ∧ (parseMethodDescriptor yJ14_charAt.desc).map (fun d => d.parameters.length) = some 1 := by decide +kernel
/-! java/lang/StringBuilder.charAt(I)C: RW -/
noncomputable def J15_charAt (A0 : AH) (x0 : Nat) (x1 : Int32) : Option (Int32 × AH) :=
  if aK A0 x0 = 20 then ( bd (J14_charAt A0 x0 x1) fun r1 A2 => if vp_nar .char r1 = r1 then some (r1, A2) else none) else none
abbrev rJ15_charAt : Room := { frames := 3, cells := 0, slots := 0, locals := 67 }
set_option maxHeartbeats 4000000 in
theorem zJ15_charAt {l : Launch} {dC : Nat → ClassId} {dI : Nat → Nat → Nat} {ac : Nat → ClassId} {ad : Nat → Nat} {b : Prop} {A0 : AH} {x0 : Nat} {x1 : Int32} {r : Int32} {A' : AH} (hf : J15_charAt A0 x0 x1 = some (r, A')) : Met l yJ15_charAt (ws_ yJ15_charAt cJ15_charAt 2 (some .char)) { frames := 3, cells := 0, slots := 0, locals := 67 } (va_Pc [.ref (ad x0), .int x1] (cPre dC dI ac ad b A0)) (cQi dC dI ac ad b (aN A0) (aS A0) (aN A0) (aS A0) r A') 0 0 (cF ad) := by
  unfold J15_charAt at hf
  refine c_of ⟨Nat.le_refl _, Nat.le_refl _⟩ RJ15 plJ15_charAt rfl (Nat.le_of_ble_eq_true rfl) ?_
  intro p e s m args below meth c E hb hr hlk hnm hml hS ls hl
  have hl : lv_has ls 2 [(0, .ref (ad x0)), (1, .int x1)] := hl
  refine lv_aload_n E.1 hb dJ15_charAt_0 rfl (lv_at hl 0 rfl) ?_
  refine lv_iload_n E.1 hb dJ15_charAt_1 rfl (lv_at hl 1 rfl) ?_
  obtain ⟨hkr, hf⟩ := gu_s hf
  obtain ⟨r1, A2, h1, hf⟩ := bd_s hf
  refine c_ki hS (va_runSU (E.2.2.2.1.1 19 _ ci_20.1).2 ⟨E.1, hb, hml, E.2.1, E.2.2.1⟩ (zJ14_charAt h1) (va_cwSU 1 E.2.2.1 gw_J15_329 rfl rfl rfl ⟨by decide, gnJ14_charAt.2.2⟩ ⟨Nat.le_of_ble_eq_true rfl, Nat.le_of_ble_eq_true rfl⟩) (c_preV E hS ci_20 hkr (hS.1.lt hkr rfl) _) rfl rfl hl.1 rfl (lv_room (Nat.le_of_ble_eq_true rfl)) dJ15_charAt_2 ⟨Nat.le_refl 0, Nat.le_refl 0⟩) hS.2.2.2.2 (fun H locs hS hn => ?_)
  obtain ⟨hn, hf⟩ := gu_s hf
  exact c_zr (ty := .char) E hb hr hlk hS ⟨Nat.le_refl 0, Nat.le_refl 0⟩ (nr_c hn) hf dJ15_charAt_5
/-! java/lang/Integer.bitCount(I)I: P -/
noncomputable def J16_bitCount (x0 : Int32) : Option Int32 :=
  some ((((((((x0 - (((Int32.toUInt32 x0 >>> (Int32.toUInt32 1 &&& Int32.toUInt32 31)).toInt32) &&& 1431655765)) &&& 858993459) + (((Int32.toUInt32 (x0 - (((Int32.toUInt32 x0 >>> (Int32.toUInt32 1 &&& Int32.toUInt32 31)).toInt32) &&& 1431655765)) >>> (Int32.toUInt32 2 &&& Int32.toUInt32 31)).toInt32) &&& 858993459)) + ((Int32.toUInt32 (((x0 - (((Int32.toUInt32 x0 >>> (Int32.toUInt32 1 &&& Int32.toUInt32 31)).toInt32) &&& 1431655765)) &&& 858993459) + (((Int32.toUInt32 (x0 - (((Int32.toUInt32 x0 >>> (Int32.toUInt32 1 &&& Int32.toUInt32 31)).toInt32) &&& 1431655765)) >>> (Int32.toUInt32 2 &&& Int32.toUInt32 31)).toInt32) &&& 858993459)) >>> (Int32.toUInt32 4 &&& Int32.toUInt32 31)).toInt32)) &&& 252645135) + ((Int32.toUInt32 (((((x0 - (((Int32.toUInt32 x0 >>> (Int32.toUInt32 1 &&& Int32.toUInt32 31)).toInt32) &&& 1431655765)) &&& 858993459) + (((Int32.toUInt32 (x0 - (((Int32.toUInt32 x0 >>> (Int32.toUInt32 1 &&& Int32.toUInt32 31)).toInt32) &&& 1431655765)) >>> (Int32.toUInt32 2 &&& Int32.toUInt32 31)).toInt32) &&& 858993459)) + ((Int32.toUInt32 (((x0 - (((Int32.toUInt32 x0 >>> (Int32.toUInt32 1 &&& Int32.toUInt32 31)).toInt32) &&& 1431655765)) &&& 858993459) + (((Int32.toUInt32 (x0 - (((Int32.toUInt32 x0 >>> (Int32.toUInt32 1 &&& Int32.toUInt32 31)).toInt32) &&& 1431655765)) >>> (Int32.toUInt32 2 &&& Int32.toUInt32 31)).toInt32) &&& 858993459)) >>> (Int32.toUInt32 4 &&& Int32.toUInt32 31)).toInt32)) &&& 252645135) >>> (Int32.toUInt32 8 &&& Int32.toUInt32 31)).toInt32)) + ((Int32.toUInt32 ((((((x0 - (((Int32.toUInt32 x0 >>> (Int32.toUInt32 1 &&& Int32.toUInt32 31)).toInt32) &&& 1431655765)) &&& 858993459) + (((Int32.toUInt32 (x0 - (((Int32.toUInt32 x0 >>> (Int32.toUInt32 1 &&& Int32.toUInt32 31)).toInt32) &&& 1431655765)) >>> (Int32.toUInt32 2 &&& Int32.toUInt32 31)).toInt32) &&& 858993459)) + ((Int32.toUInt32 (((x0 - (((Int32.toUInt32 x0 >>> (Int32.toUInt32 1 &&& Int32.toUInt32 31)).toInt32) &&& 1431655765)) &&& 858993459) + (((Int32.toUInt32 (x0 - (((Int32.toUInt32 x0 >>> (Int32.toUInt32 1 &&& Int32.toUInt32 31)).toInt32) &&& 1431655765)) >>> (Int32.toUInt32 2 &&& Int32.toUInt32 31)).toInt32) &&& 858993459)) >>> (Int32.toUInt32 4 &&& Int32.toUInt32 31)).toInt32)) &&& 252645135) + ((Int32.toUInt32 (((((x0 - (((Int32.toUInt32 x0 >>> (Int32.toUInt32 1 &&& Int32.toUInt32 31)).toInt32) &&& 1431655765)) &&& 858993459) + (((Int32.toUInt32 (x0 - (((Int32.toUInt32 x0 >>> (Int32.toUInt32 1 &&& Int32.toUInt32 31)).toInt32) &&& 1431655765)) >>> (Int32.toUInt32 2 &&& Int32.toUInt32 31)).toInt32) &&& 858993459)) + ((Int32.toUInt32 (((x0 - (((Int32.toUInt32 x0 >>> (Int32.toUInt32 1 &&& Int32.toUInt32 31)).toInt32) &&& 1431655765)) &&& 858993459) + (((Int32.toUInt32 (x0 - (((Int32.toUInt32 x0 >>> (Int32.toUInt32 1 &&& Int32.toUInt32 31)).toInt32) &&& 1431655765)) >>> (Int32.toUInt32 2 &&& Int32.toUInt32 31)).toInt32) &&& 858993459)) >>> (Int32.toUInt32 4 &&& Int32.toUInt32 31)).toInt32)) &&& 252645135) >>> (Int32.toUInt32 8 &&& Int32.toUInt32 31)).toInt32)) >>> (Int32.toUInt32 16 &&& Int32.toUInt32 31)).toInt32)) &&& 63)
abbrev rJ16_bitCount : Room := { frames := 0, cells := 0, slots := 0, locals := 0 }
set_option maxHeartbeats 4000000 in
theorem zJ16_bitCount {l : Launch} {dC : Nat → ClassId} {dI : Nat → Nat → Nat} {ac : Nat → ClassId} {ad : Nat → Nat} {b : Prop} {A : AH} {x0 : Int32} {r : Int32} (hf : J16_bitCount x0 = some r) : Met l yJ16_bitCount (ws_ yJ16_bitCount cJ16_bitCount 1 (some .int)) { frames := 0, cells := 0, slots := 0, locals := 0 } (va_Pc [.int x0] (cPre dC dI ac ad b A)) (cQi dC dI ac ad b (aN A) (aS A) (aN A) (aS A) r A) 0 0 (cF ad) := by
  unfold J16_bitCount at hf
  refine c_of ⟨Nat.le_refl _, Nat.le_refl _⟩ RJ16 plJ16_bitCount rfl (Nat.le_of_ble_eq_true rfl) ?_
  intro p e s m args below meth c E hb hr hlk hnm hml hS ls hl
  have hl : lv_has ls 1 [(0, .int x0)] := hl
  refine lv_iload_n E.1 hb dJ16_bitCount_0 rfl (lv_at hl 0 rfl) ?_
  refine lv_iload_n E.1 hb dJ16_bitCount_1 rfl (lv_at hl 0 rfl) ?_
  refine lv_iconst (v := 1) E.1 hb dJ16_bitCount_2 rfl ?_
  refine lv_iushr E.1 hb dJ16_bitCount_3 rfl ?_
  refine lv_ldcw E.1 hb E.2.1 (E.2.2.1 _ q1255) dJ16_bitCount_4 ?_
  refine lv_iand E.1 hb dJ16_bitCount_7 ?_
  refine lv_isub E.1 hb dJ16_bitCount_8 ?_
  refine lv_istore_n (lv' := [(0, .int (x0 - (((Int32.toUInt32 x0 >>> (Int32.toUInt32 1 &&& Int32.toUInt32 31)).toInt32) &&& 1431655765)))]) E.1 hb dJ16_bitCount_9 rfl hl (by decide) rfl (fun ls hl => ?_)
  refine lv_iload_n E.1 hb dJ16_bitCount_10 rfl (lv_at hl 0 rfl) ?_
  refine lv_ldcw E.1 hb E.2.1 (E.2.2.1 _ q1256) dJ16_bitCount_11 ?_
  refine lv_iand E.1 hb dJ16_bitCount_14 ?_
  refine lv_iload_n E.1 hb dJ16_bitCount_15 rfl (lv_at hl 0 rfl) ?_
  refine lv_iconst (v := 2) E.1 hb dJ16_bitCount_16 rfl ?_
  refine lv_iushr E.1 hb dJ16_bitCount_17 rfl ?_
  refine lv_ldcw E.1 hb E.2.1 (E.2.2.1 _ q1256) dJ16_bitCount_18 ?_
  refine lv_iand E.1 hb dJ16_bitCount_21 ?_
  refine lv_iadd E.1 hb dJ16_bitCount_22 ?_
  refine lv_istore_n (lv' := [(0, .int (((x0 - (((Int32.toUInt32 x0 >>> (Int32.toUInt32 1 &&& Int32.toUInt32 31)).toInt32) &&& 1431655765)) &&& 858993459) + (((Int32.toUInt32 (x0 - (((Int32.toUInt32 x0 >>> (Int32.toUInt32 1 &&& Int32.toUInt32 31)).toInt32) &&& 1431655765)) >>> (Int32.toUInt32 2 &&& Int32.toUInt32 31)).toInt32) &&& 858993459)))]) E.1 hb dJ16_bitCount_23 rfl hl (by decide) rfl (fun ls hl => ?_)
  refine lv_iload_n E.1 hb dJ16_bitCount_24 rfl (lv_at hl 0 rfl) ?_
  refine lv_iload_n E.1 hb dJ16_bitCount_25 rfl (lv_at hl 0 rfl) ?_
  refine lv_iconst (v := 4) E.1 hb dJ16_bitCount_26 rfl ?_
  refine lv_iushr E.1 hb dJ16_bitCount_27 rfl ?_
  refine lv_iadd E.1 hb dJ16_bitCount_28 ?_
  refine lv_ldcw E.1 hb E.2.1 (E.2.2.1 _ q1257) dJ16_bitCount_29 ?_
  refine lv_iand E.1 hb dJ16_bitCount_32 ?_
  refine lv_istore_n (lv' := [(0, .int (((((x0 - (((Int32.toUInt32 x0 >>> (Int32.toUInt32 1 &&& Int32.toUInt32 31)).toInt32) &&& 1431655765)) &&& 858993459) + (((Int32.toUInt32 (x0 - (((Int32.toUInt32 x0 >>> (Int32.toUInt32 1 &&& Int32.toUInt32 31)).toInt32) &&& 1431655765)) >>> (Int32.toUInt32 2 &&& Int32.toUInt32 31)).toInt32) &&& 858993459)) + ((Int32.toUInt32 (((x0 - (((Int32.toUInt32 x0 >>> (Int32.toUInt32 1 &&& Int32.toUInt32 31)).toInt32) &&& 1431655765)) &&& 858993459) + (((Int32.toUInt32 (x0 - (((Int32.toUInt32 x0 >>> (Int32.toUInt32 1 &&& Int32.toUInt32 31)).toInt32) &&& 1431655765)) >>> (Int32.toUInt32 2 &&& Int32.toUInt32 31)).toInt32) &&& 858993459)) >>> (Int32.toUInt32 4 &&& Int32.toUInt32 31)).toInt32)) &&& 252645135))]) E.1 hb dJ16_bitCount_33 rfl hl (by decide) rfl (fun ls hl => ?_)
  refine lv_iload_n E.1 hb dJ16_bitCount_34 rfl (lv_at hl 0 rfl) ?_
  refine lv_iload_n E.1 hb dJ16_bitCount_35 rfl (lv_at hl 0 rfl) ?_
  refine lv_bipush (v := 8) E.1 hb dJ16_bitCount_36 rfl ?_
  refine lv_iushr E.1 hb dJ16_bitCount_38 rfl ?_
  refine lv_iadd E.1 hb dJ16_bitCount_39 ?_
  refine lv_istore_n (lv' := [(0, .int ((((((x0 - (((Int32.toUInt32 x0 >>> (Int32.toUInt32 1 &&& Int32.toUInt32 31)).toInt32) &&& 1431655765)) &&& 858993459) + (((Int32.toUInt32 (x0 - (((Int32.toUInt32 x0 >>> (Int32.toUInt32 1 &&& Int32.toUInt32 31)).toInt32) &&& 1431655765)) >>> (Int32.toUInt32 2 &&& Int32.toUInt32 31)).toInt32) &&& 858993459)) + ((Int32.toUInt32 (((x0 - (((Int32.toUInt32 x0 >>> (Int32.toUInt32 1 &&& Int32.toUInt32 31)).toInt32) &&& 1431655765)) &&& 858993459) + (((Int32.toUInt32 (x0 - (((Int32.toUInt32 x0 >>> (Int32.toUInt32 1 &&& Int32.toUInt32 31)).toInt32) &&& 1431655765)) >>> (Int32.toUInt32 2 &&& Int32.toUInt32 31)).toInt32) &&& 858993459)) >>> (Int32.toUInt32 4 &&& Int32.toUInt32 31)).toInt32)) &&& 252645135) + ((Int32.toUInt32 (((((x0 - (((Int32.toUInt32 x0 >>> (Int32.toUInt32 1 &&& Int32.toUInt32 31)).toInt32) &&& 1431655765)) &&& 858993459) + (((Int32.toUInt32 (x0 - (((Int32.toUInt32 x0 >>> (Int32.toUInt32 1 &&& Int32.toUInt32 31)).toInt32) &&& 1431655765)) >>> (Int32.toUInt32 2 &&& Int32.toUInt32 31)).toInt32) &&& 858993459)) + ((Int32.toUInt32 (((x0 - (((Int32.toUInt32 x0 >>> (Int32.toUInt32 1 &&& Int32.toUInt32 31)).toInt32) &&& 1431655765)) &&& 858993459) + (((Int32.toUInt32 (x0 - (((Int32.toUInt32 x0 >>> (Int32.toUInt32 1 &&& Int32.toUInt32 31)).toInt32) &&& 1431655765)) >>> (Int32.toUInt32 2 &&& Int32.toUInt32 31)).toInt32) &&& 858993459)) >>> (Int32.toUInt32 4 &&& Int32.toUInt32 31)).toInt32)) &&& 252645135) >>> (Int32.toUInt32 8 &&& Int32.toUInt32 31)).toInt32)))]) E.1 hb dJ16_bitCount_40 rfl hl (by decide) rfl (fun ls hl => ?_)
  refine lv_iload_n E.1 hb dJ16_bitCount_41 rfl (lv_at hl 0 rfl) ?_
  refine lv_iload_n E.1 hb dJ16_bitCount_42 rfl (lv_at hl 0 rfl) ?_
  refine lv_bipush (v := 16) E.1 hb dJ16_bitCount_43 rfl ?_
  refine lv_iushr E.1 hb dJ16_bitCount_45 rfl ?_
  refine lv_iadd E.1 hb dJ16_bitCount_46 ?_
  refine lv_istore_n (lv' := [(0, .int (((((((x0 - (((Int32.toUInt32 x0 >>> (Int32.toUInt32 1 &&& Int32.toUInt32 31)).toInt32) &&& 1431655765)) &&& 858993459) + (((Int32.toUInt32 (x0 - (((Int32.toUInt32 x0 >>> (Int32.toUInt32 1 &&& Int32.toUInt32 31)).toInt32) &&& 1431655765)) >>> (Int32.toUInt32 2 &&& Int32.toUInt32 31)).toInt32) &&& 858993459)) + ((Int32.toUInt32 (((x0 - (((Int32.toUInt32 x0 >>> (Int32.toUInt32 1 &&& Int32.toUInt32 31)).toInt32) &&& 1431655765)) &&& 858993459) + (((Int32.toUInt32 (x0 - (((Int32.toUInt32 x0 >>> (Int32.toUInt32 1 &&& Int32.toUInt32 31)).toInt32) &&& 1431655765)) >>> (Int32.toUInt32 2 &&& Int32.toUInt32 31)).toInt32) &&& 858993459)) >>> (Int32.toUInt32 4 &&& Int32.toUInt32 31)).toInt32)) &&& 252645135) + ((Int32.toUInt32 (((((x0 - (((Int32.toUInt32 x0 >>> (Int32.toUInt32 1 &&& Int32.toUInt32 31)).toInt32) &&& 1431655765)) &&& 858993459) + (((Int32.toUInt32 (x0 - (((Int32.toUInt32 x0 >>> (Int32.toUInt32 1 &&& Int32.toUInt32 31)).toInt32) &&& 1431655765)) >>> (Int32.toUInt32 2 &&& Int32.toUInt32 31)).toInt32) &&& 858993459)) + ((Int32.toUInt32 (((x0 - (((Int32.toUInt32 x0 >>> (Int32.toUInt32 1 &&& Int32.toUInt32 31)).toInt32) &&& 1431655765)) &&& 858993459) + (((Int32.toUInt32 (x0 - (((Int32.toUInt32 x0 >>> (Int32.toUInt32 1 &&& Int32.toUInt32 31)).toInt32) &&& 1431655765)) >>> (Int32.toUInt32 2 &&& Int32.toUInt32 31)).toInt32) &&& 858993459)) >>> (Int32.toUInt32 4 &&& Int32.toUInt32 31)).toInt32)) &&& 252645135) >>> (Int32.toUInt32 8 &&& Int32.toUInt32 31)).toInt32)) + ((Int32.toUInt32 ((((((x0 - (((Int32.toUInt32 x0 >>> (Int32.toUInt32 1 &&& Int32.toUInt32 31)).toInt32) &&& 1431655765)) &&& 858993459) + (((Int32.toUInt32 (x0 - (((Int32.toUInt32 x0 >>> (Int32.toUInt32 1 &&& Int32.toUInt32 31)).toInt32) &&& 1431655765)) >>> (Int32.toUInt32 2 &&& Int32.toUInt32 31)).toInt32) &&& 858993459)) + ((Int32.toUInt32 (((x0 - (((Int32.toUInt32 x0 >>> (Int32.toUInt32 1 &&& Int32.toUInt32 31)).toInt32) &&& 1431655765)) &&& 858993459) + (((Int32.toUInt32 (x0 - (((Int32.toUInt32 x0 >>> (Int32.toUInt32 1 &&& Int32.toUInt32 31)).toInt32) &&& 1431655765)) >>> (Int32.toUInt32 2 &&& Int32.toUInt32 31)).toInt32) &&& 858993459)) >>> (Int32.toUInt32 4 &&& Int32.toUInt32 31)).toInt32)) &&& 252645135) + ((Int32.toUInt32 (((((x0 - (((Int32.toUInt32 x0 >>> (Int32.toUInt32 1 &&& Int32.toUInt32 31)).toInt32) &&& 1431655765)) &&& 858993459) + (((Int32.toUInt32 (x0 - (((Int32.toUInt32 x0 >>> (Int32.toUInt32 1 &&& Int32.toUInt32 31)).toInt32) &&& 1431655765)) >>> (Int32.toUInt32 2 &&& Int32.toUInt32 31)).toInt32) &&& 858993459)) + ((Int32.toUInt32 (((x0 - (((Int32.toUInt32 x0 >>> (Int32.toUInt32 1 &&& Int32.toUInt32 31)).toInt32) &&& 1431655765)) &&& 858993459) + (((Int32.toUInt32 (x0 - (((Int32.toUInt32 x0 >>> (Int32.toUInt32 1 &&& Int32.toUInt32 31)).toInt32) &&& 1431655765)) >>> (Int32.toUInt32 2 &&& Int32.toUInt32 31)).toInt32) &&& 858993459)) >>> (Int32.toUInt32 4 &&& Int32.toUInt32 31)).toInt32)) &&& 252645135) >>> (Int32.toUInt32 8 &&& Int32.toUInt32 31)).toInt32)) >>> (Int32.toUInt32 16 &&& Int32.toUInt32 31)).toInt32)))]) E.1 hb dJ16_bitCount_47 rfl hl (by decide) rfl (fun ls hl => ?_)
  refine lv_iload_n E.1 hb dJ16_bitCount_48 rfl (lv_at hl 0 rfl) ?_
  refine lv_bipush (v := 63) E.1 hb dJ16_bitCount_49 rfl ?_
  refine lv_iand E.1 hb dJ16_bitCount_51 ?_
  exact c_ir E hb hr hlk hS ⟨Nat.le_refl 0, Nat.le_refl 0⟩ (ro_s hf) dJ16_bitCount_52
theorem gnJ1_init : yJ1_init.cls ≠ "java/lang/invoke/MethodHandle" ∧ yJ1_init.cls ≠ "java/lang/invoke/VarHandle" ∧ (parseMethodDescriptor yJ1_init.desc).map (fun d => d.parameters.length) = some 0 := by decide +kernel
theorem fk_J2_9_J2 : FLk RJ2 9 "java/util/ArrayList" (TJ2 1).2.1 (TJ2 1).2.2.1 := Or.inl q220
/-! java/util/ArrayList.<init>(I)V: RW -/
noncomputable def J2_init (A0 : AH) (x0 : Nat) (x1 : Int32) : Option (Unit × AH) :=
  ck A0 (bd (J1_init A0 x0) fun _ A1 => if x1 ≤ 0 then (none) else (bo (nwA A1 39 x1) fun A2 => ck A2 ( bo (pR 18 A2 1801 x0 (some (aN A1))) fun A3 => some ((), A3))))
set_option maxHeartbeats 4000000 in
theorem zJ2_init {l : Launch} {dC : Nat → ClassId} {dI : Nat → Nat → Nat} {ac : Nat → ClassId} {ad : Nat → Nat} {b : Prop} {A0 : AH} {x0 : Nat} {x1 : Int32} {A' : AH} (hf : J2_init A0 x0 x1 = some ((), A')) : Met l yJ2_init (ws_ yJ2_init cJ2_init 2 none) { frames := 4, cells := aN A' - aN A0, slots := aS A' - aS A0, locals := 81 } (va_Pc [.ref (ad x0), .int x1] (cPre dC dI ac ad b A0)) (cQv dC dI ac ad b (aN A0) (aS A0) (aN A') (aS A') A') (aN A' - aN A0) (aS A' - aS A0) (cF ad) := by
  unfold J2_init at hf
  obtain ⟨hck0, hf⟩ := ck_s hf
  refine c_of hck0 RJ2 plJ2_init rfl (Nat.le_of_ble_eq_true rfl) ?_
  intro p e s m args below meth c E hb hr hlk hnm hml hS ls hl
  have hl : lv_has ls 2 [(0, .ref (ad x0)), (1, .int x1)] := hl
  have hcs : aN A0 + 0 ≤ aN A0 ∧ aS A0 + 0 ≤ aS A0 := ⟨Nat.le_refl _, Nat.le_refl _⟩
  refine lv_aload_n E.1 hb dJ2_init_0 rfl (lv_at hl 0 rfl) ?_
  obtain ⟨_, A1, h1, hf⟩ := bd_s hf
  refine c_kv hS (va_runI ⟨E.1, hb, hml, E.2.1, E.2.2.1⟩ (zJ1_init h1) (cwI 0 E.2.2.1 (lw_meth q211) rfl rfl rfl (E.2.2.1 _ q155) (E.2.2.1 _ q209) (E.2.2.1 _ q210) rfl gnJ1_init ⟨Nat.le_of_ble_eq_true rfl, Nat.le_of_ble_eq_true rfl⟩) (c_preS E hS _) rfl rfl hl.1 rfl (lv_room (Nat.le_of_ble_eq_true rfl)) dJ2_init_1 (rm_n hcs hS.2.2.2.2)) hS.2.2.2.2 (fun H locs hS hn => ?_)
  have hcs := rm_n2 hcs hn
  refine lv_iload_n E.1 hb dJ2_init_4 rfl (lv_at hl 1 rfl) ?_
  refine lv_if_le (tgt := 19) E.1 hb dJ2_init_5 (by decide) (fun hc => ?_) (fun hc => ?_)
  · have hf := it_s hc hf
    cases hf
  · have hf := if_s hc hf
    refine lv_aload_n E.1 hb dJ2_init_8 rfl (lv_at hl 0 rfl) ?_
    refine lv_iload_n E.1 hb dJ2_init_9 rfl (lv_at hl 1 rfl) ?_
    obtain ⟨A2, hn9, hw, hf⟩ := nwA_s hf
    obtain ⟨hck, hf⟩ := ck_s hf
    refine c_anew E hb hS hcs (Or.inl ⟨rfl, rfl⟩) q216 hn9 hw hck (rm_up _ _ _ _) dJ2_init_10 (fun H cells slots hS hcs => ?_)
    obtain ⟨A3, hk, hw, hf⟩ := pR_s hf
    refine c_pR (k := 1) (f := 1801) (r := (some (aN A1))) E hb hS ci_18 hk (hS.1.lt hk rfl) rfl rfl (fun _ => rfl) (Or.inl rfl) fk_J2_9_J2 (fun _ h => h) (fun q => by cases q <;> exact ⟨rfl, rfl⟩) hw dJ2_init_13 (fun H locs hS => ?_)
    have hcs := rm_w (A2 := A3) hcs (by rw [hw]; exact ⟨rfl, rfl⟩)
    refine lv_goto (tgt := 60) E.1 hb dJ2_init_16 (by decide) ?_
    exact c_vr E hb hr hlk hS (rm_e ⟨Nat.le_trans hcs.1 hS.2.2.2.2.1, Nat.le_trans hcs.2 hS.2.2.2.2.2⟩) hf dJ2_init_60
theorem fk_J2_48_J2 : FLk RJ2 48 "java/util/ArrayList" (TJ2 2).2.1 (TJ2 2).2.2.1 := Or.inl q221
/-! java/util/ArrayList.size()I: RO -/
noncomputable def J2_size (A : AH) (x0 : Nat) : Option Int32 :=
  bo (gI 18 A 1802 x0) fun v1 => some v1
abbrev rJ2_size : Room := { frames := 0, cells := 0, slots := 0, locals := 0 }
set_option maxHeartbeats 4000000 in
theorem zJ2_size {l : Launch} {dC : Nat → ClassId} {dI : Nat → Nat → Nat} {ac : Nat → ClassId} {ad : Nat → Nat} {b : Prop} {A : AH} {x0 : Nat} {r : Int32} (hf : J2_size A x0 = some r) : Met l yJ2_size (ws_ yJ2_size cJ2_size 1 (some .int)) { frames := 0, cells := 0, slots := 0, locals := 0 } (va_Pc [.ref (ad x0)] (cPre dC dI ac ad b A)) (cQi dC dI ac ad b (aN A) (aS A) (aN A) (aS A) r A) 0 0 (cF ad) := by
  unfold J2_size at hf
  refine c_of ⟨Nat.le_refl _, Nat.le_refl _⟩ RJ2 plJ2_size rfl (Nat.le_of_ble_eq_true rfl) ?_
  intro p e s m args below meth c E hb hr hlk hnm hml hS ls hl
  have hl : lv_has ls 1 [(0, .ref (ad x0))] := hl
  refine lv_aload_n E.1 hb dJ2_size_0 rfl (lv_at hl 0 rfl) ?_
  obtain ⟨hk, hf⟩ := gI_s hf
  refine c_gI (k := 2) (f := 1802) E hb hS ci_18 hk rfl rfl rfl fk_J2_48_J2 (fun _ h => h) dJ2_size_1 ?_
  exact c_ir E hb hr hlk hS ⟨Nat.le_refl 0, Nat.le_refl 0⟩ (ro_s hf) dJ2_size_4
/-! java/util/ArrayList.elementData(I)Ljava/lang/Object;: RO -/
noncomputable def J2_elementData (A : AH) (x0 : Nat) (x1 : Int32) : Option (Option Nat) :=
  bo (gN 18 A 1801 x0) fun q1 => bo (dR_ 39 A q1 x1) fun q2 => some (some q2)
abbrev rJ2_elementData : Room := { frames := 0, cells := 0, slots := 0, locals := 0 }
set_option maxHeartbeats 4000000 in
theorem zJ2_elementData {l : Launch} {dC : Nat → ClassId} {dI : Nat → Nat → Nat} {ac : Nat → ClassId} {ad : Nat → Nat} {b : Prop} {A : AH} {x0 : Nat} {x1 : Int32} {r : Option Nat} (hf : J2_elementData A x0 x1 = some r) : Met l yJ2_elementData (ws_ yJ2_elementData cJ2_elementData 2 (some (.object "java/lang/Object"))) { frames := 0, cells := 0, slots := 0, locals := 0 } (va_Pc [.ref (ad x0), .int x1] (cPre dC dI ac ad b A)) (cQq dC dI ac ad b (aN A) (aS A) (aN A) (aS A) r A) 0 0 (cF ad) := by
  unfold J2_elementData at hf
  refine c_of ⟨Nat.le_refl _, Nat.le_refl _⟩ RJ2 plJ2_elementData rfl (Nat.le_of_ble_eq_true rfl) ?_
  intro p e s m args below meth c E hb hr hlk hnm hml hS ls hl
  have hl : lv_has ls 2 [(0, .ref (ad x0)), (1, .int x1)] := hl
  refine lv_aload_n E.1 hb dJ2_elementData_0 rfl (lv_at hl 0 rfl) ?_
  obtain ⟨q1, hk, hf⟩ := gN_s hf
  refine c_gN (k := 1) (f := 1801) E hb hS ci_18 hk.1 rfl rfl rfl hk.2 fk_J2_9_J2 (fun _ h => h) dJ2_elementData_1 ?_
  refine lv_iload_n E.1 hb dJ2_elementData_4 rfl (lv_at hl 1 rfl) ?_
  obtain ⟨q2, hg, hf⟩ := dR_s hf
  refine d_ald E hb hS (by decide) hg dJ2_elementData_5 ?_
  exact c_ar E hb hr (Or.inl ⟨_, rfl⟩) hlk hS ⟨Nat.le_refl 0, Nat.le_refl 0⟩ (v := (some q2)) (ro_s hf) dJ2_elementData_6
theorem gw_J2_118 : GoodIn lw_all (va_wsS RJ2 118 yJ11_checkIndex (ws_ yJ11_checkIndex cJ11_checkIndex 2 (some .int))) := lw_S q814 q815 q170 q816
theorem gnJ11_checkIndex : yJ11_checkIndex.cls ≠ "java/lang/invoke/MethodHandle" ∧ yJ11_checkIndex.cls ≠ "java/lang/invoke/VarHandle" ∧ (parseMethodDescriptor yJ11_checkIndex.desc).map (fun d => d.parameters.length) = some 2 := by decide +kernel
theorem gw_J2_123 : GoodIn lw_all (wsV RJ2 123 RJ2 yJ2_elementData (ws_ yJ2_elementData cJ2_elementData 2 (some (.object "java/lang/Object")))) := lw_V q820 q821 q822 q156 q823
theorem gnJ2_elementData : yJ2_elementData.cls ≠ "java/lang/invoke/MethodHandle" ∧ yJ2_elementData.cls ≠ "java/lang/invoke/VarHandle" ∧ (parseMethodDescriptor yJ2_elementData.desc).map (fun d => d.parameters.length) = some 1 := by decide +kernel
/-! java/util/ArrayList.get(I)Ljava/lang/Object;: RO -/
noncomputable def J2_get (A : AH) (x0 : Nat) (x1 : Int32) : Option (Option Nat) :=
  bo (gI 18 A 1802 x0) fun v1 => bo (J11_checkIndex x1 v1) fun r2 => if aK A x0 = 18 then ( bo (J2_elementData A x0 x1) fun r3 => some r3) else none
abbrev rJ2_get : Room := { frames := 2, cells := 0, slots := 0, locals := 43 }
set_option maxHeartbeats 4000000 in
theorem zJ2_get {l : Launch} {dC : Nat → ClassId} {dI : Nat → Nat → Nat} {ac : Nat → ClassId} {ad : Nat → Nat} {b : Prop} {A : AH} {x0 : Nat} {x1 : Int32} {r : Option Nat} (hf : J2_get A x0 x1 = some r) : Met l yJ2_get (ws_ yJ2_get cJ2_get 2 (some (.object "java/lang/Object"))) { frames := 2, cells := 0, slots := 0, locals := 43 } (va_Pc [.ref (ad x0), .int x1] (cPre dC dI ac ad b A)) (cQq dC dI ac ad b (aN A) (aS A) (aN A) (aS A) r A) 0 0 (cF ad) := by
  unfold J2_get at hf
  refine c_of ⟨Nat.le_refl _, Nat.le_refl _⟩ RJ2 plJ2_get rfl (Nat.le_of_ble_eq_true rfl) ?_
  intro p e s m args below meth c E hb hr hlk hnm hml hS ls hl
  have hl : lv_has ls 2 [(0, .ref (ad x0)), (1, .int x1)] := hl
  refine lv_iload_n E.1 hb dJ2_get_0 rfl (lv_at hl 1 rfl) ?_
  refine lv_aload_n E.1 hb dJ2_get_1 rfl (lv_at hl 0 rfl) ?_
  obtain ⟨hk, hf⟩ := gI_s hf
  refine c_gI (k := 2) (f := 1802) E hb hS ci_18 hk rfl rfl rfl fk_J2_48_J2 (fun _ h => h) dJ2_get_2 ?_
  obtain ⟨r2, h1, hf⟩ := bo_s hf
  refine c_ki hS (va_runS ⟨E.1, hb, hml, E.2.1, E.2.2.1⟩ (zJ11_checkIndex h1) (va_cwS 2 E.2.2.1 gw_J2_118 rfl rfl rfl gnJ11_checkIndex ⟨Nat.le_of_ble_eq_true rfl, Nat.le_of_ble_eq_true rfl⟩) (c_preS E hS _) rfl rfl hl.1 rfl (lv_room (Nat.le_of_ble_eq_true rfl)) dJ2_get_5 ⟨Nat.le_refl 0, Nat.le_refl 0⟩) hS.2.2.2.2 (fun H locs hS hn => ?_)
  refine lv_pop E.1 hb dJ2_get_8 rfl ?_
  refine lv_aload_n E.1 hb dJ2_get_9 rfl (lv_at hl 0 rfl) ?_
  refine lv_iload_n E.1 hb dJ2_get_10 rfl (lv_at hl 1 rfl) ?_
  obtain ⟨hkr, hf⟩ := gu_s hf
  obtain ⟨r3, h1, hf⟩ := bo_s hf
  refine c_kq hS (va_runV ⟨E.1, hb, hml, E.2.1, E.2.2.1⟩ (zJ2_elementData h1) (cwV 1 E.2.2.1 gw_J2_123 rfl rfl rfl ⟨rfl, gnJ2_elementData⟩ ⟨Nat.le_of_ble_eq_true rfl, Nat.le_of_ble_eq_true rfl⟩) (c_preV E hS ci_18 hkr (hS.1.lt hkr rfl) _) rfl rfl hl.1 rfl (lv_room (Nat.le_of_ble_eq_true rfl)) dJ2_get_11 ⟨Nat.le_refl 0, Nat.le_refl 0⟩) hS.2.2.2.2 (fun H locs hS hn => ?_)
  exact c_ar E hb hr (Or.inl ⟨_, rfl⟩) hlk hS ⟨Nat.le_refl 0, Nat.le_refl 0⟩ (v := r3) (ro_s hf) dJ2_get_14
theorem gw_J2_73 : GoodIn lw_all (va_wsS RJ2 73 yJ10_newLength (ws_ yJ10_newLength cJ10_newLength 4 (some .int))) := lw_S q902 q903 q169 q904
theorem gw_J2_66 : GoodIn lw_all (va_wsS RJ2 66 yJ13_copyOf (ws_ yJ13_copyOf cJ13_copyOf 2 (some (.array (.object "java/lang/Object"))))) := lw_S q912 q913 q173 q914
theorem gnJ13_copyOf : yJ13_copyOf.cls ≠ "java/lang/invoke/MethodHandle" ∧ yJ13_copyOf.cls ≠ "java/lang/invoke/VarHandle" ∧ (parseMethodDescriptor yJ13_copyOf.desc).map (fun d => d.parameters.length) = some 2 := by decide +kernel
/-! java/util/ArrayList.grow(I)[Ljava/lang/Object;: RW -/
noncomputable def J2_grow_2_b20 (x0 : Nat) (x1 : Int32) (A : AH) (x2 : Int32) : Option (Option Nat × AH) :=
  bda A (J10_newLength A x2 (x1 - x2) (x2 >>> (1 &&& 31))) fun r3 A4 => bo (gN 18 A4 1801 x0) fun q5 => bda A4 (J13_copyOf A4 q5 r3) fun r6 A7 => bo r6 fun q8 => bo (pR 18 A7 1801 x0 (some q8)) fun A9 => some ((some q8), A9)
noncomputable def J2_grow_2 (A0 : AH) (x0 : Nat) (x1 : Int32) : Option (Option Nat × AH) :=
  ck A0 (bo (gN 18 A0 1801 x0) fun q1 => bo (aLn 39 A0 q1) fun v2 => if 0 < v2 then (J2_grow_2_b20 x0 x1 A0 v2) else (none))
set_option maxHeartbeats 4000000 in
theorem zJ2_grow_2 {l : Launch} {dC : Nat → ClassId} {dI : Nat → Nat → Nat} {ac : Nat → ClassId} {ad : Nat → Nat} {b : Prop} {A0 : AH} {x0 : Nat} {x1 : Int32} {r : Option Nat} {A' : AH} (hf : J2_grow_2 A0 x0 x1 = some (r, A')) : Met l yJ2_grow_2 (ws_ yJ2_grow_2 cJ2_grow_2 4 (some (.array (.object "java/lang/Object")))) { frames := 6, cells := aN A' - aN A0, slots := aS A' - aS A0, locals := 126 } (va_Pc [.ref (ad x0), .int x1] (cPre dC dI ac ad b A0)) (cQq dC dI ac ad b (aN A0) (aS A0) (aN A') (aS A') r A') (aN A' - aN A0) (aS A' - aS A0) (cF ad) := by
  unfold J2_grow_2 at hf
  obtain ⟨hck0, hf⟩ := ck_s hf
  refine c_of hck0 RJ2 plJ2_grow_2 rfl (Nat.le_of_ble_eq_true rfl) ?_
  intro p e s m args below meth c E hb hr hlk hnm hml hS ls hl
  have hl : lv_has ls 4 [(0, .ref (ad x0)), (1, .int x1)] := hl
  have hcs : aN A0 + 0 ≤ aN A0 ∧ aS A0 + 0 ≤ aS A0 := ⟨Nat.le_refl _, Nat.le_refl _⟩
  have hB20 : ∀ (A : AH) (x2 : Int32), J2_grow_2_b20 x0 x1 A x2 = some (r, A') → ∀ (H : Heap) (locs : List Loc) (cells slots : Nat), aN A0 + cells ≤ aN A ∧ aS A0 + slots ≤ aS A →  cS dC dI ac ad b s.heap (aN A0) (aS A0) (aN A') (aS A') A H locs → ∀ (ls : Array Slot), lv_has ls 4 [(0, .ref (ad x0)), (1, .int x1), (2, .int x2)] → W p l e { frames := 6, cells := aN A' - aN A0, slots := aS A' - aS A0, locals := 126 } s m args below meth c H locs cells slots (MQ below (cQq dC dI ac ad b (aN A0) (aS A0) (aN A') (aS A') r A') args s (aN A' - aN A0) (aS A' - aS A0) (cF ad)) (F0 m 20 ls []) := by
    intro A x2 hf H locs cells slots hcs hS ls hl
    unfold J2_grow_2_b20 at hf
    refine lv_iload_n E.1 hb dJ2_grow_2_20 rfl (lv_at hl 2 rfl) ?_
    refine lv_iload_n E.1 hb dJ2_grow_2_21 rfl (lv_at hl 1 rfl) ?_
    refine lv_iload_n E.1 hb dJ2_grow_2_22 rfl (lv_at hl 2 rfl) ?_
    refine lv_isub E.1 hb dJ2_grow_2_23 ?_
    refine lv_iload_n E.1 hb dJ2_grow_2_24 rfl (lv_at hl 2 rfl) ?_
    refine lv_iconst (v := 1) E.1 hb dJ2_grow_2_25 rfl ?_
    refine lv_ishr E.1 hb dJ2_grow_2_26 ?_
    obtain ⟨r3, A4, h1, hge, hup, hf⟩ := bda_s hf
    refine c_ki hS (va_runS ⟨E.1, hb, hml, E.2.1, E.2.2.1⟩ (zJ10_newLength h1) (va_cwS 3 E.2.2.1 gw_J2_73 rfl rfl rfl gnJ10_newLength ⟨Nat.le_of_ble_eq_true rfl, Nat.le_of_ble_eq_true rfl⟩) (c_preS E hS _) rfl rfl hl.1 rfl (lv_room (Nat.le_of_ble_eq_true rfl)) dJ2_grow_2_27 (rm_a hcs hge hup)) hup (fun H locs hS hn => ?_)
    have hcs := rm_a2 hcs hge
    refine lv_istore_n (lv' := [(3, .int r3), (0, .ref (ad x0)), (1, .int x1), (2, .int x2)]) E.1 hb dJ2_grow_2_30 rfl hl (by decide) rfl (fun ls hl => ?_)
    refine lv_aload_n E.1 hb dJ2_grow_2_31 rfl (lv_at hl 1 rfl) ?_
    refine lv_aload_n E.1 hb dJ2_grow_2_32 rfl (lv_at hl 1 rfl) ?_
    obtain ⟨q5, hk, hf⟩ := gN_s hf
    refine c_gN (k := 1) (f := 1801) E hb hS ci_18 hk.1 rfl rfl rfl hk.2 fk_J2_9_J2 (fun _ h => h) dJ2_grow_2_33 ?_
    refine lv_iload_n E.1 hb dJ2_grow_2_36 rfl (lv_at hl 0 rfl) ?_
    obtain ⟨r6, A7, h1, hge, hup, hf⟩ := bda_s hf
    refine c_kq hS (va_runS ⟨E.1, hb, hml, E.2.1, E.2.2.1⟩ (zJ13_copyOf h1) (va_cwS 2 E.2.2.1 gw_J2_66 rfl rfl rfl gnJ13_copyOf ⟨Nat.le_of_ble_eq_true rfl, Nat.le_of_ble_eq_true rfl⟩) (c_preS E hS _) rfl rfl hl.1 rfl (lv_room (Nat.le_of_ble_eq_true rfl)) dJ2_grow_2_37 (rm_a hcs hge hup)) hup (fun H locs hS hn => ?_)
    have hcs := rm_a2 hcs hge
    obtain ⟨q8, hr9, hf⟩ := bo_s hf
    refine c_dr hr9 ?_
    refine lv_dup_x1 E.1 hb dJ2_grow_2_40 rfl rfl ?_
    obtain ⟨A9, hk, hw, hf⟩ := pR_s hf
    refine c_pR (k := 1) (f := 1801) (r := (some q8)) E hb hS ci_18 hk (hS.1.lt hk rfl) rfl rfl (fun _ => rfl) (Or.inl rfl) fk_J2_9_J2 (fun _ h => h) (fun q => by cases q <;> exact ⟨rfl, rfl⟩) hw dJ2_grow_2_41 (fun H locs hS => ?_)
    have hcs := rm_w (A2 := A9) hcs (by rw [hw]; exact ⟨rfl, rfl⟩)
    exact c_ar E hb hr (Or.inr ⟨_, rfl⟩) hlk hS (rm_e ⟨Nat.le_trans hcs.1 hS.2.2.2.2.1, Nat.le_trans hcs.2 hS.2.2.2.2.2⟩) (v := (some q8)) hf dJ2_grow_2_44
  refine lv_aload_n E.1 hb dJ2_grow_2_0 rfl (lv_at hl 0 rfl) ?_
  obtain ⟨q1, hk, hf⟩ := gN_s hf
  refine c_gN (k := 1) (f := 1801) E hb hS ci_18 hk.1 rfl rfl rfl hk.2 fk_J2_9_J2 (fun _ h => h) dJ2_grow_2_1 ?_
  obtain ⟨hk, hf⟩ := aLn_s hf
  refine c_aln E hb hS hk (hS.1.lt hk rfl) (by decide) dJ2_grow_2_4 ?_
  refine lv_istore_n (lv' := [(2, .int (Int32.ofNat (aL A0 q1))), (0, .ref (ad x0)), (1, .int x1)]) E.1 hb dJ2_grow_2_5 rfl hl (by decide) rfl (fun ls hl => ?_)
  refine lv_iload_n E.1 hb dJ2_grow_2_6 rfl (lv_at hl 0 rfl) ?_
  refine lv_if_gt (tgt := 20) E.1 hb dJ2_grow_2_7 (by decide) (fun hc => ?_) (fun hc => ?_)
  · have hf := it_s hc hf
    exact hB20 A0 (Int32.ofNat (aL A0 q1)) hf _ _ _ _ hcs hS _ (lv_sub hl [1, 2, 0] rfl)
  · have hf := if_s hc hf
    cases hf
theorem gw_J2_69 : GoodIn lw_all (wsV RJ2 69 RJ2 yJ2_grow_2 (ws_ yJ2_grow_2 cJ2_grow_2 4 (some (.array (.object "java/lang/Object"))))) := lw_V q896 q898 qs20 q156 q899
theorem gnJ2_grow_2 : yJ2_grow_2.cls ≠ "java/lang/invoke/MethodHandle" ∧ yJ2_grow_2.cls ≠ "java/lang/invoke/VarHandle" ∧ (parseMethodDescriptor yJ2_grow_2.desc).map (fun d => d.parameters.length) = some 1 := by decide +kernel
/-! java/util/ArrayList.grow()[Ljava/lang/Object;: RW -/
noncomputable def J2_grow (A0 : AH) (x0 : Nat) : Option (Option Nat × AH) :=
  ck A0 (bo (gI 18 A0 1802 x0) fun v1 => if aK A0 x0 = 18 then ( bda A0 (J2_grow_2 A0 x0 (v1 + 1)) fun r2 A3 => bo r2 fun q4 => some ((some q4), A3)) else none)
set_option maxHeartbeats 4000000 in
theorem zJ2_grow {l : Launch} {dC : Nat → ClassId} {dI : Nat → Nat → Nat} {ac : Nat → ClassId} {ad : Nat → Nat} {b : Prop} {A0 : AH} {x0 : Nat} {r : Option Nat} {A' : AH} (hf : J2_grow A0 x0 = some (r, A')) : Met l yJ2_grow (ws_ yJ2_grow cJ2_grow 1 (some (.array (.object "java/lang/Object")))) { frames := 7, cells := aN A' - aN A0, slots := aS A' - aS A0, locals := 149 } (va_Pc [.ref (ad x0)] (cPre dC dI ac ad b A0)) (cQq dC dI ac ad b (aN A0) (aS A0) (aN A') (aS A') r A') (aN A' - aN A0) (aS A' - aS A0) (cF ad) := by
  unfold J2_grow at hf
  obtain ⟨hck0, hf⟩ := ck_s hf
  refine c_of hck0 RJ2 plJ2_grow rfl (Nat.le_of_ble_eq_true rfl) ?_
  intro p e s m args below meth c E hb hr hlk hnm hml hS ls hl
  have hl : lv_has ls 1 [(0, .ref (ad x0))] := hl
  have hcs : aN A0 + 0 ≤ aN A0 ∧ aS A0 + 0 ≤ aS A0 := ⟨Nat.le_refl _, Nat.le_refl _⟩
  refine lv_aload_n E.1 hb dJ2_grow_0 rfl (lv_at hl 0 rfl) ?_
  refine lv_aload_n E.1 hb dJ2_grow_1 rfl (lv_at hl 0 rfl) ?_
  obtain ⟨hk, hf⟩ := gI_s hf
  refine c_gI (k := 2) (f := 1802) E hb hS ci_18 hk rfl rfl rfl fk_J2_48_J2 (fun _ h => h) dJ2_grow_2 ?_
  refine lv_iconst (v := 1) E.1 hb dJ2_grow_5 rfl ?_
  refine lv_iadd E.1 hb dJ2_grow_6 ?_
  obtain ⟨hkr, hf⟩ := gu_s hf
  obtain ⟨r2, A3, h1, hge, hup, hf⟩ := bda_s hf
  refine c_kq hS (va_runV ⟨E.1, hb, hml, E.2.1, E.2.2.1⟩ (zJ2_grow_2 h1) (cwV 1 E.2.2.1 gw_J2_69 rfl rfl rfl ⟨rfl, gnJ2_grow_2⟩ ⟨Nat.le_of_ble_eq_true rfl, Nat.le_of_ble_eq_true rfl⟩) (c_preV E hS ci_18 hkr (hS.1.lt hkr rfl) _) rfl rfl hl.1 rfl (lv_room (Nat.le_of_ble_eq_true rfl)) dJ2_grow_7 (rm_a hcs hge hup)) hup (fun H locs hS hn => ?_)
  have hcs := rm_a2 hcs hge
  obtain ⟨q4, hr9, hf⟩ := bo_s hf
  refine c_dr hr9 ?_
  exact c_ar E hb hr (Or.inr ⟨_, rfl⟩) hlk hS (rm_e ⟨Nat.le_trans hcs.1 hS.2.2.2.2.1, Nat.le_trans hcs.2 hS.2.2.2.2.2⟩) (v := (some q4)) hf dJ2_grow_10
theorem gw_J2_129 : GoodIn lw_all (wsV RJ2 129 RJ2 yJ2_grow (ws_ yJ2_grow cJ2_grow 1 (some (.array (.object "java/lang/Object"))))) := lw_V q892 q894 qs19 q156 q895
theorem gnJ2_grow : yJ2_grow.cls ≠ "java/lang/invoke/MethodHandle" ∧ yJ2_grow.cls ≠ "java/lang/invoke/VarHandle" ∧ (parseMethodDescriptor yJ2_grow.desc).map (fun d => d.parameters.length) = some 0 := by decide +kernel
/-! java/util/ArrayList.add(Ljava/lang/Object;[Ljava/lang/Object;I)V: RW -/
noncomputable def J2_add_2_b11 (x0 : Nat) (x1 : Nat) (x3 : Int32) (A : AH) (x2 : Nat) : Option (Unit × AH) :=
  bo (uR_ 39 A x2 x3 x1) fun A2 => bo (pI 18 A2 1802 x0 (x3 + 1)) fun A3 => some ((), A3)
noncomputable def J2_add_2 (A0 : AH) (x0 : Nat) (x1 : Nat) (x2 : Nat) (x3 : Int32) : Option (Unit × AH) :=
  ck A0 (bo (aLn 39 A0 x2) fun v1 => if x3 = v1 then (if aK A0 x0 = 18 then ( bda A0 (J2_grow A0 x0) fun r4 A5 => bo r4 fun q6 => J2_add_2_b11 x0 x1 x3 A5 q6) else none) else (J2_add_2_b11 x0 x1 x3 A0 x2))
set_option maxHeartbeats 4000000 in
theorem zJ2_add_2 {l : Launch} {dC : Nat → ClassId} {dI : Nat → Nat → Nat} {ac : Nat → ClassId} {ad : Nat → Nat} {b : Prop} {A0 : AH} {x0 : Nat} {x1 : Nat} {x2 : Nat} {x3 : Int32} {A' : AH} (hf : J2_add_2 A0 x0 x1 x2 x3 = some ((), A')) : Met l yJ2_add_2 (ws_ yJ2_add_2 cJ2_add_2 4 none) { frames := 8, cells := aN A' - aN A0, slots := aS A' - aS A0, locals := 169 } (va_Pc [.ref (ad x0), .ref (ad x1), .ref (ad x2), .int x3] (cPre dC dI ac ad b A0)) (cQv dC dI ac ad b (aN A0) (aS A0) (aN A') (aS A') A') (aN A' - aN A0) (aS A' - aS A0) (cF ad) := by
  unfold J2_add_2 at hf
  obtain ⟨hck0, hf⟩ := ck_s hf
  refine c_of hck0 RJ2 plJ2_add_2 rfl (Nat.le_of_ble_eq_true rfl) ?_
  intro p e s m args below meth c E hb hr hlk hnm hml hS ls hl
  have hl : lv_has ls 4 [(0, .ref (ad x0)), (1, .ref (ad x1)), (2, .ref (ad x2)), (3, .int x3)] := hl
  have hcs : aN A0 + 0 ≤ aN A0 ∧ aS A0 + 0 ≤ aS A0 := ⟨Nat.le_refl _, Nat.le_refl _⟩
  have hB11 : ∀ (A : AH) (x2 : Nat), J2_add_2_b11 x0 x1 x3 A x2 = some ((), A') → ∀ (H : Heap) (locs : List Loc) (cells slots : Nat), aN A0 + cells ≤ aN A ∧ aS A0 + slots ≤ aS A →  cS dC dI ac ad b s.heap (aN A0) (aS A0) (aN A') (aS A') A H locs → ∀ (ls : Array Slot), lv_has ls 4 [(0, .ref (ad x0)), (1, .ref (ad x1)), (3, .int x3), (2, .ref (ad x2))] → W p l e { frames := 8, cells := aN A' - aN A0, slots := aS A' - aS A0, locals := 169 } s m args below meth c H locs cells slots (MQ below (cQv dC dI ac ad b (aN A0) (aS A0) (aN A') (aS A') A') args s (aN A' - aN A0) (aS A' - aS A0) (cF ad)) (F0 m 11 ls []) := by
    intro A x2 hf H locs cells slots hcs hS ls hl
    unfold J2_add_2_b11 at hf
    refine lv_aload_n E.1 hb dJ2_add_2_11 rfl (lv_at hl 3 rfl) ?_
    refine lv_iload_n E.1 hb dJ2_add_2_12 rfl (lv_at hl 2 rfl) ?_
    refine lv_aload_n E.1 hb dJ2_add_2_13 rfl (lv_at hl 1 rfl) ?_
    obtain ⟨A2, hg, hw, hf⟩ := uR_s hf
    refine c_astO E hb hS hg.1 hg.2 hw dJ2_add_2_14 (fun H locs hS => ?_)
    have hcs := rm_w (A2 := A2) hcs (by rw [hw]; exact ⟨rfl, rfl⟩)
    refine lv_aload_n E.1 hb dJ2_add_2_15 rfl (lv_at hl 0 rfl) ?_
    refine lv_iload_n E.1 hb dJ2_add_2_16 rfl (lv_at hl 2 rfl) ?_
    refine lv_iconst (v := 1) E.1 hb dJ2_add_2_17 rfl ?_
    refine lv_iadd E.1 hb dJ2_add_2_18 ?_
    obtain ⟨A3, hk, hw, hf⟩ := pI_s hf
    refine c_pI (k := 2) (f := 1802) E hb hS ci_18 hk (hS.1.lt hk rfl) rfl rfl (Or.inl rfl) fk_J2_48_J2 (fun _ h => h) rfl rfl hw dJ2_add_2_19 (fun H locs hS => ?_)
    have hcs := rm_w (A2 := A3) hcs (by rw [hw]; exact ⟨rfl, rfl⟩)
    exact c_vr E hb hr hlk hS (rm_e ⟨Nat.le_trans hcs.1 hS.2.2.2.2.1, Nat.le_trans hcs.2 hS.2.2.2.2.2⟩) hf dJ2_add_2_22
  refine lv_iload_n E.1 hb dJ2_add_2_0 rfl (lv_at hl 3 rfl) ?_
  refine lv_aload_n E.1 hb dJ2_add_2_1 rfl (lv_at hl 2 rfl) ?_
  obtain ⟨hk, hf⟩ := aLn_s hf
  refine c_aln E hb hS hk (hS.1.lt hk rfl) (by decide) dJ2_add_2_2 ?_
  refine lv_icmp_ne (tgt := 11) E.1 hb dJ2_add_2_3 (by decide) (fun hc => ?_) (fun hc => ?_)
  · have hf := if_s hc hf
    exact hB11 A0 x2 hf _ _ _ _ hcs hS _ (lv_sub hl [0, 1, 3, 2] rfl)
  · have hf := it_s hc hf
    refine lv_aload_n E.1 hb dJ2_add_2_6 rfl (lv_at hl 0 rfl) ?_
    obtain ⟨hkr, hf⟩ := gu_s hf
    obtain ⟨r4, A5, h1, hge, hup, hf⟩ := bda_s hf
    refine c_kq hS (va_runV ⟨E.1, hb, hml, E.2.1, E.2.2.1⟩ (zJ2_grow h1) (cwV 0 E.2.2.1 gw_J2_129 rfl rfl rfl ⟨rfl, gnJ2_grow⟩ ⟨Nat.le_of_ble_eq_true rfl, Nat.le_of_ble_eq_true rfl⟩) (c_preV E hS ci_18 hkr (hS.1.lt hkr rfl) _) rfl rfl hl.1 rfl (lv_room (Nat.le_of_ble_eq_true rfl)) dJ2_add_2_7 (rm_a hcs hge hup)) hup (fun H locs hS hn => ?_)
    have hcs := rm_a2 hcs hge
    obtain ⟨q6, hr9, hf⟩ := bo_s hf
    refine c_dr hr9 ?_
    refine lv_astore_n (lv' := [(2, .ref (ad q6)), (0, .ref (ad x0)), (1, .ref (ad x1)), (3, .int x3)]) E.1 hb dJ2_add_2_10 rfl hl (by decide) rfl (fun ls hl => ?_)
    exact hB11 A5 q6 hf _ _ _ _ hcs hS _ (lv_sub hl [1, 2, 3, 0] rfl)
theorem fk_J2_63_J2 : FLk RJ2 63 "java/util/ArrayList" (TJ2 0).2.1 (TJ2 0).2.2.1 := Or.inl q223
theorem gw_J2_131 : GoodIn lw_all (wsV RJ2 131 RJ2 yJ2_add_2 (ws_ yJ2_add_2 cJ2_add_2 4 none)) := lw_V q888 q890 qs18 q156 q891
theorem gnJ2_add_2 : yJ2_add_2.cls ≠ "java/lang/invoke/MethodHandle" ∧ yJ2_add_2.cls ≠ "java/lang/invoke/VarHandle" ∧ (parseMethodDescriptor yJ2_add_2.desc).map (fun d => d.parameters.length) = some 3 := by decide +kernel
/-! java/util/ArrayList.add(Ljava/lang/Object;)Z: RW -/
noncomputable def J2_add (A0 : AH) (x0 : Nat) (x1 : Nat) : Option (Int32 × AH) :=
  ck A0 (bo (gI 18 A0 1800 x0) fun v1 => bo (pI 18 A0 1800 x0 (v1 + 1)) fun A2 => bo (gN 18 A2 1801 x0) fun q3 => bo (gI 18 A2 1802 x0) fun v4 => if aK A2 x0 = 18 then ( bda A2 (J2_add_2 A2 x0 x1 q3 v4) fun _ A5 => some (1, A5)) else none)
set_option maxHeartbeats 4000000 in
theorem zJ2_add {l : Launch} {dC : Nat → ClassId} {dI : Nat → Nat → Nat} {ac : Nat → ClassId} {ad : Nat → Nat} {b : Prop} {A0 : AH} {x0 : Nat} {x1 : Nat} {r : Int32} {A' : AH} (hf : J2_add A0 x0 x1 = some (r, A')) : Met l yJ2_add (ws_ yJ2_add cJ2_add 2 (some .boolean)) { frames := 9, cells := aN A' - aN A0, slots := aS A' - aS A0, locals := 192 } (va_Pc [.ref (ad x0), .ref (ad x1)] (cPre dC dI ac ad b A0)) (cQi dC dI ac ad b (aN A0) (aS A0) (aN A') (aS A') r A') (aN A' - aN A0) (aS A' - aS A0) (cF ad) := by
  unfold J2_add at hf
  obtain ⟨hck0, hf⟩ := ck_s hf
  refine c_of hck0 RJ2 plJ2_add rfl (Nat.le_of_ble_eq_true rfl) ?_
  intro p e s m args below meth c E hb hr hlk hnm hml hS ls hl
  have hl : lv_has ls 2 [(0, .ref (ad x0)), (1, .ref (ad x1))] := hl
  have hcs : aN A0 + 0 ≤ aN A0 ∧ aS A0 + 0 ≤ aS A0 := ⟨Nat.le_refl _, Nat.le_refl _⟩
  refine lv_aload_n E.1 hb dJ2_add_0 rfl (lv_at hl 0 rfl) ?_
  refine lv_dup E.1 hb dJ2_add_1 rfl ?_
  obtain ⟨hk, hf⟩ := gI_s hf
  refine c_gI (k := 0) (f := 1800) E hb hS ci_18 hk rfl rfl rfl fk_J2_63_J2 (u_same (E.2.2.1 _ q224)) dJ2_add_2 ?_
  refine lv_iconst (v := 1) E.1 hb dJ2_add_5 rfl ?_
  refine lv_iadd E.1 hb dJ2_add_6 ?_
  obtain ⟨A2, hk, hw, hf⟩ := pI_s hf
  refine c_pI (k := 0) (f := 1800) E hb hS ci_18 hk (hS.1.lt hk rfl) rfl rfl (Or.inl rfl) fk_J2_63_J2 (u_same (E.2.2.1 _ q224)) rfl rfl hw dJ2_add_7 (fun H locs hS => ?_)
  have hcs := rm_w (A2 := A2) hcs (by rw [hw]; exact ⟨rfl, rfl⟩)
  refine lv_aload_n E.1 hb dJ2_add_10 rfl (lv_at hl 0 rfl) ?_
  refine lv_aload_n E.1 hb dJ2_add_11 rfl (lv_at hl 1 rfl) ?_
  refine lv_aload_n E.1 hb dJ2_add_12 rfl (lv_at hl 0 rfl) ?_
  obtain ⟨q3, hk, hf⟩ := gN_s hf
  refine c_gN (k := 1) (f := 1801) E hb hS ci_18 hk.1 rfl rfl rfl hk.2 fk_J2_9_J2 (fun _ h => h) dJ2_add_13 ?_
  refine lv_aload_n E.1 hb dJ2_add_16 rfl (lv_at hl 0 rfl) ?_
  obtain ⟨hk, hf⟩ := gI_s hf
  refine c_gI (k := 2) (f := 1802) E hb hS ci_18 hk rfl rfl rfl fk_J2_48_J2 (fun _ h => h) dJ2_add_17 ?_
  obtain ⟨hkr, hf⟩ := gu_s hf
  obtain ⟨_, A5, h1, hge, hup, hf⟩ := bda_s hf
  refine c_kv hS (va_runV ⟨E.1, hb, hml, E.2.1, E.2.2.1⟩ (zJ2_add_2 h1) (cwV 3 E.2.2.1 gw_J2_131 rfl rfl rfl ⟨rfl, gnJ2_add_2⟩ ⟨Nat.le_of_ble_eq_true rfl, Nat.le_of_ble_eq_true rfl⟩) (c_preV E hS ci_18 hkr (hS.1.lt hkr rfl) _) rfl rfl hl.1 rfl (lv_room (Nat.le_of_ble_eq_true rfl)) dJ2_add_20 (rm_a hcs hge hup)) hup (fun H locs hS hn => ?_)
  have hcs := rm_a2 hcs hge
  refine lv_iconst (v := 1) E.1 hb dJ2_add_23 rfl ?_
  exact c_zr (ty := .boolean) E hb hr hlk hS (rm_e ⟨Nat.le_trans hcs.1 hS.2.2.2.2.1, Nat.le_trans hcs.2 hS.2.2.2.2.2⟩) rfl hf dJ2_add_24
theorem fk_J3_31_X3 : FLk RJ3 31 "java/lang/Throwable" (TX3 3).2.1 (TX3 3).2.2.1 := Or.inl q361
theorem fk_J3_7_X3 : FLk RJ3 7 "java/lang/Throwable" (TX3 0).2.1 (TX3 0).2.2.1 := Or.inl q362
theorem fk_J3_24_X3 : FLk RJ3 24 "java/lang/Throwable" (TX3 2).2.1 (TX3 2).2.2.1 := Or.inl q364
theorem fk_J3_17_X3 : FLk RJ3 17 "java/lang/Throwable" (TX3 1).2.1 (TX3 1).2.2.1 := Or.inl q363
/-! java/lang/Throwable.<init>(Ljava/lang/String;Ljava/lang/Throwable;ZZ)V: RW -/
noncomputable def J3_init_2_b41 (u1 u2 : Option Nat) (x0 : Nat) (x1 : Option Nat) (x2 : Option Nat) (x3 : Int32) (x4 : Int32) (A : AH) : Option (Unit × AH) :=
  bo (pR 4 A 403 x0 x1) fun A5 => bo (pR 4 A5 400 x0 x2) fun A6 => if x3 = 0 then (bo (pR 4 A6 402 x0 none) fun A7 => some ((), A7)) else (some ((), A6))
noncomputable def J3_init_2 (u1 u2 : Option Nat) (A0 : AH) (x0 : Nat) (x1 : Option Nat) (x2 : Option Nat) (x3 : Int32) (x4 : Int32) : Option (Unit × AH) :=
  bo (pR 4 A0 400 x0 (some x0)) fun A1 => bo (pR 4 A1 401 x0 u1) fun A2 => bo (pR 4 A2 402 x0 u2) fun A3 => if x4 = 0 then (bo (pR 4 A3 401 x0 none) fun A4 => J3_init_2_b41 u1 u2 x0 x1 x2 x3 x4 A4) else (none)
abbrev rJ3_init_2 : Room := { frames := 1, cells := 0, slots := 0, locals := 20 }
set_option maxHeartbeats 4000000 in
theorem zJ3_init_2 {l : Launch} {dC : Nat → ClassId} {dI : Nat → Nat → Nat} {ac : Nat → ClassId} {ad : Nat → Nat} {b : Prop} {u1 u2 : Option Nat} (hu : u1 = uq ad 0 ∧ u2 = uq ad 1) {A0 : AH} {x0 : Nat} {x1 : Option Nat} {x2 : Option Nat} {x3 : Int32} {x4 : Int32} {A' : AH} (hf : J3_init_2 u1 u2 A0 x0 x1 x2 x3 x4 = some ((), A')) : Met l yJ3_init_2 (ws_ yJ3_init_2 cJ3_init_2 5 none) { frames := 1, cells := 0, slots := 0, locals := 20 } (va_Pc [.ref (ad x0), va_rf (Option.map ad x1), va_rf (Option.map ad x2), .int x3, .int x4] (cPre dC dI ac ad b A0)) (cQv dC dI ac ad b (aN A0) (aS A0) (aN A0) (aS A0) A') 0 0 (cF ad) := by
  unfold J3_init_2 at hf
  refine c_of ⟨Nat.le_refl _, Nat.le_refl _⟩ RJ3 plJ3_init_2 rfl (by cases x1 <;> cases x2 <;> exact Nat.le_of_ble_eq_true rfl) ?_
  intro p e s m args below meth c E hb hr hlk hnm hml hS ls hl
  have hl : lv_has ls 5 [(0, .ref (ad x0)), (1, va_rf (Option.map ad x1)), (2, va_rf (Option.map ad x2)), (3, .int x3), (4, .int x4)] := (by cases x1 <;> cases x2 <;> exact hl)
  have hB41 : ∀ (A : AH), J3_init_2_b41 u1 u2 x0 x1 x2 x3 x4 A = some ((), A') → ∀ (H : Heap) (locs : List Loc), cS dC dI ac ad b s.heap (aN A0) (aS A0) (aN A0) (aS A0) A H locs → ∀ (ls : Array Slot), lv_has ls 5 [(0, .ref (ad x0)), (1, va_rf (Option.map ad x1)), (2, va_rf (Option.map ad x2)), (3, .int x3), (4, .int x4)] → W p l e rJ3_init_2 s m args below meth c H locs 0 0 (MQ below (cQv dC dI ac ad b (aN A0) (aS A0) (aN A0) (aS A0) A') args s 0 0 (cF ad)) (F0 m 41 ls []) := by
    intro A hf H locs hS ls hl
    unfold J3_init_2_b41 at hf
    refine lv_aload_n E.1 hb dJ3_init_2_41 rfl (lv_at hl 0 rfl) ?_
    refine c_aldv_n E hb dJ3_init_2_42 rfl (lv_at hl 1 rfl) ?_
    obtain ⟨A5, hk, hw, hf⟩ := pR_s hf
    refine c_pR (k := 3) (f := 403) (r := x1) E hb hS ci_4 hk (hS.1.lt hk rfl) rfl rfl (fun _ => rfl) (Or.inl rfl) fk_J3_31_X3 (fun _ h => h) (fun q => by cases q <;> exact ⟨rfl, rfl⟩) hw dJ3_init_2_43 (fun H locs hS => ?_)
    refine lv_aload_n E.1 hb dJ3_init_2_46 rfl (lv_at hl 0 rfl) ?_
    refine c_aldv_n E hb dJ3_init_2_47 rfl (lv_at hl 2 rfl) ?_
    obtain ⟨A6, hk, hw, hf⟩ := pR_s hf
    refine c_pR (k := 0) (f := 400) (r := x2) E hb hS ci_4 hk (hS.1.lt hk rfl) rfl rfl (fun _ => rfl) (Or.inl rfl) fk_J3_7_X3 (fun _ h => h) (fun q => by cases q <;> exact ⟨rfl, rfl⟩) hw dJ3_init_2_48 (fun H locs hS => ?_)
    refine lv_iload_n E.1 hb dJ3_init_2_51 rfl (lv_at hl 3 rfl) ?_
    refine lv_if_ne (tgt := 60) E.1 hb dJ3_init_2_52 (by decide) (fun hc => ?_) (fun hc => ?_)
    · have hf := if_s hc hf
      exact c_vr E hb hr hlk hS ⟨Nat.le_refl 0, Nat.le_refl 0⟩ hf dJ3_init_2_60
    · have hf := it_s hc hf
      refine lv_aload_n E.1 hb dJ3_init_2_55 rfl (lv_at hl 0 rfl) ?_
      refine lv_null E.1 hb dJ3_init_2_56 ?_
      obtain ⟨A7, hk, hw, hf⟩ := pR_s hf
      refine c_pR (k := 2) (f := 402) (r := none) E hb hS ci_4 hk (hS.1.lt hk rfl) rfl rfl (fun _ => rfl) (Or.inl rfl) fk_J3_24_X3 (fun _ h => h) (fun q => by cases q <;> exact ⟨rfl, rfl⟩) hw dJ3_init_2_57 (fun H locs hS => ?_)
      exact c_vr E hb hr hlk hS ⟨Nat.le_refl 0, Nat.le_refl 0⟩ hf dJ3_init_2_60
  refine lv_aload_n E.1 hb dJ3_init_2_0 rfl (lv_at hl 0 rfl) ?_
  refine W.objInit E.1 hb E.2.1 (E.2.2.1 _ q330) (E.2.2.1 _ q196) (E.2.2.1 _ q197) rfl (by rw [hml]; exact hl.1) rfl dJ3_init_2_1 (Nat.le_of_ble_eq_true rfl) (Nat.le_of_ble_eq_true rfl) ?_
  refine W.eq (g2 := F0 m 4 ls []) rfl ?_
  refine lv_aload_n E.1 hb dJ3_init_2_4 rfl (lv_at hl 0 rfl) ?_
  refine lv_aload_n E.1 hb dJ3_init_2_5 rfl (lv_at hl 0 rfl) ?_
  obtain ⟨A1, hk, hw, hf⟩ := pR_s hf
  refine c_pR (k := 0) (f := 400) (r := (some x0)) E hb hS ci_4 hk (hS.1.lt hk rfl) rfl rfl (fun _ => rfl) (Or.inl rfl) fk_J3_7_X3 (fun _ h => h) (fun q => by cases q <;> exact ⟨rfl, rfl⟩) hw dJ3_init_2_6 (fun H locs hS => ?_)
  refine lv_aload_n E.1 hb dJ3_init_2_9 rfl (lv_at hl 0 rfl) ?_
  refine c_gsu E hb hS 0 hu.1 rfl (Or.inl q331) rfl dJ3_init_2_10 ?_
  obtain ⟨A2, hk, hw, hf⟩ := pR_s hf
  refine c_pR (k := 1) (f := 401) (r := u1) E hb hS ci_4 hk (hS.1.lt hk rfl) rfl rfl (fun _ => rfl) (Or.inl rfl) fk_J3_17_X3 (fun _ h => h) (fun q => by cases q <;> exact ⟨rfl, rfl⟩) hw dJ3_init_2_13 (fun H locs hS => ?_)
  refine lv_aload_n E.1 hb dJ3_init_2_16 rfl (lv_at hl 0 rfl) ?_
  refine c_gsu E hb hS 1 hu.2 rfl (Or.inl q333) rfl dJ3_init_2_17 ?_
  obtain ⟨A3, hk, hw, hf⟩ := pR_s hf
  refine c_pR (k := 2) (f := 402) (r := u2) E hb hS ci_4 hk (hS.1.lt hk rfl) rfl rfl (fun _ => rfl) (Or.inl rfl) fk_J3_24_X3 (fun _ h => h) (fun q => by cases q <;> exact ⟨rfl, rfl⟩) hw dJ3_init_2_20 (fun H locs hS => ?_)
  refine lv_iload E.1 hb dJ3_init_2_23 (lv_at hl 4 rfl) ?_
  refine lv_if_eq (tgt := 36) E.1 hb dJ3_init_2_25 (by decide) (fun hc => ?_) (fun hc => ?_)
  · have hf := it_s hc hf
    refine lv_aload_n E.1 hb dJ3_init_2_36 rfl (lv_at hl 0 rfl) ?_
    refine lv_null E.1 hb dJ3_init_2_37 ?_
    obtain ⟨A4, hk, hw, hf⟩ := pR_s hf
    refine c_pR (k := 1) (f := 401) (r := none) E hb hS ci_4 hk (hS.1.lt hk rfl) rfl rfl (fun _ => rfl) (Or.inl rfl) fk_J3_17_X3 (fun _ h => h) (fun q => by cases q <;> exact ⟨rfl, rfl⟩) hw dJ3_init_2_38 (fun H locs hS => ?_)
    exact hB41 A4 hf _ _ hS _ (lv_sub hl [0, 1, 2, 3, 4] rfl)
  · have hf := if_s hc hf
    cases hf
theorem gnJ3_init_2 : yJ3_init_2.cls ≠ "java/lang/invoke/MethodHandle" ∧ yJ3_init_2.cls ≠ "java/lang/invoke/VarHandle" ∧ (parseMethodDescriptor yJ3_init_2.desc).map (fun d => d.parameters.length) = some 4 := by decide +kernel
/-! java/lang/Exception.<init>(Ljava/lang/String;Ljava/lang/Throwable;ZZ)V: RW -/
noncomputable def J4_init (u1 u2 : Option Nat) (A0 : AH) (x0 : Nat) (x1 : Option Nat) (x2 : Option Nat) (x3 : Int32) (x4 : Int32) : Option (Unit × AH) :=
  bd (J3_init_2 u1 u2 A0 x0 x1 x2 x3 x4) fun _ A1 => some ((), A1)
abbrev rJ4_init : Room := { frames := 2, cells := 0, slots := 0, locals := 44 }
set_option maxHeartbeats 4000000 in
theorem zJ4_init {l : Launch} {dC : Nat → ClassId} {dI : Nat → Nat → Nat} {ac : Nat → ClassId} {ad : Nat → Nat} {b : Prop} {u1 u2 : Option Nat} (hu : u1 = uq ad 0 ∧ u2 = uq ad 1) {A0 : AH} {x0 : Nat} {x1 : Option Nat} {x2 : Option Nat} {x3 : Int32} {x4 : Int32} {A' : AH} (hf : J4_init u1 u2 A0 x0 x1 x2 x3 x4 = some ((), A')) : Met l yJ4_init (ws_ yJ4_init cJ4_init 5 none) { frames := 2, cells := 0, slots := 0, locals := 44 } (va_Pc [.ref (ad x0), va_rf (Option.map ad x1), va_rf (Option.map ad x2), .int x3, .int x4] (cPre dC dI ac ad b A0)) (cQv dC dI ac ad b (aN A0) (aS A0) (aN A0) (aS A0) A') 0 0 (cF ad) := by
  unfold J4_init at hf
  refine c_of ⟨Nat.le_refl _, Nat.le_refl _⟩ RJ4 plJ4_init rfl (by cases x1 <;> cases x2 <;> exact Nat.le_of_ble_eq_true rfl) ?_
  intro p e s m args below meth c E hb hr hlk hnm hml hS ls hl
  have hl : lv_has ls 5 [(0, .ref (ad x0)), (1, va_rf (Option.map ad x1)), (2, va_rf (Option.map ad x2)), (3, .int x3), (4, .int x4)] := (by cases x1 <;> cases x2 <;> exact hl)
  refine lv_aload_n E.1 hb dJ4_init_0 rfl (lv_at hl 0 rfl) ?_
  refine c_aldv_n E hb dJ4_init_1 rfl (lv_at hl 1 rfl) ?_
  refine c_aldv_n E hb dJ4_init_2 rfl (lv_at hl 2 rfl) ?_
  refine lv_iload_n E.1 hb dJ4_init_3 rfl (lv_at hl 3 rfl) ?_
  refine lv_iload E.1 hb dJ4_init_4 (lv_at hl 4 rfl) ?_
  obtain ⟨_, A1, h1, hf⟩ := bd_s hf
  refine c_kv hS (va_runI ⟨E.1, hb, hml, E.2.1, E.2.2.1⟩ (zJ3_init_2 hu h1) (cwI 4 E.2.2.1 (lw_meth q355) rfl rfl rfl (E.2.2.1 _ q158) (E.2.2.1 _ q353) (E.2.2.1 _ q354) rfl gnJ3_init_2 ⟨Nat.le_of_ble_eq_true rfl, Nat.le_of_ble_eq_true rfl⟩) (c_preS E hS _) rfl rfl hl.1 rfl (lv_room (Nat.le_of_ble_eq_true rfl)) dJ4_init_6 ⟨Nat.le_refl 0, Nat.le_refl 0⟩) hS.2.2.2.2 (fun H locs hS hn => ?_)
  exact c_vr E hb hr hlk hS ⟨Nat.le_refl 0, Nat.le_refl 0⟩ hf dJ4_init_9
theorem gnJ4_init : yJ4_init.cls ≠ "java/lang/invoke/MethodHandle" ∧ yJ4_init.cls ≠ "java/lang/invoke/VarHandle" ∧ (parseMethodDescriptor yJ4_init.desc).map (fun d => d.parameters.length) = some 4 := by decide +kernel
/-! java/lang/RuntimeException.<init>(Ljava/lang/String;Ljava/lang/Throwable;ZZ)V: RW -/
noncomputable def J5_init (u1 u2 : Option Nat) (A0 : AH) (x0 : Nat) (x1 : Option Nat) (x2 : Option Nat) (x3 : Int32) (x4 : Int32) : Option (Unit × AH) :=
  bd (J4_init u1 u2 A0 x0 x1 x2 x3 x4) fun _ A1 => some ((), A1)
abbrev rJ5_init : Room := { frames := 3, cells := 0, slots := 0, locals := 68 }
set_option maxHeartbeats 4000000 in
theorem zJ5_init {l : Launch} {dC : Nat → ClassId} {dI : Nat → Nat → Nat} {ac : Nat → ClassId} {ad : Nat → Nat} {b : Prop} {u1 u2 : Option Nat} (hu : u1 = uq ad 0 ∧ u2 = uq ad 1) {A0 : AH} {x0 : Nat} {x1 : Option Nat} {x2 : Option Nat} {x3 : Int32} {x4 : Int32} {A' : AH} (hf : J5_init u1 u2 A0 x0 x1 x2 x3 x4 = some ((), A')) : Met l yJ5_init (ws_ yJ5_init cJ5_init 5 none) { frames := 3, cells := 0, slots := 0, locals := 68 } (va_Pc [.ref (ad x0), va_rf (Option.map ad x1), va_rf (Option.map ad x2), .int x3, .int x4] (cPre dC dI ac ad b A0)) (cQv dC dI ac ad b (aN A0) (aS A0) (aN A0) (aS A0) A') 0 0 (cF ad) := by
  unfold J5_init at hf
  refine c_of ⟨Nat.le_refl _, Nat.le_refl _⟩ RJ5 plJ5_init rfl (by cases x1 <;> cases x2 <;> exact Nat.le_of_ble_eq_true rfl) ?_
  intro p e s m args below meth c E hb hr hlk hnm hml hS ls hl
  have hl : lv_has ls 5 [(0, .ref (ad x0)), (1, va_rf (Option.map ad x1)), (2, va_rf (Option.map ad x2)), (3, .int x3), (4, .int x4)] := (by cases x1 <;> cases x2 <;> exact hl)
  refine lv_aload_n E.1 hb dJ5_init_0 rfl (lv_at hl 0 rfl) ?_
  refine c_aldv_n E hb dJ5_init_1 rfl (lv_at hl 1 rfl) ?_
  refine c_aldv_n E hb dJ5_init_2 rfl (lv_at hl 2 rfl) ?_
  refine lv_iload_n E.1 hb dJ5_init_3 rfl (lv_at hl 3 rfl) ?_
  refine lv_iload E.1 hb dJ5_init_4 (lv_at hl 4 rfl) ?_
  obtain ⟨_, A1, h1, hf⟩ := bd_s hf
  refine c_kv hS (va_runI ⟨E.1, hb, hml, E.2.1, E.2.2.1⟩ (zJ4_init hu h1) (cwI 4 E.2.2.1 (lw_meth q352) rfl rfl rfl (E.2.2.1 _ q159) (E.2.2.1 _ q350) (E.2.2.1 _ q351) rfl gnJ4_init ⟨Nat.le_of_ble_eq_true rfl, Nat.le_of_ble_eq_true rfl⟩) (c_preS E hS _) rfl rfl hl.1 rfl (lv_room (Nat.le_of_ble_eq_true rfl)) dJ5_init_6 ⟨Nat.le_refl 0, Nat.le_refl 0⟩) hS.2.2.2.2 (fun H locs hS hn => ?_)
  exact c_vr E hb hr hlk hS ⟨Nat.le_refl 0, Nat.le_refl 0⟩ hf dJ5_init_9
/-! java/lang/StringUTF16.compress([CI[BII)I: RW -/
noncomputable def J7_compress_2_b3 (N : Nat) (x0 : Nat) (x2 : Nat) (x4 : Int32) (k3 : AH → Int32 → Int32 → Int32 → Option (Int32 × AH)) (A : AH) (x1 : Int32) (x3 : Int32) (x5 : Int32) : Option (Int32 × AH) :=
  if x4 ≤ x5 then (some (x4, A)) else (bo (dI_ 34 A x0 x1) fun v1 => if v1 ≤ 255 then (bo (uB_ A x2 x3 (vp_nar .byte ((Int32.toInt8 v1).toInt32))) fun A2 => k3 A2 (x1 + 1) (x3 + 1) (x5 + 1)) else (some (x5, A)))
noncomputable def J7_compress_2 (N : Nat) (A0 : AH) (x0 : Nat) (x1 : Int32) (x2 : Nat) (x3 : Int32) (x4 : Int32) : Option (Int32 × AH) :=
  rn4 (J7_compress_2_b3 N x0 x2 x4) N A0 x1 x3 0
abbrev rJ7_compress_2 : Room := { frames := 0, cells := 0, slots := 0, locals := 0 }
set_option maxHeartbeats 4000000 in
theorem zJ7_compress_2 {l : Launch} {dC : Nat → ClassId} {dI : Nat → Nat → Nat} {ac : Nat → ClassId} {ad : Nat → Nat} {b : Prop} {N : Nat} {A0 : AH} {x0 : Nat} {x1 : Int32} {x2 : Nat} {x3 : Int32} {x4 : Int32} {r : Int32} {A' : AH} (hf : J7_compress_2 N A0 x0 x1 x2 x3 x4 = some (r, A')) : Met l yJ7_compress_2 (ws_ yJ7_compress_2 cJ7_compress_2 7 (some .int)) { frames := 0, cells := 0, slots := 0, locals := 0 } (va_Pc [.ref (ad x0), .int x1, .ref (ad x2), .int x3, .int x4] (cPre dC dI ac ad b A0)) (cQi dC dI ac ad b (aN A0) (aS A0) (aN A0) (aS A0) r A') 0 0 (cF ad) := by
  unfold J7_compress_2 at hf
  refine c_of ⟨Nat.le_refl _, Nat.le_refl _⟩ RJ7 plJ7_compress_2 rfl (Nat.le_of_ble_eq_true rfl) ?_
  intro p e s m args below meth c E hb hr hlk hnm hml hS ls hl
  have hl : lv_has ls 7 [(0, .ref (ad x0)), (1, .int x1), (2, .ref (ad x2)), (3, .int x3), (4, .int x4)] := hl
  have hL3 : ∀ (n : Nat) (A : AH) (x1 : Int32) (x3 : Int32) (x5 : Int32), rn4 (J7_compress_2_b3 N x0 x2 x4) n A x1 x3 x5 = some (r, A') → ∀ (H : Heap) (locs : List Loc), cS dC dI ac ad b s.heap (aN A0) (aS A0) (aN A0) (aS A0) A H locs → ∀ (ls : Array Slot), lv_has ls 7 [(0, .ref (ad x0)), (2, .ref (ad x2)), (4, .int x4), (1, .int x1), (3, .int x3), (5, .int x5)] → W p l e rJ7_compress_2 s m args below meth c H locs 0 0 (MQ below (cQi dC dI ac ad b (aN A0) (aS A0) (aN A0) (aS A0) r A') args s 0 0 (cF ad)) (F0 m 3 ls []) := by
    intro  n
    induction n with
    | zero =>
      intro A x1 x3 x5 hf
      cases hf
    | succ n ih =>
      intro A x1 x3 x5 hf H locs hS ls hl
      have hf : J7_compress_2_b3 N x0 x2 x4 (rn4 (J7_compress_2_b3 N x0 x2 x4) n) A x1 x3 x5 = some (r, A') := hf
      have hk3 := ih
      generalize rn4 (J7_compress_2_b3 N x0 x2 x4) n = k3 at hf hk3
      unfold J7_compress_2_b3 at hf
      refine lv_iload E.1 hb dJ7_compress_2_3 (lv_at hl 5 rfl) ?_
      refine lv_iload E.1 hb dJ7_compress_2_5 (lv_at hl 2 rfl) ?_
      refine lv_icmp_ge (tgt := 44) E.1 hb dJ7_compress_2_7 (by decide) (fun hc => ?_) (fun hc => ?_)
      · have hf := it_s hc hf
        refine lv_iload E.1 hb dJ7_compress_2_44 (lv_at hl 2 rfl) ?_
        exact c_ir E hb hr hlk hS ⟨Nat.le_refl 0, Nat.le_refl 0⟩ hf dJ7_compress_2_46
      · have hf := if_s hc hf
        refine lv_aload_n E.1 hb dJ7_compress_2_10 rfl (lv_at hl 0 rfl) ?_
        refine lv_iload_n E.1 hb dJ7_compress_2_11 rfl (lv_at hl 3 rfl) ?_
        obtain ⟨hg, hf⟩ := dI_s hf
        refine d_ld E hb hS hg rfl (Or.inr (Or.inr (Or.inl ⟨rfl, rfl⟩))) dJ7_compress_2_12 ?_
        refine lv_istore (lv' := [(6, .int (aI A 34 x0 x1.toNatClampNeg)), (0, .ref (ad x0)), (2, .ref (ad x2)), (4, .int x4), (1, .int x1), (3, .int x3), (5, .int x5)]) E.1 hb dJ7_compress_2_13 hl (by decide) rfl (fun ls hl => ?_)
        refine lv_iload E.1 hb dJ7_compress_2_15 (lv_at hl 0 rfl) ?_
        refine lv_sipush (v := 255) E.1 hb dJ7_compress_2_17 rfl ?_
        refine lv_icmp_le (tgt := 26) E.1 hb dJ7_compress_2_20 (by decide) (fun hc => ?_) (fun hc => ?_)
        · have hf := it_s hc hf
          refine lv_aload_n E.1 hb dJ7_compress_2_26 rfl (lv_at hl 2 rfl) ?_
          refine lv_iload_n E.1 hb dJ7_compress_2_27 rfl (lv_at hl 5 rfl) ?_
          refine lv_iload E.1 hb dJ7_compress_2_28 (lv_at hl 0 rfl) ?_
          refine lv_i2b E.1 hb dJ7_compress_2_30 rfl ?_
          obtain ⟨A2, hg, hw, hf⟩ := uB_s hf
          refine c_bst E hb hS hg hw dJ7_compress_2_31 (fun H locs hS => ?_)
          refine lv_iinc (v := (x1 + 1)) (lv' := [(1, .int (x1 + 1)), (6, .int (aI A 34 x0 x1.toNatClampNeg)), (0, .ref (ad x0)), (2, .ref (ad x2)), (4, .int x4), (3, .int x3), (5, .int x5)]) E.1 hb dJ7_compress_2_32 hl (k := 4) rfl rfl (by decide) rfl (fun ls hl => ?_)
          refine lv_iinc (v := (x3 + 1)) (lv' := [(3, .int (x3 + 1)), (1, .int (x1 + 1)), (6, .int (aI A 34 x0 x1.toNatClampNeg)), (0, .ref (ad x0)), (2, .ref (ad x2)), (4, .int x4), (5, .int x5)]) E.1 hb dJ7_compress_2_35 hl (k := 5) rfl rfl (by decide) rfl (fun ls hl => ?_)
          refine lv_iinc (v := (x5 + 1)) (lv' := [(5, .int (x5 + 1)), (3, .int (x3 + 1)), (1, .int (x1 + 1)), (6, .int (aI A 34 x0 x1.toNatClampNeg)), (0, .ref (ad x0)), (2, .ref (ad x2)), (4, .int x4)]) E.1 hb dJ7_compress_2_38 hl (k := 6) rfl rfl (by decide) rfl (fun ls hl => ?_)
          refine lv_goto (tgt := 3) E.1 hb dJ7_compress_2_41 (by decide) ?_
          exact hk3 A2 (x1 + 1) (x3 + 1) (x5 + 1) hf _ _ hS _ (lv_sub hl [4, 5, 6, 2, 1, 0] rfl)
        · have hf := if_s hc hf
          refine lv_iload E.1 hb dJ7_compress_2_23 (lv_at hl 6 rfl) ?_
          exact c_ir E hb hr hlk hS ⟨Nat.le_refl 0, Nat.le_refl 0⟩ hf dJ7_compress_2_25
  refine lv_iconst (v := 0) E.1 hb dJ7_compress_2_0 rfl ?_
  refine lv_istore (lv' := [(5, .int 0), (0, .ref (ad x0)), (1, .int x1), (2, .ref (ad x2)), (3, .int x3), (4, .int x4)]) E.1 hb dJ7_compress_2_1 hl (by decide) rfl (fun ls hl => ?_)
  exact hL3 N A0 x1 x3 0 hf _ _ hS _ (lv_sub hl [1, 3, 5, 2, 4, 0] rfl)
theorem gw_J7_107 : GoodIn lw_all (va_wsS RJ7 107 yJ7_newBytesFor (ws_ yJ7_newBytesFor cJ7_newBytesFor 1 (some (.array .byte)))) := lw_S q639 q640 q166 q641
theorem gnJ7_newBytesFor : yJ7_newBytesFor.cls ≠ "java/lang/invoke/MethodHandle" ∧ yJ7_newBytesFor.cls ≠ "java/lang/invoke/VarHandle" ∧ (parseMethodDescriptor yJ7_newBytesFor.desc).map (fun d => d.parameters.length) = some 1 := by decide +kernel
/-! java/lang/StringUTF16.toBytes([CII)[B: RW -/
noncomputable def J7_toBytes_b8 (N : Nat) (x0 : Nat) (x2 : Int32) (k8 : AH → Int32 → Nat → Int32 → Option (Option Nat × AH)) (A : AH) (x1 : Int32) (x3 : Nat) (x4 : Int32) : Option (Option Nat × AH) :=
  if x2 ≤ x4 then (some ((some x3), A)) else (none)
noncomputable def J7_toBytes (N : Nat) (A0 : AH) (x0 : Nat) (x1 : Int32) (x2 : Int32) : Option (Option Nat × AH) :=
  ck A0 (bda A0 (J7_newBytesFor A0 x2) fun r1 A2 => bo r1 fun q3 => rn4 (J7_toBytes_b8 N x0 x2) N A2 x1 q3 0)
set_option maxHeartbeats 4000000 in
theorem zJ7_toBytes {l : Launch} {dC : Nat → ClassId} {dI : Nat → Nat → Nat} {ac : Nat → ClassId} {ad : Nat → Nat} {b : Prop} {N : Nat} {A0 : AH} {x0 : Nat} {x1 : Int32} {x2 : Int32} {r : Option Nat} {A' : AH} (hf : J7_toBytes N A0 x0 x1 x2 = some (r, A')) : Met l yJ7_toBytes (ws_ yJ7_toBytes cJ7_toBytes 5 (some (.array .byte))) { frames := 2, cells := aN A' - aN A0, slots := aS A' - aS A0, locals := 40 } (va_Pc [.ref (ad x0), .int x1, .int x2] (cPre dC dI ac ad b A0)) (cQq dC dI ac ad b (aN A0) (aS A0) (aN A') (aS A') r A') (aN A' - aN A0) (aS A' - aS A0) (cF ad) := by
  unfold J7_toBytes at hf
  obtain ⟨hck0, hf⟩ := ck_s hf
  refine c_of hck0 RJ7 plJ7_toBytes rfl (Nat.le_of_ble_eq_true rfl) ?_
  intro p e s m args below meth c E hb hr hlk hnm hml hS ls hl
  have hl : lv_has ls 5 [(0, .ref (ad x0)), (1, .int x1), (2, .int x2)] := hl
  have hcs : aN A0 + 0 ≤ aN A0 ∧ aS A0 + 0 ≤ aS A0 := ⟨Nat.le_refl _, Nat.le_refl _⟩
  have hL8 : ∀ (n : Nat) (A : AH) (x1 : Int32) (x3 : Nat) (x4 : Int32), rn4 (J7_toBytes_b8 N x0 x2) n A x1 x3 x4 = some (r, A') → ∀ (H : Heap) (locs : List Loc) (cells slots : Nat), aN A0 + cells ≤ aN A ∧ aS A0 + slots ≤ aS A →  cS dC dI ac ad b s.heap (aN A0) (aS A0) (aN A') (aS A') A H locs → ∀ (ls : Array Slot), lv_has ls 5 [(0, .ref (ad x0)), (2, .int x2), (1, .int x1), (3, .ref (ad x3)), (4, .int x4)] → W p l e { frames := 2, cells := aN A' - aN A0, slots := aS A' - aS A0, locals := 40 } s m args below meth c H locs cells slots (MQ below (cQq dC dI ac ad b (aN A0) (aS A0) (aN A') (aS A') r A') args s (aN A' - aN A0) (aS A' - aS A0) (cF ad)) (F0 m 8 ls []) := by
    intro  n
    induction n with
    | zero =>
      intro A x1 x3 x4 hf
      cases hf
    | succ n ih =>
      intro A x1 x3 x4 hf H locs cells slots hcs hS ls hl
      have hf : J7_toBytes_b8 N x0 x2 (rn4 (J7_toBytes_b8 N x0 x2) n) A x1 x3 x4 = some (r, A') := hf
      have hk8 := ih
      generalize rn4 (J7_toBytes_b8 N x0 x2) n = k8 at hf hk8
      unfold J7_toBytes_b8 at hf
      refine lv_iload E.1 hb dJ7_toBytes_8 (lv_at hl 4 rfl) ?_
      refine lv_iload_n E.1 hb dJ7_toBytes_10 rfl (lv_at hl 1 rfl) ?_
      refine lv_icmp_ge (tgt := 32) E.1 hb dJ7_toBytes_11 (by decide) (fun hc => ?_) (fun hc => ?_)
      · have hf := it_s hc hf
        refine lv_aload_n E.1 hb dJ7_toBytes_32 rfl (lv_at hl 3 rfl) ?_
        exact c_ar E hb hr (Or.inr ⟨_, rfl⟩) hlk hS (rm_e ⟨Nat.le_trans hcs.1 hS.2.2.2.2.1, Nat.le_trans hcs.2 hS.2.2.2.2.2⟩) (v := (some x3)) hf dJ7_toBytes_33
      · have hf := if_s hc hf
        cases hf
  refine lv_iload_n E.1 hb dJ7_toBytes_0 rfl (lv_at hl 2 rfl) ?_
  obtain ⟨r1, A2, h1, hge, hup, hf⟩ := bda_s hf
  refine c_kq hS (va_runS ⟨E.1, hb, hml, E.2.1, E.2.2.1⟩ (zJ7_newBytesFor h1) (va_cwS 1 E.2.2.1 gw_J7_107 rfl rfl rfl gnJ7_newBytesFor ⟨Nat.le_of_ble_eq_true rfl, Nat.le_of_ble_eq_true rfl⟩) (c_preS E hS _) rfl rfl hl.1 rfl (lv_room (Nat.le_of_ble_eq_true rfl)) dJ7_toBytes_1 (rm_a hcs hge hup)) hup (fun H locs hS hn => ?_)
  have hcs := rm_a2 hcs hge
  obtain ⟨q3, hr9, hf⟩ := bo_s hf
  refine c_dr hr9 ?_
  refine lv_astore_n (lv' := [(3, .ref (ad q3)), (0, .ref (ad x0)), (1, .int x1), (2, .int x2)]) E.1 hb dJ7_toBytes_4 rfl hl (by decide) rfl (fun ls hl => ?_)
  refine lv_iconst (v := 0) E.1 hb dJ7_toBytes_5 rfl ?_
  refine lv_istore (lv' := [(4, .int 0), (3, .ref (ad q3)), (0, .ref (ad x0)), (1, .int x1), (2, .int x2)]) E.1 hb dJ7_toBytes_6 hl (by decide) rfl (fun ls hl => ?_)
  exact hL8 N A2 x1 q3 0 hf _ _ _ _ hcs hS _ (lv_sub hl [2, 4, 3, 1, 0] rfl)
theorem gw_J7_115 : GoodIn lw_all (va_wsS RJ7 115 yJ7_compress_2 (ws_ yJ7_compress_2 cJ7_compress_2 7 (some .int))) := lw_S q633 q634 q166 q635
theorem gnJ7_compress_2 : yJ7_compress_2.cls ≠ "java/lang/invoke/MethodHandle" ∧ yJ7_compress_2.cls ≠ "java/lang/invoke/VarHandle" ∧ (parseMethodDescriptor yJ7_compress_2.desc).map (fun d => d.parameters.length) = some 5 := by decide +kernel
/-! java/lang/StringUTF16.compress([CII)[B: RW -/
noncomputable def J7_compress (N : Nat) (A0 : AH) (x0 : Nat) (x1 : Int32) (x2 : Int32) : Option (Option Nat × AH) :=
  ck A0 (bo (nwA A0 33 x2) fun A1 => ck A1 ( bd (J7_compress_2 N A1 x0 x1 (aN A0) 0 x2) fun r2 A3 => if r2 = x2 then (some ((some (aN A0)), A3)) else (none)))
set_option maxHeartbeats 4000000 in
theorem zJ7_compress {l : Launch} {dC : Nat → ClassId} {dI : Nat → Nat → Nat} {ac : Nat → ClassId} {ad : Nat → Nat} {b : Prop} {N : Nat} {A0 : AH} {x0 : Nat} {x1 : Int32} {x2 : Int32} {r : Option Nat} {A' : AH} (hf : J7_compress N A0 x0 x1 x2 = some (r, A')) : Met l yJ7_compress (ws_ yJ7_compress cJ7_compress 6 (some (.array .byte))) { frames := 3, cells := aN A' - aN A0, slots := aS A' - aS A0, locals := 64 } (va_Pc [.ref (ad x0), .int x1, .int x2] (cPre dC dI ac ad b A0)) (cQq dC dI ac ad b (aN A0) (aS A0) (aN A') (aS A') r A') (aN A' - aN A0) (aS A' - aS A0) (cF ad) := by
  unfold J7_compress at hf
  obtain ⟨hck0, hf⟩ := ck_s hf
  refine c_of hck0 RJ7 plJ7_compress rfl (Nat.le_of_ble_eq_true rfl) ?_
  intro p e s m args below meth c E hb hr hlk hnm hml hS ls hl
  have hl : lv_has ls 6 [(0, .ref (ad x0)), (1, .int x1), (2, .int x2)] := hl
  have hcs : aN A0 + 0 ≤ aN A0 ∧ aS A0 + 0 ≤ aS A0 := ⟨Nat.le_refl _, Nat.le_refl _⟩
  refine lv_iload_n E.1 hb dJ7_compress_0 rfl (lv_at hl 2 rfl) ?_
  obtain ⟨A1, hn9, hw, hf⟩ := nwA_s hf
  obtain ⟨hck, hf⟩ := ck_s hf
  refine c_newa (atype := .byte) E hb hS hcs (Or.inr (Or.inr (Or.inl ⟨rfl, rfl⟩))) q377 hn9 hw hck (rm_up _ _ _ _) dJ7_compress_1 (fun H cells slots hS hcs => ?_)
  refine lv_astore_n (lv' := [(3, .ref (ad (aN A0))), (0, .ref (ad x0)), (1, .int x1), (2, .int x2)]) E.1 hb dJ7_compress_3 rfl hl (by decide) rfl (fun ls hl => ?_)
  refine lv_aload_n E.1 hb dJ7_compress_4 rfl (lv_at hl 1 rfl) ?_
  refine lv_iload_n E.1 hb dJ7_compress_5 rfl (lv_at hl 2 rfl) ?_
  refine lv_aload_n E.1 hb dJ7_compress_6 rfl (lv_at hl 0 rfl) ?_
  refine lv_iconst (v := 0) E.1 hb dJ7_compress_7 rfl ?_
  refine lv_iload_n E.1 hb dJ7_compress_8 rfl (lv_at hl 3 rfl) ?_
  obtain ⟨r2, A3, h1, hf⟩ := bd_s hf
  refine c_ki hS (va_runS ⟨E.1, hb, hml, E.2.1, E.2.2.1⟩ (zJ7_compress_2 h1) (va_cwS 5 E.2.2.1 gw_J7_115 rfl rfl rfl gnJ7_compress_2 ⟨Nat.le_of_ble_eq_true rfl, Nat.le_of_ble_eq_true rfl⟩) (c_preS E hS _) rfl rfl hl.1 rfl (lv_room (Nat.le_of_ble_eq_true rfl)) dJ7_compress_9 (rm_n hcs hS.2.2.2.2)) hS.2.2.2.2 (fun H locs hS hn => ?_)
  have hcs := rm_n2 hcs hn
  refine lv_istore (lv' := [(4, .int r2), (3, .ref (ad (aN A0))), (0, .ref (ad x0)), (1, .int x1), (2, .int x2)]) E.1 hb dJ7_compress_12 hl (by decide) rfl (fun ls hl => ?_)
  refine lv_iload E.1 hb dJ7_compress_14 (lv_at hl 0 rfl) ?_
  refine lv_iload_n E.1 hb dJ7_compress_16 rfl (lv_at hl 4 rfl) ?_
  refine lv_icmp_eq (tgt := 57) E.1 hb dJ7_compress_17 (by decide) (fun hc => ?_) (fun hc => ?_)
  · have hf := it_s hc hf
    refine lv_aload_n E.1 hb dJ7_compress_57 rfl (lv_at hl 1 rfl) ?_
    exact c_ar E hb hr (Or.inr ⟨_, rfl⟩) hlk hS (rm_e ⟨Nat.le_trans hcs.1 hS.2.2.2.2.1, Nat.le_trans hcs.2 hS.2.2.2.2.2⟩) (v := (some (aN A0))) hf dJ7_compress_58
  · have hf := if_s hc hf
    cases hf
/-! java/lang/StringUTF16.coderFromArrayLen([BI)B: RO -/
noncomputable def J7_coderFromArrayLen (A : AH) (x0 : Nat) (x1 : Int32) : Option Int32 :=
  bo (aLn 33 A x0) fun v1 => if vp_nar .byte ((Int32.toInt8 ((Int32.toUInt32 (x1 - v1) >>> (Int32.toUInt32 31 &&& Int32.toUInt32 31)).toInt32)).toInt32) = ((Int32.toInt8 ((Int32.toUInt32 (x1 - v1) >>> (Int32.toUInt32 31 &&& Int32.toUInt32 31)).toInt32)).toInt32) then some ((Int32.toInt8 ((Int32.toUInt32 (x1 - v1) >>> (Int32.toUInt32 31 &&& Int32.toUInt32 31)).toInt32)).toInt32) else none
abbrev rJ7_coderFromArrayLen : Room := { frames := 0, cells := 0, slots := 0, locals := 0 }
set_option maxHeartbeats 4000000 in
theorem zJ7_coderFromArrayLen {l : Launch} {dC : Nat → ClassId} {dI : Nat → Nat → Nat} {ac : Nat → ClassId} {ad : Nat → Nat} {b : Prop} {A : AH} {x0 : Nat} {x1 : Int32} {r : Int32} (hf : J7_coderFromArrayLen A x0 x1 = some r) : Met l yJ7_coderFromArrayLen (ws_ yJ7_coderFromArrayLen cJ7_coderFromArrayLen 2 (some .byte)) { frames := 0, cells := 0, slots := 0, locals := 0 } (va_Pc [.ref (ad x0), .int x1] (cPre dC dI ac ad b A)) (cQi dC dI ac ad b (aN A) (aS A) (aN A) (aS A) r A) 0 0 (cF ad) := by
  unfold J7_coderFromArrayLen at hf
  refine c_of ⟨Nat.le_refl _, Nat.le_refl _⟩ RJ7 plJ7_coderFromArrayLen rfl (Nat.le_of_ble_eq_true rfl) ?_
  intro p e s m args below meth c E hb hr hlk hnm hml hS ls hl
  have hl : lv_has ls 2 [(0, .ref (ad x0)), (1, .int x1)] := hl
  refine lv_iload_n E.1 hb dJ7_coderFromArrayLen_0 rfl (lv_at hl 1 rfl) ?_
  refine lv_aload_n E.1 hb dJ7_coderFromArrayLen_1 rfl (lv_at hl 0 rfl) ?_
  obtain ⟨hk, hf⟩ := aLn_s hf
  refine c_bln E hb hS hk (Or.inl rfl) dJ7_coderFromArrayLen_2 ?_
  refine lv_isub E.1 hb dJ7_coderFromArrayLen_3 ?_
  refine lv_bipush (v := 31) E.1 hb dJ7_coderFromArrayLen_4 rfl ?_
  refine lv_iushr E.1 hb dJ7_coderFromArrayLen_6 rfl ?_
  refine lv_i2b E.1 hb dJ7_coderFromArrayLen_7 rfl ?_
  obtain ⟨hn, hf⟩ := gu_s hf
  exact c_zr (ty := .byte) E hb hr hlk hS ⟨Nat.le_refl 0, Nat.le_refl 0⟩ (nr_b hn) (ro_s hf) dJ7_coderFromArrayLen_8
theorem gw_J6_177 : GoodIn lw_all (va_wsS RJ6 177 yJ7_compress (ws_ yJ7_compress cJ7_compress 6 (some (.array .byte)))) := lw_S q630 q631 q166 q632
theorem gnJ7_compress : yJ7_compress.cls ≠ "java/lang/invoke/MethodHandle" ∧ yJ7_compress.cls ≠ "java/lang/invoke/VarHandle" ∧ (parseMethodDescriptor yJ7_compress.desc).map (fun d => d.parameters.length) = some 3 := by decide +kernel
theorem gw_J6_47 : GoodIn lw_all (va_wsS RJ6 47 yJ7_coderFromArrayLen (ws_ yJ7_coderFromArrayLen cJ7_coderFromArrayLen 2 (some .byte))) := lw_S q675 q676 q166 q677
theorem gnJ7_coderFromArrayLen : yJ7_coderFromArrayLen.cls ≠ "java/lang/invoke/MethodHandle" ∧ yJ7_coderFromArrayLen.cls ≠ "java/lang/invoke/VarHandle" ∧ (parseMethodDescriptor yJ7_coderFromArrayLen.desc).map (fun d => d.parameters.length) = some 2 := by decide +kernel
theorem fk_J6_15_J6 : FLk RJ6 15 "java/lang/String" (TJ6 1).2.1 (TJ6 1).2.2.1 := Or.inl q680
theorem fk_J6_9_J6 : FLk RJ6 9 "java/lang/String" (TJ6 0).2.1 (TJ6 0).2.2.1 := Or.inl q679
/-! java/lang/String.<init>([CIILjava/lang/Void;)V: RW -/
noncomputable def J6_init_2 (N : Nat) (A0 : AH) (x0 : Nat) (x1 : Nat) (x2 : Int32) (x3 : Int32) (x4 : Option Nat) : Option (Unit × AH) :=
  ck A0 (if x3 = 0 then (none) else (bda A0 (J7_compress N A0 x1 x2 x3) fun r1 A2 => bo r1 fun q3 => bo (J7_coderFromArrayLen A2 q3 x3) fun r4 => if r4 = 0 ∨ r4 = 1 then ( bo (pIs A2 1901 x0 r4) fun A5 => bo (pRs A5 1900 x0 (some q3)) fun A6 => some ((), A6)) else none))
set_option maxHeartbeats 4000000 in
theorem zJ6_init_2 {l : Launch} {dC : Nat → ClassId} {dI : Nat → Nat → Nat} {ac : Nat → ClassId} {ad : Nat → Nat} {b : Prop} {N : Nat} {A0 : AH} {x0 : Nat} {x1 : Nat} {x2 : Int32} {x3 : Int32} {x4 : Option Nat} {A' : AH} (hf : J6_init_2 N A0 x0 x1 x2 x3 x4 = some ((), A')) : Met l yJ6_init_2 (ws_ yJ6_init_2 cJ6_init_2 6 none) { frames := 4, cells := aN A' - aN A0, slots := aS A' - aS A0, locals := 89 } (va_Pc [.ref (ad x0), .ref (ad x1), .int x2, .int x3, va_rf (Option.map ad x4)] (cPre dC dI ac ad b A0)) (cQv dC dI ac ad b (aN A0) (aS A0) (aN A') (aS A') A') (aN A' - aN A0) (aS A' - aS A0) (cF ad) := by
  unfold J6_init_2 at hf
  obtain ⟨hck0, hf⟩ := ck_s hf
  refine c_of hck0 RJ6 plJ6_init_2 rfl (by cases x4 <;> exact Nat.le_of_ble_eq_true rfl) ?_
  intro p e s m args below meth c E hb hr hlk hnm hml hS ls hl
  have hl : lv_has ls 6 [(0, .ref (ad x0)), (1, .ref (ad x1)), (2, .int x2), (3, .int x3), (4, va_rf (Option.map ad x4))] := (by cases x4 <;> exact hl)
  have hcs : aN A0 + 0 ≤ aN A0 ∧ aS A0 + 0 ≤ aS A0 := ⟨Nat.le_refl _, Nat.le_refl _⟩
  refine lv_aload_n E.1 hb dJ6_init_2_0 rfl (lv_at hl 0 rfl) ?_
  refine W.objInit E.1 hb E.2.1 (E.2.2.1 _ q626) (E.2.2.1 _ q196) (E.2.2.1 _ q197) rfl (by rw [hml]; exact hl.1) rfl dJ6_init_2_1 (Nat.le_of_ble_eq_true rfl) (Nat.le_of_ble_eq_true rfl) ?_
  refine W.eq (g2 := F0 m 4 ls []) rfl ?_
  refine lv_iload_n E.1 hb dJ6_init_2_4 rfl (lv_at hl 3 rfl) ?_
  refine lv_if_ne (tgt := 27) E.1 hb dJ6_init_2_5 (by decide) (fun hc => ?_) (fun hc => ?_)
  · have hf := if_s hc hf
    refine c_gst E hb hS 0 rfl (Or.inl q628) rfl dJ6_init_2_27 ?_
    refine lv_if_eq (tgt := 58) E.1 hb dJ6_init_2_30 (by decide) (fun hc => ?_) (fun hc => ?_)
    · exact absurd hc (by decide)
    · refine lv_aload_n E.1 hb dJ6_init_2_33 rfl (lv_at hl 1 rfl) ?_
      refine lv_iload_n E.1 hb dJ6_init_2_34 rfl (lv_at hl 2 rfl) ?_
      refine lv_iload_n E.1 hb dJ6_init_2_35 rfl (lv_at hl 3 rfl) ?_
      obtain ⟨r1, A2, h1, hge, hup, hf⟩ := bda_s hf
      refine c_kq hS (va_runS ⟨E.1, hb, hml, E.2.1, E.2.2.1⟩ (zJ7_compress h1) (va_cwS 3 E.2.2.1 gw_J6_177 rfl rfl rfl gnJ7_compress ⟨Nat.le_of_ble_eq_true rfl, Nat.le_of_ble_eq_true rfl⟩) (c_preS E hS _) rfl rfl hl.1 rfl (lv_room (Nat.le_of_ble_eq_true rfl)) dJ6_init_2_36 (rm_a hcs hge hup)) hup (fun H locs hS hn => ?_)
      have hcs := rm_a2 hcs hge
      obtain ⟨q3, hr9, hf⟩ := bo_s hf
      refine c_dr hr9 ?_
      refine lv_astore (lv' := [(5, .ref (ad q3)), (0, .ref (ad x0)), (1, .ref (ad x1)), (2, .int x2), (3, .int x3), (4, va_rf (Option.map ad x4))]) E.1 hb dJ6_init_2_39 hl (by decide) (by cases x4 <;> rfl) (fun ls hl => ?_)
      refine lv_aload_n E.1 hb dJ6_init_2_41 rfl (lv_at hl 1 rfl) ?_
      refine lv_aload E.1 hb dJ6_init_2_42 (lv_at hl 0 rfl) ?_
      refine lv_iload_n E.1 hb dJ6_init_2_44 rfl (lv_at hl 4 rfl) ?_
      obtain ⟨r4, h1, hf⟩ := bo_s hf
      refine c_ki hS (va_runS ⟨E.1, hb, hml, E.2.1, E.2.2.1⟩ (zJ7_coderFromArrayLen h1) (va_cwS 2 E.2.2.1 gw_J6_47 rfl rfl rfl gnJ7_coderFromArrayLen ⟨Nat.le_of_ble_eq_true rfl, Nat.le_of_ble_eq_true rfl⟩) (c_preS E hS _) rfl rfl hl.1 rfl (lv_room (Nat.le_of_ble_eq_true rfl)) dJ6_init_2_45 (rm_n hcs hS.2.2.2.2)) hS.2.2.2.2 (fun H locs hS hn => ?_)
      have hcs := rm_n2 hcs hn
      obtain ⟨hbz, hf⟩ := gu_s hf
      obtain ⟨A5, hk, hw, hf⟩ := pIs_s hf
      refine c_pI (k := 1) (f := 1901) E hb hS ci_19 hk.1 (hS.1.lt2 hk.1 (by decide) hk.2) rfl rfl (Or.inr ⟨hnm, rfl, rfl, q680⟩) fk_J6_15_J6 (fun _ h => h) (by_n hbz) (by_f hbz) hw dJ6_init_2_48 (fun H locs hS => ?_)
      have hcs := rm_w (A2 := A5) hcs (by rw [hw]; exact ⟨rfl, rfl⟩)
      refine lv_aload_n E.1 hb dJ6_init_2_51 rfl (lv_at hl 1 rfl) ?_
      refine lv_aload E.1 hb dJ6_init_2_52 (lv_at hl 0 rfl) ?_
      obtain ⟨A6, hk, hw, hf⟩ := pRs_s hf
      refine c_pR (k := 0) (f := 1900) (r := (some q3)) E hb hS ci_19 hk.1 (hS.1.lt2 hk.1 (by decide) hk.2) rfl rfl (fun _ => rfl) (Or.inr ⟨hnm, rfl, rfl, q679⟩) fk_J6_9_J6 (fun _ h => h) (fun q => by cases q <;> exact ⟨rfl, rfl⟩) hw dJ6_init_2_54 (fun H locs hS => ?_)
      have hcs := rm_w (A2 := A6) hcs (by rw [hw]; exact ⟨rfl, rfl⟩)
      exact c_vr E hb hr hlk hS (rm_e ⟨Nat.le_trans hcs.1 hS.2.2.2.2.1, Nat.le_trans hcs.2 hS.2.2.2.2.2⟩) hf dJ6_init_2_57
  · have hf := it_s hc hf
    cases hf
theorem gnJ6_init_2 : yJ6_init_2.cls ≠ "java/lang/invoke/MethodHandle" ∧ yJ6_init_2.cls ≠ "java/lang/invoke/VarHandle" ∧ (parseMethodDescriptor yJ6_init_2.desc).map (fun d => d.parameters.length) = some 4 := by decide +kernel
/-! java/lang/String.<init>([C)V: RW -/
noncomputable def J6_init (N : Nat) (A0 : AH) (x0 : Nat) (x1 : Nat) : Option (Unit × AH) :=
  ck A0 (bo (aLn 34 A0 x1) fun v1 => bda A0 (J6_init_2 N A0 x0 x1 0 v1 none) fun _ A2 => some ((), A2))
set_option maxHeartbeats 4000000 in
theorem zJ6_init {l : Launch} {dC : Nat → ClassId} {dI : Nat → Nat → Nat} {ac : Nat → ClassId} {ad : Nat → Nat} {b : Prop} {N : Nat} {A0 : AH} {x0 : Nat} {x1 : Nat} {A' : AH} (hf : J6_init N A0 x0 x1 = some ((), A')) : Met l yJ6_init (ws_ yJ6_init cJ6_init 2 none) { frames := 5, cells := aN A' - aN A0, slots := aS A' - aS A0, locals := 114 } (va_Pc [.ref (ad x0), .ref (ad x1)] (cPre dC dI ac ad b A0)) (cQv dC dI ac ad b (aN A0) (aS A0) (aN A') (aS A') A') (aN A' - aN A0) (aS A' - aS A0) (cF ad) := by
  unfold J6_init at hf
  obtain ⟨hck0, hf⟩ := ck_s hf
  refine c_of hck0 RJ6 plJ6_init rfl (Nat.le_of_ble_eq_true rfl) ?_
  intro p e s m args below meth c E hb hr hlk hnm hml hS ls hl
  have hl : lv_has ls 2 [(0, .ref (ad x0)), (1, .ref (ad x1))] := hl
  have hcs : aN A0 + 0 ≤ aN A0 ∧ aS A0 + 0 ≤ aS A0 := ⟨Nat.le_refl _, Nat.le_refl _⟩
  refine lv_aload_n E.1 hb dJ6_init_0 rfl (lv_at hl 0 rfl) ?_
  refine lv_aload_n E.1 hb dJ6_init_1 rfl (lv_at hl 1 rfl) ?_
  refine lv_iconst (v := 0) E.1 hb dJ6_init_2 rfl ?_
  refine lv_aload_n E.1 hb dJ6_init_3 rfl (lv_at hl 1 rfl) ?_
  obtain ⟨hk, hf⟩ := aLn_s hf
  refine c_aln E hb hS hk (hS.1.lt hk rfl) (by decide) dJ6_init_4 ?_
  refine lv_null E.1 hb dJ6_init_5 ?_
  obtain ⟨_, A2, h1, hge, hup, hf⟩ := bda_s hf
  refine c_kv hS (va_runI ⟨E.1, hb, hml, E.2.1, E.2.2.1⟩ (zJ6_init_2 h1) (cwI 4 E.2.2.1 (lw_meth q625) rfl rfl rfl (E.2.2.1 _ q165) (E.2.2.1 _ q623) (E.2.2.1 _ q624) rfl gnJ6_init_2 ⟨Nat.le_of_ble_eq_true rfl, Nat.le_of_ble_eq_true rfl⟩) (c_preS E hS _) rfl rfl hl.1 rfl (lv_room (Nat.le_of_ble_eq_true rfl)) dJ6_init_6 (rm_a hcs hge hup)) hup (fun H locs hS hn => ?_)
  have hcs := rm_a2 hcs hge
  exact c_vr E hb hr hlk hS (rm_e ⟨Nat.le_trans hcs.1 hS.2.2.2.2.1, Nat.le_trans hcs.2 hS.2.2.2.2.2⟩) hf dJ6_init_9
theorem gnJ6_init : yJ6_init.cls ≠ "java/lang/invoke/MethodHandle" ∧ yJ6_init.cls ≠ "java/lang/invoke/VarHandle" ∧ (parseMethodDescriptor yJ6_init.desc).map (fun d => d.parameters.length) = some 1 := by decide +kernel
/-! java/lang/String.valueOf([C)Ljava/lang/String;: RW -/
noncomputable def J6_valueOf (N : Nat) (A0 : AH) (x0 : Nat) : Option (Option Nat × AH) :=
  ck A0 (bo (nwO A0 19 4) fun A1 => ck A1 ( bda A1 (J6_init N A1 (aN A0) x0) fun _ A2 => some ((some (aN A0)), A2)))
set_option maxHeartbeats 4000000 in
theorem zJ6_valueOf {l : Launch} {dC : Nat → ClassId} {dI : Nat → Nat → Nat} {ac : Nat → ClassId} {ad : Nat → Nat} {b : Prop} {N : Nat} {A0 : AH} {x0 : Nat} {r : Option Nat} {A' : AH} (hf : J6_valueOf N A0 x0 = some (r, A')) : Met l yJ6_valueOf (ws_ yJ6_valueOf cJ6_valueOf 1 (some (.object "java/lang/String"))) { frames := 6, cells := aN A' - aN A0, slots := aS A' - aS A0, locals := 135 } (va_Pc [.ref (ad x0)] (cPre dC dI ac ad b A0)) (cQq dC dI ac ad b (aN A0) (aS A0) (aN A') (aS A') r A') (aN A' - aN A0) (aS A' - aS A0) (cF ad) := by
  unfold J6_valueOf at hf
  obtain ⟨hck0, hf⟩ := ck_s hf
  refine c_of hck0 RJ6 plJ6_valueOf rfl (Nat.le_of_ble_eq_true rfl) ?_
  intro p e s m args below meth c E hb hr hlk hnm hml hS ls hl
  have hl : lv_has ls 1 [(0, .ref (ad x0))] := hl
  have hcs : aN A0 + 0 ≤ aN A0 ∧ aS A0 + 0 ≤ aS A0 := ⟨Nat.le_refl _, Nat.le_refl _⟩
  obtain ⟨A1, hn9, hw, hf⟩ := nwO_s hf
  obtain ⟨hck, hf⟩ := ck_s hf
  refine c_new E hb hS hcs ci_19 dv_19 q618 q619 q165 hn9 hw hck (rm_up _ _ _ _) dJ6_valueOf_0 (fun H cells slots hS hcs => ?_)
  refine lv_dup E.1 hb dJ6_valueOf_3 rfl ?_
  refine lv_aload_n E.1 hb dJ6_valueOf_4 rfl (lv_at hl 0 rfl) ?_
  obtain ⟨_, A2, h1, hge, hup, hf⟩ := bda_s hf
  refine c_kv hS (va_runI ⟨E.1, hb, hml, E.2.1, E.2.2.1⟩ (zJ6_init h1) (cwI 1 E.2.2.1 (lw_meth q622) rfl rfl rfl (E.2.2.1 _ q165) (E.2.2.1 _ q620) (E.2.2.1 _ q621) rfl gnJ6_init ⟨Nat.le_of_ble_eq_true rfl, Nat.le_of_ble_eq_true rfl⟩) (c_preS E hS _) rfl rfl hl.1 rfl (lv_room (Nat.le_of_ble_eq_true rfl)) dJ6_valueOf_5 (rm_a hcs hge hup)) hup (fun H locs hS hn => ?_)
  have hcs := rm_a2 hcs hge
  exact c_ar E hb hr (Or.inl ⟨_, rfl⟩) hlk hS (rm_e ⟨Nat.le_trans hcs.1 hS.2.2.2.2.1, Nat.le_trans hcs.2 hS.2.2.2.2.2⟩) (v := (some (aN A0))) hf dJ6_valueOf_8
/-! java/lang/StringLatin1.equals([B[B)Z: RO -/
noncomputable def J9_equals_b9 (N : Nat) (x0 : Nat) (x1 : Nat) (A : AH) (k9 : Int32 → Option Int32) (x2 : Int32) : Option Int32 :=
  bo (aLn 33 A x0) fun v3 => if v3 ≤ x2 then (some 1) else (bo (dI_ 33 A x0 x2) fun v4 => bo (dI_ 33 A x1 x2) fun v5 => if v4 = v5 then (k9 (x2 + 1)) else (some 0))
noncomputable def J9_equals (N : Nat) (A : AH) (x0 : Nat) (x1 : Nat) : Option Int32 :=
  bo (aLn 33 A x0) fun v1 => bo (aLn 33 A x1) fun v2 => if v1 = v2 then (rn1 (J9_equals_b9 N x0 x1 A) N 0) else (some 0)
abbrev rJ9_equals : Room := { frames := 0, cells := 0, slots := 0, locals := 0 }
set_option maxHeartbeats 4000000 in
theorem zJ9_equals {l : Launch} {dC : Nat → ClassId} {dI : Nat → Nat → Nat} {ac : Nat → ClassId} {ad : Nat → Nat} {b : Prop} {N : Nat} {A : AH} {x0 : Nat} {x1 : Nat} {r : Int32} (hf : J9_equals N A x0 x1 = some r) : Met l yJ9_equals (ws_ yJ9_equals cJ9_equals 3 (some .boolean)) { frames := 0, cells := 0, slots := 0, locals := 0 } (va_Pc [.ref (ad x0), .ref (ad x1)] (cPre dC dI ac ad b A)) (cQi dC dI ac ad b (aN A) (aS A) (aN A) (aS A) r A) 0 0 (cF ad) := by
  unfold J9_equals at hf
  refine c_of ⟨Nat.le_refl _, Nat.le_refl _⟩ RJ9 plJ9_equals rfl (Nat.le_of_ble_eq_true rfl) ?_
  intro p e s m args below meth c E hb hr hlk hnm hml hS ls hl
  have hl : lv_has ls 3 [(0, .ref (ad x0)), (1, .ref (ad x1))] := hl
  have hL9 : ∀ (n : Nat) (x2 : Int32), rn1 (J9_equals_b9 N x0 x1 A) n x2 = some r → ∀ (H : Heap) (locs : List Loc), cS dC dI ac ad b s.heap (aN A) (aS A) (aN A) (aS A) A H locs → ∀ (ls : Array Slot), lv_has ls 3 [(0, .ref (ad x0)), (1, .ref (ad x1)), (2, .int x2)] → W p l e rJ9_equals s m args below meth c H locs 0 0 (MQ below (cQi dC dI ac ad b (aN A) (aS A) (aN A) (aS A) r A) args s 0 0 (cF ad)) (F0 m 9 ls []) := by
    intro  n
    induction n with
    | zero =>
      intro x2 hf
      cases hf
    | succ n ih =>
      intro x2 hf H locs hS ls hl
      have hf : J9_equals_b9 N x0 x1 A (rn1 (J9_equals_b9 N x0 x1 A) n) x2 = some r := hf
      have hk9 := ih
      generalize rn1 (J9_equals_b9 N x0 x1 A) n = k9 at hf hk9
      unfold J9_equals_b9 at hf
      refine lv_iload_n E.1 hb dJ9_equals_9 rfl (lv_at hl 2 rfl) ?_
      refine lv_aload_n E.1 hb dJ9_equals_10 rfl (lv_at hl 0 rfl) ?_
      obtain ⟨hk, hf⟩ := aLn_s hf
      refine c_bln E hb hS hk (Or.inl rfl) dJ9_equals_11 ?_
      refine lv_icmp_ge (tgt := 32) E.1 hb dJ9_equals_12 (by decide) (fun hc => ?_) (fun hc => ?_)
      · have hf := it_s hc hf
        refine lv_iconst (v := 1) E.1 hb dJ9_equals_32 rfl ?_
        exact c_zr (ty := .boolean) E hb hr hlk hS ⟨Nat.le_refl 0, Nat.le_refl 0⟩ rfl (ro_s hf) dJ9_equals_33
      · have hf := if_s hc hf
        refine lv_aload_n E.1 hb dJ9_equals_15 rfl (lv_at hl 0 rfl) ?_
        refine lv_iload_n E.1 hb dJ9_equals_16 rfl (lv_at hl 2 rfl) ?_
        obtain ⟨hg, hf⟩ := dI_s hf
        refine c_bld E hb hS hg dJ9_equals_17 ?_
        refine lv_aload_n E.1 hb dJ9_equals_18 rfl (lv_at hl 1 rfl) ?_
        refine lv_iload_n E.1 hb dJ9_equals_19 rfl (lv_at hl 2 rfl) ?_
        obtain ⟨hg, hf⟩ := dI_s hf
        refine c_bld E hb hS hg dJ9_equals_20 ?_
        refine lv_icmp_eq (tgt := 26) E.1 hb dJ9_equals_21 (by decide) (fun hc => ?_) (fun hc => ?_)
        · have hf := it_s hc hf
          refine lv_iinc (v := (x2 + 1)) (lv' := [(2, .int (x2 + 1)), (0, .ref (ad x0)), (1, .ref (ad x1))]) E.1 hb dJ9_equals_26 hl (k := 2) rfl rfl (by decide) rfl (fun ls hl => ?_)
          refine lv_goto (tgt := 9) E.1 hb dJ9_equals_29 (by decide) ?_
          exact hk9 (x2 + 1) hf _ _ hS _ (lv_sub hl [1, 2, 0] rfl)
        · have hf := if_s hc hf
          refine lv_iconst (v := 0) E.1 hb dJ9_equals_24 rfl ?_
          exact c_zr (ty := .boolean) E hb hr hlk hS ⟨Nat.le_refl 0, Nat.le_refl 0⟩ rfl (ro_s hf) dJ9_equals_25
  refine lv_aload_n E.1 hb dJ9_equals_0 rfl (lv_at hl 0 rfl) ?_
  obtain ⟨hk, hf⟩ := aLn_s hf
  refine c_bln E hb hS hk (Or.inl rfl) dJ9_equals_1 ?_
  refine lv_aload_n E.1 hb dJ9_equals_2 rfl (lv_at hl 1 rfl) ?_
  obtain ⟨hk, hf⟩ := aLn_s hf
  refine c_bln E hb hS hk (Or.inl rfl) dJ9_equals_3 ?_
  refine lv_icmp_ne (tgt := 34) E.1 hb dJ9_equals_4 (by decide) (fun hc => ?_) (fun hc => ?_)
  · have hf := if_s hc hf
    refine lv_iconst (v := 0) E.1 hb dJ9_equals_34 rfl ?_
    exact c_zr (ty := .boolean) E hb hr hlk hS ⟨Nat.le_refl 0, Nat.le_refl 0⟩ rfl (ro_s hf) dJ9_equals_35
  · have hf := it_s hc hf
    refine lv_iconst (v := 0) E.1 hb dJ9_equals_7 rfl ?_
    refine lv_istore_n (lv' := [(2, .int 0), (0, .ref (ad x0)), (1, .ref (ad x1))]) E.1 hb dJ9_equals_8 rfl hl (by decide) rfl (fun ls hl => ?_)
    exact hL9 N 0 hf _ _ hS _ (lv_sub hl [1, 2, 0] rfl)
theorem gw_J6_541 : GoodIn lw_all (va_wsS RJ6 541 yJ9_equals (ws_ yJ9_equals cJ9_equals 3 (some .boolean))) := lw_S q697 q698 q168 q699
theorem gnJ9_equals : yJ9_equals.cls ≠ "java/lang/invoke/MethodHandle" ∧ yJ9_equals.cls ≠ "java/lang/invoke/VarHandle" ∧ (parseMethodDescriptor yJ9_equals.desc).map (fun d => d.parameters.length) = some 2 := by decide +kernel
/-! java/lang/String.equals(Ljava/lang/Object;)Z: RO -/
noncomputable def J6_equals_b36 (N : Nat) (x0 : Nat) (x1 : Nat) (A : AH) (x2 : Nat) : Option Int32 :=
  bo (gN 19 A 1900 x0) fun q3 => bo (gN 19 A 1900 x2) fun q4 => bo (J9_equals N A q3 q4) fun r5 => if r5 = 0 then (some 0) else (some 1)
noncomputable def J6_equals (N : Nat) (A : AH) (x0 : Nat) (x1 : Nat) : Option Int32 :=
  if aK A x0 = 19 ∧ aK A x1 = 19 then ( if x0 = x1 then (some 1) else (if aK A x1 = 19 then ( if aK A x1 = 19 then (bo (gI 19 A 1901 x0) fun v1 => bo (gI 19 A 1901 x1) fun v2 => if v1 = v2 then (J6_equals_b36 N x0 x1 A x1) else (some 0)) else none) else none)) else none
abbrev rJ6_equals : Room := { frames := 1, cells := 0, slots := 0, locals := 22 }
set_option maxHeartbeats 4000000 in
theorem zJ6_equals {l : Launch} {dC : Nat → ClassId} {dI : Nat → Nat → Nat} {ac : Nat → ClassId} {ad : Nat → Nat} {b : Prop} {N : Nat} {A : AH} {x0 : Nat} {x1 : Nat} {r : Int32} (hf : J6_equals N A x0 x1 = some r) : Met l yJ6_equals (ws_ yJ6_equals cJ6_equals 3 (some .boolean)) { frames := 1, cells := 0, slots := 0, locals := 22 } (va_Pc [.ref (ad x0), .ref (ad x1)] (cPre dC dI ac ad b A)) (cQi dC dI ac ad b (aN A) (aS A) (aN A) (aS A) r A) 0 0 (cF ad) := by
  unfold J6_equals at hf
  refine c_of ⟨Nat.le_refl _, Nat.le_refl _⟩ RJ6 plJ6_equals rfl (Nat.le_of_ble_eq_true rfl) ?_
  intro p e s m args below meth c E hb hr hlk hnm hml hS ls hl
  have hl : lv_has ls 3 [(0, .ref (ad x0)), (1, .ref (ad x1))] := hl
  have hB36 : ∀ (x2 : Nat), J6_equals_b36 N x0 x1 A x2 = some r → ∀ (H : Heap) (locs : List Loc), cS dC dI ac ad b s.heap (aN A) (aS A) (aN A) (aS A) A H locs → ∀ (ls : Array Slot), lv_has ls 3 [(0, .ref (ad x0)), (1, .ref (ad x1)), (2, .ref (ad x2))] → W p l e rJ6_equals s m args below meth c H locs 0 0 (MQ below (cQi dC dI ac ad b (aN A) (aS A) (aN A) (aS A) r A) args s 0 0 (cF ad)) (F0 m 36 ls []) := by
    intro x2 hf H locs hS ls hl
    unfold J6_equals_b36 at hf
    refine lv_aload_n E.1 hb dJ6_equals_36 rfl (lv_at hl 0 rfl) ?_
    obtain ⟨q3, hk, hf⟩ := gN_s hf
    refine c_gS (k := 0) (t := 2) (f := 1900) E hb hS hk.1 rfl rfl q679 rfl dJ6_equals_37 ?_
    refine c_dr hk.2 ?_
    refine lv_aload_n E.1 hb dJ6_equals_40 rfl (lv_at hl 2 rfl) ?_
    obtain ⟨q4, hk, hf⟩ := gN_s hf
    refine c_gS (k := 0) (t := 2) (f := 1900) E hb hS hk.1 rfl rfl q679 rfl dJ6_equals_41 ?_
    refine c_dr hk.2 ?_
    obtain ⟨r5, h1, hf⟩ := bo_s hf
    refine c_ki hS (va_runS ⟨E.1, hb, hml, E.2.1, E.2.2.1⟩ (zJ9_equals h1) (va_cwS 2 E.2.2.1 gw_J6_541 rfl rfl rfl gnJ9_equals ⟨Nat.le_of_ble_eq_true rfl, Nat.le_of_ble_eq_true rfl⟩) (c_preS E hS _) rfl rfl hl.1 rfl (lv_room (Nat.le_of_ble_eq_true rfl)) dJ6_equals_44 ⟨Nat.le_refl 0, Nat.le_refl 0⟩) hS.2.2.2.2 (fun H locs hS hn => ?_)
    refine lv_if_eq (tgt := 54) E.1 hb dJ6_equals_47 (by decide) (fun hc => ?_) (fun hc => ?_)
    · have hf := it_s hc hf
      refine lv_iconst (v := 0) E.1 hb dJ6_equals_54 rfl ?_
      exact c_zr (ty := .boolean) E hb hr hlk hS ⟨Nat.le_refl 0, Nat.le_refl 0⟩ rfl (ro_s hf) dJ6_equals_55
    · have hf := if_s hc hf
      refine lv_iconst (v := 1) E.1 hb dJ6_equals_50 rfl ?_
      refine lv_goto (tgt := 55) E.1 hb dJ6_equals_51 (by decide) ?_
      exact c_zr (ty := .boolean) E hb hr hlk hS ⟨Nat.le_refl 0, Nat.le_refl 0⟩ rfl (ro_s hf) dJ6_equals_55
  refine lv_aload_n E.1 hb dJ6_equals_0 rfl (lv_at hl 0 rfl) ?_
  refine lv_aload_n E.1 hb dJ6_equals_1 rfl (lv_at hl 1 rfl) ?_
  obtain ⟨hg, hf⟩ := gu_s hf
  refine c_acmpS (tgt := 7) E hb hS hg dJ6_equals_2 (by decide) (fun hc => ?_) (fun hc => ?_)
  · have hf := if_s hc hf
    refine lv_aload_n E.1 hb dJ6_equals_7 rfl (lv_at hl 1 rfl) ?_
    obtain ⟨hg, hf⟩ := gu_s hf
    refine c_instS E hb hS hg q618 dJ6_equals_8 ?_
    refine lv_if_eq (tgt := 54) E.1 hb dJ6_equals_11 (by decide) (fun hc => ?_) (fun hc => ?_)
    · exact absurd hc (by decide)
    · refine lv_aload_n E.1 hb dJ6_equals_14 rfl (lv_at hl 1 rfl) ?_
      obtain ⟨hg, hf⟩ := gu_s hf
      refine c_castStr E hb hS hg q618 dJ6_equals_15 ?_
      refine lv_astore_n (lv' := [(2, .ref (ad x1)), (0, .ref (ad x0)), (1, .ref (ad x1))]) E.1 hb dJ6_equals_18 rfl hl (by decide) rfl (fun ls hl => ?_)
      refine c_gst E hb hS 0 rfl (Or.inl q628) rfl dJ6_equals_19 ?_
      refine lv_if_eq (tgt := 36) E.1 hb dJ6_equals_22 (by decide) (fun hc => ?_) (fun hc => ?_)
      · exact absurd hc (by decide)
      · refine lv_aload_n E.1 hb dJ6_equals_25 rfl (lv_at hl 1 rfl) ?_
        obtain ⟨hk, hf⟩ := gI_s hf
        refine c_gS (k := 1) (t := 0) (f := 1901) E hb hS hk rfl rfl q680 rfl dJ6_equals_26 ?_
        refine lv_aload_n E.1 hb dJ6_equals_29 rfl (lv_at hl 0 rfl) ?_
        obtain ⟨hk, hf⟩ := gI_s hf
        refine c_gS (k := 1) (t := 0) (f := 1901) E hb hS hk rfl rfl q680 rfl dJ6_equals_30 ?_
        refine lv_icmp_ne (tgt := 54) E.1 hb dJ6_equals_33 (by decide) (fun hc => ?_) (fun hc => ?_)
        · have hf := if_s hc hf
          refine lv_iconst (v := 0) E.1 hb dJ6_equals_54 rfl ?_
          exact c_zr (ty := .boolean) E hb hr hlk hS ⟨Nat.le_refl 0, Nat.le_refl 0⟩ rfl (ro_s hf) dJ6_equals_55
        · have hf := it_s hc hf
          exact hB36 x1 hf _ _ hS _ (lv_sub hl [1, 2, 0] rfl)
  · have hf := it_s hc hf
    refine lv_iconst (v := 1) E.1 hb dJ6_equals_5 rfl ?_
    exact c_zr (ty := .boolean) E hb hr hlk hS ⟨Nat.le_refl 0, Nat.le_refl 0⟩ rfl (ro_s hf) dJ6_equals_6
/-! java/lang/String.isLatin1()Z: RO -/
noncomputable def J6_isLatin1 (A : AH) (x0 : Nat) : Option Int32 :=
  bo (gI 19 A 1901 x0) fun v1 => if v1 = 0 then (some 1) else (some 0)
abbrev rJ6_isLatin1 : Room := { frames := 0, cells := 0, slots := 0, locals := 0 }
set_option maxHeartbeats 4000000 in
theorem zJ6_isLatin1 {l : Launch} {dC : Nat → ClassId} {dI : Nat → Nat → Nat} {ac : Nat → ClassId} {ad : Nat → Nat} {b : Prop} {A : AH} {x0 : Nat} {r : Int32} (hf : J6_isLatin1 A x0 = some r) : Met l yJ6_isLatin1 (ws_ yJ6_isLatin1 cJ6_isLatin1 1 (some .boolean)) { frames := 0, cells := 0, slots := 0, locals := 0 } (va_Pc [.ref (ad x0)] (cPre dC dI ac ad b A)) (cQi dC dI ac ad b (aN A) (aS A) (aN A) (aS A) r A) 0 0 (cF ad) := by
  unfold J6_isLatin1 at hf
  refine c_of ⟨Nat.le_refl _, Nat.le_refl _⟩ RJ6 plJ6_isLatin1 rfl (Nat.le_of_ble_eq_true rfl) ?_
  intro p e s m args below meth c E hb hr hlk hnm hml hS ls hl
  have hl : lv_has ls 1 [(0, .ref (ad x0))] := hl
  refine c_gst E hb hS 0 rfl (Or.inl q628) rfl dJ6_isLatin1_0 ?_
  refine lv_if_eq (tgt := 17) E.1 hb dJ6_isLatin1_3 (by decide) (fun hc => ?_) (fun hc => ?_)
  · exact absurd hc (by decide)
  · refine lv_aload_n E.1 hb dJ6_isLatin1_6 rfl (lv_at hl 0 rfl) ?_
    obtain ⟨hk, hf⟩ := gI_s hf
    refine c_gS (k := 1) (t := 0) (f := 1901) E hb hS hk rfl rfl q680 rfl dJ6_isLatin1_7 ?_
    refine lv_if_ne (tgt := 17) E.1 hb dJ6_isLatin1_10 (by decide) (fun hc => ?_) (fun hc => ?_)
    · have hf := if_s hc hf
      refine lv_iconst (v := 0) E.1 hb dJ6_isLatin1_17 rfl ?_
      exact c_zr (ty := .boolean) E hb hr hlk hS ⟨Nat.le_refl 0, Nat.le_refl 0⟩ rfl (ro_s hf) dJ6_isLatin1_18
    · have hf := it_s hc hf
      refine lv_iconst (v := 1) E.1 hb dJ6_isLatin1_13 rfl ?_
      refine lv_goto (tgt := 18) E.1 hb dJ6_isLatin1_14 (by decide) ?_
      exact c_zr (ty := .boolean) E hb hr hlk hS ⟨Nat.le_refl 0, Nat.le_refl 0⟩ rfl (ro_s hf) dJ6_isLatin1_18
theorem gw_J9_84 : GoodIn lw_all (va_wsS RJ9 84 yJ10_vectorizedHashCode (ws_ yJ10_vectorizedHashCode cJ10_vectorizedHashCode 5 (some .int))) := lw_S q735 q736 q169 q737
theorem gnJ10_vectorizedHashCode : yJ10_vectorizedHashCode.cls ≠ "java/lang/invoke/MethodHandle" ∧ yJ10_vectorizedHashCode.cls ≠ "java/lang/invoke/VarHandle" ∧ (parseMethodDescriptor yJ10_vectorizedHashCode.desc).map (fun d => d.parameters.length) = some 5 := by decide +kernel
/-! java/lang/StringLatin1.hashCode([B)I: RW -/
noncomputable def J9_hashCode (N : Nat) (A0 : AH) (x0 : Nat) : Option (Int32 × AH) :=
  ck A0 (bo (aLn 33 A0 x0) fun v1 => if v1 = 0 then (some (0, A0)) else (if v1 = 1 then (bo (dI_ 33 A0 x0 0) fun v2 => some ((v2 &&& 255), A0)) else (bo (aLn 33 A0 x0) fun v3 => bda A0 (J10_vectorizedHashCode N A0 x0 0 v3 0 4) fun r4 A5 => some (r4, A5))))
set_option maxHeartbeats 4000000 in
theorem zJ9_hashCode {l : Launch} {dC : Nat → ClassId} {dI : Nat → Nat → Nat} {ac : Nat → ClassId} {ad : Nat → Nat} {b : Prop} {N : Nat} {A0 : AH} {x0 : Nat} {r : Int32} {A' : AH} (hf : J9_hashCode N A0 x0 = some (r, A')) : Met l yJ9_hashCode (ws_ yJ9_hashCode cJ9_hashCode 1 (some .int)) { frames := 5, cells := aN A' - aN A0, slots := aS A' - aS A0, locals := 105 } (va_Pc [.ref (ad x0)] (cPre dC dI ac ad b A0)) (cQi dC dI ac ad b (aN A0) (aS A0) (aN A') (aS A') r A') (aN A' - aN A0) (aS A' - aS A0) (cF ad) := by
  unfold J9_hashCode at hf
  obtain ⟨hck0, hf⟩ := ck_s hf
  refine c_of hck0 RJ9 plJ9_hashCode rfl (Nat.le_of_ble_eq_true rfl) ?_
  intro p e s m args below meth c E hb hr hlk hnm hml hS ls hl
  have hl : lv_has ls 1 [(0, .ref (ad x0))] := hl
  have hcs : aN A0 + 0 ≤ aN A0 ∧ aS A0 + 0 ≤ aS A0 := ⟨Nat.le_refl _, Nat.le_refl _⟩
  refine lv_aload_n E.1 hb dJ9_hashCode_0 rfl (lv_at hl 0 rfl) ?_
  obtain ⟨hk, hf⟩ := aLn_s hf
  refine c_bln E hb hS hk (Or.inl rfl) dJ9_hashCode_1 ?_
  by_cases hc0 : (Int32.ofNat (aL A0 x0)) = 0
  · have hf := it_s hc0 hf
    refine lv_lookup (off := 26) (tgt := 28) E.1 hb dJ9_hashCode_2 rfl (by rw [hc0]; rfl) (by decide) ?_
    refine lv_iconst (v := 0) E.1 hb dJ9_hashCode_28 rfl ?_
    refine lv_goto (tgt := 51) E.1 hb dJ9_hashCode_29 (by decide) ?_
    exact c_ir E hb hr hlk hS (rm_e ⟨Nat.le_trans hcs.1 hS.2.2.2.2.1, Nat.le_trans hcs.2 hS.2.2.2.2.2⟩) hf dJ9_hashCode_51
  · have hf := if_s hc0 hf
    by_cases hc1 : (Int32.ofNat (aL A0 x0)) = 1
    · have hf := it_s hc1 hf
      refine lv_lookup (off := 30) (tgt := 32) E.1 hb dJ9_hashCode_2 rfl (by rw [hc1]; rfl) (by decide) ?_
      refine lv_aload_n E.1 hb dJ9_hashCode_32 rfl (lv_at hl 0 rfl) ?_
      refine lv_iconst (v := 0) E.1 hb dJ9_hashCode_33 rfl ?_
      obtain ⟨hg, hf⟩ := dI_s hf
      refine c_bld E hb hS hg dJ9_hashCode_34 ?_
      refine lv_sipush (v := 255) E.1 hb dJ9_hashCode_35 rfl ?_
      refine lv_iand E.1 hb dJ9_hashCode_38 ?_
      refine lv_goto (tgt := 51) E.1 hb dJ9_hashCode_39 (by decide) ?_
      exact c_ir E hb hr hlk hS (rm_e ⟨Nat.le_trans hcs.1 hS.2.2.2.2.1, Nat.le_trans hcs.2 hS.2.2.2.2.2⟩) hf dJ9_hashCode_51
    · have hf := if_s hc1 hf
      have q0 : ((Int32.ofNat (aL A0 x0)) : Int32).toInt ≠ 0 := ne_toInt hc0 rfl
      have q1 : ((Int32.ofNat (aL A0 x0)) : Int32).toInt ≠ 1 := ne_toInt hc1 rfl
      refine lv_lookup (off := 40) (tgt := 42) E.1 hb dJ9_hashCode_2 rfl (by simp only [Op.lookupswitch.offset, List.find?]; revert q0 q1; generalize ((Int32.ofNat (aL A0 x0)) : Int32).toInt = z9; intro q0 q1; simp [Ne.symm q0, q0, Ne.symm q1, q1]) (by decide) ?_
      refine lv_aload_n E.1 hb dJ9_hashCode_42 rfl (lv_at hl 0 rfl) ?_
      refine lv_iconst (v := 0) E.1 hb dJ9_hashCode_43 rfl ?_
      refine lv_aload_n E.1 hb dJ9_hashCode_44 rfl (lv_at hl 0 rfl) ?_
      obtain ⟨hk, hf⟩ := aLn_s hf
      refine c_bln E hb hS hk (Or.inl rfl) dJ9_hashCode_45 ?_
      refine lv_iconst (v := 0) E.1 hb dJ9_hashCode_46 rfl ?_
      refine lv_iconst (v := 4) E.1 hb dJ9_hashCode_47 rfl ?_
      obtain ⟨r4, A5, h1, hge, hup, hf⟩ := bda_s hf
      refine c_ki hS (va_runS ⟨E.1, hb, hml, E.2.1, E.2.2.1⟩ (zJ10_vectorizedHashCode h1) (va_cwS 5 E.2.2.1 gw_J9_84 rfl rfl rfl gnJ10_vectorizedHashCode ⟨Nat.le_of_ble_eq_true rfl, Nat.le_of_ble_eq_true rfl⟩) (c_preS E hS _) rfl rfl hl.1 rfl (lv_room (Nat.le_of_ble_eq_true rfl)) dJ9_hashCode_48 (rm_a hcs hge hup)) hup (fun H locs hS hn => ?_)
      have hcs := rm_a2 hcs hge
      exact c_ir E hb hr hlk hS (rm_e ⟨Nat.le_trans hcs.1 hS.2.2.2.2.1, Nat.le_trans hcs.2 hS.2.2.2.2.2⟩) hf dJ9_hashCode_51
theorem gw_J7_220 : GoodIn lw_all (va_wsS RJ7 220 yJ10_vectorizedHashCode (ws_ yJ10_vectorizedHashCode cJ10_vectorizedHashCode 5 (some .int))) := lw_S q776 q736 q169 q737
/-! java/lang/StringUTF16.hashCode([B)I: RW -/
noncomputable def J7_hashCode (N : Nat) (A0 : AH) (x0 : Nat) : Option (Int32 × AH) :=
  ck A0 (bo (aLn 33 A0 x0) fun v1 => if v1 = 0 then (some (0, A0)) else (if v1 = 2 then (none) else (bo (aLn 33 A0 x0) fun v2 => bda A0 (J10_vectorizedHashCode N A0 x0 0 (v2 >>> (1 &&& 31)) 0 5) fun r3 A4 => some (r3, A4))))
set_option maxHeartbeats 4000000 in
theorem zJ7_hashCode {l : Launch} {dC : Nat → ClassId} {dI : Nat → Nat → Nat} {ac : Nat → ClassId} {ad : Nat → Nat} {b : Prop} {N : Nat} {A0 : AH} {x0 : Nat} {r : Int32} {A' : AH} (hf : J7_hashCode N A0 x0 = some (r, A')) : Met l yJ7_hashCode (ws_ yJ7_hashCode cJ7_hashCode 1 (some .int)) { frames := 5, cells := aN A' - aN A0, slots := aS A' - aS A0, locals := 105 } (va_Pc [.ref (ad x0)] (cPre dC dI ac ad b A0)) (cQi dC dI ac ad b (aN A0) (aS A0) (aN A') (aS A') r A') (aN A' - aN A0) (aS A' - aS A0) (cF ad) := by
  unfold J7_hashCode at hf
  obtain ⟨hck0, hf⟩ := ck_s hf
  refine c_of hck0 RJ7 plJ7_hashCode rfl (Nat.le_of_ble_eq_true rfl) ?_
  intro p e s m args below meth c E hb hr hlk hnm hml hS ls hl
  have hl : lv_has ls 1 [(0, .ref (ad x0))] := hl
  have hcs : aN A0 + 0 ≤ aN A0 ∧ aS A0 + 0 ≤ aS A0 := ⟨Nat.le_refl _, Nat.le_refl _⟩
  refine lv_aload_n E.1 hb dJ7_hashCode_0 rfl (lv_at hl 0 rfl) ?_
  obtain ⟨hk, hf⟩ := aLn_s hf
  refine c_bln E hb hS hk (Or.inl rfl) dJ7_hashCode_1 ?_
  by_cases hc0 : (Int32.ofNat (aL A0 x0)) = 0
  · have hf := it_s hc0 hf
    refine lv_lookup (off := 26) (tgt := 28) E.1 hb dJ7_hashCode_2 rfl (by rw [hc0]; rfl) (by decide) ?_
    refine lv_iconst (v := 0) E.1 hb dJ7_hashCode_28 rfl ?_
    refine lv_goto (tgt := 51) E.1 hb dJ7_hashCode_29 (by decide) ?_
    exact c_ir E hb hr hlk hS (rm_e ⟨Nat.le_trans hcs.1 hS.2.2.2.2.1, Nat.le_trans hcs.2 hS.2.2.2.2.2⟩) hf dJ7_hashCode_51
  · have hf := if_s hc0 hf
    by_cases hc2 : (Int32.ofNat (aL A0 x0)) = 2
    · have hf := it_s hc2 hf
      refine lv_lookup (off := 30) (tgt := 32) E.1 hb dJ7_hashCode_2 rfl (by rw [hc2]; rfl) (by decide) ?_
      cases hf
    · have hf := if_s hc2 hf
      have q0 : ((Int32.ofNat (aL A0 x0)) : Int32).toInt ≠ 0 := ne_toInt hc0 rfl
      have q2 : ((Int32.ofNat (aL A0 x0)) : Int32).toInt ≠ 2 := ne_toInt hc2 rfl
      refine lv_lookup (off := 38) (tgt := 40) E.1 hb dJ7_hashCode_2 rfl (by simp only [Op.lookupswitch.offset, List.find?]; revert q0 q2; generalize ((Int32.ofNat (aL A0 x0)) : Int32).toInt = z9; intro q0 q2; simp [Ne.symm q0, q0, Ne.symm q2, q2]) (by decide) ?_
      refine lv_aload_n E.1 hb dJ7_hashCode_40 rfl (lv_at hl 0 rfl) ?_
      refine lv_iconst (v := 0) E.1 hb dJ7_hashCode_41 rfl ?_
      refine lv_aload_n E.1 hb dJ7_hashCode_42 rfl (lv_at hl 0 rfl) ?_
      obtain ⟨hk, hf⟩ := aLn_s hf
      refine c_bln E hb hS hk (Or.inl rfl) dJ7_hashCode_43 ?_
      refine lv_iconst (v := 1) E.1 hb dJ7_hashCode_44 rfl ?_
      refine lv_ishr E.1 hb dJ7_hashCode_45 ?_
      refine lv_iconst (v := 0) E.1 hb dJ7_hashCode_46 rfl ?_
      refine lv_iconst (v := 5) E.1 hb dJ7_hashCode_47 rfl ?_
      obtain ⟨r3, A4, h1, hge, hup, hf⟩ := bda_s hf
      refine c_ki hS (va_runS ⟨E.1, hb, hml, E.2.1, E.2.2.1⟩ (zJ10_vectorizedHashCode h1) (va_cwS 5 E.2.2.1 gw_J7_220 rfl rfl rfl gnJ10_vectorizedHashCode ⟨Nat.le_of_ble_eq_true rfl, Nat.le_of_ble_eq_true rfl⟩) (c_preS E hS _) rfl rfl hl.1 rfl (lv_room (Nat.le_of_ble_eq_true rfl)) dJ7_hashCode_48 (rm_a hcs hge hup)) hup (fun H locs hS hn => ?_)
      have hcs := rm_a2 hcs hge
      exact c_ir E hb hr hlk hS (rm_e ⟨Nat.le_trans hcs.1 hS.2.2.2.2.1, Nat.le_trans hcs.2 hS.2.2.2.2.2⟩) hf dJ7_hashCode_51
theorem fk_J6_19_J6 : FLk RJ6 19 "java/lang/String" (TJ6 2).2.1 (TJ6 2).2.2.1 := Or.inl q681
theorem fk_J6_23_J6 : FLk RJ6 23 "java/lang/String" (TJ6 3).2.1 (TJ6 3).2.2.1 := Or.inl q682
theorem gw_J6_492 : GoodIn lw_all (wsV RJ6 492 RJ6 yJ6_isLatin1 (ws_ yJ6_isLatin1 cJ6_isLatin1 1 (some .boolean))) := lw_V q728 q729 q730 q165 q731
theorem gnJ6_isLatin1 : yJ6_isLatin1.cls ≠ "java/lang/invoke/MethodHandle" ∧ yJ6_isLatin1.cls ≠ "java/lang/invoke/VarHandle" ∧ (parseMethodDescriptor yJ6_isLatin1.desc).map (fun d => d.parameters.length) = some 0 := by decide +kernel
theorem gw_J6_632 : GoodIn lw_all (va_wsS RJ6 632 yJ7_hashCode (ws_ yJ7_hashCode cJ7_hashCode 1 (some .int))) := lw_S q773 q774 q166 q775
theorem gnJ7_hashCode : yJ7_hashCode.cls ≠ "java/lang/invoke/MethodHandle" ∧ yJ7_hashCode.cls ≠ "java/lang/invoke/VarHandle" ∧ (parseMethodDescriptor yJ7_hashCode.desc).map (fun d => d.parameters.length) = some 1 := by decide +kernel
theorem gw_J6_628 : GoodIn lw_all (va_wsS RJ6 628 yJ9_hashCode (ws_ yJ9_hashCode cJ9_hashCode 1 (some .int))) := lw_S q732 q733 q168 q734
theorem gnJ9_hashCode : yJ9_hashCode.cls ≠ "java/lang/invoke/MethodHandle" ∧ yJ9_hashCode.cls ≠ "java/lang/invoke/VarHandle" ∧ (parseMethodDescriptor yJ9_hashCode.desc).map (fun d => d.parameters.length) = some 1 := by decide +kernel
/-! java/lang/String.hashCode()I: RW -/
noncomputable def J6_hashCode_b40 (N : Nat) (x0 : Nat) (A : AH) (y0 : Int32) : Option (Int32 × AH) :=
  if y0 = 0 then (bo (pIs A 1903 x0 1) fun A8 => some (y0, A8)) else (bo (pIs A 1902 x0 y0) fun A7 => some (y0, A7))
noncomputable def J6_hashCode (N : Nat) (A0 : AH) (x0 : Nat) : Option (Int32 × AH) :=
  ck A0 (bo (gI 19 A0 1902 x0) fun v1 => if v1 = 0 then (bo (gI 19 A0 1903 x0) fun v2 => if v2 = 0 then (if aK A0 x0 = 19 then ( bo (J6_isLatin1 A0 x0) fun r3 => if r3 = 0 then (bo (gN 19 A0 1900 x0) fun q4 => bda A0 (J7_hashCode N A0 q4) fun r5 A6 => J6_hashCode_b40 N x0 A6 r5) else (bo (gN 19 A0 1900 x0) fun q9 => bda A0 (J9_hashCode N A0 q9) fun r10 A11 => J6_hashCode_b40 N x0 A11 r10)) else none) else (some (v1, A0))) else (some (v1, A0)))
set_option maxHeartbeats 4000000 in
theorem zJ6_hashCode {l : Launch} {dC : Nat → ClassId} {dI : Nat → Nat → Nat} {ac : Nat → ClassId} {ad : Nat → Nat} {b : Prop} {N : Nat} {A0 : AH} {x0 : Nat} {r : Int32} {A' : AH} (hf : J6_hashCode N A0 x0 = some (r, A')) : Met l yJ6_hashCode (ws_ yJ6_hashCode cJ6_hashCode 2 (some .int)) { frames := 6, cells := aN A' - aN A0, slots := aS A' - aS A0, locals := 125 } (va_Pc [.ref (ad x0)] (cPre dC dI ac ad b A0)) (cQi dC dI ac ad b (aN A0) (aS A0) (aN A') (aS A') r A') (aN A' - aN A0) (aS A' - aS A0) (cF ad) := by
  unfold J6_hashCode at hf
  obtain ⟨hck0, hf⟩ := ck_s hf
  refine c_of hck0 RJ6 plJ6_hashCode rfl (Nat.le_of_ble_eq_true rfl) ?_
  intro p e s m args below meth c E hb hr hlk hnm hml hS ls hl
  have hl : lv_has ls 2 [(0, .ref (ad x0))] := hl
  have hcs : aN A0 + 0 ≤ aN A0 ∧ aS A0 + 0 ≤ aS A0 := ⟨Nat.le_refl _, Nat.le_refl _⟩
  have hB40 : ∀ (A : AH) (y0 : Int32), J6_hashCode_b40 N x0 A y0 = some (r, A') → ∀ (H : Heap) (locs : List Loc) (cells slots : Nat), aN A0 + cells ≤ aN A ∧ aS A0 + slots ≤ aS A →  cS dC dI ac ad b s.heap (aN A0) (aS A0) (aN A') (aS A') A H locs → ∀ (ls : Array Slot), lv_has ls 2 [(0, .ref (ad x0))] → W p l e { frames := 6, cells := aN A' - aN A0, slots := aS A' - aS A0, locals := 125 } s m args below meth c H locs cells slots (MQ below (cQi dC dI ac ad b (aN A0) (aS A0) (aN A') (aS A') r A') args s (aN A' - aN A0) (aS A' - aS A0) (cF ad)) (F0 m 40 ls [.int y0]) := by
    intro A y0 hf H locs cells slots hcs hS ls hl
    unfold J6_hashCode_b40 at hf
    refine lv_istore_n (lv' := [(1, .int y0), (0, .ref (ad x0))]) E.1 hb dJ6_hashCode_40 rfl hl (by decide) rfl (fun ls hl => ?_)
    refine lv_iload_n E.1 hb dJ6_hashCode_41 rfl (lv_at hl 0 rfl) ?_
    refine lv_if_ne (tgt := 53) E.1 hb dJ6_hashCode_42 (by decide) (fun hc => ?_) (fun hc => ?_)
    · have hf := if_s hc hf
      refine lv_aload_n E.1 hb dJ6_hashCode_53 rfl (lv_at hl 1 rfl) ?_
      refine lv_iload_n E.1 hb dJ6_hashCode_54 rfl (lv_at hl 0 rfl) ?_
      obtain ⟨A7, hk, hw, hf⟩ := pIs_s hf
      refine c_pI (k := 2) (f := 1902) E hb hS ci_19 hk.1 (hS.1.lt2 hk.1 (by decide) hk.2) rfl rfl (Or.inl rfl) fk_J6_19_J6 (fun _ h => h) rfl rfl hw dJ6_hashCode_55 (fun H locs hS => ?_)
      have hcs := rm_w (A2 := A7) hcs (by rw [hw]; exact ⟨rfl, rfl⟩)
      refine lv_iload_n E.1 hb dJ6_hashCode_58 rfl (lv_at hl 0 rfl) ?_
      exact c_ir E hb hr hlk hS (rm_e ⟨Nat.le_trans hcs.1 hS.2.2.2.2.1, Nat.le_trans hcs.2 hS.2.2.2.2.2⟩) hf dJ6_hashCode_59
    · have hf := it_s hc hf
      refine lv_aload_n E.1 hb dJ6_hashCode_45 rfl (lv_at hl 1 rfl) ?_
      refine lv_iconst (v := 1) E.1 hb dJ6_hashCode_46 rfl ?_
      obtain ⟨A8, hk, hw, hf⟩ := pIs_s hf
      refine c_pI (k := 3) (f := 1903) E hb hS ci_19 hk.1 (hS.1.lt2 hk.1 (by decide) hk.2) rfl rfl (Or.inl rfl) fk_J6_23_J6 (fun _ h => h) rfl rfl hw dJ6_hashCode_47 (fun H locs hS => ?_)
      have hcs := rm_w (A2 := A8) hcs (by rw [hw]; exact ⟨rfl, rfl⟩)
      refine lv_goto (tgt := 58) E.1 hb dJ6_hashCode_50 (by decide) ?_
      refine lv_iload_n E.1 hb dJ6_hashCode_58 rfl (lv_at hl 0 rfl) ?_
      exact c_ir E hb hr hlk hS (rm_e ⟨Nat.le_trans hcs.1 hS.2.2.2.2.1, Nat.le_trans hcs.2 hS.2.2.2.2.2⟩) hf dJ6_hashCode_59
  refine lv_aload_n E.1 hb dJ6_hashCode_0 rfl (lv_at hl 0 rfl) ?_
  obtain ⟨hk, hf⟩ := gI_s hf
  refine c_gS (k := 2) (t := 0) (f := 1902) E hb hS hk rfl rfl q681 rfl dJ6_hashCode_1 ?_
  refine lv_istore_n (lv' := [(1, .int (aI A0 1902 x0 0)), (0, .ref (ad x0))]) E.1 hb dJ6_hashCode_4 rfl hl (by decide) rfl (fun ls hl => ?_)
  refine lv_iload_n E.1 hb dJ6_hashCode_5 rfl (lv_at hl 0 rfl) ?_
  refine lv_if_ne (tgt := 58) E.1 hb dJ6_hashCode_6 (by decide) (fun hc => ?_) (fun hc => ?_)
  · have hf := if_s hc hf
    refine lv_iload_n E.1 hb dJ6_hashCode_58 rfl (lv_at hl 0 rfl) ?_
    exact c_ir E hb hr hlk hS (rm_e ⟨Nat.le_trans hcs.1 hS.2.2.2.2.1, Nat.le_trans hcs.2 hS.2.2.2.2.2⟩) hf dJ6_hashCode_59
  · have hf := it_s hc hf
    refine lv_aload_n E.1 hb dJ6_hashCode_9 rfl (lv_at hl 1 rfl) ?_
    obtain ⟨hk, hf⟩ := gI_s hf
    refine c_gS (k := 3) (t := 0) (f := 1903) E hb hS hk rfl rfl q682 rfl dJ6_hashCode_10 ?_
    refine lv_if_ne (tgt := 58) E.1 hb dJ6_hashCode_13 (by decide) (fun hc => ?_) (fun hc => ?_)
    · have hf := if_s hc hf
      refine lv_iload_n E.1 hb dJ6_hashCode_58 rfl (lv_at hl 0 rfl) ?_
      exact c_ir E hb hr hlk hS (rm_e ⟨Nat.le_trans hcs.1 hS.2.2.2.2.1, Nat.le_trans hcs.2 hS.2.2.2.2.2⟩) hf dJ6_hashCode_59
    · have hf := it_s hc hf
      refine lv_aload_n E.1 hb dJ6_hashCode_16 rfl (lv_at hl 1 rfl) ?_
      obtain ⟨hkr, hf⟩ := gu_s hf
      obtain ⟨r3, h1, hf⟩ := bo_s hf
      refine c_ki hS (va_runV ⟨E.1, hb, hml, E.2.1, E.2.2.1⟩ (zJ6_isLatin1 h1) (cwV 0 E.2.2.1 gw_J6_492 rfl rfl rfl ⟨rfl, gnJ6_isLatin1⟩ ⟨Nat.le_of_ble_eq_true rfl, Nat.le_of_ble_eq_true rfl⟩) (c_preVS E hS hkr _) rfl rfl hl.1 rfl (lv_room (Nat.le_of_ble_eq_true rfl)) dJ6_hashCode_17 (rm_n hcs hS.2.2.2.2)) hS.2.2.2.2 (fun H locs hS hn => ?_)
      have hcs := rm_n2 hcs hn
      refine lv_if_eq (tgt := 33) E.1 hb dJ6_hashCode_20 (by decide) (fun hc => ?_) (fun hc => ?_)
      · have hf := it_s hc hf
        refine lv_aload_n E.1 hb dJ6_hashCode_33 rfl (lv_at hl 1 rfl) ?_
        obtain ⟨q4, hk, hf⟩ := gN_s hf
        refine c_gS (k := 0) (t := 2) (f := 1900) E hb hS hk.1 rfl rfl q679 rfl dJ6_hashCode_34 ?_
        refine c_dr hk.2 ?_
        obtain ⟨r5, A6, h1, hge, hup, hf⟩ := bda_s hf
        refine c_ki hS (va_runS ⟨E.1, hb, hml, E.2.1, E.2.2.1⟩ (zJ7_hashCode h1) (va_cwS 1 E.2.2.1 gw_J6_632 rfl rfl rfl gnJ7_hashCode ⟨Nat.le_of_ble_eq_true rfl, Nat.le_of_ble_eq_true rfl⟩) (c_preS E hS _) rfl rfl hl.1 rfl (lv_room (Nat.le_of_ble_eq_true rfl)) dJ6_hashCode_37 (rm_a hcs hge hup)) hup (fun H locs hS hn => ?_)
        have hcs := rm_a2 hcs hge
        exact hB40 A6 r5 hf _ _ _ _ hcs hS _ (lv_sub hl [1] rfl)
      · have hf := if_s hc hf
        refine lv_aload_n E.1 hb dJ6_hashCode_23 rfl (lv_at hl 1 rfl) ?_
        obtain ⟨q9, hk, hf⟩ := gN_s hf
        refine c_gS (k := 0) (t := 2) (f := 1900) E hb hS hk.1 rfl rfl q679 rfl dJ6_hashCode_24 ?_
        refine c_dr hk.2 ?_
        obtain ⟨r10, A11, h1, hge, hup, hf⟩ := bda_s hf
        refine c_ki hS (va_runS ⟨E.1, hb, hml, E.2.1, E.2.2.1⟩ (zJ9_hashCode h1) (va_cwS 1 E.2.2.1 gw_J6_628 rfl rfl rfl gnJ9_hashCode ⟨Nat.le_of_ble_eq_true rfl, Nat.le_of_ble_eq_true rfl⟩) (c_preS E hS _) rfl rfl hl.1 rfl (lv_room (Nat.le_of_ble_eq_true rfl)) dJ6_hashCode_27 (rm_a hcs hge hup)) hup (fun H locs hS hn => ?_)
        have hcs := rm_a2 hcs hge
        refine lv_goto (tgt := 40) E.1 hb dJ6_hashCode_30 (by decide) ?_
        exact hB40 A11 r10 hf _ _ _ _ hcs hS _ (lv_sub hl [1] rfl)
/-! java/lang/String.coder()B: RO -/
noncomputable def J6_coder (A : AH) (x0 : Nat) : Option Int32 :=
  bo (gI 19 A 1901 x0) fun v1 => if vp_nar .byte v1 = v1 then some v1 else none
abbrev rJ6_coder : Room := { frames := 0, cells := 0, slots := 0, locals := 0 }
set_option maxHeartbeats 4000000 in
theorem zJ6_coder {l : Launch} {dC : Nat → ClassId} {dI : Nat → Nat → Nat} {ac : Nat → ClassId} {ad : Nat → Nat} {b : Prop} {A : AH} {x0 : Nat} {r : Int32} (hf : J6_coder A x0 = some r) : Met l yJ6_coder (ws_ yJ6_coder cJ6_coder 1 (some .byte)) { frames := 0, cells := 0, slots := 0, locals := 0 } (va_Pc [.ref (ad x0)] (cPre dC dI ac ad b A)) (cQi dC dI ac ad b (aN A) (aS A) (aN A) (aS A) r A) 0 0 (cF ad) := by
  unfold J6_coder at hf
  refine c_of ⟨Nat.le_refl _, Nat.le_refl _⟩ RJ6 plJ6_coder rfl (Nat.le_of_ble_eq_true rfl) ?_
  intro p e s m args below meth c E hb hr hlk hnm hml hS ls hl
  have hl : lv_has ls 1 [(0, .ref (ad x0))] := hl
  refine c_gst E hb hS 0 rfl (Or.inl q628) rfl dJ6_coder_0 ?_
  refine lv_if_eq (tgt := 13) E.1 hb dJ6_coder_3 (by decide) (fun hc => ?_) (fun hc => ?_)
  · exact absurd hc (by decide)
  · refine lv_aload_n E.1 hb dJ6_coder_6 rfl (lv_at hl 0 rfl) ?_
    obtain ⟨hk, hf⟩ := gI_s hf
    refine c_gS (k := 1) (t := 0) (f := 1901) E hb hS hk rfl rfl q680 rfl dJ6_coder_7 ?_
    refine lv_goto (tgt := 14) E.1 hb dJ6_coder_10 (by decide) ?_
    obtain ⟨hn, hf⟩ := gu_s hf
    exact c_zr (ty := .byte) E hb hr hlk hS ⟨Nat.le_refl 0, Nat.le_refl 0⟩ (nr_b hn) (ro_s hf) dJ6_coder_14
theorem gw_J6_335 : GoodIn lw_all (wsV RJ6 335 RJ6 yJ6_coder (ws_ yJ6_coder cJ6_coder 1 (some .byte))) := lw_V q841 q842 q843 q165 q844
theorem gnJ6_coder : yJ6_coder.cls ≠ "java/lang/invoke/MethodHandle" ∧ yJ6_coder.cls ≠ "java/lang/invoke/VarHandle" ∧ (parseMethodDescriptor yJ6_coder.desc).map (fun d => d.parameters.length) = some 0 := by decide +kernel
/-! java/lang/String.length()I: RO -/
noncomputable def J6_length (A : AH) (x0 : Nat) : Option Int32 :=
  bo (gN 19 A 1900 x0) fun q1 => bo (aLn 33 A q1) fun v2 => if aK A x0 = 19 then ( bo (J6_coder A x0) fun r3 => some (v2 >>> (r3 &&& 31))) else none
abbrev rJ6_length : Room := { frames := 1, cells := 0, slots := 0, locals := 20 }
set_option maxHeartbeats 4000000 in
theorem zJ6_length {l : Launch} {dC : Nat → ClassId} {dI : Nat → Nat → Nat} {ac : Nat → ClassId} {ad : Nat → Nat} {b : Prop} {A : AH} {x0 : Nat} {r : Int32} (hf : J6_length A x0 = some r) : Met l yJ6_length (ws_ yJ6_length cJ6_length 1 (some .int)) { frames := 1, cells := 0, slots := 0, locals := 20 } (va_Pc [.ref (ad x0)] (cPre dC dI ac ad b A)) (cQi dC dI ac ad b (aN A) (aS A) (aN A) (aS A) r A) 0 0 (cF ad) := by
  unfold J6_length at hf
  refine c_of ⟨Nat.le_refl _, Nat.le_refl _⟩ RJ6 plJ6_length rfl (Nat.le_of_ble_eq_true rfl) ?_
  intro p e s m args below meth c E hb hr hlk hnm hml hS ls hl
  have hl : lv_has ls 1 [(0, .ref (ad x0))] := hl
  refine lv_aload_n E.1 hb dJ6_length_0 rfl (lv_at hl 0 rfl) ?_
  obtain ⟨q1, hk, hf⟩ := gN_s hf
  refine c_gS (k := 0) (t := 2) (f := 1900) E hb hS hk.1 rfl rfl q679 rfl dJ6_length_1 ?_
  refine c_dr hk.2 ?_
  obtain ⟨hk, hf⟩ := aLn_s hf
  refine c_bln E hb hS hk (Or.inl rfl) dJ6_length_4 ?_
  refine lv_aload_n E.1 hb dJ6_length_5 rfl (lv_at hl 0 rfl) ?_
  obtain ⟨hkr, hf⟩ := gu_s hf
  obtain ⟨r3, h1, hf⟩ := bo_s hf
  refine c_ki hS (va_runV ⟨E.1, hb, hml, E.2.1, E.2.2.1⟩ (zJ6_coder h1) (cwV 0 E.2.2.1 gw_J6_335 rfl rfl rfl ⟨rfl, gnJ6_coder⟩ ⟨Nat.le_of_ble_eq_true rfl, Nat.le_of_ble_eq_true rfl⟩) (c_preVS E hS hkr _) rfl rfl hl.1 rfl (lv_room (Nat.le_of_ble_eq_true rfl)) dJ6_length_6 ⟨Nat.le_refl 0, Nat.le_refl 0⟩) hS.2.2.2.2 (fun H locs hS hn => ?_)
  refine lv_ishr E.1 hb dJ6_length_9 ?_
  exact c_ir E hb hr hlk hS ⟨Nat.le_refl 0, Nat.le_refl 0⟩ (ro_s hf) dJ6_length_10
theorem gw_J9_9 : GoodIn lw_all (va_wsS RJ9 9 yJ6_checkIndex (ws_ yJ6_checkIndex cJ6_checkIndex 2 none)) := lw_S q1370 q1146 q165 q1147
/-! java/lang/StringLatin1.charAt([BI)C: RW -/
noncomputable def J9_charAt (A0 : AH) (x0 : Nat) (x1 : Int32) : Option (Int32 × AH) :=
  bo (aLn 33 A0 x0) fun v1 => bd (J6_checkIndex A0 x1 v1) fun _ A2 => bo (dI_ 33 A2 x0 x1) fun v3 => if vp_nar .char ((Int32.toUInt32 (v3 &&& 255) % 65536).toInt32) = ((Int32.toUInt32 (v3 &&& 255) % 65536).toInt32) then some (((Int32.toUInt32 (v3 &&& 255) % 65536).toInt32), A2) else none
abbrev rJ9_charAt : Room := { frames := 2, cells := 0, slots := 0, locals := 43 }
set_option maxHeartbeats 4000000 in
theorem zJ9_charAt {l : Launch} {dC : Nat → ClassId} {dI : Nat → Nat → Nat} {ac : Nat → ClassId} {ad : Nat → Nat} {b : Prop} {A0 : AH} {x0 : Nat} {x1 : Int32} {r : Int32} {A' : AH} (hf : J9_charAt A0 x0 x1 = some (r, A')) : Met l yJ9_charAt (ws_ yJ9_charAt cJ9_charAt 2 (some .char)) { frames := 2, cells := 0, slots := 0, locals := 43 } (va_Pc [.ref (ad x0), .int x1] (cPre dC dI ac ad b A0)) (cQi dC dI ac ad b (aN A0) (aS A0) (aN A0) (aS A0) r A') 0 0 (cF ad) := by
  unfold J9_charAt at hf
  refine c_of ⟨Nat.le_refl _, Nat.le_refl _⟩ RJ9 plJ9_charAt rfl (Nat.le_of_ble_eq_true rfl) ?_
  intro p e s m args below meth c E hb hr hlk hnm hml hS ls hl
  have hl : lv_has ls 2 [(0, .ref (ad x0)), (1, .int x1)] := hl
  refine lv_iload_n E.1 hb dJ9_charAt_0 rfl (lv_at hl 1 rfl) ?_
  refine lv_aload_n E.1 hb dJ9_charAt_1 rfl (lv_at hl 0 rfl) ?_
  obtain ⟨hk, hf⟩ := aLn_s hf
  refine c_bln E hb hS hk (Or.inl rfl) dJ9_charAt_2 ?_
  obtain ⟨_, A2, h1, hf⟩ := bd_s hf
  refine c_kv hS (va_runS ⟨E.1, hb, hml, E.2.1, E.2.2.1⟩ (zJ6_checkIndex h1) (va_cwS 2 E.2.2.1 gw_J9_9 rfl rfl rfl gnJ6_checkIndex ⟨Nat.le_of_ble_eq_true rfl, Nat.le_of_ble_eq_true rfl⟩) (c_preS E hS _) rfl rfl hl.1 rfl (lv_room (Nat.le_of_ble_eq_true rfl)) dJ9_charAt_3 ⟨Nat.le_refl 0, Nat.le_refl 0⟩) hS.2.2.2.2 (fun H locs hS hn => ?_)
  refine lv_aload_n E.1 hb dJ9_charAt_6 rfl (lv_at hl 0 rfl) ?_
  refine lv_iload_n E.1 hb dJ9_charAt_7 rfl (lv_at hl 1 rfl) ?_
  obtain ⟨hg, hf⟩ := dI_s hf
  refine c_bld E hb hS hg dJ9_charAt_8 ?_
  refine lv_sipush (v := 255) E.1 hb dJ9_charAt_9 rfl ?_
  refine lv_iand E.1 hb dJ9_charAt_12 ?_
  refine lv_i2c E.1 hb dJ9_charAt_13 rfl ?_
  obtain ⟨hn, hf⟩ := gu_s hf
  exact c_zr (ty := .char) E hb hr hlk hS ⟨Nat.le_refl 0, Nat.le_refl 0⟩ (nr_c hn) hf dJ9_charAt_14
theorem gw_J6_495 : GoodIn lw_all (va_wsS RJ6 495 yJ9_charAt (ws_ yJ9_charAt cJ9_charAt 2 (some .char))) := lw_S q1367 q1368 q168 q1369
theorem gnJ9_charAt : yJ9_charAt.cls ≠ "java/lang/invoke/MethodHandle" ∧ yJ9_charAt.cls ≠ "java/lang/invoke/VarHandle" ∧ (parseMethodDescriptor yJ9_charAt.desc).map (fun d => d.parameters.length) = some 2 := by decide +kernel
/-! java/lang/String.charAt(I)C: RW -/
noncomputable def J6_charAt (A0 : AH) (x0 : Nat) (x1 : Int32) : Option (Int32 × AH) :=
  if aK A0 x0 = 19 then ( bo (J6_isLatin1 A0 x0) fun r1 => if r1 = 0 then (none) else (bo (gN 19 A0 1900 x0) fun q2 => bd (J9_charAt A0 q2 x1) fun r3 A4 => if vp_nar .char r3 = r3 then some (r3, A4) else none)) else none
abbrev rJ6_charAt : Room := { frames := 3, cells := 0, slots := 0, locals := 64 }
set_option maxHeartbeats 4000000 in
theorem zJ6_charAt {l : Launch} {dC : Nat → ClassId} {dI : Nat → Nat → Nat} {ac : Nat → ClassId} {ad : Nat → Nat} {b : Prop} {A0 : AH} {x0 : Nat} {x1 : Int32} {r : Int32} {A' : AH} (hf : J6_charAt A0 x0 x1 = some (r, A')) : Met l yJ6_charAt (ws_ yJ6_charAt cJ6_charAt 2 (some .char)) { frames := 3, cells := 0, slots := 0, locals := 64 } (va_Pc [.ref (ad x0), .int x1] (cPre dC dI ac ad b A0)) (cQi dC dI ac ad b (aN A0) (aS A0) (aN A0) (aS A0) r A') 0 0 (cF ad) := by
  unfold J6_charAt at hf
  refine c_of ⟨Nat.le_refl _, Nat.le_refl _⟩ RJ6 plJ6_charAt rfl (Nat.le_of_ble_eq_true rfl) ?_
  intro p e s m args below meth c E hb hr hlk hnm hml hS ls hl
  have hl : lv_has ls 2 [(0, .ref (ad x0)), (1, .int x1)] := hl
  refine lv_aload_n E.1 hb dJ6_charAt_0 rfl (lv_at hl 0 rfl) ?_
  obtain ⟨hkr, hf⟩ := gu_s hf
  obtain ⟨r1, h1, hf⟩ := bo_s hf
  refine c_ki hS (va_runV ⟨E.1, hb, hml, E.2.1, E.2.2.1⟩ (zJ6_isLatin1 h1) (cwV 0 E.2.2.1 gw_J6_492 rfl rfl rfl ⟨rfl, gnJ6_isLatin1⟩ ⟨Nat.le_of_ble_eq_true rfl, Nat.le_of_ble_eq_true rfl⟩) (c_preVS E hS hkr _) rfl rfl hl.1 rfl (lv_room (Nat.le_of_ble_eq_true rfl)) dJ6_charAt_1 ⟨Nat.le_refl 0, Nat.le_refl 0⟩) hS.2.2.2.2 (fun H locs hS hn => ?_)
  refine lv_if_eq (tgt := 16) E.1 hb dJ6_charAt_4 (by decide) (fun hc => ?_) (fun hc => ?_)
  · have hf := it_s hc hf
    cases hf
  · have hf := if_s hc hf
    refine lv_aload_n E.1 hb dJ6_charAt_7 rfl (lv_at hl 0 rfl) ?_
    obtain ⟨q2, hk, hf⟩ := gN_s hf
    refine c_gS (k := 0) (t := 2) (f := 1900) E hb hS hk.1 rfl rfl q679 rfl dJ6_charAt_8 ?_
    refine c_dr hk.2 ?_
    refine lv_iload_n E.1 hb dJ6_charAt_11 rfl (lv_at hl 1 rfl) ?_
    obtain ⟨r3, A4, h1, hf⟩ := bd_s hf
    refine c_ki hS (va_runS ⟨E.1, hb, hml, E.2.1, E.2.2.1⟩ (zJ9_charAt h1) (va_cwS 2 E.2.2.1 gw_J6_495 rfl rfl rfl gnJ9_charAt ⟨Nat.le_of_ble_eq_true rfl, Nat.le_of_ble_eq_true rfl⟩) (c_preS E hS _) rfl rfl hl.1 rfl (lv_room (Nat.le_of_ble_eq_true rfl)) dJ6_charAt_12 ⟨Nat.le_refl 0, Nat.le_refl 0⟩) hS.2.2.2.2 (fun H locs hS hn => ?_)
    obtain ⟨hn, hf⟩ := gu_s hf
    exact c_zr (ty := .char) E hb hr hlk hS ⟨Nat.le_refl 0, Nat.le_refl 0⟩ (nr_c hn) hf dJ6_charAt_15
theorem fk_X1_9_X1 : FLk RX1 9 "MarginFolk$Folio" (TX1 6).2.1 (TX1 6).2.2.1 := Or.inl q245
theorem fk_X1_15_X1 : FLk RX1 15 "MarginFolk$Folio" (TX1 7).2.1 (TX1 7).2.2.1 := Or.inl q248
theorem fk_X1_18_X1 : FLk RX1 18 "MarginFolk$Folio" (TX1 8).2.1 (TX1 8).2.2.1 := Or.inl q251
theorem fk_X1_21_X1 : FLk RX1 21 "MarginFolk$Folio" (TX1 9).2.1 (TX1 9).2.2.1 := Or.inl q254
theorem gnJ2_init : yJ2_init.cls ≠ "java/lang/invoke/MethodHandle" ∧ yJ2_init.cls ≠ "java/lang/invoke/VarHandle" ∧ (parseMethodDescriptor yJ2_init.desc).map (fun d => d.parameters.length) = some 1 := by decide +kernel
theorem fk_X1_29_X1 : FLk RX1 29 "MarginFolk$Folio" (TX1 10).2.1 (TX1 10).2.2.1 := Or.inl q257
/-! MarginFolk$Folio.<init>()V: RW -/
noncomputable def X1_init (A0 : AH) (x0 : Nat) : Option (Unit × AH) :=
  ck A0 (bo (nwA A0 31 6) fun A1 => ck A1 ( bo (pR 2 A1 206 x0 (some (aN A0))) fun A2 => bo (nwA A2 31 12) fun A3 => ck A3 ( bo (pR 2 A3 207 x0 (some (aN A2))) fun A4 => bo (nwA A4 31 12) fun A5 => ck A5 ( bo (pR 2 A5 208 x0 (some (aN A4))) fun A6 => bo (nwA A6 31 12) fun A7 => ck A7 ( bo (pR 2 A7 209 x0 (some (aN A6))) fun A8 => bo (nwO A8 18 3) fun A9 => ck A9 ( bda A9 (J2_init A9 (aN A8) 4) fun _ A10 => bo (pR 2 A10 210 x0 (some (aN A8))) fun A11 => some ((), A11)))))))
set_option maxHeartbeats 4000000 in
theorem zX1_init {l : Launch} {dC : Nat → ClassId} {dI : Nat → Nat → Nat} {ac : Nat → ClassId} {ad : Nat → Nat} {b : Prop} {A0 : AH} {x0 : Nat} {A' : AH} (hf : X1_init A0 x0 = some ((), A')) : Met l yX1_init (ws_ yX1_init cX1_init 1 none) { frames := 5, cells := aN A' - aN A0, slots := aS A' - aS A0, locals := 102 } (va_Pc [.ref (ad x0)] (cPre dC dI ac ad b A0)) (cQv dC dI ac ad b (aN A0) (aS A0) (aN A') (aS A') A') (aN A' - aN A0) (aS A' - aS A0) (cF ad) := by
  unfold X1_init at hf
  obtain ⟨hck0, hf⟩ := ck_s hf
  refine c_of hck0 RX1 (plainFor_of_name (by decide)) rfl (Nat.le_of_ble_eq_true rfl) ?_
  intro p e s m args below meth c E hb hr hlk hnm hml hS ls hl
  have hl : lv_has ls 1 [(0, .ref (ad x0))] := hl
  have hcs : aN A0 + 0 ≤ aN A0 ∧ aS A0 + 0 ≤ aS A0 := ⟨Nat.le_refl _, Nat.le_refl _⟩
  refine lv_aload_n E.1 hb dX1_init_0 rfl (lv_at hl 0 rfl) ?_
  refine W.objInit E.1 hb E.2.1 (E.2.2.1 _ q203) (E.2.2.1 _ q196) (E.2.2.1 _ q197) rfl (by rw [hml]; exact hl.1) rfl dX1_init_1 (Nat.le_of_ble_eq_true rfl) (Nat.le_of_ble_eq_true rfl) ?_
  refine W.eq (g2 := F0 m 4 ls []) rfl ?_
  refine lv_aload_n E.1 hb dX1_init_4 rfl (lv_at hl 0 rfl) ?_
  refine lv_bipush (v := 6) E.1 hb dX1_init_5 rfl ?_
  obtain ⟨A1, hn9, hw, hf⟩ := nwA_s hf
  obtain ⟨hck, hf⟩ := ck_s hf
  refine c_newa (atype := .int) E hb hS hcs (Or.inl ⟨rfl, rfl⟩) q232 hn9 hw hck (rm_up _ _ _ _) dX1_init_7 (fun H cells slots hS hcs => ?_)
  obtain ⟨A2, hk, hw, hf⟩ := pR_s hf
  refine c_pR (k := 6) (f := 206) (r := (some (aN A0))) E hb hS ci_2 hk (hS.1.lt hk rfl) rfl rfl (fun _ => rfl) (Or.inr ⟨hnm, rfl, rfl, q245⟩) fk_X1_9_X1 (fun _ h => h) (fun q => by cases q <;> exact ⟨rfl, rfl⟩) hw dX1_init_9 (fun H locs hS => ?_)
  have hcs := rm_w (A2 := A2) hcs (by rw [hw]; exact ⟨rfl, rfl⟩)
  refine lv_aload_n E.1 hb dX1_init_12 rfl (lv_at hl 0 rfl) ?_
  refine lv_bipush (v := 12) E.1 hb dX1_init_13 rfl ?_
  obtain ⟨A3, hn9, hw, hf⟩ := nwA_s hf
  obtain ⟨hck, hf⟩ := ck_s hf
  refine c_newa (atype := .int) E hb hS hcs (Or.inl ⟨rfl, rfl⟩) q232 hn9 hw hck (rm_up _ _ _ _) dX1_init_15 (fun H cells slots hS hcs => ?_)
  obtain ⟨A4, hk, hw, hf⟩ := pR_s hf
  refine c_pR (k := 7) (f := 207) (r := (some (aN A2))) E hb hS ci_2 hk (hS.1.lt hk rfl) rfl rfl (fun _ => rfl) (Or.inr ⟨hnm, rfl, rfl, q248⟩) fk_X1_15_X1 (fun _ h => h) (fun q => by cases q <;> exact ⟨rfl, rfl⟩) hw dX1_init_17 (fun H locs hS => ?_)
  have hcs := rm_w (A2 := A4) hcs (by rw [hw]; exact ⟨rfl, rfl⟩)
  refine lv_aload_n E.1 hb dX1_init_20 rfl (lv_at hl 0 rfl) ?_
  refine lv_bipush (v := 12) E.1 hb dX1_init_21 rfl ?_
  obtain ⟨A5, hn9, hw, hf⟩ := nwA_s hf
  obtain ⟨hck, hf⟩ := ck_s hf
  refine c_newa (atype := .int) E hb hS hcs (Or.inl ⟨rfl, rfl⟩) q232 hn9 hw hck (rm_up _ _ _ _) dX1_init_23 (fun H cells slots hS hcs => ?_)
  obtain ⟨A6, hk, hw, hf⟩ := pR_s hf
  refine c_pR (k := 8) (f := 208) (r := (some (aN A4))) E hb hS ci_2 hk (hS.1.lt hk rfl) rfl rfl (fun _ => rfl) (Or.inr ⟨hnm, rfl, rfl, q251⟩) fk_X1_18_X1 (fun _ h => h) (fun q => by cases q <;> exact ⟨rfl, rfl⟩) hw dX1_init_25 (fun H locs hS => ?_)
  have hcs := rm_w (A2 := A6) hcs (by rw [hw]; exact ⟨rfl, rfl⟩)
  refine lv_aload_n E.1 hb dX1_init_28 rfl (lv_at hl 0 rfl) ?_
  refine lv_bipush (v := 12) E.1 hb dX1_init_29 rfl ?_
  obtain ⟨A7, hn9, hw, hf⟩ := nwA_s hf
  obtain ⟨hck, hf⟩ := ck_s hf
  refine c_newa (atype := .int) E hb hS hcs (Or.inl ⟨rfl, rfl⟩) q232 hn9 hw hck (rm_up _ _ _ _) dX1_init_31 (fun H cells slots hS hcs => ?_)
  obtain ⟨A8, hk, hw, hf⟩ := pR_s hf
  refine c_pR (k := 9) (f := 209) (r := (some (aN A6))) E hb hS ci_2 hk (hS.1.lt hk rfl) rfl rfl (fun _ => rfl) (Or.inr ⟨hnm, rfl, rfl, q254⟩) fk_X1_21_X1 (fun _ h => h) (fun q => by cases q <;> exact ⟨rfl, rfl⟩) hw dX1_init_33 (fun H locs hS => ?_)
  have hcs := rm_w (A2 := A8) hcs (by rw [hw]; exact ⟨rfl, rfl⟩)
  refine lv_aload_n E.1 hb dX1_init_36 rfl (lv_at hl 0 rfl) ?_
  obtain ⟨A9, hn9, hw, hf⟩ := nwO_s hf
  obtain ⟨hck, hf⟩ := ck_s hf
  refine c_new E hb hS hcs ci_18 dv_18 q204 q205 q156 hn9 hw hck (rm_up _ _ _ _) dX1_init_37 (fun H cells slots hS hcs => ?_)
  refine lv_dup E.1 hb dX1_init_40 rfl ?_
  refine lv_iconst (v := 4) E.1 hb dX1_init_41 rfl ?_
  obtain ⟨_, A10, h1, hge, hup, hf⟩ := bda_s hf
  refine c_kv hS (va_runI ⟨E.1, hb, hml, E.2.1, E.2.2.1⟩ (zJ2_init h1) (cwI 1 E.2.2.1 (lw_meth q208) rfl rfl rfl (E.2.2.1 _ q156) (E.2.2.1 _ q206) (E.2.2.1 _ q207) rfl gnJ2_init ⟨Nat.le_of_ble_eq_true rfl, Nat.le_of_ble_eq_true rfl⟩) (c_preS E hS _) rfl rfl hl.1 rfl (lv_room (Nat.le_of_ble_eq_true rfl)) dX1_init_42 (rm_a hcs hge hup)) hup (fun H locs hS hn => ?_)
  have hcs := rm_a2 hcs hge
  obtain ⟨A11, hk, hw, hf⟩ := pR_s hf
  refine c_pR (k := 10) (f := 210) (r := (some (aN A8))) E hb hS ci_2 hk (hS.1.lt hk rfl) rfl rfl (fun _ => rfl) (Or.inr ⟨hnm, rfl, rfl, q257⟩) fk_X1_29_X1 (fun _ h => h) (fun q => by cases q <;> exact ⟨rfl, rfl⟩) hw dX1_init_45 (fun H locs hS => ?_)
  have hcs := rm_w (A2 := A11) hcs (by rw [hw]; exact ⟨rfl, rfl⟩)
  exact c_vr E hb hr hlk hS (rm_e ⟨Nat.le_trans hcs.1 hS.2.2.2.2.1, Nat.le_trans hcs.2 hS.2.2.2.2.2⟩) hf dX1_init_48
theorem gnJ5_init : yJ5_init.cls ≠ "java/lang/invoke/MethodHandle" ∧ yJ5_init.cls ≠ "java/lang/invoke/VarHandle" ∧ (parseMethodDescriptor yJ5_init.desc).map (fun d => d.parameters.length) = some 4 := by decide +kernel
/-! MarginFolk$Fault.<init>()V: RW -/
noncomputable def X3_init (u1 u2 : Option Nat) (A0 : AH) (x0 : Nat) : Option (Unit × AH) :=
  bd (J5_init u1 u2 A0 x0 none none 0 0) fun _ A1 => some ((), A1)
abbrev rX3_init : Room := { frames := 4, cells := 0, slots := 0, locals := 92 }
set_option maxHeartbeats 4000000 in
theorem zX3_init {l : Launch} {dC : Nat → ClassId} {dI : Nat → Nat → Nat} {ac : Nat → ClassId} {ad : Nat → Nat} {b : Prop} {u1 u2 : Option Nat} (hu : u1 = uq ad 0 ∧ u2 = uq ad 1) {A0 : AH} {x0 : Nat} {A' : AH} (hf : X3_init u1 u2 A0 x0 = some ((), A')) : Met l yX3_init (ws_ yX3_init cX3_init 1 none) { frames := 4, cells := 0, slots := 0, locals := 92 } (va_Pc [.ref (ad x0)] (cPre dC dI ac ad b A0)) (cQv dC dI ac ad b (aN A0) (aS A0) (aN A0) (aS A0) A') 0 0 (cF ad) := by
  unfold X3_init at hf
  refine c_of ⟨Nat.le_refl _, Nat.le_refl _⟩ RX3 (plainFor_of_name (by decide)) rfl (Nat.le_of_ble_eq_true rfl) ?_
  intro p e s m args below meth c E hb hr hlk hnm hml hS ls hl
  have hl : lv_has ls 1 [(0, .ref (ad x0))] := hl
  refine lv_aload_n E.1 hb dX3_init_0 rfl (lv_at hl 0 rfl) ?_
  refine lv_null E.1 hb dX3_init_1 ?_
  refine lv_null E.1 hb dX3_init_2 ?_
  refine lv_iconst (v := 0) E.1 hb dX3_init_3 rfl ?_
  refine lv_iconst (v := 0) E.1 hb dX3_init_4 rfl ?_
  obtain ⟨_, A1, h1, hf⟩ := bd_s hf
  refine c_kv hS (va_runI ⟨E.1, hb, hml, E.2.1, E.2.2.1⟩ (zJ5_init hu h1) (cwI 4 E.2.2.1 (lw_meth q349) rfl rfl rfl (E.2.2.1 _ q160) (E.2.2.1 _ q347) (E.2.2.1 _ q348) rfl gnJ5_init ⟨Nat.le_of_ble_eq_true rfl, Nat.le_of_ble_eq_true rfl⟩) (c_preS E hS _) rfl rfl hl.1 rfl (lv_room (Nat.le_of_ble_eq_true rfl)) dX3_init_5 ⟨Nat.le_refl 0, Nat.le_refl 0⟩) hS.2.2.2.2 (fun H locs hS hn => ?_)
  exact c_vr E hb hr hlk hS ⟨Nat.le_refl 0, Nat.le_refl 0⟩ hf dX3_init_8
theorem fk_X2_3_X2 : FLk RX2 3 "MarginFolk$Reader" (TX2 7).2.1 (TX2 7).2.2.1 := Or.inl q385
theorem gnX3_init : yX3_init.cls ≠ "java/lang/invoke/MethodHandle" ∧ yX3_init.cls ≠ "java/lang/invoke/VarHandle" ∧ (parseMethodDescriptor yX3_init.desc).map (fun d => d.parameters.length) = some 0 := by decide +kernel
theorem fk_X2_18_X2 : FLk RX2 18 "MarginFolk$Reader" (TX2 0).2.1 (TX2 0).2.2.1 := Or.inl q378
/-! MarginFolk$Reader.<init>(LMarginFolk;)V: RW -/
noncomputable def X2_init (u1 u2 : Option Nat) (A0 : AH) (x0 : Nat) (x1 : Nat) : Option (Unit × AH) :=
  ck A0 (bo (pR 3 A0 307 x0 (some x1)) fun A1 => bo (nwO A1 4 8) fun A2 => ck A2 ( bd (X3_init u1 u2 A2 (aN A1)) fun _ A3 => bo (pR 3 A3 300 x0 (some (aN A1))) fun A4 => some ((), A4)))
set_option maxHeartbeats 4000000 in
theorem zX2_init {l : Launch} {dC : Nat → ClassId} {dI : Nat → Nat → Nat} {ac : Nat → ClassId} {ad : Nat → Nat} {u1 u2 : Option Nat} (hu : u1 = uq ad 0 ∧ u2 = uq ad 1) {A0 : AH} {x0 : Nat} {x1 : Nat} {A' : AH} (hf : X2_init u1 u2 A0 x0 x1 = some ((), A')) : Met l yX2_init (ws_ yX2_init cX2_init 2 none) { frames := 5, cells := aN A' - aN A0, slots := aS A' - aS A0, locals := 112 } (va_Pc [.ref (ad x0), .ref (ad x1)] (cPre dC dI ac ad False A0)) (cQv dC dI ac ad False (aN A0) (aS A0) (aN A') (aS A') A') (aN A' - aN A0) (aS A' - aS A0) (cF ad) := by
  unfold X2_init at hf
  obtain ⟨hck0, hf⟩ := ck_s hf
  refine c_of hck0 RX2 (plainFor_of_name (by decide)) rfl (Nat.le_of_ble_eq_true rfl) ?_
  intro p e s m args below meth c E hb hr hlk hnm hml hS ls hl
  have hl : lv_has ls 2 [(0, .ref (ad x0)), (1, .ref (ad x1))] := hl
  have hcs : aN A0 + 0 ≤ aN A0 ∧ aS A0 + 0 ≤ aS A0 := ⟨Nat.le_refl _, Nat.le_refl _⟩
  refine lv_aload_n E.1 hb dX2_init_0 rfl (lv_at hl 0 rfl) ?_
  refine lv_aload_n E.1 hb dX2_init_1 rfl (lv_at hl 1 rfl) ?_
  obtain ⟨A1, hk, hw, hf⟩ := pR_s hf
  refine c_pR (k := 7) (f := 307) (r := (some x1)) E hb hS ci_3 hk (hS.1.lt hk rfl) rfl rfl (fun h => h.elim) (Or.inr ⟨hnm, rfl, rfl, q385⟩) fk_X2_3_X2 (fun _ h => h) (fun q => by cases q <;> exact ⟨rfl, rfl⟩) hw dX2_init_2 (fun H locs hS => ?_)
  have hcs := rm_w (A2 := A1) hcs (by rw [hw]; exact ⟨rfl, rfl⟩)
  refine lv_aload_n E.1 hb dX2_init_5 rfl (lv_at hl 0 rfl) ?_
  refine W.objInit E.1 hb E.2.1 (E.2.2.1 _ q304) (E.2.2.1 _ q196) (E.2.2.1 _ q197) rfl (by rw [hml]; exact hl.1) rfl dX2_init_6 (Nat.le_of_ble_eq_true rfl) (Nat.le_of_ble_eq_true rfl) ?_
  refine W.eq (g2 := F0 m 9 ls []) rfl ?_
  refine lv_aload_n E.1 hb dX2_init_9 rfl (lv_at hl 0 rfl) ?_
  obtain ⟨A2, hn9, hw, hf⟩ := nwO_s hf
  obtain ⟨hck, hf⟩ := ck_s hf
  refine c_new E hb hS hcs ci_4 dv_4 q305 q306 q161 hn9 hw hck (rm_up _ _ _ _) dX2_init_10 (fun H cells slots hS hcs => ?_)
  refine lv_dup E.1 hb dX2_init_13 rfl ?_
  obtain ⟨_, A3, h1, hf⟩ := bd_s hf
  refine c_kv hS (va_runI ⟨E.1, hb, hml, E.2.1, E.2.2.1⟩ (zX3_init hu h1) (cwI 0 E.2.2.1 (lw_meth q346) rfl rfl rfl (E.2.2.1 _ q161) (E.2.2.1 _ q344) (E.2.2.1 _ q345) rfl gnX3_init ⟨Nat.le_of_ble_eq_true rfl, Nat.le_of_ble_eq_true rfl⟩) (c_preS E hS _) rfl rfl hl.1 rfl (lv_room (Nat.le_of_ble_eq_true rfl)) dX2_init_14 (rm_n hcs hS.2.2.2.2)) hS.2.2.2.2 (fun H locs hS hn => ?_)
  have hcs := rm_n2 hcs hn
  obtain ⟨A4, hk, hw, hf⟩ := pR_s hf
  refine c_pR (k := 0) (f := 300) (r := (some (aN A1))) E hb hS ci_3 hk (hS.1.lt hk rfl) rfl rfl (fun h => h.elim) (Or.inr ⟨hnm, rfl, rfl, q378⟩) fk_X2_18_X2 (fun _ h => h) (fun q => by cases q <;> exact ⟨rfl, rfl⟩) hw dX2_init_17 (fun H locs hS => ?_)
  have hcs := rm_w (A2 := A4) hcs (by rw [hw]; exact ⟨rfl, rfl⟩)
  exact c_vr E hb hr hlk hS (rm_e ⟨Nat.le_trans hcs.1 hS.2.2.2.2.1, Nat.le_trans hcs.2 hS.2.2.2.2.2⟩) hf dX2_init_20
theorem fk_X4_7_X4 : FLk RX4 7 "MarginFolk$Moment" (TX4 0).2.1 (TX4 0).2.2.1 := Or.inl q409
/-! MarginFolk$Moment.<init>()V: RW -/
noncomputable def X4_init (A0 : AH) (x0 : Nat) : Option (Unit × AH) :=
  ck A0 (bo (nwA A0 32 9) fun A1 => ck A1 ( bo (pR 5 A1 500 x0 (some (aN A0))) fun A2 => some ((), A2)))
set_option maxHeartbeats 4000000 in
theorem zX4_init {l : Launch} {dC : Nat → ClassId} {dI : Nat → Nat → Nat} {ac : Nat → ClassId} {ad : Nat → Nat} {A0 : AH} {x0 : Nat} {A' : AH} (hf : X4_init A0 x0 = some ((), A')) : Met l yX4_init (ws_ yX4_init cX4_init 1 none) { frames := 1, cells := aN A' - aN A0, slots := aS A' - aS A0, locals := 20 } (va_Pc [.ref (ad x0)] (cPre dC dI ac ad False A0)) (cQv dC dI ac ad False (aN A0) (aS A0) (aN A') (aS A') A') (aN A' - aN A0) (aS A' - aS A0) (cF ad) := by
  unfold X4_init at hf
  obtain ⟨hck0, hf⟩ := ck_s hf
  refine c_of hck0 RX4 (plainFor_of_name (by decide)) rfl (Nat.le_of_ble_eq_true rfl) ?_
  intro p e s m args below meth c E hb hr hlk hnm hml hS ls hl
  have hl : lv_has ls 1 [(0, .ref (ad x0))] := hl
  have hcs : aN A0 + 0 ≤ aN A0 ∧ aS A0 + 0 ≤ aS A0 := ⟨Nat.le_refl _, Nat.le_refl _⟩
  refine lv_aload_n E.1 hb dX4_init_0 rfl (lv_at hl 0 rfl) ?_
  refine W.objInit E.1 hb E.2.1 (E.2.2.1 _ q408) (E.2.2.1 _ q196) (E.2.2.1 _ q197) rfl (by rw [hml]; exact hl.1) rfl dX4_init_1 (Nat.le_of_ble_eq_true rfl) (Nat.le_of_ble_eq_true rfl) ?_
  refine W.eq (g2 := F0 m 4 ls []) rfl ?_
  refine lv_aload_n E.1 hb dX4_init_4 rfl (lv_at hl 0 rfl) ?_
  refine lv_bipush (v := 9) E.1 hb dX4_init_5 rfl ?_
  obtain ⟨A1, hn9, hw, hf⟩ := nwA_s hf
  obtain ⟨hck, hf⟩ := ck_s hf
  refine c_newa (atype := .long) E hb hS hcs (Or.inr (Or.inl ⟨rfl, rfl⟩)) q416 hn9 hw hck (rm_up _ _ _ _) dX4_init_7 (fun H cells slots hS hcs => ?_)
  obtain ⟨A2, hk, hw, hf⟩ := pR_s hf
  refine c_pR (k := 0) (f := 500) (r := (some (aN A0))) E hb hS ci_5 hk (hS.1.lt hk rfl) rfl rfl (fun h => h.elim) (Or.inr ⟨hnm, rfl, rfl, q409⟩) fk_X4_7_X4 (fun _ h => h) (fun q => by cases q <;> exact ⟨rfl, rfl⟩) hw dX4_init_9 (fun H locs hS => ?_)
  have hcs := rm_w (A2 := A2) hcs (by rw [hw]; exact ⟨rfl, rfl⟩)
  exact c_vr E hb hr hlk hS (rm_e ⟨Nat.le_trans hcs.1 hS.2.2.2.2.1, Nat.le_trans hcs.2 hS.2.2.2.2.2⟩) hf dX4_init_12
theorem fk_X5_3_X5 : FLk RX5 3 "MarginFolk$State" (TX5 10).2.1 (TX5 10).2.2.1 := Or.inl q445
theorem fk_X5_15_X5 : FLk RX5 15 "MarginFolk$State" (TX5 2).2.1 (TX5 2).2.2.1 := Or.inl q429
theorem fk_X5_19_X5 : FLk RX5 19 "MarginFolk$State" (TX5 3).2.1 (TX5 3).2.2.1 := Or.inl q431
theorem fk_X5_22_X5 : FLk RX5 22 "MarginFolk$State" (TX5 4).2.1 (TX5 4).2.2.1 := Or.inl q433
theorem fk_X5_25_X5 : FLk RX5 25 "MarginFolk$State" (TX5 5).2.1 (TX5 5).2.2.1 := Or.inl q435
theorem fk_X5_28_X5 : FLk RX5 28 "MarginFolk$State" (TX5 6).2.1 (TX5 6).2.2.1 := Or.inl q437
theorem fk_X5_33_X5 : FLk RX5 33 "MarginFolk$State" (TX5 7).2.1 (TX5 7).2.2.1 := Or.inl q439
theorem fk_X5_36_X5 : FLk RX5 36 "MarginFolk$State" (TX5 9).2.1 (TX5 9).2.2.1 := Or.inl q443
/-! MarginFolk$State.<init>(LMarginFolk;)V: RW -/
noncomputable def X5_init (A0 : AH) (x0 : Nat) (x1 : Nat) : Option (Unit × AH) :=
  ck A0 (bo (pR 6 A0 610 x0 (some x1)) fun A1 => bo (nwA A1 31 6) fun A2 => ck A2 ( bo (pR 6 A2 602 x0 (some (aN A1))) fun A3 => bo (nwA A3 31 8) fun A4 => ck A4 ( bo (pR 6 A4 603 x0 (some (aN A3))) fun A5 => bo (nwA A5 31 8) fun A6 => ck A6 ( bo (pR 6 A6 604 x0 (some (aN A5))) fun A7 => bo (nwA A7 31 8) fun A8 => ck A8 ( bo (pR 6 A8 605 x0 (some (aN A7))) fun A9 => bo (nwA A9 31 8) fun A10 => ck A10 ( bo (pR 6 A10 606 x0 (some (aN A9))) fun A11 => bo (nwM A11 36 31 40 3) fun A12 => ck A12 ( bo (pR 6 A12 607 x0 (some (aN A11))) fun A13 => bo (nwA A13 31 8) fun A14 => ck A14 ( bo (pR 6 A14 609 x0 (some (aN A13))) fun A15 => some ((), A15)))))))))
set_option maxHeartbeats 4000000 in
theorem zX5_init {l : Launch} {dC : Nat → ClassId} {dI : Nat → Nat → Nat} {ac : Nat → ClassId} {ad : Nat → Nat} {A0 : AH} {x0 : Nat} {x1 : Nat} {A' : AH} (hf : X5_init A0 x0 x1 = some ((), A')) : Met l yX5_init (ws_ yX5_init cX5_init 2 none) { frames := 1, cells := aN A' - aN A0, slots := aS A' - aS A0, locals := 20 } (va_Pc [.ref (ad x0), .ref (ad x1)] (cPre dC dI ac ad False A0)) (cQv dC dI ac ad False (aN A0) (aS A0) (aN A') (aS A') A') (aN A' - aN A0) (aS A' - aS A0) (cF ad) := by
  unfold X5_init at hf
  obtain ⟨hck0, hf⟩ := ck_s hf
  refine c_of hck0 RX5 (plainFor_of_name (by decide)) rfl (Nat.le_of_ble_eq_true rfl) ?_
  intro p e s m args below meth c E hb hr hlk hnm hml hS ls hl
  have hl : lv_has ls 2 [(0, .ref (ad x0)), (1, .ref (ad x1))] := hl
  have hcs : aN A0 + 0 ≤ aN A0 ∧ aS A0 + 0 ≤ aS A0 := ⟨Nat.le_refl _, Nat.le_refl _⟩
  refine lv_aload_n E.1 hb dX5_init_0 rfl (lv_at hl 0 rfl) ?_
  refine lv_aload_n E.1 hb dX5_init_1 rfl (lv_at hl 1 rfl) ?_
  obtain ⟨A1, hk, hw, hf⟩ := pR_s hf
  refine c_pR (k := 10) (f := 610) (r := (some x1)) E hb hS ci_6 hk (hS.1.lt hk rfl) rfl rfl (fun h => h.elim) (Or.inr ⟨hnm, rfl, rfl, q445⟩) fk_X5_3_X5 (fun _ h => h) (fun q => by cases q <;> exact ⟨rfl, rfl⟩) hw dX5_init_2 (fun H locs hS => ?_)
  have hcs := rm_w (A2 := A1) hcs (by rw [hw]; exact ⟨rfl, rfl⟩)
  refine lv_aload_n E.1 hb dX5_init_5 rfl (lv_at hl 0 rfl) ?_
  refine W.objInit E.1 hb E.2.1 (E.2.2.1 _ q422) (E.2.2.1 _ q196) (E.2.2.1 _ q197) rfl (by rw [hml]; exact hl.1) rfl dX5_init_6 (Nat.le_of_ble_eq_true rfl) (Nat.le_of_ble_eq_true rfl) ?_
  refine W.eq (g2 := F0 m 9 ls []) rfl ?_
  refine lv_aload_n E.1 hb dX5_init_9 rfl (lv_at hl 0 rfl) ?_
  refine lv_bipush (v := 6) E.1 hb dX5_init_10 rfl ?_
  obtain ⟨A2, hn9, hw, hf⟩ := nwA_s hf
  obtain ⟨hck, hf⟩ := ck_s hf
  refine c_newa (atype := .int) E hb hS hcs (Or.inl ⟨rfl, rfl⟩) q232 hn9 hw hck (rm_up _ _ _ _) dX5_init_12 (fun H cells slots hS hcs => ?_)
  obtain ⟨A3, hk, hw, hf⟩ := pR_s hf
  refine c_pR (k := 2) (f := 602) (r := (some (aN A1))) E hb hS ci_6 hk (hS.1.lt hk rfl) rfl rfl (fun h => h.elim) (Or.inr ⟨hnm, rfl, rfl, q429⟩) fk_X5_15_X5 (fun _ h => h) (fun q => by cases q <;> exact ⟨rfl, rfl⟩) hw dX5_init_14 (fun H locs hS => ?_)
  have hcs := rm_w (A2 := A3) hcs (by rw [hw]; exact ⟨rfl, rfl⟩)
  refine lv_aload_n E.1 hb dX5_init_17 rfl (lv_at hl 0 rfl) ?_
  refine lv_bipush (v := 8) E.1 hb dX5_init_18 rfl ?_
  obtain ⟨A4, hn9, hw, hf⟩ := nwA_s hf
  obtain ⟨hck, hf⟩ := ck_s hf
  refine c_newa (atype := .int) E hb hS hcs (Or.inl ⟨rfl, rfl⟩) q232 hn9 hw hck (rm_up _ _ _ _) dX5_init_20 (fun H cells slots hS hcs => ?_)
  obtain ⟨A5, hk, hw, hf⟩ := pR_s hf
  refine c_pR (k := 3) (f := 603) (r := (some (aN A3))) E hb hS ci_6 hk (hS.1.lt hk rfl) rfl rfl (fun h => h.elim) (Or.inr ⟨hnm, rfl, rfl, q431⟩) fk_X5_19_X5 (fun _ h => h) (fun q => by cases q <;> exact ⟨rfl, rfl⟩) hw dX5_init_22 (fun H locs hS => ?_)
  have hcs := rm_w (A2 := A5) hcs (by rw [hw]; exact ⟨rfl, rfl⟩)
  refine lv_aload_n E.1 hb dX5_init_25 rfl (lv_at hl 0 rfl) ?_
  refine lv_bipush (v := 8) E.1 hb dX5_init_26 rfl ?_
  obtain ⟨A6, hn9, hw, hf⟩ := nwA_s hf
  obtain ⟨hck, hf⟩ := ck_s hf
  refine c_newa (atype := .int) E hb hS hcs (Or.inl ⟨rfl, rfl⟩) q232 hn9 hw hck (rm_up _ _ _ _) dX5_init_28 (fun H cells slots hS hcs => ?_)
  obtain ⟨A7, hk, hw, hf⟩ := pR_s hf
  refine c_pR (k := 4) (f := 604) (r := (some (aN A5))) E hb hS ci_6 hk (hS.1.lt hk rfl) rfl rfl (fun h => h.elim) (Or.inr ⟨hnm, rfl, rfl, q433⟩) fk_X5_22_X5 (fun _ h => h) (fun q => by cases q <;> exact ⟨rfl, rfl⟩) hw dX5_init_30 (fun H locs hS => ?_)
  have hcs := rm_w (A2 := A7) hcs (by rw [hw]; exact ⟨rfl, rfl⟩)
  refine lv_aload_n E.1 hb dX5_init_33 rfl (lv_at hl 0 rfl) ?_
  refine lv_bipush (v := 8) E.1 hb dX5_init_34 rfl ?_
  obtain ⟨A8, hn9, hw, hf⟩ := nwA_s hf
  obtain ⟨hck, hf⟩ := ck_s hf
  refine c_newa (atype := .int) E hb hS hcs (Or.inl ⟨rfl, rfl⟩) q232 hn9 hw hck (rm_up _ _ _ _) dX5_init_36 (fun H cells slots hS hcs => ?_)
  obtain ⟨A9, hk, hw, hf⟩ := pR_s hf
  refine c_pR (k := 5) (f := 605) (r := (some (aN A7))) E hb hS ci_6 hk (hS.1.lt hk rfl) rfl rfl (fun h => h.elim) (Or.inr ⟨hnm, rfl, rfl, q435⟩) fk_X5_25_X5 (fun _ h => h) (fun q => by cases q <;> exact ⟨rfl, rfl⟩) hw dX5_init_38 (fun H locs hS => ?_)
  have hcs := rm_w (A2 := A9) hcs (by rw [hw]; exact ⟨rfl, rfl⟩)
  refine lv_aload_n E.1 hb dX5_init_41 rfl (lv_at hl 0 rfl) ?_
  refine lv_bipush (v := 8) E.1 hb dX5_init_42 rfl ?_
  obtain ⟨A10, hn9, hw, hf⟩ := nwA_s hf
  obtain ⟨hck, hf⟩ := ck_s hf
  refine c_newa (atype := .int) E hb hS hcs (Or.inl ⟨rfl, rfl⟩) q232 hn9 hw hck (rm_up _ _ _ _) dX5_init_44 (fun H cells slots hS hcs => ?_)
  obtain ⟨A11, hk, hw, hf⟩ := pR_s hf
  refine c_pR (k := 6) (f := 606) (r := (some (aN A9))) E hb hS ci_6 hk (hS.1.lt hk rfl) rfl rfl (fun h => h.elim) (Or.inr ⟨hnm, rfl, rfl, q437⟩) fk_X5_28_X5 (fun _ h => h) (fun q => by cases q <;> exact ⟨rfl, rfl⟩) hw dX5_init_46 (fun H locs hS => ?_)
  have hcs := rm_w (A2 := A11) hcs (by rw [hw]; exact ⟨rfl, rfl⟩)
  refine lv_aload_n E.1 hb dX5_init_49 rfl (lv_at hl 0 rfl) ?_
  refine lv_bipush (v := 40) E.1 hb dX5_init_50 rfl ?_
  refine lv_iconst (v := 3) E.1 hb dX5_init_52 rfl ?_
  obtain ⟨A12, hn9, hw, hf⟩ := nwM_s hf
  obtain ⟨hck, hf⟩ := ck_s hf
  refine c_anew2 E hb hS hcs (Or.inl ⟨rfl, rfl, rfl⟩) q423 q232 hn9 hw hck (rm_up _ _ _ _) dX5_init_53 (fun H cells slots hS hcs => ?_)
  obtain ⟨A13, hk, hw, hf⟩ := pR_s hf
  refine c_pR (k := 7) (f := 607) (r := (some (aN A11))) E hb hS ci_6 hk (hS.1.lt hk rfl) rfl rfl (fun h => h.elim) (Or.inr ⟨hnm, rfl, rfl, q439⟩) fk_X5_33_X5 (fun _ h => h) (fun q => by cases q <;> exact ⟨rfl, rfl⟩) hw dX5_init_57 (fun H locs hS => ?_)
  have hcs := rm_w (A2 := A13) hcs (by rw [hw]; exact ⟨rfl, rfl⟩)
  refine lv_aload_n E.1 hb dX5_init_60 rfl (lv_at hl 0 rfl) ?_
  refine lv_bipush (v := 8) E.1 hb dX5_init_61 rfl ?_
  obtain ⟨A14, hn9, hw, hf⟩ := nwA_s hf
  obtain ⟨hck, hf⟩ := ck_s hf
  refine c_newa (atype := .int) E hb hS hcs (Or.inl ⟨rfl, rfl⟩) q232 hn9 hw hck (rm_up _ _ _ _) dX5_init_63 (fun H cells slots hS hcs => ?_)
  obtain ⟨A15, hk, hw, hf⟩ := pR_s hf
  refine c_pR (k := 9) (f := 609) (r := (some (aN A13))) E hb hS ci_6 hk (hS.1.lt hk rfl) rfl rfl (fun h => h.elim) (Or.inr ⟨hnm, rfl, rfl, q443⟩) fk_X5_36_X5 (fun _ h => h) (fun q => by cases q <;> exact ⟨rfl, rfl⟩) hw dX5_init_65 (fun H locs hS => ?_)
  have hcs := rm_w (A2 := A15) hcs (by rw [hw]; exact ⟨rfl, rfl⟩)
  exact c_vr E hb hr hlk hS (rm_e ⟨Nat.le_trans hcs.1 hS.2.2.2.2.1, Nat.le_trans hcs.2 hS.2.2.2.2.2⟩) hf dX5_init_68
theorem fk_X0_105_X0 : FLk RX0 105 "MarginFolk" (TX0 21).2.1 (TX0 21).2.2.1 := Or.inl q497
theorem fk_X0_109_X0 : FLk RX0 109 "MarginFolk" (TX0 23).2.1 (TX0 23).2.2.1 := Or.inl q499
theorem fk_X0_101_X0 : FLk RX0 101 "MarginFolk" (TX0 19).2.1 (TX0 19).2.2.1 := Or.inl q495
theorem gnX5_init : yX5_init.cls ≠ "java/lang/invoke/MethodHandle" ∧ yX5_init.cls ≠ "java/lang/invoke/VarHandle" ∧ (parseMethodDescriptor yX5_init.desc).map (fun d => d.parameters.length) = some 1 := by decide +kernel
theorem gnX1_init : yX1_init.cls ≠ "java/lang/invoke/MethodHandle" ∧ yX1_init.cls ≠ "java/lang/invoke/VarHandle" ∧ (parseMethodDescriptor yX1_init.desc).map (fun d => d.parameters.length) = some 0 := by decide +kernel
theorem fk_X0_31_X0 : FLk RX0 31 "MarginFolk" (TX0 0).2.1 (TX0 0).2.2.1 := Or.inl q474
theorem fk_X0_35_X0 : FLk RX0 35 "MarginFolk" (TX0 1).2.1 (TX0 1).2.2.1 := Or.inl q476
theorem fk_X0_39_X0 : FLk RX0 39 "MarginFolk" (TX0 4).2.1 (TX0 4).2.2.1 := Or.inl q479
theorem gnX2_init : yX2_init.cls ≠ "java/lang/invoke/MethodHandle" ∧ yX2_init.cls ≠ "java/lang/invoke/VarHandle" ∧ (parseMethodDescriptor yX2_init.desc).map (fun d => d.parameters.length) = some 1 := by decide +kernel
theorem fk_X0_48_X0 : FLk RX0 48 "MarginFolk" (TX0 5).2.1 (TX0 5).2.2.1 := Or.inl q480
theorem gnX4_init : yX4_init.cls ≠ "java/lang/invoke/MethodHandle" ∧ yX4_init.cls ≠ "java/lang/invoke/VarHandle" ∧ (parseMethodDescriptor yX4_init.desc).map (fun d => d.parameters.length) = some 0 := by decide +kernel
theorem fk_X0_55_X0 : FLk RX0 55 "MarginFolk" (TX0 6).2.1 (TX0 6).2.2.1 := Or.inl q481
theorem fk_X0_59_X0 : FLk RX0 59 "MarginFolk" (TX0 7).2.1 (TX0 7).2.2.1 := Or.inl q483
theorem fk_X0_62_X0 : FLk RX0 62 "MarginFolk" (TX0 8).2.1 (TX0 8).2.2.1 := Or.inl q484
theorem fk_X0_69_X0 : FLk RX0 69 "MarginFolk" (TX0 9).2.1 (TX0 9).2.2.1 := Or.inl q485
theorem fk_X0_73_X0 : FLk RX0 73 "MarginFolk" (TX0 10).2.1 (TX0 10).2.2.1 := Or.inl q486
theorem fk_X0_78_X0 : FLk RX0 78 "MarginFolk" (TX0 11).2.1 (TX0 11).2.2.1 := Or.inl q487
theorem fk_X0_81_X0 : FLk RX0 81 "MarginFolk" (TX0 12).2.1 (TX0 12).2.2.1 := Or.inl q488
theorem fk_X0_84_X0 : FLk RX0 84 "MarginFolk" (TX0 13).2.1 (TX0 13).2.2.1 := Or.inl q489
theorem fk_X0_87_X0 : FLk RX0 87 "MarginFolk" (TX0 14).2.1 (TX0 14).2.2.1 := Or.inl q490
theorem fk_X0_92_X0 : FLk RX0 92 "MarginFolk" (TX0 16).2.1 (TX0 16).2.2.1 := Or.inl q492
theorem fk_X0_95_X0 : FLk RX0 95 "MarginFolk" (TX0 17).2.1 (TX0 17).2.2.1 := Or.inl q493
theorem fk_X0_98_X0 : FLk RX0 98 "MarginFolk" (TX0 18).2.1 (TX0 18).2.2.1 := Or.inl q494
/-! MarginFolk.<init>()V: RW -/
noncomputable def X0_init_b174 (N : Nat) (u1 u2 : Option Nat) (x0 : Nat) (k174 : AH → Int32 → Option (Unit × AH)) (A : AH) (x1 : Int32) : Option (Unit × AH) :=
  if 20 ≤ x1 then (bo (pJ 1 A 121 x0 1) fun A40 => bo (nwA A40 33 57) fun A41 => ck A41 ( bo (pR 1 A41 123 x0 (some (aN A40))) fun A42 => some ((), A42))) else (bo (gN 1 A 119 x0) fun q43 => bo (nwO A 6 11) fun A44 => ck A44 ( bda A44 (X5_init A44 (aN A) x0) fun _ A45 => bo (uR_ 38 A45 q43 x1 (aN A)) fun A46 => k174 A46 (x1 + 1)))
noncomputable def X0_init (N : Nat) (u1 u2 : Option Nat) (A0 : AH) (x0 : Nat) : Option (Unit × AH) :=
  ck A0 (bo (nwO A0 2 15) fun A1 => ck A1 ( bda A1 (X1_init A1 (aN A0)) fun _ A2 => bo (pR 1 A2 100 x0 (some (aN A0))) fun A3 => bo (nwA A3 33 1600) fun A4 => ck A4 ( bo (pR 1 A4 101 x0 (some (aN A3))) fun A5 => bo (pI 1 A5 104 x0 (-1)) fun A6 => bo (nwO A6 3 8) fun A7 => ck A7 ( bda A7 (X2_init u1 u2 A7 (aN A6) x0) fun _ A8 => bo (pR 1 A8 105 x0 (some (aN A6))) fun A9 => bo (nwO A9 5 1) fun A10 => ck A10 ( bda A10 (X4_init A10 (aN A9)) fun _ A11 => bo (pR 1 A11 106 x0 (some (aN A9))) fun A12 => bo (nwO A12 5 1) fun A13 => ck A13 ( bda A13 (X4_init A13 (aN A12)) fun _ A14 => bo (pR 1 A14 107 x0 (some (aN A12))) fun A15 => bo (nwA A15 31 6) fun A16 => ck A16 ( bo (pR 1 A16 108 x0 (some (aN A15))) fun A17 => bo (nwO A17 6 11) fun A18 => ck A18 ( bda A18 (X5_init A18 (aN A17) x0) fun _ A19 => bo (pR 1 A19 109 x0 (some (aN A17))) fun A20 => bo (nwO A20 6 11) fun A21 => ck A21 ( bda A21 (X5_init A21 (aN A20) x0) fun _ A22 => bo (pR 1 A22 110 x0 (some (aN A20))) fun A23 => bo (nwM A23 37 35 6 8) fun A24 => ck A24 ( bo (pR 1 A24 111 x0 (some (aN A23))) fun A25 => bo (nwM A25 37 35 6 8) fun A26 => ck A26 ( bo (pR 1 A26 112 x0 (some (aN A25))) fun A27 => bo (nwA A27 31 16) fun A28 => ck A28 ( bo (pR 1 A28 113 x0 (some (aN A27))) fun A29 => bo (nwA A29 31 16) fun A30 => ck A30 ( bo (pR 1 A30 114 x0 (some (aN A29))) fun A31 => bo (nwM A31 36 31 8 8) fun A32 => ck A32 ( bo (pR 1 A32 116 x0 (some (aN A31))) fun A33 => bo (nwA A33 31 8) fun A34 => ck A34 ( bo (pR 1 A34 117 x0 (some (aN A33))) fun A35 => bo (nwA A35 31 8) fun A36 => ck A36 ( bo (pR 1 A36 118 x0 (some (aN A35))) fun A37 => bo (nwA A37 38 20) fun A38 => ck A38 ( bo (pR 1 A38 119 x0 (some (aN A37))) fun A39 => rn2 (X0_init_b174 N u1 u2 x0) N A39 0)))))))))))))))))
set_option maxHeartbeats 4000000 in
theorem zX0_init {l : Launch} {dC : Nat → ClassId} {dI : Nat → Nat → Nat} {ac : Nat → ClassId} {ad : Nat → Nat} {N : Nat} {u1 u2 : Option Nat} (hu : u1 = uq ad 0 ∧ u2 = uq ad 1) {A0 : AH} {x0 : Nat} {A' : AH} (hf : X0_init N u1 u2 A0 x0 = some ((), A')) : Met l yX0_init (ws_ yX0_init cX0_init 2 none) { frames := 6, cells := aN A' - aN A0, slots := aS A' - aS A0, locals := 133 } (va_Pc [.ref (ad x0)] (cPre dC dI ac ad False A0)) (cQv dC dI ac ad False (aN A0) (aS A0) (aN A') (aS A') A') (aN A' - aN A0) (aS A' - aS A0) (cF ad) := by
  unfold X0_init at hf
  obtain ⟨hck0, hf⟩ := ck_s hf
  refine c_of hck0 RX0 (plainFor_of_name (by decide)) rfl (Nat.le_of_ble_eq_true rfl) ?_
  intro p e s m args below meth c E hb hr hlk hnm hml hS ls hl
  have hl : lv_has ls 2 [(0, .ref (ad x0))] := hl
  have hcs : aN A0 + 0 ≤ aN A0 ∧ aS A0 + 0 ≤ aS A0 := ⟨Nat.le_refl _, Nat.le_refl _⟩
  have hL174 : ∀ (n : Nat) (A : AH) (x1 : Int32), rn2 (X0_init_b174 N u1 u2 x0) n A x1 = some ((), A') → ∀ (H : Heap) (locs : List Loc) (cells slots : Nat), aN A0 + cells ≤ aN A ∧ aS A0 + slots ≤ aS A →  cS dC dI ac ad False s.heap (aN A0) (aS A0) (aN A') (aS A') A H locs → ∀ (ls : Array Slot), lv_has ls 2 [(0, .ref (ad x0)), (1, .int x1)] → W p l e { frames := 6, cells := aN A' - aN A0, slots := aS A' - aS A0, locals := 133 } s m args below meth c H locs cells slots (MQ below (cQv dC dI ac ad False (aN A0) (aS A0) (aN A') (aS A') A') args s (aN A' - aN A0) (aS A' - aS A0) (cF ad)) (F0 m 174 ls []) := by
    intro  n
    induction n with
    | zero =>
      intro A x1 hf
      cases hf
    | succ n ih =>
      intro A x1 hf H locs cells slots hcs hS ls hl
      have hf : X0_init_b174 N u1 u2 x0 (rn2 (X0_init_b174 N u1 u2 x0) n) A x1 = some ((), A') := hf
      have hk174 := ih
      generalize rn2 (X0_init_b174 N u1 u2 x0) n = k174 at hf hk174
      unfold X0_init_b174 at hf
      refine lv_iload_n E.1 hb dX0_init_174 rfl (lv_at hl 1 rfl) ?_
      refine lv_bipush (v := 20) E.1 hb dX0_init_175 rfl ?_
      refine lv_icmp_ge (tgt := 200) E.1 hb dX0_init_177 (by decide) (fun hc => ?_) (fun hc => ?_)
      · have hf := it_s hc hf
        refine lv_aload_n E.1 hb dX0_init_200 rfl (lv_at hl 0 rfl) ?_
        refine lv_lconst (v := 1) E.1 hb dX0_init_201 rfl ?_
        obtain ⟨A40, hk, hw, hf⟩ := pJ_s hf
        refine c_pJ (k := 21) (f := 121) E hb hS ci_1 hk (hS.1.lt hk rfl) rfl rfl (Or.inl rfl) fk_X0_105_X0 (fun _ h => h) rfl rfl hw dX0_init_202 (fun H locs hS => ?_)
        have hcs := rm_w (A2 := A40) hcs (by rw [hw]; exact ⟨rfl, rfl⟩)
        refine lv_aload_n E.1 hb dX0_init_205 rfl (lv_at hl 0 rfl) ?_
        refine lv_bipush (v := 57) E.1 hb dX0_init_206 rfl ?_
        obtain ⟨A41, hn9, hw, hf⟩ := nwA_s hf
        obtain ⟨hck, hf⟩ := ck_s hf
        refine c_newa (atype := .byte) E hb hS hcs (Or.inr (Or.inr (Or.inl ⟨rfl, rfl⟩))) q377 hn9 hw hck (rm_up _ _ _ _) dX0_init_208 (fun H cells slots hS hcs => ?_)
        obtain ⟨A42, hk, hw, hf⟩ := pR_s hf
        refine c_pR (k := 23) (f := 123) (r := (some (aN A40))) E hb hS ci_1 hk (hS.1.lt hk rfl) rfl rfl (fun h => h.elim) (Or.inr ⟨hnm, rfl, rfl, q499⟩) fk_X0_109_X0 (fun _ h => h) (fun q => by cases q <;> exact ⟨rfl, rfl⟩) hw dX0_init_210 (fun H locs hS => ?_)
        have hcs := rm_w (A2 := A42) hcs (by rw [hw]; exact ⟨rfl, rfl⟩)
        exact c_vr E hb hr hlk hS (rm_e ⟨Nat.le_trans hcs.1 hS.2.2.2.2.1, Nat.le_trans hcs.2 hS.2.2.2.2.2⟩) hf dX0_init_213
      · have hf := if_s hc hf
        refine lv_aload_n E.1 hb dX0_init_180 rfl (lv_at hl 0 rfl) ?_
        obtain ⟨q43, hk, hf⟩ := gN_s hf
        refine c_gN (k := 19) (f := 119) E hb hS ci_1 hk.1 rfl rfl rfl hk.2 fk_X0_101_X0 (fun _ h => h) dX0_init_181 ?_
        refine lv_iload_n E.1 hb dX0_init_184 rfl (lv_at hl 1 rfl) ?_
        obtain ⟨A44, hn9, hw, hf⟩ := nwO_s hf
        obtain ⟨hck, hf⟩ := ck_s hf
        refine c_new E hb hS hcs ci_6 dv_6 q417 q418 q163 hn9 hw hck (rm_up _ _ _ _) dX0_init_185 (fun H cells slots hS hcs => ?_)
        refine lv_dup E.1 hb dX0_init_188 rfl ?_
        refine lv_aload_n E.1 hb dX0_init_189 rfl (lv_at hl 0 rfl) ?_
        obtain ⟨_, A45, h1, hge, hup, hf⟩ := bda_s hf
        refine c_kv hS (va_runIN ⟨E.1, hb, hml, E.2.1, E.2.2.1⟩ (zX5_init h1) ⟨va_cnB 1 E.2.2.1 (lw_meth q421) rfl rfl rfl (E.2.2.2.2.1 _ q419 rfl) (E.2.2.1 _ q163) gnX5_init ⟨Nat.le_of_ble_eq_true rfl, Nat.le_of_ble_eq_true rfl⟩, rfl, E.2.2.1 _ q420⟩ (c_preS E hS _) rfl rfl hl.1 rfl (lv_room (Nat.le_of_ble_eq_true rfl)) dX0_init_190 (rm_a hcs hge hup)) hup (fun H locs hS hn => ?_)
        have hcs := rm_a2 hcs hge
        obtain ⟨A46, hg, hw, hf⟩ := uR_s hf
        refine c_ast38 E hb hS hg.1 hg.2 hw dX0_init_193 (fun H locs hS => ?_)
        have hcs := rm_w (A2 := A46) hcs (by rw [hw]; exact ⟨rfl, rfl⟩)
        refine lv_iinc (v := (x1 + 1)) (lv' := [(1, .int (x1 + 1)), (0, .ref (ad x0))]) E.1 hb dX0_init_194 hl (k := 1) rfl rfl (by decide) rfl (fun ls hl => ?_)
        refine lv_goto (tgt := 174) E.1 hb dX0_init_197 (by decide) ?_
        exact hk174 A46 (x1 + 1) hf _ _ _ _ hcs hS _ (lv_sub hl [1, 0] rfl)
  refine lv_aload_n E.1 hb dX0_init_0 rfl (lv_at hl 0 rfl) ?_
  refine W.objInit E.1 hb E.2.1 (E.2.2.1 _ q195) (E.2.2.1 _ q196) (E.2.2.1 _ q197) rfl (by rw [hml]; exact hl.1) rfl dX0_init_1 (Nat.le_of_ble_eq_true rfl) (Nat.le_of_ble_eq_true rfl) ?_
  refine W.eq (g2 := F0 m 4 ls []) rfl ?_
  refine lv_aload_n E.1 hb dX0_init_4 rfl (lv_at hl 0 rfl) ?_
  obtain ⟨A1, hn9, hw, hf⟩ := nwO_s hf
  obtain ⟨hck, hf⟩ := ck_s hf
  refine c_new E hb hS hcs ci_2 dv_2 q198 q199 q153 hn9 hw hck (rm_up _ _ _ _) dX0_init_5 (fun H cells slots hS hcs => ?_)
  refine lv_dup E.1 hb dX0_init_8 rfl ?_
  obtain ⟨_, A2, h1, hge, hup, hf⟩ := bda_s hf
  refine c_kv hS (va_runIN ⟨E.1, hb, hml, E.2.1, E.2.2.1⟩ (zX1_init h1) ⟨va_cnB 0 E.2.2.1 (lw_meth q202) rfl rfl rfl (E.2.2.2.2.1 _ q200 rfl) (E.2.2.1 _ q153) gnX1_init ⟨Nat.le_of_ble_eq_true rfl, Nat.le_of_ble_eq_true rfl⟩, rfl, E.2.2.1 _ q201⟩ (c_preS E hS _) rfl rfl hl.1 rfl (lv_room (Nat.le_of_ble_eq_true rfl)) dX0_init_9 (rm_a hcs hge hup)) hup (fun H locs hS hn => ?_)
  have hcs := rm_a2 hcs hge
  obtain ⟨A3, hk, hw, hf⟩ := pR_s hf
  refine c_pR (k := 0) (f := 100) (r := (some (aN A0))) E hb hS ci_1 hk (hS.1.lt hk rfl) rfl rfl (fun h => h.elim) (Or.inl rfl) fk_X0_31_X0 (fun _ h => h) (fun q => by cases q <;> exact ⟨rfl, rfl⟩) hw dX0_init_12 (fun H locs hS => ?_)
  have hcs := rm_w (A2 := A3) hcs (by rw [hw]; exact ⟨rfl, rfl⟩)
  refine lv_aload_n E.1 hb dX0_init_15 rfl (lv_at hl 0 rfl) ?_
  refine lv_sipush (v := 1600) E.1 hb dX0_init_16 rfl ?_
  obtain ⟨A4, hn9, hw, hf⟩ := nwA_s hf
  obtain ⟨hck, hf⟩ := ck_s hf
  refine c_newa (atype := .byte) E hb hS hcs (Or.inr (Or.inr (Or.inl ⟨rfl, rfl⟩))) q377 hn9 hw hck (rm_up _ _ _ _) dX0_init_19 (fun H cells slots hS hcs => ?_)
  obtain ⟨A5, hk, hw, hf⟩ := pR_s hf
  refine c_pR (k := 1) (f := 101) (r := (some (aN A3))) E hb hS ci_1 hk (hS.1.lt hk rfl) rfl rfl (fun h => h.elim) (Or.inr ⟨hnm, rfl, rfl, q476⟩) fk_X0_35_X0 (fun _ h => h) (fun q => by cases q <;> exact ⟨rfl, rfl⟩) hw dX0_init_21 (fun H locs hS => ?_)
  have hcs := rm_w (A2 := A5) hcs (by rw [hw]; exact ⟨rfl, rfl⟩)
  refine lv_aload_n E.1 hb dX0_init_24 rfl (lv_at hl 0 rfl) ?_
  refine lv_iconst (v := (-1)) E.1 hb dX0_init_25 rfl ?_
  obtain ⟨A6, hk, hw, hf⟩ := pI_s hf
  refine c_pI (k := 4) (f := 104) E hb hS ci_1 hk (hS.1.lt hk rfl) rfl rfl (Or.inl rfl) fk_X0_39_X0 (fun _ h => h) rfl rfl hw dX0_init_26 (fun H locs hS => ?_)
  have hcs := rm_w (A2 := A6) hcs (by rw [hw]; exact ⟨rfl, rfl⟩)
  refine lv_aload_n E.1 hb dX0_init_29 rfl (lv_at hl 0 rfl) ?_
  obtain ⟨A7, hn9, hw, hf⟩ := nwO_s hf
  obtain ⟨hck, hf⟩ := ck_s hf
  refine c_new E hb hS hcs ci_3 dv_3 q299 q300 q157 hn9 hw hck (rm_up _ _ _ _) dX0_init_30 (fun H cells slots hS hcs => ?_)
  refine lv_dup E.1 hb dX0_init_33 rfl ?_
  refine lv_aload_n E.1 hb dX0_init_34 rfl (lv_at hl 0 rfl) ?_
  obtain ⟨_, A8, h1, hge, hup, hf⟩ := bda_s hf
  refine c_kv hS (va_runIN ⟨E.1, hb, hml, E.2.1, E.2.2.1⟩ (zX2_init hu h1) ⟨va_cnB 1 E.2.2.1 (lw_meth q303) rfl rfl rfl (E.2.2.2.2.1 _ q301 rfl) (E.2.2.1 _ q157) gnX2_init ⟨Nat.le_of_ble_eq_true rfl, Nat.le_of_ble_eq_true rfl⟩, rfl, E.2.2.1 _ q302⟩ (c_preS E hS _) rfl rfl hl.1 rfl (lv_room (Nat.le_of_ble_eq_true rfl)) dX0_init_35 (rm_a hcs hge hup)) hup (fun H locs hS hn => ?_)
  have hcs := rm_a2 hcs hge
  obtain ⟨A9, hk, hw, hf⟩ := pR_s hf
  refine c_pR (k := 5) (f := 105) (r := (some (aN A6))) E hb hS ci_1 hk (hS.1.lt hk rfl) rfl rfl (fun h => h.elim) (Or.inr ⟨hnm, rfl, rfl, q480⟩) fk_X0_48_X0 (fun _ h => h) (fun q => by cases q <;> exact ⟨rfl, rfl⟩) hw dX0_init_38 (fun H locs hS => ?_)
  have hcs := rm_w (A2 := A9) hcs (by rw [hw]; exact ⟨rfl, rfl⟩)
  refine lv_aload_n E.1 hb dX0_init_41 rfl (lv_at hl 0 rfl) ?_
  obtain ⟨A10, hn9, hw, hf⟩ := nwO_s hf
  obtain ⟨hck, hf⟩ := ck_s hf
  refine c_new E hb hS hcs ci_5 dv_5 q403 q404 q162 hn9 hw hck (rm_up _ _ _ _) dX0_init_42 (fun H cells slots hS hcs => ?_)
  refine lv_dup E.1 hb dX0_init_45 rfl ?_
  obtain ⟨_, A11, h1, hge, hup, hf⟩ := bda_s hf
  refine c_kv hS (va_runIN ⟨E.1, hb, hml, E.2.1, E.2.2.1⟩ (zX4_init h1) ⟨va_cnB 0 E.2.2.1 (lw_meth q407) rfl rfl rfl (E.2.2.2.2.1 _ q405 rfl) (E.2.2.1 _ q162) gnX4_init ⟨Nat.le_of_ble_eq_true rfl, Nat.le_of_ble_eq_true rfl⟩, rfl, E.2.2.1 _ q406⟩ (c_preS E hS _) rfl rfl hl.1 rfl (lv_room (Nat.le_of_ble_eq_true rfl)) dX0_init_46 (rm_a hcs hge hup)) hup (fun H locs hS hn => ?_)
  have hcs := rm_a2 hcs hge
  obtain ⟨A12, hk, hw, hf⟩ := pR_s hf
  refine c_pR (k := 6) (f := 106) (r := (some (aN A9))) E hb hS ci_1 hk (hS.1.lt hk rfl) rfl rfl (fun h => h.elim) (Or.inr ⟨hnm, rfl, rfl, q481⟩) fk_X0_55_X0 (fun _ h => h) (fun q => by cases q <;> exact ⟨rfl, rfl⟩) hw dX0_init_49 (fun H locs hS => ?_)
  have hcs := rm_w (A2 := A12) hcs (by rw [hw]; exact ⟨rfl, rfl⟩)
  refine lv_aload_n E.1 hb dX0_init_52 rfl (lv_at hl 0 rfl) ?_
  obtain ⟨A13, hn9, hw, hf⟩ := nwO_s hf
  obtain ⟨hck, hf⟩ := ck_s hf
  refine c_new E hb hS hcs ci_5 dv_5 q403 q404 q162 hn9 hw hck (rm_up _ _ _ _) dX0_init_53 (fun H cells slots hS hcs => ?_)
  refine lv_dup E.1 hb dX0_init_56 rfl ?_
  obtain ⟨_, A14, h1, hge, hup, hf⟩ := bda_s hf
  refine c_kv hS (va_runIN ⟨E.1, hb, hml, E.2.1, E.2.2.1⟩ (zX4_init h1) ⟨va_cnB 0 E.2.2.1 (lw_meth q407) rfl rfl rfl (E.2.2.2.2.1 _ q405 rfl) (E.2.2.1 _ q162) gnX4_init ⟨Nat.le_of_ble_eq_true rfl, Nat.le_of_ble_eq_true rfl⟩, rfl, E.2.2.1 _ q406⟩ (c_preS E hS _) rfl rfl hl.1 rfl (lv_room (Nat.le_of_ble_eq_true rfl)) dX0_init_57 (rm_a hcs hge hup)) hup (fun H locs hS hn => ?_)
  have hcs := rm_a2 hcs hge
  obtain ⟨A15, hk, hw, hf⟩ := pR_s hf
  refine c_pR (k := 7) (f := 107) (r := (some (aN A12))) E hb hS ci_1 hk (hS.1.lt hk rfl) rfl rfl (fun h => h.elim) (Or.inr ⟨hnm, rfl, rfl, q483⟩) fk_X0_59_X0 (fun _ h => h) (fun q => by cases q <;> exact ⟨rfl, rfl⟩) hw dX0_init_60 (fun H locs hS => ?_)
  have hcs := rm_w (A2 := A15) hcs (by rw [hw]; exact ⟨rfl, rfl⟩)
  refine lv_aload_n E.1 hb dX0_init_63 rfl (lv_at hl 0 rfl) ?_
  refine lv_bipush (v := 6) E.1 hb dX0_init_64 rfl ?_
  obtain ⟨A16, hn9, hw, hf⟩ := nwA_s hf
  obtain ⟨hck, hf⟩ := ck_s hf
  refine c_newa (atype := .int) E hb hS hcs (Or.inl ⟨rfl, rfl⟩) q232 hn9 hw hck (rm_up _ _ _ _) dX0_init_66 (fun H cells slots hS hcs => ?_)
  obtain ⟨A17, hk, hw, hf⟩ := pR_s hf
  refine c_pR (k := 8) (f := 108) (r := (some (aN A15))) E hb hS ci_1 hk (hS.1.lt hk rfl) rfl rfl (fun h => h.elim) (Or.inr ⟨hnm, rfl, rfl, q484⟩) fk_X0_62_X0 (fun _ h => h) (fun q => by cases q <;> exact ⟨rfl, rfl⟩) hw dX0_init_68 (fun H locs hS => ?_)
  have hcs := rm_w (A2 := A17) hcs (by rw [hw]; exact ⟨rfl, rfl⟩)
  refine lv_aload_n E.1 hb dX0_init_71 rfl (lv_at hl 0 rfl) ?_
  obtain ⟨A18, hn9, hw, hf⟩ := nwO_s hf
  obtain ⟨hck, hf⟩ := ck_s hf
  refine c_new E hb hS hcs ci_6 dv_6 q417 q418 q163 hn9 hw hck (rm_up _ _ _ _) dX0_init_72 (fun H cells slots hS hcs => ?_)
  refine lv_dup E.1 hb dX0_init_75 rfl ?_
  refine lv_aload_n E.1 hb dX0_init_76 rfl (lv_at hl 0 rfl) ?_
  obtain ⟨_, A19, h1, hge, hup, hf⟩ := bda_s hf
  refine c_kv hS (va_runIN ⟨E.1, hb, hml, E.2.1, E.2.2.1⟩ (zX5_init h1) ⟨va_cnB 1 E.2.2.1 (lw_meth q421) rfl rfl rfl (E.2.2.2.2.1 _ q419 rfl) (E.2.2.1 _ q163) gnX5_init ⟨Nat.le_of_ble_eq_true rfl, Nat.le_of_ble_eq_true rfl⟩, rfl, E.2.2.1 _ q420⟩ (c_preS E hS _) rfl rfl hl.1 rfl (lv_room (Nat.le_of_ble_eq_true rfl)) dX0_init_77 (rm_a hcs hge hup)) hup (fun H locs hS hn => ?_)
  have hcs := rm_a2 hcs hge
  obtain ⟨A20, hk, hw, hf⟩ := pR_s hf
  refine c_pR (k := 9) (f := 109) (r := (some (aN A17))) E hb hS ci_1 hk (hS.1.lt hk rfl) rfl rfl (fun h => h.elim) (Or.inr ⟨hnm, rfl, rfl, q485⟩) fk_X0_69_X0 (fun _ h => h) (fun q => by cases q <;> exact ⟨rfl, rfl⟩) hw dX0_init_80 (fun H locs hS => ?_)
  have hcs := rm_w (A2 := A20) hcs (by rw [hw]; exact ⟨rfl, rfl⟩)
  refine lv_aload_n E.1 hb dX0_init_83 rfl (lv_at hl 0 rfl) ?_
  obtain ⟨A21, hn9, hw, hf⟩ := nwO_s hf
  obtain ⟨hck, hf⟩ := ck_s hf
  refine c_new E hb hS hcs ci_6 dv_6 q417 q418 q163 hn9 hw hck (rm_up _ _ _ _) dX0_init_84 (fun H cells slots hS hcs => ?_)
  refine lv_dup E.1 hb dX0_init_87 rfl ?_
  refine lv_aload_n E.1 hb dX0_init_88 rfl (lv_at hl 0 rfl) ?_
  obtain ⟨_, A22, h1, hge, hup, hf⟩ := bda_s hf
  refine c_kv hS (va_runIN ⟨E.1, hb, hml, E.2.1, E.2.2.1⟩ (zX5_init h1) ⟨va_cnB 1 E.2.2.1 (lw_meth q421) rfl rfl rfl (E.2.2.2.2.1 _ q419 rfl) (E.2.2.1 _ q163) gnX5_init ⟨Nat.le_of_ble_eq_true rfl, Nat.le_of_ble_eq_true rfl⟩, rfl, E.2.2.1 _ q420⟩ (c_preS E hS _) rfl rfl hl.1 rfl (lv_room (Nat.le_of_ble_eq_true rfl)) dX0_init_89 (rm_a hcs hge hup)) hup (fun H locs hS hn => ?_)
  have hcs := rm_a2 hcs hge
  obtain ⟨A23, hk, hw, hf⟩ := pR_s hf
  refine c_pR (k := 10) (f := 110) (r := (some (aN A20))) E hb hS ci_1 hk (hS.1.lt hk rfl) rfl rfl (fun h => h.elim) (Or.inr ⟨hnm, rfl, rfl, q486⟩) fk_X0_73_X0 (fun _ h => h) (fun q => by cases q <;> exact ⟨rfl, rfl⟩) hw dX0_init_92 (fun H locs hS => ?_)
  have hcs := rm_w (A2 := A23) hcs (by rw [hw]; exact ⟨rfl, rfl⟩)
  refine lv_aload_n E.1 hb dX0_init_95 rfl (lv_at hl 0 rfl) ?_
  refine lv_bipush (v := 6) E.1 hb dX0_init_96 rfl ?_
  refine lv_bipush (v := 8) E.1 hb dX0_init_98 rfl ?_
  obtain ⟨A24, hn9, hw, hf⟩ := nwM_s hf
  obtain ⟨hck, hf⟩ := ck_s hf
  refine c_anew2 E hb hS hcs (Or.inr ⟨rfl, rfl, rfl⟩) q469 q552 hn9 hw hck (rm_up _ _ _ _) dX0_init_100 (fun H cells slots hS hcs => ?_)
  obtain ⟨A25, hk, hw, hf⟩ := pR_s hf
  refine c_pR (k := 11) (f := 111) (r := (some (aN A23))) E hb hS ci_1 hk (hS.1.lt hk rfl) rfl rfl (fun h => h.elim) (Or.inl rfl) fk_X0_78_X0 (fun _ h => h) (fun q => by cases q <;> exact ⟨rfl, rfl⟩) hw dX0_init_104 (fun H locs hS => ?_)
  have hcs := rm_w (A2 := A25) hcs (by rw [hw]; exact ⟨rfl, rfl⟩)
  refine lv_aload_n E.1 hb dX0_init_107 rfl (lv_at hl 0 rfl) ?_
  refine lv_bipush (v := 6) E.1 hb dX0_init_108 rfl ?_
  refine lv_bipush (v := 8) E.1 hb dX0_init_110 rfl ?_
  obtain ⟨A26, hn9, hw, hf⟩ := nwM_s hf
  obtain ⟨hck, hf⟩ := ck_s hf
  refine c_anew2 E hb hS hcs (Or.inr ⟨rfl, rfl, rfl⟩) q469 q552 hn9 hw hck (rm_up _ _ _ _) dX0_init_112 (fun H cells slots hS hcs => ?_)
  obtain ⟨A27, hk, hw, hf⟩ := pR_s hf
  refine c_pR (k := 12) (f := 112) (r := (some (aN A25))) E hb hS ci_1 hk (hS.1.lt hk rfl) rfl rfl (fun h => h.elim) (Or.inl rfl) fk_X0_81_X0 (fun _ h => h) (fun q => by cases q <;> exact ⟨rfl, rfl⟩) hw dX0_init_116 (fun H locs hS => ?_)
  have hcs := rm_w (A2 := A27) hcs (by rw [hw]; exact ⟨rfl, rfl⟩)
  refine lv_aload_n E.1 hb dX0_init_119 rfl (lv_at hl 0 rfl) ?_
  refine lv_bipush (v := 16) E.1 hb dX0_init_120 rfl ?_
  obtain ⟨A28, hn9, hw, hf⟩ := nwA_s hf
  obtain ⟨hck, hf⟩ := ck_s hf
  refine c_newa (atype := .int) E hb hS hcs (Or.inl ⟨rfl, rfl⟩) q232 hn9 hw hck (rm_up _ _ _ _) dX0_init_122 (fun H cells slots hS hcs => ?_)
  obtain ⟨A29, hk, hw, hf⟩ := pR_s hf
  refine c_pR (k := 13) (f := 113) (r := (some (aN A27))) E hb hS ci_1 hk (hS.1.lt hk rfl) rfl rfl (fun h => h.elim) (Or.inr ⟨hnm, rfl, rfl, q489⟩) fk_X0_84_X0 (fun _ h => h) (fun q => by cases q <;> exact ⟨rfl, rfl⟩) hw dX0_init_124 (fun H locs hS => ?_)
  have hcs := rm_w (A2 := A29) hcs (by rw [hw]; exact ⟨rfl, rfl⟩)
  refine lv_aload_n E.1 hb dX0_init_127 rfl (lv_at hl 0 rfl) ?_
  refine lv_bipush (v := 16) E.1 hb dX0_init_128 rfl ?_
  obtain ⟨A30, hn9, hw, hf⟩ := nwA_s hf
  obtain ⟨hck, hf⟩ := ck_s hf
  refine c_newa (atype := .int) E hb hS hcs (Or.inl ⟨rfl, rfl⟩) q232 hn9 hw hck (rm_up _ _ _ _) dX0_init_130 (fun H cells slots hS hcs => ?_)
  obtain ⟨A31, hk, hw, hf⟩ := pR_s hf
  refine c_pR (k := 14) (f := 114) (r := (some (aN A29))) E hb hS ci_1 hk (hS.1.lt hk rfl) rfl rfl (fun h => h.elim) (Or.inr ⟨hnm, rfl, rfl, q490⟩) fk_X0_87_X0 (fun _ h => h) (fun q => by cases q <;> exact ⟨rfl, rfl⟩) hw dX0_init_132 (fun H locs hS => ?_)
  have hcs := rm_w (A2 := A31) hcs (by rw [hw]; exact ⟨rfl, rfl⟩)
  refine lv_aload_n E.1 hb dX0_init_135 rfl (lv_at hl 0 rfl) ?_
  refine lv_bipush (v := 8) E.1 hb dX0_init_136 rfl ?_
  refine lv_bipush (v := 8) E.1 hb dX0_init_138 rfl ?_
  obtain ⟨A32, hn9, hw, hf⟩ := nwM_s hf
  obtain ⟨hck, hf⟩ := ck_s hf
  refine c_anew2 E hb hS hcs (Or.inl ⟨rfl, rfl, rfl⟩) q471 q232 hn9 hw hck (rm_up _ _ _ _) dX0_init_140 (fun H cells slots hS hcs => ?_)
  obtain ⟨A33, hk, hw, hf⟩ := pR_s hf
  refine c_pR (k := 16) (f := 116) (r := (some (aN A31))) E hb hS ci_1 hk (hS.1.lt hk rfl) rfl rfl (fun h => h.elim) (Or.inr ⟨hnm, rfl, rfl, q492⟩) fk_X0_92_X0 (fun _ h => h) (fun q => by cases q <;> exact ⟨rfl, rfl⟩) hw dX0_init_144 (fun H locs hS => ?_)
  have hcs := rm_w (A2 := A33) hcs (by rw [hw]; exact ⟨rfl, rfl⟩)
  refine lv_aload_n E.1 hb dX0_init_147 rfl (lv_at hl 0 rfl) ?_
  refine lv_bipush (v := 8) E.1 hb dX0_init_148 rfl ?_
  obtain ⟨A34, hn9, hw, hf⟩ := nwA_s hf
  obtain ⟨hck, hf⟩ := ck_s hf
  refine c_newa (atype := .int) E hb hS hcs (Or.inl ⟨rfl, rfl⟩) q232 hn9 hw hck (rm_up _ _ _ _) dX0_init_150 (fun H cells slots hS hcs => ?_)
  obtain ⟨A35, hk, hw, hf⟩ := pR_s hf
  refine c_pR (k := 17) (f := 117) (r := (some (aN A33))) E hb hS ci_1 hk (hS.1.lt hk rfl) rfl rfl (fun h => h.elim) (Or.inr ⟨hnm, rfl, rfl, q493⟩) fk_X0_95_X0 (fun _ h => h) (fun q => by cases q <;> exact ⟨rfl, rfl⟩) hw dX0_init_152 (fun H locs hS => ?_)
  have hcs := rm_w (A2 := A35) hcs (by rw [hw]; exact ⟨rfl, rfl⟩)
  refine lv_aload_n E.1 hb dX0_init_155 rfl (lv_at hl 0 rfl) ?_
  refine lv_bipush (v := 8) E.1 hb dX0_init_156 rfl ?_
  obtain ⟨A36, hn9, hw, hf⟩ := nwA_s hf
  obtain ⟨hck, hf⟩ := ck_s hf
  refine c_newa (atype := .int) E hb hS hcs (Or.inl ⟨rfl, rfl⟩) q232 hn9 hw hck (rm_up _ _ _ _) dX0_init_158 (fun H cells slots hS hcs => ?_)
  obtain ⟨A37, hk, hw, hf⟩ := pR_s hf
  refine c_pR (k := 18) (f := 118) (r := (some (aN A35))) E hb hS ci_1 hk (hS.1.lt hk rfl) rfl rfl (fun h => h.elim) (Or.inr ⟨hnm, rfl, rfl, q494⟩) fk_X0_98_X0 (fun _ h => h) (fun q => by cases q <;> exact ⟨rfl, rfl⟩) hw dX0_init_160 (fun H locs hS => ?_)
  have hcs := rm_w (A2 := A37) hcs (by rw [hw]; exact ⟨rfl, rfl⟩)
  refine lv_aload_n E.1 hb dX0_init_163 rfl (lv_at hl 0 rfl) ?_
  refine lv_bipush (v := 20) E.1 hb dX0_init_164 rfl ?_
  obtain ⟨A38, hn9, hw, hf⟩ := nwA_s hf
  obtain ⟨hck, hf⟩ := ck_s hf
  refine c_anew E hb hS hcs (Or.inr ⟨rfl, rfl⟩) q417 hn9 hw hck (rm_up _ _ _ _) dX0_init_166 (fun H cells slots hS hcs => ?_)
  obtain ⟨A39, hk, hw, hf⟩ := pR_s hf
  refine c_pR (k := 19) (f := 119) (r := (some (aN A37))) E hb hS ci_1 hk (hS.1.lt hk rfl) rfl rfl (fun h => h.elim) (Or.inr ⟨hnm, rfl, rfl, q495⟩) fk_X0_101_X0 (fun _ h => h) (fun q => by cases q <;> exact ⟨rfl, rfl⟩) hw dX0_init_169 (fun H locs hS => ?_)
  have hcs := rm_w (A2 := A39) hcs (by rw [hw]; exact ⟨rfl, rfl⟩)
  refine lv_iconst (v := 0) E.1 hb dX0_init_172 rfl ?_
  refine lv_istore_n (lv' := [(1, .int 0), (0, .ref (ad x0))]) E.1 hb dX0_init_173 rfl hl (by decide) rfl (fun ls hl => ?_)
  exact hL174 N A39 0 hf _ _ _ _ hcs hS _ (lv_sub hl [1, 0] rfl)
/-! MarginFolk.refuses(I)I: RW -/
noncomputable def X0_refuses (A0 : AH) (x1 : Int32) : Option (Int32 × AH) :=
  bo (sI 6 31 A0 15 x1) fun v1 => bo (tI 6 31 A0 15 x1 (v1 + 1)) fun A2 => some ((-1), A2)
abbrev rX0_refuses : Room := { frames := 0, cells := 0, slots := 0, locals := 0 }
set_option maxHeartbeats 4000000 in
theorem zX0_refuses {l : Launch} {dC : Nat → ClassId} {dI : Nat → Nat → Nat} {ac : Nat → ClassId} {ad : Nat → Nat} {A0 : AH} {x1 : Int32} {r : Int32} {A' : AH} (hf : X0_refuses A0 x1 = some (r, A')) : Met l yX0_refuses (ws_ yX0_refuses cX0_refuses 2 (some .int)) { frames := 0, cells := 0, slots := 0, locals := 0 } (va_Pc [.ref (ad 0), .int x1] (cPre dC dI ac ad True A0)) (cQi dC dI ac ad True (aN A0) (aS A0) (aN A0) (aS A0) r A') 0 0 (cF ad) := by
  unfold X0_refuses at hf
  refine c_of ⟨Nat.le_refl _, Nat.le_refl _⟩ RX0 (plainFor_of_name (by decide)) rfl (Nat.le_of_ble_eq_true rfl) ?_
  intro p e s m args below meth c E hb hr hlk hnm hml hS ls hl
  have hl : lv_has ls 2 [(0, .ref (ad 0)), (1, .int x1)] := hl
  refine lv_aload_n E.1 hb dX0_refuses_0 rfl (lv_at hl 0 rfl) ?_
  refine c_gN (k := 8) (f := 108) (q := 15) E hb hS ci_1 (sK hS (by decide) rfl) rfl rfl rfl (sRf hS (by decide) rfl) fk_X0_62_X0 (fun _ h => h) dX0_refuses_1 ?_
  refine lv_iload_n E.1 hb dX0_refuses_4 rfl (lv_at hl 1 rfl) ?_
  refine lv_dup2_11 E.1 hb dX0_refuses_5 rfl rfl ?_
  obtain ⟨hg, hf⟩ := sI_s hf
  refine s_ld E hb hS (t := 31) ⟨by decide, rfl, rfl⟩ hg (Or.inl ⟨rfl, rfl⟩) dX0_refuses_6 ?_
  refine lv_iconst (v := 1) E.1 hb dX0_refuses_7 rfl ?_
  refine lv_iadd E.1 hb dX0_refuses_8 ?_
  obtain ⟨A2, hg, hw, hf⟩ := tI_s hf
  refine s_st E hb hS (t := 31) ⟨by decide, rfl, rfl⟩ hg (Or.inl ⟨rfl, rfl, rfl⟩) hw dX0_refuses_9 (fun H locs hS => ?_)
  refine lv_iconst (v := (-1)) E.1 hb dX0_refuses_10 rfl ?_
  exact c_ir E hb hr hlk hS ⟨Nat.le_refl 0, Nat.le_refl 0⟩ hf dX0_refuses_11
theorem fk_X0_112_X0 : FLk RX0 112 "MarginFolk" (TX0 2).2.1 (TX0 2).2.2.1 := Or.inl q477
/-! MarginFolk.put(I)V: RW -/
noncomputable def X0_put_b3 (N : Nat) (x1 : Int32) (k3 : AH → Int32 → Option (Unit × AH)) (A : AH) (x2 : Int32) : Option (Unit × AH) :=
  if x2 < 0 then (some ((), A)) else (lt2 (wI A 102 0 0 ((aI A 102 0 0) + 1)) fun A1 => bo (tI 1600 33 A1 8 (aI A 102 0 0) (vp_nar .byte ((Int32.toInt8 (x1 >>> (x2 &&& 31))).toInt32))) fun A2 => k3 A2 (x2 + (-8)))
noncomputable def X0_put (N : Nat) (A0 : AH) (x1 : Int32) : Option (Unit × AH) :=
  rn2 (X0_put_b3 N x1) N A0 24
abbrev rX0_put : Room := { frames := 0, cells := 0, slots := 0, locals := 0 }
set_option maxHeartbeats 4000000 in
theorem zX0_put {l : Launch} {dC : Nat → ClassId} {dI : Nat → Nat → Nat} {ac : Nat → ClassId} {ad : Nat → Nat} {N : Nat} {A0 : AH} {x1 : Int32} {A' : AH} (hf : X0_put N A0 x1 = some ((), A')) : Met l yX0_put (ws_ yX0_put cX0_put 3 none) { frames := 0, cells := 0, slots := 0, locals := 0 } (va_Pc [.ref (ad 0), .int x1] (cPre dC dI ac ad True A0)) (cQv dC dI ac ad True (aN A0) (aS A0) (aN A0) (aS A0) A') 0 0 (cF ad) := by
  unfold X0_put at hf
  refine c_of ⟨Nat.le_refl _, Nat.le_refl _⟩ RX0 (plainFor_of_name (by decide)) rfl (Nat.le_of_ble_eq_true rfl) ?_
  intro p e s m args below meth c E hb hr hlk hnm hml hS ls hl
  have hl : lv_has ls 3 [(0, .ref (ad 0)), (1, .int x1)] := hl
  have hL3 : ∀ (n : Nat) (A : AH) (x2 : Int32), rn2 (X0_put_b3 N x1) n A x2 = some ((), A') → ∀ (H : Heap) (locs : List Loc), cS dC dI ac ad True s.heap (aN A0) (aS A0) (aN A0) (aS A0) A H locs → ∀ (ls : Array Slot), lv_has ls 3 [(0, .ref (ad 0)), (1, .int x1), (2, .int x2)] → W p l e rX0_put s m args below meth c H locs 0 0 (MQ below (cQv dC dI ac ad True (aN A0) (aS A0) (aN A0) (aS A0) A') args s 0 0 (cF ad)) (F0 m 3 ls []) := by
    intro  n
    induction n with
    | zero =>
      intro A x2 hf
      cases hf
    | succ n ih =>
      intro A x2 hf H locs hS ls hl
      have hf : X0_put_b3 N x1 (rn2 (X0_put_b3 N x1) n) A x2 = some ((), A') := hf
      have hk3 := ih
      generalize rn2 (X0_put_b3 N x1) n = k3 at hf hk3
      unfold X0_put_b3 at hf
      refine lv_iload_n E.1 hb dX0_put_3 rfl (lv_at hl 2 rfl) ?_
      refine lv_if_lt (tgt := 33) E.1 hb dX0_put_4 (by decide) (fun hc => ?_) (fun hc => ?_)
      · have hf := it_s hc hf
        exact c_vr E hb hr hlk hS ⟨Nat.le_refl 0, Nat.le_refl 0⟩ hf dX0_put_33
      · have hf := if_s hc hf
        refine lv_aload_n E.1 hb dX0_put_7 rfl (lv_at hl 0 rfl) ?_
        refine c_gN (k := 1) (f := 101) (q := 8) E hb hS ci_1 (sK hS (by decide) rfl) rfl rfl rfl (sRf hS (by decide) rfl) fk_X0_35_X0 (fun _ h => h) dX0_put_8 ?_
        refine lv_aload_n E.1 hb dX0_put_11 rfl (lv_at hl 0 rfl) ?_
        refine lv_dup E.1 hb dX0_put_12 rfl ?_
        refine c_gI (k := 2) (f := 102) E hb hS ci_1 (sK hS (by decide) rfl) rfl rfl rfl fk_X0_112_X0 (fun _ h => h) dX0_put_13 ?_
        refine lv_dup_x1 E.1 hb dX0_put_16 rfl rfl ?_
        refine lv_iconst (v := 1) E.1 hb dX0_put_17 rfl ?_
        refine lv_iadd E.1 hb dX0_put_18 ?_
        obtain ⟨A1, hw, hf⟩ := lt2_s hf
        refine c_pI (k := 2) (f := 102) E hb hS ci_1 (sK hS (by decide) rfl) (hS.1.lt (sK hS (by decide) rfl) rfl) rfl rfl (Or.inl rfl) fk_X0_112_X0 (fun _ h => h) rfl rfl hw dX0_put_19 (fun H locs hS => ?_)
        refine lv_iload_n E.1 hb dX0_put_22 rfl (lv_at hl 1 rfl) ?_
        refine lv_iload_n E.1 hb dX0_put_23 rfl (lv_at hl 2 rfl) ?_
        refine lv_ishr E.1 hb dX0_put_24 ?_
        refine lv_i2b E.1 hb dX0_put_25 rfl ?_
        obtain ⟨A2, hg, hw, hf⟩ := tI_s hf
        refine s_st E hb hS (t := 33) ⟨by decide, rfl, rfl⟩ hg (Or.inr (Or.inl ⟨rfl, rfl, rfl⟩)) hw dX0_put_26 (fun H locs hS => ?_)
        refine lv_iinc (v := (x2 + (-8))) (lv' := [(2, .int (x2 + (-8))), (0, .ref (ad 0)), (1, .int x1)]) E.1 hb dX0_put_27 hl (k := 2) rfl rfl (by decide) rfl (fun ls hl => ?_)
        refine lv_goto (tgt := 3) E.1 hb dX0_put_30 (by decide) ?_
        exact hk3 A2 (x2 + (-8)) hf _ _ hS _ (lv_sub hl [1, 2, 0] rfl)
  refine lv_bipush (v := 24) E.1 hb dX0_put_0 rfl ?_
  refine lv_istore_n (lv' := [(2, .int 24), (0, .ref (ad 0)), (1, .int x1)]) E.1 hb dX0_put_2 rfl hl (by decide) rfl (fun ls hl => ?_)
  exact hL3 N A0 24 hf _ _ hS _ (lv_sub hl [1, 2, 0] rfl)
theorem gw_X0_119 : GoodIn lw_all (wsV RX0 119 RX0 yX0_put (ws_ yX0_put cX0_put 3 none)) := lw_V q561 q563 qs2 q152 q564
theorem gnX0_put : yX0_put.cls ≠ "java/lang/invoke/MethodHandle" ∧ yX0_put.cls ≠ "java/lang/invoke/VarHandle" ∧ (parseMethodDescriptor yX0_put.desc).map (fun d => d.parameters.length) = some 1 := by decide +kernel
theorem gw_X0_115 : GoodIn lw_all (wsV RX0 115 RX0 yX0_refuses (ws_ yX0_refuses cX0_refuses 2 (some .int))) := lw_V q557 q559 qs1 q152 q560
theorem gnX0_refuses : yX0_refuses.cls ≠ "java/lang/invoke/MethodHandle" ∧ yX0_refuses.cls ≠ "java/lang/invoke/VarHandle" ∧ (parseMethodDescriptor yX0_refuses.desc).map (fun d => d.parameters.length) = some 1 := by decide +kernel
/-! MarginFolk.feed(IIIII)I: RW -/
noncomputable def X0_feed (N : Nat) (A0 : AH) (x1 : Int32) (x2 : Int32) (x3 : Int32) (x4 : Int32) (x5 : Int32) : Option (Int32 × AH) :=
  if ((aI A0 102 0 0) + 20) ≤ 1600 then (bd (X0_put N A0 x1) fun _ A1 => bd (X0_put N A1 x2) fun _ A2 => bd (X0_put N A2 x3) fun _ A3 => bd (X0_put N A3 x4) fun _ A4 => bd (X0_put N A4 x5) fun _ A5 => some ((aI A5 102 0 0), A5)) else (bd (X0_refuses A0 0) fun r6 A7 => some (r6, A7))
abbrev rX0_feed : Room := { frames := 1, cells := 0, slots := 0, locals := 22 }
set_option maxHeartbeats 4000000 in
theorem zX0_feed {l : Launch} {dC : Nat → ClassId} {dI : Nat → Nat → Nat} {ac : Nat → ClassId} {ad : Nat → Nat} {N : Nat} {A0 : AH} {x1 : Int32} {x2 : Int32} {x3 : Int32} {x4 : Int32} {x5 : Int32} {r : Int32} {A' : AH} (hf : X0_feed N A0 x1 x2 x3 x4 x5 = some (r, A')) : Met l yX0_feed (ws_ yX0_feed cX0_feed 6 (some .int)) { frames := 1, cells := 0, slots := 0, locals := 22 } (va_Pc [.ref (ad 0), .int x1, .int x2, .int x3, .int x4, .int x5] (cPre dC dI ac ad True A0)) (cQi dC dI ac ad True (aN A0) (aS A0) (aN A0) (aS A0) r A') 0 0 (cF ad) := by
  unfold X0_feed at hf
  refine c_of ⟨Nat.le_refl _, Nat.le_refl _⟩ RX0 (plainFor_of_name (by decide)) rfl (Nat.le_of_ble_eq_true rfl) ?_
  intro p e s m args below meth c E hb hr hlk hnm hml hS ls hl
  have hl : lv_has ls 6 [(0, .ref (ad 0)), (1, .int x1), (2, .int x2), (3, .int x3), (4, .int x4), (5, .int x5)] := hl
  refine lv_aload_n E.1 hb dX0_feed_0 rfl (lv_at hl 0 rfl) ?_
  refine c_gI (k := 2) (f := 102) E hb hS ci_1 (sK hS (by decide) rfl) rfl rfl rfl fk_X0_112_X0 (fun _ h => h) dX0_feed_1 ?_
  refine lv_bipush (v := 20) E.1 hb dX0_feed_4 rfl ?_
  refine lv_iadd E.1 hb dX0_feed_6 ?_
  refine lv_sipush (v := 1600) E.1 hb dX0_feed_7 rfl ?_
  refine lv_icmp_le (tgt := 19) E.1 hb dX0_feed_10 (by decide) (fun hc => ?_) (fun hc => ?_)
  · have hf := it_s hc hf
    refine lv_aload_n E.1 hb dX0_feed_19 rfl (lv_at hl 0 rfl) ?_
    refine lv_iload_n E.1 hb dX0_feed_20 rfl (lv_at hl 1 rfl) ?_
    obtain ⟨_, A1, h1, hf⟩ := bd_s hf
    refine c_kv hS (va_runV ⟨E.1, hb, hml, E.2.1, E.2.2.1⟩ (zX0_put h1) (cwV 1 E.2.2.1 gw_X0_119 rfl rfl rfl ⟨rfl, gnX0_put⟩ ⟨Nat.le_of_ble_eq_true rfl, Nat.le_of_ble_eq_true rfl⟩) (c_preV E hS ci_1 (sK hS (by decide) rfl) (hS.1.lt (sK hS (by decide) rfl) rfl) _) rfl rfl hl.1 rfl (lv_room (Nat.le_of_ble_eq_true rfl)) dX0_feed_21 ⟨Nat.le_refl 0, Nat.le_refl 0⟩) hS.2.2.2.2 (fun H locs hS hn => ?_)
    refine lv_aload_n E.1 hb dX0_feed_24 rfl (lv_at hl 0 rfl) ?_
    refine lv_iload_n E.1 hb dX0_feed_25 rfl (lv_at hl 2 rfl) ?_
    obtain ⟨_, A2, h1, hf⟩ := bd_s hf
    refine c_kv hS (va_runV ⟨E.1, hb, hml, E.2.1, E.2.2.1⟩ (zX0_put h1) (cwV 1 E.2.2.1 gw_X0_119 rfl rfl rfl ⟨rfl, gnX0_put⟩ ⟨Nat.le_of_ble_eq_true rfl, Nat.le_of_ble_eq_true rfl⟩) (c_preV E hS ci_1 (sK hS (by decide) rfl) (hS.1.lt (sK hS (by decide) rfl) rfl) _) rfl rfl hl.1 rfl (lv_room (Nat.le_of_ble_eq_true rfl)) dX0_feed_26 ⟨Nat.le_refl 0, Nat.le_refl 0⟩) hS.2.2.2.2 (fun H locs hS hn => ?_)
    refine lv_aload_n E.1 hb dX0_feed_29 rfl (lv_at hl 0 rfl) ?_
    refine lv_iload_n E.1 hb dX0_feed_30 rfl (lv_at hl 3 rfl) ?_
    obtain ⟨_, A3, h1, hf⟩ := bd_s hf
    refine c_kv hS (va_runV ⟨E.1, hb, hml, E.2.1, E.2.2.1⟩ (zX0_put h1) (cwV 1 E.2.2.1 gw_X0_119 rfl rfl rfl ⟨rfl, gnX0_put⟩ ⟨Nat.le_of_ble_eq_true rfl, Nat.le_of_ble_eq_true rfl⟩) (c_preV E hS ci_1 (sK hS (by decide) rfl) (hS.1.lt (sK hS (by decide) rfl) rfl) _) rfl rfl hl.1 rfl (lv_room (Nat.le_of_ble_eq_true rfl)) dX0_feed_31 ⟨Nat.le_refl 0, Nat.le_refl 0⟩) hS.2.2.2.2 (fun H locs hS hn => ?_)
    refine lv_aload_n E.1 hb dX0_feed_34 rfl (lv_at hl 0 rfl) ?_
    refine lv_iload E.1 hb dX0_feed_35 (lv_at hl 4 rfl) ?_
    obtain ⟨_, A4, h1, hf⟩ := bd_s hf
    refine c_kv hS (va_runV ⟨E.1, hb, hml, E.2.1, E.2.2.1⟩ (zX0_put h1) (cwV 1 E.2.2.1 gw_X0_119 rfl rfl rfl ⟨rfl, gnX0_put⟩ ⟨Nat.le_of_ble_eq_true rfl, Nat.le_of_ble_eq_true rfl⟩) (c_preV E hS ci_1 (sK hS (by decide) rfl) (hS.1.lt (sK hS (by decide) rfl) rfl) _) rfl rfl hl.1 rfl (lv_room (Nat.le_of_ble_eq_true rfl)) dX0_feed_37 ⟨Nat.le_refl 0, Nat.le_refl 0⟩) hS.2.2.2.2 (fun H locs hS hn => ?_)
    refine lv_aload_n E.1 hb dX0_feed_40 rfl (lv_at hl 0 rfl) ?_
    refine lv_iload E.1 hb dX0_feed_41 (lv_at hl 5 rfl) ?_
    obtain ⟨_, A5, h1, hf⟩ := bd_s hf
    refine c_kv hS (va_runV ⟨E.1, hb, hml, E.2.1, E.2.2.1⟩ (zX0_put h1) (cwV 1 E.2.2.1 gw_X0_119 rfl rfl rfl ⟨rfl, gnX0_put⟩ ⟨Nat.le_of_ble_eq_true rfl, Nat.le_of_ble_eq_true rfl⟩) (c_preV E hS ci_1 (sK hS (by decide) rfl) (hS.1.lt (sK hS (by decide) rfl) rfl) _) rfl rfl hl.1 rfl (lv_room (Nat.le_of_ble_eq_true rfl)) dX0_feed_43 ⟨Nat.le_refl 0, Nat.le_refl 0⟩) hS.2.2.2.2 (fun H locs hS hn => ?_)
    refine lv_aload_n E.1 hb dX0_feed_46 rfl (lv_at hl 0 rfl) ?_
    refine c_gI (k := 2) (f := 102) E hb hS ci_1 (sK hS (by decide) rfl) rfl rfl rfl fk_X0_112_X0 (fun _ h => h) dX0_feed_47 ?_
    exact c_ir E hb hr hlk hS ⟨Nat.le_refl 0, Nat.le_refl 0⟩ hf dX0_feed_50
  · have hf := if_s hc hf
    refine lv_aload_n E.1 hb dX0_feed_13 rfl (lv_at hl 0 rfl) ?_
    refine lv_iconst (v := 0) E.1 hb dX0_feed_14 rfl ?_
    obtain ⟨r6, A7, h1, hf⟩ := bd_s hf
    refine c_ki hS (va_runV ⟨E.1, hb, hml, E.2.1, E.2.2.1⟩ (zX0_refuses h1) (cwV 1 E.2.2.1 gw_X0_115 rfl rfl rfl ⟨rfl, gnX0_refuses⟩ ⟨Nat.le_of_ble_eq_true rfl, Nat.le_of_ble_eq_true rfl⟩) (c_preV E hS ci_1 (sK hS (by decide) rfl) (hS.1.lt (sK hS (by decide) rfl) rfl) _) rfl rfl hl.1 rfl (lv_room (Nat.le_of_ble_eq_true rfl)) dX0_feed_15 ⟨Nat.le_refl 0, Nat.le_refl 0⟩) hS.2.2.2.2 (fun H locs hS hn => ?_)
    exact c_ir E hb hr hlk hS ⟨Nat.le_refl 0, Nat.le_refl 0⟩ hf dX0_feed_18
/-! MarginFolk.end(I)Z: RW -/
noncomputable def X0_end_b12 (x1 : Int32) (A : AH) : Option (Int32 × AH) :=
  bd (X0_refuses A 0) fun r1 A2 => if r1 < 0 then (some (0, A2)) else (some (1, A2))
noncomputable def X0_end (A0 : AH) (x1 : Int32) : Option (Int32 × AH) :=
  if x1 < 0 then (X0_end_b12 x1 A0) else (if x1 ≤ (aI A0 102 0 0) then (lt2 (wI A0 102 0 0 x1) fun A3 => some (1, A3)) else (X0_end_b12 x1 A0))
abbrev rX0_end : Room := { frames := 1, cells := 0, slots := 0, locals := 21 }
set_option maxHeartbeats 4000000 in
theorem zX0_end {l : Launch} {dC : Nat → ClassId} {dI : Nat → Nat → Nat} {ac : Nat → ClassId} {ad : Nat → Nat} {A0 : AH} {x1 : Int32} {r : Int32} {A' : AH} (hf : X0_end A0 x1 = some (r, A')) : Met l yX0_end (ws_ yX0_end cX0_end 2 (some .boolean)) { frames := 1, cells := 0, slots := 0, locals := 21 } (va_Pc [.ref (ad 0), .int x1] (cPre dC dI ac ad True A0)) (cQi dC dI ac ad True (aN A0) (aS A0) (aN A0) (aS A0) r A') 0 0 (cF ad) := by
  unfold X0_end at hf
  refine c_of ⟨Nat.le_refl _, Nat.le_refl _⟩ RX0 (plainFor_of_name (by decide)) rfl (Nat.le_of_ble_eq_true rfl) ?_
  intro p e s m args below meth c E hb hr hlk hnm hml hS ls hl
  have hl : lv_has ls 2 [(0, .ref (ad 0)), (1, .int x1)] := hl
  have hB12 : ∀ (A : AH), X0_end_b12 x1 A = some (r, A') → ∀ (H : Heap) (locs : List Loc), cS dC dI ac ad True s.heap (aN A0) (aS A0) (aN A0) (aS A0) A H locs → ∀ (ls : Array Slot), lv_has ls 2 [(0, .ref (ad 0)), (1, .int x1)] → W p l e rX0_end s m args below meth c H locs 0 0 (MQ below (cQi dC dI ac ad True (aN A0) (aS A0) (aN A0) (aS A0) r A') args s 0 0 (cF ad)) (F0 m 12 ls []) := by
    intro A hf H locs hS ls hl
    unfold X0_end_b12 at hf
    refine lv_aload_n E.1 hb dX0_end_12 rfl (lv_at hl 0 rfl) ?_
    refine lv_iconst (v := 0) E.1 hb dX0_end_13 rfl ?_
    obtain ⟨r1, A2, h1, hf⟩ := bd_s hf
    refine c_ki hS (va_runV ⟨E.1, hb, hml, E.2.1, E.2.2.1⟩ (zX0_refuses h1) (cwV 1 E.2.2.1 gw_X0_115 rfl rfl rfl ⟨rfl, gnX0_refuses⟩ ⟨Nat.le_of_ble_eq_true rfl, Nat.le_of_ble_eq_true rfl⟩) (c_preV E hS ci_1 (sK hS (by decide) rfl) (hS.1.lt (sK hS (by decide) rfl) rfl) _) rfl rfl hl.1 rfl (lv_room (Nat.le_of_ble_eq_true rfl)) dX0_end_14 ⟨Nat.le_refl 0, Nat.le_refl 0⟩) hS.2.2.2.2 (fun H locs hS hn => ?_)
    refine lv_if_lt (tgt := 24) E.1 hb dX0_end_17 (by decide) (fun hc => ?_) (fun hc => ?_)
    · have hf := it_s hc hf
      refine lv_iconst (v := 0) E.1 hb dX0_end_24 rfl ?_
      exact c_zr (ty := .boolean) E hb hr hlk hS ⟨Nat.le_refl 0, Nat.le_refl 0⟩ rfl hf dX0_end_25
    · have hf := if_s hc hf
      refine lv_iconst (v := 1) E.1 hb dX0_end_20 rfl ?_
      refine lv_goto (tgt := 25) E.1 hb dX0_end_21 (by decide) ?_
      exact c_zr (ty := .boolean) E hb hr hlk hS ⟨Nat.le_refl 0, Nat.le_refl 0⟩ rfl hf dX0_end_25
  refine lv_iload_n E.1 hb dX0_end_0 rfl (lv_at hl 1 rfl) ?_
  refine lv_if_lt (tgt := 12) E.1 hb dX0_end_1 (by decide) (fun hc => ?_) (fun hc => ?_)
  · have hf := it_s hc hf
    exact hB12 A0 hf _ _ hS _ (lv_sub hl [0, 1] rfl)
  · have hf := if_s hc hf
    refine lv_iload_n E.1 hb dX0_end_4 rfl (lv_at hl 1 rfl) ?_
    refine lv_aload_n E.1 hb dX0_end_5 rfl (lv_at hl 0 rfl) ?_
    refine c_gI (k := 2) (f := 102) E hb hS ci_1 (sK hS (by decide) rfl) rfl rfl rfl fk_X0_112_X0 (fun _ h => h) dX0_end_6 ?_
    refine lv_icmp_le (tgt := 26) E.1 hb dX0_end_9 (by decide) (fun hc => ?_) (fun hc => ?_)
    · have hf := it_s hc hf
      refine lv_aload_n E.1 hb dX0_end_26 rfl (lv_at hl 0 rfl) ?_
      refine lv_iload_n E.1 hb dX0_end_27 rfl (lv_at hl 1 rfl) ?_
      obtain ⟨A3, hw, hf⟩ := lt2_s hf
      refine c_pI (k := 2) (f := 102) E hb hS ci_1 (sK hS (by decide) rfl) (hS.1.lt (sK hS (by decide) rfl) rfl) rfl rfl (Or.inl rfl) fk_X0_112_X0 (fun _ h => h) rfl rfl hw dX0_end_28 (fun H locs hS => ?_)
      refine lv_iconst (v := 1) E.1 hb dX0_end_31 rfl ?_
      exact c_zr (ty := .boolean) E hb hr hlk hS ⟨Nat.le_refl 0, Nat.le_refl 0⟩ rfl hf dX0_end_32
    · have hf := if_s hc hf
      exact hB12 A0 hf _ _ hS _ (lv_sub hl [0, 1] rfl)
/-! MarginFolk.taken()I: RW -/
noncomputable def X0_taken (A0 : AH) : Option (Int32 × AH) :=
  lt2 (wI A0 102 0 0 0) fun A1 => some ((aI A0 102 0 0), A1)
abbrev rX0_taken : Room := { frames := 0, cells := 0, slots := 0, locals := 0 }
set_option maxHeartbeats 4000000 in
theorem zX0_taken {l : Launch} {dC : Nat → ClassId} {dI : Nat → Nat → Nat} {ac : Nat → ClassId} {ad : Nat → Nat} {A0 : AH} {r : Int32} {A' : AH} (hf : X0_taken A0 = some (r, A')) : Met l yX0_taken (ws_ yX0_taken cX0_taken 2 (some .int)) { frames := 0, cells := 0, slots := 0, locals := 0 } (va_Pc [.ref (ad 0)] (cPre dC dI ac ad True A0)) (cQi dC dI ac ad True (aN A0) (aS A0) (aN A0) (aS A0) r A') 0 0 (cF ad) := by
  unfold X0_taken at hf
  refine c_of ⟨Nat.le_refl _, Nat.le_refl _⟩ RX0 (plainFor_of_name (by decide)) rfl (Nat.le_of_ble_eq_true rfl) ?_
  intro p e s m args below meth c E hb hr hlk hnm hml hS ls hl
  have hl : lv_has ls 2 [(0, .ref (ad 0))] := hl
  refine lv_aload_n E.1 hb dX0_taken_0 rfl (lv_at hl 0 rfl) ?_
  refine c_gI (k := 2) (f := 102) E hb hS ci_1 (sK hS (by decide) rfl) rfl rfl rfl fk_X0_112_X0 (fun _ h => h) dX0_taken_1 ?_
  refine lv_istore_n (lv' := [(1, .int (aI A0 102 0 0)), (0, .ref (ad 0))]) E.1 hb dX0_taken_4 rfl hl (by decide) rfl (fun ls hl => ?_)
  refine lv_aload_n E.1 hb dX0_taken_5 rfl (lv_at hl 1 rfl) ?_
  refine lv_iconst (v := 0) E.1 hb dX0_taken_6 rfl ?_
  obtain ⟨A1, hw, hf⟩ := lt2_s hf
  refine c_pI (k := 2) (f := 102) E hb hS ci_1 (sK hS (by decide) rfl) (hS.1.lt (sK hS (by decide) rfl) rfl) rfl rfl (Or.inl rfl) fk_X0_112_X0 (fun _ h => h) rfl rfl hw dX0_taken_7 (fun H locs hS => ?_)
  refine lv_iload_n E.1 hb dX0_taken_10 rfl (lv_at hl 0 rfl) ?_
  exact c_ir E hb hr hlk hS ⟨Nat.le_refl 0, Nat.le_refl 0⟩ hf dX0_taken_11
theorem fk_X2_29_X2 : FLk RX2 29 "MarginFolk$Reader" (TX2 1).2.1 (TX2 1).2.2.1 := Or.inl q379
theorem fk_X2_32_X0 : FLk RX2 32 "MarginFolk" (TX0 1).2.1 (TX0 1).2.2.1 := Or.inr ⟨_, q475⟩
/-! MarginFolk$Reader.byteAt(I)I: RO -/
noncomputable def X2_byteAt (A : AH) (x1 : Int32) : Option Int32 :=
  if x1 < 0 then (some (-1)) else (if (aI A 301 9 0) ≤ x1 then (some (-1)) else (bo (sI 1600 33 A 8 x1) fun v1 => some (v1 &&& 255)))
abbrev rX2_byteAt : Room := { frames := 0, cells := 0, slots := 0, locals := 0 }
set_option maxHeartbeats 4000000 in
theorem zX2_byteAt {l : Launch} {dC : Nat → ClassId} {dI : Nat → Nat → Nat} {ac : Nat → ClassId} {ad : Nat → Nat} {A : AH} {x1 : Int32} {r : Int32} (hf : X2_byteAt A x1 = some r) : Met l yX2_byteAt (ws_ yX2_byteAt cX2_byteAt 2 (some .int)) { frames := 0, cells := 0, slots := 0, locals := 0 } (va_Pc [.ref (ad 9), .int x1] (cPre dC dI ac ad True A)) (cQi dC dI ac ad True (aN A) (aS A) (aN A) (aS A) r A) 0 0 (cF ad) := by
  unfold X2_byteAt at hf
  refine c_of ⟨Nat.le_refl _, Nat.le_refl _⟩ RX2 (plainFor_of_name (by decide)) rfl (Nat.le_of_ble_eq_true rfl) ?_
  intro p e s m args below meth c E hb hr hlk hnm hml hS ls hl
  have hl : lv_has ls 2 [(0, .ref (ad 9)), (1, .int x1)] := hl
  refine lv_iload_n E.1 hb dX2_byteAt_0 rfl (lv_at hl 1 rfl) ?_
  refine lv_if_lt (tgt := 28) E.1 hb dX2_byteAt_1 (by decide) (fun hc => ?_) (fun hc => ?_)
  · have hf := it_s hc hf
    refine lv_iconst (v := (-1)) E.1 hb dX2_byteAt_28 rfl ?_
    exact c_ir E hb hr hlk hS ⟨Nat.le_refl 0, Nat.le_refl 0⟩ (ro_s hf) dX2_byteAt_29
  · have hf := if_s hc hf
    refine lv_iload_n E.1 hb dX2_byteAt_4 rfl (lv_at hl 1 rfl) ?_
    refine lv_aload_n E.1 hb dX2_byteAt_5 rfl (lv_at hl 0 rfl) ?_
    refine c_gI (k := 1) (f := 301) E hb hS ci_3 (sK hS (by decide) rfl) rfl rfl rfl fk_X2_29_X2 (fun _ h => h) dX2_byteAt_6 ?_
    refine lv_icmp_ge (tgt := 28) E.1 hb dX2_byteAt_9 (by decide) (fun hc => ?_) (fun hc => ?_)
    · have hf := it_s hc hf
      refine lv_iconst (v := (-1)) E.1 hb dX2_byteAt_28 rfl ?_
      exact c_ir E hb hr hlk hS ⟨Nat.le_refl 0, Nat.le_refl 0⟩ (ro_s hf) dX2_byteAt_29
    · have hf := if_s hc hf
      refine lv_aload_n E.1 hb dX2_byteAt_12 rfl (lv_at hl 0 rfl) ?_
      refine c_gN (k := 7) (f := 307) (q := 0) E hb hS ci_3 (sK hS (by decide) rfl) rfl rfl rfl (sRf hS (by decide) rfl) fk_X2_3_X2 (fun _ h => h) dX2_byteAt_13 ?_
      refine c_gN (k := 1) (f := 101) (q := 8) E hb hS ci_1 (sK hS (by decide) rfl) rfl rfl rfl (sRf hS (by decide) rfl) fk_X2_32_X0 (fun _ h => h) dX2_byteAt_16 ?_
      refine lv_iload_n E.1 hb dX2_byteAt_19 rfl (lv_at hl 1 rfl) ?_
      obtain ⟨hg, hf⟩ := sI_s hf
      refine s_ld E hb hS (t := 33) ⟨by decide, rfl, rfl⟩ hg (Or.inr (Or.inl ⟨rfl, rfl⟩)) dX2_byteAt_20 ?_
      refine lv_sipush (v := 255) E.1 hb dX2_byteAt_21 rfl ?_
      refine lv_iand E.1 hb dX2_byteAt_24 ?_
      refine lv_goto (tgt := 29) E.1 hb dX2_byteAt_25 (by decide) ?_
      exact c_ir E hb hr hlk hS ⟨Nat.le_refl 0, Nat.le_refl 0⟩ (ro_s hf) dX2_byteAt_29
theorem fk_X2_36_X2 : FLk RX2 36 "MarginFolk$Reader" (TX2 2).2.1 (TX2 2).2.2.1 := Or.inl q380
theorem gw_X2_39 : GoodIn lw_all (wsV RX2 39 RX2 yX2_byteAt (ws_ yX2_byteAt cX2_byteAt 2 (some .int))) := lw_V q597 q599 qs7 q157 q600
theorem gnX2_byteAt : yX2_byteAt.cls ≠ "java/lang/invoke/MethodHandle" ∧ yX2_byteAt.cls ≠ "java/lang/invoke/VarHandle" ∧ (parseMethodDescriptor yX2_byteAt.desc).map (fun d => d.parameters.length) = some 1 := by decide +kernel
/-! MarginFolk$Reader.here()I: RW -/
noncomputable def X2_here_b26 (N : Nat) (k0 : AH → Option (Int32 × AH)) (A : AH) : Option (Int32 × AH) :=
  lt2 (wI A 302 9 0 ((aI A 302 9 0) + 1)) fun A2 => k0 A2
noncomputable def X2_here_b0 (N : Nat) (k0 : AH → Option (Int32 × AH)) (A : AH) : Option (Int32 × AH) :=
  bo (X2_byteAt A (aI A 302 9 0)) fun r1 => if r1 = 32 then (X2_here_b26 N k0 A) else (bo (X2_byteAt A (aI A 302 9 0)) fun r3 => if r3 = 10 then (X2_here_b26 N k0 A) else (bo (X2_byteAt A (aI A 302 9 0)) fun r4 => some (r4, A)))
noncomputable def X2_here (N : Nat) (A0 : AH) : Option (Int32 × AH) :=
  rn1 (X2_here_b0 N) N A0
abbrev rX2_here : Room := { frames := 1, cells := 0, slots := 0, locals := 21 }
set_option maxHeartbeats 4000000 in
theorem zX2_here {l : Launch} {dC : Nat → ClassId} {dI : Nat → Nat → Nat} {ac : Nat → ClassId} {ad : Nat → Nat} {N : Nat} {A0 : AH} {r : Int32} {A' : AH} (hf : X2_here N A0 = some (r, A')) : Met l yX2_here (ws_ yX2_here cX2_here 1 (some .int)) { frames := 1, cells := 0, slots := 0, locals := 21 } (va_Pc [.ref (ad 9)] (cPre dC dI ac ad True A0)) (cQi dC dI ac ad True (aN A0) (aS A0) (aN A0) (aS A0) r A') 0 0 (cF ad) := by
  unfold X2_here at hf
  refine c_of ⟨Nat.le_refl _, Nat.le_refl _⟩ RX2 (plainFor_of_name (by decide)) rfl (Nat.le_of_ble_eq_true rfl) ?_
  intro p e s m args below meth c E hb hr hlk hnm hml hS ls hl
  have hl : lv_has ls 1 [(0, .ref (ad 9))] := hl
  have hB26 : ∀ (k0 : AH → Option (Int32 × AH)) (hk0 : ∀ (A : AH), k0 A = some (r, A') → ∀ (H : Heap) (locs : List Loc), cS dC dI ac ad True s.heap (aN A0) (aS A0) (aN A0) (aS A0) A H locs → ∀ (ls : Array Slot), lv_has ls 1 [(0, .ref (ad 9))] → W p l e rX2_here s m args below meth c H locs 0 0 (MQ below (cQi dC dI ac ad True (aN A0) (aS A0) (aN A0) (aS A0) r A') args s 0 0 (cF ad)) (F0 m 0 ls [])) (A : AH), X2_here_b26 N k0 A = some (r, A') → ∀ (H : Heap) (locs : List Loc), cS dC dI ac ad True s.heap (aN A0) (aS A0) (aN A0) (aS A0) A H locs → ∀ (ls : Array Slot), lv_has ls 1 [(0, .ref (ad 9))] → W p l e rX2_here s m args below meth c H locs 0 0 (MQ below (cQi dC dI ac ad True (aN A0) (aS A0) (aN A0) (aS A0) r A') args s 0 0 (cF ad)) (F0 m 26 ls []) := by
    intro k0 hk0 A hf H locs hS ls hl
    unfold X2_here_b26 at hf
    refine lv_aload_n E.1 hb dX2_here_26 rfl (lv_at hl 0 rfl) ?_
    refine lv_dup E.1 hb dX2_here_27 rfl ?_
    refine c_gI (k := 2) (f := 302) E hb hS ci_3 (sK hS (by decide) rfl) rfl rfl rfl fk_X2_36_X2 (fun _ h => h) dX2_here_28 ?_
    refine lv_iconst (v := 1) E.1 hb dX2_here_31 rfl ?_
    refine lv_iadd E.1 hb dX2_here_32 ?_
    obtain ⟨A2, hw, hf⟩ := lt2_s hf
    refine c_pI (k := 2) (f := 302) E hb hS ci_3 (sK hS (by decide) rfl) (hS.1.lt (sK hS (by decide) rfl) rfl) rfl rfl (Or.inl rfl) fk_X2_36_X2 (fun _ h => h) rfl rfl hw dX2_here_33 (fun H locs hS => ?_)
    refine lv_goto (tgt := 0) E.1 hb dX2_here_36 (by decide) ?_
    exact hk0 A2 hf _ _ hS _ (lv_sub hl [0] rfl)
  have hL0 : ∀ (n : Nat) (A : AH), rn1 (X2_here_b0 N) n A = some (r, A') → ∀ (H : Heap) (locs : List Loc), cS dC dI ac ad True s.heap (aN A0) (aS A0) (aN A0) (aS A0) A H locs → ∀ (ls : Array Slot), lv_has ls 1 [(0, .ref (ad 9))] → W p l e rX2_here s m args below meth c H locs 0 0 (MQ below (cQi dC dI ac ad True (aN A0) (aS A0) (aN A0) (aS A0) r A') args s 0 0 (cF ad)) (F0 m 0 ls []) := by
    intro  n
    induction n with
    | zero =>
      intro A hf
      cases hf
    | succ n ih =>
      intro A hf H locs hS ls hl
      have hf : X2_here_b0 N (rn1 (X2_here_b0 N) n) A = some (r, A') := hf
      have hk0 := ih
      generalize rn1 (X2_here_b0 N) n = k0 at hf hk0
      unfold X2_here_b0 at hf
      refine lv_aload_n E.1 hb dX2_here_0 rfl (lv_at hl 0 rfl) ?_
      refine lv_aload_n E.1 hb dX2_here_1 rfl (lv_at hl 0 rfl) ?_
      refine c_gI (k := 2) (f := 302) E hb hS ci_3 (sK hS (by decide) rfl) rfl rfl rfl fk_X2_36_X2 (fun _ h => h) dX2_here_2 ?_
      obtain ⟨r1, h1, hf⟩ := bo_s hf
      refine c_ki hS (va_runV ⟨E.1, hb, hml, E.2.1, E.2.2.1⟩ (zX2_byteAt h1) (cwV 1 E.2.2.1 gw_X2_39 rfl rfl rfl ⟨rfl, gnX2_byteAt⟩ ⟨Nat.le_of_ble_eq_true rfl, Nat.le_of_ble_eq_true rfl⟩) (c_preV E hS ci_3 (sK hS (by decide) rfl) (hS.1.lt (sK hS (by decide) rfl) rfl) _) rfl rfl hl.1 rfl (lv_room (Nat.le_of_ble_eq_true rfl)) dX2_here_5 ⟨Nat.le_refl 0, Nat.le_refl 0⟩) hS.2.2.2.2 (fun H locs hS hn => ?_)
      refine lv_bipush (v := 32) E.1 hb dX2_here_8 rfl ?_
      refine lv_icmp_eq (tgt := 26) E.1 hb dX2_here_10 (by decide) (fun hc => ?_) (fun hc => ?_)
      · have hf := it_s hc hf
        exact hB26 k0 hk0 A hf _ _ hS _ (lv_sub hl [0] rfl)
      · have hf := if_s hc hf
        refine lv_aload_n E.1 hb dX2_here_13 rfl (lv_at hl 0 rfl) ?_
        refine lv_aload_n E.1 hb dX2_here_14 rfl (lv_at hl 0 rfl) ?_
        refine c_gI (k := 2) (f := 302) E hb hS ci_3 (sK hS (by decide) rfl) rfl rfl rfl fk_X2_36_X2 (fun _ h => h) dX2_here_15 ?_
        obtain ⟨r3, h1, hf⟩ := bo_s hf
        refine c_ki hS (va_runV ⟨E.1, hb, hml, E.2.1, E.2.2.1⟩ (zX2_byteAt h1) (cwV 1 E.2.2.1 gw_X2_39 rfl rfl rfl ⟨rfl, gnX2_byteAt⟩ ⟨Nat.le_of_ble_eq_true rfl, Nat.le_of_ble_eq_true rfl⟩) (c_preV E hS ci_3 (sK hS (by decide) rfl) (hS.1.lt (sK hS (by decide) rfl) rfl) _) rfl rfl hl.1 rfl (lv_room (Nat.le_of_ble_eq_true rfl)) dX2_here_18 ⟨Nat.le_refl 0, Nat.le_refl 0⟩) hS.2.2.2.2 (fun H locs hS hn => ?_)
        refine lv_bipush (v := 10) E.1 hb dX2_here_21 rfl ?_
        refine lv_icmp_ne (tgt := 39) E.1 hb dX2_here_23 (by decide) (fun hc => ?_) (fun hc => ?_)
        · have hf := if_s hc hf
          refine lv_aload_n E.1 hb dX2_here_39 rfl (lv_at hl 0 rfl) ?_
          refine lv_aload_n E.1 hb dX2_here_40 rfl (lv_at hl 0 rfl) ?_
          refine c_gI (k := 2) (f := 302) E hb hS ci_3 (sK hS (by decide) rfl) rfl rfl rfl fk_X2_36_X2 (fun _ h => h) dX2_here_41 ?_
          obtain ⟨r4, h1, hf⟩ := bo_s hf
          refine c_ki hS (va_runV ⟨E.1, hb, hml, E.2.1, E.2.2.1⟩ (zX2_byteAt h1) (cwV 1 E.2.2.1 gw_X2_39 rfl rfl rfl ⟨rfl, gnX2_byteAt⟩ ⟨Nat.le_of_ble_eq_true rfl, Nat.le_of_ble_eq_true rfl⟩) (c_preV E hS ci_3 (sK hS (by decide) rfl) (hS.1.lt (sK hS (by decide) rfl) rfl) _) rfl rfl hl.1 rfl (lv_room (Nat.le_of_ble_eq_true rfl)) dX2_here_44 ⟨Nat.le_refl 0, Nat.le_refl 0⟩) hS.2.2.2.2 (fun H locs hS hn => ?_)
          exact c_ir E hb hr hlk hS ⟨Nat.le_refl 0, Nat.le_refl 0⟩ hf dX2_here_47
        · have hf := it_s hc hf
          exact hB26 k0 hk0 A hf _ _ hS _ (lv_sub hl [0] rfl)
  exact hL0 N A0 hf _ _ hS _ (lv_sub hl [0] rfl)
