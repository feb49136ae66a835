set_option maxRecDepth 100000
/-! MarginFolk.isLetter(I)Z: P -/
noncomputable def X0_isLetter (x0 : Int32) : Option Int32 :=
  if x0 < 97 then (some 0) else (if 122 < x0 then (some 0) else (some 1))
abbrev rX0_isLetter : Room := { frames := 0, cells := 0, slots := 0, locals := 0 }
set_option maxHeartbeats 4000000 in
theorem zX0_isLetter {l : Launch} {dC : Nat → ClassId} {dI : Nat → Nat → Nat} {ac : Nat → ClassId} {ad : Nat → Nat} {b : Prop} {A : AH} {x0 : Int32} {r : Int32} (hf : X0_isLetter x0 = some r) : Met l yX0_isLetter (ws_ yX0_isLetter cX0_isLetter 1 (some .boolean)) { frames := 0, cells := 0, slots := 0, locals := 0 } (va_Pc [.int x0] (cPre dC dI ac ad b A)) (cQi dC dI ac ad b (aN A) (aS A) (aN A) (aS A) r A) 0 0 (cF ad) := by
  unfold X0_isLetter at hf
  refine c_of ⟨Nat.le_refl _, Nat.le_refl _⟩ RX0 (plainFor_of_name (by decide)) rfl (Nat.le_of_ble_eq_true rfl) ?_
  intro p e s m args below meth c E hb hr hlk hnm hml hS ls hl
  have hl : lv_has ls 1 [(0, .int x0)] := hl
  refine lv_iload_n E.1 hb dX0_isLetter_0 rfl (lv_at hl 0 rfl) ?_
  refine lv_bipush (v := 97) E.1 hb dX0_isLetter_1 rfl ?_
  refine lv_icmp_lt (tgt := 16) E.1 hb dX0_isLetter_3 (by decide) (fun hc => ?_) (fun hc => ?_)
  · have hf := it_s hc hf
    refine lv_iconst (v := 0) E.1 hb dX0_isLetter_16 rfl ?_
    exact c_zr (ty := .boolean) E hb hr hlk hS ⟨Nat.le_refl 0, Nat.le_refl 0⟩ rfl (ro_s hf) dX0_isLetter_17
  · have hf := if_s hc hf
    refine lv_iload_n E.1 hb dX0_isLetter_6 rfl (lv_at hl 0 rfl) ?_
    refine lv_bipush (v := 122) E.1 hb dX0_isLetter_7 rfl ?_
    refine lv_icmp_gt (tgt := 16) E.1 hb dX0_isLetter_9 (by decide) (fun hc => ?_) (fun hc => ?_)
    · have hf := it_s hc hf
      refine lv_iconst (v := 0) E.1 hb dX0_isLetter_16 rfl ?_
      exact c_zr (ty := .boolean) E hb hr hlk hS ⟨Nat.le_refl 0, Nat.le_refl 0⟩ rfl (ro_s hf) dX0_isLetter_17
    · have hf := if_s hc hf
      refine lv_iconst (v := 1) E.1 hb dX0_isLetter_12 rfl ?_
      refine lv_goto (tgt := 17) E.1 hb dX0_isLetter_13 (by decide) ?_
      exact c_zr (ty := .boolean) E hb hr hlk hS ⟨Nat.le_refl 0, Nat.le_refl 0⟩ rfl (ro_s hf) dX0_isLetter_17
theorem fk_X2_22_X3 : FLk RX2 22 "MarginFolk$Fault" (TX3 6).2.1 (TX3 6).2.2.1 := Or.inr ⟨_, q356⟩
theorem fk_X2_26_X3 : FLk RX2 26 "MarginFolk$Fault" (TX3 7).2.1 (TX3 7).2.2.1 := Or.inr ⟨_, q358⟩
/-! MarginFolk$Reader.wrong(II)LMarginFolk$Fault;: RW -/
noncomputable def X2_wrong (A0 : AH) (x1 : Int32) (x2 : Int32) : Option (Option Nat × AH) :=
  lt2 (wI A0 406 10 0 x1) fun A1 => lt2 (wI A1 407 10 0 x2) fun A2 => some ((some 10), A2)
abbrev rX2_wrong : Room := { frames := 0, cells := 0, slots := 0, locals := 0 }
set_option maxHeartbeats 4000000 in
theorem zX2_wrong {l : Launch} {dC : Nat → ClassId} {dI : Nat → Nat → Nat} {ac : Nat → ClassId} {ad : Nat → Nat} {A0 : AH} {x1 : Int32} {x2 : Int32} {r : Option Nat} {A' : AH} (hf : X2_wrong A0 x1 x2 = some (r, A')) : Met l yX2_wrong (ws_ yX2_wrong cX2_wrong 3 (some (.object "MarginFolk$Fault"))) { frames := 0, cells := 0, slots := 0, locals := 0 } (va_Pc [.ref (ad 9), .int x1, .int x2] (cPre dC dI ac ad True A0)) (cQq dC dI ac ad True (aN A0) (aS A0) (aN A0) (aS A0) r A') 0 0 (cF ad) := by
  unfold X2_wrong at hf
  refine c_of ⟨Nat.le_refl _, Nat.le_refl _⟩ RX2 (plainFor_of_name (by decide)) rfl (Nat.le_of_ble_eq_true rfl) ?_
  intro p e s m args below meth c E hb hr hlk hnm hml hS ls hl
  have hl : lv_has ls 3 [(0, .ref (ad 9)), (1, .int x1), (2, .int x2)] := hl
  refine lv_aload_n E.1 hb dX2_wrong_0 rfl (lv_at hl 0 rfl) ?_
  refine c_gN (k := 0) (f := 300) (q := 10) E hb hS ci_3 (sK hS (by decide) rfl) rfl rfl rfl (sRf hS (by decide) rfl) fk_X2_18_X2 (fun _ h => h) dX2_wrong_1 ?_
  refine lv_iload_n E.1 hb dX2_wrong_4 rfl (lv_at hl 1 rfl) ?_
  obtain ⟨A1, hw, hf⟩ := lt2_s hf
  refine c_pI (k := 6) (f := 406) E hb hS ci_4 (sK hS (by decide) rfl) (hS.1.lt (sK hS (by decide) rfl) rfl) rfl rfl (Or.inl rfl) fk_X2_22_X3 (fun _ h => h) rfl rfl hw dX2_wrong_5 (fun H locs hS => ?_)
  refine lv_aload_n E.1 hb dX2_wrong_8 rfl (lv_at hl 0 rfl) ?_
  refine c_gN (k := 0) (f := 300) (q := 10) E hb hS ci_3 (sK hS (by decide) rfl) rfl rfl rfl (sRf hS (by decide) rfl) fk_X2_18_X2 (fun _ h => h) dX2_wrong_9 ?_
  refine lv_iload_n E.1 hb dX2_wrong_12 rfl (lv_at hl 2 rfl) ?_
  obtain ⟨A2, hw, hf⟩ := lt2_s hf
  refine c_pI (k := 7) (f := 407) E hb hS ci_4 (sK hS (by decide) rfl) (hS.1.lt (sK hS (by decide) rfl) rfl) rfl rfl (Or.inl rfl) fk_X2_26_X3 (fun _ h => h) rfl rfl hw dX2_wrong_13 (fun H locs hS => ?_)
  refine lv_aload_n E.1 hb dX2_wrong_16 rfl (lv_at hl 0 rfl) ?_
  refine c_gN (k := 0) (f := 300) (q := 10) E hb hS ci_3 (sK hS (by decide) rfl) rfl rfl rfl (sRf hS (by decide) rfl) fk_X2_18_X2 (fun _ h => h) dX2_wrong_17 ?_
  exact c_ar E hb hr (Or.inl ⟨_, rfl⟩) hlk hS ⟨Nat.le_refl 0, Nat.le_refl 0⟩ (v := (some 10)) hf dX2_wrong_20
/-! MarginFolk.isDigit(I)Z: P -/
noncomputable def X0_isDigit (x0 : Int32) : Option Int32 :=
  if x0 < 48 then (some 0) else (if 57 < x0 then (some 0) else (some 1))
abbrev rX0_isDigit : Room := { frames := 0, cells := 0, slots := 0, locals := 0 }
set_option maxHeartbeats 4000000 in
theorem zX0_isDigit {l : Launch} {dC : Nat → ClassId} {dI : Nat → Nat → Nat} {ac : Nat → ClassId} {ad : Nat → Nat} {b : Prop} {A : AH} {x0 : Int32} {r : Int32} (hf : X0_isDigit x0 = some r) : Met l yX0_isDigit (ws_ yX0_isDigit cX0_isDigit 1 (some .boolean)) { frames := 0, cells := 0, slots := 0, locals := 0 } (va_Pc [.int x0] (cPre dC dI ac ad b A)) (cQi dC dI ac ad b (aN A) (aS A) (aN A) (aS A) r A) 0 0 (cF ad) := by
  unfold X0_isDigit at hf
  refine c_of ⟨Nat.le_refl _, Nat.le_refl _⟩ RX0 (plainFor_of_name (by decide)) rfl (Nat.le_of_ble_eq_true rfl) ?_
  intro p e s m args below meth c E hb hr hlk hnm hml hS ls hl
  have hl : lv_has ls 1 [(0, .int x0)] := hl
  refine lv_iload_n E.1 hb dX0_isDigit_0 rfl (lv_at hl 0 rfl) ?_
  refine lv_bipush (v := 48) E.1 hb dX0_isDigit_1 rfl ?_
  refine lv_icmp_lt (tgt := 16) E.1 hb dX0_isDigit_3 (by decide) (fun hc => ?_) (fun hc => ?_)
  · have hf := it_s hc hf
    refine lv_iconst (v := 0) E.1 hb dX0_isDigit_16 rfl ?_
    exact c_zr (ty := .boolean) E hb hr hlk hS ⟨Nat.le_refl 0, Nat.le_refl 0⟩ rfl (ro_s hf) dX0_isDigit_17
  · have hf := if_s hc hf
    refine lv_iload_n E.1 hb dX0_isDigit_6 rfl (lv_at hl 0 rfl) ?_
    refine lv_bipush (v := 57) E.1 hb dX0_isDigit_7 rfl ?_
    refine lv_icmp_gt (tgt := 16) E.1 hb dX0_isDigit_9 (by decide) (fun hc => ?_) (fun hc => ?_)
    · have hf := it_s hc hf
      refine lv_iconst (v := 0) E.1 hb dX0_isDigit_16 rfl ?_
      exact c_zr (ty := .boolean) E hb hr hlk hS ⟨Nat.le_refl 0, Nat.le_refl 0⟩ rfl (ro_s hf) dX0_isDigit_17
    · have hf := if_s hc hf
      refine lv_iconst (v := 1) E.1 hb dX0_isDigit_12 rfl ?_
      refine lv_goto (tgt := 17) E.1 hb dX0_isDigit_13 (by decide) ?_
      exact c_zr (ty := .boolean) E hb hr hlk hS ⟨Nat.le_refl 0, Nat.le_refl 0⟩ rfl (ro_s hf) dX0_isDigit_17
theorem gw_X2_47 : GoodIn lw_all (wsV RX2 47 RX2 yX2_wrong (ws_ yX2_wrong cX2_wrong 3 (some (.object "MarginFolk$Fault")))) := lw_V q604 q606 qs8 q157 q607
theorem gnX2_wrong : yX2_wrong.cls ≠ "java/lang/invoke/MethodHandle" ∧ yX2_wrong.cls ≠ "java/lang/invoke/VarHandle" ∧ (parseMethodDescriptor yX2_wrong.desc).map (fun d => d.parameters.length) = some 2 := by decide +kernel
theorem gnX0_isLetter : yX0_isLetter.cls ≠ "java/lang/invoke/MethodHandle" ∧ yX0_isLetter.cls ≠ "java/lang/invoke/VarHandle" ∧ (parseMethodDescriptor yX0_isLetter.desc).map (fun d => d.parameters.length) = some 1 := by decide +kernel
theorem gnX0_isDigit : yX0_isDigit.cls ≠ "java/lang/invoke/MethodHandle" ∧ yX0_isDigit.cls ≠ "java/lang/invoke/VarHandle" ∧ (parseMethodDescriptor yX0_isDigit.desc).map (fun d => d.parameters.length) = some 1 := by decide +kernel
/-! MarginFolk$Reader.parted()V: RW -/
noncomputable def X2_parted_b32 (A : AH) : Option (Option Unit × AH) :=
  bd (X2_wrong A 1 (aI A 302 9 0)) fun r3 A4 => bo r3 fun q5 => if q5 = 10 then some (none, A4) else none
noncomputable def X2_parted (A0 : AH) : Option (Option Unit × AH) :=
  bo (X2_byteAt A0 ((aI A0 302 9 0) - 1)) fun r1 => bo (X0_isLetter r1) fun r2 => if r2 = 0 then (bo (X2_byteAt A0 ((aI A0 302 9 0) - 1)) fun r6 => bo (X0_isDigit r6) fun r7 => if r7 = 0 then (some (some (), A0)) else (X2_parted_b32 A0)) else (X2_parted_b32 A0)
abbrev rX2_parted : Room := { frames := 1, cells := 0, slots := 0, locals := 22 }
set_option maxHeartbeats 4000000 in
theorem zX2_parted {l : Launch} {dC : Nat → ClassId} {dI : Nat → Nat → Nat} {ac : Nat → ClassId} {ad : Nat → Nat} {A0 : AH} {o : Option Unit} {A' : AH} (hf : X2_parted A0 = some (o, A')) : vx_Met l yX2_parted (ws_ yX2_parted cX2_parted 1 none) { frames := 1, cells := 0, slots := 0, locals := 22 } (va_Pc [.ref (ad 9)] (cPre dC dI ac ad True A0)) (cQxv dC dI ac ad True (aN A0) (aS A0) (aN A0) (aS A0) o A') (cXC dC dI ac ad True (aN A0) (aS A0) (aN A0) (aS A0) o A') 0 0 (cF ad) := by
  unfold X2_parted at hf
  refine c_ofx ⟨Nat.le_refl _, Nat.le_refl _⟩ RX2 (by decide) rfl (Nat.le_of_ble_eq_true rfl) ?_
  intro p e s m args below meth c E hb hr hlk hnm hml hnx hS ls hl
  have hl : lv_has ls 1 [(0, .ref (ad 9))] := hl
  have hB32 : ∀ (A : AH), X2_parted_b32 A = some (o, A') → ∀ (H : Heap) (locs : List Loc), cS dC dI ac ad True s.heap (aN A0) (aS A0) (aN A0) (aS A0) A H locs → ∀ (ls : Array Slot), lv_has ls 1 [(0, .ref (ad 9))] → W p l e rX2_parted s m args below meth c H locs 0 0 (vx_MQ below (cQxv dC dI ac ad True (aN A0) (aS A0) (aN A0) (aS A0) o A') (cXC dC dI ac ad True (aN A0) (aS A0) (aN A0) (aS A0) o A') args s 0 0 (cF ad)) (F0 m 32 ls []) := by
    intro A hf H locs hS ls hl
    unfold X2_parted_b32 at hf
    refine lv_aload_n E.1 hb dX2_parted_32 rfl (lv_at hl 0 rfl) ?_
    refine lv_iconst (v := 1) E.1 hb dX2_parted_33 rfl ?_
    refine lv_aload_n E.1 hb dX2_parted_34 rfl (lv_at hl 0 rfl) ?_
    refine c_gI (k := 2) (f := 302) E hb hS ci_3 (sK hS (by decide) rfl) rfl rfl rfl fk_X2_36_X2 (fun _ h => h) dX2_parted_35 ?_
    obtain ⟨r3, A4, h1, hf⟩ := bd_s hf
    refine c_kq hS (va_runV ⟨E.1, hb, hml, E.2.1, E.2.2.1⟩ (zX2_wrong h1) (cwV 2 E.2.2.1 gw_X2_47 rfl rfl rfl ⟨rfl, gnX2_wrong⟩ ⟨Nat.le_of_ble_eq_true rfl, Nat.le_of_ble_eq_true rfl⟩) (c_preV E hS ci_3 (sK hS (by decide) rfl) (hS.1.lt (sK hS (by decide) rfl) rfl) _) rfl rfl hl.1 rfl (lv_room (Nat.le_of_ble_eq_true rfl)) dX2_parted_38 ⟨Nat.le_refl 0, Nat.le_refl 0⟩) hS.2.2.2.2 (fun H locs hS hn => ?_)
    obtain ⟨q5, hr9, hf⟩ := bo_s hf
    refine c_dr hr9 ?_
    obtain ⟨hg, hf9⟩ := gu_s hf
    subst hg
    exact x_thr E hb hnx hlk hS ⟨Nat.le_refl 0, Nat.le_refl 0⟩ hf9 dX2_parted_41
  refine lv_aload_n E.1 hb dX2_parted_0 rfl (lv_at hl 0 rfl) ?_
  refine lv_aload_n E.1 hb dX2_parted_1 rfl (lv_at hl 0 rfl) ?_
  refine c_gI (k := 2) (f := 302) E hb hS ci_3 (sK hS (by decide) rfl) rfl rfl rfl fk_X2_36_X2 (fun _ h => h) dX2_parted_2 ?_
  refine lv_iconst (v := 1) E.1 hb dX2_parted_5 rfl ?_
  refine lv_isub E.1 hb dX2_parted_6 ?_
  obtain ⟨r1, h1, hf⟩ := bo_s hf
  refine c_ki hS (va_runV ⟨E.1, hb, hml, E.2.1, E.2.2.1⟩ (zX2_byteAt h1) (cwV 1 E.2.2.1 gw_X2_39 rfl rfl rfl ⟨rfl, gnX2_byteAt⟩ ⟨Nat.le_of_ble_eq_true rfl, Nat.le_of_ble_eq_true rfl⟩) (c_preV E hS ci_3 (sK hS (by decide) rfl) (hS.1.lt (sK hS (by decide) rfl) rfl) _) rfl rfl hl.1 rfl (lv_room (Nat.le_of_ble_eq_true rfl)) dX2_parted_7 ⟨Nat.le_refl 0, Nat.le_refl 0⟩) hS.2.2.2.2 (fun H locs hS hn => ?_)
  obtain ⟨r2, h1, hf⟩ := bo_s hf
  refine c_ki hS (va_runSN ⟨E.1, hb, hml, E.2.1, E.2.2.1⟩ (zX0_isLetter h1) ⟨va_cnB 1 E.2.2.1 (lw_meth q603) rfl rfl rfl (E.2.2.2.2.1 _ q601 rfl) (E.2.2.1 _ q152) gnX0_isLetter ⟨Nat.le_of_ble_eq_true rfl, Nat.le_of_ble_eq_true rfl⟩, E.2.2.1 _ q602, trivial⟩ (c_preS E hS _) rfl rfl hl.1 rfl (lv_room (Nat.le_of_ble_eq_true rfl)) dX2_parted_10 ⟨Nat.le_refl 0, Nat.le_refl 0⟩) hS.2.2.2.2 (fun H locs hS hn => ?_)
  refine lv_if_ne (tgt := 32) E.1 hb dX2_parted_13 (by decide) (fun hc => ?_) (fun hc => ?_)
  · have hf := if_s hc hf
    exact hB32 A0 hf _ _ hS _ (lv_sub hl [0] rfl)
  · have hf := it_s hc hf
    refine lv_aload_n E.1 hb dX2_parted_16 rfl (lv_at hl 0 rfl) ?_
    refine lv_aload_n E.1 hb dX2_parted_17 rfl (lv_at hl 0 rfl) ?_
    refine c_gI (k := 2) (f := 302) E hb hS ci_3 (sK hS (by decide) rfl) rfl rfl rfl fk_X2_36_X2 (fun _ h => h) dX2_parted_18 ?_
    refine lv_iconst (v := 1) E.1 hb dX2_parted_21 rfl ?_
    refine lv_isub E.1 hb dX2_parted_22 ?_
    obtain ⟨r6, h1, hf⟩ := bo_s hf
    refine c_ki hS (va_runV ⟨E.1, hb, hml, E.2.1, E.2.2.1⟩ (zX2_byteAt h1) (cwV 1 E.2.2.1 gw_X2_39 rfl rfl rfl ⟨rfl, gnX2_byteAt⟩ ⟨Nat.le_of_ble_eq_true rfl, Nat.le_of_ble_eq_true rfl⟩) (c_preV E hS ci_3 (sK hS (by decide) rfl) (hS.1.lt (sK hS (by decide) rfl) rfl) _) rfl rfl hl.1 rfl (lv_room (Nat.le_of_ble_eq_true rfl)) dX2_parted_23 ⟨Nat.le_refl 0, Nat.le_refl 0⟩) hS.2.2.2.2 (fun H locs hS hn => ?_)
    obtain ⟨r7, h1, hf⟩ := bo_s hf
    refine c_ki hS (va_runSN ⟨E.1, hb, hml, E.2.1, E.2.2.1⟩ (zX0_isDigit h1) ⟨va_cnB 1 E.2.2.1 (lw_meth q614) rfl rfl rfl (E.2.2.2.2.1 _ q612 rfl) (E.2.2.1 _ q152) gnX0_isDigit ⟨Nat.le_of_ble_eq_true rfl, Nat.le_of_ble_eq_true rfl⟩, E.2.2.1 _ q613, trivial⟩ (c_preS E hS _) rfl rfl hl.1 rfl (lv_room (Nat.le_of_ble_eq_true rfl)) dX2_parted_26 ⟨Nat.le_refl 0, Nat.le_refl 0⟩) hS.2.2.2.2 (fun H locs hS hn => ?_)
    refine lv_if_eq (tgt := 42) E.1 hb dX2_parted_29 (by decide) (fun hc => ?_) (fun hc => ?_)
    · have hf := it_s hc hf
      exact x_vr E hb hr hlk hS ⟨Nat.le_refl 0, Nat.le_refl 0⟩ hf dX2_parted_42
    · have hf := if_s hc hf
      exact hB32 A0 hf _ _ hS _ (lv_sub hl [0] rfl)
theorem gw_X2_64 : GoodIn lw_all (va_wsS RX2 64 yJ6_valueOf (ws_ yJ6_valueOf cJ6_valueOf 1 (some (.object "java/lang/String")))) := lw_S q615 q616 q165 q617
theorem gnJ6_valueOf : yJ6_valueOf.cls ≠ "java/lang/invoke/MethodHandle" ∧ yJ6_valueOf.cls ≠ "java/lang/invoke/VarHandle" ∧ (parseMethodDescriptor yJ6_valueOf.desc).map (fun d => d.parameters.length) = some 1 := by decide +kernel
theorem fk_X2_61_X2 : FLk RX2 61 "MarginFolk$Reader" (TX2 3).2.1 (TX2 3).2.2.1 := Or.inl q381
theorem gw_X2_43 : GoodIn lw_all (wsV RX2 43 RX2 yX2_here (ws_ yX2_here cX2_here 1 (some .int))) := lw_V q593 q595 qs6 q157 q596
theorem gnX2_here : yX2_here.cls ≠ "java/lang/invoke/MethodHandle" ∧ yX2_here.cls ≠ "java/lang/invoke/VarHandle" ∧ (parseMethodDescriptor yX2_here.desc).map (fun d => d.parameters.length) = some 0 := by decide +kernel
theorem gw_X2_58 : GoodIn lw_all (wsV RX2 58 RX2 yX2_parted (ws_ yX2_parted cX2_parted 1 none)) := lw_V q608 q610 qs9 q157 q611
theorem gnX2_parted : yX2_parted.cls ≠ "java/lang/invoke/MethodHandle" ∧ yX2_parted.cls ≠ "java/lang/invoke/VarHandle" ∧ (parseMethodDescriptor yX2_parted.desc).map (fun d => d.parameters.length) = some 0 := by decide +kernel
/-! MarginFolk$Reader.word()Ljava/lang/String;: RW -/
noncomputable def X2_word_2_b76 (N : Nat) (k76 : AH → Nat → Int32 → Option (Option (Option Nat) × AH)) (A : AH) (x1 : Nat) (x2 : Int32) : Option (Option (Option Nat) × AH) :=
  if (aI A 302 9 0) ≤ x2 then (bda A (J6_valueOf N A x1) fun r10 A11 => bo r10 fun q12 => some (some (some q12), A11)) else (bo (sI 1600 33 A 8 x2) fun v13 => bo (uI_ 34 A x1 (x2 - (aI A 303 9 0)) (vp_nar .char ((Int32.toUInt32 v13 % 65536).toInt32))) fun A14 => k76 A14 x1 (x2 + 1))
noncomputable def X2_word_2_b32 (N : Nat) (k32 : AH → Option (Option (Option Nat) × AH)) (A : AH) : Option (Option (Option Nat) × AH) :=
  bo (X2_byteAt A (aI A 302 9 0)) fun r7 => bo (X0_isLetter r7) fun r8 => if r8 = 0 then (bo (nwA A 34 ((aI A 302 9 0) - (aI A 303 9 0))) fun A9 => ck A9 ( rn3 (X2_word_2_b76 N) N A9 (aN A) (aI A9 303 9 0))) else (lt2 (wI A 302 9 0 ((aI A 302 9 0) + 1)) fun A15 => k32 A15)
noncomputable def X2_word_2 (N : Nat) (A0 : AH) : Option (Option (Option Nat) × AH) :=
  ck A0 (bd (X2_here N A0) fun r1 A2 => bo (X0_isLetter r1) fun r3 => if r3 = 0 then (bd (X2_wrong A2 1 (aI A2 302 9 0)) fun r16 A17 => bo r16 fun q18 => if q18 = 10 then some (none, A17) else none) else (bx (X2_parted A2) fun _ A4 => lt2 (wI A4 303 9 0 (aI A4 302 9 0)) fun A6 => rn1 (X2_word_2_b32 N) N A6))
set_option maxHeartbeats 4000000 in
theorem zX2_word_2 {l : Launch} {dC : Nat → ClassId} {dI : Nat → Nat → Nat} {ac : Nat → ClassId} {ad : Nat → Nat} {N : Nat} {A0 : AH} {o : Option (Option Nat)} {A' : AH} (hf : X2_word_2 N A0 = some (o, A')) : vx_Met l yX2_word_2 (ws_ yX2_word_2 cX2_word_2 3 (some (.object "java/lang/String"))) { frames := 7, cells := aN A' - aN A0, slots := aS A' - aS A0, locals := 155 } (va_Pc [.ref (ad 9)] (cPre dC dI ac ad True A0)) (cQxq dC dI ac ad True (aN A0) (aS A0) (aN A') (aS A') o A') (cXC dC dI ac ad True (aN A0) (aS A0) (aN A') (aS A') o A') (aN A' - aN A0) (aS A' - aS A0) (cF ad) := by
  unfold X2_word_2 at hf
  obtain ⟨hck0, hf⟩ := ck_s hf
  refine c_ofx hck0 RX2 (by decide) rfl (Nat.le_of_ble_eq_true rfl) ?_
  intro p e s m args below meth c E hb hr hlk hnm hml hnx hS ls hl
  have hl : lv_has ls 3 [(0, .ref (ad 9))] := hl
  have hcs : aN A0 + 0 ≤ aN A0 ∧ aS A0 + 0 ≤ aS A0 := ⟨Nat.le_refl _, Nat.le_refl _⟩
  have hL76 : ∀ (n : Nat) (A : AH) (x1 : Nat) (x2 : Int32), rn3 (X2_word_2_b76 N) n A x1 x2 = some (o, A') → ∀ (H : Heap) (locs : List Loc) (cells slots : Nat), aN A0 + cells ≤ aN A ∧ aS A0 + slots ≤ aS A →  cS dC dI ac ad True s.heap (aN A0) (aS A0) (aN A') (aS A') A H locs → ∀ (ls : Array Slot), lv_has ls 3 [(0, .ref (ad 9)), (1, .ref (ad x1)), (2, .int x2)] → W p l e { frames := 7, cells := aN A' - aN A0, slots := aS A' - aS A0, locals := 155 } s m args below meth c H locs cells slots (vx_MQ below (cQxq dC dI ac ad True (aN A0) (aS A0) (aN A') (aS A') o A') (cXC dC dI ac ad True (aN A0) (aS A0) (aN A') (aS A') o A') args s (aN A' - aN A0) (aS A' - aS A0) (cF ad)) (F0 m 76 ls []) := by
    intro  n
    induction n with
    | zero =>
      intro A x1 x2 hf
      cases hf
    | succ n ih =>
      intro A x1 x2 hf H locs cells slots hcs hS ls hl
      have hf : X2_word_2_b76 N (rn3 (X2_word_2_b76 N) n) A x1 x2 = some (o, A') := hf
      have hk76 := ih
      generalize rn3 (X2_word_2_b76 N) n = k76 at hf hk76
      unfold X2_word_2_b76 at hf
      refine lv_iload_n E.1 hb dX2_word_2_76 rfl (lv_at hl 2 rfl) ?_
      refine lv_aload_n E.1 hb dX2_word_2_77 rfl (lv_at hl 0 rfl) ?_
      refine c_gI (k := 2) (f := 302) E hb hS ci_3 (sK hS (by decide) rfl) rfl rfl rfl fk_X2_36_X2 (fun _ h => h) dX2_word_2_78 ?_
      refine lv_icmp_ge (tgt := 108) E.1 hb dX2_word_2_81 (by decide) (fun hc => ?_) (fun hc => ?_)
      · have hf := it_s hc hf
        refine lv_aload_n E.1 hb dX2_word_2_108 rfl (lv_at hl 1 rfl) ?_
        obtain ⟨r10, A11, h1, hge, hup, hf⟩ := bda_s hf
        refine c_kq hS (va_runS ⟨E.1, hb, hml, E.2.1, E.2.2.1⟩ (zJ6_valueOf h1) (va_cwS 1 E.2.2.1 gw_X2_64 rfl rfl rfl gnJ6_valueOf ⟨Nat.le_of_ble_eq_true rfl, Nat.le_of_ble_eq_true rfl⟩) (c_preS E hS _) rfl rfl hl.1 rfl (lv_room (Nat.le_of_ble_eq_true rfl)) dX2_word_2_109 (rm_a hcs hge hup)) hup (fun H locs hS hn => ?_)
        have hcs := rm_a2 hcs hge
        obtain ⟨q12, hr9, hf⟩ := bo_s hf
        refine c_dr hr9 ?_
        exact x_ar E hb hr (Or.inl ⟨_, rfl⟩) hlk hS (rm_e ⟨Nat.le_trans hcs.1 hS.2.2.2.2.1, Nat.le_trans hcs.2 hS.2.2.2.2.2⟩) (v := (some q12)) hf dX2_word_2_112
      · have hf := if_s hc hf
        refine lv_aload_n E.1 hb dX2_word_2_84 rfl (lv_at hl 1 rfl) ?_
        refine lv_iload_n E.1 hb dX2_word_2_85 rfl (lv_at hl 2 rfl) ?_
        refine lv_aload_n E.1 hb dX2_word_2_86 rfl (lv_at hl 0 rfl) ?_
        refine c_gI (k := 3) (f := 303) E hb hS ci_3 (sK hS (by decide) rfl) rfl rfl rfl fk_X2_61_X2 (fun _ h => h) dX2_word_2_87 ?_
        refine lv_isub E.1 hb dX2_word_2_90 ?_
        refine lv_aload_n E.1 hb dX2_word_2_91 rfl (lv_at hl 0 rfl) ?_
        refine c_gN (k := 7) (f := 307) (q := 0) E hb hS ci_3 (sK hS (by decide) rfl) rfl rfl rfl (sRf hS (by decide) rfl) fk_X2_3_X2 (fun _ h => h) dX2_word_2_92 ?_
        refine c_gN (k := 1) (f := 101) (q := 8) E hb hS ci_1 (sK hS (by decide) rfl) rfl rfl rfl (sRf hS (by decide) rfl) fk_X2_32_X0 (fun _ h => h) dX2_word_2_95 ?_
        refine lv_iload_n E.1 hb dX2_word_2_98 rfl (lv_at hl 2 rfl) ?_
        obtain ⟨hg, hf⟩ := sI_s hf
        refine s_ld E hb hS (t := 33) ⟨by decide, rfl, rfl⟩ hg (Or.inr (Or.inl ⟨rfl, rfl⟩)) dX2_word_2_99 ?_
        refine lv_i2c E.1 hb dX2_word_2_100 rfl ?_
        obtain ⟨A14, hg, hw, hf⟩ := uI_s hf
        refine d_st E hb hS hg rfl (Or.inr (Or.inr (Or.inl ⟨rfl, rfl, rfl⟩))) hw dX2_word_2_101 (fun H locs hS => ?_)
        have hcs := rm_w (A2 := A14) hcs (by rw [hw]; exact ⟨rfl, rfl⟩)
        refine lv_iinc (v := (x2 + 1)) (lv' := [(2, .int (x2 + 1)), (0, .ref (ad 9)), (1, .ref (ad x1))]) E.1 hb dX2_word_2_102 hl (k := 2) rfl rfl (by decide) rfl (fun ls hl => ?_)
        refine lv_goto (tgt := 76) E.1 hb dX2_word_2_105 (by decide) ?_
        exact hk76 A14 x1 (x2 + 1) hf _ _ _ _ hcs hS _ (lv_sub hl [1, 2, 0] rfl)
  have hL32 : ∀ (n : Nat) (A : AH), rn1 (X2_word_2_b32 N) n A = some (o, A') → ∀ (H : Heap) (locs : List Loc) (cells slots : Nat), aN A0 + cells ≤ aN A ∧ aS A0 + slots ≤ aS A →  cS dC dI ac ad True s.heap (aN A0) (aS A0) (aN A') (aS A') A H locs → ∀ (ls : Array Slot), lv_has ls 3 [(0, .ref (ad 9))] → W p l e { frames := 7, cells := aN A' - aN A0, slots := aS A' - aS A0, locals := 155 } s m args below meth c H locs cells slots (vx_MQ below (cQxq dC dI ac ad True (aN A0) (aS A0) (aN A') (aS A') o A') (cXC dC dI ac ad True (aN A0) (aS A0) (aN A') (aS A') o A') args s (aN A' - aN A0) (aS A' - aS A0) (cF ad)) (F0 m 32 ls []) := by
    intro  n
    induction n with
    | zero =>
      intro A hf
      cases hf
    | succ n ih =>
      intro A hf H locs cells slots hcs hS ls hl
      have hf : X2_word_2_b32 N (rn1 (X2_word_2_b32 N) n) A = some (o, A') := hf
      have hk32 := ih
      generalize rn1 (X2_word_2_b32 N) n = k32 at hf hk32
      unfold X2_word_2_b32 at hf
      refine lv_aload_n E.1 hb dX2_word_2_32 rfl (lv_at hl 0 rfl) ?_
      refine lv_aload_n E.1 hb dX2_word_2_33 rfl (lv_at hl 0 rfl) ?_
      refine c_gI (k := 2) (f := 302) E hb hS ci_3 (sK hS (by decide) rfl) rfl rfl rfl fk_X2_36_X2 (fun _ h => h) dX2_word_2_34 ?_
      obtain ⟨r7, h1, hf⟩ := bo_s hf
      refine c_ki hS (va_runV ⟨E.1, hb, hml, E.2.1, E.2.2.1⟩ (zX2_byteAt h1) (cwV 1 E.2.2.1 gw_X2_39 rfl rfl rfl ⟨rfl, gnX2_byteAt⟩ ⟨Nat.le_of_ble_eq_true rfl, Nat.le_of_ble_eq_true rfl⟩) (c_preV E hS ci_3 (sK hS (by decide) rfl) (hS.1.lt (sK hS (by decide) rfl) rfl) _) rfl rfl hl.1 rfl (lv_room (Nat.le_of_ble_eq_true rfl)) dX2_word_2_37 (rm_n hcs hS.2.2.2.2)) hS.2.2.2.2 (fun H locs hS hn => ?_)
      have hcs := rm_n2 hcs hn
      obtain ⟨r8, h1, hf⟩ := bo_s hf
      refine c_ki hS (va_runSN ⟨E.1, hb, hml, E.2.1, E.2.2.1⟩ (zX0_isLetter h1) ⟨va_cnB 1 E.2.2.1 (lw_meth q603) rfl rfl rfl (E.2.2.2.2.1 _ q601 rfl) (E.2.2.1 _ q152) gnX0_isLetter ⟨Nat.le_of_ble_eq_true rfl, Nat.le_of_ble_eq_true rfl⟩, E.2.2.1 _ q602, trivial⟩ (c_preS E hS _) rfl rfl hl.1 rfl (lv_room (Nat.le_of_ble_eq_true rfl)) dX2_word_2_40 (rm_n hcs hS.2.2.2.2)) hS.2.2.2.2 (fun H locs hS hn => ?_)
      have hcs := rm_n2 hcs hn
      refine lv_if_eq (tgt := 59) E.1 hb dX2_word_2_43 (by decide) (fun hc => ?_) (fun hc => ?_)
      · have hf := it_s hc hf
        refine lv_aload_n E.1 hb dX2_word_2_59 rfl (lv_at hl 0 rfl) ?_
        refine c_gI (k := 2) (f := 302) E hb hS ci_3 (sK hS (by decide) rfl) rfl rfl rfl fk_X2_36_X2 (fun _ h => h) dX2_word_2_60 ?_
        refine lv_aload_n E.1 hb dX2_word_2_63 rfl (lv_at hl 0 rfl) ?_
        refine c_gI (k := 3) (f := 303) E hb hS ci_3 (sK hS (by decide) rfl) rfl rfl rfl fk_X2_61_X2 (fun _ h => h) dX2_word_2_64 ?_
        refine lv_isub E.1 hb dX2_word_2_67 ?_
        obtain ⟨A9, hn9, hw, hf⟩ := nwA_s hf
        obtain ⟨hck, hf⟩ := ck_s hf
        refine c_newa (atype := .char) E hb hS hcs (Or.inr (Or.inr (Or.inr (Or.inl ⟨rfl, rfl⟩)))) q692 hn9 hw hck (rm_up _ _ _ _) dX2_word_2_68 (fun H cells slots hS hcs => ?_)
        refine lv_astore_n (lv' := [(1, .ref (ad (aN A))), (0, .ref (ad 9))]) E.1 hb dX2_word_2_70 rfl hl (by decide) rfl (fun ls hl => ?_)
        refine lv_aload_n E.1 hb dX2_word_2_71 rfl (lv_at hl 1 rfl) ?_
        refine c_gI (k := 3) (f := 303) E hb hS ci_3 (sK hS (by decide) rfl) rfl rfl rfl fk_X2_61_X2 (fun _ h => h) dX2_word_2_72 ?_
        refine lv_istore_n (lv' := [(2, .int (aI A9 303 9 0)), (1, .ref (ad (aN A))), (0, .ref (ad 9))]) E.1 hb dX2_word_2_75 rfl hl (by decide) rfl (fun ls hl => ?_)
        exact hL76 N A9 (aN A) (aI A9 303 9 0) hf _ _ _ _ hcs hS _ (lv_sub hl [2, 1, 0] rfl)
      · have hf := if_s hc hf
        refine lv_aload_n E.1 hb dX2_word_2_46 rfl (lv_at hl 0 rfl) ?_
        refine lv_dup E.1 hb dX2_word_2_47 rfl ?_
        refine c_gI (k := 2) (f := 302) E hb hS ci_3 (sK hS (by decide) rfl) rfl rfl rfl fk_X2_36_X2 (fun _ h => h) dX2_word_2_48 ?_
        refine lv_iconst (v := 1) E.1 hb dX2_word_2_51 rfl ?_
        refine lv_iadd E.1 hb dX2_word_2_52 ?_
        obtain ⟨A15, hw, hf⟩ := lt2_s hf
        refine c_pI (k := 2) (f := 302) E hb hS ci_3 (sK hS (by decide) rfl) (hS.1.lt (sK hS (by decide) rfl) rfl) rfl rfl (Or.inl rfl) fk_X2_36_X2 (fun _ h => h) rfl rfl hw dX2_word_2_53 (fun H locs hS => ?_)
        have hcs := rm_w (A2 := A15) hcs (by rw [hw]; exact ⟨rfl, rfl⟩)
        refine lv_goto (tgt := 32) E.1 hb dX2_word_2_56 (by decide) ?_
        exact hk32 A15 hf _ _ _ _ hcs hS _ (lv_sub hl [0] rfl)
  refine lv_aload_n E.1 hb dX2_word_2_0 rfl (lv_at hl 0 rfl) ?_
  obtain ⟨r1, A2, h1, hf⟩ := bd_s hf
  refine c_ki hS (va_runV ⟨E.1, hb, hml, E.2.1, E.2.2.1⟩ (zX2_here h1) (cwV 0 E.2.2.1 gw_X2_43 rfl rfl rfl ⟨rfl, gnX2_here⟩ ⟨Nat.le_of_ble_eq_true rfl, Nat.le_of_ble_eq_true rfl⟩) (c_preV E hS ci_3 (sK hS (by decide) rfl) (hS.1.lt (sK hS (by decide) rfl) rfl) _) rfl rfl hl.1 rfl (lv_room (Nat.le_of_ble_eq_true rfl)) dX2_word_2_1 (rm_n hcs hS.2.2.2.2)) hS.2.2.2.2 (fun H locs hS hn => ?_)
  have hcs := rm_n2 hcs hn
  obtain ⟨r3, h1, hf⟩ := bo_s hf
  refine c_ki hS (va_runSN ⟨E.1, hb, hml, E.2.1, E.2.2.1⟩ (zX0_isLetter h1) ⟨va_cnB 1 E.2.2.1 (lw_meth q603) rfl rfl rfl (E.2.2.2.2.1 _ q601 rfl) (E.2.2.1 _ q152) gnX0_isLetter ⟨Nat.le_of_ble_eq_true rfl, Nat.le_of_ble_eq_true rfl⟩, E.2.2.1 _ q602, trivial⟩ (c_preS E hS _) rfl rfl hl.1 rfl (lv_room (Nat.le_of_ble_eq_true rfl)) dX2_word_2_4 (rm_n hcs hS.2.2.2.2)) hS.2.2.2.2 (fun H locs hS hn => ?_)
  have hcs := rm_n2 hcs hn
  refine lv_if_ne (tgt := 20) E.1 hb dX2_word_2_7 (by decide) (fun hc => ?_) (fun hc => ?_)
  · have hf := if_s hc hf
    refine lv_aload_n E.1 hb dX2_word_2_20 rfl (lv_at hl 0 rfl) ?_
    obtain ⟨o5, A4, h1, hf⟩ := bx_s hf
    refine x_kv hS (vx_runV ⟨E.1, hb, hml, E.2.1, E.2.2.1⟩ (zX2_parted h1) (cwV 0 E.2.2.1 gw_X2_58 rfl rfl rfl ⟨rfl, gnX2_parted⟩ ⟨Nat.le_of_ble_eq_true rfl, Nat.le_of_ble_eq_true rfl⟩) (c_preV E hS ci_3 (sK hS (by decide) rfl) (hS.1.lt (sK hS (by decide) rfl) rfl) _) rfl rfl hl.1 rfl (lv_room (Nat.le_of_ble_eq_true rfl)) dX2_word_2_21 (rm_n hcs hS.2.2.2.2)) hS.2.2.2.2 (fun ho H locs hS hn => ?_) (fun _ ho H locs hS hn => ?_)
    · subst ho
      have hcs := rm_n2 hcs hn
      exact x_out E hnx hlk hS (rm_e ⟨Nat.le_trans hcs.1 hS.2.2.2.2.1, Nat.le_trans hcs.2 hS.2.2.2.2.2⟩) (xm_n hf)
    subst ho
    have hcs := rm_n2 hcs hn
    have hf := xm_s hf
    refine lv_aload_n E.1 hb dX2_word_2_24 rfl (lv_at hl 0 rfl) ?_
    refine lv_aload_n E.1 hb dX2_word_2_25 rfl (lv_at hl 0 rfl) ?_
    refine c_gI (k := 2) (f := 302) E hb hS ci_3 (sK hS (by decide) rfl) rfl rfl rfl fk_X2_36_X2 (fun _ h => h) dX2_word_2_26 ?_
    obtain ⟨A6, hw, hf⟩ := lt2_s hf
    refine c_pI (k := 3) (f := 303) E hb hS ci_3 (sK hS (by decide) rfl) (hS.1.lt (sK hS (by decide) rfl) rfl) rfl rfl (Or.inl rfl) fk_X2_61_X2 (fun _ h => h) rfl rfl hw dX2_word_2_29 (fun H locs hS => ?_)
    have hcs := rm_w (A2 := A6) hcs (by rw [hw]; exact ⟨rfl, rfl⟩)
    exact hL32 N A6 hf _ _ _ _ hcs hS _ (lv_sub hl [0] rfl)
  · have hf := it_s hc hf
    refine lv_aload_n E.1 hb dX2_word_2_10 rfl (lv_at hl 0 rfl) ?_
    refine lv_iconst (v := 1) E.1 hb dX2_word_2_11 rfl ?_
    refine lv_aload_n E.1 hb dX2_word_2_12 rfl (lv_at hl 0 rfl) ?_
    refine c_gI (k := 2) (f := 302) E hb hS ci_3 (sK hS (by decide) rfl) rfl rfl rfl fk_X2_36_X2 (fun _ h => h) dX2_word_2_13 ?_
    obtain ⟨r16, A17, h1, hf⟩ := bd_s hf
    refine c_kq hS (va_runV ⟨E.1, hb, hml, E.2.1, E.2.2.1⟩ (zX2_wrong h1) (cwV 2 E.2.2.1 gw_X2_47 rfl rfl rfl ⟨rfl, gnX2_wrong⟩ ⟨Nat.le_of_ble_eq_true rfl, Nat.le_of_ble_eq_true rfl⟩) (c_preV E hS ci_3 (sK hS (by decide) rfl) (hS.1.lt (sK hS (by decide) rfl) rfl) _) rfl rfl hl.1 rfl (lv_room (Nat.le_of_ble_eq_true rfl)) dX2_word_2_16 (rm_n hcs hS.2.2.2.2)) hS.2.2.2.2 (fun H locs hS hn => ?_)
    have hcs := rm_n2 hcs hn
    obtain ⟨q18, hr9, hf⟩ := bo_s hf
    refine c_dr hr9 ?_
    obtain ⟨hg, hf9⟩ := gu_s hf
    subst hg
    exact x_thr E hb hnx hlk hS (rm_e ⟨Nat.le_trans hcs.1 hS.2.2.2.2.1, Nat.le_trans hcs.2 hS.2.2.2.2.2⟩) hf9 dX2_word_2_19
theorem gw_X2_70 : GoodIn lw_all (wsV RX2 70 RX2 yX2_word_2 (ws_ yX2_word_2 cX2_word_2 3 (some (.object "java/lang/String")))) := lw_V q589 q591 qs5 q157 q592
theorem gnX2_word_2 : yX2_word_2.cls ≠ "java/lang/invoke/MethodHandle" ∧ yX2_word_2.cls ≠ "java/lang/invoke/VarHandle" ∧ (parseMethodDescriptor yX2_word_2.desc).map (fun d => d.parameters.length) = some 0 := by decide +kernel
theorem gw_X2_74 : GoodIn lw_all (wsV RX2 74 RJ6 yJ6_equals (ws_ yJ6_equals cJ6_equals 3 (some .boolean))) := lw_V q693 q694 q695 q165 q696
theorem gnJ6_equals : yJ6_equals.cls ≠ "java/lang/invoke/MethodHandle" ∧ yJ6_equals.cls ≠ "java/lang/invoke/VarHandle" ∧ (parseMethodDescriptor yJ6_equals.desc).map (fun d => d.parameters.length) = some 1 := by decide +kernel
/-! MarginFolk$Reader.word(Ljava/lang/String;)V: RW -/
noncomputable def X2_word (N : Nat) (A0 : AH) (x1 : Nat) : Option (Option Unit × AH) :=
  ck A0 (bxa A0 (X2_word_2 N A0) fun r1 A2 => bo r1 fun q4 => if aK A2 q4 = 19 then ( bo (J6_equals N A2 q4 x1) fun r5 => if r5 = 0 then (bd (X2_wrong A2 1 (aI A2 303 9 0)) fun r6 A7 => bo r6 fun q8 => if q8 = 10 then some (none, A7) else none) else (some (some (), A2))) else none)
set_option maxHeartbeats 4000000 in
theorem zX2_word {l : Launch} {dC : Nat → ClassId} {dI : Nat → Nat → Nat} {ac : Nat → ClassId} {ad : Nat → Nat} {N : Nat} {A0 : AH} {x1 : Nat} {o : Option Unit} {A' : AH} (hf : X2_word N A0 x1 = some (o, A')) : vx_Met l yX2_word (ws_ yX2_word cX2_word 2 none) { frames := 8, cells := aN A' - aN A0, slots := aS A' - aS A0, locals := 177 } (va_Pc [.ref (ad 9), .ref (ad x1)] (cPre dC dI ac ad True A0)) (cQxv dC dI ac ad True (aN A0) (aS A0) (aN A') (aS A') o A') (cXC dC dI ac ad True (aN A0) (aS A0) (aN A') (aS A') o A') (aN A' - aN A0) (aS A' - aS A0) (cF ad) := by
  unfold X2_word at hf
  obtain ⟨hck0, hf⟩ := ck_s hf
  refine c_ofx hck0 RX2 (by decide) rfl (Nat.le_of_ble_eq_true rfl) ?_
  intro p e s m args below meth c E hb hr hlk hnm hml hnx hS ls hl
  have hl : lv_has ls 2 [(0, .ref (ad 9)), (1, .ref (ad x1))] := hl
  have hcs : aN A0 + 0 ≤ aN A0 ∧ aS A0 + 0 ≤ aS A0 := ⟨Nat.le_refl _, Nat.le_refl _⟩
  refine lv_aload_n E.1 hb dX2_word_0 rfl (lv_at hl 0 rfl) ?_
  obtain ⟨o3, A2, h1, hge, hup, hf⟩ := bxa_s hf
  refine x_kq hS (vx_runV ⟨E.1, hb, hml, E.2.1, E.2.2.1⟩ (zX2_word_2 h1) (cwV 0 E.2.2.1 gw_X2_70 rfl rfl rfl ⟨rfl, gnX2_word_2⟩ ⟨Nat.le_of_ble_eq_true rfl, Nat.le_of_ble_eq_true rfl⟩) (c_preV E hS ci_3 (sK hS (by decide) rfl) (hS.1.lt (sK hS (by decide) rfl) rfl) _) rfl rfl hl.1 rfl (lv_room (Nat.le_of_ble_eq_true rfl)) dX2_word_1 (rm_a hcs hge hup)) hup (fun ho H locs hS hn => ?_) (fun r1 ho H locs hS hn => ?_)
  · subst ho
    have hcs := rm_a2 hcs hge
    exact x_out E hnx hlk hS (rm_e ⟨Nat.le_trans hcs.1 hS.2.2.2.2.1, Nat.le_trans hcs.2 hS.2.2.2.2.2⟩) (xm_n hf)
  subst ho
  have hcs := rm_a2 hcs hge
  have hf := xm_s hf
  obtain ⟨q4, hr9, hf⟩ := bo_s hf
  refine c_dr hr9 ?_
  refine lv_aload_n E.1 hb dX2_word_4 rfl (lv_at hl 1 rfl) ?_
  obtain ⟨hkr, hf⟩ := gu_s hf
  obtain ⟨r5, h1, hf⟩ := bo_s hf
  refine c_ki hS (va_runV ⟨E.1, hb, hml, E.2.1, E.2.2.1⟩ (zJ6_equals h1) (cwV 1 E.2.2.1 gw_X2_74 rfl rfl rfl ⟨rfl, gnJ6_equals⟩ ⟨Nat.le_of_ble_eq_true rfl, Nat.le_of_ble_eq_true rfl⟩) (c_preVS E hS hkr _) rfl rfl hl.1 rfl (lv_room (Nat.le_of_ble_eq_true rfl)) dX2_word_5 (rm_n hcs hS.2.2.2.2)) hS.2.2.2.2 (fun H locs hS hn => ?_)
  have hcs := rm_n2 hcs hn
  refine lv_if_ne (tgt := 21) E.1 hb dX2_word_8 (by decide) (fun hc => ?_) (fun hc => ?_)
  · have hf := if_s hc hf
    exact x_vr E hb hr hlk hS (rm_e ⟨Nat.le_trans hcs.1 hS.2.2.2.2.1, Nat.le_trans hcs.2 hS.2.2.2.2.2⟩) hf dX2_word_21
  · have hf := it_s hc hf
    refine lv_aload_n E.1 hb dX2_word_11 rfl (lv_at hl 0 rfl) ?_
    refine lv_iconst (v := 1) E.1 hb dX2_word_12 rfl ?_
    refine lv_aload_n E.1 hb dX2_word_13 rfl (lv_at hl 0 rfl) ?_
    refine c_gI (k := 3) (f := 303) E hb hS ci_3 (sK hS (by decide) rfl) rfl rfl rfl fk_X2_61_X2 (fun _ h => h) dX2_word_14 ?_
    obtain ⟨r6, A7, h1, hf⟩ := bd_s hf
    refine c_kq hS (va_runV ⟨E.1, hb, hml, E.2.1, E.2.2.1⟩ (zX2_wrong h1) (cwV 2 E.2.2.1 gw_X2_47 rfl rfl rfl ⟨rfl, gnX2_wrong⟩ ⟨Nat.le_of_ble_eq_true rfl, Nat.le_of_ble_eq_true rfl⟩) (c_preV E hS ci_3 (sK hS (by decide) rfl) (hS.1.lt (sK hS (by decide) rfl) rfl) _) rfl rfl hl.1 rfl (lv_room (Nat.le_of_ble_eq_true rfl)) dX2_word_17 (rm_n hcs hS.2.2.2.2)) hS.2.2.2.2 (fun H locs hS hn => ?_)
    have hcs := rm_n2 hcs hn
    obtain ⟨q8, hr9, hf⟩ := bo_s hf
    refine c_dr hr9 ?_
    obtain ⟨hg, hf9⟩ := gu_s hf
    subst hg
    exact x_thr E hb hnx hlk hS (rm_e ⟨Nat.le_trans hcs.1 hS.2.2.2.2.1, Nat.le_trans hcs.2 hS.2.2.2.2.2⟩) hf9 dX2_word_20
/-! MarginFolk.is(III)Z: P -/
noncomputable def X0_is (x0 : Int32) (x1 : Int32) (x2 : Int32) : Option Int32 :=
  if x0 < x1 then (some 0) else (if x2 < x0 then (some 0) else (some 1))
abbrev rX0_is : Room := { frames := 0, cells := 0, slots := 0, locals := 0 }
set_option maxHeartbeats 4000000 in
theorem zX0_is {l : Launch} {dC : Nat → ClassId} {dI : Nat → Nat → Nat} {ac : Nat → ClassId} {ad : Nat → Nat} {b : Prop} {A : AH} {x0 : Int32} {x1 : Int32} {x2 : Int32} {r : Int32} (hf : X0_is x0 x1 x2 = some r) : Met l yX0_is (ws_ yX0_is cX0_is 3 (some .boolean)) { frames := 0, cells := 0, slots := 0, locals := 0 } (va_Pc [.int x0, .int x1, .int x2] (cPre dC dI ac ad b A)) (cQi dC dI ac ad b (aN A) (aS A) (aN A) (aS A) r A) 0 0 (cF ad) := by
  unfold X0_is at hf
  refine c_of ⟨Nat.le_refl _, Nat.le_refl _⟩ RX0 (plainFor_of_name (by decide)) rfl (Nat.le_of_ble_eq_true rfl) ?_
  intro p e s m args below meth c E hb hr hlk hnm hml hS ls hl
  have hl : lv_has ls 3 [(0, .int x0), (1, .int x1), (2, .int x2)] := hl
  refine lv_iload_n E.1 hb dX0_is_0 rfl (lv_at hl 0 rfl) ?_
  refine lv_iload_n E.1 hb dX0_is_1 rfl (lv_at hl 1 rfl) ?_
  refine lv_icmp_lt (tgt := 14) E.1 hb dX0_is_2 (by decide) (fun hc => ?_) (fun hc => ?_)
  · have hf := it_s hc hf
    refine lv_iconst (v := 0) E.1 hb dX0_is_14 rfl ?_
    exact c_zr (ty := .boolean) E hb hr hlk hS ⟨Nat.le_refl 0, Nat.le_refl 0⟩ rfl (ro_s hf) dX0_is_15
  · have hf := if_s hc hf
    refine lv_iload_n E.1 hb dX0_is_5 rfl (lv_at hl 0 rfl) ?_
    refine lv_iload_n E.1 hb dX0_is_6 rfl (lv_at hl 2 rfl) ?_
    refine lv_icmp_gt (tgt := 14) E.1 hb dX0_is_7 (by decide) (fun hc => ?_) (fun hc => ?_)
    · have hf := it_s hc hf
      refine lv_iconst (v := 0) E.1 hb dX0_is_14 rfl ?_
      exact c_zr (ty := .boolean) E hb hr hlk hS ⟨Nat.le_refl 0, Nat.le_refl 0⟩ rfl (ro_s hf) dX0_is_15
    · have hf := if_s hc hf
      refine lv_iconst (v := 1) E.1 hb dX0_is_10 rfl ?_
      refine lv_goto (tgt := 15) E.1 hb dX0_is_11 (by decide) ?_
      exact c_zr (ty := .boolean) E hb hr hlk hS ⟨Nat.le_refl 0, Nat.le_refl 0⟩ rfl (ro_s hf) dX0_is_15
theorem gnX0_is : yX0_is.cls ≠ "java/lang/invoke/MethodHandle" ∧ yX0_is.cls ≠ "java/lang/invoke/VarHandle" ∧ (parseMethodDescriptor yX0_is.desc).map (fun d => d.parameters.length) = some 3 := by decide +kernel
/-! MarginFolk$Reader.number(II)I: RW -/
noncomputable def X2_number_b34 (N : Nat) (x1 : Int32) (x2 : Int32) (k34 : AH → Int32 → Option (Option Int32 × AH)) (A : AH) (x3 : Int32) : Option (Option Int32 × AH) :=
  bo (X2_byteAt A (aI A 302 9 0)) fun r7 => bo (X0_isDigit r7) fun r8 => if r8 = 0 then (bo (X0_is x3 x1 x2) fun r9 => if r9 = 0 then (bd (X2_wrong A 2 (aI A 303 9 0)) fun r10 A11 => bo r10 fun q12 => if q12 = 10 then some (none, A11) else none) else (some (some x3, A))) else (if ((aI A 302 9 0) - (aI A 303 9 0)) = 4 then (bd (X2_wrong A 1 (aI A 302 9 0)) fun r15 A16 => bo r15 fun q17 => if q17 = 10 then some (none, A16) else none) else (bo (X2_byteAt A (aI A 302 9 0)) fun r13 => lt2 (wI A 302 9 0 ((aI A 302 9 0) + 1)) fun A14 => k34 A14 (((10 * x3) + r13) - 48)))
noncomputable def X2_number (N : Nat) (A0 : AH) (x1 : Int32) (x2 : Int32) : Option (Option Int32 × AH) :=
  bd (X2_here N A0) fun r1 A2 => bo (X0_isDigit r1) fun r3 => if r3 = 0 then (bd (X2_wrong A2 1 (aI A2 302 9 0)) fun r18 A19 => bo r18 fun q20 => if q20 = 10 then some (none, A19) else none) else (bx (X2_parted A2) fun _ A4 => lt2 (wI A4 303 9 0 (aI A4 302 9 0)) fun A6 => rn2 (X2_number_b34 N x1 x2) N A6 0)
abbrev rX2_number : Room := { frames := 2, cells := 0, slots := 0, locals := 42 }
set_option maxHeartbeats 4000000 in
theorem zX2_number {l : Launch} {dC : Nat → ClassId} {dI : Nat → Nat → Nat} {ac : Nat → ClassId} {ad : Nat → Nat} {N : Nat} {A0 : AH} {x1 : Int32} {x2 : Int32} {o : Option Int32} {A' : AH} (hf : X2_number N A0 x1 x2 = some (o, A')) : vx_Met l yX2_number (ws_ yX2_number cX2_number 4 (some .int)) { frames := 2, cells := 0, slots := 0, locals := 42 } (va_Pc [.ref (ad 9), .int x1, .int x2] (cPre dC dI ac ad True A0)) (cQxi dC dI ac ad True (aN A0) (aS A0) (aN A0) (aS A0) o A') (cXC dC dI ac ad True (aN A0) (aS A0) (aN A0) (aS A0) o A') 0 0 (cF ad) := by
  unfold X2_number at hf
  refine c_ofx ⟨Nat.le_refl _, Nat.le_refl _⟩ RX2 (by decide) rfl (Nat.le_of_ble_eq_true rfl) ?_
  intro p e s m args below meth c E hb hr hlk hnm hml hnx hS ls hl
  have hl : lv_has ls 4 [(0, .ref (ad 9)), (1, .int x1), (2, .int x2)] := hl
  have hL34 : ∀ (n : Nat) (A : AH) (x3 : Int32), rn2 (X2_number_b34 N x1 x2) n A x3 = some (o, A') → ∀ (H : Heap) (locs : List Loc), cS dC dI ac ad True s.heap (aN A0) (aS A0) (aN A0) (aS A0) A H locs → ∀ (ls : Array Slot), lv_has ls 4 [(0, .ref (ad 9)), (1, .int x1), (2, .int x2), (3, .int x3)] → W p l e rX2_number s m args below meth c H locs 0 0 (vx_MQ below (cQxi dC dI ac ad True (aN A0) (aS A0) (aN A0) (aS A0) o A') (cXC dC dI ac ad True (aN A0) (aS A0) (aN A0) (aS A0) o A') args s 0 0 (cF ad)) (F0 m 34 ls []) := by
    intro  n
    induction n with
    | zero =>
      intro A x3 hf
      cases hf
    | succ n ih =>
      intro A x3 hf H locs hS ls hl
      have hf : X2_number_b34 N x1 x2 (rn2 (X2_number_b34 N x1 x2) n) A x3 = some (o, A') := hf
      have hk34 := ih
      generalize rn2 (X2_number_b34 N x1 x2) n = k34 at hf hk34
      unfold X2_number_b34 at hf
      refine lv_aload_n E.1 hb dX2_number_34 rfl (lv_at hl 0 rfl) ?_
      refine lv_aload_n E.1 hb dX2_number_35 rfl (lv_at hl 0 rfl) ?_
      refine c_gI (k := 2) (f := 302) E hb hS ci_3 (sK hS (by decide) rfl) rfl rfl rfl fk_X2_36_X2 (fun _ h => h) dX2_number_36 ?_
      obtain ⟨r7, h1, hf⟩ := bo_s hf
      refine c_ki hS (va_runV ⟨E.1, hb, hml, E.2.1, E.2.2.1⟩ (zX2_byteAt h1) (cwV 1 E.2.2.1 gw_X2_39 rfl rfl rfl ⟨rfl, gnX2_byteAt⟩ ⟨Nat.le_of_ble_eq_true rfl, Nat.le_of_ble_eq_true rfl⟩) (c_preV E hS ci_3 (sK hS (by decide) rfl) (hS.1.lt (sK hS (by decide) rfl) rfl) _) rfl rfl hl.1 rfl (lv_room (Nat.le_of_ble_eq_true rfl)) dX2_number_39 ⟨Nat.le_refl 0, Nat.le_refl 0⟩) hS.2.2.2.2 (fun H locs hS hn => ?_)
      obtain ⟨r8, h1, hf⟩ := bo_s hf
      refine c_ki hS (va_runSN ⟨E.1, hb, hml, E.2.1, E.2.2.1⟩ (zX0_isDigit h1) ⟨va_cnB 1 E.2.2.1 (lw_meth q614) rfl rfl rfl (E.2.2.2.2.1 _ q612 rfl) (E.2.2.1 _ q152) gnX0_isDigit ⟨Nat.le_of_ble_eq_true rfl, Nat.le_of_ble_eq_true rfl⟩, E.2.2.1 _ q613, trivial⟩ (c_preS E hS _) rfl rfl hl.1 rfl (lv_room (Nat.le_of_ble_eq_true rfl)) dX2_number_42 ⟨Nat.le_refl 0, Nat.le_refl 0⟩) hS.2.2.2.2 (fun H locs hS hn => ?_)
      refine lv_if_eq (tgt := 101) E.1 hb dX2_number_45 (by decide) (fun hc => ?_) (fun hc => ?_)
      · have hf := it_s hc hf
        refine lv_iload_n E.1 hb dX2_number_101 rfl (lv_at hl 3 rfl) ?_
        refine lv_iload_n E.1 hb dX2_number_102 rfl (lv_at hl 1 rfl) ?_
        refine lv_iload_n E.1 hb dX2_number_103 rfl (lv_at hl 2 rfl) ?_
        obtain ⟨r9, h1, hf⟩ := bo_s hf
        refine c_ki hS (va_runSN ⟨E.1, hb, hml, E.2.1, E.2.2.1⟩ (zX0_is h1) ⟨va_cnB 3 E.2.2.1 (lw_meth q706) rfl rfl rfl (E.2.2.2.2.1 _ q704 rfl) (E.2.2.1 _ q152) gnX0_is ⟨Nat.le_of_ble_eq_true rfl, Nat.le_of_ble_eq_true rfl⟩, E.2.2.1 _ q705, trivial⟩ (c_preS E hS _) rfl rfl hl.1 rfl (lv_room (Nat.le_of_ble_eq_true rfl)) dX2_number_104 ⟨Nat.le_refl 0, Nat.le_refl 0⟩) hS.2.2.2.2 (fun H locs hS hn => ?_)
        refine lv_if_ne (tgt := 120) E.1 hb dX2_number_107 (by decide) (fun hc => ?_) (fun hc => ?_)
        · have hf := if_s hc hf
          refine lv_iload_n E.1 hb dX2_number_120 rfl (lv_at hl 3 rfl) ?_
          exact x_ir E hb hr hlk hS ⟨Nat.le_refl 0, Nat.le_refl 0⟩ hf dX2_number_121
        · have hf := it_s hc hf
          refine lv_aload_n E.1 hb dX2_number_110 rfl (lv_at hl 0 rfl) ?_
          refine lv_iconst (v := 2) E.1 hb dX2_number_111 rfl ?_
          refine lv_aload_n E.1 hb dX2_number_112 rfl (lv_at hl 0 rfl) ?_
          refine c_gI (k := 3) (f := 303) E hb hS ci_3 (sK hS (by decide) rfl) rfl rfl rfl fk_X2_61_X2 (fun _ h => h) dX2_number_113 ?_
          obtain ⟨r10, A11, h1, hf⟩ := bd_s hf
          refine c_kq hS (va_runV ⟨E.1, hb, hml, E.2.1, E.2.2.1⟩ (zX2_wrong h1) (cwV 2 E.2.2.1 gw_X2_47 rfl rfl rfl ⟨rfl, gnX2_wrong⟩ ⟨Nat.le_of_ble_eq_true rfl, Nat.le_of_ble_eq_true rfl⟩) (c_preV E hS ci_3 (sK hS (by decide) rfl) (hS.1.lt (sK hS (by decide) rfl) rfl) _) rfl rfl hl.1 rfl (lv_room (Nat.le_of_ble_eq_true rfl)) dX2_number_116 ⟨Nat.le_refl 0, Nat.le_refl 0⟩) hS.2.2.2.2 (fun H locs hS hn => ?_)
          obtain ⟨q12, hr9, hf⟩ := bo_s hf
          refine c_dr hr9 ?_
          obtain ⟨hg, hf9⟩ := gu_s hf
          subst hg
          exact x_thr E hb hnx hlk hS ⟨Nat.le_refl 0, Nat.le_refl 0⟩ hf9 dX2_number_119
      · have hf := if_s hc hf
        refine lv_aload_n E.1 hb dX2_number_48 rfl (lv_at hl 0 rfl) ?_
        refine c_gI (k := 2) (f := 302) E hb hS ci_3 (sK hS (by decide) rfl) rfl rfl rfl fk_X2_36_X2 (fun _ h => h) dX2_number_49 ?_
        refine lv_aload_n E.1 hb dX2_number_52 rfl (lv_at hl 0 rfl) ?_
        refine c_gI (k := 3) (f := 303) E hb hS ci_3 (sK hS (by decide) rfl) rfl rfl rfl fk_X2_61_X2 (fun _ h => h) dX2_number_53 ?_
        refine lv_isub E.1 hb dX2_number_56 ?_
        refine lv_iconst (v := 4) E.1 hb dX2_number_57 rfl ?_
        refine lv_icmp_ne (tgt := 71) E.1 hb dX2_number_58 (by decide) (fun hc => ?_) (fun hc => ?_)
        · have hf := if_s hc hf
          refine lv_bipush (v := 10) E.1 hb dX2_number_71 rfl ?_
          refine lv_iload_n E.1 hb dX2_number_73 rfl (lv_at hl 3 rfl) ?_
          refine lv_imul E.1 hb dX2_number_74 ?_
          refine lv_aload_n E.1 hb dX2_number_75 rfl (lv_at hl 0 rfl) ?_
          refine lv_aload_n E.1 hb dX2_number_76 rfl (lv_at hl 0 rfl) ?_
          refine c_gI (k := 2) (f := 302) E hb hS ci_3 (sK hS (by decide) rfl) rfl rfl rfl fk_X2_36_X2 (fun _ h => h) dX2_number_77 ?_
          obtain ⟨r13, h1, hf⟩ := bo_s hf
          refine c_ki hS (va_runV ⟨E.1, hb, hml, E.2.1, E.2.2.1⟩ (zX2_byteAt h1) (cwV 1 E.2.2.1 gw_X2_39 rfl rfl rfl ⟨rfl, gnX2_byteAt⟩ ⟨Nat.le_of_ble_eq_true rfl, Nat.le_of_ble_eq_true rfl⟩) (c_preV E hS ci_3 (sK hS (by decide) rfl) (hS.1.lt (sK hS (by decide) rfl) rfl) _) rfl rfl hl.1 rfl (lv_room (Nat.le_of_ble_eq_true rfl)) dX2_number_80 ⟨Nat.le_refl 0, Nat.le_refl 0⟩) hS.2.2.2.2 (fun H locs hS hn => ?_)
          refine lv_iadd E.1 hb dX2_number_83 ?_
          refine lv_bipush (v := 48) E.1 hb dX2_number_84 rfl ?_
          refine lv_isub E.1 hb dX2_number_86 ?_
          refine lv_istore_n (lv' := [(3, .int (((10 * x3) + r13) - 48)), (0, .ref (ad 9)), (1, .int x1), (2, .int x2)]) E.1 hb dX2_number_87 rfl hl (by decide) rfl (fun ls hl => ?_)
          refine lv_aload_n E.1 hb dX2_number_88 rfl (lv_at hl 1 rfl) ?_
          refine lv_dup E.1 hb dX2_number_89 rfl ?_
          refine c_gI (k := 2) (f := 302) E hb hS ci_3 (sK hS (by decide) rfl) rfl rfl rfl fk_X2_36_X2 (fun _ h => h) dX2_number_90 ?_
          refine lv_iconst (v := 1) E.1 hb dX2_number_93 rfl ?_
          refine lv_iadd E.1 hb dX2_number_94 ?_
          obtain ⟨A14, hw, hf⟩ := lt2_s hf
          refine c_pI (k := 2) (f := 302) E hb hS ci_3 (sK hS (by decide) rfl) (hS.1.lt (sK hS (by decide) rfl) rfl) rfl rfl (Or.inl rfl) fk_X2_36_X2 (fun _ h => h) rfl rfl hw dX2_number_95 (fun H locs hS => ?_)
          refine lv_goto (tgt := 34) E.1 hb dX2_number_98 (by decide) ?_
          exact hk34 A14 (((10 * x3) + r13) - 48) hf _ _ hS _ (lv_sub hl [1, 2, 3, 0] rfl)
        · have hf := it_s hc hf
          refine lv_aload_n E.1 hb dX2_number_61 rfl (lv_at hl 0 rfl) ?_
          refine lv_iconst (v := 1) E.1 hb dX2_number_62 rfl ?_
          refine lv_aload_n E.1 hb dX2_number_63 rfl (lv_at hl 0 rfl) ?_
          refine c_gI (k := 2) (f := 302) E hb hS ci_3 (sK hS (by decide) rfl) rfl rfl rfl fk_X2_36_X2 (fun _ h => h) dX2_number_64 ?_
          obtain ⟨r15, A16, h1, hf⟩ := bd_s hf
          refine c_kq hS (va_runV ⟨E.1, hb, hml, E.2.1, E.2.2.1⟩ (zX2_wrong h1) (cwV 2 E.2.2.1 gw_X2_47 rfl rfl rfl ⟨rfl, gnX2_wrong⟩ ⟨Nat.le_of_ble_eq_true rfl, Nat.le_of_ble_eq_true rfl⟩) (c_preV E hS ci_3 (sK hS (by decide) rfl) (hS.1.lt (sK hS (by decide) rfl) rfl) _) rfl rfl hl.1 rfl (lv_room (Nat.le_of_ble_eq_true rfl)) dX2_number_67 ⟨Nat.le_refl 0, Nat.le_refl 0⟩) hS.2.2.2.2 (fun H locs hS hn => ?_)
          obtain ⟨q17, hr9, hf⟩ := bo_s hf
          refine c_dr hr9 ?_
          obtain ⟨hg, hf9⟩ := gu_s hf
          subst hg
          exact x_thr E hb hnx hlk hS ⟨Nat.le_refl 0, Nat.le_refl 0⟩ hf9 dX2_number_70
  refine lv_aload_n E.1 hb dX2_number_0 rfl (lv_at hl 0 rfl) ?_
  obtain ⟨r1, A2, h1, hf⟩ := bd_s hf
  refine c_ki hS (va_runV ⟨E.1, hb, hml, E.2.1, E.2.2.1⟩ (zX2_here h1) (cwV 0 E.2.2.1 gw_X2_43 rfl rfl rfl ⟨rfl, gnX2_here⟩ ⟨Nat.le_of_ble_eq_true rfl, Nat.le_of_ble_eq_true rfl⟩) (c_preV E hS ci_3 (sK hS (by decide) rfl) (hS.1.lt (sK hS (by decide) rfl) rfl) _) rfl rfl hl.1 rfl (lv_room (Nat.le_of_ble_eq_true rfl)) dX2_number_1 ⟨Nat.le_refl 0, Nat.le_refl 0⟩) hS.2.2.2.2 (fun H locs hS hn => ?_)
  obtain ⟨r3, h1, hf⟩ := bo_s hf
  refine c_ki hS (va_runSN ⟨E.1, hb, hml, E.2.1, E.2.2.1⟩ (zX0_isDigit h1) ⟨va_cnB 1 E.2.2.1 (lw_meth q614) rfl rfl rfl (E.2.2.2.2.1 _ q612 rfl) (E.2.2.1 _ q152) gnX0_isDigit ⟨Nat.le_of_ble_eq_true rfl, Nat.le_of_ble_eq_true rfl⟩, E.2.2.1 _ q613, trivial⟩ (c_preS E hS _) rfl rfl hl.1 rfl (lv_room (Nat.le_of_ble_eq_true rfl)) dX2_number_4 ⟨Nat.le_refl 0, Nat.le_refl 0⟩) hS.2.2.2.2 (fun H locs hS hn => ?_)
  refine lv_if_ne (tgt := 20) E.1 hb dX2_number_7 (by decide) (fun hc => ?_) (fun hc => ?_)
  · have hf := if_s hc hf
    refine lv_aload_n E.1 hb dX2_number_20 rfl (lv_at hl 0 rfl) ?_
    obtain ⟨o5, A4, h1, hf⟩ := bx_s hf
    refine x_kv hS (vx_runV ⟨E.1, hb, hml, E.2.1, E.2.2.1⟩ (zX2_parted h1) (cwV 0 E.2.2.1 gw_X2_58 rfl rfl rfl ⟨rfl, gnX2_parted⟩ ⟨Nat.le_of_ble_eq_true rfl, Nat.le_of_ble_eq_true rfl⟩) (c_preV E hS ci_3 (sK hS (by decide) rfl) (hS.1.lt (sK hS (by decide) rfl) rfl) _) rfl rfl hl.1 rfl (lv_room (Nat.le_of_ble_eq_true rfl)) dX2_number_21 ⟨Nat.le_refl 0, Nat.le_refl 0⟩) hS.2.2.2.2 (fun ho H locs hS hn => ?_) (fun _ ho H locs hS hn => ?_)
    · subst ho
      exact x_out E hnx hlk hS ⟨Nat.le_refl 0, Nat.le_refl 0⟩ (xm_n hf)
    subst ho
    have hf := xm_s hf
    refine lv_aload_n E.1 hb dX2_number_24 rfl (lv_at hl 0 rfl) ?_
    refine lv_aload_n E.1 hb dX2_number_25 rfl (lv_at hl 0 rfl) ?_
    refine c_gI (k := 2) (f := 302) E hb hS ci_3 (sK hS (by decide) rfl) rfl rfl rfl fk_X2_36_X2 (fun _ h => h) dX2_number_26 ?_
    obtain ⟨A6, hw, hf⟩ := lt2_s hf
    refine c_pI (k := 3) (f := 303) E hb hS ci_3 (sK hS (by decide) rfl) (hS.1.lt (sK hS (by decide) rfl) rfl) rfl rfl (Or.inl rfl) fk_X2_61_X2 (fun _ h => h) rfl rfl hw dX2_number_29 (fun H locs hS => ?_)
    refine lv_iconst (v := 0) E.1 hb dX2_number_32 rfl ?_
    refine lv_istore_n (lv' := [(3, .int 0), (0, .ref (ad 9)), (1, .int x1), (2, .int x2)]) E.1 hb dX2_number_33 rfl hl (by decide) rfl (fun ls hl => ?_)
    exact hL34 N A6 0 hf _ _ hS _ (lv_sub hl [1, 2, 3, 0] rfl)
  · have hf := it_s hc hf
    refine lv_aload_n E.1 hb dX2_number_10 rfl (lv_at hl 0 rfl) ?_
    refine lv_iconst (v := 1) E.1 hb dX2_number_11 rfl ?_
    refine lv_aload_n E.1 hb dX2_number_12 rfl (lv_at hl 0 rfl) ?_
    refine c_gI (k := 2) (f := 302) E hb hS ci_3 (sK hS (by decide) rfl) rfl rfl rfl fk_X2_36_X2 (fun _ h => h) dX2_number_13 ?_
    obtain ⟨r18, A19, h1, hf⟩ := bd_s hf
    refine c_kq hS (va_runV ⟨E.1, hb, hml, E.2.1, E.2.2.1⟩ (zX2_wrong h1) (cwV 2 E.2.2.1 gw_X2_47 rfl rfl rfl ⟨rfl, gnX2_wrong⟩ ⟨Nat.le_of_ble_eq_true rfl, Nat.le_of_ble_eq_true rfl⟩) (c_preV E hS ci_3 (sK hS (by decide) rfl) (hS.1.lt (sK hS (by decide) rfl) rfl) _) rfl rfl hl.1 rfl (lv_room (Nat.le_of_ble_eq_true rfl)) dX2_number_16 ⟨Nat.le_refl 0, Nat.le_refl 0⟩) hS.2.2.2.2 (fun H locs hS hn => ?_)
    obtain ⟨q20, hr9, hf⟩ := bo_s hf
    refine c_dr hr9 ?_
    obtain ⟨hg, hf9⟩ := gu_s hf
    subst hg
    exact x_thr E hb hnx hlk hS ⟨Nat.le_refl 0, Nat.le_refl 0⟩ hf9 dX2_number_19
theorem gw_X2_93 : GoodIn lw_all (wsV RX2 93 RX2 yX2_word (ws_ yX2_word cX2_word 2 none)) := lw_V q585 q587 qs4 q157 q588
theorem gnX2_word : yX2_word.cls ≠ "java/lang/invoke/MethodHandle" ∧ yX2_word.cls ≠ "java/lang/invoke/VarHandle" ∧ (parseMethodDescriptor yX2_word.desc).map (fun d => d.parameters.length) = some 1 := by decide +kernel
theorem gw_X2_96 : GoodIn lw_all (wsV RX2 96 RX2 yX2_number (ws_ yX2_number cX2_number 4 (some .int))) := lw_V q700 q702 qs10 q157 q703
theorem gnX2_number : yX2_number.cls ≠ "java/lang/invoke/MethodHandle" ∧ yX2_number.cls ≠ "java/lang/invoke/VarHandle" ∧ (parseMethodDescriptor yX2_number.desc).map (fun d => d.parameters.length) = some 2 := by decide +kernel
/-! MarginFolk$Reader.number(Ljava/lang/String;II)I: RW -/
noncomputable def X2_number_2 (N : Nat) (A0 : AH) (x1 : Nat) (x2 : Int32) (x3 : Int32) : Option (Option Int32 × AH) :=
  ck A0 (bxa A0 (X2_word N A0 x1) fun _ A1 => bx (X2_number N A1 x2 x3) fun r3 A4 => some (some r3, A4))
set_option maxHeartbeats 4000000 in
theorem zX2_number_2 {l : Launch} {dC : Nat → ClassId} {dI : Nat → Nat → Nat} {ac : Nat → ClassId} {ad : Nat → Nat} {N : Nat} {A0 : AH} {x1 : Nat} {x2 : Int32} {x3 : Int32} {o : Option Int32} {A' : AH} (hf : X2_number_2 N A0 x1 x2 x3 = some (o, A')) : vx_Met l yX2_number_2 (ws_ yX2_number_2 cX2_number_2 4 (some .int)) { frames := 9, cells := aN A' - aN A0, slots := aS A' - aS A0, locals := 198 } (va_Pc [.ref (ad 9), .ref (ad x1), .int x2, .int x3] (cPre dC dI ac ad True A0)) (cQxi dC dI ac ad True (aN A0) (aS A0) (aN A') (aS A') o A') (cXC dC dI ac ad True (aN A0) (aS A0) (aN A') (aS A') o A') (aN A' - aN A0) (aS A' - aS A0) (cF ad) := by
  unfold X2_number_2 at hf
  obtain ⟨hck0, hf⟩ := ck_s hf
  refine c_ofx hck0 RX2 (by decide) rfl (Nat.le_of_ble_eq_true rfl) ?_
  intro p e s m args below meth c E hb hr hlk hnm hml hnx hS ls hl
  have hl : lv_has ls 4 [(0, .ref (ad 9)), (1, .ref (ad x1)), (2, .int x2), (3, .int x3)] := hl
  have hcs : aN A0 + 0 ≤ aN A0 ∧ aS A0 + 0 ≤ aS A0 := ⟨Nat.le_refl _, Nat.le_refl _⟩
  refine lv_aload_n E.1 hb dX2_number_2_0 rfl (lv_at hl 0 rfl) ?_
  refine lv_aload_n E.1 hb dX2_number_2_1 rfl (lv_at hl 1 rfl) ?_
  obtain ⟨o2, A1, h1, hge, hup, hf⟩ := bxa_s hf
  refine x_kv hS (vx_runV ⟨E.1, hb, hml, E.2.1, E.2.2.1⟩ (zX2_word h1) (cwV 1 E.2.2.1 gw_X2_93 rfl rfl rfl ⟨rfl, gnX2_word⟩ ⟨Nat.le_of_ble_eq_true rfl, Nat.le_of_ble_eq_true rfl⟩) (c_preV E hS ci_3 (sK hS (by decide) rfl) (hS.1.lt (sK hS (by decide) rfl) rfl) _) rfl rfl hl.1 rfl (lv_room (Nat.le_of_ble_eq_true rfl)) dX2_number_2_2 (rm_a hcs hge hup)) hup (fun ho H locs hS hn => ?_) (fun _ ho H locs hS hn => ?_)
  · subst ho
    have hcs := rm_a2 hcs hge
    exact x_out E hnx hlk hS (rm_e ⟨Nat.le_trans hcs.1 hS.2.2.2.2.1, Nat.le_trans hcs.2 hS.2.2.2.2.2⟩) (xm_n hf)
  subst ho
  have hcs := rm_a2 hcs hge
  have hf := xm_s hf
  refine lv_aload_n E.1 hb dX2_number_2_5 rfl (lv_at hl 0 rfl) ?_
  refine lv_iload_n E.1 hb dX2_number_2_6 rfl (lv_at hl 2 rfl) ?_
  refine lv_iload_n E.1 hb dX2_number_2_7 rfl (lv_at hl 3 rfl) ?_
  obtain ⟨o5, A4, h1, hf⟩ := bx_s hf
  refine x_ki hS (vx_runV ⟨E.1, hb, hml, E.2.1, E.2.2.1⟩ (zX2_number h1) (cwV 2 E.2.2.1 gw_X2_96 rfl rfl rfl ⟨rfl, gnX2_number⟩ ⟨Nat.le_of_ble_eq_true rfl, Nat.le_of_ble_eq_true rfl⟩) (c_preV E hS ci_3 (sK hS (by decide) rfl) (hS.1.lt (sK hS (by decide) rfl) rfl) _) rfl rfl hl.1 rfl (lv_room (Nat.le_of_ble_eq_true rfl)) dX2_number_2_8 (rm_n hcs hS.2.2.2.2)) hS.2.2.2.2 (fun ho H locs hS hn => ?_) (fun r3 ho H locs hS hn => ?_)
  · subst ho
    have hcs := rm_n2 hcs hn
    exact x_out E hnx hlk hS (rm_e ⟨Nat.le_trans hcs.1 hS.2.2.2.2.1, Nat.le_trans hcs.2 hS.2.2.2.2.2⟩) (xm_n hf)
  subst ho
  have hcs := rm_n2 hcs hn
  have hf := xm_s hf
  exact x_ir E hb hr hlk hS (rm_e ⟨Nat.le_trans hcs.1 hS.2.2.2.2.1, Nat.le_trans hcs.2 hS.2.2.2.2.2⟩) hf dX2_number_2_11
/-! MarginFolk$Reader.must(I)V: RW -/
noncomputable def X2_must (N : Nat) (A0 : AH) (x1 : Int32) : Option (Option Unit × AH) :=
  bd (X2_here N A0) fun r1 A2 => if r1 = x1 then (lt2 (wI A2 302 9 0 ((aI A2 302 9 0) + 1)) fun A3 => some (some (), A3)) else (bd (X2_wrong A2 1 (aI A2 302 9 0)) fun r4 A5 => bo r4 fun q6 => if q6 = 10 then some (none, A5) else none)
abbrev rX2_must : Room := { frames := 2, cells := 0, slots := 0, locals := 41 }
set_option maxHeartbeats 4000000 in
theorem zX2_must {l : Launch} {dC : Nat → ClassId} {dI : Nat → Nat → Nat} {ac : Nat → ClassId} {ad : Nat → Nat} {N : Nat} {A0 : AH} {x1 : Int32} {o : Option Unit} {A' : AH} (hf : X2_must N A0 x1 = some (o, A')) : vx_Met l yX2_must (ws_ yX2_must cX2_must 2 none) { frames := 2, cells := 0, slots := 0, locals := 41 } (va_Pc [.ref (ad 9), .int x1] (cPre dC dI ac ad True A0)) (cQxv dC dI ac ad True (aN A0) (aS A0) (aN A0) (aS A0) o A') (cXC dC dI ac ad True (aN A0) (aS A0) (aN A0) (aS A0) o A') 0 0 (cF ad) := by
  unfold X2_must at hf
  refine c_ofx ⟨Nat.le_refl _, Nat.le_refl _⟩ RX2 (by decide) rfl (Nat.le_of_ble_eq_true rfl) ?_
  intro p e s m args below meth c E hb hr hlk hnm hml hnx hS ls hl
  have hl : lv_has ls 2 [(0, .ref (ad 9)), (1, .int x1)] := hl
  refine lv_aload_n E.1 hb dX2_must_0 rfl (lv_at hl 0 rfl) ?_
  obtain ⟨r1, A2, h1, hf⟩ := bd_s hf
  refine c_ki hS (va_runV ⟨E.1, hb, hml, E.2.1, E.2.2.1⟩ (zX2_here h1) (cwV 0 E.2.2.1 gw_X2_43 rfl rfl rfl ⟨rfl, gnX2_here⟩ ⟨Nat.le_of_ble_eq_true rfl, Nat.le_of_ble_eq_true rfl⟩) (c_preV E hS ci_3 (sK hS (by decide) rfl) (hS.1.lt (sK hS (by decide) rfl) rfl) _) rfl rfl hl.1 rfl (lv_room (Nat.le_of_ble_eq_true rfl)) dX2_must_1 ⟨Nat.le_refl 0, Nat.le_refl 0⟩) hS.2.2.2.2 (fun H locs hS hn => ?_)
  refine lv_iload_n E.1 hb dX2_must_4 rfl (lv_at hl 1 rfl) ?_
  refine lv_icmp_eq (tgt := 18) E.1 hb dX2_must_5 (by decide) (fun hc => ?_) (fun hc => ?_)
  · have hf := it_s hc hf
    refine lv_aload_n E.1 hb dX2_must_18 rfl (lv_at hl 0 rfl) ?_
    refine lv_dup E.1 hb dX2_must_19 rfl ?_
    refine c_gI (k := 2) (f := 302) E hb hS ci_3 (sK hS (by decide) rfl) rfl rfl rfl fk_X2_36_X2 (fun _ h => h) dX2_must_20 ?_
    refine lv_iconst (v := 1) E.1 hb dX2_must_23 rfl ?_
    refine lv_iadd E.1 hb dX2_must_24 ?_
    obtain ⟨A3, hw, hf⟩ := lt2_s hf
    refine c_pI (k := 2) (f := 302) E hb hS ci_3 (sK hS (by decide) rfl) (hS.1.lt (sK hS (by decide) rfl) rfl) rfl rfl (Or.inl rfl) fk_X2_36_X2 (fun _ h => h) rfl rfl hw dX2_must_25 (fun H locs hS => ?_)
    exact x_vr E hb hr hlk hS ⟨Nat.le_refl 0, Nat.le_refl 0⟩ hf dX2_must_28
  · have hf := if_s hc hf
    refine lv_aload_n E.1 hb dX2_must_8 rfl (lv_at hl 0 rfl) ?_
    refine lv_iconst (v := 1) E.1 hb dX2_must_9 rfl ?_
    refine lv_aload_n E.1 hb dX2_must_10 rfl (lv_at hl 0 rfl) ?_
    refine c_gI (k := 2) (f := 302) E hb hS ci_3 (sK hS (by decide) rfl) rfl rfl rfl fk_X2_36_X2 (fun _ h => h) dX2_must_11 ?_
    obtain ⟨r4, A5, h1, hf⟩ := bd_s hf
    refine c_kq hS (va_runV ⟨E.1, hb, hml, E.2.1, E.2.2.1⟩ (zX2_wrong h1) (cwV 2 E.2.2.1 gw_X2_47 rfl rfl rfl ⟨rfl, gnX2_wrong⟩ ⟨Nat.le_of_ble_eq_true rfl, Nat.le_of_ble_eq_true rfl⟩) (c_preV E hS ci_3 (sK hS (by decide) rfl) (hS.1.lt (sK hS (by decide) rfl) rfl) _) rfl rfl hl.1 rfl (lv_room (Nat.le_of_ble_eq_true rfl)) dX2_must_14 ⟨Nat.le_refl 0, Nat.le_refl 0⟩) hS.2.2.2.2 (fun H locs hS hn => ?_)
    obtain ⟨q6, hr9, hf⟩ := bo_s hf
    refine c_dr hr9 ?_
    obtain ⟨hg, hf9⟩ := gu_s hf
    subst hg
    exact x_thr E hb hnx hlk hS ⟨Nat.le_refl 0, Nat.le_refl 0⟩ hf9 dX2_must_17
/-! MarginFolk$Reader.most(ZI)V: RW -/
noncomputable def X2_most (A0 : AH) (x1 : Int32) (x2 : Int32) : Option (Option Unit × AH) :=
  if x1 = 0 then (some (some (), A0)) else (bd (X2_wrong A0 5 x2) fun r1 A2 => bo r1 fun q3 => if q3 = 10 then some (none, A2) else none)
abbrev rX2_most : Room := { frames := 1, cells := 0, slots := 0, locals := 22 }
set_option maxHeartbeats 4000000 in
theorem zX2_most {l : Launch} {dC : Nat → ClassId} {dI : Nat → Nat → Nat} {ac : Nat → ClassId} {ad : Nat → Nat} {A0 : AH} {x1 : Int32} {x2 : Int32} {o : Option Unit} {A' : AH} (hf : X2_most A0 x1 x2 = some (o, A')) : vx_Met l yX2_most (ws_ yX2_most cX2_most 3 none) { frames := 1, cells := 0, slots := 0, locals := 22 } (va_Pc [.ref (ad 9), .int x1, .int x2] (cPre dC dI ac ad True A0)) (cQxv dC dI ac ad True (aN A0) (aS A0) (aN A0) (aS A0) o A') (cXC dC dI ac ad True (aN A0) (aS A0) (aN A0) (aS A0) o A') 0 0 (cF ad) := by
  unfold X2_most at hf
  refine c_ofx ⟨Nat.le_refl _, Nat.le_refl _⟩ RX2 (by decide) rfl (Nat.le_of_ble_eq_true rfl) ?_
  intro p e s m args below meth c E hb hr hlk hnm hml hnx hS ls hl
  have hl : lv_has ls 3 [(0, .ref (ad 9)), (1, .int x1), (2, .int x2)] := hl
  refine lv_iload_n E.1 hb dX2_most_0 rfl (lv_at hl 1 rfl) ?_
  refine lv_if_eq (tgt := 11) E.1 hb dX2_most_1 (by decide) (fun hc => ?_) (fun hc => ?_)
  · have hf := it_s hc hf
    exact x_vr E hb hr hlk hS ⟨Nat.le_refl 0, Nat.le_refl 0⟩ hf dX2_most_11
  · have hf := if_s hc hf
    refine lv_aload_n E.1 hb dX2_most_4 rfl (lv_at hl 0 rfl) ?_
    refine lv_iconst (v := 5) E.1 hb dX2_most_5 rfl ?_
    refine lv_iload_n E.1 hb dX2_most_6 rfl (lv_at hl 2 rfl) ?_
    obtain ⟨r1, A2, h1, hf⟩ := bd_s hf
    refine c_kq hS (va_runV ⟨E.1, hb, hml, E.2.1, E.2.2.1⟩ (zX2_wrong h1) (cwV 2 E.2.2.1 gw_X2_47 rfl rfl rfl ⟨rfl, gnX2_wrong⟩ ⟨Nat.le_of_ble_eq_true rfl, Nat.le_of_ble_eq_true rfl⟩) (c_preV E hS ci_3 (sK hS (by decide) rfl) (hS.1.lt (sK hS (by decide) rfl) rfl) _) rfl rfl hl.1 rfl (lv_room (Nat.le_of_ble_eq_true rfl)) dX2_most_7 ⟨Nat.le_refl 0, Nat.le_refl 0⟩) hS.2.2.2.2 (fun H locs hS hn => ?_)
    obtain ⟨q3, hr9, hf⟩ := bo_s hf
    refine c_dr hr9 ?_
    obtain ⟨hg, hf9⟩ := gu_s hf
    subst hg
    exact x_thr E hb hnx hlk hS ⟨Nat.le_refl 0, Nat.le_refl 0⟩ hf9 dX2_most_10
theorem fk_X2_100_X2 : FLk RX2 100 "MarginFolk$Reader" (TX2 6).2.1 (TX2 6).2.2.1 := Or.inl q384
theorem fk_X2_104_X1 : FLk RX2 104 "MarginFolk$Folio" (TX1 1).2.1 (TX1 1).2.2.1 := Or.inr ⟨_, q235⟩
/-! MarginFolk$Reader.leaf()I: RW -/
noncomputable def X2_leaf (N : Nat) (A0 : AH) : Option (Option Int32 × AH) :=
  bo (aR A0 306 9 0) fun q1 => bo (gI 2 A0 201 q1) fun v2 => bx (X2_number N A0 0 (v2 - 1)) fun r3 A4 => some (some r3, A4)
abbrev rX2_leaf : Room := { frames := 3, cells := 0, slots := 0, locals := 65 }
set_option maxHeartbeats 4000000 in
theorem zX2_leaf {l : Launch} {dC : Nat → ClassId} {dI : Nat → Nat → Nat} {ac : Nat → ClassId} {ad : Nat → Nat} {N : Nat} {A0 : AH} {o : Option Int32} {A' : AH} (hf : X2_leaf N A0 = some (o, A')) : vx_Met l yX2_leaf (ws_ yX2_leaf cX2_leaf 1 (some .int)) { frames := 3, cells := 0, slots := 0, locals := 65 } (va_Pc [.ref (ad 9)] (cPre dC dI ac ad True A0)) (cQxi dC dI ac ad True (aN A0) (aS A0) (aN A0) (aS A0) o A') (cXC dC dI ac ad True (aN A0) (aS A0) (aN A0) (aS A0) o A') 0 0 (cF ad) := by
  unfold X2_leaf at hf
  refine c_ofx ⟨Nat.le_refl _, Nat.le_refl _⟩ RX2 (by decide) rfl (Nat.le_of_ble_eq_true rfl) ?_
  intro p e s m args below meth c E hb hr hlk hnm hml hnx hS ls hl
  have hl : lv_has ls 1 [(0, .ref (ad 9))] := hl
  refine lv_aload_n E.1 hb dX2_leaf_0 rfl (lv_at hl 0 rfl) ?_
  refine lv_iconst (v := 0) E.1 hb dX2_leaf_1 rfl ?_
  refine lv_aload_n E.1 hb dX2_leaf_2 rfl (lv_at hl 0 rfl) ?_
  obtain ⟨q1, hr7, hf⟩ := bo_s hf
  refine c_gN (k := 6) (f := 306) E hb hS ci_3 (sK hS (by decide) rfl) rfl rfl rfl hr7 fk_X2_100_X2 (fun _ h => h) dX2_leaf_3 ?_
  obtain ⟨hk, hf⟩ := gI_s hf
  refine c_gI (k := 1) (f := 201) E hb hS ci_2 hk rfl rfl rfl fk_X2_104_X1 (fun _ h => h) dX2_leaf_6 ?_
  refine lv_iconst (v := 1) E.1 hb dX2_leaf_9 rfl ?_
  refine lv_isub E.1 hb dX2_leaf_10 ?_
  obtain ⟨o5, A4, h1, hf⟩ := bx_s hf
  refine x_ki hS (vx_runV ⟨E.1, hb, hml, E.2.1, E.2.2.1⟩ (zX2_number h1) (cwV 2 E.2.2.1 gw_X2_96 rfl rfl rfl ⟨rfl, gnX2_number⟩ ⟨Nat.le_of_ble_eq_true rfl, Nat.le_of_ble_eq_true rfl⟩) (c_preV E hS ci_3 (sK hS (by decide) rfl) (hS.1.lt (sK hS (by decide) rfl) rfl) _) rfl rfl hl.1 rfl (lv_room (Nat.le_of_ble_eq_true rfl)) dX2_leaf_11 ⟨Nat.le_refl 0, Nat.le_refl 0⟩) hS.2.2.2.2 (fun ho H locs hS hn => ?_) (fun r3 ho H locs hS hn => ?_)
  · subst ho
    exact x_out E hnx hlk hS ⟨Nat.le_refl 0, Nat.le_refl 0⟩ (xm_n hf)
  subst ho
  have hf := xm_s hf
  exact x_ir E hb hr hlk hS ⟨Nat.le_refl 0, Nat.le_refl 0⟩ hf dX2_leaf_14
/-! MarginFolk.has(II)Z: P -/
noncomputable def X0_has (x0 : Int32) (x1 : Int32) : Option Int32 :=
  if ((x0 >>> (x1 &&& 31)) &&& 1) = 1 then (some 1) else (some 0)
abbrev rX0_has : Room := { frames := 0, cells := 0, slots := 0, locals := 0 }
set_option maxHeartbeats 4000000 in
theorem zX0_has {l : Launch} {dC : Nat → ClassId} {dI : Nat → Nat → Nat} {ac : Nat → ClassId} {ad : Nat → Nat} {b : Prop} {A : AH} {x0 : Int32} {x1 : Int32} {r : Int32} (hf : X0_has x0 x1 = some r) : Met l yX0_has (ws_ yX0_has cX0_has 2 (some .boolean)) { frames := 0, cells := 0, slots := 0, locals := 0 } (va_Pc [.int x0, .int x1] (cPre dC dI ac ad b A)) (cQi dC dI ac ad b (aN A) (aS A) (aN A) (aS A) r A) 0 0 (cF ad) := by
  unfold X0_has at hf
  refine c_of ⟨Nat.le_refl _, Nat.le_refl _⟩ RX0 (plainFor_of_name (by decide)) rfl (Nat.le_of_ble_eq_true rfl) ?_
  intro p e s m args below meth c E hb hr hlk hnm hml hS ls hl
  have hl : lv_has ls 2 [(0, .int x0), (1, .int x1)] := hl
  refine lv_iload_n E.1 hb dX0_has_0 rfl (lv_at hl 0 rfl) ?_
  refine lv_iload_n E.1 hb dX0_has_1 rfl (lv_at hl 1 rfl) ?_
  refine lv_ishr E.1 hb dX0_has_2 ?_
  refine lv_iconst (v := 1) E.1 hb dX0_has_3 rfl ?_
  refine lv_iand E.1 hb dX0_has_4 ?_
  refine lv_iconst (v := 1) E.1 hb dX0_has_5 rfl ?_
  refine lv_icmp_ne (tgt := 13) E.1 hb dX0_has_6 (by decide) (fun hc => ?_) (fun hc => ?_)
  · have hf := if_s hc hf
    refine lv_iconst (v := 0) E.1 hb dX0_has_13 rfl ?_
    exact c_zr (ty := .boolean) E hb hr hlk hS ⟨Nat.le_refl 0, Nat.le_refl 0⟩ rfl (ro_s hf) dX0_has_14
  · have hf := it_s hc hf
    refine lv_iconst (v := 1) E.1 hb dX0_has_9 rfl ?_
    refine lv_goto (tgt := 14) E.1 hb dX0_has_10 (by decide) ?_
    exact c_zr (ty := .boolean) E hb hr hlk hS ⟨Nat.le_refl 0, Nat.le_refl 0⟩ rfl (ro_s hf) dX0_has_14
theorem gw_X1_33 : GoodIn lw_all (va_wsF RX1 33 "java/util/ArrayList" ⟨"java/util/List", "size", "()I"⟩ yJ2_size (ws_ yJ2_size cJ2_size 1 (some .int))) := lw_F q796 q800 q802 q156 q804
theorem gx_size : (⟨"java/util/List", "size", "()I"⟩ : MethodName).cls ≠ "java/lang/invoke/MethodHandle" ∧ (⟨"java/util/List", "size", "()I"⟩ : MethodName).cls ≠ "java/lang/invoke/VarHandle" ∧ (parseMethodDescriptor (⟨"java/util/List", "size", "()I"⟩ : MethodName).desc).map (fun d => d.parameters.length) = some 0 := by decide +kernel
theorem gw_X1_39 : GoodIn lw_all (va_wsF RX1 39 "java/util/ArrayList" ⟨"java/util/List", "get", "(I)Ljava/lang/Object;"⟩ yJ2_get (ws_ yJ2_get cJ2_get 2 (some (.object "java/lang/Object")))) := lw_F q806 q809 q811 q156 q813
theorem gx_get : (⟨"java/util/List", "get", "(I)Ljava/lang/Object;"⟩ : MethodName).cls ≠ "java/lang/invoke/MethodHandle" ∧ (⟨"java/util/List", "get", "(I)Ljava/lang/Object;"⟩ : MethodName).cls ≠ "java/lang/invoke/VarHandle" ∧ (parseMethodDescriptor (⟨"java/util/List", "get", "(I)Ljava/lang/Object;"⟩ : MethodName).desc).map (fun d => d.parameters.length) = some 1 := by decide +kernel
theorem fk_X1_59_X7 : FLk RX1 59 "MarginFolk$Being" (TX7 1).2.1 (TX7 1).2.2.1 := Or.inr ⟨_, q863⟩
theorem fk_X1_63_X7 : FLk RX1 63 "MarginFolk$Being" (TX7 2).2.1 (TX7 2).2.2.1 := Or.inr ⟨_, q866⟩
theorem gnX0_has : yX0_has.cls ≠ "java/lang/invoke/MethodHandle" ∧ yX0_has.cls ≠ "java/lang/invoke/VarHandle" ∧ (parseMethodDescriptor yX0_has.desc).map (fun d => d.parameters.length) = some 2 := by decide +kernel
/-! MarginFolk$Folio.isFree(II)Z: RO -/
noncomputable def X1_isFree_b72 (N : Nat) (x0 : Nat) (x1 : Int32) (x2 : Int32) (A : AH) (k17 : Int32 → Option Int32) (x3 : Int32) : Option Int32 :=
  k17 (x3 + 1)
noncomputable def X1_isFree_b17 (N : Nat) (x0 : Nat) (x1 : Int32) (x2 : Int32) (A : AH) (k17 : Int32 → Option Int32) (x3 : Int32) : Option Int32 :=
  bo (gN 2 A 210 x0) fun q4 => if aK A q4 = 18 then ( bo (J2_size A q4) fun r5 => if r5 ≤ x3 then (some 1) else (bo (gN 2 A 210 x0) fun q6 => if aK A q6 = 18 then ( bo (J2_get A q6 x3) fun r7 => bo r7 fun q8 => if aK A q8 = 7 then (bo (gI 7 A 701 q8) fun v9 => if v9 = x1 then (bo (gN 2 A 210 x0) fun q10 => if aK A q10 = 18 then ( bo (J2_get A q10 x3) fun r11 => bo r11 fun q12 => if aK A q12 = 7 then (bo (gI 7 A 702 q12) fun v13 => if v13 = x2 then (some 0) else (X1_isFree_b72 N x0 x1 x2 A k17 x3)) else none) else none) else (X1_isFree_b72 N x0 x1 x2 A k17 x3)) else none) else none)) else none
noncomputable def X1_isFree (N : Nat) (A : AH) (x0 : Nat) (x1 : Int32) (x2 : Int32) : Option Int32 :=
  bo (gN 2 A 206 x0) fun q1 => bo (dI_ 31 A q1 x1) fun v2 => bo (X0_has v2 x2) fun r3 => if r3 = 0 then (rn1 (X1_isFree_b17 N x0 x1 x2 A) N 0) else (some 0)
abbrev rX1_isFree : Room := { frames := 3, cells := 0, slots := 0, locals := 64 }
set_option maxHeartbeats 4000000 in
theorem zX1_isFree {l : Launch} {dC : Nat → ClassId} {dI : Nat → Nat → Nat} {ac : Nat → ClassId} {ad : Nat → Nat} {b : Prop} {N : Nat} {A : AH} {x0 : Nat} {x1 : Int32} {x2 : Int32} {r : Int32} (hf : X1_isFree N A x0 x1 x2 = some r) : Met l yX1_isFree (ws_ yX1_isFree cX1_isFree 4 (some .boolean)) { frames := 3, cells := 0, slots := 0, locals := 64 } (va_Pc [.ref (ad x0), .int x1, .int x2] (cPre dC dI ac ad b A)) (cQi dC dI ac ad b (aN A) (aS A) (aN A) (aS A) r A) 0 0 (cF ad) := by
  unfold X1_isFree at hf
  refine c_of ⟨Nat.le_refl _, Nat.le_refl _⟩ RX1 (plainFor_of_name (by decide)) rfl (Nat.le_of_ble_eq_true rfl) ?_
  intro p e s m args below meth c E hb hr hlk hnm hml hS ls hl
  have hl : lv_has ls 4 [(0, .ref (ad x0)), (1, .int x1), (2, .int x2)] := hl
  have hB72 : ∀ (k17 : Int32 → Option Int32) (hk17 : ∀ (x3 : Int32), k17 x3 = some r → ∀ (H : Heap) (locs : List Loc), cS dC dI ac ad b s.heap (aN A) (aS A) (aN A) (aS A) A H locs → ∀ (ls : Array Slot), lv_has ls 4 [(0, .ref (ad x0)), (1, .int x1), (2, .int x2), (3, .int x3)] → W p l e rX1_isFree s m args below meth c H locs 0 0 (MQ below (cQi dC dI ac ad b (aN A) (aS A) (aN A) (aS A) r A) args s 0 0 (cF ad)) (F0 m 17 ls [])) (x3 : Int32), X1_isFree_b72 N x0 x1 x2 A k17 x3 = some r → ∀ (H : Heap) (locs : List Loc), cS dC dI ac ad b s.heap (aN A) (aS A) (aN A) (aS A) A H locs → ∀ (ls : Array Slot), lv_has ls 4 [(0, .ref (ad x0)), (1, .int x1), (2, .int x2), (3, .int x3)] → W p l e rX1_isFree s m args below meth c H locs 0 0 (MQ below (cQi dC dI ac ad b (aN A) (aS A) (aN A) (aS A) r A) args s 0 0 (cF ad)) (F0 m 72 ls []) := by
    intro k17 hk17 x3 hf H locs hS ls hl
    unfold X1_isFree_b72 at hf
    refine lv_iinc (v := (x3 + 1)) (lv' := [(3, .int (x3 + 1)), (0, .ref (ad x0)), (1, .int x1), (2, .int x2)]) E.1 hb dX1_isFree_72 hl (k := 3) rfl rfl (by decide) rfl (fun ls hl => ?_)
    refine lv_goto (tgt := 17) E.1 hb dX1_isFree_75 (by decide) ?_
    exact hk17 (x3 + 1) hf _ _ hS _ (lv_sub hl [1, 2, 3, 0] rfl)
  have hL17 : ∀ (n : Nat) (x3 : Int32), rn1 (X1_isFree_b17 N x0 x1 x2 A) n x3 = some r → ∀ (H : Heap) (locs : List Loc), cS dC dI ac ad b s.heap (aN A) (aS A) (aN A) (aS A) A H locs → ∀ (ls : Array Slot), lv_has ls 4 [(0, .ref (ad x0)), (1, .int x1), (2, .int x2), (3, .int x3)] → W p l e rX1_isFree s m args below meth c H locs 0 0 (MQ below (cQi dC dI ac ad b (aN A) (aS A) (aN A) (aS A) r A) args s 0 0 (cF ad)) (F0 m 17 ls []) := by
    intro  n
    induction n with
    | zero =>
      intro x3 hf
      cases hf
    | succ n ih =>
      intro x3 hf H locs hS ls hl
      have hf : X1_isFree_b17 N x0 x1 x2 A (rn1 (X1_isFree_b17 N x0 x1 x2 A) n) x3 = some r := hf
      have hk17 := ih
      generalize rn1 (X1_isFree_b17 N x0 x1 x2 A) n = k17 at hf hk17
      unfold X1_isFree_b17 at hf
      refine lv_iload_n E.1 hb dX1_isFree_17 rfl (lv_at hl 3 rfl) ?_
      refine lv_aload_n E.1 hb dX1_isFree_18 rfl (lv_at hl 0 rfl) ?_
      obtain ⟨q4, hk, hf⟩ := gN_s hf
      refine c_gN (k := 10) (f := 210) E hb hS ci_2 hk.1 rfl rfl rfl hk.2 fk_X1_29_X1 (fun _ h => h) dX1_isFree_19 ?_
      obtain ⟨hkr, hf⟩ := gu_s hf
      obtain ⟨r5, h1, hf⟩ := bo_s hf
      refine c_kFi hS (va_runF (E.2.2.2.1.1 17 _ ci_18.1).2 ⟨E.1, hb, hml, E.2.1, E.2.2.1⟩ (zJ2_size h1) (va_cwF 0 E.2.2.1 gw_X1_33 rfl rfl rfl (cFw E 0 rfl) gx_size ⟨Nat.le_of_ble_eq_true rfl, Nat.le_of_ble_eq_true rfl⟩) (c_preV E hS ci_18 hkr (hS.1.lt hkr rfl) _) rfl rfl hl.1 rfl (lv_room (Nat.le_of_ble_eq_true rfl)) dX1_isFree_22 ⟨Nat.le_refl 0, Nat.le_refl 0⟩) hS.2.2.2.2 (fun H locs hS hn => ?_)
      refine lv_icmp_ge (tgt := 78) E.1 hb dX1_isFree_27 (by decide) (fun hc => ?_) (fun hc => ?_)
      · have hf := it_s hc hf
        refine lv_iconst (v := 1) E.1 hb dX1_isFree_78 rfl ?_
        exact c_zr (ty := .boolean) E hb hr hlk hS ⟨Nat.le_refl 0, Nat.le_refl 0⟩ rfl (ro_s hf) dX1_isFree_79
      · have hf := if_s hc hf
        refine lv_aload_n E.1 hb dX1_isFree_30 rfl (lv_at hl 0 rfl) ?_
        obtain ⟨q6, hk, hf⟩ := gN_s hf
        refine c_gN (k := 10) (f := 210) E hb hS ci_2 hk.1 rfl rfl rfl hk.2 fk_X1_29_X1 (fun _ h => h) dX1_isFree_31 ?_
        refine lv_iload_n E.1 hb dX1_isFree_34 rfl (lv_at hl 3 rfl) ?_
        obtain ⟨hkr, hf⟩ := gu_s hf
        obtain ⟨r7, h1, hf⟩ := bo_s hf
        refine c_kFq hS (va_runF (E.2.2.2.1.1 17 _ ci_18.1).2 ⟨E.1, hb, hml, E.2.1, E.2.2.1⟩ (zJ2_get h1) (va_cwF 1 E.2.2.1 gw_X1_39 rfl rfl rfl (cFw E 1 rfl) gx_get ⟨Nat.le_of_ble_eq_true rfl, Nat.le_of_ble_eq_true rfl⟩) (c_preV E hS ci_18 hkr (hS.1.lt hkr rfl) _) rfl rfl hl.1 rfl (lv_room (Nat.le_of_ble_eq_true rfl)) dX1_isFree_35 ⟨Nat.le_refl 0, Nat.le_refl 0⟩) hS.2.2.2.2 (fun H locs hS hn => ?_)
        obtain ⟨q8, hr9, hf⟩ := bo_s hf
        refine c_dr hr9 ?_
        obtain ⟨hg, hf⟩ := gu_s hf
        refine c_castS E hb hS ci_7 rfl hg q824 dX1_isFree_40 ?_
        obtain ⟨hk, hf⟩ := gI_s hf
        refine c_gI (k := 1) (f := 701) E hb hS ci_7 hk rfl rfl rfl fk_X1_59_X7 (fun _ h => h) dX1_isFree_43 ?_
        refine lv_iload_n E.1 hb dX1_isFree_46 rfl (lv_at hl 1 rfl) ?_
        refine lv_icmp_ne (tgt := 72) E.1 hb dX1_isFree_47 (by decide) (fun hc => ?_) (fun hc => ?_)
        · have hf := if_s hc hf
          exact hB72 k17 hk17 x3 hf _ _ hS _ (lv_sub hl [0, 1, 2, 3] rfl)
        · have hf := it_s hc hf
          refine lv_aload_n E.1 hb dX1_isFree_50 rfl (lv_at hl 0 rfl) ?_
          obtain ⟨q10, hk, hf⟩ := gN_s hf
          refine c_gN (k := 10) (f := 210) E hb hS ci_2 hk.1 rfl rfl rfl hk.2 fk_X1_29_X1 (fun _ h => h) dX1_isFree_51 ?_
          refine lv_iload_n E.1 hb dX1_isFree_54 rfl (lv_at hl 3 rfl) ?_
          obtain ⟨hkr, hf⟩ := gu_s hf
          obtain ⟨r11, h1, hf⟩ := bo_s hf
          refine c_kFq hS (va_runF (E.2.2.2.1.1 17 _ ci_18.1).2 ⟨E.1, hb, hml, E.2.1, E.2.2.1⟩ (zJ2_get h1) (va_cwF 1 E.2.2.1 gw_X1_39 rfl rfl rfl (cFw E 1 rfl) gx_get ⟨Nat.le_of_ble_eq_true rfl, Nat.le_of_ble_eq_true rfl⟩) (c_preV E hS ci_18 hkr (hS.1.lt hkr rfl) _) rfl rfl hl.1 rfl (lv_room (Nat.le_of_ble_eq_true rfl)) dX1_isFree_55 ⟨Nat.le_refl 0, Nat.le_refl 0⟩) hS.2.2.2.2 (fun H locs hS hn => ?_)
          obtain ⟨q12, hr9, hf⟩ := bo_s hf
          refine c_dr hr9 ?_
          obtain ⟨hg, hf⟩ := gu_s hf
          refine c_castS E hb hS ci_7 rfl hg q824 dX1_isFree_60 ?_
          obtain ⟨hk, hf⟩ := gI_s hf
          refine c_gI (k := 2) (f := 702) E hb hS ci_7 hk rfl rfl rfl fk_X1_63_X7 (fun _ h => h) dX1_isFree_63 ?_
          refine lv_iload_n E.1 hb dX1_isFree_66 rfl (lv_at hl 2 rfl) ?_
          refine lv_icmp_ne (tgt := 72) E.1 hb dX1_isFree_67 (by decide) (fun hc => ?_) (fun hc => ?_)
          · have hf := if_s hc hf
            exact hB72 k17 hk17 x3 hf _ _ hS _ (lv_sub hl [0, 1, 2, 3] rfl)
          · have hf := it_s hc hf
            refine lv_iconst (v := 0) E.1 hb dX1_isFree_70 rfl ?_
            exact c_zr (ty := .boolean) E hb hr hlk hS ⟨Nat.le_refl 0, Nat.le_refl 0⟩ rfl (ro_s hf) dX1_isFree_71
  refine lv_aload_n E.1 hb dX1_isFree_0 rfl (lv_at hl 0 rfl) ?_
  obtain ⟨q1, hk, hf⟩ := gN_s hf
  refine c_gN (k := 6) (f := 206) E hb hS ci_2 hk.1 rfl rfl rfl hk.2 fk_X1_9_X1 (fun _ h => h) dX1_isFree_1 ?_
  refine lv_iload_n E.1 hb dX1_isFree_4 rfl (lv_at hl 1 rfl) ?_
  obtain ⟨hg, hf⟩ := dI_s hf
  refine d_ld E hb hS hg rfl (Or.inl ⟨rfl, rfl⟩) dX1_isFree_5 ?_
  refine lv_iload_n E.1 hb dX1_isFree_6 rfl (lv_at hl 2 rfl) ?_
  obtain ⟨r3, h1, hf⟩ := bo_s hf
  refine c_ki hS (va_runSN ⟨E.1, hb, hml, E.2.1, E.2.2.1⟩ (zX0_has h1) ⟨va_cnB 2 E.2.2.1 (lw_meth q794) rfl rfl rfl (E.2.2.2.2.1 _ q792 rfl) (E.2.2.1 _ q152) gnX0_has ⟨Nat.le_of_ble_eq_true rfl, Nat.le_of_ble_eq_true rfl⟩, E.2.2.1 _ q793, trivial⟩ (c_preS E hS _) rfl rfl hl.1 rfl (lv_room (Nat.le_of_ble_eq_true rfl)) dX1_isFree_7 ⟨Nat.le_refl 0, Nat.le_refl 0⟩) hS.2.2.2.2 (fun H locs hS hn => ?_)
  refine lv_if_eq (tgt := 15) E.1 hb dX1_isFree_10 (by decide) (fun hc => ?_) (fun hc => ?_)
  · have hf := it_s hc hf
    refine lv_iconst (v := 0) E.1 hb dX1_isFree_15 rfl ?_
    refine lv_istore_n (lv' := [(3, .int 0), (0, .ref (ad x0)), (1, .int x1), (2, .int x2)]) E.1 hb dX1_isFree_16 rfl hl (by decide) rfl (fun ls hl => ?_)
    exact hL17 N 0 hf _ _ hS _ (lv_sub hl [1, 2, 3, 0] rfl)
  · have hf := if_s hc hf
    refine lv_iconst (v := 0) E.1 hb dX1_isFree_13 rfl ?_
    exact c_zr (ty := .boolean) E hb hr hlk hS ⟨Nat.le_refl 0, Nat.le_refl 0⟩ rfl (ro_s hf) dX1_isFree_14
theorem fk_X2_109_X1 : FLk RX2 109 "MarginFolk$Folio" (TX1 2).2.1 (TX1 2).2.2.1 := Or.inr ⟨_, q238⟩
theorem gw_X2_112 : GoodIn lw_all (wsV RX2 112 RX1 yX1_isFree (ws_ yX1_isFree cX1_isFree 4 (some .boolean))) := lw_V q788 q789 q790 q153 q791
theorem gnX1_isFree : yX1_isFree.cls ≠ "java/lang/invoke/MethodHandle" ∧ yX1_isFree.cls ≠ "java/lang/invoke/VarHandle" ∧ (parseMethodDescriptor yX1_isFree.desc).map (fun d => d.parameters.length) = some 2 := by decide +kernel
/-! MarginFolk$Reader.free(I)I: RW -/
noncomputable def X2_free (N : Nat) (A0 : AH) (x1 : Int32) : Option (Option Int32 × AH) :=
  bo (aR A0 306 9 0) fun q1 => bo (gI 2 A0 202 q1) fun v2 => bx (X2_number N A0 0 (v2 - 1)) fun r3 A4 => bo (aR A4 306 9 0) fun q6 => if aK A4 q6 = 2 then ( bo (X1_isFree N A4 q6 x1 r3) fun r7 => if r7 = 0 then (bd (X2_wrong A4 2 (aI A4 303 9 0)) fun r8 A9 => bo r8 fun q10 => if q10 = 10 then some (none, A9) else none) else (some (some r3, A4))) else none
abbrev rX2_free : Room := { frames := 4, cells := 0, slots := 0, locals := 87 }
set_option maxHeartbeats 4000000 in
theorem zX2_free {l : Launch} {dC : Nat → ClassId} {dI : Nat → Nat → Nat} {ac : Nat → ClassId} {ad : Nat → Nat} {N : Nat} {A0 : AH} {x1 : Int32} {o : Option Int32} {A' : AH} (hf : X2_free N A0 x1 = some (o, A')) : vx_Met l yX2_free (ws_ yX2_free cX2_free 3 (some .int)) { frames := 4, cells := 0, slots := 0, locals := 87 } (va_Pc [.ref (ad 9), .int x1] (cPre dC dI ac ad True A0)) (cQxi dC dI ac ad True (aN A0) (aS A0) (aN A0) (aS A0) o A') (cXC dC dI ac ad True (aN A0) (aS A0) (aN A0) (aS A0) o A') 0 0 (cF ad) := by
  unfold X2_free at hf
  refine c_ofx ⟨Nat.le_refl _, Nat.le_refl _⟩ RX2 (by decide) rfl (Nat.le_of_ble_eq_true rfl) ?_
  intro p e s m args below meth c E hb hr hlk hnm hml hnx hS ls hl
  have hl : lv_has ls 3 [(0, .ref (ad 9)), (1, .int x1)] := hl
  refine lv_aload_n E.1 hb dX2_free_0 rfl (lv_at hl 0 rfl) ?_
  refine lv_iconst (v := 0) E.1 hb dX2_free_1 rfl ?_
  refine lv_aload_n E.1 hb dX2_free_2 rfl (lv_at hl 0 rfl) ?_
  obtain ⟨q1, hr7, hf⟩ := bo_s hf
  refine c_gN (k := 6) (f := 306) E hb hS ci_3 (sK hS (by decide) rfl) rfl rfl rfl hr7 fk_X2_100_X2 (fun _ h => h) dX2_free_3 ?_
  obtain ⟨hk, hf⟩ := gI_s hf
  refine c_gI (k := 2) (f := 202) E hb hS ci_2 hk rfl rfl rfl fk_X2_109_X1 (fun _ h => h) dX2_free_6 ?_
  refine lv_iconst (v := 1) E.1 hb dX2_free_9 rfl ?_
  refine lv_isub E.1 hb dX2_free_10 ?_
  obtain ⟨o5, A4, h1, hf⟩ := bx_s hf
  refine x_ki hS (vx_runV ⟨E.1, hb, hml, E.2.1, E.2.2.1⟩ (zX2_number h1) (cwV 2 E.2.2.1 gw_X2_96 rfl rfl rfl ⟨rfl, gnX2_number⟩ ⟨Nat.le_of_ble_eq_true rfl, Nat.le_of_ble_eq_true rfl⟩) (c_preV E hS ci_3 (sK hS (by decide) rfl) (hS.1.lt (sK hS (by decide) rfl) rfl) _) rfl rfl hl.1 rfl (lv_room (Nat.le_of_ble_eq_true rfl)) dX2_free_11 ⟨Nat.le_refl 0, Nat.le_refl 0⟩) hS.2.2.2.2 (fun ho H locs hS hn => ?_) (fun r3 ho H locs hS hn => ?_)
  · subst ho
    exact x_out E hnx hlk hS ⟨Nat.le_refl 0, Nat.le_refl 0⟩ (xm_n hf)
  subst ho
  have hf := xm_s hf
  refine lv_istore_n (lv' := [(2, .int r3), (0, .ref (ad 9)), (1, .int x1)]) E.1 hb dX2_free_14 rfl hl (by decide) rfl (fun ls hl => ?_)
  refine lv_aload_n E.1 hb dX2_free_15 rfl (lv_at hl 1 rfl) ?_
  obtain ⟨q6, hr7, hf⟩ := bo_s hf
  refine c_gN (k := 6) (f := 306) E hb hS ci_3 (sK hS (by decide) rfl) rfl rfl rfl hr7 fk_X2_100_X2 (fun _ h => h) dX2_free_16 ?_
  refine lv_iload_n E.1 hb dX2_free_19 rfl (lv_at hl 2 rfl) ?_
  refine lv_iload_n E.1 hb dX2_free_20 rfl (lv_at hl 0 rfl) ?_
  obtain ⟨hkr, hf⟩ := gu_s hf
  obtain ⟨r7, h1, hf⟩ := bo_s hf
  refine c_ki hS (va_runV ⟨E.1, hb, hml, E.2.1, E.2.2.1⟩ (zX1_isFree h1) (cwV 2 E.2.2.1 gw_X2_112 rfl rfl rfl ⟨rfl, gnX1_isFree⟩ ⟨Nat.le_of_ble_eq_true rfl, Nat.le_of_ble_eq_true rfl⟩) (c_preV E hS ci_2 hkr (hS.1.lt hkr rfl) _) rfl rfl hl.1 rfl (lv_room (Nat.le_of_ble_eq_true rfl)) dX2_free_21 ⟨Nat.le_refl 0, Nat.le_refl 0⟩) hS.2.2.2.2 (fun H locs hS hn => ?_)
  refine lv_if_ne (tgt := 37) E.1 hb dX2_free_24 (by decide) (fun hc => ?_) (fun hc => ?_)
  · have hf := if_s hc hf
    refine lv_iload_n E.1 hb dX2_free_37 rfl (lv_at hl 0 rfl) ?_
    exact x_ir E hb hr hlk hS ⟨Nat.le_refl 0, Nat.le_refl 0⟩ hf dX2_free_38
  · have hf := it_s hc hf
    refine lv_aload_n E.1 hb dX2_free_27 rfl (lv_at hl 1 rfl) ?_
    refine lv_iconst (v := 2) E.1 hb dX2_free_28 rfl ?_
    refine lv_aload_n E.1 hb dX2_free_29 rfl (lv_at hl 1 rfl) ?_
    refine c_gI (k := 3) (f := 303) E hb hS ci_3 (sK hS (by decide) rfl) rfl rfl rfl fk_X2_61_X2 (fun _ h => h) dX2_free_30 ?_
    obtain ⟨r8, A9, h1, hf⟩ := bd_s hf
    refine c_kq hS (va_runV ⟨E.1, hb, hml, E.2.1, E.2.2.1⟩ (zX2_wrong h1) (cwV 2 E.2.2.1 gw_X2_47 rfl rfl rfl ⟨rfl, gnX2_wrong⟩ ⟨Nat.le_of_ble_eq_true rfl, Nat.le_of_ble_eq_true rfl⟩) (c_preV E hS ci_3 (sK hS (by decide) rfl) (hS.1.lt (sK hS (by decide) rfl) rfl) _) rfl rfl hl.1 rfl (lv_room (Nat.le_of_ble_eq_true rfl)) dX2_free_33 ⟨Nat.le_refl 0, Nat.le_refl 0⟩) hS.2.2.2.2 (fun H locs hS hn => ?_)
    obtain ⟨q10, hr9, hf⟩ := bo_s hf
    refine c_dr hr9 ?_
    obtain ⟨hg, hf9⟩ := gu_s hf
    subst hg
    exact x_thr E hb hnx hlk hS ⟨Nat.le_refl 0, Nat.le_refl 0⟩ hf9 dX2_free_36
theorem gw_X0_16 : GoodIn lw_all (wsV RX0 16 RJ6 yJ6_equals (ws_ yJ6_equals cJ6_equals 3 (some .boolean))) := lw_V q836 q694 q695 q165 q696
/-! MarginFolk.find(Ljava/lang/String;[Ljava/lang/String;)I: RO -/
noncomputable def X0_find_b2 (N : Nat) (x0 : Nat) (x1 : Nat) (A : AH) (k2 : Int32 → Option Int32) (x2 : Int32) : Option Int32 :=
  bo (aLn 40 A x1) fun v1 => if v1 ≤ x2 then (some (-1)) else (bo (dR_ 40 A x1 x2) fun q2 => if aK A q2 = 19 then ( bo (J6_equals N A q2 x0) fun r3 => if r3 = 0 then (k2 (x2 + 1)) else (some x2)) else none)
noncomputable def X0_find (N : Nat) (A : AH) (x0 : Nat) (x1 : Nat) : Option Int32 :=
  rn1 (X0_find_b2 N x0 x1 A) N 0
abbrev rX0_find : Room := { frames := 2, cells := 0, slots := 0, locals := 44 }
set_option maxHeartbeats 4000000 in
theorem zX0_find {l : Launch} {dC : Nat → ClassId} {dI : Nat → Nat → Nat} {ac : Nat → ClassId} {ad : Nat → Nat} {N : Nat} {A : AH} {x0 : Nat} {x1 : Nat} {r : Int32} (hf : X0_find N A x0 x1 = some r) : Met l yX0_find (ws_ yX0_find cX0_find 3 (some .int)) { frames := 2, cells := 0, slots := 0, locals := 44 } (va_Pc [.ref (ad x0), .ref (ad x1)] (cPre dC dI ac ad True A)) (cQi dC dI ac ad True (aN A) (aS A) (aN A) (aS A) r A) 0 0 (cF ad) := by
  unfold X0_find at hf
  refine c_of ⟨Nat.le_refl _, Nat.le_refl _⟩ RX0 (plainFor_of_name (by decide)) rfl (Nat.le_of_ble_eq_true rfl) ?_
  intro p e s m args below meth c E hb hr hlk hnm hml hS ls hl
  have hl : lv_has ls 3 [(0, .ref (ad x0)), (1, .ref (ad x1))] := hl
  have hL2 : ∀ (n : Nat) (x2 : Int32), rn1 (X0_find_b2 N x0 x1 A) n x2 = some r → ∀ (H : Heap) (locs : List Loc), cS dC dI ac ad True s.heap (aN A) (aS A) (aN A) (aS A) A H locs → ∀ (ls : Array Slot), lv_has ls 3 [(0, .ref (ad x0)), (1, .ref (ad x1)), (2, .int x2)] → W p l e rX0_find s m args below meth c H locs 0 0 (MQ below (cQi dC dI ac ad True (aN A) (aS A) (aN A) (aS A) r A) args s 0 0 (cF ad)) (F0 m 2 ls []) := by
    intro  n
    induction n with
    | zero =>
      intro x2 hf
      cases hf
    | succ n ih =>
      intro x2 hf H locs hS ls hl
      have hf : X0_find_b2 N x0 x1 A (rn1 (X0_find_b2 N x0 x1 A) n) x2 = some r := hf
      have hk2 := ih
      generalize rn1 (X0_find_b2 N x0 x1 A) n = k2 at hf hk2
      unfold X0_find_b2 at hf
      refine lv_iload_n E.1 hb dX0_find_2 rfl (lv_at hl 2 rfl) ?_
      refine lv_aload_n E.1 hb dX0_find_3 rfl (lv_at hl 1 rfl) ?_
      obtain ⟨hk, hf⟩ := aLn_s hf
      refine c_bln E hb hS hk (Or.inr rfl) dX0_find_4 ?_
      refine lv_icmp_ge (tgt := 26) E.1 hb dX0_find_5 (by decide) (fun hc => ?_) (fun hc => ?_)
      · have hf := it_s hc hf
        refine lv_iconst (v := (-1)) E.1 hb dX0_find_26 rfl ?_
        exact c_ir E hb hr hlk hS ⟨Nat.le_refl 0, Nat.le_refl 0⟩ (ro_s hf) dX0_find_27
      · have hf := if_s hc hf
        refine lv_aload_n E.1 hb dX0_find_8 rfl (lv_at hl 1 rfl) ?_
        refine lv_iload_n E.1 hb dX0_find_9 rfl (lv_at hl 2 rfl) ?_
        obtain ⟨q2, hg, hf⟩ := dR_s hf
        refine c_sld E hb hS hg dX0_find_10 ?_
        refine lv_aload_n E.1 hb dX0_find_11 rfl (lv_at hl 0 rfl) ?_
        obtain ⟨hkr, hf⟩ := gu_s hf
        obtain ⟨r3, h1, hf⟩ := bo_s hf
        refine c_ki hS (va_runV ⟨E.1, hb, hml, E.2.1, E.2.2.1⟩ (zJ6_equals h1) (cwV 1 E.2.2.1 gw_X0_16 rfl rfl rfl ⟨rfl, gnJ6_equals⟩ ⟨Nat.le_of_ble_eq_true rfl, Nat.le_of_ble_eq_true rfl⟩) (c_preVS E hS hkr _) rfl rfl hl.1 rfl (lv_room (Nat.le_of_ble_eq_true rfl)) dX0_find_12 ⟨Nat.le_refl 0, Nat.le_refl 0⟩) hS.2.2.2.2 (fun H locs hS hn => ?_)
        refine lv_if_eq (tgt := 20) E.1 hb dX0_find_15 (by decide) (fun hc => ?_) (fun hc => ?_)
        · have hf := it_s hc hf
          refine lv_iinc (v := (x2 + 1)) (lv' := [(2, .int (x2 + 1)), (0, .ref (ad x0)), (1, .ref (ad x1))]) E.1 hb dX0_find_20 hl (k := 2) rfl rfl (by decide) rfl (fun ls hl => ?_)
          refine lv_goto (tgt := 2) E.1 hb dX0_find_23 (by decide) ?_
          exact hk2 (x2 + 1) hf _ _ hS _ (lv_sub hl [1, 2, 0] rfl)
        · have hf := if_s hc hf
          refine lv_iload_n E.1 hb dX0_find_18 rfl (lv_at hl 2 rfl) ?_
          exact c_ir E hb hr hlk hS ⟨Nat.le_refl 0, Nat.le_refl 0⟩ (ro_s hf) dX0_find_19
  refine lv_iconst (v := 0) E.1 hb dX0_find_0 rfl ?_
  refine lv_istore_n (lv' := [(2, .int 0), (0, .ref (ad x0)), (1, .ref (ad x1))]) E.1 hb dX0_find_1 rfl hl (by decide) rfl (fun ls hl => ?_)
  exact hL2 N 0 hf _ _ hS _ (lv_sub hl [1, 2, 0] rfl)
theorem gnX0_find : yX0_find.cls ≠ "java/lang/invoke/MethodHandle" ∧ yX0_find.cls ≠ "java/lang/invoke/VarHandle" ∧ (parseMethodDescriptor yX0_find.desc).map (fun d => d.parameters.length) = some 2 := by decide +kernel
theorem gw_X2_86 : GoodIn lw_all (wsV RX2 86 RJ6 yJ6_length (ws_ yJ6_length cJ6_length 1 (some .int))) := lw_V q837 q838 q839 q165 q840
theorem gnJ6_length : yJ6_length.cls ≠ "java/lang/invoke/MethodHandle" ∧ yJ6_length.cls ≠ "java/lang/invoke/VarHandle" ∧ (parseMethodDescriptor yJ6_length.desc).map (fun d => d.parameters.length) = some 0 := by decide +kernel
/-! MarginFolk$Reader.name()Ljava/lang/String;: RW -/
noncomputable def X2_name (N : Nat) (A0 : AH) : Option (Option (Option Nat) × AH) :=
  ck A0 (bxa A0 (X2_word_2 N A0) fun r1 A2 => bo r1 fun q4 => bo (X0_find N A2 q4 (CB + 80)) fun r5 => if r5 = (-1) then (if aK A2 q4 = 19 then ( bo (J6_length A2 q4) fun r6 => if r6 ≤ 6 then (some (some (some q4), A2)) else (bd (X2_wrong A2 1 ((aI A2 303 9 0) + 6)) fun r7 A8 => bo r7 fun q9 => if q9 = 10 then some (none, A8) else none)) else none) else (bd (X2_wrong A2 1 (aI A2 303 9 0)) fun r10 A11 => bo r10 fun q12 => if q12 = 10 then some (none, A11) else none))
set_option maxHeartbeats 4000000 in
theorem zX2_name {l : Launch} {dC : Nat → ClassId} {dI : Nat → Nat → Nat} {ac : Nat → ClassId} {ad : Nat → Nat} {N : Nat} {A0 : AH} {o : Option (Option Nat)} {A' : AH} (hf : X2_name N A0 = some (o, A')) : vx_Met l yX2_name (ws_ yX2_name cX2_name 2 (some (.object "java/lang/String"))) { frames := 8, cells := aN A' - aN A0, slots := aS A' - aS A0, locals := 177 } (va_Pc [.ref (ad 9)] (cPre dC dI ac ad True A0)) (cQxq dC dI ac ad True (aN A0) (aS A0) (aN A') (aS A') o A') (cXC dC dI ac ad True (aN A0) (aS A0) (aN A') (aS A') o A') (aN A' - aN A0) (aS A' - aS A0) (cF ad) := by
  unfold X2_name at hf
  obtain ⟨hck0, hf⟩ := ck_s hf
  refine c_ofx hck0 RX2 (by decide) rfl (Nat.le_of_ble_eq_true rfl) ?_
  intro p e s m args below meth c E hb hr hlk hnm hml hnx hS ls hl
  have hl : lv_has ls 2 [(0, .ref (ad 9))] := hl
  have hcs : aN A0 + 0 ≤ aN A0 ∧ aS A0 + 0 ≤ aS A0 := ⟨Nat.le_refl _, Nat.le_refl _⟩
  refine lv_aload_n E.1 hb dX2_name_0 rfl (lv_at hl 0 rfl) ?_
  obtain ⟨o3, A2, h1, hge, hup, hf⟩ := bxa_s hf
  refine x_kq hS (vx_runV ⟨E.1, hb, hml, E.2.1, E.2.2.1⟩ (zX2_word_2 h1) (cwV 0 E.2.2.1 gw_X2_70 rfl rfl rfl ⟨rfl, gnX2_word_2⟩ ⟨Nat.le_of_ble_eq_true rfl, Nat.le_of_ble_eq_true rfl⟩) (c_preV E hS ci_3 (sK hS (by decide) rfl) (hS.1.lt (sK hS (by decide) rfl) rfl) _) rfl rfl hl.1 rfl (lv_room (Nat.le_of_ble_eq_true rfl)) dX2_name_1 (rm_a hcs hge hup)) hup (fun ho H locs hS hn => ?_) (fun r1 ho H locs hS hn => ?_)
  · subst ho
    have hcs := rm_a2 hcs hge
    exact x_out E hnx hlk hS (rm_e ⟨Nat.le_trans hcs.1 hS.2.2.2.2.1, Nat.le_trans hcs.2 hS.2.2.2.2.2⟩) (xm_n hf)
  subst ho
  have hcs := rm_a2 hcs hge
  have hf := xm_s hf
  obtain ⟨q4, hr9, hf⟩ := bo_s hf
  refine c_dr hr9 ?_
  refine lv_astore_n (lv' := [(1, .ref (ad q4)), (0, .ref (ad 9))]) E.1 hb dX2_name_4 rfl hl (by decide) rfl (fun ls hl => ?_)
  refine lv_aload_n E.1 hb dX2_name_5 rfl (lv_at hl 0 rfl) ?_
  refine c_gst E hb hS 1 rfl (Or.inr ⟨_, q831⟩) rfl dX2_name_6 ?_
  obtain ⟨r5, h1, hf⟩ := bo_s hf
  refine c_ki hS (va_runSN ⟨E.1, hb, hml, E.2.1, E.2.2.1⟩ (zX0_find h1) ⟨va_cnB 2 E.2.2.1 (lw_meth q835) rfl rfl rfl (E.2.2.2.2.1 _ q833 rfl) (E.2.2.1 _ q152) gnX0_find ⟨Nat.le_of_ble_eq_true rfl, Nat.le_of_ble_eq_true rfl⟩, E.2.2.1 _ q834, trivial⟩ (c_preS E hS _) rfl rfl hl.1 rfl (lv_room (Nat.le_of_ble_eq_true rfl)) dX2_name_9 (rm_n hcs hS.2.2.2.2)) hS.2.2.2.2 (fun H locs hS hn => ?_)
  have hcs := rm_n2 hcs hn
  refine lv_iconst (v := (-1)) E.1 hb dX2_name_12 rfl ?_
  refine lv_icmp_eq (tgt := 26) E.1 hb dX2_name_13 (by decide) (fun hc => ?_) (fun hc => ?_)
  · have hf := it_s hc hf
    refine lv_aload_n E.1 hb dX2_name_26 rfl (lv_at hl 0 rfl) ?_
    obtain ⟨hkr, hf⟩ := gu_s hf
    obtain ⟨r6, h1, hf⟩ := bo_s hf
    refine c_ki hS (va_runV ⟨E.1, hb, hml, E.2.1, E.2.2.1⟩ (zJ6_length h1) (cwV 0 E.2.2.1 gw_X2_86 rfl rfl rfl ⟨rfl, gnJ6_length⟩ ⟨Nat.le_of_ble_eq_true rfl, Nat.le_of_ble_eq_true rfl⟩) (c_preVS E hS hkr _) rfl rfl hl.1 rfl (lv_room (Nat.le_of_ble_eq_true rfl)) dX2_name_27 (rm_n hcs hS.2.2.2.2)) hS.2.2.2.2 (fun H locs hS hn => ?_)
    have hcs := rm_n2 hcs hn
    refine lv_bipush (v := 6) E.1 hb dX2_name_30 rfl ?_
    refine lv_icmp_le (tgt := 48) E.1 hb dX2_name_32 (by decide) (fun hc => ?_) (fun hc => ?_)
    · have hf := it_s hc hf
      refine lv_aload_n E.1 hb dX2_name_48 rfl (lv_at hl 0 rfl) ?_
      exact x_ar E hb hr (Or.inl ⟨_, rfl⟩) hlk hS (rm_e ⟨Nat.le_trans hcs.1 hS.2.2.2.2.1, Nat.le_trans hcs.2 hS.2.2.2.2.2⟩) (v := (some q4)) hf dX2_name_49
    · have hf := if_s hc hf
      refine lv_aload_n E.1 hb dX2_name_35 rfl (lv_at hl 1 rfl) ?_
      refine lv_iconst (v := 1) E.1 hb dX2_name_36 rfl ?_
      refine lv_aload_n E.1 hb dX2_name_37 rfl (lv_at hl 1 rfl) ?_
      refine c_gI (k := 3) (f := 303) E hb hS ci_3 (sK hS (by decide) rfl) rfl rfl rfl fk_X2_61_X2 (fun _ h => h) dX2_name_38 ?_
      refine lv_bipush (v := 6) E.1 hb dX2_name_41 rfl ?_
      refine lv_iadd E.1 hb dX2_name_43 ?_
      obtain ⟨r7, A8, h1, hf⟩ := bd_s hf
      refine c_kq hS (va_runV ⟨E.1, hb, hml, E.2.1, E.2.2.1⟩ (zX2_wrong h1) (cwV 2 E.2.2.1 gw_X2_47 rfl rfl rfl ⟨rfl, gnX2_wrong⟩ ⟨Nat.le_of_ble_eq_true rfl, Nat.le_of_ble_eq_true rfl⟩) (c_preV E hS ci_3 (sK hS (by decide) rfl) (hS.1.lt (sK hS (by decide) rfl) rfl) _) rfl rfl hl.1 rfl (lv_room (Nat.le_of_ble_eq_true rfl)) dX2_name_44 (rm_n hcs hS.2.2.2.2)) hS.2.2.2.2 (fun H locs hS hn => ?_)
      have hcs := rm_n2 hcs hn
      obtain ⟨q9, hr9, hf⟩ := bo_s hf
      refine c_dr hr9 ?_
      obtain ⟨hg, hf9⟩ := gu_s hf
      subst hg
      exact x_thr E hb hnx hlk hS (rm_e ⟨Nat.le_trans hcs.1 hS.2.2.2.2.1, Nat.le_trans hcs.2 hS.2.2.2.2.2⟩) hf9 dX2_name_47
  · have hf := if_s hc hf
    refine lv_aload_n E.1 hb dX2_name_16 rfl (lv_at hl 1 rfl) ?_
    refine lv_iconst (v := 1) E.1 hb dX2_name_17 rfl ?_
    refine lv_aload_n E.1 hb dX2_name_18 rfl (lv_at hl 1 rfl) ?_
    refine c_gI (k := 3) (f := 303) E hb hS ci_3 (sK hS (by decide) rfl) rfl rfl rfl fk_X2_61_X2 (fun _ h => h) dX2_name_19 ?_
    obtain ⟨r10, A11, h1, hf⟩ := bd_s hf
    refine c_kq hS (va_runV ⟨E.1, hb, hml, E.2.1, E.2.2.1⟩ (zX2_wrong h1) (cwV 2 E.2.2.1 gw_X2_47 rfl rfl rfl ⟨rfl, gnX2_wrong⟩ ⟨Nat.le_of_ble_eq_true rfl, Nat.le_of_ble_eq_true rfl⟩) (c_preV E hS ci_3 (sK hS (by decide) rfl) (hS.1.lt (sK hS (by decide) rfl) rfl) _) rfl rfl hl.1 rfl (lv_room (Nat.le_of_ble_eq_true rfl)) dX2_name_22 (rm_n hcs hS.2.2.2.2)) hS.2.2.2.2 (fun H locs hS hn => ?_)
    have hcs := rm_n2 hcs hn
    obtain ⟨q12, hr9, hf⟩ := bo_s hf
    refine c_dr hr9 ?_
    obtain ⟨hg, hf9⟩ := gu_s hf
    subst hg
    exact x_thr E hb hnx hlk hS (rm_e ⟨Nat.le_trans hcs.1 hS.2.2.2.2.1, Nat.le_trans hcs.2 hS.2.2.2.2.2⟩) hf9 dX2_name_25
theorem fk_X1_45_X7 : FLk RX1 45 "MarginFolk$Being" (TX7 0).2.1 (TX7 0).2.2.1 := Or.inr ⟨_, q860⟩
theorem gw_X1_49 : GoodIn lw_all (wsV RX1 49 RJ6 yJ6_equals (ws_ yJ6_equals cJ6_equals 3 (some .boolean))) := lw_V q849 q694 q695 q165 q696
/-! MarginFolk$Folio.find(Ljava/lang/String;)I: RO -/
noncomputable def X1_find_b2 (N : Nat) (x0 : Nat) (x1 : Nat) (A : AH) (k2 : Int32 → Option Int32) (x2 : Int32) : Option Int32 :=
  bo (gN 2 A 210 x0) fun q1 => if aK A q1 = 18 then ( bo (J2_size A q1) fun r2 => if r2 ≤ x2 then (some (-1)) else (bo (gN 2 A 210 x0) fun q3 => if aK A q3 = 18 then ( bo (J2_get A q3 x2) fun r4 => bo r4 fun q5 => if aK A q5 = 7 then (bo (gN 7 A 700 q5) fun q6 => if aK A q6 = 19 then ( bo (J6_equals N A q6 x1) fun r7 => if r7 = 0 then (k2 (x2 + 1)) else (some x2)) else none) else none) else none)) else none
noncomputable def X1_find (N : Nat) (A : AH) (x0 : Nat) (x1 : Nat) : Option Int32 :=
  rn1 (X1_find_b2 N x0 x1 A) N 0
abbrev rX1_find : Room := { frames := 3, cells := 0, slots := 0, locals := 64 }
set_option maxHeartbeats 4000000 in
theorem zX1_find {l : Launch} {dC : Nat → ClassId} {dI : Nat → Nat → Nat} {ac : Nat → ClassId} {ad : Nat → Nat} {b : Prop} {N : Nat} {A : AH} {x0 : Nat} {x1 : Nat} {r : Int32} (hf : X1_find N A x0 x1 = some r) : Met l yX1_find (ws_ yX1_find cX1_find 3 (some .int)) { frames := 3, cells := 0, slots := 0, locals := 64 } (va_Pc [.ref (ad x0), .ref (ad x1)] (cPre dC dI ac ad b A)) (cQi dC dI ac ad b (aN A) (aS A) (aN A) (aS A) r A) 0 0 (cF ad) := by
  unfold X1_find at hf
  refine c_of ⟨Nat.le_refl _, Nat.le_refl _⟩ RX1 (plainFor_of_name (by decide)) rfl (Nat.le_of_ble_eq_true rfl) ?_
  intro p e s m args below meth c E hb hr hlk hnm hml hS ls hl
  have hl : lv_has ls 3 [(0, .ref (ad x0)), (1, .ref (ad x1))] := hl
  have hL2 : ∀ (n : Nat) (x2 : Int32), rn1 (X1_find_b2 N x0 x1 A) n x2 = some r → ∀ (H : Heap) (locs : List Loc), cS dC dI ac ad b s.heap (aN A) (aS A) (aN A) (aS A) A H locs → ∀ (ls : Array Slot), lv_has ls 3 [(0, .ref (ad x0)), (1, .ref (ad x1)), (2, .int x2)] → W p l e rX1_find s m args below meth c H locs 0 0 (MQ below (cQi dC dI ac ad b (aN A) (aS A) (aN A) (aS A) r A) args s 0 0 (cF ad)) (F0 m 2 ls []) := by
    intro  n
    induction n with
    | zero =>
      intro x2 hf
      cases hf
    | succ n ih =>
      intro x2 hf H locs hS ls hl
      have hf : X1_find_b2 N x0 x1 A (rn1 (X1_find_b2 N x0 x1 A) n) x2 = some r := hf
      have hk2 := ih
      generalize rn1 (X1_find_b2 N x0 x1 A) n = k2 at hf hk2
      unfold X1_find_b2 at hf
      refine lv_iload_n E.1 hb dX1_find_2 rfl (lv_at hl 2 rfl) ?_
      refine lv_aload_n E.1 hb dX1_find_3 rfl (lv_at hl 0 rfl) ?_
      obtain ⟨q1, hk, hf⟩ := gN_s hf
      refine c_gN (k := 10) (f := 210) E hb hS ci_2 hk.1 rfl rfl rfl hk.2 fk_X1_29_X1 (fun _ h => h) dX1_find_4 ?_
      obtain ⟨hkr, hf⟩ := gu_s hf
      obtain ⟨r2, h1, hf⟩ := bo_s hf
      refine c_kFi hS (va_runF (E.2.2.2.1.1 17 _ ci_18.1).2 ⟨E.1, hb, hml, E.2.1, E.2.2.1⟩ (zJ2_size h1) (va_cwF 0 E.2.2.1 gw_X1_33 rfl rfl rfl (cFw E 0 rfl) gx_size ⟨Nat.le_of_ble_eq_true rfl, Nat.le_of_ble_eq_true rfl⟩) (c_preV E hS ci_18 hkr (hS.1.lt hkr rfl) _) rfl rfl hl.1 rfl (lv_room (Nat.le_of_ble_eq_true rfl)) dX1_find_7 ⟨Nat.le_refl 0, Nat.le_refl 0⟩) hS.2.2.2.2 (fun H locs hS hn => ?_)
      refine lv_icmp_ge (tgt := 46) E.1 hb dX1_find_12 (by decide) (fun hc => ?_) (fun hc => ?_)
      · have hf := it_s hc hf
        refine lv_iconst (v := (-1)) E.1 hb dX1_find_46 rfl ?_
        exact c_ir E hb hr hlk hS ⟨Nat.le_refl 0, Nat.le_refl 0⟩ (ro_s hf) dX1_find_47
      · have hf := if_s hc hf
        refine lv_aload_n E.1 hb dX1_find_15 rfl (lv_at hl 0 rfl) ?_
        obtain ⟨q3, hk, hf⟩ := gN_s hf
        refine c_gN (k := 10) (f := 210) E hb hS ci_2 hk.1 rfl rfl rfl hk.2 fk_X1_29_X1 (fun _ h => h) dX1_find_16 ?_
        refine lv_iload_n E.1 hb dX1_find_19 rfl (lv_at hl 2 rfl) ?_
        obtain ⟨hkr, hf⟩ := gu_s hf
        obtain ⟨r4, h1, hf⟩ := bo_s hf
        refine c_kFq hS (va_runF (E.2.2.2.1.1 17 _ ci_18.1).2 ⟨E.1, hb, hml, E.2.1, E.2.2.1⟩ (zJ2_get h1) (va_cwF 1 E.2.2.1 gw_X1_39 rfl rfl rfl (cFw E 1 rfl) gx_get ⟨Nat.le_of_ble_eq_true rfl, Nat.le_of_ble_eq_true rfl⟩) (c_preV E hS ci_18 hkr (hS.1.lt hkr rfl) _) rfl rfl hl.1 rfl (lv_room (Nat.le_of_ble_eq_true rfl)) dX1_find_20 ⟨Nat.le_refl 0, Nat.le_refl 0⟩) hS.2.2.2.2 (fun H locs hS hn => ?_)
        obtain ⟨q5, hr9, hf⟩ := bo_s hf
        refine c_dr hr9 ?_
        obtain ⟨hg, hf⟩ := gu_s hf
        refine c_castS E hb hS ci_7 rfl hg q824 dX1_find_25 ?_
        obtain ⟨q6, hk, hf⟩ := gN_s hf
        refine c_gN (k := 0) (f := 700) E hb hS ci_7 hk.1 rfl rfl rfl hk.2 fk_X1_45_X7 (fun _ h => h) dX1_find_28 ?_
        refine lv_aload_n E.1 hb dX1_find_31 rfl (lv_at hl 1 rfl) ?_
        obtain ⟨hkr, hf⟩ := gu_s hf
        obtain ⟨r7, h1, hf⟩ := bo_s hf
        refine c_ki hS (va_runV ⟨E.1, hb, hml, E.2.1, E.2.2.1⟩ (zJ6_equals h1) (cwV 1 E.2.2.1 gw_X1_49 rfl rfl rfl ⟨rfl, gnJ6_equals⟩ ⟨Nat.le_of_ble_eq_true rfl, Nat.le_of_ble_eq_true rfl⟩) (c_preVS E hS hkr _) rfl rfl hl.1 rfl (lv_room (Nat.le_of_ble_eq_true rfl)) dX1_find_32 ⟨Nat.le_refl 0, Nat.le_refl 0⟩) hS.2.2.2.2 (fun H locs hS hn => ?_)
        refine lv_if_eq (tgt := 40) E.1 hb dX1_find_35 (by decide) (fun hc => ?_) (fun hc => ?_)
        · have hf := it_s hc hf
          refine lv_iinc (v := (x2 + 1)) (lv' := [(2, .int (x2 + 1)), (0, .ref (ad x0)), (1, .ref (ad x1))]) E.1 hb dX1_find_40 hl (k := 2) rfl rfl (by decide) rfl (fun ls hl => ?_)
          refine lv_goto (tgt := 2) E.1 hb dX1_find_43 (by decide) ?_
          exact hk2 (x2 + 1) hf _ _ hS _ (lv_sub hl [1, 2, 0] rfl)
        · have hf := if_s hc hf
          refine lv_iload_n E.1 hb dX1_find_38 rfl (lv_at hl 2 rfl) ?_
          exact c_ir E hb hr hlk hS ⟨Nat.le_refl 0, Nat.le_refl 0⟩ (ro_s hf) dX1_find_39
  refine lv_iconst (v := 0) E.1 hb dX1_find_0 rfl ?_
  refine lv_istore_n (lv' := [(2, .int 0), (0, .ref (ad x0)), (1, .ref (ad x1))]) E.1 hb dX1_find_1 rfl hl (by decide) rfl (fun ls hl => ?_)
  exact hL2 N 0 hf _ _ hS _ (lv_sub hl [1, 2, 0] rfl)
theorem fk_X7_7_X7 : FLk RX7 7 "MarginFolk$Being" (TX7 0).2.1 (TX7 0).2.2.1 := Or.inl q859
theorem fk_X7_13_X7 : FLk RX7 13 "MarginFolk$Being" (TX7 1).2.1 (TX7 1).2.2.1 := Or.inl q861
theorem fk_X7_17_X7 : FLk RX7 17 "MarginFolk$Being" (TX7 2).2.1 (TX7 2).2.2.1 := Or.inl q864
theorem fk_X7_20_X7 : FLk RX7 20 "MarginFolk$Being" (TX7 3).2.1 (TX7 3).2.2.1 := Or.inl q867
/-! MarginFolk$Being.<init>(Ljava/lang/String;III)V: RW -/
noncomputable def X7_init (A0 : AH) (x0 : Nat) (x1 : Nat) (x2 : Int32) (x3 : Int32) (x4 : Int32) : Option (Unit × AH) :=
  bo (pR 7 A0 700 x0 (some x1)) fun A1 => bo (pI 7 A1 701 x0 x2) fun A2 => bo (pI 7 A2 702 x0 x3) fun A3 => bo (pI 7 A3 703 x0 x4) fun A4 => some ((), A4)
abbrev rX7_init : Room := { frames := 1, cells := 0, slots := 0, locals := 20 }
set_option maxHeartbeats 4000000 in
theorem zX7_init {l : Launch} {dC : Nat → ClassId} {dI : Nat → Nat → Nat} {ac : Nat → ClassId} {ad : Nat → Nat} {b : Prop} {A0 : AH} {x0 : Nat} {x1 : Nat} {x2 : Int32} {x3 : Int32} {x4 : Int32} {A' : AH} (hf : X7_init A0 x0 x1 x2 x3 x4 = some ((), A')) : Met l yX7_init (ws_ yX7_init cX7_init 5 none) { frames := 1, cells := 0, slots := 0, locals := 20 } (va_Pc [.ref (ad x0), .ref (ad x1), .int x2, .int x3, .int x4] (cPre dC dI ac ad b A0)) (cQv dC dI ac ad b (aN A0) (aS A0) (aN A0) (aS A0) A') 0 0 (cF ad) := by
  unfold X7_init at hf
  refine c_of ⟨Nat.le_refl _, Nat.le_refl _⟩ RX7 (plainFor_of_name (by decide)) rfl (Nat.le_of_ble_eq_true rfl) ?_
  intro p e s m args below meth c E hb hr hlk hnm hml hS ls hl
  have hl : lv_has ls 5 [(0, .ref (ad x0)), (1, .ref (ad x1)), (2, .int x2), (3, .int x3), (4, .int x4)] := hl
  refine lv_aload_n E.1 hb dX7_init_0 rfl (lv_at hl 0 rfl) ?_
  refine W.objInit E.1 hb E.2.1 (E.2.2.1 _ q858) (E.2.2.1 _ q196) (E.2.2.1 _ q197) rfl (by rw [hml]; exact hl.1) rfl dX7_init_1 (Nat.le_of_ble_eq_true rfl) (Nat.le_of_ble_eq_true rfl) ?_
  refine W.eq (g2 := F0 m 4 ls []) rfl ?_
  refine lv_aload_n E.1 hb dX7_init_4 rfl (lv_at hl 0 rfl) ?_
  refine lv_aload_n E.1 hb dX7_init_5 rfl (lv_at hl 1 rfl) ?_
  obtain ⟨A1, hk, hw, hf⟩ := pR_s hf
  refine c_pR (k := 0) (f := 700) (r := (some x1)) E hb hS ci_7 hk (hS.1.lt hk rfl) rfl rfl (fun _ => rfl) (Or.inr ⟨hnm, rfl, rfl, q859⟩) fk_X7_7_X7 (fun _ h => h) (fun q => by cases q <;> exact ⟨rfl, rfl⟩) hw dX7_init_6 (fun H locs hS => ?_)
  refine lv_aload_n E.1 hb dX7_init_9 rfl (lv_at hl 0 rfl) ?_
  refine lv_iload_n E.1 hb dX7_init_10 rfl (lv_at hl 2 rfl) ?_
  obtain ⟨A2, hk, hw, hf⟩ := pI_s hf
  refine c_pI (k := 1) (f := 701) E hb hS ci_7 hk (hS.1.lt hk rfl) rfl rfl (Or.inr ⟨hnm, rfl, rfl, q861⟩) fk_X7_13_X7 (fun _ h => h) rfl rfl hw dX7_init_11 (fun H locs hS => ?_)
  refine lv_aload_n E.1 hb dX7_init_14 rfl (lv_at hl 0 rfl) ?_
  refine lv_iload_n E.1 hb dX7_init_15 rfl (lv_at hl 3 rfl) ?_
  obtain ⟨A3, hk, hw, hf⟩ := pI_s hf
  refine c_pI (k := 2) (f := 702) E hb hS ci_7 hk (hS.1.lt hk rfl) rfl rfl (Or.inr ⟨hnm, rfl, rfl, q864⟩) fk_X7_17_X7 (fun _ h => h) rfl rfl hw dX7_init_16 (fun H locs hS => ?_)
  refine lv_aload_n E.1 hb dX7_init_19 rfl (lv_at hl 0 rfl) ?_
  refine lv_iload E.1 hb dX7_init_20 (lv_at hl 4 rfl) ?_
  obtain ⟨A4, hk, hw, hf⟩ := pI_s hf
  refine c_pI (k := 3) (f := 703) E hb hS ci_7 hk (hS.1.lt hk rfl) rfl rfl (Or.inr ⟨hnm, rfl, rfl, q867⟩) fk_X7_20_X7 (fun _ h => h) rfl rfl hw dX7_init_22 (fun H locs hS => ?_)
  exact c_vr E hb hr hlk hS ⟨Nat.le_refl 0, Nat.le_refl 0⟩ hf dX7_init_25
theorem gw_X2_133 : GoodIn lw_all (wsV RX2 133 RX2 yX2_most (ws_ yX2_most cX2_most 3 none)) := lw_V q716 q718 qs13 q157 q719
theorem gnX2_most : yX2_most.cls ≠ "java/lang/invoke/MethodHandle" ∧ yX2_most.cls ≠ "java/lang/invoke/VarHandle" ∧ (parseMethodDescriptor yX2_most.desc).map (fun d => d.parameters.length) = some 2 := by decide +kernel
theorem gw_X2_157 : GoodIn lw_all (wsV RX2 157 RX2 yX2_leaf (ws_ yX2_leaf cX2_leaf 1 (some .int))) := lw_V q780 q782 qs15 q157 q783
theorem gnX2_leaf : yX2_leaf.cls ≠ "java/lang/invoke/MethodHandle" ∧ yX2_leaf.cls ≠ "java/lang/invoke/VarHandle" ∧ (parseMethodDescriptor yX2_leaf.desc).map (fun d => d.parameters.length) = some 0 := by decide +kernel
theorem fk_X2_160_X1 : FLk RX2 160 "MarginFolk$Folio" (TX1 6).2.1 (TX1 6).2.2.1 := Or.inr ⟨_, q247⟩
theorem gw_X2_163 : GoodIn lw_all (wsV RX2 163 RX2 yX2_free (ws_ yX2_free cX2_free 3 (some .int))) := lw_V q784 q786 qs16 q157 q787
theorem gnX2_free : yX2_free.cls ≠ "java/lang/invoke/MethodHandle" ∧ yX2_free.cls ≠ "java/lang/invoke/VarHandle" ∧ (parseMethodDescriptor yX2_free.desc).map (fun d => d.parameters.length) = some 1 := by decide +kernel
theorem fk_X2_154_X1 : FLk RX2 154 "MarginFolk$Folio" (TX1 3).2.1 (TX1 3).2.2.1 := Or.inr ⟨_, q240⟩
theorem fk_X2_169_X1 : FLk RX2 169 "MarginFolk$Folio" (TX1 7).2.1 (TX1 7).2.2.1 := Or.inr ⟨_, q249⟩
theorem fk_X2_166_X1 : FLk RX2 166 "MarginFolk$Folio" (TX1 4).2.1 (TX1 4).2.2.1 := Or.inr ⟨_, q241⟩
theorem fk_X2_172_X1 : FLk RX2 172 "MarginFolk$Folio" (TX1 8).2.1 (TX1 8).2.2.1 := Or.inr ⟨_, q252⟩
theorem fk_X2_175_X1 : FLk RX2 175 "MarginFolk$Folio" (TX1 9).2.1 (TX1 9).2.2.1 := Or.inr ⟨_, q255⟩
theorem gw_X2_186 : GoodIn lw_all (wsV RX2 186 RX2 yX2_name (ws_ yX2_name cX2_name 2 (some (.object "java/lang/String")))) := lw_V q827 q829 qs17 q157 q830
theorem gnX2_name : yX2_name.cls ≠ "java/lang/invoke/MethodHandle" ∧ yX2_name.cls ≠ "java/lang/invoke/VarHandle" ∧ (parseMethodDescriptor yX2_name.desc).map (fun d => d.parameters.length) = some 0 := by decide +kernel
theorem gw_X2_189 : GoodIn lw_all (wsV RX2 189 RX1 yX1_find (ws_ yX1_find cX1_find 3 (some .int))) := lw_V q845 q846 q847 q153 q848
theorem gnX1_find : yX1_find.cls ≠ "java/lang/invoke/MethodHandle" ∧ yX1_find.cls ≠ "java/lang/invoke/VarHandle" ∧ (parseMethodDescriptor yX1_find.desc).map (fun d => d.parameters.length) = some 1 := by decide +kernel
theorem fk_X2_178_X1 : FLk RX2 178 "MarginFolk$Folio" (TX1 10).2.1 (TX1 10).2.2.1 := Or.inr ⟨_, q259⟩
theorem gw_X2_123 : GoodIn lw_all (wsV RX2 123 RX2 yX2_number_2 (ws_ yX2_number_2 cX2_number_2 4 (some .int))) := lw_V q708 q710 qs11 q157 q711
theorem gnX2_number_2 : yX2_number_2.cls ≠ "java/lang/invoke/MethodHandle" ∧ yX2_number_2.cls ≠ "java/lang/invoke/VarHandle" ∧ (parseMethodDescriptor yX2_number_2.desc).map (fun d => d.parameters.length) = some 3 := by decide +kernel
theorem gnX7_init : yX7_init.cls ≠ "java/lang/invoke/MethodHandle" ∧ yX7_init.cls ≠ "java/lang/invoke/VarHandle" ∧ (parseMethodDescriptor yX7_init.desc).map (fun d => d.parameters.length) = some 4 := by decide +kernel
theorem gw_X2_202 : GoodIn lw_all (va_wsF RX2 202 "java/util/ArrayList" ⟨"java/util/List", "add", "(Ljava/lang/Object;)Z"⟩ yJ2_add (ws_ yJ2_add cJ2_add 2 (some .boolean))) := lw_F q880 q883 q885 q156 q887
theorem gx_add : (⟨"java/util/List", "add", "(Ljava/lang/Object;)Z"⟩ : MethodName).cls ≠ "java/lang/invoke/MethodHandle" ∧ (⟨"java/util/List", "add", "(Ljava/lang/Object;)Z"⟩ : MethodName).cls ≠ "java/lang/invoke/VarHandle" ∧ (parseMethodDescriptor (⟨"java/util/List", "add", "(Ljava/lang/Object;)Z"⟩ : MethodName).desc).map (fun d => d.parameters.length) = some 1 := by decide +kernel
theorem gw_X2_182 : GoodIn lw_all (va_wsF RX2 182 "java/util/ArrayList" ⟨"java/util/List", "size", "()I"⟩ yJ2_size (ws_ yJ2_size cJ2_size 1 (some .int))) := lw_F q826 q800 q802 q156 q804
theorem gw_X2_145 : GoodIn lw_all (wsV RX2 145 RJ6 yJ6_hashCode (ws_ yJ6_hashCode cJ6_hashCode 2 (some .int))) := lw_V q724 q725 q726 q165 q727
theorem gnJ6_hashCode : yJ6_hashCode.cls ≠ "java/lang/invoke/MethodHandle" ∧ yJ6_hashCode.cls ≠ "java/lang/invoke/VarHandle" ∧ (parseMethodDescriptor yJ6_hashCode.desc).map (fun d => d.parameters.length) = some 0 := by decide +kernel
/-! MarginFolk$Reader.places(Ljava/lang/String;I)Z: RW -/
noncomputable def X2_places_b134 (N : Nat) (x1 : Nat) (x2 : Int32) (A : AH) (y0 : Int32) : Option (Option Int32 × AH) :=
  bx (X2_most A y0 x2) fun _ A6 => bx (X2_leaf N A6) fun r8 A9 => bo (aR A9 306 9 0) fun q11 => bo (gN 2 A9 206 q11) fun q12 => bo (dI_ 31 A9 q12 r8) fun v13 => bx (X2_free N A9 r8) fun r14 A15 => bo (uI_ 31 A15 q12 r8 (v13 ||| (1 <<< (r14 &&& 31)))) fun A17 => bo (aR A17 306 9 0) fun q18 => bo (gI 2 A17 203 q18) fun v19 => bo (pI 2 A17 203 q18 (v19 + 1)) fun A20 => some (some 1, A20)
noncomputable def X2_places_b198 (N : Nat) (x1 : Nat) (x2 : Int32) (A : AH) (y0 : Int32) : Option (Option Int32 × AH) :=
  bx (X2_most A y0 x2) fun _ A23 => bx (X2_leaf N A23) fun r25 A26 => bx (X2_leaf N A26) fun r28 A29 => if r28 = r25 then (bd (X2_wrong A29 2 (aI A29 303 9 0)) fun r54 A55 => bo r54 fun q56 => if q56 = 10 then some (none, A55) else none) else (bo (aR A29 306 9 0) fun q31 => bo (gN 2 A29 207 q31) fun q32 => bo (aR A29 306 9 0) fun q33 => bo (gI 2 A29 204 q33) fun v34 => bo (uI_ 31 A29 q32 v34 r25) fun A35 => bo (aR A35 306 9 0) fun q36 => bo (gN 2 A35 208 q36) fun q37 => bo (aR A35 306 9 0) fun q38 => bo (gI 2 A35 204 q38) fun v39 => bo (uI_ 31 A35 q37 v39 r28) fun A40 => bo (aR A40 306 9 0) fun q41 => bo (gN 2 A40 209 q41) fun q42 => bo (aR A40 306 9 0) fun q43 => bo (gI 2 A40 204 q43) fun v44 => bo (aR A40 306 9 0) fun q45 => bo (gI 2 A40 202 q45) fun v46 => bx (X2_number N A40 0 (v46 - 1)) fun r47 A48 => bo (uI_ 31 A48 q42 v44 r47) fun A50 => bo (aR A50 306 9 0) fun q51 => bo (gI 2 A50 204 q51) fun v52 => bo (pI 2 A50 204 q51 (v52 + 1)) fun A53 => some (some 1, A53))
noncomputable def X2_places_b332 (N : Nat) (x1 : Nat) (x2 : Int32) (A : AH) (y0 : Int32) : Option (Option Int32 × AH) :=
  bx (X2_most A y0 x2) fun _ A60 => bxa A60 (X2_name N A60) fun r62 A63 => bo r62 fun q65 => bo (aR A63 306 9 0) fun q66 => if aK A63 q66 = 2 then ( bo (X1_find N A63 q66 q65) fun r67 => if r67 = (-1) then (bxa A63 (X2_word N A63 (CB + 5)) fun _ A68 => bx (X2_leaf N A68) fun r70 A71 => bxa A71 (X2_word N A71 (CB + 6)) fun _ A73 => bx (X2_free N A73 r70) fun r75 A76 => bo (aR A76 306 9 0) fun q78 => bo (gN 2 A76 210 q78) fun q79 => bo (nwO A76 7 4) fun A80 => ck A80 ( bxa A80 (X2_number_2 N A80 (CB + 7) 0 9) fun r81 A82 => bd (X7_init A82 (aN A76) q65 r70 r75 r81) fun _ A84 => if aK A84 q79 = 18 then ( bda A84 (J2_add A84 q79 (aN A76)) fun r85 A86 => some (some 1, A86)) else none)) else (bd (X2_wrong A63 3 (aI A63 303 9 0)) fun r87 A88 => bo r87 fun q89 => if q89 = 10 then some (none, A88) else none)) else none
noncomputable def X2_places_b86 (N : Nat) (x1 : Nat) (x2 : Int32) (A : AH) (x4 : Int32) : Option (Option Int32 × AH) :=
  if x4 = 0 then (bo (aR A 306 9 0) fun q4 => bo (gI 2 A 203 q4) fun v5 => if v5 = 20 then (X2_places_b134 N x1 x2 A 1) else (X2_places_b134 N x1 x2 A 0)) else (if x4 = 1 then (bo (aR A 306 9 0) fun q21 => bo (gI 2 A 204 q21) fun v22 => if v22 = 12 then (X2_places_b198 N x1 x2 A 1) else (X2_places_b198 N x1 x2 A 0)) else (if x4 = 2 then (bo (aR A 306 9 0) fun q57 => bo (gN 2 A 210 q57) fun q58 => if aK A q58 = 18 then ( bo (J2_size A q58) fun r59 => if r59 = 8 then (X2_places_b332 N x1 x2 A 1) else (X2_places_b332 N x1 x2 A 0)) else none) else (some (some 0, A))))
noncomputable def X2_places (N : Nat) (A0 : AH) (x1 : Nat) (x2 : Int32) : Option (Option Int32 × AH) :=
  ck A0 (if aK A0 x1 = 19 then ( bda A0 (J6_hashCode N A0 x1) fun r1 A2 => if r1 = 3655443 then (if aK A2 x1 = 19 then ( bo (J6_equals N A2 x1 (CB + 3)) fun r3 => if r3 = 0 then (X2_places_b86 N x1 x2 A2 (-1)) else (X2_places_b86 N x1 x2 A2 1)) else none) else (if r1 = 93618367 then (if aK A2 x1 = 19 then ( bo (J6_equals N A2 x1 (CB + 4)) fun r90 => if r90 = 0 then (X2_places_b86 N x1 x2 A2 (-1)) else (X2_places_b86 N x1 x2 A2 2)) else none) else (if r1 = 98450442 then (if aK A2 x1 = 19 then ( bo (J6_equals N A2 x1 (CB + 2)) fun r91 => if r91 = 0 then (X2_places_b86 N x1 x2 A2 (-1)) else (X2_places_b86 N x1 x2 A2 0)) else none) else (X2_places_b86 N x1 x2 A2 (-1))))) else none)
set_option maxHeartbeats 4000000 in
theorem zX2_places {l : Launch} {dC : Nat → ClassId} {dI : Nat → Nat → Nat} {ac : Nat → ClassId} {ad : Nat → Nat} {N : Nat} {A0 : AH} {x1 : Nat} {x2 : Int32} {o : Option Int32} {A' : AH} (hf : X2_places N A0 x1 x2 = some (o, A')) : vx_Met l yX2_places (ws_ yX2_places cX2_places 11 (some .boolean)) { frames := 10, cells := aN A' - aN A0, slots := aS A' - aS A0, locals := 221 } (va_Pc [.ref (ad 9), .ref (ad x1), .int x2] (cPre dC dI ac ad True A0)) (cQxi dC dI ac ad True (aN A0) (aS A0) (aN A') (aS A') o A') (cXC dC dI ac ad True (aN A0) (aS A0) (aN A') (aS A') o A') (aN A' - aN A0) (aS A' - aS A0) (cF ad) := by
  unfold X2_places at hf
  obtain ⟨hck0, hf⟩ := ck_s hf
  refine c_ofx hck0 RX2 (by decide) rfl (Nat.le_of_ble_eq_true rfl) ?_
  intro p e s m args below meth c E hb hr hlk hnm hml hnx hS ls hl
  have hl : lv_has ls 11 [(0, .ref (ad 9)), (1, .ref (ad x1)), (2, .int x2)] := hl
  have hcs : aN A0 + 0 ≤ aN A0 ∧ aS A0 + 0 ≤ aS A0 := ⟨Nat.le_refl _, Nat.le_refl _⟩
  have hB134 : ∀ (A : AH) (y0 : Int32), X2_places_b134 N x1 x2 A y0 = some (o, A') → ∀ (H : Heap) (locs : List Loc) (cells slots : Nat), aN A0 + cells ≤ aN A ∧ aS A0 + slots ≤ aS A →  cS dC dI ac ad True s.heap (aN A0) (aS A0) (aN A') (aS A') A H locs → ∀ (ls : Array Slot), lv_has ls 11 [(0, .ref (ad 9)), (1, .ref (ad x1)), (2, .int x2)] → W p l e { frames := 10, cells := aN A' - aN A0, slots := aS A' - aS A0, locals := 221 } s m args below meth c H locs cells slots (vx_MQ below (cQxi dC dI ac ad True (aN A0) (aS A0) (aN A') (aS A') o A') (cXC dC dI ac ad True (aN A0) (aS A0) (aN A') (aS A') o A') args s (aN A' - aN A0) (aS A' - aS A0) (cF ad)) (F0 m 134 ls [.int y0, .ref (ad 9)]) := by
    intro A y0 hf H locs cells slots hcs hS ls hl
    unfold X2_places_b134 at hf
    refine lv_iload_n E.1 hb dX2_places_134 rfl (lv_at hl 2 rfl) ?_
    obtain ⟨o7, A6, h1, hf⟩ := bx_s hf
    refine x_kv hS (vx_runV ⟨E.1, hb, hml, E.2.1, E.2.2.1⟩ (zX2_most h1) (cwV 2 E.2.2.1 gw_X2_133 rfl rfl rfl ⟨rfl, gnX2_most⟩ ⟨Nat.le_of_ble_eq_true rfl, Nat.le_of_ble_eq_true rfl⟩) (c_preV E hS ci_3 (sK hS (by decide) rfl) (hS.1.lt (sK hS (by decide) rfl) rfl) _) rfl rfl hl.1 rfl (lv_room (Nat.le_of_ble_eq_true rfl)) dX2_places_135 (rm_n hcs hS.2.2.2.2)) hS.2.2.2.2 (fun ho H locs hS hn => ?_) (fun _ ho H locs hS hn => ?_)
    · subst ho
      have hcs := rm_n2 hcs hn
      exact x_out E hnx hlk hS (rm_e ⟨Nat.le_trans hcs.1 hS.2.2.2.2.1, Nat.le_trans hcs.2 hS.2.2.2.2.2⟩) (xm_n hf)
    subst ho
    have hcs := rm_n2 hcs hn
    have hf := xm_s hf
    refine lv_aload_n E.1 hb dX2_places_138 rfl (lv_at hl 0 rfl) ?_
    obtain ⟨o10, A9, h1, hf⟩ := bx_s hf
    refine x_ki hS (vx_runV ⟨E.1, hb, hml, E.2.1, E.2.2.1⟩ (zX2_leaf h1) (cwV 0 E.2.2.1 gw_X2_157 rfl rfl rfl ⟨rfl, gnX2_leaf⟩ ⟨Nat.le_of_ble_eq_true rfl, Nat.le_of_ble_eq_true rfl⟩) (c_preV E hS ci_3 (sK hS (by decide) rfl) (hS.1.lt (sK hS (by decide) rfl) rfl) _) rfl rfl hl.1 rfl (lv_room (Nat.le_of_ble_eq_true rfl)) dX2_places_139 (rm_n hcs hS.2.2.2.2)) hS.2.2.2.2 (fun ho H locs hS hn => ?_) (fun r8 ho H locs hS hn => ?_)
    · subst ho
      have hcs := rm_n2 hcs hn
      exact x_out E hnx hlk hS (rm_e ⟨Nat.le_trans hcs.1 hS.2.2.2.2.1, Nat.le_trans hcs.2 hS.2.2.2.2.2⟩) (xm_n hf)
    subst ho
    have hcs := rm_n2 hcs hn
    have hf := xm_s hf
    refine lv_istore (lv' := [(5, .int r8), (0, .ref (ad 9)), (1, .ref (ad x1)), (2, .int x2)]) E.1 hb dX2_places_142 hl (by decide) rfl (fun ls hl => ?_)
    refine lv_aload_n E.1 hb dX2_places_144 rfl (lv_at hl 1 rfl) ?_
    obtain ⟨q11, hr7, hf⟩ := bo_s hf
    refine c_gN (k := 6) (f := 306) E hb hS ci_3 (sK hS (by decide) rfl) rfl rfl rfl hr7 fk_X2_100_X2 (fun _ h => h) dX2_places_145 ?_
    obtain ⟨q12, hk, hf⟩ := gN_s hf
    refine c_gN (k := 6) (f := 206) E hb hS ci_2 hk.1 rfl rfl rfl hk.2 fk_X2_160_X1 (fun _ h => h) dX2_places_148 ?_
    refine lv_iload E.1 hb dX2_places_151 (lv_at hl 0 rfl) ?_
    refine lv_dup2_11 E.1 hb dX2_places_153 rfl rfl ?_
    obtain ⟨hg, hf⟩ := dI_s hf
    refine d_ld E hb hS hg rfl (Or.inl ⟨rfl, rfl⟩) dX2_places_154 ?_
    refine lv_iconst (v := 1) E.1 hb dX2_places_155 rfl ?_
    refine lv_aload_n E.1 hb dX2_places_156 rfl (lv_at hl 1 rfl) ?_
    refine lv_iload E.1 hb dX2_places_157 (lv_at hl 0 rfl) ?_
    obtain ⟨o16, A15, h1, hf⟩ := bx_s hf
    refine x_ki hS (vx_runV ⟨E.1, hb, hml, E.2.1, E.2.2.1⟩ (zX2_free h1) (cwV 1 E.2.2.1 gw_X2_163 rfl rfl rfl ⟨rfl, gnX2_free⟩ ⟨Nat.le_of_ble_eq_true rfl, Nat.le_of_ble_eq_true rfl⟩) (c_preV E hS ci_3 (sK hS (by decide) rfl) (hS.1.lt (sK hS (by decide) rfl) rfl) _) rfl rfl hl.1 rfl (lv_room (Nat.le_of_ble_eq_true rfl)) dX2_places_159 (rm_n hcs hS.2.2.2.2)) hS.2.2.2.2 (fun ho H locs hS hn => ?_) (fun r14 ho H locs hS hn => ?_)
    · subst ho
      have hcs := rm_n2 hcs hn
      exact x_out E hnx hlk hS (rm_e ⟨Nat.le_trans hcs.1 hS.2.2.2.2.1, Nat.le_trans hcs.2 hS.2.2.2.2.2⟩) (xm_n hf)
    subst ho
    have hcs := rm_n2 hcs hn
    have hf := xm_s hf
    refine lv_ishl E.1 hb dX2_places_162 ?_
    refine lv_ior E.1 hb dX2_places_163 ?_
    obtain ⟨A17, hg, hw, hf⟩ := uI_s hf
    refine d_st E hb hS hg rfl (Or.inl ⟨rfl, rfl, rfl⟩) hw dX2_places_164 (fun H locs hS => ?_)
    have hcs := rm_w (A2 := A17) hcs (by rw [hw]; exact ⟨rfl, rfl⟩)
    refine lv_aload_n E.1 hb dX2_places_165 rfl (lv_at hl 1 rfl) ?_
    obtain ⟨q18, hr7, hf⟩ := bo_s hf
    refine c_gN (k := 6) (f := 306) E hb hS ci_3 (sK hS (by decide) rfl) rfl rfl rfl hr7 fk_X2_100_X2 (fun _ h => h) dX2_places_166 ?_
    refine lv_dup E.1 hb dX2_places_169 rfl ?_
    obtain ⟨hk, hf⟩ := gI_s hf
    refine c_gI (k := 3) (f := 203) E hb hS ci_2 hk rfl rfl rfl fk_X2_154_X1 (fun _ h => h) dX2_places_170 ?_
    refine lv_iconst (v := 1) E.1 hb dX2_places_173 rfl ?_
    refine lv_iadd E.1 hb dX2_places_174 ?_
    obtain ⟨A20, hk, hw, hf⟩ := pI_s hf
    refine c_pI (k := 3) (f := 203) E hb hS ci_2 hk (hS.1.lt hk rfl) rfl rfl (Or.inl rfl) fk_X2_154_X1 (fun _ h => h) rfl rfl hw dX2_places_175 (fun H locs hS => ?_)
    have hcs := rm_w (A2 := A20) hcs (by rw [hw]; exact ⟨rfl, rfl⟩)
    refine lv_iconst (v := 1) E.1 hb dX2_places_178 rfl ?_
    exact x_zr (ty := .boolean) E hb hr hlk hS (rm_e ⟨Nat.le_trans hcs.1 hS.2.2.2.2.1, Nat.le_trans hcs.2 hS.2.2.2.2.2⟩) rfl hf dX2_places_179
  have hB198 : ∀ (A : AH) (y0 : Int32), X2_places_b198 N x1 x2 A y0 = some (o, A') → ∀ (H : Heap) (locs : List Loc) (cells slots : Nat), aN A0 + cells ≤ aN A ∧ aS A0 + slots ≤ aS A →  cS dC dI ac ad True s.heap (aN A0) (aS A0) (aN A') (aS A') A H locs → ∀ (ls : Array Slot), lv_has ls 11 [(0, .ref (ad 9)), (1, .ref (ad x1)), (2, .int x2)] → W p l e { frames := 10, cells := aN A' - aN A0, slots := aS A' - aS A0, locals := 221 } s m args below meth c H locs cells slots (vx_MQ below (cQxi dC dI ac ad True (aN A0) (aS A0) (aN A') (aS A') o A') (cXC dC dI ac ad True (aN A0) (aS A0) (aN A') (aS A') o A') args s (aN A' - aN A0) (aS A' - aS A0) (cF ad)) (F0 m 198 ls [.int y0, .ref (ad 9)]) := by
    intro A y0 hf H locs cells slots hcs hS ls hl
    unfold X2_places_b198 at hf
    refine lv_iload_n E.1 hb dX2_places_198 rfl (lv_at hl 2 rfl) ?_
    obtain ⟨o24, A23, h1, hf⟩ := bx_s hf
    refine x_kv hS (vx_runV ⟨E.1, hb, hml, E.2.1, E.2.2.1⟩ (zX2_most h1) (cwV 2 E.2.2.1 gw_X2_133 rfl rfl rfl ⟨rfl, gnX2_most⟩ ⟨Nat.le_of_ble_eq_true rfl, Nat.le_of_ble_eq_true rfl⟩) (c_preV E hS ci_3 (sK hS (by decide) rfl) (hS.1.lt (sK hS (by decide) rfl) rfl) _) rfl rfl hl.1 rfl (lv_room (Nat.le_of_ble_eq_true rfl)) dX2_places_199 (rm_n hcs hS.2.2.2.2)) hS.2.2.2.2 (fun ho H locs hS hn => ?_) (fun _ ho H locs hS hn => ?_)
    · subst ho
      have hcs := rm_n2 hcs hn
      exact x_out E hnx hlk hS (rm_e ⟨Nat.le_trans hcs.1 hS.2.2.2.2.1, Nat.le_trans hcs.2 hS.2.2.2.2.2⟩) (xm_n hf)
    subst ho
    have hcs := rm_n2 hcs hn
    have hf := xm_s hf
    refine lv_aload_n E.1 hb dX2_places_202 rfl (lv_at hl 0 rfl) ?_
    obtain ⟨o27, A26, h1, hf⟩ := bx_s hf
    refine x_ki hS (vx_runV ⟨E.1, hb, hml, E.2.1, E.2.2.1⟩ (zX2_leaf h1) (cwV 0 E.2.2.1 gw_X2_157 rfl rfl rfl ⟨rfl, gnX2_leaf⟩ ⟨Nat.le_of_ble_eq_true rfl, Nat.le_of_ble_eq_true rfl⟩) (c_preV E hS ci_3 (sK hS (by decide) rfl) (hS.1.lt (sK hS (by decide) rfl) rfl) _) rfl rfl hl.1 rfl (lv_room (Nat.le_of_ble_eq_true rfl)) dX2_places_203 (rm_n hcs hS.2.2.2.2)) hS.2.2.2.2 (fun ho H locs hS hn => ?_) (fun r25 ho H locs hS hn => ?_)
    · subst ho
      have hcs := rm_n2 hcs hn
      exact x_out E hnx hlk hS (rm_e ⟨Nat.le_trans hcs.1 hS.2.2.2.2.1, Nat.le_trans hcs.2 hS.2.2.2.2.2⟩) (xm_n hf)
    subst ho
    have hcs := rm_n2 hcs hn
    have hf := xm_s hf
    refine lv_istore (lv' := [(6, .int r25), (0, .ref (ad 9)), (1, .ref (ad x1)), (2, .int x2)]) E.1 hb dX2_places_206 hl (by decide) rfl (fun ls hl => ?_)
    refine lv_aload_n E.1 hb dX2_places_208 rfl (lv_at hl 1 rfl) ?_
    obtain ⟨o30, A29, h1, hf⟩ := bx_s hf
    refine x_ki hS (vx_runV ⟨E.1, hb, hml, E.2.1, E.2.2.1⟩ (zX2_leaf h1) (cwV 0 E.2.2.1 gw_X2_157 rfl rfl rfl ⟨rfl, gnX2_leaf⟩ ⟨Nat.le_of_ble_eq_true rfl, Nat.le_of_ble_eq_true rfl⟩) (c_preV E hS ci_3 (sK hS (by decide) rfl) (hS.1.lt (sK hS (by decide) rfl) rfl) _) rfl rfl hl.1 rfl (lv_room (Nat.le_of_ble_eq_true rfl)) dX2_places_209 (rm_n hcs hS.2.2.2.2)) hS.2.2.2.2 (fun ho H locs hS hn => ?_) (fun r28 ho H locs hS hn => ?_)
    · subst ho
      have hcs := rm_n2 hcs hn
      exact x_out E hnx hlk hS (rm_e ⟨Nat.le_trans hcs.1 hS.2.2.2.2.1, Nat.le_trans hcs.2 hS.2.2.2.2.2⟩) (xm_n hf)
    subst ho
    have hcs := rm_n2 hcs hn
    have hf := xm_s hf
    refine lv_istore (lv' := [(7, .int r28), (6, .int r25), (0, .ref (ad 9)), (1, .ref (ad x1)), (2, .int x2)]) E.1 hb dX2_places_212 hl (by decide) rfl (fun ls hl => ?_)
    refine lv_iload E.1 hb dX2_places_214 (lv_at hl 0 rfl) ?_
    refine lv_iload E.1 hb dX2_places_216 (lv_at hl 1 rfl) ?_
    refine lv_icmp_ne (tgt := 231) E.1 hb dX2_places_218 (by decide) (fun hc => ?_) (fun hc => ?_)
    · have hf := if_s hc hf
      refine lv_aload_n E.1 hb dX2_places_231 rfl (lv_at hl 2 rfl) ?_
      obtain ⟨q31, hr7, hf⟩ := bo_s hf
      refine c_gN (k := 6) (f := 306) E hb hS ci_3 (sK hS (by decide) rfl) rfl rfl rfl hr7 fk_X2_100_X2 (fun _ h => h) dX2_places_232 ?_
      obtain ⟨q32, hk, hf⟩ := gN_s hf
      refine c_gN (k := 7) (f := 207) E hb hS ci_2 hk.1 rfl rfl rfl hk.2 fk_X2_169_X1 (fun _ h => h) dX2_places_235 ?_
      refine lv_aload_n E.1 hb dX2_places_238 rfl (lv_at hl 2 rfl) ?_
      obtain ⟨q33, hr7, hf⟩ := bo_s hf
      refine c_gN (k := 6) (f := 306) E hb hS ci_3 (sK hS (by decide) rfl) rfl rfl rfl hr7 fk_X2_100_X2 (fun _ h => h) dX2_places_239 ?_
      obtain ⟨hk, hf⟩ := gI_s hf
      refine c_gI (k := 4) (f := 204) E hb hS ci_2 hk rfl rfl rfl fk_X2_166_X1 (fun _ h => h) dX2_places_242 ?_
      refine lv_iload E.1 hb dX2_places_245 (lv_at hl 1 rfl) ?_
      obtain ⟨A35, hg, hw, hf⟩ := uI_s hf
      refine d_st E hb hS hg rfl (Or.inl ⟨rfl, rfl, rfl⟩) hw dX2_places_247 (fun H locs hS => ?_)
      have hcs := rm_w (A2 := A35) hcs (by rw [hw]; exact ⟨rfl, rfl⟩)
      refine lv_aload_n E.1 hb dX2_places_248 rfl (lv_at hl 2 rfl) ?_
      obtain ⟨q36, hr7, hf⟩ := bo_s hf
      refine c_gN (k := 6) (f := 306) E hb hS ci_3 (sK hS (by decide) rfl) rfl rfl rfl hr7 fk_X2_100_X2 (fun _ h => h) dX2_places_249 ?_
      obtain ⟨q37, hk, hf⟩ := gN_s hf
      refine c_gN (k := 8) (f := 208) E hb hS ci_2 hk.1 rfl rfl rfl hk.2 fk_X2_172_X1 (fun _ h => h) dX2_places_252 ?_
      refine lv_aload_n E.1 hb dX2_places_255 rfl (lv_at hl 2 rfl) ?_
      obtain ⟨q38, hr7, hf⟩ := bo_s hf
      refine c_gN (k := 6) (f := 306) E hb hS ci_3 (sK hS (by decide) rfl) rfl rfl rfl hr7 fk_X2_100_X2 (fun _ h => h) dX2_places_256 ?_
      obtain ⟨hk, hf⟩ := gI_s hf
      refine c_gI (k := 4) (f := 204) E hb hS ci_2 hk rfl rfl rfl fk_X2_166_X1 (fun _ h => h) dX2_places_259 ?_
      refine lv_iload E.1 hb dX2_places_262 (lv_at hl 0 rfl) ?_
      obtain ⟨A40, hg, hw, hf⟩ := uI_s hf
      refine d_st E hb hS hg rfl (Or.inl ⟨rfl, rfl, rfl⟩) hw dX2_places_264 (fun H locs hS => ?_)
      have hcs := rm_w (A2 := A40) hcs (by rw [hw]; exact ⟨rfl, rfl⟩)
      refine lv_aload_n E.1 hb dX2_places_265 rfl (lv_at hl 2 rfl) ?_
      obtain ⟨q41, hr7, hf⟩ := bo_s hf
      refine c_gN (k := 6) (f := 306) E hb hS ci_3 (sK hS (by decide) rfl) rfl rfl rfl hr7 fk_X2_100_X2 (fun _ h => h) dX2_places_266 ?_
      obtain ⟨q42, hk, hf⟩ := gN_s hf
      refine c_gN (k := 9) (f := 209) E hb hS ci_2 hk.1 rfl rfl rfl hk.2 fk_X2_175_X1 (fun _ h => h) dX2_places_269 ?_
      refine lv_aload_n E.1 hb dX2_places_272 rfl (lv_at hl 2 rfl) ?_
      obtain ⟨q43, hr7, hf⟩ := bo_s hf
      refine c_gN (k := 6) (f := 306) E hb hS ci_3 (sK hS (by decide) rfl) rfl rfl rfl hr7 fk_X2_100_X2 (fun _ h => h) dX2_places_273 ?_
      obtain ⟨hk, hf⟩ := gI_s hf
      refine c_gI (k := 4) (f := 204) E hb hS ci_2 hk rfl rfl rfl fk_X2_166_X1 (fun _ h => h) dX2_places_276 ?_
      refine lv_aload_n E.1 hb dX2_places_279 rfl (lv_at hl 2 rfl) ?_
      refine lv_iconst (v := 0) E.1 hb dX2_places_280 rfl ?_
      refine lv_aload_n E.1 hb dX2_places_281 rfl (lv_at hl 2 rfl) ?_
      obtain ⟨q45, hr7, hf⟩ := bo_s hf
      refine c_gN (k := 6) (f := 306) E hb hS ci_3 (sK hS (by decide) rfl) rfl rfl rfl hr7 fk_X2_100_X2 (fun _ h => h) dX2_places_282 ?_
      obtain ⟨hk, hf⟩ := gI_s hf
      refine c_gI (k := 2) (f := 202) E hb hS ci_2 hk rfl rfl rfl fk_X2_109_X1 (fun _ h => h) dX2_places_285 ?_
      refine lv_iconst (v := 1) E.1 hb dX2_places_288 rfl ?_
      refine lv_isub E.1 hb dX2_places_289 ?_
      obtain ⟨o49, A48, h1, hf⟩ := bx_s hf
      refine x_ki hS (vx_runV ⟨E.1, hb, hml, E.2.1, E.2.2.1⟩ (zX2_number h1) (cwV 2 E.2.2.1 gw_X2_96 rfl rfl rfl ⟨rfl, gnX2_number⟩ ⟨Nat.le_of_ble_eq_true rfl, Nat.le_of_ble_eq_true rfl⟩) (c_preV E hS ci_3 (sK hS (by decide) rfl) (hS.1.lt (sK hS (by decide) rfl) rfl) _) rfl rfl hl.1 rfl (lv_room (Nat.le_of_ble_eq_true rfl)) dX2_places_290 (rm_n hcs hS.2.2.2.2)) hS.2.2.2.2 (fun ho H locs hS hn => ?_) (fun r47 ho H locs hS hn => ?_)
      · subst ho
        have hcs := rm_n2 hcs hn
        exact x_out E hnx hlk hS (rm_e ⟨Nat.le_trans hcs.1 hS.2.2.2.2.1, Nat.le_trans hcs.2 hS.2.2.2.2.2⟩) (xm_n hf)
      subst ho
      have hcs := rm_n2 hcs hn
      have hf := xm_s hf
      obtain ⟨A50, hg, hw, hf⟩ := uI_s hf
      refine d_st E hb hS hg rfl (Or.inl ⟨rfl, rfl, rfl⟩) hw dX2_places_293 (fun H locs hS => ?_)
      have hcs := rm_w (A2 := A50) hcs (by rw [hw]; exact ⟨rfl, rfl⟩)
      refine lv_aload_n E.1 hb dX2_places_294 rfl (lv_at hl 2 rfl) ?_
      obtain ⟨q51, hr7, hf⟩ := bo_s hf
      refine c_gN (k := 6) (f := 306) E hb hS ci_3 (sK hS (by decide) rfl) rfl rfl rfl hr7 fk_X2_100_X2 (fun _ h => h) dX2_places_295 ?_
      refine lv_dup E.1 hb dX2_places_298 rfl ?_
      obtain ⟨hk, hf⟩ := gI_s hf
      refine c_gI (k := 4) (f := 204) E hb hS ci_2 hk rfl rfl rfl fk_X2_166_X1 (fun _ h => h) dX2_places_299 ?_
      refine lv_iconst (v := 1) E.1 hb dX2_places_302 rfl ?_
      refine lv_iadd E.1 hb dX2_places_303 ?_
      obtain ⟨A53, hk, hw, hf⟩ := pI_s hf
      refine c_pI (k := 4) (f := 204) E hb hS ci_2 hk (hS.1.lt hk rfl) rfl rfl (Or.inl rfl) fk_X2_166_X1 (fun _ h => h) rfl rfl hw dX2_places_304 (fun H locs hS => ?_)
      have hcs := rm_w (A2 := A53) hcs (by rw [hw]; exact ⟨rfl, rfl⟩)
      refine lv_iconst (v := 1) E.1 hb dX2_places_307 rfl ?_
      exact x_zr (ty := .boolean) E hb hr hlk hS (rm_e ⟨Nat.le_trans hcs.1 hS.2.2.2.2.1, Nat.le_trans hcs.2 hS.2.2.2.2.2⟩) rfl hf dX2_places_308
    · have hf := it_s hc hf
      refine lv_aload_n E.1 hb dX2_places_221 rfl (lv_at hl 2 rfl) ?_
      refine lv_iconst (v := 2) E.1 hb dX2_places_222 rfl ?_
      refine lv_aload_n E.1 hb dX2_places_223 rfl (lv_at hl 2 rfl) ?_
      refine c_gI (k := 3) (f := 303) E hb hS ci_3 (sK hS (by decide) rfl) rfl rfl rfl fk_X2_61_X2 (fun _ h => h) dX2_places_224 ?_
      obtain ⟨r54, A55, h1, hf⟩ := bd_s hf
      refine c_kq hS (va_runV ⟨E.1, hb, hml, E.2.1, E.2.2.1⟩ (zX2_wrong h1) (cwV 2 E.2.2.1 gw_X2_47 rfl rfl rfl ⟨rfl, gnX2_wrong⟩ ⟨Nat.le_of_ble_eq_true rfl, Nat.le_of_ble_eq_true rfl⟩) (c_preV E hS ci_3 (sK hS (by decide) rfl) (hS.1.lt (sK hS (by decide) rfl) rfl) _) rfl rfl hl.1 rfl (lv_room (Nat.le_of_ble_eq_true rfl)) dX2_places_227 (rm_n hcs hS.2.2.2.2)) hS.2.2.2.2 (fun H locs hS hn => ?_)
      have hcs := rm_n2 hcs hn
      obtain ⟨q56, hr9, hf⟩ := bo_s hf
      refine c_dr hr9 ?_
      obtain ⟨hg, hf9⟩ := gu_s hf
      subst hg
      exact x_thr E hb hnx hlk hS (rm_e ⟨Nat.le_trans hcs.1 hS.2.2.2.2.1, Nat.le_trans hcs.2 hS.2.2.2.2.2⟩) hf9 dX2_places_230
  have hB332 : ∀ (A : AH) (y0 : Int32), X2_places_b332 N x1 x2 A y0 = some (o, A') → ∀ (H : Heap) (locs : List Loc) (cells slots : Nat), aN A0 + cells ≤ aN A ∧ aS A0 + slots ≤ aS A →  cS dC dI ac ad True s.heap (aN A0) (aS A0) (aN A') (aS A') A H locs → ∀ (ls : Array Slot), lv_has ls 11 [(0, .ref (ad 9)), (1, .ref (ad x1)), (2, .int x2)] → W p l e { frames := 10, cells := aN A' - aN A0, slots := aS A' - aS A0, locals := 221 } s m args below meth c H locs cells slots (vx_MQ below (cQxi dC dI ac ad True (aN A0) (aS A0) (aN A') (aS A') o A') (cXC dC dI ac ad True (aN A0) (aS A0) (aN A') (aS A') o A') args s (aN A' - aN A0) (aS A' - aS A0) (cF ad)) (F0 m 332 ls [.int y0, .ref (ad 9)]) := by
    intro A y0 hf H locs cells slots hcs hS ls hl
    unfold X2_places_b332 at hf
    refine lv_iload_n E.1 hb dX2_places_332 rfl (lv_at hl 2 rfl) ?_
    obtain ⟨o61, A60, h1, hf⟩ := bx_s hf
    refine x_kv hS (vx_runV ⟨E.1, hb, hml, E.2.1, E.2.2.1⟩ (zX2_most h1) (cwV 2 E.2.2.1 gw_X2_133 rfl rfl rfl ⟨rfl, gnX2_most⟩ ⟨Nat.le_of_ble_eq_true rfl, Nat.le_of_ble_eq_true rfl⟩) (c_preV E hS ci_3 (sK hS (by decide) rfl) (hS.1.lt (sK hS (by decide) rfl) rfl) _) rfl rfl hl.1 rfl (lv_room (Nat.le_of_ble_eq_true rfl)) dX2_places_333 (rm_n hcs hS.2.2.2.2)) hS.2.2.2.2 (fun ho H locs hS hn => ?_) (fun _ ho H locs hS hn => ?_)
    · subst ho
      have hcs := rm_n2 hcs hn
      exact x_out E hnx hlk hS (rm_e ⟨Nat.le_trans hcs.1 hS.2.2.2.2.1, Nat.le_trans hcs.2 hS.2.2.2.2.2⟩) (xm_n hf)
    subst ho
    have hcs := rm_n2 hcs hn
    have hf := xm_s hf
    refine lv_aload_n E.1 hb dX2_places_336 rfl (lv_at hl 0 rfl) ?_
    obtain ⟨o64, A63, h1, hge, hup, hf⟩ := bxa_s hf
    refine x_kq hS (vx_runV ⟨E.1, hb, hml, E.2.1, E.2.2.1⟩ (zX2_name h1) (cwV 0 E.2.2.1 gw_X2_186 rfl rfl rfl ⟨rfl, gnX2_name⟩ ⟨Nat.le_of_ble_eq_true rfl, Nat.le_of_ble_eq_true rfl⟩) (c_preV E hS ci_3 (sK hS (by decide) rfl) (hS.1.lt (sK hS (by decide) rfl) rfl) _) rfl rfl hl.1 rfl (lv_room (Nat.le_of_ble_eq_true rfl)) dX2_places_337 (rm_a hcs hge hup)) hup (fun ho H locs hS hn => ?_) (fun r62 ho H locs hS hn => ?_)
    · subst ho
      have hcs := rm_a2 hcs hge
      exact x_out E hnx hlk hS (rm_e ⟨Nat.le_trans hcs.1 hS.2.2.2.2.1, Nat.le_trans hcs.2 hS.2.2.2.2.2⟩) (xm_n hf)
    subst ho
    have hcs := rm_a2 hcs hge
    have hf := xm_s hf
    obtain ⟨q65, hr9, hf⟩ := bo_s hf
    refine c_dr hr9 ?_
    refine lv_astore (lv' := [(8, .ref (ad q65)), (0, .ref (ad 9)), (1, .ref (ad x1)), (2, .int x2)]) E.1 hb dX2_places_340 hl (by decide) rfl (fun ls hl => ?_)
    refine lv_aload_n E.1 hb dX2_places_342 rfl (lv_at hl 1 rfl) ?_
    obtain ⟨q66, hr7, hf⟩ := bo_s hf
    refine c_gN (k := 6) (f := 306) E hb hS ci_3 (sK hS (by decide) rfl) rfl rfl rfl hr7 fk_X2_100_X2 (fun _ h => h) dX2_places_343 ?_
    refine lv_aload E.1 hb dX2_places_346 (lv_at hl 0 rfl) ?_
    obtain ⟨hkr, hf⟩ := gu_s hf
    obtain ⟨r67, h1, hf⟩ := bo_s hf
    refine c_ki hS (va_runV ⟨E.1, hb, hml, E.2.1, E.2.2.1⟩ (zX1_find h1) (cwV 1 E.2.2.1 gw_X2_189 rfl rfl rfl ⟨rfl, gnX1_find⟩ ⟨Nat.le_of_ble_eq_true rfl, Nat.le_of_ble_eq_true rfl⟩) (c_preV E hS ci_2 hkr (hS.1.lt hkr rfl) _) rfl rfl hl.1 rfl (lv_room (Nat.le_of_ble_eq_true rfl)) dX2_places_348 (rm_n hcs hS.2.2.2.2)) hS.2.2.2.2 (fun H locs hS hn => ?_)
    have hcs := rm_n2 hcs hn
    refine lv_iconst (v := (-1)) E.1 hb dX2_places_351 rfl ?_
    refine lv_icmp_eq (tgt := 365) E.1 hb dX2_places_352 (by decide) (fun hc => ?_) (fun hc => ?_)
    · have hf := it_s hc hf
      refine lv_aload_n E.1 hb dX2_places_365 rfl (lv_at hl 1 rfl) ?_
      refine c_ldc E hb 5 rfl dX2_places_366 ?_
      obtain ⟨o69, A68, h1, hge, hup, hf⟩ := bxa_s hf
      refine x_kv hS (vx_runV ⟨E.1, hb, hml, E.2.1, E.2.2.1⟩ (zX2_word h1) (cwV 1 E.2.2.1 gw_X2_93 rfl rfl rfl ⟨rfl, gnX2_word⟩ ⟨Nat.le_of_ble_eq_true rfl, Nat.le_of_ble_eq_true rfl⟩) (c_preV E hS ci_3 (sK hS (by decide) rfl) (hS.1.lt (sK hS (by decide) rfl) rfl) _) rfl rfl hl.1 rfl (lv_room (Nat.le_of_ble_eq_true rfl)) dX2_places_368 (rm_a hcs hge hup)) hup (fun ho H locs hS hn => ?_) (fun _ ho H locs hS hn => ?_)
      · subst ho
        have hcs := rm_a2 hcs hge
        exact x_out E hnx hlk hS (rm_e ⟨Nat.le_trans hcs.1 hS.2.2.2.2.1, Nat.le_trans hcs.2 hS.2.2.2.2.2⟩) (xm_n hf)
      subst ho
      have hcs := rm_a2 hcs hge
      have hf := xm_s hf
      refine lv_aload_n E.1 hb dX2_places_371 rfl (lv_at hl 1 rfl) ?_
      obtain ⟨o72, A71, h1, hf⟩ := bx_s hf
      refine x_ki hS (vx_runV ⟨E.1, hb, hml, E.2.1, E.2.2.1⟩ (zX2_leaf h1) (cwV 0 E.2.2.1 gw_X2_157 rfl rfl rfl ⟨rfl, gnX2_leaf⟩ ⟨Nat.le_of_ble_eq_true rfl, Nat.le_of_ble_eq_true rfl⟩) (c_preV E hS ci_3 (sK hS (by decide) rfl) (hS.1.lt (sK hS (by decide) rfl) rfl) _) rfl rfl hl.1 rfl (lv_room (Nat.le_of_ble_eq_true rfl)) dX2_places_372 (rm_n hcs hS.2.2.2.2)) hS.2.2.2.2 (fun ho H locs hS hn => ?_) (fun r70 ho H locs hS hn => ?_)
      · subst ho
        have hcs := rm_n2 hcs hn
        exact x_out E hnx hlk hS (rm_e ⟨Nat.le_trans hcs.1 hS.2.2.2.2.1, Nat.le_trans hcs.2 hS.2.2.2.2.2⟩) (xm_n hf)
      subst ho
      have hcs := rm_n2 hcs hn
      have hf := xm_s hf
      refine lv_istore (lv' := [(9, .int r70), (8, .ref (ad q65)), (0, .ref (ad 9)), (1, .ref (ad x1)), (2, .int x2)]) E.1 hb dX2_places_375 hl (by decide) rfl (fun ls hl => ?_)
      refine lv_aload_n E.1 hb dX2_places_377 rfl (lv_at hl 2 rfl) ?_
      refine c_ldc E hb 6 rfl dX2_places_378 ?_
      obtain ⟨o74, A73, h1, hge, hup, hf⟩ := bxa_s hf
      refine x_kv hS (vx_runV ⟨E.1, hb, hml, E.2.1, E.2.2.1⟩ (zX2_word h1) (cwV 1 E.2.2.1 gw_X2_93 rfl rfl rfl ⟨rfl, gnX2_word⟩ ⟨Nat.le_of_ble_eq_true rfl, Nat.le_of_ble_eq_true rfl⟩) (c_preV E hS ci_3 (sK hS (by decide) rfl) (hS.1.lt (sK hS (by decide) rfl) rfl) _) rfl rfl hl.1 rfl (lv_room (Nat.le_of_ble_eq_true rfl)) dX2_places_380 (rm_a hcs hge hup)) hup (fun ho H locs hS hn => ?_) (fun _ ho H locs hS hn => ?_)
      · subst ho
        have hcs := rm_a2 hcs hge
        exact x_out E hnx hlk hS (rm_e ⟨Nat.le_trans hcs.1 hS.2.2.2.2.1, Nat.le_trans hcs.2 hS.2.2.2.2.2⟩) (xm_n hf)
      subst ho
      have hcs := rm_a2 hcs hge
      have hf := xm_s hf
      refine lv_aload_n E.1 hb dX2_places_383 rfl (lv_at hl 2 rfl) ?_
      refine lv_iload E.1 hb dX2_places_384 (lv_at hl 0 rfl) ?_
      obtain ⟨o77, A76, h1, hf⟩ := bx_s hf
      refine x_ki hS (vx_runV ⟨E.1, hb, hml, E.2.1, E.2.2.1⟩ (zX2_free h1) (cwV 1 E.2.2.1 gw_X2_163 rfl rfl rfl ⟨rfl, gnX2_free⟩ ⟨Nat.le_of_ble_eq_true rfl, Nat.le_of_ble_eq_true rfl⟩) (c_preV E hS ci_3 (sK hS (by decide) rfl) (hS.1.lt (sK hS (by decide) rfl) rfl) _) rfl rfl hl.1 rfl (lv_room (Nat.le_of_ble_eq_true rfl)) dX2_places_386 (rm_n hcs hS.2.2.2.2)) hS.2.2.2.2 (fun ho H locs hS hn => ?_) (fun r75 ho H locs hS hn => ?_)
      · subst ho
        have hcs := rm_n2 hcs hn
        exact x_out E hnx hlk hS (rm_e ⟨Nat.le_trans hcs.1 hS.2.2.2.2.1, Nat.le_trans hcs.2 hS.2.2.2.2.2⟩) (xm_n hf)
      subst ho
      have hcs := rm_n2 hcs hn
      have hf := xm_s hf
      refine lv_istore (lv' := [(10, .int r75), (9, .int r70), (8, .ref (ad q65)), (0, .ref (ad 9)), (1, .ref (ad x1)), (2, .int x2)]) E.1 hb dX2_places_389 hl (by decide) rfl (fun ls hl => ?_)
      refine lv_aload_n E.1 hb dX2_places_391 rfl (lv_at hl 3 rfl) ?_
      obtain ⟨q78, hr7, hf⟩ := bo_s hf
      refine c_gN (k := 6) (f := 306) E hb hS ci_3 (sK hS (by decide) rfl) rfl rfl rfl hr7 fk_X2_100_X2 (fun _ h => h) dX2_places_392 ?_
      obtain ⟨q79, hk, hf⟩ := gN_s hf
      refine c_gN (k := 10) (f := 210) E hb hS ci_2 hk.1 rfl rfl rfl hk.2 fk_X2_178_X1 (fun _ h => h) dX2_places_395 ?_
      obtain ⟨A80, hn9, hw, hf⟩ := nwO_s hf
      obtain ⟨hck, hf⟩ := ck_s hf
      refine c_new E hb hS hcs ci_7 dv_7 q852 q853 q171 hn9 hw hck (rm_up _ _ _ _) dX2_places_398 (fun H cells slots hS hcs => ?_)
      refine lv_dup E.1 hb dX2_places_401 rfl ?_
      refine lv_aload E.1 hb dX2_places_402 (lv_at hl 2 rfl) ?_
      refine lv_iload E.1 hb dX2_places_404 (lv_at hl 1 rfl) ?_
      refine lv_iload E.1 hb dX2_places_406 (lv_at hl 0 rfl) ?_
      refine lv_aload_n E.1 hb dX2_places_408 rfl (lv_at hl 3 rfl) ?_
      refine c_ldc E hb 7 rfl dX2_places_409 ?_
      refine lv_iconst (v := 0) E.1 hb dX2_places_411 rfl ?_
      refine lv_bipush (v := 9) E.1 hb dX2_places_412 rfl ?_
      obtain ⟨o83, A82, h1, hge, hup, hf⟩ := bxa_s hf
      refine x_ki hS (vx_runV ⟨E.1, hb, hml, E.2.1, E.2.2.1⟩ (zX2_number_2 h1) (cwV 3 E.2.2.1 gw_X2_123 rfl rfl rfl ⟨rfl, gnX2_number_2⟩ ⟨Nat.le_of_ble_eq_true rfl, Nat.le_of_ble_eq_true rfl⟩) (c_preV E hS ci_3 (sK hS (by decide) rfl) (hS.1.lt (sK hS (by decide) rfl) rfl) _) rfl rfl hl.1 rfl (lv_room (Nat.le_of_ble_eq_true rfl)) dX2_places_414 (rm_a hcs hge hup)) hup (fun ho H locs hS hn => ?_) (fun r81 ho H locs hS hn => ?_)
      · subst ho
        have hcs := rm_a2 hcs hge
        exact x_out E hnx hlk hS (rm_e ⟨Nat.le_trans hcs.1 hS.2.2.2.2.1, Nat.le_trans hcs.2 hS.2.2.2.2.2⟩) (xm_n hf)
      subst ho
      have hcs := rm_a2 hcs hge
      have hf := xm_s hf
      obtain ⟨_, A84, h1, hf⟩ := bd_s hf
      refine c_kv hS (va_runI ⟨E.1, hb, hml, E.2.1, E.2.2.1⟩ (zX7_init h1) (cwI 4 E.2.2.1 (lw_meth q857) rfl rfl rfl (E.2.2.1 _ q171) (E.2.2.1 _ q855) (E.2.2.1 _ q856) rfl gnX7_init ⟨Nat.le_of_ble_eq_true rfl, Nat.le_of_ble_eq_true rfl⟩) (c_preS E hS _) rfl rfl hl.1 rfl (lv_room (Nat.le_of_ble_eq_true rfl)) dX2_places_417 (rm_n hcs hS.2.2.2.2)) hS.2.2.2.2 (fun H locs hS hn => ?_)
      have hcs := rm_n2 hcs hn
      obtain ⟨hkr, hf⟩ := gu_s hf
      obtain ⟨r85, A86, h1, hge, hup, hf⟩ := bda_s hf
      refine c_kFi hS (va_runF (E.2.2.2.1.1 17 _ ci_18.1).2 ⟨E.1, hb, hml, E.2.1, E.2.2.1⟩ (zJ2_add h1) (va_cwF 1 E.2.2.1 gw_X2_202 rfl rfl rfl (cFw E 2 rfl) gx_add ⟨Nat.le_of_ble_eq_true rfl, Nat.le_of_ble_eq_true rfl⟩) (c_preV E hS ci_18 hkr (hS.1.lt hkr rfl) _) rfl rfl hl.1 rfl (lv_room (Nat.le_of_ble_eq_true rfl)) dX2_places_420 (rm_a hcs hge hup)) hup (fun H locs hS hn => ?_)
      have hcs := rm_a2 hcs hge
      refine lv_pop E.1 hb dX2_places_425 rfl ?_
      refine lv_iconst (v := 1) E.1 hb dX2_places_426 rfl ?_
      exact x_zr (ty := .boolean) E hb hr hlk hS (rm_e ⟨Nat.le_trans hcs.1 hS.2.2.2.2.1, Nat.le_trans hcs.2 hS.2.2.2.2.2⟩) rfl hf dX2_places_427
    · have hf := if_s hc hf
      refine lv_aload_n E.1 hb dX2_places_355 rfl (lv_at hl 1 rfl) ?_
      refine lv_iconst (v := 3) E.1 hb dX2_places_356 rfl ?_
      refine lv_aload_n E.1 hb dX2_places_357 rfl (lv_at hl 1 rfl) ?_
      refine c_gI (k := 3) (f := 303) E hb hS ci_3 (sK hS (by decide) rfl) rfl rfl rfl fk_X2_61_X2 (fun _ h => h) dX2_places_358 ?_
      obtain ⟨r87, A88, h1, hf⟩ := bd_s hf
      refine c_kq hS (va_runV ⟨E.1, hb, hml, E.2.1, E.2.2.1⟩ (zX2_wrong h1) (cwV 2 E.2.2.1 gw_X2_47 rfl rfl rfl ⟨rfl, gnX2_wrong⟩ ⟨Nat.le_of_ble_eq_true rfl, Nat.le_of_ble_eq_true rfl⟩) (c_preV E hS ci_3 (sK hS (by decide) rfl) (hS.1.lt (sK hS (by decide) rfl) rfl) _) rfl rfl hl.1 rfl (lv_room (Nat.le_of_ble_eq_true rfl)) dX2_places_361 (rm_n hcs hS.2.2.2.2)) hS.2.2.2.2 (fun H locs hS hn => ?_)
      have hcs := rm_n2 hcs hn
      obtain ⟨q89, hr9, hf⟩ := bo_s hf
      refine c_dr hr9 ?_
      obtain ⟨hg, hf9⟩ := gu_s hf
      subst hg
      exact x_thr E hb hnx hlk hS (rm_e ⟨Nat.le_trans hcs.1 hS.2.2.2.2.1, Nat.le_trans hcs.2 hS.2.2.2.2.2⟩) hf9 dX2_places_364
  have hB86 : ∀ (A : AH) (x4 : Int32), X2_places_b86 N x1 x2 A x4 = some (o, A') → ∀ (H : Heap) (locs : List Loc) (cells slots : Nat), aN A0 + cells ≤ aN A ∧ aS A0 + slots ≤ aS A →  cS dC dI ac ad True s.heap (aN A0) (aS A0) (aN A') (aS A') A H locs → ∀ (ls : Array Slot), lv_has ls 11 [(0, .ref (ad 9)), (1, .ref (ad x1)), (2, .int x2), (4, .int x4)] → W p l e { frames := 10, cells := aN A' - aN A0, slots := aS A' - aS A0, locals := 221 } s m args below meth c H locs cells slots (vx_MQ below (cQxi dC dI ac ad True (aN A0) (aS A0) (aN A') (aS A') o A') (cXC dC dI ac ad True (aN A0) (aS A0) (aN A') (aS A') o A') args s (aN A' - aN A0) (aS A' - aS A0) (cF ad)) (F0 m 86 ls []) := by
    intro A x4 hf H locs cells slots hcs hS ls hl
    unfold X2_places_b86 at hf
    refine lv_iload E.1 hb dX2_places_86 (lv_at hl 3 rfl) ?_
    by_cases hc0 : x4 = 0
    · have hf := it_s hc0 hf
      refine lv_tableIn (tgt := 116) E.1 hb dX2_places_88 (by rw [hc0]; decide) (by rw [hc0]; decide) (by rw [hc0]; rfl) (by decide) ?_
      refine lv_aload_n E.1 hb dX2_places_116 rfl (lv_at hl 0 rfl) ?_
      refine lv_aload_n E.1 hb dX2_places_117 rfl (lv_at hl 0 rfl) ?_
      obtain ⟨q4, hr7, hf⟩ := bo_s hf
      refine c_gN (k := 6) (f := 306) E hb hS ci_3 (sK hS (by decide) rfl) rfl rfl rfl hr7 fk_X2_100_X2 (fun _ h => h) dX2_places_118 ?_
      obtain ⟨hk, hf⟩ := gI_s hf
      refine c_gI (k := 3) (f := 203) E hb hS ci_2 hk rfl rfl rfl fk_X2_154_X1 (fun _ h => h) dX2_places_121 ?_
      refine lv_bipush (v := 20) E.1 hb dX2_places_124 rfl ?_
      refine lv_icmp_ne (tgt := 133) E.1 hb dX2_places_126 (by decide) (fun hc => ?_) (fun hc => ?_)
      · have hf := if_s hc hf
        refine lv_iconst (v := 0) E.1 hb dX2_places_133 rfl ?_
        exact hB134 A 0 hf _ _ _ _ hcs hS _ (lv_sub hl [0, 1, 2] rfl)
      · have hf := it_s hc hf
        refine lv_iconst (v := 1) E.1 hb dX2_places_129 rfl ?_
        refine lv_goto (tgt := 134) E.1 hb dX2_places_130 (by decide) ?_
        exact hB134 A 1 hf _ _ _ _ hcs hS _ (lv_sub hl [0, 1, 2] rfl)
    · have hf := if_s hc0 hf
      by_cases hc1 : x4 = 1
      · have hf := it_s hc1 hf
        refine lv_tableIn (tgt := 180) E.1 hb dX2_places_88 (by rw [hc1]; decide) (by rw [hc1]; decide) (by rw [hc1]; rfl) (by decide) ?_
        refine lv_aload_n E.1 hb dX2_places_180 rfl (lv_at hl 0 rfl) ?_
        refine lv_aload_n E.1 hb dX2_places_181 rfl (lv_at hl 0 rfl) ?_
        obtain ⟨q21, hr7, hf⟩ := bo_s hf
        refine c_gN (k := 6) (f := 306) E hb hS ci_3 (sK hS (by decide) rfl) rfl rfl rfl hr7 fk_X2_100_X2 (fun _ h => h) dX2_places_182 ?_
        obtain ⟨hk, hf⟩ := gI_s hf
        refine c_gI (k := 4) (f := 204) E hb hS ci_2 hk rfl rfl rfl fk_X2_166_X1 (fun _ h => h) dX2_places_185 ?_
        refine lv_bipush (v := 12) E.1 hb dX2_places_188 rfl ?_
        refine lv_icmp_ne (tgt := 197) E.1 hb dX2_places_190 (by decide) (fun hc => ?_) (fun hc => ?_)
        · have hf := if_s hc hf
          refine lv_iconst (v := 0) E.1 hb dX2_places_197 rfl ?_
          exact hB198 A 0 hf _ _ _ _ hcs hS _ (lv_sub hl [0, 1, 2] rfl)
        · have hf := it_s hc hf
          refine lv_iconst (v := 1) E.1 hb dX2_places_193 rfl ?_
          refine lv_goto (tgt := 198) E.1 hb dX2_places_194 (by decide) ?_
          exact hB198 A 1 hf _ _ _ _ hcs hS _ (lv_sub hl [0, 1, 2] rfl)
      · have hf := if_s hc1 hf
        by_cases hc2 : x4 = 2
        · have hf := it_s hc2 hf
          refine lv_tableIn (tgt := 309) E.1 hb dX2_places_88 (by rw [hc2]; decide) (by rw [hc2]; decide) (by rw [hc2]; rfl) (by decide) ?_
          refine lv_aload_n E.1 hb dX2_places_309 rfl (lv_at hl 0 rfl) ?_
          refine lv_aload_n E.1 hb dX2_places_310 rfl (lv_at hl 0 rfl) ?_
          obtain ⟨q57, hr7, hf⟩ := bo_s hf
          refine c_gN (k := 6) (f := 306) E hb hS ci_3 (sK hS (by decide) rfl) rfl rfl rfl hr7 fk_X2_100_X2 (fun _ h => h) dX2_places_311 ?_
          obtain ⟨q58, hk, hf⟩ := gN_s hf
          refine c_gN (k := 10) (f := 210) E hb hS ci_2 hk.1 rfl rfl rfl hk.2 fk_X2_178_X1 (fun _ h => h) dX2_places_314 ?_
          obtain ⟨hkr, hf⟩ := gu_s hf
          obtain ⟨r59, h1, hf⟩ := bo_s hf
          refine c_kFi hS (va_runF (E.2.2.2.1.1 17 _ ci_18.1).2 ⟨E.1, hb, hml, E.2.1, E.2.2.1⟩ (zJ2_size h1) (va_cwF 0 E.2.2.1 gw_X2_182 rfl rfl rfl (cFw E 0 rfl) gx_size ⟨Nat.le_of_ble_eq_true rfl, Nat.le_of_ble_eq_true rfl⟩) (c_preV E hS ci_18 hkr (hS.1.lt hkr rfl) _) rfl rfl hl.1 rfl (lv_room (Nat.le_of_ble_eq_true rfl)) dX2_places_317 (rm_n hcs hS.2.2.2.2)) hS.2.2.2.2 (fun H locs hS hn => ?_)
          have hcs := rm_n2 hcs hn
          refine lv_bipush (v := 8) E.1 hb dX2_places_322 rfl ?_
          refine lv_icmp_ne (tgt := 331) E.1 hb dX2_places_324 (by decide) (fun hc => ?_) (fun hc => ?_)
          · have hf := if_s hc hf
            refine lv_iconst (v := 0) E.1 hb dX2_places_331 rfl ?_
            exact hB332 A 0 hf _ _ _ _ hcs hS _ (lv_sub hl [0, 1, 2] rfl)
          · have hf := it_s hc hf
            refine lv_iconst (v := 1) E.1 hb dX2_places_327 rfl ?_
            refine lv_goto (tgt := 332) E.1 hb dX2_places_328 (by decide) ?_
            exact hB332 A 1 hf _ _ _ _ hcs hS _ (lv_sub hl [0, 1, 2] rfl)
        · have hf := if_s hc2 hf
          have q0 : (x4 : Int32).toInt ≠ 0 := ne_toInt hc0 rfl
          have q1 : (x4 : Int32).toInt ≠ 1 := ne_toInt hc1 rfl
          have q2 : (x4 : Int32).toInt ≠ 2 := ne_toInt hc2 rfl
          refine lv_tableOut (tgt := 428) E.1 hb dX2_places_88 (by omega) (by decide) ?_
          refine lv_iconst (v := 0) E.1 hb dX2_places_428 rfl ?_
          exact x_zr (ty := .boolean) E hb hr hlk hS (rm_e ⟨Nat.le_trans hcs.1 hS.2.2.2.2.1, Nat.le_trans hcs.2 hS.2.2.2.2.2⟩) rfl hf dX2_places_429
  refine lv_aload_n E.1 hb dX2_places_0 rfl (lv_at hl 1 rfl) ?_
  refine lv_astore_n (lv' := [(3, .ref (ad x1)), (0, .ref (ad 9)), (1, .ref (ad x1)), (2, .int x2)]) E.1 hb dX2_places_1 rfl hl (by decide) rfl (fun ls hl => ?_)
  refine lv_iconst (v := (-1)) E.1 hb dX2_places_2 rfl ?_
  refine lv_istore (lv' := [(4, .int (-1)), (3, .ref (ad x1)), (0, .ref (ad 9)), (1, .ref (ad x1)), (2, .int x2)]) E.1 hb dX2_places_3 hl (by decide) rfl (fun ls hl => ?_)
  refine lv_aload_n E.1 hb dX2_places_5 rfl (lv_at hl 1 rfl) ?_
  obtain ⟨hkr, hf⟩ := gu_s hf
  obtain ⟨r1, A2, h1, hge, hup, hf⟩ := bda_s hf
  refine c_ki hS (va_runV ⟨E.1, hb, hml, E.2.1, E.2.2.1⟩ (zJ6_hashCode h1) (cwV 0 E.2.2.1 gw_X2_145 rfl rfl rfl ⟨rfl, gnJ6_hashCode⟩ ⟨Nat.le_of_ble_eq_true rfl, Nat.le_of_ble_eq_true rfl⟩) (c_preVS E hS hkr _) rfl rfl hl.1 rfl (lv_room (Nat.le_of_ble_eq_true rfl)) dX2_places_6 (rm_a hcs hge hup)) hup (fun H locs hS hn => ?_)
  have hcs := rm_a2 hcs hge
  by_cases hc3655443 : r1 = 3655443
  · have hf := it_s hc3655443 hf
    refine lv_lookup (off := 50) (tgt := 59) E.1 hb dX2_places_9 rfl (by rw [hc3655443]; rfl) (by decide) ?_
    refine lv_aload_n E.1 hb dX2_places_59 rfl (lv_at hl 1 rfl) ?_
    refine c_ldc E hb 3 rfl dX2_places_60 ?_
    obtain ⟨hkr, hf⟩ := gu_s hf
    obtain ⟨r3, h1, hf⟩ := bo_s hf
    refine c_ki hS (va_runV ⟨E.1, hb, hml, E.2.1, E.2.2.1⟩ (zJ6_equals h1) (cwV 1 E.2.2.1 gw_X2_74 rfl rfl rfl ⟨rfl, gnJ6_equals⟩ ⟨Nat.le_of_ble_eq_true rfl, Nat.le_of_ble_eq_true rfl⟩) (c_preVS E hS hkr _) rfl rfl hl.1 rfl (lv_room (Nat.le_of_ble_eq_true rfl)) dX2_places_62 (rm_n hcs hS.2.2.2.2)) hS.2.2.2.2 (fun H locs hS hn => ?_)
    have hcs := rm_n2 hcs hn
    refine lv_if_eq (tgt := 86) E.1 hb dX2_places_65 (by decide) (fun hc => ?_) (fun hc => ?_)
    · have hf := it_s hc hf
      exact hB86 A2 (-1) hf _ _ _ _ hcs hS _ (lv_sub hl [2, 3, 4, 0] rfl)
    · have hf := if_s hc hf
      refine lv_iconst (v := 1) E.1 hb dX2_places_68 rfl ?_
      refine lv_istore (lv' := [(4, .int 1), (3, .ref (ad x1)), (0, .ref (ad 9)), (1, .ref (ad x1)), (2, .int x2)]) E.1 hb dX2_places_69 hl (by decide) rfl (fun ls hl => ?_)
      refine lv_goto (tgt := 86) E.1 hb dX2_places_71 (by decide) ?_
      exact hB86 A2 1 hf _ _ _ _ hcs hS _ (lv_sub hl [2, 3, 4, 0] rfl)
  · have hf := if_s hc3655443 hf
    by_cases hc93618367 : r1 = 93618367
    · have hf := it_s hc93618367 hf
      refine lv_lookup (off := 65) (tgt := 74) E.1 hb dX2_places_9 rfl (by rw [hc93618367]; rfl) (by decide) ?_
      refine lv_aload_n E.1 hb dX2_places_74 rfl (lv_at hl 1 rfl) ?_
      refine c_ldc E hb 4 rfl dX2_places_75 ?_
      obtain ⟨hkr, hf⟩ := gu_s hf
      obtain ⟨r90, h1, hf⟩ := bo_s hf
      refine c_ki hS (va_runV ⟨E.1, hb, hml, E.2.1, E.2.2.1⟩ (zJ6_equals h1) (cwV 1 E.2.2.1 gw_X2_74 rfl rfl rfl ⟨rfl, gnJ6_equals⟩ ⟨Nat.le_of_ble_eq_true rfl, Nat.le_of_ble_eq_true rfl⟩) (c_preVS E hS hkr _) rfl rfl hl.1 rfl (lv_room (Nat.le_of_ble_eq_true rfl)) dX2_places_77 (rm_n hcs hS.2.2.2.2)) hS.2.2.2.2 (fun H locs hS hn => ?_)
      have hcs := rm_n2 hcs hn
      refine lv_if_eq (tgt := 86) E.1 hb dX2_places_80 (by decide) (fun hc => ?_) (fun hc => ?_)
      · have hf := it_s hc hf
        exact hB86 A2 (-1) hf _ _ _ _ hcs hS _ (lv_sub hl [2, 3, 4, 0] rfl)
      · have hf := if_s hc hf
        refine lv_iconst (v := 2) E.1 hb dX2_places_83 rfl ?_
        refine lv_istore (lv' := [(4, .int 2), (3, .ref (ad x1)), (0, .ref (ad 9)), (1, .ref (ad x1)), (2, .int x2)]) E.1 hb dX2_places_84 hl (by decide) rfl (fun ls hl => ?_)
        exact hB86 A2 2 hf _ _ _ _ hcs hS _ (lv_sub hl [2, 3, 4, 0] rfl)
    · have hf := if_s hc93618367 hf
      by_cases hc98450442 : r1 = 98450442
      · have hf := it_s hc98450442 hf
        refine lv_lookup (off := 35) (tgt := 44) E.1 hb dX2_places_9 rfl (by rw [hc98450442]; rfl) (by decide) ?_
        refine lv_aload_n E.1 hb dX2_places_44 rfl (lv_at hl 1 rfl) ?_
        refine c_ldc E hb 2 rfl dX2_places_45 ?_
        obtain ⟨hkr, hf⟩ := gu_s hf
        obtain ⟨r91, h1, hf⟩ := bo_s hf
        refine c_ki hS (va_runV ⟨E.1, hb, hml, E.2.1, E.2.2.1⟩ (zJ6_equals h1) (cwV 1 E.2.2.1 gw_X2_74 rfl rfl rfl ⟨rfl, gnJ6_equals⟩ ⟨Nat.le_of_ble_eq_true rfl, Nat.le_of_ble_eq_true rfl⟩) (c_preVS E hS hkr _) rfl rfl hl.1 rfl (lv_room (Nat.le_of_ble_eq_true rfl)) dX2_places_47 (rm_n hcs hS.2.2.2.2)) hS.2.2.2.2 (fun H locs hS hn => ?_)
        have hcs := rm_n2 hcs hn
        refine lv_if_eq (tgt := 86) E.1 hb dX2_places_50 (by decide) (fun hc => ?_) (fun hc => ?_)
        · have hf := it_s hc hf
          exact hB86 A2 (-1) hf _ _ _ _ hcs hS _ (lv_sub hl [2, 3, 4, 0] rfl)
        · have hf := if_s hc hf
          refine lv_iconst (v := 0) E.1 hb dX2_places_53 rfl ?_
          refine lv_istore (lv' := [(4, .int 0), (3, .ref (ad x1)), (0, .ref (ad 9)), (1, .ref (ad x1)), (2, .int x2)]) E.1 hb dX2_places_54 hl (by decide) rfl (fun ls hl => ?_)
          refine lv_goto (tgt := 86) E.1 hb dX2_places_56 (by decide) ?_
          exact hB86 A2 0 hf _ _ _ _ hcs hS _ (lv_sub hl [2, 3, 4, 0] rfl)
      · have hf := if_s hc98450442 hf
        have q3655443 : (r1 : Int32).toInt ≠ 3655443 := ne_toInt hc3655443 rfl
        have q93618367 : (r1 : Int32).toInt ≠ 93618367 := ne_toInt hc93618367 rfl
        have q98450442 : (r1 : Int32).toInt ≠ 98450442 := ne_toInt hc98450442 rfl
        refine lv_lookup (off := 77) (tgt := 86) E.1 hb dX2_places_9 rfl (by simp only [Op.lookupswitch.offset, List.find?]; revert q3655443 q93618367 q98450442; generalize (r1 : Int32).toInt = z9; intro q3655443 q93618367 q98450442; simp [Ne.symm q3655443, q3655443, Ne.symm q93618367, q93618367, Ne.symm q98450442, q98450442]) (by decide) ?_
        exact hB86 A2 (-1) hf _ _ _ _ hcs hS _ (lv_sub hl [2, 3, 4, 0] rfl)
theorem fk_X2_117_X2 : FLk RX2 117 "MarginFolk$Reader" (TX2 4).2.1 (TX2 4).2.2.1 := Or.inl q382
/-! MarginFolk$Reader.opens(I)V: RW -/
noncomputable def X2_opens (A0 : AH) (x1 : Int32) : Option (Option Unit × AH) :=
  if (aI A0 304 9 0) = 6 then (bd (X2_wrong A0 4 x1) fun r2 A3 => bo r2 fun q4 => if q4 = 10 then some (none, A3) else none) else (lt2 (wI A0 304 9 0 ((aI A0 304 9 0) + 1)) fun A1 => some (some (), A1))
abbrev rX2_opens : Room := { frames := 1, cells := 0, slots := 0, locals := 22 }
set_option maxHeartbeats 4000000 in
theorem zX2_opens {l : Launch} {dC : Nat → ClassId} {dI : Nat → Nat → Nat} {ac : Nat → ClassId} {ad : Nat → Nat} {A0 : AH} {x1 : Int32} {o : Option Unit} {A' : AH} (hf : X2_opens A0 x1 = some (o, A')) : vx_Met l yX2_opens (ws_ yX2_opens cX2_opens 2 none) { frames := 1, cells := 0, slots := 0, locals := 22 } (va_Pc [.ref (ad 9), .int x1] (cPre dC dI ac ad True A0)) (cQxv dC dI ac ad True (aN A0) (aS A0) (aN A0) (aS A0) o A') (cXC dC dI ac ad True (aN A0) (aS A0) (aN A0) (aS A0) o A') 0 0 (cF ad) := by
  unfold X2_opens at hf
  refine c_ofx ⟨Nat.le_refl _, Nat.le_refl _⟩ RX2 (by decide) rfl (Nat.le_of_ble_eq_true rfl) ?_
  intro p e s m args below meth c E hb hr hlk hnm hml hnx hS ls hl
  have hl : lv_has ls 2 [(0, .ref (ad 9)), (1, .int x1)] := hl
  refine lv_aload_n E.1 hb dX2_opens_0 rfl (lv_at hl 0 rfl) ?_
  refine c_gI (k := 4) (f := 304) E hb hS ci_3 (sK hS (by decide) rfl) rfl rfl rfl fk_X2_117_X2 (fun _ h => h) dX2_opens_1 ?_
  refine lv_bipush (v := 6) E.1 hb dX2_opens_4 rfl ?_
  refine lv_icmp_ne (tgt := 16) E.1 hb dX2_opens_6 (by decide) (fun hc => ?_) (fun hc => ?_)
  · have hf := if_s hc hf
    refine lv_aload_n E.1 hb dX2_opens_16 rfl (lv_at hl 0 rfl) ?_
    refine lv_dup E.1 hb dX2_opens_17 rfl ?_
    refine c_gI (k := 4) (f := 304) E hb hS ci_3 (sK hS (by decide) rfl) rfl rfl rfl fk_X2_117_X2 (fun _ h => h) dX2_opens_18 ?_
    refine lv_iconst (v := 1) E.1 hb dX2_opens_21 rfl ?_
    refine lv_iadd E.1 hb dX2_opens_22 ?_
    obtain ⟨A1, hw, hf⟩ := lt2_s hf
    refine c_pI (k := 4) (f := 304) E hb hS ci_3 (sK hS (by decide) rfl) (hS.1.lt (sK hS (by decide) rfl) rfl) rfl rfl (Or.inl rfl) fk_X2_117_X2 (fun _ h => h) rfl rfl hw dX2_opens_23 (fun H locs hS => ?_)
    exact x_vr E hb hr hlk hS ⟨Nat.le_refl 0, Nat.le_refl 0⟩ hf dX2_opens_26
  · have hf := it_s hc hf
    refine lv_aload_n E.1 hb dX2_opens_9 rfl (lv_at hl 0 rfl) ?_
    refine lv_iconst (v := 4) E.1 hb dX2_opens_10 rfl ?_
    refine lv_iload_n E.1 hb dX2_opens_11 rfl (lv_at hl 1 rfl) ?_
    obtain ⟨r2, A3, h1, hf⟩ := bd_s hf
    refine c_kq hS (va_runV ⟨E.1, hb, hml, E.2.1, E.2.2.1⟩ (zX2_wrong h1) (cwV 2 E.2.2.1 gw_X2_47 rfl rfl rfl ⟨rfl, gnX2_wrong⟩ ⟨Nat.le_of_ble_eq_true rfl, Nat.le_of_ble_eq_true rfl⟩) (c_preV E hS ci_3 (sK hS (by decide) rfl) (hS.1.lt (sK hS (by decide) rfl) rfl) _) rfl rfl hl.1 rfl (lv_room (Nat.le_of_ble_eq_true rfl)) dX2_opens_12 ⟨Nat.le_refl 0, Nat.le_refl 0⟩) hS.2.2.2.2 (fun H locs hS hn => ?_)
    obtain ⟨q4, hr9, hf⟩ := bo_s hf
    refine c_dr hr9 ?_
    obtain ⟨hg, hf9⟩ := gu_s hf
    subst hg
    exact x_thr E hb hnx hlk hS ⟨Nat.le_refl 0, Nat.le_refl 0⟩ hf9 dX2_opens_15
/-! MarginFolk$Value.<init>()V: RW -/
noncomputable def X8_init (A0 : AH) (x0 : Nat) : Option (Unit × AH) :=
  some ((), A0)
abbrev rX8_init : Room := { frames := 1, cells := 0, slots := 0, locals := 20 }
set_option maxHeartbeats 4000000 in
theorem zX8_init {l : Launch} {dC : Nat → ClassId} {dI : Nat → Nat → Nat} {ac : Nat → ClassId} {ad : Nat → Nat} {b : Prop} {A0 : AH} {x0 : Nat} {A' : AH} (hf : X8_init A0 x0 = some ((), A')) : Met l yX8_init (ws_ yX8_init cX8_init 1 none) { frames := 1, cells := 0, slots := 0, locals := 20 } (va_Pc [.ref (ad x0)] (cPre dC dI ac ad b A0)) (cQv dC dI ac ad b (aN A0) (aS A0) (aN A0) (aS A0) A') 0 0 (cF ad) := by
  unfold X8_init at hf
  refine c_of ⟨Nat.le_refl _, Nat.le_refl _⟩ RX8 (plainFor_of_name (by decide)) rfl (Nat.le_of_ble_eq_true rfl) ?_
  intro p e s m args below meth c E hb hr hlk hnm hml hS ls hl
  have hl : lv_has ls 1 [(0, .ref (ad x0))] := hl
  refine lv_aload_n E.1 hb dX8_init_0 rfl (lv_at hl 0 rfl) ?_
  refine W.objInit E.1 hb E.2.1 (E.2.2.1 _ q978) (E.2.2.1 _ q196) (E.2.2.1 _ q197) rfl (by rw [hml]; exact hl.1) rfl dX8_init_1 (Nat.le_of_ble_eq_true rfl) (Nat.le_of_ble_eq_true rfl) ?_
  refine W.eq (g2 := F0 m 4 ls []) rfl ?_
  exact c_vr E hb hr hlk hS ⟨Nat.le_refl 0, Nat.le_refl 0⟩ hf dX8_init_4
theorem fk_X13_1_X13 : FLk RX13 1 "MarginFolk$Looked" (TX13 2).2.1 (TX13 2).2.2.1 := Or.inl q1080
theorem gnX8_init : yX8_init.cls ≠ "java/lang/invoke/MethodHandle" ∧ yX8_init.cls ≠ "java/lang/invoke/VarHandle" ∧ (parseMethodDescriptor yX8_init.desc).map (fun d => d.parameters.length) = some 0 := by decide +kernel
theorem fk_X13_13_X13 : FLk RX13 13 "MarginFolk$Looked" (TX13 0).2.1 (TX13 0).2.2.1 := Or.inl q1078
theorem fk_X13_17_X13 : FLk RX13 17 "MarginFolk$Looked" (TX13 1).2.1 (TX13 1).2.2.1 := Or.inl q1079
/-! MarginFolk$Looked.<init>(LMarginFolk;ILMarginFolk$Value;)V: RW -/
noncomputable def X13_init (A0 : AH) (x0 : Nat) (x1 : Nat) (x2 : Int32) (x3 : Nat) : Option (Unit × AH) :=
  bo (pR 12 A0 1202 x0 (some x1)) fun A1 => bd (X8_init A1 x0) fun _ A2 => bo (pI 12 A2 1200 x0 x2) fun A3 => bo (pR 12 A3 1201 x0 (some x3)) fun A4 => some ((), A4)
abbrev rX13_init : Room := { frames := 2, cells := 0, slots := 0, locals := 40 }
set_option maxHeartbeats 4000000 in
theorem zX13_init {l : Launch} {dC : Nat → ClassId} {dI : Nat → Nat → Nat} {ac : Nat → ClassId} {ad : Nat → Nat} {b : Prop} {A0 : AH} {x0 : Nat} {x1 : Nat} {x2 : Int32} {x3 : Nat} {A' : AH} (hf : X13_init A0 x0 x1 x2 x3 = some ((), A')) : Met l yX13_init (ws_ yX13_init cX13_init 4 none) { frames := 2, cells := 0, slots := 0, locals := 40 } (va_Pc [.ref (ad x0), .ref (ad x1), .int x2, .ref (ad x3)] (cPre dC dI ac ad b A0)) (cQv dC dI ac ad b (aN A0) (aS A0) (aN A0) (aS A0) A') 0 0 (cF ad) := by
  unfold X13_init at hf
  refine c_of ⟨Nat.le_refl _, Nat.le_refl _⟩ RX13 (plainFor_of_name (by decide)) rfl (Nat.le_of_ble_eq_true rfl) ?_
  intro p e s m args below meth c E hb hr hlk hnm hml hS ls hl
  have hl : lv_has ls 4 [(0, .ref (ad x0)), (1, .ref (ad x1)), (2, .int x2), (3, .ref (ad x3))] := hl
  refine lv_aload_n E.1 hb dX13_init_0 rfl (lv_at hl 0 rfl) ?_
  refine lv_aload_n E.1 hb dX13_init_1 rfl (lv_at hl 1 rfl) ?_
  obtain ⟨A1, hk, hw, hf⟩ := pR_s hf
  refine c_pR (k := 2) (f := 1202) (r := (some x1)) E hb hS ci_12 hk (hS.1.lt hk rfl) rfl rfl (fun _ => rfl) (Or.inr ⟨hnm, rfl, rfl, q1080⟩) fk_X13_1_X13 (fun _ h => h) (fun q => by cases q <;> exact ⟨rfl, rfl⟩) hw dX13_init_2 (fun H locs hS => ?_)
  refine lv_aload_n E.1 hb dX13_init_5 rfl (lv_at hl 0 rfl) ?_
  obtain ⟨_, A2, h1, hf⟩ := bd_s hf
  refine c_kv hS (va_runIN ⟨E.1, hb, hml, E.2.1, E.2.2.1⟩ (zX8_init h1) ⟨va_cnB 0 E.2.2.1 (lw_meth q977) rfl rfl rfl (E.2.2.2.2.1 _ q1077 rfl) (E.2.2.1 _ q175) gnX8_init ⟨Nat.le_of_ble_eq_true rfl, Nat.le_of_ble_eq_true rfl⟩, rfl, E.2.2.1 _ q976⟩ (c_preS E hS _) rfl rfl hl.1 rfl (lv_room (Nat.le_of_ble_eq_true rfl)) dX13_init_6 ⟨Nat.le_refl 0, Nat.le_refl 0⟩) hS.2.2.2.2 (fun H locs hS hn => ?_)
  refine lv_aload_n E.1 hb dX13_init_9 rfl (lv_at hl 0 rfl) ?_
  refine lv_iload_n E.1 hb dX13_init_10 rfl (lv_at hl 2 rfl) ?_
  obtain ⟨A3, hk, hw, hf⟩ := pI_s hf
  refine c_pI (k := 0) (f := 1200) E hb hS ci_12 hk (hS.1.lt hk rfl) rfl rfl (Or.inr ⟨hnm, rfl, rfl, q1078⟩) fk_X13_13_X13 (fun _ h => h) rfl rfl hw dX13_init_11 (fun H locs hS => ?_)
  refine lv_aload_n E.1 hb dX13_init_14 rfl (lv_at hl 0 rfl) ?_
  refine lv_aload_n E.1 hb dX13_init_15 rfl (lv_at hl 3 rfl) ?_
  obtain ⟨A4, hk, hw, hf⟩ := pR_s hf
  refine c_pR (k := 1) (f := 1201) (r := (some x3)) E hb hS ci_12 hk (hS.1.lt hk rfl) rfl rfl (fun _ => rfl) (Or.inr ⟨hnm, rfl, rfl, q1079⟩) fk_X13_17_X13 (fun _ h => h) (fun q => by cases q <;> exact ⟨rfl, rfl⟩) hw dX13_init_16 (fun H locs hS => ?_)
  exact c_vr E hb hr hlk hS ⟨Nat.le_refl 0, Nat.le_refl 0⟩ hf dX13_init_19
theorem gw_X2_257 : GoodIn lw_all (wsV RX2 257 RX2 yX2_opens (ws_ yX2_opens cX2_opens 2 none)) := lw_V q1023 q1025 qs27 q157 q1026
theorem gnX2_opens : yX2_opens.cls ≠ "java/lang/invoke/MethodHandle" ∧ yX2_opens.cls ≠ "java/lang/invoke/VarHandle" ∧ (parseMethodDescriptor yX2_opens.desc).map (fun d => d.parameters.length) = some 1 := by decide +kernel
theorem gw_X2_254 : GoodIn lw_all (wsV RX2 254 RX2 yX2_atom (ws_ yX2_atom cX2_atom 3 (some (.object "MarginFolk$Value")))) := lw_V q1015 q1017 qs25 q157 q1018
theorem gnX2_atom : yX2_atom.cls ≠ "java/lang/invoke/MethodHandle" ∧ yX2_atom.cls ≠ "java/lang/invoke/VarHandle" ∧ (parseMethodDescriptor yX2_atom.desc).map (fun d => d.parameters.length) = some 0 := by decide +kernel
theorem gnX13_init : yX13_init.cls ≠ "java/lang/invoke/MethodHandle" ∧ yX13_init.cls ≠ "java/lang/invoke/VarHandle" ∧ (parseMethodDescriptor yX13_init.desc).map (fun d => d.parameters.length) = some 3 := by decide +kernel
/-! MarginFolk$Reader.looked(I)LMarginFolk$Value;: RW -/
noncomputable def X2_looked (ra : AH → Option (Option (Option Nat) × AH)) (A0 : AH) (x1 : Int32) : Option (Option (Option Nat) × AH) :=
  ck A0 (bx (X2_opens A0 (aI A0 303 9 0)) fun _ A1 => bo (nwO A1 12 3) fun A3 => ck A3 ( bxa A3 (ra A3) fun r4 A5 => bo r4 fun q7 => bd (X13_init A5 (aN A1) 0 x1 q7) fun _ A8 => lt2 (wI A8 304 9 0 ((aI A8 304 9 0) - 1)) fun A9 => some (some (some (aN A1)), A9)))
set_option maxHeartbeats 4000000 in
theorem zX2_looked {l : Launch} {dC : Nat → ClassId} {dI : Nat → Nat → Nat} {ac : Nat → ClassId} {ad : Nat → Nat} {ra : AH → Option (Option (Option Nat) × AH)} {fa la : Nat} (ha : RcA l dC dI ac ad yX2_atom cX2_atom 3 (.object "MarginFolk$Value") fa la ra) {A0 : AH} {x1 : Int32} {o : Option (Option Nat)} {A' : AH} (hf : X2_looked ra A0 x1 = some (o, A')) : vx_Met l yX2_looked (ws_ yX2_looked cX2_looked 3 (some (.object "MarginFolk$Value"))) { frames := fa + 3, cells := aN A' - aN A0, slots := aS A' - aS A0, locals := la + 63 } (va_Pc [.ref (ad 9), .int x1] (cPre dC dI ac ad True A0)) (cQxq dC dI ac ad True (aN A0) (aS A0) (aN A') (aS A') o A') (cXC dC dI ac ad True (aN A0) (aS A0) (aN A') (aS A') o A') (aN A' - aN A0) (aS A' - aS A0) (cF ad) := by
  unfold X2_looked at hf
  obtain ⟨hck0, hf⟩ := ck_s hf
  refine c_ofx hck0 RX2 (by decide) rfl (Nat.le_of_ble_eq_true rfl) ?_
  intro p e s m args below meth c E hb hr hlk hnm hml hnx hS ls hl
  have hl : lv_has ls 3 [(0, .ref (ad 9)), (1, .int x1)] := hl
  have hcs : aN A0 + 0 ≤ aN A0 ∧ aS A0 + 0 ≤ aS A0 := ⟨Nat.le_refl _, Nat.le_refl _⟩
  refine lv_aload_n E.1 hb dX2_looked_0 rfl (lv_at hl 0 rfl) ?_
  refine lv_aload_n E.1 hb dX2_looked_1 rfl (lv_at hl 0 rfl) ?_
  refine c_gI (k := 3) (f := 303) E hb hS ci_3 (sK hS (by decide) rfl) rfl rfl rfl fk_X2_61_X2 (fun _ h => h) dX2_looked_2 ?_
  obtain ⟨o2, A1, h1, hf⟩ := bx_s hf
  refine x_kv hS (vx_runV ⟨E.1, hb, hml, E.2.1, E.2.2.1⟩ (zX2_opens h1) (cwV 1 E.2.2.1 gw_X2_257 rfl rfl rfl ⟨rfl, gnX2_opens⟩ ⟨by dsimp only; omega, by dsimp only; omega⟩) (c_preV E hS ci_3 (sK hS (by decide) rfl) (hS.1.lt (sK hS (by decide) rfl) rfl) _) rfl rfl hl.1 rfl (lv_room (Nat.le_of_ble_eq_true rfl)) dX2_looked_5 (rm_n hcs hS.2.2.2.2)) hS.2.2.2.2 (fun ho H locs hS hn => ?_) (fun _ ho H locs hS hn => ?_)
  · subst ho
    have hcs := rm_n2 hcs hn
    exact x_out E hnx hlk hS (rm_e ⟨Nat.le_trans hcs.1 hS.2.2.2.2.1, Nat.le_trans hcs.2 hS.2.2.2.2.2⟩) (xm_n hf)
  subst ho
  have hcs := rm_n2 hcs hn
  have hf := xm_s hf
  obtain ⟨A3, hn9, hw, hf⟩ := nwO_s hf
  obtain ⟨hck, hf⟩ := ck_s hf
  refine c_new E hb hS hcs ci_12 dv_12 q1072 q1073 q182 hn9 hw hck (rm_up _ _ _ _) dX2_looked_8 (fun H cells slots hS hcs => ?_)
  refine lv_dup E.1 hb dX2_looked_11 rfl ?_
  refine lv_aload_n E.1 hb dX2_looked_12 rfl (lv_at hl 0 rfl) ?_
  refine c_gN (k := 7) (f := 307) (q := 0) E hb hS ci_3 (sK hS (by decide) rfl) rfl rfl rfl (sRf hS (by decide) rfl) fk_X2_3_X2 (fun _ h => h) dX2_looked_13 ?_
  refine lv_iload_n E.1 hb dX2_looked_16 rfl (lv_at hl 1 rfl) ?_
  refine lv_aload_n E.1 hb dX2_looked_17 rfl (lv_at hl 0 rfl) ?_
  obtain ⟨o6, A5, h1, hge, hup, hf⟩ := bxa_s hf
  refine x_kq hS (vx_runV ⟨E.1, hb, hml, E.2.1, E.2.2.1⟩ (ha _ _ _ h1) (cwV 0 E.2.2.1 gw_X2_254 rfl rfl rfl ⟨rfl, gnX2_atom⟩ ⟨by dsimp only; omega, by dsimp only; omega⟩) (c_preV E hS ci_3 (sK hS (by decide) rfl) (hS.1.lt (sK hS (by decide) rfl) rfl) _) rfl rfl hl.1 rfl (lv_room (Nat.le_of_ble_eq_true rfl)) dX2_looked_18 (rm_a hcs hge hup)) hup (fun ho H locs hS hn => ?_) (fun r4 ho H locs hS hn => ?_)
  · subst ho
    have hcs := rm_a2 hcs hge
    exact x_out E hnx hlk hS (rm_e ⟨Nat.le_trans hcs.1 hS.2.2.2.2.1, Nat.le_trans hcs.2 hS.2.2.2.2.2⟩) (xm_n hf)
  subst ho
  have hcs := rm_a2 hcs hge
  have hf := xm_s hf
  obtain ⟨q7, hr9, hf⟩ := bo_s hf
  refine c_dr hr9 ?_
  obtain ⟨_, A8, h1, hf⟩ := bd_s hf
  refine c_kv hS (va_runI ⟨E.1, hb, hml, E.2.1, E.2.2.1⟩ (zX13_init h1) (cwI 3 E.2.2.1 (lw_meth q1076) rfl rfl rfl (E.2.2.1 _ q182) (E.2.2.1 _ q1074) (E.2.2.1 _ q1075) rfl gnX13_init ⟨by dsimp only; omega, by dsimp only; omega⟩) (c_preS E hS _) rfl rfl hl.1 rfl (lv_room (Nat.le_of_ble_eq_true rfl)) dX2_looked_21 (rm_n hcs hS.2.2.2.2)) hS.2.2.2.2 (fun H locs hS hn => ?_)
  have hcs := rm_n2 hcs hn
  refine lv_astore_n (lv' := [(2, .ref (ad (aN A1))), (0, .ref (ad 9)), (1, .int x1)]) E.1 hb dX2_looked_24 rfl hl (by decide) rfl (fun ls hl => ?_)
  refine lv_aload_n E.1 hb dX2_looked_25 rfl (lv_at hl 1 rfl) ?_
  refine lv_dup E.1 hb dX2_looked_26 rfl ?_
  refine c_gI (k := 4) (f := 304) E hb hS ci_3 (sK hS (by decide) rfl) rfl rfl rfl fk_X2_117_X2 (fun _ h => h) dX2_looked_27 ?_
  refine lv_iconst (v := 1) E.1 hb dX2_looked_30 rfl ?_
  refine lv_isub E.1 hb dX2_looked_31 ?_
  obtain ⟨A9, hw, hf⟩ := lt2_s hf
  refine c_pI (k := 4) (f := 304) E hb hS ci_3 (sK hS (by decide) rfl) (hS.1.lt (sK hS (by decide) rfl) rfl) rfl rfl (Or.inl rfl) fk_X2_117_X2 (fun _ h => h) rfl rfl hw dX2_looked_32 (fun H locs hS => ?_)
  have hcs := rm_w (A2 := A9) hcs (by rw [hw]; exact ⟨rfl, rfl⟩)
  refine lv_aload_n E.1 hb dX2_looked_35 rfl (lv_at hl 0 rfl) ?_
  exact x_ar E hb hr (Or.inl ⟨_, rfl⟩) hlk hS (rm_e ⟨Nat.le_trans hcs.1 hS.2.2.2.2.1, Nat.le_trans hcs.2 hS.2.2.2.2.2⟩) (v := (some (aN A1))) hf dX2_looked_36
theorem fk_X9_12_X9 : FLk RX9 12 "MarginFolk$Chain" (TX9 0).2.1 (TX9 0).2.2.1 := Or.inl q1004
theorem gnJ15_init : yJ15_init.cls ≠ "java/lang/invoke/MethodHandle" ∧ yJ15_init.cls ≠ "java/lang/invoke/VarHandle" ∧ (parseMethodDescriptor yJ15_init.desc).map (fun d => d.parameters.length) = some 0 := by decide +kernel
theorem fk_X9_21_X9 : FLk RX9 21 "MarginFolk$Chain" (TX9 1).2.1 (TX9 1).2.2.1 := Or.inl q1005
/-! MarginFolk$Chain.<init>()V: RW -/
noncomputable def X9_init (A0 : AH) (x0 : Nat) : Option (Unit × AH) :=
  ck A0 (bd (X8_init A0 x0) fun _ A1 => bo (nwO A1 18 3) fun A2 => ck A2 ( bda A2 (J2_init A2 (aN A1) 2) fun _ A3 => bo (pR 8 A3 800 x0 (some (aN A1))) fun A4 => bo (nwO A4 20 4) fun A5 => ck A5 ( bda A5 (J15_init A5 (aN A4)) fun _ A6 => bo (pR 8 A6 801 x0 (some (aN A4))) fun A7 => some ((), A7))))
set_option maxHeartbeats 4000000 in
theorem zX9_init {l : Launch} {dC : Nat → ClassId} {dI : Nat → Nat → Nat} {ac : Nat → ClassId} {ad : Nat → Nat} {b : Prop} {A0 : AH} {x0 : Nat} {A' : AH} (hf : X9_init A0 x0 = some ((), A')) : Met l yX9_init (ws_ yX9_init cX9_init 1 none) { frames := 5, cells := aN A' - aN A0, slots := aS A' - aS A0, locals := 102 } (va_Pc [.ref (ad x0)] (cPre dC dI ac ad b A0)) (cQv dC dI ac ad b (aN A0) (aS A0) (aN A') (aS A') A') (aN A' - aN A0) (aS A' - aS A0) (cF ad) := by
  unfold X9_init at hf
  obtain ⟨hck0, hf⟩ := ck_s hf
  refine c_of hck0 RX9 (plainFor_of_name (by decide)) rfl (Nat.le_of_ble_eq_true rfl) ?_
  intro p e s m args below meth c E hb hr hlk hnm hml hS ls hl
  have hl : lv_has ls 1 [(0, .ref (ad x0))] := hl
  have hcs : aN A0 + 0 ≤ aN A0 ∧ aS A0 + 0 ≤ aS A0 := ⟨Nat.le_refl _, Nat.le_refl _⟩
  refine lv_aload_n E.1 hb dX9_init_0 rfl (lv_at hl 0 rfl) ?_
  obtain ⟨_, A1, h1, hf⟩ := bd_s hf
  refine c_kv hS (va_runIN ⟨E.1, hb, hml, E.2.1, E.2.2.1⟩ (zX8_init h1) ⟨va_cnB 0 E.2.2.1 (lw_meth q977) rfl rfl rfl (E.2.2.2.2.1 _ q975 rfl) (E.2.2.1 _ q175) gnX8_init ⟨Nat.le_of_ble_eq_true rfl, Nat.le_of_ble_eq_true rfl⟩, rfl, E.2.2.1 _ q976⟩ (c_preS E hS _) rfl rfl hl.1 rfl (lv_room (Nat.le_of_ble_eq_true rfl)) dX9_init_1 (rm_n hcs hS.2.2.2.2)) hS.2.2.2.2 (fun H locs hS hn => ?_)
  have hcs := rm_n2 hcs hn
  refine lv_aload_n E.1 hb dX9_init_4 rfl (lv_at hl 0 rfl) ?_
  obtain ⟨A2, hn9, hw, hf⟩ := nwO_s hf
  obtain ⟨hck, hf⟩ := ck_s hf
  refine c_new E hb hS hcs ci_18 dv_18 q979 q205 q156 hn9 hw hck (rm_up _ _ _ _) dX9_init_5 (fun H cells slots hS hcs => ?_)
  refine lv_dup E.1 hb dX9_init_8 rfl ?_
  refine lv_iconst (v := 2) E.1 hb dX9_init_9 rfl ?_
  obtain ⟨_, A3, h1, hge, hup, hf⟩ := bda_s hf
  refine c_kv hS (va_runI ⟨E.1, hb, hml, E.2.1, E.2.2.1⟩ (zJ2_init h1) (cwI 1 E.2.2.1 (lw_meth q208) rfl rfl rfl (E.2.2.1 _ q156) (E.2.2.1 _ q980) (E.2.2.1 _ q207) rfl gnJ2_init ⟨Nat.le_of_ble_eq_true rfl, Nat.le_of_ble_eq_true rfl⟩) (c_preS E hS _) rfl rfl hl.1 rfl (lv_room (Nat.le_of_ble_eq_true rfl)) dX9_init_10 (rm_a hcs hge hup)) hup (fun H locs hS hn => ?_)
  have hcs := rm_a2 hcs hge
  obtain ⟨A4, hk, hw, hf⟩ := pR_s hf
  refine c_pR (k := 0) (f := 800) (r := (some (aN A1))) E hb hS ci_8 hk (hS.1.lt hk rfl) rfl rfl (fun _ => rfl) (Or.inr ⟨hnm, rfl, rfl, q1004⟩) fk_X9_12_X9 (fun _ h => h) (fun q => by cases q <;> exact ⟨rfl, rfl⟩) hw dX9_init_13 (fun H locs hS => ?_)
  have hcs := rm_w (A2 := A4) hcs (by rw [hw]; exact ⟨rfl, rfl⟩)
  refine lv_aload_n E.1 hb dX9_init_16 rfl (lv_at hl 0 rfl) ?_
  obtain ⟨A5, hn9, hw, hf⟩ := nwO_s hf
  obtain ⟨hck, hf⟩ := ck_s hf
  refine c_new E hb hS hcs ci_20 dv_20 q981 q982 q178 hn9 hw hck (rm_up _ _ _ _) dX9_init_17 (fun H cells slots hS hcs => ?_)
  refine lv_dup E.1 hb dX9_init_20 rfl ?_
  obtain ⟨_, A6, h1, hge, hup, hf⟩ := bda_s hf
  refine c_kv hS (va_runI ⟨E.1, hb, hml, E.2.1, E.2.2.1⟩ (zJ15_init h1) (cwI 0 E.2.2.1 (lw_meth q985) rfl rfl rfl (E.2.2.1 _ q178) (E.2.2.1 _ q983) (E.2.2.1 _ q984) rfl gnJ15_init ⟨Nat.le_of_ble_eq_true rfl, Nat.le_of_ble_eq_true rfl⟩) (c_preS E hS _) rfl rfl hl.1 rfl (lv_room (Nat.le_of_ble_eq_true rfl)) dX9_init_21 (rm_a hcs hge hup)) hup (fun H locs hS hn => ?_)
  have hcs := rm_a2 hcs hge
  obtain ⟨A7, hk, hw, hf⟩ := pR_s hf
  refine c_pR (k := 1) (f := 801) (r := (some (aN A4))) E hb hS ci_8 hk (hS.1.lt hk rfl) rfl rfl (fun _ => rfl) (Or.inr ⟨hnm, rfl, rfl, q1005⟩) fk_X9_21_X9 (fun _ h => h) (fun q => by cases q <;> exact ⟨rfl, rfl⟩) hw dX9_init_24 (fun H locs hS => ?_)
  have hcs := rm_w (A2 := A7) hcs (by rw [hw]; exact ⟨rfl, rfl⟩)
  exact c_vr E hb hr hlk hS (rm_e ⟨Nat.le_trans hcs.1 hS.2.2.2.2.1, Nat.le_trans hcs.2 hS.2.2.2.2.2⟩) hf dX9_init_27
theorem gw_X9_25 : GoodIn lw_all (wsV RX9 25 RJ15 yJ15_append (ws_ yJ15_append cJ15_append 2 (some (.object "java/lang/StringBuilder")))) := lw_V q1094 q1095 q1096 q178 q1097
theorem gnJ15_append : yJ15_append.cls ≠ "java/lang/invoke/MethodHandle" ∧ yJ15_append.cls ≠ "java/lang/invoke/VarHandle" ∧ (parseMethodDescriptor yJ15_append.desc).map (fun d => d.parameters.length) = some 1 := by decide +kernel
theorem gw_X9_29 : GoodIn lw_all (va_wsF RX9 29 "java/util/ArrayList" ⟨"java/util/List", "add", "(Ljava/lang/Object;)Z"⟩ yJ2_add (ws_ yJ2_add cJ2_add 2 (some .boolean))) := lw_F q1150 q883 q885 q156 q887
/-! MarginFolk$Chain.add(CLMarginFolk$Value;)V: RW -/
noncomputable def X9_add (A0 : AH) (x0 : Nat) (x1 : Int32) (x2 : Nat) : Option (Unit × AH) :=
  ck A0 (bo (gN 8 A0 801 x0) fun q1 => if aK A0 q1 = 20 then ( bda A0 (J15_append A0 q1 x1) fun r2 A3 => bo r2 fun q4 => bo (gN 8 A3 800 x0) fun q5 => if aK A3 q5 = 18 then ( bda A3 (J2_add A3 q5 x2) fun r6 A7 => some ((), A7)) else none) else none)
set_option maxHeartbeats 4000000 in
theorem zX9_add {l : Launch} {dC : Nat → ClassId} {dI : Nat → Nat → Nat} {ac : Nat → ClassId} {ad : Nat → Nat} {b : Prop} {A0 : AH} {x0 : Nat} {x1 : Int32} {x2 : Nat} {A' : AH} (hf : X9_add A0 x0 x1 x2 = some ((), A')) : Met l yX9_add (ws_ yX9_add cX9_add 3 none) { frames := 10, cells := aN A' - aN A0, slots := aS A' - aS A0, locals := 215 } (va_Pc [.ref (ad x0), .int x1, .ref (ad x2)] (cPre dC dI ac ad b A0)) (cQv dC dI ac ad b (aN A0) (aS A0) (aN A') (aS A') A') (aN A' - aN A0) (aS A' - aS A0) (cF ad) := by
  unfold X9_add at hf
  obtain ⟨hck0, hf⟩ := ck_s hf
  refine c_of hck0 RX9 (plainFor_of_name (by decide)) rfl (Nat.le_of_ble_eq_true rfl) ?_
  intro p e s m args below meth c E hb hr hlk hnm hml hS ls hl
  have hl : lv_has ls 3 [(0, .ref (ad x0)), (1, .int x1), (2, .ref (ad x2))] := hl
  have hcs : aN A0 + 0 ≤ aN A0 ∧ aS A0 + 0 ≤ aS A0 := ⟨Nat.le_refl _, Nat.le_refl _⟩
  refine lv_aload_n E.1 hb dX9_add_0 rfl (lv_at hl 0 rfl) ?_
  obtain ⟨q1, hk, hf⟩ := gN_s hf
  refine c_gN (k := 1) (f := 801) E hb hS ci_8 hk.1 rfl rfl rfl hk.2 fk_X9_21_X9 (fun _ h => h) dX9_add_1 ?_
  refine lv_iload_n E.1 hb dX9_add_4 rfl (lv_at hl 1 rfl) ?_
  obtain ⟨hkr, hf⟩ := gu_s hf
  obtain ⟨r2, A3, h1, hge, hup, hf⟩ := bda_s hf
  refine c_kq hS (va_runV ⟨E.1, hb, hml, E.2.1, E.2.2.1⟩ (zJ15_append h1) (cwV 1 E.2.2.1 gw_X9_25 rfl rfl rfl ⟨rfl, gnJ15_append⟩ ⟨Nat.le_of_ble_eq_true rfl, Nat.le_of_ble_eq_true rfl⟩) (c_preV E hS ci_20 hkr (hS.1.lt hkr rfl) _) rfl rfl hl.1 rfl (lv_room (Nat.le_of_ble_eq_true rfl)) dX9_add_5 (rm_a hcs hge hup)) hup (fun H locs hS hn => ?_)
  have hcs := rm_a2 hcs hge
  obtain ⟨q4, hr9, hf⟩ := bo_s hf
  refine c_dr hr9 ?_
  refine lv_pop E.1 hb dX9_add_8 rfl ?_
  refine lv_aload_n E.1 hb dX9_add_9 rfl (lv_at hl 0 rfl) ?_
  obtain ⟨q5, hk, hf⟩ := gN_s hf
  refine c_gN (k := 0) (f := 800) E hb hS ci_8 hk.1 rfl rfl rfl hk.2 fk_X9_12_X9 (fun _ h => h) dX9_add_10 ?_
  refine lv_aload_n E.1 hb dX9_add_13 rfl (lv_at hl 2 rfl) ?_
  obtain ⟨hkr, hf⟩ := gu_s hf
  obtain ⟨r6, A7, h1, hge, hup, hf⟩ := bda_s hf
  refine c_kFi hS (va_runF (E.2.2.2.1.1 17 _ ci_18.1).2 ⟨E.1, hb, hml, E.2.1, E.2.2.1⟩ (zJ2_add h1) (va_cwF 1 E.2.2.1 gw_X9_29 rfl rfl rfl (cFw E 2 rfl) gx_add ⟨Nat.le_of_ble_eq_true rfl, Nat.le_of_ble_eq_true rfl⟩) (c_preV E hS ci_18 hkr (hS.1.lt hkr rfl) _) rfl rfl hl.1 rfl (lv_room (Nat.le_of_ble_eq_true rfl)) dX9_add_14 (rm_a hcs hge hup)) hup (fun H locs hS hn => ?_)
  have hcs := rm_a2 hcs hge
  refine lv_pop E.1 hb dX9_add_19 rfl ?_
  exact c_vr E hb hr hlk hS (rm_e ⟨Nat.le_trans hcs.1 hS.2.2.2.2.1, Nat.le_trans hcs.2 hS.2.2.2.2.2⟩) hf dX9_add_20
/-! MarginFolk$Reader.takes(I)Z: RW -/
noncomputable def X2_takes_b28 (N : Nat) (x1 : Int32) (A : AH) (x2 : Int32) (y0 : Int32) (y1 : Int32) : Option (Int32 × AH) :=
  lt2 (wI A 302 9 0 (y1 + y0)) fun A3 => if x2 &&& 1 = x2 then some (x2, A3) else none
noncomputable def X2_takes_b13 (N : Nat) (x1 : Int32) (A : AH) (y0 : Int32) : Option (Int32 × AH) :=
  if y0 = 0 then (X2_takes_b28 N x1 A y0 0 (aI A 302 9 0)) else (X2_takes_b28 N x1 A y0 1 (aI A 302 9 0))
noncomputable def X2_takes (N : Nat) (A0 : AH) (x1 : Int32) : Option (Int32 × AH) :=
  bd (X2_here N A0) fun r1 A2 => if r1 = x1 then (X2_takes_b13 N x1 A2 1) else (X2_takes_b13 N x1 A2 0)
abbrev rX2_takes : Room := { frames := 2, cells := 0, slots := 0, locals := 41 }
set_option maxHeartbeats 4000000 in
theorem zX2_takes {l : Launch} {dC : Nat → ClassId} {dI : Nat → Nat → Nat} {ac : Nat → ClassId} {ad : Nat → Nat} {N : Nat} {A0 : AH} {x1 : Int32} {r : Int32} {A' : AH} (hf : X2_takes N A0 x1 = some (r, A')) : Met l yX2_takes (ws_ yX2_takes cX2_takes 3 (some .boolean)) { frames := 2, cells := 0, slots := 0, locals := 41 } (va_Pc [.ref (ad 9), .int x1] (cPre dC dI ac ad True A0)) (cQi dC dI ac ad True (aN A0) (aS A0) (aN A0) (aS A0) r A') 0 0 (cF ad) := by
  unfold X2_takes at hf
  refine c_of ⟨Nat.le_refl _, Nat.le_refl _⟩ RX2 (plainFor_of_name (by decide)) rfl (Nat.le_of_ble_eq_true rfl) ?_
  intro p e s m args below meth c E hb hr hlk hnm hml hS ls hl
  have hl : lv_has ls 3 [(0, .ref (ad 9)), (1, .int x1)] := hl
  have hB28 : ∀ (A : AH) (x2 : Int32) (y0 : Int32) (y1 : Int32), X2_takes_b28 N x1 A x2 y0 y1 = some (r, A') → ∀ (H : Heap) (locs : List Loc), cS dC dI ac ad True s.heap (aN A0) (aS A0) (aN A0) (aS A0) A H locs → ∀ (ls : Array Slot), lv_has ls 3 [(0, .ref (ad 9)), (1, .int x1), (2, .int x2)] → W p l e rX2_takes s m args below meth c H locs 0 0 (MQ below (cQi dC dI ac ad True (aN A0) (aS A0) (aN A0) (aS A0) r A') args s 0 0 (cF ad)) (F0 m 28 ls [.int y0, .int y1, .ref (ad 9)]) := by
    intro A x2 y0 y1 hf H locs hS ls hl
    unfold X2_takes_b28 at hf
    refine lv_iadd E.1 hb dX2_takes_28 ?_
    obtain ⟨A3, hw, hf⟩ := lt2_s hf
    refine c_pI (k := 2) (f := 302) E hb hS ci_3 (sK hS (by decide) rfl) (hS.1.lt (sK hS (by decide) rfl) rfl) rfl rfl (Or.inl rfl) fk_X2_36_X2 (fun _ h => h) rfl rfl hw dX2_takes_29 (fun H locs hS => ?_)
    refine lv_iload_n E.1 hb dX2_takes_32 rfl (lv_at hl 2 rfl) ?_
    obtain ⟨hn, hf⟩ := gu_s hf
    exact c_zr (ty := .boolean) E hb hr hlk hS ⟨Nat.le_refl 0, Nat.le_refl 0⟩ (nz_b hn) hf dX2_takes_33
  have hB13 : ∀ (A : AH) (y0 : Int32), X2_takes_b13 N x1 A y0 = some (r, A') → ∀ (H : Heap) (locs : List Loc), cS dC dI ac ad True s.heap (aN A0) (aS A0) (aN A0) (aS A0) A H locs → ∀ (ls : Array Slot), lv_has ls 3 [(0, .ref (ad 9)), (1, .int x1)] → W p l e rX2_takes s m args below meth c H locs 0 0 (MQ below (cQi dC dI ac ad True (aN A0) (aS A0) (aN A0) (aS A0) r A') args s 0 0 (cF ad)) (F0 m 13 ls [.int y0]) := by
    intro A y0 hf H locs hS ls hl
    unfold X2_takes_b13 at hf
    refine lv_istore_n (lv' := [(2, .int y0), (0, .ref (ad 9)), (1, .int x1)]) E.1 hb dX2_takes_13 rfl hl (by decide) rfl (fun ls hl => ?_)
    refine lv_aload_n E.1 hb dX2_takes_14 rfl (lv_at hl 1 rfl) ?_
    refine lv_dup E.1 hb dX2_takes_15 rfl ?_
    refine c_gI (k := 2) (f := 302) E hb hS ci_3 (sK hS (by decide) rfl) rfl rfl rfl fk_X2_36_X2 (fun _ h => h) dX2_takes_16 ?_
    refine lv_iload_n E.1 hb dX2_takes_19 rfl (lv_at hl 0 rfl) ?_
    refine lv_if_eq (tgt := 27) E.1 hb dX2_takes_20 (by decide) (fun hc => ?_) (fun hc => ?_)
    · have hf := it_s hc hf
      refine lv_iconst (v := 0) E.1 hb dX2_takes_27 rfl ?_
      exact hB28 A y0 0 (aI A 302 9 0) hf _ _ hS _ (lv_sub hl [1, 2, 0] rfl)
    · have hf := if_s hc hf
      refine lv_iconst (v := 1) E.1 hb dX2_takes_23 rfl ?_
      refine lv_goto (tgt := 28) E.1 hb dX2_takes_24 (by decide) ?_
      exact hB28 A y0 1 (aI A 302 9 0) hf _ _ hS _ (lv_sub hl [1, 2, 0] rfl)
  refine lv_aload_n E.1 hb dX2_takes_0 rfl (lv_at hl 0 rfl) ?_
  obtain ⟨r1, A2, h1, hf⟩ := bd_s hf
  refine c_ki hS (va_runV ⟨E.1, hb, hml, E.2.1, E.2.2.1⟩ (zX2_here h1) (cwV 0 E.2.2.1 gw_X2_43 rfl rfl rfl ⟨rfl, gnX2_here⟩ ⟨Nat.le_of_ble_eq_true rfl, Nat.le_of_ble_eq_true rfl⟩) (c_preV E hS ci_3 (sK hS (by decide) rfl) (hS.1.lt (sK hS (by decide) rfl) rfl) _) rfl rfl hl.1 rfl (lv_room (Nat.le_of_ble_eq_true rfl)) dX2_takes_1 ⟨Nat.le_refl 0, Nat.le_refl 0⟩) hS.2.2.2.2 (fun H locs hS hn => ?_)
  refine lv_iload_n E.1 hb dX2_takes_4 rfl (lv_at hl 1 rfl) ?_
  refine lv_icmp_ne (tgt := 12) E.1 hb dX2_takes_5 (by decide) (fun hc => ?_) (fun hc => ?_)
  · have hf := if_s hc hf
    refine lv_iconst (v := 0) E.1 hb dX2_takes_12 rfl ?_
    exact hB13 A2 0 hf _ _ hS _ (lv_sub hl [0, 1] rfl)
  · have hf := it_s hc hf
    refine lv_iconst (v := 1) E.1 hb dX2_takes_8 rfl ?_
    refine lv_goto (tgt := 13) E.1 hb dX2_takes_9 (by decide) ?_
    exact hB13 A2 1 hf _ _ hS _ (lv_sub hl [0, 1] rfl)
theorem gw_X2_251 : GoodIn lw_all (wsV RX2 251 RX2 yX2_takes (ws_ yX2_takes cX2_takes 3 (some .boolean))) := lw_V q1151 q1153 qs29 q157 q1154
theorem gnX2_takes : yX2_takes.cls ≠ "java/lang/invoke/MethodHandle" ∧ yX2_takes.cls ≠ "java/lang/invoke/VarHandle" ∧ (parseMethodDescriptor yX2_takes.desc).map (fun d => d.parameters.length) = some 1 := by decide +kernel
theorem gw_X2_248 : GoodIn lw_all (wsV RX2 248 RX9 yX9_add (ws_ yX9_add cX9_add 3 none)) := lw_V q1090 q1091 q1092 q176 q1093
theorem gnX9_add : yX9_add.cls ≠ "java/lang/invoke/MethodHandle" ∧ yX9_add.cls ≠ "java/lang/invoke/VarHandle" ∧ (parseMethodDescriptor yX9_add.desc).map (fun d => d.parameters.length) = some 2 := by decide +kernel
theorem gnX9_init : yX9_init.cls ≠ "java/lang/invoke/MethodHandle" ∧ yX9_init.cls ≠ "java/lang/invoke/VarHandle" ∧ (parseMethodDescriptor yX9_init.desc).map (fun d => d.parameters.length) = some 0 := by decide +kernel
/-! MarginFolk$Reader.product()LMarginFolk$Value;: RW -/
noncomputable def X2_product_b20 (N : Nat) (ra : AH → Option (Option (Option Nat) × AH)) (k20 : AH → Nat → Int32 → Option (Option (Option Nat) × AH)) (A : AH) (x1 : Nat) (x2 : Int32) : Option (Option (Option Nat) × AH) :=
  if x2 = 0 then (some (some (some x1), A)) else (bd (X2_takes N A 42) fun r8 A9 => if r8 = 0 then (bd (X2_takes N A9 47) fun r10 A11 => if r10 = 0 then (k20 A11 x1 0) else (bxa A11 (ra A11) fun r12 A13 => bo r12 fun q15 => if aK A13 x1 = 8 then ( bda A13 (X9_add A13 x1 47 q15) fun _ A16 => k20 A16 x1 x2) else none)) else (bxa A9 (ra A9) fun r17 A18 => bo r17 fun q20 => if aK A18 x1 = 8 then ( bda A18 (X9_add A18 x1 42 q20) fun _ A21 => k20 A21 x1 x2) else none))
noncomputable def X2_product (N : Nat) (ra : AH → Option (Option (Option Nat) × AH)) (A0 : AH) : Option (Option (Option Nat) × AH) :=
  ck A0 (bo (nwO A0 8 2) fun A1 => ck A1 ( bda A1 (X9_init A1 (aN A0)) fun _ A2 => bxa A2 (ra A2) fun r3 A4 => bo r3 fun q6 => if aK A4 (aN A0) = 8 then ( bda A4 (X9_add A4 (aN A0) 42 q6) fun _ A7 => rn3 (X2_product_b20 N ra) N A7 (aN A0) 1) else none))
set_option maxHeartbeats 4000000 in
theorem zX2_product {l : Launch} {dC : Nat → ClassId} {dI : Nat → Nat → Nat} {ac : Nat → ClassId} {ad : Nat → Nat} {N : Nat} {ra : AH → Option (Option (Option Nat) × AH)} {fa la : Nat} (ha : RcA l dC dI ac ad yX2_atom cX2_atom 3 (.object "MarginFolk$Value") fa la ra) {A0 : AH} {o : Option (Option Nat)} {A' : AH} (hf : X2_product N ra A0 = some (o, A')) : vx_Met l yX2_product (ws_ yX2_product cX2_product 3 (some (.object "MarginFolk$Value"))) { frames := fa + 11, cells := aN A' - aN A0, slots := aS A' - aS A0, locals := la + 237 } (va_Pc [.ref (ad 9)] (cPre dC dI ac ad True A0)) (cQxq dC dI ac ad True (aN A0) (aS A0) (aN A') (aS A') o A') (cXC dC dI ac ad True (aN A0) (aS A0) (aN A') (aS A') o A') (aN A' - aN A0) (aS A' - aS A0) (cF ad) := by
  unfold X2_product at hf
  obtain ⟨hck0, hf⟩ := ck_s hf
  refine c_ofx hck0 RX2 (by decide) rfl (Nat.le_of_ble_eq_true rfl) ?_
  intro p e s m args below meth c E hb hr hlk hnm hml hnx hS ls hl
  have hl : lv_has ls 3 [(0, .ref (ad 9))] := hl
  have hcs : aN A0 + 0 ≤ aN A0 ∧ aS A0 + 0 ≤ aS A0 := ⟨Nat.le_refl _, Nat.le_refl _⟩
  have hL20 : ∀ (n : Nat) (A : AH) (x1 : Nat) (x2 : Int32), rn3 (X2_product_b20 N ra) n A x1 x2 = some (o, A') → ∀ (H : Heap) (locs : List Loc) (cells slots : Nat), aN A0 + cells ≤ aN A ∧ aS A0 + slots ≤ aS A →  cS dC dI ac ad True s.heap (aN A0) (aS A0) (aN A') (aS A') A H locs → ∀ (ls : Array Slot), lv_has ls 3 [(0, .ref (ad 9)), (1, .ref (ad x1)), (2, .int x2)] → W p l e { frames := fa + 11, cells := aN A' - aN A0, slots := aS A' - aS A0, locals := la + 237 } s m args below meth c H locs cells slots (vx_MQ below (cQxq dC dI ac ad True (aN A0) (aS A0) (aN A') (aS A') o A') (cXC dC dI ac ad True (aN A0) (aS A0) (aN A') (aS A') o A') args s (aN A' - aN A0) (aS A' - aS A0) (cF ad)) (F0 m 20 ls []) := by
    intro  n
    induction n with
    | zero =>
      intro A x1 x2 hf
      cases hf
    | succ n ih =>
      intro A x1 x2 hf H locs cells slots hcs hS ls hl
      have hf : X2_product_b20 N ra (rn3 (X2_product_b20 N ra) n) A x1 x2 = some (o, A') := hf
      have hk20 := ih
      generalize rn3 (X2_product_b20 N ra) n = k20 at hf hk20
      unfold X2_product_b20 at hf
      refine lv_iload_n E.1 hb dX2_product_20 rfl (lv_at hl 2 rfl) ?_
      refine lv_if_eq (tgt := 73) E.1 hb dX2_product_21 (by decide) (fun hc => ?_) (fun hc => ?_)
      · have hf := it_s hc hf
        refine lv_aload_n E.1 hb dX2_product_73 rfl (lv_at hl 1 rfl) ?_
        exact x_ar E hb hr (Or.inl ⟨_, rfl⟩) hlk hS (rm_e ⟨Nat.le_trans hcs.1 hS.2.2.2.2.1, Nat.le_trans hcs.2 hS.2.2.2.2.2⟩) (v := (some x1)) hf dX2_product_74
      · have hf := if_s hc hf
        refine lv_aload_n E.1 hb dX2_product_24 rfl (lv_at hl 0 rfl) ?_
        refine lv_bipush (v := 42) E.1 hb dX2_product_25 rfl ?_
        obtain ⟨r8, A9, h1, hf⟩ := bd_s hf
        refine c_ki hS (va_runV ⟨E.1, hb, hml, E.2.1, E.2.2.1⟩ (zX2_takes h1) (cwV 1 E.2.2.1 gw_X2_251 rfl rfl rfl ⟨rfl, gnX2_takes⟩ ⟨by dsimp only; omega, by dsimp only; omega⟩) (c_preV E hS ci_3 (sK hS (by decide) rfl) (hS.1.lt (sK hS (by decide) rfl) rfl) _) rfl rfl hl.1 rfl (lv_room (Nat.le_of_ble_eq_true rfl)) dX2_product_27 (rm_n hcs hS.2.2.2.2)) hS.2.2.2.2 (fun H locs hS hn => ?_)
        have hcs := rm_n2 hcs hn
        refine lv_if_eq (tgt := 46) E.1 hb dX2_product_30 (by decide) (fun hc => ?_) (fun hc => ?_)
        · have hf := it_s hc hf
          refine lv_aload_n E.1 hb dX2_product_46 rfl (lv_at hl 0 rfl) ?_
          refine lv_bipush (v := 47) E.1 hb dX2_product_47 rfl ?_
          obtain ⟨r10, A11, h1, hf⟩ := bd_s hf
          refine c_ki hS (va_runV ⟨E.1, hb, hml, E.2.1, E.2.2.1⟩ (zX2_takes h1) (cwV 1 E.2.2.1 gw_X2_251 rfl rfl rfl ⟨rfl, gnX2_takes⟩ ⟨by dsimp only; omega, by dsimp only; omega⟩) (c_preV E hS ci_3 (sK hS (by decide) rfl) (hS.1.lt (sK hS (by decide) rfl) rfl) _) rfl rfl hl.1 rfl (lv_room (Nat.le_of_ble_eq_true rfl)) dX2_product_49 (rm_n hcs hS.2.2.2.2)) hS.2.2.2.2 (fun H locs hS hn => ?_)
          have hcs := rm_n2 hcs hn
          refine lv_if_eq (tgt := 68) E.1 hb dX2_product_52 (by decide) (fun hc => ?_) (fun hc => ?_)
          · have hf := it_s hc hf
            refine lv_iconst (v := 0) E.1 hb dX2_product_68 rfl ?_
            refine lv_istore_n (lv' := [(2, .int 0), (0, .ref (ad 9)), (1, .ref (ad x1))]) E.1 hb dX2_product_69 rfl hl (by decide) rfl (fun ls hl => ?_)
            refine lv_goto (tgt := 20) E.1 hb dX2_product_70 (by decide) ?_
            exact hk20 A11 x1 0 hf _ _ _ _ hcs hS _ (lv_sub hl [1, 2, 0] rfl)
          · have hf := if_s hc hf
            refine lv_aload_n E.1 hb dX2_product_55 rfl (lv_at hl 1 rfl) ?_
            refine lv_bipush (v := 47) E.1 hb dX2_product_56 rfl ?_
            refine lv_aload_n E.1 hb dX2_product_58 rfl (lv_at hl 0 rfl) ?_
            obtain ⟨o14, A13, h1, hge, hup, hf⟩ := bxa_s hf
            refine x_kq hS (vx_runV ⟨E.1, hb, hml, E.2.1, E.2.2.1⟩ (ha _ _ _ h1) (cwV 0 E.2.2.1 gw_X2_254 rfl rfl rfl ⟨rfl, gnX2_atom⟩ ⟨by dsimp only; omega, by dsimp only; omega⟩) (c_preV E hS ci_3 (sK hS (by decide) rfl) (hS.1.lt (sK hS (by decide) rfl) rfl) _) rfl rfl hl.1 rfl (lv_room (Nat.le_of_ble_eq_true rfl)) dX2_product_59 (rm_a hcs hge hup)) hup (fun ho H locs hS hn => ?_) (fun r12 ho H locs hS hn => ?_)
            · subst ho
              have hcs := rm_a2 hcs hge
              exact x_out E hnx hlk hS (rm_e ⟨Nat.le_trans hcs.1 hS.2.2.2.2.1, Nat.le_trans hcs.2 hS.2.2.2.2.2⟩) (xm_n hf)
            subst ho
            have hcs := rm_a2 hcs hge
            have hf := xm_s hf
            obtain ⟨q15, hr9, hf⟩ := bo_s hf
            refine c_dr hr9 ?_
            obtain ⟨hkr, hf⟩ := gu_s hf
            obtain ⟨_, A16, h1, hge, hup, hf⟩ := bda_s hf
            refine c_kv hS (va_runV ⟨E.1, hb, hml, E.2.1, E.2.2.1⟩ (zX9_add h1) (cwV 2 E.2.2.1 gw_X2_248 rfl rfl rfl ⟨rfl, gnX9_add⟩ ⟨by dsimp only; omega, by dsimp only; omega⟩) (c_preV E hS ci_8 hkr (hS.1.lt hkr rfl) _) rfl rfl hl.1 rfl (lv_room (Nat.le_of_ble_eq_true rfl)) dX2_product_62 (rm_a hcs hge hup)) hup (fun H locs hS hn => ?_)
            have hcs := rm_a2 hcs hge
            refine lv_goto (tgt := 20) E.1 hb dX2_product_65 (by decide) ?_
            exact hk20 A16 x1 x2 hf _ _ _ _ hcs hS _ (lv_sub hl [0, 1, 2] rfl)
        · have hf := if_s hc hf
          refine lv_aload_n E.1 hb dX2_product_33 rfl (lv_at hl 1 rfl) ?_
          refine lv_bipush (v := 42) E.1 hb dX2_product_34 rfl ?_
          refine lv_aload_n E.1 hb dX2_product_36 rfl (lv_at hl 0 rfl) ?_
          obtain ⟨o19, A18, h1, hge, hup, hf⟩ := bxa_s hf
          refine x_kq hS (vx_runV ⟨E.1, hb, hml, E.2.1, E.2.2.1⟩ (ha _ _ _ h1) (cwV 0 E.2.2.1 gw_X2_254 rfl rfl rfl ⟨rfl, gnX2_atom⟩ ⟨by dsimp only; omega, by dsimp only; omega⟩) (c_preV E hS ci_3 (sK hS (by decide) rfl) (hS.1.lt (sK hS (by decide) rfl) rfl) _) rfl rfl hl.1 rfl (lv_room (Nat.le_of_ble_eq_true rfl)) dX2_product_37 (rm_a hcs hge hup)) hup (fun ho H locs hS hn => ?_) (fun r17 ho H locs hS hn => ?_)
          · subst ho
            have hcs := rm_a2 hcs hge
            exact x_out E hnx hlk hS (rm_e ⟨Nat.le_trans hcs.1 hS.2.2.2.2.1, Nat.le_trans hcs.2 hS.2.2.2.2.2⟩) (xm_n hf)
          subst ho
          have hcs := rm_a2 hcs hge
          have hf := xm_s hf
          obtain ⟨q20, hr9, hf⟩ := bo_s hf
          refine c_dr hr9 ?_
          obtain ⟨hkr, hf⟩ := gu_s hf
          obtain ⟨_, A21, h1, hge, hup, hf⟩ := bda_s hf
          refine c_kv hS (va_runV ⟨E.1, hb, hml, E.2.1, E.2.2.1⟩ (zX9_add h1) (cwV 2 E.2.2.1 gw_X2_248 rfl rfl rfl ⟨rfl, gnX9_add⟩ ⟨by dsimp only; omega, by dsimp only; omega⟩) (c_preV E hS ci_8 hkr (hS.1.lt hkr rfl) _) rfl rfl hl.1 rfl (lv_room (Nat.le_of_ble_eq_true rfl)) dX2_product_40 (rm_a hcs hge hup)) hup (fun H locs hS hn => ?_)
          have hcs := rm_a2 hcs hge
          refine lv_goto (tgt := 20) E.1 hb dX2_product_43 (by decide) ?_
          exact hk20 A21 x1 x2 hf _ _ _ _ hcs hS _ (lv_sub hl [0, 1, 2] rfl)
  obtain ⟨A1, hn9, hw, hf⟩ := nwO_s hf
  obtain ⟨hck, hf⟩ := ck_s hf
  refine c_new E hb hS hcs ci_8 dv_8 q970 q971 q176 hn9 hw hck (rm_up _ _ _ _) dX2_product_0 (fun H cells slots hS hcs => ?_)
  refine lv_dup E.1 hb dX2_product_3 rfl ?_
  obtain ⟨_, A2, h1, hge, hup, hf⟩ := bda_s hf
  refine c_kv hS (va_runIN ⟨E.1, hb, hml, E.2.1, E.2.2.1⟩ (zX9_init h1) ⟨va_cnB 0 E.2.2.1 (lw_meth q974) rfl rfl rfl (E.2.2.2.2.1 _ q972 rfl) (E.2.2.1 _ q176) gnX9_init ⟨by dsimp only; omega, by dsimp only; omega⟩, rfl, E.2.2.1 _ q973⟩ (c_preS E hS _) rfl rfl hl.1 rfl (lv_room (Nat.le_of_ble_eq_true rfl)) dX2_product_4 (rm_a hcs hge hup)) hup (fun H locs hS hn => ?_)
  have hcs := rm_a2 hcs hge
  refine lv_astore_n (lv' := [(1, .ref (ad (aN A0))), (0, .ref (ad 9))]) E.1 hb dX2_product_7 rfl hl (by decide) rfl (fun ls hl => ?_)
  refine lv_aload_n E.1 hb dX2_product_8 rfl (lv_at hl 0 rfl) ?_
  refine lv_bipush (v := 42) E.1 hb dX2_product_9 rfl ?_
  refine lv_aload_n E.1 hb dX2_product_11 rfl (lv_at hl 1 rfl) ?_
  obtain ⟨o5, A4, h1, hge, hup, hf⟩ := bxa_s hf
  refine x_kq hS (vx_runV ⟨E.1, hb, hml, E.2.1, E.2.2.1⟩ (ha _ _ _ h1) (cwV 0 E.2.2.1 gw_X2_254 rfl rfl rfl ⟨rfl, gnX2_atom⟩ ⟨by dsimp only; omega, by dsimp only; omega⟩) (c_preV E hS ci_3 (sK hS (by decide) rfl) (hS.1.lt (sK hS (by decide) rfl) rfl) _) rfl rfl hl.1 rfl (lv_room (Nat.le_of_ble_eq_true rfl)) dX2_product_12 (rm_a hcs hge hup)) hup (fun ho H locs hS hn => ?_) (fun r3 ho H locs hS hn => ?_)
  · subst ho
    have hcs := rm_a2 hcs hge
    exact x_out E hnx hlk hS (rm_e ⟨Nat.le_trans hcs.1 hS.2.2.2.2.1, Nat.le_trans hcs.2 hS.2.2.2.2.2⟩) (xm_n hf)
  subst ho
  have hcs := rm_a2 hcs hge
  have hf := xm_s hf
  obtain ⟨q6, hr9, hf⟩ := bo_s hf
  refine c_dr hr9 ?_
  obtain ⟨hkr, hf⟩ := gu_s hf
  obtain ⟨_, A7, h1, hge, hup, hf⟩ := bda_s hf
  refine c_kv hS (va_runV ⟨E.1, hb, hml, E.2.1, E.2.2.1⟩ (zX9_add h1) (cwV 2 E.2.2.1 gw_X2_248 rfl rfl rfl ⟨rfl, gnX9_add⟩ ⟨by dsimp only; omega, by dsimp only; omega⟩) (c_preV E hS ci_8 hkr (hS.1.lt hkr rfl) _) rfl rfl hl.1 rfl (lv_room (Nat.le_of_ble_eq_true rfl)) dX2_product_15 (rm_a hcs hge hup)) hup (fun H locs hS hn => ?_)
  have hcs := rm_a2 hcs hge
  refine lv_iconst (v := 1) E.1 hb dX2_product_18 rfl ?_
  refine lv_istore_n (lv' := [(2, .int 1), (1, .ref (ad (aN A0))), (0, .ref (ad 9))]) E.1 hb dX2_product_19 rfl hl (by decide) rfl (fun ls hl => ?_)
  exact hL20 N A7 (aN A0) 1 hf _ _ _ _ hcs hS _ (lv_sub hl [2, 1, 0] rfl)
theorem gw_X2_245 : GoodIn lw_all (wsV RX2 245 RX2 yX2_product (ws_ yX2_product cX2_product 3 (some (.object "MarginFolk$Value")))) := lw_V q1011 q1013 qs24 q157 q1014
theorem gnX2_product : yX2_product.cls ≠ "java/lang/invoke/MethodHandle" ∧ yX2_product.cls ≠ "java/lang/invoke/VarHandle" ∧ (parseMethodDescriptor yX2_product.desc).map (fun d => d.parameters.length) = some 0 := by decide +kernel
/-! MarginFolk$Reader.sum()LMarginFolk$Value;: RW -/
noncomputable def X2_sum_b20 (N : Nat) (ra : AH → Option (Option (Option Nat) × AH)) (k20 : AH → Nat → Int32 → Option (Option (Option Nat) × AH)) (A : AH) (x1 : Nat) (x2 : Int32) : Option (Option (Option Nat) × AH) :=
  if x2 = 0 then (some (some (some x1), A)) else (bd (X2_takes N A 43) fun r8 A9 => if r8 = 0 then (bd (X2_takes N A9 45) fun r10 A11 => if r10 = 0 then (k20 A11 x1 0) else (bxa A11 (X2_product N ra A11) fun r12 A13 => bo r12 fun q15 => if aK A13 x1 = 8 then ( bda A13 (X9_add A13 x1 45 q15) fun _ A16 => k20 A16 x1 x2) else none)) else (bxa A9 (X2_product N ra A9) fun r17 A18 => bo r17 fun q20 => if aK A18 x1 = 8 then ( bda A18 (X9_add A18 x1 43 q20) fun _ A21 => k20 A21 x1 x2) else none))
noncomputable def X2_sum (N : Nat) (ra : AH → Option (Option (Option Nat) × AH)) (A0 : AH) : Option (Option (Option Nat) × AH) :=
  ck A0 (bo (nwO A0 8 2) fun A1 => ck A1 ( bda A1 (X9_init A1 (aN A0)) fun _ A2 => bxa A2 (X2_product N ra A2) fun r3 A4 => bo r3 fun q6 => if aK A4 (aN A0) = 8 then ( bda A4 (X9_add A4 (aN A0) 43 q6) fun _ A7 => rn3 (X2_sum_b20 N ra) N A7 (aN A0) 1) else none))
set_option maxHeartbeats 4000000 in
theorem zX2_sum {l : Launch} {dC : Nat → ClassId} {dI : Nat → Nat → Nat} {ac : Nat → ClassId} {ad : Nat → Nat} {N : Nat} {ra : AH → Option (Option (Option Nat) × AH)} {fa la : Nat} (ha : RcA l dC dI ac ad yX2_atom cX2_atom 3 (.object "MarginFolk$Value") fa la ra) {A0 : AH} {o : Option (Option Nat)} {A' : AH} (hf : X2_sum N ra A0 = some (o, A')) : vx_Met l yX2_sum (ws_ yX2_sum cX2_sum 3 (some (.object "MarginFolk$Value"))) { frames := fa + 12, cells := aN A' - aN A0, slots := aS A' - aS A0, locals := la + 259 } (va_Pc [.ref (ad 9)] (cPre dC dI ac ad True A0)) (cQxq dC dI ac ad True (aN A0) (aS A0) (aN A') (aS A') o A') (cXC dC dI ac ad True (aN A0) (aS A0) (aN A') (aS A') o A') (aN A' - aN A0) (aS A' - aS A0) (cF ad) := by
  unfold X2_sum at hf
  obtain ⟨hck0, hf⟩ := ck_s hf
  refine c_ofx hck0 RX2 (by decide) rfl (Nat.le_of_ble_eq_true rfl) ?_
  intro p e s m args below meth c E hb hr hlk hnm hml hnx hS ls hl
  have hl : lv_has ls 3 [(0, .ref (ad 9))] := hl
  have hcs : aN A0 + 0 ≤ aN A0 ∧ aS A0 + 0 ≤ aS A0 := ⟨Nat.le_refl _, Nat.le_refl _⟩
  have hL20 : ∀ (n : Nat) (A : AH) (x1 : Nat) (x2 : Int32), rn3 (X2_sum_b20 N ra) n A x1 x2 = some (o, A') → ∀ (H : Heap) (locs : List Loc) (cells slots : Nat), aN A0 + cells ≤ aN A ∧ aS A0 + slots ≤ aS A →  cS dC dI ac ad True s.heap (aN A0) (aS A0) (aN A') (aS A') A H locs → ∀ (ls : Array Slot), lv_has ls 3 [(0, .ref (ad 9)), (1, .ref (ad x1)), (2, .int x2)] → W p l e { frames := fa + 12, cells := aN A' - aN A0, slots := aS A' - aS A0, locals := la + 259 } s m args below meth c H locs cells slots (vx_MQ below (cQxq dC dI ac ad True (aN A0) (aS A0) (aN A') (aS A') o A') (cXC dC dI ac ad True (aN A0) (aS A0) (aN A') (aS A') o A') args s (aN A' - aN A0) (aS A' - aS A0) (cF ad)) (F0 m 20 ls []) := by
    intro  n
    induction n with
    | zero =>
      intro A x1 x2 hf
      cases hf
    | succ n ih =>
      intro A x1 x2 hf H locs cells slots hcs hS ls hl
      have hf : X2_sum_b20 N ra (rn3 (X2_sum_b20 N ra) n) A x1 x2 = some (o, A') := hf
      have hk20 := ih
      generalize rn3 (X2_sum_b20 N ra) n = k20 at hf hk20
      unfold X2_sum_b20 at hf
      refine lv_iload_n E.1 hb dX2_sum_20 rfl (lv_at hl 2 rfl) ?_
      refine lv_if_eq (tgt := 73) E.1 hb dX2_sum_21 (by decide) (fun hc => ?_) (fun hc => ?_)
      · have hf := it_s hc hf
        refine lv_aload_n E.1 hb dX2_sum_73 rfl (lv_at hl 1 rfl) ?_
        exact x_ar E hb hr (Or.inl ⟨_, rfl⟩) hlk hS (rm_e ⟨Nat.le_trans hcs.1 hS.2.2.2.2.1, Nat.le_trans hcs.2 hS.2.2.2.2.2⟩) (v := (some x1)) hf dX2_sum_74
      · have hf := if_s hc hf
        refine lv_aload_n E.1 hb dX2_sum_24 rfl (lv_at hl 0 rfl) ?_
        refine lv_bipush (v := 43) E.1 hb dX2_sum_25 rfl ?_
        obtain ⟨r8, A9, h1, hf⟩ := bd_s hf
        refine c_ki hS (va_runV ⟨E.1, hb, hml, E.2.1, E.2.2.1⟩ (zX2_takes h1) (cwV 1 E.2.2.1 gw_X2_251 rfl rfl rfl ⟨rfl, gnX2_takes⟩ ⟨by dsimp only; omega, by dsimp only; omega⟩) (c_preV E hS ci_3 (sK hS (by decide) rfl) (hS.1.lt (sK hS (by decide) rfl) rfl) _) rfl rfl hl.1 rfl (lv_room (Nat.le_of_ble_eq_true rfl)) dX2_sum_27 (rm_n hcs hS.2.2.2.2)) hS.2.2.2.2 (fun H locs hS hn => ?_)
        have hcs := rm_n2 hcs hn
        refine lv_if_eq (tgt := 46) E.1 hb dX2_sum_30 (by decide) (fun hc => ?_) (fun hc => ?_)
        · have hf := it_s hc hf
          refine lv_aload_n E.1 hb dX2_sum_46 rfl (lv_at hl 0 rfl) ?_
          refine lv_bipush (v := 45) E.1 hb dX2_sum_47 rfl ?_
          obtain ⟨r10, A11, h1, hf⟩ := bd_s hf
          refine c_ki hS (va_runV ⟨E.1, hb, hml, E.2.1, E.2.2.1⟩ (zX2_takes h1) (cwV 1 E.2.2.1 gw_X2_251 rfl rfl rfl ⟨rfl, gnX2_takes⟩ ⟨by dsimp only; omega, by dsimp only; omega⟩) (c_preV E hS ci_3 (sK hS (by decide) rfl) (hS.1.lt (sK hS (by decide) rfl) rfl) _) rfl rfl hl.1 rfl (lv_room (Nat.le_of_ble_eq_true rfl)) dX2_sum_49 (rm_n hcs hS.2.2.2.2)) hS.2.2.2.2 (fun H locs hS hn => ?_)
          have hcs := rm_n2 hcs hn
          refine lv_if_eq (tgt := 68) E.1 hb dX2_sum_52 (by decide) (fun hc => ?_) (fun hc => ?_)
          · have hf := it_s hc hf
            refine lv_iconst (v := 0) E.1 hb dX2_sum_68 rfl ?_
            refine lv_istore_n (lv' := [(2, .int 0), (0, .ref (ad 9)), (1, .ref (ad x1))]) E.1 hb dX2_sum_69 rfl hl (by decide) rfl (fun ls hl => ?_)
            refine lv_goto (tgt := 20) E.1 hb dX2_sum_70 (by decide) ?_
            exact hk20 A11 x1 0 hf _ _ _ _ hcs hS _ (lv_sub hl [1, 2, 0] rfl)
          · have hf := if_s hc hf
            refine lv_aload_n E.1 hb dX2_sum_55 rfl (lv_at hl 1 rfl) ?_
            refine lv_bipush (v := 45) E.1 hb dX2_sum_56 rfl ?_
            refine lv_aload_n E.1 hb dX2_sum_58 rfl (lv_at hl 0 rfl) ?_
            obtain ⟨o14, A13, h1, hge, hup, hf⟩ := bxa_s hf
            refine x_kq hS (vx_runV ⟨E.1, hb, hml, E.2.1, E.2.2.1⟩ (zX2_product ha h1) (cwV 0 E.2.2.1 gw_X2_245 rfl rfl rfl ⟨rfl, gnX2_product⟩ ⟨by dsimp only; omega, by dsimp only; omega⟩) (c_preV E hS ci_3 (sK hS (by decide) rfl) (hS.1.lt (sK hS (by decide) rfl) rfl) _) rfl rfl hl.1 rfl (lv_room (Nat.le_of_ble_eq_true rfl)) dX2_sum_59 (rm_a hcs hge hup)) hup (fun ho H locs hS hn => ?_) (fun r12 ho H locs hS hn => ?_)
            · subst ho
              have hcs := rm_a2 hcs hge
              exact x_out E hnx hlk hS (rm_e ⟨Nat.le_trans hcs.1 hS.2.2.2.2.1, Nat.le_trans hcs.2 hS.2.2.2.2.2⟩) (xm_n hf)
            subst ho
            have hcs := rm_a2 hcs hge
            have hf := xm_s hf
            obtain ⟨q15, hr9, hf⟩ := bo_s hf
            refine c_dr hr9 ?_
            obtain ⟨hkr, hf⟩ := gu_s hf
            obtain ⟨_, A16, h1, hge, hup, hf⟩ := bda_s hf
            refine c_kv hS (va_runV ⟨E.1, hb, hml, E.2.1, E.2.2.1⟩ (zX9_add h1) (cwV 2 E.2.2.1 gw_X2_248 rfl rfl rfl ⟨rfl, gnX9_add⟩ ⟨by dsimp only; omega, by dsimp only; omega⟩) (c_preV E hS ci_8 hkr (hS.1.lt hkr rfl) _) rfl rfl hl.1 rfl (lv_room (Nat.le_of_ble_eq_true rfl)) dX2_sum_62 (rm_a hcs hge hup)) hup (fun H locs hS hn => ?_)
            have hcs := rm_a2 hcs hge
            refine lv_goto (tgt := 20) E.1 hb dX2_sum_65 (by decide) ?_
            exact hk20 A16 x1 x2 hf _ _ _ _ hcs hS _ (lv_sub hl [0, 1, 2] rfl)
        · have hf := if_s hc hf
          refine lv_aload_n E.1 hb dX2_sum_33 rfl (lv_at hl 1 rfl) ?_
          refine lv_bipush (v := 43) E.1 hb dX2_sum_34 rfl ?_
          refine lv_aload_n E.1 hb dX2_sum_36 rfl (lv_at hl 0 rfl) ?_
          obtain ⟨o19, A18, h1, hge, hup, hf⟩ := bxa_s hf
          refine x_kq hS (vx_runV ⟨E.1, hb, hml, E.2.1, E.2.2.1⟩ (zX2_product ha h1) (cwV 0 E.2.2.1 gw_X2_245 rfl rfl rfl ⟨rfl, gnX2_product⟩ ⟨by dsimp only; omega, by dsimp only; omega⟩) (c_preV E hS ci_3 (sK hS (by decide) rfl) (hS.1.lt (sK hS (by decide) rfl) rfl) _) rfl rfl hl.1 rfl (lv_room (Nat.le_of_ble_eq_true rfl)) dX2_sum_37 (rm_a hcs hge hup)) hup (fun ho H locs hS hn => ?_) (fun r17 ho H locs hS hn => ?_)
          · subst ho
            have hcs := rm_a2 hcs hge
            exact x_out E hnx hlk hS (rm_e ⟨Nat.le_trans hcs.1 hS.2.2.2.2.1, Nat.le_trans hcs.2 hS.2.2.2.2.2⟩) (xm_n hf)
          subst ho
          have hcs := rm_a2 hcs hge
          have hf := xm_s hf
          obtain ⟨q20, hr9, hf⟩ := bo_s hf
          refine c_dr hr9 ?_
          obtain ⟨hkr, hf⟩ := gu_s hf
          obtain ⟨_, A21, h1, hge, hup, hf⟩ := bda_s hf
          refine c_kv hS (va_runV ⟨E.1, hb, hml, E.2.1, E.2.2.1⟩ (zX9_add h1) (cwV 2 E.2.2.1 gw_X2_248 rfl rfl rfl ⟨rfl, gnX9_add⟩ ⟨by dsimp only; omega, by dsimp only; omega⟩) (c_preV E hS ci_8 hkr (hS.1.lt hkr rfl) _) rfl rfl hl.1 rfl (lv_room (Nat.le_of_ble_eq_true rfl)) dX2_sum_40 (rm_a hcs hge hup)) hup (fun H locs hS hn => ?_)
          have hcs := rm_a2 hcs hge
          refine lv_goto (tgt := 20) E.1 hb dX2_sum_43 (by decide) ?_
          exact hk20 A21 x1 x2 hf _ _ _ _ hcs hS _ (lv_sub hl [0, 1, 2] rfl)
  obtain ⟨A1, hn9, hw, hf⟩ := nwO_s hf
  obtain ⟨hck, hf⟩ := ck_s hf
  refine c_new E hb hS hcs ci_8 dv_8 q970 q971 q176 hn9 hw hck (rm_up _ _ _ _) dX2_sum_0 (fun H cells slots hS hcs => ?_)
  refine lv_dup E.1 hb dX2_sum_3 rfl ?_
  obtain ⟨_, A2, h1, hge, hup, hf⟩ := bda_s hf
  refine c_kv hS (va_runIN ⟨E.1, hb, hml, E.2.1, E.2.2.1⟩ (zX9_init h1) ⟨va_cnB 0 E.2.2.1 (lw_meth q974) rfl rfl rfl (E.2.2.2.2.1 _ q972 rfl) (E.2.2.1 _ q176) gnX9_init ⟨by dsimp only; omega, by dsimp only; omega⟩, rfl, E.2.2.1 _ q973⟩ (c_preS E hS _) rfl rfl hl.1 rfl (lv_room (Nat.le_of_ble_eq_true rfl)) dX2_sum_4 (rm_a hcs hge hup)) hup (fun H locs hS hn => ?_)
  have hcs := rm_a2 hcs hge
  refine lv_astore_n (lv' := [(1, .ref (ad (aN A0))), (0, .ref (ad 9))]) E.1 hb dX2_sum_7 rfl hl (by decide) rfl (fun ls hl => ?_)
  refine lv_aload_n E.1 hb dX2_sum_8 rfl (lv_at hl 0 rfl) ?_
  refine lv_bipush (v := 43) E.1 hb dX2_sum_9 rfl ?_
  refine lv_aload_n E.1 hb dX2_sum_11 rfl (lv_at hl 1 rfl) ?_
  obtain ⟨o5, A4, h1, hge, hup, hf⟩ := bxa_s hf
  refine x_kq hS (vx_runV ⟨E.1, hb, hml, E.2.1, E.2.2.1⟩ (zX2_product ha h1) (cwV 0 E.2.2.1 gw_X2_245 rfl rfl rfl ⟨rfl, gnX2_product⟩ ⟨by dsimp only; omega, by dsimp only; omega⟩) (c_preV E hS ci_3 (sK hS (by decide) rfl) (hS.1.lt (sK hS (by decide) rfl) rfl) _) rfl rfl hl.1 rfl (lv_room (Nat.le_of_ble_eq_true rfl)) dX2_sum_12 (rm_a hcs hge hup)) hup (fun ho H locs hS hn => ?_) (fun r3 ho H locs hS hn => ?_)
  · subst ho
    have hcs := rm_a2 hcs hge
    exact x_out E hnx hlk hS (rm_e ⟨Nat.le_trans hcs.1 hS.2.2.2.2.1, Nat.le_trans hcs.2 hS.2.2.2.2.2⟩) (xm_n hf)
  subst ho
  have hcs := rm_a2 hcs hge
  have hf := xm_s hf
  obtain ⟨q6, hr9, hf⟩ := bo_s hf
  refine c_dr hr9 ?_
  obtain ⟨hkr, hf⟩ := gu_s hf
  obtain ⟨_, A7, h1, hge, hup, hf⟩ := bda_s hf
  refine c_kv hS (va_runV ⟨E.1, hb, hml, E.2.1, E.2.2.1⟩ (zX9_add h1) (cwV 2 E.2.2.1 gw_X2_248 rfl rfl rfl ⟨rfl, gnX9_add⟩ ⟨by dsimp only; omega, by dsimp only; omega⟩) (c_preV E hS ci_8 hkr (hS.1.lt hkr rfl) _) rfl rfl hl.1 rfl (lv_room (Nat.le_of_ble_eq_true rfl)) dX2_sum_15 (rm_a hcs hge hup)) hup (fun H locs hS hn => ?_)
  have hcs := rm_a2 hcs hge
  refine lv_iconst (v := 1) E.1 hb dX2_sum_18 rfl ?_
  refine lv_istore_n (lv' := [(2, .int 1), (1, .ref (ad (aN A0))), (0, .ref (ad 9))]) E.1 hb dX2_sum_19 rfl hl (by decide) rfl (fun ls hl => ?_)
  exact hL20 N A7 (aN A0) 1 hf _ _ _ _ hcs hS _ (lv_sub hl [2, 1, 0] rfl)
theorem fk_X10_7_X10 : FLk RX10 7 "MarginFolk$Pair" (TX10 0).2.1 (TX10 0).2.2.1 := Or.inl q1033
theorem fk_X10_13_X10 : FLk RX10 13 "MarginFolk$Pair" (TX10 1).2.1 (TX10 1).2.2.1 := Or.inl q1034
theorem fk_X10_17_X10 : FLk RX10 17 "MarginFolk$Pair" (TX10 2).2.1 (TX10 2).2.2.1 := Or.inl q1035
/-! MarginFolk$Pair.<init>(ZLMarginFolk$Value;LMarginFolk$Value;)V: RW -/
noncomputable def X10_init (A0 : AH) (x0 : Nat) (x1 : Int32) (x2 : Nat) (x3 : Nat) : Option (Unit × AH) :=
  bd (X8_init A0 x0) fun _ A1 => if x1 = 0 ∨ x1 = 1 then ( bo (pI 9 A1 900 x0 x1) fun A2 => bo (pR 9 A2 901 x0 (some x2)) fun A3 => bo (pR 9 A3 902 x0 (some x3)) fun A4 => some ((), A4)) else none
abbrev rX10_init : Room := { frames := 2, cells := 0, slots := 0, locals := 40 }
set_option maxHeartbeats 4000000 in
theorem zX10_init {l : Launch} {dC : Nat → ClassId} {dI : Nat → Nat → Nat} {ac : Nat → ClassId} {ad : Nat → Nat} {b : Prop} {A0 : AH} {x0 : Nat} {x1 : Int32} {x2 : Nat} {x3 : Nat} {A' : AH} (hf : X10_init A0 x0 x1 x2 x3 = some ((), A')) : Met l yX10_init (ws_ yX10_init cX10_init 4 none) { frames := 2, cells := 0, slots := 0, locals := 40 } (va_Pc [.ref (ad x0), .int x1, .ref (ad x2), .ref (ad x3)] (cPre dC dI ac ad b A0)) (cQv dC dI ac ad b (aN A0) (aS A0) (aN A0) (aS A0) A') 0 0 (cF ad) := by
  unfold X10_init at hf
  refine c_of ⟨Nat.le_refl _, Nat.le_refl _⟩ RX10 (plainFor_of_name (by decide)) rfl (Nat.le_of_ble_eq_true rfl) ?_
  intro p e s m args below meth c E hb hr hlk hnm hml hS ls hl
  have hl : lv_has ls 4 [(0, .ref (ad x0)), (1, .int x1), (2, .ref (ad x2)), (3, .ref (ad x3))] := hl
  refine lv_aload_n E.1 hb dX10_init_0 rfl (lv_at hl 0 rfl) ?_
  obtain ⟨_, A1, h1, hf⟩ := bd_s hf
  refine c_kv hS (va_runIN ⟨E.1, hb, hml, E.2.1, E.2.2.1⟩ (zX8_init h1) ⟨va_cnB 0 E.2.2.1 (lw_meth q977) rfl rfl rfl (E.2.2.2.2.1 _ q1032 rfl) (E.2.2.1 _ q175) gnX8_init ⟨Nat.le_of_ble_eq_true rfl, Nat.le_of_ble_eq_true rfl⟩, rfl, E.2.2.1 _ q976⟩ (c_preS E hS _) rfl rfl hl.1 rfl (lv_room (Nat.le_of_ble_eq_true rfl)) dX10_init_1 ⟨Nat.le_refl 0, Nat.le_refl 0⟩) hS.2.2.2.2 (fun H locs hS hn => ?_)
  refine lv_aload_n E.1 hb dX10_init_4 rfl (lv_at hl 0 rfl) ?_
  refine lv_iload_n E.1 hb dX10_init_5 rfl (lv_at hl 1 rfl) ?_
  obtain ⟨hbz, hf⟩ := gu_s hf
  obtain ⟨A2, hk, hw, hf⟩ := pI_s hf
  refine c_pI (k := 0) (f := 900) E hb hS ci_9 hk (hS.1.lt hk rfl) rfl rfl (Or.inr ⟨hnm, rfl, rfl, q1033⟩) fk_X10_7_X10 (fun _ h => h) (bz_n hbz) (bz_f hbz) hw dX10_init_6 (fun H locs hS => ?_)
  refine lv_aload_n E.1 hb dX10_init_9 rfl (lv_at hl 0 rfl) ?_
  refine lv_aload_n E.1 hb dX10_init_10 rfl (lv_at hl 2 rfl) ?_
  obtain ⟨A3, hk, hw, hf⟩ := pR_s hf
  refine c_pR (k := 1) (f := 901) (r := (some x2)) E hb hS ci_9 hk (hS.1.lt hk rfl) rfl rfl (fun _ => rfl) (Or.inr ⟨hnm, rfl, rfl, q1034⟩) fk_X10_13_X10 (fun _ h => h) (fun q => by cases q <;> exact ⟨rfl, rfl⟩) hw dX10_init_11 (fun H locs hS => ?_)
  refine lv_aload_n E.1 hb dX10_init_14 rfl (lv_at hl 0 rfl) ?_
  refine lv_aload_n E.1 hb dX10_init_15 rfl (lv_at hl 3 rfl) ?_
  obtain ⟨A4, hk, hw, hf⟩ := pR_s hf
  refine c_pR (k := 2) (f := 902) (r := (some x3)) E hb hS ci_9 hk (hS.1.lt hk rfl) rfl rfl (fun _ => rfl) (Or.inr ⟨hnm, rfl, rfl, q1035⟩) fk_X10_17_X10 (fun _ h => h) (fun q => by cases q <;> exact ⟨rfl, rfl⟩) hw dX10_init_16 (fun H locs hS => ?_)
  exact c_vr E hb hr hlk hS ⟨Nat.le_refl 0, Nat.le_refl 0⟩ hf dX10_init_19
theorem gw_X2_126 : GoodIn lw_all (wsV RX2 126 RX2 yX2_must (ws_ yX2_must cX2_must 2 none)) := lw_V q712 q714 qs12 q157 q715
theorem gnX2_must : yX2_must.cls ≠ "java/lang/invoke/MethodHandle" ∧ yX2_must.cls ≠ "java/lang/invoke/VarHandle" ∧ (parseMethodDescriptor yX2_must.desc).map (fun d => d.parameters.length) = some 1 := by decide +kernel
theorem gw_X2_208 : GoodIn lw_all (wsV RX2 208 RX2 yX2_sum (ws_ yX2_sum cX2_sum 3 (some (.object "MarginFolk$Value")))) := lw_V q966 q968 qs23 q157 q969
theorem gnX2_sum : yX2_sum.cls ≠ "java/lang/invoke/MethodHandle" ∧ yX2_sum.cls ≠ "java/lang/invoke/VarHandle" ∧ (parseMethodDescriptor yX2_sum.desc).map (fun d => d.parameters.length) = some 0 := by decide +kernel
theorem gnX10_init : yX10_init.cls ≠ "java/lang/invoke/MethodHandle" ∧ yX10_init.cls ≠ "java/lang/invoke/VarHandle" ∧ (parseMethodDescriptor yX10_init.desc).map (fun d => d.parameters.length) = some 3 := by decide +kernel
/-! MarginFolk$Reader.within(I)LMarginFolk$Value;: RW -/
noncomputable def X2_within_b77 (N : Nat) (ra : AH → Option (Option (Option Nat) × AH)) (x1 : Int32) (A : AH) (x3 : Nat) : Option (Option (Option Nat) × AH) :=
  bx (X2_must N A 41) fun _ A10 => lt2 (wI A10 304 9 0 ((aI A10 304 9 0) - 1)) fun A12 => some (some (some x3), A12)
noncomputable def X2_within_b68 (N : Nat) (ra : AH → Option (Option (Option Nat) × AH)) (x1 : Int32) (A : AH) (x2 : Nat) (y0 : Int32) (y1 : Nat) (y2 : Nat) : Option (Option (Option Nat) × AH) :=
  bxa A (X2_sum N ra A) fun r16 A17 => bo r16 fun q19 => bd (X10_init A17 y1 y0 x2 q19) fun _ A20 => X2_within_b77 N ra x1 A20 y2
noncomputable def X2_within (N : Nat) (ra : AH → Option (Option (Option Nat) × AH)) (A0 : AH) (x1 : Int32) : Option (Option (Option Nat) × AH) :=
  ck A0 (bd (X2_here N A0) fun r1 A2 => if r1 = 40 then (bx (X2_opens A2 (aI A2 302 9 0)) fun _ A3 => lt2 (wI A3 302 9 0 ((aI A3 302 9 0) + 1)) fun A5 => bxa A5 (X2_sum N ra A5) fun r6 A7 => bo r6 fun q9 => if x1 ≤ 0 then (X2_within_b77 N ra x1 A7 q9) else (bx (X2_must N A7 44) fun _ A13 => bo (nwO A13 9 3) fun A15 => ck A15 ( if x1 = 2 then (X2_within_b68 N ra x1 A15 q9 1 (aN A13) (aN A13)) else (X2_within_b68 N ra x1 A15 q9 0 (aN A13) (aN A13))))) else (bd (X2_wrong A2 1 (aI A2 302 9 0)) fun r21 A22 => bo r21 fun q23 => if q23 = 10 then some (none, A22) else none))
set_option maxHeartbeats 4000000 in
theorem zX2_within {l : Launch} {dC : Nat → ClassId} {dI : Nat → Nat → Nat} {ac : Nat → ClassId} {ad : Nat → Nat} {N : Nat} {ra : AH → Option (Option (Option Nat) × AH)} {fa la : Nat} (ha : RcA l dC dI ac ad yX2_atom cX2_atom 3 (.object "MarginFolk$Value") fa la ra) {A0 : AH} {x1 : Int32} {o : Option (Option Nat)} {A' : AH} (hf : X2_within N ra A0 x1 = some (o, A')) : vx_Met l yX2_within (ws_ yX2_within cX2_within 4 (some (.object "MarginFolk$Value"))) { frames := fa + 13, cells := aN A' - aN A0, slots := aS A' - aS A0, locals := la + 281 } (va_Pc [.ref (ad 9), .int x1] (cPre dC dI ac ad True A0)) (cQxq dC dI ac ad True (aN A0) (aS A0) (aN A') (aS A') o A') (cXC dC dI ac ad True (aN A0) (aS A0) (aN A') (aS A') o A') (aN A' - aN A0) (aS A' - aS A0) (cF ad) := by
  unfold X2_within at hf
  obtain ⟨hck0, hf⟩ := ck_s hf
  refine c_ofx hck0 RX2 (by decide) rfl (Nat.le_of_ble_eq_true rfl) ?_
  intro p e s m args below meth c E hb hr hlk hnm hml hnx hS ls hl
  have hl : lv_has ls 4 [(0, .ref (ad 9)), (1, .int x1)] := hl
  have hcs : aN A0 + 0 ≤ aN A0 ∧ aS A0 + 0 ≤ aS A0 := ⟨Nat.le_refl _, Nat.le_refl _⟩
  have hB77 : ∀ (A : AH) (x3 : Nat), X2_within_b77 N ra x1 A x3 = some (o, A') → ∀ (H : Heap) (locs : List Loc) (cells slots : Nat), aN A0 + cells ≤ aN A ∧ aS A0 + slots ≤ aS A →  cS dC dI ac ad True s.heap (aN A0) (aS A0) (aN A') (aS A') A H locs → ∀ (ls : Array Slot), lv_has ls 4 [(0, .ref (ad 9)), (1, .int x1), (3, .ref (ad x3))] → W p l e { frames := fa + 13, cells := aN A' - aN A0, slots := aS A' - aS A0, locals := la + 281 } s m args below meth c H locs cells slots (vx_MQ below (cQxq dC dI ac ad True (aN A0) (aS A0) (aN A') (aS A') o A') (cXC dC dI ac ad True (aN A0) (aS A0) (aN A') (aS A') o A') args s (aN A' - aN A0) (aS A' - aS A0) (cF ad)) (F0 m 77 ls []) := by
    intro A x3 hf H locs cells slots hcs hS ls hl
    unfold X2_within_b77 at hf
    refine lv_aload_n E.1 hb dX2_within_77 rfl (lv_at hl 0 rfl) ?_
    refine lv_bipush (v := 41) E.1 hb dX2_within_78 rfl ?_
    obtain ⟨o11, A10, h1, hf⟩ := bx_s hf
    refine x_kv hS (vx_runV ⟨E.1, hb, hml, E.2.1, E.2.2.1⟩ (zX2_must h1) (cwV 1 E.2.2.1 gw_X2_126 rfl rfl rfl ⟨rfl, gnX2_must⟩ ⟨by dsimp only; omega, by dsimp only; omega⟩) (c_preV E hS ci_3 (sK hS (by decide) rfl) (hS.1.lt (sK hS (by decide) rfl) rfl) _) rfl rfl hl.1 rfl (lv_room (Nat.le_of_ble_eq_true rfl)) dX2_within_80 (rm_n hcs hS.2.2.2.2)) hS.2.2.2.2 (fun ho H locs hS hn => ?_) (fun _ ho H locs hS hn => ?_)
    · subst ho
      have hcs := rm_n2 hcs hn
      exact x_out E hnx hlk hS (rm_e ⟨Nat.le_trans hcs.1 hS.2.2.2.2.1, Nat.le_trans hcs.2 hS.2.2.2.2.2⟩) (xm_n hf)
    subst ho
    have hcs := rm_n2 hcs hn
    have hf := xm_s hf
    refine lv_aload_n E.1 hb dX2_within_83 rfl (lv_at hl 0 rfl) ?_
    refine lv_dup E.1 hb dX2_within_84 rfl ?_
    refine c_gI (k := 4) (f := 304) E hb hS ci_3 (sK hS (by decide) rfl) rfl rfl rfl fk_X2_117_X2 (fun _ h => h) dX2_within_85 ?_
    refine lv_iconst (v := 1) E.1 hb dX2_within_88 rfl ?_
    refine lv_isub E.1 hb dX2_within_89 ?_
    obtain ⟨A12, hw, hf⟩ := lt2_s hf
    refine c_pI (k := 4) (f := 304) E hb hS ci_3 (sK hS (by decide) rfl) (hS.1.lt (sK hS (by decide) rfl) rfl) rfl rfl (Or.inl rfl) fk_X2_117_X2 (fun _ h => h) rfl rfl hw dX2_within_90 (fun H locs hS => ?_)
    have hcs := rm_w (A2 := A12) hcs (by rw [hw]; exact ⟨rfl, rfl⟩)
    refine lv_aload_n E.1 hb dX2_within_93 rfl (lv_at hl 2 rfl) ?_
    exact x_ar E hb hr (Or.inl ⟨_, rfl⟩) hlk hS (rm_e ⟨Nat.le_trans hcs.1 hS.2.2.2.2.1, Nat.le_trans hcs.2 hS.2.2.2.2.2⟩) (v := (some x3)) hf dX2_within_94
  have hB68 : ∀ (A : AH) (x2 : Nat) (y0 : Int32) (y1 : Nat) (y2 : Nat), X2_within_b68 N ra x1 A x2 y0 y1 y2 = some (o, A') → ∀ (H : Heap) (locs : List Loc) (cells slots : Nat), aN A0 + cells ≤ aN A ∧ aS A0 + slots ≤ aS A →  cS dC dI ac ad True s.heap (aN A0) (aS A0) (aN A') (aS A') A H locs → ∀ (ls : Array Slot), lv_has ls 4 [(0, .ref (ad 9)), (1, .int x1), (2, .ref (ad x2))] → W p l e { frames := fa + 13, cells := aN A' - aN A0, slots := aS A' - aS A0, locals := la + 281 } s m args below meth c H locs cells slots (vx_MQ below (cQxq dC dI ac ad True (aN A0) (aS A0) (aN A') (aS A') o A') (cXC dC dI ac ad True (aN A0) (aS A0) (aN A') (aS A') o A') args s (aN A' - aN A0) (aS A' - aS A0) (cF ad)) (F0 m 68 ls [.int y0, .ref (ad y1), .ref (ad y2)]) := by
    intro A x2 y0 y1 y2 hf H locs cells slots hcs hS ls hl
    unfold X2_within_b68 at hf
    refine lv_aload_n E.1 hb dX2_within_68 rfl (lv_at hl 2 rfl) ?_
    refine lv_aload_n E.1 hb dX2_within_69 rfl (lv_at hl 0 rfl) ?_
    obtain ⟨o18, A17, h1, hge, hup, hf⟩ := bxa_s hf
    refine x_kq hS (vx_runV ⟨E.1, hb, hml, E.2.1, E.2.2.1⟩ (zX2_sum ha h1) (cwV 0 E.2.2.1 gw_X2_208 rfl rfl rfl ⟨rfl, gnX2_sum⟩ ⟨by dsimp only; omega, by dsimp only; omega⟩) (c_preV E hS ci_3 (sK hS (by decide) rfl) (hS.1.lt (sK hS (by decide) rfl) rfl) _) rfl rfl hl.1 rfl (lv_room (Nat.le_of_ble_eq_true rfl)) dX2_within_70 (rm_a hcs hge hup)) hup (fun ho H locs hS hn => ?_) (fun r16 ho H locs hS hn => ?_)
    · subst ho
      have hcs := rm_a2 hcs hge
      exact x_out E hnx hlk hS (rm_e ⟨Nat.le_trans hcs.1 hS.2.2.2.2.1, Nat.le_trans hcs.2 hS.2.2.2.2.2⟩) (xm_n hf)
    subst ho
    have hcs := rm_a2 hcs hge
    have hf := xm_s hf
    obtain ⟨q19, hr9, hf⟩ := bo_s hf
    refine c_dr hr9 ?_
    obtain ⟨_, A20, h1, hf⟩ := bd_s hf
    refine c_kv hS (va_runI ⟨E.1, hb, hml, E.2.1, E.2.2.1⟩ (zX10_init h1) (cwI 3 E.2.2.1 (lw_meth q1031) rfl rfl rfl (E.2.2.1 _ q179) (E.2.2.1 _ q1029) (E.2.2.1 _ q1030) rfl gnX10_init ⟨by dsimp only; omega, by dsimp only; omega⟩) (c_preS E hS _) rfl rfl hl.1 rfl (lv_room (Nat.le_of_ble_eq_true rfl)) dX2_within_73 (rm_n hcs hS.2.2.2.2)) hS.2.2.2.2 (fun H locs hS hn => ?_)
    have hcs := rm_n2 hcs hn
    refine lv_astore_n (lv' := [(3, .ref (ad y2)), (0, .ref (ad 9)), (1, .int x1), (2, .ref (ad x2))]) E.1 hb dX2_within_76 rfl hl (by decide) rfl (fun ls hl => ?_)
    exact hB77 A20 y2 hf _ _ _ _ hcs hS _ (lv_sub hl [1, 2, 0] rfl)
  refine lv_aload_n E.1 hb dX2_within_0 rfl (lv_at hl 0 rfl) ?_
  obtain ⟨r1, A2, h1, hf⟩ := bd_s hf
  refine c_ki hS (va_runV ⟨E.1, hb, hml, E.2.1, E.2.2.1⟩ (zX2_here h1) (cwV 0 E.2.2.1 gw_X2_43 rfl rfl rfl ⟨rfl, gnX2_here⟩ ⟨by dsimp only; omega, by dsimp only; omega⟩) (c_preV E hS ci_3 (sK hS (by decide) rfl) (hS.1.lt (sK hS (by decide) rfl) rfl) _) rfl rfl hl.1 rfl (lv_room (Nat.le_of_ble_eq_true rfl)) dX2_within_1 (rm_n hcs hS.2.2.2.2)) hS.2.2.2.2 (fun H locs hS hn => ?_)
  have hcs := rm_n2 hcs hn
  refine lv_bipush (v := 40) E.1 hb dX2_within_4 rfl ?_
  refine lv_icmp_eq (tgt := 19) E.1 hb dX2_within_6 (by decide) (fun hc => ?_) (fun hc => ?_)
  · have hf := it_s hc hf
    refine lv_aload_n E.1 hb dX2_within_19 rfl (lv_at hl 0 rfl) ?_
    refine lv_aload_n E.1 hb dX2_within_20 rfl (lv_at hl 0 rfl) ?_
    refine c_gI (k := 2) (f := 302) E hb hS ci_3 (sK hS (by decide) rfl) rfl rfl rfl fk_X2_36_X2 (fun _ h => h) dX2_within_21 ?_
    obtain ⟨o4, A3, h1, hf⟩ := bx_s hf
    refine x_kv hS (vx_runV ⟨E.1, hb, hml, E.2.1, E.2.2.1⟩ (zX2_opens h1) (cwV 1 E.2.2.1 gw_X2_257 rfl rfl rfl ⟨rfl, gnX2_opens⟩ ⟨by dsimp only; omega, by dsimp only; omega⟩) (c_preV E hS ci_3 (sK hS (by decide) rfl) (hS.1.lt (sK hS (by decide) rfl) rfl) _) rfl rfl hl.1 rfl (lv_room (Nat.le_of_ble_eq_true rfl)) dX2_within_24 (rm_n hcs hS.2.2.2.2)) hS.2.2.2.2 (fun ho H locs hS hn => ?_) (fun _ ho H locs hS hn => ?_)
    · subst ho
      have hcs := rm_n2 hcs hn
      exact x_out E hnx hlk hS (rm_e ⟨Nat.le_trans hcs.1 hS.2.2.2.2.1, Nat.le_trans hcs.2 hS.2.2.2.2.2⟩) (xm_n hf)
    subst ho
    have hcs := rm_n2 hcs hn
    have hf := xm_s hf
    refine lv_aload_n E.1 hb dX2_within_27 rfl (lv_at hl 0 rfl) ?_
    refine lv_dup E.1 hb dX2_within_28 rfl ?_
    refine c_gI (k := 2) (f := 302) E hb hS ci_3 (sK hS (by decide) rfl) rfl rfl rfl fk_X2_36_X2 (fun _ h => h) dX2_within_29 ?_
    refine lv_iconst (v := 1) E.1 hb dX2_within_32 rfl ?_
    refine lv_iadd E.1 hb dX2_within_33 ?_
    obtain ⟨A5, hw, hf⟩ := lt2_s hf
    refine c_pI (k := 2) (f := 302) E hb hS ci_3 (sK hS (by decide) rfl) (hS.1.lt (sK hS (by decide) rfl) rfl) rfl rfl (Or.inl rfl) fk_X2_36_X2 (fun _ h => h) rfl rfl hw dX2_within_34 (fun H locs hS => ?_)
    have hcs := rm_w (A2 := A5) hcs (by rw [hw]; exact ⟨rfl, rfl⟩)
    refine lv_aload_n E.1 hb dX2_within_37 rfl (lv_at hl 0 rfl) ?_
    obtain ⟨o8, A7, h1, hge, hup, hf⟩ := bxa_s hf
    refine x_kq hS (vx_runV ⟨E.1, hb, hml, E.2.1, E.2.2.1⟩ (zX2_sum ha h1) (cwV 0 E.2.2.1 gw_X2_208 rfl rfl rfl ⟨rfl, gnX2_sum⟩ ⟨by dsimp only; omega, by dsimp only; omega⟩) (c_preV E hS ci_3 (sK hS (by decide) rfl) (hS.1.lt (sK hS (by decide) rfl) rfl) _) rfl rfl hl.1 rfl (lv_room (Nat.le_of_ble_eq_true rfl)) dX2_within_38 (rm_a hcs hge hup)) hup (fun ho H locs hS hn => ?_) (fun r6 ho H locs hS hn => ?_)
    · subst ho
      have hcs := rm_a2 hcs hge
      exact x_out E hnx hlk hS (rm_e ⟨Nat.le_trans hcs.1 hS.2.2.2.2.1, Nat.le_trans hcs.2 hS.2.2.2.2.2⟩) (xm_n hf)
    subst ho
    have hcs := rm_a2 hcs hge
    have hf := xm_s hf
    obtain ⟨q9, hr9, hf⟩ := bo_s hf
    refine c_dr hr9 ?_
    refine lv_astore_n (lv' := [(2, .ref (ad q9)), (0, .ref (ad 9)), (1, .int x1)]) E.1 hb dX2_within_41 rfl hl (by decide) rfl (fun ls hl => ?_)
    refine lv_aload_n E.1 hb dX2_within_42 rfl (lv_at hl 0 rfl) ?_
    refine lv_astore_n (lv' := [(3, .ref (ad q9)), (2, .ref (ad q9)), (0, .ref (ad 9)), (1, .int x1)]) E.1 hb dX2_within_43 rfl hl (by decide) rfl (fun ls hl => ?_)
    refine lv_iload_n E.1 hb dX2_within_44 rfl (lv_at hl 3 rfl) ?_
    refine lv_if_le (tgt := 77) E.1 hb dX2_within_45 (by decide) (fun hc => ?_) (fun hc => ?_)
    · have hf := it_s hc hf
      exact hB77 A7 q9 hf _ _ _ _ hcs hS _ (lv_sub hl [2, 3, 0] rfl)
    · have hf := if_s hc hf
      refine lv_aload_n E.1 hb dX2_within_48 rfl (lv_at hl 2 rfl) ?_
      refine lv_bipush (v := 44) E.1 hb dX2_within_49 rfl ?_
      obtain ⟨o14, A13, h1, hf⟩ := bx_s hf
      refine x_kv hS (vx_runV ⟨E.1, hb, hml, E.2.1, E.2.2.1⟩ (zX2_must h1) (cwV 1 E.2.2.1 gw_X2_126 rfl rfl rfl ⟨rfl, gnX2_must⟩ ⟨by dsimp only; omega, by dsimp only; omega⟩) (c_preV E hS ci_3 (sK hS (by decide) rfl) (hS.1.lt (sK hS (by decide) rfl) rfl) _) rfl rfl hl.1 rfl (lv_room (Nat.le_of_ble_eq_true rfl)) dX2_within_51 (rm_n hcs hS.2.2.2.2)) hS.2.2.2.2 (fun ho H locs hS hn => ?_) (fun _ ho H locs hS hn => ?_)
      · subst ho
        have hcs := rm_n2 hcs hn
        exact x_out E hnx hlk hS (rm_e ⟨Nat.le_trans hcs.1 hS.2.2.2.2.1, Nat.le_trans hcs.2 hS.2.2.2.2.2⟩) (xm_n hf)
      subst ho
      have hcs := rm_n2 hcs hn
      have hf := xm_s hf
      obtain ⟨A15, hn9, hw, hf⟩ := nwO_s hf
      obtain ⟨hck, hf⟩ := ck_s hf
      refine c_new E hb hS hcs ci_9 dv_9 q1027 q1028 q179 hn9 hw hck (rm_up _ _ _ _) dX2_within_54 (fun H cells slots hS hcs => ?_)
      refine lv_dup E.1 hb dX2_within_57 rfl ?_
      refine lv_iload_n E.1 hb dX2_within_58 rfl (lv_at hl 3 rfl) ?_
      refine lv_iconst (v := 2) E.1 hb dX2_within_59 rfl ?_
      refine lv_icmp_ne (tgt := 67) E.1 hb dX2_within_60 (by decide) (fun hc => ?_) (fun hc => ?_)
      · have hf := if_s hc hf
        refine lv_iconst (v := 0) E.1 hb dX2_within_67 rfl ?_
        exact hB68 A15 q9 0 (aN A13) (aN A13) hf _ _ _ _ hcs hS _ (lv_sub hl [2, 3, 1] rfl)
      · have hf := it_s hc hf
        refine lv_iconst (v := 1) E.1 hb dX2_within_63 rfl ?_
        refine lv_goto (tgt := 68) E.1 hb dX2_within_64 (by decide) ?_
        exact hB68 A15 q9 1 (aN A13) (aN A13) hf _ _ _ _ hcs hS _ (lv_sub hl [2, 3, 1] rfl)
  · have hf := if_s hc hf
    refine lv_aload_n E.1 hb dX2_within_9 rfl (lv_at hl 0 rfl) ?_
    refine lv_iconst (v := 1) E.1 hb dX2_within_10 rfl ?_
    refine lv_aload_n E.1 hb dX2_within_11 rfl (lv_at hl 0 rfl) ?_
    refine c_gI (k := 2) (f := 302) E hb hS ci_3 (sK hS (by decide) rfl) rfl rfl rfl fk_X2_36_X2 (fun _ h => h) dX2_within_12 ?_
    obtain ⟨r21, A22, h1, hf⟩ := bd_s hf
    refine c_kq hS (va_runV ⟨E.1, hb, hml, E.2.1, E.2.2.1⟩ (zX2_wrong h1) (cwV 2 E.2.2.1 gw_X2_47 rfl rfl rfl ⟨rfl, gnX2_wrong⟩ ⟨by dsimp only; omega, by dsimp only; omega⟩) (c_preV E hS ci_3 (sK hS (by decide) rfl) (hS.1.lt (sK hS (by decide) rfl) rfl) _) rfl rfl hl.1 rfl (lv_room (Nat.le_of_ble_eq_true rfl)) dX2_within_15 (rm_n hcs hS.2.2.2.2)) hS.2.2.2.2 (fun H locs hS hn => ?_)
    have hcs := rm_n2 hcs hn
    obtain ⟨q23, hr9, hf⟩ := bo_s hf
    refine c_dr hr9 ?_
    obtain ⟨hg, hf9⟩ := gu_s hf
    subst hg
    exact x_thr E hb hnx hlk hS (rm_e ⟨Nat.le_trans hcs.1 hS.2.2.2.2.1, Nat.le_trans hcs.2 hS.2.2.2.2.2⟩) hf9 dX2_within_18
theorem fk_X11_7_X11 : FLk RX11 7 "MarginFolk$Fixed" (TX11 0).2.1 (TX11 0).2.2.1 := Or.inl q1049
/-! MarginFolk$Fixed.<init>(J)V: RW -/
noncomputable def X11_init (A0 : AH) (x0 : Nat) (x1 : Int64) : Option (Unit × AH) :=
  bd (X8_init A0 x0) fun _ A1 => bo (pJ 10 A1 1000 x0 x1) fun A2 => some ((), A2)
abbrev rX11_init : Room := { frames := 2, cells := 0, slots := 0, locals := 40 }
set_option maxHeartbeats 4000000 in
theorem zX11_init {l : Launch} {dC : Nat → ClassId} {dI : Nat → Nat → Nat} {ac : Nat → ClassId} {ad : Nat → Nat} {b : Prop} {A0 : AH} {x0 : Nat} {x1 : Int64} {A' : AH} (hf : X11_init A0 x0 x1 = some ((), A')) : Met l yX11_init (ws_ yX11_init cX11_init 3 none) { frames := 2, cells := 0, slots := 0, locals := 40 } (va_Pc [.ref (ad x0), .long x1] (cPre dC dI ac ad b A0)) (cQv dC dI ac ad b (aN A0) (aS A0) (aN A0) (aS A0) A') 0 0 (cF ad) := by
  unfold X11_init at hf
  refine c_of ⟨Nat.le_refl _, Nat.le_refl _⟩ RX11 (plainFor_of_name (by decide)) rfl (Nat.le_of_ble_eq_true rfl) ?_
  intro p e s m args below meth c E hb hr hlk hnm hml hS ls hl
  have hl : lv_has ls 3 [(0, .ref (ad x0)), (1, .long x1)] := hl
  refine lv_aload_n E.1 hb dX11_init_0 rfl (lv_at hl 0 rfl) ?_
  obtain ⟨_, A1, h1, hf⟩ := bd_s hf
  refine c_kv hS (va_runIN ⟨E.1, hb, hml, E.2.1, E.2.2.1⟩ (zX8_init h1) ⟨va_cnB 0 E.2.2.1 (lw_meth q977) rfl rfl rfl (E.2.2.2.2.1 _ q1048 rfl) (E.2.2.1 _ q175) gnX8_init ⟨Nat.le_of_ble_eq_true rfl, Nat.le_of_ble_eq_true rfl⟩, rfl, E.2.2.1 _ q976⟩ (c_preS E hS _) rfl rfl hl.1 rfl (lv_room (Nat.le_of_ble_eq_true rfl)) dX11_init_1 ⟨Nat.le_refl 0, Nat.le_refl 0⟩) hS.2.2.2.2 (fun H locs hS hn => ?_)
  refine lv_aload_n E.1 hb dX11_init_4 rfl (lv_at hl 0 rfl) ?_
  refine lv_lload_n E.1 hb dX11_init_5 rfl (lv_at hl 1 rfl) ?_
  obtain ⟨A2, hk, hw, hf⟩ := pJ_s hf
  refine c_pJ (k := 0) (f := 1000) E hb hS ci_10 hk (hS.1.lt hk rfl) rfl rfl (Or.inr ⟨hnm, rfl, rfl, q1049⟩) fk_X11_7_X11 (fun _ h => h) rfl rfl hw dX11_init_6 (fun H locs hS => ?_)
  exact c_vr E hb hr hlk hS ⟨Nat.le_refl 0, Nat.le_refl 0⟩ hf dX11_init_9
theorem fk_X12_7_X12 : FLk RX12 7 "MarginFolk$Asked" (TX12 0).2.1 (TX12 0).2.2.1 := Or.inl q1062
/-! MarginFolk$Asked.<init>(I)V: RW -/
noncomputable def X12_init (A0 : AH) (x0 : Nat) (x1 : Int32) : Option (Unit × AH) :=
  bd (X8_init A0 x0) fun _ A1 => bo (pI 11 A1 1100 x0 x1) fun A2 => some ((), A2)
abbrev rX12_init : Room := { frames := 2, cells := 0, slots := 0, locals := 40 }
set_option maxHeartbeats 4000000 in
theorem zX12_init {l : Launch} {dC : Nat → ClassId} {dI : Nat → Nat → Nat} {ac : Nat → ClassId} {ad : Nat → Nat} {b : Prop} {A0 : AH} {x0 : Nat} {x1 : Int32} {A' : AH} (hf : X12_init A0 x0 x1 = some ((), A')) : Met l yX12_init (ws_ yX12_init cX12_init 2 none) { frames := 2, cells := 0, slots := 0, locals := 40 } (va_Pc [.ref (ad x0), .int x1] (cPre dC dI ac ad b A0)) (cQv dC dI ac ad b (aN A0) (aS A0) (aN A0) (aS A0) A') 0 0 (cF ad) := by
  unfold X12_init at hf
  refine c_of ⟨Nat.le_refl _, Nat.le_refl _⟩ RX12 (plainFor_of_name (by decide)) rfl (Nat.le_of_ble_eq_true rfl) ?_
  intro p e s m args below meth c E hb hr hlk hnm hml hS ls hl
  have hl : lv_has ls 2 [(0, .ref (ad x0)), (1, .int x1)] := hl
  refine lv_aload_n E.1 hb dX12_init_0 rfl (lv_at hl 0 rfl) ?_
  obtain ⟨_, A1, h1, hf⟩ := bd_s hf
  refine c_kv hS (va_runIN ⟨E.1, hb, hml, E.2.1, E.2.2.1⟩ (zX8_init h1) ⟨va_cnB 0 E.2.2.1 (lw_meth q977) rfl rfl rfl (E.2.2.2.2.1 _ q1061 rfl) (E.2.2.1 _ q175) gnX8_init ⟨Nat.le_of_ble_eq_true rfl, Nat.le_of_ble_eq_true rfl⟩, rfl, E.2.2.1 _ q976⟩ (c_preS E hS _) rfl rfl hl.1 rfl (lv_room (Nat.le_of_ble_eq_true rfl)) dX12_init_1 ⟨Nat.le_refl 0, Nat.le_refl 0⟩) hS.2.2.2.2 (fun H locs hS hn => ?_)
  refine lv_aload_n E.1 hb dX12_init_4 rfl (lv_at hl 0 rfl) ?_
  refine lv_iload_n E.1 hb dX12_init_5 rfl (lv_at hl 1 rfl) ?_
  obtain ⟨A2, hk, hw, hf⟩ := pI_s hf
  refine c_pI (k := 0) (f := 1100) E hb hS ci_11 hk (hS.1.lt hk rfl) rfl rfl (Or.inr ⟨hnm, rfl, rfl, q1062⟩) fk_X12_7_X12 (fun _ h => h) rfl rfl hw dX12_init_6 (fun H locs hS => ?_)
  exact c_vr E hb hr hlk hS ⟨Nat.le_refl 0, Nat.le_refl 0⟩ hf dX12_init_9
theorem gw_X2_264 : GoodIn lw_all (wsV RX2 264 RX2 yX2_within (ws_ yX2_within cX2_within 4 (some (.object "MarginFolk$Value")))) := lw_V q1019 q1021 qs26 q157 q1022
theorem gnX2_within : yX2_within.cls ≠ "java/lang/invoke/MethodHandle" ∧ yX2_within.cls ≠ "java/lang/invoke/VarHandle" ∧ (parseMethodDescriptor yX2_within.desc).map (fun d => d.parameters.length) = some 1 := by decide +kernel
theorem gw_X2_286 : GoodIn lw_all (wsV RX2 286 RX2 yX2_looked (ws_ yX2_looked cX2_looked 3 (some (.object "MarginFolk$Value")))) := lw_V q1068 q1070 qs28 q157 q1071
theorem gnX2_looked : yX2_looked.cls ≠ "java/lang/invoke/MethodHandle" ∧ yX2_looked.cls ≠ "java/lang/invoke/VarHandle" ∧ (parseMethodDescriptor yX2_looked.desc).map (fun d => d.parameters.length) = some 1 := by decide +kernel
theorem fk_X2_205_X2 : FLk RX2 205 "MarginFolk$Reader" (TX2 5).2.1 (TX2 5).2.2.1 := Or.inl q383
theorem gnX12_init : yX12_init.cls ≠ "java/lang/invoke/MethodHandle" ∧ yX12_init.cls ≠ "java/lang/invoke/VarHandle" ∧ (parseMethodDescriptor yX12_init.desc).map (fun d => d.parameters.length) = some 1 := by decide +kernel
theorem gnX11_init : yX11_init.cls ≠ "java/lang/invoke/MethodHandle" ∧ yX11_init.cls ≠ "java/lang/invoke/VarHandle" ∧ (parseMethodDescriptor yX11_init.desc).map (fun d => d.parameters.length) = some 1 := by decide +kernel
/-! MarginFolk$Reader.atom()LMarginFolk$Value;: RW -/
noncomputable def X2_atom_b159 (N : Nat) (ra : AH → Option (Option (Option Nat) × AH)) (A : AH) (y0 : Int32) : Option (Option (Option Nat) × AH) :=
  bxa A (X2_within N ra A y0) fun r13 A14 => bo r13 fun q16 => some (some (some q16), A14)
noncomputable def X2_atom_b143 (N : Nat) (ra : AH → Option (Option (Option Nat) × AH)) (A : AH) (x1 : Nat) : Option (Option (Option Nat) × AH) :=
  if aK A x1 = 19 then ( bo (J6_equals N A x1 (CB + 26)) fun r12 => if r12 = 0 then (X2_atom_b159 N ra A 2) else (X2_atom_b159 N ra A 1)) else none
noncomputable def X2_atom_b101 (N : Nat) (ra : AH → Option (Option (Option Nat) × AH)) (A : AH) (x1 : Nat) (y0 : Int32) : Option (Option (Option Nat) × AH) :=
  if y0 = (-1) then (if aK A x1 = 19 then ( bo (J6_equals N A x1 (CB + 26)) fun r11 => if r11 = 0 then (if aK A x1 = 19 then ( bo (J6_equals N A x1 (CB + 27)) fun r17 => if r17 = 0 then (bd (X2_wrong A 1 (aI A 303 9 0)) fun r18 A19 => bo r18 fun q20 => if q20 = 10 then some (none, A19) else none) else (X2_atom_b143 N ra A x1)) else none) else (X2_atom_b143 N ra A x1)) else none) else (bxa A (X2_looked ra A y0) fun r21 A22 => bo r21 fun q24 => some (some (some q24), A22))
noncomputable def X2_atom_b80 (N : Nat) (ra : AH → Option (Option (Option Nat) × AH)) (A : AH) (x1 : Nat) : Option (Option (Option Nat) × AH) :=
  if (aI A 305 9 0) = 447 then (bo (X0_find N A x1 (CB + 82)) fun r25 => X2_atom_b101 N ra A x1 r25) else (X2_atom_b101 N ra A x1 (-1))
noncomputable def X2_atom (N : Nat) (ra : AH → Option (Option (Option Nat) × AH)) (A0 : AH) : Option (Option (Option Nat) × AH) :=
  ck A0 (bd (X2_here N A0) fun r1 A2 => if r1 = 40 then (bxa A2 (X2_within N ra A2 0) fun r34 A35 => bo r34 fun q37 => some (some (some q37), A35)) else (bd (X2_here N A2) fun r3 A4 => bo (X0_isDigit r3) fun r5 => if r5 = 0 then (bxa A4 (X2_word_2 N A4) fun r6 A7 => bo r6 fun q9 => bo (X0_find N A7 q9 (CB + 81)) fun r10 => if r10 = (-1) then (X2_atom_b80 N ra A7 q9) else (bo (X0_has (aI A7 305 9 0) r10) fun r26 => if r26 = 0 then (X2_atom_b80 N ra A7 q9) else (bo (nwO A7 11 1) fun A27 => ck A27 ( bd (X12_init A27 (aN A7) r10) fun _ A28 => some (some (some (aN A7)), A28))))) else (bo (nwO A4 10 1) fun A29 => ck A29 ( bx (X2_number N A29 0 9999) fun r30 A31 => bd (X11_init A31 (aN A4) (Int32.toInt64 r30)) fun _ A33 => some (some (some (aN A4)), A33)))))
set_option maxHeartbeats 4000000 in
theorem zX2_atom {l : Launch} {dC : Nat → ClassId} {dI : Nat → Nat → Nat} {ac : Nat → ClassId} {ad : Nat → Nat} {N : Nat} {ra : AH → Option (Option (Option Nat) × AH)} {fa la : Nat} (ha : RcA l dC dI ac ad yX2_atom cX2_atom 3 (.object "MarginFolk$Value") fa la ra) {A0 : AH} {o : Option (Option Nat)} {A' : AH} (hf : X2_atom N ra A0 = some (o, A')) : vx_Met l yX2_atom (ws_ yX2_atom cX2_atom 3 (some (.object "MarginFolk$Value"))) { frames := fa + 14, cells := aN A' - aN A0, slots := aS A' - aS A0, locals := la + 304 } (va_Pc [.ref (ad 9)] (cPre dC dI ac ad True A0)) (cQxq dC dI ac ad True (aN A0) (aS A0) (aN A') (aS A') o A') (cXC dC dI ac ad True (aN A0) (aS A0) (aN A') (aS A') o A') (aN A' - aN A0) (aS A' - aS A0) (cF ad) := by
  unfold X2_atom at hf
  obtain ⟨hck0, hf⟩ := ck_s hf
  refine c_ofx hck0 RX2 (by decide) rfl (Nat.le_of_ble_eq_true rfl) ?_
  intro p e s m args below meth c E hb hr hlk hnm hml hnx hS ls hl
  have hl : lv_has ls 3 [(0, .ref (ad 9))] := hl
  have hcs : aN A0 + 0 ≤ aN A0 ∧ aS A0 + 0 ≤ aS A0 := ⟨Nat.le_refl _, Nat.le_refl _⟩
  have hB159 : ∀ (A : AH) (y0 : Int32), X2_atom_b159 N ra A y0 = some (o, A') → ∀ (H : Heap) (locs : List Loc) (cells slots : Nat), aN A0 + cells ≤ aN A ∧ aS A0 + slots ≤ aS A →  cS dC dI ac ad True s.heap (aN A0) (aS A0) (aN A') (aS A') A H locs → ∀ (ls : Array Slot), lv_has ls 3 [(0, .ref (ad 9))] → W p l e { frames := fa + 14, cells := aN A' - aN A0, slots := aS A' - aS A0, locals := la + 304 } s m args below meth c H locs cells slots (vx_MQ below (cQxq dC dI ac ad True (aN A0) (aS A0) (aN A') (aS A') o A') (cXC dC dI ac ad True (aN A0) (aS A0) (aN A') (aS A') o A') args s (aN A' - aN A0) (aS A' - aS A0) (cF ad)) (F0 m 159 ls [.int y0, .ref (ad 9)]) := by
    intro A y0 hf H locs cells slots hcs hS ls hl
    unfold X2_atom_b159 at hf
    obtain ⟨o15, A14, h1, hge, hup, hf⟩ := bxa_s hf
    refine x_kq hS (vx_runV ⟨E.1, hb, hml, E.2.1, E.2.2.1⟩ (zX2_within ha h1) (cwV 1 E.2.2.1 gw_X2_264 rfl rfl rfl ⟨rfl, gnX2_within⟩ ⟨by dsimp only; omega, by dsimp only; omega⟩) (c_preV E hS ci_3 (sK hS (by decide) rfl) (hS.1.lt (sK hS (by decide) rfl) rfl) _) rfl rfl hl.1 rfl (lv_room (Nat.le_of_ble_eq_true rfl)) dX2_atom_159 (rm_a hcs hge hup)) hup (fun ho H locs hS hn => ?_) (fun r13 ho H locs hS hn => ?_)
    · subst ho
      have hcs := rm_a2 hcs hge
      exact x_out E hnx hlk hS (rm_e ⟨Nat.le_trans hcs.1 hS.2.2.2.2.1, Nat.le_trans hcs.2 hS.2.2.2.2.2⟩) (xm_n hf)
    subst ho
    have hcs := rm_a2 hcs hge
    have hf := xm_s hf
    obtain ⟨q16, hr9, hf⟩ := bo_s hf
    refine c_dr hr9 ?_
    exact x_ar E hb hr (Or.inl ⟨_, rfl⟩) hlk hS (rm_e ⟨Nat.le_trans hcs.1 hS.2.2.2.2.1, Nat.le_trans hcs.2 hS.2.2.2.2.2⟩) (v := (some q16)) hf dX2_atom_162
  have hB143 : ∀ (A : AH) (x1 : Nat), X2_atom_b143 N ra A x1 = some (o, A') → ∀ (H : Heap) (locs : List Loc) (cells slots : Nat), aN A0 + cells ≤ aN A ∧ aS A0 + slots ≤ aS A →  cS dC dI ac ad True s.heap (aN A0) (aS A0) (aN A') (aS A') A H locs → ∀ (ls : Array Slot), lv_has ls 3 [(0, .ref (ad 9)), (1, .ref (ad x1))] → W p l e { frames := fa + 14, cells := aN A' - aN A0, slots := aS A' - aS A0, locals := la + 304 } s m args below meth c H locs cells slots (vx_MQ below (cQxq dC dI ac ad True (aN A0) (aS A0) (aN A') (aS A') o A') (cXC dC dI ac ad True (aN A0) (aS A0) (aN A') (aS A') o A') args s (aN A' - aN A0) (aS A' - aS A0) (cF ad)) (F0 m 143 ls []) := by
    intro A x1 hf H locs cells slots hcs hS ls hl
    unfold X2_atom_b143 at hf
    refine lv_aload_n E.1 hb dX2_atom_143 rfl (lv_at hl 0 rfl) ?_
    refine lv_aload_n E.1 hb dX2_atom_144 rfl (lv_at hl 1 rfl) ?_
    refine c_ldcw E hb 13 rfl dX2_atom_145 ?_
    obtain ⟨hkr, hf⟩ := gu_s hf
    obtain ⟨r12, h1, hf⟩ := bo_s hf
    refine c_ki hS (va_runV ⟨E.1, hb, hml, E.2.1, E.2.2.1⟩ (zJ6_equals h1) (cwV 1 E.2.2.1 gw_X2_74 rfl rfl rfl ⟨rfl, gnJ6_equals⟩ ⟨by dsimp only; omega, by dsimp only; omega⟩) (c_preVS E hS hkr _) rfl rfl hl.1 rfl (lv_room (Nat.le_of_ble_eq_true rfl)) dX2_atom_148 (rm_n hcs hS.2.2.2.2)) hS.2.2.2.2 (fun H locs hS hn => ?_)
    have hcs := rm_n2 hcs hn
    refine lv_if_eq (tgt := 158) E.1 hb dX2_atom_151 (by decide) (fun hc => ?_) (fun hc => ?_)
    · have hf := it_s hc hf
      refine lv_iconst (v := 2) E.1 hb dX2_atom_158 rfl ?_
      exact hB159 A 2 hf _ _ _ _ hcs hS _ (lv_sub hl [0] rfl)
    · have hf := if_s hc hf
      refine lv_iconst (v := 1) E.1 hb dX2_atom_154 rfl ?_
      refine lv_goto (tgt := 159) E.1 hb dX2_atom_155 (by decide) ?_
      exact hB159 A 1 hf _ _ _ _ hcs hS _ (lv_sub hl [0] rfl)
  have hB101 : ∀ (A : AH) (x1 : Nat) (y0 : Int32), X2_atom_b101 N ra A x1 y0 = some (o, A') → ∀ (H : Heap) (locs : List Loc) (cells slots : Nat), aN A0 + cells ≤ aN A ∧ aS A0 + slots ≤ aS A →  cS dC dI ac ad True s.heap (aN A0) (aS A0) (aN A') (aS A') A H locs → ∀ (ls : Array Slot), lv_has ls 3 [(0, .ref (ad 9)), (1, .ref (ad x1))] → W p l e { frames := fa + 14, cells := aN A' - aN A0, slots := aS A' - aS A0, locals := la + 304 } s m args below meth c H locs cells slots (vx_MQ below (cQxq dC dI ac ad True (aN A0) (aS A0) (aN A') (aS A') o A') (cXC dC dI ac ad True (aN A0) (aS A0) (aN A') (aS A') o A') args s (aN A' - aN A0) (aS A' - aS A0) (cF ad)) (F0 m 101 ls [.int y0]) := by
    intro A x1 y0 hf H locs cells slots hcs hS ls hl
    unfold X2_atom_b101 at hf
    refine lv_istore_n (lv' := [(2, .int y0), (0, .ref (ad 9)), (1, .ref (ad x1))]) E.1 hb dX2_atom_101 rfl hl (by decide) rfl (fun ls hl => ?_)
    refine lv_iload_n E.1 hb dX2_atom_102 rfl (lv_at hl 0 rfl) ?_
    refine lv_iconst (v := (-1)) E.1 hb dX2_atom_103 rfl ?_
    refine lv_icmp_eq (tgt := 113) E.1 hb dX2_atom_104 (by decide) (fun hc => ?_) (fun hc => ?_)
    · have hf := it_s hc hf
      refine lv_aload_n E.1 hb dX2_atom_113 rfl (lv_at hl 2 rfl) ?_
      refine c_ldcw E hb 13 rfl dX2_atom_114 ?_
      obtain ⟨hkr, hf⟩ := gu_s hf
      obtain ⟨r11, h1, hf⟩ := bo_s hf
      refine c_ki hS (va_runV ⟨E.1, hb, hml, E.2.1, E.2.2.1⟩ (zJ6_equals h1) (cwV 1 E.2.2.1 gw_X2_74 rfl rfl rfl ⟨rfl, gnJ6_equals⟩ ⟨by dsimp only; omega, by dsimp only; omega⟩) (c_preVS E hS hkr _) rfl rfl hl.1 rfl (lv_room (Nat.le_of_ble_eq_true rfl)) dX2_atom_117 (rm_n hcs hS.2.2.2.2)) hS.2.2.2.2 (fun H locs hS hn => ?_)
      have hcs := rm_n2 hcs hn
      refine lv_if_ne (tgt := 143) E.1 hb dX2_atom_120 (by decide) (fun hc => ?_) (fun hc => ?_)
      · have hf := if_s hc hf
        exact hB143 A x1 hf _ _ _ _ hcs hS _ (lv_sub hl [1, 2] rfl)
      · have hf := it_s hc hf
        refine lv_aload_n E.1 hb dX2_atom_123 rfl (lv_at hl 2 rfl) ?_
        refine c_ldcw E hb 14 rfl dX2_atom_124 ?_
        obtain ⟨hkr, hf⟩ := gu_s hf
        obtain ⟨r17, h1, hf⟩ := bo_s hf
        refine c_ki hS (va_runV ⟨E.1, hb, hml, E.2.1, E.2.2.1⟩ (zJ6_equals h1) (cwV 1 E.2.2.1 gw_X2_74 rfl rfl rfl ⟨rfl, gnJ6_equals⟩ ⟨by dsimp only; omega, by dsimp only; omega⟩) (c_preVS E hS hkr _) rfl rfl hl.1 rfl (lv_room (Nat.le_of_ble_eq_true rfl)) dX2_atom_127 (rm_n hcs hS.2.2.2.2)) hS.2.2.2.2 (fun H locs hS hn => ?_)
        have hcs := rm_n2 hcs hn
        refine lv_if_ne (tgt := 143) E.1 hb dX2_atom_130 (by decide) (fun hc => ?_) (fun hc => ?_)
        · have hf := if_s hc hf
          exact hB143 A x1 hf _ _ _ _ hcs hS _ (lv_sub hl [1, 2] rfl)
        · have hf := it_s hc hf
          refine lv_aload_n E.1 hb dX2_atom_133 rfl (lv_at hl 1 rfl) ?_
          refine lv_iconst (v := 1) E.1 hb dX2_atom_134 rfl ?_
          refine lv_aload_n E.1 hb dX2_atom_135 rfl (lv_at hl 1 rfl) ?_
          refine c_gI (k := 3) (f := 303) E hb hS ci_3 (sK hS (by decide) rfl) rfl rfl rfl fk_X2_61_X2 (fun _ h => h) dX2_atom_136 ?_
          obtain ⟨r18, A19, h1, hf⟩ := bd_s hf
          refine c_kq hS (va_runV ⟨E.1, hb, hml, E.2.1, E.2.2.1⟩ (zX2_wrong h1) (cwV 2 E.2.2.1 gw_X2_47 rfl rfl rfl ⟨rfl, gnX2_wrong⟩ ⟨by dsimp only; omega, by dsimp only; omega⟩) (c_preV E hS ci_3 (sK hS (by decide) rfl) (hS.1.lt (sK hS (by decide) rfl) rfl) _) rfl rfl hl.1 rfl (lv_room (Nat.le_of_ble_eq_true rfl)) dX2_atom_139 (rm_n hcs hS.2.2.2.2)) hS.2.2.2.2 (fun H locs hS hn => ?_)
          have hcs := rm_n2 hcs hn
          obtain ⟨q20, hr9, hf⟩ := bo_s hf
          refine c_dr hr9 ?_
          obtain ⟨hg, hf9⟩ := gu_s hf
          subst hg
          exact x_thr E hb hnx hlk hS (rm_e ⟨Nat.le_trans hcs.1 hS.2.2.2.2.1, Nat.le_trans hcs.2 hS.2.2.2.2.2⟩) hf9 dX2_atom_142
    · have hf := if_s hc hf
      refine lv_aload_n E.1 hb dX2_atom_107 rfl (lv_at hl 1 rfl) ?_
      refine lv_iload_n E.1 hb dX2_atom_108 rfl (lv_at hl 0 rfl) ?_
      obtain ⟨o23, A22, h1, hge, hup, hf⟩ := bxa_s hf
      refine x_kq hS (vx_runV ⟨E.1, hb, hml, E.2.1, E.2.2.1⟩ (zX2_looked ha h1) (cwV 1 E.2.2.1 gw_X2_286 rfl rfl rfl ⟨rfl, gnX2_looked⟩ ⟨by dsimp only; omega, by dsimp only; omega⟩) (c_preV E hS ci_3 (sK hS (by decide) rfl) (hS.1.lt (sK hS (by decide) rfl) rfl) _) rfl rfl hl.1 rfl (lv_room (Nat.le_of_ble_eq_true rfl)) dX2_atom_109 (rm_a hcs hge hup)) hup (fun ho H locs hS hn => ?_) (fun r21 ho H locs hS hn => ?_)
      · subst ho
        have hcs := rm_a2 hcs hge
        exact x_out E hnx hlk hS (rm_e ⟨Nat.le_trans hcs.1 hS.2.2.2.2.1, Nat.le_trans hcs.2 hS.2.2.2.2.2⟩) (xm_n hf)
      subst ho
      have hcs := rm_a2 hcs hge
      have hf := xm_s hf
      obtain ⟨q24, hr9, hf⟩ := bo_s hf
      refine c_dr hr9 ?_
      exact x_ar E hb hr (Or.inl ⟨_, rfl⟩) hlk hS (rm_e ⟨Nat.le_trans hcs.1 hS.2.2.2.2.1, Nat.le_trans hcs.2 hS.2.2.2.2.2⟩) (v := (some q24)) hf dX2_atom_112
  have hB80 : ∀ (A : AH) (x1 : Nat), X2_atom_b80 N ra A x1 = some (o, A') → ∀ (H : Heap) (locs : List Loc) (cells slots : Nat), aN A0 + cells ≤ aN A ∧ aS A0 + slots ≤ aS A →  cS dC dI ac ad True s.heap (aN A0) (aS A0) (aN A') (aS A') A H locs → ∀ (ls : Array Slot), lv_has ls 3 [(0, .ref (ad 9)), (1, .ref (ad x1))] → W p l e { frames := fa + 14, cells := aN A' - aN A0, slots := aS A' - aS A0, locals := la + 304 } s m args below meth c H locs cells slots (vx_MQ below (cQxq dC dI ac ad True (aN A0) (aS A0) (aN A') (aS A') o A') (cXC dC dI ac ad True (aN A0) (aS A0) (aN A') (aS A') o A') args s (aN A' - aN A0) (aS A' - aS A0) (cF ad)) (F0 m 80 ls []) := by
    intro A x1 hf H locs cells slots hcs hS ls hl
    unfold X2_atom_b80 at hf
    refine lv_aload_n E.1 hb dX2_atom_80 rfl (lv_at hl 0 rfl) ?_
    refine c_gI (k := 5) (f := 305) E hb hS ci_3 (sK hS (by decide) rfl) rfl rfl rfl fk_X2_205_X2 (fun _ h => h) dX2_atom_81 ?_
    refine lv_sipush (v := 447) E.1 hb dX2_atom_84 rfl ?_
    refine lv_icmp_ne (tgt := 100) E.1 hb dX2_atom_87 (by decide) (fun hc => ?_) (fun hc => ?_)
    · have hf := if_s hc hf
      refine lv_iconst (v := (-1)) E.1 hb dX2_atom_100 rfl ?_
      exact hB101 A x1 (-1) hf _ _ _ _ hcs hS _ (lv_sub hl [0, 1] rfl)
    · have hf := it_s hc hf
      refine lv_aload_n E.1 hb dX2_atom_90 rfl (lv_at hl 1 rfl) ?_
      refine c_gst E hb hS 3 rfl (Or.inr ⟨_, q1066⟩) rfl dX2_atom_91 ?_
      obtain ⟨r25, h1, hf⟩ := bo_s hf
      refine c_ki hS (va_runSN ⟨E.1, hb, hml, E.2.1, E.2.2.1⟩ (zX0_find h1) ⟨va_cnB 2 E.2.2.1 (lw_meth q835) rfl rfl rfl (E.2.2.2.2.1 _ q833 rfl) (E.2.2.1 _ q152) gnX0_find ⟨by dsimp only; omega, by dsimp only; omega⟩, E.2.2.1 _ q834, trivial⟩ (c_preS E hS _) rfl rfl hl.1 rfl (lv_room (Nat.le_of_ble_eq_true rfl)) dX2_atom_94 (rm_n hcs hS.2.2.2.2)) hS.2.2.2.2 (fun H locs hS hn => ?_)
      have hcs := rm_n2 hcs hn
      refine lv_goto (tgt := 101) E.1 hb dX2_atom_97 (by decide) ?_
      exact hB101 A x1 r25 hf _ _ _ _ hcs hS _ (lv_sub hl [0, 1] rfl)
  refine lv_aload_n E.1 hb dX2_atom_0 rfl (lv_at hl 0 rfl) ?_
  obtain ⟨r1, A2, h1, hf⟩ := bd_s hf
  refine c_ki hS (va_runV ⟨E.1, hb, hml, E.2.1, E.2.2.1⟩ (zX2_here h1) (cwV 0 E.2.2.1 gw_X2_43 rfl rfl rfl ⟨rfl, gnX2_here⟩ ⟨by dsimp only; omega, by dsimp only; omega⟩) (c_preV E hS ci_3 (sK hS (by decide) rfl) (hS.1.lt (sK hS (by decide) rfl) rfl) _) rfl rfl hl.1 rfl (lv_room (Nat.le_of_ble_eq_true rfl)) dX2_atom_1 (rm_n hcs hS.2.2.2.2)) hS.2.2.2.2 (fun H locs hS hn => ?_)
  have hcs := rm_n2 hcs hn
  refine lv_bipush (v := 40) E.1 hb dX2_atom_4 rfl ?_
  refine lv_icmp_ne (tgt := 15) E.1 hb dX2_atom_6 (by decide) (fun hc => ?_) (fun hc => ?_)
  · have hf := if_s hc hf
    refine lv_aload_n E.1 hb dX2_atom_15 rfl (lv_at hl 0 rfl) ?_
    obtain ⟨r3, A4, h1, hf⟩ := bd_s hf
    refine c_ki hS (va_runV ⟨E.1, hb, hml, E.2.1, E.2.2.1⟩ (zX2_here h1) (cwV 0 E.2.2.1 gw_X2_43 rfl rfl rfl ⟨rfl, gnX2_here⟩ ⟨by dsimp only; omega, by dsimp only; omega⟩) (c_preV E hS ci_3 (sK hS (by decide) rfl) (hS.1.lt (sK hS (by decide) rfl) rfl) _) rfl rfl hl.1 rfl (lv_room (Nat.le_of_ble_eq_true rfl)) dX2_atom_16 (rm_n hcs hS.2.2.2.2)) hS.2.2.2.2 (fun H locs hS hn => ?_)
    have hcs := rm_n2 hcs hn
    obtain ⟨r5, h1, hf⟩ := bo_s hf
    refine c_ki hS (va_runSN ⟨E.1, hb, hml, E.2.1, E.2.2.1⟩ (zX0_isDigit h1) ⟨va_cnB 1 E.2.2.1 (lw_meth q614) rfl rfl rfl (E.2.2.2.2.1 _ q612 rfl) (E.2.2.1 _ q152) gnX0_isDigit ⟨by dsimp only; omega, by dsimp only; omega⟩, E.2.2.1 _ q613, trivial⟩ (c_preS E hS _) rfl rfl hl.1 rfl (lv_room (Nat.le_of_ble_eq_true rfl)) dX2_atom_19 (rm_n hcs hS.2.2.2.2)) hS.2.2.2.2 (fun H locs hS hn => ?_)
    have hcs := rm_n2 hcs hn
    refine lv_if_eq (tgt := 42) E.1 hb dX2_atom_22 (by decide) (fun hc => ?_) (fun hc => ?_)
    · have hf := it_s hc hf
      refine lv_aload_n E.1 hb dX2_atom_42 rfl (lv_at hl 0 rfl) ?_
      obtain ⟨o8, A7, h1, hge, hup, hf⟩ := bxa_s hf
      refine x_kq hS (vx_runV ⟨E.1, hb, hml, E.2.1, E.2.2.1⟩ (zX2_word_2 h1) (cwV 0 E.2.2.1 gw_X2_70 rfl rfl rfl ⟨rfl, gnX2_word_2⟩ ⟨by dsimp only; omega, by dsimp only; omega⟩) (c_preV E hS ci_3 (sK hS (by decide) rfl) (hS.1.lt (sK hS (by decide) rfl) rfl) _) rfl rfl hl.1 rfl (lv_room (Nat.le_of_ble_eq_true rfl)) dX2_atom_43 (rm_a hcs hge hup)) hup (fun ho H locs hS hn => ?_) (fun r6 ho H locs hS hn => ?_)
      · subst ho
        have hcs := rm_a2 hcs hge
        exact x_out E hnx hlk hS (rm_e ⟨Nat.le_trans hcs.1 hS.2.2.2.2.1, Nat.le_trans hcs.2 hS.2.2.2.2.2⟩) (xm_n hf)
      subst ho
      have hcs := rm_a2 hcs hge
      have hf := xm_s hf
      obtain ⟨q9, hr9, hf⟩ := bo_s hf
      refine c_dr hr9 ?_
      refine lv_astore_n (lv' := [(1, .ref (ad q9)), (0, .ref (ad 9))]) E.1 hb dX2_atom_46 rfl hl (by decide) rfl (fun ls hl => ?_)
      refine lv_aload_n E.1 hb dX2_atom_47 rfl (lv_at hl 0 rfl) ?_
      refine c_gst E hb hS 2 rfl (Or.inr ⟨_, q1053⟩) rfl dX2_atom_48 ?_
      obtain ⟨r10, h1, hf⟩ := bo_s hf
      refine c_ki hS (va_runSN ⟨E.1, hb, hml, E.2.1, E.2.2.1⟩ (zX0_find h1) ⟨va_cnB 2 E.2.2.1 (lw_meth q835) rfl rfl rfl (E.2.2.2.2.1 _ q833 rfl) (E.2.2.1 _ q152) gnX0_find ⟨by dsimp only; omega, by dsimp only; omega⟩, E.2.2.1 _ q834, trivial⟩ (c_preS E hS _) rfl rfl hl.1 rfl (lv_room (Nat.le_of_ble_eq_true rfl)) dX2_atom_51 (rm_n hcs hS.2.2.2.2)) hS.2.2.2.2 (fun H locs hS hn => ?_)
      have hcs := rm_n2 hcs hn
      refine lv_istore_n (lv' := [(2, .int r10), (1, .ref (ad q9)), (0, .ref (ad 9))]) E.1 hb dX2_atom_54 rfl hl (by decide) rfl (fun ls hl => ?_)
      refine lv_iload_n E.1 hb dX2_atom_55 rfl (lv_at hl 0 rfl) ?_
      refine lv_iconst (v := (-1)) E.1 hb dX2_atom_56 rfl ?_
      refine lv_icmp_eq (tgt := 80) E.1 hb dX2_atom_57 (by decide) (fun hc => ?_) (fun hc => ?_)
      · have hf := it_s hc hf
        exact hB80 A7 q9 hf _ _ _ _ hcs hS _ (lv_sub hl [2, 1] rfl)
      · have hf := if_s hc hf
        refine lv_aload_n E.1 hb dX2_atom_60 rfl (lv_at hl 2 rfl) ?_
        refine c_gI (k := 5) (f := 305) E hb hS ci_3 (sK hS (by decide) rfl) rfl rfl rfl fk_X2_205_X2 (fun _ h => h) dX2_atom_61 ?_
        refine lv_iload_n E.1 hb dX2_atom_64 rfl (lv_at hl 0 rfl) ?_
        obtain ⟨r26, h1, hf⟩ := bo_s hf
        refine c_ki hS (va_runSN ⟨E.1, hb, hml, E.2.1, E.2.2.1⟩ (zX0_has h1) ⟨va_cnB 2 E.2.2.1 (lw_meth q794) rfl rfl rfl (E.2.2.2.2.1 _ q1055 rfl) (E.2.2.1 _ q152) gnX0_has ⟨by dsimp only; omega, by dsimp only; omega⟩, E.2.2.1 _ q793, trivial⟩ (c_preS E hS _) rfl rfl hl.1 rfl (lv_room (Nat.le_of_ble_eq_true rfl)) dX2_atom_65 (rm_n hcs hS.2.2.2.2)) hS.2.2.2.2 (fun H locs hS hn => ?_)
        have hcs := rm_n2 hcs hn
        refine lv_if_eq (tgt := 80) E.1 hb dX2_atom_68 (by decide) (fun hc => ?_) (fun hc => ?_)
        · have hf := it_s hc hf
          exact hB80 A7 q9 hf _ _ _ _ hcs hS _ (lv_sub hl [2, 1] rfl)
        · have hf := if_s hc hf
          obtain ⟨A27, hn9, hw, hf⟩ := nwO_s hf
          obtain ⟨hck, hf⟩ := ck_s hf
          refine c_new E hb hS hcs ci_11 dv_11 q1056 q1057 q181 hn9 hw hck (rm_up _ _ _ _) dX2_atom_71 (fun H cells slots hS hcs => ?_)
          refine lv_dup E.1 hb dX2_atom_74 rfl ?_
          refine lv_iload_n E.1 hb dX2_atom_75 rfl (lv_at hl 0 rfl) ?_
          obtain ⟨_, A28, h1, hf⟩ := bd_s hf
          refine c_kv hS (va_runI ⟨E.1, hb, hml, E.2.1, E.2.2.1⟩ (zX12_init h1) (cwI 1 E.2.2.1 (lw_meth q1060) rfl rfl rfl (E.2.2.1 _ q181) (E.2.2.1 _ q1058) (E.2.2.1 _ q1059) rfl gnX12_init ⟨by dsimp only; omega, by dsimp only; omega⟩) (c_preS E hS _) rfl rfl hl.1 rfl (lv_room (Nat.le_of_ble_eq_true rfl)) dX2_atom_76 (rm_n hcs hS.2.2.2.2)) hS.2.2.2.2 (fun H locs hS hn => ?_)
          have hcs := rm_n2 hcs hn
          exact x_ar E hb hr (Or.inl ⟨_, rfl⟩) hlk hS (rm_e ⟨Nat.le_trans hcs.1 hS.2.2.2.2.1, Nat.le_trans hcs.2 hS.2.2.2.2.2⟩) (v := (some (aN A7))) hf dX2_atom_79
    · have hf := if_s hc hf
      obtain ⟨A29, hn9, hw, hf⟩ := nwO_s hf
      obtain ⟨hck, hf⟩ := ck_s hf
      refine c_new E hb hS hcs ci_10 dv_10 q1043 q1044 q180 hn9 hw hck (rm_up _ _ _ _) dX2_atom_25 (fun H cells slots hS hcs => ?_)
      refine lv_dup E.1 hb dX2_atom_28 rfl ?_
      refine lv_aload_n E.1 hb dX2_atom_29 rfl (lv_at hl 0 rfl) ?_
      refine lv_iconst (v := 0) E.1 hb dX2_atom_30 rfl ?_
      refine lv_sipush (v := 9999) E.1 hb dX2_atom_31 rfl ?_
      obtain ⟨o32, A31, h1, hf⟩ := bx_s hf
      refine x_ki hS (vx_runV ⟨E.1, hb, hml, E.2.1, E.2.2.1⟩ (zX2_number h1) (cwV 2 E.2.2.1 gw_X2_96 rfl rfl rfl ⟨rfl, gnX2_number⟩ ⟨by dsimp only; omega, by dsimp only; omega⟩) (c_preV E hS ci_3 (sK hS (by decide) rfl) (hS.1.lt (sK hS (by decide) rfl) rfl) _) rfl rfl hl.1 rfl (lv_room (Nat.le_of_ble_eq_true rfl)) dX2_atom_34 (rm_n hcs hS.2.2.2.2)) hS.2.2.2.2 (fun ho H locs hS hn => ?_) (fun r30 ho H locs hS hn => ?_)
      · subst ho
        have hcs := rm_n2 hcs hn
        exact x_out E hnx hlk hS (rm_e ⟨Nat.le_trans hcs.1 hS.2.2.2.2.1, Nat.le_trans hcs.2 hS.2.2.2.2.2⟩) (xm_n hf)
      subst ho
      have hcs := rm_n2 hcs hn
      have hf := xm_s hf
      refine lv_i2l E.1 hb dX2_atom_37 rfl ?_
      obtain ⟨_, A33, h1, hf⟩ := bd_s hf
      refine c_kv hS (va_runI ⟨E.1, hb, hml, E.2.1, E.2.2.1⟩ (zX11_init h1) (cwI 1 E.2.2.1 (lw_meth q1047) rfl rfl rfl (E.2.2.1 _ q180) (E.2.2.1 _ q1045) (E.2.2.1 _ q1046) rfl gnX11_init ⟨by dsimp only; omega, by dsimp only; omega⟩) (c_preS E hS _) rfl rfl hl.1 rfl (lv_room (Nat.le_of_ble_eq_true rfl)) dX2_atom_38 (rm_n hcs hS.2.2.2.2)) hS.2.2.2.2 (fun H locs hS hn => ?_)
      have hcs := rm_n2 hcs hn
      exact x_ar E hb hr (Or.inl ⟨_, rfl⟩) hlk hS (rm_e ⟨Nat.le_trans hcs.1 hS.2.2.2.2.1, Nat.le_trans hcs.2 hS.2.2.2.2.2⟩) (v := (some (aN A4))) hf dX2_atom_41
  · have hf := it_s hc hf
    refine lv_aload_n E.1 hb dX2_atom_9 rfl (lv_at hl 0 rfl) ?_
    refine lv_iconst (v := 0) E.1 hb dX2_atom_10 rfl ?_
    obtain ⟨o36, A35, h1, hge, hup, hf⟩ := bxa_s hf
    refine x_kq hS (vx_runV ⟨E.1, hb, hml, E.2.1, E.2.2.1⟩ (zX2_within ha h1) (cwV 1 E.2.2.1 gw_X2_264 rfl rfl rfl ⟨rfl, gnX2_within⟩ ⟨by dsimp only; omega, by dsimp only; omega⟩) (c_preV E hS ci_3 (sK hS (by decide) rfl) (hS.1.lt (sK hS (by decide) rfl) rfl) _) rfl rfl hl.1 rfl (lv_room (Nat.le_of_ble_eq_true rfl)) dX2_atom_11 (rm_a hcs hge hup)) hup (fun ho H locs hS hn => ?_) (fun r34 ho H locs hS hn => ?_)
    · subst ho
      have hcs := rm_a2 hcs hge
      exact x_out E hnx hlk hS (rm_e ⟨Nat.le_trans hcs.1 hS.2.2.2.2.1, Nat.le_trans hcs.2 hS.2.2.2.2.2⟩) (xm_n hf)
    subst ho
    have hcs := rm_a2 hcs hge
    have hf := xm_s hf
    obtain ⟨q37, hr9, hf⟩ := bo_s hf
    refine c_dr hr9 ?_
    exact x_ar E hb hr (Or.inl ⟨_, rfl⟩) hlk hS (rm_e ⟨Nat.le_trans hcs.1 hS.2.2.2.2.1, Nat.le_trans hcs.2 hS.2.2.2.2.2⟩) (v := (some q37)) hf dX2_atom_14
/-! the recursion a closed -/
noncomputable def atomG (N : Nat) : Nat → AH → Option (Option (Option Nat) × AH)
  | 0 => fun _ => none
  | d + 1 => X2_atom N (atomG N d)
theorem zatomG {l : Launch} {dC : Nat → ClassId} {dI : Nat → Nat → Nat} {ac : Nat → ClassId} {ad : Nat → Nat} {N : Nat} (d : Nat) : RcA l dC dI ac ad yX2_atom cX2_atom 3 (.object "MarginFolk$Value") (14 * d) (304 * d) (atomG N d) := by
  induction d with
  | zero =>
    intro A o A' h
    cases h
  | succ d ih =>
    rw [Nat.mul_add, Nat.mul_one, Nat.mul_add, Nat.mul_one]
    intro A o A' h
    exact zX2_atom ih h
noncomputable def atomF (N : Nat) : AH → Option (Option (Option Nat) × AH) := atomG N 8
theorem zatomF {l : Launch} {dC : Nat → ClassId} {dI : Nat → Nat → Nat} {ac : Nat → ClassId} {ad : Nat → Nat} {N : Nat} : RcA l dC dI ac ad yX2_atom cX2_atom 3 (.object "MarginFolk$Value") 112 2432 (atomF N) := zatomG 8
/-! MarginFolk$Reader.once(LMarginFolk$Value;II)LMarginFolk$Value;: RW -/
noncomputable def X2_once_b10 (N : Nat) (x1 : Option Nat) (x2 : Int32) (x3 : Int32) (A : AH) (y0 : Int32) : Option (Option (Option Nat) × AH) :=
  bx (X2_most A y0 x2) fun _ A1 => lt2 (wI A1 305 9 0 x3) fun A3 => bxa A3 (X2_sum N (atomF N) A3) fun r4 A5 => bo r4 fun q7 => some (some (some q7), A5)
noncomputable def X2_once (N : Nat) (A0 : AH) (x1 : Option Nat) (x2 : Int32) (x3 : Int32) : Option (Option (Option Nat) × AH) :=
  ck A0 (if x1 = none then (X2_once_b10 N x1 x2 x3 A0 0) else (X2_once_b10 N x1 x2 x3 A0 1))
set_option maxHeartbeats 4000000 in
theorem zX2_once {l : Launch} {dC : Nat → ClassId} {dI : Nat → Nat → Nat} {ac : Nat → ClassId} {ad : Nat → Nat} {N : Nat} {A0 : AH} {x1 : Option Nat} {x2 : Int32} {x3 : Int32} {o : Option (Option Nat)} {A' : AH} (hf : X2_once N A0 x1 x2 x3 = some (o, A')) : vx_Met l yX2_once (ws_ yX2_once cX2_once 4 (some (.object "MarginFolk$Value"))) { frames := 125, cells := aN A' - aN A0, slots := aS A' - aS A0, locals := 2713 } (va_Pc [.ref (ad 9), va_rf (Option.map ad x1), .int x2, .int x3] (cPre dC dI ac ad True A0)) (cQxq dC dI ac ad True (aN A0) (aS A0) (aN A') (aS A') o A') (cXC dC dI ac ad True (aN A0) (aS A0) (aN A') (aS A') o A') (aN A' - aN A0) (aS A' - aS A0) (cF ad) := by
  unfold X2_once at hf
  obtain ⟨hck0, hf⟩ := ck_s hf
  refine c_ofx hck0 RX2 (by decide) rfl (by cases x1 <;> exact Nat.le_of_ble_eq_true rfl) ?_
  intro p e s m args below meth c E hb hr hlk hnm hml hnx hS ls hl
  have hl : lv_has ls 4 [(0, .ref (ad 9)), (1, va_rf (Option.map ad x1)), (2, .int x2), (3, .int x3)] := (by cases x1 <;> exact hl)
  have hcs : aN A0 + 0 ≤ aN A0 ∧ aS A0 + 0 ≤ aS A0 := ⟨Nat.le_refl _, Nat.le_refl _⟩
  have hB10 : ∀ (A : AH) (y0 : Int32), X2_once_b10 N x1 x2 x3 A y0 = some (o, A') → ∀ (H : Heap) (locs : List Loc) (cells slots : Nat), aN A0 + cells ≤ aN A ∧ aS A0 + slots ≤ aS A →  cS dC dI ac ad True s.heap (aN A0) (aS A0) (aN A') (aS A') A H locs → ∀ (ls : Array Slot), lv_has ls 4 [(0, .ref (ad 9)), (1, va_rf (Option.map ad x1)), (2, .int x2), (3, .int x3)] → W p l e { frames := 125, cells := aN A' - aN A0, slots := aS A' - aS A0, locals := 2713 } s m args below meth c H locs cells slots (vx_MQ below (cQxq dC dI ac ad True (aN A0) (aS A0) (aN A') (aS A') o A') (cXC dC dI ac ad True (aN A0) (aS A0) (aN A') (aS A') o A') args s (aN A' - aN A0) (aS A' - aS A0) (cF ad)) (F0 m 10 ls [.int y0, .ref (ad 9)]) := by
    intro A y0 hf H locs cells slots hcs hS ls hl
    unfold X2_once_b10 at hf
    refine lv_iload_n E.1 hb dX2_once_10 rfl (lv_at hl 2 rfl) ?_
    obtain ⟨o2, A1, h1, hf⟩ := bx_s hf
    refine x_kv hS (vx_runV ⟨E.1, hb, hml, E.2.1, E.2.2.1⟩ (zX2_most h1) (cwV 2 E.2.2.1 gw_X2_133 rfl rfl rfl ⟨rfl, gnX2_most⟩ ⟨Nat.le_of_ble_eq_true rfl, Nat.le_of_ble_eq_true rfl⟩) (c_preV E hS ci_3 (sK hS (by decide) rfl) (hS.1.lt (sK hS (by decide) rfl) rfl) _) rfl rfl hl.1 rfl (lv_room (Nat.le_of_ble_eq_true rfl)) dX2_once_11 (rm_n hcs hS.2.2.2.2)) hS.2.2.2.2 (fun ho H locs hS hn => ?_) (fun _ ho H locs hS hn => ?_)
    · subst ho
      have hcs := rm_n2 hcs hn
      exact x_out E hnx hlk hS (rm_e ⟨Nat.le_trans hcs.1 hS.2.2.2.2.1, Nat.le_trans hcs.2 hS.2.2.2.2.2⟩) (xm_n hf)
    subst ho
    have hcs := rm_n2 hcs hn
    have hf := xm_s hf
    refine lv_aload_n E.1 hb dX2_once_14 rfl (lv_at hl 0 rfl) ?_
    refine lv_iload_n E.1 hb dX2_once_15 rfl (lv_at hl 3 rfl) ?_
    obtain ⟨A3, hw, hf⟩ := lt2_s hf
    refine c_pI (k := 5) (f := 305) E hb hS ci_3 (sK hS (by decide) rfl) (hS.1.lt (sK hS (by decide) rfl) rfl) rfl rfl (Or.inl rfl) fk_X2_205_X2 (fun _ h => h) rfl rfl hw dX2_once_16 (fun H locs hS => ?_)
    have hcs := rm_w (A2 := A3) hcs (by rw [hw]; exact ⟨rfl, rfl⟩)
    refine lv_aload_n E.1 hb dX2_once_19 rfl (lv_at hl 0 rfl) ?_
    obtain ⟨o6, A5, h1, hge, hup, hf⟩ := bxa_s hf
    refine x_kq hS (vx_runV ⟨E.1, hb, hml, E.2.1, E.2.2.1⟩ (zX2_sum zatomF h1) (cwV 0 E.2.2.1 gw_X2_208 rfl rfl rfl ⟨rfl, gnX2_sum⟩ ⟨by dsimp only; omega, by dsimp only; omega⟩) (c_preV E hS ci_3 (sK hS (by decide) rfl) (hS.1.lt (sK hS (by decide) rfl) rfl) _) rfl rfl hl.1 rfl (lv_room (Nat.le_of_ble_eq_true rfl)) dX2_once_20 (rm_a hcs hge hup)) hup (fun ho H locs hS hn => ?_) (fun r4 ho H locs hS hn => ?_)
    · subst ho
      have hcs := rm_a2 hcs hge
      exact x_out E hnx hlk hS (rm_e ⟨Nat.le_trans hcs.1 hS.2.2.2.2.1, Nat.le_trans hcs.2 hS.2.2.2.2.2⟩) (xm_n hf)
    subst ho
    have hcs := rm_a2 hcs hge
    have hf := xm_s hf
    obtain ⟨q7, hr9, hf⟩ := bo_s hf
    refine c_dr hr9 ?_
    exact x_ar E hb hr (Or.inl ⟨_, rfl⟩) hlk hS (rm_e ⟨Nat.le_trans hcs.1 hS.2.2.2.2.1, Nat.le_trans hcs.2 hS.2.2.2.2.2⟩) (v := (some q7)) hf dX2_once_23
  refine lv_aload_n E.1 hb dX2_once_0 rfl (lv_at hl 0 rfl) ?_
  refine c_aldv_n E hb dX2_once_1 rfl (lv_at hl 1 rfl) ?_
  refine c_ifnull (tgt := 9) E hb dX2_once_2 (by decide) (fun hc => ?_) (fun hc => ?_)
  · have hf := it_s hc hf
    refine lv_iconst (v := 0) E.1 hb dX2_once_9 rfl ?_
    exact hB10 A0 0 hf _ _ _ _ hcs hS _ (lv_sub hl [0, 1, 2, 3] rfl)
  · have hf := if_s hc hf
    refine lv_iconst (v := 1) E.1 hb dX2_once_5 rfl ?_
    refine lv_goto (tgt := 10) E.1 hb dX2_once_6 (by decide) ?_
    exact hB10 A0 1 hf _ _ _ _ hcs hS _ (lv_sub hl [0, 1, 2, 3] rfl)
/-! MarginFolk$Test.<init>()V: RW -/
noncomputable def X14_init (A0 : AH) (x0 : Nat) : Option (Unit × AH) :=
  some ((), A0)
abbrev rX14_init : Room := { frames := 1, cells := 0, slots := 0, locals := 20 }
set_option maxHeartbeats 4000000 in
theorem zX14_init {l : Launch} {dC : Nat → ClassId} {dI : Nat → Nat → Nat} {ac : Nat → ClassId} {ad : Nat → Nat} {b : Prop} {A0 : AH} {x0 : Nat} {A' : AH} (hf : X14_init A0 x0 = some ((), A')) : Met l yX14_init (ws_ yX14_init cX14_init 1 none) { frames := 1, cells := 0, slots := 0, locals := 20 } (va_Pc [.ref (ad x0)] (cPre dC dI ac ad b A0)) (cQv dC dI ac ad b (aN A0) (aS A0) (aN A0) (aS A0) A') 0 0 (cF ad) := by
  unfold X14_init at hf
  refine c_of ⟨Nat.le_refl _, Nat.le_refl _⟩ RX14 (plainFor_of_name (by decide)) rfl (Nat.le_of_ble_eq_true rfl) ?_
  intro p e s m args below meth c E hb hr hlk hnm hml hS ls hl
  have hl : lv_has ls 1 [(0, .ref (ad x0))] := hl
  refine lv_aload_n E.1 hb dX14_init_0 rfl (lv_at hl 0 rfl) ?_
  refine W.objInit E.1 hb E.2.1 (E.2.2.1 _ q1167) (E.2.2.1 _ q196) (E.2.2.1 _ q197) rfl (by rw [hml]; exact hl.1) rfl dX14_init_1 (Nat.le_of_ble_eq_true rfl) (Nat.le_of_ble_eq_true rfl) ?_
  refine W.eq (g2 := F0 m 4 ls []) rfl ?_
  exact c_vr E hb hr hlk hS ⟨Nat.le_refl 0, Nat.le_refl 0⟩ hf dX14_init_4
theorem gnX14_init : yX14_init.cls ≠ "java/lang/invoke/MethodHandle" ∧ yX14_init.cls ≠ "java/lang/invoke/VarHandle" ∧ (parseMethodDescriptor yX14_init.desc).map (fun d => d.parameters.length) = some 0 := by decide +kernel
theorem fk_X15_12_X15 : FLk RX15 12 "MarginFolk$Facts" (TX15 0).2.1 (TX15 0).2.2.1 := Or.inl q1170
theorem fk_X15_18_X15 : FLk RX15 18 "MarginFolk$Facts" (TX15 1).2.1 (TX15 1).2.2.1 := Or.inl q1172
/-! MarginFolk$Facts.<init>(Z)V: RW -/
noncomputable def X15_init (A0 : AH) (x0 : Nat) (x1 : Int32) : Option (Unit × AH) :=
  ck A0 (bd (X14_init A0 x0) fun _ A1 => bo (nwO A1 18 3) fun A2 => ck A2 ( bda A2 (J2_init A2 (aN A1) 2) fun _ A3 => bo (pR 13 A3 1300 x0 (some (aN A1))) fun A4 => if x1 = 0 ∨ x1 = 1 then ( bo (pI 13 A4 1301 x0 x1) fun A5 => some ((), A5)) else none))
set_option maxHeartbeats 4000000 in
theorem zX15_init {l : Launch} {dC : Nat → ClassId} {dI : Nat → Nat → Nat} {ac : Nat → ClassId} {ad : Nat → Nat} {b : Prop} {A0 : AH} {x0 : Nat} {x1 : Int32} {A' : AH} (hf : X15_init A0 x0 x1 = some ((), A')) : Met l yX15_init (ws_ yX15_init cX15_init 2 none) { frames := 5, cells := aN A' - aN A0, slots := aS A' - aS A0, locals := 102 } (va_Pc [.ref (ad x0), .int x1] (cPre dC dI ac ad b A0)) (cQv dC dI ac ad b (aN A0) (aS A0) (aN A') (aS A') A') (aN A' - aN A0) (aS A' - aS A0) (cF ad) := by
  unfold X15_init at hf
  obtain ⟨hck0, hf⟩ := ck_s hf
  refine c_of hck0 RX15 (plainFor_of_name (by decide)) rfl (Nat.le_of_ble_eq_true rfl) ?_
  intro p e s m args below meth c E hb hr hlk hnm hml hS ls hl
  have hl : lv_has ls 2 [(0, .ref (ad x0)), (1, .int x1)] := hl
  have hcs : aN A0 + 0 ≤ aN A0 ∧ aS A0 + 0 ≤ aS A0 := ⟨Nat.le_refl _, Nat.le_refl _⟩
  refine lv_aload_n E.1 hb dX15_init_0 rfl (lv_at hl 0 rfl) ?_
  obtain ⟨_, A1, h1, hf⟩ := bd_s hf
  refine c_kv hS (va_runIN ⟨E.1, hb, hml, E.2.1, E.2.2.1⟩ (zX14_init h1) ⟨va_cnB 0 E.2.2.1 (lw_meth q1166) rfl rfl rfl (E.2.2.2.2.1 _ q1164 rfl) (E.2.2.1 _ q183) gnX14_init ⟨Nat.le_of_ble_eq_true rfl, Nat.le_of_ble_eq_true rfl⟩, rfl, E.2.2.1 _ q1165⟩ (c_preS E hS _) rfl rfl hl.1 rfl (lv_room (Nat.le_of_ble_eq_true rfl)) dX15_init_1 (rm_n hcs hS.2.2.2.2)) hS.2.2.2.2 (fun H locs hS hn => ?_)
  have hcs := rm_n2 hcs hn
  refine lv_aload_n E.1 hb dX15_init_4 rfl (lv_at hl 0 rfl) ?_
  obtain ⟨A2, hn9, hw, hf⟩ := nwO_s hf
  obtain ⟨hck, hf⟩ := ck_s hf
  refine c_new E hb hS hcs ci_18 dv_18 q1168 q205 q156 hn9 hw hck (rm_up _ _ _ _) dX15_init_5 (fun H cells slots hS hcs => ?_)
  refine lv_dup E.1 hb dX15_init_8 rfl ?_
  refine lv_iconst (v := 2) E.1 hb dX15_init_9 rfl ?_
  obtain ⟨_, A3, h1, hge, hup, hf⟩ := bda_s hf
  refine c_kv hS (va_runI ⟨E.1, hb, hml, E.2.1, E.2.2.1⟩ (zJ2_init h1) (cwI 1 E.2.2.1 (lw_meth q208) rfl rfl rfl (E.2.2.1 _ q156) (E.2.2.1 _ q1169) (E.2.2.1 _ q207) rfl gnJ2_init ⟨Nat.le_of_ble_eq_true rfl, Nat.le_of_ble_eq_true rfl⟩) (c_preS E hS _) rfl rfl hl.1 rfl (lv_room (Nat.le_of_ble_eq_true rfl)) dX15_init_10 (rm_a hcs hge hup)) hup (fun H locs hS hn => ?_)
  have hcs := rm_a2 hcs hge
  obtain ⟨A4, hk, hw, hf⟩ := pR_s hf
  refine c_pR (k := 0) (f := 1300) (r := (some (aN A1))) E hb hS ci_13 hk (hS.1.lt hk rfl) rfl rfl (fun _ => rfl) (Or.inr ⟨hnm, rfl, rfl, q1170⟩) fk_X15_12_X15 (fun _ h => h) (fun q => by cases q <;> exact ⟨rfl, rfl⟩) hw dX15_init_13 (fun H locs hS => ?_)
  have hcs := rm_w (A2 := A4) hcs (by rw [hw]; exact ⟨rfl, rfl⟩)
  refine lv_aload_n E.1 hb dX15_init_16 rfl (lv_at hl 0 rfl) ?_
  refine lv_iload_n E.1 hb dX15_init_17 rfl (lv_at hl 1 rfl) ?_
  obtain ⟨hbz, hf⟩ := gu_s hf
  obtain ⟨A5, hk, hw, hf⟩ := pI_s hf
  refine c_pI (k := 1) (f := 1301) E hb hS ci_13 hk (hS.1.lt hk rfl) rfl rfl (Or.inr ⟨hnm, rfl, rfl, q1172⟩) fk_X15_18_X15 (fun _ h => h) (bz_n hbz) (bz_f hbz) hw dX15_init_18 (fun H locs hS => ?_)
  have hcs := rm_w (A2 := A5) hcs (by rw [hw]; exact ⟨rfl, rfl⟩)
  exact c_vr E hb hr hlk hS (rm_e ⟨Nat.le_trans hcs.1 hS.2.2.2.2.1, Nat.le_trans hcs.2 hS.2.2.2.2.2⟩) hf dX15_init_21
/-! MarginFolk$Reader.passes(Ljava/lang/String;)Z: RW -/
noncomputable def X2_passes (N : Nat) (A0 : AH) (x1 : Nat) : Option (Option Int32 × AH) :=
  ck A0 (bd (X2_here N A0) fun r1 A2 => bo (X0_isLetter r1) fun r3 => if r3 = 0 then (some (some 0, A2)) else (bxa A2 (X2_word_2 N A2) fun r4 A5 => bo r4 fun q7 => if aK A5 q7 = 19 then ( bo (J6_equals N A5 q7 x1) fun r8 => if r8 = 0 then (lt2 (wI A5 302 9 0 (aI A0 302 9 0)) fun A9 => some (some 0, A9)) else (some (some 1, A5))) else none))
set_option maxHeartbeats 4000000 in
theorem zX2_passes {l : Launch} {dC : Nat → ClassId} {dI : Nat → Nat → Nat} {ac : Nat → ClassId} {ad : Nat → Nat} {N : Nat} {A0 : AH} {x1 : Nat} {o : Option Int32} {A' : AH} (hf : X2_passes N A0 x1 = some (o, A')) : vx_Met l yX2_passes (ws_ yX2_passes cX2_passes 3 (some .boolean)) { frames := 8, cells := aN A' - aN A0, slots := aS A' - aS A0, locals := 177 } (va_Pc [.ref (ad 9), .ref (ad x1)] (cPre dC dI ac ad True A0)) (cQxi dC dI ac ad True (aN A0) (aS A0) (aN A') (aS A') o A') (cXC dC dI ac ad True (aN A0) (aS A0) (aN A') (aS A') o A') (aN A' - aN A0) (aS A' - aS A0) (cF ad) := by
  unfold X2_passes at hf
  obtain ⟨hck0, hf⟩ := ck_s hf
  refine c_ofx hck0 RX2 (by decide) rfl (Nat.le_of_ble_eq_true rfl) ?_
  intro p e s m args below meth c E hb hr hlk hnm hml hnx hS ls hl
  have hl : lv_has ls 3 [(0, .ref (ad 9)), (1, .ref (ad x1))] := hl
  have hcs : aN A0 + 0 ≤ aN A0 ∧ aS A0 + 0 ≤ aS A0 := ⟨Nat.le_refl _, Nat.le_refl _⟩
  refine lv_aload_n E.1 hb dX2_passes_0 rfl (lv_at hl 0 rfl) ?_
  refine c_gI (k := 2) (f := 302) E hb hS ci_3 (sK hS (by decide) rfl) rfl rfl rfl fk_X2_36_X2 (fun _ h => h) dX2_passes_1 ?_
  refine lv_istore_n (lv' := [(2, .int (aI A0 302 9 0)), (0, .ref (ad 9)), (1, .ref (ad x1))]) E.1 hb dX2_passes_4 rfl hl (by decide) rfl (fun ls hl => ?_)
  refine lv_aload_n E.1 hb dX2_passes_5 rfl (lv_at hl 1 rfl) ?_
  obtain ⟨r1, A2, h1, hf⟩ := bd_s hf
  refine c_ki hS (va_runV ⟨E.1, hb, hml, E.2.1, E.2.2.1⟩ (zX2_here h1) (cwV 0 E.2.2.1 gw_X2_43 rfl rfl rfl ⟨rfl, gnX2_here⟩ ⟨Nat.le_of_ble_eq_true rfl, Nat.le_of_ble_eq_true rfl⟩) (c_preV E hS ci_3 (sK hS (by decide) rfl) (hS.1.lt (sK hS (by decide) rfl) rfl) _) rfl rfl hl.1 rfl (lv_room (Nat.le_of_ble_eq_true rfl)) dX2_passes_6 (rm_n hcs hS.2.2.2.2)) hS.2.2.2.2 (fun H locs hS hn => ?_)
  have hcs := rm_n2 hcs hn
  obtain ⟨r3, h1, hf⟩ := bo_s hf
  refine c_ki hS (va_runSN ⟨E.1, hb, hml, E.2.1, E.2.2.1⟩ (zX0_isLetter h1) ⟨va_cnB 1 E.2.2.1 (lw_meth q603) rfl rfl rfl (E.2.2.2.2.1 _ q601 rfl) (E.2.2.1 _ q152) gnX0_isLetter ⟨Nat.le_of_ble_eq_true rfl, Nat.le_of_ble_eq_true rfl⟩, E.2.2.1 _ q602, trivial⟩ (c_preS E hS _) rfl rfl hl.1 rfl (lv_room (Nat.le_of_ble_eq_true rfl)) dX2_passes_9 (rm_n hcs hS.2.2.2.2)) hS.2.2.2.2 (fun H locs hS hn => ?_)
  have hcs := rm_n2 hcs hn
  refine lv_if_ne (tgt := 17) E.1 hb dX2_passes_12 (by decide) (fun hc => ?_) (fun hc => ?_)
  · have hf := if_s hc hf
    refine lv_aload_n E.1 hb dX2_passes_17 rfl (lv_at hl 1 rfl) ?_
    obtain ⟨o6, A5, h1, hge, hup, hf⟩ := bxa_s hf
    refine x_kq hS (vx_runV ⟨E.1, hb, hml, E.2.1, E.2.2.1⟩ (zX2_word_2 h1) (cwV 0 E.2.2.1 gw_X2_70 rfl rfl rfl ⟨rfl, gnX2_word_2⟩ ⟨Nat.le_of_ble_eq_true rfl, Nat.le_of_ble_eq_true rfl⟩) (c_preV E hS ci_3 (sK hS (by decide) rfl) (hS.1.lt (sK hS (by decide) rfl) rfl) _) rfl rfl hl.1 rfl (lv_room (Nat.le_of_ble_eq_true rfl)) dX2_passes_18 (rm_a hcs hge hup)) hup (fun ho H locs hS hn => ?_) (fun r4 ho H locs hS hn => ?_)
    · subst ho
      have hcs := rm_a2 hcs hge
      exact x_out E hnx hlk hS (rm_e ⟨Nat.le_trans hcs.1 hS.2.2.2.2.1, Nat.le_trans hcs.2 hS.2.2.2.2.2⟩) (xm_n hf)
    subst ho
    have hcs := rm_a2 hcs hge
    have hf := xm_s hf
    obtain ⟨q7, hr9, hf⟩ := bo_s hf
    refine c_dr hr9 ?_
    refine lv_aload_n E.1 hb dX2_passes_21 rfl (lv_at hl 2 rfl) ?_
    obtain ⟨hkr, hf⟩ := gu_s hf
    obtain ⟨r8, h1, hf⟩ := bo_s hf
    refine c_ki hS (va_runV ⟨E.1, hb, hml, E.2.1, E.2.2.1⟩ (zJ6_equals h1) (cwV 1 E.2.2.1 gw_X2_74 rfl rfl rfl ⟨rfl, gnJ6_equals⟩ ⟨Nat.le_of_ble_eq_true rfl, Nat.le_of_ble_eq_true rfl⟩) (c_preVS E hS hkr _) rfl rfl hl.1 rfl (lv_room (Nat.le_of_ble_eq_true rfl)) dX2_passes_22 (rm_n hcs hS.2.2.2.2)) hS.2.2.2.2 (fun H locs hS hn => ?_)
    have hcs := rm_n2 hcs hn
    refine lv_if_eq (tgt := 30) E.1 hb dX2_passes_25 (by decide) (fun hc => ?_) (fun hc => ?_)
    · have hf := it_s hc hf
      refine lv_aload_n E.1 hb dX2_passes_30 rfl (lv_at hl 1 rfl) ?_
      refine lv_iload_n E.1 hb dX2_passes_31 rfl (lv_at hl 0 rfl) ?_
      obtain ⟨A9, hw, hf⟩ := lt2_s hf
      refine c_pI (k := 2) (f := 302) E hb hS ci_3 (sK hS (by decide) rfl) (hS.1.lt (sK hS (by decide) rfl) rfl) rfl rfl (Or.inl rfl) fk_X2_36_X2 (fun _ h => h) rfl rfl hw dX2_passes_32 (fun H locs hS => ?_)
      have hcs := rm_w (A2 := A9) hcs (by rw [hw]; exact ⟨rfl, rfl⟩)
      refine lv_iconst (v := 0) E.1 hb dX2_passes_35 rfl ?_
      exact x_zr (ty := .boolean) E hb hr hlk hS (rm_e ⟨Nat.le_trans hcs.1 hS.2.2.2.2.1, Nat.le_trans hcs.2 hS.2.2.2.2.2⟩) rfl hf dX2_passes_36
    · have hf := if_s hc hf
      refine lv_iconst (v := 1) E.1 hb dX2_passes_28 rfl ?_
      exact x_zr (ty := .boolean) E hb hr hlk hS (rm_e ⟨Nat.le_trans hcs.1 hS.2.2.2.2.1, Nat.le_trans hcs.2 hS.2.2.2.2.2⟩) rfl hf dX2_passes_29
  · have hf := it_s hc hf
    refine lv_iconst (v := 0) E.1 hb dX2_passes_15 rfl ?_
    exact x_zr (ty := .boolean) E hb hr hlk hS (rm_e ⟨Nat.le_trans hcs.1 hS.2.2.2.2.1, Nat.le_trans hcs.2 hS.2.2.2.2.2⟩) rfl hf dX2_passes_16
theorem gw_X2_306 : GoodIn lw_all (wsV RX2 306 RX2 yX2_passes (ws_ yX2_passes cX2_passes 3 (some .boolean))) := lw_V q1187 q1189 qs33 q157 q1190
theorem gnX2_passes : yX2_passes.cls ≠ "java/lang/invoke/MethodHandle" ∧ yX2_passes.cls ≠ "java/lang/invoke/VarHandle" ∧ (parseMethodDescriptor yX2_passes.desc).map (fun d => d.parameters.length) = some 1 := by decide +kernel
theorem fk_X2_298_X15 : FLk RX2 298 "MarginFolk$Facts" (TX15 0).2.1 (TX15 0).2.2.1 := Or.inr ⟨_, q1171⟩
theorem gw_X2_310 : GoodIn lw_all (wsV RX2 310 RX2 yX2_fact (ws_ yX2_fact cX2_fact 3 (some (.object "MarginFolk$Test")))) := lw_V q1182 q1184 qs32 q157 q1185
theorem gnX2_fact : yX2_fact.cls ≠ "java/lang/invoke/MethodHandle" ∧ yX2_fact.cls ≠ "java/lang/invoke/VarHandle" ∧ (parseMethodDescriptor yX2_fact.desc).map (fun d => d.parameters.length) = some 0 := by decide +kernel
theorem gnX15_init : yX15_init.cls ≠ "java/lang/invoke/MethodHandle" ∧ yX15_init.cls ≠ "java/lang/invoke/VarHandle" ∧ (parseMethodDescriptor yX15_init.desc).map (fun d => d.parameters.length) = some 1 := by decide +kernel
/-! MarginFolk$Reader.both()LMarginFolk$Test;: RW -/
noncomputable def X2_both_b23 (N : Nat) (rf : AH → Option (Option (Option Nat) × AH)) (k23 : AH → Nat → Option (Option (Option Nat) × AH)) (A : AH) (x1 : Nat) : Option (Option (Option Nat) × AH) :=
  bxa A (X2_passes N A (CB + 23)) fun r10 A11 => if r10 = 0 then (some (some (some x1), A11)) else (bo (gN 13 A11 1300 x1) fun q13 => bxa A11 (rf A11) fun r14 A15 => bo r14 fun q17 => if aK A15 q13 = 18 then ( bda A15 (J2_add A15 q13 q17) fun r18 A19 => k23 A19 x1) else none)
noncomputable def X2_both (N : Nat) (rf : AH → Option (Option (Option Nat) × AH)) (A0 : AH) : Option (Option (Option Nat) × AH) :=
  ck A0 (bo (nwO A0 13 2) fun A1 => ck A1 ( bda A1 (X15_init A1 (aN A0) 1) fun _ A2 => bo (gN 13 A2 1300 (aN A0)) fun q3 => bxa A2 (rf A2) fun r4 A5 => bo r4 fun q7 => if aK A5 q3 = 18 then ( bda A5 (J2_add A5 q3 q7) fun r8 A9 => rn2 (X2_both_b23 N rf) N A9 (aN A0)) else none))
set_option maxHeartbeats 4000000 in
theorem zX2_both {l : Launch} {dC : Nat → ClassId} {dI : Nat → Nat → Nat} {ac : Nat → ClassId} {ad : Nat → Nat} {N : Nat} {rf : AH → Option (Option (Option Nat) × AH)} {fa la : Nat} (ha : RcA l dC dI ac ad yX2_fact cX2_fact 3 (.object "MarginFolk$Test") fa la rf) {A0 : AH} {o : Option (Option Nat)} {A' : AH} (hf : X2_both N rf A0 = some (o, A')) : vx_Met l yX2_both (ws_ yX2_both cX2_both 2 (some (.object "MarginFolk$Test"))) { frames := fa + 10, cells := aN A' - aN A0, slots := aS A' - aS A0, locals := la + 213 } (va_Pc [.ref (ad 9)] (cPre dC dI ac ad True A0)) (cQxq dC dI ac ad True (aN A0) (aS A0) (aN A') (aS A') o A') (cXC dC dI ac ad True (aN A0) (aS A0) (aN A') (aS A') o A') (aN A' - aN A0) (aS A' - aS A0) (cF ad) := by
  unfold X2_both at hf
  obtain ⟨hck0, hf⟩ := ck_s hf
  refine c_ofx hck0 RX2 (by decide) rfl (Nat.le_of_ble_eq_true rfl) ?_
  intro p e s m args below meth c E hb hr hlk hnm hml hnx hS ls hl
  have hl : lv_has ls 2 [(0, .ref (ad 9))] := hl
  have hcs : aN A0 + 0 ≤ aN A0 ∧ aS A0 + 0 ≤ aS A0 := ⟨Nat.le_refl _, Nat.le_refl _⟩
  have hL23 : ∀ (n : Nat) (A : AH) (x1 : Nat), rn2 (X2_both_b23 N rf) n A x1 = some (o, A') → ∀ (H : Heap) (locs : List Loc) (cells slots : Nat), aN A0 + cells ≤ aN A ∧ aS A0 + slots ≤ aS A →  cS dC dI ac ad True s.heap (aN A0) (aS A0) (aN A') (aS A') A H locs → ∀ (ls : Array Slot), lv_has ls 2 [(0, .ref (ad 9)), (1, .ref (ad x1))] → W p l e { frames := fa + 10, cells := aN A' - aN A0, slots := aS A' - aS A0, locals := la + 213 } s m args below meth c H locs cells slots (vx_MQ below (cQxq dC dI ac ad True (aN A0) (aS A0) (aN A') (aS A') o A') (cXC dC dI ac ad True (aN A0) (aS A0) (aN A') (aS A') o A') args s (aN A' - aN A0) (aS A' - aS A0) (cF ad)) (F0 m 23 ls []) := by
    intro  n
    induction n with
    | zero =>
      intro A x1 hf
      cases hf
    | succ n ih =>
      intro A x1 hf H locs cells slots hcs hS ls hl
      have hf : X2_both_b23 N rf (rn2 (X2_both_b23 N rf) n) A x1 = some (o, A') := hf
      have hk23 := ih
      generalize rn2 (X2_both_b23 N rf) n = k23 at hf hk23
      unfold X2_both_b23 at hf
      refine lv_aload_n E.1 hb dX2_both_23 rfl (lv_at hl 0 rfl) ?_
      refine c_ldcw E hb 16 rfl dX2_both_24 ?_
      obtain ⟨o12, A11, h1, hge, hup, hf⟩ := bxa_s hf
      refine x_ki hS (vx_runV ⟨E.1, hb, hml, E.2.1, E.2.2.1⟩ (zX2_passes h1) (cwV 1 E.2.2.1 gw_X2_306 rfl rfl rfl ⟨rfl, gnX2_passes⟩ ⟨by dsimp only; omega, by dsimp only; omega⟩) (c_preV E hS ci_3 (sK hS (by decide) rfl) (hS.1.lt (sK hS (by decide) rfl) rfl) _) rfl rfl hl.1 rfl (lv_room (Nat.le_of_ble_eq_true rfl)) dX2_both_27 (rm_a hcs hge hup)) hup (fun ho H locs hS hn => ?_) (fun r10 ho H locs hS hn => ?_)
      · subst ho
        have hcs := rm_a2 hcs hge
        exact x_out E hnx hlk hS (rm_e ⟨Nat.le_trans hcs.1 hS.2.2.2.2.1, Nat.le_trans hcs.2 hS.2.2.2.2.2⟩) (xm_n hf)
      subst ho
      have hcs := rm_a2 hcs hge
      have hf := xm_s hf
      refine lv_if_eq (tgt := 50) E.1 hb dX2_both_30 (by decide) (fun hc => ?_) (fun hc => ?_)
      · have hf := it_s hc hf
        refine lv_aload_n E.1 hb dX2_both_50 rfl (lv_at hl 1 rfl) ?_
        exact x_ar E hb hr (Or.inl ⟨_, rfl⟩) hlk hS (rm_e ⟨Nat.le_trans hcs.1 hS.2.2.2.2.1, Nat.le_trans hcs.2 hS.2.2.2.2.2⟩) (v := (some x1)) hf dX2_both_51
      · have hf := if_s hc hf
        refine lv_aload_n E.1 hb dX2_both_33 rfl (lv_at hl 1 rfl) ?_
        obtain ⟨q13, hk, hf⟩ := gN_s hf
        refine c_gN (k := 0) (f := 1300) E hb hS ci_13 hk.1 rfl rfl rfl hk.2 fk_X2_298_X15 (fun _ h => h) dX2_both_34 ?_
        refine lv_aload_n E.1 hb dX2_both_37 rfl (lv_at hl 0 rfl) ?_
        obtain ⟨o16, A15, h1, hge, hup, hf⟩ := bxa_s hf
        refine x_kq hS (vx_runV ⟨E.1, hb, hml, E.2.1, E.2.2.1⟩ (ha _ _ _ h1) (cwV 0 E.2.2.1 gw_X2_310 rfl rfl rfl ⟨rfl, gnX2_fact⟩ ⟨by dsimp only; omega, by dsimp only; omega⟩) (c_preV E hS ci_3 (sK hS (by decide) rfl) (hS.1.lt (sK hS (by decide) rfl) rfl) _) rfl rfl hl.1 rfl (lv_room (Nat.le_of_ble_eq_true rfl)) dX2_both_38 (rm_a hcs hge hup)) hup (fun ho H locs hS hn => ?_) (fun r14 ho H locs hS hn => ?_)
        · subst ho
          have hcs := rm_a2 hcs hge
          exact x_out E hnx hlk hS (rm_e ⟨Nat.le_trans hcs.1 hS.2.2.2.2.1, Nat.le_trans hcs.2 hS.2.2.2.2.2⟩) (xm_n hf)
        subst ho
        have hcs := rm_a2 hcs hge
        have hf := xm_s hf
        obtain ⟨q17, hr9, hf⟩ := bo_s hf
        refine c_dr hr9 ?_
        obtain ⟨hkr, hf⟩ := gu_s hf
        obtain ⟨r18, A19, h1, hge, hup, hf⟩ := bda_s hf
        refine c_kFi hS (va_runF (E.2.2.2.1.1 17 _ ci_18.1).2 ⟨E.1, hb, hml, E.2.1, E.2.2.1⟩ (zJ2_add h1) (va_cwF 1 E.2.2.1 gw_X2_202 rfl rfl rfl (cFw E 2 rfl) gx_add ⟨by dsimp only; omega, by dsimp only; omega⟩) (c_preV E hS ci_18 hkr (hS.1.lt hkr rfl) _) rfl rfl hl.1 rfl (lv_room (Nat.le_of_ble_eq_true rfl)) dX2_both_41 (rm_a hcs hge hup)) hup (fun H locs hS hn => ?_)
        have hcs := rm_a2 hcs hge
        refine lv_pop E.1 hb dX2_both_46 rfl ?_
        refine lv_goto (tgt := 23) E.1 hb dX2_both_47 (by decide) ?_
        exact hk23 A19 x1 hf _ _ _ _ hcs hS _ (lv_sub hl [0, 1] rfl)
  obtain ⟨A1, hn9, hw, hf⟩ := nwO_s hf
  obtain ⟨hck, hf⟩ := ck_s hf
  refine c_new E hb hS hcs ci_13 dv_13 q1159 q1160 q184 hn9 hw hck (rm_up _ _ _ _) dX2_both_0 (fun H cells slots hS hcs => ?_)
  refine lv_dup E.1 hb dX2_both_3 rfl ?_
  refine lv_iconst (v := 1) E.1 hb dX2_both_4 rfl ?_
  obtain ⟨_, A2, h1, hge, hup, hf⟩ := bda_s hf
  refine c_kv hS (va_runI ⟨E.1, hb, hml, E.2.1, E.2.2.1⟩ (zX15_init h1) (cwI 1 E.2.2.1 (lw_meth q1163) rfl rfl rfl (E.2.2.1 _ q184) (E.2.2.1 _ q1161) (E.2.2.1 _ q1162) rfl gnX15_init ⟨by dsimp only; omega, by dsimp only; omega⟩) (c_preS E hS _) rfl rfl hl.1 rfl (lv_room (Nat.le_of_ble_eq_true rfl)) dX2_both_5 (rm_a hcs hge hup)) hup (fun H locs hS hn => ?_)
  have hcs := rm_a2 hcs hge
  refine lv_astore_n (lv' := [(1, .ref (ad (aN A0))), (0, .ref (ad 9))]) E.1 hb dX2_both_8 rfl hl (by decide) rfl (fun ls hl => ?_)
  refine lv_aload_n E.1 hb dX2_both_9 rfl (lv_at hl 0 rfl) ?_
  obtain ⟨q3, hk, hf⟩ := gN_s hf
  refine c_gN (k := 0) (f := 1300) E hb hS ci_13 hk.1 rfl rfl rfl hk.2 fk_X2_298_X15 (fun _ h => h) dX2_both_10 ?_
  refine lv_aload_n E.1 hb dX2_both_13 rfl (lv_at hl 1 rfl) ?_
  obtain ⟨o6, A5, h1, hge, hup, hf⟩ := bxa_s hf
  refine x_kq hS (vx_runV ⟨E.1, hb, hml, E.2.1, E.2.2.1⟩ (ha _ _ _ h1) (cwV 0 E.2.2.1 gw_X2_310 rfl rfl rfl ⟨rfl, gnX2_fact⟩ ⟨by dsimp only; omega, by dsimp only; omega⟩) (c_preV E hS ci_3 (sK hS (by decide) rfl) (hS.1.lt (sK hS (by decide) rfl) rfl) _) rfl rfl hl.1 rfl (lv_room (Nat.le_of_ble_eq_true rfl)) dX2_both_14 (rm_a hcs hge hup)) hup (fun ho H locs hS hn => ?_) (fun r4 ho H locs hS hn => ?_)
  · subst ho
    have hcs := rm_a2 hcs hge
    exact x_out E hnx hlk hS (rm_e ⟨Nat.le_trans hcs.1 hS.2.2.2.2.1, Nat.le_trans hcs.2 hS.2.2.2.2.2⟩) (xm_n hf)
  subst ho
  have hcs := rm_a2 hcs hge
  have hf := xm_s hf
  obtain ⟨q7, hr9, hf⟩ := bo_s hf
  refine c_dr hr9 ?_
  obtain ⟨hkr, hf⟩ := gu_s hf
  obtain ⟨r8, A9, h1, hge, hup, hf⟩ := bda_s hf
  refine c_kFi hS (va_runF (E.2.2.2.1.1 17 _ ci_18.1).2 ⟨E.1, hb, hml, E.2.1, E.2.2.1⟩ (zJ2_add h1) (va_cwF 1 E.2.2.1 gw_X2_202 rfl rfl rfl (cFw E 2 rfl) gx_add ⟨by dsimp only; omega, by dsimp only; omega⟩) (c_preV E hS ci_18 hkr (hS.1.lt hkr rfl) _) rfl rfl hl.1 rfl (lv_room (Nat.le_of_ble_eq_true rfl)) dX2_both_17 (rm_a hcs hge hup)) hup (fun H locs hS hn => ?_)
  have hcs := rm_a2 hcs hge
  refine lv_pop E.1 hb dX2_both_22 rfl ?_
  exact hL23 N A9 (aN A0) hf _ _ _ _ hcs hS _ (lv_sub hl [1, 0] rfl)
theorem gw_X2_301 : GoodIn lw_all (wsV RX2 301 RX2 yX2_both (ws_ yX2_both cX2_both 2 (some (.object "MarginFolk$Test")))) := lw_V q1178 q1180 qs31 q157 q1181
theorem gnX2_both : yX2_both.cls ≠ "java/lang/invoke/MethodHandle" ∧ yX2_both.cls ≠ "java/lang/invoke/VarHandle" ∧ (parseMethodDescriptor yX2_both.desc).map (fun d => d.parameters.length) = some 0 := by decide +kernel
/-! MarginFolk$Reader.test()LMarginFolk$Test;: RW -/
noncomputable def X2_test_b23 (N : Nat) (rf : AH → Option (Option (Option Nat) × AH)) (k23 : AH → Nat → Option (Option (Option Nat) × AH)) (A : AH) (x1 : Nat) : Option (Option (Option Nat) × AH) :=
  bxa A (X2_passes N A (CB + 22)) fun r10 A11 => if r10 = 0 then (some (some (some x1), A11)) else (bo (gN 13 A11 1300 x1) fun q13 => bxa A11 (X2_both N rf A11) fun r14 A15 => bo r14 fun q17 => if aK A15 q13 = 18 then ( bda A15 (J2_add A15 q13 q17) fun r18 A19 => k23 A19 x1) else none)
noncomputable def X2_test (N : Nat) (rf : AH → Option (Option (Option Nat) × AH)) (A0 : AH) : Option (Option (Option Nat) × AH) :=
  ck A0 (bo (nwO A0 13 2) fun A1 => ck A1 ( bda A1 (X15_init A1 (aN A0) 0) fun _ A2 => bo (gN 13 A2 1300 (aN A0)) fun q3 => bxa A2 (X2_both N rf A2) fun r4 A5 => bo r4 fun q7 => if aK A5 q3 = 18 then ( bda A5 (J2_add A5 q3 q7) fun r8 A9 => rn2 (X2_test_b23 N rf) N A9 (aN A0)) else none))
set_option maxHeartbeats 4000000 in
theorem zX2_test {l : Launch} {dC : Nat → ClassId} {dI : Nat → Nat → Nat} {ac : Nat → ClassId} {ad : Nat → Nat} {N : Nat} {rf : AH → Option (Option (Option Nat) × AH)} {fa la : Nat} (ha : RcA l dC dI ac ad yX2_fact cX2_fact 3 (.object "MarginFolk$Test") fa la rf) {A0 : AH} {o : Option (Option Nat)} {A' : AH} (hf : X2_test N rf A0 = some (o, A')) : vx_Met l yX2_test (ws_ yX2_test cX2_test 2 (some (.object "MarginFolk$Test"))) { frames := fa + 11, cells := aN A' - aN A0, slots := aS A' - aS A0, locals := la + 234 } (va_Pc [.ref (ad 9)] (cPre dC dI ac ad True A0)) (cQxq dC dI ac ad True (aN A0) (aS A0) (aN A') (aS A') o A') (cXC dC dI ac ad True (aN A0) (aS A0) (aN A') (aS A') o A') (aN A' - aN A0) (aS A' - aS A0) (cF ad) := by
  unfold X2_test at hf
  obtain ⟨hck0, hf⟩ := ck_s hf
  refine c_ofx hck0 RX2 (by decide) rfl (Nat.le_of_ble_eq_true rfl) ?_
  intro p e s m args below meth c E hb hr hlk hnm hml hnx hS ls hl
  have hl : lv_has ls 2 [(0, .ref (ad 9))] := hl
  have hcs : aN A0 + 0 ≤ aN A0 ∧ aS A0 + 0 ≤ aS A0 := ⟨Nat.le_refl _, Nat.le_refl _⟩
  have hL23 : ∀ (n : Nat) (A : AH) (x1 : Nat), rn2 (X2_test_b23 N rf) n A x1 = some (o, A') → ∀ (H : Heap) (locs : List Loc) (cells slots : Nat), aN A0 + cells ≤ aN A ∧ aS A0 + slots ≤ aS A →  cS dC dI ac ad True s.heap (aN A0) (aS A0) (aN A') (aS A') A H locs → ∀ (ls : Array Slot), lv_has ls 2 [(0, .ref (ad 9)), (1, .ref (ad x1))] → W p l e { frames := fa + 11, cells := aN A' - aN A0, slots := aS A' - aS A0, locals := la + 234 } s m args below meth c H locs cells slots (vx_MQ below (cQxq dC dI ac ad True (aN A0) (aS A0) (aN A') (aS A') o A') (cXC dC dI ac ad True (aN A0) (aS A0) (aN A') (aS A') o A') args s (aN A' - aN A0) (aS A' - aS A0) (cF ad)) (F0 m 23 ls []) := by
    intro  n
    induction n with
    | zero =>
      intro A x1 hf
      cases hf
    | succ n ih =>
      intro A x1 hf H locs cells slots hcs hS ls hl
      have hf : X2_test_b23 N rf (rn2 (X2_test_b23 N rf) n) A x1 = some (o, A') := hf
      have hk23 := ih
      generalize rn2 (X2_test_b23 N rf) n = k23 at hf hk23
      unfold X2_test_b23 at hf
      refine lv_aload_n E.1 hb dX2_test_23 rfl (lv_at hl 0 rfl) ?_
      refine c_ldcw E hb 15 rfl dX2_test_24 ?_
      obtain ⟨o12, A11, h1, hge, hup, hf⟩ := bxa_s hf
      refine x_ki hS (vx_runV ⟨E.1, hb, hml, E.2.1, E.2.2.1⟩ (zX2_passes h1) (cwV 1 E.2.2.1 gw_X2_306 rfl rfl rfl ⟨rfl, gnX2_passes⟩ ⟨by dsimp only; omega, by dsimp only; omega⟩) (c_preV E hS ci_3 (sK hS (by decide) rfl) (hS.1.lt (sK hS (by decide) rfl) rfl) _) rfl rfl hl.1 rfl (lv_room (Nat.le_of_ble_eq_true rfl)) dX2_test_27 (rm_a hcs hge hup)) hup (fun ho H locs hS hn => ?_) (fun r10 ho H locs hS hn => ?_)
      · subst ho
        have hcs := rm_a2 hcs hge
        exact x_out E hnx hlk hS (rm_e ⟨Nat.le_trans hcs.1 hS.2.2.2.2.1, Nat.le_trans hcs.2 hS.2.2.2.2.2⟩) (xm_n hf)
      subst ho
      have hcs := rm_a2 hcs hge
      have hf := xm_s hf
      refine lv_if_eq (tgt := 50) E.1 hb dX2_test_30 (by decide) (fun hc => ?_) (fun hc => ?_)
      · have hf := it_s hc hf
        refine lv_aload_n E.1 hb dX2_test_50 rfl (lv_at hl 1 rfl) ?_
        exact x_ar E hb hr (Or.inl ⟨_, rfl⟩) hlk hS (rm_e ⟨Nat.le_trans hcs.1 hS.2.2.2.2.1, Nat.le_trans hcs.2 hS.2.2.2.2.2⟩) (v := (some x1)) hf dX2_test_51
      · have hf := if_s hc hf
        refine lv_aload_n E.1 hb dX2_test_33 rfl (lv_at hl 1 rfl) ?_
        obtain ⟨q13, hk, hf⟩ := gN_s hf
        refine c_gN (k := 0) (f := 1300) E hb hS ci_13 hk.1 rfl rfl rfl hk.2 fk_X2_298_X15 (fun _ h => h) dX2_test_34 ?_
        refine lv_aload_n E.1 hb dX2_test_37 rfl (lv_at hl 0 rfl) ?_
        obtain ⟨o16, A15, h1, hge, hup, hf⟩ := bxa_s hf
        refine x_kq hS (vx_runV ⟨E.1, hb, hml, E.2.1, E.2.2.1⟩ (zX2_both ha h1) (cwV 0 E.2.2.1 gw_X2_301 rfl rfl rfl ⟨rfl, gnX2_both⟩ ⟨by dsimp only; omega, by dsimp only; omega⟩) (c_preV E hS ci_3 (sK hS (by decide) rfl) (hS.1.lt (sK hS (by decide) rfl) rfl) _) rfl rfl hl.1 rfl (lv_room (Nat.le_of_ble_eq_true rfl)) dX2_test_38 (rm_a hcs hge hup)) hup (fun ho H locs hS hn => ?_) (fun r14 ho H locs hS hn => ?_)
        · subst ho
          have hcs := rm_a2 hcs hge
          exact x_out E hnx hlk hS (rm_e ⟨Nat.le_trans hcs.1 hS.2.2.2.2.1, Nat.le_trans hcs.2 hS.2.2.2.2.2⟩) (xm_n hf)
        subst ho
        have hcs := rm_a2 hcs hge
        have hf := xm_s hf
        obtain ⟨q17, hr9, hf⟩ := bo_s hf
        refine c_dr hr9 ?_
        obtain ⟨hkr, hf⟩ := gu_s hf
        obtain ⟨r18, A19, h1, hge, hup, hf⟩ := bda_s hf
        refine c_kFi hS (va_runF (E.2.2.2.1.1 17 _ ci_18.1).2 ⟨E.1, hb, hml, E.2.1, E.2.2.1⟩ (zJ2_add h1) (va_cwF 1 E.2.2.1 gw_X2_202 rfl rfl rfl (cFw E 2 rfl) gx_add ⟨by dsimp only; omega, by dsimp only; omega⟩) (c_preV E hS ci_18 hkr (hS.1.lt hkr rfl) _) rfl rfl hl.1 rfl (lv_room (Nat.le_of_ble_eq_true rfl)) dX2_test_41 (rm_a hcs hge hup)) hup (fun H locs hS hn => ?_)
        have hcs := rm_a2 hcs hge
        refine lv_pop E.1 hb dX2_test_46 rfl ?_
        refine lv_goto (tgt := 23) E.1 hb dX2_test_47 (by decide) ?_
        exact hk23 A19 x1 hf _ _ _ _ hcs hS _ (lv_sub hl [0, 1] rfl)
  obtain ⟨A1, hn9, hw, hf⟩ := nwO_s hf
  obtain ⟨hck, hf⟩ := ck_s hf
  refine c_new E hb hS hcs ci_13 dv_13 q1159 q1160 q184 hn9 hw hck (rm_up _ _ _ _) dX2_test_0 (fun H cells slots hS hcs => ?_)
  refine lv_dup E.1 hb dX2_test_3 rfl ?_
  refine lv_iconst (v := 0) E.1 hb dX2_test_4 rfl ?_
  obtain ⟨_, A2, h1, hge, hup, hf⟩ := bda_s hf
  refine c_kv hS (va_runI ⟨E.1, hb, hml, E.2.1, E.2.2.1⟩ (zX15_init h1) (cwI 1 E.2.2.1 (lw_meth q1163) rfl rfl rfl (E.2.2.1 _ q184) (E.2.2.1 _ q1161) (E.2.2.1 _ q1162) rfl gnX15_init ⟨by dsimp only; omega, by dsimp only; omega⟩) (c_preS E hS _) rfl rfl hl.1 rfl (lv_room (Nat.le_of_ble_eq_true rfl)) dX2_test_5 (rm_a hcs hge hup)) hup (fun H locs hS hn => ?_)
  have hcs := rm_a2 hcs hge
  refine lv_astore_n (lv' := [(1, .ref (ad (aN A0))), (0, .ref (ad 9))]) E.1 hb dX2_test_8 rfl hl (by decide) rfl (fun ls hl => ?_)
  refine lv_aload_n E.1 hb dX2_test_9 rfl (lv_at hl 0 rfl) ?_
  obtain ⟨q3, hk, hf⟩ := gN_s hf
  refine c_gN (k := 0) (f := 1300) E hb hS ci_13 hk.1 rfl rfl rfl hk.2 fk_X2_298_X15 (fun _ h => h) dX2_test_10 ?_
  refine lv_aload_n E.1 hb dX2_test_13 rfl (lv_at hl 1 rfl) ?_
  obtain ⟨o6, A5, h1, hge, hup, hf⟩ := bxa_s hf
  refine x_kq hS (vx_runV ⟨E.1, hb, hml, E.2.1, E.2.2.1⟩ (zX2_both ha h1) (cwV 0 E.2.2.1 gw_X2_301 rfl rfl rfl ⟨rfl, gnX2_both⟩ ⟨by dsimp only; omega, by dsimp only; omega⟩) (c_preV E hS ci_3 (sK hS (by decide) rfl) (hS.1.lt (sK hS (by decide) rfl) rfl) _) rfl rfl hl.1 rfl (lv_room (Nat.le_of_ble_eq_true rfl)) dX2_test_14 (rm_a hcs hge hup)) hup (fun ho H locs hS hn => ?_) (fun r4 ho H locs hS hn => ?_)
  · subst ho
    have hcs := rm_a2 hcs hge
    exact x_out E hnx hlk hS (rm_e ⟨Nat.le_trans hcs.1 hS.2.2.2.2.1, Nat.le_trans hcs.2 hS.2.2.2.2.2⟩) (xm_n hf)
  subst ho
  have hcs := rm_a2 hcs hge
  have hf := xm_s hf
  obtain ⟨q7, hr9, hf⟩ := bo_s hf
  refine c_dr hr9 ?_
  obtain ⟨hkr, hf⟩ := gu_s hf
  obtain ⟨r8, A9, h1, hge, hup, hf⟩ := bda_s hf
  refine c_kFi hS (va_runF (E.2.2.2.1.1 17 _ ci_18.1).2 ⟨E.1, hb, hml, E.2.1, E.2.2.1⟩ (zJ2_add h1) (va_cwF 1 E.2.2.1 gw_X2_202 rfl rfl rfl (cFw E 2 rfl) gx_add ⟨by dsimp only; omega, by dsimp only; omega⟩) (c_preV E hS ci_18 hkr (hS.1.lt hkr rfl) _) rfl rfl hl.1 rfl (lv_room (Nat.le_of_ble_eq_true rfl)) dX2_test_17 (rm_a hcs hge hup)) hup (fun H locs hS hn => ?_)
  have hcs := rm_a2 hcs hge
  refine lv_pop E.1 hb dX2_test_22 rfl ?_
  exact hL23 N A9 (aN A0) hf _ _ _ _ hcs hS _ (lv_sub hl [1, 0] rfl)
theorem fk_X16_7_X16 : FLk RX16 7 "MarginFolk$Not" (TX16 0).2.1 (TX16 0).2.2.1 := Or.inl q1197
/-! MarginFolk$Not.<init>(LMarginFolk$Test;)V: RW -/
noncomputable def X16_init (A0 : AH) (x0 : Nat) (x1 : Nat) : Option (Unit × AH) :=
  bd (X14_init A0 x0) fun _ A1 => bo (pR 14 A1 1400 x0 (some x1)) fun A2 => some ((), A2)
abbrev rX16_init : Room := { frames := 2, cells := 0, slots := 0, locals := 40 }
set_option maxHeartbeats 4000000 in
theorem zX16_init {l : Launch} {dC : Nat → ClassId} {dI : Nat → Nat → Nat} {ac : Nat → ClassId} {ad : Nat → Nat} {b : Prop} {A0 : AH} {x0 : Nat} {x1 : Nat} {A' : AH} (hf : X16_init A0 x0 x1 = some ((), A')) : Met l yX16_init (ws_ yX16_init cX16_init 2 none) { frames := 2, cells := 0, slots := 0, locals := 40 } (va_Pc [.ref (ad x0), .ref (ad x1)] (cPre dC dI ac ad b A0)) (cQv dC dI ac ad b (aN A0) (aS A0) (aN A0) (aS A0) A') 0 0 (cF ad) := by
  unfold X16_init at hf
  refine c_of ⟨Nat.le_refl _, Nat.le_refl _⟩ RX16 (plainFor_of_name (by decide)) rfl (Nat.le_of_ble_eq_true rfl) ?_
  intro p e s m args below meth c E hb hr hlk hnm hml hS ls hl
  have hl : lv_has ls 2 [(0, .ref (ad x0)), (1, .ref (ad x1))] := hl
  refine lv_aload_n E.1 hb dX16_init_0 rfl (lv_at hl 0 rfl) ?_
  obtain ⟨_, A1, h1, hf⟩ := bd_s hf
  refine c_kv hS (va_runIN ⟨E.1, hb, hml, E.2.1, E.2.2.1⟩ (zX14_init h1) ⟨va_cnB 0 E.2.2.1 (lw_meth q1166) rfl rfl rfl (E.2.2.2.2.1 _ q1196 rfl) (E.2.2.1 _ q183) gnX14_init ⟨Nat.le_of_ble_eq_true rfl, Nat.le_of_ble_eq_true rfl⟩, rfl, E.2.2.1 _ q1165⟩ (c_preS E hS _) rfl rfl hl.1 rfl (lv_room (Nat.le_of_ble_eq_true rfl)) dX16_init_1 ⟨Nat.le_refl 0, Nat.le_refl 0⟩) hS.2.2.2.2 (fun H locs hS hn => ?_)
  refine lv_aload_n E.1 hb dX16_init_4 rfl (lv_at hl 0 rfl) ?_
  refine lv_aload_n E.1 hb dX16_init_5 rfl (lv_at hl 1 rfl) ?_
  obtain ⟨A2, hk, hw, hf⟩ := pR_s hf
  refine c_pR (k := 0) (f := 1400) (r := (some x1)) E hb hS ci_14 hk (hS.1.lt hk rfl) rfl rfl (fun _ => rfl) (Or.inr ⟨hnm, rfl, rfl, q1197⟩) fk_X16_7_X16 (fun _ h => h) (fun q => by cases q <;> exact ⟨rfl, rfl⟩) hw dX16_init_6 (fun H locs hS => ?_)
  exact c_vr E hb hr hlk hS ⟨Nat.le_refl 0, Nat.le_refl 0⟩ hf dX16_init_9
/-! MarginFolk$All.<init>()V: RW -/
noncomputable def X17_init (A0 : AH) (x0 : Nat) : Option (Unit × AH) :=
  bd (X14_init A0 x0) fun _ A1 => some ((), A1)
abbrev rX17_init : Room := { frames := 2, cells := 0, slots := 0, locals := 40 }
set_option maxHeartbeats 4000000 in
theorem zX17_init {l : Launch} {dC : Nat → ClassId} {dI : Nat → Nat → Nat} {ac : Nat → ClassId} {ad : Nat → Nat} {b : Prop} {A0 : AH} {x0 : Nat} {A' : AH} (hf : X17_init A0 x0 = some ((), A')) : Met l yX17_init (ws_ yX17_init cX17_init 1 none) { frames := 2, cells := 0, slots := 0, locals := 40 } (va_Pc [.ref (ad x0)] (cPre dC dI ac ad b A0)) (cQv dC dI ac ad b (aN A0) (aS A0) (aN A0) (aS A0) A') 0 0 (cF ad) := by
  unfold X17_init at hf
  refine c_of ⟨Nat.le_refl _, Nat.le_refl _⟩ RX17 (plainFor_of_name (by decide)) rfl (Nat.le_of_ble_eq_true rfl) ?_
  intro p e s m args below meth c E hb hr hlk hnm hml hS ls hl
  have hl : lv_has ls 1 [(0, .ref (ad x0))] := hl
  refine lv_aload_n E.1 hb dX17_init_0 rfl (lv_at hl 0 rfl) ?_
  obtain ⟨_, A1, h1, hf⟩ := bd_s hf
  refine c_kv hS (va_runIN ⟨E.1, hb, hml, E.2.1, E.2.2.1⟩ (zX14_init h1) ⟨va_cnB 0 E.2.2.1 (lw_meth q1166) rfl rfl rfl (E.2.2.2.2.1 _ q1207 rfl) (E.2.2.1 _ q183) gnX14_init ⟨Nat.le_of_ble_eq_true rfl, Nat.le_of_ble_eq_true rfl⟩, rfl, E.2.2.1 _ q1165⟩ (c_preS E hS _) rfl rfl hl.1 rfl (lv_room (Nat.le_of_ble_eq_true rfl)) dX17_init_1 ⟨Nat.le_refl 0, Nat.le_refl 0⟩) hS.2.2.2.2 (fun H locs hS hn => ?_)
  exact c_vr E hb hr hlk hS ⟨Nat.le_refl 0, Nat.le_refl 0⟩ hf dX17_init_4
theorem fk_X18_7_X18 : FLk RX18 7 "MarginFolk$Than" (TX18 0).2.1 (TX18 0).2.2.1 := Or.inl q1215
theorem fk_X18_13_X18 : FLk RX18 13 "MarginFolk$Than" (TX18 2).2.1 (TX18 2).2.2.1 := Or.inl q1217
theorem fk_X18_17_X18 : FLk RX18 17 "MarginFolk$Than" (TX18 1).2.1 (TX18 1).2.2.1 := Or.inl q1216
/-! MarginFolk$Than.<init>(LMarginFolk$Value;ILMarginFolk$Value;)V: RW -/
noncomputable def X18_init (A0 : AH) (x0 : Nat) (x1 : Nat) (x2 : Int32) (x3 : Nat) : Option (Unit × AH) :=
  bd (X14_init A0 x0) fun _ A1 => bo (pR 16 A1 1600 x0 (some x1)) fun A2 => bo (pI 16 A2 1602 x0 x2) fun A3 => bo (pR 16 A3 1601 x0 (some x3)) fun A4 => some ((), A4)
abbrev rX18_init : Room := { frames := 2, cells := 0, slots := 0, locals := 40 }
set_option maxHeartbeats 4000000 in
theorem zX18_init {l : Launch} {dC : Nat → ClassId} {dI : Nat → Nat → Nat} {ac : Nat → ClassId} {ad : Nat → Nat} {b : Prop} {A0 : AH} {x0 : Nat} {x1 : Nat} {x2 : Int32} {x3 : Nat} {A' : AH} (hf : X18_init A0 x0 x1 x2 x3 = some ((), A')) : Met l yX18_init (ws_ yX18_init cX18_init 4 none) { frames := 2, cells := 0, slots := 0, locals := 40 } (va_Pc [.ref (ad x0), .ref (ad x1), .int x2, .ref (ad x3)] (cPre dC dI ac ad b A0)) (cQv dC dI ac ad b (aN A0) (aS A0) (aN A0) (aS A0) A') 0 0 (cF ad) := by
  unfold X18_init at hf
  refine c_of ⟨Nat.le_refl _, Nat.le_refl _⟩ RX18 (plainFor_of_name (by decide)) rfl (Nat.le_of_ble_eq_true rfl) ?_
  intro p e s m args below meth c E hb hr hlk hnm hml hS ls hl
  have hl : lv_has ls 4 [(0, .ref (ad x0)), (1, .ref (ad x1)), (2, .int x2), (3, .ref (ad x3))] := hl
  refine lv_aload_n E.1 hb dX18_init_0 rfl (lv_at hl 0 rfl) ?_
  obtain ⟨_, A1, h1, hf⟩ := bd_s hf
  refine c_kv hS (va_runIN ⟨E.1, hb, hml, E.2.1, E.2.2.1⟩ (zX14_init h1) ⟨va_cnB 0 E.2.2.1 (lw_meth q1166) rfl rfl rfl (E.2.2.2.2.1 _ q1214 rfl) (E.2.2.1 _ q183) gnX14_init ⟨Nat.le_of_ble_eq_true rfl, Nat.le_of_ble_eq_true rfl⟩, rfl, E.2.2.1 _ q1165⟩ (c_preS E hS _) rfl rfl hl.1 rfl (lv_room (Nat.le_of_ble_eq_true rfl)) dX18_init_1 ⟨Nat.le_refl 0, Nat.le_refl 0⟩) hS.2.2.2.2 (fun H locs hS hn => ?_)
  refine lv_aload_n E.1 hb dX18_init_4 rfl (lv_at hl 0 rfl) ?_
  refine lv_aload_n E.1 hb dX18_init_5 rfl (lv_at hl 1 rfl) ?_
  obtain ⟨A2, hk, hw, hf⟩ := pR_s hf
  refine c_pR (k := 0) (f := 1600) (r := (some x1)) E hb hS ci_16 hk (hS.1.lt hk rfl) rfl rfl (fun _ => rfl) (Or.inr ⟨hnm, rfl, rfl, q1215⟩) fk_X18_7_X18 (fun _ h => h) (fun q => by cases q <;> exact ⟨rfl, rfl⟩) hw dX18_init_6 (fun H locs hS => ?_)
  refine lv_aload_n E.1 hb dX18_init_9 rfl (lv_at hl 0 rfl) ?_
  refine lv_iload_n E.1 hb dX18_init_10 rfl (lv_at hl 2 rfl) ?_
  obtain ⟨A3, hk, hw, hf⟩ := pI_s hf
  refine c_pI (k := 2) (f := 1602) E hb hS ci_16 hk (hS.1.lt hk rfl) rfl rfl (Or.inr ⟨hnm, rfl, rfl, q1217⟩) fk_X18_13_X18 (fun _ h => h) rfl rfl hw dX18_init_11 (fun H locs hS => ?_)
  refine lv_aload_n E.1 hb dX18_init_14 rfl (lv_at hl 0 rfl) ?_
  refine lv_aload_n E.1 hb dX18_init_15 rfl (lv_at hl 3 rfl) ?_
  obtain ⟨A4, hk, hw, hf⟩ := pR_s hf
  refine c_pR (k := 1) (f := 1601) (r := (some x3)) E hb hS ci_16 hk (hS.1.lt hk rfl) rfl rfl (fun _ => rfl) (Or.inr ⟨hnm, rfl, rfl, q1216⟩) fk_X18_17_X18 (fun _ h => h) (fun q => by cases q <;> exact ⟨rfl, rfl⟩) hw dX18_init_16 (fun H locs hS => ?_)
  exact c_vr E hb hr hlk hS ⟨Nat.le_refl 0, Nat.le_refl 0⟩ hf dX18_init_19
theorem gnX18_init : yX18_init.cls ≠ "java/lang/invoke/MethodHandle" ∧ yX18_init.cls ≠ "java/lang/invoke/VarHandle" ∧ (parseMethodDescriptor yX18_init.desc).map (fun d => d.parameters.length) = some 3 := by decide +kernel
theorem gnX17_init : yX17_init.cls ≠ "java/lang/invoke/MethodHandle" ∧ yX17_init.cls ≠ "java/lang/invoke/VarHandle" ∧ (parseMethodDescriptor yX17_init.desc).map (fun d => d.parameters.length) = some 0 := by decide +kernel
theorem gnX16_init : yX16_init.cls ≠ "java/lang/invoke/MethodHandle" ∧ yX16_init.cls ≠ "java/lang/invoke/VarHandle" ∧ (parseMethodDescriptor yX16_init.desc).map (fun d => d.parameters.length) = some 1 := by decide +kernel
theorem gw_X2_236 : GoodIn lw_all (wsV RX2 236 RX2 yX2_test (ws_ yX2_test cX2_test 2 (some (.object "MarginFolk$Test")))) := lw_V q1155 q1157 qs30 q157 q1158
theorem gnX2_test : yX2_test.cls ≠ "java/lang/invoke/MethodHandle" ∧ yX2_test.cls ≠ "java/lang/invoke/VarHandle" ∧ (parseMethodDescriptor yX2_test.desc).map (fun d => d.parameters.length) = some 0 := by decide +kernel
/-! MarginFolk$Reader.fact()LMarginFolk$Test;: RW -/
noncomputable def X2_fact_b148 (N : Nat) (rf : AH → Option (Option (Option Nat) × AH)) (A : AH) (x1 : Nat) (x2 : Int32) : Option (Option (Option Nat) × AH) :=
  lt2 (wI A 302 9 0 ((aI A 302 9 0) + 1)) fun A15 => bo (nwO A15 16 3) fun A16 => ck A16 ( bxa A16 (X2_sum N (atomF N) A16) fun r17 A18 => bo r17 fun q20 => bd (X18_init A18 (aN A15) x1 x2 q20) fun _ A21 => some (some (some (aN A15)), A21))
noncomputable def X2_fact (N : Nat) (rf : AH → Option (Option (Option Nat) × AH)) (A0 : AH) : Option (Option (Option Nat) × AH) :=
  ck A0 (bd (X2_here N A0) fun r1 A2 => if r1 = 91 then (bx (X2_opens A2 (aI A2 302 9 0)) fun _ A36 => lt2 (wI A36 302 9 0 ((aI A36 302 9 0) + 1)) fun A38 => bxa A38 (X2_test N rf A38) fun r39 A40 => bo r39 fun q42 => bx (X2_must N A40 93) fun _ A43 => lt2 (wI A43 304 9 0 ((aI A43 304 9 0) - 1)) fun A45 => some (some (some q42), A45)) else (bxa A2 (X2_passes N A2 (CB + 24)) fun r3 A4 => if r3 = 0 then (bxa A4 (X2_passes N A4 (CB + 25)) fun r6 A7 => if r6 = 0 then (bxa A7 (X2_sum N (atomF N) A7) fun r9 A10 => bo r9 fun q12 => bd (X2_here N A10) fun r13 A14 => if r13 = 60 then (X2_fact_b148 N rf A14 q12 r13) else (if r13 = 62 then (X2_fact_b148 N rf A14 q12 r13) else (if r13 = 61 then (X2_fact_b148 N rf A14 q12 r13) else (bd (X2_wrong A14 1 (aI A14 302 9 0)) fun r22 A23 => bo r22 fun q24 => if q24 = 10 then some (none, A23) else none)))) else (bo (nwO A7 15 0) fun A25 => ck A25 ( bd (X17_init A25 (aN A7)) fun _ A26 => some (some (some (aN A7)), A26)))) else (bx (X2_opens A4 (aI A4 303 9 0)) fun _ A27 => bo (nwO A27 14 1) fun A29 => ck A29 ( bxa A29 (rf A29) fun r30 A31 => bo r30 fun q33 => bd (X16_init A31 (aN A27) q33) fun _ A34 => lt2 (wI A34 304 9 0 ((aI A34 304 9 0) - 1)) fun A35 => some (some (some (aN A27)), A35)))))
set_option maxHeartbeats 4000000 in
theorem zX2_fact {l : Launch} {dC : Nat → ClassId} {dI : Nat → Nat → Nat} {ac : Nat → ClassId} {ad : Nat → Nat} {N : Nat} {rf : AH → Option (Option (Option Nat) × AH)} {fa la : Nat} (ha : RcA l dC dI ac ad yX2_fact cX2_fact 3 (.object "MarginFolk$Test") fa la rf) {A0 : AH} {o : Option (Option Nat)} {A' : AH} (hf : X2_fact N rf A0 = some (o, A')) : vx_Met l yX2_fact (ws_ yX2_fact cX2_fact 3 (some (.object "MarginFolk$Test"))) { frames := fa + 125, cells := aN A' - aN A0, slots := aS A' - aS A0, locals := la + 2713 } (va_Pc [.ref (ad 9)] (cPre dC dI ac ad True A0)) (cQxq dC dI ac ad True (aN A0) (aS A0) (aN A') (aS A') o A') (cXC dC dI ac ad True (aN A0) (aS A0) (aN A') (aS A') o A') (aN A' - aN A0) (aS A' - aS A0) (cF ad) := by
  unfold X2_fact at hf
  obtain ⟨hck0, hf⟩ := ck_s hf
  refine c_ofx hck0 RX2 (by decide) rfl (Nat.le_of_ble_eq_true rfl) ?_
  intro p e s m args below meth c E hb hr hlk hnm hml hnx hS ls hl
  have hl : lv_has ls 3 [(0, .ref (ad 9))] := hl
  have hcs : aN A0 + 0 ≤ aN A0 ∧ aS A0 + 0 ≤ aS A0 := ⟨Nat.le_refl _, Nat.le_refl _⟩
  have hB148 : ∀ (A : AH) (x1 : Nat) (x2 : Int32), X2_fact_b148 N rf A x1 x2 = some (o, A') → ∀ (H : Heap) (locs : List Loc) (cells slots : Nat), aN A0 + cells ≤ aN A ∧ aS A0 + slots ≤ aS A →  cS dC dI ac ad True s.heap (aN A0) (aS A0) (aN A') (aS A') A H locs → ∀ (ls : Array Slot), lv_has ls 3 [(0, .ref (ad 9)), (1, .ref (ad x1)), (2, .int x2)] → W p l e { frames := fa + 125, cells := aN A' - aN A0, slots := aS A' - aS A0, locals := la + 2713 } s m args below meth c H locs cells slots (vx_MQ below (cQxq dC dI ac ad True (aN A0) (aS A0) (aN A') (aS A') o A') (cXC dC dI ac ad True (aN A0) (aS A0) (aN A') (aS A') o A') args s (aN A' - aN A0) (aS A' - aS A0) (cF ad)) (F0 m 148 ls []) := by
    intro A x1 x2 hf H locs cells slots hcs hS ls hl
    unfold X2_fact_b148 at hf
    refine lv_aload_n E.1 hb dX2_fact_148 rfl (lv_at hl 0 rfl) ?_
    refine lv_dup E.1 hb dX2_fact_149 rfl ?_
    refine c_gI (k := 2) (f := 302) E hb hS ci_3 (sK hS (by decide) rfl) rfl rfl rfl fk_X2_36_X2 (fun _ h => h) dX2_fact_150 ?_
    refine lv_iconst (v := 1) E.1 hb dX2_fact_153 rfl ?_
    refine lv_iadd E.1 hb dX2_fact_154 ?_
    obtain ⟨A15, hw, hf⟩ := lt2_s hf
    refine c_pI (k := 2) (f := 302) E hb hS ci_3 (sK hS (by decide) rfl) (hS.1.lt (sK hS (by decide) rfl) rfl) rfl rfl (Or.inl rfl) fk_X2_36_X2 (fun _ h => h) rfl rfl hw dX2_fact_155 (fun H locs hS => ?_)
    have hcs := rm_w (A2 := A15) hcs (by rw [hw]; exact ⟨rfl, rfl⟩)
    obtain ⟨A16, hn9, hw, hf⟩ := nwO_s hf
    obtain ⟨hck, hf⟩ := ck_s hf
    refine c_new E hb hS hcs ci_16 dv_16 q1209 q1210 q187 hn9 hw hck (rm_up _ _ _ _) dX2_fact_158 (fun H cells slots hS hcs => ?_)
    refine lv_dup E.1 hb dX2_fact_161 rfl ?_
    refine lv_aload_n E.1 hb dX2_fact_162 rfl (lv_at hl 1 rfl) ?_
    refine lv_iload_n E.1 hb dX2_fact_163 rfl (lv_at hl 2 rfl) ?_
    refine lv_aload_n E.1 hb dX2_fact_164 rfl (lv_at hl 0 rfl) ?_
    obtain ⟨o19, A18, h1, hge, hup, hf⟩ := bxa_s hf
    refine x_kq hS (vx_runV ⟨E.1, hb, hml, E.2.1, E.2.2.1⟩ (zX2_sum zatomF h1) (cwV 0 E.2.2.1 gw_X2_208 rfl rfl rfl ⟨rfl, gnX2_sum⟩ ⟨by dsimp only; omega, by dsimp only; omega⟩) (c_preV E hS ci_3 (sK hS (by decide) rfl) (hS.1.lt (sK hS (by decide) rfl) rfl) _) rfl rfl hl.1 rfl (lv_room (Nat.le_of_ble_eq_true rfl)) dX2_fact_165 (rm_a hcs hge hup)) hup (fun ho H locs hS hn => ?_) (fun r17 ho H locs hS hn => ?_)
    · subst ho
      have hcs := rm_a2 hcs hge
      exact x_out E hnx hlk hS (rm_e ⟨Nat.le_trans hcs.1 hS.2.2.2.2.1, Nat.le_trans hcs.2 hS.2.2.2.2.2⟩) (xm_n hf)
    subst ho
    have hcs := rm_a2 hcs hge
    have hf := xm_s hf
    obtain ⟨q20, hr9, hf⟩ := bo_s hf
    refine c_dr hr9 ?_
    obtain ⟨_, A21, h1, hf⟩ := bd_s hf
    refine c_kv hS (va_runI ⟨E.1, hb, hml, E.2.1, E.2.2.1⟩ (zX18_init h1) (cwI 3 E.2.2.1 (lw_meth q1213) rfl rfl rfl (E.2.2.1 _ q187) (E.2.2.1 _ q1211) (E.2.2.1 _ q1212) rfl gnX18_init ⟨by dsimp only; omega, by dsimp only; omega⟩) (c_preS E hS _) rfl rfl hl.1 rfl (lv_room (Nat.le_of_ble_eq_true rfl)) dX2_fact_168 (rm_n hcs hS.2.2.2.2)) hS.2.2.2.2 (fun H locs hS hn => ?_)
    have hcs := rm_n2 hcs hn
    exact x_ar E hb hr (Or.inl ⟨_, rfl⟩) hlk hS (rm_e ⟨Nat.le_trans hcs.1 hS.2.2.2.2.1, Nat.le_trans hcs.2 hS.2.2.2.2.2⟩) (v := (some (aN A15))) hf dX2_fact_171
  refine lv_aload_n E.1 hb dX2_fact_0 rfl (lv_at hl 0 rfl) ?_
  obtain ⟨r1, A2, h1, hf⟩ := bd_s hf
  refine c_ki hS (va_runV ⟨E.1, hb, hml, E.2.1, E.2.2.1⟩ (zX2_here h1) (cwV 0 E.2.2.1 gw_X2_43 rfl rfl rfl ⟨rfl, gnX2_here⟩ ⟨by dsimp only; omega, by dsimp only; omega⟩) (c_preV E hS ci_3 (sK hS (by decide) rfl) (hS.1.lt (sK hS (by decide) rfl) rfl) _) rfl rfl hl.1 rfl (lv_room (Nat.le_of_ble_eq_true rfl)) dX2_fact_1 (rm_n hcs hS.2.2.2.2)) hS.2.2.2.2 (fun H locs hS hn => ?_)
  have hcs := rm_n2 hcs hn
  refine lv_bipush (v := 91) E.1 hb dX2_fact_4 rfl ?_
  refine lv_icmp_ne (tgt := 50) E.1 hb dX2_fact_6 (by decide) (fun hc => ?_) (fun hc => ?_)
  · have hf := if_s hc hf
    refine lv_aload_n E.1 hb dX2_fact_50 rfl (lv_at hl 0 rfl) ?_
    refine c_ldcw E hb 17 rfl dX2_fact_51 ?_
    obtain ⟨o5, A4, h1, hge, hup, hf⟩ := bxa_s hf
    refine x_ki hS (vx_runV ⟨E.1, hb, hml, E.2.1, E.2.2.1⟩ (zX2_passes h1) (cwV 1 E.2.2.1 gw_X2_306 rfl rfl rfl ⟨rfl, gnX2_passes⟩ ⟨by dsimp only; omega, by dsimp only; omega⟩) (c_preV E hS ci_3 (sK hS (by decide) rfl) (hS.1.lt (sK hS (by decide) rfl) rfl) _) rfl rfl hl.1 rfl (lv_room (Nat.le_of_ble_eq_true rfl)) dX2_fact_54 (rm_a hcs hge hup)) hup (fun ho H locs hS hn => ?_) (fun r3 ho H locs hS hn => ?_)
    · subst ho
      have hcs := rm_a2 hcs hge
      exact x_out E hnx hlk hS (rm_e ⟨Nat.le_trans hcs.1 hS.2.2.2.2.1, Nat.le_trans hcs.2 hS.2.2.2.2.2⟩) (xm_n hf)
    subst ho
    have hcs := rm_a2 hcs hge
    have hf := xm_s hf
    refine lv_if_eq (tgt := 92) E.1 hb dX2_fact_57 (by decide) (fun hc => ?_) (fun hc => ?_)
    · have hf := it_s hc hf
      refine lv_aload_n E.1 hb dX2_fact_92 rfl (lv_at hl 0 rfl) ?_
      refine c_ldcw E hb 18 rfl dX2_fact_93 ?_
      obtain ⟨o8, A7, h1, hge, hup, hf⟩ := bxa_s hf
      refine x_ki hS (vx_runV ⟨E.1, hb, hml, E.2.1, E.2.2.1⟩ (zX2_passes h1) (cwV 1 E.2.2.1 gw_X2_306 rfl rfl rfl ⟨rfl, gnX2_passes⟩ ⟨by dsimp only; omega, by dsimp only; omega⟩) (c_preV E hS ci_3 (sK hS (by decide) rfl) (hS.1.lt (sK hS (by decide) rfl) rfl) _) rfl rfl hl.1 rfl (lv_room (Nat.le_of_ble_eq_true rfl)) dX2_fact_96 (rm_a hcs hge hup)) hup (fun ho H locs hS hn => ?_) (fun r6 ho H locs hS hn => ?_)
      · subst ho
        have hcs := rm_a2 hcs hge
        exact x_out E hnx hlk hS (rm_e ⟨Nat.le_trans hcs.1 hS.2.2.2.2.1, Nat.le_trans hcs.2 hS.2.2.2.2.2⟩) (xm_n hf)
      subst ho
      have hcs := rm_a2 hcs hge
      have hf := xm_s hf
      refine lv_if_eq (tgt := 110) E.1 hb dX2_fact_99 (by decide) (fun hc => ?_) (fun hc => ?_)
      · have hf := it_s hc hf
        refine lv_aload_n E.1 hb dX2_fact_110 rfl (lv_at hl 0 rfl) ?_
        obtain ⟨o11, A10, h1, hge, hup, hf⟩ := bxa_s hf
        refine x_kq hS (vx_runV ⟨E.1, hb, hml, E.2.1, E.2.2.1⟩ (zX2_sum zatomF h1) (cwV 0 E.2.2.1 gw_X2_208 rfl rfl rfl ⟨rfl, gnX2_sum⟩ ⟨by dsimp only; omega, by dsimp only; omega⟩) (c_preV E hS ci_3 (sK hS (by decide) rfl) (hS.1.lt (sK hS (by decide) rfl) rfl) _) rfl rfl hl.1 rfl (lv_room (Nat.le_of_ble_eq_true rfl)) dX2_fact_111 (rm_a hcs hge hup)) hup (fun ho H locs hS hn => ?_) (fun r9 ho H locs hS hn => ?_)
        · subst ho
          have hcs := rm_a2 hcs hge
          exact x_out E hnx hlk hS (rm_e ⟨Nat.le_trans hcs.1 hS.2.2.2.2.1, Nat.le_trans hcs.2 hS.2.2.2.2.2⟩) (xm_n hf)
        subst ho
        have hcs := rm_a2 hcs hge
        have hf := xm_s hf
        obtain ⟨q12, hr9, hf⟩ := bo_s hf
        refine c_dr hr9 ?_
        refine lv_astore_n (lv' := [(1, .ref (ad q12)), (0, .ref (ad 9))]) E.1 hb dX2_fact_114 rfl hl (by decide) rfl (fun ls hl => ?_)
        refine lv_aload_n E.1 hb dX2_fact_115 rfl (lv_at hl 1 rfl) ?_
        obtain ⟨r13, A14, h1, hf⟩ := bd_s hf
        refine c_ki hS (va_runV ⟨E.1, hb, hml, E.2.1, E.2.2.1⟩ (zX2_here h1) (cwV 0 E.2.2.1 gw_X2_43 rfl rfl rfl ⟨rfl, gnX2_here⟩ ⟨by dsimp only; omega, by dsimp only; omega⟩) (c_preV E hS ci_3 (sK hS (by decide) rfl) (hS.1.lt (sK hS (by decide) rfl) rfl) _) rfl rfl hl.1 rfl (lv_room (Nat.le_of_ble_eq_true rfl)) dX2_fact_116 (rm_n hcs hS.2.2.2.2)) hS.2.2.2.2 (fun H locs hS hn => ?_)
        have hcs := rm_n2 hcs hn
        refine lv_istore_n (lv' := [(2, .int r13), (1, .ref (ad q12)), (0, .ref (ad 9))]) E.1 hb dX2_fact_119 rfl hl (by decide) rfl (fun ls hl => ?_)
        refine lv_iload_n E.1 hb dX2_fact_120 rfl (lv_at hl 0 rfl) ?_
        refine lv_bipush (v := 60) E.1 hb dX2_fact_121 rfl ?_
        refine lv_icmp_eq (tgt := 148) E.1 hb dX2_fact_123 (by decide) (fun hc => ?_) (fun hc => ?_)
        · have hf := it_s hc hf
          exact hB148 A14 q12 r13 hf _ _ _ _ hcs hS _ (lv_sub hl [2, 1, 0] rfl)
        · have hf := if_s hc hf
          refine lv_iload_n E.1 hb dX2_fact_126 rfl (lv_at hl 0 rfl) ?_
          refine lv_bipush (v := 62) E.1 hb dX2_fact_127 rfl ?_
          refine lv_icmp_eq (tgt := 148) E.1 hb dX2_fact_129 (by decide) (fun hc => ?_) (fun hc => ?_)
          · have hf := it_s hc hf
            exact hB148 A14 q12 r13 hf _ _ _ _ hcs hS _ (lv_sub hl [2, 1, 0] rfl)
          · have hf := if_s hc hf
            refine lv_iload_n E.1 hb dX2_fact_132 rfl (lv_at hl 0 rfl) ?_
            refine lv_bipush (v := 61) E.1 hb dX2_fact_133 rfl ?_
            refine lv_icmp_eq (tgt := 148) E.1 hb dX2_fact_135 (by decide) (fun hc => ?_) (fun hc => ?_)
            · have hf := it_s hc hf
              exact hB148 A14 q12 r13 hf _ _ _ _ hcs hS _ (lv_sub hl [2, 1, 0] rfl)
            · have hf := if_s hc hf
              refine lv_aload_n E.1 hb dX2_fact_138 rfl (lv_at hl 2 rfl) ?_
              refine lv_iconst (v := 1) E.1 hb dX2_fact_139 rfl ?_
              refine lv_aload_n E.1 hb dX2_fact_140 rfl (lv_at hl 2 rfl) ?_
              refine c_gI (k := 2) (f := 302) E hb hS ci_3 (sK hS (by decide) rfl) rfl rfl rfl fk_X2_36_X2 (fun _ h => h) dX2_fact_141 ?_
              obtain ⟨r22, A23, h1, hf⟩ := bd_s hf
              refine c_kq hS (va_runV ⟨E.1, hb, hml, E.2.1, E.2.2.1⟩ (zX2_wrong h1) (cwV 2 E.2.2.1 gw_X2_47 rfl rfl rfl ⟨rfl, gnX2_wrong⟩ ⟨by dsimp only; omega, by dsimp only; omega⟩) (c_preV E hS ci_3 (sK hS (by decide) rfl) (hS.1.lt (sK hS (by decide) rfl) rfl) _) rfl rfl hl.1 rfl (lv_room (Nat.le_of_ble_eq_true rfl)) dX2_fact_144 (rm_n hcs hS.2.2.2.2)) hS.2.2.2.2 (fun H locs hS hn => ?_)
              have hcs := rm_n2 hcs hn
              obtain ⟨q24, hr9, hf⟩ := bo_s hf
              refine c_dr hr9 ?_
              obtain ⟨hg, hf9⟩ := gu_s hf
              subst hg
              exact x_thr E hb hnx hlk hS (rm_e ⟨Nat.le_trans hcs.1 hS.2.2.2.2.1, Nat.le_trans hcs.2 hS.2.2.2.2.2⟩) hf9 dX2_fact_147
      · have hf := if_s hc hf
        obtain ⟨A25, hn9, hw, hf⟩ := nwO_s hf
        obtain ⟨hck, hf⟩ := ck_s hf
        refine c_new E hb hS hcs ci_15 dv_15 q1202 q1203 q186 hn9 hw hck (rm_up _ _ _ _) dX2_fact_102 (fun H cells slots hS hcs => ?_)
        refine lv_dup E.1 hb dX2_fact_105 rfl ?_
        obtain ⟨_, A26, h1, hf⟩ := bd_s hf
        refine c_kv hS (va_runIN ⟨E.1, hb, hml, E.2.1, E.2.2.1⟩ (zX17_init h1) ⟨va_cnB 0 E.2.2.1 (lw_meth q1206) rfl rfl rfl (E.2.2.2.2.1 _ q1204 rfl) (E.2.2.1 _ q186) gnX17_init ⟨by dsimp only; omega, by dsimp only; omega⟩, rfl, E.2.2.1 _ q1205⟩ (c_preS E hS _) rfl rfl hl.1 rfl (lv_room (Nat.le_of_ble_eq_true rfl)) dX2_fact_106 (rm_n hcs hS.2.2.2.2)) hS.2.2.2.2 (fun H locs hS hn => ?_)
        have hcs := rm_n2 hcs hn
        exact x_ar E hb hr (Or.inl ⟨_, rfl⟩) hlk hS (rm_e ⟨Nat.le_trans hcs.1 hS.2.2.2.2.1, Nat.le_trans hcs.2 hS.2.2.2.2.2⟩) (v := (some (aN A7))) hf dX2_fact_109
    · have hf := if_s hc hf
      refine lv_aload_n E.1 hb dX2_fact_60 rfl (lv_at hl 0 rfl) ?_
      refine lv_aload_n E.1 hb dX2_fact_61 rfl (lv_at hl 0 rfl) ?_
      refine c_gI (k := 3) (f := 303) E hb hS ci_3 (sK hS (by decide) rfl) rfl rfl rfl fk_X2_61_X2 (fun _ h => h) dX2_fact_62 ?_
      obtain ⟨o28, A27, h1, hf⟩ := bx_s hf
      refine x_kv hS (vx_runV ⟨E.1, hb, hml, E.2.1, E.2.2.1⟩ (zX2_opens h1) (cwV 1 E.2.2.1 gw_X2_257 rfl rfl rfl ⟨rfl, gnX2_opens⟩ ⟨by dsimp only; omega, by dsimp only; omega⟩) (c_preV E hS ci_3 (sK hS (by decide) rfl) (hS.1.lt (sK hS (by decide) rfl) rfl) _) rfl rfl hl.1 rfl (lv_room (Nat.le_of_ble_eq_true rfl)) dX2_fact_65 (rm_n hcs hS.2.2.2.2)) hS.2.2.2.2 (fun ho H locs hS hn => ?_) (fun _ ho H locs hS hn => ?_)
      · subst ho
        have hcs := rm_n2 hcs hn
        exact x_out E hnx hlk hS (rm_e ⟨Nat.le_trans hcs.1 hS.2.2.2.2.1, Nat.le_trans hcs.2 hS.2.2.2.2.2⟩) (xm_n hf)
      subst ho
      have hcs := rm_n2 hcs hn
      have hf := xm_s hf
      obtain ⟨A29, hn9, hw, hf⟩ := nwO_s hf
      obtain ⟨hck, hf⟩ := ck_s hf
      refine c_new E hb hS hcs ci_14 dv_14 q1191 q1192 q185 hn9 hw hck (rm_up _ _ _ _) dX2_fact_68 (fun H cells slots hS hcs => ?_)
      refine lv_dup E.1 hb dX2_fact_71 rfl ?_
      refine lv_aload_n E.1 hb dX2_fact_72 rfl (lv_at hl 0 rfl) ?_
      obtain ⟨o32, A31, h1, hge, hup, hf⟩ := bxa_s hf
      refine x_kq hS (vx_runV ⟨E.1, hb, hml, E.2.1, E.2.2.1⟩ (ha _ _ _ h1) (cwV 0 E.2.2.1 gw_X2_310 rfl rfl rfl ⟨rfl, gnX2_fact⟩ ⟨by dsimp only; omega, by dsimp only; omega⟩) (c_preV E hS ci_3 (sK hS (by decide) rfl) (hS.1.lt (sK hS (by decide) rfl) rfl) _) rfl rfl hl.1 rfl (lv_room (Nat.le_of_ble_eq_true rfl)) dX2_fact_73 (rm_a hcs hge hup)) hup (fun ho H locs hS hn => ?_) (fun r30 ho H locs hS hn => ?_)
      · subst ho
        have hcs := rm_a2 hcs hge
        exact x_out E hnx hlk hS (rm_e ⟨Nat.le_trans hcs.1 hS.2.2.2.2.1, Nat.le_trans hcs.2 hS.2.2.2.2.2⟩) (xm_n hf)
      subst ho
      have hcs := rm_a2 hcs hge
      have hf := xm_s hf
      obtain ⟨q33, hr9, hf⟩ := bo_s hf
      refine c_dr hr9 ?_
      obtain ⟨_, A34, h1, hf⟩ := bd_s hf
      refine c_kv hS (va_runI ⟨E.1, hb, hml, E.2.1, E.2.2.1⟩ (zX16_init h1) (cwI 1 E.2.2.1 (lw_meth q1195) rfl rfl rfl (E.2.2.1 _ q185) (E.2.2.1 _ q1193) (E.2.2.1 _ q1194) rfl gnX16_init ⟨by dsimp only; omega, by dsimp only; omega⟩) (c_preS E hS _) rfl rfl hl.1 rfl (lv_room (Nat.le_of_ble_eq_true rfl)) dX2_fact_76 (rm_n hcs hS.2.2.2.2)) hS.2.2.2.2 (fun H locs hS hn => ?_)
      have hcs := rm_n2 hcs hn
      refine lv_astore_n (lv' := [(1, .ref (ad (aN A27))), (0, .ref (ad 9))]) E.1 hb dX2_fact_79 rfl hl (by decide) rfl (fun ls hl => ?_)
      refine lv_aload_n E.1 hb dX2_fact_80 rfl (lv_at hl 1 rfl) ?_
      refine lv_dup E.1 hb dX2_fact_81 rfl ?_
      refine c_gI (k := 4) (f := 304) E hb hS ci_3 (sK hS (by decide) rfl) rfl rfl rfl fk_X2_117_X2 (fun _ h => h) dX2_fact_82 ?_
      refine lv_iconst (v := 1) E.1 hb dX2_fact_85 rfl ?_
      refine lv_isub E.1 hb dX2_fact_86 ?_
      obtain ⟨A35, hw, hf⟩ := lt2_s hf
      refine c_pI (k := 4) (f := 304) E hb hS ci_3 (sK hS (by decide) rfl) (hS.1.lt (sK hS (by decide) rfl) rfl) rfl rfl (Or.inl rfl) fk_X2_117_X2 (fun _ h => h) rfl rfl hw dX2_fact_87 (fun H locs hS => ?_)
      have hcs := rm_w (A2 := A35) hcs (by rw [hw]; exact ⟨rfl, rfl⟩)
      refine lv_aload_n E.1 hb dX2_fact_90 rfl (lv_at hl 0 rfl) ?_
      exact x_ar E hb hr (Or.inl ⟨_, rfl⟩) hlk hS (rm_e ⟨Nat.le_trans hcs.1 hS.2.2.2.2.1, Nat.le_trans hcs.2 hS.2.2.2.2.2⟩) (v := (some (aN A27))) hf dX2_fact_91
  · have hf := it_s hc hf
    refine lv_aload_n E.1 hb dX2_fact_9 rfl (lv_at hl 0 rfl) ?_
    refine lv_aload_n E.1 hb dX2_fact_10 rfl (lv_at hl 0 rfl) ?_
    refine c_gI (k := 2) (f := 302) E hb hS ci_3 (sK hS (by decide) rfl) rfl rfl rfl fk_X2_36_X2 (fun _ h => h) dX2_fact_11 ?_
    obtain ⟨o37, A36, h1, hf⟩ := bx_s hf
    refine x_kv hS (vx_runV ⟨E.1, hb, hml, E.2.1, E.2.2.1⟩ (zX2_opens h1) (cwV 1 E.2.2.1 gw_X2_257 rfl rfl rfl ⟨rfl, gnX2_opens⟩ ⟨by dsimp only; omega, by dsimp only; omega⟩) (c_preV E hS ci_3 (sK hS (by decide) rfl) (hS.1.lt (sK hS (by decide) rfl) rfl) _) rfl rfl hl.1 rfl (lv_room (Nat.le_of_ble_eq_true rfl)) dX2_fact_14 (rm_n hcs hS.2.2.2.2)) hS.2.2.2.2 (fun ho H locs hS hn => ?_) (fun _ ho H locs hS hn => ?_)
    · subst ho
      have hcs := rm_n2 hcs hn
      exact x_out E hnx hlk hS (rm_e ⟨Nat.le_trans hcs.1 hS.2.2.2.2.1, Nat.le_trans hcs.2 hS.2.2.2.2.2⟩) (xm_n hf)
    subst ho
    have hcs := rm_n2 hcs hn
    have hf := xm_s hf
    refine lv_aload_n E.1 hb dX2_fact_17 rfl (lv_at hl 0 rfl) ?_
    refine lv_dup E.1 hb dX2_fact_18 rfl ?_
    refine c_gI (k := 2) (f := 302) E hb hS ci_3 (sK hS (by decide) rfl) rfl rfl rfl fk_X2_36_X2 (fun _ h => h) dX2_fact_19 ?_
    refine lv_iconst (v := 1) E.1 hb dX2_fact_22 rfl ?_
    refine lv_iadd E.1 hb dX2_fact_23 ?_
    obtain ⟨A38, hw, hf⟩ := lt2_s hf
    refine c_pI (k := 2) (f := 302) E hb hS ci_3 (sK hS (by decide) rfl) (hS.1.lt (sK hS (by decide) rfl) rfl) rfl rfl (Or.inl rfl) fk_X2_36_X2 (fun _ h => h) rfl rfl hw dX2_fact_24 (fun H locs hS => ?_)
    have hcs := rm_w (A2 := A38) hcs (by rw [hw]; exact ⟨rfl, rfl⟩)
    refine lv_aload_n E.1 hb dX2_fact_27 rfl (lv_at hl 0 rfl) ?_
    obtain ⟨o41, A40, h1, hge, hup, hf⟩ := bxa_s hf
    refine x_kq hS (vx_runV ⟨E.1, hb, hml, E.2.1, E.2.2.1⟩ (zX2_test ha h1) (cwV 0 E.2.2.1 gw_X2_236 rfl rfl rfl ⟨rfl, gnX2_test⟩ ⟨by dsimp only; omega, by dsimp only; omega⟩) (c_preV E hS ci_3 (sK hS (by decide) rfl) (hS.1.lt (sK hS (by decide) rfl) rfl) _) rfl rfl hl.1 rfl (lv_room (Nat.le_of_ble_eq_true rfl)) dX2_fact_28 (rm_a hcs hge hup)) hup (fun ho H locs hS hn => ?_) (fun r39 ho H locs hS hn => ?_)
    · subst ho
      have hcs := rm_a2 hcs hge
      exact x_out E hnx hlk hS (rm_e ⟨Nat.le_trans hcs.1 hS.2.2.2.2.1, Nat.le_trans hcs.2 hS.2.2.2.2.2⟩) (xm_n hf)
    subst ho
    have hcs := rm_a2 hcs hge
    have hf := xm_s hf
    obtain ⟨q42, hr9, hf⟩ := bo_s hf
    refine c_dr hr9 ?_
    refine lv_astore_n (lv' := [(1, .ref (ad q42)), (0, .ref (ad 9))]) E.1 hb dX2_fact_31 rfl hl (by decide) rfl (fun ls hl => ?_)
    refine lv_aload_n E.1 hb dX2_fact_32 rfl (lv_at hl 1 rfl) ?_
    refine lv_bipush (v := 93) E.1 hb dX2_fact_33 rfl ?_
    obtain ⟨o44, A43, h1, hf⟩ := bx_s hf
    refine x_kv hS (vx_runV ⟨E.1, hb, hml, E.2.1, E.2.2.1⟩ (zX2_must h1) (cwV 1 E.2.2.1 gw_X2_126 rfl rfl rfl ⟨rfl, gnX2_must⟩ ⟨by dsimp only; omega, by dsimp only; omega⟩) (c_preV E hS ci_3 (sK hS (by decide) rfl) (hS.1.lt (sK hS (by decide) rfl) rfl) _) rfl rfl hl.1 rfl (lv_room (Nat.le_of_ble_eq_true rfl)) dX2_fact_35 (rm_n hcs hS.2.2.2.2)) hS.2.2.2.2 (fun ho H locs hS hn => ?_) (fun _ ho H locs hS hn => ?_)
    · subst ho
      have hcs := rm_n2 hcs hn
      exact x_out E hnx hlk hS (rm_e ⟨Nat.le_trans hcs.1 hS.2.2.2.2.1, Nat.le_trans hcs.2 hS.2.2.2.2.2⟩) (xm_n hf)
    subst ho
    have hcs := rm_n2 hcs hn
    have hf := xm_s hf
    refine lv_aload_n E.1 hb dX2_fact_38 rfl (lv_at hl 1 rfl) ?_
    refine lv_dup E.1 hb dX2_fact_39 rfl ?_
    refine c_gI (k := 4) (f := 304) E hb hS ci_3 (sK hS (by decide) rfl) rfl rfl rfl fk_X2_117_X2 (fun _ h => h) dX2_fact_40 ?_
    refine lv_iconst (v := 1) E.1 hb dX2_fact_43 rfl ?_
    refine lv_isub E.1 hb dX2_fact_44 ?_
    obtain ⟨A45, hw, hf⟩ := lt2_s hf
    refine c_pI (k := 4) (f := 304) E hb hS ci_3 (sK hS (by decide) rfl) (hS.1.lt (sK hS (by decide) rfl) rfl) rfl rfl (Or.inl rfl) fk_X2_117_X2 (fun _ h => h) rfl rfl hw dX2_fact_45 (fun H locs hS => ?_)
    have hcs := rm_w (A2 := A45) hcs (by rw [hw]; exact ⟨rfl, rfl⟩)
    refine lv_aload_n E.1 hb dX2_fact_48 rfl (lv_at hl 0 rfl) ?_
    exact x_ar E hb hr (Or.inl ⟨_, rfl⟩) hlk hS (rm_e ⟨Nat.le_trans hcs.1 hS.2.2.2.2.1, Nat.le_trans hcs.2 hS.2.2.2.2.2⟩) (v := (some q42)) hf dX2_fact_49
/-! the recursion f closed -/
noncomputable def factG (N : Nat) : Nat → AH → Option (Option (Option Nat) × AH)
  | 0 => fun _ => none
  | d + 1 => X2_fact N (factG N d)
theorem zfactG {l : Launch} {dC : Nat → ClassId} {dI : Nat → Nat → Nat} {ac : Nat → ClassId} {ad : Nat → Nat} {N : Nat} (d : Nat) : RcA l dC dI ac ad yX2_fact cX2_fact 3 (.object "MarginFolk$Test") (125 * d) (2713 * d) (factG N d) := by
  induction d with
  | zero =>
    intro A o A' h
    cases h
  | succ d ih =>
    rw [Nat.mul_add, Nat.mul_one, Nat.mul_add, Nat.mul_one]
    intro A o A' h
    exact zX2_fact ih h
noncomputable def factF (N : Nat) : AH → Option (Option (Option Nat) × AH) := factG N 8
theorem zfactF {l : Launch} {dC : Nat → ClassId} {dI : Nat → Nat → Nat} {ac : Nat → ClassId} {ad : Nat → Nat} {N : Nat} : RcA l dC dI ac ad yX2_fact cX2_fact 3 (.object "MarginFolk$Test") 1000 21704 (factF N) := zfactG 8
theorem fk_X2_233_X1 : FLk RX2 233 "MarginFolk$Folio" (TX1 14).2.1 (TX1 14).2.2.1 := Or.inr ⟨_, q267⟩
theorem fk_X2_222_X1 : FLk RX2 222 "MarginFolk$Folio" (TX1 11).2.1 (TX1 11).2.2.1 := Or.inr ⟨_, q260⟩
theorem gw_X2_225 : GoodIn lw_all (wsV RX2 225 RX2 yX2_once (ws_ yX2_once cX2_once 4 (some (.object "MarginFolk$Value")))) := lw_V q962 q964 qs22 q157 q965
theorem gnX2_once : yX2_once.cls ≠ "java/lang/invoke/MethodHandle" ∧ yX2_once.cls ≠ "java/lang/invoke/VarHandle" ∧ (parseMethodDescriptor yX2_once.desc).map (fun d => d.parameters.length) = some 3 := by decide +kernel
theorem fk_X2_229_X1 : FLk RX2 229 "MarginFolk$Folio" (TX1 12).2.1 (TX1 12).2.2.1 := Or.inr ⟨_, q263⟩
theorem fk_X2_231_X1 : FLk RX2 231 "MarginFolk$Folio" (TX1 13).2.1 (TX1 13).2.2.1 := Or.inr ⟨_, q265⟩
theorem fk_X2_240_X1 : FLk RX2 240 "MarginFolk$Folio" (TX1 5).2.1 (TX1 5).2.2.1 := Or.inr ⟨_, q243⟩
/-! MarginFolk$Reader.more(Ljava/lang/String;I)V: RW -/
noncomputable def X2_more_b255 (N : Nat) (x1 : Nat) (x2 : Int32) (A : AH) (y0 : Int32) : Option (Option Unit × AH) :=
  bx (X2_most A y0 x2) fun _ A30 => lt2 (wI A30 305 9 0 63) fun A32 => bo (aR A32 306 9 0) fun q33 => bxa A32 (X2_test N (factF N) A32) fun r34 A35 => bo r34 fun q37 => bo (pR 2 A35 214 q33 (some q37)) fun A38 => some (some (), A38)
noncomputable def X2_more_b132 (N : Nat) (x1 : Nat) (x2 : Int32) (A : AH) (x4 : Int32) : Option (Option Unit × AH) :=
  if x4 = 0 then (bo (aR A 306 9 0) fun q4 => bo (aR A 306 9 0) fun q5 => bo (gR 2 A 211 q5) fun v6 => bxa A (X2_once N A v6 x2 1) fun r7 A8 => bo r7 fun q10 => bo (pR 2 A8 211 q4 (some q10)) fun A11 => some (some (), A11)) else (if x4 = 1 then (bo (aR A 306 9 0) fun q12 => bo (aR A 306 9 0) fun q13 => bo (gR 2 A 212 q13) fun v14 => bxa A (X2_once N A v14 x2 63) fun r15 A16 => bo r15 fun q18 => bo (pR 2 A16 212 q12 (some q18)) fun A19 => some (some (), A19)) else (if x4 = 2 then (bo (aR A 306 9 0) fun q20 => bo (aR A 306 9 0) fun q21 => bo (gR 2 A 213 q21) fun v22 => bxa A (X2_once N A v22 x2 127) fun r23 A24 => bo r23 fun q26 => bo (pR 2 A24 213 q20 (some q26)) fun A27 => some (some (), A27)) else (if x4 = 3 then (bo (aR A 306 9 0) fun q28 => bo (gR 2 A 214 q28) fun v29 => if v29 = none then (X2_more_b255 N x1 x2 A 0) else (X2_more_b255 N x1 x2 A 1)) else (if x4 = 4 then (bo (aR A 306 9 0) fun q39 => bx (X2_number N A 0 100) fun r40 A41 => bo (pI 2 A41 205 q39 r40) fun A43 => some (some (), A43)) else (bd (X2_wrong A 1 x2) fun r44 A45 => bo r44 fun q46 => if q46 = 10 then some (none, A45) else none)))))
noncomputable def X2_more (N : Nat) (A0 : AH) (x1 : Nat) (x2 : Int32) : Option (Option Unit × AH) :=
  ck A0 (if aK A0 x1 = 19 then ( bda A0 (J6_hashCode N A0 x1) fun r1 A2 => if r1 = 3059624 then (if aK A2 x1 = 19 then ( bo (J6_equals N A2 x1 (CB + 9)) fun r3 => if r3 = 0 then (X2_more_b132 N x1 x2 A2 (-1)) else (X2_more_b132 N x1 x2 A2 1)) else none) else (if r1 = 3565883 then (if aK A2 x1 = 19 then ( bo (J6_equals N A2 x1 (CB + 10)) fun r47 => if r47 = 0 then (X2_more_b132 N x1 x2 A2 (-1)) else (X2_more_b132 N x1 x2 A2 2)) else none) else (if r1 = 105948009 then (if aK A2 x1 = 19 then ( bo (J6_equals N A2 x1 (CB + 8)) fun r48 => if r48 = 0 then (X2_more_b132 N x1 x2 A2 (-1)) else (X2_more_b132 N x1 x2 A2 0)) else none) else (if r1 = 109761319 then (if aK A2 x1 = 19 then ( bo (J6_equals N A2 x1 (CB + 11)) fun r49 => if r49 = 0 then (X2_more_b132 N x1 x2 A2 (-1)) else (X2_more_b132 N x1 x2 A2 3)) else none) else (if r1 = 110342614 then (if aK A2 x1 = 19 then ( bo (J6_equals N A2 x1 (CB + 12)) fun r50 => if r50 = 0 then (X2_more_b132 N x1 x2 A2 (-1)) else (X2_more_b132 N x1 x2 A2 4)) else none) else (X2_more_b132 N x1 x2 A2 (-1))))))) else none)
set_option maxHeartbeats 4000000 in
theorem zX2_more {l : Launch} {dC : Nat → ClassId} {dI : Nat → Nat → Nat} {ac : Nat → ClassId} {ad : Nat → Nat} {N : Nat} {A0 : AH} {x1 : Nat} {x2 : Int32} {o : Option Unit} {A' : AH} (hf : X2_more N A0 x1 x2 = some (o, A')) : vx_Met l yX2_more (ws_ yX2_more cX2_more 5 none) { frames := 1012, cells := aN A' - aN A0, slots := aS A' - aS A0, locals := 21959 } (va_Pc [.ref (ad 9), .ref (ad x1), .int x2] (cPre dC dI ac ad True A0)) (cQxv dC dI ac ad True (aN A0) (aS A0) (aN A') (aS A') o A') (cXC dC dI ac ad True (aN A0) (aS A0) (aN A') (aS A') o A') (aN A' - aN A0) (aS A' - aS A0) (cF ad) := by
  unfold X2_more at hf
  obtain ⟨hck0, hf⟩ := ck_s hf
  refine c_ofx hck0 RX2 (by decide) rfl (Nat.le_of_ble_eq_true rfl) ?_
  intro p e s m args below meth c E hb hr hlk hnm hml hnx hS ls hl
  have hl : lv_has ls 5 [(0, .ref (ad 9)), (1, .ref (ad x1)), (2, .int x2)] := hl
  have hcs : aN A0 + 0 ≤ aN A0 ∧ aS A0 + 0 ≤ aS A0 := ⟨Nat.le_refl _, Nat.le_refl _⟩
  have hB255 : ∀ (A : AH) (y0 : Int32), X2_more_b255 N x1 x2 A y0 = some (o, A') → ∀ (H : Heap) (locs : List Loc) (cells slots : Nat), aN A0 + cells ≤ aN A ∧ aS A0 + slots ≤ aS A →  cS dC dI ac ad True s.heap (aN A0) (aS A0) (aN A') (aS A') A H locs → ∀ (ls : Array Slot), lv_has ls 5 [(0, .ref (ad 9)), (1, .ref (ad x1)), (2, .int x2)] → W p l e { frames := 1012, cells := aN A' - aN A0, slots := aS A' - aS A0, locals := 21959 } s m args below meth c H locs cells slots (vx_MQ below (cQxv dC dI ac ad True (aN A0) (aS A0) (aN A') (aS A') o A') (cXC dC dI ac ad True (aN A0) (aS A0) (aN A') (aS A') o A') args s (aN A' - aN A0) (aS A' - aS A0) (cF ad)) (F0 m 255 ls [.int y0, .ref (ad 9)]) := by
    intro A y0 hf H locs cells slots hcs hS ls hl
    unfold X2_more_b255 at hf
    refine lv_iload_n E.1 hb dX2_more_255 rfl (lv_at hl 2 rfl) ?_
    obtain ⟨o31, A30, h1, hf⟩ := bx_s hf
    refine x_kv hS (vx_runV ⟨E.1, hb, hml, E.2.1, E.2.2.1⟩ (zX2_most h1) (cwV 2 E.2.2.1 gw_X2_133 rfl rfl rfl ⟨rfl, gnX2_most⟩ ⟨Nat.le_of_ble_eq_true rfl, Nat.le_of_ble_eq_true rfl⟩) (c_preV E hS ci_3 (sK hS (by decide) rfl) (hS.1.lt (sK hS (by decide) rfl) rfl) _) rfl rfl hl.1 rfl (lv_room (Nat.le_of_ble_eq_true rfl)) dX2_more_256 (rm_n hcs hS.2.2.2.2)) hS.2.2.2.2 (fun ho H locs hS hn => ?_) (fun _ ho H locs hS hn => ?_)
    · subst ho
      have hcs := rm_n2 hcs hn
      exact x_out E hnx hlk hS (rm_e ⟨Nat.le_trans hcs.1 hS.2.2.2.2.1, Nat.le_trans hcs.2 hS.2.2.2.2.2⟩) (xm_n hf)
    subst ho
    have hcs := rm_n2 hcs hn
    have hf := xm_s hf
    refine lv_aload_n E.1 hb dX2_more_259 rfl (lv_at hl 0 rfl) ?_
    refine lv_bipush (v := 63) E.1 hb dX2_more_260 rfl ?_
    obtain ⟨A32, hw, hf⟩ := lt2_s hf
    refine c_pI (k := 5) (f := 305) E hb hS ci_3 (sK hS (by decide) rfl) (hS.1.lt (sK hS (by decide) rfl) rfl) rfl rfl (Or.inl rfl) fk_X2_205_X2 (fun _ h => h) rfl rfl hw dX2_more_262 (fun H locs hS => ?_)
    have hcs := rm_w (A2 := A32) hcs (by rw [hw]; exact ⟨rfl, rfl⟩)
    refine lv_aload_n E.1 hb dX2_more_265 rfl (lv_at hl 0 rfl) ?_
    obtain ⟨q33, hr7, hf⟩ := bo_s hf
    refine c_gN (k := 6) (f := 306) E hb hS ci_3 (sK hS (by decide) rfl) rfl rfl rfl hr7 fk_X2_100_X2 (fun _ h => h) dX2_more_266 ?_
    refine lv_aload_n E.1 hb dX2_more_269 rfl (lv_at hl 0 rfl) ?_
    obtain ⟨o36, A35, h1, hge, hup, hf⟩ := bxa_s hf
    refine x_kq hS (vx_runV ⟨E.1, hb, hml, E.2.1, E.2.2.1⟩ (zX2_test zfactF h1) (cwV 0 E.2.2.1 gw_X2_236 rfl rfl rfl ⟨rfl, gnX2_test⟩ ⟨by dsimp only; omega, by dsimp only; omega⟩) (c_preV E hS ci_3 (sK hS (by decide) rfl) (hS.1.lt (sK hS (by decide) rfl) rfl) _) rfl rfl hl.1 rfl (lv_room (Nat.le_of_ble_eq_true rfl)) dX2_more_270 (rm_a hcs hge hup)) hup (fun ho H locs hS hn => ?_) (fun r34 ho H locs hS hn => ?_)
    · subst ho
      have hcs := rm_a2 hcs hge
      exact x_out E hnx hlk hS (rm_e ⟨Nat.le_trans hcs.1 hS.2.2.2.2.1, Nat.le_trans hcs.2 hS.2.2.2.2.2⟩) (xm_n hf)
    subst ho
    have hcs := rm_a2 hcs hge
    have hf := xm_s hf
    obtain ⟨q37, hr9, hf⟩ := bo_s hf
    refine c_dr hr9 ?_
    obtain ⟨A38, hk, hw, hf⟩ := pR_s hf
    refine c_pR (k := 14) (f := 214) (r := (some q37)) E hb hS ci_2 hk (hS.1.lt hk rfl) rfl rfl (fun _ => rfl) (Or.inl rfl) fk_X2_233_X1 (fun _ h => h) (fun q => by cases q <;> exact ⟨rfl, rfl⟩) hw dX2_more_273 (fun H locs hS => ?_)
    have hcs := rm_w (A2 := A38) hcs (by rw [hw]; exact ⟨rfl, rfl⟩)
    refine lv_goto (tgt := 303) E.1 hb dX2_more_276 (by decide) ?_
    exact x_vr E hb hr hlk hS (rm_e ⟨Nat.le_trans hcs.1 hS.2.2.2.2.1, Nat.le_trans hcs.2 hS.2.2.2.2.2⟩) hf dX2_more_303
  have hB132 : ∀ (A : AH) (x4 : Int32), X2_more_b132 N x1 x2 A x4 = some (o, A') → ∀ (H : Heap) (locs : List Loc) (cells slots : Nat), aN A0 + cells ≤ aN A ∧ aS A0 + slots ≤ aS A →  cS dC dI ac ad True s.heap (aN A0) (aS A0) (aN A') (aS A') A H locs → ∀ (ls : Array Slot), lv_has ls 5 [(0, .ref (ad 9)), (1, .ref (ad x1)), (2, .int x2), (4, .int x4)] → W p l e { frames := 1012, cells := aN A' - aN A0, slots := aS A' - aS A0, locals := 21959 } s m args below meth c H locs cells slots (vx_MQ below (cQxv dC dI ac ad True (aN A0) (aS A0) (aN A') (aS A') o A') (cXC dC dI ac ad True (aN A0) (aS A0) (aN A') (aS A') o A') args s (aN A' - aN A0) (aS A' - aS A0) (cF ad)) (F0 m 132 ls []) := by
    intro A x4 hf H locs cells slots hcs hS ls hl
    unfold X2_more_b132 at hf
    refine lv_iload E.1 hb dX2_more_132 (lv_at hl 3 rfl) ?_
    by_cases hc0 : x4 = 0
    · have hf := it_s hc0 hf
      refine lv_tableIn (tgt := 168) E.1 hb dX2_more_134 (by rw [hc0]; decide) (by rw [hc0]; decide) (by rw [hc0]; rfl) (by decide) ?_
      refine lv_aload_n E.1 hb dX2_more_168 rfl (lv_at hl 0 rfl) ?_
      obtain ⟨q4, hr7, hf⟩ := bo_s hf
      refine c_gN (k := 6) (f := 306) E hb hS ci_3 (sK hS (by decide) rfl) rfl rfl rfl hr7 fk_X2_100_X2 (fun _ h => h) dX2_more_169 ?_
      refine lv_aload_n E.1 hb dX2_more_172 rfl (lv_at hl 0 rfl) ?_
      refine lv_aload_n E.1 hb dX2_more_173 rfl (lv_at hl 0 rfl) ?_
      obtain ⟨q5, hr7, hf⟩ := bo_s hf
      refine c_gN (k := 6) (f := 306) E hb hS ci_3 (sK hS (by decide) rfl) rfl rfl rfl hr7 fk_X2_100_X2 (fun _ h => h) dX2_more_174 ?_
      obtain ⟨hk, hf⟩ := gR_s hf
      refine c_gR (k := 11) (f := 211) E hb hS ci_2 hk rfl rfl rfl fk_X2_222_X1 (fun _ h => h) dX2_more_177 ?_
      refine lv_iload_n E.1 hb dX2_more_180 rfl (lv_at hl 2 rfl) ?_
      refine lv_iconst (v := 1) E.1 hb dX2_more_181 rfl ?_
      obtain ⟨o9, A8, h1, hge, hup, hf⟩ := bxa_s hf
      refine x_kq hS (vx_runV ⟨E.1, hb, hml, E.2.1, E.2.2.1⟩ (zX2_once h1) (cwV 3 E.2.2.1 gw_X2_225 rfl rfl rfl ⟨rfl, gnX2_once⟩ ⟨Nat.le_of_ble_eq_true rfl, Nat.le_of_ble_eq_true rfl⟩) (c_preV E hS ci_3 (sK hS (by decide) rfl) (hS.1.lt (sK hS (by decide) rfl) rfl) _) rfl rfl hl.1 rfl (lv_room (Nat.le_of_ble_eq_true rfl)) dX2_more_182 (rm_a hcs hge hup)) hup (fun ho H locs hS hn => ?_) (fun r7 ho H locs hS hn => ?_)
      · subst ho
        have hcs := rm_a2 hcs hge
        exact x_out E hnx hlk hS (rm_e ⟨Nat.le_trans hcs.1 hS.2.2.2.2.1, Nat.le_trans hcs.2 hS.2.2.2.2.2⟩) (xm_n hf)
      subst ho
      have hcs := rm_a2 hcs hge
      have hf := xm_s hf
      obtain ⟨q10, hr9, hf⟩ := bo_s hf
      refine c_dr hr9 ?_
      obtain ⟨A11, hk, hw, hf⟩ := pR_s hf
      refine c_pR (k := 11) (f := 211) (r := (some q10)) E hb hS ci_2 hk (hS.1.lt hk rfl) rfl rfl (fun _ => rfl) (Or.inl rfl) fk_X2_222_X1 (fun _ h => h) (fun q => by cases q <;> exact ⟨rfl, rfl⟩) hw dX2_more_185 (fun H locs hS => ?_)
      have hcs := rm_w (A2 := A11) hcs (by rw [hw]; exact ⟨rfl, rfl⟩)
      refine lv_goto (tgt := 303) E.1 hb dX2_more_188 (by decide) ?_
      exact x_vr E hb hr hlk hS (rm_e ⟨Nat.le_trans hcs.1 hS.2.2.2.2.1, Nat.le_trans hcs.2 hS.2.2.2.2.2⟩) hf dX2_more_303
    · have hf := if_s hc0 hf
      by_cases hc1 : x4 = 1
      · have hf := it_s hc1 hf
        refine lv_tableIn (tgt := 191) E.1 hb dX2_more_134 (by rw [hc1]; decide) (by rw [hc1]; decide) (by rw [hc1]; rfl) (by decide) ?_
        refine lv_aload_n E.1 hb dX2_more_191 rfl (lv_at hl 0 rfl) ?_
        obtain ⟨q12, hr7, hf⟩ := bo_s hf
        refine c_gN (k := 6) (f := 306) E hb hS ci_3 (sK hS (by decide) rfl) rfl rfl rfl hr7 fk_X2_100_X2 (fun _ h => h) dX2_more_192 ?_
        refine lv_aload_n E.1 hb dX2_more_195 rfl (lv_at hl 0 rfl) ?_
        refine lv_aload_n E.1 hb dX2_more_196 rfl (lv_at hl 0 rfl) ?_
        obtain ⟨q13, hr7, hf⟩ := bo_s hf
        refine c_gN (k := 6) (f := 306) E hb hS ci_3 (sK hS (by decide) rfl) rfl rfl rfl hr7 fk_X2_100_X2 (fun _ h => h) dX2_more_197 ?_
        obtain ⟨hk, hf⟩ := gR_s hf
        refine c_gR (k := 12) (f := 212) E hb hS ci_2 hk rfl rfl rfl fk_X2_229_X1 (fun _ h => h) dX2_more_200 ?_
        refine lv_iload_n E.1 hb dX2_more_203 rfl (lv_at hl 2 rfl) ?_
        refine lv_bipush (v := 63) E.1 hb dX2_more_204 rfl ?_
        obtain ⟨o17, A16, h1, hge, hup, hf⟩ := bxa_s hf
        refine x_kq hS (vx_runV ⟨E.1, hb, hml, E.2.1, E.2.2.1⟩ (zX2_once h1) (cwV 3 E.2.2.1 gw_X2_225 rfl rfl rfl ⟨rfl, gnX2_once⟩ ⟨Nat.le_of_ble_eq_true rfl, Nat.le_of_ble_eq_true rfl⟩) (c_preV E hS ci_3 (sK hS (by decide) rfl) (hS.1.lt (sK hS (by decide) rfl) rfl) _) rfl rfl hl.1 rfl (lv_room (Nat.le_of_ble_eq_true rfl)) dX2_more_206 (rm_a hcs hge hup)) hup (fun ho H locs hS hn => ?_) (fun r15 ho H locs hS hn => ?_)
        · subst ho
          have hcs := rm_a2 hcs hge
          exact x_out E hnx hlk hS (rm_e ⟨Nat.le_trans hcs.1 hS.2.2.2.2.1, Nat.le_trans hcs.2 hS.2.2.2.2.2⟩) (xm_n hf)
        subst ho
        have hcs := rm_a2 hcs hge
        have hf := xm_s hf
        obtain ⟨q18, hr9, hf⟩ := bo_s hf
        refine c_dr hr9 ?_
        obtain ⟨A19, hk, hw, hf⟩ := pR_s hf
        refine c_pR (k := 12) (f := 212) (r := (some q18)) E hb hS ci_2 hk (hS.1.lt hk rfl) rfl rfl (fun _ => rfl) (Or.inl rfl) fk_X2_229_X1 (fun _ h => h) (fun q => by cases q <;> exact ⟨rfl, rfl⟩) hw dX2_more_209 (fun H locs hS => ?_)
        have hcs := rm_w (A2 := A19) hcs (by rw [hw]; exact ⟨rfl, rfl⟩)
        refine lv_goto (tgt := 303) E.1 hb dX2_more_212 (by decide) ?_
        exact x_vr E hb hr hlk hS (rm_e ⟨Nat.le_trans hcs.1 hS.2.2.2.2.1, Nat.le_trans hcs.2 hS.2.2.2.2.2⟩) hf dX2_more_303
      · have hf := if_s hc1 hf
        by_cases hc2 : x4 = 2
        · have hf := it_s hc2 hf
          refine lv_tableIn (tgt := 215) E.1 hb dX2_more_134 (by rw [hc2]; decide) (by rw [hc2]; decide) (by rw [hc2]; rfl) (by decide) ?_
          refine lv_aload_n E.1 hb dX2_more_215 rfl (lv_at hl 0 rfl) ?_
          obtain ⟨q20, hr7, hf⟩ := bo_s hf
          refine c_gN (k := 6) (f := 306) E hb hS ci_3 (sK hS (by decide) rfl) rfl rfl rfl hr7 fk_X2_100_X2 (fun _ h => h) dX2_more_216 ?_
          refine lv_aload_n E.1 hb dX2_more_219 rfl (lv_at hl 0 rfl) ?_
          refine lv_aload_n E.1 hb dX2_more_220 rfl (lv_at hl 0 rfl) ?_
          obtain ⟨q21, hr7, hf⟩ := bo_s hf
          refine c_gN (k := 6) (f := 306) E hb hS ci_3 (sK hS (by decide) rfl) rfl rfl rfl hr7 fk_X2_100_X2 (fun _ h => h) dX2_more_221 ?_
          obtain ⟨hk, hf⟩ := gR_s hf
          refine c_gR (k := 13) (f := 213) E hb hS ci_2 hk rfl rfl rfl fk_X2_231_X1 (fun _ h => h) dX2_more_224 ?_
          refine lv_iload_n E.1 hb dX2_more_227 rfl (lv_at hl 2 rfl) ?_
          refine lv_bipush (v := 127) E.1 hb dX2_more_228 rfl ?_
          obtain ⟨o25, A24, h1, hge, hup, hf⟩ := bxa_s hf
          refine x_kq hS (vx_runV ⟨E.1, hb, hml, E.2.1, E.2.2.1⟩ (zX2_once h1) (cwV 3 E.2.2.1 gw_X2_225 rfl rfl rfl ⟨rfl, gnX2_once⟩ ⟨Nat.le_of_ble_eq_true rfl, Nat.le_of_ble_eq_true rfl⟩) (c_preV E hS ci_3 (sK hS (by decide) rfl) (hS.1.lt (sK hS (by decide) rfl) rfl) _) rfl rfl hl.1 rfl (lv_room (Nat.le_of_ble_eq_true rfl)) dX2_more_230 (rm_a hcs hge hup)) hup (fun ho H locs hS hn => ?_) (fun r23 ho H locs hS hn => ?_)
          · subst ho
            have hcs := rm_a2 hcs hge
            exact x_out E hnx hlk hS (rm_e ⟨Nat.le_trans hcs.1 hS.2.2.2.2.1, Nat.le_trans hcs.2 hS.2.2.2.2.2⟩) (xm_n hf)
          subst ho
          have hcs := rm_a2 hcs hge
          have hf := xm_s hf
          obtain ⟨q26, hr9, hf⟩ := bo_s hf
          refine c_dr hr9 ?_
          obtain ⟨A27, hk, hw, hf⟩ := pR_s hf
          refine c_pR (k := 13) (f := 213) (r := (some q26)) E hb hS ci_2 hk (hS.1.lt hk rfl) rfl rfl (fun _ => rfl) (Or.inl rfl) fk_X2_231_X1 (fun _ h => h) (fun q => by cases q <;> exact ⟨rfl, rfl⟩) hw dX2_more_233 (fun H locs hS => ?_)
          have hcs := rm_w (A2 := A27) hcs (by rw [hw]; exact ⟨rfl, rfl⟩)
          refine lv_goto (tgt := 303) E.1 hb dX2_more_236 (by decide) ?_
          exact x_vr E hb hr hlk hS (rm_e ⟨Nat.le_trans hcs.1 hS.2.2.2.2.1, Nat.le_trans hcs.2 hS.2.2.2.2.2⟩) hf dX2_more_303
        · have hf := if_s hc2 hf
          by_cases hc3 : x4 = 3
          · have hf := it_s hc3 hf
            refine lv_tableIn (tgt := 239) E.1 hb dX2_more_134 (by rw [hc3]; decide) (by rw [hc3]; decide) (by rw [hc3]; rfl) (by decide) ?_
            refine lv_aload_n E.1 hb dX2_more_239 rfl (lv_at hl 0 rfl) ?_
            refine lv_aload_n E.1 hb dX2_more_240 rfl (lv_at hl 0 rfl) ?_
            obtain ⟨q28, hr7, hf⟩ := bo_s hf
            refine c_gN (k := 6) (f := 306) E hb hS ci_3 (sK hS (by decide) rfl) rfl rfl rfl hr7 fk_X2_100_X2 (fun _ h => h) dX2_more_241 ?_
            obtain ⟨hk, hf⟩ := gR_s hf
            refine c_gR (k := 14) (f := 214) E hb hS ci_2 hk rfl rfl rfl fk_X2_233_X1 (fun _ h => h) dX2_more_244 ?_
            refine c_ifnull (tgt := 254) E hb dX2_more_247 (by decide) (fun hc => ?_) (fun hc => ?_)
            · have hf := it_s hc hf
              refine lv_iconst (v := 0) E.1 hb dX2_more_254 rfl ?_
              exact hB255 A 0 hf _ _ _ _ hcs hS _ (lv_sub hl [0, 1, 2] rfl)
            · have hf := if_s hc hf
              refine lv_iconst (v := 1) E.1 hb dX2_more_250 rfl ?_
              refine lv_goto (tgt := 255) E.1 hb dX2_more_251 (by decide) ?_
              exact hB255 A 1 hf _ _ _ _ hcs hS _ (lv_sub hl [0, 1, 2] rfl)
          · have hf := if_s hc3 hf
            by_cases hc4 : x4 = 4
            · have hf := it_s hc4 hf
              refine lv_tableIn (tgt := 279) E.1 hb dX2_more_134 (by rw [hc4]; decide) (by rw [hc4]; decide) (by rw [hc4]; rfl) (by decide) ?_
              refine lv_aload_n E.1 hb dX2_more_279 rfl (lv_at hl 0 rfl) ?_
              obtain ⟨q39, hr7, hf⟩ := bo_s hf
              refine c_gN (k := 6) (f := 306) E hb hS ci_3 (sK hS (by decide) rfl) rfl rfl rfl hr7 fk_X2_100_X2 (fun _ h => h) dX2_more_280 ?_
              refine lv_aload_n E.1 hb dX2_more_283 rfl (lv_at hl 0 rfl) ?_
              refine lv_iconst (v := 0) E.1 hb dX2_more_284 rfl ?_
              refine lv_bipush (v := 100) E.1 hb dX2_more_285 rfl ?_
              obtain ⟨o42, A41, h1, hf⟩ := bx_s hf
              refine x_ki hS (vx_runV ⟨E.1, hb, hml, E.2.1, E.2.2.1⟩ (zX2_number h1) (cwV 2 E.2.2.1 gw_X2_96 rfl rfl rfl ⟨rfl, gnX2_number⟩ ⟨Nat.le_of_ble_eq_true rfl, Nat.le_of_ble_eq_true rfl⟩) (c_preV E hS ci_3 (sK hS (by decide) rfl) (hS.1.lt (sK hS (by decide) rfl) rfl) _) rfl rfl hl.1 rfl (lv_room (Nat.le_of_ble_eq_true rfl)) dX2_more_287 (rm_n hcs hS.2.2.2.2)) hS.2.2.2.2 (fun ho H locs hS hn => ?_) (fun r40 ho H locs hS hn => ?_)
              · subst ho
                have hcs := rm_n2 hcs hn
                exact x_out E hnx hlk hS (rm_e ⟨Nat.le_trans hcs.1 hS.2.2.2.2.1, Nat.le_trans hcs.2 hS.2.2.2.2.2⟩) (xm_n hf)
              subst ho
              have hcs := rm_n2 hcs hn
              have hf := xm_s hf
              obtain ⟨A43, hk, hw, hf⟩ := pI_s hf
              refine c_pI (k := 5) (f := 205) E hb hS ci_2 hk (hS.1.lt hk rfl) rfl rfl (Or.inl rfl) fk_X2_240_X1 (fun _ h => h) rfl rfl hw dX2_more_290 (fun H locs hS => ?_)
              have hcs := rm_w (A2 := A43) hcs (by rw [hw]; exact ⟨rfl, rfl⟩)
              refine lv_goto (tgt := 303) E.1 hb dX2_more_293 (by decide) ?_
              exact x_vr E hb hr hlk hS (rm_e ⟨Nat.le_trans hcs.1 hS.2.2.2.2.1, Nat.le_trans hcs.2 hS.2.2.2.2.2⟩) hf dX2_more_303
            · have hf := if_s hc4 hf
              have q0 : (x4 : Int32).toInt ≠ 0 := ne_toInt hc0 rfl
              have q1 : (x4 : Int32).toInt ≠ 1 := ne_toInt hc1 rfl
              have q2 : (x4 : Int32).toInt ≠ 2 := ne_toInt hc2 rfl
              have q3 : (x4 : Int32).toInt ≠ 3 := ne_toInt hc3 rfl
              have q4 : (x4 : Int32).toInt ≠ 4 := ne_toInt hc4 rfl
              refine lv_tableOut (tgt := 296) E.1 hb dX2_more_134 (by omega) (by decide) ?_
              refine lv_aload_n E.1 hb dX2_more_296 rfl (lv_at hl 0 rfl) ?_
              refine lv_iconst (v := 1) E.1 hb dX2_more_297 rfl ?_
              refine lv_iload_n E.1 hb dX2_more_298 rfl (lv_at hl 2 rfl) ?_
              obtain ⟨r44, A45, h1, hf⟩ := bd_s hf
              refine c_kq hS (va_runV ⟨E.1, hb, hml, E.2.1, E.2.2.1⟩ (zX2_wrong h1) (cwV 2 E.2.2.1 gw_X2_47 rfl rfl rfl ⟨rfl, gnX2_wrong⟩ ⟨Nat.le_of_ble_eq_true rfl, Nat.le_of_ble_eq_true rfl⟩) (c_preV E hS ci_3 (sK hS (by decide) rfl) (hS.1.lt (sK hS (by decide) rfl) rfl) _) rfl rfl hl.1 rfl (lv_room (Nat.le_of_ble_eq_true rfl)) dX2_more_299 (rm_n hcs hS.2.2.2.2)) hS.2.2.2.2 (fun H locs hS hn => ?_)
              have hcs := rm_n2 hcs hn
              obtain ⟨q46, hr9, hf⟩ := bo_s hf
              refine c_dr hr9 ?_
              obtain ⟨hg, hf9⟩ := gu_s hf
              subst hg
              exact x_thr E hb hnx hlk hS (rm_e ⟨Nat.le_trans hcs.1 hS.2.2.2.2.1, Nat.le_trans hcs.2 hS.2.2.2.2.2⟩) hf9 dX2_more_302
  refine lv_aload_n E.1 hb dX2_more_0 rfl (lv_at hl 1 rfl) ?_
  refine lv_astore_n (lv' := [(3, .ref (ad x1)), (0, .ref (ad 9)), (1, .ref (ad x1)), (2, .int x2)]) E.1 hb dX2_more_1 rfl hl (by decide) rfl (fun ls hl => ?_)
  refine lv_iconst (v := (-1)) E.1 hb dX2_more_2 rfl ?_
  refine lv_istore (lv' := [(4, .int (-1)), (3, .ref (ad x1)), (0, .ref (ad 9)), (1, .ref (ad x1)), (2, .int x2)]) E.1 hb dX2_more_3 hl (by decide) rfl (fun ls hl => ?_)
  refine lv_aload_n E.1 hb dX2_more_5 rfl (lv_at hl 1 rfl) ?_
  obtain ⟨hkr, hf⟩ := gu_s hf
  obtain ⟨r1, A2, h1, hge, hup, hf⟩ := bda_s hf
  refine c_ki hS (va_runV ⟨E.1, hb, hml, E.2.1, E.2.2.1⟩ (zJ6_hashCode h1) (cwV 0 E.2.2.1 gw_X2_145 rfl rfl rfl ⟨rfl, gnJ6_hashCode⟩ ⟨Nat.le_of_ble_eq_true rfl, Nat.le_of_ble_eq_true rfl⟩) (c_preVS E hS hkr _) rfl rfl hl.1 rfl (lv_room (Nat.le_of_ble_eq_true rfl)) dX2_more_6 (rm_a hcs hge hup)) hup (fun H locs hS hn => ?_)
  have hcs := rm_a2 hcs hge
  by_cases hc3059624 : r1 = 3059624
  · have hf := it_s hc3059624 hf
    refine lv_lookup (off := 66) (tgt := 75) E.1 hb dX2_more_9 rfl (by rw [hc3059624]; rfl) (by decide) ?_
    refine lv_aload_n E.1 hb dX2_more_75 rfl (lv_at hl 1 rfl) ?_
    refine c_ldc E hb 9 rfl dX2_more_76 ?_
    obtain ⟨hkr, hf⟩ := gu_s hf
    obtain ⟨r3, h1, hf⟩ := bo_s hf
    refine c_ki hS (va_runV ⟨E.1, hb, hml, E.2.1, E.2.2.1⟩ (zJ6_equals h1) (cwV 1 E.2.2.1 gw_X2_74 rfl rfl rfl ⟨rfl, gnJ6_equals⟩ ⟨Nat.le_of_ble_eq_true rfl, Nat.le_of_ble_eq_true rfl⟩) (c_preVS E hS hkr _) rfl rfl hl.1 rfl (lv_room (Nat.le_of_ble_eq_true rfl)) dX2_more_78 (rm_n hcs hS.2.2.2.2)) hS.2.2.2.2 (fun H locs hS hn => ?_)
    have hcs := rm_n2 hcs hn
    refine lv_if_eq (tgt := 132) E.1 hb dX2_more_81 (by decide) (fun hc => ?_) (fun hc => ?_)
    · have hf := it_s hc hf
      exact hB132 A2 (-1) hf _ _ _ _ hcs hS _ (lv_sub hl [2, 3, 4, 0] rfl)
    · have hf := if_s hc hf
      refine lv_iconst (v := 1) E.1 hb dX2_more_84 rfl ?_
      refine lv_istore (lv' := [(4, .int 1), (3, .ref (ad x1)), (0, .ref (ad 9)), (1, .ref (ad x1)), (2, .int x2)]) E.1 hb dX2_more_85 hl (by decide) rfl (fun ls hl => ?_)
      refine lv_goto (tgt := 132) E.1 hb dX2_more_87 (by decide) ?_
      exact hB132 A2 1 hf _ _ _ _ hcs hS _ (lv_sub hl [2, 3, 4, 0] rfl)
  · have hf := if_s hc3059624 hf
    by_cases hc3565883 : r1 = 3565883
    · have hf := it_s hc3565883 hf
      refine lv_lookup (off := 81) (tgt := 90) E.1 hb dX2_more_9 rfl (by rw [hc3565883]; rfl) (by decide) ?_
      refine lv_aload_n E.1 hb dX2_more_90 rfl (lv_at hl 1 rfl) ?_
      refine c_ldc E hb 10 rfl dX2_more_91 ?_
      obtain ⟨hkr, hf⟩ := gu_s hf
      obtain ⟨r47, h1, hf⟩ := bo_s hf
      refine c_ki hS (va_runV ⟨E.1, hb, hml, E.2.1, E.2.2.1⟩ (zJ6_equals h1) (cwV 1 E.2.2.1 gw_X2_74 rfl rfl rfl ⟨rfl, gnJ6_equals⟩ ⟨Nat.le_of_ble_eq_true rfl, Nat.le_of_ble_eq_true rfl⟩) (c_preVS E hS hkr _) rfl rfl hl.1 rfl (lv_room (Nat.le_of_ble_eq_true rfl)) dX2_more_93 (rm_n hcs hS.2.2.2.2)) hS.2.2.2.2 (fun H locs hS hn => ?_)
      have hcs := rm_n2 hcs hn
      refine lv_if_eq (tgt := 132) E.1 hb dX2_more_96 (by decide) (fun hc => ?_) (fun hc => ?_)
      · have hf := it_s hc hf
        exact hB132 A2 (-1) hf _ _ _ _ hcs hS _ (lv_sub hl [2, 3, 4, 0] rfl)
      · have hf := if_s hc hf
        refine lv_iconst (v := 2) E.1 hb dX2_more_99 rfl ?_
        refine lv_istore (lv' := [(4, .int 2), (3, .ref (ad x1)), (0, .ref (ad 9)), (1, .ref (ad x1)), (2, .int x2)]) E.1 hb dX2_more_100 hl (by decide) rfl (fun ls hl => ?_)
        refine lv_goto (tgt := 132) E.1 hb dX2_more_102 (by decide) ?_
        exact hB132 A2 2 hf _ _ _ _ hcs hS _ (lv_sub hl [2, 3, 4, 0] rfl)
    · have hf := if_s hc3565883 hf
      by_cases hc105948009 : r1 = 105948009
      · have hf := it_s hc105948009 hf
        refine lv_lookup (off := 51) (tgt := 60) E.1 hb dX2_more_9 rfl (by rw [hc105948009]; rfl) (by decide) ?_
        refine lv_aload_n E.1 hb dX2_more_60 rfl (lv_at hl 1 rfl) ?_
        refine c_ldc E hb 8 rfl dX2_more_61 ?_
        obtain ⟨hkr, hf⟩ := gu_s hf
        obtain ⟨r48, h1, hf⟩ := bo_s hf
        refine c_ki hS (va_runV ⟨E.1, hb, hml, E.2.1, E.2.2.1⟩ (zJ6_equals h1) (cwV 1 E.2.2.1 gw_X2_74 rfl rfl rfl ⟨rfl, gnJ6_equals⟩ ⟨Nat.le_of_ble_eq_true rfl, Nat.le_of_ble_eq_true rfl⟩) (c_preVS E hS hkr _) rfl rfl hl.1 rfl (lv_room (Nat.le_of_ble_eq_true rfl)) dX2_more_63 (rm_n hcs hS.2.2.2.2)) hS.2.2.2.2 (fun H locs hS hn => ?_)
        have hcs := rm_n2 hcs hn
        refine lv_if_eq (tgt := 132) E.1 hb dX2_more_66 (by decide) (fun hc => ?_) (fun hc => ?_)
        · have hf := it_s hc hf
          exact hB132 A2 (-1) hf _ _ _ _ hcs hS _ (lv_sub hl [2, 3, 4, 0] rfl)
        · have hf := if_s hc hf
          refine lv_iconst (v := 0) E.1 hb dX2_more_69 rfl ?_
          refine lv_istore (lv' := [(4, .int 0), (3, .ref (ad x1)), (0, .ref (ad 9)), (1, .ref (ad x1)), (2, .int x2)]) E.1 hb dX2_more_70 hl (by decide) rfl (fun ls hl => ?_)
          refine lv_goto (tgt := 132) E.1 hb dX2_more_72 (by decide) ?_
          exact hB132 A2 0 hf _ _ _ _ hcs hS _ (lv_sub hl [2, 3, 4, 0] rfl)
      · have hf := if_s hc105948009 hf
        by_cases hc109761319 : r1 = 109761319
        · have hf := it_s hc109761319 hf
          refine lv_lookup (off := 96) (tgt := 105) E.1 hb dX2_more_9 rfl (by rw [hc109761319]; rfl) (by decide) ?_
          refine lv_aload_n E.1 hb dX2_more_105 rfl (lv_at hl 1 rfl) ?_
          refine c_ldc E hb 11 rfl dX2_more_106 ?_
          obtain ⟨hkr, hf⟩ := gu_s hf
          obtain ⟨r49, h1, hf⟩ := bo_s hf
          refine c_ki hS (va_runV ⟨E.1, hb, hml, E.2.1, E.2.2.1⟩ (zJ6_equals h1) (cwV 1 E.2.2.1 gw_X2_74 rfl rfl rfl ⟨rfl, gnJ6_equals⟩ ⟨Nat.le_of_ble_eq_true rfl, Nat.le_of_ble_eq_true rfl⟩) (c_preVS E hS hkr _) rfl rfl hl.1 rfl (lv_room (Nat.le_of_ble_eq_true rfl)) dX2_more_108 (rm_n hcs hS.2.2.2.2)) hS.2.2.2.2 (fun H locs hS hn => ?_)
          have hcs := rm_n2 hcs hn
          refine lv_if_eq (tgt := 132) E.1 hb dX2_more_111 (by decide) (fun hc => ?_) (fun hc => ?_)
          · have hf := it_s hc hf
            exact hB132 A2 (-1) hf _ _ _ _ hcs hS _ (lv_sub hl [2, 3, 4, 0] rfl)
          · have hf := if_s hc hf
            refine lv_iconst (v := 3) E.1 hb dX2_more_114 rfl ?_
            refine lv_istore (lv' := [(4, .int 3), (3, .ref (ad x1)), (0, .ref (ad 9)), (1, .ref (ad x1)), (2, .int x2)]) E.1 hb dX2_more_115 hl (by decide) rfl (fun ls hl => ?_)
            refine lv_goto (tgt := 132) E.1 hb dX2_more_117 (by decide) ?_
            exact hB132 A2 3 hf _ _ _ _ hcs hS _ (lv_sub hl [2, 3, 4, 0] rfl)
        · have hf := if_s hc109761319 hf
          by_cases hc110342614 : r1 = 110342614
          · have hf := it_s hc110342614 hf
            refine lv_lookup (off := 111) (tgt := 120) E.1 hb dX2_more_9 rfl (by rw [hc110342614]; rfl) (by decide) ?_
            refine lv_aload_n E.1 hb dX2_more_120 rfl (lv_at hl 1 rfl) ?_
            refine c_ldc E hb 12 rfl dX2_more_121 ?_
            obtain ⟨hkr, hf⟩ := gu_s hf
            obtain ⟨r50, h1, hf⟩ := bo_s hf
            refine c_ki hS (va_runV ⟨E.1, hb, hml, E.2.1, E.2.2.1⟩ (zJ6_equals h1) (cwV 1 E.2.2.1 gw_X2_74 rfl rfl rfl ⟨rfl, gnJ6_equals⟩ ⟨Nat.le_of_ble_eq_true rfl, Nat.le_of_ble_eq_true rfl⟩) (c_preVS E hS hkr _) rfl rfl hl.1 rfl (lv_room (Nat.le_of_ble_eq_true rfl)) dX2_more_123 (rm_n hcs hS.2.2.2.2)) hS.2.2.2.2 (fun H locs hS hn => ?_)
            have hcs := rm_n2 hcs hn
            refine lv_if_eq (tgt := 132) E.1 hb dX2_more_126 (by decide) (fun hc => ?_) (fun hc => ?_)
            · have hf := it_s hc hf
              exact hB132 A2 (-1) hf _ _ _ _ hcs hS _ (lv_sub hl [2, 3, 4, 0] rfl)
            · have hf := if_s hc hf
              refine lv_iconst (v := 4) E.1 hb dX2_more_129 rfl ?_
              refine lv_istore (lv' := [(4, .int 4), (3, .ref (ad x1)), (0, .ref (ad 9)), (1, .ref (ad x1)), (2, .int x2)]) E.1 hb dX2_more_130 hl (by decide) rfl (fun ls hl => ?_)
              exact hB132 A2 4 hf _ _ _ _ hcs hS _ (lv_sub hl [2, 3, 4, 0] rfl)
          · have hf := if_s hc110342614 hf
            have q3059624 : (r1 : Int32).toInt ≠ 3059624 := ne_toInt hc3059624 rfl
            have q3565883 : (r1 : Int32).toInt ≠ 3565883 := ne_toInt hc3565883 rfl
            have q105948009 : (r1 : Int32).toInt ≠ 105948009 := ne_toInt hc105948009 rfl
            have q109761319 : (r1 : Int32).toInt ≠ 109761319 := ne_toInt hc109761319 rfl
            have q110342614 : (r1 : Int32).toInt ≠ 110342614 := ne_toInt hc110342614 rfl
            refine lv_lookup (off := 123) (tgt := 132) E.1 hb dX2_more_9 rfl (by simp only [Op.lookupswitch.offset, List.find?]; revert q3059624 q3565883 q105948009 q109761319 q110342614; generalize (r1 : Int32).toInt = z9; intro q3059624 q3565883 q105948009 q109761319 q110342614; simp [Ne.symm q3059624, q3059624, Ne.symm q3565883, q3565883, Ne.symm q105948009, q105948009, Ne.symm q109761319, q109761319, Ne.symm q110342614, q110342614]) (by decide) ?_
            exact hB132 A2 (-1) hf _ _ _ _ hcs hS _ (lv_sub hl [2, 3, 4, 0] rfl)
theorem fk_X2_130_X1 : FLk RX2 130 "MarginFolk$Folio" (TX1 0).2.1 (TX1 0).2.2.1 := Or.inr ⟨_, q234⟩
theorem gw_X2_137 : GoodIn lw_all (wsV RX2 137 RX2 yX2_places (ws_ yX2_places cX2_places 11 (some .boolean))) := lw_V q720 q722 qs14 q157 q723
theorem gnX2_places : yX2_places.cls ≠ "java/lang/invoke/MethodHandle" ∧ yX2_places.cls ≠ "java/lang/invoke/VarHandle" ∧ (parseMethodDescriptor yX2_places.desc).map (fun d => d.parameters.length) = some 2 := by decide +kernel
theorem gw_X2_141 : GoodIn lw_all (wsV RX2 141 RX2 yX2_more (ws_ yX2_more cX2_more 5 none)) := lw_V q953 q955 qs21 q157 q956
theorem gnX2_more : yX2_more.cls ≠ "java/lang/invoke/MethodHandle" ∧ yX2_more.cls ≠ "java/lang/invoke/VarHandle" ∧ (parseMethodDescriptor yX2_more.desc).map (fun d => d.parameters.length) = some 2 := by decide +kernel
/-! MarginFolk$Reader.all(I)LMarginFolk$Folio;: RW -/
noncomputable def X2_all_b148 (N : Nat) (x1 : Int32) (k76 : AH → Option (Option (Option Nat) × AH)) (A : AH) : Option (Option (Option Nat) × AH) :=
  bx (X2_must N A 59) fun _ A40 => k76 A40
noncomputable def X2_all_b102 (N : Nat) (x1 : Int32) (k76 : AH → Option (Option (Option Nat) × AH)) (A : AH) (y0 : Int32) : Option (Option (Option Nat) × AH) :=
  bx (X2_most A y0 (aI A 302 9 0)) fun _ A28 => bo (aR A28 306 9 0) fun q30 => bo (gI 2 A28 200 q30) fun v31 => bo (pI 2 A28 200 q30 (v31 + 1)) fun A32 => bxa A32 (X2_word_2 N A32) fun r33 A34 => bo r33 fun q36 => bxa A34 (X2_places N A34 q36 (aI A34 303 9 0)) fun r37 A38 => if r37 = 0 then (bxa A38 (X2_more N A38 q36 (aI A38 303 9 0)) fun _ A42 => X2_all_b148 N x1 k76 A42) else (X2_all_b148 N x1 k76 A38)
noncomputable def X2_all_b76 (N : Nat) (x1 : Int32) (k76 : AH → Option (Option (Option Nat) × AH)) (A : AH) : Option (Option (Option Nat) × AH) :=
  bd (X2_here N A) fun r23 A24 => if r23 = (-1) then (bo (aR A24 306 9 0) fun q25 => some (some (some q25), A24)) else (bo (aR A24 306 9 0) fun q26 => bo (gI 2 A24 200 q26) fun v27 => if v27 = 80 then (X2_all_b102 N x1 k76 A24 1) else (X2_all_b102 N x1 k76 A24 0))
noncomputable def X2_all (N : Nat) (A0 : AH) (x1 : Int32) : Option (Option (Option Nat) × AH) :=
  ck A0 (bo (nwO A0 2 15) fun A1 => ck A1 ( bda A1 (X1_init A1 (aN A0)) fun _ A2 => lt2 (wR A2 306 9 0 (some (aN A0))) fun A3 => lt2 (wI A3 301 9 0 x1) fun A4 => lt2 (wI A4 302 9 0 0) fun A5 => lt2 (wI A5 304 9 0 0) fun A6 => bxa A6 (X2_word N A6 (CB + 0)) fun _ A7 => bo (aR A7 306 9 0) fun q9 => bx (X2_number N A7 1 6) fun r10 A11 => bo (pI 2 A11 201 q9 r10) fun A13 => bo (aR A13 306 9 0) fun q14 => bxa A13 (X2_number_2 N A13 (CB + 1) 2 8) fun r15 A16 => bo (pI 2 A16 202 q14 r15) fun A18 => bx (X2_must N A18 59) fun _ A19 => bo (aR A19 306 9 0) fun q21 => bo (pI 2 A19 200 q21 1) fun A22 => rn1 (X2_all_b76 N x1) N A22))
set_option maxHeartbeats 4000000 in
theorem zX2_all {l : Launch} {dC : Nat → ClassId} {dI : Nat → Nat → Nat} {ac : Nat → ClassId} {ad : Nat → Nat} {N : Nat} {A0 : AH} {x1 : Int32} {o : Option (Option Nat)} {A' : AH} (hf : X2_all N A0 x1 = some (o, A')) : vx_Met l yX2_all (ws_ yX2_all cX2_all 3 (some (.object "MarginFolk$Folio"))) { frames := 1013, cells := aN A' - aN A0, slots := aS A' - aS A0, locals := 21983 } (va_Pc [.ref (ad 9), .int x1] (cPre dC dI ac ad True A0)) (cQxq dC dI ac ad True (aN A0) (aS A0) (aN A') (aS A') o A') (cXC dC dI ac ad True (aN A0) (aS A0) (aN A') (aS A') o A') (aN A' - aN A0) (aS A' - aS A0) (cF ad) := by
  unfold X2_all at hf
  obtain ⟨hck0, hf⟩ := ck_s hf
  refine c_ofx hck0 RX2 (by decide) rfl (Nat.le_of_ble_eq_true rfl) ?_
  intro p e s m args below meth c E hb hr hlk hnm hml hnx hS ls hl
  have hl : lv_has ls 3 [(0, .ref (ad 9)), (1, .int x1)] := hl
  have hcs : aN A0 + 0 ≤ aN A0 ∧ aS A0 + 0 ≤ aS A0 := ⟨Nat.le_refl _, Nat.le_refl _⟩
  have hB148 : ∀ (k76 : AH → Option (Option (Option Nat) × AH)) (hk76 : ∀ (A : AH), k76 A = some (o, A') → ∀ (H : Heap) (locs : List Loc) (cells slots : Nat), aN A0 + cells ≤ aN A ∧ aS A0 + slots ≤ aS A →  cS dC dI ac ad True s.heap (aN A0) (aS A0) (aN A') (aS A') A H locs → ∀ (ls : Array Slot), lv_has ls 3 [(0, .ref (ad 9)), (1, .int x1)] → W p l e { frames := 1013, cells := aN A' - aN A0, slots := aS A' - aS A0, locals := 21983 } s m args below meth c H locs cells slots (vx_MQ below (cQxq dC dI ac ad True (aN A0) (aS A0) (aN A') (aS A') o A') (cXC dC dI ac ad True (aN A0) (aS A0) (aN A') (aS A') o A') args s (aN A' - aN A0) (aS A' - aS A0) (cF ad)) (F0 m 76 ls [])) (A : AH), X2_all_b148 N x1 k76 A = some (o, A') → ∀ (H : Heap) (locs : List Loc) (cells slots : Nat), aN A0 + cells ≤ aN A ∧ aS A0 + slots ≤ aS A →  cS dC dI ac ad True s.heap (aN A0) (aS A0) (aN A') (aS A') A H locs → ∀ (ls : Array Slot), lv_has ls 3 [(0, .ref (ad 9)), (1, .int x1)] → W p l e { frames := 1013, cells := aN A' - aN A0, slots := aS A' - aS A0, locals := 21983 } s m args below meth c H locs cells slots (vx_MQ below (cQxq dC dI ac ad True (aN A0) (aS A0) (aN A') (aS A') o A') (cXC dC dI ac ad True (aN A0) (aS A0) (aN A') (aS A') o A') args s (aN A' - aN A0) (aS A' - aS A0) (cF ad)) (F0 m 148 ls []) := by
    intro k76 hk76 A hf H locs cells slots hcs hS ls hl
    unfold X2_all_b148 at hf
    refine lv_aload_n E.1 hb dX2_all_148 rfl (lv_at hl 0 rfl) ?_
    refine lv_bipush (v := 59) E.1 hb dX2_all_149 rfl ?_
    obtain ⟨o41, A40, h1, hf⟩ := bx_s hf
    refine x_kv hS (vx_runV ⟨E.1, hb, hml, E.2.1, E.2.2.1⟩ (zX2_must h1) (cwV 1 E.2.2.1 gw_X2_126 rfl rfl rfl ⟨rfl, gnX2_must⟩ ⟨Nat.le_of_ble_eq_true rfl, Nat.le_of_ble_eq_true rfl⟩) (c_preV E hS ci_3 (sK hS (by decide) rfl) (hS.1.lt (sK hS (by decide) rfl) rfl) _) rfl rfl hl.1 rfl (lv_room (Nat.le_of_ble_eq_true rfl)) dX2_all_151 (rm_n hcs hS.2.2.2.2)) hS.2.2.2.2 (fun ho H locs hS hn => ?_) (fun _ ho H locs hS hn => ?_)
    · subst ho
      have hcs := rm_n2 hcs hn
      exact x_out E hnx hlk hS (rm_e ⟨Nat.le_trans hcs.1 hS.2.2.2.2.1, Nat.le_trans hcs.2 hS.2.2.2.2.2⟩) (xm_n hf)
    subst ho
    have hcs := rm_n2 hcs hn
    have hf := xm_s hf
    refine lv_goto (tgt := 76) E.1 hb dX2_all_154 (by decide) ?_
    exact hk76 A40 hf _ _ _ _ hcs hS _ (lv_sub hl [0, 1] rfl)
  have hB102 : ∀ (k76 : AH → Option (Option (Option Nat) × AH)) (hk76 : ∀ (A : AH), k76 A = some (o, A') → ∀ (H : Heap) (locs : List Loc) (cells slots : Nat), aN A0 + cells ≤ aN A ∧ aS A0 + slots ≤ aS A →  cS dC dI ac ad True s.heap (aN A0) (aS A0) (aN A') (aS A') A H locs → ∀ (ls : Array Slot), lv_has ls 3 [(0, .ref (ad 9)), (1, .int x1)] → W p l e { frames := 1013, cells := aN A' - aN A0, slots := aS A' - aS A0, locals := 21983 } s m args below meth c H locs cells slots (vx_MQ below (cQxq dC dI ac ad True (aN A0) (aS A0) (aN A') (aS A') o A') (cXC dC dI ac ad True (aN A0) (aS A0) (aN A') (aS A') o A') args s (aN A' - aN A0) (aS A' - aS A0) (cF ad)) (F0 m 76 ls [])) (A : AH) (y0 : Int32), X2_all_b102 N x1 k76 A y0 = some (o, A') → ∀ (H : Heap) (locs : List Loc) (cells slots : Nat), aN A0 + cells ≤ aN A ∧ aS A0 + slots ≤ aS A →  cS dC dI ac ad True s.heap (aN A0) (aS A0) (aN A') (aS A') A H locs → ∀ (ls : Array Slot), lv_has ls 3 [(0, .ref (ad 9)), (1, .int x1)] → W p l e { frames := 1013, cells := aN A' - aN A0, slots := aS A' - aS A0, locals := 21983 } s m args below meth c H locs cells slots (vx_MQ below (cQxq dC dI ac ad True (aN A0) (aS A0) (aN A') (aS A') o A') (cXC dC dI ac ad True (aN A0) (aS A0) (aN A') (aS A') o A') args s (aN A' - aN A0) (aS A' - aS A0) (cF ad)) (F0 m 102 ls [.int y0, .ref (ad 9)]) := by
    intro k76 hk76 A y0 hf H locs cells slots hcs hS ls hl
    unfold X2_all_b102 at hf
    refine lv_aload_n E.1 hb dX2_all_102 rfl (lv_at hl 0 rfl) ?_
    refine c_gI (k := 2) (f := 302) E hb hS ci_3 (sK hS (by decide) rfl) rfl rfl rfl fk_X2_36_X2 (fun _ h => h) dX2_all_103 ?_
    obtain ⟨o29, A28, h1, hf⟩ := bx_s hf
    refine x_kv hS (vx_runV ⟨E.1, hb, hml, E.2.1, E.2.2.1⟩ (zX2_most h1) (cwV 2 E.2.2.1 gw_X2_133 rfl rfl rfl ⟨rfl, gnX2_most⟩ ⟨Nat.le_of_ble_eq_true rfl, Nat.le_of_ble_eq_true rfl⟩) (c_preV E hS ci_3 (sK hS (by decide) rfl) (hS.1.lt (sK hS (by decide) rfl) rfl) _) rfl rfl hl.1 rfl (lv_room (Nat.le_of_ble_eq_true rfl)) dX2_all_106 (rm_n hcs hS.2.2.2.2)) hS.2.2.2.2 (fun ho H locs hS hn => ?_) (fun _ ho H locs hS hn => ?_)
    · subst ho
      have hcs := rm_n2 hcs hn
      exact x_out E hnx hlk hS (rm_e ⟨Nat.le_trans hcs.1 hS.2.2.2.2.1, Nat.le_trans hcs.2 hS.2.2.2.2.2⟩) (xm_n hf)
    subst ho
    have hcs := rm_n2 hcs hn
    have hf := xm_s hf
    refine lv_aload_n E.1 hb dX2_all_109 rfl (lv_at hl 0 rfl) ?_
    obtain ⟨q30, hr7, hf⟩ := bo_s hf
    refine c_gN (k := 6) (f := 306) E hb hS ci_3 (sK hS (by decide) rfl) rfl rfl rfl hr7 fk_X2_100_X2 (fun _ h => h) dX2_all_110 ?_
    refine lv_dup E.1 hb dX2_all_113 rfl ?_
    obtain ⟨hk, hf⟩ := gI_s hf
    refine c_gI (k := 0) (f := 200) E hb hS ci_2 hk rfl rfl rfl fk_X2_130_X1 (fun _ h => h) dX2_all_114 ?_
    refine lv_iconst (v := 1) E.1 hb dX2_all_117 rfl ?_
    refine lv_iadd E.1 hb dX2_all_118 ?_
    obtain ⟨A32, hk, hw, hf⟩ := pI_s hf
    refine c_pI (k := 0) (f := 200) E hb hS ci_2 hk (hS.1.lt hk rfl) rfl rfl (Or.inl rfl) fk_X2_130_X1 (fun _ h => h) rfl rfl hw dX2_all_119 (fun H locs hS => ?_)
    have hcs := rm_w (A2 := A32) hcs (by rw [hw]; exact ⟨rfl, rfl⟩)
    refine lv_aload_n E.1 hb dX2_all_122 rfl (lv_at hl 0 rfl) ?_
    obtain ⟨o35, A34, h1, hge, hup, hf⟩ := bxa_s hf
    refine x_kq hS (vx_runV ⟨E.1, hb, hml, E.2.1, E.2.2.1⟩ (zX2_word_2 h1) (cwV 0 E.2.2.1 gw_X2_70 rfl rfl rfl ⟨rfl, gnX2_word_2⟩ ⟨Nat.le_of_ble_eq_true rfl, Nat.le_of_ble_eq_true rfl⟩) (c_preV E hS ci_3 (sK hS (by decide) rfl) (hS.1.lt (sK hS (by decide) rfl) rfl) _) rfl rfl hl.1 rfl (lv_room (Nat.le_of_ble_eq_true rfl)) dX2_all_123 (rm_a hcs hge hup)) hup (fun ho H locs hS hn => ?_) (fun r33 ho H locs hS hn => ?_)
    · subst ho
      have hcs := rm_a2 hcs hge
      exact x_out E hnx hlk hS (rm_e ⟨Nat.le_trans hcs.1 hS.2.2.2.2.1, Nat.le_trans hcs.2 hS.2.2.2.2.2⟩) (xm_n hf)
    subst ho
    have hcs := rm_a2 hcs hge
    have hf := xm_s hf
    obtain ⟨q36, hr9, hf⟩ := bo_s hf
    refine c_dr hr9 ?_
    refine lv_astore_n (lv' := [(2, .ref (ad q36)), (0, .ref (ad 9)), (1, .int x1)]) E.1 hb dX2_all_126 rfl hl (by decide) rfl (fun ls hl => ?_)
    refine lv_aload_n E.1 hb dX2_all_127 rfl (lv_at hl 1 rfl) ?_
    refine lv_aload_n E.1 hb dX2_all_128 rfl (lv_at hl 0 rfl) ?_
    refine lv_aload_n E.1 hb dX2_all_129 rfl (lv_at hl 1 rfl) ?_
    refine c_gI (k := 3) (f := 303) E hb hS ci_3 (sK hS (by decide) rfl) rfl rfl rfl fk_X2_61_X2 (fun _ h => h) dX2_all_130 ?_
    obtain ⟨o39, A38, h1, hge, hup, hf⟩ := bxa_s hf
    refine x_ki hS (vx_runV ⟨E.1, hb, hml, E.2.1, E.2.2.1⟩ (zX2_places h1) (cwV 2 E.2.2.1 gw_X2_137 rfl rfl rfl ⟨rfl, gnX2_places⟩ ⟨Nat.le_of_ble_eq_true rfl, Nat.le_of_ble_eq_true rfl⟩) (c_preV E hS ci_3 (sK hS (by decide) rfl) (hS.1.lt (sK hS (by decide) rfl) rfl) _) rfl rfl hl.1 rfl (lv_room (Nat.le_of_ble_eq_true rfl)) dX2_all_133 (rm_a hcs hge hup)) hup (fun ho H locs hS hn => ?_) (fun r37 ho H locs hS hn => ?_)
    · subst ho
      have hcs := rm_a2 hcs hge
      exact x_out E hnx hlk hS (rm_e ⟨Nat.le_trans hcs.1 hS.2.2.2.2.1, Nat.le_trans hcs.2 hS.2.2.2.2.2⟩) (xm_n hf)
    subst ho
    have hcs := rm_a2 hcs hge
    have hf := xm_s hf
    refine lv_if_ne (tgt := 148) E.1 hb dX2_all_136 (by decide) (fun hc => ?_) (fun hc => ?_)
    · have hf := if_s hc hf
      exact hB148 k76 hk76 A38 hf _ _ _ _ hcs hS _ (lv_sub hl [1, 2] rfl)
    · have hf := it_s hc hf
      refine lv_aload_n E.1 hb dX2_all_139 rfl (lv_at hl 1 rfl) ?_
      refine lv_aload_n E.1 hb dX2_all_140 rfl (lv_at hl 0 rfl) ?_
      refine lv_aload_n E.1 hb dX2_all_141 rfl (lv_at hl 1 rfl) ?_
      refine c_gI (k := 3) (f := 303) E hb hS ci_3 (sK hS (by decide) rfl) rfl rfl rfl fk_X2_61_X2 (fun _ h => h) dX2_all_142 ?_
      obtain ⟨o43, A42, h1, hge, hup, hf⟩ := bxa_s hf
      refine x_kv hS (vx_runV ⟨E.1, hb, hml, E.2.1, E.2.2.1⟩ (zX2_more h1) (cwV 2 E.2.2.1 gw_X2_141 rfl rfl rfl ⟨rfl, gnX2_more⟩ ⟨Nat.le_of_ble_eq_true rfl, Nat.le_of_ble_eq_true rfl⟩) (c_preV E hS ci_3 (sK hS (by decide) rfl) (hS.1.lt (sK hS (by decide) rfl) rfl) _) rfl rfl hl.1 rfl (lv_room (Nat.le_of_ble_eq_true rfl)) dX2_all_145 (rm_a hcs hge hup)) hup (fun ho H locs hS hn => ?_) (fun _ ho H locs hS hn => ?_)
      · subst ho
        have hcs := rm_a2 hcs hge
        exact x_out E hnx hlk hS (rm_e ⟨Nat.le_trans hcs.1 hS.2.2.2.2.1, Nat.le_trans hcs.2 hS.2.2.2.2.2⟩) (xm_n hf)
      subst ho
      have hcs := rm_a2 hcs hge
      have hf := xm_s hf
      exact hB148 k76 hk76 A42 hf _ _ _ _ hcs hS _ (lv_sub hl [1, 2] rfl)
  have hL76 : ∀ (n : Nat) (A : AH), rn1 (X2_all_b76 N x1) n A = some (o, A') → ∀ (H : Heap) (locs : List Loc) (cells slots : Nat), aN A0 + cells ≤ aN A ∧ aS A0 + slots ≤ aS A →  cS dC dI ac ad True s.heap (aN A0) (aS A0) (aN A') (aS A') A H locs → ∀ (ls : Array Slot), lv_has ls 3 [(0, .ref (ad 9)), (1, .int x1)] → W p l e { frames := 1013, cells := aN A' - aN A0, slots := aS A' - aS A0, locals := 21983 } s m args below meth c H locs cells slots (vx_MQ below (cQxq dC dI ac ad True (aN A0) (aS A0) (aN A') (aS A') o A') (cXC dC dI ac ad True (aN A0) (aS A0) (aN A') (aS A') o A') args s (aN A' - aN A0) (aS A' - aS A0) (cF ad)) (F0 m 76 ls []) := by
    intro  n
    induction n with
    | zero =>
      intro A hf
      cases hf
    | succ n ih =>
      intro A hf H locs cells slots hcs hS ls hl
      have hf : X2_all_b76 N x1 (rn1 (X2_all_b76 N x1) n) A = some (o, A') := hf
      have hk76 := ih
      generalize rn1 (X2_all_b76 N x1) n = k76 at hf hk76
      unfold X2_all_b76 at hf
      refine lv_aload_n E.1 hb dX2_all_76 rfl (lv_at hl 0 rfl) ?_
      obtain ⟨r23, A24, h1, hf⟩ := bd_s hf
      refine c_ki hS (va_runV ⟨E.1, hb, hml, E.2.1, E.2.2.1⟩ (zX2_here h1) (cwV 0 E.2.2.1 gw_X2_43 rfl rfl rfl ⟨rfl, gnX2_here⟩ ⟨Nat.le_of_ble_eq_true rfl, Nat.le_of_ble_eq_true rfl⟩) (c_preV E hS ci_3 (sK hS (by decide) rfl) (hS.1.lt (sK hS (by decide) rfl) rfl) _) rfl rfl hl.1 rfl (lv_room (Nat.le_of_ble_eq_true rfl)) dX2_all_77 (rm_n hcs hS.2.2.2.2)) hS.2.2.2.2 (fun H locs hS hn => ?_)
      have hcs := rm_n2 hcs hn
      refine lv_iconst (v := (-1)) E.1 hb dX2_all_80 rfl ?_
      refine lv_icmp_eq (tgt := 157) E.1 hb dX2_all_81 (by decide) (fun hc => ?_) (fun hc => ?_)
      · have hf := it_s hc hf
        refine lv_aload_n E.1 hb dX2_all_157 rfl (lv_at hl 0 rfl) ?_
        obtain ⟨q25, hr7, hf⟩ := bo_s hf
        refine c_gN (k := 6) (f := 306) E hb hS ci_3 (sK hS (by decide) rfl) rfl rfl rfl hr7 fk_X2_100_X2 (fun _ h => h) dX2_all_158 ?_
        exact x_ar E hb hr (Or.inl ⟨_, rfl⟩) hlk hS (rm_e ⟨Nat.le_trans hcs.1 hS.2.2.2.2.1, Nat.le_trans hcs.2 hS.2.2.2.2.2⟩) (v := (some q25)) hf dX2_all_161
      · have hf := if_s hc hf
        refine lv_aload_n E.1 hb dX2_all_84 rfl (lv_at hl 0 rfl) ?_
        refine lv_aload_n E.1 hb dX2_all_85 rfl (lv_at hl 0 rfl) ?_
        obtain ⟨q26, hr7, hf⟩ := bo_s hf
        refine c_gN (k := 6) (f := 306) E hb hS ci_3 (sK hS (by decide) rfl) rfl rfl rfl hr7 fk_X2_100_X2 (fun _ h => h) dX2_all_86 ?_
        obtain ⟨hk, hf⟩ := gI_s hf
        refine c_gI (k := 0) (f := 200) E hb hS ci_2 hk rfl rfl rfl fk_X2_130_X1 (fun _ h => h) dX2_all_89 ?_
        refine lv_bipush (v := 80) E.1 hb dX2_all_92 rfl ?_
        refine lv_icmp_ne (tgt := 101) E.1 hb dX2_all_94 (by decide) (fun hc => ?_) (fun hc => ?_)
        · have hf := if_s hc hf
          refine lv_iconst (v := 0) E.1 hb dX2_all_101 rfl ?_
          exact hB102 k76 hk76 A24 0 hf _ _ _ _ hcs hS _ (lv_sub hl [0, 1] rfl)
        · have hf := it_s hc hf
          refine lv_iconst (v := 1) E.1 hb dX2_all_97 rfl ?_
          refine lv_goto (tgt := 102) E.1 hb dX2_all_98 (by decide) ?_
          exact hB102 k76 hk76 A24 1 hf _ _ _ _ hcs hS _ (lv_sub hl [0, 1] rfl)
  refine lv_aload_n E.1 hb dX2_all_0 rfl (lv_at hl 0 rfl) ?_
  obtain ⟨A1, hn9, hw, hf⟩ := nwO_s hf
  obtain ⟨hck, hf⟩ := ck_s hf
  refine c_new E hb hS hcs ci_2 dv_2 q582 q199 q153 hn9 hw hck (rm_up _ _ _ _) dX2_all_1 (fun H cells slots hS hcs => ?_)
  refine lv_dup E.1 hb dX2_all_4 rfl ?_
  obtain ⟨_, A2, h1, hge, hup, hf⟩ := bda_s hf
  refine c_kv hS (va_runIN ⟨E.1, hb, hml, E.2.1, E.2.2.1⟩ (zX1_init h1) ⟨va_cnB 0 E.2.2.1 (lw_meth q202) rfl rfl rfl (E.2.2.2.2.1 _ q583 rfl) (E.2.2.1 _ q153) gnX1_init ⟨Nat.le_of_ble_eq_true rfl, Nat.le_of_ble_eq_true rfl⟩, rfl, E.2.2.1 _ q201⟩ (c_preS E hS _) rfl rfl hl.1 rfl (lv_room (Nat.le_of_ble_eq_true rfl)) dX2_all_5 (rm_a hcs hge hup)) hup (fun H locs hS hn => ?_)
  have hcs := rm_a2 hcs hge
  obtain ⟨A3, hw, hf⟩ := lt2_s hf
  refine c_pR (k := 6) (f := 306) (r := (some (aN A0))) E hb hS ci_3 (sK hS (by decide) rfl) (hS.1.lt (sK hS (by decide) rfl) rfl) rfl rfl (fun _ => rfl) (Or.inl rfl) fk_X2_100_X2 (fun _ h => h) (fun q => by cases q <;> exact ⟨rfl, rfl⟩) hw dX2_all_8 (fun H locs hS => ?_)
  have hcs := rm_w (A2 := A3) hcs (by rw [hw]; exact ⟨rfl, rfl⟩)
  refine lv_aload_n E.1 hb dX2_all_11 rfl (lv_at hl 0 rfl) ?_
  refine lv_iload_n E.1 hb dX2_all_12 rfl (lv_at hl 1 rfl) ?_
  obtain ⟨A4, hw, hf⟩ := lt2_s hf
  refine c_pI (k := 1) (f := 301) E hb hS ci_3 (sK hS (by decide) rfl) (hS.1.lt (sK hS (by decide) rfl) rfl) rfl rfl (Or.inl rfl) fk_X2_29_X2 (fun _ h => h) rfl rfl hw dX2_all_13 (fun H locs hS => ?_)
  have hcs := rm_w (A2 := A4) hcs (by rw [hw]; exact ⟨rfl, rfl⟩)
  refine lv_aload_n E.1 hb dX2_all_16 rfl (lv_at hl 0 rfl) ?_
  refine lv_iconst (v := 0) E.1 hb dX2_all_17 rfl ?_
  obtain ⟨A5, hw, hf⟩ := lt2_s hf
  refine c_pI (k := 2) (f := 302) E hb hS ci_3 (sK hS (by decide) rfl) (hS.1.lt (sK hS (by decide) rfl) rfl) rfl rfl (Or.inl rfl) fk_X2_36_X2 (fun _ h => h) rfl rfl hw dX2_all_18 (fun H locs hS => ?_)
  have hcs := rm_w (A2 := A5) hcs (by rw [hw]; exact ⟨rfl, rfl⟩)
  refine lv_aload_n E.1 hb dX2_all_21 rfl (lv_at hl 0 rfl) ?_
  refine lv_iconst (v := 0) E.1 hb dX2_all_22 rfl ?_
  obtain ⟨A6, hw, hf⟩ := lt2_s hf
  refine c_pI (k := 4) (f := 304) E hb hS ci_3 (sK hS (by decide) rfl) (hS.1.lt (sK hS (by decide) rfl) rfl) rfl rfl (Or.inl rfl) fk_X2_117_X2 (fun _ h => h) rfl rfl hw dX2_all_23 (fun H locs hS => ?_)
  have hcs := rm_w (A2 := A6) hcs (by rw [hw]; exact ⟨rfl, rfl⟩)
  refine lv_aload_n E.1 hb dX2_all_26 rfl (lv_at hl 0 rfl) ?_
  refine c_ldc E hb 0 rfl dX2_all_27 ?_
  obtain ⟨o8, A7, h1, hge, hup, hf⟩ := bxa_s hf
  refine x_kv hS (vx_runV ⟨E.1, hb, hml, E.2.1, E.2.2.1⟩ (zX2_word h1) (cwV 1 E.2.2.1 gw_X2_93 rfl rfl rfl ⟨rfl, gnX2_word⟩ ⟨Nat.le_of_ble_eq_true rfl, Nat.le_of_ble_eq_true rfl⟩) (c_preV E hS ci_3 (sK hS (by decide) rfl) (hS.1.lt (sK hS (by decide) rfl) rfl) _) rfl rfl hl.1 rfl (lv_room (Nat.le_of_ble_eq_true rfl)) dX2_all_29 (rm_a hcs hge hup)) hup (fun ho H locs hS hn => ?_) (fun _ ho H locs hS hn => ?_)
  · subst ho
    have hcs := rm_a2 hcs hge
    exact x_out E hnx hlk hS (rm_e ⟨Nat.le_trans hcs.1 hS.2.2.2.2.1, Nat.le_trans hcs.2 hS.2.2.2.2.2⟩) (xm_n hf)
  subst ho
  have hcs := rm_a2 hcs hge
  have hf := xm_s hf
  refine lv_aload_n E.1 hb dX2_all_32 rfl (lv_at hl 0 rfl) ?_
  obtain ⟨q9, hr7, hf⟩ := bo_s hf
  refine c_gN (k := 6) (f := 306) E hb hS ci_3 (sK hS (by decide) rfl) rfl rfl rfl hr7 fk_X2_100_X2 (fun _ h => h) dX2_all_33 ?_
  refine lv_aload_n E.1 hb dX2_all_36 rfl (lv_at hl 0 rfl) ?_
  refine lv_iconst (v := 1) E.1 hb dX2_all_37 rfl ?_
  refine lv_bipush (v := 6) E.1 hb dX2_all_38 rfl ?_
  obtain ⟨o12, A11, h1, hf⟩ := bx_s hf
  refine x_ki hS (vx_runV ⟨E.1, hb, hml, E.2.1, E.2.2.1⟩ (zX2_number h1) (cwV 2 E.2.2.1 gw_X2_96 rfl rfl rfl ⟨rfl, gnX2_number⟩ ⟨Nat.le_of_ble_eq_true rfl, Nat.le_of_ble_eq_true rfl⟩) (c_preV E hS ci_3 (sK hS (by decide) rfl) (hS.1.lt (sK hS (by decide) rfl) rfl) _) rfl rfl hl.1 rfl (lv_room (Nat.le_of_ble_eq_true rfl)) dX2_all_40 (rm_n hcs hS.2.2.2.2)) hS.2.2.2.2 (fun ho H locs hS hn => ?_) (fun r10 ho H locs hS hn => ?_)
  · subst ho
    have hcs := rm_n2 hcs hn
    exact x_out E hnx hlk hS (rm_e ⟨Nat.le_trans hcs.1 hS.2.2.2.2.1, Nat.le_trans hcs.2 hS.2.2.2.2.2⟩) (xm_n hf)
  subst ho
  have hcs := rm_n2 hcs hn
  have hf := xm_s hf
  obtain ⟨A13, hk, hw, hf⟩ := pI_s hf
  refine c_pI (k := 1) (f := 201) E hb hS ci_2 hk (hS.1.lt hk rfl) rfl rfl (Or.inl rfl) fk_X2_104_X1 (fun _ h => h) rfl rfl hw dX2_all_43 (fun H locs hS => ?_)
  have hcs := rm_w (A2 := A13) hcs (by rw [hw]; exact ⟨rfl, rfl⟩)
  refine lv_aload_n E.1 hb dX2_all_46 rfl (lv_at hl 0 rfl) ?_
  obtain ⟨q14, hr7, hf⟩ := bo_s hf
  refine c_gN (k := 6) (f := 306) E hb hS ci_3 (sK hS (by decide) rfl) rfl rfl rfl hr7 fk_X2_100_X2 (fun _ h => h) dX2_all_47 ?_
  refine lv_aload_n E.1 hb dX2_all_50 rfl (lv_at hl 0 rfl) ?_
  refine c_ldc E hb 1 rfl dX2_all_51 ?_
  refine lv_iconst (v := 2) E.1 hb dX2_all_53 rfl ?_
  refine lv_bipush (v := 8) E.1 hb dX2_all_54 rfl ?_
  obtain ⟨o17, A16, h1, hge, hup, hf⟩ := bxa_s hf
  refine x_ki hS (vx_runV ⟨E.1, hb, hml, E.2.1, E.2.2.1⟩ (zX2_number_2 h1) (cwV 3 E.2.2.1 gw_X2_123 rfl rfl rfl ⟨rfl, gnX2_number_2⟩ ⟨Nat.le_of_ble_eq_true rfl, Nat.le_of_ble_eq_true rfl⟩) (c_preV E hS ci_3 (sK hS (by decide) rfl) (hS.1.lt (sK hS (by decide) rfl) rfl) _) rfl rfl hl.1 rfl (lv_room (Nat.le_of_ble_eq_true rfl)) dX2_all_56 (rm_a hcs hge hup)) hup (fun ho H locs hS hn => ?_) (fun r15 ho H locs hS hn => ?_)
  · subst ho
    have hcs := rm_a2 hcs hge
    exact x_out E hnx hlk hS (rm_e ⟨Nat.le_trans hcs.1 hS.2.2.2.2.1, Nat.le_trans hcs.2 hS.2.2.2.2.2⟩) (xm_n hf)
  subst ho
  have hcs := rm_a2 hcs hge
  have hf := xm_s hf
  obtain ⟨A18, hk, hw, hf⟩ := pI_s hf
  refine c_pI (k := 2) (f := 202) E hb hS ci_2 hk (hS.1.lt hk rfl) rfl rfl (Or.inl rfl) fk_X2_109_X1 (fun _ h => h) rfl rfl hw dX2_all_59 (fun H locs hS => ?_)
  have hcs := rm_w (A2 := A18) hcs (by rw [hw]; exact ⟨rfl, rfl⟩)
  refine lv_aload_n E.1 hb dX2_all_62 rfl (lv_at hl 0 rfl) ?_
  refine lv_bipush (v := 59) E.1 hb dX2_all_63 rfl ?_
  obtain ⟨o20, A19, h1, hf⟩ := bx_s hf
  refine x_kv hS (vx_runV ⟨E.1, hb, hml, E.2.1, E.2.2.1⟩ (zX2_must h1) (cwV 1 E.2.2.1 gw_X2_126 rfl rfl rfl ⟨rfl, gnX2_must⟩ ⟨Nat.le_of_ble_eq_true rfl, Nat.le_of_ble_eq_true rfl⟩) (c_preV E hS ci_3 (sK hS (by decide) rfl) (hS.1.lt (sK hS (by decide) rfl) rfl) _) rfl rfl hl.1 rfl (lv_room (Nat.le_of_ble_eq_true rfl)) dX2_all_65 (rm_n hcs hS.2.2.2.2)) hS.2.2.2.2 (fun ho H locs hS hn => ?_) (fun _ ho H locs hS hn => ?_)
  · subst ho
    have hcs := rm_n2 hcs hn
    exact x_out E hnx hlk hS (rm_e ⟨Nat.le_trans hcs.1 hS.2.2.2.2.1, Nat.le_trans hcs.2 hS.2.2.2.2.2⟩) (xm_n hf)
  subst ho
  have hcs := rm_n2 hcs hn
  have hf := xm_s hf
  refine lv_aload_n E.1 hb dX2_all_68 rfl (lv_at hl 0 rfl) ?_
  obtain ⟨q21, hr7, hf⟩ := bo_s hf
  refine c_gN (k := 6) (f := 306) E hb hS ci_3 (sK hS (by decide) rfl) rfl rfl rfl hr7 fk_X2_100_X2 (fun _ h => h) dX2_all_69 ?_
  refine lv_iconst (v := 1) E.1 hb dX2_all_72 rfl ?_
  obtain ⟨A22, hk, hw, hf⟩ := pI_s hf
  refine c_pI (k := 0) (f := 200) E hb hS ci_2 hk (hS.1.lt hk rfl) rfl rfl (Or.inl rfl) fk_X2_130_X1 (fun _ h => h) rfl rfl hw dX2_all_73 (fun H locs hS => ?_)
  have hcs := rm_w (A2 := A22) hcs (by rw [hw]; exact ⟨rfl, rfl⟩)
  exact hL76 N A22 hf _ _ _ _ hcs hS _ (lv_sub hl [0, 1] rfl)
theorem fk_X0_157_X1 : FLk RX0 157 "MarginFolk$Folio" (TX1 10).2.1 (TX1 10).2.2.1 := Or.inr ⟨_, q258⟩
theorem gw_X0_161 : GoodIn lw_all (va_wsF RX0 161 "java/util/ArrayList" ⟨"java/util/List", "size", "()I"⟩ yJ2_size (ws_ yJ2_size cJ2_size 1 (some .int))) := lw_F q1236 q800 q802 q156 q804
/-! MarginFolk.beings()I: RO -/
noncomputable def X0_beings (A : AH) : Option Int32 :=
  bo (aR A 100 0 0) fun q1 => bo (gN 2 A 210 q1) fun q2 => if aK A q2 = 18 then ( bo (J2_size A q2) fun r3 => some r3) else none
abbrev rX0_beings : Room := { frames := 1, cells := 0, slots := 0, locals := 20 }
set_option maxHeartbeats 4000000 in
theorem zX0_beings {l : Launch} {dC : Nat → ClassId} {dI : Nat → Nat → Nat} {ac : Nat → ClassId} {ad : Nat → Nat} {A : AH} {r : Int32} (hf : X0_beings A = some r) : Met l yX0_beings (ws_ yX0_beings cX0_beings 1 (some .int)) { frames := 1, cells := 0, slots := 0, locals := 20 } (va_Pc [.ref (ad 0)] (cPre dC dI ac ad True A)) (cQi dC dI ac ad True (aN A) (aS A) (aN A) (aS A) r A) 0 0 (cF ad) := by
  unfold X0_beings at hf
  refine c_of ⟨Nat.le_refl _, Nat.le_refl _⟩ RX0 (plainFor_of_name (by decide)) rfl (Nat.le_of_ble_eq_true rfl) ?_
  intro p e s m args below meth c E hb hr hlk hnm hml hS ls hl
  have hl : lv_has ls 1 [(0, .ref (ad 0))] := hl
  refine lv_aload_n E.1 hb dX0_beings_0 rfl (lv_at hl 0 rfl) ?_
  obtain ⟨q1, hr7, hf⟩ := bo_s hf
  refine c_gN (k := 0) (f := 100) E hb hS ci_1 (sK hS (by decide) rfl) rfl rfl rfl hr7 fk_X0_31_X0 (fun _ h => h) dX0_beings_1 ?_
  obtain ⟨q2, hk, hf⟩ := gN_s hf
  refine c_gN (k := 10) (f := 210) E hb hS ci_2 hk.1 rfl rfl rfl hk.2 fk_X0_157_X1 (fun _ h => h) dX0_beings_4 ?_
  obtain ⟨hkr, hf⟩ := gu_s hf
  obtain ⟨r3, h1, hf⟩ := bo_s hf
  refine c_kFi hS (va_runF (E.2.2.2.1.1 17 _ ci_18.1).2 ⟨E.1, hb, hml, E.2.1, E.2.2.1⟩ (zJ2_size h1) (va_cwF 0 E.2.2.1 gw_X0_161 rfl rfl rfl (cFw E 0 rfl) gx_size ⟨Nat.le_of_ble_eq_true rfl, Nat.le_of_ble_eq_true rfl⟩) (c_preV E hS ci_18 hkr (hS.1.lt hkr rfl) _) rfl rfl hl.1 rfl (lv_room (Nat.le_of_ble_eq_true rfl)) dX0_beings_7 ⟨Nat.le_refl 0, Nat.le_refl 0⟩) hS.2.2.2.2 (fun H locs hS hn => ?_)
  exact c_ir E hb hr hlk hS ⟨Nat.le_refl 0, Nat.le_refl 0⟩ (ro_s hf) dX0_beings_12
theorem gw_X0_175 : GoodIn lw_all (va_wsF RX0 175 "java/util/ArrayList" ⟨"java/util/List", "get", "(I)Ljava/lang/Object;"⟩ yJ2_get (ws_ yJ2_get cJ2_get 2 (some (.object "java/lang/Object")))) := lw_F q1242 q809 q811 q156 q813
/-! MarginFolk.beingOf(I)LMarginFolk$Being;: RO -/
noncomputable def X0_beingOf (A : AH) (x1 : Int32) : Option (Option Nat) :=
  bo (aR A 100 0 0) fun q1 => bo (gN 2 A 210 q1) fun q2 => if aK A q2 = 18 then ( bo (J2_get A q2 x1) fun r3 => bo r3 fun q4 => if aK A q4 = 7 then (some (some q4)) else none) else none
abbrev rX0_beingOf : Room := { frames := 3, cells := 0, slots := 0, locals := 64 }
set_option maxHeartbeats 4000000 in
theorem zX0_beingOf {l : Launch} {dC : Nat → ClassId} {dI : Nat → Nat → Nat} {ac : Nat → ClassId} {ad : Nat → Nat} {A : AH} {x1 : Int32} {r : Option Nat} (hf : X0_beingOf A x1 = some r) : Met l yX0_beingOf (ws_ yX0_beingOf cX0_beingOf 2 (some (.object "MarginFolk$Being"))) { frames := 3, cells := 0, slots := 0, locals := 64 } (va_Pc [.ref (ad 0), .int x1] (cPre dC dI ac ad True A)) (cQq dC dI ac ad True (aN A) (aS A) (aN A) (aS A) r A) 0 0 (cF ad) := by
  unfold X0_beingOf at hf
  refine c_of ⟨Nat.le_refl _, Nat.le_refl _⟩ RX0 (plainFor_of_name (by decide)) rfl (Nat.le_of_ble_eq_true rfl) ?_
  intro p e s m args below meth c E hb hr hlk hnm hml hS ls hl
  have hl : lv_has ls 2 [(0, .ref (ad 0)), (1, .int x1)] := hl
  refine lv_aload_n E.1 hb dX0_beingOf_0 rfl (lv_at hl 0 rfl) ?_
  obtain ⟨q1, hr7, hf⟩ := bo_s hf
  refine c_gN (k := 0) (f := 100) E hb hS ci_1 (sK hS (by decide) rfl) rfl rfl rfl hr7 fk_X0_31_X0 (fun _ h => h) dX0_beingOf_1 ?_
  obtain ⟨q2, hk, hf⟩ := gN_s hf
  refine c_gN (k := 10) (f := 210) E hb hS ci_2 hk.1 rfl rfl rfl hk.2 fk_X0_157_X1 (fun _ h => h) dX0_beingOf_4 ?_
  refine lv_iload_n E.1 hb dX0_beingOf_7 rfl (lv_at hl 1 rfl) ?_
  obtain ⟨hkr, hf⟩ := gu_s hf
  obtain ⟨r3, h1, hf⟩ := bo_s hf
  refine c_kFq hS (va_runF (E.2.2.2.1.1 17 _ ci_18.1).2 ⟨E.1, hb, hml, E.2.1, E.2.2.1⟩ (zJ2_get h1) (va_cwF 1 E.2.2.1 gw_X0_175 rfl rfl rfl (cFw E 1 rfl) gx_get ⟨Nat.le_of_ble_eq_true rfl, Nat.le_of_ble_eq_true rfl⟩) (c_preV E hS ci_18 hkr (hS.1.lt hkr rfl) _) rfl rfl hl.1 rfl (lv_room (Nat.le_of_ble_eq_true rfl)) dX0_beingOf_8 ⟨Nat.le_refl 0, Nat.le_refl 0⟩) hS.2.2.2.2 (fun H locs hS hn => ?_)
  obtain ⟨q4, hr9, hf⟩ := bo_s hf
  refine c_dr hr9 ?_
  obtain ⟨hg, hf⟩ := gu_s hf
  refine c_castS E hb hS ci_7 rfl hg q1243 dX0_beingOf_13 ?_
  exact c_ar E hb hr (Or.inl ⟨_, rfl⟩) hlk hS ⟨Nat.le_refl 0, Nat.le_refl 0⟩ (v := (some q4)) (ro_s hf) dX0_beingOf_16
theorem gnX0_beings : yX0_beings.cls ≠ "java/lang/invoke/MethodHandle" ∧ yX0_beings.cls ≠ "java/lang/invoke/VarHandle" ∧ (parseMethodDescriptor yX0_beings.desc).map (fun d => d.parameters.length) = some 0 := by decide +kernel
theorem gnX0_beingOf : yX0_beingOf.cls ≠ "java/lang/invoke/MethodHandle" ∧ yX0_beingOf.cls ≠ "java/lang/invoke/VarHandle" ∧ (parseMethodDescriptor yX0_beingOf.desc).map (fun d => d.parameters.length) = some 1 := by decide +kernel
theorem fk_X5_61_X7 : FLk RX5 61 "MarginFolk$Being" (TX7 1).2.1 (TX7 1).2.2.1 := Or.inr ⟨_, q862⟩
theorem fk_X5_65_X7 : FLk RX5 65 "MarginFolk$Being" (TX7 2).2.1 (TX7 2).2.2.1 := Or.inr ⟨_, q865⟩
theorem fk_X5_46_X0 : FLk RX5 46 "MarginFolk" (TX0 0).2.1 (TX0 0).2.2.1 := Or.inr ⟨_, q473⟩
theorem fk_X5_50_X1 : FLk RX5 50 "MarginFolk$Folio" (TX1 6).2.1 (TX1 6).2.2.1 := Or.inr ⟨_, q246⟩
theorem fk_X5_39_X5 : FLk RX5 39 "MarginFolk$State" (TX5 0).2.1 (TX5 0).2.2.1 := Or.inl q425
theorem fk_X5_43_X5 : FLk RX5 43 "MarginFolk$State" (TX5 1).2.1 (TX5 1).2.2.1 := Or.inl q427
/-! MarginFolk$State.begins()V: RW -/
noncomputable def X5_begins_b44 (N : Nat) (x0 : Nat) (k44 : AH → Int32 → Option (Unit × AH)) (A : AH) (x1 : Int32) : Option (Unit × AH) :=
  bo (X0_beings A) fun r3 => if r3 ≤ x1 then (some ((), A)) else (bo (X0_beingOf A x1) fun r4 => bo r4 fun q5 => bo (gI 7 A 701 q5) fun v6 => bo (tI 8 31 A (x0 + 2) x1 v6) fun A7 => bo (X0_beingOf A7 x1) fun r8 => bo r8 fun q9 => bo (gI 7 A7 702 q9) fun v10 => bo (tI 8 31 A7 (x0 + 3) x1 v10) fun A11 => bo (tI 8 31 A11 (x0 + 4) x1 5) fun A12 => bo (tI 8 31 A12 (x0 + 5) x1 0) fun A13 => k44 A13 (x1 + 1))
noncomputable def X5_begins_b12 (N : Nat) (x0 : Nat) (k12 : AH → Int32 → Option (Unit × AH)) (A : AH) (x1 : Int32) : Option (Unit × AH) :=
  if 6 ≤ x1 then (rn2 (X5_begins_b44 N x0) N A 0) else (bo (aR A 100 0 0) fun q14 => bo (gN 2 A 206 q14) fun q15 => bo (dI_ 31 A q15 x1) fun v16 => bo (tI 6 31 A (x0 + 1) x1 v16) fun A17 => k12 A17 (x1 + 1))
noncomputable def X5_begins (N : Nat) (A0 : AH) (x0 : Nat) : Option (Unit × AH) :=
  if isStb x0 = true then (lt2 (wI A0 600 x0 0 0) fun A1 => lt2 (wI A1 601 x0 0 0) fun A2 => rn2 (X5_begins_b12 N x0) N A2 0) else none
abbrev rX5_begins : Room := { frames := 4, cells := 0, slots := 0, locals := 85 }
set_option maxHeartbeats 4000000 in
theorem zX5_begins {l : Launch} {dC : Nat → ClassId} {dI : Nat → Nat → Nat} {ac : Nat → ClassId} {ad : Nat → Nat} {N : Nat} {A0 : AH} {x0 : Nat} {A' : AH} (hf : X5_begins N A0 x0 = some ((), A')) : Met l yX5_begins (ws_ yX5_begins cX5_begins 2 none) { frames := 4, cells := 0, slots := 0, locals := 85 } (va_Pc [.ref (ad x0)] (cPre dC dI ac ad True A0)) (cQv dC dI ac ad True (aN A0) (aS A0) (aN A0) (aS A0) A') 0 0 (cF ad) := by
  unfold X5_begins at hf
  obtain ⟨hg0, hf⟩ := gu_s hf
  have hs0 := isSt_of hg0
  refine c_of ⟨Nat.le_refl _, Nat.le_refl _⟩ RX5 (plainFor_of_name (by decide)) rfl (Nat.le_of_ble_eq_true rfl) ?_
  intro p e s m args below meth c E hb hr hlk hnm hml hS ls hl
  have hl : lv_has ls 2 [(0, .ref (ad x0))] := hl
  have hL44 : ∀ (n : Nat) (A : AH) (x1 : Int32), rn2 (X5_begins_b44 N x0) n A x1 = some ((), A') → ∀ (H : Heap) (locs : List Loc), cS dC dI ac ad True s.heap (aN A0) (aS A0) (aN A0) (aS A0) A H locs → ∀ (ls : Array Slot), lv_has ls 2 [(0, .ref (ad x0)), (1, .int x1)] → W p l e rX5_begins s m args below meth c H locs 0 0 (MQ below (cQv dC dI ac ad True (aN A0) (aS A0) (aN A0) (aS A0) A') args s 0 0 (cF ad)) (F0 m 44 ls []) := by
    intro  n
    induction n with
    | zero =>
      intro A x1 hf
      cases hf
    | succ n ih =>
      intro A x1 hf H locs hS ls hl
      have hf : X5_begins_b44 N x0 (rn2 (X5_begins_b44 N x0) n) A x1 = some ((), A') := hf
      have hk44 := ih
      generalize rn2 (X5_begins_b44 N x0) n = k44 at hf hk44
      unfold X5_begins_b44 at hf
      refine lv_iload_n E.1 hb dX5_begins_44 rfl (lv_at hl 1 rfl) ?_
      refine lv_aload_n E.1 hb dX5_begins_45 rfl (lv_at hl 0 rfl) ?_
      refine c_gN (k := 10) (f := 610) (q := 0) E hb hS ci_6 (sK hS (st_K0 hs0).1 (st_K0 hs0).2) rfl rfl rfl (st_R0 (cst hS) hs0) fk_X5_3_X5 (fun _ h => h) dX5_begins_46 ?_
      obtain ⟨r3, h1, hf⟩ := bo_s hf
      refine c_ki hS (va_runVN ⟨E.1, hb, hml, E.2.1, E.2.2.1⟩ (zX0_beings h1) ⟨va_cnB 0 E.2.2.1 (lw_meth q1234) rfl rfl rfl (E.2.2.2.2.1 _ q1231 rfl) (E.2.2.1 _ q152) gnX0_beings ⟨Nat.le_of_ble_eq_true rfl, Nat.le_of_ble_eq_true rfl⟩, E.2.2.1 _ q1233, E.2.2.1 _ qs34⟩ (c_preV E hS ci_1 (sK hS (by decide) rfl) (hS.1.lt (sK hS (by decide) rfl) rfl) _) rfl rfl hl.1 rfl (lv_room (Nat.le_of_ble_eq_true rfl)) dX5_begins_49 ⟨Nat.le_refl 0, Nat.le_refl 0⟩) hS.2.2.2.2 (fun H locs hS hn => ?_)
      refine lv_icmp_ge (tgt := 109) E.1 hb dX5_begins_52 (by decide) (fun hc => ?_) (fun hc => ?_)
      · have hf := it_s hc hf
        exact c_vr E hb hr hlk hS ⟨Nat.le_refl 0, Nat.le_refl 0⟩ hf dX5_begins_109
      · have hf := if_s hc hf
        refine lv_aload_n E.1 hb dX5_begins_55 rfl (lv_at hl 0 rfl) ?_
        refine c_gN (k := 3) (f := 603) (q := (x0 + 2)) E hb hS ci_6 (sK hS (st_K0 hs0).1 (st_K0 hs0).2) rfl rfl rfl (st_R (cst hS) hs0 rfl (by decide)) fk_X5_19_X5 (fun _ h => h) dX5_begins_56 ?_
        refine lv_iload_n E.1 hb dX5_begins_59 rfl (lv_at hl 1 rfl) ?_
        refine lv_aload_n E.1 hb dX5_begins_60 rfl (lv_at hl 0 rfl) ?_
        refine c_gN (k := 10) (f := 610) (q := 0) E hb hS ci_6 (sK hS (st_K0 hs0).1 (st_K0 hs0).2) rfl rfl rfl (st_R0 (cst hS) hs0) fk_X5_3_X5 (fun _ h => h) dX5_begins_61 ?_
        refine lv_iload_n E.1 hb dX5_begins_64 rfl (lv_at hl 1 rfl) ?_
        obtain ⟨r4, h1, hf⟩ := bo_s hf
        refine c_kq hS (va_runVN ⟨E.1, hb, hml, E.2.1, E.2.2.1⟩ (zX0_beingOf h1) ⟨va_cnB 1 E.2.2.1 (lw_meth q1240) rfl rfl rfl (E.2.2.2.2.1 _ q1237 rfl) (E.2.2.1 _ q152) gnX0_beingOf ⟨Nat.le_of_ble_eq_true rfl, Nat.le_of_ble_eq_true rfl⟩, E.2.2.1 _ q1239, E.2.2.1 _ qs35⟩ (c_preV E hS ci_1 (sK hS (by decide) rfl) (hS.1.lt (sK hS (by decide) rfl) rfl) _) rfl rfl hl.1 rfl (lv_room (Nat.le_of_ble_eq_true rfl)) dX5_begins_65 ⟨Nat.le_refl 0, Nat.le_refl 0⟩) hS.2.2.2.2 (fun H locs hS hn => ?_)
        obtain ⟨q5, hr9, hf⟩ := bo_s hf
        refine c_dr hr9 ?_
        obtain ⟨hk, hf⟩ := gI_s hf
        refine c_gI (k := 1) (f := 701) E hb hS ci_7 hk rfl rfl rfl fk_X5_61_X7 (fun _ h => h) dX5_begins_68 ?_
        obtain ⟨A7, hg, hw, hf⟩ := tI_s hf
        refine s_st E hb hS (t := 31) (st_K hs0 2 (by decide)) hg (Or.inl ⟨rfl, rfl, rfl⟩) hw dX5_begins_71 (fun H locs hS => ?_)
        refine lv_aload_n E.1 hb dX5_begins_72 rfl (lv_at hl 0 rfl) ?_
        refine c_gN (k := 4) (f := 604) (q := (x0 + 3)) E hb hS ci_6 (sK hS (st_K0 hs0).1 (st_K0 hs0).2) rfl rfl rfl (st_R (cst hS) hs0 rfl (by decide)) fk_X5_22_X5 (fun _ h => h) dX5_begins_73 ?_
        refine lv_iload_n E.1 hb dX5_begins_76 rfl (lv_at hl 1 rfl) ?_
        refine lv_aload_n E.1 hb dX5_begins_77 rfl (lv_at hl 0 rfl) ?_
        refine c_gN (k := 10) (f := 610) (q := 0) E hb hS ci_6 (sK hS (st_K0 hs0).1 (st_K0 hs0).2) rfl rfl rfl (st_R0 (cst hS) hs0) fk_X5_3_X5 (fun _ h => h) dX5_begins_78 ?_
        refine lv_iload_n E.1 hb dX5_begins_81 rfl (lv_at hl 1 rfl) ?_
        obtain ⟨r8, h1, hf⟩ := bo_s hf
        refine c_kq hS (va_runVN ⟨E.1, hb, hml, E.2.1, E.2.2.1⟩ (zX0_beingOf h1) ⟨va_cnB 1 E.2.2.1 (lw_meth q1240) rfl rfl rfl (E.2.2.2.2.1 _ q1237 rfl) (E.2.2.1 _ q152) gnX0_beingOf ⟨Nat.le_of_ble_eq_true rfl, Nat.le_of_ble_eq_true rfl⟩, E.2.2.1 _ q1239, E.2.2.1 _ qs35⟩ (c_preV E hS ci_1 (sK hS (by decide) rfl) (hS.1.lt (sK hS (by decide) rfl) rfl) _) rfl rfl hl.1 rfl (lv_room (Nat.le_of_ble_eq_true rfl)) dX5_begins_82 ⟨Nat.le_refl 0, Nat.le_refl 0⟩) hS.2.2.2.2 (fun H locs hS hn => ?_)
        obtain ⟨q9, hr9, hf⟩ := bo_s hf
        refine c_dr hr9 ?_
        obtain ⟨hk, hf⟩ := gI_s hf
        refine c_gI (k := 2) (f := 702) E hb hS ci_7 hk rfl rfl rfl fk_X5_65_X7 (fun _ h => h) dX5_begins_85 ?_
        obtain ⟨A11, hg, hw, hf⟩ := tI_s hf
        refine s_st E hb hS (t := 31) (st_K hs0 3 (by decide)) hg (Or.inl ⟨rfl, rfl, rfl⟩) hw dX5_begins_88 (fun H locs hS => ?_)
        refine lv_aload_n E.1 hb dX5_begins_89 rfl (lv_at hl 0 rfl) ?_
        refine c_gN (k := 5) (f := 605) (q := (x0 + 4)) E hb hS ci_6 (sK hS (st_K0 hs0).1 (st_K0 hs0).2) rfl rfl rfl (st_R (cst hS) hs0 rfl (by decide)) fk_X5_25_X5 (fun _ h => h) dX5_begins_90 ?_
        refine lv_iload_n E.1 hb dX5_begins_93 rfl (lv_at hl 1 rfl) ?_
        refine lv_iconst (v := 5) E.1 hb dX5_begins_94 rfl ?_
        obtain ⟨A12, hg, hw, hf⟩ := tI_s hf
        refine s_st E hb hS (t := 31) (st_K hs0 4 (by decide)) hg (Or.inl ⟨rfl, rfl, rfl⟩) hw dX5_begins_95 (fun H locs hS => ?_)
        refine lv_aload_n E.1 hb dX5_begins_96 rfl (lv_at hl 0 rfl) ?_
        refine c_gN (k := 6) (f := 606) (q := (x0 + 5)) E hb hS ci_6 (sK hS (st_K0 hs0).1 (st_K0 hs0).2) rfl rfl rfl (st_R (cst hS) hs0 rfl (by decide)) fk_X5_28_X5 (fun _ h => h) dX5_begins_97 ?_
        refine lv_iload_n E.1 hb dX5_begins_100 rfl (lv_at hl 1 rfl) ?_
        refine lv_iconst (v := 0) E.1 hb dX5_begins_101 rfl ?_
        obtain ⟨A13, hg, hw, hf⟩ := tI_s hf
        refine s_st E hb hS (t := 31) (st_K hs0 5 (by decide)) hg (Or.inl ⟨rfl, rfl, rfl⟩) hw dX5_begins_102 (fun H locs hS => ?_)
        refine lv_iinc (v := (x1 + 1)) (lv' := [(1, .int (x1 + 1)), (0, .ref (ad x0))]) E.1 hb dX5_begins_103 hl (k := 1) rfl rfl (by decide) rfl (fun ls hl => ?_)
        refine lv_goto (tgt := 44) E.1 hb dX5_begins_106 (by decide) ?_
        exact hk44 A13 (x1 + 1) hf _ _ hS _ (lv_sub hl [1, 0] rfl)
  have hL12 : ∀ (n : Nat) (A : AH) (x1 : Int32), rn2 (X5_begins_b12 N x0) n A x1 = some ((), A') → ∀ (H : Heap) (locs : List Loc), cS dC dI ac ad True s.heap (aN A0) (aS A0) (aN A0) (aS A0) A H locs → ∀ (ls : Array Slot), lv_has ls 2 [(0, .ref (ad x0)), (1, .int x1)] → W p l e rX5_begins s m args below meth c H locs 0 0 (MQ below (cQv dC dI ac ad True (aN A0) (aS A0) (aN A0) (aS A0) A') args s 0 0 (cF ad)) (F0 m 12 ls []) := by
    intro  n
    induction n with
    | zero =>
      intro A x1 hf
      cases hf
    | succ n ih =>
      intro A x1 hf H locs hS ls hl
      have hf : X5_begins_b12 N x0 (rn2 (X5_begins_b12 N x0) n) A x1 = some ((), A') := hf
      have hk12 := ih
      generalize rn2 (X5_begins_b12 N x0) n = k12 at hf hk12
      unfold X5_begins_b12 at hf
      refine lv_iload_n E.1 hb dX5_begins_12 rfl (lv_at hl 1 rfl) ?_
      refine lv_bipush (v := 6) E.1 hb dX5_begins_13 rfl ?_
      refine lv_icmp_ge (tgt := 42) E.1 hb dX5_begins_15 (by decide) (fun hc => ?_) (fun hc => ?_)
      · have hf := it_s hc hf
        refine lv_iconst (v := 0) E.1 hb dX5_begins_42 rfl ?_
        refine lv_istore_n (lv' := [(1, .int 0), (0, .ref (ad x0))]) E.1 hb dX5_begins_43 rfl hl (by decide) rfl (fun ls hl => ?_)
        exact hL44 N A 0 hf _ _ hS _ (lv_sub hl [1, 0] rfl)
      · have hf := if_s hc hf
        refine lv_aload_n E.1 hb dX5_begins_18 rfl (lv_at hl 0 rfl) ?_
        refine c_gN (k := 2) (f := 602) (q := (x0 + 1)) E hb hS ci_6 (sK hS (st_K0 hs0).1 (st_K0 hs0).2) rfl rfl rfl (st_R (cst hS) hs0 rfl (by decide)) fk_X5_15_X5 (fun _ h => h) dX5_begins_19 ?_
        refine lv_iload_n E.1 hb dX5_begins_22 rfl (lv_at hl 1 rfl) ?_
        refine lv_aload_n E.1 hb dX5_begins_23 rfl (lv_at hl 0 rfl) ?_
        refine c_gN (k := 10) (f := 610) (q := 0) E hb hS ci_6 (sK hS (st_K0 hs0).1 (st_K0 hs0).2) rfl rfl rfl (st_R0 (cst hS) hs0) fk_X5_3_X5 (fun _ h => h) dX5_begins_24 ?_
        obtain ⟨q14, hr7, hf⟩ := bo_s hf
        refine c_gN (k := 0) (f := 100) E hb hS ci_1 (sK hS (by decide) rfl) rfl rfl rfl hr7 fk_X5_46_X0 (fun _ h => h) dX5_begins_27 ?_
        obtain ⟨q15, hk, hf⟩ := gN_s hf
        refine c_gN (k := 6) (f := 206) E hb hS ci_2 hk.1 rfl rfl rfl hk.2 fk_X5_50_X1 (fun _ h => h) dX5_begins_30 ?_
        refine lv_iload_n E.1 hb dX5_begins_33 rfl (lv_at hl 1 rfl) ?_
        obtain ⟨hg, hf⟩ := dI_s hf
        refine d_ld E hb hS hg rfl (Or.inl ⟨rfl, rfl⟩) dX5_begins_34 ?_
        obtain ⟨A17, hg, hw, hf⟩ := tI_s hf
        refine s_st E hb hS (t := 31) (st_K hs0 1 (by decide)) hg (Or.inl ⟨rfl, rfl, rfl⟩) hw dX5_begins_35 (fun H locs hS => ?_)
        refine lv_iinc (v := (x1 + 1)) (lv' := [(1, .int (x1 + 1)), (0, .ref (ad x0))]) E.1 hb dX5_begins_36 hl (k := 1) rfl rfl (by decide) rfl (fun ls hl => ?_)
        refine lv_goto (tgt := 12) E.1 hb dX5_begins_39 (by decide) ?_
        exact hk12 A17 (x1 + 1) hf _ _ hS _ (lv_sub hl [1, 0] rfl)
  refine lv_aload_n E.1 hb dX5_begins_0 rfl (lv_at hl 0 rfl) ?_
  refine lv_iconst (v := 0) E.1 hb dX5_begins_1 rfl ?_
  obtain ⟨A1, hw, hf⟩ := lt2_s hf
  refine c_pI (k := 0) (f := 600) E hb hS ci_6 (sK hS (st_K0 hs0).1 (st_K0 hs0).2) (hS.1.lt (sK hS (st_K0 hs0).1 (st_K0 hs0).2) rfl) rfl rfl (Or.inl rfl) fk_X5_39_X5 (fun _ h => h) rfl rfl hw dX5_begins_2 (fun H locs hS => ?_)
  refine lv_aload_n E.1 hb dX5_begins_5 rfl (lv_at hl 0 rfl) ?_
  refine lv_iconst (v := 0) E.1 hb dX5_begins_6 rfl ?_
  obtain ⟨A2, hw, hf⟩ := lt2_s hf
  refine c_pI (k := 1) (f := 601) E hb hS ci_6 (sK hS (st_K0 hs0).1 (st_K0 hs0).2) (hS.1.lt (sK hS (st_K0 hs0).1 (st_K0 hs0).2) rfl) rfl rfl (Or.inl rfl) fk_X5_43_X5 (fun _ h => h) rfl rfl hw dX5_begins_7 (fun H locs hS => ?_)
  refine lv_iconst (v := 0) E.1 hb dX5_begins_10 rfl ?_
  refine lv_istore_n (lv' := [(1, .int 0), (0, .ref (ad x0))]) E.1 hb dX5_begins_11 rfl hl (by decide) rfl (fun ls hl => ?_)
  exact hL12 N A2 0 hf _ _ hS _ (lv_sub hl [1, 0] rfl)
theorem fk_X0_123_X0 : FLk RX0 123 "MarginFolk" (TX0 3).2.1 (TX0 3).2.2.1 := Or.inl q478
theorem gw_X0_126 : GoodIn lw_all (wsV RX0 126 RX0 yX0_taken (ws_ yX0_taken cX0_taken 2 (some .int))) := lw_V q574 q576 qs3 q152 q577
theorem gnX0_taken : yX0_taken.cls ≠ "java/lang/invoke/MethodHandle" ∧ yX0_taken.cls ≠ "java/lang/invoke/VarHandle" ∧ (parseMethodDescriptor yX0_taken.desc).map (fun d => d.parameters.length) = some 0 := by decide +kernel
theorem gw_X0_130 : GoodIn lw_all (wsV RX0 130 RX2 yX2_all (ws_ yX2_all cX2_all 3 (some (.object "MarginFolk$Folio")))) := lw_V q578 q579 q580 q157 q581
theorem gnX2_all : yX2_all.cls ≠ "java/lang/invoke/MethodHandle" ∧ yX2_all.cls ≠ "java/lang/invoke/VarHandle" ∧ (parseMethodDescriptor yX2_all.desc).map (fun d => d.parameters.length) = some 1 := by decide +kernel
theorem fk_X0_136_X3 : FLk RX0 136 "MarginFolk$Fault" (TX3 6).2.1 (TX3 6).2.2.1 := Or.inr ⟨_, q357⟩
theorem fk_X0_139_X3 : FLk RX0 139 "MarginFolk$Fault" (TX3 7).2.1 (TX3 7).2.2.1 := Or.inr ⟨_, q359⟩
theorem gw_X0_142 : GoodIn lw_all (wsV RX0 142 RX5 yX5_begins (ws_ yX5_begins cX5_begins 2 none)) := lw_V q1227 q1228 q1229 q163 q1230
theorem gnX5_begins : yX5_begins.cls ≠ "java/lang/invoke/MethodHandle" ∧ yX5_begins.cls ≠ "java/lang/invoke/VarHandle" ∧ (parseMethodDescriptor yX5_begins.desc).map (fun d => d.parameters.length) = some 0 := by decide +kernel
theorem fk_X0_145_X0 : FLk RX0 145 "MarginFolk" (TX0 20).2.1 (TX0 20).2.2.1 := Or.inl q496
theorem fk_X0_148_X0 : FLk RX0 148 "MarginFolk" (TX0 15).2.1 (TX0 15).2.2.1 := Or.inl q491
theorem fk_X0_151_X1 : FLk RX0 151 "MarginFolk$Folio" (TX1 0).2.1 (TX1 0).2.2.1 := Or.inr ⟨_, q233⟩
/-! MarginFolk.folio()I: RW -/
noncomputable def X0_folio (N : Nat) (A0 : AH) : Option (Int32 × AH) :=
  ck A0 (lt2 (wI A0 103 0 0 0) fun A1 => lt2 (wI A1 104 0 0 (-1)) fun A2 => bd (X0_taken A2) fun r3 A4 => bda A4 (X2_all N A4 r3) fun o7 A6 => xh o7 A6 (fun A6 => (lt2 (wI A6 103 0 0 (aI A6 406 10 0)) fun A8 => lt2 (wI A8 104 0 0 (aI A8 407 10 0)) fun A9 => bd (X0_refuses A9 1) fun r10 A11 => some (r10, A11))) fun r5 A6 => bo r5 fun q12 => lt2 (wR A6 100 0 0 (some q12)) fun A13 => bd (X5_begins N A13 16) fun _ A14 => lt2 (wI A14 120 0 0 0) fun A15 => lt2 (wI A15 115 0 0 0) fun A16 => bo (aR A16 100 0 0) fun q17 => bo (gI 2 A16 200 q17) fun v18 => some (v18, A16))
set_option maxHeartbeats 4000000 in
theorem zX0_folio {l : Launch} {dC : Nat → ClassId} {dI : Nat → Nat → Nat} {ac : Nat → ClassId} {ad : Nat → Nat} {N : Nat} {A0 : AH} {r : Int32} {A' : AH} (hf : X0_folio N A0 = some (r, A')) : Met l yX0_folio (wsw_ yX0_folio cX0_folio 2 (some .int) [(10, 25, 28, 134)]) { frames := 1014, cells := aN A' - aN A0, slots := aS A' - aS A0, locals := 22005 } (va_Pc [.ref (ad 0)] (cPre dC dI ac ad True A0)) (cQi dC dI ac ad True (aN A0) (aS A0) (aN A') (aS A') r A') (aN A' - aN A0) (aS A' - aS A0) (cF ad) := by
  unfold X0_folio at hf
  obtain ⟨hck0, hf⟩ := ck_s hf
  refine c_ofw hck0 RX0 (by decide) rfl (Nat.le_of_ble_eq_true rfl) ?_
  intro p e s m args below meth c E hb hr hlk hnm hml htb hS ls hl
  have hl : lv_has ls 2 [(0, .ref (ad 0))] := hl
  have hcs : aN A0 + 0 ≤ aN A0 ∧ aS A0 + 0 ≤ aS A0 := ⟨Nat.le_refl _, Nat.le_refl _⟩
  refine lv_aload_n E.1 hb dX0_folio_0 rfl (lv_at hl 0 rfl) ?_
  refine lv_iconst (v := 0) E.1 hb dX0_folio_1 rfl ?_
  obtain ⟨A1, hw, hf⟩ := lt2_s hf
  refine c_pI (k := 3) (f := 103) E hb hS ci_1 (sK hS (by decide) rfl) (hS.1.lt (sK hS (by decide) rfl) rfl) rfl rfl (Or.inl rfl) fk_X0_123_X0 (fun _ h => h) rfl rfl hw dX0_folio_2 (fun H locs hS => ?_)
  have hcs := rm_w (A2 := A1) hcs (by rw [hw]; exact ⟨rfl, rfl⟩)
  refine lv_aload_n E.1 hb dX0_folio_5 rfl (lv_at hl 0 rfl) ?_
  refine lv_iconst (v := (-1)) E.1 hb dX0_folio_6 rfl ?_
  obtain ⟨A2, hw, hf⟩ := lt2_s hf
  refine c_pI (k := 4) (f := 104) E hb hS ci_1 (sK hS (by decide) rfl) (hS.1.lt (sK hS (by decide) rfl) rfl) rfl rfl (Or.inl rfl) fk_X0_39_X0 (fun _ h => h) rfl rfl hw dX0_folio_7 (fun H locs hS => ?_)
  have hcs := rm_w (A2 := A2) hcs (by rw [hw]; exact ⟨rfl, rfl⟩)
  refine lv_aload_n E.1 hb dX0_folio_10 rfl (lv_at hl 0 rfl) ?_
  refine lv_aload_n E.1 hb dX0_folio_11 rfl (lv_at hl 0 rfl) ?_
  refine c_gN (k := 5) (f := 105) (q := 9) E hb hS ci_1 (sK hS (by decide) rfl) rfl rfl rfl (sRf hS (by decide) rfl) fk_X0_48_X0 (fun _ h => h) dX0_folio_12 ?_
  refine lv_aload_n E.1 hb dX0_folio_15 rfl (lv_at hl 0 rfl) ?_
  obtain ⟨r3, A4, h1, hf⟩ := bd_s hf
  refine c_ki hS (va_runV ⟨E.1, hb, hml, E.2.1, E.2.2.1⟩ (zX0_taken h1) (cwV 0 E.2.2.1 gw_X0_126 rfl rfl rfl ⟨rfl, gnX0_taken⟩ ⟨Nat.le_of_ble_eq_true rfl, Nat.le_of_ble_eq_true rfl⟩) (c_preV E hS ci_1 (sK hS (by decide) rfl) (hS.1.lt (sK hS (by decide) rfl) rfl) _) rfl rfl hl.1 rfl (lv_room (Nat.le_of_ble_eq_true rfl)) dX0_folio_16 (rm_n hcs hS.2.2.2.2)) hS.2.2.2.2 (fun H locs hS hn => ?_)
  have hcs := rm_n2 hcs hn
  obtain ⟨o7, A6, h1, hge, hup, hf⟩ := bda_s hf
  refine x_kq hS (vx_runV ⟨E.1, hb, hml, E.2.1, E.2.2.1⟩ (zX2_all h1) (cwV 1 E.2.2.1 gw_X0_130 rfl rfl rfl ⟨rfl, gnX2_all⟩ ⟨Nat.le_of_ble_eq_true rfl, Nat.le_of_ble_eq_true rfl⟩) (c_preV E hS ci_3 (sK hS (by decide) rfl) (hS.1.lt (sK hS (by decide) rfl) rfl) _) rfl rfl hl.1 rfl (lv_room (Nat.le_of_ble_eq_true rfl)) dX0_folio_19 (rm_a hcs hge hup)) hup (fun ho H locs hS hn => ?_) (fun r5 ho H locs hS hn => ?_)
  · subst ho
    have hcs := rm_a2 hcs hge
    have hf := xh_n hf
    refine x_cat E htb hS q573 (by decide) (by decide) ?_
    refine lv_astore_n (lv' := [(1, .ref (ad 10)), (0, .ref (ad 0))]) E.1 hb dX0_folio_28 rfl hl (by decide) rfl (fun ls hl => ?_)
    refine lv_aload_n E.1 hb dX0_folio_29 rfl (lv_at hl 1 rfl) ?_
    refine lv_aload_n E.1 hb dX0_folio_30 rfl (lv_at hl 0 rfl) ?_
    refine c_gI (k := 6) (f := 406) E hb hS ci_4 (sK hS (by decide) rfl) rfl rfl rfl fk_X0_136_X3 (fun _ h => h) dX0_folio_31 ?_
    obtain ⟨A8, hw, hf⟩ := lt2_s hf
    refine c_pI (k := 3) (f := 103) E hb hS ci_1 (sK hS (by decide) rfl) (hS.1.lt (sK hS (by decide) rfl) rfl) rfl rfl (Or.inl rfl) fk_X0_123_X0 (fun _ h => h) rfl rfl hw dX0_folio_34 (fun H locs hS => ?_)
    have hcs := rm_w (A2 := A8) hcs (by rw [hw]; exact ⟨rfl, rfl⟩)
    refine lv_aload_n E.1 hb dX0_folio_37 rfl (lv_at hl 1 rfl) ?_
    refine lv_aload_n E.1 hb dX0_folio_38 rfl (lv_at hl 0 rfl) ?_
    refine c_gI (k := 7) (f := 407) E hb hS ci_4 (sK hS (by decide) rfl) rfl rfl rfl fk_X0_139_X3 (fun _ h => h) dX0_folio_39 ?_
    obtain ⟨A9, hw, hf⟩ := lt2_s hf
    refine c_pI (k := 4) (f := 104) E hb hS ci_1 (sK hS (by decide) rfl) (hS.1.lt (sK hS (by decide) rfl) rfl) rfl rfl (Or.inl rfl) fk_X0_39_X0 (fun _ h => h) rfl rfl hw dX0_folio_42 (fun H locs hS => ?_)
    have hcs := rm_w (A2 := A9) hcs (by rw [hw]; exact ⟨rfl, rfl⟩)
    refine lv_aload_n E.1 hb dX0_folio_45 rfl (lv_at hl 1 rfl) ?_
    refine lv_iconst (v := 1) E.1 hb dX0_folio_46 rfl ?_
    obtain ⟨r10, A11, h1, hf⟩ := bd_s hf
    refine c_ki hS (va_runV ⟨E.1, hb, hml, E.2.1, E.2.2.1⟩ (zX0_refuses h1) (cwV 1 E.2.2.1 gw_X0_115 rfl rfl rfl ⟨rfl, gnX0_refuses⟩ ⟨Nat.le_of_ble_eq_true rfl, Nat.le_of_ble_eq_true rfl⟩) (c_preV E hS ci_1 (sK hS (by decide) rfl) (hS.1.lt (sK hS (by decide) rfl) rfl) _) rfl rfl hl.1 rfl (lv_room (Nat.le_of_ble_eq_true rfl)) dX0_folio_47 (rm_n hcs hS.2.2.2.2)) hS.2.2.2.2 (fun H locs hS hn => ?_)
    have hcs := rm_n2 hcs hn
    exact c_ir E hb hr hlk hS (rm_e ⟨Nat.le_trans hcs.1 hS.2.2.2.2.1, Nat.le_trans hcs.2 hS.2.2.2.2.2⟩) hf dX0_folio_50
  subst ho
  have hcs := rm_a2 hcs hge
  have hf := xh_s hf
  obtain ⟨q12, hr9, hf⟩ := bo_s hf
  refine c_dr hr9 ?_
  obtain ⟨A13, hw, hf⟩ := lt2_s hf
  refine c_pR (k := 0) (f := 100) (r := (some q12)) E hb hS ci_1 (sK hS (by decide) rfl) (hS.1.lt (sK hS (by decide) rfl) rfl) rfl rfl (fun _ => rfl) (Or.inl rfl) fk_X0_31_X0 (fun _ h => h) (fun q => by cases q <;> exact ⟨rfl, rfl⟩) hw dX0_folio_22 (fun H locs hS => ?_)
  have hcs := rm_w (A2 := A13) hcs (by rw [hw]; exact ⟨rfl, rfl⟩)
  refine lv_goto (tgt := 51) E.1 hb dX0_folio_25 (by decide) ?_
  refine lv_aload_n E.1 hb dX0_folio_51 rfl (lv_at hl 0 rfl) ?_
  refine c_gN (k := 9) (f := 109) (q := 16) E hb hS ci_1 (sK hS (by decide) rfl) rfl rfl rfl (sRf hS (by decide) rfl) fk_X0_69_X0 (fun _ h => h) dX0_folio_52 ?_
  obtain ⟨_, A14, h1, hf⟩ := bd_s hf
  refine c_kv hS (va_runV ⟨E.1, hb, hml, E.2.1, E.2.2.1⟩ (zX5_begins h1) (cwV 0 E.2.2.1 gw_X0_142 rfl rfl rfl ⟨rfl, gnX5_begins⟩ ⟨Nat.le_of_ble_eq_true rfl, Nat.le_of_ble_eq_true rfl⟩) (c_preV E hS ci_6 (sK hS (by decide) rfl) (hS.1.lt (sK hS (by decide) rfl) rfl) _) rfl rfl hl.1 rfl (lv_room (Nat.le_of_ble_eq_true rfl)) dX0_folio_55 (rm_n hcs hS.2.2.2.2)) hS.2.2.2.2 (fun H locs hS hn => ?_)
  have hcs := rm_n2 hcs hn
  refine lv_aload_n E.1 hb dX0_folio_58 rfl (lv_at hl 0 rfl) ?_
  refine lv_iconst (v := 0) E.1 hb dX0_folio_59 rfl ?_
  obtain ⟨A15, hw, hf⟩ := lt2_s hf
  refine c_pI (k := 20) (f := 120) E hb hS ci_1 (sK hS (by decide) rfl) (hS.1.lt (sK hS (by decide) rfl) rfl) rfl rfl (Or.inl rfl) fk_X0_145_X0 (fun _ h => h) rfl rfl hw dX0_folio_60 (fun H locs hS => ?_)
  have hcs := rm_w (A2 := A15) hcs (by rw [hw]; exact ⟨rfl, rfl⟩)
  refine lv_aload_n E.1 hb dX0_folio_63 rfl (lv_at hl 0 rfl) ?_
  refine lv_iconst (v := 0) E.1 hb dX0_folio_64 rfl ?_
  obtain ⟨A16, hw, hf⟩ := lt2_s hf
  refine c_pI (k := 15) (f := 115) E hb hS ci_1 (sK hS (by decide) rfl) (hS.1.lt (sK hS (by decide) rfl) rfl) rfl rfl (Or.inl rfl) fk_X0_148_X0 (fun _ h => h) rfl rfl hw dX0_folio_65 (fun H locs hS => ?_)
  have hcs := rm_w (A2 := A16) hcs (by rw [hw]; exact ⟨rfl, rfl⟩)
  refine lv_aload_n E.1 hb dX0_folio_68 rfl (lv_at hl 0 rfl) ?_
  obtain ⟨q17, hr7, hf⟩ := bo_s hf
  refine c_gN (k := 0) (f := 100) E hb hS ci_1 (sK hS (by decide) rfl) rfl rfl rfl hr7 fk_X0_31_X0 (fun _ h => h) dX0_folio_69 ?_
  obtain ⟨hk, hf⟩ := gI_s hf
  refine c_gI (k := 0) (f := 200) E hb hS ci_2 hk rfl rfl rfl fk_X0_151_X1 (fun _ h => h) dX0_folio_72 ?_
  exact c_ir E hb hr hlk hS (rm_e ⟨Nat.le_trans hcs.1 hS.2.2.2.2.1, Nat.le_trans hcs.2 hS.2.2.2.2.2⟩) hf dX0_folio_75
/-! MarginFolk.fault(I)I: RO -/
noncomputable def X0_fault (A : AH) (x1 : Int32) : Option Int32 :=
  if x1 = 0 then (some (aI A 103 0 0)) else (if x1 = 1 then (some (aI A 104 0 0)) else (some (-1)))
abbrev rX0_fault : Room := { frames := 0, cells := 0, slots := 0, locals := 0 }
set_option maxHeartbeats 4000000 in
theorem zX0_fault {l : Launch} {dC : Nat → ClassId} {dI : Nat → Nat → Nat} {ac : Nat → ClassId} {ad : Nat → Nat} {A : AH} {x1 : Int32} {r : Int32} (hf : X0_fault A x1 = some r) : Met l yX0_fault (ws_ yX0_fault cX0_fault 2 (some .int)) { frames := 0, cells := 0, slots := 0, locals := 0 } (va_Pc [.ref (ad 0), .int x1] (cPre dC dI ac ad True A)) (cQi dC dI ac ad True (aN A) (aS A) (aN A) (aS A) r A) 0 0 (cF ad) := by
  unfold X0_fault at hf
  refine c_of ⟨Nat.le_refl _, Nat.le_refl _⟩ RX0 (plainFor_of_name (by decide)) rfl (Nat.le_of_ble_eq_true rfl) ?_
  intro p e s m args below meth c E hb hr hlk hnm hml hS ls hl
  have hl : lv_has ls 2 [(0, .ref (ad 0)), (1, .int x1)] := hl
  refine lv_iload_n E.1 hb dX0_fault_0 rfl (lv_at hl 1 rfl) ?_
  refine lv_if_ne (tgt := 11) E.1 hb dX0_fault_1 (by decide) (fun hc => ?_) (fun hc => ?_)
  · have hf := if_s hc hf
    refine lv_iload_n E.1 hb dX0_fault_11 rfl (lv_at hl 1 rfl) ?_
    refine lv_iconst (v := 1) E.1 hb dX0_fault_12 rfl ?_
    refine lv_icmp_ne (tgt := 23) E.1 hb dX0_fault_13 (by decide) (fun hc => ?_) (fun hc => ?_)
    · have hf := if_s hc hf
      refine lv_iconst (v := (-1)) E.1 hb dX0_fault_23 rfl ?_
      exact c_ir E hb hr hlk hS ⟨Nat.le_refl 0, Nat.le_refl 0⟩ (ro_s hf) dX0_fault_24
    · have hf := it_s hc hf
      refine lv_aload_n E.1 hb dX0_fault_16 rfl (lv_at hl 0 rfl) ?_
      refine c_gI (k := 4) (f := 104) E hb hS ci_1 (sK hS (by decide) rfl) rfl rfl rfl fk_X0_39_X0 (fun _ h => h) dX0_fault_17 ?_
      refine lv_goto (tgt := 24) E.1 hb dX0_fault_20 (by decide) ?_
      exact c_ir E hb hr hlk hS ⟨Nat.le_refl 0, Nat.le_refl 0⟩ (ro_s hf) dX0_fault_24
  · have hf := it_s hc hf
    refine lv_aload_n E.1 hb dX0_fault_4 rfl (lv_at hl 0 rfl) ?_
    refine c_gI (k := 3) (f := 103) E hb hS ci_1 (sK hS (by decide) rfl) rfl rfl rfl fk_X0_123_X0 (fun _ h => h) dX0_fault_5 ?_
    refine lv_goto (tgt := 24) E.1 hb dX0_fault_8 (by decide) ?_
    exact c_ir E hb hr hlk hS ⟨Nat.le_refl 0, Nat.le_refl 0⟩ (ro_s hf) dX0_fault_24
theorem gw_X9_61 : GoodIn lw_all (va_wsS RX9 61 yJ12_floorDiv (ws_ yJ12_floorDiv cJ12_floorDiv 6 (some .long))) := lw_S q1334 q1335 q172 q1336
theorem gnJ12_floorDiv : yJ12_floorDiv.cls ≠ "java/lang/invoke/MethodHandle" ∧ yJ12_floorDiv.cls ≠ "java/lang/invoke/VarHandle" ∧ (parseMethodDescriptor yJ12_floorDiv.desc).map (fun d => d.parameters.length) = some 2 := by decide +kernel
/-! MarginFolk$Chain.two(CJJ)J: P -/
noncomputable def X9_two_b44 (x0 : Int32) (x1 : Int64) (x3 : Int64) : Option Int64 :=
  if x3 = 0 then (some 0) else (bo (J12_floorDiv x1 x3) fun r1 => some r1)
noncomputable def X9_two (x0 : Int32) (x1 : Int64) (x3 : Int64) : Option Int64 :=
  if x0 = 42 then (some (x1 * x3)) else (if x0 = 43 then (some (x1 + x3)) else (if x0 = 44 then (X9_two_b44 x0 x1 x3 ) else (if x0 = 45 then (some (x1 - x3)) else (X9_two_b44 x0 x1 x3 ))))
abbrev rX9_two : Room := { frames := 1, cells := 0, slots := 0, locals := 25 }
set_option maxHeartbeats 4000000 in
theorem zX9_two {l : Launch} {dC : Nat → ClassId} {dI : Nat → Nat → Nat} {ac : Nat → ClassId} {ad : Nat → Nat} {b : Prop} {A : AH} {x0 : Int32} {x1 : Int64} {x3 : Int64} {r : Int64} (hf : X9_two x0 x1 x3 = some r) : Met l yX9_two (ws_ yX9_two cX9_two 5 (some .long)) { frames := 1, cells := 0, slots := 0, locals := 25 } (va_Pc [.int x0, .long x1, .long x3] (cPre dC dI ac ad b A)) (cQl dC dI ac ad b (aN A) (aS A) (aN A) (aS A) r A) 0 0 (cF ad) := by
  unfold X9_two at hf
  refine c_of ⟨Nat.le_refl _, Nat.le_refl _⟩ RX9 (plainFor_of_name (by decide)) rfl (Nat.le_of_ble_eq_true rfl) ?_
  intro p e s m args below meth c E hb hr hlk hnm hml hS ls hl
  have hl : lv_has ls 5 [(0, .int x0), (1, .long x1), (3, .long x3)] := hl
  have hB44 : X9_two_b44 x0 x1 x3  = some r → ∀ (H : Heap) (locs : List Loc), cS dC dI ac ad b s.heap (aN A) (aS A) (aN A) (aS A) A H locs → ∀ (ls : Array Slot), lv_has ls 5 [(0, .int x0), (1, .long x1), (3, .long x3)] → W p l e rX9_two s m args below meth c H locs 0 0 (MQ below (cQl dC dI ac ad b (aN A) (aS A) (aN A) (aS A) r A) args s 0 0 (cF ad)) (F0 m 44 ls []) := by
    intro  hf H locs hS ls hl
    unfold X9_two_b44 at hf
    refine lv_lload_n E.1 hb dX9_two_44 rfl (lv_at hl 2 rfl) ?_
    refine lv_lconst (v := 0) E.1 hb dX9_two_45 rfl ?_
    refine lv_lc_ne (tgt := 54) E.1 hb dX9_two_46 dX9_two_47 (by decide) (fun hc => ?_) (fun hc => ?_)
    · have hf := if_s hc hf
      refine lv_lload_n E.1 hb dX9_two_54 rfl (lv_at hl 1 rfl) ?_
      refine lv_lload_n E.1 hb dX9_two_55 rfl (lv_at hl 2 rfl) ?_
      obtain ⟨r1, h1, hf⟩ := bo_s hf
      refine c_kl hS (va_runS ⟨E.1, hb, hml, E.2.1, E.2.2.1⟩ (zJ12_floorDiv h1) (va_cwS 2 E.2.2.1 gw_X9_61 rfl rfl rfl gnJ12_floorDiv ⟨Nat.le_of_ble_eq_true rfl, Nat.le_of_ble_eq_true rfl⟩) (c_preS E hS _) rfl rfl hl.1 rfl (lv_room (Nat.le_of_ble_eq_true rfl)) dX9_two_56 ⟨Nat.le_refl 0, Nat.le_refl 0⟩) hS.2.2.2.2 (fun H locs hS hn => ?_)
      exact c_lr E hb hr hlk hS ⟨Nat.le_refl 0, Nat.le_refl 0⟩ (ro_s hf) dX9_two_59
    · have hf := it_s hc hf
      refine lv_lconst (v := 0) E.1 hb dX9_two_50 rfl ?_
      refine lv_goto (tgt := 59) E.1 hb dX9_two_51 (by decide) ?_
      exact c_lr E hb hr hlk hS ⟨Nat.le_refl 0, Nat.le_refl 0⟩ (ro_s hf) dX9_two_59
  refine lv_iload_n E.1 hb dX9_two_0 rfl (lv_at hl 0 rfl) ?_
  by_cases hc42 : x0 = 42
  · have hf := it_s hc42 hf
    refine lv_tableIn (tgt := 40) E.1 hb dX9_two_1 (by rw [hc42]; decide) (by rw [hc42]; decide) (by rw [hc42]; rfl) (by decide) ?_
    refine lv_lload_n E.1 hb dX9_two_40 rfl (lv_at hl 1 rfl) ?_
    refine lv_lload_n E.1 hb dX9_two_41 rfl (lv_at hl 2 rfl) ?_
    refine lv_lmul E.1 hb dX9_two_42 ?_
    exact c_lr E hb hr hlk hS ⟨Nat.le_refl 0, Nat.le_refl 0⟩ (ro_s hf) dX9_two_43
  · have hf := if_s hc42 hf
    by_cases hc43 : x0 = 43
    · have hf := it_s hc43 hf
      refine lv_tableIn (tgt := 32) E.1 hb dX9_two_1 (by rw [hc43]; decide) (by rw [hc43]; decide) (by rw [hc43]; rfl) (by decide) ?_
      refine lv_lload_n E.1 hb dX9_two_32 rfl (lv_at hl 1 rfl) ?_
      refine lv_lload_n E.1 hb dX9_two_33 rfl (lv_at hl 2 rfl) ?_
      refine lv_ladd E.1 hb dX9_two_34 ?_
      exact c_lr E hb hr hlk hS ⟨Nat.le_refl 0, Nat.le_refl 0⟩ (ro_s hf) dX9_two_35
    · have hf := if_s hc43 hf
      by_cases hc44 : x0 = 44
      · have hf := it_s hc44 hf
        refine lv_tableIn (tgt := 44) E.1 hb dX9_two_1 (by rw [hc44]; decide) (by rw [hc44]; decide) (by rw [hc44]; rfl) (by decide) ?_
        exact hB44 hf _ _ hS _ (lv_sub hl [0, 1, 2] rfl)
      · have hf := if_s hc44 hf
        by_cases hc45 : x0 = 45
        · have hf := it_s hc45 hf
          refine lv_tableIn (tgt := 36) E.1 hb dX9_two_1 (by rw [hc45]; decide) (by rw [hc45]; decide) (by rw [hc45]; rfl) (by decide) ?_
          refine lv_lload_n E.1 hb dX9_two_36 rfl (lv_at hl 1 rfl) ?_
          refine lv_lload_n E.1 hb dX9_two_37 rfl (lv_at hl 2 rfl) ?_
          refine lv_lsub E.1 hb dX9_two_38 ?_
          exact c_lr E hb hr hlk hS ⟨Nat.le_refl 0, Nat.le_refl 0⟩ (ro_s hf) dX9_two_39
        · have hf := if_s hc45 hf
          have q42 : (x0 : Int32).toInt ≠ 42 := ne_toInt hc42 rfl
          have q43 : (x0 : Int32).toInt ≠ 43 := ne_toInt hc43 rfl
          have q44 : (x0 : Int32).toInt ≠ 44 := ne_toInt hc44 rfl
          have q45 : (x0 : Int32).toInt ≠ 45 := ne_toInt hc45 rfl
          refine lv_tableOut (tgt := 44) E.1 hb dX9_two_1 (by omega) (by decide) ?_
          exact hB44 hf _ _ hS _ (lv_sub hl [0, 1, 2] rfl)
theorem gw_X0_7 : GoodIn lw_all (va_wsS RX0 7 yJ12_min_2 (ws_ yJ12_min_2 cJ12_min_2 4 (some .long))) := lw_S q1274 q1275 q172 q1276
theorem gnJ12_min_2 : yJ12_min_2.cls ≠ "java/lang/invoke/MethodHandle" ∧ yJ12_min_2.cls ≠ "java/lang/invoke/VarHandle" ∧ (parseMethodDescriptor yJ12_min_2.desc).map (fun d => d.parameters.length) = some 2 := by decide +kernel
theorem gw_X0_13 : GoodIn lw_all (va_wsS RX0 13 yJ12_max_2 (ws_ yJ12_max_2 cJ12_max_2 4 (some .long))) := lw_S q1277 q1278 q172 q1279
theorem gnJ12_max_2 : yJ12_max_2.cls ≠ "java/lang/invoke/MethodHandle" ∧ yJ12_max_2.cls ≠ "java/lang/invoke/VarHandle" ∧ (parseMethodDescriptor yJ12_max_2.desc).map (fun d => d.parameters.length) = some 2 := by decide +kernel
/-! MarginFolk.held(J)J: P -/
noncomputable def X0_held (x0 : Int64) : Option Int64 :=
  bo (J12_min_2 1000000 x0) fun r1 => bo (J12_max_2 (-1000000) r1) fun r2 => some r2
abbrev rX0_held : Room := { frames := 1, cells := 0, slots := 0, locals := 23 }
set_option maxHeartbeats 4000000 in
theorem zX0_held {l : Launch} {dC : Nat → ClassId} {dI : Nat → Nat → Nat} {ac : Nat → ClassId} {ad : Nat → Nat} {b : Prop} {A : AH} {x0 : Int64} {r : Int64} (hf : X0_held x0 = some r) : Met l yX0_held (ws_ yX0_held cX0_held 2 (some .long)) { frames := 1, cells := 0, slots := 0, locals := 23 } (va_Pc [.long x0] (cPre dC dI ac ad b A)) (cQl dC dI ac ad b (aN A) (aS A) (aN A) (aS A) r A) 0 0 (cF ad) := by
  unfold X0_held at hf
  refine c_of ⟨Nat.le_refl _, Nat.le_refl _⟩ RX0 (plainFor_of_name (by decide)) rfl (Nat.le_of_ble_eq_true rfl) ?_
  intro p e s m args below meth c E hb hr hlk hnm hml hS ls hl
  have hl : lv_has ls 2 [(0, .long x0)] := hl
  refine lv_ldc2 E.1 hb E.2.1 (E.2.2.1 _ q1272) dX0_held_0 ?_
  refine lv_ldc2 E.1 hb E.2.1 (E.2.2.1 _ q1273) dX0_held_3 ?_
  refine lv_lload_n E.1 hb dX0_held_6 rfl (lv_at hl 0 rfl) ?_
  obtain ⟨r1, h1, hf⟩ := bo_s hf
  refine c_kl hS (va_runS ⟨E.1, hb, hml, E.2.1, E.2.2.1⟩ (zJ12_min_2 h1) (va_cwS 2 E.2.2.1 gw_X0_7 rfl rfl rfl gnJ12_min_2 ⟨Nat.le_of_ble_eq_true rfl, Nat.le_of_ble_eq_true rfl⟩) (c_preS E hS _) rfl rfl hl.1 rfl (lv_room (Nat.le_of_ble_eq_true rfl)) dX0_held_7 ⟨Nat.le_refl 0, Nat.le_refl 0⟩) hS.2.2.2.2 (fun H locs hS hn => ?_)
  obtain ⟨r2, h1, hf⟩ := bo_s hf
  refine c_kl hS (va_runS ⟨E.1, hb, hml, E.2.1, E.2.2.1⟩ (zJ12_max_2 h1) (va_cwS 2 E.2.2.1 gw_X0_13 rfl rfl rfl gnJ12_max_2 ⟨Nat.le_of_ble_eq_true rfl, Nat.le_of_ble_eq_true rfl⟩) (c_preS E hS _) rfl rfl hl.1 rfl (lv_room (Nat.le_of_ble_eq_true rfl)) dX0_held_10 ⟨Nat.le_refl 0, Nat.le_refl 0⟩) hS.2.2.2.2 (fun H locs hS hn => ?_)
  exact c_lr E hb hr hlk hS ⟨Nat.le_refl 0, Nat.le_refl 0⟩ (ro_s hf) dX0_held_13
theorem gw_X9_43 : GoodIn lw_all (va_wsF RX9 43 "java/util/ArrayList" ⟨"java/util/List", "size", "()I"⟩ yJ2_size (ws_ yJ2_size cJ2_size 1 (some .int))) := lw_F q1320 q800 q802 q156 q804
theorem gw_X9_47 : GoodIn lw_all (wsV RX9 47 RJ15 yJ15_charAt (ws_ yJ15_charAt cJ15_charAt 2 (some .char))) := lw_V q1321 q1322 q1323 q178 q1324
theorem gnJ15_charAt : yJ15_charAt.cls ≠ "java/lang/invoke/MethodHandle" ∧ yJ15_charAt.cls ≠ "java/lang/invoke/VarHandle" ∧ (parseMethodDescriptor yJ15_charAt.desc).map (fun d => d.parameters.length) = some 1 := by decide +kernel
theorem gw_X9_35 : GoodIn lw_all (va_wsF RX9 35 "java/util/ArrayList" ⟨"java/util/List", "get", "(I)Ljava/lang/Object;"⟩ yJ2_get (ws_ yJ2_get cJ2_get 2 (some (.object "java/lang/Object")))) := lw_F q1284 q809 q811 q156 q813
theorem gw_X9_51 : GoodIn lw_all (va_wsS RX9 51 yX9_two (ws_ yX9_two cX9_two 5 (some .long))) := lw_S q1331 q1332 q176 q1333
theorem gnX9_two : yX9_two.cls ≠ "java/lang/invoke/MethodHandle" ∧ yX9_two.cls ≠ "java/lang/invoke/VarHandle" ∧ (parseMethodDescriptor yX9_two.desc).map (fun d => d.parameters.length) = some 3 := by decide +kernel
theorem gnX0_held : yX0_held.cls ≠ "java/lang/invoke/MethodHandle" ∧ yX0_held.cls ≠ "java/lang/invoke/VarHandle" ∧ (parseMethodDescriptor yX0_held.desc).map (fun d => d.parameters.length) = some 1 := by decide +kernel
/-! MarginFolk$Chain.at(LMarginFolk$Moment;)J: RW -/
noncomputable def X9_at_b21 (N : Nat) (rv : AH → Nat → Nat → Option (Int64 × AH)) (x0 : Nat) (x1 : Nat) (k21 : AH → Int64 → Int32 → Option (Int64 × AH)) (A : AH) (x2 : Int64) (x4 : Int32) : Option (Int64 × AH) :=
  bo (gN 8 A 800 x0) fun q6 => if aK A q6 = 18 then ( bo (J2_size A q6) fun r7 => if r7 ≤ x4 then (some (x2, A)) else (bo (gN 8 A 801 x0) fun q8 => if aK A q8 = 20 then ( bd (J15_charAt A q8 x4) fun r9 A10 => bo (gN 8 A10 800 x0) fun q11 => if aK A10 q11 = 18 then ( bo (J2_get A10 q11 x4) fun r12 => bo r12 fun q13 => if isVal (aK A10 q13) = true then (bd (rv A10 q13 x1) fun r14 A15 => bo (X9_two r9 x2 r14) fun r16 => bo (X0_held r16) fun r17 => k21 A15 r17 (x4 + 1)) else none) else none) else none)) else none
noncomputable def X9_at (N : Nat) (rv : AH → Nat → Nat → Option (Int64 × AH)) (A0 : AH) (x0 : Nat) (x1 : Nat) : Option (Int64 × AH) :=
  bo (gN 8 A0 800 x0) fun q1 => if aK A0 q1 = 18 then ( bo (J2_get A0 q1 0) fun r2 => bo r2 fun q3 => if isVal (aK A0 q3) = true then (bd (rv A0 q3 x1) fun r4 A5 => rn3 (X9_at_b21 N rv x0 x1) N A5 r4 1) else none) else none
set_option maxHeartbeats 4000000 in
theorem zX9_at {l : Launch} {dC : Nat → ClassId} {dI : Nat → Nat → Nat} {ac : Nat → ClassId} {ad : Nat → Nat} {N : Nat} {rv : AH → Nat → Nat → Option (Int64 × AH)} {fa la : Nat} (ha : RcV l dC dI ac ad fa la rv) {A0 : AH} {x0 : Nat} {x1 : Nat} {r : Int64} {A' : AH} (hf : X9_at N rv A0 x0 x1 = some (r, A')) : Met l yX9_at (ws_ yX9_at cX9_at 5 (some .long)) { frames := fa + 4, cells := 0, slots := 0, locals := la + 88 } (va_Pc [.ref (ad x0), .ref (ad x1)] (cPre dC dI ac ad True A0)) (cQl dC dI ac ad True (aN A0) (aS A0) (aN A0) (aS A0) r A') 0 0 (cF ad) := by
  unfold X9_at at hf
  refine c_of ⟨Nat.le_refl _, Nat.le_refl _⟩ RX9 (plainFor_of_name (by decide)) rfl (Nat.le_of_ble_eq_true rfl) ?_
  intro p e s m args below meth c E hb hr hlk hnm hml hS ls hl
  have hl : lv_has ls 5 [(0, .ref (ad x0)), (1, .ref (ad x1))] := hl
  have hL21 : ∀ (n : Nat) (A : AH) (x2 : Int64) (x4 : Int32), rn3 (X9_at_b21 N rv x0 x1) n A x2 x4 = some (r, A') → ∀ (H : Heap) (locs : List Loc), cS dC dI ac ad True s.heap (aN A0) (aS A0) (aN A0) (aS A0) A H locs → ∀ (ls : Array Slot), lv_has ls 5 [(0, .ref (ad x0)), (1, .ref (ad x1)), (2, .long x2), (4, .int x4)] → W p l e { frames := fa + 4, cells := 0, slots := 0, locals := la + 88 } s m args below meth c H locs 0 0 (MQ below (cQl dC dI ac ad True (aN A0) (aS A0) (aN A0) (aS A0) r A') args s 0 0 (cF ad)) (F0 m 21 ls []) := by
    intro  n
    induction n with
    | zero =>
      intro A x2 x4 hf
      cases hf
    | succ n ih =>
      intro A x2 x4 hf H locs hS ls hl
      have hf : X9_at_b21 N rv x0 x1 (rn3 (X9_at_b21 N rv x0 x1) n) A x2 x4 = some (r, A') := hf
      have hk21 := ih
      generalize rn3 (X9_at_b21 N rv x0 x1) n = k21 at hf hk21
      unfold X9_at_b21 at hf
      refine lv_iload E.1 hb dX9_at_21 (lv_at hl 3 rfl) ?_
      refine lv_aload_n E.1 hb dX9_at_23 rfl (lv_at hl 0 rfl) ?_
      obtain ⟨q6, hk, hf⟩ := gN_s hf
      refine c_gN (k := 0) (f := 800) E hb hS ci_8 hk.1 rfl rfl rfl hk.2 fk_X9_12_X9 (fun _ h => h) dX9_at_24 ?_
      obtain ⟨hkr, hf⟩ := gu_s hf
      obtain ⟨r7, h1, hf⟩ := bo_s hf
      refine c_kFi hS (va_runF (E.2.2.2.1.1 17 _ ci_18.1).2 ⟨E.1, hb, hml, E.2.1, E.2.2.1⟩ (zJ2_size h1) (va_cwF 0 E.2.2.1 gw_X9_43 rfl rfl rfl (cFw E 0 rfl) gx_size ⟨by dsimp only; omega, by dsimp only; omega⟩) (c_preV E hS ci_18 hkr (hS.1.lt hkr rfl) _) rfl rfl hl.1 rfl (lv_room (Nat.le_of_ble_eq_true rfl)) dX9_at_27 ⟨Nat.le_refl 0, Nat.le_refl 0⟩) hS.2.2.2.2 (fun H locs hS hn => ?_)
      refine lv_icmp_ge (tgt := 76) E.1 hb dX9_at_32 (by decide) (fun hc => ?_) (fun hc => ?_)
      · have hf := it_s hc hf
        refine lv_lload_n E.1 hb dX9_at_76 rfl (lv_at hl 2 rfl) ?_
        exact c_lr E hb hr hlk hS ⟨Nat.le_refl 0, Nat.le_refl 0⟩ hf dX9_at_77
      · have hf := if_s hc hf
        refine lv_aload_n E.1 hb dX9_at_35 rfl (lv_at hl 0 rfl) ?_
        obtain ⟨q8, hk, hf⟩ := gN_s hf
        refine c_gN (k := 1) (f := 801) E hb hS ci_8 hk.1 rfl rfl rfl hk.2 fk_X9_21_X9 (fun _ h => h) dX9_at_36 ?_
        refine lv_iload E.1 hb dX9_at_39 (lv_at hl 3 rfl) ?_
        obtain ⟨hkr, hf⟩ := gu_s hf
        obtain ⟨r9, A10, h1, hf⟩ := bd_s hf
        refine c_ki hS (va_runV ⟨E.1, hb, hml, E.2.1, E.2.2.1⟩ (zJ15_charAt h1) (cwV 1 E.2.2.1 gw_X9_47 rfl rfl rfl ⟨rfl, gnJ15_charAt⟩ ⟨by dsimp only; omega, by dsimp only; omega⟩) (c_preV E hS ci_20 hkr (hS.1.lt hkr rfl) _) rfl rfl hl.1 rfl (lv_room (Nat.le_of_ble_eq_true rfl)) dX9_at_41 ⟨Nat.le_refl 0, Nat.le_refl 0⟩) hS.2.2.2.2 (fun H locs hS hn => ?_)
        refine lv_lload_n E.1 hb dX9_at_44 rfl (lv_at hl 2 rfl) ?_
        refine lv_aload_n E.1 hb dX9_at_45 rfl (lv_at hl 0 rfl) ?_
        obtain ⟨q11, hk, hf⟩ := gN_s hf
        refine c_gN (k := 0) (f := 800) E hb hS ci_8 hk.1 rfl rfl rfl hk.2 fk_X9_12_X9 (fun _ h => h) dX9_at_46 ?_
        refine lv_iload E.1 hb dX9_at_49 (lv_at hl 3 rfl) ?_
        obtain ⟨hkr, hf⟩ := gu_s hf
        obtain ⟨r12, h1, hf⟩ := bo_s hf
        refine c_kFq hS (va_runF (E.2.2.2.1.1 17 _ ci_18.1).2 ⟨E.1, hb, hml, E.2.1, E.2.2.1⟩ (zJ2_get h1) (va_cwF 1 E.2.2.1 gw_X9_35 rfl rfl rfl (cFw E 1 rfl) gx_get ⟨by dsimp only; omega, by dsimp only; omega⟩) (c_preV E hS ci_18 hkr (hS.1.lt hkr rfl) _) rfl rfl hl.1 rfl (lv_room (Nat.le_of_ble_eq_true rfl)) dX9_at_51 ⟨Nat.le_refl 0, Nat.le_refl 0⟩) hS.2.2.2.2 (fun H locs hS hn => ?_)
        obtain ⟨q13, hr9, hf⟩ := bo_s hf
        refine c_dr hr9 ?_
        obtain ⟨hg, hf⟩ := gu_s hf
        refine c_castValue E hb hS (isVal_s hg) q1285 dX9_at_56 ?_
        refine lv_aload_n E.1 hb dX9_at_59 rfl (lv_at hl 1 rfl) ?_
        obtain ⟨r14, A15, h1, hf⟩ := bd_s hf
        refine c_kl hS (c_runRcV E hb hml hS ha h1 q1286 ⟨by dsimp only; omega, by dsimp only; omega⟩ hl.1 (lv_room (Nat.le_of_ble_eq_true rfl)) dX9_at_60 ⟨Nat.le_refl 0, Nat.le_refl 0⟩) hS.2.2.2.2 (fun H locs hS hn => ?_)
        obtain ⟨r16, h1, hf⟩ := bo_s hf
        refine c_kl hS (va_runS ⟨E.1, hb, hml, E.2.1, E.2.2.1⟩ (zX9_two h1) (va_cwS 3 E.2.2.1 gw_X9_51 rfl rfl rfl gnX9_two ⟨by dsimp only; omega, by dsimp only; omega⟩) (c_preS E hS _) rfl rfl hl.1 rfl (lv_room (Nat.le_of_ble_eq_true rfl)) dX9_at_63 ⟨Nat.le_refl 0, Nat.le_refl 0⟩) hS.2.2.2.2 (fun H locs hS hn => ?_)
        obtain ⟨r17, h1, hf⟩ := bo_s hf
        refine c_kl hS (va_runSN ⟨E.1, hb, hml, E.2.1, E.2.2.1⟩ (zX0_held h1) ⟨va_cnB 1 E.2.2.1 (lw_meth q1271) rfl rfl rfl (E.2.2.2.2.1 _ q1337 rfl) (E.2.2.1 _ q152) gnX0_held ⟨by dsimp only; omega, by dsimp only; omega⟩, E.2.2.1 _ q1270, trivial⟩ (c_preS E hS _) rfl rfl hl.1 rfl (lv_room (Nat.le_of_ble_eq_true rfl)) dX9_at_66 ⟨Nat.le_refl 0, Nat.le_refl 0⟩) hS.2.2.2.2 (fun H locs hS hn => ?_)
        refine lv_lstore_n (lv' := [(2, .long r17), (0, .ref (ad x0)), (1, .ref (ad x1)), (4, .int x4)]) E.1 hb dX9_at_69 rfl hl (by decide) rfl (fun ls hl => ?_)
        refine lv_iinc (v := (x4 + 1)) (lv' := [(4, .int (x4 + 1)), (2, .long r17), (0, .ref (ad x0)), (1, .ref (ad x1))]) E.1 hb dX9_at_70 hl (k := 3) rfl rfl (by decide) rfl (fun ls hl => ?_)
        refine lv_goto (tgt := 21) E.1 hb dX9_at_73 (by decide) ?_
        exact hk21 A15 r17 (x4 + 1) hf _ _ hS _ (lv_sub hl [2, 3, 1, 0] rfl)
  refine lv_aload_n E.1 hb dX9_at_0 rfl (lv_at hl 0 rfl) ?_
  obtain ⟨q1, hk, hf⟩ := gN_s hf
  refine c_gN (k := 0) (f := 800) E hb hS ci_8 hk.1 rfl rfl rfl hk.2 fk_X9_12_X9 (fun _ h => h) dX9_at_1 ?_
  refine lv_iconst (v := 0) E.1 hb dX9_at_4 rfl ?_
  obtain ⟨hkr, hf⟩ := gu_s hf
  obtain ⟨r2, h1, hf⟩ := bo_s hf
  refine c_kFq hS (va_runF (E.2.2.2.1.1 17 _ ci_18.1).2 ⟨E.1, hb, hml, E.2.1, E.2.2.1⟩ (zJ2_get h1) (va_cwF 1 E.2.2.1 gw_X9_35 rfl rfl rfl (cFw E 1 rfl) gx_get ⟨by dsimp only; omega, by dsimp only; omega⟩) (c_preV E hS ci_18 hkr (hS.1.lt hkr rfl) _) rfl rfl hl.1 rfl (lv_room (Nat.le_of_ble_eq_true rfl)) dX9_at_5 ⟨Nat.le_refl 0, Nat.le_refl 0⟩) hS.2.2.2.2 (fun H locs hS hn => ?_)
  obtain ⟨q3, hr9, hf⟩ := bo_s hf
  refine c_dr hr9 ?_
  obtain ⟨hg, hf⟩ := gu_s hf
  refine c_castValue E hb hS (isVal_s hg) q1285 dX9_at_10 ?_
  refine lv_aload_n E.1 hb dX9_at_13 rfl (lv_at hl 1 rfl) ?_
  obtain ⟨r4, A5, h1, hf⟩ := bd_s hf
  refine c_kl hS (c_runRcV E hb hml hS ha h1 q1286 ⟨by dsimp only; omega, by dsimp only; omega⟩ hl.1 (lv_room (Nat.le_of_ble_eq_true rfl)) dX9_at_14 ⟨Nat.le_refl 0, Nat.le_refl 0⟩) hS.2.2.2.2 (fun H locs hS hn => ?_)
  refine lv_lstore_n (lv' := [(2, .long r4), (0, .ref (ad x0)), (1, .ref (ad x1))]) E.1 hb dX9_at_17 rfl hl (by decide) rfl (fun ls hl => ?_)
  refine lv_iconst (v := 1) E.1 hb dX9_at_18 rfl ?_
  refine lv_istore (lv' := [(4, .int 1), (2, .long r4), (0, .ref (ad x0)), (1, .ref (ad x1))]) E.1 hb dX9_at_19 hl (by decide) rfl (fun ls hl => ?_)
  exact hL21 N A5 r4 1 hf _ _ hS _ (lv_sub hl [2, 3, 1, 0] rfl)
