set_option maxRecDepth 100000
/-! MarginFolk$Pair.at(LMarginFolk$Moment;)J: RW -/
noncomputable def X10_at_b35 (rv : AH → Nat → Nat → Option (Int64 × AH)) (x0 : Nat) (x1 : Nat) (A : AH) (x2 : Int64) (x4 : Int64) (y0 : Int32) (y1 : Int32) : Option (Int64 × AH) :=
  if y1 = y0 then (some (x2, A)) else (some (x4, A))
noncomputable def X10_at (rv : AH → Nat → Nat → Option (Int64 × AH)) (A0 : AH) (x0 : Nat) (x1 : Nat) : Option (Int64 × AH) :=
  bo (gR 9 A0 901 x0) fun v1 => bo v1 fun q2 => bd (rv A0 q2 x1) fun r3 A4 => bo (gR 9 A4 902 x0) fun v5 => bo v5 fun q6 => bd (rv A4 q6 x1) fun r7 A8 => bo (gI 9 A8 900 x0) fun v9 => if r3 ≤ r7 then (X10_at_b35 rv x0 x1 A8 r3 r7 0 v9) else (X10_at_b35 rv x0 x1 A8 r3 r7 1 v9)
set_option maxHeartbeats 4000000 in
theorem zX10_at {l : Launch} {dC : Nat → ClassId} {dI : Nat → Nat → Nat} {ac : Nat → ClassId} {ad : Nat → Nat} {rv : AH → Nat → Nat → Option (Int64 × AH)} {fa la : Nat} (ha : RcV l dC dI ac ad fa la rv) {A0 : AH} {x0 : Nat} {x1 : Nat} {r : Int64} {A' : AH} (hf : X10_at rv A0 x0 x1 = some (r, A')) : Met l yX10_at (ws_ yX10_at cX10_at 6 (some .long)) { frames := fa + 1, cells := 0, slots := 0, locals := la + 30 } (va_Pc [.ref (ad x0), .ref (ad x1)] (cPre dC dI ac ad True A0)) (cQl dC dI ac ad True (aN A0) (aS A0) (aN A0) (aS A0) r A') 0 0 (cF ad) := by
  unfold X10_at at hf
  refine c_of ⟨Nat.le_refl _, Nat.le_refl _⟩ RX10 (plainFor_of_name (by decide)) rfl (Nat.le_of_ble_eq_true rfl) ?_
  intro p e s m args below meth c E hb hr hlk hnm hml hS ls hl
  have hl : lv_has ls 6 [(0, .ref (ad x0)), (1, .ref (ad x1))] := hl
  have hB35 : ∀ (A : AH) (x2 : Int64) (x4 : Int64) (y0 : Int32) (y1 : Int32), X10_at_b35 rv x0 x1 A x2 x4 y0 y1 = some (r, A') → ∀ (H : Heap) (locs : List Loc), cS dC dI ac ad True s.heap (aN A0) (aS A0) (aN A0) (aS A0) A H locs → ∀ (ls : Array Slot), lv_has ls 6 [(0, .ref (ad x0)), (1, .ref (ad x1)), (2, .long x2), (4, .long x4)] → W p l e { frames := fa + 1, cells := 0, slots := 0, locals := la + 30 } s m args below meth c H locs 0 0 (MQ below (cQl dC dI ac ad True (aN A0) (aS A0) (aN A0) (aS A0) r A') args s 0 0 (cF ad)) (F0 m 35 ls [.int y0, .int y1]) := by
    intro A x2 x4 y0 y1 hf H locs hS ls hl
    unfold X10_at_b35 at hf
    refine lv_icmp_ne (tgt := 42) E.1 hb dX10_at_35 (by decide) (fun hc => ?_) (fun hc => ?_)
    · have hf := if_s hc hf
      refine lv_lload E.1 hb dX10_at_42 (lv_at hl 3 rfl) ?_
      exact c_lr E hb hr hlk hS ⟨Nat.le_refl 0, Nat.le_refl 0⟩ hf dX10_at_44
    · have hf := it_s hc hf
      refine lv_lload_n E.1 hb dX10_at_38 rfl (lv_at hl 2 rfl) ?_
      refine lv_goto (tgt := 44) E.1 hb dX10_at_39 (by decide) ?_
      exact c_lr E hb hr hlk hS ⟨Nat.le_refl 0, Nat.le_refl 0⟩ hf dX10_at_44
  refine lv_aload_n E.1 hb dX10_at_0 rfl (lv_at hl 0 rfl) ?_
  obtain ⟨hk, hf⟩ := gR_s hf
  refine c_gR (k := 1) (f := 901) E hb hS ci_9 hk rfl rfl rfl fk_X10_13_X10 (fun _ h => h) dX10_at_1 ?_
  refine lv_aload_n E.1 hb dX10_at_4 rfl (lv_at hl 1 rfl) ?_
  obtain ⟨q2, hr9, hf⟩ := bo_s hf
  refine c_dr2 hr9 ?_
  obtain ⟨r3, A4, h1, hf⟩ := bd_s hf
  refine c_kl hS (c_runRcV E hb hml hS ha h1 q1294 ⟨by dsimp only; omega, by dsimp only; omega⟩ hl.1 (lv_room (Nat.le_of_ble_eq_true rfl)) dX10_at_5 ⟨Nat.le_refl 0, Nat.le_refl 0⟩) hS.2.2.2.2 (fun H locs hS hn => ?_)
  refine lv_lstore_n (lv' := [(2, .long r3), (0, .ref (ad x0)), (1, .ref (ad x1))]) E.1 hb dX10_at_8 rfl hl (by decide) rfl (fun ls hl => ?_)
  refine lv_aload_n E.1 hb dX10_at_9 rfl (lv_at hl 1 rfl) ?_
  obtain ⟨hk, hf⟩ := gR_s hf
  refine c_gR (k := 2) (f := 902) E hb hS ci_9 hk rfl rfl rfl fk_X10_17_X10 (fun _ h => h) dX10_at_10 ?_
  refine lv_aload_n E.1 hb dX10_at_13 rfl (lv_at hl 2 rfl) ?_
  obtain ⟨q6, hr9, hf⟩ := bo_s hf
  refine c_dr2 hr9 ?_
  obtain ⟨r7, A8, h1, hf⟩ := bd_s hf
  refine c_kl hS (c_runRcV E hb hml hS ha h1 q1294 ⟨by dsimp only; omega, by dsimp only; omega⟩ hl.1 (lv_room (Nat.le_of_ble_eq_true rfl)) dX10_at_14 ⟨Nat.le_refl 0, Nat.le_refl 0⟩) hS.2.2.2.2 (fun H locs hS hn => ?_)
  refine lv_lstore (lv' := [(4, .long r7), (2, .long r3), (0, .ref (ad x0)), (1, .ref (ad x1))]) E.1 hb dX10_at_17 hl (by decide) rfl (fun ls hl => ?_)
  refine lv_aload_n E.1 hb dX10_at_19 rfl (lv_at hl 2 rfl) ?_
  obtain ⟨hk, hf⟩ := gI_s hf
  refine c_gI (k := 0) (f := 900) E hb hS ci_9 hk rfl rfl rfl fk_X10_7_X10 (fun _ h => h) dX10_at_20 ?_
  refine lv_lload_n E.1 hb dX10_at_23 rfl (lv_at hl 1 rfl) ?_
  refine lv_lload E.1 hb dX10_at_24 (lv_at hl 0 rfl) ?_
  refine lv_lc_le (tgt := 34) E.1 hb dX10_at_26 dX10_at_27 (by decide) (fun hc => ?_) (fun hc => ?_)
  · have hf := it_s hc hf
    refine lv_iconst (v := 0) E.1 hb dX10_at_34 rfl ?_
    exact hB35 A8 r3 r7 0 (aI A8 900 x0 0) hf _ _ hS _ (lv_sub hl [2, 3, 1, 0] rfl)
  · have hf := if_s hc hf
    refine lv_iconst (v := 1) E.1 hb dX10_at_30 rfl ?_
    refine lv_goto (tgt := 35) E.1 hb dX10_at_31 (by decide) ?_
    exact hB35 A8 r3 r7 1 (aI A8 900 x0 0) hf _ _ hS _ (lv_sub hl [2, 3, 1, 0] rfl)
theorem fk_X0_185_X1 : FLk RX0 185 "MarginFolk$Folio" (TX1 11).2.1 (TX1 11).2.2.1 := Or.inr ⟨_, q261⟩
theorem fk_X0_189_X4 : FLk RX0 189 "MarginFolk$Moment" (TX4 0).2.1 (TX4 0).2.2.1 := Or.inr ⟨_, q412⟩
theorem fk_X0_154_X1 : FLk RX0 154 "MarginFolk$Folio" (TX1 1).2.1 (TX1 1).2.2.1 := Or.inr ⟨_, q236⟩
theorem gw_X0_199 : GoodIn lw_all (va_wsS RX0 199 yJ12_floorMod (ws_ yJ12_floorMod cJ12_floorMod 6 (some .long))) := lw_S q1341 q1342 q172 q1343
theorem gnJ12_floorMod : yJ12_floorMod.cls ≠ "java/lang/invoke/MethodHandle" ∧ yJ12_floorMod.cls ≠ "java/lang/invoke/VarHandle" ∧ (parseMethodDescriptor yJ12_floorMod.desc).map (fun d => d.parameters.length) = some 2 := by decide +kernel
/-! MarginFolk.openingOf(I)I: RW -/
noncomputable def X0_openingOf (rv : AH → Nat → Nat → Option (Int64 × AH)) (A0 : AH) (x1 : Int32) : Option (Int32 × AH) :=
  bo (aR A0 100 0 0) fun q1 => bo (gR 2 A0 211 q1) fun v2 => if v2 = none then (some (0, A0)) else (bo (tJ 9 A0 12 0 (Int32.toInt64 x1)) fun A3 => bo (aR A3 100 0 0) fun q4 => bo (gR 2 A3 211 q4) fun v5 => bo v5 fun q6 => bd (rv A3 q6 11) fun r7 A8 => bo (aR A8 100 0 0) fun q9 => bo (gI 2 A8 201 q9) fun v10 => bo (J12_floorMod r7 ((Int32.toInt64 v10) + 1)) fun r11 => some ((Int64.toInt32 r11), A8))
set_option maxHeartbeats 4000000 in
theorem zX0_openingOf {l : Launch} {dC : Nat → ClassId} {dI : Nat → Nat → Nat} {ac : Nat → ClassId} {ad : Nat → Nat} {rv : AH → Nat → Nat → Option (Int64 × AH)} {fa la : Nat} (ha : RcV l dC dI ac ad fa la rv) {A0 : AH} {x1 : Int32} {r : Int32} {A' : AH} (hf : X0_openingOf rv A0 x1 = some (r, A')) : Met l yX0_openingOf (ws_ yX0_openingOf cX0_openingOf 2 (some .int)) { frames := fa + 1, cells := 0, slots := 0, locals := la + 30 } (va_Pc [.ref (ad 0), .int x1] (cPre dC dI ac ad True A0)) (cQi dC dI ac ad True (aN A0) (aS A0) (aN A0) (aS A0) r A') 0 0 (cF ad) := by
  unfold X0_openingOf at hf
  refine c_of ⟨Nat.le_refl _, Nat.le_refl _⟩ RX0 (plainFor_of_name (by decide)) rfl (Nat.le_of_ble_eq_true rfl) ?_
  intro p e s m args below meth c E hb hr hlk hnm hml hS ls hl
  have hl : lv_has ls 2 [(0, .ref (ad 0)), (1, .int x1)] := hl
  refine lv_aload_n E.1 hb dX0_openingOf_0 rfl (lv_at hl 0 rfl) ?_
  obtain ⟨q1, hr7, hf⟩ := bo_s hf
  refine c_gN (k := 0) (f := 100) E hb hS ci_1 (sK hS (by decide) rfl) rfl rfl rfl hr7 fk_X0_31_X0 (fun _ h => h) dX0_openingOf_1 ?_
  obtain ⟨hk, hf⟩ := gR_s hf
  refine c_gR (k := 11) (f := 211) E hb hS ci_2 hk rfl rfl rfl fk_X0_185_X1 (fun _ h => h) dX0_openingOf_4 ?_
  refine c_ifnonnull (tgt := 12) E hb dX0_openingOf_7 (by decide) (fun hc => ?_) (fun hc => ?_)
  · have hf := if_s hc hf
    refine lv_aload_n E.1 hb dX0_openingOf_12 rfl (lv_at hl 0 rfl) ?_
    refine c_gN (k := 6) (f := 106) (q := 11) E hb hS ci_1 (sK hS (by decide) rfl) rfl rfl rfl (sRf hS (by decide) rfl) fk_X0_55_X0 (fun _ h => h) dX0_openingOf_13 ?_
    refine c_gN (k := 0) (f := 500) (q := 12) E hb hS ci_5 (sK hS (by decide) rfl) rfl rfl rfl (sRf hS (by decide) rfl) fk_X0_189_X4 (fun _ h => h) dX0_openingOf_16 ?_
    refine lv_iconst (v := 0) E.1 hb dX0_openingOf_19 rfl ?_
    refine lv_iload_n E.1 hb dX0_openingOf_20 rfl (lv_at hl 1 rfl) ?_
    refine lv_i2l E.1 hb dX0_openingOf_21 rfl ?_
    obtain ⟨A3, hg, hw, hf⟩ := tJ_s hf
    refine s_lst E hb hS ⟨by decide, rfl, rfl⟩ hg hw dX0_openingOf_22 (fun H locs hS => ?_)
    refine lv_aload_n E.1 hb dX0_openingOf_23 rfl (lv_at hl 0 rfl) ?_
    obtain ⟨q4, hr7, hf⟩ := bo_s hf
    refine c_gN (k := 0) (f := 100) E hb hS ci_1 (sK hS (by decide) rfl) rfl rfl rfl hr7 fk_X0_31_X0 (fun _ h => h) dX0_openingOf_24 ?_
    obtain ⟨hk, hf⟩ := gR_s hf
    refine c_gR (k := 11) (f := 211) E hb hS ci_2 hk rfl rfl rfl fk_X0_185_X1 (fun _ h => h) dX0_openingOf_27 ?_
    refine lv_aload_n E.1 hb dX0_openingOf_30 rfl (lv_at hl 0 rfl) ?_
    refine c_gN (k := 6) (f := 106) (q := 11) E hb hS ci_1 (sK hS (by decide) rfl) rfl rfl rfl (sRf hS (by decide) rfl) fk_X0_55_X0 (fun _ h => h) dX0_openingOf_31 ?_
    obtain ⟨q6, hr9, hf⟩ := bo_s hf
    refine c_dr2 hr9 ?_
    obtain ⟨r7, A8, h1, hf⟩ := bd_s hf
    refine c_kl hS (c_runRcV E hb hml hS ha h1 q1263 ⟨by dsimp only; omega, by dsimp only; omega⟩ hl.1 (lv_room (Nat.le_of_ble_eq_true rfl)) dX0_openingOf_34 ⟨Nat.le_refl 0, Nat.le_refl 0⟩) hS.2.2.2.2 (fun H locs hS hn => ?_)
    refine lv_aload_n E.1 hb dX0_openingOf_37 rfl (lv_at hl 0 rfl) ?_
    obtain ⟨q9, hr7, hf⟩ := bo_s hf
    refine c_gN (k := 0) (f := 100) E hb hS ci_1 (sK hS (by decide) rfl) rfl rfl rfl hr7 fk_X0_31_X0 (fun _ h => h) dX0_openingOf_38 ?_
    obtain ⟨hk, hf⟩ := gI_s hf
    refine c_gI (k := 1) (f := 201) E hb hS ci_2 hk rfl rfl rfl fk_X0_154_X1 (fun _ h => h) dX0_openingOf_41 ?_
    refine lv_i2l E.1 hb dX0_openingOf_44 rfl ?_
    refine lv_lconst (v := 1) E.1 hb dX0_openingOf_45 rfl ?_
    refine lv_ladd E.1 hb dX0_openingOf_46 ?_
    obtain ⟨r11, h1, hf⟩ := bo_s hf
    refine c_kl hS (va_runS ⟨E.1, hb, hml, E.2.1, E.2.2.1⟩ (zJ12_floorMod h1) (va_cwS 2 E.2.2.1 gw_X0_199 rfl rfl rfl gnJ12_floorMod ⟨by dsimp only; omega, by dsimp only; omega⟩) (c_preS E hS _) rfl rfl hl.1 rfl (lv_room (Nat.le_of_ble_eq_true rfl)) dX0_openingOf_47 ⟨Nat.le_refl 0, Nat.le_refl 0⟩) hS.2.2.2.2 (fun H locs hS hn => ?_)
    refine lv_l2i E.1 hb dX0_openingOf_50 rfl ?_
    exact c_ir E hb hr hlk hS ⟨Nat.le_refl 0, Nat.le_refl 0⟩ hf dX0_openingOf_51
  · have hf := it_s hc hf
    refine lv_iconst (v := 0) E.1 hb dX0_openingOf_10 rfl ?_
    exact c_ir E hb hr hlk hS ⟨Nat.le_refl 0, Nat.le_refl 0⟩ hf dX0_openingOf_11
/-! MarginFolk.isOpen(II)Z: P -/
noncomputable def X0_isOpen (x0 : Int32) (x1 : Int32) : Option Int32 :=
  if x0 = x1 then (some 1) else (if x0 = (x1 - 1) then (some 1) else (some 0))
abbrev rX0_isOpen : Room := { frames := 0, cells := 0, slots := 0, locals := 0 }
set_option maxHeartbeats 4000000 in
theorem zX0_isOpen {l : Launch} {dC : Nat → ClassId} {dI : Nat → Nat → Nat} {ac : Nat → ClassId} {ad : Nat → Nat} {b : Prop} {A : AH} {x0 : Int32} {x1 : Int32} {r : Int32} (hf : X0_isOpen x0 x1 = some r) : Met l yX0_isOpen (ws_ yX0_isOpen cX0_isOpen 2 (some .boolean)) { frames := 0, cells := 0, slots := 0, locals := 0 } (va_Pc [.int x0, .int x1] (cPre dC dI ac ad b A)) (cQi dC dI ac ad b (aN A) (aS A) (aN A) (aS A) r A) 0 0 (cF ad) := by
  unfold X0_isOpen at hf
  refine c_of ⟨Nat.le_refl _, Nat.le_refl _⟩ RX0 (plainFor_of_name (by decide)) rfl (Nat.le_of_ble_eq_true rfl) ?_
  intro p e s m args below meth c E hb hr hlk hnm hml hS ls hl
  have hl : lv_has ls 2 [(0, .int x0), (1, .int x1)] := hl
  refine lv_iload_n E.1 hb dX0_isOpen_0 rfl (lv_at hl 0 rfl) ?_
  refine lv_iload_n E.1 hb dX0_isOpen_1 rfl (lv_at hl 1 rfl) ?_
  refine lv_icmp_eq (tgt := 12) E.1 hb dX0_isOpen_2 (by decide) (fun hc => ?_) (fun hc => ?_)
  · have hf := it_s hc hf
    refine lv_iconst (v := 1) E.1 hb dX0_isOpen_12 rfl ?_
    refine lv_goto (tgt := 17) E.1 hb dX0_isOpen_13 (by decide) ?_
    exact c_zr (ty := .boolean) E hb hr hlk hS ⟨Nat.le_refl 0, Nat.le_refl 0⟩ rfl (ro_s hf) dX0_isOpen_17
  · have hf := if_s hc hf
    refine lv_iload_n E.1 hb dX0_isOpen_5 rfl (lv_at hl 0 rfl) ?_
    refine lv_iload_n E.1 hb dX0_isOpen_6 rfl (lv_at hl 1 rfl) ?_
    refine lv_iconst (v := 1) E.1 hb dX0_isOpen_7 rfl ?_
    refine lv_isub E.1 hb dX0_isOpen_8 ?_
    refine lv_icmp_ne (tgt := 16) E.1 hb dX0_isOpen_9 (by decide) (fun hc => ?_) (fun hc => ?_)
    · have hf := if_s hc hf
      refine lv_iconst (v := 0) E.1 hb dX0_isOpen_16 rfl ?_
      exact c_zr (ty := .boolean) E hb hr hlk hS ⟨Nat.le_refl 0, Nat.le_refl 0⟩ rfl (ro_s hf) dX0_isOpen_17
    · have hf := it_s hc hf
      refine lv_iconst (v := 1) E.1 hb dX0_isOpen_12 rfl ?_
      refine lv_goto (tgt := 17) E.1 hb dX0_isOpen_13 (by decide) ?_
      exact c_zr (ty := .boolean) E hb hr hlk hS ⟨Nat.le_refl 0, Nat.le_refl 0⟩ rfl (ro_s hf) dX0_isOpen_17
theorem gw_X0_181 : GoodIn lw_all (va_wsS RX0 181 yX0_isOpen (ws_ yX0_isOpen cX0_isOpen 2 (some .boolean))) := lw_S q1311 q1312 q152 q1313
theorem gnX0_isOpen : yX0_isOpen.cls ≠ "java/lang/invoke/MethodHandle" ∧ yX0_isOpen.cls ≠ "java/lang/invoke/VarHandle" ∧ (parseMethodDescriptor yX0_isOpen.desc).map (fun d => d.parameters.length) = some 2 := by decide +kernel
/-! MarginFolk.liesOn(II)Z: RO -/
noncomputable def X0_liesOn (A : AH) (x1 : Int32) (x2 : Int32) : Option Int32 :=
  if x1 < 0 then (some 0) else (bo (aR A 100 0 0) fun q1 => bo (gI 2 A 201 q1) fun v2 => if v2 ≤ (x1 + 1) then (some 0) else (bo (X0_isOpen x1 x2) fun r3 => if r3 = 0 then (some 1) else (some 0)))
abbrev rX0_liesOn : Room := { frames := 1, cells := 0, slots := 0, locals := 21 }
set_option maxHeartbeats 4000000 in
theorem zX0_liesOn {l : Launch} {dC : Nat → ClassId} {dI : Nat → Nat → Nat} {ac : Nat → ClassId} {ad : Nat → Nat} {A : AH} {x1 : Int32} {x2 : Int32} {r : Int32} (hf : X0_liesOn A x1 x2 = some r) : Met l yX0_liesOn (ws_ yX0_liesOn cX0_liesOn 3 (some .boolean)) { frames := 1, cells := 0, slots := 0, locals := 21 } (va_Pc [.ref (ad 0), .int x1, .int x2] (cPre dC dI ac ad True A)) (cQi dC dI ac ad True (aN A) (aS A) (aN A) (aS A) r A) 0 0 (cF ad) := by
  unfold X0_liesOn at hf
  refine c_of ⟨Nat.le_refl _, Nat.le_refl _⟩ RX0 (plainFor_of_name (by decide)) rfl (Nat.le_of_ble_eq_true rfl) ?_
  intro p e s m args below meth c E hb hr hlk hnm hml hS ls hl
  have hl : lv_has ls 3 [(0, .ref (ad 0)), (1, .int x1), (2, .int x2)] := hl
  refine lv_iload_n E.1 hb dX0_liesOn_0 rfl (lv_at hl 1 rfl) ?_
  refine lv_if_lt (tgt := 29) E.1 hb dX0_liesOn_1 (by decide) (fun hc => ?_) (fun hc => ?_)
  · have hf := it_s hc hf
    refine lv_iconst (v := 0) E.1 hb dX0_liesOn_29 rfl ?_
    exact c_zr (ty := .boolean) E hb hr hlk hS ⟨Nat.le_refl 0, Nat.le_refl 0⟩ rfl (ro_s hf) dX0_liesOn_30
  · have hf := if_s hc hf
    refine lv_iload_n E.1 hb dX0_liesOn_4 rfl (lv_at hl 1 rfl) ?_
    refine lv_iconst (v := 1) E.1 hb dX0_liesOn_5 rfl ?_
    refine lv_iadd E.1 hb dX0_liesOn_6 ?_
    refine lv_aload_n E.1 hb dX0_liesOn_7 rfl (lv_at hl 0 rfl) ?_
    obtain ⟨q1, hr7, hf⟩ := bo_s hf
    refine c_gN (k := 0) (f := 100) E hb hS ci_1 (sK hS (by decide) rfl) rfl rfl rfl hr7 fk_X0_31_X0 (fun _ h => h) dX0_liesOn_8 ?_
    obtain ⟨hk, hf⟩ := gI_s hf
    refine c_gI (k := 1) (f := 201) E hb hS ci_2 hk rfl rfl rfl fk_X0_154_X1 (fun _ h => h) dX0_liesOn_11 ?_
    refine lv_icmp_ge (tgt := 29) E.1 hb dX0_liesOn_14 (by decide) (fun hc => ?_) (fun hc => ?_)
    · have hf := it_s hc hf
      refine lv_iconst (v := 0) E.1 hb dX0_liesOn_29 rfl ?_
      exact c_zr (ty := .boolean) E hb hr hlk hS ⟨Nat.le_refl 0, Nat.le_refl 0⟩ rfl (ro_s hf) dX0_liesOn_30
    · have hf := if_s hc hf
      refine lv_iload_n E.1 hb dX0_liesOn_17 rfl (lv_at hl 1 rfl) ?_
      refine lv_iload_n E.1 hb dX0_liesOn_18 rfl (lv_at hl 2 rfl) ?_
      obtain ⟨r3, h1, hf⟩ := bo_s hf
      refine c_ki hS (va_runS ⟨E.1, hb, hml, E.2.1, E.2.2.1⟩ (zX0_isOpen h1) (va_cwS 2 E.2.2.1 gw_X0_181 rfl rfl rfl gnX0_isOpen ⟨Nat.le_of_ble_eq_true rfl, Nat.le_of_ble_eq_true rfl⟩) (c_preS E hS _) rfl rfl hl.1 rfl (lv_room (Nat.le_of_ble_eq_true rfl)) dX0_liesOn_19 ⟨Nat.le_refl 0, Nat.le_refl 0⟩) hS.2.2.2.2 (fun H locs hS hn => ?_)
      refine lv_if_ne (tgt := 29) E.1 hb dX0_liesOn_22 (by decide) (fun hc => ?_) (fun hc => ?_)
      · have hf := if_s hc hf
        refine lv_iconst (v := 0) E.1 hb dX0_liesOn_29 rfl ?_
        exact c_zr (ty := .boolean) E hb hr hlk hS ⟨Nat.le_refl 0, Nat.le_refl 0⟩ rfl (ro_s hf) dX0_liesOn_30
      · have hf := it_s hc hf
        refine lv_iconst (v := 1) E.1 hb dX0_liesOn_25 rfl ?_
        refine lv_goto (tgt := 30) E.1 hb dX0_liesOn_26 (by decide) ?_
        exact c_zr (ty := .boolean) E hb hr hlk hS ⟨Nat.le_refl 0, Nat.le_refl 0⟩ rfl (ro_s hf) dX0_liesOn_30
theorem fk_X0_172_X1 : FLk RX0 172 "MarginFolk$Folio" (TX1 2).2.1 (TX1 2).2.2.1 := Or.inr ⟨_, q239⟩
/-! MarginFolk.mirrored(I)I: RO -/
noncomputable def X0_mirrored (A : AH) (x1 : Int32) : Option Int32 :=
  bo (aR A 100 0 0) fun q1 => bo (gI 2 A 202 q1) fun v2 => some ((v2 - 1) - x1)
abbrev rX0_mirrored : Room := { frames := 0, cells := 0, slots := 0, locals := 0 }
set_option maxHeartbeats 4000000 in
theorem zX0_mirrored {l : Launch} {dC : Nat → ClassId} {dI : Nat → Nat → Nat} {ac : Nat → ClassId} {ad : Nat → Nat} {A : AH} {x1 : Int32} {r : Int32} (hf : X0_mirrored A x1 = some r) : Met l yX0_mirrored (ws_ yX0_mirrored cX0_mirrored 2 (some .int)) { frames := 0, cells := 0, slots := 0, locals := 0 } (va_Pc [.ref (ad 0), .int x1] (cPre dC dI ac ad True A)) (cQi dC dI ac ad True (aN A) (aS A) (aN A) (aS A) r A) 0 0 (cF ad) := by
  unfold X0_mirrored at hf
  refine c_of ⟨Nat.le_refl _, Nat.le_refl _⟩ RX0 (plainFor_of_name (by decide)) rfl (Nat.le_of_ble_eq_true rfl) ?_
  intro p e s m args below meth c E hb hr hlk hnm hml hS ls hl
  have hl : lv_has ls 2 [(0, .ref (ad 0)), (1, .int x1)] := hl
  refine lv_aload_n E.1 hb dX0_mirrored_0 rfl (lv_at hl 0 rfl) ?_
  obtain ⟨q1, hr7, hf⟩ := bo_s hf
  refine c_gN (k := 0) (f := 100) E hb hS ci_1 (sK hS (by decide) rfl) rfl rfl rfl hr7 fk_X0_31_X0 (fun _ h => h) dX0_mirrored_1 ?_
  obtain ⟨hk, hf⟩ := gI_s hf
  refine c_gI (k := 2) (f := 202) E hb hS ci_2 hk rfl rfl rfl fk_X0_172_X1 (fun _ h => h) dX0_mirrored_4 ?_
  refine lv_iconst (v := 1) E.1 hb dX0_mirrored_7 rfl ?_
  refine lv_isub E.1 hb dX0_mirrored_8 ?_
  refine lv_iload_n E.1 hb dX0_mirrored_9 rfl (lv_at hl 1 rfl) ?_
  refine lv_isub E.1 hb dX0_mirrored_10 ?_
  exact c_ir E hb hr hlk hS ⟨Nat.le_refl 0, Nat.le_refl 0⟩ (ro_s hf) dX0_mirrored_11
theorem gw_X5_84 : GoodIn lw_all (va_wsS RX5 84 yJ12_min (ws_ yJ12_min cJ12_min 2 (some .int))) := lw_S q1306 q947 q172 q948
theorem gnX0_liesOn : yX0_liesOn.cls ≠ "java/lang/invoke/MethodHandle" ∧ yX0_liesOn.cls ≠ "java/lang/invoke/VarHandle" ∧ (parseMethodDescriptor yX0_liesOn.desc).map (fun d => d.parameters.length) = some 2 := by decide +kernel
theorem gnX0_mirrored : yX0_mirrored.cls ≠ "java/lang/invoke/MethodHandle" ∧ yX0_mirrored.cls ≠ "java/lang/invoke/VarHandle" ∧ (parseMethodDescriptor yX0_mirrored.desc).map (fun d => d.parameters.length) = some 1 := by decide +kernel
theorem gw_X5_78 : GoodIn lw_all (va_wsS RX5 78 yJ12_abs (ws_ yJ12_abs cJ12_abs 1 (some .int))) := lw_S q1303 q1304 q172 q1305
theorem gnJ12_abs : yJ12_abs.cls ≠ "java/lang/invoke/MethodHandle" ∧ yJ12_abs.cls ≠ "java/lang/invoke/VarHandle" ∧ (parseMethodDescriptor yJ12_abs.desc).map (fun d => d.parameters.length) = some 1 := by decide +kernel
/-! MarginFolk$State.meet(III)Z: RO -/
noncomputable def X5_meet_b25 (x0 : Nat) (x1 : Int32) (x2 : Int32) (x3 : Int32) (A : AH) (y0 : Int32) : Option Int32 :=
  if y0 = 0 then (some 0) else (bo (sI 8 31 A (x0 + 2) x1) fun v4 => bo (sI 8 31 A (x0 + 2) x2) fun v5 => bo (J12_min v4 v5) fun r6 => bo (X0_liesOn A r6 x3) fun r7 => if r7 = 0 then (some 0) else (bo (sI 8 31 A (x0 + 3) x1) fun v8 => bo (sI 8 31 A (x0 + 3) x2) fun v9 => bo (X0_mirrored A v9) fun r10 => if v8 = r10 then (some 1) else (some 0)))
noncomputable def X5_meet (A : AH) (x0 : Nat) (x1 : Int32) (x2 : Int32) (x3 : Int32) : Option Int32 :=
  if isStb x0 = true then (bo (sI 8 31 A (x0 + 2) x1) fun v1 => bo (sI 8 31 A (x0 + 2) x2) fun v2 => bo (J12_abs (v1 - v2)) fun r3 => if r3 = 1 then (X5_meet_b25 x0 x1 x2 x3 A 1) else (X5_meet_b25 x0 x1 x2 x3 A 0)) else none
abbrev rX5_meet : Room := { frames := 2, cells := 0, slots := 0, locals := 43 }
set_option maxHeartbeats 4000000 in
theorem zX5_meet {l : Launch} {dC : Nat → ClassId} {dI : Nat → Nat → Nat} {ac : Nat → ClassId} {ad : Nat → Nat} {A : AH} {x0 : Nat} {x1 : Int32} {x2 : Int32} {x3 : Int32} {r : Int32} (hf : X5_meet A x0 x1 x2 x3 = some r) : Met l yX5_meet (ws_ yX5_meet cX5_meet 5 (some .boolean)) { frames := 2, cells := 0, slots := 0, locals := 43 } (va_Pc [.ref (ad x0), .int x1, .int x2, .int x3] (cPre dC dI ac ad True A)) (cQi dC dI ac ad True (aN A) (aS A) (aN A) (aS A) r A) 0 0 (cF ad) := by
  unfold X5_meet at hf
  obtain ⟨hg0, hf⟩ := gu_s hf
  have hs0 := isSt_of hg0
  refine c_of ⟨Nat.le_refl _, Nat.le_refl _⟩ RX5 (plainFor_of_name (by decide)) rfl (Nat.le_of_ble_eq_true rfl) ?_
  intro p e s m args below meth c E hb hr hlk hnm hml hS ls hl
  have hl : lv_has ls 5 [(0, .ref (ad x0)), (1, .int x1), (2, .int x2), (3, .int x3)] := hl
  have hB25 : ∀ (y0 : Int32), X5_meet_b25 x0 x1 x2 x3 A y0 = some r → ∀ (H : Heap) (locs : List Loc), cS dC dI ac ad True s.heap (aN A) (aS A) (aN A) (aS A) A H locs → ∀ (ls : Array Slot), lv_has ls 5 [(0, .ref (ad x0)), (1, .int x1), (2, .int x2), (3, .int x3)] → W p l e rX5_meet s m args below meth c H locs 0 0 (MQ below (cQi dC dI ac ad True (aN A) (aS A) (aN A) (aS A) r A) args s 0 0 (cF ad)) (F0 m 25 ls [.int y0]) := by
    intro y0 hf H locs hS ls hl
    unfold X5_meet_b25 at hf
    refine lv_istore (lv' := [(4, .int y0), (0, .ref (ad x0)), (1, .int x1), (2, .int x2), (3, .int x3)]) E.1 hb dX5_meet_25 hl (by decide) rfl (fun ls hl => ?_)
    refine lv_iload E.1 hb dX5_meet_27 (lv_at hl 0 rfl) ?_
    refine lv_if_eq (tgt := 84) E.1 hb dX5_meet_29 (by decide) (fun hc => ?_) (fun hc => ?_)
    · have hf := it_s hc hf
      refine lv_iconst (v := 0) E.1 hb dX5_meet_84 rfl ?_
      exact c_zr (ty := .boolean) E hb hr hlk hS ⟨Nat.le_refl 0, Nat.le_refl 0⟩ rfl (ro_s hf) dX5_meet_85
    · have hf := if_s hc hf
      refine lv_aload_n E.1 hb dX5_meet_32 rfl (lv_at hl 1 rfl) ?_
      refine c_gN (k := 10) (f := 610) (q := 0) E hb hS ci_6 (sK hS (st_K0 hs0).1 (st_K0 hs0).2) rfl rfl rfl (st_R0 (cst hS) hs0) fk_X5_3_X5 (fun _ h => h) dX5_meet_33 ?_
      refine lv_aload_n E.1 hb dX5_meet_36 rfl (lv_at hl 1 rfl) ?_
      refine c_gN (k := 3) (f := 603) (q := (x0 + 2)) E hb hS ci_6 (sK hS (st_K0 hs0).1 (st_K0 hs0).2) rfl rfl rfl (st_R (cst hS) hs0 rfl (by decide)) fk_X5_19_X5 (fun _ h => h) dX5_meet_37 ?_
      refine lv_iload_n E.1 hb dX5_meet_40 rfl (lv_at hl 2 rfl) ?_
      obtain ⟨hg, hf⟩ := sI_s hf
      refine s_ld E hb hS (t := 31) (st_K hs0 2 (by decide)) hg (Or.inl ⟨rfl, rfl⟩) dX5_meet_41 ?_
      refine lv_aload_n E.1 hb dX5_meet_42 rfl (lv_at hl 1 rfl) ?_
      refine c_gN (k := 3) (f := 603) (q := (x0 + 2)) E hb hS ci_6 (sK hS (st_K0 hs0).1 (st_K0 hs0).2) rfl rfl rfl (st_R (cst hS) hs0 rfl (by decide)) fk_X5_19_X5 (fun _ h => h) dX5_meet_43 ?_
      refine lv_iload_n E.1 hb dX5_meet_46 rfl (lv_at hl 3 rfl) ?_
      obtain ⟨hg, hf⟩ := sI_s hf
      refine s_ld E hb hS (t := 31) (st_K hs0 2 (by decide)) hg (Or.inl ⟨rfl, rfl⟩) dX5_meet_47 ?_
      obtain ⟨r6, h1, hf⟩ := bo_s hf
      refine c_ki hS (va_runS ⟨E.1, hb, hml, E.2.1, E.2.2.1⟩ (zJ12_min h1) (va_cwS 2 E.2.2.1 gw_X5_84 rfl rfl rfl gnJ12_min ⟨Nat.le_of_ble_eq_true rfl, Nat.le_of_ble_eq_true rfl⟩) (c_preS E hS _) rfl rfl hl.1 rfl (lv_room (Nat.le_of_ble_eq_true rfl)) dX5_meet_48 ⟨Nat.le_refl 0, Nat.le_refl 0⟩) hS.2.2.2.2 (fun H locs hS hn => ?_)
      refine lv_iload_n E.1 hb dX5_meet_51 rfl (lv_at hl 4 rfl) ?_
      obtain ⟨r7, h1, hf⟩ := bo_s hf
      refine c_ki hS (va_runVN ⟨E.1, hb, hml, E.2.1, E.2.2.1⟩ (zX0_liesOn h1) ⟨va_cnB 2 E.2.2.1 (lw_meth q1310) rfl rfl rfl (E.2.2.2.2.1 _ q1307 rfl) (E.2.2.1 _ q152) gnX0_liesOn ⟨Nat.le_of_ble_eq_true rfl, Nat.le_of_ble_eq_true rfl⟩, E.2.2.1 _ q1309, E.2.2.1 _ qs38⟩ (c_preV E hS ci_1 (sK hS (by decide) rfl) (hS.1.lt (sK hS (by decide) rfl) rfl) _) rfl rfl hl.1 rfl (lv_room (Nat.le_of_ble_eq_true rfl)) dX5_meet_52 ⟨Nat.le_refl 0, Nat.le_refl 0⟩) hS.2.2.2.2 (fun H locs hS hn => ?_)
      refine lv_if_eq (tgt := 84) E.1 hb dX5_meet_55 (by decide) (fun hc => ?_) (fun hc => ?_)
      · have hf := it_s hc hf
        refine lv_iconst (v := 0) E.1 hb dX5_meet_84 rfl ?_
        exact c_zr (ty := .boolean) E hb hr hlk hS ⟨Nat.le_refl 0, Nat.le_refl 0⟩ rfl (ro_s hf) dX5_meet_85
      · have hf := if_s hc hf
        refine lv_aload_n E.1 hb dX5_meet_58 rfl (lv_at hl 1 rfl) ?_
        refine c_gN (k := 4) (f := 604) (q := (x0 + 3)) E hb hS ci_6 (sK hS (st_K0 hs0).1 (st_K0 hs0).2) rfl rfl rfl (st_R (cst hS) hs0 rfl (by decide)) fk_X5_22_X5 (fun _ h => h) dX5_meet_59 ?_
        refine lv_iload_n E.1 hb dX5_meet_62 rfl (lv_at hl 2 rfl) ?_
        obtain ⟨hg, hf⟩ := sI_s hf
        refine s_ld E hb hS (t := 31) (st_K hs0 3 (by decide)) hg (Or.inl ⟨rfl, rfl⟩) dX5_meet_63 ?_
        refine lv_aload_n E.1 hb dX5_meet_64 rfl (lv_at hl 1 rfl) ?_
        refine c_gN (k := 10) (f := 610) (q := 0) E hb hS ci_6 (sK hS (st_K0 hs0).1 (st_K0 hs0).2) rfl rfl rfl (st_R0 (cst hS) hs0) fk_X5_3_X5 (fun _ h => h) dX5_meet_65 ?_
        refine lv_aload_n E.1 hb dX5_meet_68 rfl (lv_at hl 1 rfl) ?_
        refine c_gN (k := 4) (f := 604) (q := (x0 + 3)) E hb hS ci_6 (sK hS (st_K0 hs0).1 (st_K0 hs0).2) rfl rfl rfl (st_R (cst hS) hs0 rfl (by decide)) fk_X5_22_X5 (fun _ h => h) dX5_meet_69 ?_
        refine lv_iload_n E.1 hb dX5_meet_72 rfl (lv_at hl 3 rfl) ?_
        obtain ⟨hg, hf⟩ := sI_s hf
        refine s_ld E hb hS (t := 31) (st_K hs0 3 (by decide)) hg (Or.inl ⟨rfl, rfl⟩) dX5_meet_73 ?_
        obtain ⟨r10, h1, hf⟩ := bo_s hf
        refine c_ki hS (va_runVN ⟨E.1, hb, hml, E.2.1, E.2.2.1⟩ (zX0_mirrored h1) ⟨va_cnB 1 E.2.2.1 (lw_meth q1317) rfl rfl rfl (E.2.2.2.2.1 _ q1314 rfl) (E.2.2.1 _ q152) gnX0_mirrored ⟨Nat.le_of_ble_eq_true rfl, Nat.le_of_ble_eq_true rfl⟩, E.2.2.1 _ q1316, E.2.2.1 _ qs39⟩ (c_preV E hS ci_1 (sK hS (by decide) rfl) (hS.1.lt (sK hS (by decide) rfl) rfl) _) rfl rfl hl.1 rfl (lv_room (Nat.le_of_ble_eq_true rfl)) dX5_meet_74 ⟨Nat.le_refl 0, Nat.le_refl 0⟩) hS.2.2.2.2 (fun H locs hS hn => ?_)
        refine lv_icmp_ne (tgt := 84) E.1 hb dX5_meet_77 (by decide) (fun hc => ?_) (fun hc => ?_)
        · have hf := if_s hc hf
          refine lv_iconst (v := 0) E.1 hb dX5_meet_84 rfl ?_
          exact c_zr (ty := .boolean) E hb hr hlk hS ⟨Nat.le_refl 0, Nat.le_refl 0⟩ rfl (ro_s hf) dX5_meet_85
        · have hf := it_s hc hf
          refine lv_iconst (v := 1) E.1 hb dX5_meet_80 rfl ?_
          refine lv_goto (tgt := 85) E.1 hb dX5_meet_81 (by decide) ?_
          exact c_zr (ty := .boolean) E hb hr hlk hS ⟨Nat.le_refl 0, Nat.le_refl 0⟩ rfl (ro_s hf) dX5_meet_85
  refine lv_aload_n E.1 hb dX5_meet_0 rfl (lv_at hl 0 rfl) ?_
  refine c_gN (k := 3) (f := 603) (q := (x0 + 2)) E hb hS ci_6 (sK hS (st_K0 hs0).1 (st_K0 hs0).2) rfl rfl rfl (st_R (cst hS) hs0 rfl (by decide)) fk_X5_19_X5 (fun _ h => h) dX5_meet_1 ?_
  refine lv_iload_n E.1 hb dX5_meet_4 rfl (lv_at hl 1 rfl) ?_
  obtain ⟨hg, hf⟩ := sI_s hf
  refine s_ld E hb hS (t := 31) (st_K hs0 2 (by decide)) hg (Or.inl ⟨rfl, rfl⟩) dX5_meet_5 ?_
  refine lv_aload_n E.1 hb dX5_meet_6 rfl (lv_at hl 0 rfl) ?_
  refine c_gN (k := 3) (f := 603) (q := (x0 + 2)) E hb hS ci_6 (sK hS (st_K0 hs0).1 (st_K0 hs0).2) rfl rfl rfl (st_R (cst hS) hs0 rfl (by decide)) fk_X5_19_X5 (fun _ h => h) dX5_meet_7 ?_
  refine lv_iload_n E.1 hb dX5_meet_10 rfl (lv_at hl 2 rfl) ?_
  obtain ⟨hg, hf⟩ := sI_s hf
  refine s_ld E hb hS (t := 31) (st_K hs0 2 (by decide)) hg (Or.inl ⟨rfl, rfl⟩) dX5_meet_11 ?_
  refine lv_isub E.1 hb dX5_meet_12 ?_
  obtain ⟨r3, h1, hf⟩ := bo_s hf
  refine c_ki hS (va_runS ⟨E.1, hb, hml, E.2.1, E.2.2.1⟩ (zJ12_abs h1) (va_cwS 1 E.2.2.1 gw_X5_78 rfl rfl rfl gnJ12_abs ⟨Nat.le_of_ble_eq_true rfl, Nat.le_of_ble_eq_true rfl⟩) (c_preS E hS _) rfl rfl hl.1 rfl (lv_room (Nat.le_of_ble_eq_true rfl)) dX5_meet_13 ⟨Nat.le_refl 0, Nat.le_refl 0⟩) hS.2.2.2.2 (fun H locs hS hn => ?_)
  refine lv_iconst (v := 1) E.1 hb dX5_meet_16 rfl ?_
  refine lv_icmp_ne (tgt := 24) E.1 hb dX5_meet_17 (by decide) (fun hc => ?_) (fun hc => ?_)
  · have hf := if_s hc hf
    refine lv_iconst (v := 0) E.1 hb dX5_meet_24 rfl ?_
    exact hB25 0 hf _ _ hS _ (lv_sub hl [0, 1, 2, 3] rfl)
  · have hf := it_s hc hf
    refine lv_iconst (v := 1) E.1 hb dX5_meet_20 rfl ?_
    refine lv_goto (tgt := 25) E.1 hb dX5_meet_21 (by decide) ?_
    exact hB25 1 hf _ _ hS _ (lv_sub hl [0, 1, 2, 3] rfl)
theorem gw_X0_166 : GoodIn lw_all (wsV RX0 166 RX0 yX0_beings (ws_ yX0_beings cX0_beings 1 (some .int))) := lw_V q1258 q1233 qs34 q152 q1234
theorem fk_X0_358_X0 : FLk RX0 358 "MarginFolk" (TX0 22).2.1 (TX0 22).2.2.1 := Or.inl q498
theorem fk_X0_213_X5 : FLk RX0 213 "MarginFolk$State" (TX5 0).2.1 (TX5 0).2.2.1 := Or.inr ⟨_, q426⟩
theorem gw_X0_216 : GoodIn lw_all (wsV RX0 216 RX0 yX0_openingOf (ws_ yX0_openingOf cX0_openingOf 2 (some .int))) := lw_V q1259 q1261 qs36 q152 q1262
theorem gnX0_openingOf : yX0_openingOf.cls ≠ "java/lang/invoke/MethodHandle" ∧ yX0_openingOf.cls ≠ "java/lang/invoke/VarHandle" ∧ (parseMethodDescriptor yX0_openingOf.desc).map (fun d => d.parameters.length) = some 1 := by decide +kernel
theorem gw_X0_269 : GoodIn lw_all (wsV RX0 269 RX5 yX5_meet (ws_ yX5_meet cX5_meet 5 (some .boolean))) := lw_V q1299 q1300 q1301 q163 q1302
theorem gnX5_meet : yX5_meet.cls ≠ "java/lang/invoke/MethodHandle" ∧ yX5_meet.cls ≠ "java/lang/invoke/VarHandle" ∧ (parseMethodDescriptor yX5_meet.desc).map (fun d => d.parameters.length) = some 3 := by decide +kernel
/-! MarginFolk.looked(IJ)J: RW -/
noncomputable def X0_looked (rv : AH → Nat → Nat → Option (Int64 × AH)) (A0 : AH) (x1 : Int32) (x2 : Int64) : Option (Int64 × AH) :=
  if x1 = 0 then (if x2 < 0 then (some (0, A0)) else (bo (X0_beings A0) fun r1 => if (Int32.toInt64 r1) ≤ x2 then (some (0, A0)) else (if x2 = (Int32.toInt64 (aI A0 122 0 0)) then (some (0, A0)) else (bd (X0_openingOf rv A0 (aI A0 600 16 0)) fun r2 A3 => bo (X5_meet A3 16 (aI A0 122 0 0) (Int64.toInt32 x2) r2) fun r4 => if r4 = 0 then (some (0, A3)) else (some (1, A3)))))) else (some (0, A0))
set_option maxHeartbeats 4000000 in
theorem zX0_looked {l : Launch} {dC : Nat → ClassId} {dI : Nat → Nat → Nat} {ac : Nat → ClassId} {ad : Nat → Nat} {rv : AH → Nat → Nat → Option (Int64 × AH)} {fa la : Nat} (ha : RcV l dC dI ac ad fa la rv) {A0 : AH} {x1 : Int32} {x2 : Int64} {r : Int64} {A' : AH} (hf : X0_looked rv A0 x1 x2 = some (r, A')) : Met l yX0_looked (ws_ yX0_looked cX0_looked 4 (some .long)) { frames := fa + 3, cells := 0, slots := 0, locals := la + 67 } (va_Pc [.ref (ad 0), .int x1, .long x2] (cPre dC dI ac ad True A0)) (cQl dC dI ac ad True (aN A0) (aS A0) (aN A0) (aS A0) r A') 0 0 (cF ad) := by
  unfold X0_looked at hf
  refine c_of ⟨Nat.le_refl _, Nat.le_refl _⟩ RX0 (plainFor_of_name (by decide)) rfl (Nat.le_of_ble_eq_true rfl) ?_
  intro p e s m args below meth c E hb hr hlk hnm hml hS ls hl
  have hl : lv_has ls 4 [(0, .ref (ad 0)), (1, .int x1), (2, .long x2)] := hl
  refine lv_iload_n E.1 hb dX0_looked_0 rfl (lv_at hl 1 rfl) ?_
  refine lv_if_ne (tgt := 61) E.1 hb dX0_looked_1 (by decide) (fun hc => ?_) (fun hc => ?_)
  · have hf := if_s hc hf
    refine lv_lconst (v := 0) E.1 hb dX0_looked_61 rfl ?_
    exact c_lr E hb hr hlk hS ⟨Nat.le_refl 0, Nat.le_refl 0⟩ hf dX0_looked_62
  · have hf := it_s hc hf
    refine lv_lload_n E.1 hb dX0_looked_4 rfl (lv_at hl 2 rfl) ?_
    refine lv_lconst (v := 0) E.1 hb dX0_looked_5 rfl ?_
    refine lv_lc_lt (tgt := 61) E.1 hb dX0_looked_6 dX0_looked_7 (by decide) (fun hc => ?_) (fun hc => ?_)
    · have hf := it_s hc hf
      refine lv_lconst (v := 0) E.1 hb dX0_looked_61 rfl ?_
      exact c_lr E hb hr hlk hS ⟨Nat.le_refl 0, Nat.le_refl 0⟩ hf dX0_looked_62
    · have hf := if_s hc hf
      refine lv_lload_n E.1 hb dX0_looked_10 rfl (lv_at hl 2 rfl) ?_
      refine lv_aload_n E.1 hb dX0_looked_11 rfl (lv_at hl 0 rfl) ?_
      obtain ⟨r1, h1, hf⟩ := bo_s hf
      refine c_ki hS (va_runV ⟨E.1, hb, hml, E.2.1, E.2.2.1⟩ (zX0_beings h1) (cwV 0 E.2.2.1 gw_X0_166 rfl rfl rfl ⟨rfl, gnX0_beings⟩ ⟨by dsimp only; omega, by dsimp only; omega⟩) (c_preV E hS ci_1 (sK hS (by decide) rfl) (hS.1.lt (sK hS (by decide) rfl) rfl) _) rfl rfl hl.1 rfl (lv_room (Nat.le_of_ble_eq_true rfl)) dX0_looked_12 ⟨Nat.le_refl 0, Nat.le_refl 0⟩) hS.2.2.2.2 (fun H locs hS hn => ?_)
      refine lv_i2l E.1 hb dX0_looked_15 rfl ?_
      refine lv_lc_ge (tgt := 61) E.1 hb dX0_looked_16 dX0_looked_17 (by decide) (fun hc => ?_) (fun hc => ?_)
      · have hf := it_s hc hf
        refine lv_lconst (v := 0) E.1 hb dX0_looked_61 rfl ?_
        exact c_lr E hb hr hlk hS ⟨Nat.le_refl 0, Nat.le_refl 0⟩ hf dX0_looked_62
      · have hf := if_s hc hf
        refine lv_lload_n E.1 hb dX0_looked_20 rfl (lv_at hl 2 rfl) ?_
        refine lv_aload_n E.1 hb dX0_looked_21 rfl (lv_at hl 0 rfl) ?_
        refine c_gI (k := 22) (f := 122) E hb hS ci_1 (sK hS (by decide) rfl) rfl rfl rfl fk_X0_358_X0 (fun _ h => h) dX0_looked_22 ?_
        refine lv_i2l E.1 hb dX0_looked_25 rfl ?_
        refine lv_lc_eq (tgt := 61) E.1 hb dX0_looked_26 dX0_looked_27 (by decide) (fun hc => ?_) (fun hc => ?_)
        · have hf := it_s hc hf
          refine lv_lconst (v := 0) E.1 hb dX0_looked_61 rfl ?_
          exact c_lr E hb hr hlk hS ⟨Nat.le_refl 0, Nat.le_refl 0⟩ hf dX0_looked_62
        · have hf := if_s hc hf
          refine lv_aload_n E.1 hb dX0_looked_30 rfl (lv_at hl 0 rfl) ?_
          refine c_gN (k := 9) (f := 109) (q := 16) E hb hS ci_1 (sK hS (by decide) rfl) rfl rfl rfl (sRf hS (by decide) rfl) fk_X0_69_X0 (fun _ h => h) dX0_looked_31 ?_
          refine lv_aload_n E.1 hb dX0_looked_34 rfl (lv_at hl 0 rfl) ?_
          refine c_gI (k := 22) (f := 122) E hb hS ci_1 (sK hS (by decide) rfl) rfl rfl rfl fk_X0_358_X0 (fun _ h => h) dX0_looked_35 ?_
          refine lv_lload_n E.1 hb dX0_looked_38 rfl (lv_at hl 2 rfl) ?_
          refine lv_l2i E.1 hb dX0_looked_39 rfl ?_
          refine lv_aload_n E.1 hb dX0_looked_40 rfl (lv_at hl 0 rfl) ?_
          refine lv_aload_n E.1 hb dX0_looked_41 rfl (lv_at hl 0 rfl) ?_
          refine c_gN (k := 9) (f := 109) (q := 16) E hb hS ci_1 (sK hS (by decide) rfl) rfl rfl rfl (sRf hS (by decide) rfl) fk_X0_69_X0 (fun _ h => h) dX0_looked_42 ?_
          refine c_gI (k := 0) (f := 600) E hb hS ci_6 (sK hS (by decide) rfl) rfl rfl rfl fk_X0_213_X5 (fun _ h => h) dX0_looked_45 ?_
          obtain ⟨r2, A3, h1, hf⟩ := bd_s hf
          refine c_ki hS (va_runV ⟨E.1, hb, hml, E.2.1, E.2.2.1⟩ (zX0_openingOf ha h1) (cwV 1 E.2.2.1 gw_X0_216 rfl rfl rfl ⟨rfl, gnX0_openingOf⟩ ⟨by dsimp only; omega, by dsimp only; omega⟩) (c_preV E hS ci_1 (sK hS (by decide) rfl) (hS.1.lt (sK hS (by decide) rfl) rfl) _) rfl rfl hl.1 rfl (lv_room (Nat.le_of_ble_eq_true rfl)) dX0_looked_48 ⟨Nat.le_refl 0, Nat.le_refl 0⟩) hS.2.2.2.2 (fun H locs hS hn => ?_)
          obtain ⟨r4, h1, hf⟩ := bo_s hf
          refine c_ki hS (va_runV ⟨E.1, hb, hml, E.2.1, E.2.2.1⟩ (zX5_meet h1) (cwV 3 E.2.2.1 gw_X0_269 rfl rfl rfl ⟨rfl, gnX5_meet⟩ ⟨by dsimp only; omega, by dsimp only; omega⟩) (c_preV E hS ci_6 (sK hS (by decide) rfl) (hS.1.lt (sK hS (by decide) rfl) rfl) _) rfl rfl hl.1 rfl (lv_room (Nat.le_of_ble_eq_true rfl)) dX0_looked_51 ⟨Nat.le_refl 0, Nat.le_refl 0⟩) hS.2.2.2.2 (fun H locs hS hn => ?_)
          refine lv_if_eq (tgt := 61) E.1 hb dX0_looked_54 (by decide) (fun hc => ?_) (fun hc => ?_)
          · have hf := it_s hc hf
            refine lv_lconst (v := 0) E.1 hb dX0_looked_61 rfl ?_
            exact c_lr E hb hr hlk hS ⟨Nat.le_refl 0, Nat.le_refl 0⟩ hf dX0_looked_62
          · have hf := if_s hc hf
            refine lv_lconst (v := 1) E.1 hb dX0_looked_57 rfl ?_
            refine lv_goto (tgt := 62) E.1 hb dX0_looked_58 (by decide) ?_
            exact c_lr E hb hr hlk hS ⟨Nat.le_refl 0, Nat.le_refl 0⟩ hf dX0_looked_62
theorem gnX0_looked : yX0_looked.cls ≠ "java/lang/invoke/MethodHandle" ∧ yX0_looked.cls ≠ "java/lang/invoke/VarHandle" ∧ (parseMethodDescriptor yX0_looked.desc).map (fun d => d.parameters.length) = some 2 := by decide +kernel
/-! MarginFolk$Looked.at(LMarginFolk$Moment;)J: RW -/
noncomputable def X13_at (rv : AH → Nat → Nat → Option (Int64 × AH)) (A0 : AH) (x0 : Nat) (x1 : Nat) : Option (Int64 × AH) :=
  bo (gN 12 A0 1202 x0) fun q1 => bo (gI 12 A0 1200 x0) fun v2 => bo (gR 12 A0 1201 x0) fun v3 => bo v3 fun q4 => bd (rv A0 q4 x1) fun r5 A6 => if q1 = 0 then ( bd (X0_looked rv A6 v2 r5) fun r7 A8 => bo (X0_held r7) fun r9 => some (r9, A8)) else none
set_option maxHeartbeats 4000000 in
theorem zX13_at {l : Launch} {dC : Nat → ClassId} {dI : Nat → Nat → Nat} {ac : Nat → ClassId} {ad : Nat → Nat} {rv : AH → Nat → Nat → Option (Int64 × AH)} {fa la : Nat} (ha : RcV l dC dI ac ad fa la rv) {A0 : AH} {x0 : Nat} {x1 : Nat} {r : Int64} {A' : AH} (hf : X13_at rv A0 x0 x1 = some (r, A')) : Met l yX13_at (ws_ yX13_at cX13_at 2 (some .long)) { frames := fa + 4, cells := 0, slots := 0, locals := la + 90 } (va_Pc [.ref (ad x0), .ref (ad x1)] (cPre dC dI ac ad True A0)) (cQl dC dI ac ad True (aN A0) (aS A0) (aN A0) (aS A0) r A') 0 0 (cF ad) := by
  unfold X13_at at hf
  refine c_of ⟨Nat.le_refl _, Nat.le_refl _⟩ RX13 (plainFor_of_name (by decide)) rfl (Nat.le_of_ble_eq_true rfl) ?_
  intro p e s m args below meth c E hb hr hlk hnm hml hS ls hl
  have hl : lv_has ls 2 [(0, .ref (ad x0)), (1, .ref (ad x1))] := hl
  refine lv_aload_n E.1 hb dX13_at_0 rfl (lv_at hl 0 rfl) ?_
  obtain ⟨q1, hk, hf⟩ := gN_s hf
  refine c_gN (k := 2) (f := 1202) E hb hS ci_12 hk.1 rfl rfl rfl hk.2 fk_X13_1_X13 (fun _ h => h) dX13_at_1 ?_
  refine lv_aload_n E.1 hb dX13_at_4 rfl (lv_at hl 0 rfl) ?_
  obtain ⟨hk, hf⟩ := gI_s hf
  refine c_gI (k := 0) (f := 1200) E hb hS ci_12 hk rfl rfl rfl fk_X13_13_X13 (fun _ h => h) dX13_at_5 ?_
  refine lv_aload_n E.1 hb dX13_at_8 rfl (lv_at hl 0 rfl) ?_
  obtain ⟨hk, hf⟩ := gR_s hf
  refine c_gR (k := 1) (f := 1201) E hb hS ci_12 hk rfl rfl rfl fk_X13_17_X13 (fun _ h => h) dX13_at_9 ?_
  refine lv_aload_n E.1 hb dX13_at_12 rfl (lv_at hl 1 rfl) ?_
  obtain ⟨q4, hr9, hf⟩ := bo_s hf
  refine c_dr2 hr9 ?_
  obtain ⟨r5, A6, h1, hf⟩ := bd_s hf
  refine c_kl hS (c_runRcV E hb hml hS ha h1 q1291 ⟨by dsimp only; omega, by dsimp only; omega⟩ hl.1 (lv_room (Nat.le_of_ble_eq_true rfl)) dX13_at_13 ⟨Nat.le_refl 0, Nat.le_refl 0⟩) hS.2.2.2.2 (fun H locs hS hn => ?_)
  obtain ⟨hg0, hf9⟩ := gu_s hf
  subst hg0
  have hf := hf9
  obtain ⟨r7, A8, h1, hf⟩ := bd_s hf
  refine c_kl hS (va_runVN ⟨E.1, hb, hml, E.2.1, E.2.2.1⟩ (zX0_looked ha h1) ⟨va_cnB 2 E.2.2.1 (lw_meth q1298) rfl rfl rfl (E.2.2.2.2.1 _ q1295 rfl) (E.2.2.1 _ q152) gnX0_looked ⟨by dsimp only; omega, by dsimp only; omega⟩, E.2.2.1 _ q1297, E.2.2.1 _ qs37⟩ (c_preV E hS ci_1 (sK hS (by decide) rfl) (hS.1.lt (sK hS (by decide) rfl) rfl) _) rfl rfl hl.1 rfl (lv_room (Nat.le_of_ble_eq_true rfl)) dX13_at_16 ⟨Nat.le_refl 0, Nat.le_refl 0⟩) hS.2.2.2.2 (fun H locs hS hn => ?_)
  obtain ⟨r9, h1, hf⟩ := bo_s hf
  refine c_kl hS (va_runSN ⟨E.1, hb, hml, E.2.1, E.2.2.1⟩ (zX0_held h1) ⟨va_cnB 1 E.2.2.1 (lw_meth q1271) rfl rfl rfl (E.2.2.2.2.1 _ q1318 rfl) (E.2.2.1 _ q152) gnX0_held ⟨by dsimp only; omega, by dsimp only; omega⟩, E.2.2.1 _ q1270, trivial⟩ (c_preS E hS _) rfl rfl hl.1 rfl (lv_room (Nat.le_of_ble_eq_true rfl)) dX13_at_19 ⟨Nat.le_refl 0, Nat.le_refl 0⟩) hS.2.2.2.2 (fun H locs hS hn => ?_)
  exact c_lr E hb hr hlk hS ⟨Nat.le_refl 0, Nat.le_refl 0⟩ hf dX13_at_22
/-! MarginFolk$Fixed.at(LMarginFolk$Moment;)J: RO -/
noncomputable def X11_at (A : AH) (x0 : Nat) (x1 : Nat) : Option Int64 :=
  bo (gJ 10 A 1000 x0) fun v1 => some v1
abbrev rX11_at : Room := { frames := 0, cells := 0, slots := 0, locals := 0 }
set_option maxHeartbeats 4000000 in
theorem zX11_at {l : Launch} {dC : Nat → ClassId} {dI : Nat → Nat → Nat} {ac : Nat → ClassId} {ad : Nat → Nat} {A : AH} {x0 : Nat} {x1 : Nat} {r : Int64} (hf : X11_at A x0 x1 = some r) : Met l yX11_at (ws_ yX11_at cX11_at 2 (some .long)) { frames := 0, cells := 0, slots := 0, locals := 0 } (va_Pc [.ref (ad x0), .ref (ad x1)] (cPre dC dI ac ad True A)) (cQl dC dI ac ad True (aN A) (aS A) (aN A) (aS A) r A) 0 0 (cF ad) := by
  unfold X11_at at hf
  refine c_of ⟨Nat.le_refl _, Nat.le_refl _⟩ RX11 (plainFor_of_name (by decide)) rfl (Nat.le_of_ble_eq_true rfl) ?_
  intro p e s m args below meth c E hb hr hlk hnm hml hS ls hl
  have hl : lv_has ls 2 [(0, .ref (ad x0)), (1, .ref (ad x1))] := hl
  refine lv_aload_n E.1 hb dX11_at_0 rfl (lv_at hl 0 rfl) ?_
  obtain ⟨hk, hf⟩ := gJ_s hf
  refine c_gJ (k := 0) (f := 1000) E hb hS ci_10 hk rfl rfl rfl fk_X11_7_X11 (fun _ h => h) dX11_at_1 ?_
  exact c_lr E hb hr hlk hS ⟨Nat.le_refl 0, Nat.le_refl 0⟩ (ro_s hf) dX11_at_4
theorem fk_X12_13_X4 : FLk RX12 13 "MarginFolk$Moment" (TX4 0).2.1 (TX4 0).2.2.1 := Or.inr ⟨_, q410⟩
/-! MarginFolk$Asked.at(LMarginFolk$Moment;)J: RO -/
noncomputable def X12_at (A : AH) (x0 : Nat) (x1 : Nat) : Option Int64 :=
  bo (gN 5 A 500 x1) fun q1 => bo (gI 11 A 1100 x0) fun v2 => bo (dJ_ A q1 v2) fun v3 => bo (X0_held v3) fun r4 => some r4
abbrev rX12_at : Room := { frames := 2, cells := 0, slots := 0, locals := 44 }
set_option maxHeartbeats 4000000 in
theorem zX12_at {l : Launch} {dC : Nat → ClassId} {dI : Nat → Nat → Nat} {ac : Nat → ClassId} {ad : Nat → Nat} {A : AH} {x0 : Nat} {x1 : Nat} {r : Int64} (hf : X12_at A x0 x1 = some r) : Met l yX12_at (ws_ yX12_at cX12_at 2 (some .long)) { frames := 2, cells := 0, slots := 0, locals := 44 } (va_Pc [.ref (ad x0), .ref (ad x1)] (cPre dC dI ac ad True A)) (cQl dC dI ac ad True (aN A) (aS A) (aN A) (aS A) r A) 0 0 (cF ad) := by
  unfold X12_at at hf
  refine c_of ⟨Nat.le_refl _, Nat.le_refl _⟩ RX12 (plainFor_of_name (by decide)) rfl (Nat.le_of_ble_eq_true rfl) ?_
  intro p e s m args below meth c E hb hr hlk hnm hml hS ls hl
  have hl : lv_has ls 2 [(0, .ref (ad x0)), (1, .ref (ad x1))] := hl
  refine lv_aload_n E.1 hb dX12_at_0 rfl (lv_at hl 1 rfl) ?_
  obtain ⟨q1, hk, hf⟩ := gN_s hf
  refine c_gN (k := 0) (f := 500) E hb hS ci_5 hk.1 rfl rfl rfl hk.2 fk_X12_13_X4 (fun _ h => h) dX12_at_1 ?_
  refine lv_aload_n E.1 hb dX12_at_4 rfl (lv_at hl 0 rfl) ?_
  obtain ⟨hk, hf⟩ := gI_s hf
  refine c_gI (k := 0) (f := 1100) E hb hS ci_11 hk rfl rfl rfl fk_X12_7_X12 (fun _ h => h) dX12_at_5 ?_
  obtain ⟨hg, hf⟩ := dJ_s hf
  refine c_lld E hb hS hg.1 hg.2 dX12_at_8 ?_
  obtain ⟨r4, h1, hf⟩ := bo_s hf
  refine c_kl hS (va_runSN ⟨E.1, hb, hml, E.2.1, E.2.2.1⟩ (zX0_held h1) ⟨va_cnB 1 E.2.2.1 (lw_meth q1271) rfl rfl rfl (E.2.2.2.2.1 _ q1269 rfl) (E.2.2.1 _ q152) gnX0_held ⟨Nat.le_of_ble_eq_true rfl, Nat.le_of_ble_eq_true rfl⟩, E.2.2.1 _ q1270, trivial⟩ (c_preS E hS _) rfl rfl hl.1 rfl (lv_room (Nat.le_of_ble_eq_true rfl)) dX12_at_9 ⟨Nat.le_refl 0, Nat.le_refl 0⟩) hS.2.2.2.2 (fun H locs hS hn => ?_)
  exact c_lr E hb hr hlk hS ⟨Nat.le_refl 0, Nat.le_refl 0⟩ (ro_s hf) dX12_at_12
/-! the recursion v closed -/
noncomputable def valG (N : Nat) : Nat → AH → Nat → Nat → Option (Int64 × AH)
  | 0 => fun _ _ _ => none
  | d + 1 => fun A v w => if aK A v = 8 then (X9_at N (valG N d) A v w) else (if aK A v = 9 then (X10_at (valG N d) A v w) else (if aK A v = 10 then (bo (X11_at A v w) fun r => some (r, A)) else (if aK A v = 11 then (bo (X12_at A v w) fun r => some (r, A)) else (if aK A v = 12 then (X13_at (valG N d) A v w) else (none)))))
theorem zvalG {l : Launch} {dC : Nat → ClassId} {dI : Nat → Nat → Nat} {ac : Nat → ClassId} {ad : Nat → Nat} {N : Nat} (d : Nat) : RcV l dC dI ac ad (4 * d) (90 * d) (valG N d) := by
  induction d with
  | zero =>
    intro A v w r A' h
    cases h
  | succ d ih =>
    intro A v w r A' h
    unfold valG at h
    by_cases h8 : aK A v = 8
    · have h := it_s h8 h
      exact Or.inl ⟨h8, _, _, by omega, by omega, zX9_at ih h⟩
    have h := if_s h8 h
    by_cases h9 : aK A v = 9
    · have h := it_s h9 h
      exact Or.inr (Or.inl ⟨h9, _, _, by omega, by omega, zX10_at ih h⟩)
    have h := if_s h9 h
    by_cases h10 : aK A v = 10
    · have h := it_s h10 h
      obtain ⟨r9, h9, h⟩ := bo_s h
      cases h
      exact Or.inr (Or.inr (Or.inl ⟨h10, _, _, by omega, by omega, zX11_at h9⟩))
    have h := if_s h10 h
    by_cases h11 : aK A v = 11
    · have h := it_s h11 h
      obtain ⟨r9, h9, h⟩ := bo_s h
      cases h
      exact Or.inr (Or.inr (Or.inr (Or.inl ⟨h11, _, _, by omega, by omega, zX12_at h9⟩)))
    have h := if_s h11 h
    by_cases h12 : aK A v = 12
    · have h := it_s h12 h
      exact Or.inr (Or.inr (Or.inr (Or.inr (⟨h12, _, _, by omega, by omega, zX13_at ih h⟩))))
    have h := if_s h12 h
    cases h
noncomputable def valF (N : Nat) : AH → Nat → Nat → Option (Int64 × AH) := valG N 64
theorem zvalF {l : Launch} {dC : Nat → ClassId} {dI : Nat → Nat → Nat} {ac : Nat → ClassId} {ad : Nat → Nat} {N : Nat} : RcV l dC dI ac ad 256 5760 (valF N) := zvalG 64
/-! MarginFolk$State.purses()I: RO -/
noncomputable def X5_purses_b4 (N : Nat) (x0 : Nat) (A : AH) (k4 : Int32 → Int32 → Option Int32) (x1 : Int32) (x2 : Int32) : Option Int32 :=
  bo (X0_beings A) fun r1 => if r1 ≤ x2 then (some x1) else (bo (sI 8 31 A (x0 + 4) x2) fun v2 => k4 (x1 + v2) (x2 + 1))
noncomputable def X5_purses (N : Nat) (A : AH) (x0 : Nat) : Option Int32 :=
  if isStb x0 = true then (rn2 (X5_purses_b4 N x0 A) N 0 0) else none
abbrev rX5_purses : Room := { frames := 2, cells := 0, slots := 0, locals := 40 }
set_option maxHeartbeats 4000000 in
theorem zX5_purses {l : Launch} {dC : Nat → ClassId} {dI : Nat → Nat → Nat} {ac : Nat → ClassId} {ad : Nat → Nat} {N : Nat} {A : AH} {x0 : Nat} {r : Int32} (hf : X5_purses N A x0 = some r) : Met l yX5_purses (ws_ yX5_purses cX5_purses 3 (some .int)) { frames := 2, cells := 0, slots := 0, locals := 40 } (va_Pc [.ref (ad x0)] (cPre dC dI ac ad True A)) (cQi dC dI ac ad True (aN A) (aS A) (aN A) (aS A) r A) 0 0 (cF ad) := by
  unfold X5_purses at hf
  obtain ⟨hg0, hf⟩ := gu_s hf
  have hs0 := isSt_of hg0
  refine c_of ⟨Nat.le_refl _, Nat.le_refl _⟩ RX5 (plainFor_of_name (by decide)) rfl (Nat.le_of_ble_eq_true rfl) ?_
  intro p e s m args below meth c E hb hr hlk hnm hml hS ls hl
  have hl : lv_has ls 3 [(0, .ref (ad x0))] := hl
  have hL4 : ∀ (n : Nat) (x1 : Int32) (x2 : Int32), rn2 (X5_purses_b4 N x0 A) n x1 x2 = some r → ∀ (H : Heap) (locs : List Loc), cS dC dI ac ad True s.heap (aN A) (aS A) (aN A) (aS A) A H locs → ∀ (ls : Array Slot), lv_has ls 3 [(0, .ref (ad x0)), (1, .int x1), (2, .int x2)] → W p l e rX5_purses s m args below meth c H locs 0 0 (MQ below (cQi dC dI ac ad True (aN A) (aS A) (aN A) (aS A) r A) args s 0 0 (cF ad)) (F0 m 4 ls []) := by
    intro  n
    induction n with
    | zero =>
      intro x1 x2 hf
      cases hf
    | succ n ih =>
      intro x1 x2 hf H locs hS ls hl
      have hf : X5_purses_b4 N x0 A (rn2 (X5_purses_b4 N x0 A) n) x1 x2 = some r := hf
      have hk4 := ih
      generalize rn2 (X5_purses_b4 N x0 A) n = k4 at hf hk4
      unfold X5_purses_b4 at hf
      refine lv_iload_n E.1 hb dX5_purses_4 rfl (lv_at hl 2 rfl) ?_
      refine lv_aload_n E.1 hb dX5_purses_5 rfl (lv_at hl 0 rfl) ?_
      refine c_gN (k := 10) (f := 610) (q := 0) E hb hS ci_6 (sK hS (st_K0 hs0).1 (st_K0 hs0).2) rfl rfl rfl (st_R0 (cst hS) hs0) fk_X5_3_X5 (fun _ h => h) dX5_purses_6 ?_
      obtain ⟨r1, h1, hf⟩ := bo_s hf
      refine c_ki hS (va_runVN ⟨E.1, hb, hml, E.2.1, E.2.2.1⟩ (zX0_beings h1) ⟨va_cnB 0 E.2.2.1 (lw_meth q1234) rfl rfl rfl (E.2.2.2.2.1 _ q1231 rfl) (E.2.2.1 _ q152) gnX0_beings ⟨Nat.le_of_ble_eq_true rfl, Nat.le_of_ble_eq_true rfl⟩, E.2.2.1 _ q1233, E.2.2.1 _ qs34⟩ (c_preV E hS ci_1 (sK hS (by decide) rfl) (hS.1.lt (sK hS (by decide) rfl) rfl) _) rfl rfl hl.1 rfl (lv_room (Nat.le_of_ble_eq_true rfl)) dX5_purses_9 ⟨Nat.le_refl 0, Nat.le_refl 0⟩) hS.2.2.2.2 (fun H locs hS hn => ?_)
      refine lv_icmp_ge (tgt := 30) E.1 hb dX5_purses_12 (by decide) (fun hc => ?_) (fun hc => ?_)
      · have hf := it_s hc hf
        refine lv_iload_n E.1 hb dX5_purses_30 rfl (lv_at hl 1 rfl) ?_
        exact c_ir E hb hr hlk hS ⟨Nat.le_refl 0, Nat.le_refl 0⟩ (ro_s hf) dX5_purses_31
      · have hf := if_s hc hf
        refine lv_iload_n E.1 hb dX5_purses_15 rfl (lv_at hl 1 rfl) ?_
        refine lv_aload_n E.1 hb dX5_purses_16 rfl (lv_at hl 0 rfl) ?_
        refine c_gN (k := 5) (f := 605) (q := (x0 + 4)) E hb hS ci_6 (sK hS (st_K0 hs0).1 (st_K0 hs0).2) rfl rfl rfl (st_R (cst hS) hs0 rfl (by decide)) fk_X5_25_X5 (fun _ h => h) dX5_purses_17 ?_
        refine lv_iload_n E.1 hb dX5_purses_20 rfl (lv_at hl 2 rfl) ?_
        obtain ⟨hg, hf⟩ := sI_s hf
        refine s_ld E hb hS (t := 31) (st_K hs0 4 (by decide)) hg (Or.inl ⟨rfl, rfl⟩) dX5_purses_21 ?_
        refine lv_iadd E.1 hb dX5_purses_22 ?_
        refine lv_istore_n (lv' := [(1, .int (x1 + (aI A 31 (x0 + 4) x2.toNatClampNeg))), (0, .ref (ad x0)), (2, .int x2)]) E.1 hb dX5_purses_23 rfl hl (by decide) rfl (fun ls hl => ?_)
        refine lv_iinc (v := (x2 + 1)) (lv' := [(2, .int (x2 + 1)), (1, .int (x1 + (aI A 31 (x0 + 4) x2.toNatClampNeg))), (0, .ref (ad x0))]) E.1 hb dX5_purses_24 hl (k := 2) rfl rfl (by decide) rfl (fun ls hl => ?_)
        refine lv_goto (tgt := 4) E.1 hb dX5_purses_27 (by decide) ?_
        exact hk4 (x1 + (aI A 31 (x0 + 4) x2.toNatClampNeg)) (x2 + 1) hf _ _ hS _ (lv_sub hl [2, 1, 0] rfl)
  refine lv_iconst (v := 0) E.1 hb dX5_purses_0 rfl ?_
  refine lv_istore_n (lv' := [(1, .int 0), (0, .ref (ad x0))]) E.1 hb dX5_purses_1 rfl hl (by decide) rfl (fun ls hl => ?_)
  refine lv_iconst (v := 0) E.1 hb dX5_purses_2 rfl ?_
  refine lv_istore_n (lv' := [(2, .int 0), (1, .int 0), (0, .ref (ad x0))]) E.1 hb dX5_purses_3 rfl hl (by decide) rfl (fun ls hl => ?_)
  exact hL4 N 0 0 hf _ _ hS _ (lv_sub hl [2, 1, 0] rfl)
theorem fk_X0_202_X5 : FLk RX0 202 "MarginFolk$State" (TX5 2).2.1 (TX5 2).2.2.1 := Or.inr ⟨_, q430⟩
theorem gw_X0_205 : GoodIn lw_all (va_wsS RX0 205 yJ16_bitCount (ws_ yJ16_bitCount cJ16_bitCount 1 (some .int))) := lw_S q1252 q1253 q188 q1254
theorem gnJ16_bitCount : yJ16_bitCount.cls ≠ "java/lang/invoke/MethodHandle" ∧ yJ16_bitCount.cls ≠ "java/lang/invoke/VarHandle" ∧ (parseMethodDescriptor yJ16_bitCount.desc).map (fun d => d.parameters.length) = some 1 := by decide +kernel
theorem fk_X0_210_X1 : FLk RX0 210 "MarginFolk$Folio" (TX1 4).2.1 (TX1 4).2.2.1 := Or.inr ⟨_, q242⟩
theorem gw_X0_219 : GoodIn lw_all (wsV RX0 219 RX5 yX5_purses (ws_ yX5_purses cX5_purses 3 (some .int))) := lw_V q1344 q1345 q1346 q163 q1347
theorem gnX5_purses : yX5_purses.cls ≠ "java/lang/invoke/MethodHandle" ∧ yX5_purses.cls ≠ "java/lang/invoke/VarHandle" ∧ (parseMethodDescriptor yX5_purses.desc).map (fun d => d.parameters.length) = some 0 := by decide +kernel
theorem fk_X0_222_X5 : FLk RX0 222 "MarginFolk$State" (TX5 1).2.1 (TX5 1).2.2.1 := Or.inr ⟨_, q428⟩
/-! MarginFolk.has(I)I: RW -/
noncomputable def X0_has_2_b80 (N : Nat) (x1 : Int32) (k80 : AH → Int32 → Int32 → Option (Int32 × AH)) (A : AH) (x2 : Int32) (x3 : Int32) : Option (Int32 × AH) :=
  if 6 ≤ x3 then (some (x2, A)) else (bo (sI 6 31 A 17 x3) fun v5 => bo (J16_bitCount v5) fun r6 => k80 A (x2 + r6) (x3 + 1))
noncomputable def X0_has_2 (N : Nat) (A0 : AH) (x1 : Int32) : Option (Int32 × AH) :=
  if x1 = 0 then (bo (aR A0 100 0 0) fun q1 => bo (gI 2 A0 201 q1) fun v2 => some (v2, A0)) else (if x1 = 1 then (bo (aR A0 100 0 0) fun q3 => bo (gI 2 A0 202 q3) fun v4 => some (v4, A0)) else (if x1 = 2 then (rn3 (X0_has_2_b80 N x1) N A0 0 0) else (if x1 = 3 then (bo (aR A0 100 0 0) fun q7 => bo (gI 2 A0 204 q7) fun v8 => some (v8, A0)) else (if x1 = 4 then (bo (X0_beings A0) fun r9 => some (r9, A0)) else (if x1 = 5 then (some ((aI A0 600 16 0), A0)) else (if x1 = 6 then (bd (X0_openingOf (valF N) A0 (aI A0 600 16 0)) fun r10 A11 => some (r10, A11)) else (if x1 = 7 then (bo (X5_purses N A0 16) fun r12 => some (r12, A0)) else (if x1 = 8 then (some ((aI A0 601 16 0), A0)) else (if x1 = 9 then (some ((aI A0 115 0 0), A0)) else (if x1 = 10 then (some ((aI A0 120 0 0), A0)) else (some ((-1), A0))))))))))))
abbrev rX0_has_2 : Room := { frames := 258, cells := 0, slots := 0, locals := 5811 }
set_option maxHeartbeats 4000000 in
theorem zX0_has_2 {l : Launch} {dC : Nat → ClassId} {dI : Nat → Nat → Nat} {ac : Nat → ClassId} {ad : Nat → Nat} {N : Nat} {A0 : AH} {x1 : Int32} {r : Int32} {A' : AH} (hf : X0_has_2 N A0 x1 = some (r, A')) : Met l yX0_has_2 (ws_ yX0_has_2 cX0_has_2 4 (some .int)) { frames := 258, cells := 0, slots := 0, locals := 5811 } (va_Pc [.ref (ad 0), .int x1] (cPre dC dI ac ad True A0)) (cQi dC dI ac ad True (aN A0) (aS A0) (aN A0) (aS A0) r A') 0 0 (cF ad) := by
  unfold X0_has_2 at hf
  refine c_of ⟨Nat.le_refl _, Nat.le_refl _⟩ RX0 (plainFor_of_name (by decide)) rfl (Nat.le_of_ble_eq_true rfl) ?_
  intro p e s m args below meth c E hb hr hlk hnm hml hS ls hl
  have hl : lv_has ls 4 [(0, .ref (ad 0)), (1, .int x1)] := hl
  have hL80 : ∀ (n : Nat) (A : AH) (x2 : Int32) (x3 : Int32), rn3 (X0_has_2_b80 N x1) n A x2 x3 = some (r, A') → ∀ (H : Heap) (locs : List Loc), cS dC dI ac ad True s.heap (aN A0) (aS A0) (aN A0) (aS A0) A H locs → ∀ (ls : Array Slot), lv_has ls 4 [(0, .ref (ad 0)), (1, .int x1), (2, .int x2), (3, .int x3)] → W p l e rX0_has_2 s m args below meth c H locs 0 0 (MQ below (cQi dC dI ac ad True (aN A0) (aS A0) (aN A0) (aS A0) r A') args s 0 0 (cF ad)) (F0 m 80 ls []) := by
    intro  n
    induction n with
    | zero =>
      intro A x2 x3 hf
      cases hf
    | succ n ih =>
      intro A x2 x3 hf H locs hS ls hl
      have hf : X0_has_2_b80 N x1 (rn3 (X0_has_2_b80 N x1) n) A x2 x3 = some (r, A') := hf
      have hk80 := ih
      generalize rn3 (X0_has_2_b80 N x1) n = k80 at hf hk80
      unfold X0_has_2_b80 at hf
      refine lv_iload_n E.1 hb dX0_has_2_80 rfl (lv_at hl 3 rfl) ?_
      refine lv_bipush (v := 6) E.1 hb dX0_has_2_81 rfl ?_
      refine lv_icmp_ge (tgt := 107) E.1 hb dX0_has_2_83 (by decide) (fun hc => ?_) (fun hc => ?_)
      · have hf := it_s hc hf
        refine lv_iload_n E.1 hb dX0_has_2_107 rfl (lv_at hl 2 rfl) ?_
        exact c_ir E hb hr hlk hS ⟨Nat.le_refl 0, Nat.le_refl 0⟩ hf dX0_has_2_108
      · have hf := if_s hc hf
        refine lv_iload_n E.1 hb dX0_has_2_86 rfl (lv_at hl 2 rfl) ?_
        refine lv_aload_n E.1 hb dX0_has_2_87 rfl (lv_at hl 0 rfl) ?_
        refine c_gN (k := 9) (f := 109) (q := 16) E hb hS ci_1 (sK hS (by decide) rfl) rfl rfl rfl (sRf hS (by decide) rfl) fk_X0_69_X0 (fun _ h => h) dX0_has_2_88 ?_
        refine c_gN (k := 2) (f := 602) (q := 17) E hb hS ci_6 (sK hS (by decide) rfl) rfl rfl rfl (sRf hS (by decide) rfl) fk_X0_202_X5 (fun _ h => h) dX0_has_2_91 ?_
        refine lv_iload_n E.1 hb dX0_has_2_94 rfl (lv_at hl 3 rfl) ?_
        obtain ⟨hg, hf⟩ := sI_s hf
        refine s_ld E hb hS (t := 31) ⟨by decide, rfl, rfl⟩ hg (Or.inl ⟨rfl, rfl⟩) dX0_has_2_95 ?_
        obtain ⟨r6, h1, hf⟩ := bo_s hf
        refine c_ki hS (va_runS ⟨E.1, hb, hml, E.2.1, E.2.2.1⟩ (zJ16_bitCount h1) (va_cwS 1 E.2.2.1 gw_X0_205 rfl rfl rfl gnJ16_bitCount ⟨Nat.le_of_ble_eq_true rfl, Nat.le_of_ble_eq_true rfl⟩) (c_preS E hS _) rfl rfl hl.1 rfl (lv_room (Nat.le_of_ble_eq_true rfl)) dX0_has_2_96 ⟨Nat.le_refl 0, Nat.le_refl 0⟩) hS.2.2.2.2 (fun H locs hS hn => ?_)
        refine lv_iadd E.1 hb dX0_has_2_99 ?_
        refine lv_istore_n (lv' := [(2, .int (x2 + r6)), (0, .ref (ad 0)), (1, .int x1), (3, .int x3)]) E.1 hb dX0_has_2_100 rfl hl (by decide) rfl (fun ls hl => ?_)
        refine lv_iinc (v := (x3 + 1)) (lv' := [(3, .int (x3 + 1)), (2, .int (x2 + r6)), (0, .ref (ad 0)), (1, .int x1)]) E.1 hb dX0_has_2_101 hl (k := 3) rfl rfl (by decide) rfl (fun ls hl => ?_)
        refine lv_goto (tgt := 80) E.1 hb dX0_has_2_104 (by decide) ?_
        exact hk80 A (x2 + r6) (x3 + 1) hf _ _ hS _ (lv_sub hl [2, 3, 1, 0] rfl)
  refine lv_iload_n E.1 hb dX0_has_2_0 rfl (lv_at hl 1 rfl) ?_
  by_cases hc0 : x1 = 0
  · have hf := it_s hc0 hf
    refine lv_tableIn (tgt := 60) E.1 hb dX0_has_2_1 (by rw [hc0]; decide) (by rw [hc0]; decide) (by rw [hc0]; rfl) (by decide) ?_
    refine lv_aload_n E.1 hb dX0_has_2_60 rfl (lv_at hl 0 rfl) ?_
    obtain ⟨q1, hr7, hf⟩ := bo_s hf
    refine c_gN (k := 0) (f := 100) E hb hS ci_1 (sK hS (by decide) rfl) rfl rfl rfl hr7 fk_X0_31_X0 (fun _ h => h) dX0_has_2_61 ?_
    obtain ⟨hk, hf⟩ := gI_s hf
    refine c_gI (k := 1) (f := 201) E hb hS ci_2 hk rfl rfl rfl fk_X0_154_X1 (fun _ h => h) dX0_has_2_64 ?_
    exact c_ir E hb hr hlk hS ⟨Nat.le_refl 0, Nat.le_refl 0⟩ hf dX0_has_2_67
  · have hf := if_s hc0 hf
    by_cases hc1 : x1 = 1
    · have hf := it_s hc1 hf
      refine lv_tableIn (tgt := 68) E.1 hb dX0_has_2_1 (by rw [hc1]; decide) (by rw [hc1]; decide) (by rw [hc1]; rfl) (by decide) ?_
      refine lv_aload_n E.1 hb dX0_has_2_68 rfl (lv_at hl 0 rfl) ?_
      obtain ⟨q3, hr7, hf⟩ := bo_s hf
      refine c_gN (k := 0) (f := 100) E hb hS ci_1 (sK hS (by decide) rfl) rfl rfl rfl hr7 fk_X0_31_X0 (fun _ h => h) dX0_has_2_69 ?_
      obtain ⟨hk, hf⟩ := gI_s hf
      refine c_gI (k := 2) (f := 202) E hb hS ci_2 hk rfl rfl rfl fk_X0_172_X1 (fun _ h => h) dX0_has_2_72 ?_
      exact c_ir E hb hr hlk hS ⟨Nat.le_refl 0, Nat.le_refl 0⟩ hf dX0_has_2_75
    · have hf := if_s hc1 hf
      by_cases hc2 : x1 = 2
      · have hf := it_s hc2 hf
        refine lv_tableIn (tgt := 76) E.1 hb dX0_has_2_1 (by rw [hc2]; decide) (by rw [hc2]; decide) (by rw [hc2]; rfl) (by decide) ?_
        refine lv_iconst (v := 0) E.1 hb dX0_has_2_76 rfl ?_
        refine lv_istore_n (lv' := [(2, .int 0), (0, .ref (ad 0)), (1, .int x1)]) E.1 hb dX0_has_2_77 rfl hl (by decide) rfl (fun ls hl => ?_)
        refine lv_iconst (v := 0) E.1 hb dX0_has_2_78 rfl ?_
        refine lv_istore_n (lv' := [(3, .int 0), (2, .int 0), (0, .ref (ad 0)), (1, .int x1)]) E.1 hb dX0_has_2_79 rfl hl (by decide) rfl (fun ls hl => ?_)
        exact hL80 N A0 0 0 hf _ _ hS _ (lv_sub hl [2, 3, 1, 0] rfl)
      · have hf := if_s hc2 hf
        by_cases hc3 : x1 = 3
        · have hf := it_s hc3 hf
          refine lv_tableIn (tgt := 109) E.1 hb dX0_has_2_1 (by rw [hc3]; decide) (by rw [hc3]; decide) (by rw [hc3]; rfl) (by decide) ?_
          refine lv_aload_n E.1 hb dX0_has_2_109 rfl (lv_at hl 0 rfl) ?_
          obtain ⟨q7, hr7, hf⟩ := bo_s hf
          refine c_gN (k := 0) (f := 100) E hb hS ci_1 (sK hS (by decide) rfl) rfl rfl rfl hr7 fk_X0_31_X0 (fun _ h => h) dX0_has_2_110 ?_
          obtain ⟨hk, hf⟩ := gI_s hf
          refine c_gI (k := 4) (f := 204) E hb hS ci_2 hk rfl rfl rfl fk_X0_210_X1 (fun _ h => h) dX0_has_2_113 ?_
          exact c_ir E hb hr hlk hS ⟨Nat.le_refl 0, Nat.le_refl 0⟩ hf dX0_has_2_116
        · have hf := if_s hc3 hf
          by_cases hc4 : x1 = 4
          · have hf := it_s hc4 hf
            refine lv_tableIn (tgt := 117) E.1 hb dX0_has_2_1 (by rw [hc4]; decide) (by rw [hc4]; decide) (by rw [hc4]; rfl) (by decide) ?_
            refine lv_aload_n E.1 hb dX0_has_2_117 rfl (lv_at hl 0 rfl) ?_
            obtain ⟨r9, h1, hf⟩ := bo_s hf
            refine c_ki hS (va_runV ⟨E.1, hb, hml, E.2.1, E.2.2.1⟩ (zX0_beings h1) (cwV 0 E.2.2.1 gw_X0_166 rfl rfl rfl ⟨rfl, gnX0_beings⟩ ⟨Nat.le_of_ble_eq_true rfl, Nat.le_of_ble_eq_true rfl⟩) (c_preV E hS ci_1 (sK hS (by decide) rfl) (hS.1.lt (sK hS (by decide) rfl) rfl) _) rfl rfl hl.1 rfl (lv_room (Nat.le_of_ble_eq_true rfl)) dX0_has_2_118 ⟨Nat.le_refl 0, Nat.le_refl 0⟩) hS.2.2.2.2 (fun H locs hS hn => ?_)
            exact c_ir E hb hr hlk hS ⟨Nat.le_refl 0, Nat.le_refl 0⟩ hf dX0_has_2_121
          · have hf := if_s hc4 hf
            by_cases hc5 : x1 = 5
            · have hf := it_s hc5 hf
              refine lv_tableIn (tgt := 122) E.1 hb dX0_has_2_1 (by rw [hc5]; decide) (by rw [hc5]; decide) (by rw [hc5]; rfl) (by decide) ?_
              refine lv_aload_n E.1 hb dX0_has_2_122 rfl (lv_at hl 0 rfl) ?_
              refine c_gN (k := 9) (f := 109) (q := 16) E hb hS ci_1 (sK hS (by decide) rfl) rfl rfl rfl (sRf hS (by decide) rfl) fk_X0_69_X0 (fun _ h => h) dX0_has_2_123 ?_
              refine c_gI (k := 0) (f := 600) E hb hS ci_6 (sK hS (by decide) rfl) rfl rfl rfl fk_X0_213_X5 (fun _ h => h) dX0_has_2_126 ?_
              exact c_ir E hb hr hlk hS ⟨Nat.le_refl 0, Nat.le_refl 0⟩ hf dX0_has_2_129
            · have hf := if_s hc5 hf
              by_cases hc6 : x1 = 6
              · have hf := it_s hc6 hf
                refine lv_tableIn (tgt := 130) E.1 hb dX0_has_2_1 (by rw [hc6]; decide) (by rw [hc6]; decide) (by rw [hc6]; rfl) (by decide) ?_
                refine lv_aload_n E.1 hb dX0_has_2_130 rfl (lv_at hl 0 rfl) ?_
                refine lv_aload_n E.1 hb dX0_has_2_131 rfl (lv_at hl 0 rfl) ?_
                refine c_gN (k := 9) (f := 109) (q := 16) E hb hS ci_1 (sK hS (by decide) rfl) rfl rfl rfl (sRf hS (by decide) rfl) fk_X0_69_X0 (fun _ h => h) dX0_has_2_132 ?_
                refine c_gI (k := 0) (f := 600) E hb hS ci_6 (sK hS (by decide) rfl) rfl rfl rfl fk_X0_213_X5 (fun _ h => h) dX0_has_2_135 ?_
                obtain ⟨r10, A11, h1, hf⟩ := bd_s hf
                refine c_ki hS (va_runV ⟨E.1, hb, hml, E.2.1, E.2.2.1⟩ (zX0_openingOf zvalF h1) (cwV 1 E.2.2.1 gw_X0_216 rfl rfl rfl ⟨rfl, gnX0_openingOf⟩ ⟨by dsimp only; omega, by dsimp only; omega⟩) (c_preV E hS ci_1 (sK hS (by decide) rfl) (hS.1.lt (sK hS (by decide) rfl) rfl) _) rfl rfl hl.1 rfl (lv_room (Nat.le_of_ble_eq_true rfl)) dX0_has_2_138 ⟨Nat.le_refl 0, Nat.le_refl 0⟩) hS.2.2.2.2 (fun H locs hS hn => ?_)
                exact c_ir E hb hr hlk hS ⟨Nat.le_refl 0, Nat.le_refl 0⟩ hf dX0_has_2_141
              · have hf := if_s hc6 hf
                by_cases hc7 : x1 = 7
                · have hf := it_s hc7 hf
                  refine lv_tableIn (tgt := 142) E.1 hb dX0_has_2_1 (by rw [hc7]; decide) (by rw [hc7]; decide) (by rw [hc7]; rfl) (by decide) ?_
                  refine lv_aload_n E.1 hb dX0_has_2_142 rfl (lv_at hl 0 rfl) ?_
                  refine c_gN (k := 9) (f := 109) (q := 16) E hb hS ci_1 (sK hS (by decide) rfl) rfl rfl rfl (sRf hS (by decide) rfl) fk_X0_69_X0 (fun _ h => h) dX0_has_2_143 ?_
                  obtain ⟨r12, h1, hf⟩ := bo_s hf
                  refine c_ki hS (va_runV ⟨E.1, hb, hml, E.2.1, E.2.2.1⟩ (zX5_purses h1) (cwV 0 E.2.2.1 gw_X0_219 rfl rfl rfl ⟨rfl, gnX5_purses⟩ ⟨Nat.le_of_ble_eq_true rfl, Nat.le_of_ble_eq_true rfl⟩) (c_preV E hS ci_6 (sK hS (by decide) rfl) (hS.1.lt (sK hS (by decide) rfl) rfl) _) rfl rfl hl.1 rfl (lv_room (Nat.le_of_ble_eq_true rfl)) dX0_has_2_146 ⟨Nat.le_refl 0, Nat.le_refl 0⟩) hS.2.2.2.2 (fun H locs hS hn => ?_)
                  exact c_ir E hb hr hlk hS ⟨Nat.le_refl 0, Nat.le_refl 0⟩ hf dX0_has_2_149
                · have hf := if_s hc7 hf
                  by_cases hc8 : x1 = 8
                  · have hf := it_s hc8 hf
                    refine lv_tableIn (tgt := 150) E.1 hb dX0_has_2_1 (by rw [hc8]; decide) (by rw [hc8]; decide) (by rw [hc8]; rfl) (by decide) ?_
                    refine lv_aload_n E.1 hb dX0_has_2_150 rfl (lv_at hl 0 rfl) ?_
                    refine c_gN (k := 9) (f := 109) (q := 16) E hb hS ci_1 (sK hS (by decide) rfl) rfl rfl rfl (sRf hS (by decide) rfl) fk_X0_69_X0 (fun _ h => h) dX0_has_2_151 ?_
                    refine c_gI (k := 1) (f := 601) E hb hS ci_6 (sK hS (by decide) rfl) rfl rfl rfl fk_X0_222_X5 (fun _ h => h) dX0_has_2_154 ?_
                    exact c_ir E hb hr hlk hS ⟨Nat.le_refl 0, Nat.le_refl 0⟩ hf dX0_has_2_157
                  · have hf := if_s hc8 hf
                    by_cases hc9 : x1 = 9
                    · have hf := it_s hc9 hf
                      refine lv_tableIn (tgt := 158) E.1 hb dX0_has_2_1 (by rw [hc9]; decide) (by rw [hc9]; decide) (by rw [hc9]; rfl) (by decide) ?_
                      refine lv_aload_n E.1 hb dX0_has_2_158 rfl (lv_at hl 0 rfl) ?_
                      refine c_gI (k := 15) (f := 115) E hb hS ci_1 (sK hS (by decide) rfl) rfl rfl rfl fk_X0_148_X0 (fun _ h => h) dX0_has_2_159 ?_
                      exact c_ir E hb hr hlk hS ⟨Nat.le_refl 0, Nat.le_refl 0⟩ hf dX0_has_2_162
                    · have hf := if_s hc9 hf
                      by_cases hc10 : x1 = 10
                      · have hf := it_s hc10 hf
                        refine lv_tableIn (tgt := 163) E.1 hb dX0_has_2_1 (by rw [hc10]; decide) (by rw [hc10]; decide) (by rw [hc10]; rfl) (by decide) ?_
                        refine lv_aload_n E.1 hb dX0_has_2_163 rfl (lv_at hl 0 rfl) ?_
                        refine c_gI (k := 20) (f := 120) E hb hS ci_1 (sK hS (by decide) rfl) rfl rfl rfl fk_X0_145_X0 (fun _ h => h) dX0_has_2_164 ?_
                        exact c_ir E hb hr hlk hS ⟨Nat.le_refl 0, Nat.le_refl 0⟩ hf dX0_has_2_167
                      · have hf := if_s hc10 hf
                        have q0 : (x1 : Int32).toInt ≠ 0 := ne_toInt hc0 rfl
                        have q1 : (x1 : Int32).toInt ≠ 1 := ne_toInt hc1 rfl
                        have q2 : (x1 : Int32).toInt ≠ 2 := ne_toInt hc2 rfl
                        have q3 : (x1 : Int32).toInt ≠ 3 := ne_toInt hc3 rfl
                        have q4 : (x1 : Int32).toInt ≠ 4 := ne_toInt hc4 rfl
                        have q5 : (x1 : Int32).toInt ≠ 5 := ne_toInt hc5 rfl
                        have q6 : (x1 : Int32).toInt ≠ 6 := ne_toInt hc6 rfl
                        have q7 : (x1 : Int32).toInt ≠ 7 := ne_toInt hc7 rfl
                        have q8 : (x1 : Int32).toInt ≠ 8 := ne_toInt hc8 rfl
                        have q9 : (x1 : Int32).toInt ≠ 9 := ne_toInt hc9 rfl
                        have q10 : (x1 : Int32).toInt ≠ 10 := ne_toInt hc10 rfl
                        refine lv_tableOut (tgt := 168) E.1 hb dX0_has_2_1 (by omega) (by decide) ?_
                        refine lv_iconst (v := (-1)) E.1 hb dX0_has_2_168 rfl ?_
                        exact c_ir E hb hr hlk hS ⟨Nat.le_refl 0, Nat.le_refl 0⟩ hf dX0_has_2_169
/-! MarginFolk.isBeing(I)Z: RO -/
noncomputable def X0_isBeing (A : AH) (x1 : Int32) : Option Int32 :=
  if x1 < 0 then (some 0) else (bo (X0_beings A) fun r1 => if r1 ≤ x1 then (some 0) else (some 1))
abbrev rX0_isBeing : Room := { frames := 2, cells := 0, slots := 0, locals := 40 }
set_option maxHeartbeats 4000000 in
theorem zX0_isBeing {l : Launch} {dC : Nat → ClassId} {dI : Nat → Nat → Nat} {ac : Nat → ClassId} {ad : Nat → Nat} {A : AH} {x1 : Int32} {r : Int32} (hf : X0_isBeing A x1 = some r) : Met l yX0_isBeing (ws_ yX0_isBeing cX0_isBeing 2 (some .boolean)) { frames := 2, cells := 0, slots := 0, locals := 40 } (va_Pc [.ref (ad 0), .int x1] (cPre dC dI ac ad True A)) (cQi dC dI ac ad True (aN A) (aS A) (aN A) (aS A) r A) 0 0 (cF ad) := by
  unfold X0_isBeing at hf
  refine c_of ⟨Nat.le_refl _, Nat.le_refl _⟩ RX0 (plainFor_of_name (by decide)) rfl (Nat.le_of_ble_eq_true rfl) ?_
  intro p e s m args below meth c E hb hr hlk hnm hml hS ls hl
  have hl : lv_has ls 2 [(0, .ref (ad 0)), (1, .int x1)] := hl
  refine lv_iload_n E.1 hb dX0_isBeing_0 rfl (lv_at hl 1 rfl) ?_
  refine lv_if_lt (tgt := 16) E.1 hb dX0_isBeing_1 (by decide) (fun hc => ?_) (fun hc => ?_)
  · have hf := it_s hc hf
    refine lv_iconst (v := 0) E.1 hb dX0_isBeing_16 rfl ?_
    exact c_zr (ty := .boolean) E hb hr hlk hS ⟨Nat.le_refl 0, Nat.le_refl 0⟩ rfl (ro_s hf) dX0_isBeing_17
  · have hf := if_s hc hf
    refine lv_iload_n E.1 hb dX0_isBeing_4 rfl (lv_at hl 1 rfl) ?_
    refine lv_aload_n E.1 hb dX0_isBeing_5 rfl (lv_at hl 0 rfl) ?_
    obtain ⟨r1, h1, hf⟩ := bo_s hf
    refine c_ki hS (va_runV ⟨E.1, hb, hml, E.2.1, E.2.2.1⟩ (zX0_beings h1) (cwV 0 E.2.2.1 gw_X0_166 rfl rfl rfl ⟨rfl, gnX0_beings⟩ ⟨Nat.le_of_ble_eq_true rfl, Nat.le_of_ble_eq_true rfl⟩) (c_preV E hS ci_1 (sK hS (by decide) rfl) (hS.1.lt (sK hS (by decide) rfl) rfl) _) rfl rfl hl.1 rfl (lv_room (Nat.le_of_ble_eq_true rfl)) dX0_isBeing_6 ⟨Nat.le_refl 0, Nat.le_refl 0⟩) hS.2.2.2.2 (fun H locs hS hn => ?_)
    refine lv_icmp_ge (tgt := 16) E.1 hb dX0_isBeing_9 (by decide) (fun hc => ?_) (fun hc => ?_)
    · have hf := it_s hc hf
      refine lv_iconst (v := 0) E.1 hb dX0_isBeing_16 rfl ?_
      exact c_zr (ty := .boolean) E hb hr hlk hS ⟨Nat.le_refl 0, Nat.le_refl 0⟩ rfl (ro_s hf) dX0_isBeing_17
    · have hf := if_s hc hf
      refine lv_iconst (v := 1) E.1 hb dX0_isBeing_12 rfl ?_
      refine lv_goto (tgt := 17) E.1 hb dX0_isBeing_13 (by decide) ?_
      exact c_zr (ty := .boolean) E hb hr hlk hS ⟨Nat.le_refl 0, Nat.le_refl 0⟩ rfl (ro_s hf) dX0_isBeing_17
theorem gw_X7_23 : GoodIn lw_all (wsV RX7 23 RJ6 yJ6_length (ws_ yJ6_length cJ6_length 1 (some .int))) := lw_V q1362 q838 q839 q165 q840
theorem gw_X7_29 : GoodIn lw_all (wsV RX7 29 RJ6 yJ6_charAt (ws_ yJ6_charAt cJ6_charAt 2 (some .char))) := lw_V q1363 q1364 q1365 q165 q1366
theorem gnJ6_charAt : yJ6_charAt.cls ≠ "java/lang/invoke/MethodHandle" ∧ yJ6_charAt.cls ≠ "java/lang/invoke/VarHandle" ∧ (parseMethodDescriptor yJ6_charAt.desc).map (fun d => d.parameters.length) = some 1 := by decide +kernel
/-! MarginFolk$Being.letter(I)I: RW -/
noncomputable def X7_letter (A0 : AH) (x0 : Nat) (x1 : Int32) : Option (Int32 × AH) :=
  bo (gN 7 A0 700 x0) fun q1 => if aK A0 q1 = 19 then ( bo (J6_length A0 q1) fun r2 => if r2 ≤ x1 then (some (0, A0)) else (bo (gN 7 A0 700 x0) fun q3 => if aK A0 q3 = 19 then ( bd (J6_charAt A0 q3 x1) fun r4 A5 => some (((r4 - 97) + 1), A5)) else none)) else none
abbrev rX7_letter : Room := { frames := 4, cells := 0, slots := 0, locals := 85 }
set_option maxHeartbeats 4000000 in
theorem zX7_letter {l : Launch} {dC : Nat → ClassId} {dI : Nat → Nat → Nat} {ac : Nat → ClassId} {ad : Nat → Nat} {b : Prop} {A0 : AH} {x0 : Nat} {x1 : Int32} {r : Int32} {A' : AH} (hf : X7_letter A0 x0 x1 = some (r, A')) : Met l yX7_letter (ws_ yX7_letter cX7_letter 2 (some .int)) { frames := 4, cells := 0, slots := 0, locals := 85 } (va_Pc [.ref (ad x0), .int x1] (cPre dC dI ac ad b A0)) (cQi dC dI ac ad b (aN A0) (aS A0) (aN A0) (aS A0) r A') 0 0 (cF ad) := by
  unfold X7_letter at hf
  refine c_of ⟨Nat.le_refl _, Nat.le_refl _⟩ RX7 (plainFor_of_name (by decide)) rfl (Nat.le_of_ble_eq_true rfl) ?_
  intro p e s m args below meth c E hb hr hlk hnm hml hS ls hl
  have hl : lv_has ls 2 [(0, .ref (ad x0)), (1, .int x1)] := hl
  refine lv_iload_n E.1 hb dX7_letter_0 rfl (lv_at hl 1 rfl) ?_
  refine lv_aload_n E.1 hb dX7_letter_1 rfl (lv_at hl 0 rfl) ?_
  obtain ⟨q1, hk, hf⟩ := gN_s hf
  refine c_gN (k := 0) (f := 700) E hb hS ci_7 hk.1 rfl rfl rfl hk.2 fk_X7_7_X7 (fun _ h => h) dX7_letter_2 ?_
  obtain ⟨hkr, hf⟩ := gu_s hf
  obtain ⟨r2, h1, hf⟩ := bo_s hf
  refine c_ki hS (va_runV ⟨E.1, hb, hml, E.2.1, E.2.2.1⟩ (zJ6_length h1) (cwV 0 E.2.2.1 gw_X7_23 rfl rfl rfl ⟨rfl, gnJ6_length⟩ ⟨Nat.le_of_ble_eq_true rfl, Nat.le_of_ble_eq_true rfl⟩) (c_preVS E hS hkr _) rfl rfl hl.1 rfl (lv_room (Nat.le_of_ble_eq_true rfl)) dX7_letter_5 ⟨Nat.le_refl 0, Nat.le_refl 0⟩) hS.2.2.2.2 (fun H locs hS hn => ?_)
  refine lv_icmp_ge (tgt := 27) E.1 hb dX7_letter_8 (by decide) (fun hc => ?_) (fun hc => ?_)
  · have hf := it_s hc hf
    refine lv_iconst (v := 0) E.1 hb dX7_letter_27 rfl ?_
    exact c_ir E hb hr hlk hS ⟨Nat.le_refl 0, Nat.le_refl 0⟩ hf dX7_letter_28
  · have hf := if_s hc hf
    refine lv_aload_n E.1 hb dX7_letter_11 rfl (lv_at hl 0 rfl) ?_
    obtain ⟨q3, hk, hf⟩ := gN_s hf
    refine c_gN (k := 0) (f := 700) E hb hS ci_7 hk.1 rfl rfl rfl hk.2 fk_X7_7_X7 (fun _ h => h) dX7_letter_12 ?_
    refine lv_iload_n E.1 hb dX7_letter_15 rfl (lv_at hl 1 rfl) ?_
    obtain ⟨hkr, hf⟩ := gu_s hf
    obtain ⟨r4, A5, h1, hf⟩ := bd_s hf
    refine c_ki hS (va_runV ⟨E.1, hb, hml, E.2.1, E.2.2.1⟩ (zJ6_charAt h1) (cwV 1 E.2.2.1 gw_X7_29 rfl rfl rfl ⟨rfl, gnJ6_charAt⟩ ⟨Nat.le_of_ble_eq_true rfl, Nat.le_of_ble_eq_true rfl⟩) (c_preVS E hS hkr _) rfl rfl hl.1 rfl (lv_room (Nat.le_of_ble_eq_true rfl)) dX7_letter_16 ⟨Nat.le_refl 0, Nat.le_refl 0⟩) hS.2.2.2.2 (fun H locs hS hn => ?_)
    refine lv_bipush (v := 97) E.1 hb dX7_letter_19 rfl ?_
    refine lv_isub E.1 hb dX7_letter_21 ?_
    refine lv_iconst (v := 1) E.1 hb dX7_letter_22 rfl ?_
    refine lv_iadd E.1 hb dX7_letter_23 ?_
    refine lv_goto (tgt := 28) E.1 hb dX7_letter_24 (by decide) ?_
    exact c_ir E hb hr hlk hS ⟨Nat.le_refl 0, Nat.le_refl 0⟩ hf dX7_letter_28
theorem gw_X0_225 : GoodIn lw_all (wsV RX0 225 RX0 yX0_isBeing (ws_ yX0_isBeing cX0_isBeing 2 (some .boolean))) := lw_V q1352 q1354 qs40 q152 q1355
theorem gnX0_isBeing : yX0_isBeing.cls ≠ "java/lang/invoke/MethodHandle" ∧ yX0_isBeing.cls ≠ "java/lang/invoke/VarHandle" ∧ (parseMethodDescriptor yX0_isBeing.desc).map (fun d => d.parameters.length) = some 1 := by decide +kernel
theorem gw_X0_168 : GoodIn lw_all (va_wsS RX0 168 yX0_is (ws_ yX0_is cX0_is 3 (some .boolean))) := lw_S q1356 q705 q152 q706
theorem gw_X0_229 : GoodIn lw_all (wsV RX0 229 RX0 yX0_beingOf (ws_ yX0_beingOf cX0_beingOf 2 (some (.object "MarginFolk$Being")))) := lw_V q1357 q1239 qs35 q152 q1240
theorem gw_X0_233 : GoodIn lw_all (wsV RX0 233 RX7 yX7_letter (ws_ yX7_letter cX7_letter 2 (some .int))) := lw_V q1358 q1359 q1360 q171 q1361
theorem gnX7_letter : yX7_letter.cls ≠ "java/lang/invoke/MethodHandle" ∧ yX7_letter.cls ≠ "java/lang/invoke/VarHandle" ∧ (parseMethodDescriptor yX7_letter.desc).map (fun d => d.parameters.length) = some 1 := by decide +kernel
/-! MarginFolk.letter(II)I: RW -/
noncomputable def X0_letter (A0 : AH) (x1 : Int32) (x2 : Int32) : Option (Int32 × AH) :=
  bo (X0_isBeing A0 x1) fun r1 => if r1 = 0 then (some ((-1), A0)) else (bo (X0_is x2 0 5) fun r2 => if r2 = 0 then (some ((-1), A0)) else (bo (X0_beingOf A0 x1) fun r3 => bo r3 fun q4 => if aK A0 q4 = 7 then ( bd (X7_letter A0 q4 x2) fun r5 A6 => some (r5, A6)) else none))
abbrev rX0_letter : Room := { frames := 5, cells := 0, slots := 0, locals := 106 }
set_option maxHeartbeats 4000000 in
theorem zX0_letter {l : Launch} {dC : Nat → ClassId} {dI : Nat → Nat → Nat} {ac : Nat → ClassId} {ad : Nat → Nat} {A0 : AH} {x1 : Int32} {x2 : Int32} {r : Int32} {A' : AH} (hf : X0_letter A0 x1 x2 = some (r, A')) : Met l yX0_letter (ws_ yX0_letter cX0_letter 3 (some .int)) { frames := 5, cells := 0, slots := 0, locals := 106 } (va_Pc [.ref (ad 0), .int x1, .int x2] (cPre dC dI ac ad True A0)) (cQi dC dI ac ad True (aN A0) (aS A0) (aN A0) (aS A0) r A') 0 0 (cF ad) := by
  unfold X0_letter at hf
  refine c_of ⟨Nat.le_refl _, Nat.le_refl _⟩ RX0 (plainFor_of_name (by decide)) rfl (Nat.le_of_ble_eq_true rfl) ?_
  intro p e s m args below meth c E hb hr hlk hnm hml hS ls hl
  have hl : lv_has ls 3 [(0, .ref (ad 0)), (1, .int x1), (2, .int x2)] := hl
  refine lv_aload_n E.1 hb dX0_letter_0 rfl (lv_at hl 0 rfl) ?_
  refine lv_iload_n E.1 hb dX0_letter_1 rfl (lv_at hl 1 rfl) ?_
  obtain ⟨r1, h1, hf⟩ := bo_s hf
  refine c_ki hS (va_runV ⟨E.1, hb, hml, E.2.1, E.2.2.1⟩ (zX0_isBeing h1) (cwV 1 E.2.2.1 gw_X0_225 rfl rfl rfl ⟨rfl, gnX0_isBeing⟩ ⟨Nat.le_of_ble_eq_true rfl, Nat.le_of_ble_eq_true rfl⟩) (c_preV E hS ci_1 (sK hS (by decide) rfl) (hS.1.lt (sK hS (by decide) rfl) rfl) _) rfl rfl hl.1 rfl (lv_room (Nat.le_of_ble_eq_true rfl)) dX0_letter_2 ⟨Nat.le_refl 0, Nat.le_refl 0⟩) hS.2.2.2.2 (fun H locs hS hn => ?_)
  refine lv_if_eq (tgt := 29) E.1 hb dX0_letter_5 (by decide) (fun hc => ?_) (fun hc => ?_)
  · have hf := it_s hc hf
    refine lv_iconst (v := (-1)) E.1 hb dX0_letter_29 rfl ?_
    exact c_ir E hb hr hlk hS ⟨Nat.le_refl 0, Nat.le_refl 0⟩ hf dX0_letter_30
  · have hf := if_s hc hf
    refine lv_iload_n E.1 hb dX0_letter_8 rfl (lv_at hl 2 rfl) ?_
    refine lv_iconst (v := 0) E.1 hb dX0_letter_9 rfl ?_
    refine lv_iconst (v := 5) E.1 hb dX0_letter_10 rfl ?_
    obtain ⟨r2, h1, hf⟩ := bo_s hf
    refine c_ki hS (va_runS ⟨E.1, hb, hml, E.2.1, E.2.2.1⟩ (zX0_is h1) (va_cwS 3 E.2.2.1 gw_X0_168 rfl rfl rfl gnX0_is ⟨Nat.le_of_ble_eq_true rfl, Nat.le_of_ble_eq_true rfl⟩) (c_preS E hS _) rfl rfl hl.1 rfl (lv_room (Nat.le_of_ble_eq_true rfl)) dX0_letter_11 ⟨Nat.le_refl 0, Nat.le_refl 0⟩) hS.2.2.2.2 (fun H locs hS hn => ?_)
    refine lv_if_eq (tgt := 29) E.1 hb dX0_letter_14 (by decide) (fun hc => ?_) (fun hc => ?_)
    · have hf := it_s hc hf
      refine lv_iconst (v := (-1)) E.1 hb dX0_letter_29 rfl ?_
      exact c_ir E hb hr hlk hS ⟨Nat.le_refl 0, Nat.le_refl 0⟩ hf dX0_letter_30
    · have hf := if_s hc hf
      refine lv_aload_n E.1 hb dX0_letter_17 rfl (lv_at hl 0 rfl) ?_
      refine lv_iload_n E.1 hb dX0_letter_18 rfl (lv_at hl 1 rfl) ?_
      obtain ⟨r3, h1, hf⟩ := bo_s hf
      refine c_kq hS (va_runV ⟨E.1, hb, hml, E.2.1, E.2.2.1⟩ (zX0_beingOf h1) (cwV 1 E.2.2.1 gw_X0_229 rfl rfl rfl ⟨rfl, gnX0_beingOf⟩ ⟨Nat.le_of_ble_eq_true rfl, Nat.le_of_ble_eq_true rfl⟩) (c_preV E hS ci_1 (sK hS (by decide) rfl) (hS.1.lt (sK hS (by decide) rfl) rfl) _) rfl rfl hl.1 rfl (lv_room (Nat.le_of_ble_eq_true rfl)) dX0_letter_19 ⟨Nat.le_refl 0, Nat.le_refl 0⟩) hS.2.2.2.2 (fun H locs hS hn => ?_)
      obtain ⟨q4, hr9, hf⟩ := bo_s hf
      refine c_dr hr9 ?_
      refine lv_iload_n E.1 hb dX0_letter_22 rfl (lv_at hl 2 rfl) ?_
      obtain ⟨hkr, hf⟩ := gu_s hf
      obtain ⟨r5, A6, h1, hf⟩ := bd_s hf
      refine c_ki hS (va_runV ⟨E.1, hb, hml, E.2.1, E.2.2.1⟩ (zX7_letter h1) (cwV 1 E.2.2.1 gw_X0_233 rfl rfl rfl ⟨rfl, gnX7_letter⟩ ⟨Nat.le_of_ble_eq_true rfl, Nat.le_of_ble_eq_true rfl⟩) (c_preV E hS ci_7 hkr (hS.1.lt hkr rfl) _) rfl rfl hl.1 rfl (lv_room (Nat.le_of_ble_eq_true rfl)) dX0_letter_23 ⟨Nat.le_refl 0, Nat.le_refl 0⟩) hS.2.2.2.2 (fun H locs hS hn => ?_)
      refine lv_goto (tgt := 30) E.1 hb dX0_letter_26 (by decide) ?_
      exact c_ir E hb hr hlk hS ⟨Nat.le_refl 0, Nat.le_refl 0⟩ hf dX0_letter_30
theorem fk_X0_236_X5 : FLk RX0 236 "MarginFolk$State" (TX5 3).2.1 (TX5 3).2.2.1 := Or.inr ⟨_, q432⟩
theorem fk_X0_239_X5 : FLk RX0 239 "MarginFolk$State" (TX5 4).2.1 (TX5 4).2.2.1 := Or.inr ⟨_, q434⟩
theorem fk_X0_242_X7 : FLk RX0 242 "MarginFolk$Being" (TX7 3).2.1 (TX7 3).2.2.1 := Or.inr ⟨_, q869⟩
theorem fk_X0_245_X5 : FLk RX0 245 "MarginFolk$State" (TX5 5).2.1 (TX5 5).2.2.1 := Or.inr ⟨_, q436⟩
theorem fk_X0_248_X5 : FLk RX0 248 "MarginFolk$State" (TX5 6).2.1 (TX5 6).2.2.1 := Or.inr ⟨_, q438⟩
/-! MarginFolk.being(II)I: RW -/
noncomputable def X0_being (N : Nat) (A0 : AH) (x1 : Int32) (x2 : Int32) : Option (Int32 × AH) :=
  bo (X0_isBeing A0 x1) fun r1 => if r1 = 0 then (some ((-1), A0)) else (if x2 = 0 then (bo (sI 8 31 A0 18 x1) fun v2 => some (v2, A0)) else (if x2 = 1 then (bo (sI 8 31 A0 19 x1) fun v3 => some (v3, A0)) else (if x2 = 2 then (bo (X0_beingOf A0 x1) fun r4 => bo r4 fun q5 => bo (gI 7 A0 703 q5) fun v6 => some (v6, A0)) else (if x2 = 3 then (bo (sI 8 31 A0 20 x1) fun v7 => some (v7, A0)) else (if x2 = 4 then (bo (sI 8 31 A0 21 x1) fun v8 => some (v8, A0)) else (if x2 = 5 then (bo (sI 8 31 A0 18 x1) fun v9 => bd (X0_openingOf (valF N) A0 (aI A0 600 16 0)) fun r10 A11 => bo (X0_isOpen v9 r10) fun r12 => if r12 = 0 then (some (0, A11)) else (some (1, A11))) else (some ((-1), A0))))))))
abbrev rX0_being : Room := { frames := 258, cells := 0, slots := 0, locals := 5811 }
set_option maxHeartbeats 4000000 in
theorem zX0_being {l : Launch} {dC : Nat → ClassId} {dI : Nat → Nat → Nat} {ac : Nat → ClassId} {ad : Nat → Nat} {N : Nat} {A0 : AH} {x1 : Int32} {x2 : Int32} {r : Int32} {A' : AH} (hf : X0_being N A0 x1 x2 = some (r, A')) : Met l yX0_being (ws_ yX0_being cX0_being 3 (some .int)) { frames := 258, cells := 0, slots := 0, locals := 5811 } (va_Pc [.ref (ad 0), .int x1, .int x2] (cPre dC dI ac ad True A0)) (cQi dC dI ac ad True (aN A0) (aS A0) (aN A0) (aS A0) r A') 0 0 (cF ad) := by
  unfold X0_being at hf
  refine c_of ⟨Nat.le_refl _, Nat.le_refl _⟩ RX0 (plainFor_of_name (by decide)) rfl (Nat.le_of_ble_eq_true rfl) ?_
  intro p e s m args below meth c E hb hr hlk hnm hml hS ls hl
  have hl : lv_has ls 3 [(0, .ref (ad 0)), (1, .int x1), (2, .int x2)] := hl
  refine lv_aload_n E.1 hb dX0_being_0 rfl (lv_at hl 0 rfl) ?_
  refine lv_iload_n E.1 hb dX0_being_1 rfl (lv_at hl 1 rfl) ?_
  obtain ⟨r1, h1, hf⟩ := bo_s hf
  refine c_ki hS (va_runV ⟨E.1, hb, hml, E.2.1, E.2.2.1⟩ (zX0_isBeing h1) (cwV 1 E.2.2.1 gw_X0_225 rfl rfl rfl ⟨rfl, gnX0_isBeing⟩ ⟨Nat.le_of_ble_eq_true rfl, Nat.le_of_ble_eq_true rfl⟩) (c_preV E hS ci_1 (sK hS (by decide) rfl) (hS.1.lt (sK hS (by decide) rfl) rfl) _) rfl rfl hl.1 rfl (lv_room (Nat.le_of_ble_eq_true rfl)) dX0_being_2 ⟨Nat.le_refl 0, Nat.le_refl 0⟩) hS.2.2.2.2 (fun H locs hS hn => ?_)
  refine lv_if_ne (tgt := 10) E.1 hb dX0_being_5 (by decide) (fun hc => ?_) (fun hc => ?_)
  · have hf := if_s hc hf
    refine lv_iload_n E.1 hb dX0_being_10 rfl (lv_at hl 2 rfl) ?_
    by_cases hc0 : x2 = 0
    · have hf := it_s hc0 hf
      refine lv_tableIn (tgt := 48) E.1 hb dX0_being_11 (by rw [hc0]; decide) (by rw [hc0]; decide) (by rw [hc0]; rfl) (by decide) ?_
      refine lv_aload_n E.1 hb dX0_being_48 rfl (lv_at hl 0 rfl) ?_
      refine c_gN (k := 9) (f := 109) (q := 16) E hb hS ci_1 (sK hS (by decide) rfl) rfl rfl rfl (sRf hS (by decide) rfl) fk_X0_69_X0 (fun _ h => h) dX0_being_49 ?_
      refine c_gN (k := 3) (f := 603) (q := 18) E hb hS ci_6 (sK hS (by decide) rfl) rfl rfl rfl (sRf hS (by decide) rfl) fk_X0_236_X5 (fun _ h => h) dX0_being_52 ?_
      refine lv_iload_n E.1 hb dX0_being_55 rfl (lv_at hl 1 rfl) ?_
      obtain ⟨hg, hf⟩ := sI_s hf
      refine s_ld E hb hS (t := 31) ⟨by decide, rfl, rfl⟩ hg (Or.inl ⟨rfl, rfl⟩) dX0_being_56 ?_
      exact c_ir E hb hr hlk hS ⟨Nat.le_refl 0, Nat.le_refl 0⟩ hf dX0_being_57
    · have hf := if_s hc0 hf
      by_cases hc1 : x2 = 1
      · have hf := it_s hc1 hf
        refine lv_tableIn (tgt := 58) E.1 hb dX0_being_11 (by rw [hc1]; decide) (by rw [hc1]; decide) (by rw [hc1]; rfl) (by decide) ?_
        refine lv_aload_n E.1 hb dX0_being_58 rfl (lv_at hl 0 rfl) ?_
        refine c_gN (k := 9) (f := 109) (q := 16) E hb hS ci_1 (sK hS (by decide) rfl) rfl rfl rfl (sRf hS (by decide) rfl) fk_X0_69_X0 (fun _ h => h) dX0_being_59 ?_
        refine c_gN (k := 4) (f := 604) (q := 19) E hb hS ci_6 (sK hS (by decide) rfl) rfl rfl rfl (sRf hS (by decide) rfl) fk_X0_239_X5 (fun _ h => h) dX0_being_62 ?_
        refine lv_iload_n E.1 hb dX0_being_65 rfl (lv_at hl 1 rfl) ?_
        obtain ⟨hg, hf⟩ := sI_s hf
        refine s_ld E hb hS (t := 31) ⟨by decide, rfl, rfl⟩ hg (Or.inl ⟨rfl, rfl⟩) dX0_being_66 ?_
        exact c_ir E hb hr hlk hS ⟨Nat.le_refl 0, Nat.le_refl 0⟩ hf dX0_being_67
      · have hf := if_s hc1 hf
        by_cases hc2 : x2 = 2
        · have hf := it_s hc2 hf
          refine lv_tableIn (tgt := 68) E.1 hb dX0_being_11 (by rw [hc2]; decide) (by rw [hc2]; decide) (by rw [hc2]; rfl) (by decide) ?_
          refine lv_aload_n E.1 hb dX0_being_68 rfl (lv_at hl 0 rfl) ?_
          refine lv_iload_n E.1 hb dX0_being_69 rfl (lv_at hl 1 rfl) ?_
          obtain ⟨r4, h1, hf⟩ := bo_s hf
          refine c_kq hS (va_runV ⟨E.1, hb, hml, E.2.1, E.2.2.1⟩ (zX0_beingOf h1) (cwV 1 E.2.2.1 gw_X0_229 rfl rfl rfl ⟨rfl, gnX0_beingOf⟩ ⟨Nat.le_of_ble_eq_true rfl, Nat.le_of_ble_eq_true rfl⟩) (c_preV E hS ci_1 (sK hS (by decide) rfl) (hS.1.lt (sK hS (by decide) rfl) rfl) _) rfl rfl hl.1 rfl (lv_room (Nat.le_of_ble_eq_true rfl)) dX0_being_70 ⟨Nat.le_refl 0, Nat.le_refl 0⟩) hS.2.2.2.2 (fun H locs hS hn => ?_)
          obtain ⟨q5, hr9, hf⟩ := bo_s hf
          refine c_dr hr9 ?_
          obtain ⟨hk, hf⟩ := gI_s hf
          refine c_gI (k := 3) (f := 703) E hb hS ci_7 hk rfl rfl rfl fk_X0_242_X7 (fun _ h => h) dX0_being_73 ?_
          exact c_ir E hb hr hlk hS ⟨Nat.le_refl 0, Nat.le_refl 0⟩ hf dX0_being_76
        · have hf := if_s hc2 hf
          by_cases hc3 : x2 = 3
          · have hf := it_s hc3 hf
            refine lv_tableIn (tgt := 77) E.1 hb dX0_being_11 (by rw [hc3]; decide) (by rw [hc3]; decide) (by rw [hc3]; rfl) (by decide) ?_
            refine lv_aload_n E.1 hb dX0_being_77 rfl (lv_at hl 0 rfl) ?_
            refine c_gN (k := 9) (f := 109) (q := 16) E hb hS ci_1 (sK hS (by decide) rfl) rfl rfl rfl (sRf hS (by decide) rfl) fk_X0_69_X0 (fun _ h => h) dX0_being_78 ?_
            refine c_gN (k := 5) (f := 605) (q := 20) E hb hS ci_6 (sK hS (by decide) rfl) rfl rfl rfl (sRf hS (by decide) rfl) fk_X0_245_X5 (fun _ h => h) dX0_being_81 ?_
            refine lv_iload_n E.1 hb dX0_being_84 rfl (lv_at hl 1 rfl) ?_
            obtain ⟨hg, hf⟩ := sI_s hf
            refine s_ld E hb hS (t := 31) ⟨by decide, rfl, rfl⟩ hg (Or.inl ⟨rfl, rfl⟩) dX0_being_85 ?_
            exact c_ir E hb hr hlk hS ⟨Nat.le_refl 0, Nat.le_refl 0⟩ hf dX0_being_86
          · have hf := if_s hc3 hf
            by_cases hc4 : x2 = 4
            · have hf := it_s hc4 hf
              refine lv_tableIn (tgt := 87) E.1 hb dX0_being_11 (by rw [hc4]; decide) (by rw [hc4]; decide) (by rw [hc4]; rfl) (by decide) ?_
              refine lv_aload_n E.1 hb dX0_being_87 rfl (lv_at hl 0 rfl) ?_
              refine c_gN (k := 9) (f := 109) (q := 16) E hb hS ci_1 (sK hS (by decide) rfl) rfl rfl rfl (sRf hS (by decide) rfl) fk_X0_69_X0 (fun _ h => h) dX0_being_88 ?_
              refine c_gN (k := 6) (f := 606) (q := 21) E hb hS ci_6 (sK hS (by decide) rfl) rfl rfl rfl (sRf hS (by decide) rfl) fk_X0_248_X5 (fun _ h => h) dX0_being_91 ?_
              refine lv_iload_n E.1 hb dX0_being_94 rfl (lv_at hl 1 rfl) ?_
              obtain ⟨hg, hf⟩ := sI_s hf
              refine s_ld E hb hS (t := 31) ⟨by decide, rfl, rfl⟩ hg (Or.inl ⟨rfl, rfl⟩) dX0_being_95 ?_
              exact c_ir E hb hr hlk hS ⟨Nat.le_refl 0, Nat.le_refl 0⟩ hf dX0_being_96
            · have hf := if_s hc4 hf
              by_cases hc5 : x2 = 5
              · have hf := it_s hc5 hf
                refine lv_tableIn (tgt := 97) E.1 hb dX0_being_11 (by rw [hc5]; decide) (by rw [hc5]; decide) (by rw [hc5]; rfl) (by decide) ?_
                refine lv_aload_n E.1 hb dX0_being_97 rfl (lv_at hl 0 rfl) ?_
                refine c_gN (k := 9) (f := 109) (q := 16) E hb hS ci_1 (sK hS (by decide) rfl) rfl rfl rfl (sRf hS (by decide) rfl) fk_X0_69_X0 (fun _ h => h) dX0_being_98 ?_
                refine c_gN (k := 3) (f := 603) (q := 18) E hb hS ci_6 (sK hS (by decide) rfl) rfl rfl rfl (sRf hS (by decide) rfl) fk_X0_236_X5 (fun _ h => h) dX0_being_101 ?_
                refine lv_iload_n E.1 hb dX0_being_104 rfl (lv_at hl 1 rfl) ?_
                obtain ⟨hg, hf⟩ := sI_s hf
                refine s_ld E hb hS (t := 31) ⟨by decide, rfl, rfl⟩ hg (Or.inl ⟨rfl, rfl⟩) dX0_being_105 ?_
                refine lv_aload_n E.1 hb dX0_being_106 rfl (lv_at hl 0 rfl) ?_
                refine lv_aload_n E.1 hb dX0_being_107 rfl (lv_at hl 0 rfl) ?_
                refine c_gN (k := 9) (f := 109) (q := 16) E hb hS ci_1 (sK hS (by decide) rfl) rfl rfl rfl (sRf hS (by decide) rfl) fk_X0_69_X0 (fun _ h => h) dX0_being_108 ?_
                refine c_gI (k := 0) (f := 600) E hb hS ci_6 (sK hS (by decide) rfl) rfl rfl rfl fk_X0_213_X5 (fun _ h => h) dX0_being_111 ?_
                obtain ⟨r10, A11, h1, hf⟩ := bd_s hf
                refine c_ki hS (va_runV ⟨E.1, hb, hml, E.2.1, E.2.2.1⟩ (zX0_openingOf zvalF h1) (cwV 1 E.2.2.1 gw_X0_216 rfl rfl rfl ⟨rfl, gnX0_openingOf⟩ ⟨by dsimp only; omega, by dsimp only; omega⟩) (c_preV E hS ci_1 (sK hS (by decide) rfl) (hS.1.lt (sK hS (by decide) rfl) rfl) _) rfl rfl hl.1 rfl (lv_room (Nat.le_of_ble_eq_true rfl)) dX0_being_114 ⟨Nat.le_refl 0, Nat.le_refl 0⟩) hS.2.2.2.2 (fun H locs hS hn => ?_)
                obtain ⟨r12, h1, hf⟩ := bo_s hf
                refine c_ki hS (va_runS ⟨E.1, hb, hml, E.2.1, E.2.2.1⟩ (zX0_isOpen h1) (va_cwS 2 E.2.2.1 gw_X0_181 rfl rfl rfl gnX0_isOpen ⟨Nat.le_of_ble_eq_true rfl, Nat.le_of_ble_eq_true rfl⟩) (c_preS E hS _) rfl rfl hl.1 rfl (lv_room (Nat.le_of_ble_eq_true rfl)) dX0_being_117 ⟨Nat.le_refl 0, Nat.le_refl 0⟩) hS.2.2.2.2 (fun H locs hS hn => ?_)
                refine lv_if_eq (tgt := 127) E.1 hb dX0_being_120 (by decide) (fun hc => ?_) (fun hc => ?_)
                · have hf := it_s hc hf
                  refine lv_iconst (v := 0) E.1 hb dX0_being_127 rfl ?_
                  exact c_ir E hb hr hlk hS ⟨Nat.le_refl 0, Nat.le_refl 0⟩ hf dX0_being_128
                · have hf := if_s hc hf
                  refine lv_iconst (v := 1) E.1 hb dX0_being_123 rfl ?_
                  refine lv_goto (tgt := 128) E.1 hb dX0_being_124 (by decide) ?_
                  exact c_ir E hb hr hlk hS ⟨Nat.le_refl 0, Nat.le_refl 0⟩ hf dX0_being_128
              · have hf := if_s hc5 hf
                have q0 : (x2 : Int32).toInt ≠ 0 := ne_toInt hc0 rfl
                have q1 : (x2 : Int32).toInt ≠ 1 := ne_toInt hc1 rfl
                have q2 : (x2 : Int32).toInt ≠ 2 := ne_toInt hc2 rfl
                have q3 : (x2 : Int32).toInt ≠ 3 := ne_toInt hc3 rfl
                have q4 : (x2 : Int32).toInt ≠ 4 := ne_toInt hc4 rfl
                have q5 : (x2 : Int32).toInt ≠ 5 := ne_toInt hc5 rfl
                refine lv_tableOut (tgt := 129) E.1 hb dX0_being_11 (by omega) (by decide) ?_
                refine lv_iconst (v := (-1)) E.1 hb dX0_being_129 rfl ?_
                exact c_ir E hb hr hlk hS ⟨Nat.le_refl 0, Nat.le_refl 0⟩ hf dX0_being_130
  · have hf := it_s hc hf
    refine lv_iconst (v := (-1)) E.1 hb dX0_being_8 rfl ?_
    exact c_ir E hb hr hlk hS ⟨Nat.le_refl 0, Nat.le_refl 0⟩ hf dX0_being_9
/-! MarginFolk.isCell(II)Z: RO -/
noncomputable def X0_isCell (A : AH) (x1 : Int32) (x2 : Int32) : Option Int32 :=
  bo (aR A 100 0 0) fun q1 => bo (gI 2 A 201 q1) fun v2 => bo (X0_is x1 0 (v2 - 1)) fun r3 => if r3 = 0 then (some 0) else (bo (aR A 100 0 0) fun q4 => bo (gI 2 A 202 q4) fun v5 => bo (X0_is x2 0 (v5 - 1)) fun r6 => if r6 = 0 then (some 0) else (some 1))
abbrev rX0_isCell : Room := { frames := 1, cells := 0, slots := 0, locals := 22 }
set_option maxHeartbeats 4000000 in
theorem zX0_isCell {l : Launch} {dC : Nat → ClassId} {dI : Nat → Nat → Nat} {ac : Nat → ClassId} {ad : Nat → Nat} {A : AH} {x1 : Int32} {x2 : Int32} {r : Int32} (hf : X0_isCell A x1 x2 = some r) : Met l yX0_isCell (ws_ yX0_isCell cX0_isCell 3 (some .boolean)) { frames := 1, cells := 0, slots := 0, locals := 22 } (va_Pc [.ref (ad 0), .int x1, .int x2] (cPre dC dI ac ad True A)) (cQi dC dI ac ad True (aN A) (aS A) (aN A) (aS A) r A) 0 0 (cF ad) := by
  unfold X0_isCell at hf
  refine c_of ⟨Nat.le_refl _, Nat.le_refl _⟩ RX0 (plainFor_of_name (by decide)) rfl (Nat.le_of_ble_eq_true rfl) ?_
  intro p e s m args below meth c E hb hr hlk hnm hml hS ls hl
  have hl : lv_has ls 3 [(0, .ref (ad 0)), (1, .int x1), (2, .int x2)] := hl
  refine lv_iload_n E.1 hb dX0_isCell_0 rfl (lv_at hl 1 rfl) ?_
  refine lv_iconst (v := 0) E.1 hb dX0_isCell_1 rfl ?_
  refine lv_aload_n E.1 hb dX0_isCell_2 rfl (lv_at hl 0 rfl) ?_
  obtain ⟨q1, hr7, hf⟩ := bo_s hf
  refine c_gN (k := 0) (f := 100) E hb hS ci_1 (sK hS (by decide) rfl) rfl rfl rfl hr7 fk_X0_31_X0 (fun _ h => h) dX0_isCell_3 ?_
  obtain ⟨hk, hf⟩ := gI_s hf
  refine c_gI (k := 1) (f := 201) E hb hS ci_2 hk rfl rfl rfl fk_X0_154_X1 (fun _ h => h) dX0_isCell_6 ?_
  refine lv_iconst (v := 1) E.1 hb dX0_isCell_9 rfl ?_
  refine lv_isub E.1 hb dX0_isCell_10 ?_
  obtain ⟨r3, h1, hf⟩ := bo_s hf
  refine c_ki hS (va_runS ⟨E.1, hb, hml, E.2.1, E.2.2.1⟩ (zX0_is h1) (va_cwS 3 E.2.2.1 gw_X0_168 rfl rfl rfl gnX0_is ⟨Nat.le_of_ble_eq_true rfl, Nat.le_of_ble_eq_true rfl⟩) (c_preS E hS _) rfl rfl hl.1 rfl (lv_room (Nat.le_of_ble_eq_true rfl)) dX0_isCell_11 ⟨Nat.le_refl 0, Nat.le_refl 0⟩) hS.2.2.2.2 (fun H locs hS hn => ?_)
  refine lv_if_eq (tgt := 38) E.1 hb dX0_isCell_14 (by decide) (fun hc => ?_) (fun hc => ?_)
  · have hf := it_s hc hf
    refine lv_iconst (v := 0) E.1 hb dX0_isCell_38 rfl ?_
    exact c_zr (ty := .boolean) E hb hr hlk hS ⟨Nat.le_refl 0, Nat.le_refl 0⟩ rfl (ro_s hf) dX0_isCell_39
  · have hf := if_s hc hf
    refine lv_iload_n E.1 hb dX0_isCell_17 rfl (lv_at hl 2 rfl) ?_
    refine lv_iconst (v := 0) E.1 hb dX0_isCell_18 rfl ?_
    refine lv_aload_n E.1 hb dX0_isCell_19 rfl (lv_at hl 0 rfl) ?_
    obtain ⟨q4, hr7, hf⟩ := bo_s hf
    refine c_gN (k := 0) (f := 100) E hb hS ci_1 (sK hS (by decide) rfl) rfl rfl rfl hr7 fk_X0_31_X0 (fun _ h => h) dX0_isCell_20 ?_
    obtain ⟨hk, hf⟩ := gI_s hf
    refine c_gI (k := 2) (f := 202) E hb hS ci_2 hk rfl rfl rfl fk_X0_172_X1 (fun _ h => h) dX0_isCell_23 ?_
    refine lv_iconst (v := 1) E.1 hb dX0_isCell_26 rfl ?_
    refine lv_isub E.1 hb dX0_isCell_27 ?_
    obtain ⟨r6, h1, hf⟩ := bo_s hf
    refine c_ki hS (va_runS ⟨E.1, hb, hml, E.2.1, E.2.2.1⟩ (zX0_is h1) (va_cwS 3 E.2.2.1 gw_X0_168 rfl rfl rfl gnX0_is ⟨Nat.le_of_ble_eq_true rfl, Nat.le_of_ble_eq_true rfl⟩) (c_preS E hS _) rfl rfl hl.1 rfl (lv_room (Nat.le_of_ble_eq_true rfl)) dX0_isCell_28 ⟨Nat.le_refl 0, Nat.le_refl 0⟩) hS.2.2.2.2 (fun H locs hS hn => ?_)
    refine lv_if_eq (tgt := 38) E.1 hb dX0_isCell_31 (by decide) (fun hc => ?_) (fun hc => ?_)
    · have hf := it_s hc hf
      refine lv_iconst (v := 0) E.1 hb dX0_isCell_38 rfl ?_
      exact c_zr (ty := .boolean) E hb hr hlk hS ⟨Nat.le_refl 0, Nat.le_refl 0⟩ rfl (ro_s hf) dX0_isCell_39
    · have hf := if_s hc hf
      refine lv_iconst (v := 1) E.1 hb dX0_isCell_34 rfl ?_
      refine lv_goto (tgt := 39) E.1 hb dX0_isCell_35 (by decide) ?_
      exact c_zr (ty := .boolean) E hb hr hlk hS ⟨Nat.le_refl 0, Nat.le_refl 0⟩ rfl (ro_s hf) dX0_isCell_39
/-! MarginFolk$State.who(II)I: RO -/
noncomputable def X5_who_b35 (N : Nat) (x0 : Nat) (x1 : Int32) (x2 : Int32) (A : AH) (k2 : Int32 → Option Int32) (x3 : Int32) : Option Int32 :=
  k2 (x3 + 1)
noncomputable def X5_who_b2 (N : Nat) (x0 : Nat) (x1 : Int32) (x2 : Int32) (A : AH) (k2 : Int32 → Option Int32) (x3 : Int32) : Option Int32 :=
  bo (X0_beings A) fun r1 => if r1 ≤ x3 then (some (-1)) else (bo (sI 8 31 A (x0 + 2) x3) fun v2 => if v2 = x1 then (bo (sI 8 31 A (x0 + 3) x3) fun v3 => if v3 = x2 then (some x3) else (X5_who_b35 N x0 x1 x2 A k2 x3)) else (X5_who_b35 N x0 x1 x2 A k2 x3))
noncomputable def X5_who (N : Nat) (A : AH) (x0 : Nat) (x1 : Int32) (x2 : Int32) : Option Int32 :=
  if isStb x0 = true then (rn1 (X5_who_b2 N x0 x1 x2 A) N 0) else none
abbrev rX5_who : Room := { frames := 2, cells := 0, slots := 0, locals := 40 }
set_option maxHeartbeats 4000000 in
theorem zX5_who {l : Launch} {dC : Nat → ClassId} {dI : Nat → Nat → Nat} {ac : Nat → ClassId} {ad : Nat → Nat} {N : Nat} {A : AH} {x0 : Nat} {x1 : Int32} {x2 : Int32} {r : Int32} (hf : X5_who N A x0 x1 x2 = some r) : Met l yX5_who (ws_ yX5_who cX5_who 4 (some .int)) { frames := 2, cells := 0, slots := 0, locals := 40 } (va_Pc [.ref (ad x0), .int x1, .int x2] (cPre dC dI ac ad True A)) (cQi dC dI ac ad True (aN A) (aS A) (aN A) (aS A) r A) 0 0 (cF ad) := by
  unfold X5_who at hf
  obtain ⟨hg0, hf⟩ := gu_s hf
  have hs0 := isSt_of hg0
  refine c_of ⟨Nat.le_refl _, Nat.le_refl _⟩ RX5 (plainFor_of_name (by decide)) rfl (Nat.le_of_ble_eq_true rfl) ?_
  intro p e s m args below meth c E hb hr hlk hnm hml hS ls hl
  have hl : lv_has ls 4 [(0, .ref (ad x0)), (1, .int x1), (2, .int x2)] := hl
  have hB35 : ∀ (k2 : Int32 → Option Int32) (hk2 : ∀ (x3 : Int32), k2 x3 = some r → ∀ (H : Heap) (locs : List Loc), cS dC dI ac ad True s.heap (aN A) (aS A) (aN A) (aS A) A H locs → ∀ (ls : Array Slot), lv_has ls 4 [(0, .ref (ad x0)), (1, .int x1), (2, .int x2), (3, .int x3)] → W p l e rX5_who s m args below meth c H locs 0 0 (MQ below (cQi dC dI ac ad True (aN A) (aS A) (aN A) (aS A) r A) args s 0 0 (cF ad)) (F0 m 2 ls [])) (x3 : Int32), X5_who_b35 N x0 x1 x2 A k2 x3 = some r → ∀ (H : Heap) (locs : List Loc), cS dC dI ac ad True s.heap (aN A) (aS A) (aN A) (aS A) A H locs → ∀ (ls : Array Slot), lv_has ls 4 [(0, .ref (ad x0)), (1, .int x1), (2, .int x2), (3, .int x3)] → W p l e rX5_who s m args below meth c H locs 0 0 (MQ below (cQi dC dI ac ad True (aN A) (aS A) (aN A) (aS A) r A) args s 0 0 (cF ad)) (F0 m 35 ls []) := by
    intro k2 hk2 x3 hf H locs hS ls hl
    unfold X5_who_b35 at hf
    refine lv_iinc (v := (x3 + 1)) (lv' := [(3, .int (x3 + 1)), (0, .ref (ad x0)), (1, .int x1), (2, .int x2)]) E.1 hb dX5_who_35 hl (k := 3) rfl rfl (by decide) rfl (fun ls hl => ?_)
    refine lv_goto (tgt := 2) E.1 hb dX5_who_38 (by decide) ?_
    exact hk2 (x3 + 1) hf _ _ hS _ (lv_sub hl [1, 2, 3, 0] rfl)
  have hL2 : ∀ (n : Nat) (x3 : Int32), rn1 (X5_who_b2 N x0 x1 x2 A) n x3 = some r → ∀ (H : Heap) (locs : List Loc), cS dC dI ac ad True s.heap (aN A) (aS A) (aN A) (aS A) A H locs → ∀ (ls : Array Slot), lv_has ls 4 [(0, .ref (ad x0)), (1, .int x1), (2, .int x2), (3, .int x3)] → W p l e rX5_who s m args below meth c H locs 0 0 (MQ below (cQi dC dI ac ad True (aN A) (aS A) (aN A) (aS A) r A) args s 0 0 (cF ad)) (F0 m 2 ls []) := by
    intro  n
    induction n with
    | zero =>
      intro x3 hf
      cases hf
    | succ n ih =>
      intro x3 hf H locs hS ls hl
      have hf : X5_who_b2 N x0 x1 x2 A (rn1 (X5_who_b2 N x0 x1 x2 A) n) x3 = some r := hf
      have hk2 := ih
      generalize rn1 (X5_who_b2 N x0 x1 x2 A) n = k2 at hf hk2
      unfold X5_who_b2 at hf
      refine lv_iload_n E.1 hb dX5_who_2 rfl (lv_at hl 3 rfl) ?_
      refine lv_aload_n E.1 hb dX5_who_3 rfl (lv_at hl 0 rfl) ?_
      refine c_gN (k := 10) (f := 610) (q := 0) E hb hS ci_6 (sK hS (st_K0 hs0).1 (st_K0 hs0).2) rfl rfl rfl (st_R0 (cst hS) hs0) fk_X5_3_X5 (fun _ h => h) dX5_who_4 ?_
      obtain ⟨r1, h1, hf⟩ := bo_s hf
      refine c_ki hS (va_runVN ⟨E.1, hb, hml, E.2.1, E.2.2.1⟩ (zX0_beings h1) ⟨va_cnB 0 E.2.2.1 (lw_meth q1234) rfl rfl rfl (E.2.2.2.2.1 _ q1231 rfl) (E.2.2.1 _ q152) gnX0_beings ⟨Nat.le_of_ble_eq_true rfl, Nat.le_of_ble_eq_true rfl⟩, E.2.2.1 _ q1233, E.2.2.1 _ qs34⟩ (c_preV E hS ci_1 (sK hS (by decide) rfl) (hS.1.lt (sK hS (by decide) rfl) rfl) _) rfl rfl hl.1 rfl (lv_room (Nat.le_of_ble_eq_true rfl)) dX5_who_7 ⟨Nat.le_refl 0, Nat.le_refl 0⟩) hS.2.2.2.2 (fun H locs hS hn => ?_)
      refine lv_icmp_ge (tgt := 41) E.1 hb dX5_who_10 (by decide) (fun hc => ?_) (fun hc => ?_)
      · have hf := it_s hc hf
        refine lv_iconst (v := (-1)) E.1 hb dX5_who_41 rfl ?_
        exact c_ir E hb hr hlk hS ⟨Nat.le_refl 0, Nat.le_refl 0⟩ (ro_s hf) dX5_who_42
      · have hf := if_s hc hf
        refine lv_aload_n E.1 hb dX5_who_13 rfl (lv_at hl 0 rfl) ?_
        refine c_gN (k := 3) (f := 603) (q := (x0 + 2)) E hb hS ci_6 (sK hS (st_K0 hs0).1 (st_K0 hs0).2) rfl rfl rfl (st_R (cst hS) hs0 rfl (by decide)) fk_X5_19_X5 (fun _ h => h) dX5_who_14 ?_
        refine lv_iload_n E.1 hb dX5_who_17 rfl (lv_at hl 3 rfl) ?_
        obtain ⟨hg, hf⟩ := sI_s hf
        refine s_ld E hb hS (t := 31) (st_K hs0 2 (by decide)) hg (Or.inl ⟨rfl, rfl⟩) dX5_who_18 ?_
        refine lv_iload_n E.1 hb dX5_who_19 rfl (lv_at hl 1 rfl) ?_
        refine lv_icmp_ne (tgt := 35) E.1 hb dX5_who_20 (by decide) (fun hc => ?_) (fun hc => ?_)
        · have hf := if_s hc hf
          exact hB35 k2 hk2 x3 hf _ _ hS _ (lv_sub hl [0, 1, 2, 3] rfl)
        · have hf := it_s hc hf
          refine lv_aload_n E.1 hb dX5_who_23 rfl (lv_at hl 0 rfl) ?_
          refine c_gN (k := 4) (f := 604) (q := (x0 + 3)) E hb hS ci_6 (sK hS (st_K0 hs0).1 (st_K0 hs0).2) rfl rfl rfl (st_R (cst hS) hs0 rfl (by decide)) fk_X5_22_X5 (fun _ h => h) dX5_who_24 ?_
          refine lv_iload_n E.1 hb dX5_who_27 rfl (lv_at hl 3 rfl) ?_
          obtain ⟨hg, hf⟩ := sI_s hf
          refine s_ld E hb hS (t := 31) (st_K hs0 3 (by decide)) hg (Or.inl ⟨rfl, rfl⟩) dX5_who_28 ?_
          refine lv_iload_n E.1 hb dX5_who_29 rfl (lv_at hl 2 rfl) ?_
          refine lv_icmp_ne (tgt := 35) E.1 hb dX5_who_30 (by decide) (fun hc => ?_) (fun hc => ?_)
          · have hf := if_s hc hf
            exact hB35 k2 hk2 x3 hf _ _ hS _ (lv_sub hl [0, 1, 2, 3] rfl)
          · have hf := it_s hc hf
            refine lv_iload_n E.1 hb dX5_who_33 rfl (lv_at hl 3 rfl) ?_
            exact c_ir E hb hr hlk hS ⟨Nat.le_refl 0, Nat.le_refl 0⟩ (ro_s hf) dX5_who_34
  refine lv_iconst (v := 0) E.1 hb dX5_who_0 rfl ?_
  refine lv_istore_n (lv' := [(3, .int 0), (0, .ref (ad x0)), (1, .int x1), (2, .int x2)]) E.1 hb dX5_who_1 rfl hl (by decide) rfl (fun ls hl => ?_)
  exact hL2 N 0 hf _ _ hS _ (lv_sub hl [1, 2, 3, 0] rfl)
theorem gw_X0_264 : GoodIn lw_all (wsV RX0 264 RX0 yX0_mirrored (ws_ yX0_mirrored cX0_mirrored 2 (some .int))) := lw_V q1392 q1316 qs39 q152 q1317
theorem gw_X0_251 : GoodIn lw_all (wsV RX0 251 RX0 yX0_isCell (ws_ yX0_isCell cX0_isCell 3 (some .boolean))) := lw_V q1382 q1384 qs41 q152 q1385
theorem gnX0_isCell : yX0_isCell.cls ≠ "java/lang/invoke/MethodHandle" ∧ yX0_isCell.cls ≠ "java/lang/invoke/VarHandle" ∧ (parseMethodDescriptor yX0_isCell.desc).map (fun d => d.parameters.length) = some 2 := by decide +kernel
theorem gw_X0_261 : GoodIn lw_all (wsV RX0 261 RX0 yX0_liesOn (ws_ yX0_liesOn cX0_liesOn 3 (some .boolean))) := lw_V q1391 q1309 qs38 q152 q1310
theorem gw_X0_257 : GoodIn lw_all (wsV RX0 257 RX5 yX5_who (ws_ yX5_who cX5_who 4 (some .int))) := lw_V q1387 q1388 q1389 q163 q1390
theorem gnX5_who : yX5_who.cls ≠ "java/lang/invoke/MethodHandle" ∧ yX5_who.cls ≠ "java/lang/invoke/VarHandle" ∧ (parseMethodDescriptor yX5_who.desc).map (fun d => d.parameters.length) = some 2 := by decide +kernel
theorem gw_X0_254 : GoodIn lw_all (va_wsS RX0 254 yX0_has (ws_ yX0_has cX0_has 2 (some .boolean))) := lw_S q1386 q793 q152 q794
/-! MarginFolk.cell(III)I: RW -/
noncomputable def X0_cell_b111 (N : Nat) (x1 : Int32) (x2 : Int32) (x3 : Int32) (A : AH) (y0 : Int32) : Option (Int32 × AH) :=
  if y0 = (-1) then (some ((-1), A)) else (if x3 = 2 then (some (y0, A)) else (bo (X0_mirrored A x2) fun r7 => some (r7, A)))
noncomputable def X0_cell (N : Nat) (A0 : AH) (x1 : Int32) (x2 : Int32) (x3 : Int32) : Option (Int32 × AH) :=
  bo (X0_isCell A0 x1 x2) fun r1 => if r1 = 0 then (some ((-1), A0)) else (bo (X0_is x3 0 3) fun r2 => if r2 = 0 then (some ((-1), A0)) else (if 2 ≤ x3 then (bd (X0_openingOf (valF N) A0 (aI A0 600 16 0)) fun r3 A4 => bo (X0_liesOn A4 (x1 - 1) r3) fun r5 => if r5 = 0 then (bo (X0_liesOn A4 x1 r3) fun r6 => if r6 = 0 then (X0_cell_b111 N x1 x2 x3 A4 (-1)) else (X0_cell_b111 N x1 x2 x3 A4 (x1 + 1))) else (X0_cell_b111 N x1 x2 x3 A4 (x1 - 1))) else (if x3 = 0 then (bo (sI 6 31 A0 17 x1) fun v9 => bo (X0_has v9 x2) fun r10 => if r10 = 0 then (some (0, A0)) else (some (1, A0))) else (bo (X5_who N A0 16 x1 x2) fun r8 => some (r8, A0)))))
abbrev rX0_cell : Room := { frames := 258, cells := 0, slots := 0, locals := 5811 }
set_option maxHeartbeats 4000000 in
theorem zX0_cell {l : Launch} {dC : Nat → ClassId} {dI : Nat → Nat → Nat} {ac : Nat → ClassId} {ad : Nat → Nat} {N : Nat} {A0 : AH} {x1 : Int32} {x2 : Int32} {x3 : Int32} {r : Int32} {A' : AH} (hf : X0_cell N A0 x1 x2 x3 = some (r, A')) : Met l yX0_cell (ws_ yX0_cell cX0_cell 6 (some .int)) { frames := 258, cells := 0, slots := 0, locals := 5811 } (va_Pc [.ref (ad 0), .int x1, .int x2, .int x3] (cPre dC dI ac ad True A0)) (cQi dC dI ac ad True (aN A0) (aS A0) (aN A0) (aS A0) r A') 0 0 (cF ad) := by
  unfold X0_cell at hf
  refine c_of ⟨Nat.le_refl _, Nat.le_refl _⟩ RX0 (plainFor_of_name (by decide)) rfl (Nat.le_of_ble_eq_true rfl) ?_
  intro p e s m args below meth c E hb hr hlk hnm hml hS ls hl
  have hl : lv_has ls 6 [(0, .ref (ad 0)), (1, .int x1), (2, .int x2), (3, .int x3)] := hl
  have hB111 : ∀ (A : AH) (y0 : Int32), X0_cell_b111 N x1 x2 x3 A y0 = some (r, A') → ∀ (H : Heap) (locs : List Loc), cS dC dI ac ad True s.heap (aN A0) (aS A0) (aN A0) (aS A0) A H locs → ∀ (ls : Array Slot), lv_has ls 6 [(0, .ref (ad 0)), (1, .int x1), (2, .int x2), (3, .int x3)] → W p l e rX0_cell s m args below meth c H locs 0 0 (MQ below (cQi dC dI ac ad True (aN A0) (aS A0) (aN A0) (aS A0) r A') args s 0 0 (cF ad)) (F0 m 111 ls [.int y0]) := by
    intro A y0 hf H locs hS ls hl
    unfold X0_cell_b111 at hf
    refine lv_istore (lv' := [(5, .int y0), (0, .ref (ad 0)), (1, .int x1), (2, .int x2), (3, .int x3)]) E.1 hb dX0_cell_111 hl (by decide) rfl (fun ls hl => ?_)
    refine lv_iload E.1 hb dX0_cell_113 (lv_at hl 0 rfl) ?_
    refine lv_iconst (v := (-1)) E.1 hb dX0_cell_115 rfl ?_
    refine lv_icmp_ne (tgt := 123) E.1 hb dX0_cell_116 (by decide) (fun hc => ?_) (fun hc => ?_)
    · have hf := if_s hc hf
      refine lv_iload_n E.1 hb dX0_cell_123 rfl (lv_at hl 4 rfl) ?_
      refine lv_iconst (v := 2) E.1 hb dX0_cell_124 rfl ?_
      refine lv_icmp_ne (tgt := 133) E.1 hb dX0_cell_125 (by decide) (fun hc => ?_) (fun hc => ?_)
      · have hf := if_s hc hf
        refine lv_aload_n E.1 hb dX0_cell_133 rfl (lv_at hl 1 rfl) ?_
        refine lv_iload_n E.1 hb dX0_cell_134 rfl (lv_at hl 3 rfl) ?_
        obtain ⟨r7, h1, hf⟩ := bo_s hf
        refine c_ki hS (va_runV ⟨E.1, hb, hml, E.2.1, E.2.2.1⟩ (zX0_mirrored h1) (cwV 1 E.2.2.1 gw_X0_264 rfl rfl rfl ⟨rfl, gnX0_mirrored⟩ ⟨Nat.le_of_ble_eq_true rfl, Nat.le_of_ble_eq_true rfl⟩) (c_preV E hS ci_1 (sK hS (by decide) rfl) (hS.1.lt (sK hS (by decide) rfl) rfl) _) rfl rfl hl.1 rfl (lv_room (Nat.le_of_ble_eq_true rfl)) dX0_cell_135 ⟨Nat.le_refl 0, Nat.le_refl 0⟩) hS.2.2.2.2 (fun H locs hS hn => ?_)
        exact c_ir E hb hr hlk hS ⟨Nat.le_refl 0, Nat.le_refl 0⟩ hf dX0_cell_138
      · have hf := it_s hc hf
        refine lv_iload E.1 hb dX0_cell_128 (lv_at hl 0 rfl) ?_
        refine lv_goto (tgt := 138) E.1 hb dX0_cell_130 (by decide) ?_
        exact c_ir E hb hr hlk hS ⟨Nat.le_refl 0, Nat.le_refl 0⟩ hf dX0_cell_138
    · have hf := it_s hc hf
      refine lv_iconst (v := (-1)) E.1 hb dX0_cell_119 rfl ?_
      refine lv_goto (tgt := 138) E.1 hb dX0_cell_120 (by decide) ?_
      exact c_ir E hb hr hlk hS ⟨Nat.le_refl 0, Nat.le_refl 0⟩ hf dX0_cell_138
  refine lv_aload_n E.1 hb dX0_cell_0 rfl (lv_at hl 0 rfl) ?_
  refine lv_iload_n E.1 hb dX0_cell_1 rfl (lv_at hl 1 rfl) ?_
  refine lv_iload_n E.1 hb dX0_cell_2 rfl (lv_at hl 2 rfl) ?_
  obtain ⟨r1, h1, hf⟩ := bo_s hf
  refine c_ki hS (va_runV ⟨E.1, hb, hml, E.2.1, E.2.2.1⟩ (zX0_isCell h1) (cwV 2 E.2.2.1 gw_X0_251 rfl rfl rfl ⟨rfl, gnX0_isCell⟩ ⟨Nat.le_of_ble_eq_true rfl, Nat.le_of_ble_eq_true rfl⟩) (c_preV E hS ci_1 (sK hS (by decide) rfl) (hS.1.lt (sK hS (by decide) rfl) rfl) _) rfl rfl hl.1 rfl (lv_room (Nat.le_of_ble_eq_true rfl)) dX0_cell_3 ⟨Nat.le_refl 0, Nat.le_refl 0⟩) hS.2.2.2.2 (fun H locs hS hn => ?_)
  refine lv_if_eq (tgt := 18) E.1 hb dX0_cell_6 (by decide) (fun hc => ?_) (fun hc => ?_)
  · have hf := it_s hc hf
    refine lv_iconst (v := (-1)) E.1 hb dX0_cell_18 rfl ?_
    exact c_ir E hb hr hlk hS ⟨Nat.le_refl 0, Nat.le_refl 0⟩ hf dX0_cell_19
  · have hf := if_s hc hf
    refine lv_iload_n E.1 hb dX0_cell_9 rfl (lv_at hl 3 rfl) ?_
    refine lv_iconst (v := 0) E.1 hb dX0_cell_10 rfl ?_
    refine lv_iconst (v := 3) E.1 hb dX0_cell_11 rfl ?_
    obtain ⟨r2, h1, hf⟩ := bo_s hf
    refine c_ki hS (va_runS ⟨E.1, hb, hml, E.2.1, E.2.2.1⟩ (zX0_is h1) (va_cwS 3 E.2.2.1 gw_X0_168 rfl rfl rfl gnX0_is ⟨Nat.le_of_ble_eq_true rfl, Nat.le_of_ble_eq_true rfl⟩) (c_preS E hS _) rfl rfl hl.1 rfl (lv_room (Nat.le_of_ble_eq_true rfl)) dX0_cell_12 ⟨Nat.le_refl 0, Nat.le_refl 0⟩) hS.2.2.2.2 (fun H locs hS hn => ?_)
    refine lv_if_ne (tgt := 20) E.1 hb dX0_cell_15 (by decide) (fun hc => ?_) (fun hc => ?_)
    · have hf := if_s hc hf
      refine lv_iload_n E.1 hb dX0_cell_20 rfl (lv_at hl 3 rfl) ?_
      refine lv_iconst (v := 2) E.1 hb dX0_cell_21 rfl ?_
      refine lv_icmp_ge (tgt := 63) E.1 hb dX0_cell_22 (by decide) (fun hc => ?_) (fun hc => ?_)
      · have hf := it_s hc hf
        refine lv_aload_n E.1 hb dX0_cell_63 rfl (lv_at hl 0 rfl) ?_
        refine lv_aload_n E.1 hb dX0_cell_64 rfl (lv_at hl 0 rfl) ?_
        refine c_gN (k := 9) (f := 109) (q := 16) E hb hS ci_1 (sK hS (by decide) rfl) rfl rfl rfl (sRf hS (by decide) rfl) fk_X0_69_X0 (fun _ h => h) dX0_cell_65 ?_
        refine c_gI (k := 0) (f := 600) E hb hS ci_6 (sK hS (by decide) rfl) rfl rfl rfl fk_X0_213_X5 (fun _ h => h) dX0_cell_68 ?_
        obtain ⟨r3, A4, h1, hf⟩ := bd_s hf
        refine c_ki hS (va_runV ⟨E.1, hb, hml, E.2.1, E.2.2.1⟩ (zX0_openingOf zvalF h1) (cwV 1 E.2.2.1 gw_X0_216 rfl rfl rfl ⟨rfl, gnX0_openingOf⟩ ⟨by dsimp only; omega, by dsimp only; omega⟩) (c_preV E hS ci_1 (sK hS (by decide) rfl) (hS.1.lt (sK hS (by decide) rfl) rfl) _) rfl rfl hl.1 rfl (lv_room (Nat.le_of_ble_eq_true rfl)) dX0_cell_71 ⟨Nat.le_refl 0, Nat.le_refl 0⟩) hS.2.2.2.2 (fun H locs hS hn => ?_)
        refine lv_istore (lv' := [(4, .int r3), (0, .ref (ad 0)), (1, .int x1), (2, .int x2), (3, .int x3)]) E.1 hb dX0_cell_74 hl (by decide) rfl (fun ls hl => ?_)
        refine lv_aload_n E.1 hb dX0_cell_76 rfl (lv_at hl 1 rfl) ?_
        refine lv_iload_n E.1 hb dX0_cell_77 rfl (lv_at hl 2 rfl) ?_
        refine lv_iconst (v := 1) E.1 hb dX0_cell_78 rfl ?_
        refine lv_isub E.1 hb dX0_cell_79 ?_
        refine lv_iload E.1 hb dX0_cell_80 (lv_at hl 0 rfl) ?_
        obtain ⟨r5, h1, hf⟩ := bo_s hf
        refine c_ki hS (va_runV ⟨E.1, hb, hml, E.2.1, E.2.2.1⟩ (zX0_liesOn h1) (cwV 2 E.2.2.1 gw_X0_261 rfl rfl rfl ⟨rfl, gnX0_liesOn⟩ ⟨Nat.le_of_ble_eq_true rfl, Nat.le_of_ble_eq_true rfl⟩) (c_preV E hS ci_1 (sK hS (by decide) rfl) (hS.1.lt (sK hS (by decide) rfl) rfl) _) rfl rfl hl.1 rfl (lv_room (Nat.le_of_ble_eq_true rfl)) dX0_cell_82 ⟨Nat.le_refl 0, Nat.le_refl 0⟩) hS.2.2.2.2 (fun H locs hS hn => ?_)
        refine lv_if_eq (tgt := 94) E.1 hb dX0_cell_85 (by decide) (fun hc => ?_) (fun hc => ?_)
        · have hf := it_s hc hf
          refine lv_aload_n E.1 hb dX0_cell_94 rfl (lv_at hl 1 rfl) ?_
          refine lv_iload_n E.1 hb dX0_cell_95 rfl (lv_at hl 2 rfl) ?_
          refine lv_iload E.1 hb dX0_cell_96 (lv_at hl 0 rfl) ?_
          obtain ⟨r6, h1, hf⟩ := bo_s hf
          refine c_ki hS (va_runV ⟨E.1, hb, hml, E.2.1, E.2.2.1⟩ (zX0_liesOn h1) (cwV 2 E.2.2.1 gw_X0_261 rfl rfl rfl ⟨rfl, gnX0_liesOn⟩ ⟨Nat.le_of_ble_eq_true rfl, Nat.le_of_ble_eq_true rfl⟩) (c_preV E hS ci_1 (sK hS (by decide) rfl) (hS.1.lt (sK hS (by decide) rfl) rfl) _) rfl rfl hl.1 rfl (lv_room (Nat.le_of_ble_eq_true rfl)) dX0_cell_98 ⟨Nat.le_refl 0, Nat.le_refl 0⟩) hS.2.2.2.2 (fun H locs hS hn => ?_)
          refine lv_if_eq (tgt := 110) E.1 hb dX0_cell_101 (by decide) (fun hc => ?_) (fun hc => ?_)
          · have hf := it_s hc hf
            refine lv_iconst (v := (-1)) E.1 hb dX0_cell_110 rfl ?_
            exact hB111 A4 (-1) hf _ _ hS _ (lv_sub hl [1, 2, 3, 4] rfl)
          · have hf := if_s hc hf
            refine lv_iload_n E.1 hb dX0_cell_104 rfl (lv_at hl 2 rfl) ?_
            refine lv_iconst (v := 1) E.1 hb dX0_cell_105 rfl ?_
            refine lv_iadd E.1 hb dX0_cell_106 ?_
            refine lv_goto (tgt := 111) E.1 hb dX0_cell_107 (by decide) ?_
            exact hB111 A4 (x1 + 1) hf _ _ hS _ (lv_sub hl [1, 2, 3, 4] rfl)
        · have hf := if_s hc hf
          refine lv_iload_n E.1 hb dX0_cell_88 rfl (lv_at hl 2 rfl) ?_
          refine lv_iconst (v := 1) E.1 hb dX0_cell_89 rfl ?_
          refine lv_isub E.1 hb dX0_cell_90 ?_
          refine lv_goto (tgt := 111) E.1 hb dX0_cell_91 (by decide) ?_
          exact hB111 A4 (x1 - 1) hf _ _ hS _ (lv_sub hl [1, 2, 3, 4] rfl)
      · have hf := if_s hc hf
        refine lv_iload_n E.1 hb dX0_cell_25 rfl (lv_at hl 3 rfl) ?_
        refine lv_if_ne (tgt := 53) E.1 hb dX0_cell_26 (by decide) (fun hc => ?_) (fun hc => ?_)
        · have hf := if_s hc hf
          refine lv_aload_n E.1 hb dX0_cell_53 rfl (lv_at hl 0 rfl) ?_
          refine c_gN (k := 9) (f := 109) (q := 16) E hb hS ci_1 (sK hS (by decide) rfl) rfl rfl rfl (sRf hS (by decide) rfl) fk_X0_69_X0 (fun _ h => h) dX0_cell_54 ?_
          refine lv_iload_n E.1 hb dX0_cell_57 rfl (lv_at hl 1 rfl) ?_
          refine lv_iload_n E.1 hb dX0_cell_58 rfl (lv_at hl 2 rfl) ?_
          obtain ⟨r8, h1, hf⟩ := bo_s hf
          refine c_ki hS (va_runV ⟨E.1, hb, hml, E.2.1, E.2.2.1⟩ (zX5_who h1) (cwV 2 E.2.2.1 gw_X0_257 rfl rfl rfl ⟨rfl, gnX5_who⟩ ⟨Nat.le_of_ble_eq_true rfl, Nat.le_of_ble_eq_true rfl⟩) (c_preV E hS ci_6 (sK hS (by decide) rfl) (hS.1.lt (sK hS (by decide) rfl) rfl) _) rfl rfl hl.1 rfl (lv_room (Nat.le_of_ble_eq_true rfl)) dX0_cell_59 ⟨Nat.le_refl 0, Nat.le_refl 0⟩) hS.2.2.2.2 (fun H locs hS hn => ?_)
          exact c_ir E hb hr hlk hS ⟨Nat.le_refl 0, Nat.le_refl 0⟩ hf dX0_cell_62
        · have hf := it_s hc hf
          refine lv_aload_n E.1 hb dX0_cell_29 rfl (lv_at hl 0 rfl) ?_
          refine c_gN (k := 9) (f := 109) (q := 16) E hb hS ci_1 (sK hS (by decide) rfl) rfl rfl rfl (sRf hS (by decide) rfl) fk_X0_69_X0 (fun _ h => h) dX0_cell_30 ?_
          refine c_gN (k := 2) (f := 602) (q := 17) E hb hS ci_6 (sK hS (by decide) rfl) rfl rfl rfl (sRf hS (by decide) rfl) fk_X0_202_X5 (fun _ h => h) dX0_cell_33 ?_
          refine lv_iload_n E.1 hb dX0_cell_36 rfl (lv_at hl 1 rfl) ?_
          obtain ⟨hg, hf⟩ := sI_s hf
          refine s_ld E hb hS (t := 31) ⟨by decide, rfl, rfl⟩ hg (Or.inl ⟨rfl, rfl⟩) dX0_cell_37 ?_
          refine lv_iload_n E.1 hb dX0_cell_38 rfl (lv_at hl 2 rfl) ?_
          obtain ⟨r10, h1, hf⟩ := bo_s hf
          refine c_ki hS (va_runS ⟨E.1, hb, hml, E.2.1, E.2.2.1⟩ (zX0_has h1) (va_cwS 2 E.2.2.1 gw_X0_254 rfl rfl rfl gnX0_has ⟨Nat.le_of_ble_eq_true rfl, Nat.le_of_ble_eq_true rfl⟩) (c_preS E hS _) rfl rfl hl.1 rfl (lv_room (Nat.le_of_ble_eq_true rfl)) dX0_cell_39 ⟨Nat.le_refl 0, Nat.le_refl 0⟩) hS.2.2.2.2 (fun H locs hS hn => ?_)
          refine lv_if_eq (tgt := 49) E.1 hb dX0_cell_42 (by decide) (fun hc => ?_) (fun hc => ?_)
          · have hf := it_s hc hf
            refine lv_iconst (v := 0) E.1 hb dX0_cell_49 rfl ?_
            refine lv_goto (tgt := 62) E.1 hb dX0_cell_50 (by decide) ?_
            exact c_ir E hb hr hlk hS ⟨Nat.le_refl 0, Nat.le_refl 0⟩ hf dX0_cell_62
          · have hf := if_s hc hf
            refine lv_iconst (v := 1) E.1 hb dX0_cell_45 rfl ?_
            refine lv_goto (tgt := 62) E.1 hb dX0_cell_46 (by decide) ?_
            exact c_ir E hb hr hlk hS ⟨Nat.le_refl 0, Nat.le_refl 0⟩ hf dX0_cell_62
    · have hf := it_s hc hf
      refine lv_iconst (v := (-1)) E.1 hb dX0_cell_18 rfl ?_
      exact c_ir E hb hr hlk hS ⟨Nat.le_refl 0, Nat.le_refl 0⟩ hf dX0_cell_19
theorem fk_X0_267_X5 : FLk RX0 267 "MarginFolk$State" (TX5 7).2.1 (TX5 7).2.2.1 := Or.inr ⟨_, q440⟩
/-! MarginFolk.kept(II)I: RO -/
noncomputable def X0_kept (A : AH) (x1 : Int32) (x2 : Int32) : Option Int32 :=
  bo (X0_is x1 0 ((aI A 601 16 0) - 1)) fun r1 => if r1 = 0 then (some (-1)) else (bo (X0_is x2 0 2) fun r2 => if r2 = 0 then (some (-1)) else (bo (sR 40 36 A 22 x1) fun q3 => bo (dI_ 31 A q3 x2) fun v4 => some v4))
abbrev rX0_kept : Room := { frames := 1, cells := 0, slots := 0, locals := 22 }
set_option maxHeartbeats 4000000 in
theorem zX0_kept {l : Launch} {dC : Nat → ClassId} {dI : Nat → Nat → Nat} {ac : Nat → ClassId} {ad : Nat → Nat} {A : AH} {x1 : Int32} {x2 : Int32} {r : Int32} (hf : X0_kept A x1 x2 = some r) : Met l yX0_kept (ws_ yX0_kept cX0_kept 3 (some .int)) { frames := 1, cells := 0, slots := 0, locals := 22 } (va_Pc [.ref (ad 0), .int x1, .int x2] (cPre dC dI ac ad True A)) (cQi dC dI ac ad True (aN A) (aS A) (aN A) (aS A) r A) 0 0 (cF ad) := by
  unfold X0_kept at hf
  refine c_of ⟨Nat.le_refl _, Nat.le_refl _⟩ RX0 (plainFor_of_name (by decide)) rfl (Nat.le_of_ble_eq_true rfl) ?_
  intro p e s m args below meth c E hb hr hlk hnm hml hS ls hl
  have hl : lv_has ls 3 [(0, .ref (ad 0)), (1, .int x1), (2, .int x2)] := hl
  refine lv_iload_n E.1 hb dX0_kept_0 rfl (lv_at hl 1 rfl) ?_
  refine lv_iconst (v := 0) E.1 hb dX0_kept_1 rfl ?_
  refine lv_aload_n E.1 hb dX0_kept_2 rfl (lv_at hl 0 rfl) ?_
  refine c_gN (k := 9) (f := 109) (q := 16) E hb hS ci_1 (sK hS (by decide) rfl) rfl rfl rfl (sRf hS (by decide) rfl) fk_X0_69_X0 (fun _ h => h) dX0_kept_3 ?_
  refine c_gI (k := 1) (f := 601) E hb hS ci_6 (sK hS (by decide) rfl) rfl rfl rfl fk_X0_222_X5 (fun _ h => h) dX0_kept_6 ?_
  refine lv_iconst (v := 1) E.1 hb dX0_kept_9 rfl ?_
  refine lv_isub E.1 hb dX0_kept_10 ?_
  obtain ⟨r1, h1, hf⟩ := bo_s hf
  refine c_ki hS (va_runS ⟨E.1, hb, hml, E.2.1, E.2.2.1⟩ (zX0_is h1) (va_cwS 3 E.2.2.1 gw_X0_168 rfl rfl rfl gnX0_is ⟨Nat.le_of_ble_eq_true rfl, Nat.le_of_ble_eq_true rfl⟩) (c_preS E hS _) rfl rfl hl.1 rfl (lv_room (Nat.le_of_ble_eq_true rfl)) dX0_kept_11 ⟨Nat.le_refl 0, Nat.le_refl 0⟩) hS.2.2.2.2 (fun H locs hS hn => ?_)
  refine lv_if_eq (tgt := 40) E.1 hb dX0_kept_14 (by decide) (fun hc => ?_) (fun hc => ?_)
  · have hf := it_s hc hf
    refine lv_iconst (v := (-1)) E.1 hb dX0_kept_40 rfl ?_
    exact c_ir E hb hr hlk hS ⟨Nat.le_refl 0, Nat.le_refl 0⟩ (ro_s hf) dX0_kept_41
  · have hf := if_s hc hf
    refine lv_iload_n E.1 hb dX0_kept_17 rfl (lv_at hl 2 rfl) ?_
    refine lv_iconst (v := 0) E.1 hb dX0_kept_18 rfl ?_
    refine lv_iconst (v := 2) E.1 hb dX0_kept_19 rfl ?_
    obtain ⟨r2, h1, hf⟩ := bo_s hf
    refine c_ki hS (va_runS ⟨E.1, hb, hml, E.2.1, E.2.2.1⟩ (zX0_is h1) (va_cwS 3 E.2.2.1 gw_X0_168 rfl rfl rfl gnX0_is ⟨Nat.le_of_ble_eq_true rfl, Nat.le_of_ble_eq_true rfl⟩) (c_preS E hS _) rfl rfl hl.1 rfl (lv_room (Nat.le_of_ble_eq_true rfl)) dX0_kept_20 ⟨Nat.le_refl 0, Nat.le_refl 0⟩) hS.2.2.2.2 (fun H locs hS hn => ?_)
    refine lv_if_eq (tgt := 40) E.1 hb dX0_kept_23 (by decide) (fun hc => ?_) (fun hc => ?_)
    · have hf := it_s hc hf
      refine lv_iconst (v := (-1)) E.1 hb dX0_kept_40 rfl ?_
      exact c_ir E hb hr hlk hS ⟨Nat.le_refl 0, Nat.le_refl 0⟩ (ro_s hf) dX0_kept_41
    · have hf := if_s hc hf
      refine lv_aload_n E.1 hb dX0_kept_26 rfl (lv_at hl 0 rfl) ?_
      refine c_gN (k := 9) (f := 109) (q := 16) E hb hS ci_1 (sK hS (by decide) rfl) rfl rfl rfl (sRf hS (by decide) rfl) fk_X0_69_X0 (fun _ h => h) dX0_kept_27 ?_
      refine c_gN (k := 7) (f := 607) (q := 22) E hb hS ci_6 (sK hS (by decide) rfl) rfl rfl rfl (sRf hS (by decide) rfl) fk_X0_267_X5 (fun _ h => h) dX0_kept_30 ?_
      refine lv_iload_n E.1 hb dX0_kept_33 rfl (lv_at hl 1 rfl) ?_
      obtain ⟨q3, hg, hf⟩ := sR_s hf
      refine s_ald E hb hS (t := 36) ⟨by decide, rfl, rfl⟩ (by decide) hg dX0_kept_34 ?_
      refine lv_iload_n E.1 hb dX0_kept_35 rfl (lv_at hl 2 rfl) ?_
      obtain ⟨hg, hf⟩ := dI_s hf
      refine d_ld E hb hS hg rfl (Or.inl ⟨rfl, rfl⟩) dX0_kept_36 ?_
      refine lv_goto (tgt := 41) E.1 hb dX0_kept_37 (by decide) ?_
      exact c_ir E hb hr hlk hS ⟨Nat.le_refl 0, Nat.le_refl 0⟩ (ro_s hf) dX0_kept_41
/-! MarginFolk.meets(II)I: RW -/
noncomputable def X0_meets (N : Nat) (A0 : AH) (x1 : Int32) (x2 : Int32) : Option (Int32 × AH) :=
  bo (X0_isBeing A0 x1) fun r1 => if r1 = 0 then (some ((-1), A0)) else (bo (X0_isBeing A0 x2) fun r2 => if r2 = 0 then (some ((-1), A0)) else (if x1 = x2 then (some ((-1), A0)) else (bd (X0_openingOf (valF N) A0 (aI A0 600 16 0)) fun r3 A4 => bo (X5_meet A4 16 x1 x2 r3) fun r5 => if r5 = 0 then (some (0, A4)) else (some (1, A4)))))
abbrev rX0_meets : Room := { frames := 258, cells := 0, slots := 0, locals := 5811 }
set_option maxHeartbeats 4000000 in
theorem zX0_meets {l : Launch} {dC : Nat → ClassId} {dI : Nat → Nat → Nat} {ac : Nat → ClassId} {ad : Nat → Nat} {N : Nat} {A0 : AH} {x1 : Int32} {x2 : Int32} {r : Int32} {A' : AH} (hf : X0_meets N A0 x1 x2 = some (r, A')) : Met l yX0_meets (ws_ yX0_meets cX0_meets 3 (some .int)) { frames := 258, cells := 0, slots := 0, locals := 5811 } (va_Pc [.ref (ad 0), .int x1, .int x2] (cPre dC dI ac ad True A0)) (cQi dC dI ac ad True (aN A0) (aS A0) (aN A0) (aS A0) r A') 0 0 (cF ad) := by
  unfold X0_meets at hf
  refine c_of ⟨Nat.le_refl _, Nat.le_refl _⟩ RX0 (plainFor_of_name (by decide)) rfl (Nat.le_of_ble_eq_true rfl) ?_
  intro p e s m args below meth c E hb hr hlk hnm hml hS ls hl
  have hl : lv_has ls 3 [(0, .ref (ad 0)), (1, .int x1), (2, .int x2)] := hl
  refine lv_aload_n E.1 hb dX0_meets_0 rfl (lv_at hl 0 rfl) ?_
  refine lv_iload_n E.1 hb dX0_meets_1 rfl (lv_at hl 1 rfl) ?_
  obtain ⟨r1, h1, hf⟩ := bo_s hf
  refine c_ki hS (va_runV ⟨E.1, hb, hml, E.2.1, E.2.2.1⟩ (zX0_isBeing h1) (cwV 1 E.2.2.1 gw_X0_225 rfl rfl rfl ⟨rfl, gnX0_isBeing⟩ ⟨Nat.le_of_ble_eq_true rfl, Nat.le_of_ble_eq_true rfl⟩) (c_preV E hS ci_1 (sK hS (by decide) rfl) (hS.1.lt (sK hS (by decide) rfl) rfl) _) rfl rfl hl.1 rfl (lv_room (Nat.le_of_ble_eq_true rfl)) dX0_meets_2 ⟨Nat.le_refl 0, Nat.le_refl 0⟩) hS.2.2.2.2 (fun H locs hS hn => ?_)
  refine lv_if_eq (tgt := 21) E.1 hb dX0_meets_5 (by decide) (fun hc => ?_) (fun hc => ?_)
  · have hf := it_s hc hf
    refine lv_iconst (v := (-1)) E.1 hb dX0_meets_21 rfl ?_
    exact c_ir E hb hr hlk hS ⟨Nat.le_refl 0, Nat.le_refl 0⟩ hf dX0_meets_22
  · have hf := if_s hc hf
    refine lv_aload_n E.1 hb dX0_meets_8 rfl (lv_at hl 0 rfl) ?_
    refine lv_iload_n E.1 hb dX0_meets_9 rfl (lv_at hl 2 rfl) ?_
    obtain ⟨r2, h1, hf⟩ := bo_s hf
    refine c_ki hS (va_runV ⟨E.1, hb, hml, E.2.1, E.2.2.1⟩ (zX0_isBeing h1) (cwV 1 E.2.2.1 gw_X0_225 rfl rfl rfl ⟨rfl, gnX0_isBeing⟩ ⟨Nat.le_of_ble_eq_true rfl, Nat.le_of_ble_eq_true rfl⟩) (c_preV E hS ci_1 (sK hS (by decide) rfl) (hS.1.lt (sK hS (by decide) rfl) rfl) _) rfl rfl hl.1 rfl (lv_room (Nat.le_of_ble_eq_true rfl)) dX0_meets_10 ⟨Nat.le_refl 0, Nat.le_refl 0⟩) hS.2.2.2.2 (fun H locs hS hn => ?_)
    refine lv_if_eq (tgt := 21) E.1 hb dX0_meets_13 (by decide) (fun hc => ?_) (fun hc => ?_)
    · have hf := it_s hc hf
      refine lv_iconst (v := (-1)) E.1 hb dX0_meets_21 rfl ?_
      exact c_ir E hb hr hlk hS ⟨Nat.le_refl 0, Nat.le_refl 0⟩ hf dX0_meets_22
    · have hf := if_s hc hf
      refine lv_iload_n E.1 hb dX0_meets_16 rfl (lv_at hl 1 rfl) ?_
      refine lv_iload_n E.1 hb dX0_meets_17 rfl (lv_at hl 2 rfl) ?_
      refine lv_icmp_ne (tgt := 23) E.1 hb dX0_meets_18 (by decide) (fun hc => ?_) (fun hc => ?_)
      · have hf := if_s hc hf
        refine lv_aload_n E.1 hb dX0_meets_23 rfl (lv_at hl 0 rfl) ?_
        refine c_gN (k := 9) (f := 109) (q := 16) E hb hS ci_1 (sK hS (by decide) rfl) rfl rfl rfl (sRf hS (by decide) rfl) fk_X0_69_X0 (fun _ h => h) dX0_meets_24 ?_
        refine lv_iload_n E.1 hb dX0_meets_27 rfl (lv_at hl 1 rfl) ?_
        refine lv_iload_n E.1 hb dX0_meets_28 rfl (lv_at hl 2 rfl) ?_
        refine lv_aload_n E.1 hb dX0_meets_29 rfl (lv_at hl 0 rfl) ?_
        refine lv_aload_n E.1 hb dX0_meets_30 rfl (lv_at hl 0 rfl) ?_
        refine c_gN (k := 9) (f := 109) (q := 16) E hb hS ci_1 (sK hS (by decide) rfl) rfl rfl rfl (sRf hS (by decide) rfl) fk_X0_69_X0 (fun _ h => h) dX0_meets_31 ?_
        refine c_gI (k := 0) (f := 600) E hb hS ci_6 (sK hS (by decide) rfl) rfl rfl rfl fk_X0_213_X5 (fun _ h => h) dX0_meets_34 ?_
        obtain ⟨r3, A4, h1, hf⟩ := bd_s hf
        refine c_ki hS (va_runV ⟨E.1, hb, hml, E.2.1, E.2.2.1⟩ (zX0_openingOf zvalF h1) (cwV 1 E.2.2.1 gw_X0_216 rfl rfl rfl ⟨rfl, gnX0_openingOf⟩ ⟨by dsimp only; omega, by dsimp only; omega⟩) (c_preV E hS ci_1 (sK hS (by decide) rfl) (hS.1.lt (sK hS (by decide) rfl) rfl) _) rfl rfl hl.1 rfl (lv_room (Nat.le_of_ble_eq_true rfl)) dX0_meets_37 ⟨Nat.le_refl 0, Nat.le_refl 0⟩) hS.2.2.2.2 (fun H locs hS hn => ?_)
        obtain ⟨r5, h1, hf⟩ := bo_s hf
        refine c_ki hS (va_runV ⟨E.1, hb, hml, E.2.1, E.2.2.1⟩ (zX5_meet h1) (cwV 3 E.2.2.1 gw_X0_269 rfl rfl rfl ⟨rfl, gnX5_meet⟩ ⟨Nat.le_of_ble_eq_true rfl, Nat.le_of_ble_eq_true rfl⟩) (c_preV E hS ci_6 (sK hS (by decide) rfl) (hS.1.lt (sK hS (by decide) rfl) rfl) _) rfl rfl hl.1 rfl (lv_room (Nat.le_of_ble_eq_true rfl)) dX0_meets_40 ⟨Nat.le_refl 0, Nat.le_refl 0⟩) hS.2.2.2.2 (fun H locs hS hn => ?_)
        refine lv_if_eq (tgt := 50) E.1 hb dX0_meets_43 (by decide) (fun hc => ?_) (fun hc => ?_)
        · have hf := it_s hc hf
          refine lv_iconst (v := 0) E.1 hb dX0_meets_50 rfl ?_
          exact c_ir E hb hr hlk hS ⟨Nat.le_refl 0, Nat.le_refl 0⟩ hf dX0_meets_51
        · have hf := if_s hc hf
          refine lv_iconst (v := 1) E.1 hb dX0_meets_46 rfl ?_
          refine lv_goto (tgt := 51) E.1 hb dX0_meets_47 (by decide) ?_
          exact c_ir E hb hr hlk hS ⟨Nat.le_refl 0, Nat.le_refl 0⟩ hf dX0_meets_51
      · have hf := it_s hc hf
        refine lv_iconst (v := (-1)) E.1 hb dX0_meets_21 rfl ?_
        exact c_ir E hb hr hlk hS ⟨Nat.le_refl 0, Nat.le_refl 0⟩ hf dX0_meets_22
/-! MarginFolk.isFolio()Z: RO -/
noncomputable def X0_isFolio (A : AH) : Option Int32 :=
  bo (aR A 100 0 0) fun q1 => bo (gI 2 A 201 q1) fun v2 => if v2 ≤ 0 then (some 0) else (some 1)
abbrev rX0_isFolio : Room := { frames := 0, cells := 0, slots := 0, locals := 0 }
set_option maxHeartbeats 4000000 in
theorem zX0_isFolio {l : Launch} {dC : Nat → ClassId} {dI : Nat → Nat → Nat} {ac : Nat → ClassId} {ad : Nat → Nat} {A : AH} {r : Int32} (hf : X0_isFolio A = some r) : Met l yX0_isFolio (ws_ yX0_isFolio cX0_isFolio 1 (some .boolean)) { frames := 0, cells := 0, slots := 0, locals := 0 } (va_Pc [.ref (ad 0)] (cPre dC dI ac ad True A)) (cQi dC dI ac ad True (aN A) (aS A) (aN A) (aS A) r A) 0 0 (cF ad) := by
  unfold X0_isFolio at hf
  refine c_of ⟨Nat.le_refl _, Nat.le_refl _⟩ RX0 (plainFor_of_name (by decide)) rfl (Nat.le_of_ble_eq_true rfl) ?_
  intro p e s m args below meth c E hb hr hlk hnm hml hS ls hl
  have hl : lv_has ls 1 [(0, .ref (ad 0))] := hl
  refine lv_aload_n E.1 hb dX0_isFolio_0 rfl (lv_at hl 0 rfl) ?_
  obtain ⟨q1, hr7, hf⟩ := bo_s hf
  refine c_gN (k := 0) (f := 100) E hb hS ci_1 (sK hS (by decide) rfl) rfl rfl rfl hr7 fk_X0_31_X0 (fun _ h => h) dX0_isFolio_1 ?_
  obtain ⟨hk, hf⟩ := gI_s hf
  refine c_gI (k := 1) (f := 201) E hb hS ci_2 hk rfl rfl rfl fk_X0_154_X1 (fun _ h => h) dX0_isFolio_4 ?_
  refine lv_if_le (tgt := 14) E.1 hb dX0_isFolio_7 (by decide) (fun hc => ?_) (fun hc => ?_)
  · have hf := it_s hc hf
    refine lv_iconst (v := 0) E.1 hb dX0_isFolio_14 rfl ?_
    exact c_zr (ty := .boolean) E hb hr hlk hS ⟨Nat.le_refl 0, Nat.le_refl 0⟩ rfl (ro_s hf) dX0_isFolio_15
  · have hf := if_s hc hf
    refine lv_iconst (v := 1) E.1 hb dX0_isFolio_10 rfl ?_
    refine lv_goto (tgt := 15) E.1 hb dX0_isFolio_11 (by decide) ?_
    exact c_zr (ty := .boolean) E hb hr hlk hS ⟨Nat.le_refl 0, Nat.le_refl 0⟩ rfl (ro_s hf) dX0_isFolio_15
theorem gw_X5_93 : GoodIn lw_all (wsV RX5 93 RX5 yX5_meet (ws_ yX5_meet cX5_meet 5 (some .boolean))) := lw_V q1413 q1300 q1301 q163 q1302
/-! MarginFolk$State.pairs(I)I: RO -/
noncomputable def X5_pairs_b49 (N : Nat) (x0 : Nat) (x1 : Int32) (A : AH) (k4 : Int32 → Int32 → Option Int32) (k20 : Int32 → Int32 → Int32 → Option Int32) (x3 : Int32) (x4 : Int32) (y0 : Int32) (y1 : Int32) : Option Int32 :=
  k20 (y1 + y0) x3 (x4 + 1)
noncomputable def X5_pairs_b20 (N : Nat) (x0 : Nat) (x1 : Int32) (A : AH) (k4 : Int32 → Int32 → Option Int32) (k20 : Int32 → Int32 → Int32 → Option Int32) (x2 : Int32) (x3 : Int32) (x4 : Int32) : Option Int32 :=
  bo (X0_beings A) fun r2 => if r2 ≤ x4 then (k4 x2 (x3 + 1)) else (bo (X5_meet A x0 x3 x4 x1) fun r3 => if r3 = 0 then (X5_pairs_b49 N x0 x1 A k4 k20 x3 x4 0 x2) else (X5_pairs_b49 N x0 x1 A k4 k20 x3 x4 1 x2))
noncomputable def X5_pairs_b4 (N : Nat) (x0 : Nat) (x1 : Int32) (A : AH) (k4 : Int32 → Int32 → Option Int32) (x2 : Int32) (x3 : Int32) : Option Int32 :=
  bo (X0_beings A) fun r1 => if r1 ≤ x3 then (some x2) else (rn3 (X5_pairs_b20 N x0 x1 A k4) N x2 x3 (x3 + 1))
noncomputable def X5_pairs (N : Nat) (A : AH) (x0 : Nat) (x1 : Int32) : Option Int32 :=
  if isStb x0 = true then (rn2 (X5_pairs_b4 N x0 x1 A) N 0 0) else none
abbrev rX5_pairs : Room := { frames := 3, cells := 0, slots := 0, locals := 67 }
set_option maxHeartbeats 4000000 in
theorem zX5_pairs {l : Launch} {dC : Nat → ClassId} {dI : Nat → Nat → Nat} {ac : Nat → ClassId} {ad : Nat → Nat} {N : Nat} {A : AH} {x0 : Nat} {x1 : Int32} {r : Int32} (hf : X5_pairs N A x0 x1 = some r) : Met l yX5_pairs (ws_ yX5_pairs cX5_pairs 5 (some .int)) { frames := 3, cells := 0, slots := 0, locals := 67 } (va_Pc [.ref (ad x0), .int x1] (cPre dC dI ac ad True A)) (cQi dC dI ac ad True (aN A) (aS A) (aN A) (aS A) r A) 0 0 (cF ad) := by
  unfold X5_pairs at hf
  obtain ⟨hg0, hf⟩ := gu_s hf
  have hs0 := isSt_of hg0
  refine c_of ⟨Nat.le_refl _, Nat.le_refl _⟩ RX5 (plainFor_of_name (by decide)) rfl (Nat.le_of_ble_eq_true rfl) ?_
  intro p e s m args below meth c E hb hr hlk hnm hml hS ls hl
  have hl : lv_has ls 5 [(0, .ref (ad x0)), (1, .int x1)] := hl
  have hB49 : ∀ (k4 : Int32 → Int32 → Option Int32) (hk4 : ∀ (x2 : Int32) (x3 : Int32), k4 x2 x3 = some r → ∀ (H : Heap) (locs : List Loc), cS dC dI ac ad True s.heap (aN A) (aS A) (aN A) (aS A) A H locs → ∀ (ls : Array Slot), lv_has ls 5 [(0, .ref (ad x0)), (1, .int x1), (2, .int x2), (3, .int x3)] → W p l e rX5_pairs s m args below meth c H locs 0 0 (MQ below (cQi dC dI ac ad True (aN A) (aS A) (aN A) (aS A) r A) args s 0 0 (cF ad)) (F0 m 4 ls [])) (k20 : Int32 → Int32 → Int32 → Option Int32) (hk20 : ∀ (x2 : Int32) (x3 : Int32) (x4 : Int32), k20 x2 x3 x4 = some r → ∀ (H : Heap) (locs : List Loc), cS dC dI ac ad True s.heap (aN A) (aS A) (aN A) (aS A) A H locs → ∀ (ls : Array Slot), lv_has ls 5 [(0, .ref (ad x0)), (1, .int x1), (2, .int x2), (3, .int x3), (4, .int x4)] → W p l e rX5_pairs s m args below meth c H locs 0 0 (MQ below (cQi dC dI ac ad True (aN A) (aS A) (aN A) (aS A) r A) args s 0 0 (cF ad)) (F0 m 20 ls [])) (x3 : Int32) (x4 : Int32) (y0 : Int32) (y1 : Int32), X5_pairs_b49 N x0 x1 A k4 k20 x3 x4 y0 y1 = some r → ∀ (H : Heap) (locs : List Loc), cS dC dI ac ad True s.heap (aN A) (aS A) (aN A) (aS A) A H locs → ∀ (ls : Array Slot), lv_has ls 5 [(0, .ref (ad x0)), (1, .int x1), (3, .int x3), (4, .int x4)] → W p l e rX5_pairs s m args below meth c H locs 0 0 (MQ below (cQi dC dI ac ad True (aN A) (aS A) (aN A) (aS A) r A) args s 0 0 (cF ad)) (F0 m 49 ls [.int y0, .int y1]) := by
    intro k4 hk4 k20 hk20 x3 x4 y0 y1 hf H locs hS ls hl
    unfold X5_pairs_b49 at hf
    refine lv_iadd E.1 hb dX5_pairs_49 ?_
    refine lv_istore_n (lv' := [(2, .int (y1 + y0)), (0, .ref (ad x0)), (1, .int x1), (3, .int x3), (4, .int x4)]) E.1 hb dX5_pairs_50 rfl hl (by decide) rfl (fun ls hl => ?_)
    refine lv_iinc (v := (x4 + 1)) (lv' := [(4, .int (x4 + 1)), (2, .int (y1 + y0)), (0, .ref (ad x0)), (1, .int x1), (3, .int x3)]) E.1 hb dX5_pairs_51 hl (k := 4) rfl rfl (by decide) rfl (fun ls hl => ?_)
    refine lv_goto (tgt := 20) E.1 hb dX5_pairs_54 (by decide) ?_
    exact hk20 (y1 + y0) x3 (x4 + 1) hf _ _ hS _ (lv_sub hl [2, 3, 1, 4, 0] rfl)
  have hL20 : ∀ (k4 : Int32 → Int32 → Option Int32) (hk4 : ∀ (x2 : Int32) (x3 : Int32), k4 x2 x3 = some r → ∀ (H : Heap) (locs : List Loc), cS dC dI ac ad True s.heap (aN A) (aS A) (aN A) (aS A) A H locs → ∀ (ls : Array Slot), lv_has ls 5 [(0, .ref (ad x0)), (1, .int x1), (2, .int x2), (3, .int x3)] → W p l e rX5_pairs s m args below meth c H locs 0 0 (MQ below (cQi dC dI ac ad True (aN A) (aS A) (aN A) (aS A) r A) args s 0 0 (cF ad)) (F0 m 4 ls [])) (n : Nat) (x2 : Int32) (x3 : Int32) (x4 : Int32), rn3 (X5_pairs_b20 N x0 x1 A k4) n x2 x3 x4 = some r → ∀ (H : Heap) (locs : List Loc), cS dC dI ac ad True s.heap (aN A) (aS A) (aN A) (aS A) A H locs → ∀ (ls : Array Slot), lv_has ls 5 [(0, .ref (ad x0)), (1, .int x1), (2, .int x2), (3, .int x3), (4, .int x4)] → W p l e rX5_pairs s m args below meth c H locs 0 0 (MQ below (cQi dC dI ac ad True (aN A) (aS A) (aN A) (aS A) r A) args s 0 0 (cF ad)) (F0 m 20 ls []) := by
    intro k4 hk4 n
    induction n with
    | zero =>
      intro x2 x3 x4 hf
      cases hf
    | succ n ih =>
      intro x2 x3 x4 hf H locs hS ls hl
      have hf : X5_pairs_b20 N x0 x1 A k4 (rn3 (X5_pairs_b20 N x0 x1 A k4) n) x2 x3 x4 = some r := hf
      have hk20 := ih
      generalize rn3 (X5_pairs_b20 N x0 x1 A k4) n = k20 at hf hk20
      unfold X5_pairs_b20 at hf
      refine lv_iload E.1 hb dX5_pairs_20 (lv_at hl 4 rfl) ?_
      refine lv_aload_n E.1 hb dX5_pairs_22 rfl (lv_at hl 0 rfl) ?_
      refine c_gN (k := 10) (f := 610) (q := 0) E hb hS ci_6 (sK hS (st_K0 hs0).1 (st_K0 hs0).2) rfl rfl rfl (st_R0 (cst hS) hs0) fk_X5_3_X5 (fun _ h => h) dX5_pairs_23 ?_
      obtain ⟨r2, h1, hf⟩ := bo_s hf
      refine c_ki hS (va_runVN ⟨E.1, hb, hml, E.2.1, E.2.2.1⟩ (zX0_beings h1) ⟨va_cnB 0 E.2.2.1 (lw_meth q1234) rfl rfl rfl (E.2.2.2.2.1 _ q1231 rfl) (E.2.2.1 _ q152) gnX0_beings ⟨Nat.le_of_ble_eq_true rfl, Nat.le_of_ble_eq_true rfl⟩, E.2.2.1 _ q1233, E.2.2.1 _ qs34⟩ (c_preV E hS ci_1 (sK hS (by decide) rfl) (hS.1.lt (sK hS (by decide) rfl) rfl) _) rfl rfl hl.1 rfl (lv_room (Nat.le_of_ble_eq_true rfl)) dX5_pairs_26 ⟨Nat.le_refl 0, Nat.le_refl 0⟩) hS.2.2.2.2 (fun H locs hS hn => ?_)
      refine lv_icmp_ge (tgt := 57) E.1 hb dX5_pairs_29 (by decide) (fun hc => ?_) (fun hc => ?_)
      · have hf := it_s hc hf
        refine lv_iinc (v := (x3 + 1)) (lv' := [(3, .int (x3 + 1)), (0, .ref (ad x0)), (1, .int x1), (2, .int x2), (4, .int x4)]) E.1 hb dX5_pairs_57 hl (k := 3) rfl rfl (by decide) rfl (fun ls hl => ?_)
        refine lv_goto (tgt := 4) E.1 hb dX5_pairs_60 (by decide) ?_
        exact hk4 x2 (x3 + 1) hf _ _ hS _ (lv_sub hl [1, 2, 3, 0] rfl)
      · have hf := if_s hc hf
        refine lv_iload_n E.1 hb dX5_pairs_32 rfl (lv_at hl 2 rfl) ?_
        refine lv_aload_n E.1 hb dX5_pairs_33 rfl (lv_at hl 0 rfl) ?_
        refine lv_iload_n E.1 hb dX5_pairs_34 rfl (lv_at hl 3 rfl) ?_
        refine lv_iload E.1 hb dX5_pairs_35 (lv_at hl 4 rfl) ?_
        refine lv_iload_n E.1 hb dX5_pairs_37 rfl (lv_at hl 1 rfl) ?_
        obtain ⟨r3, h1, hf⟩ := bo_s hf
        refine c_ki hS (va_runV ⟨E.1, hb, hml, E.2.1, E.2.2.1⟩ (zX5_meet h1) (cwV 3 E.2.2.1 gw_X5_93 rfl rfl rfl ⟨rfl, gnX5_meet⟩ ⟨Nat.le_of_ble_eq_true rfl, Nat.le_of_ble_eq_true rfl⟩) (c_preV E hS ci_6 (sK hS (st_K0 hs0).1 (st_K0 hs0).2) (hS.1.lt (sK hS (st_K0 hs0).1 (st_K0 hs0).2) rfl) _) rfl rfl hl.1 rfl (lv_room (Nat.le_of_ble_eq_true rfl)) dX5_pairs_38 ⟨Nat.le_refl 0, Nat.le_refl 0⟩) hS.2.2.2.2 (fun H locs hS hn => ?_)
        refine lv_if_eq (tgt := 48) E.1 hb dX5_pairs_41 (by decide) (fun hc => ?_) (fun hc => ?_)
        · have hf := it_s hc hf
          refine lv_iconst (v := 0) E.1 hb dX5_pairs_48 rfl ?_
          exact hB49 k4 hk4 k20 hk20 x3 x4 0 x2 hf _ _ hS _ (lv_sub hl [0, 1, 3, 4] rfl)
        · have hf := if_s hc hf
          refine lv_iconst (v := 1) E.1 hb dX5_pairs_44 rfl ?_
          refine lv_goto (tgt := 49) E.1 hb dX5_pairs_45 (by decide) ?_
          exact hB49 k4 hk4 k20 hk20 x3 x4 1 x2 hf _ _ hS _ (lv_sub hl [0, 1, 3, 4] rfl)
  have hL4 : ∀ (n : Nat) (x2 : Int32) (x3 : Int32), rn2 (X5_pairs_b4 N x0 x1 A) n x2 x3 = some r → ∀ (H : Heap) (locs : List Loc), cS dC dI ac ad True s.heap (aN A) (aS A) (aN A) (aS A) A H locs → ∀ (ls : Array Slot), lv_has ls 5 [(0, .ref (ad x0)), (1, .int x1), (2, .int x2), (3, .int x3)] → W p l e rX5_pairs s m args below meth c H locs 0 0 (MQ below (cQi dC dI ac ad True (aN A) (aS A) (aN A) (aS A) r A) args s 0 0 (cF ad)) (F0 m 4 ls []) := by
    intro  n
    induction n with
    | zero =>
      intro x2 x3 hf
      cases hf
    | succ n ih =>
      intro x2 x3 hf H locs hS ls hl
      have hf : X5_pairs_b4 N x0 x1 A (rn2 (X5_pairs_b4 N x0 x1 A) n) x2 x3 = some r := hf
      have hk4 := ih
      generalize rn2 (X5_pairs_b4 N x0 x1 A) n = k4 at hf hk4
      unfold X5_pairs_b4 at hf
      refine lv_iload_n E.1 hb dX5_pairs_4 rfl (lv_at hl 3 rfl) ?_
      refine lv_aload_n E.1 hb dX5_pairs_5 rfl (lv_at hl 0 rfl) ?_
      refine c_gN (k := 10) (f := 610) (q := 0) E hb hS ci_6 (sK hS (st_K0 hs0).1 (st_K0 hs0).2) rfl rfl rfl (st_R0 (cst hS) hs0) fk_X5_3_X5 (fun _ h => h) dX5_pairs_6 ?_
      obtain ⟨r1, h1, hf⟩ := bo_s hf
      refine c_ki hS (va_runVN ⟨E.1, hb, hml, E.2.1, E.2.2.1⟩ (zX0_beings h1) ⟨va_cnB 0 E.2.2.1 (lw_meth q1234) rfl rfl rfl (E.2.2.2.2.1 _ q1231 rfl) (E.2.2.1 _ q152) gnX0_beings ⟨Nat.le_of_ble_eq_true rfl, Nat.le_of_ble_eq_true rfl⟩, E.2.2.1 _ q1233, E.2.2.1 _ qs34⟩ (c_preV E hS ci_1 (sK hS (by decide) rfl) (hS.1.lt (sK hS (by decide) rfl) rfl) _) rfl rfl hl.1 rfl (lv_room (Nat.le_of_ble_eq_true rfl)) dX5_pairs_9 ⟨Nat.le_refl 0, Nat.le_refl 0⟩) hS.2.2.2.2 (fun H locs hS hn => ?_)
      refine lv_icmp_ge (tgt := 63) E.1 hb dX5_pairs_12 (by decide) (fun hc => ?_) (fun hc => ?_)
      · have hf := it_s hc hf
        refine lv_iload_n E.1 hb dX5_pairs_63 rfl (lv_at hl 2 rfl) ?_
        exact c_ir E hb hr hlk hS ⟨Nat.le_refl 0, Nat.le_refl 0⟩ (ro_s hf) dX5_pairs_64
      · have hf := if_s hc hf
        refine lv_iload_n E.1 hb dX5_pairs_15 rfl (lv_at hl 3 rfl) ?_
        refine lv_iconst (v := 1) E.1 hb dX5_pairs_16 rfl ?_
        refine lv_iadd E.1 hb dX5_pairs_17 ?_
        refine lv_istore (lv' := [(4, .int (x3 + 1)), (0, .ref (ad x0)), (1, .int x1), (2, .int x2), (3, .int x3)]) E.1 hb dX5_pairs_18 hl (by decide) rfl (fun ls hl => ?_)
        exact hL20 k4 hk4 N x2 x3 (x3 + 1) hf _ _ hS _ (lv_sub hl [1, 2, 3, 4, 0] rfl)
  refine lv_iconst (v := 0) E.1 hb dX5_pairs_0 rfl ?_
  refine lv_istore_n (lv' := [(2, .int 0), (0, .ref (ad x0)), (1, .int x1)]) E.1 hb dX5_pairs_1 rfl hl (by decide) rfl (fun ls hl => ?_)
  refine lv_iconst (v := 0) E.1 hb dX5_pairs_2 rfl ?_
  refine lv_istore_n (lv' := [(3, .int 0), (2, .int 0), (0, .ref (ad x0)), (1, .int x1)]) E.1 hb dX5_pairs_3 rfl hl (by decide) rfl (fun ls hl => ?_)
  exact hL4 N 0 0 hf _ _ hS _ (lv_sub hl [2, 3, 1, 0] rfl)
theorem gw_X0_276 : GoodIn lw_all (wsV RX0 276 RX5 yX5_pairs (ws_ yX5_pairs cX5_pairs 5 (some .int))) := lw_V q1409 q1410 q1411 q163 q1412
theorem gnX5_pairs : yX5_pairs.cls ≠ "java/lang/invoke/MethodHandle" ∧ yX5_pairs.cls ≠ "java/lang/invoke/VarHandle" ∧ (parseMethodDescriptor yX5_pairs.desc).map (fun d => d.parameters.length) = some 1 := by decide +kernel
theorem gw_X0_272 : GoodIn lw_all (wsV RX0 272 RX0 yX0_isFolio (ws_ yX0_isFolio cX0_isFolio 1 (some .boolean))) := lw_V q1405 q1407 qs42 q152 q1408
theorem gnX0_isFolio : yX0_isFolio.cls ≠ "java/lang/invoke/MethodHandle" ∧ yX0_isFolio.cls ≠ "java/lang/invoke/VarHandle" ∧ (parseMethodDescriptor yX0_isFolio.desc).map (fun d => d.parameters.length) = some 0 := by decide +kernel
/-! MarginFolk.pairs(I)I: RW -/
noncomputable def X0_pairs_b48 (N : Nat) (x1 : Int32) (A : AH) (y0 : Int32) : Option (Int32 × AH) :=
  bo (X5_pairs N A 16 y0) fun r5 => some (r5, A)
noncomputable def X0_pairs (N : Nat) (A0 : AH) (x1 : Int32) : Option (Int32 × AH) :=
  bo (X0_isFolio A0) fun r1 => if r1 = 0 then (some ((-1), A0)) else (bo (aR A0 100 0 0) fun q2 => bo (gI 2 A0 201 q2) fun v3 => bo (X0_is x1 (-1) v3) fun r4 => if r4 = 0 then (some ((-1), A0)) else (if x1 = (-1) then (bd (X0_openingOf (valF N) A0 (aI A0 600 16 0)) fun r6 A7 => X0_pairs_b48 N x1 A7 r6) else (X0_pairs_b48 N x1 A0 x1)))
abbrev rX0_pairs : Room := { frames := 258, cells := 0, slots := 0, locals := 5811 }
set_option maxHeartbeats 4000000 in
theorem zX0_pairs {l : Launch} {dC : Nat → ClassId} {dI : Nat → Nat → Nat} {ac : Nat → ClassId} {ad : Nat → Nat} {N : Nat} {A0 : AH} {x1 : Int32} {r : Int32} {A' : AH} (hf : X0_pairs N A0 x1 = some (r, A')) : Met l yX0_pairs (ws_ yX0_pairs cX0_pairs 2 (some .int)) { frames := 258, cells := 0, slots := 0, locals := 5811 } (va_Pc [.ref (ad 0), .int x1] (cPre dC dI ac ad True A0)) (cQi dC dI ac ad True (aN A0) (aS A0) (aN A0) (aS A0) r A') 0 0 (cF ad) := by
  unfold X0_pairs at hf
  refine c_of ⟨Nat.le_refl _, Nat.le_refl _⟩ RX0 (plainFor_of_name (by decide)) rfl (Nat.le_of_ble_eq_true rfl) ?_
  intro p e s m args below meth c E hb hr hlk hnm hml hS ls hl
  have hl : lv_has ls 2 [(0, .ref (ad 0)), (1, .int x1)] := hl
  have hB48 : ∀ (A : AH) (y0 : Int32), X0_pairs_b48 N x1 A y0 = some (r, A') → ∀ (H : Heap) (locs : List Loc), cS dC dI ac ad True s.heap (aN A0) (aS A0) (aN A0) (aS A0) A H locs → ∀ (ls : Array Slot), lv_has ls 2 [(0, .ref (ad 0)), (1, .int x1)] → W p l e rX0_pairs s m args below meth c H locs 0 0 (MQ below (cQi dC dI ac ad True (aN A0) (aS A0) (aN A0) (aS A0) r A') args s 0 0 (cF ad)) (F0 m 48 ls [.int y0, .ref (ad 16)]) := by
    intro A y0 hf H locs hS ls hl
    unfold X0_pairs_b48 at hf
    obtain ⟨r5, h1, hf⟩ := bo_s hf
    refine c_ki hS (va_runV ⟨E.1, hb, hml, E.2.1, E.2.2.1⟩ (zX5_pairs h1) (cwV 1 E.2.2.1 gw_X0_276 rfl rfl rfl ⟨rfl, gnX5_pairs⟩ ⟨Nat.le_of_ble_eq_true rfl, Nat.le_of_ble_eq_true rfl⟩) (c_preV E hS ci_6 (sK hS (by decide) rfl) (hS.1.lt (sK hS (by decide) rfl) rfl) _) rfl rfl hl.1 rfl (lv_room (Nat.le_of_ble_eq_true rfl)) dX0_pairs_48 ⟨Nat.le_refl 0, Nat.le_refl 0⟩) hS.2.2.2.2 (fun H locs hS hn => ?_)
    exact c_ir E hb hr hlk hS ⟨Nat.le_refl 0, Nat.le_refl 0⟩ hf dX0_pairs_51
  refine lv_aload_n E.1 hb dX0_pairs_0 rfl (lv_at hl 0 rfl) ?_
  obtain ⟨r1, h1, hf⟩ := bo_s hf
  refine c_ki hS (va_runV ⟨E.1, hb, hml, E.2.1, E.2.2.1⟩ (zX0_isFolio h1) (cwV 0 E.2.2.1 gw_X0_272 rfl rfl rfl ⟨rfl, gnX0_isFolio⟩ ⟨Nat.le_of_ble_eq_true rfl, Nat.le_of_ble_eq_true rfl⟩) (c_preV E hS ci_1 (sK hS (by decide) rfl) (hS.1.lt (sK hS (by decide) rfl) rfl) _) rfl rfl hl.1 rfl (lv_room (Nat.le_of_ble_eq_true rfl)) dX0_pairs_1 ⟨Nat.le_refl 0, Nat.le_refl 0⟩) hS.2.2.2.2 (fun H locs hS hn => ?_)
  refine lv_if_eq (tgt := 22) E.1 hb dX0_pairs_4 (by decide) (fun hc => ?_) (fun hc => ?_)
  · have hf := it_s hc hf
    refine lv_iconst (v := (-1)) E.1 hb dX0_pairs_22 rfl ?_
    exact c_ir E hb hr hlk hS ⟨Nat.le_refl 0, Nat.le_refl 0⟩ hf dX0_pairs_23
  · have hf := if_s hc hf
    refine lv_iload_n E.1 hb dX0_pairs_7 rfl (lv_at hl 1 rfl) ?_
    refine lv_iconst (v := (-1)) E.1 hb dX0_pairs_8 rfl ?_
    refine lv_aload_n E.1 hb dX0_pairs_9 rfl (lv_at hl 0 rfl) ?_
    obtain ⟨q2, hr7, hf⟩ := bo_s hf
    refine c_gN (k := 0) (f := 100) E hb hS ci_1 (sK hS (by decide) rfl) rfl rfl rfl hr7 fk_X0_31_X0 (fun _ h => h) dX0_pairs_10 ?_
    obtain ⟨hk, hf⟩ := gI_s hf
    refine c_gI (k := 1) (f := 201) E hb hS ci_2 hk rfl rfl rfl fk_X0_154_X1 (fun _ h => h) dX0_pairs_13 ?_
    obtain ⟨r4, h1, hf⟩ := bo_s hf
    refine c_ki hS (va_runS ⟨E.1, hb, hml, E.2.1, E.2.2.1⟩ (zX0_is h1) (va_cwS 3 E.2.2.1 gw_X0_168 rfl rfl rfl gnX0_is ⟨Nat.le_of_ble_eq_true rfl, Nat.le_of_ble_eq_true rfl⟩) (c_preS E hS _) rfl rfl hl.1 rfl (lv_room (Nat.le_of_ble_eq_true rfl)) dX0_pairs_16 ⟨Nat.le_refl 0, Nat.le_refl 0⟩) hS.2.2.2.2 (fun H locs hS hn => ?_)
    refine lv_if_ne (tgt := 24) E.1 hb dX0_pairs_19 (by decide) (fun hc => ?_) (fun hc => ?_)
    · have hf := if_s hc hf
      refine lv_aload_n E.1 hb dX0_pairs_24 rfl (lv_at hl 0 rfl) ?_
      refine c_gN (k := 9) (f := 109) (q := 16) E hb hS ci_1 (sK hS (by decide) rfl) rfl rfl rfl (sRf hS (by decide) rfl) fk_X0_69_X0 (fun _ h => h) dX0_pairs_25 ?_
      refine lv_iload_n E.1 hb dX0_pairs_28 rfl (lv_at hl 1 rfl) ?_
      refine lv_iconst (v := (-1)) E.1 hb dX0_pairs_29 rfl ?_
      refine lv_icmp_ne (tgt := 47) E.1 hb dX0_pairs_30 (by decide) (fun hc => ?_) (fun hc => ?_)
      · have hf := if_s hc hf
        refine lv_iload_n E.1 hb dX0_pairs_47 rfl (lv_at hl 1 rfl) ?_
        exact hB48 A0 x1 hf _ _ hS _ (lv_sub hl [0, 1] rfl)
      · have hf := it_s hc hf
        refine lv_aload_n E.1 hb dX0_pairs_33 rfl (lv_at hl 0 rfl) ?_
        refine lv_aload_n E.1 hb dX0_pairs_34 rfl (lv_at hl 0 rfl) ?_
        refine c_gN (k := 9) (f := 109) (q := 16) E hb hS ci_1 (sK hS (by decide) rfl) rfl rfl rfl (sRf hS (by decide) rfl) fk_X0_69_X0 (fun _ h => h) dX0_pairs_35 ?_
        refine c_gI (k := 0) (f := 600) E hb hS ci_6 (sK hS (by decide) rfl) rfl rfl rfl fk_X0_213_X5 (fun _ h => h) dX0_pairs_38 ?_
        obtain ⟨r6, A7, h1, hf⟩ := bd_s hf
        refine c_ki hS (va_runV ⟨E.1, hb, hml, E.2.1, E.2.2.1⟩ (zX0_openingOf zvalF h1) (cwV 1 E.2.2.1 gw_X0_216 rfl rfl rfl ⟨rfl, gnX0_openingOf⟩ ⟨by dsimp only; omega, by dsimp only; omega⟩) (c_preV E hS ci_1 (sK hS (by decide) rfl) (hS.1.lt (sK hS (by decide) rfl) rfl) _) rfl rfl hl.1 rfl (lv_room (Nat.le_of_ble_eq_true rfl)) dX0_pairs_41 ⟨Nat.le_refl 0, Nat.le_refl 0⟩) hS.2.2.2.2 (fun H locs hS hn => ?_)
        refine lv_goto (tgt := 48) E.1 hb dX0_pairs_44 (by decide) ?_
        exact hB48 A7 r6 hf _ _ hS _ (lv_sub hl [0, 1] rfl)
    · have hf := it_s hc hf
      refine lv_iconst (v := (-1)) E.1 hb dX0_pairs_22 rfl ?_
      exact c_ir E hb hr hlk hS ⟨Nat.le_refl 0, Nat.le_refl 0⟩ hf dX0_pairs_23
/-! MarginFolk.apart()I: RO -/
noncomputable def X0_apart_b45 (N : Nat) (A : AH) (k13 : Int32 → Int32 → Option Int32) (x1 : Int32) (x2 : Int32) : Option Int32 :=
  k13 x1 (x2 + 1)
noncomputable def X0_apart_b13 (N : Nat) (A : AH) (k13 : Int32 → Int32 → Option Int32) (x1 : Int32) (x2 : Int32) : Option Int32 :=
  bo (aR A 100 0 0) fun q2 => bo (gI 2 A 201 q2) fun v3 => if v3 < x2 then (some x1) else (bo (X5_pairs N A 16 x2) fun r4 => bo (X5_pairs N A 16 x1) fun r5 => if r5 ≤ r4 then (X0_apart_b45 N A k13 x1 x2) else (X0_apart_b45 N A k13 x2 x2))
noncomputable def X0_apart (N : Nat) (A : AH) : Option Int32 :=
  bo (X0_isFolio A) fun r1 => if r1 = 0 then (some (-1)) else (rn2 (X0_apart_b13 N A) N 0 1)
abbrev rX0_apart : Room := { frames := 4, cells := 0, slots := 0, locals := 91 }
set_option maxHeartbeats 4000000 in
theorem zX0_apart {l : Launch} {dC : Nat → ClassId} {dI : Nat → Nat → Nat} {ac : Nat → ClassId} {ad : Nat → Nat} {N : Nat} {A : AH} {r : Int32} (hf : X0_apart N A = some r) : Met l yX0_apart (ws_ yX0_apart cX0_apart 3 (some .int)) { frames := 4, cells := 0, slots := 0, locals := 91 } (va_Pc [.ref (ad 0)] (cPre dC dI ac ad True A)) (cQi dC dI ac ad True (aN A) (aS A) (aN A) (aS A) r A) 0 0 (cF ad) := by
  unfold X0_apart at hf
  refine c_of ⟨Nat.le_refl _, Nat.le_refl _⟩ RX0 (plainFor_of_name (by decide)) rfl (Nat.le_of_ble_eq_true rfl) ?_
  intro p e s m args below meth c E hb hr hlk hnm hml hS ls hl
  have hl : lv_has ls 3 [(0, .ref (ad 0))] := hl
  have hB45 : ∀ (k13 : Int32 → Int32 → Option Int32) (hk13 : ∀ (x1 : Int32) (x2 : Int32), k13 x1 x2 = some r → ∀ (H : Heap) (locs : List Loc), cS dC dI ac ad True s.heap (aN A) (aS A) (aN A) (aS A) A H locs → ∀ (ls : Array Slot), lv_has ls 3 [(0, .ref (ad 0)), (1, .int x1), (2, .int x2)] → W p l e rX0_apart s m args below meth c H locs 0 0 (MQ below (cQi dC dI ac ad True (aN A) (aS A) (aN A) (aS A) r A) args s 0 0 (cF ad)) (F0 m 13 ls [])) (x1 : Int32) (x2 : Int32), X0_apart_b45 N A k13 x1 x2 = some r → ∀ (H : Heap) (locs : List Loc), cS dC dI ac ad True s.heap (aN A) (aS A) (aN A) (aS A) A H locs → ∀ (ls : Array Slot), lv_has ls 3 [(0, .ref (ad 0)), (1, .int x1), (2, .int x2)] → W p l e rX0_apart s m args below meth c H locs 0 0 (MQ below (cQi dC dI ac ad True (aN A) (aS A) (aN A) (aS A) r A) args s 0 0 (cF ad)) (F0 m 45 ls []) := by
    intro k13 hk13 x1 x2 hf H locs hS ls hl
    unfold X0_apart_b45 at hf
    refine lv_iinc (v := (x2 + 1)) (lv' := [(2, .int (x2 + 1)), (0, .ref (ad 0)), (1, .int x1)]) E.1 hb dX0_apart_45 hl (k := 2) rfl rfl (by decide) rfl (fun ls hl => ?_)
    refine lv_goto (tgt := 13) E.1 hb dX0_apart_48 (by decide) ?_
    exact hk13 x1 (x2 + 1) hf _ _ hS _ (lv_sub hl [1, 2, 0] rfl)
  have hL13 : ∀ (n : Nat) (x1 : Int32) (x2 : Int32), rn2 (X0_apart_b13 N A) n x1 x2 = some r → ∀ (H : Heap) (locs : List Loc), cS dC dI ac ad True s.heap (aN A) (aS A) (aN A) (aS A) A H locs → ∀ (ls : Array Slot), lv_has ls 3 [(0, .ref (ad 0)), (1, .int x1), (2, .int x2)] → W p l e rX0_apart s m args below meth c H locs 0 0 (MQ below (cQi dC dI ac ad True (aN A) (aS A) (aN A) (aS A) r A) args s 0 0 (cF ad)) (F0 m 13 ls []) := by
    intro  n
    induction n with
    | zero =>
      intro x1 x2 hf
      cases hf
    | succ n ih =>
      intro x1 x2 hf H locs hS ls hl
      have hf : X0_apart_b13 N A (rn2 (X0_apart_b13 N A) n) x1 x2 = some r := hf
      have hk13 := ih
      generalize rn2 (X0_apart_b13 N A) n = k13 at hf hk13
      unfold X0_apart_b13 at hf
      refine lv_iload_n E.1 hb dX0_apart_13 rfl (lv_at hl 2 rfl) ?_
      refine lv_aload_n E.1 hb dX0_apart_14 rfl (lv_at hl 0 rfl) ?_
      obtain ⟨q2, hr7, hf⟩ := bo_s hf
      refine c_gN (k := 0) (f := 100) E hb hS ci_1 (sK hS (by decide) rfl) rfl rfl rfl hr7 fk_X0_31_X0 (fun _ h => h) dX0_apart_15 ?_
      obtain ⟨hk, hf⟩ := gI_s hf
      refine c_gI (k := 1) (f := 201) E hb hS ci_2 hk rfl rfl rfl fk_X0_154_X1 (fun _ h => h) dX0_apart_18 ?_
      refine lv_icmp_gt (tgt := 51) E.1 hb dX0_apart_21 (by decide) (fun hc => ?_) (fun hc => ?_)
      · have hf := it_s hc hf
        refine lv_iload_n E.1 hb dX0_apart_51 rfl (lv_at hl 1 rfl) ?_
        exact c_ir E hb hr hlk hS ⟨Nat.le_refl 0, Nat.le_refl 0⟩ (ro_s hf) dX0_apart_52
      · have hf := if_s hc hf
        refine lv_aload_n E.1 hb dX0_apart_24 rfl (lv_at hl 0 rfl) ?_
        refine c_gN (k := 9) (f := 109) (q := 16) E hb hS ci_1 (sK hS (by decide) rfl) rfl rfl rfl (sRf hS (by decide) rfl) fk_X0_69_X0 (fun _ h => h) dX0_apart_25 ?_
        refine lv_iload_n E.1 hb dX0_apart_28 rfl (lv_at hl 2 rfl) ?_
        obtain ⟨r4, h1, hf⟩ := bo_s hf
        refine c_ki hS (va_runV ⟨E.1, hb, hml, E.2.1, E.2.2.1⟩ (zX5_pairs h1) (cwV 1 E.2.2.1 gw_X0_276 rfl rfl rfl ⟨rfl, gnX5_pairs⟩ ⟨Nat.le_of_ble_eq_true rfl, Nat.le_of_ble_eq_true rfl⟩) (c_preV E hS ci_6 (sK hS (by decide) rfl) (hS.1.lt (sK hS (by decide) rfl) rfl) _) rfl rfl hl.1 rfl (lv_room (Nat.le_of_ble_eq_true rfl)) dX0_apart_29 ⟨Nat.le_refl 0, Nat.le_refl 0⟩) hS.2.2.2.2 (fun H locs hS hn => ?_)
        refine lv_aload_n E.1 hb dX0_apart_32 rfl (lv_at hl 0 rfl) ?_
        refine c_gN (k := 9) (f := 109) (q := 16) E hb hS ci_1 (sK hS (by decide) rfl) rfl rfl rfl (sRf hS (by decide) rfl) fk_X0_69_X0 (fun _ h => h) dX0_apart_33 ?_
        refine lv_iload_n E.1 hb dX0_apart_36 rfl (lv_at hl 1 rfl) ?_
        obtain ⟨r5, h1, hf⟩ := bo_s hf
        refine c_ki hS (va_runV ⟨E.1, hb, hml, E.2.1, E.2.2.1⟩ (zX5_pairs h1) (cwV 1 E.2.2.1 gw_X0_276 rfl rfl rfl ⟨rfl, gnX5_pairs⟩ ⟨Nat.le_of_ble_eq_true rfl, Nat.le_of_ble_eq_true rfl⟩) (c_preV E hS ci_6 (sK hS (by decide) rfl) (hS.1.lt (sK hS (by decide) rfl) rfl) _) rfl rfl hl.1 rfl (lv_room (Nat.le_of_ble_eq_true rfl)) dX0_apart_37 ⟨Nat.le_refl 0, Nat.le_refl 0⟩) hS.2.2.2.2 (fun H locs hS hn => ?_)
        refine lv_icmp_ge (tgt := 45) E.1 hb dX0_apart_40 (by decide) (fun hc => ?_) (fun hc => ?_)
        · have hf := it_s hc hf
          exact hB45 k13 hk13 x1 x2 hf _ _ hS _ (lv_sub hl [0, 1, 2] rfl)
        · have hf := if_s hc hf
          refine lv_iload_n E.1 hb dX0_apart_43 rfl (lv_at hl 2 rfl) ?_
          refine lv_istore_n (lv' := [(1, .int x2), (0, .ref (ad 0)), (2, .int x2)]) E.1 hb dX0_apart_44 rfl hl (by decide) rfl (fun ls hl => ?_)
          exact hB45 k13 hk13 x2 x2 hf _ _ hS _ (lv_sub hl [1, 0, 2] rfl)
  refine lv_aload_n E.1 hb dX0_apart_0 rfl (lv_at hl 0 rfl) ?_
  obtain ⟨r1, h1, hf⟩ := bo_s hf
  refine c_ki hS (va_runV ⟨E.1, hb, hml, E.2.1, E.2.2.1⟩ (zX0_isFolio h1) (cwV 0 E.2.2.1 gw_X0_272 rfl rfl rfl ⟨rfl, gnX0_isFolio⟩ ⟨Nat.le_of_ble_eq_true rfl, Nat.le_of_ble_eq_true rfl⟩) (c_preV E hS ci_1 (sK hS (by decide) rfl) (hS.1.lt (sK hS (by decide) rfl) rfl) _) rfl rfl hl.1 rfl (lv_room (Nat.le_of_ble_eq_true rfl)) dX0_apart_1 ⟨Nat.le_refl 0, Nat.le_refl 0⟩) hS.2.2.2.2 (fun H locs hS hn => ?_)
  refine lv_if_ne (tgt := 9) E.1 hb dX0_apart_4 (by decide) (fun hc => ?_) (fun hc => ?_)
  · have hf := if_s hc hf
    refine lv_iconst (v := 0) E.1 hb dX0_apart_9 rfl ?_
    refine lv_istore_n (lv' := [(1, .int 0), (0, .ref (ad 0))]) E.1 hb dX0_apart_10 rfl hl (by decide) rfl (fun ls hl => ?_)
    refine lv_iconst (v := 1) E.1 hb dX0_apart_11 rfl ?_
    refine lv_istore_n (lv' := [(2, .int 1), (1, .int 0), (0, .ref (ad 0))]) E.1 hb dX0_apart_12 rfl hl (by decide) rfl (fun ls hl => ?_)
    exact hL13 N 0 1 hf _ _ hS _ (lv_sub hl [2, 1, 0] rfl)
  · have hf := it_s hc hf
    refine lv_iconst (v := (-1)) E.1 hb dX0_apart_7 rfl ?_
    exact c_ir E hb hr hlk hS ⟨Nat.le_refl 0, Nat.le_refl 0⟩ (ro_s hf) dX0_apart_8
/-! MarginFolk.isAhead(III)Z: RO -/
noncomputable def X0_isAhead (A : AH) (x1 : Int32) (x2 : Int32) (x3 : Int32) : Option Int32 :=
  bo (X0_isFolio A) fun r1 => if r1 = 0 then (some 0) else (bo (X0_is x1 x2 x3) fun r2 => if r2 = 0 then (some 0) else (if 999 < ((aI A 600 16 0) + x1) then (some 0) else (some 1)))
abbrev rX0_isAhead : Room := { frames := 1, cells := 0, slots := 0, locals := 22 }
set_option maxHeartbeats 4000000 in
theorem zX0_isAhead {l : Launch} {dC : Nat → ClassId} {dI : Nat → Nat → Nat} {ac : Nat → ClassId} {ad : Nat → Nat} {A : AH} {x1 : Int32} {x2 : Int32} {x3 : Int32} {r : Int32} (hf : X0_isAhead A x1 x2 x3 = some r) : Met l yX0_isAhead (ws_ yX0_isAhead cX0_isAhead 4 (some .boolean)) { frames := 1, cells := 0, slots := 0, locals := 22 } (va_Pc [.ref (ad 0), .int x1, .int x2, .int x3] (cPre dC dI ac ad True A)) (cQi dC dI ac ad True (aN A) (aS A) (aN A) (aS A) r A) 0 0 (cF ad) := by
  unfold X0_isAhead at hf
  refine c_of ⟨Nat.le_refl _, Nat.le_refl _⟩ RX0 (plainFor_of_name (by decide)) rfl (Nat.le_of_ble_eq_true rfl) ?_
  intro p e s m args below meth c E hb hr hlk hnm hml hS ls hl
  have hl : lv_has ls 4 [(0, .ref (ad 0)), (1, .int x1), (2, .int x2), (3, .int x3)] := hl
  refine lv_aload_n E.1 hb dX0_isAhead_0 rfl (lv_at hl 0 rfl) ?_
  obtain ⟨r1, h1, hf⟩ := bo_s hf
  refine c_ki hS (va_runV ⟨E.1, hb, hml, E.2.1, E.2.2.1⟩ (zX0_isFolio h1) (cwV 0 E.2.2.1 gw_X0_272 rfl rfl rfl ⟨rfl, gnX0_isFolio⟩ ⟨Nat.le_of_ble_eq_true rfl, Nat.le_of_ble_eq_true rfl⟩) (c_preV E hS ci_1 (sK hS (by decide) rfl) (hS.1.lt (sK hS (by decide) rfl) rfl) _) rfl rfl hl.1 rfl (lv_room (Nat.le_of_ble_eq_true rfl)) dX0_isAhead_1 ⟨Nat.le_refl 0, Nat.le_refl 0⟩) hS.2.2.2.2 (fun H locs hS hn => ?_)
  refine lv_if_eq (tgt := 35) E.1 hb dX0_isAhead_4 (by decide) (fun hc => ?_) (fun hc => ?_)
  · have hf := it_s hc hf
    refine lv_iconst (v := 0) E.1 hb dX0_isAhead_35 rfl ?_
    exact c_zr (ty := .boolean) E hb hr hlk hS ⟨Nat.le_refl 0, Nat.le_refl 0⟩ rfl (ro_s hf) dX0_isAhead_36
  · have hf := if_s hc hf
    refine lv_iload_n E.1 hb dX0_isAhead_7 rfl (lv_at hl 1 rfl) ?_
    refine lv_iload_n E.1 hb dX0_isAhead_8 rfl (lv_at hl 2 rfl) ?_
    refine lv_iload_n E.1 hb dX0_isAhead_9 rfl (lv_at hl 3 rfl) ?_
    obtain ⟨r2, h1, hf⟩ := bo_s hf
    refine c_ki hS (va_runS ⟨E.1, hb, hml, E.2.1, E.2.2.1⟩ (zX0_is h1) (va_cwS 3 E.2.2.1 gw_X0_168 rfl rfl rfl gnX0_is ⟨Nat.le_of_ble_eq_true rfl, Nat.le_of_ble_eq_true rfl⟩) (c_preS E hS _) rfl rfl hl.1 rfl (lv_room (Nat.le_of_ble_eq_true rfl)) dX0_isAhead_10 ⟨Nat.le_refl 0, Nat.le_refl 0⟩) hS.2.2.2.2 (fun H locs hS hn => ?_)
    refine lv_if_eq (tgt := 35) E.1 hb dX0_isAhead_13 (by decide) (fun hc => ?_) (fun hc => ?_)
    · have hf := it_s hc hf
      refine lv_iconst (v := 0) E.1 hb dX0_isAhead_35 rfl ?_
      exact c_zr (ty := .boolean) E hb hr hlk hS ⟨Nat.le_refl 0, Nat.le_refl 0⟩ rfl (ro_s hf) dX0_isAhead_36
    · have hf := if_s hc hf
      refine lv_aload_n E.1 hb dX0_isAhead_16 rfl (lv_at hl 0 rfl) ?_
      refine c_gN (k := 9) (f := 109) (q := 16) E hb hS ci_1 (sK hS (by decide) rfl) rfl rfl rfl (sRf hS (by decide) rfl) fk_X0_69_X0 (fun _ h => h) dX0_isAhead_17 ?_
      refine c_gI (k := 0) (f := 600) E hb hS ci_6 (sK hS (by decide) rfl) rfl rfl rfl fk_X0_213_X5 (fun _ h => h) dX0_isAhead_20 ?_
      refine lv_iload_n E.1 hb dX0_isAhead_23 rfl (lv_at hl 1 rfl) ?_
      refine lv_iadd E.1 hb dX0_isAhead_24 ?_
      refine lv_sipush (v := 999) E.1 hb dX0_isAhead_25 rfl ?_
      refine lv_icmp_gt (tgt := 35) E.1 hb dX0_isAhead_28 (by decide) (fun hc => ?_) (fun hc => ?_)
      · have hf := it_s hc hf
        refine lv_iconst (v := 0) E.1 hb dX0_isAhead_35 rfl ?_
        exact c_zr (ty := .boolean) E hb hr hlk hS ⟨Nat.le_refl 0, Nat.le_refl 0⟩ rfl (ro_s hf) dX0_isAhead_36
      · have hf := if_s hc hf
        refine lv_iconst (v := 1) E.1 hb dX0_isAhead_31 rfl ?_
        refine lv_goto (tgt := 36) E.1 hb dX0_isAhead_32 (by decide) ?_
        exact c_zr (ty := .boolean) E hb hr hlk hS ⟨Nat.le_refl 0, Nat.le_refl 0⟩ rfl (ro_s hf) dX0_isAhead_36
/-! MarginFolk.ways(I)I: RO -/
noncomputable def X0_ways_b4 (N : Nat) (x1 : Int32) (A : AH) (k4 : Int32 → Int32 → Option Int32) (x2 : Int32) (x3 : Int32) : Option Int32 :=
  if x1 ≤ x3 then (some x2) else (bo (aR A 100 0 0) fun q1 => bo (gI 2 A 201 q1) fun v2 => k4 (x2 * (v2 + 1)) (x3 + 1))
noncomputable def X0_ways (N : Nat) (A : AH) (x1 : Int32) : Option Int32 :=
  rn2 (X0_ways_b4 N x1 A) N 1 0
abbrev rX0_ways : Room := { frames := 0, cells := 0, slots := 0, locals := 0 }
set_option maxHeartbeats 4000000 in
theorem zX0_ways {l : Launch} {dC : Nat → ClassId} {dI : Nat → Nat → Nat} {ac : Nat → ClassId} {ad : Nat → Nat} {N : Nat} {A : AH} {x1 : Int32} {r : Int32} (hf : X0_ways N A x1 = some r) : Met l yX0_ways (ws_ yX0_ways cX0_ways 4 (some .int)) { frames := 0, cells := 0, slots := 0, locals := 0 } (va_Pc [.ref (ad 0), .int x1] (cPre dC dI ac ad True A)) (cQi dC dI ac ad True (aN A) (aS A) (aN A) (aS A) r A) 0 0 (cF ad) := by
  unfold X0_ways at hf
  refine c_of ⟨Nat.le_refl _, Nat.le_refl _⟩ RX0 (plainFor_of_name (by decide)) rfl (Nat.le_of_ble_eq_true rfl) ?_
  intro p e s m args below meth c E hb hr hlk hnm hml hS ls hl
  have hl : lv_has ls 4 [(0, .ref (ad 0)), (1, .int x1)] := hl
  have hL4 : ∀ (n : Nat) (x2 : Int32) (x3 : Int32), rn2 (X0_ways_b4 N x1 A) n x2 x3 = some r → ∀ (H : Heap) (locs : List Loc), cS dC dI ac ad True s.heap (aN A) (aS A) (aN A) (aS A) A H locs → ∀ (ls : Array Slot), lv_has ls 4 [(0, .ref (ad 0)), (1, .int x1), (2, .int x2), (3, .int x3)] → W p l e rX0_ways s m args below meth c H locs 0 0 (MQ below (cQi dC dI ac ad True (aN A) (aS A) (aN A) (aS A) r A) args s 0 0 (cF ad)) (F0 m 4 ls []) := by
    intro  n
    induction n with
    | zero =>
      intro x2 x3 hf
      cases hf
    | succ n ih =>
      intro x2 x3 hf H locs hS ls hl
      have hf : X0_ways_b4 N x1 A (rn2 (X0_ways_b4 N x1 A) n) x2 x3 = some r := hf
      have hk4 := ih
      generalize rn2 (X0_ways_b4 N x1 A) n = k4 at hf hk4
      unfold X0_ways_b4 at hf
      refine lv_iload_n E.1 hb dX0_ways_4 rfl (lv_at hl 3 rfl) ?_
      refine lv_iload_n E.1 hb dX0_ways_5 rfl (lv_at hl 1 rfl) ?_
      refine lv_icmp_ge (tgt := 27) E.1 hb dX0_ways_6 (by decide) (fun hc => ?_) (fun hc => ?_)
      · have hf := it_s hc hf
        refine lv_iload_n E.1 hb dX0_ways_27 rfl (lv_at hl 2 rfl) ?_
        exact c_ir E hb hr hlk hS ⟨Nat.le_refl 0, Nat.le_refl 0⟩ (ro_s hf) dX0_ways_28
      · have hf := if_s hc hf
        refine lv_iload_n E.1 hb dX0_ways_9 rfl (lv_at hl 2 rfl) ?_
        refine lv_aload_n E.1 hb dX0_ways_10 rfl (lv_at hl 0 rfl) ?_
        obtain ⟨q1, hr7, hf⟩ := bo_s hf
        refine c_gN (k := 0) (f := 100) E hb hS ci_1 (sK hS (by decide) rfl) rfl rfl rfl hr7 fk_X0_31_X0 (fun _ h => h) dX0_ways_11 ?_
        obtain ⟨hk, hf⟩ := gI_s hf
        refine c_gI (k := 1) (f := 201) E hb hS ci_2 hk rfl rfl rfl fk_X0_154_X1 (fun _ h => h) dX0_ways_14 ?_
        refine lv_iconst (v := 1) E.1 hb dX0_ways_17 rfl ?_
        refine lv_iadd E.1 hb dX0_ways_18 ?_
        refine lv_imul E.1 hb dX0_ways_19 ?_
        refine lv_istore_n (lv' := [(2, .int (x2 * ((aI A 201 q1 0) + 1))), (0, .ref (ad 0)), (1, .int x1), (3, .int x3)]) E.1 hb dX0_ways_20 rfl hl (by decide) rfl (fun ls hl => ?_)
        refine lv_iinc (v := (x3 + 1)) (lv' := [(3, .int (x3 + 1)), (2, .int (x2 * ((aI A 201 q1 0) + 1))), (0, .ref (ad 0)), (1, .int x1)]) E.1 hb dX0_ways_21 hl (k := 3) rfl rfl (by decide) rfl (fun ls hl => ?_)
        refine lv_goto (tgt := 4) E.1 hb dX0_ways_24 (by decide) ?_
        exact hk4 (x2 * ((aI A 201 q1 0) + 1)) (x3 + 1) hf _ _ hS _ (lv_sub hl [2, 3, 1, 0] rfl)
  refine lv_iconst (v := 1) E.1 hb dX0_ways_0 rfl ?_
  refine lv_istore_n (lv' := [(2, .int 1), (0, .ref (ad 0)), (1, .int x1)]) E.1 hb dX0_ways_1 rfl hl (by decide) rfl (fun ls hl => ?_)
  refine lv_iconst (v := 0) E.1 hb dX0_ways_2 rfl ?_
  refine lv_istore_n (lv' := [(3, .int 0), (2, .int 1), (0, .ref (ad 0)), (1, .int x1)]) E.1 hb dX0_ways_3 rfl hl (by decide) rfl (fun ls hl => ?_)
  exact hL4 N 1 0 hf _ _ hS _ (lv_sub hl [2, 3, 1, 0] rfl)
theorem fk_X5_67_X5 : FLk RX5 67 "MarginFolk$State" (TX5 8).2.1 (TX5 8).2.2.1 := Or.inl q441
/-! MarginFolk$State.copy(LMarginFolk$State;)LMarginFolk$State;: RW -/
noncomputable def X5_copy_b128 (N : Nat) (x0 : Nat) (x1 : Nat) (k118 : AH → Int32 → Option (Option Nat × AH)) (k128 : AH → Int32 → Int32 → Option (Option Nat × AH)) (A : AH) (x2 : Int32) (x3 : Int32) : Option (Option Nat × AH) :=
  if 3 ≤ x3 then (k118 A (x2 + 1)) else (bo (sR 40 36 A (x0 + 6) x2) fun q4 => bo (sR 40 36 A (x1 + 6) x2) fun q5 => bo (dI_ 31 A q5 x3) fun v6 => bo (uI_ 31 A q4 x3 v6) fun A7 => k128 A7 x2 (x3 + 1))
noncomputable def X5_copy_b118 (N : Nat) (x0 : Nat) (x1 : Nat) (k118 : AH → Int32 → Option (Option Nat × AH)) (A : AH) (x2 : Int32) : Option (Option Nat × AH) :=
  if (aI A 601 x0 0) ≤ x2 then (some ((some x0), A)) else (rn3 (X5_copy_b128 N x0 x1 k118) N A x2 0)
noncomputable def X5_copy_b49 (N : Nat) (x0 : Nat) (x1 : Nat) (k49 : AH → Int32 → Option (Option Nat × AH)) (A : AH) (x2 : Int32) : Option (Option Nat × AH) :=
  if 8 ≤ x2 then (rn2 (X5_copy_b118 N x0 x1) N A 0) else (bo (sI 8 31 A (x1 + 2) x2) fun v8 => bo (tI 8 31 A (x0 + 2) x2 v8) fun A9 => bo (sI 8 31 A9 (x1 + 3) x2) fun v10 => bo (tI 8 31 A9 (x0 + 3) x2 v10) fun A11 => bo (sI 8 31 A11 (x1 + 4) x2) fun v12 => bo (tI 8 31 A11 (x0 + 4) x2 v12) fun A13 => bo (sI 8 31 A13 (x1 + 5) x2) fun v14 => bo (tI 8 31 A13 (x0 + 5) x2 v14) fun A15 => bo (tI 8 31 A15 (x0 + 47) x2 0) fun A16 => k49 A16 (x2 + 1))
noncomputable def X5_copy_b23 (N : Nat) (x0 : Nat) (x1 : Nat) (k23 : AH → Int32 → Option (Option Nat × AH)) (A : AH) (x2 : Int32) : Option (Option Nat × AH) :=
  if 6 ≤ x2 then (rn2 (X5_copy_b49 N x0 x1) N A 0) else (bo (sI 6 31 A (x1 + 1) x2) fun v17 => bo (tI 6 31 A (x0 + 1) x2 v17) fun A18 => k23 A18 (x2 + 1))
noncomputable def X5_copy (N : Nat) (A0 : AH) (x0 : Nat) (x1 : Nat) : Option (Option Nat × AH) :=
  if isStb x0 = true then (if isStb x1 = true then (lt2 (wI A0 600 x0 0 (aI A0 600 x1 0)) fun A1 => lt2 (wI A1 601 x0 0 (aI A1 601 x1 0)) fun A2 => lt2 (wI A2 608 x0 0 0) fun A3 => rn2 (X5_copy_b23 N x0 x1) N A3 0) else none) else none
abbrev rX5_copy : Room := { frames := 0, cells := 0, slots := 0, locals := 0 }
set_option maxHeartbeats 4000000 in
theorem zX5_copy {l : Launch} {dC : Nat → ClassId} {dI : Nat → Nat → Nat} {ac : Nat → ClassId} {ad : Nat → Nat} {N : Nat} {A0 : AH} {x0 : Nat} {x1 : Nat} {r : Option Nat} {A' : AH} (hf : X5_copy N A0 x0 x1 = some (r, A')) : Met l yX5_copy (ws_ yX5_copy cX5_copy 4 (some (.object "MarginFolk$State"))) { frames := 0, cells := 0, slots := 0, locals := 0 } (va_Pc [.ref (ad x0), .ref (ad x1)] (cPre dC dI ac ad True A0)) (cQq dC dI ac ad True (aN A0) (aS A0) (aN A0) (aS A0) r A') 0 0 (cF ad) := by
  unfold X5_copy at hf
  obtain ⟨hg0, hf⟩ := gu_s hf
  have hs0 := isSt_of hg0
  obtain ⟨hg0, hf⟩ := gu_s hf
  have hs1 := isSt_of hg0
  refine c_of ⟨Nat.le_refl _, Nat.le_refl _⟩ RX5 (plainFor_of_name (by decide)) rfl (Nat.le_of_ble_eq_true rfl) ?_
  intro p e s m args below meth c E hb hr hlk hnm hml hS ls hl
  have hl : lv_has ls 4 [(0, .ref (ad x0)), (1, .ref (ad x1))] := hl
  have hL128 : ∀ (k118 : AH → Int32 → Option (Option Nat × AH)) (hk118 : ∀ (A : AH) (x2 : Int32), k118 A x2 = some (r, A') → ∀ (H : Heap) (locs : List Loc), cS dC dI ac ad True s.heap (aN A0) (aS A0) (aN A0) (aS A0) A H locs → ∀ (ls : Array Slot), lv_has ls 4 [(0, .ref (ad x0)), (1, .ref (ad x1)), (2, .int x2)] → W p l e rX5_copy s m args below meth c H locs 0 0 (MQ below (cQq dC dI ac ad True (aN A0) (aS A0) (aN A0) (aS A0) r A') args s 0 0 (cF ad)) (F0 m 118 ls [])) (n : Nat) (A : AH) (x2 : Int32) (x3 : Int32), rn3 (X5_copy_b128 N x0 x1 k118) n A x2 x3 = some (r, A') → ∀ (H : Heap) (locs : List Loc), cS dC dI ac ad True s.heap (aN A0) (aS A0) (aN A0) (aS A0) A H locs → ∀ (ls : Array Slot), lv_has ls 4 [(0, .ref (ad x0)), (1, .ref (ad x1)), (2, .int x2), (3, .int x3)] → W p l e rX5_copy s m args below meth c H locs 0 0 (MQ below (cQq dC dI ac ad True (aN A0) (aS A0) (aN A0) (aS A0) r A') args s 0 0 (cF ad)) (F0 m 128 ls []) := by
    intro k118 hk118 n
    induction n with
    | zero =>
      intro A x2 x3 hf
      cases hf
    | succ n ih =>
      intro A x2 x3 hf H locs hS ls hl
      have hf : X5_copy_b128 N x0 x1 k118 (rn3 (X5_copy_b128 N x0 x1 k118) n) A x2 x3 = some (r, A') := hf
      have hk128 := ih
      generalize rn3 (X5_copy_b128 N x0 x1 k118) n = k128 at hf hk128
      unfold X5_copy_b128 at hf
      refine lv_iload_n E.1 hb dX5_copy_128 rfl (lv_at hl 3 rfl) ?_
      refine lv_iconst (v := 3) E.1 hb dX5_copy_129 rfl ?_
      refine lv_icmp_ge (tgt := 155) E.1 hb dX5_copy_130 (by decide) (fun hc => ?_) (fun hc => ?_)
      · have hf := it_s hc hf
        refine lv_iinc (v := (x2 + 1)) (lv' := [(2, .int (x2 + 1)), (0, .ref (ad x0)), (1, .ref (ad x1)), (3, .int x3)]) E.1 hb dX5_copy_155 hl (k := 2) rfl rfl (by decide) rfl (fun ls hl => ?_)
        refine lv_goto (tgt := 118) E.1 hb dX5_copy_158 (by decide) ?_
        exact hk118 A (x2 + 1) hf _ _ hS _ (lv_sub hl [1, 2, 0] rfl)
      · have hf := if_s hc hf
        refine lv_aload_n E.1 hb dX5_copy_133 rfl (lv_at hl 0 rfl) ?_
        refine c_gN (k := 7) (f := 607) (q := (x0 + 6)) E hb hS ci_6 (sK hS (st_K0 hs0).1 (st_K0 hs0).2) rfl rfl rfl (st_R (cst hS) hs0 rfl (by decide)) fk_X5_33_X5 (fun _ h => h) dX5_copy_134 ?_
        refine lv_iload_n E.1 hb dX5_copy_137 rfl (lv_at hl 2 rfl) ?_
        obtain ⟨q4, hg, hf⟩ := sR_s hf
        refine s_ald E hb hS (t := 36) (st_K hs0 6 (by decide)) (by decide) hg dX5_copy_138 ?_
        refine lv_iload_n E.1 hb dX5_copy_139 rfl (lv_at hl 3 rfl) ?_
        refine lv_aload_n E.1 hb dX5_copy_140 rfl (lv_at hl 1 rfl) ?_
        refine c_gN (k := 7) (f := 607) (q := (x1 + 6)) E hb hS ci_6 (sK hS (st_K0 hs1).1 (st_K0 hs1).2) rfl rfl rfl (st_R (cst hS) hs1 rfl (by decide)) fk_X5_33_X5 (fun _ h => h) dX5_copy_141 ?_
        refine lv_iload_n E.1 hb dX5_copy_144 rfl (lv_at hl 2 rfl) ?_
        obtain ⟨q5, hg, hf⟩ := sR_s hf
        refine s_ald E hb hS (t := 36) (st_K hs1 6 (by decide)) (by decide) hg dX5_copy_145 ?_
        refine lv_iload_n E.1 hb dX5_copy_146 rfl (lv_at hl 3 rfl) ?_
        obtain ⟨hg, hf⟩ := dI_s hf
        refine d_ld E hb hS hg rfl (Or.inl ⟨rfl, rfl⟩) dX5_copy_147 ?_
        obtain ⟨A7, hg, hw, hf⟩ := uI_s hf
        refine d_st E hb hS hg rfl (Or.inl ⟨rfl, rfl, rfl⟩) hw dX5_copy_148 (fun H locs hS => ?_)
        refine lv_iinc (v := (x3 + 1)) (lv' := [(3, .int (x3 + 1)), (0, .ref (ad x0)), (1, .ref (ad x1)), (2, .int x2)]) E.1 hb dX5_copy_149 hl (k := 3) rfl rfl (by decide) rfl (fun ls hl => ?_)
        refine lv_goto (tgt := 128) E.1 hb dX5_copy_152 (by decide) ?_
        exact hk128 A7 x2 (x3 + 1) hf _ _ hS _ (lv_sub hl [1, 2, 3, 0] rfl)
  have hL118 : ∀ (n : Nat) (A : AH) (x2 : Int32), rn2 (X5_copy_b118 N x0 x1) n A x2 = some (r, A') → ∀ (H : Heap) (locs : List Loc), cS dC dI ac ad True s.heap (aN A0) (aS A0) (aN A0) (aS A0) A H locs → ∀ (ls : Array Slot), lv_has ls 4 [(0, .ref (ad x0)), (1, .ref (ad x1)), (2, .int x2)] → W p l e rX5_copy s m args below meth c H locs 0 0 (MQ below (cQq dC dI ac ad True (aN A0) (aS A0) (aN A0) (aS A0) r A') args s 0 0 (cF ad)) (F0 m 118 ls []) := by
    intro  n
    induction n with
    | zero =>
      intro A x2 hf
      cases hf
    | succ n ih =>
      intro A x2 hf H locs hS ls hl
      have hf : X5_copy_b118 N x0 x1 (rn2 (X5_copy_b118 N x0 x1) n) A x2 = some (r, A') := hf
      have hk118 := ih
      generalize rn2 (X5_copy_b118 N x0 x1) n = k118 at hf hk118
      unfold X5_copy_b118 at hf
      refine lv_iload_n E.1 hb dX5_copy_118 rfl (lv_at hl 2 rfl) ?_
      refine lv_aload_n E.1 hb dX5_copy_119 rfl (lv_at hl 0 rfl) ?_
      refine c_gI (k := 1) (f := 601) E hb hS ci_6 (sK hS (st_K0 hs0).1 (st_K0 hs0).2) rfl rfl rfl fk_X5_43_X5 (fun _ h => h) dX5_copy_120 ?_
      refine lv_icmp_ge (tgt := 161) E.1 hb dX5_copy_123 (by decide) (fun hc => ?_) (fun hc => ?_)
      · have hf := it_s hc hf
        refine lv_aload_n E.1 hb dX5_copy_161 rfl (lv_at hl 0 rfl) ?_
        exact c_ar E hb hr (Or.inl ⟨_, rfl⟩) hlk hS ⟨Nat.le_refl 0, Nat.le_refl 0⟩ (v := (some x0)) hf dX5_copy_162
      · have hf := if_s hc hf
        refine lv_iconst (v := 0) E.1 hb dX5_copy_126 rfl ?_
        refine lv_istore_n (lv' := [(3, .int 0), (0, .ref (ad x0)), (1, .ref (ad x1)), (2, .int x2)]) E.1 hb dX5_copy_127 rfl hl (by decide) rfl (fun ls hl => ?_)
        exact hL128 k118 hk118 N A x2 0 hf _ _ hS _ (lv_sub hl [1, 2, 3, 0] rfl)
  have hL49 : ∀ (n : Nat) (A : AH) (x2 : Int32), rn2 (X5_copy_b49 N x0 x1) n A x2 = some (r, A') → ∀ (H : Heap) (locs : List Loc), cS dC dI ac ad True s.heap (aN A0) (aS A0) (aN A0) (aS A0) A H locs → ∀ (ls : Array Slot), lv_has ls 4 [(0, .ref (ad x0)), (1, .ref (ad x1)), (2, .int x2)] → W p l e rX5_copy s m args below meth c H locs 0 0 (MQ below (cQq dC dI ac ad True (aN A0) (aS A0) (aN A0) (aS A0) r A') args s 0 0 (cF ad)) (F0 m 49 ls []) := by
    intro  n
    induction n with
    | zero =>
      intro A x2 hf
      cases hf
    | succ n ih =>
      intro A x2 hf H locs hS ls hl
      have hf : X5_copy_b49 N x0 x1 (rn2 (X5_copy_b49 N x0 x1) n) A x2 = some (r, A') := hf
      have hk49 := ih
      generalize rn2 (X5_copy_b49 N x0 x1) n = k49 at hf hk49
      unfold X5_copy_b49 at hf
      refine lv_iload_n E.1 hb dX5_copy_49 rfl (lv_at hl 2 rfl) ?_
      refine lv_bipush (v := 8) E.1 hb dX5_copy_50 rfl ?_
      refine lv_icmp_ge (tgt := 116) E.1 hb dX5_copy_52 (by decide) (fun hc => ?_) (fun hc => ?_)
      · have hf := it_s hc hf
        refine lv_iconst (v := 0) E.1 hb dX5_copy_116 rfl ?_
        refine lv_istore_n (lv' := [(2, .int 0), (0, .ref (ad x0)), (1, .ref (ad x1))]) E.1 hb dX5_copy_117 rfl hl (by decide) rfl (fun ls hl => ?_)
        exact hL118 N A 0 hf _ _ hS _ (lv_sub hl [1, 2, 0] rfl)
      · have hf := if_s hc hf
        refine lv_aload_n E.1 hb dX5_copy_55 rfl (lv_at hl 0 rfl) ?_
        refine c_gN (k := 3) (f := 603) (q := (x0 + 2)) E hb hS ci_6 (sK hS (st_K0 hs0).1 (st_K0 hs0).2) rfl rfl rfl (st_R (cst hS) hs0 rfl (by decide)) fk_X5_19_X5 (fun _ h => h) dX5_copy_56 ?_
        refine lv_iload_n E.1 hb dX5_copy_59 rfl (lv_at hl 2 rfl) ?_
        refine lv_aload_n E.1 hb dX5_copy_60 rfl (lv_at hl 1 rfl) ?_
        refine c_gN (k := 3) (f := 603) (q := (x1 + 2)) E hb hS ci_6 (sK hS (st_K0 hs1).1 (st_K0 hs1).2) rfl rfl rfl (st_R (cst hS) hs1 rfl (by decide)) fk_X5_19_X5 (fun _ h => h) dX5_copy_61 ?_
        refine lv_iload_n E.1 hb dX5_copy_64 rfl (lv_at hl 2 rfl) ?_
        obtain ⟨hg, hf⟩ := sI_s hf
        refine s_ld E hb hS (t := 31) (st_K hs1 2 (by decide)) hg (Or.inl ⟨rfl, rfl⟩) dX5_copy_65 ?_
        obtain ⟨A9, hg, hw, hf⟩ := tI_s hf
        refine s_st E hb hS (t := 31) (st_K hs0 2 (by decide)) hg (Or.inl ⟨rfl, rfl, rfl⟩) hw dX5_copy_66 (fun H locs hS => ?_)
        refine lv_aload_n E.1 hb dX5_copy_67 rfl (lv_at hl 0 rfl) ?_
        refine c_gN (k := 4) (f := 604) (q := (x0 + 3)) E hb hS ci_6 (sK hS (st_K0 hs0).1 (st_K0 hs0).2) rfl rfl rfl (st_R (cst hS) hs0 rfl (by decide)) fk_X5_22_X5 (fun _ h => h) dX5_copy_68 ?_
        refine lv_iload_n E.1 hb dX5_copy_71 rfl (lv_at hl 2 rfl) ?_
        refine lv_aload_n E.1 hb dX5_copy_72 rfl (lv_at hl 1 rfl) ?_
        refine c_gN (k := 4) (f := 604) (q := (x1 + 3)) E hb hS ci_6 (sK hS (st_K0 hs1).1 (st_K0 hs1).2) rfl rfl rfl (st_R (cst hS) hs1 rfl (by decide)) fk_X5_22_X5 (fun _ h => h) dX5_copy_73 ?_
        refine lv_iload_n E.1 hb dX5_copy_76 rfl (lv_at hl 2 rfl) ?_
        obtain ⟨hg, hf⟩ := sI_s hf
        refine s_ld E hb hS (t := 31) (st_K hs1 3 (by decide)) hg (Or.inl ⟨rfl, rfl⟩) dX5_copy_77 ?_
        obtain ⟨A11, hg, hw, hf⟩ := tI_s hf
        refine s_st E hb hS (t := 31) (st_K hs0 3 (by decide)) hg (Or.inl ⟨rfl, rfl, rfl⟩) hw dX5_copy_78 (fun H locs hS => ?_)
        refine lv_aload_n E.1 hb dX5_copy_79 rfl (lv_at hl 0 rfl) ?_
        refine c_gN (k := 5) (f := 605) (q := (x0 + 4)) E hb hS ci_6 (sK hS (st_K0 hs0).1 (st_K0 hs0).2) rfl rfl rfl (st_R (cst hS) hs0 rfl (by decide)) fk_X5_25_X5 (fun _ h => h) dX5_copy_80 ?_
        refine lv_iload_n E.1 hb dX5_copy_83 rfl (lv_at hl 2 rfl) ?_
        refine lv_aload_n E.1 hb dX5_copy_84 rfl (lv_at hl 1 rfl) ?_
        refine c_gN (k := 5) (f := 605) (q := (x1 + 4)) E hb hS ci_6 (sK hS (st_K0 hs1).1 (st_K0 hs1).2) rfl rfl rfl (st_R (cst hS) hs1 rfl (by decide)) fk_X5_25_X5 (fun _ h => h) dX5_copy_85 ?_
        refine lv_iload_n E.1 hb dX5_copy_88 rfl (lv_at hl 2 rfl) ?_
        obtain ⟨hg, hf⟩ := sI_s hf
        refine s_ld E hb hS (t := 31) (st_K hs1 4 (by decide)) hg (Or.inl ⟨rfl, rfl⟩) dX5_copy_89 ?_
        obtain ⟨A13, hg, hw, hf⟩ := tI_s hf
        refine s_st E hb hS (t := 31) (st_K hs0 4 (by decide)) hg (Or.inl ⟨rfl, rfl, rfl⟩) hw dX5_copy_90 (fun H locs hS => ?_)
        refine lv_aload_n E.1 hb dX5_copy_91 rfl (lv_at hl 0 rfl) ?_
        refine c_gN (k := 6) (f := 606) (q := (x0 + 5)) E hb hS ci_6 (sK hS (st_K0 hs0).1 (st_K0 hs0).2) rfl rfl rfl (st_R (cst hS) hs0 rfl (by decide)) fk_X5_28_X5 (fun _ h => h) dX5_copy_92 ?_
        refine lv_iload_n E.1 hb dX5_copy_95 rfl (lv_at hl 2 rfl) ?_
        refine lv_aload_n E.1 hb dX5_copy_96 rfl (lv_at hl 1 rfl) ?_
        refine c_gN (k := 6) (f := 606) (q := (x1 + 5)) E hb hS ci_6 (sK hS (st_K0 hs1).1 (st_K0 hs1).2) rfl rfl rfl (st_R (cst hS) hs1 rfl (by decide)) fk_X5_28_X5 (fun _ h => h) dX5_copy_97 ?_
        refine lv_iload_n E.1 hb dX5_copy_100 rfl (lv_at hl 2 rfl) ?_
        obtain ⟨hg, hf⟩ := sI_s hf
        refine s_ld E hb hS (t := 31) (st_K hs1 5 (by decide)) hg (Or.inl ⟨rfl, rfl⟩) dX5_copy_101 ?_
        obtain ⟨A15, hg, hw, hf⟩ := tI_s hf
        refine s_st E hb hS (t := 31) (st_K hs0 5 (by decide)) hg (Or.inl ⟨rfl, rfl, rfl⟩) hw dX5_copy_102 (fun H locs hS => ?_)
        refine lv_aload_n E.1 hb dX5_copy_103 rfl (lv_at hl 0 rfl) ?_
        refine c_gN (k := 9) (f := 609) (q := (x0 + 47)) E hb hS ci_6 (sK hS (st_K0 hs0).1 (st_K0 hs0).2) rfl rfl rfl (st_R (cst hS) hs0 rfl (by decide)) fk_X5_36_X5 (fun _ h => h) dX5_copy_104 ?_
        refine lv_iload_n E.1 hb dX5_copy_107 rfl (lv_at hl 2 rfl) ?_
        refine lv_iconst (v := 0) E.1 hb dX5_copy_108 rfl ?_
        obtain ⟨A16, hg, hw, hf⟩ := tI_s hf
        refine s_st E hb hS (t := 31) (st_K hs0 47 (by decide)) hg (Or.inl ⟨rfl, rfl, rfl⟩) hw dX5_copy_109 (fun H locs hS => ?_)
        refine lv_iinc (v := (x2 + 1)) (lv' := [(2, .int (x2 + 1)), (0, .ref (ad x0)), (1, .ref (ad x1))]) E.1 hb dX5_copy_110 hl (k := 2) rfl rfl (by decide) rfl (fun ls hl => ?_)
        refine lv_goto (tgt := 49) E.1 hb dX5_copy_113 (by decide) ?_
        exact hk49 A16 (x2 + 1) hf _ _ hS _ (lv_sub hl [1, 2, 0] rfl)
  have hL23 : ∀ (n : Nat) (A : AH) (x2 : Int32), rn2 (X5_copy_b23 N x0 x1) n A x2 = some (r, A') → ∀ (H : Heap) (locs : List Loc), cS dC dI ac ad True s.heap (aN A0) (aS A0) (aN A0) (aS A0) A H locs → ∀ (ls : Array Slot), lv_has ls 4 [(0, .ref (ad x0)), (1, .ref (ad x1)), (2, .int x2)] → W p l e rX5_copy s m args below meth c H locs 0 0 (MQ below (cQq dC dI ac ad True (aN A0) (aS A0) (aN A0) (aS A0) r A') args s 0 0 (cF ad)) (F0 m 23 ls []) := by
    intro  n
    induction n with
    | zero =>
      intro A x2 hf
      cases hf
    | succ n ih =>
      intro A x2 hf H locs hS ls hl
      have hf : X5_copy_b23 N x0 x1 (rn2 (X5_copy_b23 N x0 x1) n) A x2 = some (r, A') := hf
      have hk23 := ih
      generalize rn2 (X5_copy_b23 N x0 x1) n = k23 at hf hk23
      unfold X5_copy_b23 at hf
      refine lv_iload_n E.1 hb dX5_copy_23 rfl (lv_at hl 2 rfl) ?_
      refine lv_bipush (v := 6) E.1 hb dX5_copy_24 rfl ?_
      refine lv_icmp_ge (tgt := 47) E.1 hb dX5_copy_26 (by decide) (fun hc => ?_) (fun hc => ?_)
      · have hf := it_s hc hf
        refine lv_iconst (v := 0) E.1 hb dX5_copy_47 rfl ?_
        refine lv_istore_n (lv' := [(2, .int 0), (0, .ref (ad x0)), (1, .ref (ad x1))]) E.1 hb dX5_copy_48 rfl hl (by decide) rfl (fun ls hl => ?_)
        exact hL49 N A 0 hf _ _ hS _ (lv_sub hl [1, 2, 0] rfl)
      · have hf := if_s hc hf
        refine lv_aload_n E.1 hb dX5_copy_29 rfl (lv_at hl 0 rfl) ?_
        refine c_gN (k := 2) (f := 602) (q := (x0 + 1)) E hb hS ci_6 (sK hS (st_K0 hs0).1 (st_K0 hs0).2) rfl rfl rfl (st_R (cst hS) hs0 rfl (by decide)) fk_X5_15_X5 (fun _ h => h) dX5_copy_30 ?_
        refine lv_iload_n E.1 hb dX5_copy_33 rfl (lv_at hl 2 rfl) ?_
        refine lv_aload_n E.1 hb dX5_copy_34 rfl (lv_at hl 1 rfl) ?_
        refine c_gN (k := 2) (f := 602) (q := (x1 + 1)) E hb hS ci_6 (sK hS (st_K0 hs1).1 (st_K0 hs1).2) rfl rfl rfl (st_R (cst hS) hs1 rfl (by decide)) fk_X5_15_X5 (fun _ h => h) dX5_copy_35 ?_
        refine lv_iload_n E.1 hb dX5_copy_38 rfl (lv_at hl 2 rfl) ?_
        obtain ⟨hg, hf⟩ := sI_s hf
        refine s_ld E hb hS (t := 31) (st_K hs1 1 (by decide)) hg (Or.inl ⟨rfl, rfl⟩) dX5_copy_39 ?_
        obtain ⟨A18, hg, hw, hf⟩ := tI_s hf
        refine s_st E hb hS (t := 31) (st_K hs0 1 (by decide)) hg (Or.inl ⟨rfl, rfl, rfl⟩) hw dX5_copy_40 (fun H locs hS => ?_)
        refine lv_iinc (v := (x2 + 1)) (lv' := [(2, .int (x2 + 1)), (0, .ref (ad x0)), (1, .ref (ad x1))]) E.1 hb dX5_copy_41 hl (k := 2) rfl rfl (by decide) rfl (fun ls hl => ?_)
        refine lv_goto (tgt := 23) E.1 hb dX5_copy_44 (by decide) ?_
        exact hk23 A18 (x2 + 1) hf _ _ hS _ (lv_sub hl [1, 2, 0] rfl)
  refine lv_aload_n E.1 hb dX5_copy_0 rfl (lv_at hl 0 rfl) ?_
  refine lv_aload_n E.1 hb dX5_copy_1 rfl (lv_at hl 1 rfl) ?_
  refine c_gI (k := 0) (f := 600) E hb hS ci_6 (sK hS (st_K0 hs1).1 (st_K0 hs1).2) rfl rfl rfl fk_X5_39_X5 (fun _ h => h) dX5_copy_2 ?_
  obtain ⟨A1, hw, hf⟩ := lt2_s hf
  refine c_pI (k := 0) (f := 600) E hb hS ci_6 (sK hS (st_K0 hs0).1 (st_K0 hs0).2) (hS.1.lt (sK hS (st_K0 hs0).1 (st_K0 hs0).2) rfl) rfl rfl (Or.inl rfl) fk_X5_39_X5 (fun _ h => h) rfl rfl hw dX5_copy_5 (fun H locs hS => ?_)
  refine lv_aload_n E.1 hb dX5_copy_8 rfl (lv_at hl 0 rfl) ?_
  refine lv_aload_n E.1 hb dX5_copy_9 rfl (lv_at hl 1 rfl) ?_
  refine c_gI (k := 1) (f := 601) E hb hS ci_6 (sK hS (st_K0 hs1).1 (st_K0 hs1).2) rfl rfl rfl fk_X5_43_X5 (fun _ h => h) dX5_copy_10 ?_
  obtain ⟨A2, hw, hf⟩ := lt2_s hf
  refine c_pI (k := 1) (f := 601) E hb hS ci_6 (sK hS (st_K0 hs0).1 (st_K0 hs0).2) (hS.1.lt (sK hS (st_K0 hs0).1 (st_K0 hs0).2) rfl) rfl rfl (Or.inl rfl) fk_X5_43_X5 (fun _ h => h) rfl rfl hw dX5_copy_13 (fun H locs hS => ?_)
  refine lv_aload_n E.1 hb dX5_copy_16 rfl (lv_at hl 0 rfl) ?_
  refine lv_iconst (v := 0) E.1 hb dX5_copy_17 rfl ?_
  obtain ⟨A3, hw, hf⟩ := lt2_s hf
  refine c_pI (k := 8) (f := 608) E hb hS ci_6 (sK hS (st_K0 hs0).1 (st_K0 hs0).2) (hS.1.lt (sK hS (st_K0 hs0).1 (st_K0 hs0).2) rfl) rfl rfl (Or.inl rfl) fk_X5_67_X5 (fun _ h => h) rfl rfl hw dX5_copy_18 (fun H locs hS => ?_)
  refine lv_iconst (v := 0) E.1 hb dX5_copy_21 rfl ?_
  refine lv_istore_n (lv' := [(2, .int 0), (0, .ref (ad x0)), (1, .ref (ad x1))]) E.1 hb dX5_copy_22 rfl hl (by decide) rfl (fun ls hl => ?_)
  exact hL23 N A3 0 hf _ _ hS _ (lv_sub hl [1, 2, 0] rfl)
theorem fk_X5_97_X0 : FLk RX5 97 "MarginFolk" (TX0 6).2.1 (TX0 6).2.2.1 := Or.inr ⟨_, q482⟩
theorem fk_X5_101_X4 : FLk RX5 101 "MarginFolk$Moment" (TX4 0).2.1 (TX4 0).2.2.1 := Or.inr ⟨_, q411⟩
theorem fk_X5_107_X7 : FLk RX5 107 "MarginFolk$Being" (TX7 3).2.1 (TX7 3).2.2.1 := Or.inr ⟨_, q868⟩
/-! MarginFolk$State.asks(II)V: RW -/
noncomputable def X5_asks_b127 (x0 : Nat) (x1 : Int32) (x2 : Int32) (A : AH) (y0 : Int64) (y1 : Int32) : Option (Unit × AH) :=
  bo (tJ 9 A 12 y1 y0) fun A14 => some ((), A14)
noncomputable def X5_asks (A0 : AH) (x0 : Nat) (x1 : Int32) (x2 : Int32) : Option (Unit × AH) :=
  if isStb x0 = true then (bo (tJ 9 A0 12 0 (Int32.toInt64 (aI A0 600 x0 0))) fun A1 => bo (sI 8 31 A1 (x0 + 2) x1) fun v2 => bo (tJ 9 A1 12 1 (Int32.toInt64 v2)) fun A3 => bo (sI 8 31 A3 (x0 + 3) x1) fun v4 => bo (tJ 9 A3 12 2 (Int32.toInt64 v4)) fun A5 => bo (X0_beingOf A5 x1) fun r6 => bo r6 fun q7 => bo (gI 7 A5 703 q7) fun v8 => bo (tJ 9 A5 12 3 (Int32.toInt64 v8)) fun A9 => bo (sI 8 31 A9 (x0 + 4) x1) fun v10 => bo (tJ 9 A9 12 4 (Int32.toInt64 v10)) fun A11 => bo (sI 8 31 A11 (x0 + 2) x1) fun v12 => bo (X0_isOpen v12 x2) fun r13 => if r13 = 0 then (X5_asks_b127 x0 x1 x2 A11 0 5) else (X5_asks_b127 x0 x1 x2 A11 1 5)) else none
abbrev rX5_asks : Room := { frames := 4, cells := 0, slots := 0, locals := 85 }
set_option maxHeartbeats 4000000 in
theorem zX5_asks {l : Launch} {dC : Nat → ClassId} {dI : Nat → Nat → Nat} {ac : Nat → ClassId} {ad : Nat → Nat} {A0 : AH} {x0 : Nat} {x1 : Int32} {x2 : Int32} {A' : AH} (hf : X5_asks A0 x0 x1 x2 = some ((), A')) : Met l yX5_asks (ws_ yX5_asks cX5_asks 3 none) { frames := 4, cells := 0, slots := 0, locals := 85 } (va_Pc [.ref (ad x0), .int x1, .int x2] (cPre dC dI ac ad True A0)) (cQv dC dI ac ad True (aN A0) (aS A0) (aN A0) (aS A0) A') 0 0 (cF ad) := by
  unfold X5_asks at hf
  obtain ⟨hg0, hf⟩ := gu_s hf
  have hs0 := isSt_of hg0
  refine c_of ⟨Nat.le_refl _, Nat.le_refl _⟩ RX5 (plainFor_of_name (by decide)) rfl (Nat.le_of_ble_eq_true rfl) ?_
  intro p e s m args below meth c E hb hr hlk hnm hml hS ls hl
  have hl : lv_has ls 3 [(0, .ref (ad x0)), (1, .int x1), (2, .int x2)] := hl
  have hB127 : ∀ (A : AH) (y0 : Int64) (y1 : Int32), X5_asks_b127 x0 x1 x2 A y0 y1 = some ((), A') → ∀ (H : Heap) (locs : List Loc), cS dC dI ac ad True s.heap (aN A0) (aS A0) (aN A0) (aS A0) A H locs → ∀ (ls : Array Slot), lv_has ls 3 [(0, .ref (ad x0)), (1, .int x1), (2, .int x2)] → W p l e rX5_asks s m args below meth c H locs 0 0 (MQ below (cQv dC dI ac ad True (aN A0) (aS A0) (aN A0) (aS A0) A') args s 0 0 (cF ad)) (F0 m 127 ls [.long y0, .int y1, .ref (ad 12)]) := by
    intro A y0 y1 hf H locs hS ls hl
    unfold X5_asks_b127 at hf
    obtain ⟨A14, hg, hw, hf⟩ := tJ_s hf
    refine s_lst E hb hS ⟨by decide, rfl, rfl⟩ hg hw dX5_asks_127 (fun H locs hS => ?_)
    exact c_vr E hb hr hlk hS ⟨Nat.le_refl 0, Nat.le_refl 0⟩ hf dX5_asks_128
  refine lv_aload_n E.1 hb dX5_asks_0 rfl (lv_at hl 0 rfl) ?_
  refine c_gN (k := 10) (f := 610) (q := 0) E hb hS ci_6 (sK hS (st_K0 hs0).1 (st_K0 hs0).2) rfl rfl rfl (st_R0 (cst hS) hs0) fk_X5_3_X5 (fun _ h => h) dX5_asks_1 ?_
  refine c_gN (k := 6) (f := 106) (q := 11) E hb hS ci_1 (sK hS (by decide) rfl) rfl rfl rfl (sRf hS (by decide) rfl) fk_X5_97_X0 (fun _ h => h) dX5_asks_4 ?_
  refine c_gN (k := 0) (f := 500) (q := 12) E hb hS ci_5 (sK hS (by decide) rfl) rfl rfl rfl (sRf hS (by decide) rfl) fk_X5_101_X4 (fun _ h => h) dX5_asks_7 ?_
  refine lv_iconst (v := 0) E.1 hb dX5_asks_10 rfl ?_
  refine lv_aload_n E.1 hb dX5_asks_11 rfl (lv_at hl 0 rfl) ?_
  refine c_gI (k := 0) (f := 600) E hb hS ci_6 (sK hS (st_K0 hs0).1 (st_K0 hs0).2) rfl rfl rfl fk_X5_39_X5 (fun _ h => h) dX5_asks_12 ?_
  refine lv_i2l E.1 hb dX5_asks_15 rfl ?_
  obtain ⟨A1, hg, hw, hf⟩ := tJ_s hf
  refine s_lst E hb hS ⟨by decide, rfl, rfl⟩ hg hw dX5_asks_16 (fun H locs hS => ?_)
  refine lv_aload_n E.1 hb dX5_asks_17 rfl (lv_at hl 0 rfl) ?_
  refine c_gN (k := 10) (f := 610) (q := 0) E hb hS ci_6 (sK hS (st_K0 hs0).1 (st_K0 hs0).2) rfl rfl rfl (st_R0 (cst hS) hs0) fk_X5_3_X5 (fun _ h => h) dX5_asks_18 ?_
  refine c_gN (k := 6) (f := 106) (q := 11) E hb hS ci_1 (sK hS (by decide) rfl) rfl rfl rfl (sRf hS (by decide) rfl) fk_X5_97_X0 (fun _ h => h) dX5_asks_21 ?_
  refine c_gN (k := 0) (f := 500) (q := 12) E hb hS ci_5 (sK hS (by decide) rfl) rfl rfl rfl (sRf hS (by decide) rfl) fk_X5_101_X4 (fun _ h => h) dX5_asks_24 ?_
  refine lv_iconst (v := 1) E.1 hb dX5_asks_27 rfl ?_
  refine lv_aload_n E.1 hb dX5_asks_28 rfl (lv_at hl 0 rfl) ?_
  refine c_gN (k := 3) (f := 603) (q := (x0 + 2)) E hb hS ci_6 (sK hS (st_K0 hs0).1 (st_K0 hs0).2) rfl rfl rfl (st_R (cst hS) hs0 rfl (by decide)) fk_X5_19_X5 (fun _ h => h) dX5_asks_29 ?_
  refine lv_iload_n E.1 hb dX5_asks_32 rfl (lv_at hl 1 rfl) ?_
  obtain ⟨hg, hf⟩ := sI_s hf
  refine s_ld E hb hS (t := 31) (st_K hs0 2 (by decide)) hg (Or.inl ⟨rfl, rfl⟩) dX5_asks_33 ?_
  refine lv_i2l E.1 hb dX5_asks_34 rfl ?_
  obtain ⟨A3, hg, hw, hf⟩ := tJ_s hf
  refine s_lst E hb hS ⟨by decide, rfl, rfl⟩ hg hw dX5_asks_35 (fun H locs hS => ?_)
  refine lv_aload_n E.1 hb dX5_asks_36 rfl (lv_at hl 0 rfl) ?_
  refine c_gN (k := 10) (f := 610) (q := 0) E hb hS ci_6 (sK hS (st_K0 hs0).1 (st_K0 hs0).2) rfl rfl rfl (st_R0 (cst hS) hs0) fk_X5_3_X5 (fun _ h => h) dX5_asks_37 ?_
  refine c_gN (k := 6) (f := 106) (q := 11) E hb hS ci_1 (sK hS (by decide) rfl) rfl rfl rfl (sRf hS (by decide) rfl) fk_X5_97_X0 (fun _ h => h) dX5_asks_40 ?_
  refine c_gN (k := 0) (f := 500) (q := 12) E hb hS ci_5 (sK hS (by decide) rfl) rfl rfl rfl (sRf hS (by decide) rfl) fk_X5_101_X4 (fun _ h => h) dX5_asks_43 ?_
  refine lv_iconst (v := 2) E.1 hb dX5_asks_46 rfl ?_
  refine lv_aload_n E.1 hb dX5_asks_47 rfl (lv_at hl 0 rfl) ?_
  refine c_gN (k := 4) (f := 604) (q := (x0 + 3)) E hb hS ci_6 (sK hS (st_K0 hs0).1 (st_K0 hs0).2) rfl rfl rfl (st_R (cst hS) hs0 rfl (by decide)) fk_X5_22_X5 (fun _ h => h) dX5_asks_48 ?_
  refine lv_iload_n E.1 hb dX5_asks_51 rfl (lv_at hl 1 rfl) ?_
  obtain ⟨hg, hf⟩ := sI_s hf
  refine s_ld E hb hS (t := 31) (st_K hs0 3 (by decide)) hg (Or.inl ⟨rfl, rfl⟩) dX5_asks_52 ?_
  refine lv_i2l E.1 hb dX5_asks_53 rfl ?_
  obtain ⟨A5, hg, hw, hf⟩ := tJ_s hf
  refine s_lst E hb hS ⟨by decide, rfl, rfl⟩ hg hw dX5_asks_54 (fun H locs hS => ?_)
  refine lv_aload_n E.1 hb dX5_asks_55 rfl (lv_at hl 0 rfl) ?_
  refine c_gN (k := 10) (f := 610) (q := 0) E hb hS ci_6 (sK hS (st_K0 hs0).1 (st_K0 hs0).2) rfl rfl rfl (st_R0 (cst hS) hs0) fk_X5_3_X5 (fun _ h => h) dX5_asks_56 ?_
  refine c_gN (k := 6) (f := 106) (q := 11) E hb hS ci_1 (sK hS (by decide) rfl) rfl rfl rfl (sRf hS (by decide) rfl) fk_X5_97_X0 (fun _ h => h) dX5_asks_59 ?_
  refine c_gN (k := 0) (f := 500) (q := 12) E hb hS ci_5 (sK hS (by decide) rfl) rfl rfl rfl (sRf hS (by decide) rfl) fk_X5_101_X4 (fun _ h => h) dX5_asks_62 ?_
  refine lv_iconst (v := 3) E.1 hb dX5_asks_65 rfl ?_
  refine lv_aload_n E.1 hb dX5_asks_66 rfl (lv_at hl 0 rfl) ?_
  refine c_gN (k := 10) (f := 610) (q := 0) E hb hS ci_6 (sK hS (st_K0 hs0).1 (st_K0 hs0).2) rfl rfl rfl (st_R0 (cst hS) hs0) fk_X5_3_X5 (fun _ h => h) dX5_asks_67 ?_
  refine lv_iload_n E.1 hb dX5_asks_70 rfl (lv_at hl 1 rfl) ?_
  obtain ⟨r6, h1, hf⟩ := bo_s hf
  refine c_kq hS (va_runVN ⟨E.1, hb, hml, E.2.1, E.2.2.1⟩ (zX0_beingOf h1) ⟨va_cnB 1 E.2.2.1 (lw_meth q1240) rfl rfl rfl (E.2.2.2.2.1 _ q1237 rfl) (E.2.2.1 _ q152) gnX0_beingOf ⟨Nat.le_of_ble_eq_true rfl, Nat.le_of_ble_eq_true rfl⟩, E.2.2.1 _ q1239, E.2.2.1 _ qs35⟩ (c_preV E hS ci_1 (sK hS (by decide) rfl) (hS.1.lt (sK hS (by decide) rfl) rfl) _) rfl rfl hl.1 rfl (lv_room (Nat.le_of_ble_eq_true rfl)) dX5_asks_71 ⟨Nat.le_refl 0, Nat.le_refl 0⟩) hS.2.2.2.2 (fun H locs hS hn => ?_)
  obtain ⟨q7, hr9, hf⟩ := bo_s hf
  refine c_dr hr9 ?_
  obtain ⟨hk, hf⟩ := gI_s hf
  refine c_gI (k := 3) (f := 703) E hb hS ci_7 hk rfl rfl rfl fk_X5_107_X7 (fun _ h => h) dX5_asks_74 ?_
  refine lv_i2l E.1 hb dX5_asks_77 rfl ?_
  obtain ⟨A9, hg, hw, hf⟩ := tJ_s hf
  refine s_lst E hb hS ⟨by decide, rfl, rfl⟩ hg hw dX5_asks_78 (fun H locs hS => ?_)
  refine lv_aload_n E.1 hb dX5_asks_79 rfl (lv_at hl 0 rfl) ?_
  refine c_gN (k := 10) (f := 610) (q := 0) E hb hS ci_6 (sK hS (st_K0 hs0).1 (st_K0 hs0).2) rfl rfl rfl (st_R0 (cst hS) hs0) fk_X5_3_X5 (fun _ h => h) dX5_asks_80 ?_
  refine c_gN (k := 6) (f := 106) (q := 11) E hb hS ci_1 (sK hS (by decide) rfl) rfl rfl rfl (sRf hS (by decide) rfl) fk_X5_97_X0 (fun _ h => h) dX5_asks_83 ?_
  refine c_gN (k := 0) (f := 500) (q := 12) E hb hS ci_5 (sK hS (by decide) rfl) rfl rfl rfl (sRf hS (by decide) rfl) fk_X5_101_X4 (fun _ h => h) dX5_asks_86 ?_
  refine lv_iconst (v := 4) E.1 hb dX5_asks_89 rfl ?_
  refine lv_aload_n E.1 hb dX5_asks_90 rfl (lv_at hl 0 rfl) ?_
  refine c_gN (k := 5) (f := 605) (q := (x0 + 4)) E hb hS ci_6 (sK hS (st_K0 hs0).1 (st_K0 hs0).2) rfl rfl rfl (st_R (cst hS) hs0 rfl (by decide)) fk_X5_25_X5 (fun _ h => h) dX5_asks_91 ?_
  refine lv_iload_n E.1 hb dX5_asks_94 rfl (lv_at hl 1 rfl) ?_
  obtain ⟨hg, hf⟩ := sI_s hf
  refine s_ld E hb hS (t := 31) (st_K hs0 4 (by decide)) hg (Or.inl ⟨rfl, rfl⟩) dX5_asks_95 ?_
  refine lv_i2l E.1 hb dX5_asks_96 rfl ?_
  obtain ⟨A11, hg, hw, hf⟩ := tJ_s hf
  refine s_lst E hb hS ⟨by decide, rfl, rfl⟩ hg hw dX5_asks_97 (fun H locs hS => ?_)
  refine lv_aload_n E.1 hb dX5_asks_98 rfl (lv_at hl 0 rfl) ?_
  refine c_gN (k := 10) (f := 610) (q := 0) E hb hS ci_6 (sK hS (st_K0 hs0).1 (st_K0 hs0).2) rfl rfl rfl (st_R0 (cst hS) hs0) fk_X5_3_X5 (fun _ h => h) dX5_asks_99 ?_
  refine c_gN (k := 6) (f := 106) (q := 11) E hb hS ci_1 (sK hS (by decide) rfl) rfl rfl rfl (sRf hS (by decide) rfl) fk_X5_97_X0 (fun _ h => h) dX5_asks_102 ?_
  refine c_gN (k := 0) (f := 500) (q := 12) E hb hS ci_5 (sK hS (by decide) rfl) rfl rfl rfl (sRf hS (by decide) rfl) fk_X5_101_X4 (fun _ h => h) dX5_asks_105 ?_
  refine lv_iconst (v := 5) E.1 hb dX5_asks_108 rfl ?_
  refine lv_aload_n E.1 hb dX5_asks_109 rfl (lv_at hl 0 rfl) ?_
  refine c_gN (k := 3) (f := 603) (q := (x0 + 2)) E hb hS ci_6 (sK hS (st_K0 hs0).1 (st_K0 hs0).2) rfl rfl rfl (st_R (cst hS) hs0 rfl (by decide)) fk_X5_19_X5 (fun _ h => h) dX5_asks_110 ?_
  refine lv_iload_n E.1 hb dX5_asks_113 rfl (lv_at hl 1 rfl) ?_
  obtain ⟨hg, hf⟩ := sI_s hf
  refine s_ld E hb hS (t := 31) (st_K hs0 2 (by decide)) hg (Or.inl ⟨rfl, rfl⟩) dX5_asks_114 ?_
  refine lv_iload_n E.1 hb dX5_asks_115 rfl (lv_at hl 2 rfl) ?_
  obtain ⟨r13, h1, hf⟩ := bo_s hf
  refine c_ki hS (va_runSN ⟨E.1, hb, hml, E.2.1, E.2.2.1⟩ (zX0_isOpen h1) ⟨va_cnB 2 E.2.2.1 (lw_meth q1313) rfl rfl rfl (E.2.2.2.2.1 _ q1451 rfl) (E.2.2.1 _ q152) gnX0_isOpen ⟨Nat.le_of_ble_eq_true rfl, Nat.le_of_ble_eq_true rfl⟩, E.2.2.1 _ q1312, trivial⟩ (c_preS E hS _) rfl rfl hl.1 rfl (lv_room (Nat.le_of_ble_eq_true rfl)) dX5_asks_116 ⟨Nat.le_refl 0, Nat.le_refl 0⟩) hS.2.2.2.2 (fun H locs hS hn => ?_)
  refine lv_if_eq (tgt := 126) E.1 hb dX5_asks_119 (by decide) (fun hc => ?_) (fun hc => ?_)
  · have hf := it_s hc hf
    refine lv_lconst (v := 0) E.1 hb dX5_asks_126 rfl ?_
    exact hB127 A11 0 5 hf _ _ hS _ (lv_sub hl [0, 1, 2] rfl)
  · have hf := if_s hc hf
    refine lv_lconst (v := 1) E.1 hb dX5_asks_122 rfl ?_
    refine lv_goto (tgt := 127) E.1 hb dX5_asks_123 (by decide) ?_
    exact hB127 A11 1 5 hf _ _ hS _ (lv_sub hl [0, 1, 2] rfl)
theorem gw_X5_127 : GoodIn lw_all (va_wsS RX5 127 yJ12_abs_2 (ws_ yJ12_abs_2 cJ12_abs_2 2 (some .long))) := lw_S q1453 q1454 q172 q1455
theorem gnJ12_abs_2 : yJ12_abs_2.cls ≠ "java/lang/invoke/MethodHandle" ∧ yJ12_abs_2.cls ≠ "java/lang/invoke/VarHandle" ∧ (parseMethodDescriptor yJ12_abs_2.desc).map (fun d => d.parameters.length) = some 1 := by decide +kernel
theorem gw_X5_130 : GoodIn lw_all (va_wsS RX5 130 yJ12_min_2 (ws_ yJ12_min_2 cJ12_min_2 4 (some .long))) := lw_S q1456 q1275 q172 q1276
theorem gw_X5_113 : GoodIn lw_all (wsV RX5 113 RX5 yX5_asks (ws_ yX5_asks cX5_asks 3 none)) := lw_V q1447 q1449 qs47 q163 q1450
theorem gnX5_asks : yX5_asks.cls ≠ "java/lang/invoke/MethodHandle" ∧ yX5_asks.cls ≠ "java/lang/invoke/VarHandle" ∧ (parseMethodDescriptor yX5_asks.desc).map (fun d => d.parameters.length) = some 2 := by decide +kernel
theorem fk_X5_117_X1 : FLk RX5 117 "MarginFolk$Folio" (TX1 13).2.1 (TX1 13).2.2.1 := Or.inr ⟨_, q264⟩
/-! MarginFolk$State.pays(III)V: RW -/
noncomputable def X5_pays_b96 (N : Nat) (x0 : Nat) (x1 : Int32) (x2 : Int32) (x3 : Int32) (A : AH) (x4 : Int64) (x6 : Int32) (y0 : Int32) : Option (Unit × AH) :=
  bo (sI 8 31 A (x0 + 4) x6) fun v13 => bo (J12_abs_2 x4) fun r14 => bo (J12_min_2 (Int32.toInt64 v13) r14) fun r15 => bo (sI 8 31 A (x0 + 4) x6) fun v16 => bo (tI 8 31 A (x0 + 4) x6 (v16 - (Int64.toInt32 r15))) fun A17 => bo (sI 8 31 A17 (x0 + 4) y0) fun v18 => bo (J12_min 9999 (v18 + (Int64.toInt32 r15))) fun r19 => bo (tI 8 31 A17 (x0 + 4) y0 r19) fun A20 => some ((), A20)
noncomputable def X5_pays_b82 (N : Nat) (x0 : Nat) (x1 : Int32) (x2 : Int32) (x3 : Int32) (A : AH) (x4 : Int64) (y0 : Int32) : Option (Unit × AH) :=
  if 0 ≤ x4 then (X5_pays_b96 N x0 x1 x2 x3 A x4 y0 x2) else (X5_pays_b96 N x0 x1 x2 x3 A x4 y0 x1)
noncomputable def X5_pays_b68 (N : Nat) (x0 : Nat) (x1 : Int32) (x2 : Int32) (x3 : Int32) (A : AH) (y0 : Int64) : Option (Unit × AH) :=
  if 0 ≤ y0 then (X5_pays_b82 N x0 x1 x2 x3 A y0 x1) else (X5_pays_b82 N x0 x1 x2 x3 A y0 x2)
noncomputable def X5_pays (N : Nat) (A0 : AH) (x0 : Nat) (x1 : Int32) (x2 : Int32) (x3 : Int32) : Option (Unit × AH) :=
  if isStb x0 = true then (bd (X5_asks A0 x0 x1 x3) fun _ A1 => bo (X0_beingOf A1 x2) fun r2 => bo r2 fun q3 => bo (gI 7 A1 703 q3) fun v4 => bo (tJ 9 A1 12 6 (Int32.toInt64 v4)) fun A5 => bo (aR A5 100 0 0) fun q6 => bo (gR 2 A5 213 q6) fun v7 => if v7 = none then (X5_pays_b68 N x0 x1 x2 x3 A5 1) else (bo (aR A5 100 0 0) fun q8 => bo (gR 2 A5 213 q8) fun v9 => bo v9 fun q10 => bd (valF N A5 q10 11) fun r11 A12 => X5_pays_b68 N x0 x1 x2 x3 A12 r11)) else none
abbrev rX5_pays : Room := { frames := 257, cells := 0, slots := 0, locals := 5790 }
set_option maxHeartbeats 4000000 in
theorem zX5_pays {l : Launch} {dC : Nat → ClassId} {dI : Nat → Nat → Nat} {ac : Nat → ClassId} {ad : Nat → Nat} {N : Nat} {A0 : AH} {x0 : Nat} {x1 : Int32} {x2 : Int32} {x3 : Int32} {A' : AH} (hf : X5_pays N A0 x0 x1 x2 x3 = some ((), A')) : Met l yX5_pays (ws_ yX5_pays cX5_pays 9 none) { frames := 257, cells := 0, slots := 0, locals := 5790 } (va_Pc [.ref (ad x0), .int x1, .int x2, .int x3] (cPre dC dI ac ad True A0)) (cQv dC dI ac ad True (aN A0) (aS A0) (aN A0) (aS A0) A') 0 0 (cF ad) := by
  unfold X5_pays at hf
  obtain ⟨hg0, hf⟩ := gu_s hf
  have hs0 := isSt_of hg0
  refine c_of ⟨Nat.le_refl _, Nat.le_refl _⟩ RX5 (plainFor_of_name (by decide)) rfl (Nat.le_of_ble_eq_true rfl) ?_
  intro p e s m args below meth c E hb hr hlk hnm hml hS ls hl
  have hl : lv_has ls 9 [(0, .ref (ad x0)), (1, .int x1), (2, .int x2), (3, .int x3)] := hl
  have hB96 : ∀ (A : AH) (x4 : Int64) (x6 : Int32) (y0 : Int32), X5_pays_b96 N x0 x1 x2 x3 A x4 x6 y0 = some ((), A') → ∀ (H : Heap) (locs : List Loc), cS dC dI ac ad True s.heap (aN A0) (aS A0) (aN A0) (aS A0) A H locs → ∀ (ls : Array Slot), lv_has ls 9 [(0, .ref (ad x0)), (1, .int x1), (2, .int x2), (3, .int x3), (4, .long x4), (6, .int x6)] → W p l e rX5_pays s m args below meth c H locs 0 0 (MQ below (cQv dC dI ac ad True (aN A0) (aS A0) (aN A0) (aS A0) A') args s 0 0 (cF ad)) (F0 m 96 ls [.int y0]) := by
    intro A x4 x6 y0 hf H locs hS ls hl
    unfold X5_pays_b96 at hf
    refine lv_istore (lv' := [(7, .int y0), (0, .ref (ad x0)), (1, .int x1), (2, .int x2), (3, .int x3), (4, .long x4), (6, .int x6)]) E.1 hb dX5_pays_96 hl (by decide) rfl (fun ls hl => ?_)
    refine lv_aload_n E.1 hb dX5_pays_98 rfl (lv_at hl 1 rfl) ?_
    refine c_gN (k := 5) (f := 605) (q := (x0 + 4)) E hb hS ci_6 (sK hS (st_K0 hs0).1 (st_K0 hs0).2) rfl rfl rfl (st_R (cst hS) hs0 rfl (by decide)) fk_X5_25_X5 (fun _ h => h) dX5_pays_99 ?_
    refine lv_iload E.1 hb dX5_pays_102 (lv_at hl 6 rfl) ?_
    obtain ⟨hg, hf⟩ := sI_s hf
    refine s_ld E hb hS (t := 31) (st_K hs0 4 (by decide)) hg (Or.inl ⟨rfl, rfl⟩) dX5_pays_104 ?_
    refine lv_i2l E.1 hb dX5_pays_105 rfl ?_
    refine lv_lload E.1 hb dX5_pays_106 (lv_at hl 5 rfl) ?_
    obtain ⟨r14, h1, hf⟩ := bo_s hf
    refine c_kl hS (va_runS ⟨E.1, hb, hml, E.2.1, E.2.2.1⟩ (zJ12_abs_2 h1) (va_cwS 1 E.2.2.1 gw_X5_127 rfl rfl rfl gnJ12_abs_2 ⟨Nat.le_of_ble_eq_true rfl, Nat.le_of_ble_eq_true rfl⟩) (c_preS E hS _) rfl rfl hl.1 rfl (lv_room (Nat.le_of_ble_eq_true rfl)) dX5_pays_108 ⟨Nat.le_refl 0, Nat.le_refl 0⟩) hS.2.2.2.2 (fun H locs hS hn => ?_)
    obtain ⟨r15, h1, hf⟩ := bo_s hf
    refine c_kl hS (va_runS ⟨E.1, hb, hml, E.2.1, E.2.2.1⟩ (zJ12_min_2 h1) (va_cwS 2 E.2.2.1 gw_X5_130 rfl rfl rfl gnJ12_min_2 ⟨Nat.le_of_ble_eq_true rfl, Nat.le_of_ble_eq_true rfl⟩) (c_preS E hS _) rfl rfl hl.1 rfl (lv_room (Nat.le_of_ble_eq_true rfl)) dX5_pays_111 ⟨Nat.le_refl 0, Nat.le_refl 0⟩) hS.2.2.2.2 (fun H locs hS hn => ?_)
    refine lv_l2i E.1 hb dX5_pays_114 rfl ?_
    refine lv_istore (lv' := [(8, .int (Int64.toInt32 r15)), (7, .int y0), (0, .ref (ad x0)), (1, .int x1), (2, .int x2), (3, .int x3), (4, .long x4), (6, .int x6)]) E.1 hb dX5_pays_115 hl (by decide) rfl (fun ls hl => ?_)
    refine lv_aload_n E.1 hb dX5_pays_117 rfl (lv_at hl 2 rfl) ?_
    refine c_gN (k := 5) (f := 605) (q := (x0 + 4)) E hb hS ci_6 (sK hS (st_K0 hs0).1 (st_K0 hs0).2) rfl rfl rfl (st_R (cst hS) hs0 rfl (by decide)) fk_X5_25_X5 (fun _ h => h) dX5_pays_118 ?_
    refine lv_iload E.1 hb dX5_pays_121 (lv_at hl 7 rfl) ?_
    refine lv_dup2_11 E.1 hb dX5_pays_123 rfl rfl ?_
    obtain ⟨hg, hf⟩ := sI_s hf
    refine s_ld E hb hS (t := 31) (st_K hs0 4 (by decide)) hg (Or.inl ⟨rfl, rfl⟩) dX5_pays_124 ?_
    refine lv_iload E.1 hb dX5_pays_125 (lv_at hl 0 rfl) ?_
    refine lv_isub E.1 hb dX5_pays_127 ?_
    obtain ⟨A17, hg, hw, hf⟩ := tI_s hf
    refine s_st E hb hS (t := 31) (st_K hs0 4 (by decide)) hg (Or.inl ⟨rfl, rfl, rfl⟩) hw dX5_pays_128 (fun H locs hS => ?_)
    refine lv_aload_n E.1 hb dX5_pays_129 rfl (lv_at hl 2 rfl) ?_
    refine c_gN (k := 5) (f := 605) (q := (x0 + 4)) E hb hS ci_6 (sK hS (st_K0 hs0).1 (st_K0 hs0).2) rfl rfl rfl (st_R (cst hS) hs0 rfl (by decide)) fk_X5_25_X5 (fun _ h => h) dX5_pays_130 ?_
    refine lv_iload E.1 hb dX5_pays_133 (lv_at hl 1 rfl) ?_
    refine lv_sipush (v := 9999) E.1 hb dX5_pays_135 rfl ?_
    refine lv_aload_n E.1 hb dX5_pays_138 rfl (lv_at hl 2 rfl) ?_
    refine c_gN (k := 5) (f := 605) (q := (x0 + 4)) E hb hS ci_6 (sK hS (st_K0 hs0).1 (st_K0 hs0).2) rfl rfl rfl (st_R (cst hS) hs0 rfl (by decide)) fk_X5_25_X5 (fun _ h => h) dX5_pays_139 ?_
    refine lv_iload E.1 hb dX5_pays_142 (lv_at hl 1 rfl) ?_
    obtain ⟨hg, hf⟩ := sI_s hf
    refine s_ld E hb hS (t := 31) (st_K hs0 4 (by decide)) hg (Or.inl ⟨rfl, rfl⟩) dX5_pays_144 ?_
    refine lv_iload E.1 hb dX5_pays_145 (lv_at hl 0 rfl) ?_
    refine lv_iadd E.1 hb dX5_pays_147 ?_
    obtain ⟨r19, h1, hf⟩ := bo_s hf
    refine c_ki hS (va_runS ⟨E.1, hb, hml, E.2.1, E.2.2.1⟩ (zJ12_min h1) (va_cwS 2 E.2.2.1 gw_X5_84 rfl rfl rfl gnJ12_min ⟨Nat.le_of_ble_eq_true rfl, Nat.le_of_ble_eq_true rfl⟩) (c_preS E hS _) rfl rfl hl.1 rfl (lv_room (Nat.le_of_ble_eq_true rfl)) dX5_pays_148 ⟨Nat.le_refl 0, Nat.le_refl 0⟩) hS.2.2.2.2 (fun H locs hS hn => ?_)
    obtain ⟨A20, hg, hw, hf⟩ := tI_s hf
    refine s_st E hb hS (t := 31) (st_K hs0 4 (by decide)) hg (Or.inl ⟨rfl, rfl, rfl⟩) hw dX5_pays_151 (fun H locs hS => ?_)
    exact c_vr E hb hr hlk hS ⟨Nat.le_refl 0, Nat.le_refl 0⟩ hf dX5_pays_152
  have hB82 : ∀ (A : AH) (x4 : Int64) (y0 : Int32), X5_pays_b82 N x0 x1 x2 x3 A x4 y0 = some ((), A') → ∀ (H : Heap) (locs : List Loc), cS dC dI ac ad True s.heap (aN A0) (aS A0) (aN A0) (aS A0) A H locs → ∀ (ls : Array Slot), lv_has ls 9 [(0, .ref (ad x0)), (1, .int x1), (2, .int x2), (3, .int x3), (4, .long x4)] → W p l e rX5_pays s m args below meth c H locs 0 0 (MQ below (cQv dC dI ac ad True (aN A0) (aS A0) (aN A0) (aS A0) A') args s 0 0 (cF ad)) (F0 m 82 ls [.int y0]) := by
    intro A x4 y0 hf H locs hS ls hl
    unfold X5_pays_b82 at hf
    refine lv_istore (lv' := [(6, .int y0), (0, .ref (ad x0)), (1, .int x1), (2, .int x2), (3, .int x3), (4, .long x4)]) E.1 hb dX5_pays_82 hl (by decide) rfl (fun ls hl => ?_)
    refine lv_lload E.1 hb dX5_pays_84 (lv_at hl 5 rfl) ?_
    refine lv_lconst (v := 0) E.1 hb dX5_pays_86 rfl ?_
    refine lv_lc_ge (tgt := 95) E.1 hb dX5_pays_87 dX5_pays_88 (by decide) (fun hc => ?_) (fun hc => ?_)
    · have hf := it_s hc hf
      refine lv_iload_n E.1 hb dX5_pays_95 rfl (lv_at hl 3 rfl) ?_
      exact hB96 A x4 y0 x2 hf _ _ hS _ (lv_sub hl [1, 2, 3, 4, 5, 0] rfl)
    · have hf := if_s hc hf
      refine lv_iload_n E.1 hb dX5_pays_91 rfl (lv_at hl 2 rfl) ?_
      refine lv_goto (tgt := 96) E.1 hb dX5_pays_92 (by decide) ?_
      exact hB96 A x4 y0 x1 hf _ _ hS _ (lv_sub hl [1, 2, 3, 4, 5, 0] rfl)
  have hB68 : ∀ (A : AH) (y0 : Int64), X5_pays_b68 N x0 x1 x2 x3 A y0 = some ((), A') → ∀ (H : Heap) (locs : List Loc), cS dC dI ac ad True s.heap (aN A0) (aS A0) (aN A0) (aS A0) A H locs → ∀ (ls : Array Slot), lv_has ls 9 [(0, .ref (ad x0)), (1, .int x1), (2, .int x2), (3, .int x3)] → W p l e rX5_pays s m args below meth c H locs 0 0 (MQ below (cQv dC dI ac ad True (aN A0) (aS A0) (aN A0) (aS A0) A') args s 0 0 (cF ad)) (F0 m 68 ls [.long y0]) := by
    intro A y0 hf H locs hS ls hl
    unfold X5_pays_b68 at hf
    refine lv_lstore (lv' := [(4, .long y0), (0, .ref (ad x0)), (1, .int x1), (2, .int x2), (3, .int x3)]) E.1 hb dX5_pays_68 hl (by decide) rfl (fun ls hl => ?_)
    refine lv_lload E.1 hb dX5_pays_70 (lv_at hl 0 rfl) ?_
    refine lv_lconst (v := 0) E.1 hb dX5_pays_72 rfl ?_
    refine lv_lc_ge (tgt := 81) E.1 hb dX5_pays_73 dX5_pays_74 (by decide) (fun hc => ?_) (fun hc => ?_)
    · have hf := it_s hc hf
      refine lv_iload_n E.1 hb dX5_pays_81 rfl (lv_at hl 2 rfl) ?_
      exact hB82 A y0 x1 hf _ _ hS _ (lv_sub hl [1, 2, 3, 4, 0] rfl)
    · have hf := if_s hc hf
      refine lv_iload_n E.1 hb dX5_pays_77 rfl (lv_at hl 3 rfl) ?_
      refine lv_goto (tgt := 82) E.1 hb dX5_pays_78 (by decide) ?_
      exact hB82 A y0 x2 hf _ _ hS _ (lv_sub hl [1, 2, 3, 4, 0] rfl)
  refine lv_aload_n E.1 hb dX5_pays_0 rfl (lv_at hl 0 rfl) ?_
  refine lv_iload_n E.1 hb dX5_pays_1 rfl (lv_at hl 1 rfl) ?_
  refine lv_iload_n E.1 hb dX5_pays_2 rfl (lv_at hl 3 rfl) ?_
  obtain ⟨_, A1, h1, hf⟩ := bd_s hf
  refine c_kv hS (va_runV ⟨E.1, hb, hml, E.2.1, E.2.2.1⟩ (zX5_asks h1) (cwV 2 E.2.2.1 gw_X5_113 rfl rfl rfl ⟨rfl, gnX5_asks⟩ ⟨Nat.le_of_ble_eq_true rfl, Nat.le_of_ble_eq_true rfl⟩) (c_preV E hS ci_6 (sK hS (st_K0 hs0).1 (st_K0 hs0).2) (hS.1.lt (sK hS (st_K0 hs0).1 (st_K0 hs0).2) rfl) _) rfl rfl hl.1 rfl (lv_room (Nat.le_of_ble_eq_true rfl)) dX5_pays_3 ⟨Nat.le_refl 0, Nat.le_refl 0⟩) hS.2.2.2.2 (fun H locs hS hn => ?_)
  refine lv_aload_n E.1 hb dX5_pays_6 rfl (lv_at hl 0 rfl) ?_
  refine c_gN (k := 10) (f := 610) (q := 0) E hb hS ci_6 (sK hS (st_K0 hs0).1 (st_K0 hs0).2) rfl rfl rfl (st_R0 (cst hS) hs0) fk_X5_3_X5 (fun _ h => h) dX5_pays_7 ?_
  refine c_gN (k := 6) (f := 106) (q := 11) E hb hS ci_1 (sK hS (by decide) rfl) rfl rfl rfl (sRf hS (by decide) rfl) fk_X5_97_X0 (fun _ h => h) dX5_pays_10 ?_
  refine c_gN (k := 0) (f := 500) (q := 12) E hb hS ci_5 (sK hS (by decide) rfl) rfl rfl rfl (sRf hS (by decide) rfl) fk_X5_101_X4 (fun _ h => h) dX5_pays_13 ?_
  refine lv_bipush (v := 6) E.1 hb dX5_pays_16 rfl ?_
  refine lv_aload_n E.1 hb dX5_pays_18 rfl (lv_at hl 0 rfl) ?_
  refine c_gN (k := 10) (f := 610) (q := 0) E hb hS ci_6 (sK hS (st_K0 hs0).1 (st_K0 hs0).2) rfl rfl rfl (st_R0 (cst hS) hs0) fk_X5_3_X5 (fun _ h => h) dX5_pays_19 ?_
  refine lv_iload_n E.1 hb dX5_pays_22 rfl (lv_at hl 2 rfl) ?_
  obtain ⟨r2, h1, hf⟩ := bo_s hf
  refine c_kq hS (va_runVN ⟨E.1, hb, hml, E.2.1, E.2.2.1⟩ (zX0_beingOf h1) ⟨va_cnB 1 E.2.2.1 (lw_meth q1240) rfl rfl rfl (E.2.2.2.2.1 _ q1237 rfl) (E.2.2.1 _ q152) gnX0_beingOf ⟨Nat.le_of_ble_eq_true rfl, Nat.le_of_ble_eq_true rfl⟩, E.2.2.1 _ q1239, E.2.2.1 _ qs35⟩ (c_preV E hS ci_1 (sK hS (by decide) rfl) (hS.1.lt (sK hS (by decide) rfl) rfl) _) rfl rfl hl.1 rfl (lv_room (Nat.le_of_ble_eq_true rfl)) dX5_pays_23 ⟨Nat.le_refl 0, Nat.le_refl 0⟩) hS.2.2.2.2 (fun H locs hS hn => ?_)
  obtain ⟨q3, hr9, hf⟩ := bo_s hf
  refine c_dr hr9 ?_
  obtain ⟨hk, hf⟩ := gI_s hf
  refine c_gI (k := 3) (f := 703) E hb hS ci_7 hk rfl rfl rfl fk_X5_107_X7 (fun _ h => h) dX5_pays_26 ?_
  refine lv_i2l E.1 hb dX5_pays_29 rfl ?_
  obtain ⟨A5, hg, hw, hf⟩ := tJ_s hf
  refine s_lst E hb hS ⟨by decide, rfl, rfl⟩ hg hw dX5_pays_30 (fun H locs hS => ?_)
  refine lv_aload_n E.1 hb dX5_pays_31 rfl (lv_at hl 0 rfl) ?_
  refine c_gN (k := 10) (f := 610) (q := 0) E hb hS ci_6 (sK hS (st_K0 hs0).1 (st_K0 hs0).2) rfl rfl rfl (st_R0 (cst hS) hs0) fk_X5_3_X5 (fun _ h => h) dX5_pays_32 ?_
  obtain ⟨q6, hr7, hf⟩ := bo_s hf
  refine c_gN (k := 0) (f := 100) E hb hS ci_1 (sK hS (by decide) rfl) rfl rfl rfl hr7 fk_X5_46_X0 (fun _ h => h) dX5_pays_35 ?_
  obtain ⟨hk, hf⟩ := gR_s hf
  refine c_gR (k := 13) (f := 213) E hb hS ci_2 hk rfl rfl rfl fk_X5_117_X1 (fun _ h => h) dX5_pays_38 ?_
  refine c_ifnonnull (tgt := 48) E hb dX5_pays_41 (by decide) (fun hc => ?_) (fun hc => ?_)
  · have hf := if_s hc hf
    refine lv_aload_n E.1 hb dX5_pays_48 rfl (lv_at hl 0 rfl) ?_
    refine c_gN (k := 10) (f := 610) (q := 0) E hb hS ci_6 (sK hS (st_K0 hs0).1 (st_K0 hs0).2) rfl rfl rfl (st_R0 (cst hS) hs0) fk_X5_3_X5 (fun _ h => h) dX5_pays_49 ?_
    obtain ⟨q8, hr7, hf⟩ := bo_s hf
    refine c_gN (k := 0) (f := 100) E hb hS ci_1 (sK hS (by decide) rfl) rfl rfl rfl hr7 fk_X5_46_X0 (fun _ h => h) dX5_pays_52 ?_
    obtain ⟨hk, hf⟩ := gR_s hf
    refine c_gR (k := 13) (f := 213) E hb hS ci_2 hk rfl rfl rfl fk_X5_117_X1 (fun _ h => h) dX5_pays_55 ?_
    refine lv_aload_n E.1 hb dX5_pays_58 rfl (lv_at hl 0 rfl) ?_
    refine c_gN (k := 10) (f := 610) (q := 0) E hb hS ci_6 (sK hS (st_K0 hs0).1 (st_K0 hs0).2) rfl rfl rfl (st_R0 (cst hS) hs0) fk_X5_3_X5 (fun _ h => h) dX5_pays_59 ?_
    refine c_gN (k := 6) (f := 106) (q := 11) E hb hS ci_1 (sK hS (by decide) rfl) rfl rfl rfl (sRf hS (by decide) rfl) fk_X5_97_X0 (fun _ h => h) dX5_pays_62 ?_
    obtain ⟨q10, hr9, hf⟩ := bo_s hf
    refine c_dr2 hr9 ?_
    obtain ⟨r11, A12, h1, hf⟩ := bd_s hf
    refine c_kl hS (c_runRcV E hb hml hS zvalF h1 q1452 ⟨Nat.le_of_ble_eq_true rfl, Nat.le_of_ble_eq_true rfl⟩ hl.1 (lv_room (Nat.le_of_ble_eq_true rfl)) dX5_pays_65 ⟨Nat.le_refl 0, Nat.le_refl 0⟩) hS.2.2.2.2 (fun H locs hS hn => ?_)
    exact hB68 A12 r11 hf _ _ hS _ (lv_sub hl [0, 1, 2, 3] rfl)
  · have hf := it_s hc hf
    refine lv_lconst (v := 1) E.1 hb dX5_pays_44 rfl ?_
    refine lv_goto (tgt := 68) E.1 hb dX5_pays_45 (by decide) ?_
    exact hB68 A5 1 hf _ _ hS _ (lv_sub hl [0, 1, 2, 3] rfl)
/-! MarginFolk$State.tells(II)V: RW -/
noncomputable def X5_tells_b66 (N : Nat) (x0 : Nat) (x1 : Int32) (x2 : Int32) (A : AH) : Option (Unit × AH) :=
  bo (sR 40 36 A (x0 + 6) (aI A 601 x0 0)) fun q1 => bo (uI_ 31 A q1 0 (aI A 600 x0 0)) fun A2 => bo (sR 40 36 A2 (x0 + 6) (aI A2 601 x0 0)) fun q3 => bo (uI_ 31 A2 q3 1 x1) fun A4 => bo (sR 40 36 A4 (x0 + 6) (aI A4 601 x0 0)) fun q5 => bo (uI_ 31 A4 q5 2 x2) fun A6 => lt2 (wI A6 601 x0 0 ((aI A6 601 x0 0) + 1)) fun A7 => some ((), A7)
noncomputable def X5_tells_b19 (N : Nat) (x0 : Nat) (x1 : Int32) (x2 : Int32) (k19 : AH → Nat → Int32 → Option (Unit × AH)) (A : AH) (x3 : Nat) (x4 : Int32) : Option (Unit × AH) :=
  if 40 ≤ x4 then (bo (tR 40 36 A (x0 + 6) 39 x3) fun A9 => lt2 (wI A9 601 x0 0 ((aI A9 601 x0 0) - 1)) fun A10 => X5_tells_b66 N x0 x1 x2 A10) else (bo (sR 40 36 A (x0 + 6) x4) fun q11 => bo (tR 40 36 A (x0 + 6) (x4 - 1) q11) fun A12 => k19 A12 x3 (x4 + 1))
noncomputable def X5_tells (N : Nat) (A0 : AH) (x0 : Nat) (x1 : Int32) (x2 : Int32) : Option (Unit × AH) :=
  if isStb x0 = true then (if (aI A0 601 x0 0) = 40 then (bo (sR 40 36 A0 (x0 + 6) 0) fun q8 => rn3 (X5_tells_b19 N x0 x1 x2) N A0 q8 1) else (X5_tells_b66 N x0 x1 x2 A0)) else none
abbrev rX5_tells : Room := { frames := 0, cells := 0, slots := 0, locals := 0 }
set_option maxHeartbeats 4000000 in
theorem zX5_tells {l : Launch} {dC : Nat → ClassId} {dI : Nat → Nat → Nat} {ac : Nat → ClassId} {ad : Nat → Nat} {N : Nat} {A0 : AH} {x0 : Nat} {x1 : Int32} {x2 : Int32} {A' : AH} (hf : X5_tells N A0 x0 x1 x2 = some ((), A')) : Met l yX5_tells (ws_ yX5_tells cX5_tells 5 none) { frames := 0, cells := 0, slots := 0, locals := 0 } (va_Pc [.ref (ad x0), .int x1, .int x2] (cPre dC dI ac ad True A0)) (cQv dC dI ac ad True (aN A0) (aS A0) (aN A0) (aS A0) A') 0 0 (cF ad) := by
  unfold X5_tells at hf
  obtain ⟨hg0, hf⟩ := gu_s hf
  have hs0 := isSt_of hg0
  refine c_of ⟨Nat.le_refl _, Nat.le_refl _⟩ RX5 (plainFor_of_name (by decide)) rfl (Nat.le_of_ble_eq_true rfl) ?_
  intro p e s m args below meth c E hb hr hlk hnm hml hS ls hl
  have hl : lv_has ls 5 [(0, .ref (ad x0)), (1, .int x1), (2, .int x2)] := hl
  have hB66 : ∀ (A : AH), X5_tells_b66 N x0 x1 x2 A = some ((), A') → ∀ (H : Heap) (locs : List Loc), cS dC dI ac ad True s.heap (aN A0) (aS A0) (aN A0) (aS A0) A H locs → ∀ (ls : Array Slot), lv_has ls 5 [(0, .ref (ad x0)), (1, .int x1), (2, .int x2)] → W p l e rX5_tells s m args below meth c H locs 0 0 (MQ below (cQv dC dI ac ad True (aN A0) (aS A0) (aN A0) (aS A0) A') args s 0 0 (cF ad)) (F0 m 66 ls []) := by
    intro A hf H locs hS ls hl
    unfold X5_tells_b66 at hf
    refine lv_aload_n E.1 hb dX5_tells_66 rfl (lv_at hl 0 rfl) ?_
    refine c_gN (k := 7) (f := 607) (q := (x0 + 6)) E hb hS ci_6 (sK hS (st_K0 hs0).1 (st_K0 hs0).2) rfl rfl rfl (st_R (cst hS) hs0 rfl (by decide)) fk_X5_33_X5 (fun _ h => h) dX5_tells_67 ?_
    refine lv_aload_n E.1 hb dX5_tells_70 rfl (lv_at hl 0 rfl) ?_
    refine c_gI (k := 1) (f := 601) E hb hS ci_6 (sK hS (st_K0 hs0).1 (st_K0 hs0).2) rfl rfl rfl fk_X5_43_X5 (fun _ h => h) dX5_tells_71 ?_
    obtain ⟨q1, hg, hf⟩ := sR_s hf
    refine s_ald E hb hS (t := 36) (st_K hs0 6 (by decide)) (by decide) hg dX5_tells_74 ?_
    refine lv_iconst (v := 0) E.1 hb dX5_tells_75 rfl ?_
    refine lv_aload_n E.1 hb dX5_tells_76 rfl (lv_at hl 0 rfl) ?_
    refine c_gI (k := 0) (f := 600) E hb hS ci_6 (sK hS (st_K0 hs0).1 (st_K0 hs0).2) rfl rfl rfl fk_X5_39_X5 (fun _ h => h) dX5_tells_77 ?_
    obtain ⟨A2, hg, hw, hf⟩ := uI_s hf
    refine d_st E hb hS hg rfl (Or.inl ⟨rfl, rfl, rfl⟩) hw dX5_tells_80 (fun H locs hS => ?_)
    refine lv_aload_n E.1 hb dX5_tells_81 rfl (lv_at hl 0 rfl) ?_
    refine c_gN (k := 7) (f := 607) (q := (x0 + 6)) E hb hS ci_6 (sK hS (st_K0 hs0).1 (st_K0 hs0).2) rfl rfl rfl (st_R (cst hS) hs0 rfl (by decide)) fk_X5_33_X5 (fun _ h => h) dX5_tells_82 ?_
    refine lv_aload_n E.1 hb dX5_tells_85 rfl (lv_at hl 0 rfl) ?_
    refine c_gI (k := 1) (f := 601) E hb hS ci_6 (sK hS (st_K0 hs0).1 (st_K0 hs0).2) rfl rfl rfl fk_X5_43_X5 (fun _ h => h) dX5_tells_86 ?_
    obtain ⟨q3, hg, hf⟩ := sR_s hf
    refine s_ald E hb hS (t := 36) (st_K hs0 6 (by decide)) (by decide) hg dX5_tells_89 ?_
    refine lv_iconst (v := 1) E.1 hb dX5_tells_90 rfl ?_
    refine lv_iload_n E.1 hb dX5_tells_91 rfl (lv_at hl 1 rfl) ?_
    obtain ⟨A4, hg, hw, hf⟩ := uI_s hf
    refine d_st E hb hS hg rfl (Or.inl ⟨rfl, rfl, rfl⟩) hw dX5_tells_92 (fun H locs hS => ?_)
    refine lv_aload_n E.1 hb dX5_tells_93 rfl (lv_at hl 0 rfl) ?_
    refine c_gN (k := 7) (f := 607) (q := (x0 + 6)) E hb hS ci_6 (sK hS (st_K0 hs0).1 (st_K0 hs0).2) rfl rfl rfl (st_R (cst hS) hs0 rfl (by decide)) fk_X5_33_X5 (fun _ h => h) dX5_tells_94 ?_
    refine lv_aload_n E.1 hb dX5_tells_97 rfl (lv_at hl 0 rfl) ?_
    refine c_gI (k := 1) (f := 601) E hb hS ci_6 (sK hS (st_K0 hs0).1 (st_K0 hs0).2) rfl rfl rfl fk_X5_43_X5 (fun _ h => h) dX5_tells_98 ?_
    obtain ⟨q5, hg, hf⟩ := sR_s hf
    refine s_ald E hb hS (t := 36) (st_K hs0 6 (by decide)) (by decide) hg dX5_tells_101 ?_
    refine lv_iconst (v := 2) E.1 hb dX5_tells_102 rfl ?_
    refine lv_iload_n E.1 hb dX5_tells_103 rfl (lv_at hl 2 rfl) ?_
    obtain ⟨A6, hg, hw, hf⟩ := uI_s hf
    refine d_st E hb hS hg rfl (Or.inl ⟨rfl, rfl, rfl⟩) hw dX5_tells_104 (fun H locs hS => ?_)
    refine lv_aload_n E.1 hb dX5_tells_105 rfl (lv_at hl 0 rfl) ?_
    refine lv_dup E.1 hb dX5_tells_106 rfl ?_
    refine c_gI (k := 1) (f := 601) E hb hS ci_6 (sK hS (st_K0 hs0).1 (st_K0 hs0).2) rfl rfl rfl fk_X5_43_X5 (fun _ h => h) dX5_tells_107 ?_
    refine lv_iconst (v := 1) E.1 hb dX5_tells_110 rfl ?_
    refine lv_iadd E.1 hb dX5_tells_111 ?_
    obtain ⟨A7, hw, hf⟩ := lt2_s hf
    refine c_pI (k := 1) (f := 601) E hb hS ci_6 (sK hS (st_K0 hs0).1 (st_K0 hs0).2) (hS.1.lt (sK hS (st_K0 hs0).1 (st_K0 hs0).2) rfl) rfl rfl (Or.inl rfl) fk_X5_43_X5 (fun _ h => h) rfl rfl hw dX5_tells_112 (fun H locs hS => ?_)
    exact c_vr E hb hr hlk hS ⟨Nat.le_refl 0, Nat.le_refl 0⟩ hf dX5_tells_115
  have hL19 : ∀ (n : Nat) (A : AH) (x3 : Nat) (x4 : Int32), rn3 (X5_tells_b19 N x0 x1 x2) n A x3 x4 = some ((), A') → ∀ (H : Heap) (locs : List Loc), cS dC dI ac ad True s.heap (aN A0) (aS A0) (aN A0) (aS A0) A H locs → ∀ (ls : Array Slot), lv_has ls 5 [(0, .ref (ad x0)), (1, .int x1), (2, .int x2), (3, .ref (ad x3)), (4, .int x4)] → W p l e rX5_tells s m args below meth c H locs 0 0 (MQ below (cQv dC dI ac ad True (aN A0) (aS A0) (aN A0) (aS A0) A') args s 0 0 (cF ad)) (F0 m 19 ls []) := by
    intro  n
    induction n with
    | zero =>
      intro A x3 x4 hf
      cases hf
    | succ n ih =>
      intro A x3 x4 hf H locs hS ls hl
      have hf : X5_tells_b19 N x0 x1 x2 (rn3 (X5_tells_b19 N x0 x1 x2) n) A x3 x4 = some ((), A') := hf
      have hk19 := ih
      generalize rn3 (X5_tells_b19 N x0 x1 x2) n = k19 at hf hk19
      unfold X5_tells_b19 at hf
      refine lv_iload E.1 hb dX5_tells_19 (lv_at hl 4 rfl) ?_
      refine lv_bipush (v := 40) E.1 hb dX5_tells_21 rfl ?_
      refine lv_icmp_ge (tgt := 48) E.1 hb dX5_tells_23 (by decide) (fun hc => ?_) (fun hc => ?_)
      · have hf := it_s hc hf
        refine lv_aload_n E.1 hb dX5_tells_48 rfl (lv_at hl 0 rfl) ?_
        refine c_gN (k := 7) (f := 607) (q := (x0 + 6)) E hb hS ci_6 (sK hS (st_K0 hs0).1 (st_K0 hs0).2) rfl rfl rfl (st_R (cst hS) hs0 rfl (by decide)) fk_X5_33_X5 (fun _ h => h) dX5_tells_49 ?_
        refine lv_bipush (v := 39) E.1 hb dX5_tells_52 rfl ?_
        refine lv_aload_n E.1 hb dX5_tells_54 rfl (lv_at hl 3 rfl) ?_
        obtain ⟨A9, hg, hw, hf⟩ := tR_s hf
        have h1 : (x0 + 6) < 1101 ∧ stK (x0 + 6) = 36 ∧ stLn (x0 + 6) = 40 := (st_K hs0 6 (by decide))
        refine c_ast36 E hb hS ⟨sK hS h1.1 h1.2.1, by rw [sLn hS h1.1 h1.2.2]; exact hg.1⟩ hg.2 hw dX5_tells_55 (fun H locs hS => ?_)
        refine lv_aload_n E.1 hb dX5_tells_56 rfl (lv_at hl 0 rfl) ?_
        refine lv_dup E.1 hb dX5_tells_57 rfl ?_
        refine c_gI (k := 1) (f := 601) E hb hS ci_6 (sK hS (st_K0 hs0).1 (st_K0 hs0).2) rfl rfl rfl fk_X5_43_X5 (fun _ h => h) dX5_tells_58 ?_
        refine lv_iconst (v := 1) E.1 hb dX5_tells_61 rfl ?_
        refine lv_isub E.1 hb dX5_tells_62 ?_
        obtain ⟨A10, hw, hf⟩ := lt2_s hf
        refine c_pI (k := 1) (f := 601) E hb hS ci_6 (sK hS (st_K0 hs0).1 (st_K0 hs0).2) (hS.1.lt (sK hS (st_K0 hs0).1 (st_K0 hs0).2) rfl) rfl rfl (Or.inl rfl) fk_X5_43_X5 (fun _ h => h) rfl rfl hw dX5_tells_63 (fun H locs hS => ?_)
        exact hB66 A10 hf _ _ hS _ (lv_sub hl [0, 1, 2] rfl)
      · have hf := if_s hc hf
        refine lv_aload_n E.1 hb dX5_tells_26 rfl (lv_at hl 0 rfl) ?_
        refine c_gN (k := 7) (f := 607) (q := (x0 + 6)) E hb hS ci_6 (sK hS (st_K0 hs0).1 (st_K0 hs0).2) rfl rfl rfl (st_R (cst hS) hs0 rfl (by decide)) fk_X5_33_X5 (fun _ h => h) dX5_tells_27 ?_
        refine lv_iload E.1 hb dX5_tells_30 (lv_at hl 4 rfl) ?_
        refine lv_iconst (v := 1) E.1 hb dX5_tells_32 rfl ?_
        refine lv_isub E.1 hb dX5_tells_33 ?_
        refine lv_aload_n E.1 hb dX5_tells_34 rfl (lv_at hl 0 rfl) ?_
        refine c_gN (k := 7) (f := 607) (q := (x0 + 6)) E hb hS ci_6 (sK hS (st_K0 hs0).1 (st_K0 hs0).2) rfl rfl rfl (st_R (cst hS) hs0 rfl (by decide)) fk_X5_33_X5 (fun _ h => h) dX5_tells_35 ?_
        refine lv_iload E.1 hb dX5_tells_38 (lv_at hl 4 rfl) ?_
        obtain ⟨q11, hg, hf⟩ := sR_s hf
        refine s_ald E hb hS (t := 36) (st_K hs0 6 (by decide)) (by decide) hg dX5_tells_40 ?_
        obtain ⟨A12, hg, hw, hf⟩ := tR_s hf
        have h1 : (x0 + 6) < 1101 ∧ stK (x0 + 6) = 36 ∧ stLn (x0 + 6) = 40 := (st_K hs0 6 (by decide))
        refine c_ast36 E hb hS ⟨sK hS h1.1 h1.2.1, by rw [sLn hS h1.1 h1.2.2]; exact hg.1⟩ hg.2 hw dX5_tells_41 (fun H locs hS => ?_)
        refine lv_iinc (v := (x4 + 1)) (lv' := [(4, .int (x4 + 1)), (0, .ref (ad x0)), (1, .int x1), (2, .int x2), (3, .ref (ad x3))]) E.1 hb dX5_tells_42 hl (k := 4) rfl rfl (by decide) rfl (fun ls hl => ?_)
        refine lv_goto (tgt := 19) E.1 hb dX5_tells_45 (by decide) ?_
        exact hk19 A12 x3 (x4 + 1) hf _ _ hS _ (lv_sub hl [1, 2, 3, 4, 0] rfl)
  refine lv_aload_n E.1 hb dX5_tells_0 rfl (lv_at hl 0 rfl) ?_
  refine c_gI (k := 1) (f := 601) E hb hS ci_6 (sK hS (st_K0 hs0).1 (st_K0 hs0).2) rfl rfl rfl fk_X5_43_X5 (fun _ h => h) dX5_tells_1 ?_
  refine lv_bipush (v := 40) E.1 hb dX5_tells_4 rfl ?_
  refine lv_icmp_ne (tgt := 66) E.1 hb dX5_tells_6 (by decide) (fun hc => ?_) (fun hc => ?_)
  · have hf := if_s hc hf
    exact hB66 A0 hf _ _ hS _ (lv_sub hl [0, 1, 2] rfl)
  · have hf := it_s hc hf
    refine lv_aload_n E.1 hb dX5_tells_9 rfl (lv_at hl 0 rfl) ?_
    refine c_gN (k := 7) (f := 607) (q := (x0 + 6)) E hb hS ci_6 (sK hS (st_K0 hs0).1 (st_K0 hs0).2) rfl rfl rfl (st_R (cst hS) hs0 rfl (by decide)) fk_X5_33_X5 (fun _ h => h) dX5_tells_10 ?_
    refine lv_iconst (v := 0) E.1 hb dX5_tells_13 rfl ?_
    obtain ⟨q8, hg, hf⟩ := sR_s hf
    refine s_ald E hb hS (t := 36) (st_K hs0 6 (by decide)) (by decide) hg dX5_tells_14 ?_
    refine lv_astore_n (lv' := [(3, .ref (ad q8)), (0, .ref (ad x0)), (1, .int x1), (2, .int x2)]) E.1 hb dX5_tells_15 rfl hl (by decide) rfl (fun ls hl => ?_)
    refine lv_iconst (v := 1) E.1 hb dX5_tells_16 rfl ?_
    refine lv_istore (lv' := [(4, .int 1), (3, .ref (ad q8)), (0, .ref (ad x0)), (1, .int x1), (2, .int x2)]) E.1 hb dX5_tells_17 hl (by decide) rfl (fun ls hl => ?_)
    exact hL19 N A0 q8 1 hf _ _ hS _ (lv_sub hl [2, 3, 4, 1, 0] rfl)
theorem gw_X5_133 : GoodIn lw_all (wsV RX5 133 RX5 yX5_pays (ws_ yX5_pays cX5_pays 9 none)) := lw_V q1443 q1445 qs46 q163 q1446
theorem gnX5_pays : yX5_pays.cls ≠ "java/lang/invoke/MethodHandle" ∧ yX5_pays.cls ≠ "java/lang/invoke/VarHandle" ∧ (parseMethodDescriptor yX5_pays.desc).map (fun d => d.parameters.length) = some 3 := by decide +kernel
theorem gw_X5_137 : GoodIn lw_all (wsV RX5 137 RX5 yX5_tells (ws_ yX5_tells cX5_tells 5 none)) := lw_V q1457 q1459 qs48 q163 q1460
theorem gnX5_tells : yX5_tells.cls ≠ "java/lang/invoke/MethodHandle" ∧ yX5_tells.cls ≠ "java/lang/invoke/VarHandle" ∧ (parseMethodDescriptor yX5_tells.desc).map (fun d => d.parameters.length) = some 2 := by decide +kernel
/-! MarginFolk$State.meeting(III)V: RW -/
noncomputable def X5_meeting (N : Nat) (A0 : AH) (x0 : Nat) (x1 : Int32) (x2 : Int32) (x3 : Int32) : Option (Unit × AH) :=
  if isStb x0 = true then (bo (sI 8 31 A0 (x0 + 5) x1) fun v1 => bo (J12_min 9999 (v1 + 1)) fun r2 => bo (tI 8 31 A0 (x0 + 5) x1 r2) fun A3 => bo (sI 8 31 A3 (x0 + 5) x2) fun v4 => bo (J12_min 9999 (v4 + 1)) fun r5 => bo (tI 8 31 A3 (x0 + 5) x2 r5) fun A6 => bo (sI 8 31 A6 (x0 + 47) x1) fun v7 => bo (tI 8 31 A6 (x0 + 47) x1 (v7 + 1)) fun A8 => bo (sI 8 31 A8 (x0 + 47) x2) fun v9 => bo (tI 8 31 A8 (x0 + 47) x2 (v9 + 1)) fun A10 => bd (X5_pays N A10 x0 x1 x2 x3) fun _ A11 => bd (X5_tells N A11 x0 x1 x2) fun _ A12 => lt2 (wI A12 608 x0 0 ((aI A12 608 x0 0) + 1)) fun A13 => some ((), A13)) else none
abbrev rX5_meeting : Room := { frames := 258, cells := 0, slots := 0, locals := 5818 }
set_option maxHeartbeats 4000000 in
theorem zX5_meeting {l : Launch} {dC : Nat → ClassId} {dI : Nat → Nat → Nat} {ac : Nat → ClassId} {ad : Nat → Nat} {N : Nat} {A0 : AH} {x0 : Nat} {x1 : Int32} {x2 : Int32} {x3 : Int32} {A' : AH} (hf : X5_meeting N A0 x0 x1 x2 x3 = some ((), A')) : Met l yX5_meeting (ws_ yX5_meeting cX5_meeting 4 none) { frames := 258, cells := 0, slots := 0, locals := 5818 } (va_Pc [.ref (ad x0), .int x1, .int x2, .int x3] (cPre dC dI ac ad True A0)) (cQv dC dI ac ad True (aN A0) (aS A0) (aN A0) (aS A0) A') 0 0 (cF ad) := by
  unfold X5_meeting at hf
  obtain ⟨hg0, hf⟩ := gu_s hf
  have hs0 := isSt_of hg0
  refine c_of ⟨Nat.le_refl _, Nat.le_refl _⟩ RX5 (plainFor_of_name (by decide)) rfl (Nat.le_of_ble_eq_true rfl) ?_
  intro p e s m args below meth c E hb hr hlk hnm hml hS ls hl
  have hl : lv_has ls 4 [(0, .ref (ad x0)), (1, .int x1), (2, .int x2), (3, .int x3)] := hl
  refine lv_aload_n E.1 hb dX5_meeting_0 rfl (lv_at hl 0 rfl) ?_
  refine c_gN (k := 6) (f := 606) (q := (x0 + 5)) E hb hS ci_6 (sK hS (st_K0 hs0).1 (st_K0 hs0).2) rfl rfl rfl (st_R (cst hS) hs0 rfl (by decide)) fk_X5_28_X5 (fun _ h => h) dX5_meeting_1 ?_
  refine lv_iload_n E.1 hb dX5_meeting_4 rfl (lv_at hl 1 rfl) ?_
  refine lv_sipush (v := 9999) E.1 hb dX5_meeting_5 rfl ?_
  refine lv_aload_n E.1 hb dX5_meeting_8 rfl (lv_at hl 0 rfl) ?_
  refine c_gN (k := 6) (f := 606) (q := (x0 + 5)) E hb hS ci_6 (sK hS (st_K0 hs0).1 (st_K0 hs0).2) rfl rfl rfl (st_R (cst hS) hs0 rfl (by decide)) fk_X5_28_X5 (fun _ h => h) dX5_meeting_9 ?_
  refine lv_iload_n E.1 hb dX5_meeting_12 rfl (lv_at hl 1 rfl) ?_
  obtain ⟨hg, hf⟩ := sI_s hf
  refine s_ld E hb hS (t := 31) (st_K hs0 5 (by decide)) hg (Or.inl ⟨rfl, rfl⟩) dX5_meeting_13 ?_
  refine lv_iconst (v := 1) E.1 hb dX5_meeting_14 rfl ?_
  refine lv_iadd E.1 hb dX5_meeting_15 ?_
  obtain ⟨r2, h1, hf⟩ := bo_s hf
  refine c_ki hS (va_runS ⟨E.1, hb, hml, E.2.1, E.2.2.1⟩ (zJ12_min h1) (va_cwS 2 E.2.2.1 gw_X5_84 rfl rfl rfl gnJ12_min ⟨Nat.le_of_ble_eq_true rfl, Nat.le_of_ble_eq_true rfl⟩) (c_preS E hS _) rfl rfl hl.1 rfl (lv_room (Nat.le_of_ble_eq_true rfl)) dX5_meeting_16 ⟨Nat.le_refl 0, Nat.le_refl 0⟩) hS.2.2.2.2 (fun H locs hS hn => ?_)
  obtain ⟨A3, hg, hw, hf⟩ := tI_s hf
  refine s_st E hb hS (t := 31) (st_K hs0 5 (by decide)) hg (Or.inl ⟨rfl, rfl, rfl⟩) hw dX5_meeting_19 (fun H locs hS => ?_)
  refine lv_aload_n E.1 hb dX5_meeting_20 rfl (lv_at hl 0 rfl) ?_
  refine c_gN (k := 6) (f := 606) (q := (x0 + 5)) E hb hS ci_6 (sK hS (st_K0 hs0).1 (st_K0 hs0).2) rfl rfl rfl (st_R (cst hS) hs0 rfl (by decide)) fk_X5_28_X5 (fun _ h => h) dX5_meeting_21 ?_
  refine lv_iload_n E.1 hb dX5_meeting_24 rfl (lv_at hl 2 rfl) ?_
  refine lv_sipush (v := 9999) E.1 hb dX5_meeting_25 rfl ?_
  refine lv_aload_n E.1 hb dX5_meeting_28 rfl (lv_at hl 0 rfl) ?_
  refine c_gN (k := 6) (f := 606) (q := (x0 + 5)) E hb hS ci_6 (sK hS (st_K0 hs0).1 (st_K0 hs0).2) rfl rfl rfl (st_R (cst hS) hs0 rfl (by decide)) fk_X5_28_X5 (fun _ h => h) dX5_meeting_29 ?_
  refine lv_iload_n E.1 hb dX5_meeting_32 rfl (lv_at hl 2 rfl) ?_
  obtain ⟨hg, hf⟩ := sI_s hf
  refine s_ld E hb hS (t := 31) (st_K hs0 5 (by decide)) hg (Or.inl ⟨rfl, rfl⟩) dX5_meeting_33 ?_
  refine lv_iconst (v := 1) E.1 hb dX5_meeting_34 rfl ?_
  refine lv_iadd E.1 hb dX5_meeting_35 ?_
  obtain ⟨r5, h1, hf⟩ := bo_s hf
  refine c_ki hS (va_runS ⟨E.1, hb, hml, E.2.1, E.2.2.1⟩ (zJ12_min h1) (va_cwS 2 E.2.2.1 gw_X5_84 rfl rfl rfl gnJ12_min ⟨Nat.le_of_ble_eq_true rfl, Nat.le_of_ble_eq_true rfl⟩) (c_preS E hS _) rfl rfl hl.1 rfl (lv_room (Nat.le_of_ble_eq_true rfl)) dX5_meeting_36 ⟨Nat.le_refl 0, Nat.le_refl 0⟩) hS.2.2.2.2 (fun H locs hS hn => ?_)
  obtain ⟨A6, hg, hw, hf⟩ := tI_s hf
  refine s_st E hb hS (t := 31) (st_K hs0 5 (by decide)) hg (Or.inl ⟨rfl, rfl, rfl⟩) hw dX5_meeting_39 (fun H locs hS => ?_)
  refine lv_aload_n E.1 hb dX5_meeting_40 rfl (lv_at hl 0 rfl) ?_
  refine c_gN (k := 9) (f := 609) (q := (x0 + 47)) E hb hS ci_6 (sK hS (st_K0 hs0).1 (st_K0 hs0).2) rfl rfl rfl (st_R (cst hS) hs0 rfl (by decide)) fk_X5_36_X5 (fun _ h => h) dX5_meeting_41 ?_
  refine lv_iload_n E.1 hb dX5_meeting_44 rfl (lv_at hl 1 rfl) ?_
  refine lv_dup2_11 E.1 hb dX5_meeting_45 rfl rfl ?_
  obtain ⟨hg, hf⟩ := sI_s hf
  refine s_ld E hb hS (t := 31) (st_K hs0 47 (by decide)) hg (Or.inl ⟨rfl, rfl⟩) dX5_meeting_46 ?_
  refine lv_iconst (v := 1) E.1 hb dX5_meeting_47 rfl ?_
  refine lv_iadd E.1 hb dX5_meeting_48 ?_
  obtain ⟨A8, hg, hw, hf⟩ := tI_s hf
  refine s_st E hb hS (t := 31) (st_K hs0 47 (by decide)) hg (Or.inl ⟨rfl, rfl, rfl⟩) hw dX5_meeting_49 (fun H locs hS => ?_)
  refine lv_aload_n E.1 hb dX5_meeting_50 rfl (lv_at hl 0 rfl) ?_
  refine c_gN (k := 9) (f := 609) (q := (x0 + 47)) E hb hS ci_6 (sK hS (st_K0 hs0).1 (st_K0 hs0).2) rfl rfl rfl (st_R (cst hS) hs0 rfl (by decide)) fk_X5_36_X5 (fun _ h => h) dX5_meeting_51 ?_
  refine lv_iload_n E.1 hb dX5_meeting_54 rfl (lv_at hl 2 rfl) ?_
  refine lv_dup2_11 E.1 hb dX5_meeting_55 rfl rfl ?_
  obtain ⟨hg, hf⟩ := sI_s hf
  refine s_ld E hb hS (t := 31) (st_K hs0 47 (by decide)) hg (Or.inl ⟨rfl, rfl⟩) dX5_meeting_56 ?_
  refine lv_iconst (v := 1) E.1 hb dX5_meeting_57 rfl ?_
  refine lv_iadd E.1 hb dX5_meeting_58 ?_
  obtain ⟨A10, hg, hw, hf⟩ := tI_s hf
  refine s_st E hb hS (t := 31) (st_K hs0 47 (by decide)) hg (Or.inl ⟨rfl, rfl, rfl⟩) hw dX5_meeting_59 (fun H locs hS => ?_)
  refine lv_aload_n E.1 hb dX5_meeting_60 rfl (lv_at hl 0 rfl) ?_
  refine lv_iload_n E.1 hb dX5_meeting_61 rfl (lv_at hl 1 rfl) ?_
  refine lv_iload_n E.1 hb dX5_meeting_62 rfl (lv_at hl 2 rfl) ?_
  refine lv_iload_n E.1 hb dX5_meeting_63 rfl (lv_at hl 3 rfl) ?_
  obtain ⟨_, A11, h1, hf⟩ := bd_s hf
  refine c_kv hS (va_runV ⟨E.1, hb, hml, E.2.1, E.2.2.1⟩ (zX5_pays h1) (cwV 3 E.2.2.1 gw_X5_133 rfl rfl rfl ⟨rfl, gnX5_pays⟩ ⟨Nat.le_of_ble_eq_true rfl, Nat.le_of_ble_eq_true rfl⟩) (c_preV E hS ci_6 (sK hS (st_K0 hs0).1 (st_K0 hs0).2) (hS.1.lt (sK hS (st_K0 hs0).1 (st_K0 hs0).2) rfl) _) rfl rfl hl.1 rfl (lv_room (Nat.le_of_ble_eq_true rfl)) dX5_meeting_64 ⟨Nat.le_refl 0, Nat.le_refl 0⟩) hS.2.2.2.2 (fun H locs hS hn => ?_)
  refine lv_aload_n E.1 hb dX5_meeting_67 rfl (lv_at hl 0 rfl) ?_
  refine lv_iload_n E.1 hb dX5_meeting_68 rfl (lv_at hl 1 rfl) ?_
  refine lv_iload_n E.1 hb dX5_meeting_69 rfl (lv_at hl 2 rfl) ?_
  obtain ⟨_, A12, h1, hf⟩ := bd_s hf
  refine c_kv hS (va_runV ⟨E.1, hb, hml, E.2.1, E.2.2.1⟩ (zX5_tells h1) (cwV 2 E.2.2.1 gw_X5_137 rfl rfl rfl ⟨rfl, gnX5_tells⟩ ⟨Nat.le_of_ble_eq_true rfl, Nat.le_of_ble_eq_true rfl⟩) (c_preV E hS ci_6 (sK hS (st_K0 hs0).1 (st_K0 hs0).2) (hS.1.lt (sK hS (st_K0 hs0).1 (st_K0 hs0).2) rfl) _) rfl rfl hl.1 rfl (lv_room (Nat.le_of_ble_eq_true rfl)) dX5_meeting_70 ⟨Nat.le_refl 0, Nat.le_refl 0⟩) hS.2.2.2.2 (fun H locs hS hn => ?_)
  refine lv_aload_n E.1 hb dX5_meeting_73 rfl (lv_at hl 0 rfl) ?_
  refine lv_dup E.1 hb dX5_meeting_74 rfl ?_
  refine c_gI (k := 8) (f := 608) E hb hS ci_6 (sK hS (st_K0 hs0).1 (st_K0 hs0).2) rfl rfl rfl fk_X5_67_X5 (fun _ h => h) dX5_meeting_75 ?_
  refine lv_iconst (v := 1) E.1 hb dX5_meeting_78 rfl ?_
  refine lv_iadd E.1 hb dX5_meeting_79 ?_
  obtain ⟨A13, hw, hf⟩ := lt2_s hf
  refine c_pI (k := 8) (f := 608) E hb hS ci_6 (sK hS (st_K0 hs0).1 (st_K0 hs0).2) (hS.1.lt (sK hS (st_K0 hs0).1 (st_K0 hs0).2) rfl) rfl rfl (Or.inl rfl) fk_X5_67_X5 (fun _ h => h) rfl rfl hw dX5_meeting_80 (fun H locs hS => ?_)
  exact c_vr E hb hr hlk hS ⟨Nat.le_refl 0, Nat.le_refl 0⟩ hf dX5_meeting_83
theorem gw_X5_147 : GoodIn lw_all (va_wsS RX5 147 yJ12_max_2 (ws_ yJ12_max_2 cJ12_max_2 4 (some .long))) := lw_S q1467 q1278 q172 q1279
theorem fk_X5_140_X1 : FLk RX5 140 "MarginFolk$Folio" (TX1 12).2.1 (TX1 12).2.2.1 := Or.inr ⟨_, q262⟩
/-! MarginFolk$State.reaps(II)V: RW -/
noncomputable def X5_reaps_b49 (N : Nat) (x0 : Nat) (x1 : Int32) (x2 : Int32) (A : AH) (y0 : Int64) : Option (Unit × AH) :=
  bo (J12_min_2 99 y0) fun r9 => bo (J12_max_2 (-99) r9) fun r10 => bo (sI 8 31 A (x0 + 4) x1) fun v11 => bo (J12_min_2 9999 ((Int32.toInt64 v11) + r10)) fun r12 => bo (J12_max_2 0 r12) fun r13 => bo (tI 8 31 A (x0 + 4) x1 (Int64.toInt32 r13)) fun A14 => some ((), A14)
noncomputable def X5_reaps (N : Nat) (A0 : AH) (x0 : Nat) (x1 : Int32) (x2 : Int32) : Option (Unit × AH) :=
  if isStb x0 = true then (bd (X5_asks A0 x0 x1 x2) fun _ A1 => bo (aR A1 100 0 0) fun q2 => bo (gR 2 A1 212 q2) fun v3 => if v3 = none then (bo (sI 8 31 A1 (x0 + 3) x1) fun v15 => X5_reaps_b49 N x0 x1 x2 A1 (Int32.toInt64 v15)) else (bo (aR A1 100 0 0) fun q4 => bo (gR 2 A1 212 q4) fun v5 => bo v5 fun q6 => bd (valF N A1 q6 11) fun r7 A8 => X5_reaps_b49 N x0 x1 x2 A8 r7)) else none
abbrev rX5_reaps : Room := { frames := 257, cells := 0, slots := 0, locals := 5790 }
set_option maxHeartbeats 4000000 in
theorem zX5_reaps {l : Launch} {dC : Nat → ClassId} {dI : Nat → Nat → Nat} {ac : Nat → ClassId} {ad : Nat → Nat} {N : Nat} {A0 : AH} {x0 : Nat} {x1 : Int32} {x2 : Int32} {A' : AH} (hf : X5_reaps N A0 x0 x1 x2 = some ((), A')) : Met l yX5_reaps (ws_ yX5_reaps cX5_reaps 5 none) { frames := 257, cells := 0, slots := 0, locals := 5790 } (va_Pc [.ref (ad x0), .int x1, .int x2] (cPre dC dI ac ad True A0)) (cQv dC dI ac ad True (aN A0) (aS A0) (aN A0) (aS A0) A') 0 0 (cF ad) := by
  unfold X5_reaps at hf
  obtain ⟨hg0, hf⟩ := gu_s hf
  have hs0 := isSt_of hg0
  refine c_of ⟨Nat.le_refl _, Nat.le_refl _⟩ RX5 (plainFor_of_name (by decide)) rfl (Nat.le_of_ble_eq_true rfl) ?_
  intro p e s m args below meth c E hb hr hlk hnm hml hS ls hl
  have hl : lv_has ls 5 [(0, .ref (ad x0)), (1, .int x1), (2, .int x2)] := hl
  have hB49 : ∀ (A : AH) (y0 : Int64), X5_reaps_b49 N x0 x1 x2 A y0 = some ((), A') → ∀ (H : Heap) (locs : List Loc), cS dC dI ac ad True s.heap (aN A0) (aS A0) (aN A0) (aS A0) A H locs → ∀ (ls : Array Slot), lv_has ls 5 [(0, .ref (ad x0)), (1, .int x1), (2, .int x2)] → W p l e rX5_reaps s m args below meth c H locs 0 0 (MQ below (cQv dC dI ac ad True (aN A0) (aS A0) (aN A0) (aS A0) A') args s 0 0 (cF ad)) (F0 m 49 ls [.long y0]) := by
    intro A y0 hf H locs hS ls hl
    unfold X5_reaps_b49 at hf
    refine lv_lstore_n (lv' := [(3, .long y0), (0, .ref (ad x0)), (1, .int x1), (2, .int x2)]) E.1 hb dX5_reaps_49 rfl hl (by decide) rfl (fun ls hl => ?_)
    refine lv_ldc2 E.1 hb E.2.1 (E.2.2.1 _ q1465) dX5_reaps_50 ?_
    refine lv_ldc2 E.1 hb E.2.1 (E.2.2.1 _ q1466) dX5_reaps_53 ?_
    refine lv_lload_n E.1 hb dX5_reaps_56 rfl (lv_at hl 0 rfl) ?_
    obtain ⟨r9, h1, hf⟩ := bo_s hf
    refine c_kl hS (va_runS ⟨E.1, hb, hml, E.2.1, E.2.2.1⟩ (zJ12_min_2 h1) (va_cwS 2 E.2.2.1 gw_X5_130 rfl rfl rfl gnJ12_min_2 ⟨Nat.le_of_ble_eq_true rfl, Nat.le_of_ble_eq_true rfl⟩) (c_preS E hS _) rfl rfl hl.1 rfl (lv_room (Nat.le_of_ble_eq_true rfl)) dX5_reaps_57 ⟨Nat.le_refl 0, Nat.le_refl 0⟩) hS.2.2.2.2 (fun H locs hS hn => ?_)
    obtain ⟨r10, h1, hf⟩ := bo_s hf
    refine c_kl hS (va_runS ⟨E.1, hb, hml, E.2.1, E.2.2.1⟩ (zJ12_max_2 h1) (va_cwS 2 E.2.2.1 gw_X5_147 rfl rfl rfl gnJ12_max_2 ⟨Nat.le_of_ble_eq_true rfl, Nat.le_of_ble_eq_true rfl⟩) (c_preS E hS _) rfl rfl hl.1 rfl (lv_room (Nat.le_of_ble_eq_true rfl)) dX5_reaps_60 ⟨Nat.le_refl 0, Nat.le_refl 0⟩) hS.2.2.2.2 (fun H locs hS hn => ?_)
    refine lv_lstore_n (lv' := [(3, .long r10), (0, .ref (ad x0)), (1, .int x1), (2, .int x2)]) E.1 hb dX5_reaps_63 rfl hl (by decide) rfl (fun ls hl => ?_)
    refine lv_aload_n E.1 hb dX5_reaps_64 rfl (lv_at hl 1 rfl) ?_
    refine c_gN (k := 5) (f := 605) (q := (x0 + 4)) E hb hS ci_6 (sK hS (st_K0 hs0).1 (st_K0 hs0).2) rfl rfl rfl (st_R (cst hS) hs0 rfl (by decide)) fk_X5_25_X5 (fun _ h => h) dX5_reaps_65 ?_
    refine lv_iload_n E.1 hb dX5_reaps_68 rfl (lv_at hl 2 rfl) ?_
    refine lv_lconst (v := 0) E.1 hb dX5_reaps_69 rfl ?_
    refine lv_ldc2 E.1 hb E.2.1 (E.2.2.1 _ q1468) dX5_reaps_70 ?_
    refine lv_aload_n E.1 hb dX5_reaps_73 rfl (lv_at hl 1 rfl) ?_
    refine c_gN (k := 5) (f := 605) (q := (x0 + 4)) E hb hS ci_6 (sK hS (st_K0 hs0).1 (st_K0 hs0).2) rfl rfl rfl (st_R (cst hS) hs0 rfl (by decide)) fk_X5_25_X5 (fun _ h => h) dX5_reaps_74 ?_
    refine lv_iload_n E.1 hb dX5_reaps_77 rfl (lv_at hl 2 rfl) ?_
    obtain ⟨hg, hf⟩ := sI_s hf
    refine s_ld E hb hS (t := 31) (st_K hs0 4 (by decide)) hg (Or.inl ⟨rfl, rfl⟩) dX5_reaps_78 ?_
    refine lv_i2l E.1 hb dX5_reaps_79 rfl ?_
    refine lv_lload_n E.1 hb dX5_reaps_80 rfl (lv_at hl 0 rfl) ?_
    refine lv_ladd E.1 hb dX5_reaps_81 ?_
    obtain ⟨r12, h1, hf⟩ := bo_s hf
    refine c_kl hS (va_runS ⟨E.1, hb, hml, E.2.1, E.2.2.1⟩ (zJ12_min_2 h1) (va_cwS 2 E.2.2.1 gw_X5_130 rfl rfl rfl gnJ12_min_2 ⟨Nat.le_of_ble_eq_true rfl, Nat.le_of_ble_eq_true rfl⟩) (c_preS E hS _) rfl rfl hl.1 rfl (lv_room (Nat.le_of_ble_eq_true rfl)) dX5_reaps_82 ⟨Nat.le_refl 0, Nat.le_refl 0⟩) hS.2.2.2.2 (fun H locs hS hn => ?_)
    obtain ⟨r13, h1, hf⟩ := bo_s hf
    refine c_kl hS (va_runS ⟨E.1, hb, hml, E.2.1, E.2.2.1⟩ (zJ12_max_2 h1) (va_cwS 2 E.2.2.1 gw_X5_147 rfl rfl rfl gnJ12_max_2 ⟨Nat.le_of_ble_eq_true rfl, Nat.le_of_ble_eq_true rfl⟩) (c_preS E hS _) rfl rfl hl.1 rfl (lv_room (Nat.le_of_ble_eq_true rfl)) dX5_reaps_85 ⟨Nat.le_refl 0, Nat.le_refl 0⟩) hS.2.2.2.2 (fun H locs hS hn => ?_)
    refine lv_l2i E.1 hb dX5_reaps_88 rfl ?_
    obtain ⟨A14, hg, hw, hf⟩ := tI_s hf
    refine s_st E hb hS (t := 31) (st_K hs0 4 (by decide)) hg (Or.inl ⟨rfl, rfl, rfl⟩) hw dX5_reaps_89 (fun H locs hS => ?_)
    exact c_vr E hb hr hlk hS ⟨Nat.le_refl 0, Nat.le_refl 0⟩ hf dX5_reaps_90
  refine lv_aload_n E.1 hb dX5_reaps_0 rfl (lv_at hl 0 rfl) ?_
  refine lv_iload_n E.1 hb dX5_reaps_1 rfl (lv_at hl 1 rfl) ?_
  refine lv_iload_n E.1 hb dX5_reaps_2 rfl (lv_at hl 2 rfl) ?_
  obtain ⟨_, A1, h1, hf⟩ := bd_s hf
  refine c_kv hS (va_runV ⟨E.1, hb, hml, E.2.1, E.2.2.1⟩ (zX5_asks h1) (cwV 2 E.2.2.1 gw_X5_113 rfl rfl rfl ⟨rfl, gnX5_asks⟩ ⟨Nat.le_of_ble_eq_true rfl, Nat.le_of_ble_eq_true rfl⟩) (c_preV E hS ci_6 (sK hS (st_K0 hs0).1 (st_K0 hs0).2) (hS.1.lt (sK hS (st_K0 hs0).1 (st_K0 hs0).2) rfl) _) rfl rfl hl.1 rfl (lv_room (Nat.le_of_ble_eq_true rfl)) dX5_reaps_3 ⟨Nat.le_refl 0, Nat.le_refl 0⟩) hS.2.2.2.2 (fun H locs hS hn => ?_)
  refine lv_aload_n E.1 hb dX5_reaps_6 rfl (lv_at hl 0 rfl) ?_
  refine c_gN (k := 10) (f := 610) (q := 0) E hb hS ci_6 (sK hS (st_K0 hs0).1 (st_K0 hs0).2) rfl rfl rfl (st_R0 (cst hS) hs0) fk_X5_3_X5 (fun _ h => h) dX5_reaps_7 ?_
  obtain ⟨q2, hr7, hf⟩ := bo_s hf
  refine c_gN (k := 0) (f := 100) E hb hS ci_1 (sK hS (by decide) rfl) rfl rfl rfl hr7 fk_X5_46_X0 (fun _ h => h) dX5_reaps_10 ?_
  obtain ⟨hk, hf⟩ := gR_s hf
  refine c_gR (k := 12) (f := 212) E hb hS ci_2 hk rfl rfl rfl fk_X5_140_X1 (fun _ h => h) dX5_reaps_13 ?_
  refine c_ifnonnull (tgt := 29) E hb dX5_reaps_16 (by decide) (fun hc => ?_) (fun hc => ?_)
  · have hf := if_s hc hf
    refine lv_aload_n E.1 hb dX5_reaps_29 rfl (lv_at hl 0 rfl) ?_
    refine c_gN (k := 10) (f := 610) (q := 0) E hb hS ci_6 (sK hS (st_K0 hs0).1 (st_K0 hs0).2) rfl rfl rfl (st_R0 (cst hS) hs0) fk_X5_3_X5 (fun _ h => h) dX5_reaps_30 ?_
    obtain ⟨q4, hr7, hf⟩ := bo_s hf
    refine c_gN (k := 0) (f := 100) E hb hS ci_1 (sK hS (by decide) rfl) rfl rfl rfl hr7 fk_X5_46_X0 (fun _ h => h) dX5_reaps_33 ?_
    obtain ⟨hk, hf⟩ := gR_s hf
    refine c_gR (k := 12) (f := 212) E hb hS ci_2 hk rfl rfl rfl fk_X5_140_X1 (fun _ h => h) dX5_reaps_36 ?_
    refine lv_aload_n E.1 hb dX5_reaps_39 rfl (lv_at hl 0 rfl) ?_
    refine c_gN (k := 10) (f := 610) (q := 0) E hb hS ci_6 (sK hS (st_K0 hs0).1 (st_K0 hs0).2) rfl rfl rfl (st_R0 (cst hS) hs0) fk_X5_3_X5 (fun _ h => h) dX5_reaps_40 ?_
    refine c_gN (k := 6) (f := 106) (q := 11) E hb hS ci_1 (sK hS (by decide) rfl) rfl rfl rfl (sRf hS (by decide) rfl) fk_X5_97_X0 (fun _ h => h) dX5_reaps_43 ?_
    obtain ⟨q6, hr9, hf⟩ := bo_s hf
    refine c_dr2 hr9 ?_
    obtain ⟨r7, A8, h1, hf⟩ := bd_s hf
    refine c_kl hS (c_runRcV E hb hml hS zvalF h1 q1452 ⟨Nat.le_of_ble_eq_true rfl, Nat.le_of_ble_eq_true rfl⟩ hl.1 (lv_room (Nat.le_of_ble_eq_true rfl)) dX5_reaps_46 ⟨Nat.le_refl 0, Nat.le_refl 0⟩) hS.2.2.2.2 (fun H locs hS hn => ?_)
    exact hB49 A8 r7 hf _ _ hS _ (lv_sub hl [0, 1, 2] rfl)
  · have hf := it_s hc hf
    refine lv_aload_n E.1 hb dX5_reaps_19 rfl (lv_at hl 0 rfl) ?_
    refine c_gN (k := 4) (f := 604) (q := (x0 + 3)) E hb hS ci_6 (sK hS (st_K0 hs0).1 (st_K0 hs0).2) rfl rfl rfl (st_R (cst hS) hs0 rfl (by decide)) fk_X5_22_X5 (fun _ h => h) dX5_reaps_20 ?_
    refine lv_iload_n E.1 hb dX5_reaps_23 rfl (lv_at hl 1 rfl) ?_
    obtain ⟨hg, hf⟩ := sI_s hf
    refine s_ld E hb hS (t := 31) (st_K hs0 3 (by decide)) hg (Or.inl ⟨rfl, rfl⟩) dX5_reaps_24 ?_
    refine lv_i2l E.1 hb dX5_reaps_25 rfl ?_
    refine lv_goto (tgt := 49) E.1 hb dX5_reaps_26 (by decide) ?_
    exact hB49 A1 (Int32.toInt64 (aI A1 31 (x0 + 3) x1.toNatClampNeg)) hf _ _ hS _ (lv_sub hl [0, 1, 2] rfl)
theorem gw_X5_74 : GoodIn lw_all (wsV RX5 74 RX5 yX5_who (ws_ yX5_who cX5_who 4 (some .int))) := lw_V q1474 q1388 q1389 q163 q1390
/-! MarginFolk$State.isFree(II)Z: RO -/
noncomputable def X5_isFree (N : Nat) (A : AH) (x0 : Nat) (x1 : Int32) (x2 : Int32) : Option Int32 :=
  if isStb x0 = true then (bo (sI 6 31 A (x0 + 1) x1) fun v1 => bo (X0_has v1 x2) fun r2 => if r2 = 0 then (bo (X5_who N A x0 x1 x2) fun r3 => if r3 = (-1) then (some 1) else (some 0)) else (some 0)) else none
abbrev rX5_isFree : Room := { frames := 3, cells := 0, slots := 0, locals := 63 }
set_option maxHeartbeats 4000000 in
theorem zX5_isFree {l : Launch} {dC : Nat → ClassId} {dI : Nat → Nat → Nat} {ac : Nat → ClassId} {ad : Nat → Nat} {N : Nat} {A : AH} {x0 : Nat} {x1 : Int32} {x2 : Int32} {r : Int32} (hf : X5_isFree N A x0 x1 x2 = some r) : Met l yX5_isFree (ws_ yX5_isFree cX5_isFree 3 (some .boolean)) { frames := 3, cells := 0, slots := 0, locals := 63 } (va_Pc [.ref (ad x0), .int x1, .int x2] (cPre dC dI ac ad True A)) (cQi dC dI ac ad True (aN A) (aS A) (aN A) (aS A) r A) 0 0 (cF ad) := by
  unfold X5_isFree at hf
  obtain ⟨hg0, hf⟩ := gu_s hf
  have hs0 := isSt_of hg0
  refine c_of ⟨Nat.le_refl _, Nat.le_refl _⟩ RX5 (plainFor_of_name (by decide)) rfl (Nat.le_of_ble_eq_true rfl) ?_
  intro p e s m args below meth c E hb hr hlk hnm hml hS ls hl
  have hl : lv_has ls 3 [(0, .ref (ad x0)), (1, .int x1), (2, .int x2)] := hl
  refine lv_aload_n E.1 hb dX5_isFree_0 rfl (lv_at hl 0 rfl) ?_
  refine c_gN (k := 2) (f := 602) (q := (x0 + 1)) E hb hS ci_6 (sK hS (st_K0 hs0).1 (st_K0 hs0).2) rfl rfl rfl (st_R (cst hS) hs0 rfl (by decide)) fk_X5_15_X5 (fun _ h => h) dX5_isFree_1 ?_
  refine lv_iload_n E.1 hb dX5_isFree_4 rfl (lv_at hl 1 rfl) ?_
  obtain ⟨hg, hf⟩ := sI_s hf
  refine s_ld E hb hS (t := 31) (st_K hs0 1 (by decide)) hg (Or.inl ⟨rfl, rfl⟩) dX5_isFree_5 ?_
  refine lv_iload_n E.1 hb dX5_isFree_6 rfl (lv_at hl 2 rfl) ?_
  obtain ⟨r2, h1, hf⟩ := bo_s hf
  refine c_ki hS (va_runSN ⟨E.1, hb, hml, E.2.1, E.2.2.1⟩ (zX0_has h1) ⟨va_cnB 2 E.2.2.1 (lw_meth q794) rfl rfl rfl (E.2.2.2.2.1 _ q1473 rfl) (E.2.2.1 _ q152) gnX0_has ⟨Nat.le_of_ble_eq_true rfl, Nat.le_of_ble_eq_true rfl⟩, E.2.2.1 _ q793, trivial⟩ (c_preS E hS _) rfl rfl hl.1 rfl (lv_room (Nat.le_of_ble_eq_true rfl)) dX5_isFree_7 ⟨Nat.le_refl 0, Nat.le_refl 0⟩) hS.2.2.2.2 (fun H locs hS hn => ?_)
  refine lv_if_ne (tgt := 27) E.1 hb dX5_isFree_10 (by decide) (fun hc => ?_) (fun hc => ?_)
  · have hf := if_s hc hf
    refine lv_iconst (v := 0) E.1 hb dX5_isFree_27 rfl ?_
    exact c_zr (ty := .boolean) E hb hr hlk hS ⟨Nat.le_refl 0, Nat.le_refl 0⟩ rfl (ro_s hf) dX5_isFree_28
  · have hf := it_s hc hf
    refine lv_aload_n E.1 hb dX5_isFree_13 rfl (lv_at hl 0 rfl) ?_
    refine lv_iload_n E.1 hb dX5_isFree_14 rfl (lv_at hl 1 rfl) ?_
    refine lv_iload_n E.1 hb dX5_isFree_15 rfl (lv_at hl 2 rfl) ?_
    obtain ⟨r3, h1, hf⟩ := bo_s hf
    refine c_ki hS (va_runV ⟨E.1, hb, hml, E.2.1, E.2.2.1⟩ (zX5_who h1) (cwV 2 E.2.2.1 gw_X5_74 rfl rfl rfl ⟨rfl, gnX5_who⟩ ⟨Nat.le_of_ble_eq_true rfl, Nat.le_of_ble_eq_true rfl⟩) (c_preV E hS ci_6 (sK hS (st_K0 hs0).1 (st_K0 hs0).2) (hS.1.lt (sK hS (st_K0 hs0).1 (st_K0 hs0).2) rfl) _) rfl rfl hl.1 rfl (lv_room (Nat.le_of_ble_eq_true rfl)) dX5_isFree_16 ⟨Nat.le_refl 0, Nat.le_refl 0⟩) hS.2.2.2.2 (fun H locs hS hn => ?_)
    refine lv_iconst (v := (-1)) E.1 hb dX5_isFree_19 rfl ?_
    refine lv_icmp_ne (tgt := 27) E.1 hb dX5_isFree_20 (by decide) (fun hc => ?_) (fun hc => ?_)
    · have hf := if_s hc hf
      refine lv_iconst (v := 0) E.1 hb dX5_isFree_27 rfl ?_
      exact c_zr (ty := .boolean) E hb hr hlk hS ⟨Nat.le_refl 0, Nat.le_refl 0⟩ rfl (ro_s hf) dX5_isFree_28
    · have hf := it_s hc hf
      refine lv_iconst (v := 1) E.1 hb dX5_isFree_23 rfl ?_
      refine lv_goto (tgt := 28) E.1 hb dX5_isFree_24 (by decide) ?_
      exact c_zr (ty := .boolean) E hb hr hlk hS ⟨Nat.le_refl 0, Nat.le_refl 0⟩ rfl (ro_s hf) dX5_isFree_28
theorem gw_X15_22 : GoodIn lw_all (va_wsF RX15 22 "java/util/ArrayList" ⟨"java/util/List", "size", "()I"⟩ yJ2_size (ws_ yJ2_size cJ2_size 1 (some .int))) := lw_F q1485 q800 q802 q156 q804
theorem gw_X15_28 : GoodIn lw_all (va_wsF RX15 28 "java/util/ArrayList" ⟨"java/util/List", "get", "(I)Ljava/lang/Object;"⟩ yJ2_get (ws_ yJ2_get cJ2_get 2 (some (.object "java/lang/Object")))) := lw_F q1487 q809 q811 q156 q813
/-! MarginFolk$Facts.holds(LMarginFolk$Moment;)Z: RW -/
noncomputable def X15_holds_b2 (N : Nat) (rh : AH → Nat → Nat → Option (Int32 × AH)) (x0 : Nat) (x1 : Nat) (k2 : AH → Int32 → Option (Int32 × AH)) (A : AH) (x2 : Int32) : Option (Int32 × AH) :=
  bo (gN 13 A 1300 x0) fun q1 => if aK A q1 = 18 then ( bo (J2_size A q1) fun r2 => if r2 ≤ x2 then (bo (gI 13 A 1301 x0) fun v3 => if v3 &&& 1 = v3 then some (v3, A) else none) else (bo (gN 13 A 1300 x0) fun q4 => if aK A q4 = 18 then ( bo (J2_get A q4 x2) fun r5 => bo r5 fun q6 => if isTst (aK A q6) = true then (bd (rh A q6 x1) fun r7 A8 => bo (gI 13 A8 1301 x0) fun v9 => if r7 = v9 then (k2 A8 (x2 + 1)) else (bo (gI 13 A8 1301 x0) fun v10 => if v10 = 0 then (some (1, A8)) else (some (0, A8)))) else none) else none)) else none
noncomputable def X15_holds (N : Nat) (rh : AH → Nat → Nat → Option (Int32 × AH)) (A0 : AH) (x0 : Nat) (x1 : Nat) : Option (Int32 × AH) :=
  rn2 (X15_holds_b2 N rh x0 x1) N A0 0
set_option maxHeartbeats 4000000 in
theorem zX15_holds {l : Launch} {dC : Nat → ClassId} {dI : Nat → Nat → Nat} {ac : Nat → ClassId} {ad : Nat → Nat} {N : Nat} {rh : AH → Nat → Nat → Option (Int32 × AH)} {fa la : Nat} (ha : RcH l dC dI ac ad fa la rh) {A0 : AH} {x0 : Nat} {x1 : Nat} {r : Int32} {A' : AH} (hf : X15_holds N rh A0 x0 x1 = some (r, A')) : Met l yX15_holds (ws_ yX15_holds cX15_holds 3 (some .boolean)) { frames := fa + 3, cells := 0, slots := 0, locals := la + 64 } (va_Pc [.ref (ad x0), .ref (ad x1)] (cPre dC dI ac ad True A0)) (cQi dC dI ac ad True (aN A0) (aS A0) (aN A0) (aS A0) r A') 0 0 (cF ad) := by
  unfold X15_holds at hf
  refine c_of ⟨Nat.le_refl _, Nat.le_refl _⟩ RX15 (plainFor_of_name (by decide)) rfl (Nat.le_of_ble_eq_true rfl) ?_
  intro p e s m args below meth c E hb hr hlk hnm hml hS ls hl
  have hl : lv_has ls 3 [(0, .ref (ad x0)), (1, .ref (ad x1))] := hl
  have hL2 : ∀ (n : Nat) (A : AH) (x2 : Int32), rn2 (X15_holds_b2 N rh x0 x1) n A x2 = some (r, A') → ∀ (H : Heap) (locs : List Loc), cS dC dI ac ad True s.heap (aN A0) (aS A0) (aN A0) (aS A0) A H locs → ∀ (ls : Array Slot), lv_has ls 3 [(0, .ref (ad x0)), (1, .ref (ad x1)), (2, .int x2)] → W p l e { frames := fa + 3, cells := 0, slots := 0, locals := la + 64 } s m args below meth c H locs 0 0 (MQ below (cQi dC dI ac ad True (aN A0) (aS A0) (aN A0) (aS A0) r A') args s 0 0 (cF ad)) (F0 m 2 ls []) := by
    intro  n
    induction n with
    | zero =>
      intro A x2 hf
      cases hf
    | succ n ih =>
      intro A x2 hf H locs hS ls hl
      have hf : X15_holds_b2 N rh x0 x1 (rn2 (X15_holds_b2 N rh x0 x1) n) A x2 = some (r, A') := hf
      have hk2 := ih
      generalize rn2 (X15_holds_b2 N rh x0 x1) n = k2 at hf hk2
      unfold X15_holds_b2 at hf
      refine lv_iload_n E.1 hb dX15_holds_2 rfl (lv_at hl 2 rfl) ?_
      refine lv_aload_n E.1 hb dX15_holds_3 rfl (lv_at hl 0 rfl) ?_
      obtain ⟨q1, hk, hf⟩ := gN_s hf
      refine c_gN (k := 0) (f := 1300) E hb hS ci_13 hk.1 rfl rfl rfl hk.2 fk_X15_12_X15 (fun _ h => h) dX15_holds_4 ?_
      obtain ⟨hkr, hf⟩ := gu_s hf
      obtain ⟨r2, h1, hf⟩ := bo_s hf
      refine c_kFi hS (va_runF (E.2.2.2.1.1 17 _ ci_18.1).2 ⟨E.1, hb, hml, E.2.1, E.2.2.1⟩ (zJ2_size h1) (va_cwF 0 E.2.2.1 gw_X15_22 rfl rfl rfl (cFw E 0 rfl) gx_size ⟨by dsimp only; omega, by dsimp only; omega⟩) (c_preV E hS ci_18 hkr (hS.1.lt hkr rfl) _) rfl rfl hl.1 rfl (lv_room (Nat.le_of_ble_eq_true rfl)) dX15_holds_7 ⟨Nat.le_refl 0, Nat.le_refl 0⟩) hS.2.2.2.2 (fun H locs hS hn => ?_)
      refine lv_icmp_ge (tgt := 58) E.1 hb dX15_holds_12 (by decide) (fun hc => ?_) (fun hc => ?_)
      · have hf := it_s hc hf
        refine lv_aload_n E.1 hb dX15_holds_58 rfl (lv_at hl 0 rfl) ?_
        obtain ⟨hk, hf⟩ := gI_s hf
        refine c_gI (k := 1) (f := 1301) E hb hS ci_13 hk rfl rfl rfl fk_X15_18_X15 (fun _ h => h) dX15_holds_59 ?_
        obtain ⟨hn, hf⟩ := gu_s hf
        exact c_zr (ty := .boolean) E hb hr hlk hS ⟨Nat.le_refl 0, Nat.le_refl 0⟩ (nz_b hn) hf dX15_holds_62
      · have hf := if_s hc hf
        refine lv_aload_n E.1 hb dX15_holds_15 rfl (lv_at hl 0 rfl) ?_
        obtain ⟨q4, hk, hf⟩ := gN_s hf
        refine c_gN (k := 0) (f := 1300) E hb hS ci_13 hk.1 rfl rfl rfl hk.2 fk_X15_12_X15 (fun _ h => h) dX15_holds_16 ?_
        refine lv_iload_n E.1 hb dX15_holds_19 rfl (lv_at hl 2 rfl) ?_
        obtain ⟨hkr, hf⟩ := gu_s hf
        obtain ⟨r5, h1, hf⟩ := bo_s hf
        refine c_kFq hS (va_runF (E.2.2.2.1.1 17 _ ci_18.1).2 ⟨E.1, hb, hml, E.2.1, E.2.2.1⟩ (zJ2_get h1) (va_cwF 1 E.2.2.1 gw_X15_28 rfl rfl rfl (cFw E 1 rfl) gx_get ⟨by dsimp only; omega, by dsimp only; omega⟩) (c_preV E hS ci_18 hkr (hS.1.lt hkr rfl) _) rfl rfl hl.1 rfl (lv_room (Nat.le_of_ble_eq_true rfl)) dX15_holds_20 ⟨Nat.le_refl 0, Nat.le_refl 0⟩) hS.2.2.2.2 (fun H locs hS hn => ?_)
        obtain ⟨q6, hr9, hf⟩ := bo_s hf
        refine c_dr hr9 ?_
        obtain ⟨hg, hf⟩ := gu_s hf
        refine c_castTest E hb hS (isTst_s hg) q1488 dX15_holds_25 ?_
        refine lv_aload_n E.1 hb dX15_holds_28 rfl (lv_at hl 1 rfl) ?_
        obtain ⟨r7, A8, h1, hf⟩ := bd_s hf
        refine c_ki hS (c_runRcH E hb hml hS ha h1 q1489 ⟨by dsimp only; omega, by dsimp only; omega⟩ hl.1 (lv_room (Nat.le_of_ble_eq_true rfl)) dX15_holds_29 ⟨Nat.le_refl 0, Nat.le_refl 0⟩) hS.2.2.2.2 (fun H locs hS hn => ?_)
        refine lv_aload_n E.1 hb dX15_holds_32 rfl (lv_at hl 0 rfl) ?_
        obtain ⟨hk, hf⟩ := gI_s hf
        refine c_gI (k := 1) (f := 1301) E hb hS ci_13 hk rfl rfl rfl fk_X15_18_X15 (fun _ h => h) dX15_holds_33 ?_
        refine lv_icmp_eq (tgt := 52) E.1 hb dX15_holds_36 (by decide) (fun hc => ?_) (fun hc => ?_)
        · have hf := it_s hc hf
          refine lv_iinc (v := (x2 + 1)) (lv' := [(2, .int (x2 + 1)), (0, .ref (ad x0)), (1, .ref (ad x1))]) E.1 hb dX15_holds_52 hl (k := 2) rfl rfl (by decide) rfl (fun ls hl => ?_)
          refine lv_goto (tgt := 2) E.1 hb dX15_holds_55 (by decide) ?_
          exact hk2 A8 (x2 + 1) hf _ _ hS _ (lv_sub hl [1, 2, 0] rfl)
        · have hf := if_s hc hf
          refine lv_aload_n E.1 hb dX15_holds_39 rfl (lv_at hl 0 rfl) ?_
          obtain ⟨hk, hf⟩ := gI_s hf
          refine c_gI (k := 1) (f := 1301) E hb hS ci_13 hk rfl rfl rfl fk_X15_18_X15 (fun _ h => h) dX15_holds_40 ?_
          refine lv_if_ne (tgt := 50) E.1 hb dX15_holds_43 (by decide) (fun hc => ?_) (fun hc => ?_)
          · have hf := if_s hc hf
            refine lv_iconst (v := 0) E.1 hb dX15_holds_50 rfl ?_
            exact c_zr (ty := .boolean) E hb hr hlk hS ⟨Nat.le_refl 0, Nat.le_refl 0⟩ rfl hf dX15_holds_51
          · have hf := it_s hc hf
            refine lv_iconst (v := 1) E.1 hb dX15_holds_46 rfl ?_
            refine lv_goto (tgt := 51) E.1 hb dX15_holds_47 (by decide) ?_
            exact c_zr (ty := .boolean) E hb hr hlk hS ⟨Nat.le_refl 0, Nat.le_refl 0⟩ rfl hf dX15_holds_51
  refine lv_iconst (v := 0) E.1 hb dX15_holds_0 rfl ?_
  refine lv_istore_n (lv' := [(2, .int 0), (0, .ref (ad x0)), (1, .ref (ad x1))]) E.1 hb dX15_holds_1 rfl hl (by decide) rfl (fun ls hl => ?_)
  exact hL2 N A0 0 hf _ _ hS _ (lv_sub hl [1, 2, 0] rfl)
/-! MarginFolk$Not.holds(LMarginFolk$Moment;)Z: RW -/
noncomputable def X16_holds (rh : AH → Nat → Nat → Option (Int32 × AH)) (A0 : AH) (x0 : Nat) (x1 : Nat) : Option (Int32 × AH) :=
  bo (gR 14 A0 1400 x0) fun v1 => bo v1 fun q2 => bd (rh A0 q2 x1) fun r3 A4 => if r3 = 0 then (some (1, A4)) else (some (0, A4))
set_option maxHeartbeats 4000000 in
theorem zX16_holds {l : Launch} {dC : Nat → ClassId} {dI : Nat → Nat → Nat} {ac : Nat → ClassId} {ad : Nat → Nat} {rh : AH → Nat → Nat → Option (Int32 × AH)} {fa la : Nat} (ha : RcH l dC dI ac ad fa la rh) {A0 : AH} {x0 : Nat} {x1 : Nat} {r : Int32} {A' : AH} (hf : X16_holds rh A0 x0 x1 = some (r, A')) : Met l yX16_holds (ws_ yX16_holds cX16_holds 2 (some .boolean)) { frames := fa + 1, cells := 0, slots := 0, locals := la + 30 } (va_Pc [.ref (ad x0), .ref (ad x1)] (cPre dC dI ac ad True A0)) (cQi dC dI ac ad True (aN A0) (aS A0) (aN A0) (aS A0) r A') 0 0 (cF ad) := by
  unfold X16_holds at hf
  refine c_of ⟨Nat.le_refl _, Nat.le_refl _⟩ RX16 (plainFor_of_name (by decide)) rfl (Nat.le_of_ble_eq_true rfl) ?_
  intro p e s m args below meth c E hb hr hlk hnm hml hS ls hl
  have hl : lv_has ls 2 [(0, .ref (ad x0)), (1, .ref (ad x1))] := hl
  refine lv_aload_n E.1 hb dX16_holds_0 rfl (lv_at hl 0 rfl) ?_
  obtain ⟨hk, hf⟩ := gR_s hf
  refine c_gR (k := 0) (f := 1400) E hb hS ci_14 hk rfl rfl rfl fk_X16_7_X16 (fun _ h => h) dX16_holds_1 ?_
  refine lv_aload_n E.1 hb dX16_holds_4 rfl (lv_at hl 1 rfl) ?_
  obtain ⟨q2, hr9, hf⟩ := bo_s hf
  refine c_dr2 hr9 ?_
  obtain ⟨r3, A4, h1, hf⟩ := bd_s hf
  refine c_ki hS (c_runRcH E hb hml hS ha h1 q1492 ⟨by dsimp only; omega, by dsimp only; omega⟩ hl.1 (lv_room (Nat.le_of_ble_eq_true rfl)) dX16_holds_5 ⟨Nat.le_refl 0, Nat.le_refl 0⟩) hS.2.2.2.2 (fun H locs hS hn => ?_)
  refine lv_if_ne (tgt := 15) E.1 hb dX16_holds_8 (by decide) (fun hc => ?_) (fun hc => ?_)
  · have hf := if_s hc hf
    refine lv_iconst (v := 0) E.1 hb dX16_holds_15 rfl ?_
    exact c_zr (ty := .boolean) E hb hr hlk hS ⟨Nat.le_refl 0, Nat.le_refl 0⟩ rfl hf dX16_holds_16
  · have hf := it_s hc hf
    refine lv_iconst (v := 1) E.1 hb dX16_holds_11 rfl ?_
    refine lv_goto (tgt := 16) E.1 hb dX16_holds_12 (by decide) ?_
    exact c_zr (ty := .boolean) E hb hr hlk hS ⟨Nat.le_refl 0, Nat.le_refl 0⟩ rfl hf dX16_holds_16
/-! MarginFolk$All.holds(LMarginFolk$Moment;)Z: P -/
noncomputable def X17_holds (x0 : Nat) (x1 : Nat) : Option Int32 :=
  some 1
abbrev rX17_holds : Room := { frames := 0, cells := 0, slots := 0, locals := 0 }
set_option maxHeartbeats 4000000 in
theorem zX17_holds {l : Launch} {dC : Nat → ClassId} {dI : Nat → Nat → Nat} {ac : Nat → ClassId} {ad : Nat → Nat} {b : Prop} {A : AH} {x0 : Nat} {x1 : Nat} {r : Int32} (hf : X17_holds x0 x1 = some r) : Met l yX17_holds (ws_ yX17_holds cX17_holds 2 (some .boolean)) { frames := 0, cells := 0, slots := 0, locals := 0 } (va_Pc [.ref (ad x0), .ref (ad x1)] (cPre dC dI ac ad b A)) (cQi dC dI ac ad b (aN A) (aS A) (aN A) (aS A) r A) 0 0 (cF ad) := by
  unfold X17_holds at hf
  refine c_of ⟨Nat.le_refl _, Nat.le_refl _⟩ RX17 (plainFor_of_name (by decide)) rfl (Nat.le_of_ble_eq_true rfl) ?_
  intro p e s m args below meth c E hb hr hlk hnm hml hS ls hl
  have hl : lv_has ls 2 [(0, .ref (ad x0)), (1, .ref (ad x1))] := hl
  refine lv_iconst (v := 1) E.1 hb dX17_holds_0 rfl ?_
  exact c_zr (ty := .boolean) E hb hr hlk hS ⟨Nat.le_refl 0, Nat.le_refl 0⟩ rfl (ro_s hf) dX17_holds_1
/-! MarginFolk$Than.holds(LMarginFolk$Moment;)Z: RW -/
noncomputable def X18_holds (N : Nat) (A0 : AH) (x0 : Nat) (x1 : Nat) : Option (Int32 × AH) :=
  bo (gR 16 A0 1600 x0) fun v1 => bo v1 fun q2 => bd (valF N A0 q2 x1) fun r3 A4 => bo (gR 16 A4 1601 x0) fun v5 => bo v5 fun q6 => bd (valF N A4 q6 x1) fun r7 A8 => bo (gI 16 A8 1602 x0) fun v9 => if v9 = 60 then (if r7 ≤ r3 then (some (0, A8)) else (some (1, A8))) else (bo (gI 16 A8 1602 x0) fun v10 => if v10 = 62 then (if r3 ≤ r7 then (some (0, A8)) else (some (1, A8))) else (if r3 = r7 then (some (1, A8)) else (some (0, A8))))
abbrev rX18_holds : Room := { frames := 257, cells := 0, slots := 0, locals := 5790 }
set_option maxHeartbeats 4000000 in
theorem zX18_holds {l : Launch} {dC : Nat → ClassId} {dI : Nat → Nat → Nat} {ac : Nat → ClassId} {ad : Nat → Nat} {N : Nat} {A0 : AH} {x0 : Nat} {x1 : Nat} {r : Int32} {A' : AH} (hf : X18_holds N A0 x0 x1 = some (r, A')) : Met l yX18_holds (ws_ yX18_holds cX18_holds 6 (some .boolean)) { frames := 257, cells := 0, slots := 0, locals := 5790 } (va_Pc [.ref (ad x0), .ref (ad x1)] (cPre dC dI ac ad True A0)) (cQi dC dI ac ad True (aN A0) (aS A0) (aN A0) (aS A0) r A') 0 0 (cF ad) := by
  unfold X18_holds at hf
  refine c_of ⟨Nat.le_refl _, Nat.le_refl _⟩ RX18 (plainFor_of_name (by decide)) rfl (Nat.le_of_ble_eq_true rfl) ?_
  intro p e s m args below meth c E hb hr hlk hnm hml hS ls hl
  have hl : lv_has ls 6 [(0, .ref (ad x0)), (1, .ref (ad x1))] := hl
  refine lv_aload_n E.1 hb dX18_holds_0 rfl (lv_at hl 0 rfl) ?_
  obtain ⟨hk, hf⟩ := gR_s hf
  refine c_gR (k := 0) (f := 1600) E hb hS ci_16 hk rfl rfl rfl fk_X18_7_X18 (fun _ h => h) dX18_holds_1 ?_
  refine lv_aload_n E.1 hb dX18_holds_4 rfl (lv_at hl 1 rfl) ?_
  obtain ⟨q2, hr9, hf⟩ := bo_s hf
  refine c_dr2 hr9 ?_
  obtain ⟨r3, A4, h1, hf⟩ := bd_s hf
  refine c_kl hS (c_runRcV E hb hml hS zvalF h1 q1495 ⟨Nat.le_of_ble_eq_true rfl, Nat.le_of_ble_eq_true rfl⟩ hl.1 (lv_room (Nat.le_of_ble_eq_true rfl)) dX18_holds_5 ⟨Nat.le_refl 0, Nat.le_refl 0⟩) hS.2.2.2.2 (fun H locs hS hn => ?_)
  refine lv_lstore_n (lv' := [(2, .long r3), (0, .ref (ad x0)), (1, .ref (ad x1))]) E.1 hb dX18_holds_8 rfl hl (by decide) rfl (fun ls hl => ?_)
  refine lv_aload_n E.1 hb dX18_holds_9 rfl (lv_at hl 1 rfl) ?_
  obtain ⟨hk, hf⟩ := gR_s hf
  refine c_gR (k := 1) (f := 1601) E hb hS ci_16 hk rfl rfl rfl fk_X18_17_X18 (fun _ h => h) dX18_holds_10 ?_
  refine lv_aload_n E.1 hb dX18_holds_13 rfl (lv_at hl 2 rfl) ?_
  obtain ⟨q6, hr9, hf⟩ := bo_s hf
  refine c_dr2 hr9 ?_
  obtain ⟨r7, A8, h1, hf⟩ := bd_s hf
  refine c_kl hS (c_runRcV E hb hml hS zvalF h1 q1495 ⟨Nat.le_of_ble_eq_true rfl, Nat.le_of_ble_eq_true rfl⟩ hl.1 (lv_room (Nat.le_of_ble_eq_true rfl)) dX18_holds_14 ⟨Nat.le_refl 0, Nat.le_refl 0⟩) hS.2.2.2.2 (fun H locs hS hn => ?_)
  refine lv_lstore (lv' := [(4, .long r7), (2, .long r3), (0, .ref (ad x0)), (1, .ref (ad x1))]) E.1 hb dX18_holds_17 hl (by decide) rfl (fun ls hl => ?_)
  refine lv_aload_n E.1 hb dX18_holds_19 rfl (lv_at hl 2 rfl) ?_
  obtain ⟨hk, hf⟩ := gI_s hf
  refine c_gI (k := 2) (f := 1602) E hb hS ci_16 hk rfl rfl rfl fk_X18_13_X18 (fun _ h => h) dX18_holds_20 ?_
  refine lv_bipush (v := 60) E.1 hb dX18_holds_23 rfl ?_
  refine lv_icmp_ne (tgt := 43) E.1 hb dX18_holds_25 (by decide) (fun hc => ?_) (fun hc => ?_)
  · have hf := if_s hc hf
    refine lv_aload_n E.1 hb dX18_holds_43 rfl (lv_at hl 2 rfl) ?_
    obtain ⟨hk, hf⟩ := gI_s hf
    refine c_gI (k := 2) (f := 1602) E hb hS ci_16 hk rfl rfl rfl fk_X18_13_X18 (fun _ h => h) dX18_holds_44 ?_
    refine lv_bipush (v := 62) E.1 hb dX18_holds_47 rfl ?_
    refine lv_icmp_ne (tgt := 67) E.1 hb dX18_holds_49 (by decide) (fun hc => ?_) (fun hc => ?_)
    · have hf := if_s hc hf
      refine lv_lload_n E.1 hb dX18_holds_67 rfl (lv_at hl 1 rfl) ?_
      refine lv_lload E.1 hb dX18_holds_68 (lv_at hl 0 rfl) ?_
      refine lv_lc_ne (tgt := 78) E.1 hb dX18_holds_70 dX18_holds_71 (by decide) (fun hc => ?_) (fun hc => ?_)
      · have hf := if_s hc hf
        refine lv_iconst (v := 0) E.1 hb dX18_holds_78 rfl ?_
        exact c_zr (ty := .boolean) E hb hr hlk hS ⟨Nat.le_refl 0, Nat.le_refl 0⟩ rfl hf dX18_holds_79
      · have hf := it_s hc hf
        refine lv_iconst (v := 1) E.1 hb dX18_holds_74 rfl ?_
        refine lv_goto (tgt := 79) E.1 hb dX18_holds_75 (by decide) ?_
        exact c_zr (ty := .boolean) E hb hr hlk hS ⟨Nat.le_refl 0, Nat.le_refl 0⟩ rfl hf dX18_holds_79
    · have hf := it_s hc hf
      refine lv_lload_n E.1 hb dX18_holds_52 rfl (lv_at hl 1 rfl) ?_
      refine lv_lload E.1 hb dX18_holds_53 (lv_at hl 0 rfl) ?_
      refine lv_lc_le (tgt := 63) E.1 hb dX18_holds_55 dX18_holds_56 (by decide) (fun hc => ?_) (fun hc => ?_)
      · have hf := it_s hc hf
        refine lv_iconst (v := 0) E.1 hb dX18_holds_63 rfl ?_
        refine lv_goto (tgt := 79) E.1 hb dX18_holds_64 (by decide) ?_
        exact c_zr (ty := .boolean) E hb hr hlk hS ⟨Nat.le_refl 0, Nat.le_refl 0⟩ rfl hf dX18_holds_79
      · have hf := if_s hc hf
        refine lv_iconst (v := 1) E.1 hb dX18_holds_59 rfl ?_
        refine lv_goto (tgt := 79) E.1 hb dX18_holds_60 (by decide) ?_
        exact c_zr (ty := .boolean) E hb hr hlk hS ⟨Nat.le_refl 0, Nat.le_refl 0⟩ rfl hf dX18_holds_79
  · have hf := it_s hc hf
    refine lv_lload_n E.1 hb dX18_holds_28 rfl (lv_at hl 1 rfl) ?_
    refine lv_lload E.1 hb dX18_holds_29 (lv_at hl 0 rfl) ?_
    refine lv_lc_ge (tgt := 39) E.1 hb dX18_holds_31 dX18_holds_32 (by decide) (fun hc => ?_) (fun hc => ?_)
    · have hf := it_s hc hf
      refine lv_iconst (v := 0) E.1 hb dX18_holds_39 rfl ?_
      refine lv_goto (tgt := 79) E.1 hb dX18_holds_40 (by decide) ?_
      exact c_zr (ty := .boolean) E hb hr hlk hS ⟨Nat.le_refl 0, Nat.le_refl 0⟩ rfl hf dX18_holds_79
    · have hf := if_s hc hf
      refine lv_iconst (v := 1) E.1 hb dX18_holds_35 rfl ?_
      refine lv_goto (tgt := 79) E.1 hb dX18_holds_36 (by decide) ?_
      exact c_zr (ty := .boolean) E hb hr hlk hS ⟨Nat.le_refl 0, Nat.le_refl 0⟩ rfl hf dX18_holds_79
/-! the recursion h closed -/
noncomputable def tstG (N : Nat) : Nat → AH → Nat → Nat → Option (Int32 × AH)
  | 0 => fun _ _ _ => none
  | d + 1 => fun A v w => if aK A v = 13 then (X15_holds N (tstG N d) A v w) else (if aK A v = 14 then (X16_holds (tstG N d) A v w) else (if aK A v = 15 then (bo (X17_holds v w) fun r => some (r, A)) else (if aK A v = 16 then (X18_holds N A v w) else (none))))
theorem ztstG {l : Launch} {dC : Nat → ClassId} {dI : Nat → Nat → Nat} {ac : Nat → ClassId} {ad : Nat → Nat} {N : Nat} (d : Nat) : RcH l dC dI ac ad (257 * d) (5790 * d) (tstG N d) := by
  induction d with
  | zero =>
    intro A v w r A' h
    cases h
  | succ d ih =>
    intro A v w r A' h
    unfold tstG at h
    by_cases h13 : aK A v = 13
    · have h := it_s h13 h
      exact Or.inl ⟨h13, _, _, by omega, by omega, zX15_holds ih h⟩
    have h := if_s h13 h
    by_cases h14 : aK A v = 14
    · have h := it_s h14 h
      exact Or.inr (Or.inl ⟨h14, _, _, by omega, by omega, zX16_holds ih h⟩)
    have h := if_s h14 h
    by_cases h15 : aK A v = 15
    · have h := it_s h15 h
      obtain ⟨r9, h9, h⟩ := bo_s h
      cases h
      exact Or.inr (Or.inr (Or.inl ⟨h15, _, _, by omega, by omega, zX17_holds h9⟩))
    have h := if_s h15 h
    by_cases h16 : aK A v = 16
    · have h := it_s h16 h
      exact Or.inr (Or.inr (Or.inr (⟨h16, _, _, by omega, by omega, zX18_holds h⟩)))
    have h := if_s h16 h
    cases h
noncomputable def tstF (N : Nat) : AH → Nat → Nat → Option (Int32 × AH) := tstG N 32
theorem ztstF {l : Launch} {dC : Nat → ClassId} {dI : Nat → Nat → Nat} {ac : Nat → ClassId} {ad : Nat → Nat} {N : Nat} : RcH l dC dI ac ad 8224 185280 (tstF N) := ztstG 32
theorem fk_X5_158_X1 : FLk RX5 158 "MarginFolk$Folio" (TX1 14).2.1 (TX1 14).2.2.1 := Or.inr ⟨_, q266⟩
theorem fk_X5_162_X1 : FLk RX5 162 "MarginFolk$Folio" (TX1 2).2.1 (TX1 2).2.2.1 := Or.inr ⟨_, q237⟩
theorem gw_X5_165 : GoodIn lw_all (wsV RX5 165 RX5 yX5_isFree (ws_ yX5_isFree cX5_isFree 3 (some .boolean))) := lw_V q1469 q1470 q1471 q163 q1472
theorem gnX5_isFree : yX5_isFree.cls ≠ "java/lang/invoke/MethodHandle" ∧ yX5_isFree.cls ≠ "java/lang/invoke/VarHandle" ∧ (parseMethodDescriptor yX5_isFree.desc).map (fun d => d.parameters.length) = some 2 := by decide +kernel
theorem gw_X5_155 : GoodIn lw_all (wsV RX5 155 RX5 yX5_reaps (ws_ yX5_reaps cX5_reaps 5 none)) := lw_V q1461 q1463 qs49 q163 q1464
theorem gnX5_reaps : yX5_reaps.cls ≠ "java/lang/invoke/MethodHandle" ∧ yX5_reaps.cls ≠ "java/lang/invoke/VarHandle" ∧ (parseMethodDescriptor yX5_reaps.desc).map (fun d => d.parameters.length) = some 2 := by decide +kernel
theorem gw_X5_152 : GoodIn lw_all (wsV RX5 152 RX5 yX5_meeting (ws_ yX5_meeting cX5_meeting 4 none)) := lw_V q1439 q1441 qs45 q163 q1442
theorem gnX5_meeting : yX5_meeting.cls ≠ "java/lang/invoke/MethodHandle" ∧ yX5_meeting.cls ≠ "java/lang/invoke/VarHandle" ∧ (parseMethodDescriptor yX5_meeting.desc).map (fun d => d.parameters.length) = some 3 := by decide +kernel
/-! MarginFolk$State.passes(I)V: RW -/
noncomputable def X5_passes_b205 (N : Nat) (x0 : Nat) (x1 : Int32) (A : AH) : Option (Unit × AH) :=
  lt2 (wI A 600 x0 0 ((aI A 600 x0 0) + 1)) fun A4 => some ((), A4)
noncomputable def X5_passes_b199 (N : Nat) (x0 : Nat) (x1 : Int32) (k84 : AH → Int32 → Option (Unit × AH)) (A : AH) (x2 : Int32) : Option (Unit × AH) :=
  k84 A (x2 + 1)
noncomputable def X5_passes_b161 (N : Nat) (x0 : Nat) (x1 : Int32) (k84 : AH → Int32 → Option (Unit × AH)) (A : AH) (x2 : Int32) (y0 : Int32) : Option (Unit × AH) :=
  if y0 = 0 then (X5_passes_b199 N x0 x1 k84 A x2) else (bo (aR A 100 0 0) fun q11 => bo (gR 2 A 214 q11) fun v12 => bo v12 fun q13 => bd (tstF N A q13 11) fun r14 A15 => if r14 = 0 then (X5_passes_b199 N x0 x1 k84 A15 x2) else (bo (sI 8 31 A15 (x0 + 3) x2) fun v16 => bo (tI 8 31 A15 (x0 + 3) x2 (v16 + 1)) fun A17 => X5_passes_b199 N x0 x1 k84 A17 x2))
noncomputable def X5_passes_b160 (N : Nat) (x0 : Nat) (x1 : Int32) (k84 : AH → Int32 → Option (Unit × AH)) (A : AH) (x2 : Int32) : Option (Unit × AH) :=
  X5_passes_b161 N x0 x1 k84 A x2 0
noncomputable def X5_passes_b84 (N : Nat) (x0 : Nat) (x1 : Int32) (k84 : AH → Int32 → Option (Unit × AH)) (A : AH) (x2 : Int32) : Option (Unit × AH) :=
  bo (X0_beings A) fun r3 => if r3 ≤ x2 then (X5_passes_b205 N x0 x1 A) else (bo (aR A 100 0 0) fun q5 => bo (gR 2 A 214 q5) fun v6 => if v6 = none then (X5_passes_b205 N x0 x1 A) else (bd (X5_asks A x0 x2 x1) fun _ A7 => bo (sI 8 31 A7 (x0 + 3) x2) fun v8 => bo (aR A7 100 0 0) fun q9 => bo (gI 2 A7 202 q9) fun v10 => if v10 ≤ (v8 + 1) then (X5_passes_b160 N x0 x1 k84 A7 x2) else (bo (sI 8 31 A7 (x0 + 2) x2) fun v18 => bo (sI 8 31 A7 (x0 + 3) x2) fun v19 => bo (X5_isFree N A7 x0 v18 (v19 + 1)) fun r20 => if r20 = 0 then (X5_passes_b160 N x0 x1 k84 A7 x2) else (X5_passes_b161 N x0 x1 k84 A7 x2 1))))
noncomputable def X5_passes_b59 (N : Nat) (x0 : Nat) (x1 : Int32) (k59 : AH → Int32 → Option (Unit × AH)) (A : AH) (x2 : Int32) : Option (Unit × AH) :=
  bo (X0_beings A) fun r2 => if r2 ≤ x2 then (rn2 (X5_passes_b84 N x0 x1) N A 0) else (bd (X5_reaps N A x0 x2 x1) fun _ A21 => k59 A21 (x2 + 1))
noncomputable def X5_passes_b45 (N : Nat) (x0 : Nat) (x1 : Int32) (k2 : AH → Int32 → Option (Unit × AH)) (k17 : AH → Int32 → Int32 → Option (Unit × AH)) (A : AH) (x2 : Int32) (x3 : Int32) : Option (Unit × AH) :=
  k17 A x2 (x3 + 1)
noncomputable def X5_passes_b17 (N : Nat) (x0 : Nat) (x1 : Int32) (k2 : AH → Int32 → Option (Unit × AH)) (k17 : AH → Int32 → Int32 → Option (Unit × AH)) (A : AH) (x2 : Int32) (x3 : Int32) : Option (Unit × AH) :=
  bo (X0_beings A) fun r22 => if r22 ≤ x3 then (k2 A (x2 + 1)) else (bo (X5_meet A x0 x2 x3 x1) fun r23 => if r23 = 0 then (X5_passes_b45 N x0 x1 k2 k17 A x2 x3) else (bd (X5_meeting N A x0 x2 x3 x1) fun _ A24 => X5_passes_b45 N x0 x1 k2 k17 A24 x2 x3))
noncomputable def X5_passes_b2 (N : Nat) (x0 : Nat) (x1 : Int32) (k2 : AH → Int32 → Option (Unit × AH)) (A : AH) (x2 : Int32) : Option (Unit × AH) :=
  bo (X0_beings A) fun r1 => if r1 ≤ x2 then (rn2 (X5_passes_b59 N x0 x1) N A 0) else (rn3 (X5_passes_b17 N x0 x1 k2) N A x2 (x2 + 1))
noncomputable def X5_passes (N : Nat) (A0 : AH) (x0 : Nat) (x1 : Int32) : Option (Unit × AH) :=
  if isStb x0 = true then (rn2 (X5_passes_b2 N x0 x1) N A0 0) else none
abbrev rX5_passes : Room := { frames := 8225, cells := 0, slots := 0, locals := 185310 }
set_option maxHeartbeats 4000000 in
theorem zX5_passes {l : Launch} {dC : Nat → ClassId} {dI : Nat → Nat → Nat} {ac : Nat → ClassId} {ad : Nat → Nat} {N : Nat} {A0 : AH} {x0 : Nat} {x1 : Int32} {A' : AH} (hf : X5_passes N A0 x0 x1 = some ((), A')) : Met l yX5_passes (ws_ yX5_passes cX5_passes 4 none) { frames := 8225, cells := 0, slots := 0, locals := 185310 } (va_Pc [.ref (ad x0), .int x1] (cPre dC dI ac ad True A0)) (cQv dC dI ac ad True (aN A0) (aS A0) (aN A0) (aS A0) A') 0 0 (cF ad) := by
  unfold X5_passes at hf
  obtain ⟨hg0, hf⟩ := gu_s hf
  have hs0 := isSt_of hg0
  refine c_of ⟨Nat.le_refl _, Nat.le_refl _⟩ RX5 (plainFor_of_name (by decide)) rfl (Nat.le_of_ble_eq_true rfl) ?_
  intro p e s m args below meth c E hb hr hlk hnm hml hS ls hl
  have hl : lv_has ls 4 [(0, .ref (ad x0)), (1, .int x1)] := hl
  have hB205 : ∀ (A : AH), X5_passes_b205 N x0 x1 A = some ((), A') → ∀ (H : Heap) (locs : List Loc), cS dC dI ac ad True s.heap (aN A0) (aS A0) (aN A0) (aS A0) A H locs → ∀ (ls : Array Slot), lv_has ls 4 [(0, .ref (ad x0)), (1, .int x1)] → W p l e rX5_passes s m args below meth c H locs 0 0 (MQ below (cQv dC dI ac ad True (aN A0) (aS A0) (aN A0) (aS A0) A') args s 0 0 (cF ad)) (F0 m 205 ls []) := by
    intro A hf H locs hS ls hl
    unfold X5_passes_b205 at hf
    refine lv_aload_n E.1 hb dX5_passes_205 rfl (lv_at hl 0 rfl) ?_
    refine lv_dup E.1 hb dX5_passes_206 rfl ?_
    refine c_gI (k := 0) (f := 600) E hb hS ci_6 (sK hS (st_K0 hs0).1 (st_K0 hs0).2) rfl rfl rfl fk_X5_39_X5 (fun _ h => h) dX5_passes_207 ?_
    refine lv_iconst (v := 1) E.1 hb dX5_passes_210 rfl ?_
    refine lv_iadd E.1 hb dX5_passes_211 ?_
    obtain ⟨A4, hw, hf⟩ := lt2_s hf
    refine c_pI (k := 0) (f := 600) E hb hS ci_6 (sK hS (st_K0 hs0).1 (st_K0 hs0).2) (hS.1.lt (sK hS (st_K0 hs0).1 (st_K0 hs0).2) rfl) rfl rfl (Or.inl rfl) fk_X5_39_X5 (fun _ h => h) rfl rfl hw dX5_passes_212 (fun H locs hS => ?_)
    exact c_vr E hb hr hlk hS ⟨Nat.le_refl 0, Nat.le_refl 0⟩ hf dX5_passes_215
  have hB199 : ∀ (k84 : AH → Int32 → Option (Unit × AH)) (hk84 : ∀ (A : AH) (x2 : Int32), k84 A x2 = some ((), A') → ∀ (H : Heap) (locs : List Loc), cS dC dI ac ad True s.heap (aN A0) (aS A0) (aN A0) (aS A0) A H locs → ∀ (ls : Array Slot), lv_has ls 4 [(0, .ref (ad x0)), (1, .int x1), (2, .int x2)] → W p l e rX5_passes s m args below meth c H locs 0 0 (MQ below (cQv dC dI ac ad True (aN A0) (aS A0) (aN A0) (aS A0) A') args s 0 0 (cF ad)) (F0 m 84 ls [])) (A : AH) (x2 : Int32), X5_passes_b199 N x0 x1 k84 A x2 = some ((), A') → ∀ (H : Heap) (locs : List Loc), cS dC dI ac ad True s.heap (aN A0) (aS A0) (aN A0) (aS A0) A H locs → ∀ (ls : Array Slot), lv_has ls 4 [(0, .ref (ad x0)), (1, .int x1), (2, .int x2)] → W p l e rX5_passes s m args below meth c H locs 0 0 (MQ below (cQv dC dI ac ad True (aN A0) (aS A0) (aN A0) (aS A0) A') args s 0 0 (cF ad)) (F0 m 199 ls []) := by
    intro k84 hk84 A x2 hf H locs hS ls hl
    unfold X5_passes_b199 at hf
    refine lv_iinc (v := (x2 + 1)) (lv' := [(2, .int (x2 + 1)), (0, .ref (ad x0)), (1, .int x1)]) E.1 hb dX5_passes_199 hl (k := 2) rfl rfl (by decide) rfl (fun ls hl => ?_)
    refine lv_goto (tgt := 84) E.1 hb dX5_passes_202 (by decide) ?_
    exact hk84 A (x2 + 1) hf _ _ hS _ (lv_sub hl [1, 2, 0] rfl)
  have hB161 : ∀ (k84 : AH → Int32 → Option (Unit × AH)) (hk84 : ∀ (A : AH) (x2 : Int32), k84 A x2 = some ((), A') → ∀ (H : Heap) (locs : List Loc), cS dC dI ac ad True s.heap (aN A0) (aS A0) (aN A0) (aS A0) A H locs → ∀ (ls : Array Slot), lv_has ls 4 [(0, .ref (ad x0)), (1, .int x1), (2, .int x2)] → W p l e rX5_passes s m args below meth c H locs 0 0 (MQ below (cQv dC dI ac ad True (aN A0) (aS A0) (aN A0) (aS A0) A') args s 0 0 (cF ad)) (F0 m 84 ls [])) (A : AH) (x2 : Int32) (y0 : Int32), X5_passes_b161 N x0 x1 k84 A x2 y0 = some ((), A') → ∀ (H : Heap) (locs : List Loc), cS dC dI ac ad True s.heap (aN A0) (aS A0) (aN A0) (aS A0) A H locs → ∀ (ls : Array Slot), lv_has ls 4 [(0, .ref (ad x0)), (1, .int x1), (2, .int x2)] → W p l e rX5_passes s m args below meth c H locs 0 0 (MQ below (cQv dC dI ac ad True (aN A0) (aS A0) (aN A0) (aS A0) A') args s 0 0 (cF ad)) (F0 m 161 ls [.int y0]) := by
    intro k84 hk84 A x2 y0 hf H locs hS ls hl
    unfold X5_passes_b161 at hf
    refine lv_istore_n (lv' := [(3, .int y0), (0, .ref (ad x0)), (1, .int x1), (2, .int x2)]) E.1 hb dX5_passes_161 rfl hl (by decide) rfl (fun ls hl => ?_)
    refine lv_iload_n E.1 hb dX5_passes_162 rfl (lv_at hl 0 rfl) ?_
    refine lv_if_eq (tgt := 199) E.1 hb dX5_passes_163 (by decide) (fun hc => ?_) (fun hc => ?_)
    · have hf := it_s hc hf
      exact hB199 k84 hk84 A x2 hf _ _ hS _ (lv_sub hl [1, 2, 3] rfl)
    · have hf := if_s hc hf
      refine lv_aload_n E.1 hb dX5_passes_166 rfl (lv_at hl 1 rfl) ?_
      refine c_gN (k := 10) (f := 610) (q := 0) E hb hS ci_6 (sK hS (st_K0 hs0).1 (st_K0 hs0).2) rfl rfl rfl (st_R0 (cst hS) hs0) fk_X5_3_X5 (fun _ h => h) dX5_passes_167 ?_
      obtain ⟨q11, hr7, hf⟩ := bo_s hf
      refine c_gN (k := 0) (f := 100) E hb hS ci_1 (sK hS (by decide) rfl) rfl rfl rfl hr7 fk_X5_46_X0 (fun _ h => h) dX5_passes_170 ?_
      obtain ⟨hk, hf⟩ := gR_s hf
      refine c_gR (k := 14) (f := 214) E hb hS ci_2 hk rfl rfl rfl fk_X5_158_X1 (fun _ h => h) dX5_passes_173 ?_
      refine lv_aload_n E.1 hb dX5_passes_176 rfl (lv_at hl 1 rfl) ?_
      refine c_gN (k := 10) (f := 610) (q := 0) E hb hS ci_6 (sK hS (st_K0 hs0).1 (st_K0 hs0).2) rfl rfl rfl (st_R0 (cst hS) hs0) fk_X5_3_X5 (fun _ h => h) dX5_passes_177 ?_
      refine c_gN (k := 6) (f := 106) (q := 11) E hb hS ci_1 (sK hS (by decide) rfl) rfl rfl rfl (sRf hS (by decide) rfl) fk_X5_97_X0 (fun _ h => h) dX5_passes_180 ?_
      obtain ⟨q13, hr9, hf⟩ := bo_s hf
      refine c_dr2 hr9 ?_
      obtain ⟨r14, A15, h1, hf⟩ := bd_s hf
      refine c_ki hS (c_runRcH E hb hml hS ztstF h1 q1475 ⟨Nat.le_of_ble_eq_true rfl, Nat.le_of_ble_eq_true rfl⟩ hl.1 (lv_room (Nat.le_of_ble_eq_true rfl)) dX5_passes_183 ⟨Nat.le_refl 0, Nat.le_refl 0⟩) hS.2.2.2.2 (fun H locs hS hn => ?_)
      refine lv_if_eq (tgt := 199) E.1 hb dX5_passes_186 (by decide) (fun hc => ?_) (fun hc => ?_)
      · have hf := it_s hc hf
        exact hB199 k84 hk84 A15 x2 hf _ _ hS _ (lv_sub hl [1, 2, 3] rfl)
      · have hf := if_s hc hf
        refine lv_aload_n E.1 hb dX5_passes_189 rfl (lv_at hl 1 rfl) ?_
        refine c_gN (k := 4) (f := 604) (q := (x0 + 3)) E hb hS ci_6 (sK hS (st_K0 hs0).1 (st_K0 hs0).2) rfl rfl rfl (st_R (cst hS) hs0 rfl (by decide)) fk_X5_22_X5 (fun _ h => h) dX5_passes_190 ?_
        refine lv_iload_n E.1 hb dX5_passes_193 rfl (lv_at hl 3 rfl) ?_
        refine lv_dup2_11 E.1 hb dX5_passes_194 rfl rfl ?_
        obtain ⟨hg, hf⟩ := sI_s hf
        refine s_ld E hb hS (t := 31) (st_K hs0 3 (by decide)) hg (Or.inl ⟨rfl, rfl⟩) dX5_passes_195 ?_
        refine lv_iconst (v := 1) E.1 hb dX5_passes_196 rfl ?_
        refine lv_iadd E.1 hb dX5_passes_197 ?_
        obtain ⟨A17, hg, hw, hf⟩ := tI_s hf
        refine s_st E hb hS (t := 31) (st_K hs0 3 (by decide)) hg (Or.inl ⟨rfl, rfl, rfl⟩) hw dX5_passes_198 (fun H locs hS => ?_)
        exact hB199 k84 hk84 A17 x2 hf _ _ hS _ (lv_sub hl [1, 2, 3] rfl)
  have hB160 : ∀ (k84 : AH → Int32 → Option (Unit × AH)) (hk84 : ∀ (A : AH) (x2 : Int32), k84 A x2 = some ((), A') → ∀ (H : Heap) (locs : List Loc), cS dC dI ac ad True s.heap (aN A0) (aS A0) (aN A0) (aS A0) A H locs → ∀ (ls : Array Slot), lv_has ls 4 [(0, .ref (ad x0)), (1, .int x1), (2, .int x2)] → W p l e rX5_passes s m args below meth c H locs 0 0 (MQ below (cQv dC dI ac ad True (aN A0) (aS A0) (aN A0) (aS A0) A') args s 0 0 (cF ad)) (F0 m 84 ls [])) (A : AH) (x2 : Int32), X5_passes_b160 N x0 x1 k84 A x2 = some ((), A') → ∀ (H : Heap) (locs : List Loc), cS dC dI ac ad True s.heap (aN A0) (aS A0) (aN A0) (aS A0) A H locs → ∀ (ls : Array Slot), lv_has ls 4 [(0, .ref (ad x0)), (1, .int x1), (2, .int x2)] → W p l e rX5_passes s m args below meth c H locs 0 0 (MQ below (cQv dC dI ac ad True (aN A0) (aS A0) (aN A0) (aS A0) A') args s 0 0 (cF ad)) (F0 m 160 ls []) := by
    intro k84 hk84 A x2 hf H locs hS ls hl
    unfold X5_passes_b160 at hf
    refine lv_iconst (v := 0) E.1 hb dX5_passes_160 rfl ?_
    exact hB161 k84 hk84 A x2 0 hf _ _ hS _ (lv_sub hl [0, 1, 2] rfl)
  have hL84 : ∀ (n : Nat) (A : AH) (x2 : Int32), rn2 (X5_passes_b84 N x0 x1) n A x2 = some ((), A') → ∀ (H : Heap) (locs : List Loc), cS dC dI ac ad True s.heap (aN A0) (aS A0) (aN A0) (aS A0) A H locs → ∀ (ls : Array Slot), lv_has ls 4 [(0, .ref (ad x0)), (1, .int x1), (2, .int x2)] → W p l e rX5_passes s m args below meth c H locs 0 0 (MQ below (cQv dC dI ac ad True (aN A0) (aS A0) (aN A0) (aS A0) A') args s 0 0 (cF ad)) (F0 m 84 ls []) := by
    intro  n
    induction n with
    | zero =>
      intro A x2 hf
      cases hf
    | succ n ih =>
      intro A x2 hf H locs hS ls hl
      have hf : X5_passes_b84 N x0 x1 (rn2 (X5_passes_b84 N x0 x1) n) A x2 = some ((), A') := hf
      have hk84 := ih
      generalize rn2 (X5_passes_b84 N x0 x1) n = k84 at hf hk84
      unfold X5_passes_b84 at hf
      refine lv_iload_n E.1 hb dX5_passes_84 rfl (lv_at hl 2 rfl) ?_
      refine lv_aload_n E.1 hb dX5_passes_85 rfl (lv_at hl 0 rfl) ?_
      refine c_gN (k := 10) (f := 610) (q := 0) E hb hS ci_6 (sK hS (st_K0 hs0).1 (st_K0 hs0).2) rfl rfl rfl (st_R0 (cst hS) hs0) fk_X5_3_X5 (fun _ h => h) dX5_passes_86 ?_
      obtain ⟨r3, h1, hf⟩ := bo_s hf
      refine c_ki hS (va_runVN ⟨E.1, hb, hml, E.2.1, E.2.2.1⟩ (zX0_beings h1) ⟨va_cnB 0 E.2.2.1 (lw_meth q1234) rfl rfl rfl (E.2.2.2.2.1 _ q1231 rfl) (E.2.2.1 _ q152) gnX0_beings ⟨Nat.le_of_ble_eq_true rfl, Nat.le_of_ble_eq_true rfl⟩, E.2.2.1 _ q1233, E.2.2.1 _ qs34⟩ (c_preV E hS ci_1 (sK hS (by decide) rfl) (hS.1.lt (sK hS (by decide) rfl) rfl) _) rfl rfl hl.1 rfl (lv_room (Nat.le_of_ble_eq_true rfl)) dX5_passes_89 ⟨Nat.le_refl 0, Nat.le_refl 0⟩) hS.2.2.2.2 (fun H locs hS hn => ?_)
      refine lv_icmp_ge (tgt := 205) E.1 hb dX5_passes_92 (by decide) (fun hc => ?_) (fun hc => ?_)
      · have hf := it_s hc hf
        exact hB205 A hf _ _ hS _ (lv_sub hl [0, 1] rfl)
      · have hf := if_s hc hf
        refine lv_aload_n E.1 hb dX5_passes_95 rfl (lv_at hl 0 rfl) ?_
        refine c_gN (k := 10) (f := 610) (q := 0) E hb hS ci_6 (sK hS (st_K0 hs0).1 (st_K0 hs0).2) rfl rfl rfl (st_R0 (cst hS) hs0) fk_X5_3_X5 (fun _ h => h) dX5_passes_96 ?_
        obtain ⟨q5, hr7, hf⟩ := bo_s hf
        refine c_gN (k := 0) (f := 100) E hb hS ci_1 (sK hS (by decide) rfl) rfl rfl rfl hr7 fk_X5_46_X0 (fun _ h => h) dX5_passes_99 ?_
        obtain ⟨hk, hf⟩ := gR_s hf
        refine c_gR (k := 14) (f := 214) E hb hS ci_2 hk rfl rfl rfl fk_X5_158_X1 (fun _ h => h) dX5_passes_102 ?_
        refine c_ifnull (tgt := 205) E hb dX5_passes_105 (by decide) (fun hc => ?_) (fun hc => ?_)
        · have hf := it_s hc hf
          exact hB205 A hf _ _ hS _ (lv_sub hl [0, 1] rfl)
        · have hf := if_s hc hf
          refine lv_aload_n E.1 hb dX5_passes_108 rfl (lv_at hl 0 rfl) ?_
          refine lv_iload_n E.1 hb dX5_passes_109 rfl (lv_at hl 2 rfl) ?_
          refine lv_iload_n E.1 hb dX5_passes_110 rfl (lv_at hl 1 rfl) ?_
          obtain ⟨_, A7, h1, hf⟩ := bd_s hf
          refine c_kv hS (va_runV ⟨E.1, hb, hml, E.2.1, E.2.2.1⟩ (zX5_asks h1) (cwV 2 E.2.2.1 gw_X5_113 rfl rfl rfl ⟨rfl, gnX5_asks⟩ ⟨Nat.le_of_ble_eq_true rfl, Nat.le_of_ble_eq_true rfl⟩) (c_preV E hS ci_6 (sK hS (st_K0 hs0).1 (st_K0 hs0).2) (hS.1.lt (sK hS (st_K0 hs0).1 (st_K0 hs0).2) rfl) _) rfl rfl hl.1 rfl (lv_room (Nat.le_of_ble_eq_true rfl)) dX5_passes_111 ⟨Nat.le_refl 0, Nat.le_refl 0⟩) hS.2.2.2.2 (fun H locs hS hn => ?_)
          refine lv_aload_n E.1 hb dX5_passes_114 rfl (lv_at hl 0 rfl) ?_
          refine c_gN (k := 4) (f := 604) (q := (x0 + 3)) E hb hS ci_6 (sK hS (st_K0 hs0).1 (st_K0 hs0).2) rfl rfl rfl (st_R (cst hS) hs0 rfl (by decide)) fk_X5_22_X5 (fun _ h => h) dX5_passes_115 ?_
          refine lv_iload_n E.1 hb dX5_passes_118 rfl (lv_at hl 2 rfl) ?_
          obtain ⟨hg, hf⟩ := sI_s hf
          refine s_ld E hb hS (t := 31) (st_K hs0 3 (by decide)) hg (Or.inl ⟨rfl, rfl⟩) dX5_passes_119 ?_
          refine lv_iconst (v := 1) E.1 hb dX5_passes_120 rfl ?_
          refine lv_iadd E.1 hb dX5_passes_121 ?_
          refine lv_aload_n E.1 hb dX5_passes_122 rfl (lv_at hl 0 rfl) ?_
          refine c_gN (k := 10) (f := 610) (q := 0) E hb hS ci_6 (sK hS (st_K0 hs0).1 (st_K0 hs0).2) rfl rfl rfl (st_R0 (cst hS) hs0) fk_X5_3_X5 (fun _ h => h) dX5_passes_123 ?_
          obtain ⟨q9, hr7, hf⟩ := bo_s hf
          refine c_gN (k := 0) (f := 100) E hb hS ci_1 (sK hS (by decide) rfl) rfl rfl rfl hr7 fk_X5_46_X0 (fun _ h => h) dX5_passes_126 ?_
          obtain ⟨hk, hf⟩ := gI_s hf
          refine c_gI (k := 2) (f := 202) E hb hS ci_2 hk rfl rfl rfl fk_X5_162_X1 (fun _ h => h) dX5_passes_129 ?_
          refine lv_icmp_ge (tgt := 160) E.1 hb dX5_passes_132 (by decide) (fun hc => ?_) (fun hc => ?_)
          · have hf := it_s hc hf
            exact hB160 k84 hk84 A7 x2 hf _ _ hS _ (lv_sub hl [0, 1, 2] rfl)
          · have hf := if_s hc hf
            refine lv_aload_n E.1 hb dX5_passes_135 rfl (lv_at hl 0 rfl) ?_
            refine lv_aload_n E.1 hb dX5_passes_136 rfl (lv_at hl 0 rfl) ?_
            refine c_gN (k := 3) (f := 603) (q := (x0 + 2)) E hb hS ci_6 (sK hS (st_K0 hs0).1 (st_K0 hs0).2) rfl rfl rfl (st_R (cst hS) hs0 rfl (by decide)) fk_X5_19_X5 (fun _ h => h) dX5_passes_137 ?_
            refine lv_iload_n E.1 hb dX5_passes_140 rfl (lv_at hl 2 rfl) ?_
            obtain ⟨hg, hf⟩ := sI_s hf
            refine s_ld E hb hS (t := 31) (st_K hs0 2 (by decide)) hg (Or.inl ⟨rfl, rfl⟩) dX5_passes_141 ?_
            refine lv_aload_n E.1 hb dX5_passes_142 rfl (lv_at hl 0 rfl) ?_
            refine c_gN (k := 4) (f := 604) (q := (x0 + 3)) E hb hS ci_6 (sK hS (st_K0 hs0).1 (st_K0 hs0).2) rfl rfl rfl (st_R (cst hS) hs0 rfl (by decide)) fk_X5_22_X5 (fun _ h => h) dX5_passes_143 ?_
            refine lv_iload_n E.1 hb dX5_passes_146 rfl (lv_at hl 2 rfl) ?_
            obtain ⟨hg, hf⟩ := sI_s hf
            refine s_ld E hb hS (t := 31) (st_K hs0 3 (by decide)) hg (Or.inl ⟨rfl, rfl⟩) dX5_passes_147 ?_
            refine lv_iconst (v := 1) E.1 hb dX5_passes_148 rfl ?_
            refine lv_iadd E.1 hb dX5_passes_149 ?_
            obtain ⟨r20, h1, hf⟩ := bo_s hf
            refine c_ki hS (va_runV ⟨E.1, hb, hml, E.2.1, E.2.2.1⟩ (zX5_isFree h1) (cwV 2 E.2.2.1 gw_X5_165 rfl rfl rfl ⟨rfl, gnX5_isFree⟩ ⟨Nat.le_of_ble_eq_true rfl, Nat.le_of_ble_eq_true rfl⟩) (c_preV E hS ci_6 (sK hS (st_K0 hs0).1 (st_K0 hs0).2) (hS.1.lt (sK hS (st_K0 hs0).1 (st_K0 hs0).2) rfl) _) rfl rfl hl.1 rfl (lv_room (Nat.le_of_ble_eq_true rfl)) dX5_passes_150 ⟨Nat.le_refl 0, Nat.le_refl 0⟩) hS.2.2.2.2 (fun H locs hS hn => ?_)
            refine lv_if_eq (tgt := 160) E.1 hb dX5_passes_153 (by decide) (fun hc => ?_) (fun hc => ?_)
            · have hf := it_s hc hf
              exact hB160 k84 hk84 A7 x2 hf _ _ hS _ (lv_sub hl [0, 1, 2] rfl)
            · have hf := if_s hc hf
              refine lv_iconst (v := 1) E.1 hb dX5_passes_156 rfl ?_
              refine lv_goto (tgt := 161) E.1 hb dX5_passes_157 (by decide) ?_
              exact hB161 k84 hk84 A7 x2 1 hf _ _ hS _ (lv_sub hl [0, 1, 2] rfl)
  have hL59 : ∀ (n : Nat) (A : AH) (x2 : Int32), rn2 (X5_passes_b59 N x0 x1) n A x2 = some ((), A') → ∀ (H : Heap) (locs : List Loc), cS dC dI ac ad True s.heap (aN A0) (aS A0) (aN A0) (aS A0) A H locs → ∀ (ls : Array Slot), lv_has ls 4 [(0, .ref (ad x0)), (1, .int x1), (2, .int x2)] → W p l e rX5_passes s m args below meth c H locs 0 0 (MQ below (cQv dC dI ac ad True (aN A0) (aS A0) (aN A0) (aS A0) A') args s 0 0 (cF ad)) (F0 m 59 ls []) := by
    intro  n
    induction n with
    | zero =>
      intro A x2 hf
      cases hf
    | succ n ih =>
      intro A x2 hf H locs hS ls hl
      have hf : X5_passes_b59 N x0 x1 (rn2 (X5_passes_b59 N x0 x1) n) A x2 = some ((), A') := hf
      have hk59 := ih
      generalize rn2 (X5_passes_b59 N x0 x1) n = k59 at hf hk59
      unfold X5_passes_b59 at hf
      refine lv_iload_n E.1 hb dX5_passes_59 rfl (lv_at hl 2 rfl) ?_
      refine lv_aload_n E.1 hb dX5_passes_60 rfl (lv_at hl 0 rfl) ?_
      refine c_gN (k := 10) (f := 610) (q := 0) E hb hS ci_6 (sK hS (st_K0 hs0).1 (st_K0 hs0).2) rfl rfl rfl (st_R0 (cst hS) hs0) fk_X5_3_X5 (fun _ h => h) dX5_passes_61 ?_
      obtain ⟨r2, h1, hf⟩ := bo_s hf
      refine c_ki hS (va_runVN ⟨E.1, hb, hml, E.2.1, E.2.2.1⟩ (zX0_beings h1) ⟨va_cnB 0 E.2.2.1 (lw_meth q1234) rfl rfl rfl (E.2.2.2.2.1 _ q1231 rfl) (E.2.2.1 _ q152) gnX0_beings ⟨Nat.le_of_ble_eq_true rfl, Nat.le_of_ble_eq_true rfl⟩, E.2.2.1 _ q1233, E.2.2.1 _ qs34⟩ (c_preV E hS ci_1 (sK hS (by decide) rfl) (hS.1.lt (sK hS (by decide) rfl) rfl) _) rfl rfl hl.1 rfl (lv_room (Nat.le_of_ble_eq_true rfl)) dX5_passes_64 ⟨Nat.le_refl 0, Nat.le_refl 0⟩) hS.2.2.2.2 (fun H locs hS hn => ?_)
      refine lv_icmp_ge (tgt := 82) E.1 hb dX5_passes_67 (by decide) (fun hc => ?_) (fun hc => ?_)
      · have hf := it_s hc hf
        refine lv_iconst (v := 0) E.1 hb dX5_passes_82 rfl ?_
        refine lv_istore_n (lv' := [(2, .int 0), (0, .ref (ad x0)), (1, .int x1)]) E.1 hb dX5_passes_83 rfl hl (by decide) rfl (fun ls hl => ?_)
        exact hL84 N A 0 hf _ _ hS _ (lv_sub hl [1, 2, 0] rfl)
      · have hf := if_s hc hf
        refine lv_aload_n E.1 hb dX5_passes_70 rfl (lv_at hl 0 rfl) ?_
        refine lv_iload_n E.1 hb dX5_passes_71 rfl (lv_at hl 2 rfl) ?_
        refine lv_iload_n E.1 hb dX5_passes_72 rfl (lv_at hl 1 rfl) ?_
        obtain ⟨_, A21, h1, hf⟩ := bd_s hf
        refine c_kv hS (va_runV ⟨E.1, hb, hml, E.2.1, E.2.2.1⟩ (zX5_reaps h1) (cwV 2 E.2.2.1 gw_X5_155 rfl rfl rfl ⟨rfl, gnX5_reaps⟩ ⟨Nat.le_of_ble_eq_true rfl, Nat.le_of_ble_eq_true rfl⟩) (c_preV E hS ci_6 (sK hS (st_K0 hs0).1 (st_K0 hs0).2) (hS.1.lt (sK hS (st_K0 hs0).1 (st_K0 hs0).2) rfl) _) rfl rfl hl.1 rfl (lv_room (Nat.le_of_ble_eq_true rfl)) dX5_passes_73 ⟨Nat.le_refl 0, Nat.le_refl 0⟩) hS.2.2.2.2 (fun H locs hS hn => ?_)
        refine lv_iinc (v := (x2 + 1)) (lv' := [(2, .int (x2 + 1)), (0, .ref (ad x0)), (1, .int x1)]) E.1 hb dX5_passes_76 hl (k := 2) rfl rfl (by decide) rfl (fun ls hl => ?_)
        refine lv_goto (tgt := 59) E.1 hb dX5_passes_79 (by decide) ?_
        exact hk59 A21 (x2 + 1) hf _ _ hS _ (lv_sub hl [1, 2, 0] rfl)
  have hB45 : ∀ (k2 : AH → Int32 → Option (Unit × AH)) (hk2 : ∀ (A : AH) (x2 : Int32), k2 A x2 = some ((), A') → ∀ (H : Heap) (locs : List Loc), cS dC dI ac ad True s.heap (aN A0) (aS A0) (aN A0) (aS A0) A H locs → ∀ (ls : Array Slot), lv_has ls 4 [(0, .ref (ad x0)), (1, .int x1), (2, .int x2)] → W p l e rX5_passes s m args below meth c H locs 0 0 (MQ below (cQv dC dI ac ad True (aN A0) (aS A0) (aN A0) (aS A0) A') args s 0 0 (cF ad)) (F0 m 2 ls [])) (k17 : AH → Int32 → Int32 → Option (Unit × AH)) (hk17 : ∀ (A : AH) (x2 : Int32) (x3 : Int32), k17 A x2 x3 = some ((), A') → ∀ (H : Heap) (locs : List Loc), cS dC dI ac ad True s.heap (aN A0) (aS A0) (aN A0) (aS A0) A H locs → ∀ (ls : Array Slot), lv_has ls 4 [(0, .ref (ad x0)), (1, .int x1), (2, .int x2), (3, .int x3)] → W p l e rX5_passes s m args below meth c H locs 0 0 (MQ below (cQv dC dI ac ad True (aN A0) (aS A0) (aN A0) (aS A0) A') args s 0 0 (cF ad)) (F0 m 17 ls [])) (A : AH) (x2 : Int32) (x3 : Int32), X5_passes_b45 N x0 x1 k2 k17 A x2 x3 = some ((), A') → ∀ (H : Heap) (locs : List Loc), cS dC dI ac ad True s.heap (aN A0) (aS A0) (aN A0) (aS A0) A H locs → ∀ (ls : Array Slot), lv_has ls 4 [(0, .ref (ad x0)), (1, .int x1), (2, .int x2), (3, .int x3)] → W p l e rX5_passes s m args below meth c H locs 0 0 (MQ below (cQv dC dI ac ad True (aN A0) (aS A0) (aN A0) (aS A0) A') args s 0 0 (cF ad)) (F0 m 45 ls []) := by
    intro k2 hk2 k17 hk17 A x2 x3 hf H locs hS ls hl
    unfold X5_passes_b45 at hf
    refine lv_iinc (v := (x3 + 1)) (lv' := [(3, .int (x3 + 1)), (0, .ref (ad x0)), (1, .int x1), (2, .int x2)]) E.1 hb dX5_passes_45 hl (k := 3) rfl rfl (by decide) rfl (fun ls hl => ?_)
    refine lv_goto (tgt := 17) E.1 hb dX5_passes_48 (by decide) ?_
    exact hk17 A x2 (x3 + 1) hf _ _ hS _ (lv_sub hl [1, 2, 3, 0] rfl)
  have hL17 : ∀ (k2 : AH → Int32 → Option (Unit × AH)) (hk2 : ∀ (A : AH) (x2 : Int32), k2 A x2 = some ((), A') → ∀ (H : Heap) (locs : List Loc), cS dC dI ac ad True s.heap (aN A0) (aS A0) (aN A0) (aS A0) A H locs → ∀ (ls : Array Slot), lv_has ls 4 [(0, .ref (ad x0)), (1, .int x1), (2, .int x2)] → W p l e rX5_passes s m args below meth c H locs 0 0 (MQ below (cQv dC dI ac ad True (aN A0) (aS A0) (aN A0) (aS A0) A') args s 0 0 (cF ad)) (F0 m 2 ls [])) (n : Nat) (A : AH) (x2 : Int32) (x3 : Int32), rn3 (X5_passes_b17 N x0 x1 k2) n A x2 x3 = some ((), A') → ∀ (H : Heap) (locs : List Loc), cS dC dI ac ad True s.heap (aN A0) (aS A0) (aN A0) (aS A0) A H locs → ∀ (ls : Array Slot), lv_has ls 4 [(0, .ref (ad x0)), (1, .int x1), (2, .int x2), (3, .int x3)] → W p l e rX5_passes s m args below meth c H locs 0 0 (MQ below (cQv dC dI ac ad True (aN A0) (aS A0) (aN A0) (aS A0) A') args s 0 0 (cF ad)) (F0 m 17 ls []) := by
    intro k2 hk2 n
    induction n with
    | zero =>
      intro A x2 x3 hf
      cases hf
    | succ n ih =>
      intro A x2 x3 hf H locs hS ls hl
      have hf : X5_passes_b17 N x0 x1 k2 (rn3 (X5_passes_b17 N x0 x1 k2) n) A x2 x3 = some ((), A') := hf
      have hk17 := ih
      generalize rn3 (X5_passes_b17 N x0 x1 k2) n = k17 at hf hk17
      unfold X5_passes_b17 at hf
      refine lv_iload_n E.1 hb dX5_passes_17 rfl (lv_at hl 3 rfl) ?_
      refine lv_aload_n E.1 hb dX5_passes_18 rfl (lv_at hl 0 rfl) ?_
      refine c_gN (k := 10) (f := 610) (q := 0) E hb hS ci_6 (sK hS (st_K0 hs0).1 (st_K0 hs0).2) rfl rfl rfl (st_R0 (cst hS) hs0) fk_X5_3_X5 (fun _ h => h) dX5_passes_19 ?_
      obtain ⟨r22, h1, hf⟩ := bo_s hf
      refine c_ki hS (va_runVN ⟨E.1, hb, hml, E.2.1, E.2.2.1⟩ (zX0_beings h1) ⟨va_cnB 0 E.2.2.1 (lw_meth q1234) rfl rfl rfl (E.2.2.2.2.1 _ q1231 rfl) (E.2.2.1 _ q152) gnX0_beings ⟨Nat.le_of_ble_eq_true rfl, Nat.le_of_ble_eq_true rfl⟩, E.2.2.1 _ q1233, E.2.2.1 _ qs34⟩ (c_preV E hS ci_1 (sK hS (by decide) rfl) (hS.1.lt (sK hS (by decide) rfl) rfl) _) rfl rfl hl.1 rfl (lv_room (Nat.le_of_ble_eq_true rfl)) dX5_passes_22 ⟨Nat.le_refl 0, Nat.le_refl 0⟩) hS.2.2.2.2 (fun H locs hS hn => ?_)
      refine lv_icmp_ge (tgt := 51) E.1 hb dX5_passes_25 (by decide) (fun hc => ?_) (fun hc => ?_)
      · have hf := it_s hc hf
        refine lv_iinc (v := (x2 + 1)) (lv' := [(2, .int (x2 + 1)), (0, .ref (ad x0)), (1, .int x1), (3, .int x3)]) E.1 hb dX5_passes_51 hl (k := 2) rfl rfl (by decide) rfl (fun ls hl => ?_)
        refine lv_goto (tgt := 2) E.1 hb dX5_passes_54 (by decide) ?_
        exact hk2 A (x2 + 1) hf _ _ hS _ (lv_sub hl [1, 2, 0] rfl)
      · have hf := if_s hc hf
        refine lv_aload_n E.1 hb dX5_passes_28 rfl (lv_at hl 0 rfl) ?_
        refine lv_iload_n E.1 hb dX5_passes_29 rfl (lv_at hl 2 rfl) ?_
        refine lv_iload_n E.1 hb dX5_passes_30 rfl (lv_at hl 3 rfl) ?_
        refine lv_iload_n E.1 hb dX5_passes_31 rfl (lv_at hl 1 rfl) ?_
        obtain ⟨r23, h1, hf⟩ := bo_s hf
        refine c_ki hS (va_runV ⟨E.1, hb, hml, E.2.1, E.2.2.1⟩ (zX5_meet h1) (cwV 3 E.2.2.1 gw_X5_93 rfl rfl rfl ⟨rfl, gnX5_meet⟩ ⟨Nat.le_of_ble_eq_true rfl, Nat.le_of_ble_eq_true rfl⟩) (c_preV E hS ci_6 (sK hS (st_K0 hs0).1 (st_K0 hs0).2) (hS.1.lt (sK hS (st_K0 hs0).1 (st_K0 hs0).2) rfl) _) rfl rfl hl.1 rfl (lv_room (Nat.le_of_ble_eq_true rfl)) dX5_passes_32 ⟨Nat.le_refl 0, Nat.le_refl 0⟩) hS.2.2.2.2 (fun H locs hS hn => ?_)
        refine lv_if_eq (tgt := 45) E.1 hb dX5_passes_35 (by decide) (fun hc => ?_) (fun hc => ?_)
        · have hf := it_s hc hf
          exact hB45 k2 hk2 k17 hk17 A x2 x3 hf _ _ hS _ (lv_sub hl [0, 1, 2, 3] rfl)
        · have hf := if_s hc hf
          refine lv_aload_n E.1 hb dX5_passes_38 rfl (lv_at hl 0 rfl) ?_
          refine lv_iload_n E.1 hb dX5_passes_39 rfl (lv_at hl 2 rfl) ?_
          refine lv_iload_n E.1 hb dX5_passes_40 rfl (lv_at hl 3 rfl) ?_
          refine lv_iload_n E.1 hb dX5_passes_41 rfl (lv_at hl 1 rfl) ?_
          obtain ⟨_, A24, h1, hf⟩ := bd_s hf
          refine c_kv hS (va_runV ⟨E.1, hb, hml, E.2.1, E.2.2.1⟩ (zX5_meeting h1) (cwV 3 E.2.2.1 gw_X5_152 rfl rfl rfl ⟨rfl, gnX5_meeting⟩ ⟨Nat.le_of_ble_eq_true rfl, Nat.le_of_ble_eq_true rfl⟩) (c_preV E hS ci_6 (sK hS (st_K0 hs0).1 (st_K0 hs0).2) (hS.1.lt (sK hS (st_K0 hs0).1 (st_K0 hs0).2) rfl) _) rfl rfl hl.1 rfl (lv_room (Nat.le_of_ble_eq_true rfl)) dX5_passes_42 ⟨Nat.le_refl 0, Nat.le_refl 0⟩) hS.2.2.2.2 (fun H locs hS hn => ?_)
          exact hB45 k2 hk2 k17 hk17 A24 x2 x3 hf _ _ hS _ (lv_sub hl [0, 1, 2, 3] rfl)
  have hL2 : ∀ (n : Nat) (A : AH) (x2 : Int32), rn2 (X5_passes_b2 N x0 x1) n A x2 = some ((), A') → ∀ (H : Heap) (locs : List Loc), cS dC dI ac ad True s.heap (aN A0) (aS A0) (aN A0) (aS A0) A H locs → ∀ (ls : Array Slot), lv_has ls 4 [(0, .ref (ad x0)), (1, .int x1), (2, .int x2)] → W p l e rX5_passes s m args below meth c H locs 0 0 (MQ below (cQv dC dI ac ad True (aN A0) (aS A0) (aN A0) (aS A0) A') args s 0 0 (cF ad)) (F0 m 2 ls []) := by
    intro  n
    induction n with
    | zero =>
      intro A x2 hf
      cases hf
    | succ n ih =>
      intro A x2 hf H locs hS ls hl
      have hf : X5_passes_b2 N x0 x1 (rn2 (X5_passes_b2 N x0 x1) n) A x2 = some ((), A') := hf
      have hk2 := ih
      generalize rn2 (X5_passes_b2 N x0 x1) n = k2 at hf hk2
      unfold X5_passes_b2 at hf
      refine lv_iload_n E.1 hb dX5_passes_2 rfl (lv_at hl 2 rfl) ?_
      refine lv_aload_n E.1 hb dX5_passes_3 rfl (lv_at hl 0 rfl) ?_
      refine c_gN (k := 10) (f := 610) (q := 0) E hb hS ci_6 (sK hS (st_K0 hs0).1 (st_K0 hs0).2) rfl rfl rfl (st_R0 (cst hS) hs0) fk_X5_3_X5 (fun _ h => h) dX5_passes_4 ?_
      obtain ⟨r1, h1, hf⟩ := bo_s hf
      refine c_ki hS (va_runVN ⟨E.1, hb, hml, E.2.1, E.2.2.1⟩ (zX0_beings h1) ⟨va_cnB 0 E.2.2.1 (lw_meth q1234) rfl rfl rfl (E.2.2.2.2.1 _ q1231 rfl) (E.2.2.1 _ q152) gnX0_beings ⟨Nat.le_of_ble_eq_true rfl, Nat.le_of_ble_eq_true rfl⟩, E.2.2.1 _ q1233, E.2.2.1 _ qs34⟩ (c_preV E hS ci_1 (sK hS (by decide) rfl) (hS.1.lt (sK hS (by decide) rfl) rfl) _) rfl rfl hl.1 rfl (lv_room (Nat.le_of_ble_eq_true rfl)) dX5_passes_7 ⟨Nat.le_refl 0, Nat.le_refl 0⟩) hS.2.2.2.2 (fun H locs hS hn => ?_)
      refine lv_icmp_ge (tgt := 57) E.1 hb dX5_passes_10 (by decide) (fun hc => ?_) (fun hc => ?_)
      · have hf := it_s hc hf
        refine lv_iconst (v := 0) E.1 hb dX5_passes_57 rfl ?_
        refine lv_istore_n (lv' := [(2, .int 0), (0, .ref (ad x0)), (1, .int x1)]) E.1 hb dX5_passes_58 rfl hl (by decide) rfl (fun ls hl => ?_)
        exact hL59 N A 0 hf _ _ hS _ (lv_sub hl [1, 2, 0] rfl)
      · have hf := if_s hc hf
        refine lv_iload_n E.1 hb dX5_passes_13 rfl (lv_at hl 2 rfl) ?_
        refine lv_iconst (v := 1) E.1 hb dX5_passes_14 rfl ?_
        refine lv_iadd E.1 hb dX5_passes_15 ?_
        refine lv_istore_n (lv' := [(3, .int (x2 + 1)), (0, .ref (ad x0)), (1, .int x1), (2, .int x2)]) E.1 hb dX5_passes_16 rfl hl (by decide) rfl (fun ls hl => ?_)
        exact hL17 k2 hk2 N A x2 (x2 + 1) hf _ _ hS _ (lv_sub hl [1, 2, 3, 0] rfl)
  refine lv_iconst (v := 0) E.1 hb dX5_passes_0 rfl ?_
  refine lv_istore_n (lv' := [(2, .int 0), (0, .ref (ad x0)), (1, .int x1)]) E.1 hb dX5_passes_1 rfl hl (by decide) rfl (fun ls hl => ?_)
  exact hL2 N A0 0 hf _ _ hS _ (lv_sub hl [1, 2, 0] rfl)
theorem fk_X0_293_X5 : FLk RX0 293 "MarginFolk$State" (TX5 8).2.1 (TX5 8).2.2.1 := Or.inr ⟨_, q442⟩
theorem gw_X0_283 : GoodIn lw_all (wsV RX0 283 RX0 yX0_ways (ws_ yX0_ways cX0_ways 4 (some .int))) := lw_V q1427 q1429 qs44 q152 q1430
theorem gnX0_ways : yX0_ways.cls ≠ "java/lang/invoke/MethodHandle" ∧ yX0_ways.cls ≠ "java/lang/invoke/VarHandle" ∧ (parseMethodDescriptor yX0_ways.desc).map (fun d => d.parameters.length) = some 1 := by decide +kernel
theorem gw_X0_290 : GoodIn lw_all (wsV RX0 290 RX5 yX5_passes (ws_ yX5_passes cX5_passes 4 none)) := lw_V q1435 q1436 q1437 q163 q1438
theorem gnX5_passes : yX5_passes.cls ≠ "java/lang/invoke/MethodHandle" ∧ yX5_passes.cls ≠ "java/lang/invoke/VarHandle" ∧ (parseMethodDescriptor yX5_passes.desc).map (fun d => d.parameters.length) = some 1 := by decide +kernel
theorem gw_X0_286 : GoodIn lw_all (wsV RX0 286 RX5 yX5_copy (ws_ yX5_copy cX5_copy 4 (some (.object "MarginFolk$State")))) := lw_V q1431 q1432 q1433 q163 q1434
theorem gnX5_copy : yX5_copy.cls ≠ "java/lang/invoke/MethodHandle" ∧ yX5_copy.cls ≠ "java/lang/invoke/VarHandle" ∧ (parseMethodDescriptor yX5_copy.desc).map (fun d => d.parameters.length) = some 1 := by decide +kernel
theorem gw_X0_279 : GoodIn lw_all (wsV RX0 279 RX0 yX0_isAhead (ws_ yX0_isAhead cX0_isAhead 4 (some .boolean))) := lw_V q1422 q1424 qs43 q152 q1425
theorem gnX0_isAhead : yX0_isAhead.cls ≠ "java/lang/invoke/MethodHandle" ∧ yX0_isAhead.cls ≠ "java/lang/invoke/VarHandle" ∧ (parseMethodDescriptor yX0_isAhead.desc).map (fun d => d.parameters.length) = some 3 := by decide +kernel
/-! MarginFolk.reading(II)I: RW -/
noncomputable def X0_reading_b132 (N : Nat) (x1 : Int32) (x2 : Int32) (k38 : AH → Int32 → Int32 → Int32 → Option (Int32 × AH)) (A : AH) (x3 : Int32) (x4 : Int32) (x5 : Int32) : Option (Int32 × AH) :=
  k38 A x3 x4 (x5 + 1)
noncomputable def X0_reading_b63 (N : Nat) (x1 : Int32) (x2 : Int32) (k38 : AH → Int32 → Int32 → Int32 → Option (Int32 × AH)) (k63 : AH → Int32 → Int32 → Int32 → Int32 → Option (Int32 × AH)) (A : AH) (x3 : Int32) (x4 : Int32) (x5 : Int32) (x6 : Int32) : Option (Int32 × AH) :=
  if x1 ≤ x6 then (if (aI A 608 64 0) < x4 then (X0_reading_b132 N x1 x2 k38 A x5 (aI A 608 64 0) x5) else (X0_reading_b132 N x1 x2 k38 A x3 x4 x5)) else (bo (X0_ways N A ((x1 - 1) - x6)) fun r9 => if ¬ r9 = 0 then (bo (aR A 100 0 0) fun q10 => bo (gI 2 A 201 q10) fun v11 => if ¬ (v11 + 1) = 0 then (bd (X5_passes N A 64 ((x5 / r9) - (x5 / r9) / (v11 + 1) * (v11 + 1))) fun _ A12 => k63 A12 x3 x4 x5 (x6 + 1)) else none) else none)
noncomputable def X0_reading_b38 (N : Nat) (x1 : Int32) (x2 : Int32) (k38 : AH → Int32 → Int32 → Int32 → Option (Int32 × AH)) (A : AH) (x3 : Int32) (x4 : Int32) (x5 : Int32) : Option (Int32 × AH) :=
  bo (X0_ways N A x1) fun r2 => if r2 ≤ x5 then (if x2 = (-1) then (some (x4, A)) else (bo (X0_ways N A ((x1 - 1) - x2)) fun r3 => if ¬ r3 = 0 then (bo (aR A 100 0 0) fun q4 => bo (gI 2 A 201 q4) fun v5 => if ¬ (v5 + 1) = 0 then (some (((x3 / r3) - (x3 / r3) / (v5 + 1) * (v5 + 1)), A)) else none) else none)) else (bd (X5_copy N A 64 16) fun r6 A7 => bo r6 fun q8 => rn5 (X0_reading_b63 N x1 x2 k38) N A7 x3 x4 x5 0)
noncomputable def X0_reading_b28 (N : Nat) (x1 : Int32) (x2 : Int32) (A : AH) : Option (Int32 × AH) :=
  rn4 (X0_reading_b38 N x1 x2) N A 0 100000000 0
noncomputable def X0_reading (N : Nat) (A0 : AH) (x1 : Int32) (x2 : Int32) : Option (Int32 × AH) :=
  bo (X0_isAhead A0 x1 1 3) fun r1 => if r1 = 0 then (some ((-1), A0)) else (if x2 = (-1) then (X0_reading_b28 N x1 x2 A0) else (bo (X0_is x2 0 (x1 - 1)) fun r13 => if r13 = 0 then (some ((-1), A0)) else (X0_reading_b28 N x1 x2 A0)))
abbrev rX0_reading : Room := { frames := 8226, cells := 0, slots := 0, locals := 185333 }
set_option maxHeartbeats 4000000 in
theorem zX0_reading {l : Launch} {dC : Nat → ClassId} {dI : Nat → Nat → Nat} {ac : Nat → ClassId} {ad : Nat → Nat} {N : Nat} {A0 : AH} {x1 : Int32} {x2 : Int32} {r : Int32} {A' : AH} (hf : X0_reading N A0 x1 x2 = some (r, A')) : Met l yX0_reading (ws_ yX0_reading cX0_reading 7 (some .int)) { frames := 8226, cells := 0, slots := 0, locals := 185333 } (va_Pc [.ref (ad 0), .int x1, .int x2] (cPre dC dI ac ad True A0)) (cQi dC dI ac ad True (aN A0) (aS A0) (aN A0) (aS A0) r A') 0 0 (cF ad) := by
  unfold X0_reading at hf
  refine c_of ⟨Nat.le_refl _, Nat.le_refl _⟩ RX0 (plainFor_of_name (by decide)) rfl (Nat.le_of_ble_eq_true rfl) ?_
  intro p e s m args below meth c E hb hr hlk hnm hml hS ls hl
  have hl : lv_has ls 7 [(0, .ref (ad 0)), (1, .int x1), (2, .int x2)] := hl
  have hB132 : ∀ (k38 : AH → Int32 → Int32 → Int32 → Option (Int32 × AH)) (hk38 : ∀ (A : AH) (x3 : Int32) (x4 : Int32) (x5 : Int32), k38 A x3 x4 x5 = some (r, A') → ∀ (H : Heap) (locs : List Loc), cS dC dI ac ad True s.heap (aN A0) (aS A0) (aN A0) (aS A0) A H locs → ∀ (ls : Array Slot), lv_has ls 7 [(0, .ref (ad 0)), (1, .int x1), (2, .int x2), (3, .int x3), (4, .int x4), (5, .int x5)] → W p l e rX0_reading s m args below meth c H locs 0 0 (MQ below (cQi dC dI ac ad True (aN A0) (aS A0) (aN A0) (aS A0) r A') args s 0 0 (cF ad)) (F0 m 38 ls [])) (A : AH) (x3 : Int32) (x4 : Int32) (x5 : Int32), X0_reading_b132 N x1 x2 k38 A x3 x4 x5 = some (r, A') → ∀ (H : Heap) (locs : List Loc), cS dC dI ac ad True s.heap (aN A0) (aS A0) (aN A0) (aS A0) A H locs → ∀ (ls : Array Slot), lv_has ls 7 [(0, .ref (ad 0)), (1, .int x1), (2, .int x2), (3, .int x3), (4, .int x4), (5, .int x5)] → W p l e rX0_reading s m args below meth c H locs 0 0 (MQ below (cQi dC dI ac ad True (aN A0) (aS A0) (aN A0) (aS A0) r A') args s 0 0 (cF ad)) (F0 m 132 ls []) := by
    intro k38 hk38 A x3 x4 x5 hf H locs hS ls hl
    unfold X0_reading_b132 at hf
    refine lv_iinc (v := (x5 + 1)) (lv' := [(5, .int (x5 + 1)), (0, .ref (ad 0)), (1, .int x1), (2, .int x2), (3, .int x3), (4, .int x4)]) E.1 hb dX0_reading_132 hl (k := 5) rfl rfl (by decide) rfl (fun ls hl => ?_)
    refine lv_goto (tgt := 38) E.1 hb dX0_reading_135 (by decide) ?_
    exact hk38 A x3 x4 (x5 + 1) hf _ _ hS _ (lv_sub hl [1, 2, 3, 4, 5, 0] rfl)
  have hL63 : ∀ (k38 : AH → Int32 → Int32 → Int32 → Option (Int32 × AH)) (hk38 : ∀ (A : AH) (x3 : Int32) (x4 : Int32) (x5 : Int32), k38 A x3 x4 x5 = some (r, A') → ∀ (H : Heap) (locs : List Loc), cS dC dI ac ad True s.heap (aN A0) (aS A0) (aN A0) (aS A0) A H locs → ∀ (ls : Array Slot), lv_has ls 7 [(0, .ref (ad 0)), (1, .int x1), (2, .int x2), (3, .int x3), (4, .int x4), (5, .int x5)] → W p l e rX0_reading s m args below meth c H locs 0 0 (MQ below (cQi dC dI ac ad True (aN A0) (aS A0) (aN A0) (aS A0) r A') args s 0 0 (cF ad)) (F0 m 38 ls [])) (n : Nat) (A : AH) (x3 : Int32) (x4 : Int32) (x5 : Int32) (x6 : Int32), rn5 (X0_reading_b63 N x1 x2 k38) n A x3 x4 x5 x6 = some (r, A') → ∀ (H : Heap) (locs : List Loc), cS dC dI ac ad True s.heap (aN A0) (aS A0) (aN A0) (aS A0) A H locs → ∀ (ls : Array Slot), lv_has ls 7 [(0, .ref (ad 0)), (1, .int x1), (2, .int x2), (3, .int x3), (4, .int x4), (5, .int x5), (6, .int x6)] → W p l e rX0_reading s m args below meth c H locs 0 0 (MQ below (cQi dC dI ac ad True (aN A0) (aS A0) (aN A0) (aS A0) r A') args s 0 0 (cF ad)) (F0 m 63 ls []) := by
    intro k38 hk38 n
    induction n with
    | zero =>
      intro A x3 x4 x5 x6 hf
      cases hf
    | succ n ih =>
      intro A x3 x4 x5 x6 hf H locs hS ls hl
      have hf : X0_reading_b63 N x1 x2 k38 (rn5 (X0_reading_b63 N x1 x2 k38) n) A x3 x4 x5 x6 = some (r, A') := hf
      have hk63 := ih
      generalize rn5 (X0_reading_b63 N x1 x2 k38) n = k63 at hf hk63
      unfold X0_reading_b63 at hf
      refine lv_iload E.1 hb dX0_reading_63 (lv_at hl 6 rfl) ?_
      refine lv_iload_n E.1 hb dX0_reading_65 rfl (lv_at hl 1 rfl) ?_
      refine lv_icmp_ge (tgt := 105) E.1 hb dX0_reading_66 (by decide) (fun hc => ?_) (fun hc => ?_)
      · have hf := it_s hc hf
        refine lv_aload_n E.1 hb dX0_reading_105 rfl (lv_at hl 0 rfl) ?_
        refine c_gN (k := 10) (f := 110) (q := 64) E hb hS ci_1 (sK hS (by decide) rfl) rfl rfl rfl (sRf hS (by decide) rfl) fk_X0_73_X0 (fun _ h => h) dX0_reading_106 ?_
        refine c_gI (k := 8) (f := 608) E hb hS ci_6 (sK hS (by decide) rfl) rfl rfl rfl fk_X0_293_X5 (fun _ h => h) dX0_reading_109 ?_
        refine lv_iload E.1 hb dX0_reading_112 (lv_at hl 4 rfl) ?_
        refine lv_icmp_lt (tgt := 120) E.1 hb dX0_reading_114 (by decide) (fun hc => ?_) (fun hc => ?_)
        · have hf := it_s hc hf
          refine lv_aload_n E.1 hb dX0_reading_120 rfl (lv_at hl 0 rfl) ?_
          refine c_gN (k := 10) (f := 110) (q := 64) E hb hS ci_1 (sK hS (by decide) rfl) rfl rfl rfl (sRf hS (by decide) rfl) fk_X0_73_X0 (fun _ h => h) dX0_reading_121 ?_
          refine c_gI (k := 8) (f := 608) E hb hS ci_6 (sK hS (by decide) rfl) rfl rfl rfl fk_X0_293_X5 (fun _ h => h) dX0_reading_124 ?_
          refine lv_istore (lv' := [(4, .int (aI A 608 64 0)), (0, .ref (ad 0)), (1, .int x1), (2, .int x2), (3, .int x3), (5, .int x5), (6, .int x6)]) E.1 hb dX0_reading_127 hl (by decide) rfl (fun ls hl => ?_)
          refine lv_iload E.1 hb dX0_reading_129 (lv_at hl 5 rfl) ?_
          refine lv_istore_n (lv' := [(3, .int x5), (4, .int (aI A 608 64 0)), (0, .ref (ad 0)), (1, .int x1), (2, .int x2), (5, .int x5), (6, .int x6)]) E.1 hb dX0_reading_131 rfl hl (by decide) rfl (fun ls hl => ?_)
          exact hB132 k38 hk38 A x5 (aI A 608 64 0) x5 hf _ _ hS _ (lv_sub hl [2, 3, 4, 0, 1, 5] rfl)
        · have hf := if_s hc hf
          refine lv_goto (tgt := 132) E.1 hb dX0_reading_117 (by decide) ?_
          exact hB132 k38 hk38 A x3 x4 x5 hf _ _ hS _ (lv_sub hl [0, 1, 2, 3, 4, 5] rfl)
      · have hf := if_s hc hf
        refine lv_aload_n E.1 hb dX0_reading_69 rfl (lv_at hl 0 rfl) ?_
        refine c_gN (k := 10) (f := 110) (q := 64) E hb hS ci_1 (sK hS (by decide) rfl) rfl rfl rfl (sRf hS (by decide) rfl) fk_X0_73_X0 (fun _ h => h) dX0_reading_70 ?_
        refine lv_iload E.1 hb dX0_reading_73 (lv_at hl 5 rfl) ?_
        refine lv_aload_n E.1 hb dX0_reading_75 rfl (lv_at hl 0 rfl) ?_
        refine lv_iload_n E.1 hb dX0_reading_76 rfl (lv_at hl 1 rfl) ?_
        refine lv_iconst (v := 1) E.1 hb dX0_reading_77 rfl ?_
        refine lv_isub E.1 hb dX0_reading_78 ?_
        refine lv_iload E.1 hb dX0_reading_79 (lv_at hl 6 rfl) ?_
        refine lv_isub E.1 hb dX0_reading_81 ?_
        obtain ⟨r9, h1, hf⟩ := bo_s hf
        refine c_ki hS (va_runV ⟨E.1, hb, hml, E.2.1, E.2.2.1⟩ (zX0_ways h1) (cwV 1 E.2.2.1 gw_X0_283 rfl rfl rfl ⟨rfl, gnX0_ways⟩ ⟨Nat.le_of_ble_eq_true rfl, Nat.le_of_ble_eq_true rfl⟩) (c_preV E hS ci_1 (sK hS (by decide) rfl) (hS.1.lt (sK hS (by decide) rfl) rfl) _) rfl rfl hl.1 rfl (lv_room (Nat.le_of_ble_eq_true rfl)) dX0_reading_82 ⟨Nat.le_refl 0, Nat.le_refl 0⟩) hS.2.2.2.2 (fun H locs hS hn => ?_)
        obtain ⟨hg, hf⟩ := gu_s hf
        refine lv_idiv E.1 hb dX0_reading_85 hg ?_
        refine lv_aload_n E.1 hb dX0_reading_86 rfl (lv_at hl 0 rfl) ?_
        obtain ⟨q10, hr7, hf⟩ := bo_s hf
        refine c_gN (k := 0) (f := 100) E hb hS ci_1 (sK hS (by decide) rfl) rfl rfl rfl hr7 fk_X0_31_X0 (fun _ h => h) dX0_reading_87 ?_
        obtain ⟨hk, hf⟩ := gI_s hf
        refine c_gI (k := 1) (f := 201) E hb hS ci_2 hk rfl rfl rfl fk_X0_154_X1 (fun _ h => h) dX0_reading_90 ?_
        refine lv_iconst (v := 1) E.1 hb dX0_reading_93 rfl ?_
        refine lv_iadd E.1 hb dX0_reading_94 ?_
        obtain ⟨hg, hf⟩ := gu_s hf
        refine lv_irem E.1 hb dX0_reading_95 hg ?_
        obtain ⟨_, A12, h1, hf⟩ := bd_s hf
        refine c_kv hS (va_runV ⟨E.1, hb, hml, E.2.1, E.2.2.1⟩ (zX5_passes h1) (cwV 1 E.2.2.1 gw_X0_290 rfl rfl rfl ⟨rfl, gnX5_passes⟩ ⟨Nat.le_of_ble_eq_true rfl, Nat.le_of_ble_eq_true rfl⟩) (c_preV E hS ci_6 (sK hS (by decide) rfl) (hS.1.lt (sK hS (by decide) rfl) rfl) _) rfl rfl hl.1 rfl (lv_room (Nat.le_of_ble_eq_true rfl)) dX0_reading_96 ⟨Nat.le_refl 0, Nat.le_refl 0⟩) hS.2.2.2.2 (fun H locs hS hn => ?_)
        refine lv_iinc (v := (x6 + 1)) (lv' := [(6, .int (x6 + 1)), (0, .ref (ad 0)), (1, .int x1), (2, .int x2), (3, .int x3), (4, .int x4), (5, .int x5)]) E.1 hb dX0_reading_99 hl (k := 6) rfl rfl (by decide) rfl (fun ls hl => ?_)
        refine lv_goto (tgt := 63) E.1 hb dX0_reading_102 (by decide) ?_
        exact hk63 A12 x3 x4 x5 (x6 + 1) hf _ _ hS _ (lv_sub hl [1, 2, 3, 4, 5, 6, 0] rfl)
  have hL38 : ∀ (n : Nat) (A : AH) (x3 : Int32) (x4 : Int32) (x5 : Int32), rn4 (X0_reading_b38 N x1 x2) n A x3 x4 x5 = some (r, A') → ∀ (H : Heap) (locs : List Loc), cS dC dI ac ad True s.heap (aN A0) (aS A0) (aN A0) (aS A0) A H locs → ∀ (ls : Array Slot), lv_has ls 7 [(0, .ref (ad 0)), (1, .int x1), (2, .int x2), (3, .int x3), (4, .int x4), (5, .int x5)] → W p l e rX0_reading s m args below meth c H locs 0 0 (MQ below (cQi dC dI ac ad True (aN A0) (aS A0) (aN A0) (aS A0) r A') args s 0 0 (cF ad)) (F0 m 38 ls []) := by
    intro  n
    induction n with
    | zero =>
      intro A x3 x4 x5 hf
      cases hf
    | succ n ih =>
      intro A x3 x4 x5 hf H locs hS ls hl
      have hf : X0_reading_b38 N x1 x2 (rn4 (X0_reading_b38 N x1 x2) n) A x3 x4 x5 = some (r, A') := hf
      have hk38 := ih
      generalize rn4 (X0_reading_b38 N x1 x2) n = k38 at hf hk38
      unfold X0_reading_b38 at hf
      refine lv_iload E.1 hb dX0_reading_38 (lv_at hl 5 rfl) ?_
      refine lv_aload_n E.1 hb dX0_reading_40 rfl (lv_at hl 0 rfl) ?_
      refine lv_iload_n E.1 hb dX0_reading_41 rfl (lv_at hl 1 rfl) ?_
      obtain ⟨r2, h1, hf⟩ := bo_s hf
      refine c_ki hS (va_runV ⟨E.1, hb, hml, E.2.1, E.2.2.1⟩ (zX0_ways h1) (cwV 1 E.2.2.1 gw_X0_283 rfl rfl rfl ⟨rfl, gnX0_ways⟩ ⟨Nat.le_of_ble_eq_true rfl, Nat.le_of_ble_eq_true rfl⟩) (c_preV E hS ci_1 (sK hS (by decide) rfl) (hS.1.lt (sK hS (by decide) rfl) rfl) _) rfl rfl hl.1 rfl (lv_room (Nat.le_of_ble_eq_true rfl)) dX0_reading_42 ⟨Nat.le_refl 0, Nat.le_refl 0⟩) hS.2.2.2.2 (fun H locs hS hn => ?_)
      refine lv_icmp_ge (tgt := 138) E.1 hb dX0_reading_45 (by decide) (fun hc => ?_) (fun hc => ?_)
      · have hf := it_s hc hf
        refine lv_iload_n E.1 hb dX0_reading_138 rfl (lv_at hl 2 rfl) ?_
        refine lv_iconst (v := (-1)) E.1 hb dX0_reading_139 rfl ?_
        refine lv_icmp_ne (tgt := 148) E.1 hb dX0_reading_140 (by decide) (fun hc => ?_) (fun hc => ?_)
        · have hf := if_s hc hf
          refine lv_iload_n E.1 hb dX0_reading_148 rfl (lv_at hl 3 rfl) ?_
          refine lv_aload_n E.1 hb dX0_reading_149 rfl (lv_at hl 0 rfl) ?_
          refine lv_iload_n E.1 hb dX0_reading_150 rfl (lv_at hl 1 rfl) ?_
          refine lv_iconst (v := 1) E.1 hb dX0_reading_151 rfl ?_
          refine lv_isub E.1 hb dX0_reading_152 ?_
          refine lv_iload_n E.1 hb dX0_reading_153 rfl (lv_at hl 2 rfl) ?_
          refine lv_isub E.1 hb dX0_reading_154 ?_
          obtain ⟨r3, h1, hf⟩ := bo_s hf
          refine c_ki hS (va_runV ⟨E.1, hb, hml, E.2.1, E.2.2.1⟩ (zX0_ways h1) (cwV 1 E.2.2.1 gw_X0_283 rfl rfl rfl ⟨rfl, gnX0_ways⟩ ⟨Nat.le_of_ble_eq_true rfl, Nat.le_of_ble_eq_true rfl⟩) (c_preV E hS ci_1 (sK hS (by decide) rfl) (hS.1.lt (sK hS (by decide) rfl) rfl) _) rfl rfl hl.1 rfl (lv_room (Nat.le_of_ble_eq_true rfl)) dX0_reading_155 ⟨Nat.le_refl 0, Nat.le_refl 0⟩) hS.2.2.2.2 (fun H locs hS hn => ?_)
          obtain ⟨hg, hf⟩ := gu_s hf
          refine lv_idiv E.1 hb dX0_reading_158 hg ?_
          refine lv_aload_n E.1 hb dX0_reading_159 rfl (lv_at hl 0 rfl) ?_
          obtain ⟨q4, hr7, hf⟩ := bo_s hf
          refine c_gN (k := 0) (f := 100) E hb hS ci_1 (sK hS (by decide) rfl) rfl rfl rfl hr7 fk_X0_31_X0 (fun _ h => h) dX0_reading_160 ?_
          obtain ⟨hk, hf⟩ := gI_s hf
          refine c_gI (k := 1) (f := 201) E hb hS ci_2 hk rfl rfl rfl fk_X0_154_X1 (fun _ h => h) dX0_reading_163 ?_
          refine lv_iconst (v := 1) E.1 hb dX0_reading_166 rfl ?_
          refine lv_iadd E.1 hb dX0_reading_167 ?_
          obtain ⟨hg, hf⟩ := gu_s hf
          refine lv_irem E.1 hb dX0_reading_168 hg ?_
          exact c_ir E hb hr hlk hS ⟨Nat.le_refl 0, Nat.le_refl 0⟩ hf dX0_reading_169
        · have hf := it_s hc hf
          refine lv_iload E.1 hb dX0_reading_143 (lv_at hl 4 rfl) ?_
          refine lv_goto (tgt := 169) E.1 hb dX0_reading_145 (by decide) ?_
          exact c_ir E hb hr hlk hS ⟨Nat.le_refl 0, Nat.le_refl 0⟩ hf dX0_reading_169
      · have hf := if_s hc hf
        refine lv_aload_n E.1 hb dX0_reading_48 rfl (lv_at hl 0 rfl) ?_
        refine c_gN (k := 10) (f := 110) (q := 64) E hb hS ci_1 (sK hS (by decide) rfl) rfl rfl rfl (sRf hS (by decide) rfl) fk_X0_73_X0 (fun _ h => h) dX0_reading_49 ?_
        refine lv_aload_n E.1 hb dX0_reading_52 rfl (lv_at hl 0 rfl) ?_
        refine c_gN (k := 9) (f := 109) (q := 16) E hb hS ci_1 (sK hS (by decide) rfl) rfl rfl rfl (sRf hS (by decide) rfl) fk_X0_69_X0 (fun _ h => h) dX0_reading_53 ?_
        obtain ⟨r6, A7, h1, hf⟩ := bd_s hf
        refine c_kq hS (va_runV ⟨E.1, hb, hml, E.2.1, E.2.2.1⟩ (zX5_copy h1) (cwV 1 E.2.2.1 gw_X0_286 rfl rfl rfl ⟨rfl, gnX5_copy⟩ ⟨Nat.le_of_ble_eq_true rfl, Nat.le_of_ble_eq_true rfl⟩) (c_preV E hS ci_6 (sK hS (by decide) rfl) (hS.1.lt (sK hS (by decide) rfl) rfl) _) rfl rfl hl.1 rfl (lv_room (Nat.le_of_ble_eq_true rfl)) dX0_reading_56 ⟨Nat.le_refl 0, Nat.le_refl 0⟩) hS.2.2.2.2 (fun H locs hS hn => ?_)
        obtain ⟨q8, hr9, hf⟩ := bo_s hf
        refine c_dr hr9 ?_
        refine lv_pop E.1 hb dX0_reading_59 rfl ?_
        refine lv_iconst (v := 0) E.1 hb dX0_reading_60 rfl ?_
        refine lv_istore (lv' := [(6, .int 0), (0, .ref (ad 0)), (1, .int x1), (2, .int x2), (3, .int x3), (4, .int x4), (5, .int x5)]) E.1 hb dX0_reading_61 hl (by decide) rfl (fun ls hl => ?_)
        exact hL63 k38 hk38 N A7 x3 x4 x5 0 hf _ _ hS _ (lv_sub hl [1, 2, 3, 4, 5, 6, 0] rfl)
  have hB28 : ∀ (A : AH), X0_reading_b28 N x1 x2 A = some (r, A') → ∀ (H : Heap) (locs : List Loc), cS dC dI ac ad True s.heap (aN A0) (aS A0) (aN A0) (aS A0) A H locs → ∀ (ls : Array Slot), lv_has ls 7 [(0, .ref (ad 0)), (1, .int x1), (2, .int x2)] → W p l e rX0_reading s m args below meth c H locs 0 0 (MQ below (cQi dC dI ac ad True (aN A0) (aS A0) (aN A0) (aS A0) r A') args s 0 0 (cF ad)) (F0 m 28 ls []) := by
    intro A hf H locs hS ls hl
    unfold X0_reading_b28 at hf
    refine lv_iconst (v := 0) E.1 hb dX0_reading_28 rfl ?_
    refine lv_istore_n (lv' := [(3, .int 0), (0, .ref (ad 0)), (1, .int x1), (2, .int x2)]) E.1 hb dX0_reading_29 rfl hl (by decide) rfl (fun ls hl => ?_)
    refine lv_ldcw E.1 hb E.2.1 (E.2.2.1 _ q1426) dX0_reading_30 ?_
    refine lv_istore (lv' := [(4, .int 100000000), (3, .int 0), (0, .ref (ad 0)), (1, .int x1), (2, .int x2)]) E.1 hb dX0_reading_33 hl (by decide) rfl (fun ls hl => ?_)
    refine lv_iconst (v := 0) E.1 hb dX0_reading_35 rfl ?_
    refine lv_istore (lv' := [(5, .int 0), (4, .int 100000000), (3, .int 0), (0, .ref (ad 0)), (1, .int x1), (2, .int x2)]) E.1 hb dX0_reading_36 hl (by decide) rfl (fun ls hl => ?_)
    exact hL38 N A 0 100000000 0 hf _ _ hS _ (lv_sub hl [3, 4, 5, 2, 1, 0] rfl)
  refine lv_aload_n E.1 hb dX0_reading_0 rfl (lv_at hl 0 rfl) ?_
  refine lv_iload_n E.1 hb dX0_reading_1 rfl (lv_at hl 1 rfl) ?_
  refine lv_iconst (v := 1) E.1 hb dX0_reading_2 rfl ?_
  refine lv_iconst (v := 3) E.1 hb dX0_reading_3 rfl ?_
  obtain ⟨r1, h1, hf⟩ := bo_s hf
  refine c_ki hS (va_runV ⟨E.1, hb, hml, E.2.1, E.2.2.1⟩ (zX0_isAhead h1) (cwV 3 E.2.2.1 gw_X0_279 rfl rfl rfl ⟨rfl, gnX0_isAhead⟩ ⟨Nat.le_of_ble_eq_true rfl, Nat.le_of_ble_eq_true rfl⟩) (c_preV E hS ci_1 (sK hS (by decide) rfl) (hS.1.lt (sK hS (by decide) rfl) rfl) _) rfl rfl hl.1 rfl (lv_room (Nat.le_of_ble_eq_true rfl)) dX0_reading_4 ⟨Nat.le_refl 0, Nat.le_refl 0⟩) hS.2.2.2.2 (fun H locs hS hn => ?_)
  refine lv_if_eq (tgt := 26) E.1 hb dX0_reading_7 (by decide) (fun hc => ?_) (fun hc => ?_)
  · have hf := it_s hc hf
    refine lv_iconst (v := (-1)) E.1 hb dX0_reading_26 rfl ?_
    exact c_ir E hb hr hlk hS ⟨Nat.le_refl 0, Nat.le_refl 0⟩ hf dX0_reading_27
  · have hf := if_s hc hf
    refine lv_iload_n E.1 hb dX0_reading_10 rfl (lv_at hl 2 rfl) ?_
    refine lv_iconst (v := (-1)) E.1 hb dX0_reading_11 rfl ?_
    refine lv_icmp_eq (tgt := 28) E.1 hb dX0_reading_12 (by decide) (fun hc => ?_) (fun hc => ?_)
    · have hf := it_s hc hf
      exact hB28 A0 hf _ _ hS _ (lv_sub hl [0, 1, 2] rfl)
    · have hf := if_s hc hf
      refine lv_iload_n E.1 hb dX0_reading_15 rfl (lv_at hl 2 rfl) ?_
      refine lv_iconst (v := 0) E.1 hb dX0_reading_16 rfl ?_
      refine lv_iload_n E.1 hb dX0_reading_17 rfl (lv_at hl 1 rfl) ?_
      refine lv_iconst (v := 1) E.1 hb dX0_reading_18 rfl ?_
      refine lv_isub E.1 hb dX0_reading_19 ?_
      obtain ⟨r13, h1, hf⟩ := bo_s hf
      refine c_ki hS (va_runS ⟨E.1, hb, hml, E.2.1, E.2.2.1⟩ (zX0_is h1) (va_cwS 3 E.2.2.1 gw_X0_168 rfl rfl rfl gnX0_is ⟨Nat.le_of_ble_eq_true rfl, Nat.le_of_ble_eq_true rfl⟩) (c_preS E hS _) rfl rfl hl.1 rfl (lv_room (Nat.le_of_ble_eq_true rfl)) dX0_reading_20 ⟨Nat.le_refl 0, Nat.le_refl 0⟩) hS.2.2.2.2 (fun H locs hS hn => ?_)
      refine lv_if_ne (tgt := 28) E.1 hb dX0_reading_23 (by decide) (fun hc => ?_) (fun hc => ?_)
      · have hf := if_s hc hf
        exact hB28 A0 hf _ _ hS _ (lv_sub hl [0, 1, 2] rfl)
      · have hf := it_s hc hf
        refine lv_iconst (v := (-1)) E.1 hb dX0_reading_26 rfl ?_
        exact c_ir E hb hr hlk hS ⟨Nat.le_refl 0, Nat.le_refl 0⟩ hf dX0_reading_27
theorem gw_X5_177 : GoodIn lw_all (wsV RX5 177 RX5 yX5_passes (ws_ yX5_passes cX5_passes 4 none)) := lw_V q1507 q1436 q1437 q163 q1438
/-! MarginFolk$State.days(I)LMarginFolk$State;: RW -/
noncomputable def X5_days_b2 (N : Nat) (x0 : Nat) (x1 : Int32) (k2 : AH → Int32 → Option (Option Nat × AH)) (A : AH) (x2 : Int32) : Option (Option Nat × AH) :=
  if x1 ≤ x2 then (some ((some x0), A)) else (bd (X0_openingOf (valF N) A (aI A 600 x0 0)) fun r1 A2 => bd (X5_passes N A2 x0 r1) fun _ A3 => k2 A3 (x2 + 1))
noncomputable def X5_days (N : Nat) (A0 : AH) (x0 : Nat) (x1 : Int32) : Option (Option Nat × AH) :=
  if isStb x0 = true then (rn2 (X5_days_b2 N x0 x1) N A0 0) else none
abbrev rX5_days : Room := { frames := 8226, cells := 0, slots := 0, locals := 185333 }
set_option maxHeartbeats 4000000 in
theorem zX5_days {l : Launch} {dC : Nat → ClassId} {dI : Nat → Nat → Nat} {ac : Nat → ClassId} {ad : Nat → Nat} {N : Nat} {A0 : AH} {x0 : Nat} {x1 : Int32} {r : Option Nat} {A' : AH} (hf : X5_days N A0 x0 x1 = some (r, A')) : Met l yX5_days (ws_ yX5_days cX5_days 3 (some (.object "MarginFolk$State"))) { frames := 8226, cells := 0, slots := 0, locals := 185333 } (va_Pc [.ref (ad x0), .int x1] (cPre dC dI ac ad True A0)) (cQq dC dI ac ad True (aN A0) (aS A0) (aN A0) (aS A0) r A') 0 0 (cF ad) := by
  unfold X5_days at hf
  obtain ⟨hg0, hf⟩ := gu_s hf
  have hs0 := isSt_of hg0
  refine c_of ⟨Nat.le_refl _, Nat.le_refl _⟩ RX5 (plainFor_of_name (by decide)) rfl (Nat.le_of_ble_eq_true rfl) ?_
  intro p e s m args below meth c E hb hr hlk hnm hml hS ls hl
  have hl : lv_has ls 3 [(0, .ref (ad x0)), (1, .int x1)] := hl
  have hL2 : ∀ (n : Nat) (A : AH) (x2 : Int32), rn2 (X5_days_b2 N x0 x1) n A x2 = some (r, A') → ∀ (H : Heap) (locs : List Loc), cS dC dI ac ad True s.heap (aN A0) (aS A0) (aN A0) (aS A0) A H locs → ∀ (ls : Array Slot), lv_has ls 3 [(0, .ref (ad x0)), (1, .int x1), (2, .int x2)] → W p l e rX5_days s m args below meth c H locs 0 0 (MQ below (cQq dC dI ac ad True (aN A0) (aS A0) (aN A0) (aS A0) r A') args s 0 0 (cF ad)) (F0 m 2 ls []) := by
    intro  n
    induction n with
    | zero =>
      intro A x2 hf
      cases hf
    | succ n ih =>
      intro A x2 hf H locs hS ls hl
      have hf : X5_days_b2 N x0 x1 (rn2 (X5_days_b2 N x0 x1) n) A x2 = some (r, A') := hf
      have hk2 := ih
      generalize rn2 (X5_days_b2 N x0 x1) n = k2 at hf hk2
      unfold X5_days_b2 at hf
      refine lv_iload_n E.1 hb dX5_days_2 rfl (lv_at hl 2 rfl) ?_
      refine lv_iload_n E.1 hb dX5_days_3 rfl (lv_at hl 1 rfl) ?_
      refine lv_icmp_ge (tgt := 28) E.1 hb dX5_days_4 (by decide) (fun hc => ?_) (fun hc => ?_)
      · have hf := it_s hc hf
        refine lv_aload_n E.1 hb dX5_days_28 rfl (lv_at hl 0 rfl) ?_
        exact c_ar E hb hr (Or.inl ⟨_, rfl⟩) hlk hS ⟨Nat.le_refl 0, Nat.le_refl 0⟩ (v := (some x0)) hf dX5_days_29
      · have hf := if_s hc hf
        refine lv_aload_n E.1 hb dX5_days_7 rfl (lv_at hl 0 rfl) ?_
        refine lv_aload_n E.1 hb dX5_days_8 rfl (lv_at hl 0 rfl) ?_
        refine c_gN (k := 10) (f := 610) (q := 0) E hb hS ci_6 (sK hS (st_K0 hs0).1 (st_K0 hs0).2) rfl rfl rfl (st_R0 (cst hS) hs0) fk_X5_3_X5 (fun _ h => h) dX5_days_9 ?_
        refine lv_aload_n E.1 hb dX5_days_12 rfl (lv_at hl 0 rfl) ?_
        refine c_gI (k := 0) (f := 600) E hb hS ci_6 (sK hS (st_K0 hs0).1 (st_K0 hs0).2) rfl rfl rfl fk_X5_39_X5 (fun _ h => h) dX5_days_13 ?_
        obtain ⟨r1, A2, h1, hf⟩ := bd_s hf
        refine c_ki hS (va_runVN ⟨E.1, hb, hml, E.2.1, E.2.2.1⟩ (zX0_openingOf zvalF h1) ⟨va_cnB 1 E.2.2.1 (lw_meth q1262) rfl rfl rfl (E.2.2.2.2.1 _ q1506 rfl) (E.2.2.1 _ q152) gnX0_openingOf ⟨by dsimp only; omega, by dsimp only; omega⟩, E.2.2.1 _ q1261, E.2.2.1 _ qs36⟩ (c_preV E hS ci_1 (sK hS (by decide) rfl) (hS.1.lt (sK hS (by decide) rfl) rfl) _) rfl rfl hl.1 rfl (lv_room (Nat.le_of_ble_eq_true rfl)) dX5_days_16 ⟨Nat.le_refl 0, Nat.le_refl 0⟩) hS.2.2.2.2 (fun H locs hS hn => ?_)
        obtain ⟨_, A3, h1, hf⟩ := bd_s hf
        refine c_kv hS (va_runV ⟨E.1, hb, hml, E.2.1, E.2.2.1⟩ (zX5_passes h1) (cwV 1 E.2.2.1 gw_X5_177 rfl rfl rfl ⟨rfl, gnX5_passes⟩ ⟨Nat.le_of_ble_eq_true rfl, Nat.le_of_ble_eq_true rfl⟩) (c_preV E hS ci_6 (sK hS (st_K0 hs0).1 (st_K0 hs0).2) (hS.1.lt (sK hS (st_K0 hs0).1 (st_K0 hs0).2) rfl) _) rfl rfl hl.1 rfl (lv_room (Nat.le_of_ble_eq_true rfl)) dX5_days_19 ⟨Nat.le_refl 0, Nat.le_refl 0⟩) hS.2.2.2.2 (fun H locs hS hn => ?_)
        refine lv_iinc (v := (x2 + 1)) (lv' := [(2, .int (x2 + 1)), (0, .ref (ad x0)), (1, .int x1)]) E.1 hb dX5_days_22 hl (k := 2) rfl rfl (by decide) rfl (fun ls hl => ?_)
        refine lv_goto (tgt := 2) E.1 hb dX5_days_25 (by decide) ?_
        exact hk2 A3 (x2 + 1) hf _ _ hS _ (lv_sub hl [1, 2, 0] rfl)
  refine lv_iconst (v := 0) E.1 hb dX5_days_0 rfl ?_
  refine lv_istore_n (lv' := [(2, .int 0), (0, .ref (ad x0)), (1, .int x1)]) E.1 hb dX5_days_1 rfl hl (by decide) rfl (fun ls hl => ?_)
  exact hL2 N A0 0 hf _ _ hS _ (lv_sub hl [1, 2, 0] rfl)
theorem gw_X0_295 : GoodIn lw_all (wsV RX0 295 RX5 yX5_days (ws_ yX5_days cX5_days 3 (some (.object "MarginFolk$State")))) := lw_V q1502 q1503 q1504 q163 q1505
theorem gnX5_days : yX5_days.cls ≠ "java/lang/invoke/MethodHandle" ∧ yX5_days.cls ≠ "java/lang/invoke/VarHandle" ∧ (parseMethodDescriptor yX5_days.desc).map (fun d => d.parameters.length) = some 1 := by decide +kernel
theorem fk_X0_299_X5 : FLk RX0 299 "MarginFolk$State" (TX5 9).2.1 (TX5 9).2.2.1 := Or.inr ⟨_, q444⟩
/-! MarginFolk.later(III)I: RW -/
noncomputable def X0_later (N : Nat) (A0 : AH) (x1 : Int32) (x2 : Int32) (x3 : Int32) : Option (Int32 × AH) :=
  bo (X0_isBeing A0 x1) fun r1 => if r1 = 0 then (some ((-1), A0)) else (bo (X0_isAhead A0 x2 0 60) fun r2 => if r2 = 0 then (some ((-1), A0)) else (bo (X0_is x3 0 2) fun r3 => if r3 = 0 then (some ((-1), A0)) else (bd (X5_copy N A0 64 16) fun r4 A5 => bo r4 fun q6 => if aK A5 q6 = 6 then ( bd (X5_days N A5 q6 x2) fun r7 A8 => bo r7 fun q9 => if x3 = 0 then (bo (sI 8 31 A8 67 x1) fun v12 => some (v12, A8)) else (if x3 = 1 then (bo (sI 8 31 A8 68 x1) fun v11 => some (v11, A8)) else (bo (sI 8 31 A8 111 x1) fun v10 => some (v10, A8)))) else none)))
abbrev rX0_later : Room := { frames := 8227, cells := 0, slots := 0, locals := 185355 }
set_option maxHeartbeats 4000000 in
theorem zX0_later {l : Launch} {dC : Nat → ClassId} {dI : Nat → Nat → Nat} {ac : Nat → ClassId} {ad : Nat → Nat} {N : Nat} {A0 : AH} {x1 : Int32} {x2 : Int32} {x3 : Int32} {r : Int32} {A' : AH} (hf : X0_later N A0 x1 x2 x3 = some (r, A')) : Met l yX0_later (ws_ yX0_later cX0_later 4 (some .int)) { frames := 8227, cells := 0, slots := 0, locals := 185355 } (va_Pc [.ref (ad 0), .int x1, .int x2, .int x3] (cPre dC dI ac ad True A0)) (cQi dC dI ac ad True (aN A0) (aS A0) (aN A0) (aS A0) r A') 0 0 (cF ad) := by
  unfold X0_later at hf
  refine c_of ⟨Nat.le_refl _, Nat.le_refl _⟩ RX0 (plainFor_of_name (by decide)) rfl (Nat.le_of_ble_eq_true rfl) ?_
  intro p e s m args below meth c E hb hr hlk hnm hml hS ls hl
  have hl : lv_has ls 4 [(0, .ref (ad 0)), (1, .int x1), (2, .int x2), (3, .int x3)] := hl
  refine lv_aload_n E.1 hb dX0_later_0 rfl (lv_at hl 0 rfl) ?_
  refine lv_iload_n E.1 hb dX0_later_1 rfl (lv_at hl 1 rfl) ?_
  obtain ⟨r1, h1, hf⟩ := bo_s hf
  refine c_ki hS (va_runV ⟨E.1, hb, hml, E.2.1, E.2.2.1⟩ (zX0_isBeing h1) (cwV 1 E.2.2.1 gw_X0_225 rfl rfl rfl ⟨rfl, gnX0_isBeing⟩ ⟨Nat.le_of_ble_eq_true rfl, Nat.le_of_ble_eq_true rfl⟩) (c_preV E hS ci_1 (sK hS (by decide) rfl) (hS.1.lt (sK hS (by decide) rfl) rfl) _) rfl rfl hl.1 rfl (lv_room (Nat.le_of_ble_eq_true rfl)) dX0_later_2 ⟨Nat.le_refl 0, Nat.le_refl 0⟩) hS.2.2.2.2 (fun H locs hS hn => ?_)
  refine lv_if_eq (tgt := 28) E.1 hb dX0_later_5 (by decide) (fun hc => ?_) (fun hc => ?_)
  · have hf := it_s hc hf
    refine lv_iconst (v := (-1)) E.1 hb dX0_later_28 rfl ?_
    exact c_ir E hb hr hlk hS ⟨Nat.le_refl 0, Nat.le_refl 0⟩ hf dX0_later_29
  · have hf := if_s hc hf
    refine lv_aload_n E.1 hb dX0_later_8 rfl (lv_at hl 0 rfl) ?_
    refine lv_iload_n E.1 hb dX0_later_9 rfl (lv_at hl 2 rfl) ?_
    refine lv_iconst (v := 0) E.1 hb dX0_later_10 rfl ?_
    refine lv_bipush (v := 60) E.1 hb dX0_later_11 rfl ?_
    obtain ⟨r2, h1, hf⟩ := bo_s hf
    refine c_ki hS (va_runV ⟨E.1, hb, hml, E.2.1, E.2.2.1⟩ (zX0_isAhead h1) (cwV 3 E.2.2.1 gw_X0_279 rfl rfl rfl ⟨rfl, gnX0_isAhead⟩ ⟨Nat.le_of_ble_eq_true rfl, Nat.le_of_ble_eq_true rfl⟩) (c_preV E hS ci_1 (sK hS (by decide) rfl) (hS.1.lt (sK hS (by decide) rfl) rfl) _) rfl rfl hl.1 rfl (lv_room (Nat.le_of_ble_eq_true rfl)) dX0_later_13 ⟨Nat.le_refl 0, Nat.le_refl 0⟩) hS.2.2.2.2 (fun H locs hS hn => ?_)
    refine lv_if_eq (tgt := 28) E.1 hb dX0_later_16 (by decide) (fun hc => ?_) (fun hc => ?_)
    · have hf := it_s hc hf
      refine lv_iconst (v := (-1)) E.1 hb dX0_later_28 rfl ?_
      exact c_ir E hb hr hlk hS ⟨Nat.le_refl 0, Nat.le_refl 0⟩ hf dX0_later_29
    · have hf := if_s hc hf
      refine lv_iload_n E.1 hb dX0_later_19 rfl (lv_at hl 3 rfl) ?_
      refine lv_iconst (v := 0) E.1 hb dX0_later_20 rfl ?_
      refine lv_iconst (v := 2) E.1 hb dX0_later_21 rfl ?_
      obtain ⟨r3, h1, hf⟩ := bo_s hf
      refine c_ki hS (va_runS ⟨E.1, hb, hml, E.2.1, E.2.2.1⟩ (zX0_is h1) (va_cwS 3 E.2.2.1 gw_X0_168 rfl rfl rfl gnX0_is ⟨Nat.le_of_ble_eq_true rfl, Nat.le_of_ble_eq_true rfl⟩) (c_preS E hS _) rfl rfl hl.1 rfl (lv_room (Nat.le_of_ble_eq_true rfl)) dX0_later_22 ⟨Nat.le_refl 0, Nat.le_refl 0⟩) hS.2.2.2.2 (fun H locs hS hn => ?_)
      refine lv_if_ne (tgt := 30) E.1 hb dX0_later_25 (by decide) (fun hc => ?_) (fun hc => ?_)
      · have hf := if_s hc hf
        refine lv_aload_n E.1 hb dX0_later_30 rfl (lv_at hl 0 rfl) ?_
        refine c_gN (k := 10) (f := 110) (q := 64) E hb hS ci_1 (sK hS (by decide) rfl) rfl rfl rfl (sRf hS (by decide) rfl) fk_X0_73_X0 (fun _ h => h) dX0_later_31 ?_
        refine lv_aload_n E.1 hb dX0_later_34 rfl (lv_at hl 0 rfl) ?_
        refine c_gN (k := 9) (f := 109) (q := 16) E hb hS ci_1 (sK hS (by decide) rfl) rfl rfl rfl (sRf hS (by decide) rfl) fk_X0_69_X0 (fun _ h => h) dX0_later_35 ?_
        obtain ⟨r4, A5, h1, hf⟩ := bd_s hf
        refine c_kq hS (va_runV ⟨E.1, hb, hml, E.2.1, E.2.2.1⟩ (zX5_copy h1) (cwV 1 E.2.2.1 gw_X0_286 rfl rfl rfl ⟨rfl, gnX5_copy⟩ ⟨Nat.le_of_ble_eq_true rfl, Nat.le_of_ble_eq_true rfl⟩) (c_preV E hS ci_6 (sK hS (by decide) rfl) (hS.1.lt (sK hS (by decide) rfl) rfl) _) rfl rfl hl.1 rfl (lv_room (Nat.le_of_ble_eq_true rfl)) dX0_later_38 ⟨Nat.le_refl 0, Nat.le_refl 0⟩) hS.2.2.2.2 (fun H locs hS hn => ?_)
        obtain ⟨q6, hr9, hf⟩ := bo_s hf
        refine c_dr hr9 ?_
        refine lv_iload_n E.1 hb dX0_later_41 rfl (lv_at hl 2 rfl) ?_
        obtain ⟨hkr, hf⟩ := gu_s hf
        obtain ⟨r7, A8, h1, hf⟩ := bd_s hf
        refine c_kq hS (va_runV ⟨E.1, hb, hml, E.2.1, E.2.2.1⟩ (zX5_days h1) (cwV 1 E.2.2.1 gw_X0_295 rfl rfl rfl ⟨rfl, gnX5_days⟩ ⟨Nat.le_of_ble_eq_true rfl, Nat.le_of_ble_eq_true rfl⟩) (c_preV E hS ci_6 hkr (hS.1.lt hkr rfl) _) rfl rfl hl.1 rfl (lv_room (Nat.le_of_ble_eq_true rfl)) dX0_later_42 ⟨Nat.le_refl 0, Nat.le_refl 0⟩) hS.2.2.2.2 (fun H locs hS hn => ?_)
        obtain ⟨q9, hr9, hf⟩ := bo_s hf
        refine c_dr hr9 ?_
        refine lv_pop E.1 hb dX0_later_45 rfl ?_
        refine lv_iload_n E.1 hb dX0_later_46 rfl (lv_at hl 3 rfl) ?_
        refine lv_if_ne (tgt := 62) E.1 hb dX0_later_47 (by decide) (fun hc => ?_) (fun hc => ?_)
        · have hf := if_s hc hf
          refine lv_iload_n E.1 hb dX0_later_62 rfl (lv_at hl 3 rfl) ?_
          refine lv_iconst (v := 1) E.1 hb dX0_later_63 rfl ?_
          refine lv_icmp_ne (tgt := 79) E.1 hb dX0_later_64 (by decide) (fun hc => ?_) (fun hc => ?_)
          · have hf := if_s hc hf
            refine lv_aload_n E.1 hb dX0_later_79 rfl (lv_at hl 0 rfl) ?_
            refine c_gN (k := 10) (f := 110) (q := 64) E hb hS ci_1 (sK hS (by decide) rfl) rfl rfl rfl (sRf hS (by decide) rfl) fk_X0_73_X0 (fun _ h => h) dX0_later_80 ?_
            refine c_gN (k := 9) (f := 609) (q := 111) E hb hS ci_6 (sK hS (by decide) rfl) rfl rfl rfl (sRf hS (by decide) rfl) fk_X0_299_X5 (fun _ h => h) dX0_later_83 ?_
            refine lv_iload_n E.1 hb dX0_later_86 rfl (lv_at hl 1 rfl) ?_
            obtain ⟨hg, hf⟩ := sI_s hf
            refine s_ld E hb hS (t := 31) ⟨by decide, rfl, rfl⟩ hg (Or.inl ⟨rfl, rfl⟩) dX0_later_87 ?_
            exact c_ir E hb hr hlk hS ⟨Nat.le_refl 0, Nat.le_refl 0⟩ hf dX0_later_88
          · have hf := it_s hc hf
            refine lv_aload_n E.1 hb dX0_later_67 rfl (lv_at hl 0 rfl) ?_
            refine c_gN (k := 10) (f := 110) (q := 64) E hb hS ci_1 (sK hS (by decide) rfl) rfl rfl rfl (sRf hS (by decide) rfl) fk_X0_73_X0 (fun _ h => h) dX0_later_68 ?_
            refine c_gN (k := 5) (f := 605) (q := 68) E hb hS ci_6 (sK hS (by decide) rfl) rfl rfl rfl (sRf hS (by decide) rfl) fk_X0_245_X5 (fun _ h => h) dX0_later_71 ?_
            refine lv_iload_n E.1 hb dX0_later_74 rfl (lv_at hl 1 rfl) ?_
            obtain ⟨hg, hf⟩ := sI_s hf
            refine s_ld E hb hS (t := 31) ⟨by decide, rfl, rfl⟩ hg (Or.inl ⟨rfl, rfl⟩) dX0_later_75 ?_
            refine lv_goto (tgt := 88) E.1 hb dX0_later_76 (by decide) ?_
            exact c_ir E hb hr hlk hS ⟨Nat.le_refl 0, Nat.le_refl 0⟩ hf dX0_later_88
        · have hf := it_s hc hf
          refine lv_aload_n E.1 hb dX0_later_50 rfl (lv_at hl 0 rfl) ?_
          refine c_gN (k := 10) (f := 110) (q := 64) E hb hS ci_1 (sK hS (by decide) rfl) rfl rfl rfl (sRf hS (by decide) rfl) fk_X0_73_X0 (fun _ h => h) dX0_later_51 ?_
          refine c_gN (k := 4) (f := 604) (q := 67) E hb hS ci_6 (sK hS (by decide) rfl) rfl rfl rfl (sRf hS (by decide) rfl) fk_X0_239_X5 (fun _ h => h) dX0_later_54 ?_
          refine lv_iload_n E.1 hb dX0_later_57 rfl (lv_at hl 1 rfl) ?_
          obtain ⟨hg, hf⟩ := sI_s hf
          refine s_ld E hb hS (t := 31) ⟨by decide, rfl, rfl⟩ hg (Or.inl ⟨rfl, rfl⟩) dX0_later_58 ?_
          refine lv_goto (tgt := 88) E.1 hb dX0_later_59 (by decide) ?_
          exact c_ir E hb hr hlk hS ⟨Nat.le_refl 0, Nat.le_refl 0⟩ hf dX0_later_88
      · have hf := it_s hc hf
        refine lv_iconst (v := (-1)) E.1 hb dX0_later_28 rfl ?_
        exact c_ir E hb hr hlk hS ⟨Nat.le_refl 0, Nat.le_refl 0⟩ hf dX0_later_29
/-! MarginFolk.opening(I)I: RW -/
noncomputable def X0_opening (N : Nat) (A0 : AH) (x1 : Int32) : Option (Int32 × AH) :=
  bo (X0_isAhead A0 x1 0 60) fun r1 => if r1 = 0 then (some ((-1), A0)) else (bd (X0_openingOf (valF N) A0 ((aI A0 600 16 0) + x1)) fun r2 A3 => some (r2, A3))
abbrev rX0_opening : Room := { frames := 258, cells := 0, slots := 0, locals := 5811 }
set_option maxHeartbeats 4000000 in
theorem zX0_opening {l : Launch} {dC : Nat → ClassId} {dI : Nat → Nat → Nat} {ac : Nat → ClassId} {ad : Nat → Nat} {N : Nat} {A0 : AH} {x1 : Int32} {r : Int32} {A' : AH} (hf : X0_opening N A0 x1 = some (r, A')) : Met l yX0_opening (ws_ yX0_opening cX0_opening 2 (some .int)) { frames := 258, cells := 0, slots := 0, locals := 5811 } (va_Pc [.ref (ad 0), .int x1] (cPre dC dI ac ad True A0)) (cQi dC dI ac ad True (aN A0) (aS A0) (aN A0) (aS A0) r A') 0 0 (cF ad) := by
  unfold X0_opening at hf
  refine c_of ⟨Nat.le_refl _, Nat.le_refl _⟩ RX0 (plainFor_of_name (by decide)) rfl (Nat.le_of_ble_eq_true rfl) ?_
  intro p e s m args below meth c E hb hr hlk hnm hml hS ls hl
  have hl : lv_has ls 2 [(0, .ref (ad 0)), (1, .int x1)] := hl
  refine lv_aload_n E.1 hb dX0_opening_0 rfl (lv_at hl 0 rfl) ?_
  refine lv_iload_n E.1 hb dX0_opening_1 rfl (lv_at hl 1 rfl) ?_
  refine lv_iconst (v := 0) E.1 hb dX0_opening_2 rfl ?_
  refine lv_bipush (v := 60) E.1 hb dX0_opening_3 rfl ?_
  obtain ⟨r1, h1, hf⟩ := bo_s hf
  refine c_ki hS (va_runV ⟨E.1, hb, hml, E.2.1, E.2.2.1⟩ (zX0_isAhead h1) (cwV 3 E.2.2.1 gw_X0_279 rfl rfl rfl ⟨rfl, gnX0_isAhead⟩ ⟨Nat.le_of_ble_eq_true rfl, Nat.le_of_ble_eq_true rfl⟩) (c_preV E hS ci_1 (sK hS (by decide) rfl) (hS.1.lt (sK hS (by decide) rfl) rfl) _) rfl rfl hl.1 rfl (lv_room (Nat.le_of_ble_eq_true rfl)) dX0_opening_5 ⟨Nat.le_refl 0, Nat.le_refl 0⟩) hS.2.2.2.2 (fun H locs hS hn => ?_)
  refine lv_if_eq (tgt := 27) E.1 hb dX0_opening_8 (by decide) (fun hc => ?_) (fun hc => ?_)
  · have hf := it_s hc hf
    refine lv_iconst (v := (-1)) E.1 hb dX0_opening_27 rfl ?_
    exact c_ir E hb hr hlk hS ⟨Nat.le_refl 0, Nat.le_refl 0⟩ hf dX0_opening_28
  · have hf := if_s hc hf
    refine lv_aload_n E.1 hb dX0_opening_11 rfl (lv_at hl 0 rfl) ?_
    refine lv_aload_n E.1 hb dX0_opening_12 rfl (lv_at hl 0 rfl) ?_
    refine c_gN (k := 9) (f := 109) (q := 16) E hb hS ci_1 (sK hS (by decide) rfl) rfl rfl rfl (sRf hS (by decide) rfl) fk_X0_69_X0 (fun _ h => h) dX0_opening_13 ?_
    refine c_gI (k := 0) (f := 600) E hb hS ci_6 (sK hS (by decide) rfl) rfl rfl rfl fk_X0_213_X5 (fun _ h => h) dX0_opening_16 ?_
    refine lv_iload_n E.1 hb dX0_opening_19 rfl (lv_at hl 1 rfl) ?_
    refine lv_iadd E.1 hb dX0_opening_20 ?_
    obtain ⟨r2, A3, h1, hf⟩ := bd_s hf
    refine c_ki hS (va_runV ⟨E.1, hb, hml, E.2.1, E.2.2.1⟩ (zX0_openingOf zvalF h1) (cwV 1 E.2.2.1 gw_X0_216 rfl rfl rfl ⟨rfl, gnX0_openingOf⟩ ⟨by dsimp only; omega, by dsimp only; omega⟩) (c_preV E hS ci_1 (sK hS (by decide) rfl) (hS.1.lt (sK hS (by decide) rfl) rfl) _) rfl rfl hl.1 rfl (lv_room (Nat.le_of_ble_eq_true rfl)) dX0_opening_21 ⟨Nat.le_refl 0, Nat.le_refl 0⟩) hS.2.2.2.2 (fun H locs hS hn => ?_)
    refine lv_goto (tgt := 28) E.1 hb dX0_opening_24 (by decide) ?_
    exact c_ir E hb hr hlk hS ⟨Nat.le_refl 0, Nat.le_refl 0⟩ hf dX0_opening_28
/-! MarginFolk.comes(II)V: RW -/
noncomputable def X0_comes (A0 : AH) (x1 : Int32) (x2 : Int32) : Option (Unit × AH) :=
  bo (X0_isCell A0 x1 x2) fun r1 => if r1 = 0 then (some ((), A0)) else (bo (sI 6 31 A0 17 x1) fun v2 => bo (X0_has v2 x2) fun r3 => if r3 = 0 then (bo (aR A0 112 0 0) fun q4 => bo (dR_ 37 A0 q4 x1) fun q5 => bo (uI_ 35 A0 q5 x2 1) fun A6 => some ((), A6)) else (some ((), A0)))
abbrev rX0_comes : Room := { frames := 2, cells := 0, slots := 0, locals := 44 }
set_option maxHeartbeats 4000000 in
theorem zX0_comes {l : Launch} {dC : Nat → ClassId} {dI : Nat → Nat → Nat} {ac : Nat → ClassId} {ad : Nat → Nat} {A0 : AH} {x1 : Int32} {x2 : Int32} {A' : AH} (hf : X0_comes A0 x1 x2 = some ((), A')) : Met l yX0_comes (ws_ yX0_comes cX0_comes 3 none) { frames := 2, cells := 0, slots := 0, locals := 44 } (va_Pc [.ref (ad 0), .int x1, .int x2] (cPre dC dI ac ad True A0)) (cQv dC dI ac ad True (aN A0) (aS A0) (aN A0) (aS A0) A') 0 0 (cF ad) := by
  unfold X0_comes at hf
  refine c_of ⟨Nat.le_refl _, Nat.le_refl _⟩ RX0 (plainFor_of_name (by decide)) rfl (Nat.le_of_ble_eq_true rfl) ?_
  intro p e s m args below meth c E hb hr hlk hnm hml hS ls hl
  have hl : lv_has ls 3 [(0, .ref (ad 0)), (1, .int x1), (2, .int x2)] := hl
  refine lv_aload_n E.1 hb dX0_comes_0 rfl (lv_at hl 0 rfl) ?_
  refine lv_iload_n E.1 hb dX0_comes_1 rfl (lv_at hl 1 rfl) ?_
  refine lv_iload_n E.1 hb dX0_comes_2 rfl (lv_at hl 2 rfl) ?_
  obtain ⟨r1, h1, hf⟩ := bo_s hf
  refine c_ki hS (va_runV ⟨E.1, hb, hml, E.2.1, E.2.2.1⟩ (zX0_isCell h1) (cwV 2 E.2.2.1 gw_X0_251 rfl rfl rfl ⟨rfl, gnX0_isCell⟩ ⟨Nat.le_of_ble_eq_true rfl, Nat.le_of_ble_eq_true rfl⟩) (c_preV E hS ci_1 (sK hS (by decide) rfl) (hS.1.lt (sK hS (by decide) rfl) rfl) _) rfl rfl hl.1 rfl (lv_room (Nat.le_of_ble_eq_true rfl)) dX0_comes_3 ⟨Nat.le_refl 0, Nat.le_refl 0⟩) hS.2.2.2.2 (fun H locs hS hn => ?_)
  refine lv_if_eq (tgt := 34) E.1 hb dX0_comes_6 (by decide) (fun hc => ?_) (fun hc => ?_)
  · have hf := it_s hc hf
    exact c_vr E hb hr hlk hS ⟨Nat.le_refl 0, Nat.le_refl 0⟩ hf dX0_comes_34
  · have hf := if_s hc hf
    refine lv_aload_n E.1 hb dX0_comes_9 rfl (lv_at hl 0 rfl) ?_
    refine c_gN (k := 9) (f := 109) (q := 16) E hb hS ci_1 (sK hS (by decide) rfl) rfl rfl rfl (sRf hS (by decide) rfl) fk_X0_69_X0 (fun _ h => h) dX0_comes_10 ?_
    refine c_gN (k := 2) (f := 602) (q := 17) E hb hS ci_6 (sK hS (by decide) rfl) rfl rfl rfl (sRf hS (by decide) rfl) fk_X0_202_X5 (fun _ h => h) dX0_comes_13 ?_
    refine lv_iload_n E.1 hb dX0_comes_16 rfl (lv_at hl 1 rfl) ?_
    obtain ⟨hg, hf⟩ := sI_s hf
    refine s_ld E hb hS (t := 31) ⟨by decide, rfl, rfl⟩ hg (Or.inl ⟨rfl, rfl⟩) dX0_comes_17 ?_
    refine lv_iload_n E.1 hb dX0_comes_18 rfl (lv_at hl 2 rfl) ?_
    obtain ⟨r3, h1, hf⟩ := bo_s hf
    refine c_ki hS (va_runS ⟨E.1, hb, hml, E.2.1, E.2.2.1⟩ (zX0_has h1) (va_cwS 2 E.2.2.1 gw_X0_254 rfl rfl rfl gnX0_has ⟨Nat.le_of_ble_eq_true rfl, Nat.le_of_ble_eq_true rfl⟩) (c_preS E hS _) rfl rfl hl.1 rfl (lv_room (Nat.le_of_ble_eq_true rfl)) dX0_comes_19 ⟨Nat.le_refl 0, Nat.le_refl 0⟩) hS.2.2.2.2 (fun H locs hS hn => ?_)
    refine lv_if_ne (tgt := 34) E.1 hb dX0_comes_22 (by decide) (fun hc => ?_) (fun hc => ?_)
    · have hf := if_s hc hf
      exact c_vr E hb hr hlk hS ⟨Nat.le_refl 0, Nat.le_refl 0⟩ hf dX0_comes_34
    · have hf := it_s hc hf
      refine lv_aload_n E.1 hb dX0_comes_25 rfl (lv_at hl 0 rfl) ?_
      obtain ⟨q4, hr7, hf⟩ := bo_s hf
      refine c_gN (k := 12) (f := 112) E hb hS ci_1 (sK hS (by decide) rfl) rfl rfl rfl hr7 fk_X0_81_X0 (fun _ h => h) dX0_comes_26 ?_
      refine lv_iload_n E.1 hb dX0_comes_29 rfl (lv_at hl 1 rfl) ?_
      obtain ⟨q5, hg, hf⟩ := dR_s hf
      refine d_ald E hb hS (by decide) hg dX0_comes_30 ?_
      refine lv_iload_n E.1 hb dX0_comes_31 rfl (lv_at hl 2 rfl) ?_
      refine lv_iconst (v := 1) E.1 hb dX0_comes_32 rfl ?_
      obtain ⟨A6, hg, hw, hf⟩ := uI_s hf
      refine d_st E hb hS hg rfl (Or.inr (Or.inr (Or.inr ⟨rfl, rfl, rfl⟩))) hw dX0_comes_33 (fun H locs hS => ?_)
      exact c_vr E hb hr hlk hS ⟨Nat.le_refl 0, Nat.le_refl 0⟩ hf dX0_comes_34
