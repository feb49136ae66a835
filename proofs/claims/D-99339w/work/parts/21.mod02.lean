set_option maxRecDepth 100000
/-! fault(I)I: RO -/
noncomputable def M_fault (σ : mSt) (x1 : Int32) : Option Int32 :=
  if x1 = 0 then (some (σ.1 7 0)) else (if x1 = 1 then (some (σ.1 8 0)) else (some (-1)))
abbrev rM_fault : Room := { frames := 0, cells := 0, slots := 0, locals := 0 }
set_option maxHeartbeats 4000000 in
theorem cmf_fault {l : Launch} {dC : Nat → ClassId} {dI : Nat → Nat → Nat} {ac : Nat → ClassId} {o : Nat} {ad : Nat → Nat} {σ : mSt} {x1 : Int32} {r : Int32} (hf : M_fault σ x1 = some r) : Met l yX6_fault (ws_ yX6_fault cX6_fault 2 (some .int)) { frames := 0, cells := 0, slots := 0, locals := 0 } (va_Pc [.ref o, .int x1] (mPre dC dI ac o ad σ)) (mQi dC dI ac o ad r σ) 0 0 (mF o ad) := by
  refine m_of (by decide) rfl (Nat.le_of_ble_eq_true rfl) ?_
  intro p e s m args below meth c E hb hr hlk hml hS ls hl
  have hl : lv_has ls 2 [(0, .ref o), (1, .int x1)] := hl
  unfold M_fault at hf
  refine lv_iload_n E.1 hb dX6_fault_0 rfl (lv_at hl 1 rfl) ?_
  refine lv_if_ne (tgt := 11) E.1 hb dX6_fault_1 (by decide) (fun hc => ?_) (fun hc => ?_)
  · have hf := if_s hc hf
    refine lv_iload_n E.1 hb dX6_fault_11 rfl (lv_at hl 1 rfl) ?_
    refine lv_iconst (v := 1) E.1 hb dX6_fault_12 rfl ?_
    refine lv_icmp_ne (tgt := 23) E.1 hb dX6_fault_13 (by decide) (fun hc => ?_) (fun hc => ?_)
    · have hf := if_s hc hf
      refine lv_iconst (v := (-1)) E.1 hb dX6_fault_23 rfl ?_
      exact m_irR E hb hr hlk hS hf dX6_fault_24
    · have hf := it_s hc hf
      refine lv_aload_n E.1 hb dX6_fault_16 rfl (lv_at hl 0 rfl) ?_
      refine m_gI (k := 8) E hb hS rfl fl_8 dX6_fault_17 ?_
      refine lv_goto (tgt := 24) E.1 hb dX6_fault_20 (by decide) ?_
      exact m_irR E hb hr hlk hS hf dX6_fault_24
  · have hf := it_s hc hf
    refine lv_aload_n E.1 hb dX6_fault_4 rfl (lv_at hl 0 rfl) ?_
    refine m_gI (k := 7) E hb hS rfl fl_7 dX6_fault_5 ?_
    refine lv_goto (tgt := 24) E.1 hb dX6_fault_8 (by decide) ?_
    exact m_irR E hb hr hlk hS hf dX6_fault_24
/-! leaves()I: RO -/
noncomputable def M_leaves (σ : mSt) : Option Int32 :=
  bo (ld 2 σ 40 2) fun v1 => some v1
theorem gw_leaves : GoodIn lw_all (wsV RX6 405 RX6 yX6_leaves (ws_ yX6_leaves cX6_leaves 1 (some .int))) := lw_V q2252 q2254 qs111 q164 q2255
theorem gn_leaves : yX6_leaves.cls = RX6 ∧ yX6_leaves.cls ≠ "java/lang/invoke/MethodHandle" ∧ yX6_leaves.cls ≠ "java/lang/invoke/VarHandle" ∧ (parseMethodDescriptor yX6_leaves.desc).map (fun d => d.parameters.length) = some 0 := by decide +kernel
abbrev rM_leaves : Room := { frames := 0, cells := 0, slots := 0, locals := 0 }
set_option maxHeartbeats 4000000 in
theorem cmf_leaves {l : Launch} {dC : Nat → ClassId} {dI : Nat → Nat → Nat} {ac : Nat → ClassId} {o : Nat} {ad : Nat → Nat} {σ : mSt} {r : Int32} (hf : M_leaves σ = some r) : Met l yX6_leaves (ws_ yX6_leaves cX6_leaves 1 (some .int)) { frames := 0, cells := 0, slots := 0, locals := 0 } (va_Pc [.ref o] (mPre dC dI ac o ad σ)) (mQi dC dI ac o ad r σ) 0 0 (mF o ad) := by
  refine m_of (by decide) rfl (Nat.le_of_ble_eq_true rfl) ?_
  intro p e s m args below meth c E hb hr hlk hml hS ls hl
  have hl : lv_has ls 1 [(0, .ref o)] := hl
  unfold M_leaves at hf
  refine lv_aload_n E.1 hb dX6_leaves_0 rfl (lv_at hl 0 rfl) ?_
  refine m_gA (k := 40) E hb hS 2 rfl (by decide) fl_40 dX6_leaves_1 ?_
  refine lv_iconst (v := 2) E.1 hb dX6_leaves_4 rfl ?_
  obtain ⟨hg, hf⟩ := ld_s hf
  refine m_ild E hb hS hg dX6_leaves_5 ?_
  exact m_irR E hb hr hlk hS hf dX6_leaves_6
/-! beingMany()I: RO -/
noncomputable def M_beingMany (σ : mSt) : Option Int32 :=
  bo (ld 2 σ 41 3) fun v1 => some v1
theorem gw_beingMany : GoodIn lw_all (wsV RX6 402 RX6 yX6_beingMany (ws_ yX6_beingMany cX6_beingMany 1 (some .int))) := lw_V q2205 q2207 qs102 q164 q2208
theorem gn_beingMany : yX6_beingMany.cls = RX6 ∧ yX6_beingMany.cls ≠ "java/lang/invoke/MethodHandle" ∧ yX6_beingMany.cls ≠ "java/lang/invoke/VarHandle" ∧ (parseMethodDescriptor yX6_beingMany.desc).map (fun d => d.parameters.length) = some 0 := by decide +kernel
abbrev rM_beingMany : Room := { frames := 0, cells := 0, slots := 0, locals := 0 }
set_option maxHeartbeats 4000000 in
theorem cmf_beingMany {l : Launch} {dC : Nat → ClassId} {dI : Nat → Nat → Nat} {ac : Nat → ClassId} {o : Nat} {ad : Nat → Nat} {σ : mSt} {r : Int32} (hf : M_beingMany σ = some r) : Met l yX6_beingMany (ws_ yX6_beingMany cX6_beingMany 1 (some .int)) { frames := 0, cells := 0, slots := 0, locals := 0 } (va_Pc [.ref o] (mPre dC dI ac o ad σ)) (mQi dC dI ac o ad r σ) 0 0 (mF o ad) := by
  refine m_of (by decide) rfl (Nat.le_of_ble_eq_true rfl) ?_
  intro p e s m args below meth c E hb hr hlk hml hS ls hl
  have hl : lv_has ls 1 [(0, .ref o)] := hl
  unfold M_beingMany at hf
  refine lv_aload_n E.1 hb dX6_beingMany_0 rfl (lv_at hl 0 rfl) ?_
  refine m_gA (k := 41) E hb hS 2 rfl (by decide) fl_41 dX6_beingMany_1 ?_
  refine lv_iconst (v := 3) E.1 hb dX6_beingMany_4 rfl ?_
  obtain ⟨hg, hf⟩ := ld_s hf
  refine m_ild E hb hS hg dX6_beingMany_5 ?_
  exact m_irR E hb hr hlk hS hf dX6_beingMany_6
/-! isBeing(I)Z: RO -/
noncomputable def M_isBeing (σ : mSt) (x1 : Int32) : Option Int32 :=
  bo (M_beingMany σ) fun r1 => bo (M_isIn (Int32.toInt64 x1) 0 (Int32.toInt64 (r1 - 1))) fun r2 => if r2 &&& 1 = r2 then some r2 else none
theorem gw_isBeing : GoodIn lw_all (wsV RX6 502 RX6 yX6_isBeing (ws_ yX6_isBeing cX6_isBeing 2 (some .boolean))) := lw_V q2264 q2266 qs113 q164 q2267
theorem gn_isBeing : yX6_isBeing.cls = RX6 ∧ yX6_isBeing.cls ≠ "java/lang/invoke/MethodHandle" ∧ yX6_isBeing.cls ≠ "java/lang/invoke/VarHandle" ∧ (parseMethodDescriptor yX6_isBeing.desc).map (fun d => d.parameters.length) = some 1 := by decide +kernel
abbrev rM_isBeing : Room := { frames := 1, cells := 0, slots := 0, locals := 25 }
set_option maxHeartbeats 4000000 in
theorem cmf_isBeing {l : Launch} {dC : Nat → ClassId} {dI : Nat → Nat → Nat} {ac : Nat → ClassId} {o : Nat} {ad : Nat → Nat} {σ : mSt} {x1 : Int32} {r : Int32} (hf : M_isBeing σ x1 = some r) : Met l yX6_isBeing (ws_ yX6_isBeing cX6_isBeing 2 (some .boolean)) { frames := 1, cells := 0, slots := 0, locals := 25 } (va_Pc [.ref o, .int x1] (mPre dC dI ac o ad σ)) (mQi dC dI ac o ad r σ) 0 0 (mF o ad) := by
  refine m_of (by decide) rfl (Nat.le_of_ble_eq_true rfl) ?_
  intro p e s m args below meth c E hb hr hlk hml hS ls hl
  have hl : lv_has ls 2 [(0, .ref o), (1, .int x1)] := hl
  unfold M_isBeing at hf
  refine lv_iload_n E.1 hb dX6_isBeing_0 rfl (lv_at hl 1 rfl) ?_
  refine lv_i2l E.1 hb dX6_isBeing_1 rfl ?_
  refine lv_lconst (v := 0) E.1 hb dX6_isBeing_2 rfl ?_
  refine lv_aload_n E.1 hb dX6_isBeing_3 rfl (lv_at hl 0 rfl) ?_
  obtain ⟨r1, h1, hf⟩ := bo_s hf
  refine m_cVi E hb hml hl.1 hS (cmf_beingMany h1) gw_beingMany gn_beingMany rfl rfl (Nat.le_of_ble_eq_true rfl) ⟨Nat.le_of_ble_eq_true rfl, Nat.le_of_ble_eq_true rfl⟩ ⟨Nat.le_refl 0, Nat.le_refl 0⟩ dX6_isBeing_4 (fun H locs hS => ?_)
  refine lv_iconst (v := 1) E.1 hb dX6_isBeing_7 rfl ?_
  refine lv_isub E.1 hb dX6_isBeing_8 ?_
  refine lv_i2l E.1 hb dX6_isBeing_9 rfl ?_
  obtain ⟨r2, h1, hf⟩ := bo_s hf
  refine m_cSi E hb hml hl.1 hS (cmf_isIn h1) gw_isIn gn_isIn rfl rfl (Nat.le_of_ble_eq_true rfl) ⟨Nat.le_of_ble_eq_true rfl, Nat.le_of_ble_eq_true rfl⟩ ⟨Nat.le_refl 0, Nat.le_refl 0⟩ dX6_isBeing_10 (fun H locs hS => ?_)
  obtain ⟨hn, hf⟩ := gu_s hf
  exact m_zrR E hb hr hlk hS hn hf dX6_isBeing_13
/-! isCell(II)Z: RO -/
noncomputable def M_isCell (σ : mSt) (x1 : Int32) (x2 : Int32) : Option Int32 :=
  if (σ.1 54 0) = 0 then (some 0) else (bo (M_leaves σ) fun r1 => bo (M_isIn (Int32.toInt64 x1) 0 (Int32.toInt64 (r1 - 1))) fun r2 => if r2 = 0 then (some 0) else (bo (ld 2 σ 40 3) fun v3 => bo (M_isIn (Int32.toInt64 x2) 0 (Int32.toInt64 (v3 - 1))) fun r4 => if r4 = 0 then (some 0) else (some 1)))
theorem gw_isCell : GoodIn lw_all (wsV RX6 507 RX6 yX6_isCell (ws_ yX6_isCell cX6_isCell 3 (some .boolean))) := lw_V q2277 q2279 qs114 q164 q2280
theorem gn_isCell : yX6_isCell.cls = RX6 ∧ yX6_isCell.cls ≠ "java/lang/invoke/MethodHandle" ∧ yX6_isCell.cls ≠ "java/lang/invoke/VarHandle" ∧ (parseMethodDescriptor yX6_isCell.desc).map (fun d => d.parameters.length) = some 2 := by decide +kernel
abbrev rM_isCell : Room := { frames := 1, cells := 0, slots := 0, locals := 25 }
set_option maxHeartbeats 4000000 in
theorem cmf_isCell {l : Launch} {dC : Nat → ClassId} {dI : Nat → Nat → Nat} {ac : Nat → ClassId} {o : Nat} {ad : Nat → Nat} {σ : mSt} {x1 : Int32} {x2 : Int32} {r : Int32} (hf : M_isCell σ x1 x2 = some r) : Met l yX6_isCell (ws_ yX6_isCell cX6_isCell 3 (some .boolean)) { frames := 1, cells := 0, slots := 0, locals := 25 } (va_Pc [.ref o, .int x1, .int x2] (mPre dC dI ac o ad σ)) (mQi dC dI ac o ad r σ) 0 0 (mF o ad) := by
  refine m_of (by decide) rfl (Nat.le_of_ble_eq_true rfl) ?_
  intro p e s m args below meth c E hb hr hlk hml hS ls hl
  have hl : lv_has ls 3 [(0, .ref o), (1, .int x1), (2, .int x2)] := hl
  unfold M_isCell at hf
  refine lv_aload_n E.1 hb dX6_isCell_0 rfl (lv_at hl 0 rfl) ?_
  refine m_gZ (k := 54) E hb hS rfl fl_54 dX6_isCell_1 ?_
  refine lv_if_eq (tgt := 45) E.1 hb dX6_isCell_4 (by decide) (fun hc => ?_) (fun hc => ?_)
  · have hf := it_s hc hf
    refine lv_iconst (v := 0) E.1 hb dX6_isCell_45 rfl ?_
    exact m_zrR E hb hr hlk hS rfl hf dX6_isCell_46
  · have hf := if_s hc hf
    refine lv_iload_n E.1 hb dX6_isCell_7 rfl (lv_at hl 1 rfl) ?_
    refine lv_i2l E.1 hb dX6_isCell_8 rfl ?_
    refine lv_lconst (v := 0) E.1 hb dX6_isCell_9 rfl ?_
    refine lv_aload_n E.1 hb dX6_isCell_10 rfl (lv_at hl 0 rfl) ?_
    obtain ⟨r1, h1, hf⟩ := bo_s hf
    refine m_cVi E hb hml hl.1 hS (cmf_leaves h1) gw_leaves gn_leaves rfl rfl (Nat.le_of_ble_eq_true rfl) ⟨Nat.le_of_ble_eq_true rfl, Nat.le_of_ble_eq_true rfl⟩ ⟨Nat.le_refl 0, Nat.le_refl 0⟩ dX6_isCell_11 (fun H locs hS => ?_)
    refine lv_iconst (v := 1) E.1 hb dX6_isCell_14 rfl ?_
    refine lv_isub E.1 hb dX6_isCell_15 ?_
    refine lv_i2l E.1 hb dX6_isCell_16 rfl ?_
    obtain ⟨r2, h1, hf⟩ := bo_s hf
    refine m_cSi E hb hml hl.1 hS (cmf_isIn h1) gw_isIn gn_isIn rfl rfl (Nat.le_of_ble_eq_true rfl) ⟨Nat.le_of_ble_eq_true rfl, Nat.le_of_ble_eq_true rfl⟩ ⟨Nat.le_refl 0, Nat.le_refl 0⟩ dX6_isCell_17 (fun H locs hS => ?_)
    refine lv_if_eq (tgt := 45) E.1 hb dX6_isCell_20 (by decide) (fun hc => ?_) (fun hc => ?_)
    · have hf := it_s hc hf
      refine lv_iconst (v := 0) E.1 hb dX6_isCell_45 rfl ?_
      exact m_zrR E hb hr hlk hS rfl hf dX6_isCell_46
    · have hf := if_s hc hf
      refine lv_iload_n E.1 hb dX6_isCell_23 rfl (lv_at hl 2 rfl) ?_
      refine lv_i2l E.1 hb dX6_isCell_24 rfl ?_
      refine lv_lconst (v := 0) E.1 hb dX6_isCell_25 rfl ?_
      refine lv_aload_n E.1 hb dX6_isCell_26 rfl (lv_at hl 0 rfl) ?_
      refine m_gA (k := 40) E hb hS 2 rfl (by decide) fl_40 dX6_isCell_27 ?_
      refine lv_iconst (v := 3) E.1 hb dX6_isCell_30 rfl ?_
      obtain ⟨hg, hf⟩ := ld_s hf
      refine m_ild E hb hS hg dX6_isCell_31 ?_
      refine lv_iconst (v := 1) E.1 hb dX6_isCell_32 rfl ?_
      refine lv_isub E.1 hb dX6_isCell_33 ?_
      refine lv_i2l E.1 hb dX6_isCell_34 rfl ?_
      obtain ⟨r4, h1, hf⟩ := bo_s hf
      refine m_cSi E hb hml hl.1 hS (cmf_isIn h1) gw_isIn gn_isIn rfl rfl (Nat.le_of_ble_eq_true rfl) ⟨Nat.le_of_ble_eq_true rfl, Nat.le_of_ble_eq_true rfl⟩ ⟨Nat.le_refl 0, Nat.le_refl 0⟩ dX6_isCell_35 (fun H locs hS => ?_)
      refine lv_if_eq (tgt := 45) E.1 hb dX6_isCell_38 (by decide) (fun hc => ?_) (fun hc => ?_)
      · have hf := it_s hc hf
        refine lv_iconst (v := 0) E.1 hb dX6_isCell_45 rfl ?_
        exact m_zrR E hb hr hlk hS rfl hf dX6_isCell_46
      · have hf := if_s hc hf
        refine lv_iconst (v := 1) E.1 hb dX6_isCell_41 rfl ?_
        refine lv_goto (tgt := 46) E.1 hb dX6_isCell_42 (by decide) ?_
        exact m_zrR E hb hr hlk hS rfl hf dX6_isCell_46
/-! leafOf(I)I: RO -/
noncomputable def M_leafOf (σ : mSt) (x1 : Int32) : Option Int32 :=
  bo (ld 2 σ 56 (7 + (4 * x1))) fun v1 => some v1
theorem gw_leafOf : GoodIn lw_all (wsV RX6 410 RX6 yX6_leafOf (ws_ yX6_leafOf cX6_leafOf 2 (some .int))) := lw_V q2225 q2227 qs107 q164 q2228
theorem gn_leafOf : yX6_leafOf.cls = RX6 ∧ yX6_leafOf.cls ≠ "java/lang/invoke/MethodHandle" ∧ yX6_leafOf.cls ≠ "java/lang/invoke/VarHandle" ∧ (parseMethodDescriptor yX6_leafOf.desc).map (fun d => d.parameters.length) = some 1 := by decide +kernel
abbrev rM_leafOf : Room := { frames := 0, cells := 0, slots := 0, locals := 0 }
set_option maxHeartbeats 4000000 in
theorem cmf_leafOf {l : Launch} {dC : Nat → ClassId} {dI : Nat → Nat → Nat} {ac : Nat → ClassId} {o : Nat} {ad : Nat → Nat} {σ : mSt} {x1 : Int32} {r : Int32} (hf : M_leafOf σ x1 = some r) : Met l yX6_leafOf (ws_ yX6_leafOf cX6_leafOf 2 (some .int)) { frames := 0, cells := 0, slots := 0, locals := 0 } (va_Pc [.ref o, .int x1] (mPre dC dI ac o ad σ)) (mQi dC dI ac o ad r σ) 0 0 (mF o ad) := by
  refine m_of (by decide) rfl (Nat.le_of_ble_eq_true rfl) ?_
  intro p e s m args below meth c E hb hr hlk hml hS ls hl
  have hl : lv_has ls 2 [(0, .ref o), (1, .int x1)] := hl
  unfold M_leafOf at hf
  refine lv_aload_n E.1 hb dX6_leafOf_0 rfl (lv_at hl 0 rfl) ?_
  refine m_gA (k := 56) E hb hS 2 rfl (by decide) fl_56 dX6_leafOf_1 ?_
  refine lv_bipush (v := 7) E.1 hb dX6_leafOf_4 rfl ?_
  refine lv_iconst (v := 4) E.1 hb dX6_leafOf_6 rfl ?_
  refine lv_iload_n E.1 hb dX6_leafOf_7 rfl (lv_at hl 1 rfl) ?_
  refine lv_imul E.1 hb dX6_leafOf_8 ?_
  refine lv_iadd E.1 hb dX6_leafOf_9 ?_
  obtain ⟨hg, hf⟩ := ld_s hf
  refine m_ild E hb hS hg dX6_leafOf_10 ?_
  exact m_irR E hb hr hlk hS hf dX6_leafOf_11
/-! cellOf(I)I: RO -/
noncomputable def M_cellOf (σ : mSt) (x1 : Int32) : Option Int32 :=
  bo (ld 2 σ 56 ((7 + (4 * x1)) + 1)) fun v1 => some v1
theorem gw_cellOf : GoodIn lw_all (wsV RX6 413 RX6 yX6_cellOf (ws_ yX6_cellOf cX6_cellOf 2 (some .int))) := lw_V q2229 q2231 qs108 q164 q2232
theorem gn_cellOf : yX6_cellOf.cls = RX6 ∧ yX6_cellOf.cls ≠ "java/lang/invoke/MethodHandle" ∧ yX6_cellOf.cls ≠ "java/lang/invoke/VarHandle" ∧ (parseMethodDescriptor yX6_cellOf.desc).map (fun d => d.parameters.length) = some 1 := by decide +kernel
abbrev rM_cellOf : Room := { frames := 0, cells := 0, slots := 0, locals := 0 }
set_option maxHeartbeats 4000000 in
theorem cmf_cellOf {l : Launch} {dC : Nat → ClassId} {dI : Nat → Nat → Nat} {ac : Nat → ClassId} {o : Nat} {ad : Nat → Nat} {σ : mSt} {x1 : Int32} {r : Int32} (hf : M_cellOf σ x1 = some r) : Met l yX6_cellOf (ws_ yX6_cellOf cX6_cellOf 2 (some .int)) { frames := 0, cells := 0, slots := 0, locals := 0 } (va_Pc [.ref o, .int x1] (mPre dC dI ac o ad σ)) (mQi dC dI ac o ad r σ) 0 0 (mF o ad) := by
  refine m_of (by decide) rfl (Nat.le_of_ble_eq_true rfl) ?_
  intro p e s m args below meth c E hb hr hlk hml hS ls hl
  have hl : lv_has ls 2 [(0, .ref o), (1, .int x1)] := hl
  unfold M_cellOf at hf
  refine lv_aload_n E.1 hb dX6_cellOf_0 rfl (lv_at hl 0 rfl) ?_
  refine m_gA (k := 56) E hb hS 2 rfl (by decide) fl_56 dX6_cellOf_1 ?_
  refine lv_bipush (v := 7) E.1 hb dX6_cellOf_4 rfl ?_
  refine lv_iconst (v := 4) E.1 hb dX6_cellOf_6 rfl ?_
  refine lv_iload_n E.1 hb dX6_cellOf_7 rfl (lv_at hl 1 rfl) ?_
  refine lv_imul E.1 hb dX6_cellOf_8 ?_
  refine lv_iadd E.1 hb dX6_cellOf_9 ?_
  refine lv_iconst (v := 1) E.1 hb dX6_cellOf_10 rfl ?_
  refine lv_iadd E.1 hb dX6_cellOf_11 ?_
  obtain ⟨hg, hf⟩ := ld_s hf
  refine m_ild E hb hS hg dX6_cellOf_12 ?_
  exact m_irR E hb hr hlk hS hf dX6_cellOf_13
/-! purseOf(I)I: RO -/
noncomputable def M_purseOf (σ : mSt) (x1 : Int32) : Option Int32 :=
  bo (ld 2 σ 56 ((7 + (4 * x1)) + 2)) fun v1 => some v1
theorem gw_purseOf : GoodIn lw_all (wsV RX6 445 RX6 yX6_purseOf (ws_ yX6_purseOf cX6_purseOf 2 (some .int))) := lw_V q2233 q2235 qs109 q164 q2236
theorem gn_purseOf : yX6_purseOf.cls = RX6 ∧ yX6_purseOf.cls ≠ "java/lang/invoke/MethodHandle" ∧ yX6_purseOf.cls ≠ "java/lang/invoke/VarHandle" ∧ (parseMethodDescriptor yX6_purseOf.desc).map (fun d => d.parameters.length) = some 1 := by decide +kernel
abbrev rM_purseOf : Room := { frames := 0, cells := 0, slots := 0, locals := 0 }
set_option maxHeartbeats 4000000 in
theorem cmf_purseOf {l : Launch} {dC : Nat → ClassId} {dI : Nat → Nat → Nat} {ac : Nat → ClassId} {o : Nat} {ad : Nat → Nat} {σ : mSt} {x1 : Int32} {r : Int32} (hf : M_purseOf σ x1 = some r) : Met l yX6_purseOf (ws_ yX6_purseOf cX6_purseOf 2 (some .int)) { frames := 0, cells := 0, slots := 0, locals := 0 } (va_Pc [.ref o, .int x1] (mPre dC dI ac o ad σ)) (mQi dC dI ac o ad r σ) 0 0 (mF o ad) := by
  refine m_of (by decide) rfl (Nat.le_of_ble_eq_true rfl) ?_
  intro p e s m args below meth c E hb hr hlk hml hS ls hl
  have hl : lv_has ls 2 [(0, .ref o), (1, .int x1)] := hl
  unfold M_purseOf at hf
  refine lv_aload_n E.1 hb dX6_purseOf_0 rfl (lv_at hl 0 rfl) ?_
  refine m_gA (k := 56) E hb hS 2 rfl (by decide) fl_56 dX6_purseOf_1 ?_
  refine lv_bipush (v := 7) E.1 hb dX6_purseOf_4 rfl ?_
  refine lv_iconst (v := 4) E.1 hb dX6_purseOf_6 rfl ?_
  refine lv_iload_n E.1 hb dX6_purseOf_7 rfl (lv_at hl 1 rfl) ?_
  refine lv_imul E.1 hb dX6_purseOf_8 ?_
  refine lv_iadd E.1 hb dX6_purseOf_9 ?_
  refine lv_iconst (v := 2) E.1 hb dX6_purseOf_10 rfl ?_
  refine lv_iadd E.1 hb dX6_purseOf_11 ?_
  obtain ⟨hg, hf⟩ := ld_s hf
  refine m_ild E hb hS hg dX6_purseOf_12 ?_
  exact m_irR E hb hr hlk hS hf dX6_purseOf_13
/-! purseIs(IJ)V: RW -/
noncomputable def M_purseIs_b38 (σ : mSt) (y0 : Int32) (y1 : Int32) (y2 : Nat) : Option (Unit × mSt) :=
  bo (stI 2 σ y2 y1 y0) fun σ1 => some ((), σ1)
noncomputable def M_purseIs (σ : mSt) (x1 : Int32) (x2 : Int64) : Option (Unit × mSt) :=
  if 0 ≤ x2 then (if x2 ≤ 9999 then (M_purseIs_b38 σ (Int64.toInt32 x2) ((7 + (4 * x1)) + 2) 56) else (M_purseIs_b38 σ 9999 ((7 + (4 * x1)) + 2) 56)) else (M_purseIs_b38 σ 0 ((7 + (4 * x1)) + 2) 56)
theorem gw_purseIs : GoodIn lw_all (wsV RX6 448 RX6 yX6_purseIs (ws_ yX6_purseIs cX6_purseIs 4 none)) := lw_V q2359 q2361 qs129 q164 q2362
theorem gn_purseIs : yX6_purseIs.cls = RX6 ∧ yX6_purseIs.cls ≠ "java/lang/invoke/MethodHandle" ∧ yX6_purseIs.cls ≠ "java/lang/invoke/VarHandle" ∧ (parseMethodDescriptor yX6_purseIs.desc).map (fun d => d.parameters.length) = some 2 := by decide +kernel
abbrev rM_purseIs : Room := { frames := 0, cells := 0, slots := 0, locals := 0 }
set_option maxHeartbeats 4000000 in
theorem cmf_purseIs {l : Launch} {dC : Nat → ClassId} {dI : Nat → Nat → Nat} {ac : Nat → ClassId} {o : Nat} {ad : Nat → Nat} {σ : mSt} {x1 : Int32} {x2 : Int64} {σ' : mSt} (hf : M_purseIs σ x1 x2 = some ((), σ')) : Met l yX6_purseIs (ws_ yX6_purseIs cX6_purseIs 4 none) { frames := 0, cells := 0, slots := 0, locals := 0 } (va_Pc [.ref o, .int x1, .long x2] (mPre dC dI ac o ad σ)) (mQv dC dI ac o ad σ') 0 0 (mF o ad) := by
  refine m_of (by decide) rfl (Nat.le_of_ble_eq_true rfl) ?_
  intro p e s m args below meth c E hb hr hlk hml hS ls hl
  have hl : lv_has ls 4 [(0, .ref o), (1, .int x1), (2, .long x2)] := hl
  have hB38 : ∀ (σ : mSt) (y0 : Int32) (y1 : Int32) (y2 : Nat), M_purseIs_b38 σ y0 y1 y2 = some ((), σ') → ∀ (H : Heap) (locs : List Loc), mS dC dI ac o ad s.heap σ H locs → ∀ (ls : Array Slot), lv_has ls 4 [(0, .ref o)] → W p l e rM_purseIs s m args below meth c H locs 0 0 (MQ below (mQv dC dI ac o ad σ') args s 0 0 (mF o ad)) (F0 m 38 ls [.int y0, .int y1, .ref (ad y2)]) := by
    intro σ y0 y1 y2 hf H locs hS ls hl
    unfold M_purseIs_b38 at hf
    obtain ⟨σ1, hg, hw, hf⟩ := st_s hf
    refine m_ist E hb hS hg hw dX6_purseIs_38 (fun H locs hS => ?_)
    exact m_vr E hb hr hlk hS hf dX6_purseIs_39
  unfold M_purseIs at hf
  refine lv_aload_n E.1 hb dX6_purseIs_0 rfl (lv_at hl 0 rfl) ?_
  refine m_gA (k := 56) E hb hS 2 rfl (by decide) fl_56 dX6_purseIs_1 ?_
  refine lv_bipush (v := 7) E.1 hb dX6_purseIs_4 rfl ?_
  refine lv_iconst (v := 4) E.1 hb dX6_purseIs_6 rfl ?_
  refine lv_iload_n E.1 hb dX6_purseIs_7 rfl (lv_at hl 1 rfl) ?_
  refine lv_imul E.1 hb dX6_purseIs_8 ?_
  refine lv_iadd E.1 hb dX6_purseIs_9 ?_
  refine lv_iconst (v := 2) E.1 hb dX6_purseIs_10 rfl ?_
  refine lv_iadd E.1 hb dX6_purseIs_11 ?_
  refine lv_lload_n E.1 hb dX6_purseIs_12 rfl (lv_at hl 2 rfl) ?_
  refine lv_lconst (v := 0) E.1 hb dX6_purseIs_13 rfl ?_
  refine lv_lc_ge (tgt := 22) E.1 hb dX6_purseIs_14 dX6_purseIs_15 (by decide) (fun hc => ?_) (fun hc => ?_)
  · have hf := it_s hc hf
    refine lv_lload_n E.1 hb dX6_purseIs_22 rfl (lv_at hl 2 rfl) ?_
    refine lv_ldc2 E.1 hb E.2.1 (E.2.2.1 _ q2363) dX6_purseIs_23 ?_
    refine lv_lc_le (tgt := 36) E.1 hb dX6_purseIs_26 dX6_purseIs_27 (by decide) (fun hc => ?_) (fun hc => ?_)
    · have hf := it_s hc hf
      refine lv_lload_n E.1 hb dX6_purseIs_36 rfl (lv_at hl 2 rfl) ?_
      refine lv_l2i E.1 hb dX6_purseIs_37 rfl ?_
      exact hB38 σ (Int64.toInt32 x2) ((7 + (4 * x1)) + 2) 56 hf _ _ hS _ (lv_sub hl [0] rfl)
    · have hf := if_s hc hf
      refine lv_sipush (v := 9999) E.1 hb dX6_purseIs_30 rfl ?_
      refine lv_goto (tgt := 38) E.1 hb dX6_purseIs_33 (by decide) ?_
      exact hB38 σ 9999 ((7 + (4 * x1)) + 2) 56 hf _ _ hS _ (lv_sub hl [0] rfl)
  · have hf := if_s hc hf
    refine lv_iconst (v := 0) E.1 hb dX6_purseIs_18 rfl ?_
    refine lv_goto (tgt := 38) E.1 hb dX6_purseIs_19 (by decide) ?_
    exact hB38 σ 0 ((7 + (4 * x1)) + 2) 56 hf _ _ hS _ (lv_sub hl [0] rfl)
/-! hasGloss(II)Z: RO -/
noncomputable def M_hasGloss (σ : mSt) (x1 : Int32) (x2 : Int32) : Option Int32 :=
  bo (ld 2 σ 56 (1 + x1)) fun v1 => if ((v1 >>> (x2 &&& 31)) &&& 1) = 1 then (some 1) else (some 0)
theorem gw_hasGloss : GoodIn lw_all (wsV RX6 481 RX6 yX6_hasGloss (ws_ yX6_hasGloss cX6_hasGloss 3 (some .boolean))) := lw_V q2285 q2287 qs116 q164 q2288
theorem gn_hasGloss : yX6_hasGloss.cls = RX6 ∧ yX6_hasGloss.cls ≠ "java/lang/invoke/MethodHandle" ∧ yX6_hasGloss.cls ≠ "java/lang/invoke/VarHandle" ∧ (parseMethodDescriptor yX6_hasGloss.desc).map (fun d => d.parameters.length) = some 2 := by decide +kernel
abbrev rM_hasGloss : Room := { frames := 0, cells := 0, slots := 0, locals := 0 }
set_option maxHeartbeats 4000000 in
theorem cmf_hasGloss {l : Launch} {dC : Nat → ClassId} {dI : Nat → Nat → Nat} {ac : Nat → ClassId} {o : Nat} {ad : Nat → Nat} {σ : mSt} {x1 : Int32} {x2 : Int32} {r : Int32} (hf : M_hasGloss σ x1 x2 = some r) : Met l yX6_hasGloss (ws_ yX6_hasGloss cX6_hasGloss 3 (some .boolean)) { frames := 0, cells := 0, slots := 0, locals := 0 } (va_Pc [.ref o, .int x1, .int x2] (mPre dC dI ac o ad σ)) (mQi dC dI ac o ad r σ) 0 0 (mF o ad) := by
  refine m_of (by decide) rfl (Nat.le_of_ble_eq_true rfl) ?_
  intro p e s m args below meth c E hb hr hlk hml hS ls hl
  have hl : lv_has ls 3 [(0, .ref o), (1, .int x1), (2, .int x2)] := hl
  unfold M_hasGloss at hf
  refine lv_aload_n E.1 hb dX6_hasGloss_0 rfl (lv_at hl 0 rfl) ?_
  refine m_gA (k := 56) E hb hS 2 rfl (by decide) fl_56 dX6_hasGloss_1 ?_
  refine lv_iconst (v := 1) E.1 hb dX6_hasGloss_4 rfl ?_
  refine lv_iload_n E.1 hb dX6_hasGloss_5 rfl (lv_at hl 1 rfl) ?_
  refine lv_iadd E.1 hb dX6_hasGloss_6 ?_
  obtain ⟨hg, hf⟩ := ld_s hf
  refine m_ild E hb hS hg dX6_hasGloss_7 ?_
  refine lv_iload_n E.1 hb dX6_hasGloss_8 rfl (lv_at hl 2 rfl) ?_
  refine lv_ishr E.1 hb dX6_hasGloss_9 ?_
  refine lv_iconst (v := 1) E.1 hb dX6_hasGloss_10 rfl ?_
  refine lv_iand E.1 hb dX6_hasGloss_11 ?_
  refine lv_iconst (v := 1) E.1 hb dX6_hasGloss_12 rfl ?_
  refine lv_icmp_ne (tgt := 20) E.1 hb dX6_hasGloss_13 (by decide) (fun hc => ?_) (fun hc => ?_)
  · have hf := if_s hc hf
    refine lv_iconst (v := 0) E.1 hb dX6_hasGloss_20 rfl ?_
    exact m_zrR E hb hr hlk hS rfl hf dX6_hasGloss_21
  · have hf := it_s hc hf
    refine lv_iconst (v := 1) E.1 hb dX6_hasGloss_16 rfl ?_
    refine lv_goto (tgt := 21) E.1 hb dX6_hasGloss_17 (by decide) ?_
    exact m_zrR E hb hr hlk hS rfl hf dX6_hasGloss_21
/-! standsOn(II)I: RO -/
noncomputable def M_standsOn_b30 (N : Nat) (σ : mSt) (k2 : Int32 → Int32 → Int32 → Option Int32) (x1 : Int32) (x2 : Int32) (x3 : Int32) : Option Int32 :=
  k2 x1 x2 (x3 + 1)
noncomputable def M_standsOn_b2 (N : Nat) (σ : mSt) (k2 : Int32 → Int32 → Int32 → Option Int32) (x1 : Int32) (x2 : Int32) (x3 : Int32) : Option Int32 :=
  bo (M_beingMany σ) fun r1 => if r1 ≤ x3 then (some (-1)) else (bo (M_leafOf σ x3) fun r2 => if r2 = x1 then (bo (M_cellOf σ x3) fun r3 => if r3 = x2 then (some x3) else (M_standsOn_b30 N σ k2 x1 x2 x3)) else (M_standsOn_b30 N σ k2 x1 x2 x3))
noncomputable def M_standsOn (N : Nat) (σ : mSt) (x1 : Int32) (x2 : Int32) : Option Int32 :=
  rn3 (M_standsOn_b2 N σ) N x1 x2 0
theorem gw_standsOn : GoodIn lw_all (wsV RX6 484 RX6 yX6_standsOn (ws_ yX6_standsOn cX6_standsOn 4 (some .int))) := lw_V q2289 q2291 qs117 q164 q2292
theorem gn_standsOn : yX6_standsOn.cls = RX6 ∧ yX6_standsOn.cls ≠ "java/lang/invoke/MethodHandle" ∧ yX6_standsOn.cls ≠ "java/lang/invoke/VarHandle" ∧ (parseMethodDescriptor yX6_standsOn.desc).map (fun d => d.parameters.length) = some 2 := by decide +kernel
abbrev rM_standsOn : Room := { frames := 1, cells := 0, slots := 0, locals := 21 }
set_option maxHeartbeats 4000000 in
theorem cmf_standsOn {l : Launch} {dC : Nat → ClassId} {dI : Nat → Nat → Nat} {ac : Nat → ClassId} {o : Nat} {ad : Nat → Nat} {N : Nat} {σ : mSt} {x1 : Int32} {x2 : Int32} {r : Int32} (hf : M_standsOn N σ x1 x2 = some r) : Met l yX6_standsOn (ws_ yX6_standsOn cX6_standsOn 4 (some .int)) { frames := 1, cells := 0, slots := 0, locals := 21 } (va_Pc [.ref o, .int x1, .int x2] (mPre dC dI ac o ad σ)) (mQi dC dI ac o ad r σ) 0 0 (mF o ad) := by
  refine m_of (by decide) rfl (Nat.le_of_ble_eq_true rfl) ?_
  intro p e s m args below meth c E hb hr hlk hml hS ls hl
  have hl : lv_has ls 4 [(0, .ref o), (1, .int x1), (2, .int x2)] := hl
  have hB30 : ∀ (k2 : Int32 → Int32 → Int32 → Option Int32) (hk2 : ∀ (x1 : Int32) (x2 : Int32) (x3 : Int32), k2 x1 x2 x3 = some r → ∀ (H : Heap) (locs : List Loc), mS dC dI ac o ad s.heap σ H locs → ∀ (ls : Array Slot), lv_has ls 4 [(0, .ref o), (1, .int x1), (2, .int x2), (3, .int x3)] → W p l e rM_standsOn s m args below meth c H locs 0 0 (MQ below (mQi dC dI ac o ad r σ) args s 0 0 (mF o ad)) (F0 m 2 ls [])) (x1 : Int32) (x2 : Int32) (x3 : Int32), M_standsOn_b30 N σ k2 x1 x2 x3 = some r → ∀ (H : Heap) (locs : List Loc), mS dC dI ac o ad s.heap σ H locs → ∀ (ls : Array Slot), lv_has ls 4 [(0, .ref o), (1, .int x1), (2, .int x2), (3, .int x3)] → W p l e rM_standsOn s m args below meth c H locs 0 0 (MQ below (mQi dC dI ac o ad r σ) args s 0 0 (mF o ad)) (F0 m 30 ls []) := by
    intro k2 hk2 x1 x2 x3 hf H locs hS ls hl
    unfold M_standsOn_b30 at hf
    refine lv_iinc (v := (x3 + 1)) (lv' := [(3, .int (x3 + 1)), (0, .ref o), (1, .int x1), (2, .int x2)]) E.1 hb dX6_standsOn_30 hl (k := 3) rfl rfl (by decide) rfl (fun ls hl => ?_)
    refine lv_goto (tgt := 2) E.1 hb dX6_standsOn_33 (by decide) ?_
    exact hk2 x1 x2 (x3 + 1) hf _ _ hS _ (lv_sub hl [1, 2, 3, 0] rfl)
  have hL2 : ∀ (n : Nat) (x1 : Int32) (x2 : Int32) (x3 : Int32), rn3 (M_standsOn_b2 N σ) n x1 x2 x3 = some r → ∀ (H : Heap) (locs : List Loc), mS dC dI ac o ad s.heap σ H locs → ∀ (ls : Array Slot), lv_has ls 4 [(0, .ref o), (1, .int x1), (2, .int x2), (3, .int x3)] → W p l e rM_standsOn s m args below meth c H locs 0 0 (MQ below (mQi dC dI ac o ad r σ) args s 0 0 (mF o ad)) (F0 m 2 ls []) := by
    intro  n
    induction n with
    | zero =>
      intro x1 x2 x3 hf
      cases hf
    | succ n ih =>
      intro x1 x2 x3 hf H locs hS ls hl
      have hf : M_standsOn_b2 N σ (rn3 (M_standsOn_b2 N σ) n) x1 x2 x3 = some r := hf
      have hk2 := ih
      generalize rn3 (M_standsOn_b2 N σ) n = k2 at hf hk2
      unfold M_standsOn_b2 at hf
      refine lv_iload_n E.1 hb dX6_standsOn_2 rfl (lv_at hl 3 rfl) ?_
      refine lv_aload_n E.1 hb dX6_standsOn_3 rfl (lv_at hl 0 rfl) ?_
      obtain ⟨r1, h1, hf⟩ := bo_s hf
      refine m_cVi E hb hml hl.1 hS (cmf_beingMany h1) gw_beingMany gn_beingMany rfl rfl (Nat.le_of_ble_eq_true rfl) ⟨Nat.le_of_ble_eq_true rfl, Nat.le_of_ble_eq_true rfl⟩ ⟨Nat.le_refl 0, Nat.le_refl 0⟩ dX6_standsOn_4 (fun H locs hS => ?_)
      refine lv_icmp_ge (tgt := 36) E.1 hb dX6_standsOn_7 (by decide) (fun hc => ?_) (fun hc => ?_)
      · have hf := it_s hc hf
        refine lv_iconst (v := (-1)) E.1 hb dX6_standsOn_36 rfl ?_
        exact m_irR E hb hr hlk hS hf dX6_standsOn_37
      · have hf := if_s hc hf
        refine lv_aload_n E.1 hb dX6_standsOn_10 rfl (lv_at hl 0 rfl) ?_
        refine lv_iload_n E.1 hb dX6_standsOn_11 rfl (lv_at hl 3 rfl) ?_
        obtain ⟨r2, h1, hf⟩ := bo_s hf
        refine m_cVi E hb hml hl.1 hS (cmf_leafOf h1) gw_leafOf gn_leafOf rfl rfl (Nat.le_of_ble_eq_true rfl) ⟨Nat.le_of_ble_eq_true rfl, Nat.le_of_ble_eq_true rfl⟩ ⟨Nat.le_refl 0, Nat.le_refl 0⟩ dX6_standsOn_12 (fun H locs hS => ?_)
        refine lv_iload_n E.1 hb dX6_standsOn_15 rfl (lv_at hl 1 rfl) ?_
        refine lv_icmp_ne (tgt := 30) E.1 hb dX6_standsOn_16 (by decide) (fun hc => ?_) (fun hc => ?_)
        · have hf := if_s hc hf
          exact hB30 k2 hk2 x1 x2 x3 hf _ _ hS _ (lv_sub hl [0, 1, 2, 3] rfl)
        · have hf := it_s hc hf
          refine lv_aload_n E.1 hb dX6_standsOn_19 rfl (lv_at hl 0 rfl) ?_
          refine lv_iload_n E.1 hb dX6_standsOn_20 rfl (lv_at hl 3 rfl) ?_
          obtain ⟨r3, h1, hf⟩ := bo_s hf
          refine m_cVi E hb hml hl.1 hS (cmf_cellOf h1) gw_cellOf gn_cellOf rfl rfl (Nat.le_of_ble_eq_true rfl) ⟨Nat.le_of_ble_eq_true rfl, Nat.le_of_ble_eq_true rfl⟩ ⟨Nat.le_refl 0, Nat.le_refl 0⟩ dX6_standsOn_21 (fun H locs hS => ?_)
          refine lv_iload_n E.1 hb dX6_standsOn_24 rfl (lv_at hl 2 rfl) ?_
          refine lv_icmp_ne (tgt := 30) E.1 hb dX6_standsOn_25 (by decide) (fun hc => ?_) (fun hc => ?_)
          · have hf := if_s hc hf
            exact hB30 k2 hk2 x1 x2 x3 hf _ _ hS _ (lv_sub hl [0, 1, 2, 3] rfl)
          · have hf := it_s hc hf
            refine lv_iload_n E.1 hb dX6_standsOn_28 rfl (lv_at hl 3 rfl) ?_
            exact m_irR E hb hr hlk hS hf dX6_standsOn_29
  unfold M_standsOn at hf
  refine lv_iconst (v := 0) E.1 hb dX6_standsOn_0 rfl ?_
  refine lv_istore_n (lv' := [(3, .int 0), (0, .ref o), (1, .int x1), (2, .int x2)]) E.1 hb dX6_standsOn_1 rfl hl (by decide) rfl (fun ls hl => ?_)
  exact hL2 N x1 x2 0 hf _ _ hS _ (lv_sub hl [1, 2, 3, 0] rfl)
/-! isOpen(II)Z: P -/
noncomputable def M_isOpen (x0 : Int32) (x1 : Int32) : Option Int32 :=
  if x0 = (x1 - 1) then (some 1) else (if x0 = x1 then (some 1) else (some 0))
theorem gw_isOpen : GoodIn lw_all (va_wsS RX6 416 yX6_isOpen (ws_ yX6_isOpen cX6_isOpen 2 (some .boolean))) := lw_S q2237 q2238 q164 q2239
theorem gn_isOpen : yX6_isOpen.cls ≠ "java/lang/invoke/MethodHandle" ∧ yX6_isOpen.cls ≠ "java/lang/invoke/VarHandle" ∧ (parseMethodDescriptor yX6_isOpen.desc).map (fun d => d.parameters.length) = some 2 := by decide +kernel
abbrev rM_isOpen : Room := { frames := 0, cells := 0, slots := 0, locals := 0 }
set_option maxHeartbeats 4000000 in
theorem cmf_isOpen {l : Launch} {dC : Nat → ClassId} {dI : Nat → Nat → Nat} {ac : Nat → ClassId} {o : Nat} {ad : Nat → Nat} {σ : mSt} {x0 : Int32} {x1 : Int32} {r : Int32} (hf : M_isOpen x0 x1 = some r) : Met l yX6_isOpen (ws_ yX6_isOpen cX6_isOpen 2 (some .boolean)) { frames := 0, cells := 0, slots := 0, locals := 0 } (va_Pc [.int x0, .int x1] (mPre dC dI ac o ad σ)) (mQi dC dI ac o ad r σ) 0 0 (mF o ad) := by
  refine m_of (by decide) rfl (Nat.le_of_ble_eq_true rfl) ?_
  intro p e s m args below meth c E hb hr hlk hml hS ls hl
  have hl : lv_has ls 2 [(0, .int x0), (1, .int x1)] := hl
  unfold M_isOpen at hf
  refine lv_iload_n E.1 hb dX6_isOpen_0 rfl (lv_at hl 0 rfl) ?_
  refine lv_iload_n E.1 hb dX6_isOpen_1 rfl (lv_at hl 1 rfl) ?_
  refine lv_iconst (v := 1) E.1 hb dX6_isOpen_2 rfl ?_
  refine lv_isub E.1 hb dX6_isOpen_3 ?_
  refine lv_icmp_eq (tgt := 12) E.1 hb dX6_isOpen_4 (by decide) (fun hc => ?_) (fun hc => ?_)
  · have hf := it_s hc hf
    refine lv_iconst (v := 1) E.1 hb dX6_isOpen_12 rfl ?_
    refine lv_goto (tgt := 17) E.1 hb dX6_isOpen_13 (by decide) ?_
    exact m_zrR E hb hr hlk hS rfl hf dX6_isOpen_17
  · have hf := if_s hc hf
    refine lv_iload_n E.1 hb dX6_isOpen_7 rfl (lv_at hl 0 rfl) ?_
    refine lv_iload_n E.1 hb dX6_isOpen_8 rfl (lv_at hl 1 rfl) ?_
    refine lv_icmp_ne (tgt := 16) E.1 hb dX6_isOpen_9 (by decide) (fun hc => ?_) (fun hc => ?_)
    · have hf := if_s hc hf
      refine lv_iconst (v := 0) E.1 hb dX6_isOpen_16 rfl ?_
      exact m_zrR E hb hr hlk hS rfl hf dX6_isOpen_17
    · have hf := it_s hc hf
      refine lv_iconst (v := 1) E.1 hb dX6_isOpen_12 rfl ?_
      refine lv_goto (tgt := 17) E.1 hb dX6_isOpen_13 (by decide) ?_
      exact m_zrR E hb hr hlk hS rfl hf dX6_isOpen_17
/-! liesOnNext(II)Z: RO -/
noncomputable def M_liesOnNext (σ : mSt) (x1 : Int32) (x2 : Int32) : Option Int32 :=
  if x1 < 0 then (some 0) else (bo (M_leaves σ) fun r1 => if r1 ≤ (x1 + 1) then (some 0) else (bo (M_isOpen x1 x2) fun r2 => if r2 = 0 then (some 1) else (some 0)))
theorem gw_liesOnNext : GoodIn lw_all (wsV RX6 419 RX6 yX6_liesOnNext (ws_ yX6_liesOnNext cX6_liesOnNext 3 (some .boolean))) := lw_V q2281 q2283 qs115 q164 q2284
theorem gn_liesOnNext : yX6_liesOnNext.cls = RX6 ∧ yX6_liesOnNext.cls ≠ "java/lang/invoke/MethodHandle" ∧ yX6_liesOnNext.cls ≠ "java/lang/invoke/VarHandle" ∧ (parseMethodDescriptor yX6_liesOnNext.desc).map (fun d => d.parameters.length) = some 2 := by decide +kernel
abbrev rM_liesOnNext : Room := { frames := 1, cells := 0, slots := 0, locals := 21 }
set_option maxHeartbeats 4000000 in
theorem cmf_liesOnNext {l : Launch} {dC : Nat → ClassId} {dI : Nat → Nat → Nat} {ac : Nat → ClassId} {o : Nat} {ad : Nat → Nat} {σ : mSt} {x1 : Int32} {x2 : Int32} {r : Int32} (hf : M_liesOnNext σ x1 x2 = some r) : Met l yX6_liesOnNext (ws_ yX6_liesOnNext cX6_liesOnNext 3 (some .boolean)) { frames := 1, cells := 0, slots := 0, locals := 21 } (va_Pc [.ref o, .int x1, .int x2] (mPre dC dI ac o ad σ)) (mQi dC dI ac o ad r σ) 0 0 (mF o ad) := by
  refine m_of (by decide) rfl (Nat.le_of_ble_eq_true rfl) ?_
  intro p e s m args below meth c E hb hr hlk hml hS ls hl
  have hl : lv_has ls 3 [(0, .ref o), (1, .int x1), (2, .int x2)] := hl
  unfold M_liesOnNext at hf
  refine lv_iload_n E.1 hb dX6_liesOnNext_0 rfl (lv_at hl 1 rfl) ?_
  refine lv_if_lt (tgt := 26) E.1 hb dX6_liesOnNext_1 (by decide) (fun hc => ?_) (fun hc => ?_)
  · have hf := it_s hc hf
    refine lv_iconst (v := 0) E.1 hb dX6_liesOnNext_26 rfl ?_
    exact m_zrR E hb hr hlk hS rfl hf dX6_liesOnNext_27
  · have hf := if_s hc hf
    refine lv_iload_n E.1 hb dX6_liesOnNext_4 rfl (lv_at hl 1 rfl) ?_
    refine lv_iconst (v := 1) E.1 hb dX6_liesOnNext_5 rfl ?_
    refine lv_iadd E.1 hb dX6_liesOnNext_6 ?_
    refine lv_aload_n E.1 hb dX6_liesOnNext_7 rfl (lv_at hl 0 rfl) ?_
    obtain ⟨r1, h1, hf⟩ := bo_s hf
    refine m_cVi E hb hml hl.1 hS (cmf_leaves h1) gw_leaves gn_leaves rfl rfl (Nat.le_of_ble_eq_true rfl) ⟨Nat.le_of_ble_eq_true rfl, Nat.le_of_ble_eq_true rfl⟩ ⟨Nat.le_refl 0, Nat.le_refl 0⟩ dX6_liesOnNext_8 (fun H locs hS => ?_)
    refine lv_icmp_ge (tgt := 26) E.1 hb dX6_liesOnNext_11 (by decide) (fun hc => ?_) (fun hc => ?_)
    · have hf := it_s hc hf
      refine lv_iconst (v := 0) E.1 hb dX6_liesOnNext_26 rfl ?_
      exact m_zrR E hb hr hlk hS rfl hf dX6_liesOnNext_27
    · have hf := if_s hc hf
      refine lv_iload_n E.1 hb dX6_liesOnNext_14 rfl (lv_at hl 1 rfl) ?_
      refine lv_iload_n E.1 hb dX6_liesOnNext_15 rfl (lv_at hl 2 rfl) ?_
      obtain ⟨r2, h1, hf⟩ := bo_s hf
      refine m_cSi E hb hml hl.1 hS (cmf_isOpen h1) gw_isOpen gn_isOpen rfl rfl (Nat.le_of_ble_eq_true rfl) ⟨Nat.le_of_ble_eq_true rfl, Nat.le_of_ble_eq_true rfl⟩ ⟨Nat.le_refl 0, Nat.le_refl 0⟩ dX6_liesOnNext_16 (fun H locs hS => ?_)
      refine lv_if_ne (tgt := 26) E.1 hb dX6_liesOnNext_19 (by decide) (fun hc => ?_) (fun hc => ?_)
      · have hf := if_s hc hf
        refine lv_iconst (v := 0) E.1 hb dX6_liesOnNext_26 rfl ?_
        exact m_zrR E hb hr hlk hS rfl hf dX6_liesOnNext_27
      · have hf := it_s hc hf
        refine lv_iconst (v := 1) E.1 hb dX6_liesOnNext_22 rfl ?_
        refine lv_goto (tgt := 27) E.1 hb dX6_liesOnNext_23 (by decide) ?_
        exact m_zrR E hb hr hlk hS rfl hf dX6_liesOnNext_27
/-! doMeet(III)Z: RO -/
noncomputable def M_doMeet (σ : mSt) (x1 : Int32) (x2 : Int32) (x3 : Int32) : Option Int32 :=
  bo (M_cellOf σ x1) fun r1 => bo (M_cellOf σ x2) fun r2 => bo (ld 2 σ 40 3) fun v3 => if (r1 + r2) = (v3 - 1) then (bo (M_leafOf σ x1) fun r4 => bo (M_leafOf σ x2) fun r5 => if r5 = (r4 + 1) then (bo (M_liesOnNext σ r4 x3) fun r7 => if r7 &&& 1 = r7 then some r7 else none) else (if r4 = (r5 + 1) then (bo (M_liesOnNext σ r5 x3) fun r6 => if r6 = 0 then (some 0) else (some 1)) else (some 0))) else (some 0)
theorem gw_doMeet : GoodIn lw_all (wsV RX6 471 RX6 yX6_doMeet (ws_ yX6_doMeet cX6_doMeet 6 (some .boolean))) := lw_V q2302 q2304 qs118 q164 q2305
theorem gn_doMeet : yX6_doMeet.cls = RX6 ∧ yX6_doMeet.cls ≠ "java/lang/invoke/MethodHandle" ∧ yX6_doMeet.cls ≠ "java/lang/invoke/VarHandle" ∧ (parseMethodDescriptor yX6_doMeet.desc).map (fun d => d.parameters.length) = some 3 := by decide +kernel
abbrev rM_doMeet : Room := { frames := 2, cells := 0, slots := 0, locals := 43 }
set_option maxHeartbeats 4000000 in
theorem cmf_doMeet {l : Launch} {dC : Nat → ClassId} {dI : Nat → Nat → Nat} {ac : Nat → ClassId} {o : Nat} {ad : Nat → Nat} {σ : mSt} {x1 : Int32} {x2 : Int32} {x3 : Int32} {r : Int32} (hf : M_doMeet σ x1 x2 x3 = some r) : Met l yX6_doMeet (ws_ yX6_doMeet cX6_doMeet 6 (some .boolean)) { frames := 2, cells := 0, slots := 0, locals := 43 } (va_Pc [.ref o, .int x1, .int x2, .int x3] (mPre dC dI ac o ad σ)) (mQi dC dI ac o ad r σ) 0 0 (mF o ad) := by
  refine m_of (by decide) rfl (Nat.le_of_ble_eq_true rfl) ?_
  intro p e s m args below meth c E hb hr hlk hml hS ls hl
  have hl : lv_has ls 6 [(0, .ref o), (1, .int x1), (2, .int x2), (3, .int x3)] := hl
  unfold M_doMeet at hf
  refine lv_aload_n E.1 hb dX6_doMeet_0 rfl (lv_at hl 0 rfl) ?_
  refine lv_iload_n E.1 hb dX6_doMeet_1 rfl (lv_at hl 1 rfl) ?_
  obtain ⟨r1, h1, hf⟩ := bo_s hf
  refine m_cVi E hb hml hl.1 hS (cmf_cellOf h1) gw_cellOf gn_cellOf rfl rfl (Nat.le_of_ble_eq_true rfl) ⟨Nat.le_of_ble_eq_true rfl, Nat.le_of_ble_eq_true rfl⟩ ⟨Nat.le_refl 0, Nat.le_refl 0⟩ dX6_doMeet_2 (fun H locs hS => ?_)
  refine lv_aload_n E.1 hb dX6_doMeet_5 rfl (lv_at hl 0 rfl) ?_
  refine lv_iload_n E.1 hb dX6_doMeet_6 rfl (lv_at hl 2 rfl) ?_
  obtain ⟨r2, h1, hf⟩ := bo_s hf
  refine m_cVi E hb hml hl.1 hS (cmf_cellOf h1) gw_cellOf gn_cellOf rfl rfl (Nat.le_of_ble_eq_true rfl) ⟨Nat.le_of_ble_eq_true rfl, Nat.le_of_ble_eq_true rfl⟩ ⟨Nat.le_refl 0, Nat.le_refl 0⟩ dX6_doMeet_7 (fun H locs hS => ?_)
  refine lv_iadd E.1 hb dX6_doMeet_10 ?_
  refine lv_aload_n E.1 hb dX6_doMeet_11 rfl (lv_at hl 0 rfl) ?_
  refine m_gA (k := 40) E hb hS 2 rfl (by decide) fl_40 dX6_doMeet_12 ?_
  refine lv_iconst (v := 3) E.1 hb dX6_doMeet_15 rfl ?_
  obtain ⟨hg, hf⟩ := ld_s hf
  refine m_ild E hb hS hg dX6_doMeet_16 ?_
  refine lv_iconst (v := 1) E.1 hb dX6_doMeet_17 rfl ?_
  refine lv_isub E.1 hb dX6_doMeet_18 ?_
  refine lv_icmp_eq (tgt := 24) E.1 hb dX6_doMeet_19 (by decide) (fun hc => ?_) (fun hc => ?_)
  · have hf := it_s hc hf
    refine lv_aload_n E.1 hb dX6_doMeet_24 rfl (lv_at hl 0 rfl) ?_
    refine lv_iload_n E.1 hb dX6_doMeet_25 rfl (lv_at hl 1 rfl) ?_
    obtain ⟨r4, h1, hf⟩ := bo_s hf
    refine m_cVi E hb hml hl.1 hS (cmf_leafOf h1) gw_leafOf gn_leafOf rfl rfl (Nat.le_of_ble_eq_true rfl) ⟨Nat.le_of_ble_eq_true rfl, Nat.le_of_ble_eq_true rfl⟩ ⟨Nat.le_refl 0, Nat.le_refl 0⟩ dX6_doMeet_26 (fun H locs hS => ?_)
    refine lv_istore (lv' := [(4, .int r4), (0, .ref o), (1, .int x1), (2, .int x2), (3, .int x3)]) E.1 hb dX6_doMeet_29 hl (by decide) rfl (fun ls hl => ?_)
    refine lv_aload_n E.1 hb dX6_doMeet_31 rfl (lv_at hl 1 rfl) ?_
    refine lv_iload_n E.1 hb dX6_doMeet_32 rfl (lv_at hl 3 rfl) ?_
    obtain ⟨r5, h1, hf⟩ := bo_s hf
    refine m_cVi E hb hml hl.1 hS (cmf_leafOf h1) gw_leafOf gn_leafOf rfl rfl (Nat.le_of_ble_eq_true rfl) ⟨Nat.le_of_ble_eq_true rfl, Nat.le_of_ble_eq_true rfl⟩ ⟨Nat.le_refl 0, Nat.le_refl 0⟩ dX6_doMeet_33 (fun H locs hS => ?_)
    refine lv_istore (lv' := [(5, .int r5), (4, .int r4), (0, .ref o), (1, .int x1), (2, .int x2), (3, .int x3)]) E.1 hb dX6_doMeet_36 hl (by decide) rfl (fun ls hl => ?_)
    refine lv_iload E.1 hb dX6_doMeet_38 (lv_at hl 0 rfl) ?_
    refine lv_iload E.1 hb dX6_doMeet_40 (lv_at hl 1 rfl) ?_
    refine lv_iconst (v := 1) E.1 hb dX6_doMeet_42 rfl ?_
    refine lv_iadd E.1 hb dX6_doMeet_43 ?_
    refine lv_icmp_ne (tgt := 57) E.1 hb dX6_doMeet_44 (by decide) (fun hc => ?_) (fun hc => ?_)
    · have hf := if_s hc hf
      refine lv_iload E.1 hb dX6_doMeet_57 (lv_at hl 1 rfl) ?_
      refine lv_iload E.1 hb dX6_doMeet_59 (lv_at hl 0 rfl) ?_
      refine lv_iconst (v := 1) E.1 hb dX6_doMeet_61 rfl ?_
      refine lv_iadd E.1 hb dX6_doMeet_62 ?_
      refine lv_icmp_ne (tgt := 80) E.1 hb dX6_doMeet_63 (by decide) (fun hc => ?_) (fun hc => ?_)
      · have hf := if_s hc hf
        refine lv_iconst (v := 0) E.1 hb dX6_doMeet_80 rfl ?_
        exact m_zrR E hb hr hlk hS rfl hf dX6_doMeet_81
      · have hf := it_s hc hf
        refine lv_aload_n E.1 hb dX6_doMeet_66 rfl (lv_at hl 2 rfl) ?_
        refine lv_iload E.1 hb dX6_doMeet_67 (lv_at hl 0 rfl) ?_
        refine lv_iload_n E.1 hb dX6_doMeet_69 rfl (lv_at hl 5 rfl) ?_
        obtain ⟨r6, h1, hf⟩ := bo_s hf
        refine m_cVi E hb hml hl.1 hS (cmf_liesOnNext h1) gw_liesOnNext gn_liesOnNext rfl rfl (Nat.le_of_ble_eq_true rfl) ⟨Nat.le_of_ble_eq_true rfl, Nat.le_of_ble_eq_true rfl⟩ ⟨Nat.le_refl 0, Nat.le_refl 0⟩ dX6_doMeet_70 (fun H locs hS => ?_)
        refine lv_if_eq (tgt := 80) E.1 hb dX6_doMeet_73 (by decide) (fun hc => ?_) (fun hc => ?_)
        · have hf := it_s hc hf
          refine lv_iconst (v := 0) E.1 hb dX6_doMeet_80 rfl ?_
          exact m_zrR E hb hr hlk hS rfl hf dX6_doMeet_81
        · have hf := if_s hc hf
          refine lv_iconst (v := 1) E.1 hb dX6_doMeet_76 rfl ?_
          refine lv_goto (tgt := 81) E.1 hb dX6_doMeet_77 (by decide) ?_
          exact m_zrR E hb hr hlk hS rfl hf dX6_doMeet_81
    · have hf := it_s hc hf
      refine lv_aload_n E.1 hb dX6_doMeet_47 rfl (lv_at hl 2 rfl) ?_
      refine lv_iload E.1 hb dX6_doMeet_48 (lv_at hl 1 rfl) ?_
      refine lv_iload_n E.1 hb dX6_doMeet_50 rfl (lv_at hl 5 rfl) ?_
      obtain ⟨r7, h1, hf⟩ := bo_s hf
      refine m_cVi E hb hml hl.1 hS (cmf_liesOnNext h1) gw_liesOnNext gn_liesOnNext rfl rfl (Nat.le_of_ble_eq_true rfl) ⟨Nat.le_of_ble_eq_true rfl, Nat.le_of_ble_eq_true rfl⟩ ⟨Nat.le_refl 0, Nat.le_refl 0⟩ dX6_doMeet_51 (fun H locs hS => ?_)
      refine lv_goto (tgt := 81) E.1 hb dX6_doMeet_54 (by decide) ?_
      obtain ⟨hn, hf⟩ := gu_s hf
      exact m_zrR E hb hr hlk hS hn hf dX6_doMeet_81
  · have hf := if_s hc hf
    refine lv_iconst (v := 0) E.1 hb dX6_doMeet_22 rfl ?_
    exact m_zrR E hb hr hlk hS rfl hf dX6_doMeet_23
/-! qPuts(J)V: RW -/
noncomputable def M_qPuts (σ : mSt) (x1 : Int64) : Option (Unit × mSt) :=
  bo (stL σ 100 (σ.1 101 0) x1) fun σ1 => lt2 (mUI σ1 101 0 ((σ1.1 101 0) + 1)) fun σ2 => some ((), σ2)
theorem gw_qPuts : GoodIn lw_all (wsV RX6 425 RX6 yX6_qPuts (ws_ yX6_qPuts cX6_qPuts 3 none)) := lw_V q2217 q2219 qs105 q164 q2220
theorem gn_qPuts : yX6_qPuts.cls = RX6 ∧ yX6_qPuts.cls ≠ "java/lang/invoke/MethodHandle" ∧ yX6_qPuts.cls ≠ "java/lang/invoke/VarHandle" ∧ (parseMethodDescriptor yX6_qPuts.desc).map (fun d => d.parameters.length) = some 1 := by decide +kernel
abbrev rM_qPuts : Room := { frames := 0, cells := 0, slots := 0, locals := 0 }
set_option maxHeartbeats 4000000 in
theorem cmf_qPuts {l : Launch} {dC : Nat → ClassId} {dI : Nat → Nat → Nat} {ac : Nat → ClassId} {o : Nat} {ad : Nat → Nat} {σ : mSt} {x1 : Int64} {σ' : mSt} (hf : M_qPuts σ x1 = some ((), σ')) : Met l yX6_qPuts (ws_ yX6_qPuts cX6_qPuts 3 none) { frames := 0, cells := 0, slots := 0, locals := 0 } (va_Pc [.ref o, .long x1] (mPre dC dI ac o ad σ)) (mQv dC dI ac o ad σ') 0 0 (mF o ad) := by
  refine m_of (by decide) rfl (Nat.le_of_ble_eq_true rfl) ?_
  intro p e s m args below meth c E hb hr hlk hml hS ls hl
  have hl : lv_has ls 3 [(0, .ref o), (1, .long x1)] := hl
  unfold M_qPuts at hf
  refine lv_aload_n E.1 hb dX6_qPuts_0 rfl (lv_at hl 0 rfl) ?_
  refine m_gA (k := 100) E hb hS 3 rfl (by decide) fl_100 dX6_qPuts_1 ?_
  refine lv_aload_n E.1 hb dX6_qPuts_4 rfl (lv_at hl 0 rfl) ?_
  refine m_gI (k := 101) E hb hS rfl fl_101 dX6_qPuts_5 ?_
  refine lv_lload_n E.1 hb dX6_qPuts_8 rfl (lv_at hl 1 rfl) ?_
  obtain ⟨σ1, hg, hw, hf⟩ := stL_s hf
  refine m_lst E hb hS hg hw dX6_qPuts_9 (fun H locs hS => ?_)
  refine lv_aload_n E.1 hb dX6_qPuts_10 rfl (lv_at hl 0 rfl) ?_
  refine lv_dup E.1 hb dX6_qPuts_11 rfl ?_
  refine m_gI (k := 101) E hb hS rfl fl_101 dX6_qPuts_12 ?_
  refine lv_iconst (v := 1) E.1 hb dX6_qPuts_15 rfl ?_
  refine lv_iadd E.1 hb dX6_qPuts_16 ?_
  obtain ⟨σ2, hw, hf⟩ := lt2_s hf
  refine m_pI (k := 101) E hb hS rfl rfl pf_101 fl_101 hw dX6_qPuts_17 (fun H locs hS => ?_)
  exact m_vr E hb hr hlk hS hf dX6_qPuts_20
/-! qPartOf(II)J: RO -/
noncomputable def M_qPartOf (σ : mSt) (x1 : Int32) (x2 : Int32) : Option Int64 :=
  if x1 = 0 then (some (Int32.toInt64 (σ.1 58 0))) else (if x1 = 1 then (bo (M_leafOf σ x2) fun r1 => some (Int32.toInt64 r1)) else (if x1 = 2 then (bo (M_cellOf σ x2) fun r2 => some (Int32.toInt64 r2)) else (if x1 = 3 then (bo (ld 2 σ 46 (8 + x2)) fun v3 => some (Int32.toInt64 v3)) else (if x1 = 4 then (bo (M_purseOf σ x2) fun r4 => some (Int32.toInt64 r4)) else (if x1 = 5 then (bo (M_leafOf σ x2) fun r5 => bo (M_isOpen r5 (σ.1 59 0)) fun r6 => if r6 = 0 then (some 0) else (some 1)) else (if x1 = 6 then (some (Int32.toInt64 (σ.1 60 0))) else (if x1 = 7 then (some (Int32.toInt64 x2)) else (bo (ld 2 σ 56 ((7 + (4 * x2)) + 3)) fun v7 => some (Int32.toInt64 v7)))))))))
theorem gw_qPartOf : GoodIn lw_all (wsV RX6 429 RX6 yX6_qPartOf (ws_ yX6_qPartOf cX6_qPartOf 3 (some .long))) := lw_V q2221 q2223 qs106 q164 q2224
theorem gn_qPartOf : yX6_qPartOf.cls = RX6 ∧ yX6_qPartOf.cls ≠ "java/lang/invoke/MethodHandle" ∧ yX6_qPartOf.cls ≠ "java/lang/invoke/VarHandle" ∧ (parseMethodDescriptor yX6_qPartOf.desc).map (fun d => d.parameters.length) = some 2 := by decide +kernel
abbrev rM_qPartOf : Room := { frames := 1, cells := 0, slots := 0, locals := 21 }
set_option maxHeartbeats 4000000 in
theorem cmf_qPartOf {l : Launch} {dC : Nat → ClassId} {dI : Nat → Nat → Nat} {ac : Nat → ClassId} {o : Nat} {ad : Nat → Nat} {σ : mSt} {x1 : Int32} {x2 : Int32} {r : Int64} (hf : M_qPartOf σ x1 x2 = some r) : Met l yX6_qPartOf (ws_ yX6_qPartOf cX6_qPartOf 3 (some .long)) { frames := 1, cells := 0, slots := 0, locals := 21 } (va_Pc [.ref o, .int x1, .int x2] (mPre dC dI ac o ad σ)) (mQl dC dI ac o ad r σ) 0 0 (mF o ad) := by
  refine m_of (by decide) rfl (Nat.le_of_ble_eq_true rfl) ?_
  intro p e s m args below meth c E hb hr hlk hml hS ls hl
  have hl : lv_has ls 3 [(0, .ref o), (1, .int x1), (2, .int x2)] := hl
  unfold M_qPartOf at hf
  refine lv_iload_n E.1 hb dX6_qPartOf_0 rfl (lv_at hl 1 rfl) ?_
  by_cases hc0 : x1 = 0
  · have hf := it_s hc0 hf
    refine lv_tableIn (tgt := 48) E.1 hb dX6_qPartOf_1 (by rw [hc0]; decide) (by rw [hc0]; decide) (by rw [hc0]; rfl) (by decide) ?_
    refine lv_aload_n E.1 hb dX6_qPartOf_48 rfl (lv_at hl 0 rfl) ?_
    refine m_gI (k := 58) E hb hS rfl fl_58 dX6_qPartOf_49 ?_
    refine lv_i2l E.1 hb dX6_qPartOf_52 rfl ?_
    exact m_lrR E hb hr hlk hS hf dX6_qPartOf_53
  · have hf := if_s hc0 hf
    by_cases hc1 : x1 = 1
    · have hf := it_s hc1 hf
      refine lv_tableIn (tgt := 54) E.1 hb dX6_qPartOf_1 (by rw [hc1]; decide) (by rw [hc1]; decide) (by rw [hc1]; rfl) (by decide) ?_
      refine lv_aload_n E.1 hb dX6_qPartOf_54 rfl (lv_at hl 0 rfl) ?_
      refine lv_iload_n E.1 hb dX6_qPartOf_55 rfl (lv_at hl 2 rfl) ?_
      obtain ⟨r1, h1, hf⟩ := bo_s hf
      refine m_cVi E hb hml hl.1 hS (cmf_leafOf h1) gw_leafOf gn_leafOf rfl rfl (Nat.le_of_ble_eq_true rfl) ⟨Nat.le_of_ble_eq_true rfl, Nat.le_of_ble_eq_true rfl⟩ ⟨Nat.le_refl 0, Nat.le_refl 0⟩ dX6_qPartOf_56 (fun H locs hS => ?_)
      refine lv_i2l E.1 hb dX6_qPartOf_59 rfl ?_
      exact m_lrR E hb hr hlk hS hf dX6_qPartOf_60
    · have hf := if_s hc1 hf
      by_cases hc2 : x1 = 2
      · have hf := it_s hc2 hf
        refine lv_tableIn (tgt := 61) E.1 hb dX6_qPartOf_1 (by rw [hc2]; decide) (by rw [hc2]; decide) (by rw [hc2]; rfl) (by decide) ?_
        refine lv_aload_n E.1 hb dX6_qPartOf_61 rfl (lv_at hl 0 rfl) ?_
        refine lv_iload_n E.1 hb dX6_qPartOf_62 rfl (lv_at hl 2 rfl) ?_
        obtain ⟨r2, h1, hf⟩ := bo_s hf
        refine m_cVi E hb hml hl.1 hS (cmf_cellOf h1) gw_cellOf gn_cellOf rfl rfl (Nat.le_of_ble_eq_true rfl) ⟨Nat.le_of_ble_eq_true rfl, Nat.le_of_ble_eq_true rfl⟩ ⟨Nat.le_refl 0, Nat.le_refl 0⟩ dX6_qPartOf_63 (fun H locs hS => ?_)
        refine lv_i2l E.1 hb dX6_qPartOf_66 rfl ?_
        exact m_lrR E hb hr hlk hS hf dX6_qPartOf_67
      · have hf := if_s hc2 hf
        by_cases hc3 : x1 = 3
        · have hf := it_s hc3 hf
          refine lv_tableIn (tgt := 68) E.1 hb dX6_qPartOf_1 (by rw [hc3]; decide) (by rw [hc3]; decide) (by rw [hc3]; rfl) (by decide) ?_
          refine lv_aload_n E.1 hb dX6_qPartOf_68 rfl (lv_at hl 0 rfl) ?_
          refine m_gA (k := 46) E hb hS 2 rfl (by decide) fl_46 dX6_qPartOf_69 ?_
          refine lv_bipush (v := 8) E.1 hb dX6_qPartOf_72 rfl ?_
          refine lv_iload_n E.1 hb dX6_qPartOf_74 rfl (lv_at hl 2 rfl) ?_
          refine lv_iadd E.1 hb dX6_qPartOf_75 ?_
          obtain ⟨hg, hf⟩ := ld_s hf
          refine m_ild E hb hS hg dX6_qPartOf_76 ?_
          refine lv_i2l E.1 hb dX6_qPartOf_77 rfl ?_
          exact m_lrR E hb hr hlk hS hf dX6_qPartOf_78
        · have hf := if_s hc3 hf
          by_cases hc4 : x1 = 4
          · have hf := it_s hc4 hf
            refine lv_tableIn (tgt := 79) E.1 hb dX6_qPartOf_1 (by rw [hc4]; decide) (by rw [hc4]; decide) (by rw [hc4]; rfl) (by decide) ?_
            refine lv_aload_n E.1 hb dX6_qPartOf_79 rfl (lv_at hl 0 rfl) ?_
            refine lv_iload_n E.1 hb dX6_qPartOf_80 rfl (lv_at hl 2 rfl) ?_
            obtain ⟨r4, h1, hf⟩ := bo_s hf
            refine m_cVi E hb hml hl.1 hS (cmf_purseOf h1) gw_purseOf gn_purseOf rfl rfl (Nat.le_of_ble_eq_true rfl) ⟨Nat.le_of_ble_eq_true rfl, Nat.le_of_ble_eq_true rfl⟩ ⟨Nat.le_refl 0, Nat.le_refl 0⟩ dX6_qPartOf_81 (fun H locs hS => ?_)
            refine lv_i2l E.1 hb dX6_qPartOf_84 rfl ?_
            exact m_lrR E hb hr hlk hS hf dX6_qPartOf_85
          · have hf := if_s hc4 hf
            by_cases hc5 : x1 = 5
            · have hf := it_s hc5 hf
              refine lv_tableIn (tgt := 86) E.1 hb dX6_qPartOf_1 (by rw [hc5]; decide) (by rw [hc5]; decide) (by rw [hc5]; rfl) (by decide) ?_
              refine lv_aload_n E.1 hb dX6_qPartOf_86 rfl (lv_at hl 0 rfl) ?_
              refine lv_iload_n E.1 hb dX6_qPartOf_87 rfl (lv_at hl 2 rfl) ?_
              obtain ⟨r5, h1, hf⟩ := bo_s hf
              refine m_cVi E hb hml hl.1 hS (cmf_leafOf h1) gw_leafOf gn_leafOf rfl rfl (Nat.le_of_ble_eq_true rfl) ⟨Nat.le_of_ble_eq_true rfl, Nat.le_of_ble_eq_true rfl⟩ ⟨Nat.le_refl 0, Nat.le_refl 0⟩ dX6_qPartOf_88 (fun H locs hS => ?_)
              refine lv_aload_n E.1 hb dX6_qPartOf_91 rfl (lv_at hl 0 rfl) ?_
              refine m_gI (k := 59) E hb hS rfl fl_59 dX6_qPartOf_92 ?_
              obtain ⟨r6, h1, hf⟩ := bo_s hf
              refine m_cSi E hb hml hl.1 hS (cmf_isOpen h1) gw_isOpen gn_isOpen rfl rfl (Nat.le_of_ble_eq_true rfl) ⟨Nat.le_of_ble_eq_true rfl, Nat.le_of_ble_eq_true rfl⟩ ⟨Nat.le_refl 0, Nat.le_refl 0⟩ dX6_qPartOf_95 (fun H locs hS => ?_)
              refine lv_if_eq (tgt := 105) E.1 hb dX6_qPartOf_98 (by decide) (fun hc => ?_) (fun hc => ?_)
              · have hf := it_s hc hf
                refine lv_lconst (v := 0) E.1 hb dX6_qPartOf_105 rfl ?_
                exact m_lrR E hb hr hlk hS hf dX6_qPartOf_106
              · have hf := if_s hc hf
                refine lv_lconst (v := 1) E.1 hb dX6_qPartOf_101 rfl ?_
                refine lv_goto (tgt := 106) E.1 hb dX6_qPartOf_102 (by decide) ?_
                exact m_lrR E hb hr hlk hS hf dX6_qPartOf_106
            · have hf := if_s hc5 hf
              by_cases hc6 : x1 = 6
              · have hf := it_s hc6 hf
                refine lv_tableIn (tgt := 107) E.1 hb dX6_qPartOf_1 (by rw [hc6]; decide) (by rw [hc6]; decide) (by rw [hc6]; rfl) (by decide) ?_
                refine lv_aload_n E.1 hb dX6_qPartOf_107 rfl (lv_at hl 0 rfl) ?_
                refine m_gI (k := 60) E hb hS rfl fl_60 dX6_qPartOf_108 ?_
                refine lv_i2l E.1 hb dX6_qPartOf_111 rfl ?_
                exact m_lrR E hb hr hlk hS hf dX6_qPartOf_112
              · have hf := if_s hc6 hf
                by_cases hc7 : x1 = 7
                · have hf := it_s hc7 hf
                  refine lv_tableIn (tgt := 113) E.1 hb dX6_qPartOf_1 (by rw [hc7]; decide) (by rw [hc7]; decide) (by rw [hc7]; rfl) (by decide) ?_
                  refine lv_iload_n E.1 hb dX6_qPartOf_113 rfl (lv_at hl 2 rfl) ?_
                  refine lv_i2l E.1 hb dX6_qPartOf_114 rfl ?_
                  exact m_lrR E hb hr hlk hS hf dX6_qPartOf_115
                · have hf := if_s hc7 hf
                  have q0 : (x1 : Int32).toInt ≠ 0 := ne_toInt hc0 rfl
                  have q1 : (x1 : Int32).toInt ≠ 1 := ne_toInt hc1 rfl
                  have q2 : (x1 : Int32).toInt ≠ 2 := ne_toInt hc2 rfl
                  have q3 : (x1 : Int32).toInt ≠ 3 := ne_toInt hc3 rfl
                  have q4 : (x1 : Int32).toInt ≠ 4 := ne_toInt hc4 rfl
                  have q5 : (x1 : Int32).toInt ≠ 5 := ne_toInt hc5 rfl
                  have q6 : (x1 : Int32).toInt ≠ 6 := ne_toInt hc6 rfl
                  have q7 : (x1 : Int32).toInt ≠ 7 := ne_toInt hc7 rfl
                  refine lv_tableOut (tgt := 116) E.1 hb dX6_qPartOf_1 (by omega) (by decide) ?_
                  refine lv_aload_n E.1 hb dX6_qPartOf_116 rfl (lv_at hl 0 rfl) ?_
                  refine m_gA (k := 56) E hb hS 2 rfl (by decide) fl_56 dX6_qPartOf_117 ?_
                  refine lv_bipush (v := 7) E.1 hb dX6_qPartOf_120 rfl ?_
                  refine lv_iconst (v := 4) E.1 hb dX6_qPartOf_122 rfl ?_
                  refine lv_iload_n E.1 hb dX6_qPartOf_123 rfl (lv_at hl 2 rfl) ?_
                  refine lv_imul E.1 hb dX6_qPartOf_124 ?_
                  refine lv_iadd E.1 hb dX6_qPartOf_125 ?_
                  refine lv_iconst (v := 3) E.1 hb dX6_qPartOf_126 rfl ?_
                  refine lv_iadd E.1 hb dX6_qPartOf_127 ?_
                  obtain ⟨hg, hf⟩ := ld_s hf
                  refine m_ild E hb hS hg dX6_qPartOf_128 ?_
                  refine lv_i2l E.1 hb dX6_qPartOf_129 rfl ?_
                  exact m_lrR E hb hr hlk hS hf dX6_qPartOf_130
/-! qClip(J)J: P -/
noncomputable def M_qClip (x0 : Int64) : Option Int64 :=
  if x0 ≤ 1000000 then (if (-1000000) ≤ x0 then (some x0) else (some (-1000000))) else (some 1000000)
theorem gw_qClip : GoodIn lw_all (va_wsS RX6 636 yX6_qClip (ws_ yX6_qClip cX6_qClip 2 (some .long))) := lw_S q2244 q2245 q164 q2246
theorem gn_qClip : yX6_qClip.cls ≠ "java/lang/invoke/MethodHandle" ∧ yX6_qClip.cls ≠ "java/lang/invoke/VarHandle" ∧ (parseMethodDescriptor yX6_qClip.desc).map (fun d => d.parameters.length) = some 1 := by decide +kernel
abbrev rM_qClip : Room := { frames := 0, cells := 0, slots := 0, locals := 0 }
set_option maxHeartbeats 4000000 in
theorem cmf_qClip {l : Launch} {dC : Nat → ClassId} {dI : Nat → Nat → Nat} {ac : Nat → ClassId} {o : Nat} {ad : Nat → Nat} {σ : mSt} {x0 : Int64} {r : Int64} (hf : M_qClip x0 = some r) : Met l yX6_qClip (ws_ yX6_qClip cX6_qClip 2 (some .long)) { frames := 0, cells := 0, slots := 0, locals := 0 } (va_Pc [.long x0] (mPre dC dI ac o ad σ)) (mQl dC dI ac o ad r σ) 0 0 (mF o ad) := by
  refine m_of (by decide) rfl (Nat.le_of_ble_eq_true rfl) ?_
  intro p e s m args below meth c E hb hr hlk hml hS ls hl
  have hl : lv_has ls 2 [(0, .long x0)] := hl
  unfold M_qClip at hf
  refine lv_lload_n E.1 hb dX6_qClip_0 rfl (lv_at hl 0 rfl) ?_
  refine lv_ldc2 E.1 hb E.2.1 (E.2.2.1 _ q2247) dX6_qClip_1 ?_
  refine lv_lc_le (tgt := 14) E.1 hb dX6_qClip_4 dX6_qClip_5 (by decide) (fun hc => ?_) (fun hc => ?_)
  · have hf := it_s hc hf
    refine lv_lload_n E.1 hb dX6_qClip_14 rfl (lv_at hl 0 rfl) ?_
    refine lv_ldc2 E.1 hb E.2.1 (E.2.2.1 _ q2248) dX6_qClip_15 ?_
    refine lv_lc_ge (tgt := 28) E.1 hb dX6_qClip_18 dX6_qClip_19 (by decide) (fun hc => ?_) (fun hc => ?_)
    · have hf := it_s hc hf
      refine lv_lload_n E.1 hb dX6_qClip_28 rfl (lv_at hl 0 rfl) ?_
      exact m_lrR E hb hr hlk hS hf dX6_qClip_29
    · have hf := if_s hc hf
      refine lv_ldc2 E.1 hb E.2.1 (E.2.2.1 _ q2248) dX6_qClip_22 ?_
      refine lv_goto (tgt := 29) E.1 hb dX6_qClip_25 (by decide) ?_
      exact m_lrR E hb hr hlk hS hf dX6_qClip_29
  · have hf := if_s hc hf
    refine lv_ldc2 E.1 hb E.2.1 (E.2.2.1 _ q2247) dX6_qClip_8 ?_
    refine lv_goto (tgt := 29) E.1 hb dX6_qClip_11 (by decide) ?_
    exact m_lrR E hb hr hlk hS hf dX6_qClip_29
/-! qFloor(JJ)J: P -/
noncomputable def M_qFloor_b43 (x4 : Int64) (y0 : Int32) (y1 : Int32) : Option Int64 :=
  if y1 = y0 then (some x4) else (some (x4 - 1))
noncomputable def M_qFloor_b32 (x2 : Int64) (x4 : Int64) (y0 : Int32) : Option Int64 :=
  if 0 ≤ x2 then (M_qFloor_b43 x4 0 y0) else (M_qFloor_b43 x4 1 y0)
noncomputable def M_qFloor (x0 : Int64) (x2 : Int64) : Option Int64 :=
  if x2 = 0 then (some 0) else (if ¬ x2 = 0 then (if ¬ x2 = 0 then (if (x0 - x0 / x2 * x2) = 0 then (some (x0 / x2)) else (if 0 ≤ x0 then (M_qFloor_b32 x2 (x0 / x2) 0) else (M_qFloor_b32 x2 (x0 / x2) 1))) else none) else none)
theorem gw_qFloor : GoodIn lw_all (va_wsS RX6 640 yX6_qFloor (ws_ yX6_qFloor cX6_qFloor 6 (some .long))) := lw_S q2249 q2250 q164 q2251
theorem gn_qFloor : yX6_qFloor.cls ≠ "java/lang/invoke/MethodHandle" ∧ yX6_qFloor.cls ≠ "java/lang/invoke/VarHandle" ∧ (parseMethodDescriptor yX6_qFloor.desc).map (fun d => d.parameters.length) = some 2 := by decide +kernel
abbrev rM_qFloor : Room := { frames := 0, cells := 0, slots := 0, locals := 0 }
set_option maxHeartbeats 4000000 in
theorem cmf_qFloor {l : Launch} {dC : Nat → ClassId} {dI : Nat → Nat → Nat} {ac : Nat → ClassId} {o : Nat} {ad : Nat → Nat} {σ : mSt} {x0 : Int64} {x2 : Int64} {r : Int64} (hf : M_qFloor x0 x2 = some r) : Met l yX6_qFloor (ws_ yX6_qFloor cX6_qFloor 6 (some .long)) { frames := 0, cells := 0, slots := 0, locals := 0 } (va_Pc [.long x0, .long x2] (mPre dC dI ac o ad σ)) (mQl dC dI ac o ad r σ) 0 0 (mF o ad) := by
  refine m_of (by decide) rfl (Nat.le_of_ble_eq_true rfl) ?_
  intro p e s m args below meth c E hb hr hlk hml hS ls hl
  have hl : lv_has ls 6 [(0, .long x0), (2, .long x2)] := hl
  have hB43 : ∀ (x4 : Int64) (y0 : Int32) (y1 : Int32), M_qFloor_b43 x4 y0 y1 = some r → ∀ (H : Heap) (locs : List Loc), mS dC dI ac o ad s.heap σ H locs → ∀ (ls : Array Slot), lv_has ls 6 [(4, .long x4)] → W p l e rM_qFloor s m args below meth c H locs 0 0 (MQ below (mQl dC dI ac o ad r σ) args s 0 0 (mF o ad)) (F0 m 43 ls [.int y0, .int y1]) := by
    intro x4 y0 y1 hf H locs hS ls hl
    unfold M_qFloor_b43 at hf
    refine lv_icmp_eq (tgt := 53) E.1 hb dX6_qFloor_43 (by decide) (fun hc => ?_) (fun hc => ?_)
    · have hf := it_s hc hf
      refine lv_lload E.1 hb dX6_qFloor_53 (lv_at hl 0 rfl) ?_
      exact m_lrR E hb hr hlk hS hf dX6_qFloor_55
    · have hf := if_s hc hf
      refine lv_lload E.1 hb dX6_qFloor_46 (lv_at hl 0 rfl) ?_
      refine lv_lconst (v := 1) E.1 hb dX6_qFloor_48 rfl ?_
      refine lv_lsub E.1 hb dX6_qFloor_49 ?_
      refine lv_goto (tgt := 55) E.1 hb dX6_qFloor_50 (by decide) ?_
      exact m_lrR E hb hr hlk hS hf dX6_qFloor_55
  have hB32 : ∀ (x2 : Int64) (x4 : Int64) (y0 : Int32), M_qFloor_b32 x2 x4 y0 = some r → ∀ (H : Heap) (locs : List Loc), mS dC dI ac o ad s.heap σ H locs → ∀ (ls : Array Slot), lv_has ls 6 [(2, .long x2), (4, .long x4)] → W p l e rM_qFloor s m args below meth c H locs 0 0 (MQ below (mQl dC dI ac o ad r σ) args s 0 0 (mF o ad)) (F0 m 32 ls [.int y0]) := by
    intro x2 x4 y0 hf H locs hS ls hl
    unfold M_qFloor_b32 at hf
    refine lv_lload_n E.1 hb dX6_qFloor_32 rfl (lv_at hl 0 rfl) ?_
    refine lv_lconst (v := 0) E.1 hb dX6_qFloor_33 rfl ?_
    refine lv_lc_ge (tgt := 42) E.1 hb dX6_qFloor_34 dX6_qFloor_35 (by decide) (fun hc => ?_) (fun hc => ?_)
    · have hf := it_s hc hf
      refine lv_iconst (v := 0) E.1 hb dX6_qFloor_42 rfl ?_
      exact hB43 x4 0 y0 hf _ _ hS _ (lv_sub hl [1] rfl)
    · have hf := if_s hc hf
      refine lv_iconst (v := 1) E.1 hb dX6_qFloor_38 rfl ?_
      refine lv_goto (tgt := 43) E.1 hb dX6_qFloor_39 (by decide) ?_
      exact hB43 x4 1 y0 hf _ _ hS _ (lv_sub hl [1] rfl)
  unfold M_qFloor at hf
  refine lv_lload_n E.1 hb dX6_qFloor_0 rfl (lv_at hl 1 rfl) ?_
  refine lv_lconst (v := 0) E.1 hb dX6_qFloor_1 rfl ?_
  refine lv_lc_ne (tgt := 8) E.1 hb dX6_qFloor_2 dX6_qFloor_3 (by decide) (fun hc => ?_) (fun hc => ?_)
  · have hf := if_s hc hf
    refine lv_lload_n E.1 hb dX6_qFloor_8 rfl (lv_at hl 0 rfl) ?_
    refine lv_lload_n E.1 hb dX6_qFloor_9 rfl (lv_at hl 1 rfl) ?_
    obtain ⟨hg, hf⟩ := gu_s hf
    refine lv_ldiv E.1 hb dX6_qFloor_10 hg ?_
    refine lv_lstore (lv' := [(4, .long (x0 / x2)), (0, .long x0), (2, .long x2)]) E.1 hb dX6_qFloor_11 hl (by decide) rfl (fun ls hl => ?_)
    refine lv_lload_n E.1 hb dX6_qFloor_13 rfl (lv_at hl 1 rfl) ?_
    refine lv_lload_n E.1 hb dX6_qFloor_14 rfl (lv_at hl 2 rfl) ?_
    obtain ⟨hg, hf⟩ := gu_s hf
    refine lv_lrem E.1 hb dX6_qFloor_15 hg ?_
    refine lv_lconst (v := 0) E.1 hb dX6_qFloor_16 rfl ?_
    refine lv_lc_eq (tgt := 53) E.1 hb dX6_qFloor_17 dX6_qFloor_18 (by decide) (fun hc => ?_) (fun hc => ?_)
    · have hf := it_s hc hf
      refine lv_lload E.1 hb dX6_qFloor_53 (lv_at hl 0 rfl) ?_
      exact m_lrR E hb hr hlk hS hf dX6_qFloor_55
    · have hf := if_s hc hf
      refine lv_lload_n E.1 hb dX6_qFloor_21 rfl (lv_at hl 1 rfl) ?_
      refine lv_lconst (v := 0) E.1 hb dX6_qFloor_22 rfl ?_
      refine lv_lc_ge (tgt := 31) E.1 hb dX6_qFloor_23 dX6_qFloor_24 (by decide) (fun hc => ?_) (fun hc => ?_)
      · have hf := it_s hc hf
        refine lv_iconst (v := 0) E.1 hb dX6_qFloor_31 rfl ?_
        exact hB32 x2 (x0 / x2) 0 hf _ _ hS _ (lv_sub hl [2, 0] rfl)
      · have hf := if_s hc hf
        refine lv_iconst (v := 1) E.1 hb dX6_qFloor_27 rfl ?_
        refine lv_goto (tgt := 32) E.1 hb dX6_qFloor_28 (by decide) ?_
        exact hB32 x2 (x0 / x2) 1 hf _ _ hS _ (lv_sub hl [2, 0] rfl)
  · have hf := it_s hc hf
    refine lv_lconst (v := 0) E.1 hb dX6_qFloor_6 rfl ?_
    exact m_lrR E hb hr hlk hS hf dX6_qFloor_7
/-! qJoins(I)V: RW -/
noncomputable def M_qJoins_b161 (σ : mSt) (y0 : Int64) : Option (Unit × mSt) :=
  bd (M_qPuts σ y0) fun _ σ12 => some ((), σ12)
noncomputable def M_qJoins_b181 (σ : mSt) (y0 : Int64) : Option (Unit × mSt) :=
  bd (M_qPuts σ y0) fun _ σ13 => some ((), σ13)
noncomputable def M_qJoins_b200 (σ : mSt) (y0 : Int64) : Option (Unit × mSt) :=
  bd (M_qPuts σ y0) fun _ σ14 => some ((), σ14)
noncomputable def M_qJoins_b219 (σ : mSt) (y0 : Int64) : Option (Unit × mSt) :=
  bd (M_qPuts σ y0) fun _ σ15 => some ((), σ15)
noncomputable def M_qJoins_b238 (σ : mSt) (y0 : Int64) : Option (Unit × mSt) :=
  bd (M_qPuts σ y0) fun _ σ16 => some ((), σ16)
noncomputable def M_qJoins_b270 (σ : mSt) (y0 : Int64) : Option (Unit × mSt) :=
  bd (M_qPuts σ y0) fun _ σ18 => some ((), σ18)
noncomputable def M_qJoins (σ : mSt) (x1 : Int32) : Option (Unit × mSt) :=
  bo (ldL σ 100 ((σ.1 101 0) - 1)) fun v1 => bo (ldL σ 100 ((σ.1 101 0) - 2)) fun v2 => lt2 (mUI σ 101 0 ((σ.1 101 0) - 2)) fun σ3 => if x1 = 1 then (bo (M_qClip (v2 + v1)) fun r4 => bd (M_qPuts σ3 r4) fun _ σ5 => some ((), σ5)) else (if x1 = 2 then (bo (M_qClip (v2 - v1)) fun r6 => bd (M_qPuts σ3 r6) fun _ σ7 => some ((), σ7)) else (if x1 = 3 then (bo (M_qClip (v2 * v1)) fun r8 => bd (M_qPuts σ3 r8) fun _ σ9 => some ((), σ9)) else (if x1 = 4 then (bo (M_qFloor v2 v1) fun r10 => bd (M_qPuts σ3 r10) fun _ σ11 => some ((), σ11)) else (if x1 = 5 then (if v1 ≤ v2 then (M_qJoins_b161 σ3 v1) else (M_qJoins_b161 σ3 v2)) else (if x1 = 6 then (if v2 ≤ v1 then (M_qJoins_b181 σ3 v1) else (M_qJoins_b181 σ3 v2)) else (if x1 = 7 then (if v1 ≤ v2 then (M_qJoins_b200 σ3 0) else (M_qJoins_b200 σ3 1)) else (if x1 = 8 then (if v2 ≤ v1 then (M_qJoins_b219 σ3 0) else (M_qJoins_b219 σ3 1)) else (if x1 = 9 then (if v2 = v1 then (M_qJoins_b238 σ3 1) else (M_qJoins_b238 σ3 0)) else (if x1 = 10 then (bd (M_qPuts σ3 (v2 * v1)) fun _ σ17 => some ((), σ17)) else (if (v2 + v1) ≤ 0 then (M_qJoins_b270 σ3 0) else (M_qJoins_b270 σ3 1)))))))))))
theorem gw_qJoins : GoodIn lw_all (wsV RX6 433 RX6 yX6_qJoins (ws_ yX6_qJoins cX6_qJoins 6 none)) := lw_V q2240 q2242 qs110 q164 q2243
theorem gn_qJoins : yX6_qJoins.cls = RX6 ∧ yX6_qJoins.cls ≠ "java/lang/invoke/MethodHandle" ∧ yX6_qJoins.cls ≠ "java/lang/invoke/VarHandle" ∧ (parseMethodDescriptor yX6_qJoins.desc).map (fun d => d.parameters.length) = some 1 := by decide +kernel
abbrev rM_qJoins : Room := { frames := 1, cells := 0, slots := 0, locals := 25 }
set_option maxHeartbeats 4000000 in
theorem cmf_qJoins {l : Launch} {dC : Nat → ClassId} {dI : Nat → Nat → Nat} {ac : Nat → ClassId} {o : Nat} {ad : Nat → Nat} {σ : mSt} {x1 : Int32} {σ' : mSt} (hf : M_qJoins σ x1 = some ((), σ')) : Met l yX6_qJoins (ws_ yX6_qJoins cX6_qJoins 6 none) { frames := 1, cells := 0, slots := 0, locals := 25 } (va_Pc [.ref o, .int x1] (mPre dC dI ac o ad σ)) (mQv dC dI ac o ad σ') 0 0 (mF o ad) := by
  refine m_of (by decide) rfl (Nat.le_of_ble_eq_true rfl) ?_
  intro p e s m args below meth c E hb hr hlk hml hS ls hl
  have hl : lv_has ls 6 [(0, .ref o), (1, .int x1)] := hl
  have hB161 : ∀ (σ : mSt) (y0 : Int64), M_qJoins_b161 σ y0 = some ((), σ') → ∀ (H : Heap) (locs : List Loc), mS dC dI ac o ad s.heap σ H locs → ∀ (ls : Array Slot), lv_has ls 6 [(0, .ref o)] → W p l e rM_qJoins s m args below meth c H locs 0 0 (MQ below (mQv dC dI ac o ad σ') args s 0 0 (mF o ad)) (F0 m 161 ls [.long y0, .ref o]) := by
    intro σ y0 hf H locs hS ls hl
    unfold M_qJoins_b161 at hf
    obtain ⟨_, σ12, h1, hf⟩ := bd_s hf
    refine m_cVv E hb hml hl.1 hS (cmf_qPuts h1) gw_qPuts gn_qPuts rfl rfl (Nat.le_of_ble_eq_true rfl) ⟨Nat.le_of_ble_eq_true rfl, Nat.le_of_ble_eq_true rfl⟩ ⟨Nat.le_refl 0, Nat.le_refl 0⟩ dX6_qJoins_161 (fun H locs hS => ?_)
    refine lv_goto (tgt := 273) E.1 hb dX6_qJoins_164 (by decide) ?_
    exact m_vr E hb hr hlk hS hf dX6_qJoins_273
  have hB181 : ∀ (σ : mSt) (y0 : Int64), M_qJoins_b181 σ y0 = some ((), σ') → ∀ (H : Heap) (locs : List Loc), mS dC dI ac o ad s.heap σ H locs → ∀ (ls : Array Slot), lv_has ls 6 [(0, .ref o)] → W p l e rM_qJoins s m args below meth c H locs 0 0 (MQ below (mQv dC dI ac o ad σ') args s 0 0 (mF o ad)) (F0 m 181 ls [.long y0, .ref o]) := by
    intro σ y0 hf H locs hS ls hl
    unfold M_qJoins_b181 at hf
    obtain ⟨_, σ13, h1, hf⟩ := bd_s hf
    refine m_cVv E hb hml hl.1 hS (cmf_qPuts h1) gw_qPuts gn_qPuts rfl rfl (Nat.le_of_ble_eq_true rfl) ⟨Nat.le_of_ble_eq_true rfl, Nat.le_of_ble_eq_true rfl⟩ ⟨Nat.le_refl 0, Nat.le_refl 0⟩ dX6_qJoins_181 (fun H locs hS => ?_)
    refine lv_goto (tgt := 273) E.1 hb dX6_qJoins_184 (by decide) ?_
    exact m_vr E hb hr hlk hS hf dX6_qJoins_273
  have hB200 : ∀ (σ : mSt) (y0 : Int64), M_qJoins_b200 σ y0 = some ((), σ') → ∀ (H : Heap) (locs : List Loc), mS dC dI ac o ad s.heap σ H locs → ∀ (ls : Array Slot), lv_has ls 6 [(0, .ref o)] → W p l e rM_qJoins s m args below meth c H locs 0 0 (MQ below (mQv dC dI ac o ad σ') args s 0 0 (mF o ad)) (F0 m 200 ls [.long y0, .ref o]) := by
    intro σ y0 hf H locs hS ls hl
    unfold M_qJoins_b200 at hf
    obtain ⟨_, σ14, h1, hf⟩ := bd_s hf
    refine m_cVv E hb hml hl.1 hS (cmf_qPuts h1) gw_qPuts gn_qPuts rfl rfl (Nat.le_of_ble_eq_true rfl) ⟨Nat.le_of_ble_eq_true rfl, Nat.le_of_ble_eq_true rfl⟩ ⟨Nat.le_refl 0, Nat.le_refl 0⟩ dX6_qJoins_200 (fun H locs hS => ?_)
    refine lv_goto (tgt := 273) E.1 hb dX6_qJoins_203 (by decide) ?_
    exact m_vr E hb hr hlk hS hf dX6_qJoins_273
  have hB219 : ∀ (σ : mSt) (y0 : Int64), M_qJoins_b219 σ y0 = some ((), σ') → ∀ (H : Heap) (locs : List Loc), mS dC dI ac o ad s.heap σ H locs → ∀ (ls : Array Slot), lv_has ls 6 [(0, .ref o)] → W p l e rM_qJoins s m args below meth c H locs 0 0 (MQ below (mQv dC dI ac o ad σ') args s 0 0 (mF o ad)) (F0 m 219 ls [.long y0, .ref o]) := by
    intro σ y0 hf H locs hS ls hl
    unfold M_qJoins_b219 at hf
    obtain ⟨_, σ15, h1, hf⟩ := bd_s hf
    refine m_cVv E hb hml hl.1 hS (cmf_qPuts h1) gw_qPuts gn_qPuts rfl rfl (Nat.le_of_ble_eq_true rfl) ⟨Nat.le_of_ble_eq_true rfl, Nat.le_of_ble_eq_true rfl⟩ ⟨Nat.le_refl 0, Nat.le_refl 0⟩ dX6_qJoins_219 (fun H locs hS => ?_)
    refine lv_goto (tgt := 273) E.1 hb dX6_qJoins_222 (by decide) ?_
    exact m_vr E hb hr hlk hS hf dX6_qJoins_273
  have hB238 : ∀ (σ : mSt) (y0 : Int64), M_qJoins_b238 σ y0 = some ((), σ') → ∀ (H : Heap) (locs : List Loc), mS dC dI ac o ad s.heap σ H locs → ∀ (ls : Array Slot), lv_has ls 6 [(0, .ref o)] → W p l e rM_qJoins s m args below meth c H locs 0 0 (MQ below (mQv dC dI ac o ad σ') args s 0 0 (mF o ad)) (F0 m 238 ls [.long y0, .ref o]) := by
    intro σ y0 hf H locs hS ls hl
    unfold M_qJoins_b238 at hf
    obtain ⟨_, σ16, h1, hf⟩ := bd_s hf
    refine m_cVv E hb hml hl.1 hS (cmf_qPuts h1) gw_qPuts gn_qPuts rfl rfl (Nat.le_of_ble_eq_true rfl) ⟨Nat.le_of_ble_eq_true rfl, Nat.le_of_ble_eq_true rfl⟩ ⟨Nat.le_refl 0, Nat.le_refl 0⟩ dX6_qJoins_238 (fun H locs hS => ?_)
    refine lv_goto (tgt := 273) E.1 hb dX6_qJoins_241 (by decide) ?_
    exact m_vr E hb hr hlk hS hf dX6_qJoins_273
  have hB270 : ∀ (σ : mSt) (y0 : Int64), M_qJoins_b270 σ y0 = some ((), σ') → ∀ (H : Heap) (locs : List Loc), mS dC dI ac o ad s.heap σ H locs → ∀ (ls : Array Slot), lv_has ls 6 [(0, .ref o)] → W p l e rM_qJoins s m args below meth c H locs 0 0 (MQ below (mQv dC dI ac o ad σ') args s 0 0 (mF o ad)) (F0 m 270 ls [.long y0, .ref o]) := by
    intro σ y0 hf H locs hS ls hl
    unfold M_qJoins_b270 at hf
    obtain ⟨_, σ18, h1, hf⟩ := bd_s hf
    refine m_cVv E hb hml hl.1 hS (cmf_qPuts h1) gw_qPuts gn_qPuts rfl rfl (Nat.le_of_ble_eq_true rfl) ⟨Nat.le_of_ble_eq_true rfl, Nat.le_of_ble_eq_true rfl⟩ ⟨Nat.le_refl 0, Nat.le_refl 0⟩ dX6_qJoins_270 (fun H locs hS => ?_)
    exact m_vr E hb hr hlk hS hf dX6_qJoins_273
  unfold M_qJoins at hf
  refine lv_aload_n E.1 hb dX6_qJoins_0 rfl (lv_at hl 0 rfl) ?_
  refine m_gA (k := 100) E hb hS 3 rfl (by decide) fl_100 dX6_qJoins_1 ?_
  refine lv_aload_n E.1 hb dX6_qJoins_4 rfl (lv_at hl 0 rfl) ?_
  refine m_gI (k := 101) E hb hS rfl fl_101 dX6_qJoins_5 ?_
  refine lv_iconst (v := 1) E.1 hb dX6_qJoins_8 rfl ?_
  refine lv_isub E.1 hb dX6_qJoins_9 ?_
  obtain ⟨hg, hf⟩ := ldL_s hf
  refine m_lld E hb hS hg dX6_qJoins_10 ?_
  refine lv_lstore_n (lv' := [(2, .long (σ.2 100 ((σ.1 101 0) - 1).toNatClampNeg)), (0, .ref o), (1, .int x1)]) E.1 hb dX6_qJoins_11 rfl hl (by decide) rfl (fun ls hl => ?_)
  refine lv_aload_n E.1 hb dX6_qJoins_12 rfl (lv_at hl 1 rfl) ?_
  refine m_gA (k := 100) E hb hS 3 rfl (by decide) fl_100 dX6_qJoins_13 ?_
  refine lv_aload_n E.1 hb dX6_qJoins_16 rfl (lv_at hl 1 rfl) ?_
  refine m_gI (k := 101) E hb hS rfl fl_101 dX6_qJoins_17 ?_
  refine lv_iconst (v := 2) E.1 hb dX6_qJoins_20 rfl ?_
  refine lv_isub E.1 hb dX6_qJoins_21 ?_
  obtain ⟨hg, hf⟩ := ldL_s hf
  refine m_lld E hb hS hg dX6_qJoins_22 ?_
  refine lv_lstore (lv' := [(4, .long (σ.2 100 ((σ.1 101 0) - 2).toNatClampNeg)), (2, .long (σ.2 100 ((σ.1 101 0) - 1).toNatClampNeg)), (0, .ref o), (1, .int x1)]) E.1 hb dX6_qJoins_23 hl (by decide) rfl (fun ls hl => ?_)
  refine lv_aload_n E.1 hb dX6_qJoins_25 rfl (lv_at hl 2 rfl) ?_
  refine lv_dup E.1 hb dX6_qJoins_26 rfl ?_
  refine m_gI (k := 101) E hb hS rfl fl_101 dX6_qJoins_27 ?_
  refine lv_iconst (v := 2) E.1 hb dX6_qJoins_30 rfl ?_
  refine lv_isub E.1 hb dX6_qJoins_31 ?_
  obtain ⟨σ3, hw, hf⟩ := lt2_s hf
  refine m_pI (k := 101) E hb hS rfl rfl pf_101 fl_101 hw dX6_qJoins_32 (fun H locs hS => ?_)
  refine lv_iload_n E.1 hb dX6_qJoins_35 rfl (lv_at hl 3 rfl) ?_
  by_cases hc1 : x1 = 1
  · have hf := it_s hc1 hf
    refine lv_tableIn (tgt := 92) E.1 hb dX6_qJoins_36 (by rw [hc1]; decide) (by rw [hc1]; decide) (by rw [hc1]; rfl) (by decide) ?_
    refine lv_aload_n E.1 hb dX6_qJoins_92 rfl (lv_at hl 2 rfl) ?_
    refine lv_lload E.1 hb dX6_qJoins_93 (lv_at hl 0 rfl) ?_
    refine lv_lload_n E.1 hb dX6_qJoins_95 rfl (lv_at hl 1 rfl) ?_
    refine lv_ladd E.1 hb dX6_qJoins_96 ?_
    obtain ⟨r4, h1, hf⟩ := bo_s hf
    refine m_cSl E hb hml hl.1 hS (cmf_qClip h1) gw_qClip gn_qClip rfl rfl (Nat.le_of_ble_eq_true rfl) ⟨Nat.le_of_ble_eq_true rfl, Nat.le_of_ble_eq_true rfl⟩ ⟨Nat.le_refl 0, Nat.le_refl 0⟩ dX6_qJoins_97 (fun H locs hS => ?_)
    obtain ⟨_, σ5, h1, hf⟩ := bd_s hf
    refine m_cVv E hb hml hl.1 hS (cmf_qPuts h1) gw_qPuts gn_qPuts rfl rfl (Nat.le_of_ble_eq_true rfl) ⟨Nat.le_of_ble_eq_true rfl, Nat.le_of_ble_eq_true rfl⟩ ⟨Nat.le_refl 0, Nat.le_refl 0⟩ dX6_qJoins_100 (fun H locs hS => ?_)
    refine lv_goto (tgt := 273) E.1 hb dX6_qJoins_103 (by decide) ?_
    exact m_vr E hb hr hlk hS hf dX6_qJoins_273
  · have hf := if_s hc1 hf
    by_cases hc2 : x1 = 2
    · have hf := it_s hc2 hf
      refine lv_tableIn (tgt := 106) E.1 hb dX6_qJoins_36 (by rw [hc2]; decide) (by rw [hc2]; decide) (by rw [hc2]; rfl) (by decide) ?_
      refine lv_aload_n E.1 hb dX6_qJoins_106 rfl (lv_at hl 2 rfl) ?_
      refine lv_lload E.1 hb dX6_qJoins_107 (lv_at hl 0 rfl) ?_
      refine lv_lload_n E.1 hb dX6_qJoins_109 rfl (lv_at hl 1 rfl) ?_
      refine lv_lsub E.1 hb dX6_qJoins_110 ?_
      obtain ⟨r6, h1, hf⟩ := bo_s hf
      refine m_cSl E hb hml hl.1 hS (cmf_qClip h1) gw_qClip gn_qClip rfl rfl (Nat.le_of_ble_eq_true rfl) ⟨Nat.le_of_ble_eq_true rfl, Nat.le_of_ble_eq_true rfl⟩ ⟨Nat.le_refl 0, Nat.le_refl 0⟩ dX6_qJoins_111 (fun H locs hS => ?_)
      obtain ⟨_, σ7, h1, hf⟩ := bd_s hf
      refine m_cVv E hb hml hl.1 hS (cmf_qPuts h1) gw_qPuts gn_qPuts rfl rfl (Nat.le_of_ble_eq_true rfl) ⟨Nat.le_of_ble_eq_true rfl, Nat.le_of_ble_eq_true rfl⟩ ⟨Nat.le_refl 0, Nat.le_refl 0⟩ dX6_qJoins_114 (fun H locs hS => ?_)
      refine lv_goto (tgt := 273) E.1 hb dX6_qJoins_117 (by decide) ?_
      exact m_vr E hb hr hlk hS hf dX6_qJoins_273
    · have hf := if_s hc2 hf
      by_cases hc3 : x1 = 3
      · have hf := it_s hc3 hf
        refine lv_tableIn (tgt := 120) E.1 hb dX6_qJoins_36 (by rw [hc3]; decide) (by rw [hc3]; decide) (by rw [hc3]; rfl) (by decide) ?_
        refine lv_aload_n E.1 hb dX6_qJoins_120 rfl (lv_at hl 2 rfl) ?_
        refine lv_lload E.1 hb dX6_qJoins_121 (lv_at hl 0 rfl) ?_
        refine lv_lload_n E.1 hb dX6_qJoins_123 rfl (lv_at hl 1 rfl) ?_
        refine lv_lmul E.1 hb dX6_qJoins_124 ?_
        obtain ⟨r8, h1, hf⟩ := bo_s hf
        refine m_cSl E hb hml hl.1 hS (cmf_qClip h1) gw_qClip gn_qClip rfl rfl (Nat.le_of_ble_eq_true rfl) ⟨Nat.le_of_ble_eq_true rfl, Nat.le_of_ble_eq_true rfl⟩ ⟨Nat.le_refl 0, Nat.le_refl 0⟩ dX6_qJoins_125 (fun H locs hS => ?_)
        obtain ⟨_, σ9, h1, hf⟩ := bd_s hf
        refine m_cVv E hb hml hl.1 hS (cmf_qPuts h1) gw_qPuts gn_qPuts rfl rfl (Nat.le_of_ble_eq_true rfl) ⟨Nat.le_of_ble_eq_true rfl, Nat.le_of_ble_eq_true rfl⟩ ⟨Nat.le_refl 0, Nat.le_refl 0⟩ dX6_qJoins_128 (fun H locs hS => ?_)
        refine lv_goto (tgt := 273) E.1 hb dX6_qJoins_131 (by decide) ?_
        exact m_vr E hb hr hlk hS hf dX6_qJoins_273
      · have hf := if_s hc3 hf
        by_cases hc4 : x1 = 4
        · have hf := it_s hc4 hf
          refine lv_tableIn (tgt := 134) E.1 hb dX6_qJoins_36 (by rw [hc4]; decide) (by rw [hc4]; decide) (by rw [hc4]; rfl) (by decide) ?_
          refine lv_aload_n E.1 hb dX6_qJoins_134 rfl (lv_at hl 2 rfl) ?_
          refine lv_lload E.1 hb dX6_qJoins_135 (lv_at hl 0 rfl) ?_
          refine lv_lload_n E.1 hb dX6_qJoins_137 rfl (lv_at hl 1 rfl) ?_
          obtain ⟨r10, h1, hf⟩ := bo_s hf
          refine m_cSl E hb hml hl.1 hS (cmf_qFloor h1) gw_qFloor gn_qFloor rfl rfl (Nat.le_of_ble_eq_true rfl) ⟨Nat.le_of_ble_eq_true rfl, Nat.le_of_ble_eq_true rfl⟩ ⟨Nat.le_refl 0, Nat.le_refl 0⟩ dX6_qJoins_138 (fun H locs hS => ?_)
          obtain ⟨_, σ11, h1, hf⟩ := bd_s hf
          refine m_cVv E hb hml hl.1 hS (cmf_qPuts h1) gw_qPuts gn_qPuts rfl rfl (Nat.le_of_ble_eq_true rfl) ⟨Nat.le_of_ble_eq_true rfl, Nat.le_of_ble_eq_true rfl⟩ ⟨Nat.le_refl 0, Nat.le_refl 0⟩ dX6_qJoins_141 (fun H locs hS => ?_)
          refine lv_goto (tgt := 273) E.1 hb dX6_qJoins_144 (by decide) ?_
          exact m_vr E hb hr hlk hS hf dX6_qJoins_273
        · have hf := if_s hc4 hf
          by_cases hc5 : x1 = 5
          · have hf := it_s hc5 hf
            refine lv_tableIn (tgt := 147) E.1 hb dX6_qJoins_36 (by rw [hc5]; decide) (by rw [hc5]; decide) (by rw [hc5]; rfl) (by decide) ?_
            refine lv_aload_n E.1 hb dX6_qJoins_147 rfl (lv_at hl 2 rfl) ?_
            refine lv_lload E.1 hb dX6_qJoins_148 (lv_at hl 0 rfl) ?_
            refine lv_lload_n E.1 hb dX6_qJoins_150 rfl (lv_at hl 1 rfl) ?_
            refine lv_lc_ge (tgt := 160) E.1 hb dX6_qJoins_151 dX6_qJoins_152 (by decide) (fun hc => ?_) (fun hc => ?_)
            · have hf := it_s hc hf
              refine lv_lload_n E.1 hb dX6_qJoins_160 rfl (lv_at hl 1 rfl) ?_
              exact hB161 σ3 (σ.2 100 ((σ.1 101 0) - 1).toNatClampNeg) hf _ _ hS _ (lv_sub hl [2] rfl)
            · have hf := if_s hc hf
              refine lv_lload E.1 hb dX6_qJoins_155 (lv_at hl 0 rfl) ?_
              refine lv_goto (tgt := 161) E.1 hb dX6_qJoins_157 (by decide) ?_
              exact hB161 σ3 (σ.2 100 ((σ.1 101 0) - 2).toNatClampNeg) hf _ _ hS _ (lv_sub hl [2] rfl)
          · have hf := if_s hc5 hf
            by_cases hc6 : x1 = 6
            · have hf := it_s hc6 hf
              refine lv_tableIn (tgt := 167) E.1 hb dX6_qJoins_36 (by rw [hc6]; decide) (by rw [hc6]; decide) (by rw [hc6]; rfl) (by decide) ?_
              refine lv_aload_n E.1 hb dX6_qJoins_167 rfl (lv_at hl 2 rfl) ?_
              refine lv_lload E.1 hb dX6_qJoins_168 (lv_at hl 0 rfl) ?_
              refine lv_lload_n E.1 hb dX6_qJoins_170 rfl (lv_at hl 1 rfl) ?_
              refine lv_lc_le (tgt := 180) E.1 hb dX6_qJoins_171 dX6_qJoins_172 (by decide) (fun hc => ?_) (fun hc => ?_)
              · have hf := it_s hc hf
                refine lv_lload_n E.1 hb dX6_qJoins_180 rfl (lv_at hl 1 rfl) ?_
                exact hB181 σ3 (σ.2 100 ((σ.1 101 0) - 1).toNatClampNeg) hf _ _ hS _ (lv_sub hl [2] rfl)
              · have hf := if_s hc hf
                refine lv_lload E.1 hb dX6_qJoins_175 (lv_at hl 0 rfl) ?_
                refine lv_goto (tgt := 181) E.1 hb dX6_qJoins_177 (by decide) ?_
                exact hB181 σ3 (σ.2 100 ((σ.1 101 0) - 2).toNatClampNeg) hf _ _ hS _ (lv_sub hl [2] rfl)
            · have hf := if_s hc6 hf
              by_cases hc7 : x1 = 7
              · have hf := it_s hc7 hf
                refine lv_tableIn (tgt := 187) E.1 hb dX6_qJoins_36 (by rw [hc7]; decide) (by rw [hc7]; decide) (by rw [hc7]; rfl) (by decide) ?_
                refine lv_aload_n E.1 hb dX6_qJoins_187 rfl (lv_at hl 2 rfl) ?_
                refine lv_lload E.1 hb dX6_qJoins_188 (lv_at hl 0 rfl) ?_
                refine lv_lload_n E.1 hb dX6_qJoins_190 rfl (lv_at hl 1 rfl) ?_
                refine lv_lc_ge (tgt := 199) E.1 hb dX6_qJoins_191 dX6_qJoins_192 (by decide) (fun hc => ?_) (fun hc => ?_)
                · have hf := it_s hc hf
                  refine lv_lconst (v := 0) E.1 hb dX6_qJoins_199 rfl ?_
                  exact hB200 σ3 0 hf _ _ hS _ (lv_sub hl [2] rfl)
                · have hf := if_s hc hf
                  refine lv_lconst (v := 1) E.1 hb dX6_qJoins_195 rfl ?_
                  refine lv_goto (tgt := 200) E.1 hb dX6_qJoins_196 (by decide) ?_
                  exact hB200 σ3 1 hf _ _ hS _ (lv_sub hl [2] rfl)
              · have hf := if_s hc7 hf
                by_cases hc8 : x1 = 8
                · have hf := it_s hc8 hf
                  refine lv_tableIn (tgt := 206) E.1 hb dX6_qJoins_36 (by rw [hc8]; decide) (by rw [hc8]; decide) (by rw [hc8]; rfl) (by decide) ?_
                  refine lv_aload_n E.1 hb dX6_qJoins_206 rfl (lv_at hl 2 rfl) ?_
                  refine lv_lload E.1 hb dX6_qJoins_207 (lv_at hl 0 rfl) ?_
                  refine lv_lload_n E.1 hb dX6_qJoins_209 rfl (lv_at hl 1 rfl) ?_
                  refine lv_lc_le (tgt := 218) E.1 hb dX6_qJoins_210 dX6_qJoins_211 (by decide) (fun hc => ?_) (fun hc => ?_)
                  · have hf := it_s hc hf
                    refine lv_lconst (v := 0) E.1 hb dX6_qJoins_218 rfl ?_
                    exact hB219 σ3 0 hf _ _ hS _ (lv_sub hl [2] rfl)
                  · have hf := if_s hc hf
                    refine lv_lconst (v := 1) E.1 hb dX6_qJoins_214 rfl ?_
                    refine lv_goto (tgt := 219) E.1 hb dX6_qJoins_215 (by decide) ?_
                    exact hB219 σ3 1 hf _ _ hS _ (lv_sub hl [2] rfl)
                · have hf := if_s hc8 hf
                  by_cases hc9 : x1 = 9
                  · have hf := it_s hc9 hf
                    refine lv_tableIn (tgt := 225) E.1 hb dX6_qJoins_36 (by rw [hc9]; decide) (by rw [hc9]; decide) (by rw [hc9]; rfl) (by decide) ?_
                    refine lv_aload_n E.1 hb dX6_qJoins_225 rfl (lv_at hl 2 rfl) ?_
                    refine lv_lload E.1 hb dX6_qJoins_226 (lv_at hl 0 rfl) ?_
                    refine lv_lload_n E.1 hb dX6_qJoins_228 rfl (lv_at hl 1 rfl) ?_
                    refine lv_lc_ne (tgt := 237) E.1 hb dX6_qJoins_229 dX6_qJoins_230 (by decide) (fun hc => ?_) (fun hc => ?_)
                    · have hf := if_s hc hf
                      refine lv_lconst (v := 0) E.1 hb dX6_qJoins_237 rfl ?_
                      exact hB238 σ3 0 hf _ _ hS _ (lv_sub hl [2] rfl)
                    · have hf := it_s hc hf
                      refine lv_lconst (v := 1) E.1 hb dX6_qJoins_233 rfl ?_
                      refine lv_goto (tgt := 238) E.1 hb dX6_qJoins_234 (by decide) ?_
                      exact hB238 σ3 1 hf _ _ hS _ (lv_sub hl [2] rfl)
                  · have hf := if_s hc9 hf
                    by_cases hc10 : x1 = 10
                    · have hf := it_s hc10 hf
                      refine lv_tableIn (tgt := 244) E.1 hb dX6_qJoins_36 (by rw [hc10]; decide) (by rw [hc10]; decide) (by rw [hc10]; rfl) (by decide) ?_
                      refine lv_aload_n E.1 hb dX6_qJoins_244 rfl (lv_at hl 2 rfl) ?_
                      refine lv_lload E.1 hb dX6_qJoins_245 (lv_at hl 0 rfl) ?_
                      refine lv_lload_n E.1 hb dX6_qJoins_247 rfl (lv_at hl 1 rfl) ?_
                      refine lv_lmul E.1 hb dX6_qJoins_248 ?_
                      obtain ⟨_, σ17, h1, hf⟩ := bd_s hf
                      refine m_cVv E hb hml hl.1 hS (cmf_qPuts h1) gw_qPuts gn_qPuts rfl rfl (Nat.le_of_ble_eq_true rfl) ⟨Nat.le_of_ble_eq_true rfl, Nat.le_of_ble_eq_true rfl⟩ ⟨Nat.le_refl 0, Nat.le_refl 0⟩ dX6_qJoins_249 (fun H locs hS => ?_)
                      refine lv_goto (tgt := 273) E.1 hb dX6_qJoins_252 (by decide) ?_
                      exact m_vr E hb hr hlk hS hf dX6_qJoins_273
                    · have hf := if_s hc10 hf
                      have q1 : (x1 : Int32).toInt ≠ 1 := ne_toInt hc1 rfl
                      have q2 : (x1 : Int32).toInt ≠ 2 := ne_toInt hc2 rfl
                      have q3 : (x1 : Int32).toInt ≠ 3 := ne_toInt hc3 rfl
                      have q4 : (x1 : Int32).toInt ≠ 4 := ne_toInt hc4 rfl
                      have q5 : (x1 : Int32).toInt ≠ 5 := ne_toInt hc5 rfl
                      have q6 : (x1 : Int32).toInt ≠ 6 := ne_toInt hc6 rfl
                      have q7 : (x1 : Int32).toInt ≠ 7 := ne_toInt hc7 rfl
                      have q8 : (x1 : Int32).toInt ≠ 8 := ne_toInt hc8 rfl
                      have q9 : (x1 : Int32).toInt ≠ 9 := ne_toInt hc9 rfl
                      have q10 : (x1 : Int32).toInt ≠ 10 := ne_toInt hc10 rfl
                      refine lv_tableOut (tgt := 255) E.1 hb dX6_qJoins_36 (by omega) (by decide) ?_
                      refine lv_aload_n E.1 hb dX6_qJoins_255 rfl (lv_at hl 2 rfl) ?_
                      refine lv_lload E.1 hb dX6_qJoins_256 (lv_at hl 0 rfl) ?_
                      refine lv_lload_n E.1 hb dX6_qJoins_258 rfl (lv_at hl 1 rfl) ?_
                      refine lv_ladd E.1 hb dX6_qJoins_259 ?_
                      refine lv_lconst (v := 0) E.1 hb dX6_qJoins_260 rfl ?_
                      refine lv_lc_le (tgt := 269) E.1 hb dX6_qJoins_261 dX6_qJoins_262 (by decide) (fun hc => ?_) (fun hc => ?_)
                      · have hf := it_s hc hf
                        refine lv_lconst (v := 0) E.1 hb dX6_qJoins_269 rfl ?_
                        exact hB270 σ3 0 hf _ _ hS _ (lv_sub hl [2] rfl)
                      · have hf := if_s hc hf
                        refine lv_lconst (v := 1) E.1 hb dX6_qJoins_265 rfl ?_
                        refine lv_goto (tgt := 270) E.1 hb dX6_qJoins_266 (by decide) ?_
                        exact hB270 σ3 1 hf _ _ hS _ (lv_sub hl [2] rfl)
/-! codesTell(II)J: RW -/
noncomputable def M_codesTell_b147 (N : Nat) (k22 : mSt → Int32 → Int32 → Int32 → Option (Int64 × mSt)) (σ : mSt) (x1 : Int32) (x2 : Int32) (x3 : Int32) : Option (Int64 × mSt) :=
  k22 σ x1 x2 (x3 + 1)
noncomputable def M_codesTell_b22 (N : Nat) (k22 : mSt → Int32 → Int32 → Int32 → Option (Int64 × mSt)) (σ : mSt) (x1 : Int32) (x2 : Int32) (x3 : Int32) : Option (Int64 × mSt) :=
  bo (ld 2 σ 50 (4 + x1)) fun v5 => if v5 ≤ x3 then (bo (ldL σ 100 0) fun v6 => some (v6, σ)) else (bo (ld 2 σ 51 (1600 + x3)) fun v7 => if v7 < 1000 then (if v7 < 40 then (if v7 = 13 then (bd (M_qPuts σ 1) fun _ σ11 => M_codesTell_b147 N k22 σ11 x1 x2 x3) else (if v7 = 12 then (bo (ldL σ 100 ((σ.1 101 0) - 1)) fun v9 => bo (stL σ 100 ((σ.1 101 0) - 1) (1 - v9)) fun σ10 => M_codesTell_b147 N k22 σ10 x1 x2 x3) else (bd (M_qJoins σ v7) fun _ σ8 => M_codesTell_b147 N k22 σ8 x1 x2 x3))) else (bo (M_qPartOf σ (v7 - 40) x2) fun r12 => bd (M_qPuts σ r12) fun _ σ13 => M_codesTell_b147 N k22 σ13 x1 x2 x3)) else (bd (M_qPuts σ (Int32.toInt64 (v7 - 1000))) fun _ σ14 => M_codesTell_b147 N k22 σ14 x1 x2 x3))
noncomputable def M_codesTell (N : Nat) (σ : mSt) (x1 : Int32) (x2 : Int32) : Option (Int64 × mSt) :=
  bo (M_kindBy x1) fun r1 => lt2 (mUI σ 55 0 r1) fun σ2 => lt2 (mUI σ2 101 0 0) fun σ3 => bo (ld 2 σ3 49 (4 + x1)) fun v4 => rn4 (M_codesTell_b22 N) N σ3 x1 x2 v4
theorem gw_codesTell : GoodIn lw_all (wsV RX6 439 RX6 yX6_codesTell (ws_ yX6_codesTell cX6_codesTell 5 (some .long))) := lw_V q2213 q2215 qs104 q164 q2216
theorem gn_codesTell : yX6_codesTell.cls = RX6 ∧ yX6_codesTell.cls ≠ "java/lang/invoke/MethodHandle" ∧ yX6_codesTell.cls ≠ "java/lang/invoke/VarHandle" ∧ (parseMethodDescriptor yX6_codesTell.desc).map (fun d => d.parameters.length) = some 2 := by decide +kernel
abbrev rM_codesTell : Room := { frames := 2, cells := 0, slots := 0, locals := 50 }
set_option maxHeartbeats 4000000 in
theorem cmf_codesTell {l : Launch} {dC : Nat → ClassId} {dI : Nat → Nat → Nat} {ac : Nat → ClassId} {o : Nat} {ad : Nat → Nat} {N : Nat} {σ : mSt} {x1 : Int32} {x2 : Int32} {r : Int64} {σ' : mSt} (hf : M_codesTell N σ x1 x2 = some (r, σ')) : Met l yX6_codesTell (ws_ yX6_codesTell cX6_codesTell 5 (some .long)) { frames := 2, cells := 0, slots := 0, locals := 50 } (va_Pc [.ref o, .int x1, .int x2] (mPre dC dI ac o ad σ)) (mQl dC dI ac o ad r σ') 0 0 (mF o ad) := by
  refine m_of (by decide) rfl (Nat.le_of_ble_eq_true rfl) ?_
  intro p e s m args below meth c E hb hr hlk hml hS ls hl
  have hl : lv_has ls 5 [(0, .ref o), (1, .int x1), (2, .int x2)] := hl
  have hB147 : ∀ (k22 : mSt → Int32 → Int32 → Int32 → Option (Int64 × mSt)) (hk22 : ∀ (σ : mSt) (x1 : Int32) (x2 : Int32) (x3 : Int32), k22 σ x1 x2 x3 = some (r, σ') → ∀ (H : Heap) (locs : List Loc), mS dC dI ac o ad s.heap σ H locs → ∀ (ls : Array Slot), lv_has ls 5 [(0, .ref o), (1, .int x1), (2, .int x2), (3, .int x3)] → W p l e rM_codesTell s m args below meth c H locs 0 0 (MQ below (mQl dC dI ac o ad r σ') args s 0 0 (mF o ad)) (F0 m 22 ls [])) (σ : mSt) (x1 : Int32) (x2 : Int32) (x3 : Int32), M_codesTell_b147 N k22 σ x1 x2 x3 = some (r, σ') → ∀ (H : Heap) (locs : List Loc), mS dC dI ac o ad s.heap σ H locs → ∀ (ls : Array Slot), lv_has ls 5 [(0, .ref o), (1, .int x1), (2, .int x2), (3, .int x3)] → W p l e rM_codesTell s m args below meth c H locs 0 0 (MQ below (mQl dC dI ac o ad r σ') args s 0 0 (mF o ad)) (F0 m 147 ls []) := by
    intro k22 hk22 σ x1 x2 x3 hf H locs hS ls hl
    unfold M_codesTell_b147 at hf
    refine lv_iinc (v := (x3 + 1)) (lv' := [(3, .int (x3 + 1)), (0, .ref o), (1, .int x1), (2, .int x2)]) E.1 hb dX6_codesTell_147 hl (k := 3) rfl rfl (by decide) rfl (fun ls hl => ?_)
    refine lv_goto (tgt := 22) E.1 hb dX6_codesTell_150 (by decide) ?_
    exact hk22 σ x1 x2 (x3 + 1) hf _ _ hS _ (lv_sub hl [1, 2, 3, 0] rfl)
  have hL22 : ∀ (n : Nat) (σ : mSt) (x1 : Int32) (x2 : Int32) (x3 : Int32), rn4 (M_codesTell_b22 N) n σ x1 x2 x3 = some (r, σ') → ∀ (H : Heap) (locs : List Loc), mS dC dI ac o ad s.heap σ H locs → ∀ (ls : Array Slot), lv_has ls 5 [(0, .ref o), (1, .int x1), (2, .int x2), (3, .int x3)] → W p l e rM_codesTell s m args below meth c H locs 0 0 (MQ below (mQl dC dI ac o ad r σ') args s 0 0 (mF o ad)) (F0 m 22 ls []) := by
    intro  n
    induction n with
    | zero =>
      intro σ x1 x2 x3 hf
      cases hf
    | succ n ih =>
      intro σ x1 x2 x3 hf H locs hS ls hl
      have hf : M_codesTell_b22 N (rn4 (M_codesTell_b22 N) n) σ x1 x2 x3 = some (r, σ') := hf
      have hk22 := ih
      generalize rn4 (M_codesTell_b22 N) n = k22 at hf hk22
      unfold M_codesTell_b22 at hf
      refine lv_iload_n E.1 hb dX6_codesTell_22 rfl (lv_at hl 3 rfl) ?_
      refine lv_aload_n E.1 hb dX6_codesTell_23 rfl (lv_at hl 0 rfl) ?_
      refine m_gA (k := 50) E hb hS 2 rfl (by decide) fl_50 dX6_codesTell_24 ?_
      refine lv_iconst (v := 4) E.1 hb dX6_codesTell_27 rfl ?_
      refine lv_iload_n E.1 hb dX6_codesTell_28 rfl (lv_at hl 1 rfl) ?_
      refine lv_iadd E.1 hb dX6_codesTell_29 ?_
      obtain ⟨hg, hf⟩ := ld_s hf
      refine m_ild E hb hS hg dX6_codesTell_30 ?_
      refine lv_icmp_ge (tgt := 153) E.1 hb dX6_codesTell_31 (by decide) (fun hc => ?_) (fun hc => ?_)
      · have hf := it_s hc hf
        refine lv_aload_n E.1 hb dX6_codesTell_153 rfl (lv_at hl 0 rfl) ?_
        refine m_gA (k := 100) E hb hS 3 rfl (by decide) fl_100 dX6_codesTell_154 ?_
        refine lv_iconst (v := 0) E.1 hb dX6_codesTell_157 rfl ?_
        obtain ⟨hg, hf⟩ := ldL_s hf
        refine m_lld E hb hS hg dX6_codesTell_158 ?_
        exact m_lr E hb hr hlk hS hf dX6_codesTell_159
      · have hf := if_s hc hf
        refine lv_aload_n E.1 hb dX6_codesTell_34 rfl (lv_at hl 0 rfl) ?_
        refine m_gA (k := 51) E hb hS 2 rfl (by decide) fl_51 dX6_codesTell_35 ?_
        refine lv_sipush (v := 1600) E.1 hb dX6_codesTell_38 rfl ?_
        refine lv_iload_n E.1 hb dX6_codesTell_41 rfl (lv_at hl 3 rfl) ?_
        refine lv_iadd E.1 hb dX6_codesTell_42 ?_
        obtain ⟨hg, hf⟩ := ld_s hf
        refine m_ild E hb hS hg dX6_codesTell_43 ?_
        refine lv_istore (lv' := [(4, .int (σ.1 51 (1600 + x3).toNatClampNeg)), (0, .ref o), (1, .int x1), (2, .int x2), (3, .int x3)]) E.1 hb dX6_codesTell_44 hl (by decide) rfl (fun ls hl => ?_)
        refine lv_iload E.1 hb dX6_codesTell_46 (lv_at hl 0 rfl) ?_
        refine lv_sipush (v := 1000) E.1 hb dX6_codesTell_48 rfl ?_
        refine lv_icmp_lt (tgt := 68) E.1 hb dX6_codesTell_51 (by decide) (fun hc => ?_) (fun hc => ?_)
        · have hf := it_s hc hf
          refine lv_iload E.1 hb dX6_codesTell_68 (lv_at hl 0 rfl) ?_
          refine lv_bipush (v := 40) E.1 hb dX6_codesTell_70 rfl ?_
          refine lv_icmp_lt (tgt := 92) E.1 hb dX6_codesTell_72 (by decide) (fun hc => ?_) (fun hc => ?_)
          · have hf := it_s hc hf
            refine lv_iload E.1 hb dX6_codesTell_92 (lv_at hl 0 rfl) ?_
            refine lv_bipush (v := 13) E.1 hb dX6_codesTell_94 rfl ?_
            refine lv_icmp_ne (tgt := 107) E.1 hb dX6_codesTell_96 (by decide) (fun hc => ?_) (fun hc => ?_)
            · have hf := if_s hc hf
              refine lv_iload E.1 hb dX6_codesTell_107 (lv_at hl 0 rfl) ?_
              refine lv_bipush (v := 12) E.1 hb dX6_codesTell_109 rfl ?_
              refine lv_icmp_ne (tgt := 141) E.1 hb dX6_codesTell_111 (by decide) (fun hc => ?_) (fun hc => ?_)
              · have hf := if_s hc hf
                refine lv_aload_n E.1 hb dX6_codesTell_141 rfl (lv_at hl 1 rfl) ?_
                refine lv_iload E.1 hb dX6_codesTell_142 (lv_at hl 0 rfl) ?_
                obtain ⟨_, σ8, h1, hf⟩ := bd_s hf
                refine m_cVv E hb hml hl.1 hS (cmf_qJoins h1) gw_qJoins gn_qJoins rfl rfl (Nat.le_of_ble_eq_true rfl) ⟨Nat.le_of_ble_eq_true rfl, Nat.le_of_ble_eq_true rfl⟩ ⟨Nat.le_refl 0, Nat.le_refl 0⟩ dX6_codesTell_144 (fun H locs hS => ?_)
                exact hB147 k22 hk22 σ8 x1 x2 x3 hf _ _ hS _ (lv_sub hl [1, 2, 3, 4] rfl)
              · have hf := it_s hc hf
                refine lv_aload_n E.1 hb dX6_codesTell_114 rfl (lv_at hl 1 rfl) ?_
                refine m_gA (k := 100) E hb hS 3 rfl (by decide) fl_100 dX6_codesTell_115 ?_
                refine lv_aload_n E.1 hb dX6_codesTell_118 rfl (lv_at hl 1 rfl) ?_
                refine m_gI (k := 101) E hb hS rfl fl_101 dX6_codesTell_119 ?_
                refine lv_iconst (v := 1) E.1 hb dX6_codesTell_122 rfl ?_
                refine lv_isub E.1 hb dX6_codesTell_123 ?_
                refine lv_lconst (v := 1) E.1 hb dX6_codesTell_124 rfl ?_
                refine lv_aload_n E.1 hb dX6_codesTell_125 rfl (lv_at hl 1 rfl) ?_
                refine m_gA (k := 100) E hb hS 3 rfl (by decide) fl_100 dX6_codesTell_126 ?_
                refine lv_aload_n E.1 hb dX6_codesTell_129 rfl (lv_at hl 1 rfl) ?_
                refine m_gI (k := 101) E hb hS rfl fl_101 dX6_codesTell_130 ?_
                refine lv_iconst (v := 1) E.1 hb dX6_codesTell_133 rfl ?_
                refine lv_isub E.1 hb dX6_codesTell_134 ?_
                obtain ⟨hg, hf⟩ := ldL_s hf
                refine m_lld E hb hS hg dX6_codesTell_135 ?_
                refine lv_lsub E.1 hb dX6_codesTell_136 ?_
                obtain ⟨σ10, hg, hw, hf⟩ := stL_s hf
                refine m_lst E hb hS hg hw dX6_codesTell_137 (fun H locs hS => ?_)
                refine lv_goto (tgt := 147) E.1 hb dX6_codesTell_138 (by decide) ?_
                exact hB147 k22 hk22 σ10 x1 x2 x3 hf _ _ hS _ (lv_sub hl [1, 2, 3, 4] rfl)
            · have hf := it_s hc hf
              refine lv_aload_n E.1 hb dX6_codesTell_99 rfl (lv_at hl 1 rfl) ?_
              refine lv_lconst (v := 1) E.1 hb dX6_codesTell_100 rfl ?_
              obtain ⟨_, σ11, h1, hf⟩ := bd_s hf
              refine m_cVv E hb hml hl.1 hS (cmf_qPuts h1) gw_qPuts gn_qPuts rfl rfl (Nat.le_of_ble_eq_true rfl) ⟨Nat.le_of_ble_eq_true rfl, Nat.le_of_ble_eq_true rfl⟩ ⟨Nat.le_refl 0, Nat.le_refl 0⟩ dX6_codesTell_101 (fun H locs hS => ?_)
              refine lv_goto (tgt := 147) E.1 hb dX6_codesTell_104 (by decide) ?_
              exact hB147 k22 hk22 σ11 x1 x2 x3 hf _ _ hS _ (lv_sub hl [1, 2, 3, 4] rfl)
          · have hf := if_s hc hf
            refine lv_aload_n E.1 hb dX6_codesTell_75 rfl (lv_at hl 1 rfl) ?_
            refine lv_aload_n E.1 hb dX6_codesTell_76 rfl (lv_at hl 1 rfl) ?_
            refine lv_iload E.1 hb dX6_codesTell_77 (lv_at hl 0 rfl) ?_
            refine lv_bipush (v := 40) E.1 hb dX6_codesTell_79 rfl ?_
            refine lv_isub E.1 hb dX6_codesTell_81 ?_
            refine lv_iload_n E.1 hb dX6_codesTell_82 rfl (lv_at hl 3 rfl) ?_
            obtain ⟨r12, h1, hf⟩ := bo_s hf
            refine m_cVl E hb hml hl.1 hS (cmf_qPartOf h1) gw_qPartOf gn_qPartOf rfl rfl (Nat.le_of_ble_eq_true rfl) ⟨Nat.le_of_ble_eq_true rfl, Nat.le_of_ble_eq_true rfl⟩ ⟨Nat.le_refl 0, Nat.le_refl 0⟩ dX6_codesTell_83 (fun H locs hS => ?_)
            obtain ⟨_, σ13, h1, hf⟩ := bd_s hf
            refine m_cVv E hb hml hl.1 hS (cmf_qPuts h1) gw_qPuts gn_qPuts rfl rfl (Nat.le_of_ble_eq_true rfl) ⟨Nat.le_of_ble_eq_true rfl, Nat.le_of_ble_eq_true rfl⟩ ⟨Nat.le_refl 0, Nat.le_refl 0⟩ dX6_codesTell_86 (fun H locs hS => ?_)
            refine lv_goto (tgt := 147) E.1 hb dX6_codesTell_89 (by decide) ?_
            exact hB147 k22 hk22 σ13 x1 x2 x3 hf _ _ hS _ (lv_sub hl [1, 2, 3, 4] rfl)
        · have hf := if_s hc hf
          refine lv_aload_n E.1 hb dX6_codesTell_54 rfl (lv_at hl 1 rfl) ?_
          refine lv_iload E.1 hb dX6_codesTell_55 (lv_at hl 0 rfl) ?_
          refine lv_sipush (v := 1000) E.1 hb dX6_codesTell_57 rfl ?_
          refine lv_isub E.1 hb dX6_codesTell_60 ?_
          refine lv_i2l E.1 hb dX6_codesTell_61 rfl ?_
          obtain ⟨_, σ14, h1, hf⟩ := bd_s hf
          refine m_cVv E hb hml hl.1 hS (cmf_qPuts h1) gw_qPuts gn_qPuts rfl rfl (Nat.le_of_ble_eq_true rfl) ⟨Nat.le_of_ble_eq_true rfl, Nat.le_of_ble_eq_true rfl⟩ ⟨Nat.le_refl 0, Nat.le_refl 0⟩ dX6_codesTell_62 (fun H locs hS => ?_)
          refine lv_goto (tgt := 147) E.1 hb dX6_codesTell_65 (by decide) ?_
          exact hB147 k22 hk22 σ14 x1 x2 x3 hf _ _ hS _ (lv_sub hl [1, 2, 3, 4] rfl)
  unfold M_codesTell at hf
  refine lv_aload_n E.1 hb dX6_codesTell_0 rfl (lv_at hl 0 rfl) ?_
  refine lv_iload_n E.1 hb dX6_codesTell_1 rfl (lv_at hl 1 rfl) ?_
  obtain ⟨r1, h1, hf⟩ := bo_s hf
  refine m_cSi E hb hml hl.1 hS (cmf_kindBy h1) gw_kindBy gn_kindBy rfl rfl (Nat.le_of_ble_eq_true rfl) ⟨Nat.le_of_ble_eq_true rfl, Nat.le_of_ble_eq_true rfl⟩ ⟨Nat.le_refl 0, Nat.le_refl 0⟩ dX6_codesTell_2 (fun H locs hS => ?_)
  obtain ⟨σ2, hw, hf⟩ := lt2_s hf
  refine m_pI (k := 55) E hb hS rfl rfl pf_55 fl_55 hw dX6_codesTell_5 (fun H locs hS => ?_)
  refine lv_aload_n E.1 hb dX6_codesTell_8 rfl (lv_at hl 0 rfl) ?_
  refine lv_iconst (v := 0) E.1 hb dX6_codesTell_9 rfl ?_
  obtain ⟨σ3, hw, hf⟩ := lt2_s hf
  refine m_pI (k := 101) E hb hS rfl rfl pf_101 fl_101 hw dX6_codesTell_10 (fun H locs hS => ?_)
  refine lv_aload_n E.1 hb dX6_codesTell_13 rfl (lv_at hl 0 rfl) ?_
  refine m_gA (k := 49) E hb hS 2 rfl (by decide) fl_49 dX6_codesTell_14 ?_
  refine lv_iconst (v := 4) E.1 hb dX6_codesTell_17 rfl ?_
  refine lv_iload_n E.1 hb dX6_codesTell_18 rfl (lv_at hl 1 rfl) ?_
  refine lv_iadd E.1 hb dX6_codesTell_19 ?_
  obtain ⟨hg, hf⟩ := ld_s hf
  refine m_ild E hb hS hg dX6_codesTell_20 ?_
  refine lv_istore_n (lv' := [(3, .int (σ3.1 49 (4 + x1).toNatClampNeg)), (0, .ref o), (1, .int x1), (2, .int x2)]) E.1 hb dX6_codesTell_21 rfl hl (by decide) rfl (fun ls hl => ?_)
  exact hL22 N σ3 x1 x2 (σ3.1 49 (4 + x1).toNatClampNeg) hf _ _ hS _ (lv_sub hl [1, 2, 3, 0] rfl)
/-! openingOn(I)I: RW -/
noncomputable def M_openingOn (N : Nat) (σ : mSt) (x1 : Int32) : Option (Int32 × mSt) :=
  if (σ.1 54 0) = 0 then (some (0, σ)) else (bo (ld 2 σ 49 4) fun v1 => if v1 = (-1) then (some (0, σ)) else (lt2 (mUI σ 58 0 x1) fun σ2 => bd (M_codesTell N σ2 0 0) fun r3 σ4 => bo (M_leaves σ4) fun r5 => if ¬ (Int32.toInt64 (r5 + 1)) = 0 then (if 0 ≤ (Int64.toInt32 (r3 - r3 / (Int32.toInt64 (r5 + 1)) * (Int32.toInt64 (r5 + 1)))) then (some ((Int64.toInt32 (r3 - r3 / (Int32.toInt64 (r5 + 1)) * (Int32.toInt64 (r5 + 1)))), σ4)) else (bo (M_leaves σ4) fun r6 => some ((((Int64.toInt32 (r3 - r3 / (Int32.toInt64 (r5 + 1)) * (Int32.toInt64 (r5 + 1)))) + r6) + 1), σ4))) else none))
theorem gw_openingOn : GoodIn lw_all (wsV RX6 487 RX6 yX6_openingOn (ws_ yX6_openingOn cX6_openingOn 3 (some .int))) := lw_V q2209 q2211 qs103 q164 q2212
theorem gn_openingOn : yX6_openingOn.cls = RX6 ∧ yX6_openingOn.cls ≠ "java/lang/invoke/MethodHandle" ∧ yX6_openingOn.cls ≠ "java/lang/invoke/VarHandle" ∧ (parseMethodDescriptor yX6_openingOn.desc).map (fun d => d.parameters.length) = some 1 := by decide +kernel
abbrev rM_openingOn : Room := { frames := 3, cells := 0, slots := 0, locals := 74 }
set_option maxHeartbeats 4000000 in
theorem cmf_openingOn {l : Launch} {dC : Nat → ClassId} {dI : Nat → Nat → Nat} {ac : Nat → ClassId} {o : Nat} {ad : Nat → Nat} {N : Nat} {σ : mSt} {x1 : Int32} {r : Int32} {σ' : mSt} (hf : M_openingOn N σ x1 = some (r, σ')) : Met l yX6_openingOn (ws_ yX6_openingOn cX6_openingOn 3 (some .int)) { frames := 3, cells := 0, slots := 0, locals := 74 } (va_Pc [.ref o, .int x1] (mPre dC dI ac o ad σ)) (mQi dC dI ac o ad r σ') 0 0 (mF o ad) := by
  refine m_of (by decide) rfl (Nat.le_of_ble_eq_true rfl) ?_
  intro p e s m args below meth c E hb hr hlk hml hS ls hl
  have hl : lv_has ls 3 [(0, .ref o), (1, .int x1)] := hl
  unfold M_openingOn at hf
  refine lv_aload_n E.1 hb dX6_openingOn_0 rfl (lv_at hl 0 rfl) ?_
  refine m_gZ (k := 54) E hb hS rfl fl_54 dX6_openingOn_1 ?_
  refine lv_if_eq (tgt := 17) E.1 hb dX6_openingOn_4 (by decide) (fun hc => ?_) (fun hc => ?_)
  · have hf := it_s hc hf
    refine lv_iconst (v := 0) E.1 hb dX6_openingOn_17 rfl ?_
    exact m_ir E hb hr hlk hS hf dX6_openingOn_18
  · have hf := if_s hc hf
    refine lv_aload_n E.1 hb dX6_openingOn_7 rfl (lv_at hl 0 rfl) ?_
    refine m_gA (k := 49) E hb hS 2 rfl (by decide) fl_49 dX6_openingOn_8 ?_
    refine lv_iconst (v := 4) E.1 hb dX6_openingOn_11 rfl ?_
    obtain ⟨hg, hf⟩ := ld_s hf
    refine m_ild E hb hS hg dX6_openingOn_12 ?_
    refine lv_iconst (v := (-1)) E.1 hb dX6_openingOn_13 rfl ?_
    refine lv_icmp_ne (tgt := 19) E.1 hb dX6_openingOn_14 (by decide) (fun hc => ?_) (fun hc => ?_)
    · have hf := if_s hc hf
      refine lv_aload_n E.1 hb dX6_openingOn_19 rfl (lv_at hl 0 rfl) ?_
      refine lv_iload_n E.1 hb dX6_openingOn_20 rfl (lv_at hl 1 rfl) ?_
      obtain ⟨σ2, hw, hf⟩ := lt2_s hf
      refine m_pI (k := 58) E hb hS rfl rfl pf_58 fl_58 hw dX6_openingOn_21 (fun H locs hS => ?_)
      refine lv_aload_n E.1 hb dX6_openingOn_24 rfl (lv_at hl 0 rfl) ?_
      refine lv_iconst (v := 0) E.1 hb dX6_openingOn_25 rfl ?_
      refine lv_iconst (v := 0) E.1 hb dX6_openingOn_26 rfl ?_
      obtain ⟨r3, σ4, h1, hf⟩ := bd_s hf
      refine m_cVl E hb hml hl.1 hS (cmf_codesTell h1) gw_codesTell gn_codesTell rfl rfl (Nat.le_of_ble_eq_true rfl) ⟨Nat.le_of_ble_eq_true rfl, Nat.le_of_ble_eq_true rfl⟩ ⟨Nat.le_refl 0, Nat.le_refl 0⟩ dX6_openingOn_27 (fun H locs hS => ?_)
      refine lv_aload_n E.1 hb dX6_openingOn_30 rfl (lv_at hl 0 rfl) ?_
      obtain ⟨r5, h1, hf⟩ := bo_s hf
      refine m_cVi E hb hml hl.1 hS (cmf_leaves h1) gw_leaves gn_leaves rfl rfl (Nat.le_of_ble_eq_true rfl) ⟨Nat.le_of_ble_eq_true rfl, Nat.le_of_ble_eq_true rfl⟩ ⟨Nat.le_refl 0, Nat.le_refl 0⟩ dX6_openingOn_31 (fun H locs hS => ?_)
      refine lv_iconst (v := 1) E.1 hb dX6_openingOn_34 rfl ?_
      refine lv_iadd E.1 hb dX6_openingOn_35 ?_
      refine lv_i2l E.1 hb dX6_openingOn_36 rfl ?_
      obtain ⟨hg, hf⟩ := gu_s hf
      refine lv_lrem E.1 hb dX6_openingOn_37 hg ?_
      refine lv_l2i E.1 hb dX6_openingOn_38 rfl ?_
      refine lv_istore_n (lv' := [(2, .int (Int64.toInt32 (r3 - r3 / (Int32.toInt64 (r5 + 1)) * (Int32.toInt64 (r5 + 1))))), (0, .ref o), (1, .int x1)]) E.1 hb dX6_openingOn_39 rfl hl (by decide) rfl (fun ls hl => ?_)
      refine lv_iload_n E.1 hb dX6_openingOn_40 rfl (lv_at hl 0 rfl) ?_
      refine lv_if_ge (tgt := 55) E.1 hb dX6_openingOn_41 (by decide) (fun hc => ?_) (fun hc => ?_)
      · have hf := it_s hc hf
        refine lv_iload_n E.1 hb dX6_openingOn_55 rfl (lv_at hl 0 rfl) ?_
        exact m_ir E hb hr hlk hS hf dX6_openingOn_56
      · have hf := if_s hc hf
        refine lv_iload_n E.1 hb dX6_openingOn_44 rfl (lv_at hl 0 rfl) ?_
        refine lv_aload_n E.1 hb dX6_openingOn_45 rfl (lv_at hl 1 rfl) ?_
        obtain ⟨r6, h1, hf⟩ := bo_s hf
        refine m_cVi E hb hml hl.1 hS (cmf_leaves h1) gw_leaves gn_leaves rfl rfl (Nat.le_of_ble_eq_true rfl) ⟨Nat.le_of_ble_eq_true rfl, Nat.le_of_ble_eq_true rfl⟩ ⟨Nat.le_refl 0, Nat.le_refl 0⟩ dX6_openingOn_46 (fun H locs hS => ?_)
        refine lv_iadd E.1 hb dX6_openingOn_49 ?_
        refine lv_iconst (v := 1) E.1 hb dX6_openingOn_50 rfl ?_
        refine lv_iadd E.1 hb dX6_openingOn_51 ?_
        refine lv_goto (tgt := 56) E.1 hb dX6_openingOn_52 (by decide) ?_
        exact m_ir E hb hr hlk hS hf dX6_openingOn_56
    · have hf := it_s hc hf
      refine lv_iconst (v := 0) E.1 hb dX6_openingOn_17 rfl ?_
      exact m_ir E hb hr hlk hS hf dX6_openingOn_18
/-! isMet(I)V: RW -/
noncomputable def M_isMet_b31 (σ : mSt) (x1 : Int32) : Option (Unit × mSt) :=
  bo (ld 2 σ 63 x1) fun v2 => bo (stI 2 σ 63 x1 (v2 + 1)) fun σ3 => some ((), σ3)
noncomputable def M_isMet (σ : mSt) (x1 : Int32) : Option (Unit × mSt) :=
  bo (ld 2 σ 56 ((7 + (4 * x1)) + 3)) fun v1 => if 9999 ≤ v1 then (M_isMet_b31 σ x1) else (bo (ld 2 σ 56 ((7 + (4 * x1)) + 3)) fun v4 => bo (stI 2 σ 56 ((7 + (4 * x1)) + 3) (v4 + 1)) fun σ5 => M_isMet_b31 σ5 x1)
theorem gw_isMet : GoodIn lw_all (wsV RX6 455 RX6 yX6_isMet (ws_ yX6_isMet cX6_isMet 3 none)) := lw_V q2347 q2349 qs126 q164 q2350
theorem gn_isMet : yX6_isMet.cls = RX6 ∧ yX6_isMet.cls ≠ "java/lang/invoke/MethodHandle" ∧ yX6_isMet.cls ≠ "java/lang/invoke/VarHandle" ∧ (parseMethodDescriptor yX6_isMet.desc).map (fun d => d.parameters.length) = some 1 := by decide +kernel
abbrev rM_isMet : Room := { frames := 0, cells := 0, slots := 0, locals := 0 }
set_option maxHeartbeats 4000000 in
theorem cmf_isMet {l : Launch} {dC : Nat → ClassId} {dI : Nat → Nat → Nat} {ac : Nat → ClassId} {o : Nat} {ad : Nat → Nat} {σ : mSt} {x1 : Int32} {σ' : mSt} (hf : M_isMet σ x1 = some ((), σ')) : Met l yX6_isMet (ws_ yX6_isMet cX6_isMet 3 none) { frames := 0, cells := 0, slots := 0, locals := 0 } (va_Pc [.ref o, .int x1] (mPre dC dI ac o ad σ)) (mQv dC dI ac o ad σ') 0 0 (mF o ad) := by
  refine m_of (by decide) rfl (Nat.le_of_ble_eq_true rfl) ?_
  intro p e s m args below meth c E hb hr hlk hml hS ls hl
  have hl : lv_has ls 3 [(0, .ref o), (1, .int x1)] := hl
  have hB31 : ∀ (σ : mSt) (x1 : Int32), M_isMet_b31 σ x1 = some ((), σ') → ∀ (H : Heap) (locs : List Loc), mS dC dI ac o ad s.heap σ H locs → ∀ (ls : Array Slot), lv_has ls 3 [(0, .ref o), (1, .int x1)] → W p l e rM_isMet s m args below meth c H locs 0 0 (MQ below (mQv dC dI ac o ad σ') args s 0 0 (mF o ad)) (F0 m 31 ls []) := by
    intro σ x1 hf H locs hS ls hl
    unfold M_isMet_b31 at hf
    refine lv_aload_n E.1 hb dX6_isMet_31 rfl (lv_at hl 0 rfl) ?_
    refine m_gA (k := 63) E hb hS 2 rfl (by decide) fl_63 dX6_isMet_32 ?_
    refine lv_iload_n E.1 hb dX6_isMet_35 rfl (lv_at hl 1 rfl) ?_
    refine lv_dup2_11 E.1 hb dX6_isMet_36 rfl rfl ?_
    obtain ⟨hg, hf⟩ := ld_s hf
    refine m_ild E hb hS hg dX6_isMet_37 ?_
    refine lv_iconst (v := 1) E.1 hb dX6_isMet_38 rfl ?_
    refine lv_iadd E.1 hb dX6_isMet_39 ?_
    obtain ⟨σ3, hg, hw, hf⟩ := st_s hf
    refine m_ist E hb hS hg hw dX6_isMet_40 (fun H locs hS => ?_)
    exact m_vr E hb hr hlk hS hf dX6_isMet_41
  unfold M_isMet at hf
  refine lv_bipush (v := 7) E.1 hb dX6_isMet_0 rfl ?_
  refine lv_iconst (v := 4) E.1 hb dX6_isMet_2 rfl ?_
  refine lv_iload_n E.1 hb dX6_isMet_3 rfl (lv_at hl 1 rfl) ?_
  refine lv_imul E.1 hb dX6_isMet_4 ?_
  refine lv_iadd E.1 hb dX6_isMet_5 ?_
  refine lv_iconst (v := 3) E.1 hb dX6_isMet_6 rfl ?_
  refine lv_iadd E.1 hb dX6_isMet_7 ?_
  refine lv_istore_n (lv' := [(2, .int ((7 + (4 * x1)) + 3)), (0, .ref o), (1, .int x1)]) E.1 hb dX6_isMet_8 rfl hl (by decide) rfl (fun ls hl => ?_)
  refine lv_aload_n E.1 hb dX6_isMet_9 rfl (lv_at hl 1 rfl) ?_
  refine m_gA (k := 56) E hb hS 2 rfl (by decide) fl_56 dX6_isMet_10 ?_
  refine lv_iload_n E.1 hb dX6_isMet_13 rfl (lv_at hl 0 rfl) ?_
  obtain ⟨hg, hf⟩ := ld_s hf
  refine m_ild E hb hS hg dX6_isMet_14 ?_
  refine lv_sipush (v := 9999) E.1 hb dX6_isMet_15 rfl ?_
  refine lv_icmp_ge (tgt := 31) E.1 hb dX6_isMet_18 (by decide) (fun hc => ?_) (fun hc => ?_)
  · have hf := it_s hc hf
    exact hB31 σ x1 hf _ _ hS _ (lv_sub hl [1, 2] rfl)
  · have hf := if_s hc hf
    refine lv_aload_n E.1 hb dX6_isMet_21 rfl (lv_at hl 1 rfl) ?_
    refine m_gA (k := 56) E hb hS 2 rfl (by decide) fl_56 dX6_isMet_22 ?_
    refine lv_iload_n E.1 hb dX6_isMet_25 rfl (lv_at hl 0 rfl) ?_
    refine lv_dup2_11 E.1 hb dX6_isMet_26 rfl rfl ?_
    obtain ⟨hg, hf⟩ := ld_s hf
    refine m_ild E hb hS hg dX6_isMet_27 ?_
    refine lv_iconst (v := 1) E.1 hb dX6_isMet_28 rfl ?_
    refine lv_iadd E.1 hb dX6_isMet_29 ?_
    obtain ⟨σ5, hg, hw, hf⟩ := st_s hf
    refine m_ist E hb hS hg hw dX6_isMet_30 (fun H locs hS => ?_)
    exact hB31 σ5 x1 hf _ _ hS _ (lv_sub hl [1, 2] rfl)
/-! isKept(II)V: RW -/
noncomputable def M_isKept_b64 (N : Nat) (σ : mSt) (x1 : Int32) (x2 : Int32) : Option (Unit × mSt) :=
  bo (ld 2 σ 56 39) fun v4 => bo (ld 2 σ 56 0) fun v5 => bo (stI 2 σ 56 ((40 + (3 * v4)) - 3) v5) fun σ6 => bo (stI 2 σ6 56 (((40 + (3 * v4)) - 3) + 1) x1) fun σ7 => bo (stI 2 σ7 56 (((40 + (3 * v4)) - 3) + 2) x2) fun σ8 => some ((), σ8)
noncomputable def M_isKept_b23 (N : Nat) (k23 : mSt → Int32 → Int32 → Int32 → Option (Unit × mSt)) (σ : mSt) (x1 : Int32) (x2 : Int32) (x3 : Int32) : Option (Unit × mSt) :=
  if 157 ≤ x3 then (M_isKept_b64 N σ x1 x2) else (bo (ld 2 σ 56 (x3 + 3)) fun v9 => bo (stI 2 σ 56 x3 v9) fun σ10 => k23 σ10 x1 x2 (x3 + 1))
noncomputable def M_isKept (N : Nat) (σ : mSt) (x1 : Int32) (x2 : Int32) : Option (Unit × mSt) :=
  if (σ.1 61 0) = 0 then (bo (ld 2 σ 56 39) fun v1 => if v1 = 40 then (rn4 (M_isKept_b23 N) N σ x1 x2 40) else (bo (ld 2 σ 56 39) fun v2 => bo (stI 2 σ 56 39 (v2 + 1)) fun σ3 => M_isKept_b64 N σ3 x1 x2)) else (some ((), σ))
theorem gw_isKept : GoodIn lw_all (wsV RX6 458 RX6 yX6_isKept (ws_ yX6_isKept cX6_isKept 4 none)) := lw_V q2351 q2353 qs127 q164 q2354
theorem gn_isKept : yX6_isKept.cls = RX6 ∧ yX6_isKept.cls ≠ "java/lang/invoke/MethodHandle" ∧ yX6_isKept.cls ≠ "java/lang/invoke/VarHandle" ∧ (parseMethodDescriptor yX6_isKept.desc).map (fun d => d.parameters.length) = some 2 := by decide +kernel
abbrev rM_isKept : Room := { frames := 0, cells := 0, slots := 0, locals := 0 }
set_option maxHeartbeats 4000000 in
theorem cmf_isKept {l : Launch} {dC : Nat → ClassId} {dI : Nat → Nat → Nat} {ac : Nat → ClassId} {o : Nat} {ad : Nat → Nat} {N : Nat} {σ : mSt} {x1 : Int32} {x2 : Int32} {σ' : mSt} (hf : M_isKept N σ x1 x2 = some ((), σ')) : Met l yX6_isKept (ws_ yX6_isKept cX6_isKept 4 none) { frames := 0, cells := 0, slots := 0, locals := 0 } (va_Pc [.ref o, .int x1, .int x2] (mPre dC dI ac o ad σ)) (mQv dC dI ac o ad σ') 0 0 (mF o ad) := by
  refine m_of (by decide) rfl (Nat.le_of_ble_eq_true rfl) ?_
  intro p e s m args below meth c E hb hr hlk hml hS ls hl
  have hl : lv_has ls 4 [(0, .ref o), (1, .int x1), (2, .int x2)] := hl
  have hB64 : ∀ (σ : mSt) (x1 : Int32) (x2 : Int32), M_isKept_b64 N σ x1 x2 = some ((), σ') → ∀ (H : Heap) (locs : List Loc), mS dC dI ac o ad s.heap σ H locs → ∀ (ls : Array Slot), lv_has ls 4 [(0, .ref o), (1, .int x1), (2, .int x2)] → W p l e rM_isKept s m args below meth c H locs 0 0 (MQ below (mQv dC dI ac o ad σ') args s 0 0 (mF o ad)) (F0 m 64 ls []) := by
    intro σ x1 x2 hf H locs hS ls hl
    unfold M_isKept_b64 at hf
    refine lv_bipush (v := 40) E.1 hb dX6_isKept_64 rfl ?_
    refine lv_iconst (v := 3) E.1 hb dX6_isKept_66 rfl ?_
    refine lv_aload_n E.1 hb dX6_isKept_67 rfl (lv_at hl 0 rfl) ?_
    refine m_gA (k := 56) E hb hS 2 rfl (by decide) fl_56 dX6_isKept_68 ?_
    refine lv_bipush (v := 39) E.1 hb dX6_isKept_71 rfl ?_
    obtain ⟨hg, hf⟩ := ld_s hf
    refine m_ild E hb hS hg dX6_isKept_73 ?_
    refine lv_imul E.1 hb dX6_isKept_74 ?_
    refine lv_iadd E.1 hb dX6_isKept_75 ?_
    refine lv_iconst (v := 3) E.1 hb dX6_isKept_76 rfl ?_
    refine lv_isub E.1 hb dX6_isKept_77 ?_
    refine lv_istore_n (lv' := [(3, .int ((40 + (3 * (σ.1 56 (39 : Int32).toNatClampNeg))) - 3)), (0, .ref o), (1, .int x1), (2, .int x2)]) E.1 hb dX6_isKept_78 rfl hl (by decide) rfl (fun ls hl => ?_)
    refine lv_aload_n E.1 hb dX6_isKept_79 rfl (lv_at hl 1 rfl) ?_
    refine m_gA (k := 56) E hb hS 2 rfl (by decide) fl_56 dX6_isKept_80 ?_
    refine lv_iload_n E.1 hb dX6_isKept_83 rfl (lv_at hl 0 rfl) ?_
    refine lv_aload_n E.1 hb dX6_isKept_84 rfl (lv_at hl 1 rfl) ?_
    refine m_gA (k := 56) E hb hS 2 rfl (by decide) fl_56 dX6_isKept_85 ?_
    refine lv_iconst (v := 0) E.1 hb dX6_isKept_88 rfl ?_
    obtain ⟨hg, hf⟩ := ld_s hf
    refine m_ild E hb hS hg dX6_isKept_89 ?_
    obtain ⟨σ6, hg, hw, hf⟩ := st_s hf
    refine m_ist E hb hS hg hw dX6_isKept_90 (fun H locs hS => ?_)
    refine lv_aload_n E.1 hb dX6_isKept_91 rfl (lv_at hl 1 rfl) ?_
    refine m_gA (k := 56) E hb hS 2 rfl (by decide) fl_56 dX6_isKept_92 ?_
    refine lv_iload_n E.1 hb dX6_isKept_95 rfl (lv_at hl 0 rfl) ?_
    refine lv_iconst (v := 1) E.1 hb dX6_isKept_96 rfl ?_
    refine lv_iadd E.1 hb dX6_isKept_97 ?_
    refine lv_iload_n E.1 hb dX6_isKept_98 rfl (lv_at hl 2 rfl) ?_
    obtain ⟨σ7, hg, hw, hf⟩ := st_s hf
    refine m_ist E hb hS hg hw dX6_isKept_99 (fun H locs hS => ?_)
    refine lv_aload_n E.1 hb dX6_isKept_100 rfl (lv_at hl 1 rfl) ?_
    refine m_gA (k := 56) E hb hS 2 rfl (by decide) fl_56 dX6_isKept_101 ?_
    refine lv_iload_n E.1 hb dX6_isKept_104 rfl (lv_at hl 0 rfl) ?_
    refine lv_iconst (v := 2) E.1 hb dX6_isKept_105 rfl ?_
    refine lv_iadd E.1 hb dX6_isKept_106 ?_
    refine lv_iload_n E.1 hb dX6_isKept_107 rfl (lv_at hl 3 rfl) ?_
    obtain ⟨σ8, hg, hw, hf⟩ := st_s hf
    refine m_ist E hb hS hg hw dX6_isKept_108 (fun H locs hS => ?_)
    exact m_vr E hb hr hlk hS hf dX6_isKept_109
  have hL23 : ∀ (n : Nat) (σ : mSt) (x1 : Int32) (x2 : Int32) (x3 : Int32), rn4 (M_isKept_b23 N) n σ x1 x2 x3 = some ((), σ') → ∀ (H : Heap) (locs : List Loc), mS dC dI ac o ad s.heap σ H locs → ∀ (ls : Array Slot), lv_has ls 4 [(0, .ref o), (1, .int x1), (2, .int x2), (3, .int x3)] → W p l e rM_isKept s m args below meth c H locs 0 0 (MQ below (mQv dC dI ac o ad σ') args s 0 0 (mF o ad)) (F0 m 23 ls []) := by
    intro  n
    induction n with
    | zero =>
      intro σ x1 x2 x3 hf
      cases hf
    | succ n ih =>
      intro σ x1 x2 x3 hf H locs hS ls hl
      have hf : M_isKept_b23 N (rn4 (M_isKept_b23 N) n) σ x1 x2 x3 = some ((), σ') := hf
      have hk23 := ih
      generalize rn4 (M_isKept_b23 N) n = k23 at hf hk23
      unfold M_isKept_b23 at hf
      refine lv_iload_n E.1 hb dX6_isKept_23 rfl (lv_at hl 3 rfl) ?_
      refine lv_sipush (v := 157) E.1 hb dX6_isKept_24 rfl ?_
      refine lv_icmp_ge (tgt := 50) E.1 hb dX6_isKept_27 (by decide) (fun hc => ?_) (fun hc => ?_)
      · have hf := it_s hc hf
        refine lv_goto (tgt := 64) E.1 hb dX6_isKept_50 (by decide) ?_
        exact hB64 σ x1 x2 hf _ _ hS _ (lv_sub hl [0, 1, 2] rfl)
      · have hf := if_s hc hf
        refine lv_aload_n E.1 hb dX6_isKept_30 rfl (lv_at hl 0 rfl) ?_
        refine m_gA (k := 56) E hb hS 2 rfl (by decide) fl_56 dX6_isKept_31 ?_
        refine lv_iload_n E.1 hb dX6_isKept_34 rfl (lv_at hl 3 rfl) ?_
        refine lv_aload_n E.1 hb dX6_isKept_35 rfl (lv_at hl 0 rfl) ?_
        refine m_gA (k := 56) E hb hS 2 rfl (by decide) fl_56 dX6_isKept_36 ?_
        refine lv_iload_n E.1 hb dX6_isKept_39 rfl (lv_at hl 3 rfl) ?_
        refine lv_iconst (v := 3) E.1 hb dX6_isKept_40 rfl ?_
        refine lv_iadd E.1 hb dX6_isKept_41 ?_
        obtain ⟨hg, hf⟩ := ld_s hf
        refine m_ild E hb hS hg dX6_isKept_42 ?_
        obtain ⟨σ10, hg, hw, hf⟩ := st_s hf
        refine m_ist E hb hS hg hw dX6_isKept_43 (fun H locs hS => ?_)
        refine lv_iinc (v := (x3 + 1)) (lv' := [(3, .int (x3 + 1)), (0, .ref o), (1, .int x1), (2, .int x2)]) E.1 hb dX6_isKept_44 hl (k := 3) rfl rfl (by decide) rfl (fun ls hl => ?_)
        refine lv_goto (tgt := 23) E.1 hb dX6_isKept_47 (by decide) ?_
        exact hk23 σ10 x1 x2 (x3 + 1) hf _ _ hS _ (lv_sub hl [1, 2, 3, 0] rfl)
  unfold M_isKept at hf
  refine lv_aload_n E.1 hb dX6_isKept_0 rfl (lv_at hl 0 rfl) ?_
  refine m_gZ (k := 61) E hb hS rfl fl_61 dX6_isKept_1 ?_
  refine lv_if_eq (tgt := 8) E.1 hb dX6_isKept_4 (by decide) (fun hc => ?_) (fun hc => ?_)
  · have hf := it_s hc hf
    refine lv_aload_n E.1 hb dX6_isKept_8 rfl (lv_at hl 0 rfl) ?_
    refine m_gA (k := 56) E hb hS 2 rfl (by decide) fl_56 dX6_isKept_9 ?_
    refine lv_bipush (v := 39) E.1 hb dX6_isKept_12 rfl ?_
    obtain ⟨hg, hf⟩ := ld_s hf
    refine m_ild E hb hS hg dX6_isKept_14 ?_
    refine lv_bipush (v := 40) E.1 hb dX6_isKept_15 rfl ?_
    refine lv_icmp_ne (tgt := 53) E.1 hb dX6_isKept_17 (by decide) (fun hc => ?_) (fun hc => ?_)
    · have hf := if_s hc hf
      refine lv_aload_n E.1 hb dX6_isKept_53 rfl (lv_at hl 0 rfl) ?_
      refine m_gA (k := 56) E hb hS 2 rfl (by decide) fl_56 dX6_isKept_54 ?_
      refine lv_bipush (v := 39) E.1 hb dX6_isKept_57 rfl ?_
      refine lv_dup2_11 E.1 hb dX6_isKept_59 rfl rfl ?_
      obtain ⟨hg, hf⟩ := ld_s hf
      refine m_ild E hb hS hg dX6_isKept_60 ?_
      refine lv_iconst (v := 1) E.1 hb dX6_isKept_61 rfl ?_
      refine lv_iadd E.1 hb dX6_isKept_62 ?_
      obtain ⟨σ3, hg, hw, hf⟩ := st_s hf
      refine m_ist E hb hS hg hw dX6_isKept_63 (fun H locs hS => ?_)
      exact hB64 σ3 x1 x2 hf _ _ hS _ (lv_sub hl [0, 1, 2] rfl)
    · have hf := it_s hc hf
      refine lv_bipush (v := 40) E.1 hb dX6_isKept_20 rfl ?_
      refine lv_istore_n (lv' := [(3, .int 40), (0, .ref o), (1, .int x1), (2, .int x2)]) E.1 hb dX6_isKept_22 rfl hl (by decide) rfl (fun ls hl => ?_)
      exact hL23 N σ x1 x2 40 hf _ _ hS _ (lv_sub hl [1, 2, 3, 0] rfl)
  · have hf := if_s hc hf
    exact m_vr E hb hr hlk hS hf dX6_isKept_7
/-! pays(IIJ)V: RW -/
noncomputable def M_pays_b21 (σ : mSt) (x1 : Int32) (x2 : Int32) (y0 : Int64) : Option (Unit × mSt) :=
  bo (M_purseOf σ x1) fun r2 => bd (M_purseIs σ x1 ((Int32.toInt64 r2) - y0)) fun _ σ3 => bo (M_purseOf σ3 x2) fun r4 => bd (M_purseIs σ3 x2 ((Int32.toInt64 r4) + y0)) fun _ σ5 => some ((), σ5)
noncomputable def M_pays (σ : mSt) (x1 : Int32) (x2 : Int32) (x3 : Int64) : Option (Unit × mSt) :=
  bo (M_purseOf σ x1) fun r1 => if x3 ≤ (Int32.toInt64 r1) then (M_pays_b21 σ x1 x2 x3) else (bo (M_purseOf σ x1) fun r6 => M_pays_b21 σ x1 x2 (Int32.toInt64 r6))
theorem gw_pays : GoodIn lw_all (wsV RX6 464 RX6 yX6_pays (ws_ yX6_pays cX6_pays 7 none)) := lw_V q2355 q2357 qs128 q164 q2358
theorem gn_pays : yX6_pays.cls = RX6 ∧ yX6_pays.cls ≠ "java/lang/invoke/MethodHandle" ∧ yX6_pays.cls ≠ "java/lang/invoke/VarHandle" ∧ (parseMethodDescriptor yX6_pays.desc).map (fun d => d.parameters.length) = some 3 := by decide +kernel
abbrev rM_pays : Room := { frames := 1, cells := 0, slots := 0, locals := 23 }
set_option maxHeartbeats 4000000 in
theorem cmf_pays {l : Launch} {dC : Nat → ClassId} {dI : Nat → Nat → Nat} {ac : Nat → ClassId} {o : Nat} {ad : Nat → Nat} {σ : mSt} {x1 : Int32} {x2 : Int32} {x3 : Int64} {σ' : mSt} (hf : M_pays σ x1 x2 x3 = some ((), σ')) : Met l yX6_pays (ws_ yX6_pays cX6_pays 7 none) { frames := 1, cells := 0, slots := 0, locals := 23 } (va_Pc [.ref o, .int x1, .int x2, .long x3] (mPre dC dI ac o ad σ)) (mQv dC dI ac o ad σ') 0 0 (mF o ad) := by
  refine m_of (by decide) rfl (Nat.le_of_ble_eq_true rfl) ?_
  intro p e s m args below meth c E hb hr hlk hml hS ls hl
  have hl : lv_has ls 7 [(0, .ref o), (1, .int x1), (2, .int x2), (3, .long x3)] := hl
  have hB21 : ∀ (σ : mSt) (x1 : Int32) (x2 : Int32) (y0 : Int64), M_pays_b21 σ x1 x2 y0 = some ((), σ') → ∀ (H : Heap) (locs : List Loc), mS dC dI ac o ad s.heap σ H locs → ∀ (ls : Array Slot), lv_has ls 7 [(0, .ref o), (1, .int x1), (2, .int x2)] → W p l e rM_pays s m args below meth c H locs 0 0 (MQ below (mQv dC dI ac o ad σ') args s 0 0 (mF o ad)) (F0 m 21 ls [.long y0]) := by
    intro σ x1 x2 y0 hf H locs hS ls hl
    unfold M_pays_b21 at hf
    refine lv_lstore (lv' := [(5, .long y0), (0, .ref o), (1, .int x1), (2, .int x2)]) E.1 hb dX6_pays_21 hl (by decide) rfl (fun ls hl => ?_)
    refine lv_aload_n E.1 hb dX6_pays_23 rfl (lv_at hl 1 rfl) ?_
    refine lv_iload_n E.1 hb dX6_pays_24 rfl (lv_at hl 2 rfl) ?_
    refine lv_aload_n E.1 hb dX6_pays_25 rfl (lv_at hl 1 rfl) ?_
    refine lv_iload_n E.1 hb dX6_pays_26 rfl (lv_at hl 2 rfl) ?_
    obtain ⟨r2, h1, hf⟩ := bo_s hf
    refine m_cVi E hb hml hl.1 hS (cmf_purseOf h1) gw_purseOf gn_purseOf rfl rfl (Nat.le_of_ble_eq_true rfl) ⟨Nat.le_of_ble_eq_true rfl, Nat.le_of_ble_eq_true rfl⟩ ⟨Nat.le_refl 0, Nat.le_refl 0⟩ dX6_pays_27 (fun H locs hS => ?_)
    refine lv_i2l E.1 hb dX6_pays_30 rfl ?_
    refine lv_lload E.1 hb dX6_pays_31 (lv_at hl 0 rfl) ?_
    refine lv_lsub E.1 hb dX6_pays_33 ?_
    obtain ⟨_, σ3, h1, hf⟩ := bd_s hf
    refine m_cVv E hb hml hl.1 hS (cmf_purseIs h1) gw_purseIs gn_purseIs rfl rfl (Nat.le_of_ble_eq_true rfl) ⟨Nat.le_of_ble_eq_true rfl, Nat.le_of_ble_eq_true rfl⟩ ⟨Nat.le_refl 0, Nat.le_refl 0⟩ dX6_pays_34 (fun H locs hS => ?_)
    refine lv_aload_n E.1 hb dX6_pays_37 rfl (lv_at hl 1 rfl) ?_
    refine lv_iload_n E.1 hb dX6_pays_38 rfl (lv_at hl 3 rfl) ?_
    refine lv_aload_n E.1 hb dX6_pays_39 rfl (lv_at hl 1 rfl) ?_
    refine lv_iload_n E.1 hb dX6_pays_40 rfl (lv_at hl 3 rfl) ?_
    obtain ⟨r4, h1, hf⟩ := bo_s hf
    refine m_cVi E hb hml hl.1 hS (cmf_purseOf h1) gw_purseOf gn_purseOf rfl rfl (Nat.le_of_ble_eq_true rfl) ⟨Nat.le_of_ble_eq_true rfl, Nat.le_of_ble_eq_true rfl⟩ ⟨Nat.le_refl 0, Nat.le_refl 0⟩ dX6_pays_41 (fun H locs hS => ?_)
    refine lv_i2l E.1 hb dX6_pays_44 rfl ?_
    refine lv_lload E.1 hb dX6_pays_45 (lv_at hl 0 rfl) ?_
    refine lv_ladd E.1 hb dX6_pays_47 ?_
    obtain ⟨_, σ5, h1, hf⟩ := bd_s hf
    refine m_cVv E hb hml hl.1 hS (cmf_purseIs h1) gw_purseIs gn_purseIs rfl rfl (Nat.le_of_ble_eq_true rfl) ⟨Nat.le_of_ble_eq_true rfl, Nat.le_of_ble_eq_true rfl⟩ ⟨Nat.le_refl 0, Nat.le_refl 0⟩ dX6_pays_48 (fun H locs hS => ?_)
    exact m_vr E hb hr hlk hS hf dX6_pays_51
  unfold M_pays at hf
  refine lv_lload_n E.1 hb dX6_pays_0 rfl (lv_at hl 3 rfl) ?_
  refine lv_aload_n E.1 hb dX6_pays_1 rfl (lv_at hl 0 rfl) ?_
  refine lv_iload_n E.1 hb dX6_pays_2 rfl (lv_at hl 1 rfl) ?_
  obtain ⟨r1, h1, hf⟩ := bo_s hf
  refine m_cVi E hb hml hl.1 hS (cmf_purseOf h1) gw_purseOf gn_purseOf rfl rfl (Nat.le_of_ble_eq_true rfl) ⟨Nat.le_of_ble_eq_true rfl, Nat.le_of_ble_eq_true rfl⟩ ⟨Nat.le_refl 0, Nat.le_refl 0⟩ dX6_pays_3 (fun H locs hS => ?_)
  refine lv_i2l E.1 hb dX6_pays_6 rfl ?_
  refine lv_lc_le (tgt := 20) E.1 hb dX6_pays_7 dX6_pays_8 (by decide) (fun hc => ?_) (fun hc => ?_)
  · have hf := it_s hc hf
    refine lv_lload_n E.1 hb dX6_pays_20 rfl (lv_at hl 3 rfl) ?_
    exact hB21 σ x1 x2 x3 hf _ _ hS _ (lv_sub hl [0, 1, 2] rfl)
  · have hf := if_s hc hf
    refine lv_aload_n E.1 hb dX6_pays_11 rfl (lv_at hl 0 rfl) ?_
    refine lv_iload_n E.1 hb dX6_pays_12 rfl (lv_at hl 1 rfl) ?_
    obtain ⟨r6, h1, hf⟩ := bo_s hf
    refine m_cVi E hb hml hl.1 hS (cmf_purseOf h1) gw_purseOf gn_purseOf rfl rfl (Nat.le_of_ble_eq_true rfl) ⟨Nat.le_of_ble_eq_true rfl, Nat.le_of_ble_eq_true rfl⟩ ⟨Nat.le_refl 0, Nat.le_refl 0⟩ dX6_pays_13 (fun H locs hS => ?_)
    refine lv_i2l E.1 hb dX6_pays_16 rfl ?_
    refine lv_goto (tgt := 21) E.1 hb dX6_pays_17 (by decide) ?_
    exact hB21 σ x1 x2 (Int32.toInt64 r6) hf _ _ hS _ (lv_sub hl [0, 1, 2] rfl)
/-! meet(II)V: RW -/
noncomputable def M_meet_b60 (N : Nat) (σ : mSt) (x1 : Int32) (x2 : Int32) (y0 : Int64) : Option (Unit × mSt) :=
  if 0 ≤ y0 then (bd (M_pays σ x1 x2 y0) fun _ σ10 => some ((), σ10)) else (bd (M_pays σ x2 x1 (-y0)) fun _ σ11 => some ((), σ11))
noncomputable def M_meet (N : Nat) (σ : mSt) (x1 : Int32) (x2 : Int32) : Option (Unit × mSt) :=
  lt2 (mUI σ 62 0 ((σ.1 62 0) + 1)) fun σ1 => bd (M_isMet σ1 x1) fun _ σ2 => bd (M_isMet σ2 x2) fun _ σ3 => bd (M_isKept N σ3 x1 x2) fun _ σ4 => bo (ld 2 σ4 46 (8 + x2)) fun v5 => lt2 (mUI σ4 60 0 v5) fun σ6 => bo (ld 2 σ6 49 6) fun v7 => if v7 = (-1) then (M_meet_b60 N σ6 x1 x2 1) else (bd (M_codesTell N σ6 2 x1) fun r8 σ9 => M_meet_b60 N σ9 x1 x2 r8)
theorem gw_meet : GoodIn lw_all (wsV RX6 474 RX6 yX6_meet (ws_ yX6_meet cX6_meet 5 none)) := lw_V q2343 q2345 qs125 q164 q2346
theorem gn_meet : yX6_meet.cls = RX6 ∧ yX6_meet.cls ≠ "java/lang/invoke/MethodHandle" ∧ yX6_meet.cls ≠ "java/lang/invoke/VarHandle" ∧ (parseMethodDescriptor yX6_meet.desc).map (fun d => d.parameters.length) = some 2 := by decide +kernel
abbrev rM_meet : Room := { frames := 3, cells := 0, slots := 0, locals := 74 }
set_option maxHeartbeats 4000000 in
theorem cmf_meet {l : Launch} {dC : Nat → ClassId} {dI : Nat → Nat → Nat} {ac : Nat → ClassId} {o : Nat} {ad : Nat → Nat} {N : Nat} {σ : mSt} {x1 : Int32} {x2 : Int32} {σ' : mSt} (hf : M_meet N σ x1 x2 = some ((), σ')) : Met l yX6_meet (ws_ yX6_meet cX6_meet 5 none) { frames := 3, cells := 0, slots := 0, locals := 74 } (va_Pc [.ref o, .int x1, .int x2] (mPre dC dI ac o ad σ)) (mQv dC dI ac o ad σ') 0 0 (mF o ad) := by
  refine m_of (by decide) rfl (Nat.le_of_ble_eq_true rfl) ?_
  intro p e s m args below meth c E hb hr hlk hml hS ls hl
  have hl : lv_has ls 5 [(0, .ref o), (1, .int x1), (2, .int x2)] := hl
  have hB60 : ∀ (σ : mSt) (x1 : Int32) (x2 : Int32) (y0 : Int64), M_meet_b60 N σ x1 x2 y0 = some ((), σ') → ∀ (H : Heap) (locs : List Loc), mS dC dI ac o ad s.heap σ H locs → ∀ (ls : Array Slot), lv_has ls 5 [(0, .ref o), (1, .int x1), (2, .int x2)] → W p l e rM_meet s m args below meth c H locs 0 0 (MQ below (mQv dC dI ac o ad σ') args s 0 0 (mF o ad)) (F0 m 60 ls [.long y0]) := by
    intro σ x1 x2 y0 hf H locs hS ls hl
    unfold M_meet_b60 at hf
    refine lv_lstore_n (lv' := [(3, .long y0), (0, .ref o), (1, .int x1), (2, .int x2)]) E.1 hb dX6_meet_60 rfl hl (by decide) rfl (fun ls hl => ?_)
    refine lv_lload_n E.1 hb dX6_meet_61 rfl (lv_at hl 0 rfl) ?_
    refine lv_lconst (v := 0) E.1 hb dX6_meet_62 rfl ?_
    refine lv_lc_ge (tgt := 78) E.1 hb dX6_meet_63 dX6_meet_64 (by decide) (fun hc => ?_) (fun hc => ?_)
    · have hf := it_s hc hf
      refine lv_aload_n E.1 hb dX6_meet_78 rfl (lv_at hl 1 rfl) ?_
      refine lv_iload_n E.1 hb dX6_meet_79 rfl (lv_at hl 2 rfl) ?_
      refine lv_iload_n E.1 hb dX6_meet_80 rfl (lv_at hl 3 rfl) ?_
      refine lv_lload_n E.1 hb dX6_meet_81 rfl (lv_at hl 0 rfl) ?_
      obtain ⟨_, σ10, h1, hf⟩ := bd_s hf
      refine m_cVv E hb hml hl.1 hS (cmf_pays h1) gw_pays gn_pays rfl rfl (Nat.le_of_ble_eq_true rfl) ⟨Nat.le_of_ble_eq_true rfl, Nat.le_of_ble_eq_true rfl⟩ ⟨Nat.le_refl 0, Nat.le_refl 0⟩ dX6_meet_82 (fun H locs hS => ?_)
      exact m_vr E hb hr hlk hS hf dX6_meet_85
    · have hf := if_s hc hf
      refine lv_aload_n E.1 hb dX6_meet_67 rfl (lv_at hl 1 rfl) ?_
      refine lv_iload_n E.1 hb dX6_meet_68 rfl (lv_at hl 3 rfl) ?_
      refine lv_iload_n E.1 hb dX6_meet_69 rfl (lv_at hl 2 rfl) ?_
      refine lv_lload_n E.1 hb dX6_meet_70 rfl (lv_at hl 0 rfl) ?_
      refine lv_lneg E.1 hb dX6_meet_71 ?_
      obtain ⟨_, σ11, h1, hf⟩ := bd_s hf
      refine m_cVv E hb hml hl.1 hS (cmf_pays h1) gw_pays gn_pays rfl rfl (Nat.le_of_ble_eq_true rfl) ⟨Nat.le_of_ble_eq_true rfl, Nat.le_of_ble_eq_true rfl⟩ ⟨Nat.le_refl 0, Nat.le_refl 0⟩ dX6_meet_72 (fun H locs hS => ?_)
      refine lv_goto (tgt := 85) E.1 hb dX6_meet_75 (by decide) ?_
      exact m_vr E hb hr hlk hS hf dX6_meet_85
  unfold M_meet at hf
  refine lv_aload_n E.1 hb dX6_meet_0 rfl (lv_at hl 0 rfl) ?_
  refine lv_dup E.1 hb dX6_meet_1 rfl ?_
  refine m_gI (k := 62) E hb hS rfl fl_62 dX6_meet_2 ?_
  refine lv_iconst (v := 1) E.1 hb dX6_meet_5 rfl ?_
  refine lv_iadd E.1 hb dX6_meet_6 ?_
  obtain ⟨σ1, hw, hf⟩ := lt2_s hf
  refine m_pI (k := 62) E hb hS rfl rfl pf_62 fl_62 hw dX6_meet_7 (fun H locs hS => ?_)
  refine lv_aload_n E.1 hb dX6_meet_10 rfl (lv_at hl 0 rfl) ?_
  refine lv_iload_n E.1 hb dX6_meet_11 rfl (lv_at hl 1 rfl) ?_
  obtain ⟨_, σ2, h1, hf⟩ := bd_s hf
  refine m_cVv E hb hml hl.1 hS (cmf_isMet h1) gw_isMet gn_isMet rfl rfl (Nat.le_of_ble_eq_true rfl) ⟨Nat.le_of_ble_eq_true rfl, Nat.le_of_ble_eq_true rfl⟩ ⟨Nat.le_refl 0, Nat.le_refl 0⟩ dX6_meet_12 (fun H locs hS => ?_)
  refine lv_aload_n E.1 hb dX6_meet_15 rfl (lv_at hl 0 rfl) ?_
  refine lv_iload_n E.1 hb dX6_meet_16 rfl (lv_at hl 2 rfl) ?_
  obtain ⟨_, σ3, h1, hf⟩ := bd_s hf
  refine m_cVv E hb hml hl.1 hS (cmf_isMet h1) gw_isMet gn_isMet rfl rfl (Nat.le_of_ble_eq_true rfl) ⟨Nat.le_of_ble_eq_true rfl, Nat.le_of_ble_eq_true rfl⟩ ⟨Nat.le_refl 0, Nat.le_refl 0⟩ dX6_meet_17 (fun H locs hS => ?_)
  refine lv_aload_n E.1 hb dX6_meet_20 rfl (lv_at hl 0 rfl) ?_
  refine lv_iload_n E.1 hb dX6_meet_21 rfl (lv_at hl 1 rfl) ?_
  refine lv_iload_n E.1 hb dX6_meet_22 rfl (lv_at hl 2 rfl) ?_
  obtain ⟨_, σ4, h1, hf⟩ := bd_s hf
  refine m_cVv E hb hml hl.1 hS (cmf_isKept h1) gw_isKept gn_isKept rfl rfl (Nat.le_of_ble_eq_true rfl) ⟨Nat.le_of_ble_eq_true rfl, Nat.le_of_ble_eq_true rfl⟩ ⟨Nat.le_refl 0, Nat.le_refl 0⟩ dX6_meet_23 (fun H locs hS => ?_)
  refine lv_aload_n E.1 hb dX6_meet_26 rfl (lv_at hl 0 rfl) ?_
  refine lv_aload_n E.1 hb dX6_meet_27 rfl (lv_at hl 0 rfl) ?_
  refine m_gA (k := 46) E hb hS 2 rfl (by decide) fl_46 dX6_meet_28 ?_
  refine lv_bipush (v := 8) E.1 hb dX6_meet_31 rfl ?_
  refine lv_iload_n E.1 hb dX6_meet_33 rfl (lv_at hl 2 rfl) ?_
  refine lv_iadd E.1 hb dX6_meet_34 ?_
  obtain ⟨hg, hf⟩ := ld_s hf
  refine m_ild E hb hS hg dX6_meet_35 ?_
  obtain ⟨σ6, hw, hf⟩ := lt2_s hf
  refine m_pI (k := 60) E hb hS rfl rfl pf_60 fl_60 hw dX6_meet_36 (fun H locs hS => ?_)
  refine lv_aload_n E.1 hb dX6_meet_39 rfl (lv_at hl 0 rfl) ?_
  refine m_gA (k := 49) E hb hS 2 rfl (by decide) fl_49 dX6_meet_40 ?_
  refine lv_bipush (v := 6) E.1 hb dX6_meet_43 rfl ?_
  obtain ⟨hg, hf⟩ := ld_s hf
  refine m_ild E hb hS hg dX6_meet_45 ?_
  refine lv_iconst (v := (-1)) E.1 hb dX6_meet_46 rfl ?_
  refine lv_icmp_ne (tgt := 54) E.1 hb dX6_meet_47 (by decide) (fun hc => ?_) (fun hc => ?_)
  · have hf := if_s hc hf
    refine lv_aload_n E.1 hb dX6_meet_54 rfl (lv_at hl 0 rfl) ?_
    refine lv_iconst (v := 2) E.1 hb dX6_meet_55 rfl ?_
    refine lv_iload_n E.1 hb dX6_meet_56 rfl (lv_at hl 1 rfl) ?_
    obtain ⟨r8, σ9, h1, hf⟩ := bd_s hf
    refine m_cVl E hb hml hl.1 hS (cmf_codesTell h1) gw_codesTell gn_codesTell rfl rfl (Nat.le_of_ble_eq_true rfl) ⟨Nat.le_of_ble_eq_true rfl, Nat.le_of_ble_eq_true rfl⟩ ⟨Nat.le_refl 0, Nat.le_refl 0⟩ dX6_meet_57 (fun H locs hS => ?_)
    exact hB60 σ9 x1 x2 r8 hf _ _ hS _ (lv_sub hl [0, 1, 2] rfl)
  · have hf := it_s hc hf
    refine lv_lconst (v := 1) E.1 hb dX6_meet_50 rfl ?_
    refine lv_goto (tgt := 60) E.1 hb dX6_meet_51 (by decide) ?_
    exact hB60 σ6 x1 x2 1 hf _ _ hS _ (lv_sub hl [0, 1, 2] rfl)
/-! dayBy(I)V: RW -/
noncomputable def M_dayBy_b242 (N : Nat) (k150 : mSt → Int32 → Option (Unit × mSt)) (σ : mSt) (x2 : Int32) : Option (Unit × mSt) :=
  k150 σ (x2 + 1)
noncomputable def M_dayBy_b150 (N : Nat) (k150 : mSt → Int32 → Option (Unit × mSt)) (σ : mSt) (x2 : Int32) : Option (Unit × mSt) :=
  bo (M_beingMany σ) fun r6 => if r6 ≤ x2 then (bo (ld 2 σ 56 0) fun v7 => bo (stI 2 σ 56 0 (v7 + 1)) fun σ8 => some ((), σ8)) else (bo (ld 2 σ 49 7) fun v9 => if v9 = (-1) then (M_dayBy_b242 N k150 σ x2) else (bd (M_codesTell N σ 3 x2) fun r10 σ11 => if r10 = 1 then (bo (M_cellOf σ11 x2) fun r12 => bo (ld 2 σ11 40 3) fun v13 => if v13 ≤ (r12 + 1) then (M_dayBy_b242 N k150 σ11 x2) else (bo (M_leafOf σ11 x2) fun r14 => bo (M_hasGloss σ11 r14 (r12 + 1)) fun r15 => if r15 = 0 then (bo (M_leafOf σ11 x2) fun r16 => bo (M_standsOn N σ11 r16 (r12 + 1)) fun r17 => if r17 = (-1) then (bo (stI 2 σ11 56 ((7 + (4 * x2)) + 1) (r12 + 1)) fun σ18 => M_dayBy_b242 N k150 σ18 x2) else (M_dayBy_b242 N k150 σ11 x2)) else (M_dayBy_b242 N k150 σ11 x2))) else (M_dayBy_b242 N k150 σ11 x2)))
noncomputable def M_dayBy_b138 (N : Nat) (k67 : mSt → Int32 → Option (Unit × mSt)) (σ : mSt) (x2 : Int32) (y0 : Int64) (y1 : Int64) (y2 : Int32) : Option (Unit × mSt) :=
  bd (M_purseIs σ y2 (y1 + y0)) fun _ σ23 => k67 σ23 (x2 + 1)
noncomputable def M_dayBy_b100 (N : Nat) (k67 : mSt → Int32 → Option (Unit × mSt)) (σ : mSt) (x2 : Int32) (y0 : Int64) : Option (Unit × mSt) :=
  bo (M_purseOf σ x2) fun r22 => if (-99) ≤ y0 then (if y0 ≤ 99 then (M_dayBy_b138 N k67 σ x2 y0 (Int32.toInt64 r22) x2) else (M_dayBy_b138 N k67 σ x2 99 (Int32.toInt64 r22) x2)) else (M_dayBy_b138 N k67 σ x2 (-99) (Int32.toInt64 r22) x2)
noncomputable def M_dayBy_b67 (N : Nat) (k67 : mSt → Int32 → Option (Unit × mSt)) (σ : mSt) (x2 : Int32) : Option (Unit × mSt) :=
  bo (M_beingMany σ) fun r5 => if r5 ≤ x2 then (rn2 (M_dayBy_b150 N) N σ 0) else (bo (ld 2 σ 49 5) fun v19 => if v19 = (-1) then (bo (M_cellOf σ x2) fun r24 => M_dayBy_b100 N k67 σ x2 (Int32.toInt64 r24)) else (bd (M_codesTell N σ 1 x2) fun r20 σ21 => M_dayBy_b100 N k67 σ21 x2 r20))
noncomputable def M_dayBy_b53 (N : Nat) (k17 : mSt → Int32 → Int32 → Option (Unit × mSt)) (k29 : mSt → Int32 → Int32 → Int32 → Option (Unit × mSt)) (σ : mSt) (x1 : Int32) (x2 : Int32) (x3 : Int32) : Option (Unit × mSt) :=
  k29 σ x1 x2 (x3 + 1)
noncomputable def M_dayBy_b29 (N : Nat) (k17 : mSt → Int32 → Int32 → Option (Unit × mSt)) (k29 : mSt → Int32 → Int32 → Int32 → Option (Unit × mSt)) (σ : mSt) (x1 : Int32) (x2 : Int32) (x3 : Int32) : Option (Unit × mSt) :=
  bo (M_beingMany σ) fun r25 => if r25 ≤ x3 then (k17 σ x1 (x2 + 1)) else (bo (M_doMeet σ x2 x3 x1) fun r26 => if r26 = 0 then (M_dayBy_b53 N k17 k29 σ x1 x2 x3) else (bd (M_meet N σ x2 x3) fun _ σ27 => M_dayBy_b53 N k17 k29 σ27 x1 x2 x3))
noncomputable def M_dayBy_b17 (N : Nat) (k17 : mSt → Int32 → Int32 → Option (Unit × mSt)) (σ : mSt) (x1 : Int32) (x2 : Int32) : Option (Unit × mSt) :=
  bo (M_beingMany σ) fun r4 => if r4 ≤ x2 then (rn2 (M_dayBy_b67 N) N σ 0) else (rn4 (M_dayBy_b29 N k17) N σ x1 x2 (x2 + 1))
noncomputable def M_dayBy (N : Nat) (σ : mSt) (x1 : Int32) : Option (Unit × mSt) :=
  lt2 (mUI σ 59 0 x1) fun σ1 => bo (ld 2 σ1 56 0) fun v2 => lt2 (mUI σ1 58 0 v2) fun σ3 => rn3 (M_dayBy_b17 N) N σ3 x1 0
theorem gw_dayBy : GoodIn lw_all (wsV RX6 490 RX6 yX6_dayBy (ws_ yX6_dayBy cX6_dayBy 5 none)) := lw_V q2339 q2341 qs124 q164 q2342
theorem gn_dayBy : yX6_dayBy.cls = RX6 ∧ yX6_dayBy.cls ≠ "java/lang/invoke/MethodHandle" ∧ yX6_dayBy.cls ≠ "java/lang/invoke/VarHandle" ∧ (parseMethodDescriptor yX6_dayBy.desc).map (fun d => d.parameters.length) = some 1 := by decide +kernel
abbrev rM_dayBy : Room := { frames := 4, cells := 0, slots := 0, locals := 98 }
set_option maxHeartbeats 4000000 in
theorem cmf_dayBy {l : Launch} {dC : Nat → ClassId} {dI : Nat → Nat → Nat} {ac : Nat → ClassId} {o : Nat} {ad : Nat → Nat} {N : Nat} {σ : mSt} {x1 : Int32} {σ' : mSt} (hf : M_dayBy N σ x1 = some ((), σ')) : Met l yX6_dayBy (ws_ yX6_dayBy cX6_dayBy 5 none) { frames := 4, cells := 0, slots := 0, locals := 98 } (va_Pc [.ref o, .int x1] (mPre dC dI ac o ad σ)) (mQv dC dI ac o ad σ') 0 0 (mF o ad) := by
  refine m_of (by decide) rfl (Nat.le_of_ble_eq_true rfl) ?_
  intro p e s m args below meth c E hb hr hlk hml hS ls hl
  have hl : lv_has ls 5 [(0, .ref o), (1, .int x1)] := hl
  have hB242 : ∀ (k150 : mSt → Int32 → Option (Unit × mSt)) (hk150 : ∀ (σ : mSt) (x2 : Int32), k150 σ x2 = some ((), σ') → ∀ (H : Heap) (locs : List Loc), mS dC dI ac o ad s.heap σ H locs → ∀ (ls : Array Slot), lv_has ls 5 [(0, .ref o), (2, .int x2)] → W p l e rM_dayBy s m args below meth c H locs 0 0 (MQ below (mQv dC dI ac o ad σ') args s 0 0 (mF o ad)) (F0 m 150 ls [])) (σ : mSt) (x2 : Int32), M_dayBy_b242 N k150 σ x2 = some ((), σ') → ∀ (H : Heap) (locs : List Loc), mS dC dI ac o ad s.heap σ H locs → ∀ (ls : Array Slot), lv_has ls 5 [(0, .ref o), (2, .int x2)] → W p l e rM_dayBy s m args below meth c H locs 0 0 (MQ below (mQv dC dI ac o ad σ') args s 0 0 (mF o ad)) (F0 m 242 ls []) := by
    intro k150 hk150 σ x2 hf H locs hS ls hl
    unfold M_dayBy_b242 at hf
    refine lv_iinc (v := (x2 + 1)) (lv' := [(2, .int (x2 + 1)), (0, .ref o)]) E.1 hb dX6_dayBy_242 hl (k := 1) rfl rfl (by decide) rfl (fun ls hl => ?_)
    refine lv_goto (tgt := 150) E.1 hb dX6_dayBy_245 (by decide) ?_
    exact hk150 σ (x2 + 1) hf _ _ hS _ (lv_sub hl [1, 0] rfl)
  have hL150 : ∀ (n : Nat) (σ : mSt) (x2 : Int32), rn2 (M_dayBy_b150 N) n σ x2 = some ((), σ') → ∀ (H : Heap) (locs : List Loc), mS dC dI ac o ad s.heap σ H locs → ∀ (ls : Array Slot), lv_has ls 5 [(0, .ref o), (2, .int x2)] → W p l e rM_dayBy s m args below meth c H locs 0 0 (MQ below (mQv dC dI ac o ad σ') args s 0 0 (mF o ad)) (F0 m 150 ls []) := by
    intro  n
    induction n with
    | zero =>
      intro σ x2 hf
      cases hf
    | succ n ih =>
      intro σ x2 hf H locs hS ls hl
      have hf : M_dayBy_b150 N (rn2 (M_dayBy_b150 N) n) σ x2 = some ((), σ') := hf
      have hk150 := ih
      generalize rn2 (M_dayBy_b150 N) n = k150 at hf hk150
      unfold M_dayBy_b150 at hf
      refine lv_iload_n E.1 hb dX6_dayBy_150 rfl (lv_at hl 1 rfl) ?_
      refine lv_aload_n E.1 hb dX6_dayBy_151 rfl (lv_at hl 0 rfl) ?_
      obtain ⟨r6, h1, hf⟩ := bo_s hf
      refine m_cVi E hb hml hl.1 hS (cmf_beingMany h1) gw_beingMany gn_beingMany rfl rfl (Nat.le_of_ble_eq_true rfl) ⟨Nat.le_of_ble_eq_true rfl, Nat.le_of_ble_eq_true rfl⟩ ⟨Nat.le_refl 0, Nat.le_refl 0⟩ dX6_dayBy_152 (fun H locs hS => ?_)
      refine lv_icmp_ge (tgt := 248) E.1 hb dX6_dayBy_155 (by decide) (fun hc => ?_) (fun hc => ?_)
      · have hf := it_s hc hf
        refine lv_aload_n E.1 hb dX6_dayBy_248 rfl (lv_at hl 0 rfl) ?_
        refine m_gA (k := 56) E hb hS 2 rfl (by decide) fl_56 dX6_dayBy_249 ?_
        refine lv_iconst (v := 0) E.1 hb dX6_dayBy_252 rfl ?_
        refine lv_dup2_11 E.1 hb dX6_dayBy_253 rfl rfl ?_
        obtain ⟨hg, hf⟩ := ld_s hf
        refine m_ild E hb hS hg dX6_dayBy_254 ?_
        refine lv_iconst (v := 1) E.1 hb dX6_dayBy_255 rfl ?_
        refine lv_iadd E.1 hb dX6_dayBy_256 ?_
        obtain ⟨σ8, hg, hw, hf⟩ := st_s hf
        refine m_ist E hb hS hg hw dX6_dayBy_257 (fun H locs hS => ?_)
        exact m_vr E hb hr hlk hS hf dX6_dayBy_258
      · have hf := if_s hc hf
        refine lv_aload_n E.1 hb dX6_dayBy_158 rfl (lv_at hl 0 rfl) ?_
        refine m_gA (k := 49) E hb hS 2 rfl (by decide) fl_49 dX6_dayBy_159 ?_
        refine lv_bipush (v := 7) E.1 hb dX6_dayBy_162 rfl ?_
        obtain ⟨hg, hf⟩ := ld_s hf
        refine m_ild E hb hS hg dX6_dayBy_164 ?_
        refine lv_iconst (v := (-1)) E.1 hb dX6_dayBy_165 rfl ?_
        refine lv_icmp_eq (tgt := 242) E.1 hb dX6_dayBy_166 (by decide) (fun hc => ?_) (fun hc => ?_)
        · have hf := it_s hc hf
          exact hB242 k150 hk150 σ x2 hf _ _ hS _ (lv_sub hl [0, 1] rfl)
        · have hf := if_s hc hf
          refine lv_aload_n E.1 hb dX6_dayBy_169 rfl (lv_at hl 0 rfl) ?_
          refine lv_iconst (v := 3) E.1 hb dX6_dayBy_170 rfl ?_
          refine lv_iload_n E.1 hb dX6_dayBy_171 rfl (lv_at hl 1 rfl) ?_
          obtain ⟨r10, σ11, h1, hf⟩ := bd_s hf
          refine m_cVl E hb hml hl.1 hS (cmf_codesTell h1) gw_codesTell gn_codesTell rfl rfl (Nat.le_of_ble_eq_true rfl) ⟨Nat.le_of_ble_eq_true rfl, Nat.le_of_ble_eq_true rfl⟩ ⟨Nat.le_refl 0, Nat.le_refl 0⟩ dX6_dayBy_172 (fun H locs hS => ?_)
          refine lv_lconst (v := 1) E.1 hb dX6_dayBy_175 rfl ?_
          refine lv_lc_eq (tgt := 183) E.1 hb dX6_dayBy_176 dX6_dayBy_177 (by decide) (fun hc => ?_) (fun hc => ?_)
          · have hf := it_s hc hf
            refine lv_aload_n E.1 hb dX6_dayBy_183 rfl (lv_at hl 0 rfl) ?_
            refine lv_iload_n E.1 hb dX6_dayBy_184 rfl (lv_at hl 1 rfl) ?_
            obtain ⟨r12, h1, hf⟩ := bo_s hf
            refine m_cVi E hb hml hl.1 hS (cmf_cellOf h1) gw_cellOf gn_cellOf rfl rfl (Nat.le_of_ble_eq_true rfl) ⟨Nat.le_of_ble_eq_true rfl, Nat.le_of_ble_eq_true rfl⟩ ⟨Nat.le_refl 0, Nat.le_refl 0⟩ dX6_dayBy_185 (fun H locs hS => ?_)
            refine lv_iconst (v := 1) E.1 hb dX6_dayBy_188 rfl ?_
            refine lv_iadd E.1 hb dX6_dayBy_189 ?_
            refine lv_istore_n (lv' := [(3, .int (r12 + 1)), (0, .ref o), (2, .int x2)]) E.1 hb dX6_dayBy_190 rfl hl (by decide) rfl (fun ls hl => ?_)
            refine lv_iload_n E.1 hb dX6_dayBy_191 rfl (lv_at hl 0 rfl) ?_
            refine lv_aload_n E.1 hb dX6_dayBy_192 rfl (lv_at hl 1 rfl) ?_
            refine m_gA (k := 40) E hb hS 2 rfl (by decide) fl_40 dX6_dayBy_193 ?_
            refine lv_iconst (v := 3) E.1 hb dX6_dayBy_196 rfl ?_
            obtain ⟨hg, hf⟩ := ld_s hf
            refine m_ild E hb hS hg dX6_dayBy_197 ?_
            refine lv_icmp_ge (tgt := 242) E.1 hb dX6_dayBy_198 (by decide) (fun hc => ?_) (fun hc => ?_)
            · have hf := it_s hc hf
              exact hB242 k150 hk150 σ11 x2 hf _ _ hS _ (lv_sub hl [1, 2] rfl)
            · have hf := if_s hc hf
              refine lv_aload_n E.1 hb dX6_dayBy_201 rfl (lv_at hl 1 rfl) ?_
              refine lv_aload_n E.1 hb dX6_dayBy_202 rfl (lv_at hl 1 rfl) ?_
              refine lv_iload_n E.1 hb dX6_dayBy_203 rfl (lv_at hl 2 rfl) ?_
              obtain ⟨r14, h1, hf⟩ := bo_s hf
              refine m_cVi E hb hml hl.1 hS (cmf_leafOf h1) gw_leafOf gn_leafOf rfl rfl (Nat.le_of_ble_eq_true rfl) ⟨Nat.le_of_ble_eq_true rfl, Nat.le_of_ble_eq_true rfl⟩ ⟨Nat.le_refl 0, Nat.le_refl 0⟩ dX6_dayBy_204 (fun H locs hS => ?_)
              refine lv_iload_n E.1 hb dX6_dayBy_207 rfl (lv_at hl 0 rfl) ?_
              obtain ⟨r15, h1, hf⟩ := bo_s hf
              refine m_cVi E hb hml hl.1 hS (cmf_hasGloss h1) gw_hasGloss gn_hasGloss rfl rfl (Nat.le_of_ble_eq_true rfl) ⟨Nat.le_of_ble_eq_true rfl, Nat.le_of_ble_eq_true rfl⟩ ⟨Nat.le_refl 0, Nat.le_refl 0⟩ dX6_dayBy_208 (fun H locs hS => ?_)
              refine lv_if_ne (tgt := 242) E.1 hb dX6_dayBy_211 (by decide) (fun hc => ?_) (fun hc => ?_)
              · have hf := if_s hc hf
                exact hB242 k150 hk150 σ11 x2 hf _ _ hS _ (lv_sub hl [1, 2] rfl)
              · have hf := it_s hc hf
                refine lv_aload_n E.1 hb dX6_dayBy_214 rfl (lv_at hl 1 rfl) ?_
                refine lv_aload_n E.1 hb dX6_dayBy_215 rfl (lv_at hl 1 rfl) ?_
                refine lv_iload_n E.1 hb dX6_dayBy_216 rfl (lv_at hl 2 rfl) ?_
                obtain ⟨r16, h1, hf⟩ := bo_s hf
                refine m_cVi E hb hml hl.1 hS (cmf_leafOf h1) gw_leafOf gn_leafOf rfl rfl (Nat.le_of_ble_eq_true rfl) ⟨Nat.le_of_ble_eq_true rfl, Nat.le_of_ble_eq_true rfl⟩ ⟨Nat.le_refl 0, Nat.le_refl 0⟩ dX6_dayBy_217 (fun H locs hS => ?_)
                refine lv_iload_n E.1 hb dX6_dayBy_220 rfl (lv_at hl 0 rfl) ?_
                obtain ⟨r17, h1, hf⟩ := bo_s hf
                refine m_cVi E hb hml hl.1 hS (cmf_standsOn h1) gw_standsOn gn_standsOn rfl rfl (Nat.le_of_ble_eq_true rfl) ⟨Nat.le_of_ble_eq_true rfl, Nat.le_of_ble_eq_true rfl⟩ ⟨Nat.le_refl 0, Nat.le_refl 0⟩ dX6_dayBy_221 (fun H locs hS => ?_)
                refine lv_iconst (v := (-1)) E.1 hb dX6_dayBy_224 rfl ?_
                refine lv_icmp_ne (tgt := 242) E.1 hb dX6_dayBy_225 (by decide) (fun hc => ?_) (fun hc => ?_)
                · have hf := if_s hc hf
                  exact hB242 k150 hk150 σ11 x2 hf _ _ hS _ (lv_sub hl [1, 2] rfl)
                · have hf := it_s hc hf
                  refine lv_aload_n E.1 hb dX6_dayBy_228 rfl (lv_at hl 1 rfl) ?_
                  refine m_gA (k := 56) E hb hS 2 rfl (by decide) fl_56 dX6_dayBy_229 ?_
                  refine lv_bipush (v := 7) E.1 hb dX6_dayBy_232 rfl ?_
                  refine lv_iconst (v := 4) E.1 hb dX6_dayBy_234 rfl ?_
                  refine lv_iload_n E.1 hb dX6_dayBy_235 rfl (lv_at hl 2 rfl) ?_
                  refine lv_imul E.1 hb dX6_dayBy_236 ?_
                  refine lv_iadd E.1 hb dX6_dayBy_237 ?_
                  refine lv_iconst (v := 1) E.1 hb dX6_dayBy_238 rfl ?_
                  refine lv_iadd E.1 hb dX6_dayBy_239 ?_
                  refine lv_iload_n E.1 hb dX6_dayBy_240 rfl (lv_at hl 0 rfl) ?_
                  obtain ⟨σ18, hg, hw, hf⟩ := st_s hf
                  refine m_ist E hb hS hg hw dX6_dayBy_241 (fun H locs hS => ?_)
                  exact hB242 k150 hk150 σ18 x2 hf _ _ hS _ (lv_sub hl [1, 2] rfl)
          · have hf := if_s hc hf
            refine lv_goto (tgt := 242) E.1 hb dX6_dayBy_180 (by decide) ?_
            exact hB242 k150 hk150 σ11 x2 hf _ _ hS _ (lv_sub hl [0, 1] rfl)
  have hB138 : ∀ (k67 : mSt → Int32 → Option (Unit × mSt)) (hk67 : ∀ (σ : mSt) (x2 : Int32), k67 σ x2 = some ((), σ') → ∀ (H : Heap) (locs : List Loc), mS dC dI ac o ad s.heap σ H locs → ∀ (ls : Array Slot), lv_has ls 5 [(0, .ref o), (2, .int x2)] → W p l e rM_dayBy s m args below meth c H locs 0 0 (MQ below (mQv dC dI ac o ad σ') args s 0 0 (mF o ad)) (F0 m 67 ls [])) (σ : mSt) (x2 : Int32) (y0 : Int64) (y1 : Int64) (y2 : Int32), M_dayBy_b138 N k67 σ x2 y0 y1 y2 = some ((), σ') → ∀ (H : Heap) (locs : List Loc), mS dC dI ac o ad s.heap σ H locs → ∀ (ls : Array Slot), lv_has ls 5 [(0, .ref o), (2, .int x2)] → W p l e rM_dayBy s m args below meth c H locs 0 0 (MQ below (mQv dC dI ac o ad σ') args s 0 0 (mF o ad)) (F0 m 138 ls [.long y0, .long y1, .int y2, .ref o]) := by
    intro k67 hk67 σ x2 y0 y1 y2 hf H locs hS ls hl
    unfold M_dayBy_b138 at hf
    refine lv_ladd E.1 hb dX6_dayBy_138 ?_
    obtain ⟨_, σ23, h1, hf⟩ := bd_s hf
    refine m_cVv E hb hml hl.1 hS (cmf_purseIs h1) gw_purseIs gn_purseIs rfl rfl (Nat.le_of_ble_eq_true rfl) ⟨Nat.le_of_ble_eq_true rfl, Nat.le_of_ble_eq_true rfl⟩ ⟨Nat.le_refl 0, Nat.le_refl 0⟩ dX6_dayBy_139 (fun H locs hS => ?_)
    refine lv_iinc (v := (x2 + 1)) (lv' := [(2, .int (x2 + 1)), (0, .ref o)]) E.1 hb dX6_dayBy_142 hl (k := 1) rfl rfl (by decide) rfl (fun ls hl => ?_)
    refine lv_goto (tgt := 67) E.1 hb dX6_dayBy_145 (by decide) ?_
    exact hk67 σ23 (x2 + 1) hf _ _ hS _ (lv_sub hl [1, 0] rfl)
  have hB100 : ∀ (k67 : mSt → Int32 → Option (Unit × mSt)) (hk67 : ∀ (σ : mSt) (x2 : Int32), k67 σ x2 = some ((), σ') → ∀ (H : Heap) (locs : List Loc), mS dC dI ac o ad s.heap σ H locs → ∀ (ls : Array Slot), lv_has ls 5 [(0, .ref o), (2, .int x2)] → W p l e rM_dayBy s m args below meth c H locs 0 0 (MQ below (mQv dC dI ac o ad σ') args s 0 0 (mF o ad)) (F0 m 67 ls [])) (σ : mSt) (x2 : Int32) (y0 : Int64), M_dayBy_b100 N k67 σ x2 y0 = some ((), σ') → ∀ (H : Heap) (locs : List Loc), mS dC dI ac o ad s.heap σ H locs → ∀ (ls : Array Slot), lv_has ls 5 [(0, .ref o), (2, .int x2)] → W p l e rM_dayBy s m args below meth c H locs 0 0 (MQ below (mQv dC dI ac o ad σ') args s 0 0 (mF o ad)) (F0 m 100 ls [.long y0]) := by
    intro k67 hk67 σ x2 y0 hf H locs hS ls hl
    unfold M_dayBy_b100 at hf
    refine lv_lstore_n (lv' := [(3, .long y0), (0, .ref o), (2, .int x2)]) E.1 hb dX6_dayBy_100 rfl hl (by decide) rfl (fun ls hl => ?_)
    refine lv_aload_n E.1 hb dX6_dayBy_101 rfl (lv_at hl 1 rfl) ?_
    refine lv_iload_n E.1 hb dX6_dayBy_102 rfl (lv_at hl 2 rfl) ?_
    refine lv_aload_n E.1 hb dX6_dayBy_103 rfl (lv_at hl 1 rfl) ?_
    refine lv_iload_n E.1 hb dX6_dayBy_104 rfl (lv_at hl 2 rfl) ?_
    obtain ⟨r22, h1, hf⟩ := bo_s hf
    refine m_cVi E hb hml hl.1 hS (cmf_purseOf h1) gw_purseOf gn_purseOf rfl rfl (Nat.le_of_ble_eq_true rfl) ⟨Nat.le_of_ble_eq_true rfl, Nat.le_of_ble_eq_true rfl⟩ ⟨Nat.le_refl 0, Nat.le_refl 0⟩ dX6_dayBy_105 (fun H locs hS => ?_)
    refine lv_i2l E.1 hb dX6_dayBy_108 rfl ?_
    refine lv_lload_n E.1 hb dX6_dayBy_109 rfl (lv_at hl 0 rfl) ?_
    refine lv_ldc2 E.1 hb E.2.1 (E.2.2.1 _ q2364) dX6_dayBy_110 ?_
    refine lv_lc_ge (tgt := 123) E.1 hb dX6_dayBy_113 dX6_dayBy_114 (by decide) (fun hc => ?_) (fun hc => ?_)
    · have hf := it_s hc hf
      refine lv_lload_n E.1 hb dX6_dayBy_123 rfl (lv_at hl 0 rfl) ?_
      refine lv_ldc2 E.1 hb E.2.1 (E.2.2.1 _ q2365) dX6_dayBy_124 ?_
      refine lv_lc_le (tgt := 137) E.1 hb dX6_dayBy_127 dX6_dayBy_128 (by decide) (fun hc => ?_) (fun hc => ?_)
      · have hf := it_s hc hf
        refine lv_lload_n E.1 hb dX6_dayBy_137 rfl (lv_at hl 0 rfl) ?_
        exact hB138 k67 hk67 σ x2 y0 (Int32.toInt64 r22) x2 hf _ _ hS _ (lv_sub hl [1, 2] rfl)
      · have hf := if_s hc hf
        refine lv_ldc2 E.1 hb E.2.1 (E.2.2.1 _ q2365) dX6_dayBy_131 ?_
        refine lv_goto (tgt := 138) E.1 hb dX6_dayBy_134 (by decide) ?_
        exact hB138 k67 hk67 σ x2 99 (Int32.toInt64 r22) x2 hf _ _ hS _ (lv_sub hl [1, 2] rfl)
    · have hf := if_s hc hf
      refine lv_ldc2 E.1 hb E.2.1 (E.2.2.1 _ q2364) dX6_dayBy_117 ?_
      refine lv_goto (tgt := 138) E.1 hb dX6_dayBy_120 (by decide) ?_
      exact hB138 k67 hk67 σ x2 (-99) (Int32.toInt64 r22) x2 hf _ _ hS _ (lv_sub hl [1, 2] rfl)
  have hL67 : ∀ (n : Nat) (σ : mSt) (x2 : Int32), rn2 (M_dayBy_b67 N) n σ x2 = some ((), σ') → ∀ (H : Heap) (locs : List Loc), mS dC dI ac o ad s.heap σ H locs → ∀ (ls : Array Slot), lv_has ls 5 [(0, .ref o), (2, .int x2)] → W p l e rM_dayBy s m args below meth c H locs 0 0 (MQ below (mQv dC dI ac o ad σ') args s 0 0 (mF o ad)) (F0 m 67 ls []) := by
    intro  n
    induction n with
    | zero =>
      intro σ x2 hf
      cases hf
    | succ n ih =>
      intro σ x2 hf H locs hS ls hl
      have hf : M_dayBy_b67 N (rn2 (M_dayBy_b67 N) n) σ x2 = some ((), σ') := hf
      have hk67 := ih
      generalize rn2 (M_dayBy_b67 N) n = k67 at hf hk67
      unfold M_dayBy_b67 at hf
      refine lv_iload_n E.1 hb dX6_dayBy_67 rfl (lv_at hl 1 rfl) ?_
      refine lv_aload_n E.1 hb dX6_dayBy_68 rfl (lv_at hl 0 rfl) ?_
      obtain ⟨r5, h1, hf⟩ := bo_s hf
      refine m_cVi E hb hml hl.1 hS (cmf_beingMany h1) gw_beingMany gn_beingMany rfl rfl (Nat.le_of_ble_eq_true rfl) ⟨Nat.le_of_ble_eq_true rfl, Nat.le_of_ble_eq_true rfl⟩ ⟨Nat.le_refl 0, Nat.le_refl 0⟩ dX6_dayBy_69 (fun H locs hS => ?_)
      refine lv_icmp_ge (tgt := 148) E.1 hb dX6_dayBy_72 (by decide) (fun hc => ?_) (fun hc => ?_)
      · have hf := it_s hc hf
        refine lv_iconst (v := 0) E.1 hb dX6_dayBy_148 rfl ?_
        refine lv_istore_n (lv' := [(2, .int 0), (0, .ref o)]) E.1 hb dX6_dayBy_149 rfl hl (by decide) rfl (fun ls hl => ?_)
        exact hL150 N σ 0 hf _ _ hS _ (lv_sub hl [1, 0] rfl)
      · have hf := if_s hc hf
        refine lv_aload_n E.1 hb dX6_dayBy_75 rfl (lv_at hl 0 rfl) ?_
        refine m_gA (k := 49) E hb hS 2 rfl (by decide) fl_49 dX6_dayBy_76 ?_
        refine lv_iconst (v := 5) E.1 hb dX6_dayBy_79 rfl ?_
        obtain ⟨hg, hf⟩ := ld_s hf
        refine m_ild E hb hS hg dX6_dayBy_80 ?_
        refine lv_iconst (v := (-1)) E.1 hb dX6_dayBy_81 rfl ?_
        refine lv_icmp_ne (tgt := 94) E.1 hb dX6_dayBy_82 (by decide) (fun hc => ?_) (fun hc => ?_)
        · have hf := if_s hc hf
          refine lv_aload_n E.1 hb dX6_dayBy_94 rfl (lv_at hl 0 rfl) ?_
          refine lv_iconst (v := 1) E.1 hb dX6_dayBy_95 rfl ?_
          refine lv_iload_n E.1 hb dX6_dayBy_96 rfl (lv_at hl 1 rfl) ?_
          obtain ⟨r20, σ21, h1, hf⟩ := bd_s hf
          refine m_cVl E hb hml hl.1 hS (cmf_codesTell h1) gw_codesTell gn_codesTell rfl rfl (Nat.le_of_ble_eq_true rfl) ⟨Nat.le_of_ble_eq_true rfl, Nat.le_of_ble_eq_true rfl⟩ ⟨Nat.le_refl 0, Nat.le_refl 0⟩ dX6_dayBy_97 (fun H locs hS => ?_)
          exact hB100 k67 hk67 σ21 x2 r20 hf _ _ hS _ (lv_sub hl [0, 1] rfl)
        · have hf := it_s hc hf
          refine lv_aload_n E.1 hb dX6_dayBy_85 rfl (lv_at hl 0 rfl) ?_
          refine lv_iload_n E.1 hb dX6_dayBy_86 rfl (lv_at hl 1 rfl) ?_
          obtain ⟨r24, h1, hf⟩ := bo_s hf
          refine m_cVi E hb hml hl.1 hS (cmf_cellOf h1) gw_cellOf gn_cellOf rfl rfl (Nat.le_of_ble_eq_true rfl) ⟨Nat.le_of_ble_eq_true rfl, Nat.le_of_ble_eq_true rfl⟩ ⟨Nat.le_refl 0, Nat.le_refl 0⟩ dX6_dayBy_87 (fun H locs hS => ?_)
          refine lv_i2l E.1 hb dX6_dayBy_90 rfl ?_
          refine lv_goto (tgt := 100) E.1 hb dX6_dayBy_91 (by decide) ?_
          exact hB100 k67 hk67 σ x2 (Int32.toInt64 r24) hf _ _ hS _ (lv_sub hl [0, 1] rfl)
  have hB53 : ∀ (k17 : mSt → Int32 → Int32 → Option (Unit × mSt)) (hk17 : ∀ (σ : mSt) (x1 : Int32) (x2 : Int32), k17 σ x1 x2 = some ((), σ') → ∀ (H : Heap) (locs : List Loc), mS dC dI ac o ad s.heap σ H locs → ∀ (ls : Array Slot), lv_has ls 5 [(0, .ref o), (1, .int x1), (2, .int x2)] → W p l e rM_dayBy s m args below meth c H locs 0 0 (MQ below (mQv dC dI ac o ad σ') args s 0 0 (mF o ad)) (F0 m 17 ls [])) (k29 : mSt → Int32 → Int32 → Int32 → Option (Unit × mSt)) (hk29 : ∀ (σ : mSt) (x1 : Int32) (x2 : Int32) (x3 : Int32), k29 σ x1 x2 x3 = some ((), σ') → ∀ (H : Heap) (locs : List Loc), mS dC dI ac o ad s.heap σ H locs → ∀ (ls : Array Slot), lv_has ls 5 [(0, .ref o), (1, .int x1), (2, .int x2), (3, .int x3)] → W p l e rM_dayBy s m args below meth c H locs 0 0 (MQ below (mQv dC dI ac o ad σ') args s 0 0 (mF o ad)) (F0 m 29 ls [])) (σ : mSt) (x1 : Int32) (x2 : Int32) (x3 : Int32), M_dayBy_b53 N k17 k29 σ x1 x2 x3 = some ((), σ') → ∀ (H : Heap) (locs : List Loc), mS dC dI ac o ad s.heap σ H locs → ∀ (ls : Array Slot), lv_has ls 5 [(0, .ref o), (1, .int x1), (2, .int x2), (3, .int x3)] → W p l e rM_dayBy s m args below meth c H locs 0 0 (MQ below (mQv dC dI ac o ad σ') args s 0 0 (mF o ad)) (F0 m 53 ls []) := by
    intro k17 hk17 k29 hk29 σ x1 x2 x3 hf H locs hS ls hl
    unfold M_dayBy_b53 at hf
    refine lv_iinc (v := (x3 + 1)) (lv' := [(3, .int (x3 + 1)), (0, .ref o), (1, .int x1), (2, .int x2)]) E.1 hb dX6_dayBy_53 hl (k := 3) rfl rfl (by decide) rfl (fun ls hl => ?_)
    refine lv_goto (tgt := 29) E.1 hb dX6_dayBy_56 (by decide) ?_
    exact hk29 σ x1 x2 (x3 + 1) hf _ _ hS _ (lv_sub hl [1, 2, 3, 0] rfl)
  have hL29 : ∀ (k17 : mSt → Int32 → Int32 → Option (Unit × mSt)) (hk17 : ∀ (σ : mSt) (x1 : Int32) (x2 : Int32), k17 σ x1 x2 = some ((), σ') → ∀ (H : Heap) (locs : List Loc), mS dC dI ac o ad s.heap σ H locs → ∀ (ls : Array Slot), lv_has ls 5 [(0, .ref o), (1, .int x1), (2, .int x2)] → W p l e rM_dayBy s m args below meth c H locs 0 0 (MQ below (mQv dC dI ac o ad σ') args s 0 0 (mF o ad)) (F0 m 17 ls [])) (n : Nat) (σ : mSt) (x1 : Int32) (x2 : Int32) (x3 : Int32), rn4 (M_dayBy_b29 N k17) n σ x1 x2 x3 = some ((), σ') → ∀ (H : Heap) (locs : List Loc), mS dC dI ac o ad s.heap σ H locs → ∀ (ls : Array Slot), lv_has ls 5 [(0, .ref o), (1, .int x1), (2, .int x2), (3, .int x3)] → W p l e rM_dayBy s m args below meth c H locs 0 0 (MQ below (mQv dC dI ac o ad σ') args s 0 0 (mF o ad)) (F0 m 29 ls []) := by
    intro k17 hk17 n
    induction n with
    | zero =>
      intro σ x1 x2 x3 hf
      cases hf
    | succ n ih =>
      intro σ x1 x2 x3 hf H locs hS ls hl
      have hf : M_dayBy_b29 N k17 (rn4 (M_dayBy_b29 N k17) n) σ x1 x2 x3 = some ((), σ') := hf
      have hk29 := ih
      generalize rn4 (M_dayBy_b29 N k17) n = k29 at hf hk29
      unfold M_dayBy_b29 at hf
      refine lv_iload_n E.1 hb dX6_dayBy_29 rfl (lv_at hl 3 rfl) ?_
      refine lv_aload_n E.1 hb dX6_dayBy_30 rfl (lv_at hl 0 rfl) ?_
      obtain ⟨r25, h1, hf⟩ := bo_s hf
      refine m_cVi E hb hml hl.1 hS (cmf_beingMany h1) gw_beingMany gn_beingMany rfl rfl (Nat.le_of_ble_eq_true rfl) ⟨Nat.le_of_ble_eq_true rfl, Nat.le_of_ble_eq_true rfl⟩ ⟨Nat.le_refl 0, Nat.le_refl 0⟩ dX6_dayBy_31 (fun H locs hS => ?_)
      refine lv_icmp_ge (tgt := 59) E.1 hb dX6_dayBy_34 (by decide) (fun hc => ?_) (fun hc => ?_)
      · have hf := it_s hc hf
        refine lv_iinc (v := (x2 + 1)) (lv' := [(2, .int (x2 + 1)), (0, .ref o), (1, .int x1), (3, .int x3)]) E.1 hb dX6_dayBy_59 hl (k := 2) rfl rfl (by decide) rfl (fun ls hl => ?_)
        refine lv_goto (tgt := 17) E.1 hb dX6_dayBy_62 (by decide) ?_
        exact hk17 σ x1 (x2 + 1) hf _ _ hS _ (lv_sub hl [1, 2, 0] rfl)
      · have hf := if_s hc hf
        refine lv_aload_n E.1 hb dX6_dayBy_37 rfl (lv_at hl 0 rfl) ?_
        refine lv_iload_n E.1 hb dX6_dayBy_38 rfl (lv_at hl 2 rfl) ?_
        refine lv_iload_n E.1 hb dX6_dayBy_39 rfl (lv_at hl 3 rfl) ?_
        refine lv_iload_n E.1 hb dX6_dayBy_40 rfl (lv_at hl 1 rfl) ?_
        obtain ⟨r26, h1, hf⟩ := bo_s hf
        refine m_cVi E hb hml hl.1 hS (cmf_doMeet h1) gw_doMeet gn_doMeet rfl rfl (Nat.le_of_ble_eq_true rfl) ⟨Nat.le_of_ble_eq_true rfl, Nat.le_of_ble_eq_true rfl⟩ ⟨Nat.le_refl 0, Nat.le_refl 0⟩ dX6_dayBy_41 (fun H locs hS => ?_)
        refine lv_if_eq (tgt := 53) E.1 hb dX6_dayBy_44 (by decide) (fun hc => ?_) (fun hc => ?_)
        · have hf := it_s hc hf
          exact hB53 k17 hk17 k29 hk29 σ x1 x2 x3 hf _ _ hS _ (lv_sub hl [0, 1, 2, 3] rfl)
        · have hf := if_s hc hf
          refine lv_aload_n E.1 hb dX6_dayBy_47 rfl (lv_at hl 0 rfl) ?_
          refine lv_iload_n E.1 hb dX6_dayBy_48 rfl (lv_at hl 2 rfl) ?_
          refine lv_iload_n E.1 hb dX6_dayBy_49 rfl (lv_at hl 3 rfl) ?_
          obtain ⟨_, σ27, h1, hf⟩ := bd_s hf
          refine m_cVv E hb hml hl.1 hS (cmf_meet h1) gw_meet gn_meet rfl rfl (Nat.le_of_ble_eq_true rfl) ⟨Nat.le_of_ble_eq_true rfl, Nat.le_of_ble_eq_true rfl⟩ ⟨Nat.le_refl 0, Nat.le_refl 0⟩ dX6_dayBy_50 (fun H locs hS => ?_)
          exact hB53 k17 hk17 k29 hk29 σ27 x1 x2 x3 hf _ _ hS _ (lv_sub hl [0, 1, 2, 3] rfl)
  have hL17 : ∀ (n : Nat) (σ : mSt) (x1 : Int32) (x2 : Int32), rn3 (M_dayBy_b17 N) n σ x1 x2 = some ((), σ') → ∀ (H : Heap) (locs : List Loc), mS dC dI ac o ad s.heap σ H locs → ∀ (ls : Array Slot), lv_has ls 5 [(0, .ref o), (1, .int x1), (2, .int x2)] → W p l e rM_dayBy s m args below meth c H locs 0 0 (MQ below (mQv dC dI ac o ad σ') args s 0 0 (mF o ad)) (F0 m 17 ls []) := by
    intro  n
    induction n with
    | zero =>
      intro σ x1 x2 hf
      cases hf
    | succ n ih =>
      intro σ x1 x2 hf H locs hS ls hl
      have hf : M_dayBy_b17 N (rn3 (M_dayBy_b17 N) n) σ x1 x2 = some ((), σ') := hf
      have hk17 := ih
      generalize rn3 (M_dayBy_b17 N) n = k17 at hf hk17
      unfold M_dayBy_b17 at hf
      refine lv_iload_n E.1 hb dX6_dayBy_17 rfl (lv_at hl 2 rfl) ?_
      refine lv_aload_n E.1 hb dX6_dayBy_18 rfl (lv_at hl 0 rfl) ?_
      obtain ⟨r4, h1, hf⟩ := bo_s hf
      refine m_cVi E hb hml hl.1 hS (cmf_beingMany h1) gw_beingMany gn_beingMany rfl rfl (Nat.le_of_ble_eq_true rfl) ⟨Nat.le_of_ble_eq_true rfl, Nat.le_of_ble_eq_true rfl⟩ ⟨Nat.le_refl 0, Nat.le_refl 0⟩ dX6_dayBy_19 (fun H locs hS => ?_)
      refine lv_icmp_ge (tgt := 65) E.1 hb dX6_dayBy_22 (by decide) (fun hc => ?_) (fun hc => ?_)
      · have hf := it_s hc hf
        refine lv_iconst (v := 0) E.1 hb dX6_dayBy_65 rfl ?_
        refine lv_istore_n (lv' := [(2, .int 0), (0, .ref o), (1, .int x1)]) E.1 hb dX6_dayBy_66 rfl hl (by decide) rfl (fun ls hl => ?_)
        exact hL67 N σ 0 hf _ _ hS _ (lv_sub hl [1, 0] rfl)
      · have hf := if_s hc hf
        refine lv_iload_n E.1 hb dX6_dayBy_25 rfl (lv_at hl 2 rfl) ?_
        refine lv_iconst (v := 1) E.1 hb dX6_dayBy_26 rfl ?_
        refine lv_iadd E.1 hb dX6_dayBy_27 ?_
        refine lv_istore_n (lv' := [(3, .int (x2 + 1)), (0, .ref o), (1, .int x1), (2, .int x2)]) E.1 hb dX6_dayBy_28 rfl hl (by decide) rfl (fun ls hl => ?_)
        exact hL29 k17 hk17 N σ x1 x2 (x2 + 1) hf _ _ hS _ (lv_sub hl [1, 2, 3, 0] rfl)
  unfold M_dayBy at hf
  refine lv_aload_n E.1 hb dX6_dayBy_0 rfl (lv_at hl 0 rfl) ?_
  refine lv_iload_n E.1 hb dX6_dayBy_1 rfl (lv_at hl 1 rfl) ?_
  obtain ⟨σ1, hw, hf⟩ := lt2_s hf
  refine m_pI (k := 59) E hb hS rfl rfl pf_59 fl_59 hw dX6_dayBy_2 (fun H locs hS => ?_)
  refine lv_aload_n E.1 hb dX6_dayBy_5 rfl (lv_at hl 0 rfl) ?_
  refine lv_aload_n E.1 hb dX6_dayBy_6 rfl (lv_at hl 0 rfl) ?_
  refine m_gA (k := 56) E hb hS 2 rfl (by decide) fl_56 dX6_dayBy_7 ?_
  refine lv_iconst (v := 0) E.1 hb dX6_dayBy_10 rfl ?_
  obtain ⟨hg, hf⟩ := ld_s hf
  refine m_ild E hb hS hg dX6_dayBy_11 ?_
  obtain ⟨σ3, hw, hf⟩ := lt2_s hf
  refine m_pI (k := 58) E hb hS rfl rfl pf_58 fl_58 hw dX6_dayBy_12 (fun H locs hS => ?_)
  refine lv_iconst (v := 0) E.1 hb dX6_dayBy_15 rfl ?_
  refine lv_istore_n (lv' := [(2, .int 0), (0, .ref o), (1, .int x1)]) E.1 hb dX6_dayBy_16 rfl hl (by decide) rfl (fun ls hl => ?_)
  exact hL17 N σ3 x1 0 hf _ _ hS _ (lv_sub hl [1, 2, 0] rfl)
/-! daysGo(I)V: RW -/
noncomputable def M_daysGo_b2 (N : Nat) (k2 : mSt → Int32 → Int32 → Option (Unit × mSt)) (σ : mSt) (x1 : Int32) (x2 : Int32) : Option (Unit × mSt) :=
  if x1 ≤ x2 then (some ((), σ)) else (bo (ld 2 σ 56 0) fun v1 => bd (M_openingOn N σ v1) fun r2 σ3 => bd (M_dayBy N σ3 r2) fun _ σ4 => k2 σ4 x1 (x2 + 1))
noncomputable def M_daysGo (N : Nat) (σ : mSt) (x1 : Int32) : Option (Unit × mSt) :=
  rn3 (M_daysGo_b2 N) N σ x1 0
theorem gw_daysGo : GoodIn lw_all (wsV RX6 536 RX6 yX6_daysGo (ws_ yX6_daysGo cX6_daysGo 3 none)) := lw_V q2378 q2380 qs132 q164 q2381
theorem gn_daysGo : yX6_daysGo.cls = RX6 ∧ yX6_daysGo.cls ≠ "java/lang/invoke/MethodHandle" ∧ yX6_daysGo.cls ≠ "java/lang/invoke/VarHandle" ∧ (parseMethodDescriptor yX6_daysGo.desc).map (fun d => d.parameters.length) = some 1 := by decide +kernel
abbrev rM_daysGo : Room := { frames := 5, cells := 0, slots := 0, locals := 122 }
set_option maxHeartbeats 4000000 in
theorem cmf_daysGo {l : Launch} {dC : Nat → ClassId} {dI : Nat → Nat → Nat} {ac : Nat → ClassId} {o : Nat} {ad : Nat → Nat} {N : Nat} {σ : mSt} {x1 : Int32} {σ' : mSt} (hf : M_daysGo N σ x1 = some ((), σ')) : Met l yX6_daysGo (ws_ yX6_daysGo cX6_daysGo 3 none) { frames := 5, cells := 0, slots := 0, locals := 122 } (va_Pc [.ref o, .int x1] (mPre dC dI ac o ad σ)) (mQv dC dI ac o ad σ') 0 0 (mF o ad) := by
  refine m_of (by decide) rfl (Nat.le_of_ble_eq_true rfl) ?_
  intro p e s m args below meth c E hb hr hlk hml hS ls hl
  have hl : lv_has ls 3 [(0, .ref o), (1, .int x1)] := hl
  have hL2 : ∀ (n : Nat) (σ : mSt) (x1 : Int32) (x2 : Int32), rn3 (M_daysGo_b2 N) n σ x1 x2 = some ((), σ') → ∀ (H : Heap) (locs : List Loc), mS dC dI ac o ad s.heap σ H locs → ∀ (ls : Array Slot), lv_has ls 3 [(0, .ref o), (1, .int x1), (2, .int x2)] → W p l e rM_daysGo s m args below meth c H locs 0 0 (MQ below (mQv dC dI ac o ad σ') args s 0 0 (mF o ad)) (F0 m 2 ls []) := by
    intro  n
    induction n with
    | zero =>
      intro σ x1 x2 hf
      cases hf
    | succ n ih =>
      intro σ x1 x2 hf H locs hS ls hl
      have hf : M_daysGo_b2 N (rn3 (M_daysGo_b2 N) n) σ x1 x2 = some ((), σ') := hf
      have hk2 := ih
      generalize rn3 (M_daysGo_b2 N) n = k2 at hf hk2
      unfold M_daysGo_b2 at hf
      refine lv_iload_n E.1 hb dX6_daysGo_2 rfl (lv_at hl 2 rfl) ?_
      refine lv_iload_n E.1 hb dX6_daysGo_3 rfl (lv_at hl 1 rfl) ?_
      refine lv_icmp_ge (tgt := 27) E.1 hb dX6_daysGo_4 (by decide) (fun hc => ?_) (fun hc => ?_)
      · have hf := it_s hc hf
        exact m_vr E hb hr hlk hS hf dX6_daysGo_27
      · have hf := if_s hc hf
        refine lv_aload_n E.1 hb dX6_daysGo_7 rfl (lv_at hl 0 rfl) ?_
        refine lv_aload_n E.1 hb dX6_daysGo_8 rfl (lv_at hl 0 rfl) ?_
        refine lv_aload_n E.1 hb dX6_daysGo_9 rfl (lv_at hl 0 rfl) ?_
        refine m_gA (k := 56) E hb hS 2 rfl (by decide) fl_56 dX6_daysGo_10 ?_
        refine lv_iconst (v := 0) E.1 hb dX6_daysGo_13 rfl ?_
        obtain ⟨hg, hf⟩ := ld_s hf
        refine m_ild E hb hS hg dX6_daysGo_14 ?_
        obtain ⟨r2, σ3, h1, hf⟩ := bd_s hf
        refine m_cVi E hb hml hl.1 hS (cmf_openingOn h1) gw_openingOn gn_openingOn rfl rfl (Nat.le_of_ble_eq_true rfl) ⟨Nat.le_of_ble_eq_true rfl, Nat.le_of_ble_eq_true rfl⟩ ⟨Nat.le_refl 0, Nat.le_refl 0⟩ dX6_daysGo_15 (fun H locs hS => ?_)
        obtain ⟨_, σ4, h1, hf⟩ := bd_s hf
        refine m_cVv E hb hml hl.1 hS (cmf_dayBy h1) gw_dayBy gn_dayBy rfl rfl (Nat.le_of_ble_eq_true rfl) ⟨Nat.le_of_ble_eq_true rfl, Nat.le_of_ble_eq_true rfl⟩ ⟨Nat.le_refl 0, Nat.le_refl 0⟩ dX6_daysGo_18 (fun H locs hS => ?_)
        refine lv_iinc (v := (x2 + 1)) (lv' := [(2, .int (x2 + 1)), (0, .ref o), (1, .int x1)]) E.1 hb dX6_daysGo_21 hl (k := 2) rfl rfl (by decide) rfl (fun ls hl => ?_)
        refine lv_goto (tgt := 2) E.1 hb dX6_daysGo_24 (by decide) ?_
        exact hk2 σ4 x1 (x2 + 1) hf _ _ hS _ (lv_sub hl [1, 2, 0] rfl)
  unfold M_daysGo at hf
  refine lv_iconst (v := 0) E.1 hb dX6_daysGo_0 rfl ?_
  refine lv_istore_n (lv' := [(2, .int 0), (0, .ref o), (1, .int x1)]) E.1 hb dX6_daysGo_1 rfl hl (by decide) rfl (fun ls hl => ?_)
  exact hL2 N σ x1 0 hf _ _ hS _ (lv_sub hl [1, 2, 0] rfl)
/-! putsAside()V: RW -/
noncomputable def M_putsAside_b38 (N : Nat) (k38 : mSt → Int32 → Option (Unit × mSt)) (σ : mSt) (x1 : Int32) : Option (Unit × mSt) :=
  if 8 ≤ x1 then (some ((), σ)) else (bo (stI 2 σ 63 x1 0) fun σ3 => k38 σ3 (x1 + 1))
noncomputable def M_putsAside_b7 (N : Nat) (k7 : mSt → Int32 → Option (Unit × mSt)) (σ : mSt) (x1 : Int32) : Option (Unit × mSt) :=
  if 39 ≤ x1 then (lt2 (mUI σ 62 0 0) fun σ2 => rn2 (M_putsAside_b38 N) N σ2 0) else (bo (ld 2 σ 56 x1) fun v4 => bo (stI 2 σ 57 x1 v4) fun σ5 => k7 σ5 (x1 + 1))
noncomputable def M_putsAside (N : Nat) (σ : mSt) : Option (Unit × mSt) :=
  lt2 (mUI σ 61 0 1) fun σ1 => rn2 (M_putsAside_b7 N) N σ1 0
theorem gw_putsAside : GoodIn lw_all (wsV RX6 523 RX6 yX6_putsAside (ws_ yX6_putsAside cX6_putsAside 2 none)) := lw_V q2331 q2333 qs122 q164 q2334
theorem gn_putsAside : yX6_putsAside.cls = RX6 ∧ yX6_putsAside.cls ≠ "java/lang/invoke/MethodHandle" ∧ yX6_putsAside.cls ≠ "java/lang/invoke/VarHandle" ∧ (parseMethodDescriptor yX6_putsAside.desc).map (fun d => d.parameters.length) = some 0 := by decide +kernel
abbrev rM_putsAside : Room := { frames := 0, cells := 0, slots := 0, locals := 0 }
set_option maxHeartbeats 4000000 in
theorem cmf_putsAside {l : Launch} {dC : Nat → ClassId} {dI : Nat → Nat → Nat} {ac : Nat → ClassId} {o : Nat} {ad : Nat → Nat} {N : Nat} {σ : mSt} {σ' : mSt} (hf : M_putsAside N σ = some ((), σ')) : Met l yX6_putsAside (ws_ yX6_putsAside cX6_putsAside 2 none) { frames := 0, cells := 0, slots := 0, locals := 0 } (va_Pc [.ref o] (mPre dC dI ac o ad σ)) (mQv dC dI ac o ad σ') 0 0 (mF o ad) := by
  refine m_of (by decide) rfl (Nat.le_of_ble_eq_true rfl) ?_
  intro p e s m args below meth c E hb hr hlk hml hS ls hl
  have hl : lv_has ls 2 [(0, .ref o)] := hl
  have hL38 : ∀ (n : Nat) (σ : mSt) (x1 : Int32), rn2 (M_putsAside_b38 N) n σ x1 = some ((), σ') → ∀ (H : Heap) (locs : List Loc), mS dC dI ac o ad s.heap σ H locs → ∀ (ls : Array Slot), lv_has ls 2 [(0, .ref o), (1, .int x1)] → W p l e rM_putsAside s m args below meth c H locs 0 0 (MQ below (mQv dC dI ac o ad σ') args s 0 0 (mF o ad)) (F0 m 38 ls []) := by
    intro  n
    induction n with
    | zero =>
      intro σ x1 hf
      cases hf
    | succ n ih =>
      intro σ x1 hf H locs hS ls hl
      have hf : M_putsAside_b38 N (rn2 (M_putsAside_b38 N) n) σ x1 = some ((), σ') := hf
      have hk38 := ih
      generalize rn2 (M_putsAside_b38 N) n = k38 at hf hk38
      unfold M_putsAside_b38 at hf
      refine lv_iload_n E.1 hb dX6_putsAside_38 rfl (lv_at hl 1 rfl) ?_
      refine lv_bipush (v := 8) E.1 hb dX6_putsAside_39 rfl ?_
      refine lv_icmp_ge (tgt := 57) E.1 hb dX6_putsAside_41 (by decide) (fun hc => ?_) (fun hc => ?_)
      · have hf := it_s hc hf
        exact m_vr E hb hr hlk hS hf dX6_putsAside_57
      · have hf := if_s hc hf
        refine lv_aload_n E.1 hb dX6_putsAside_44 rfl (lv_at hl 0 rfl) ?_
        refine m_gA (k := 63) E hb hS 2 rfl (by decide) fl_63 dX6_putsAside_45 ?_
        refine lv_iload_n E.1 hb dX6_putsAside_48 rfl (lv_at hl 1 rfl) ?_
        refine lv_iconst (v := 0) E.1 hb dX6_putsAside_49 rfl ?_
        obtain ⟨σ3, hg, hw, hf⟩ := st_s hf
        refine m_ist E hb hS hg hw dX6_putsAside_50 (fun H locs hS => ?_)
        refine lv_iinc (v := (x1 + 1)) (lv' := [(1, .int (x1 + 1)), (0, .ref o)]) E.1 hb dX6_putsAside_51 hl (k := 1) rfl rfl (by decide) rfl (fun ls hl => ?_)
        refine lv_goto (tgt := 38) E.1 hb dX6_putsAside_54 (by decide) ?_
        exact hk38 σ3 (x1 + 1) hf _ _ hS _ (lv_sub hl [1, 0] rfl)
  have hL7 : ∀ (n : Nat) (σ : mSt) (x1 : Int32), rn2 (M_putsAside_b7 N) n σ x1 = some ((), σ') → ∀ (H : Heap) (locs : List Loc), mS dC dI ac o ad s.heap σ H locs → ∀ (ls : Array Slot), lv_has ls 2 [(0, .ref o), (1, .int x1)] → W p l e rM_putsAside s m args below meth c H locs 0 0 (MQ below (mQv dC dI ac o ad σ') args s 0 0 (mF o ad)) (F0 m 7 ls []) := by
    intro  n
    induction n with
    | zero =>
      intro σ x1 hf
      cases hf
    | succ n ih =>
      intro σ x1 hf H locs hS ls hl
      have hf : M_putsAside_b7 N (rn2 (M_putsAside_b7 N) n) σ x1 = some ((), σ') := hf
      have hk7 := ih
      generalize rn2 (M_putsAside_b7 N) n = k7 at hf hk7
      unfold M_putsAside_b7 at hf
      refine lv_iload_n E.1 hb dX6_putsAside_7 rfl (lv_at hl 1 rfl) ?_
      refine lv_bipush (v := 39) E.1 hb dX6_putsAside_8 rfl ?_
      refine lv_icmp_ge (tgt := 31) E.1 hb dX6_putsAside_10 (by decide) (fun hc => ?_) (fun hc => ?_)
      · have hf := it_s hc hf
        refine lv_aload_n E.1 hb dX6_putsAside_31 rfl (lv_at hl 0 rfl) ?_
        refine lv_iconst (v := 0) E.1 hb dX6_putsAside_32 rfl ?_
        obtain ⟨σ2, hw, hf⟩ := lt2_s hf
        refine m_pI (k := 62) E hb hS rfl rfl pf_62 fl_62 hw dX6_putsAside_33 (fun H locs hS => ?_)
        refine lv_iconst (v := 0) E.1 hb dX6_putsAside_36 rfl ?_
        refine lv_istore_n (lv' := [(1, .int 0), (0, .ref o)]) E.1 hb dX6_putsAside_37 rfl hl (by decide) rfl (fun ls hl => ?_)
        exact hL38 N σ2 0 hf _ _ hS _ (lv_sub hl [1, 0] rfl)
      · have hf := if_s hc hf
        refine lv_aload_n E.1 hb dX6_putsAside_13 rfl (lv_at hl 0 rfl) ?_
        refine m_gA (k := 57) E hb hS 2 rfl (by decide) fl_57 dX6_putsAside_14 ?_
        refine lv_iload_n E.1 hb dX6_putsAside_17 rfl (lv_at hl 1 rfl) ?_
        refine lv_aload_n E.1 hb dX6_putsAside_18 rfl (lv_at hl 0 rfl) ?_
        refine m_gA (k := 56) E hb hS 2 rfl (by decide) fl_56 dX6_putsAside_19 ?_
        refine lv_iload_n E.1 hb dX6_putsAside_22 rfl (lv_at hl 1 rfl) ?_
        obtain ⟨hg, hf⟩ := ld_s hf
        refine m_ild E hb hS hg dX6_putsAside_23 ?_
        obtain ⟨σ5, hg, hw, hf⟩ := st_s hf
        refine m_ist E hb hS hg hw dX6_putsAside_24 (fun H locs hS => ?_)
        refine lv_iinc (v := (x1 + 1)) (lv' := [(1, .int (x1 + 1)), (0, .ref o)]) E.1 hb dX6_putsAside_25 hl (k := 1) rfl rfl (by decide) rfl (fun ls hl => ?_)
        refine lv_goto (tgt := 7) E.1 hb dX6_putsAside_28 (by decide) ?_
        exact hk7 σ5 (x1 + 1) hf _ _ hS _ (lv_sub hl [1, 0] rfl)
  unfold M_putsAside at hf
  refine lv_aload_n E.1 hb dX6_putsAside_0 rfl (lv_at hl 0 rfl) ?_
  refine lv_iconst (v := 1) E.1 hb dX6_putsAside_1 rfl ?_
  obtain ⟨σ1, hw, hf⟩ := lt2_s hf
  refine m_pZ (k := 61) E hb hS rfl rfl pz_61 fl_61 rfl rfl hw dX6_putsAside_2 (fun H locs hS => ?_)
  refine lv_iconst (v := 0) E.1 hb dX6_putsAside_5 rfl ?_
  refine lv_istore_n (lv' := [(1, .int 0), (0, .ref o)]) E.1 hb dX6_putsAside_6 rfl hl (by decide) rfl (fun ls hl => ?_)
  exact hL7 N σ1 0 hf _ _ hS _ (lv_sub hl [1, 0] rfl)
/-! triesAnew()V: RW -/
noncomputable def M_triesAnew_b2 (N : Nat) (k2 : mSt → Int32 → Option (Unit × mSt)) (σ : mSt) (x1 : Int32) : Option (Unit × mSt) :=
  if 39 ≤ x1 then (lt2 (mUI σ 62 0 0) fun σ1 => some ((), σ1)) else (bo (ld 2 σ 57 x1) fun v2 => bo (stI 2 σ 56 x1 v2) fun σ3 => k2 σ3 (x1 + 1))
noncomputable def M_triesAnew (N : Nat) (σ : mSt) : Option (Unit × mSt) :=
  rn2 (M_triesAnew_b2 N) N σ 0
theorem gw_triesAnew : GoodIn lw_all (wsV RX6 530 RX6 yX6_triesAnew (ws_ yX6_triesAnew cX6_triesAnew 2 none)) := lw_V q2366 q2368 qs130 q164 q2369
theorem gn_triesAnew : yX6_triesAnew.cls = RX6 ∧ yX6_triesAnew.cls ≠ "java/lang/invoke/MethodHandle" ∧ yX6_triesAnew.cls ≠ "java/lang/invoke/VarHandle" ∧ (parseMethodDescriptor yX6_triesAnew.desc).map (fun d => d.parameters.length) = some 0 := by decide +kernel
abbrev rM_triesAnew : Room := { frames := 0, cells := 0, slots := 0, locals := 0 }
set_option maxHeartbeats 4000000 in
theorem cmf_triesAnew {l : Launch} {dC : Nat → ClassId} {dI : Nat → Nat → Nat} {ac : Nat → ClassId} {o : Nat} {ad : Nat → Nat} {N : Nat} {σ : mSt} {σ' : mSt} (hf : M_triesAnew N σ = some ((), σ')) : Met l yX6_triesAnew (ws_ yX6_triesAnew cX6_triesAnew 2 none) { frames := 0, cells := 0, slots := 0, locals := 0 } (va_Pc [.ref o] (mPre dC dI ac o ad σ)) (mQv dC dI ac o ad σ') 0 0 (mF o ad) := by
  refine m_of (by decide) rfl (Nat.le_of_ble_eq_true rfl) ?_
  intro p e s m args below meth c E hb hr hlk hml hS ls hl
  have hl : lv_has ls 2 [(0, .ref o)] := hl
  have hL2 : ∀ (n : Nat) (σ : mSt) (x1 : Int32), rn2 (M_triesAnew_b2 N) n σ x1 = some ((), σ') → ∀ (H : Heap) (locs : List Loc), mS dC dI ac o ad s.heap σ H locs → ∀ (ls : Array Slot), lv_has ls 2 [(0, .ref o), (1, .int x1)] → W p l e rM_triesAnew s m args below meth c H locs 0 0 (MQ below (mQv dC dI ac o ad σ') args s 0 0 (mF o ad)) (F0 m 2 ls []) := by
    intro  n
    induction n with
    | zero =>
      intro σ x1 hf
      cases hf
    | succ n ih =>
      intro σ x1 hf H locs hS ls hl
      have hf : M_triesAnew_b2 N (rn2 (M_triesAnew_b2 N) n) σ x1 = some ((), σ') := hf
      have hk2 := ih
      generalize rn2 (M_triesAnew_b2 N) n = k2 at hf hk2
      unfold M_triesAnew_b2 at hf
      refine lv_iload_n E.1 hb dX6_triesAnew_2 rfl (lv_at hl 1 rfl) ?_
      refine lv_bipush (v := 39) E.1 hb dX6_triesAnew_3 rfl ?_
      refine lv_icmp_ge (tgt := 26) E.1 hb dX6_triesAnew_5 (by decide) (fun hc => ?_) (fun hc => ?_)
      · have hf := it_s hc hf
        refine lv_aload_n E.1 hb dX6_triesAnew_26 rfl (lv_at hl 0 rfl) ?_
        refine lv_iconst (v := 0) E.1 hb dX6_triesAnew_27 rfl ?_
        obtain ⟨σ1, hw, hf⟩ := lt2_s hf
        refine m_pI (k := 62) E hb hS rfl rfl pf_62 fl_62 hw dX6_triesAnew_28 (fun H locs hS => ?_)
        exact m_vr E hb hr hlk hS hf dX6_triesAnew_31
      · have hf := if_s hc hf
        refine lv_aload_n E.1 hb dX6_triesAnew_8 rfl (lv_at hl 0 rfl) ?_
        refine m_gA (k := 56) E hb hS 2 rfl (by decide) fl_56 dX6_triesAnew_9 ?_
        refine lv_iload_n E.1 hb dX6_triesAnew_12 rfl (lv_at hl 1 rfl) ?_
        refine lv_aload_n E.1 hb dX6_triesAnew_13 rfl (lv_at hl 0 rfl) ?_
        refine m_gA (k := 57) E hb hS 2 rfl (by decide) fl_57 dX6_triesAnew_14 ?_
        refine lv_iload_n E.1 hb dX6_triesAnew_17 rfl (lv_at hl 1 rfl) ?_
        obtain ⟨hg, hf⟩ := ld_s hf
        refine m_ild E hb hS hg dX6_triesAnew_18 ?_
        obtain ⟨σ3, hg, hw, hf⟩ := st_s hf
        refine m_ist E hb hS hg hw dX6_triesAnew_19 (fun H locs hS => ?_)
        refine lv_iinc (v := (x1 + 1)) (lv' := [(1, .int (x1 + 1)), (0, .ref o)]) E.1 hb dX6_triesAnew_20 hl (k := 1) rfl rfl (by decide) rfl (fun ls hl => ?_)
        refine lv_goto (tgt := 2) E.1 hb dX6_triesAnew_23 (by decide) ?_
        exact hk2 σ3 (x1 + 1) hf _ _ hS _ (lv_sub hl [1, 0] rfl)
  unfold M_triesAnew at hf
  refine lv_iconst (v := 0) E.1 hb dX6_triesAnew_0 rfl ?_
  refine lv_istore_n (lv' := [(1, .int 0), (0, .ref o)]) E.1 hb dX6_triesAnew_1 rfl hl (by decide) rfl (fun ls hl => ?_)
  exact hL2 N σ 0 hf _ _ hS _ (lv_sub hl [1, 0] rfl)
/-! takesBack()V: RW -/
noncomputable def M_takesBack_b2 (N : Nat) (k2 : mSt → Int32 → Option (Unit × mSt)) (σ : mSt) (x1 : Int32) : Option (Unit × mSt) :=
  if 39 ≤ x1 then (lt2 (mUI σ 61 0 0) fun σ1 => some ((), σ1)) else (bo (ld 2 σ 57 x1) fun v2 => bo (stI 2 σ 56 x1 v2) fun σ3 => k2 σ3 (x1 + 1))
noncomputable def M_takesBack (N : Nat) (σ : mSt) : Option (Unit × mSt) :=
  rn2 (M_takesBack_b2 N) N σ 0
theorem gw_takesBack : GoodIn lw_all (wsV RX6 533 RX6 yX6_takesBack (ws_ yX6_takesBack cX6_takesBack 2 none)) := lw_V q2370 q2372 qs131 q164 q2373
theorem gn_takesBack : yX6_takesBack.cls = RX6 ∧ yX6_takesBack.cls ≠ "java/lang/invoke/MethodHandle" ∧ yX6_takesBack.cls ≠ "java/lang/invoke/VarHandle" ∧ (parseMethodDescriptor yX6_takesBack.desc).map (fun d => d.parameters.length) = some 0 := by decide +kernel
abbrev rM_takesBack : Room := { frames := 0, cells := 0, slots := 0, locals := 0 }
set_option maxHeartbeats 4000000 in
theorem cmf_takesBack {l : Launch} {dC : Nat → ClassId} {dI : Nat → Nat → Nat} {ac : Nat → ClassId} {o : Nat} {ad : Nat → Nat} {N : Nat} {σ : mSt} {σ' : mSt} (hf : M_takesBack N σ = some ((), σ')) : Met l yX6_takesBack (ws_ yX6_takesBack cX6_takesBack 2 none) { frames := 0, cells := 0, slots := 0, locals := 0 } (va_Pc [.ref o] (mPre dC dI ac o ad σ)) (mQv dC dI ac o ad σ') 0 0 (mF o ad) := by
  refine m_of (by decide) rfl (Nat.le_of_ble_eq_true rfl) ?_
  intro p e s m args below meth c E hb hr hlk hml hS ls hl
  have hl : lv_has ls 2 [(0, .ref o)] := hl
  have hL2 : ∀ (n : Nat) (σ : mSt) (x1 : Int32), rn2 (M_takesBack_b2 N) n σ x1 = some ((), σ') → ∀ (H : Heap) (locs : List Loc), mS dC dI ac o ad s.heap σ H locs → ∀ (ls : Array Slot), lv_has ls 2 [(0, .ref o), (1, .int x1)] → W p l e rM_takesBack s m args below meth c H locs 0 0 (MQ below (mQv dC dI ac o ad σ') args s 0 0 (mF o ad)) (F0 m 2 ls []) := by
    intro  n
    induction n with
    | zero =>
      intro σ x1 hf
      cases hf
    | succ n ih =>
      intro σ x1 hf H locs hS ls hl
      have hf : M_takesBack_b2 N (rn2 (M_takesBack_b2 N) n) σ x1 = some ((), σ') := hf
      have hk2 := ih
      generalize rn2 (M_takesBack_b2 N) n = k2 at hf hk2
      unfold M_takesBack_b2 at hf
      refine lv_iload_n E.1 hb dX6_takesBack_2 rfl (lv_at hl 1 rfl) ?_
      refine lv_bipush (v := 39) E.1 hb dX6_takesBack_3 rfl ?_
      refine lv_icmp_ge (tgt := 26) E.1 hb dX6_takesBack_5 (by decide) (fun hc => ?_) (fun hc => ?_)
      · have hf := it_s hc hf
        refine lv_aload_n E.1 hb dX6_takesBack_26 rfl (lv_at hl 0 rfl) ?_
        refine lv_iconst (v := 0) E.1 hb dX6_takesBack_27 rfl ?_
        obtain ⟨σ1, hw, hf⟩ := lt2_s hf
        refine m_pZ (k := 61) E hb hS rfl rfl pz_61 fl_61 rfl rfl hw dX6_takesBack_28 (fun H locs hS => ?_)
        exact m_vr E hb hr hlk hS hf dX6_takesBack_31
      · have hf := if_s hc hf
        refine lv_aload_n E.1 hb dX6_takesBack_8 rfl (lv_at hl 0 rfl) ?_
        refine m_gA (k := 56) E hb hS 2 rfl (by decide) fl_56 dX6_takesBack_9 ?_
        refine lv_iload_n E.1 hb dX6_takesBack_12 rfl (lv_at hl 1 rfl) ?_
        refine lv_aload_n E.1 hb dX6_takesBack_13 rfl (lv_at hl 0 rfl) ?_
        refine m_gA (k := 57) E hb hS 2 rfl (by decide) fl_57 dX6_takesBack_14 ?_
        refine lv_iload_n E.1 hb dX6_takesBack_17 rfl (lv_at hl 1 rfl) ?_
        obtain ⟨hg, hf⟩ := ld_s hf
        refine m_ild E hb hS hg dX6_takesBack_18 ?_
        obtain ⟨σ3, hg, hw, hf⟩ := st_s hf
        refine m_ist E hb hS hg hw dX6_takesBack_19 (fun H locs hS => ?_)
        refine lv_iinc (v := (x1 + 1)) (lv' := [(1, .int (x1 + 1)), (0, .ref o)]) E.1 hb dX6_takesBack_20 hl (k := 1) rfl rfl (by decide) rfl (fun ls hl => ?_)
        refine lv_goto (tgt := 2) E.1 hb dX6_takesBack_23 (by decide) ?_
        exact hk2 σ3 (x1 + 1) hf _ _ hS _ (lv_sub hl [1, 0] rfl)
  unfold M_takesBack at hf
  refine lv_iconst (v := 0) E.1 hb dX6_takesBack_0 rfl ?_
  refine lv_istore_n (lv' := [(1, .int 0), (0, .ref o)]) E.1 hb dX6_takesBack_1 rfl hl (by decide) rfl (fun ls hl => ?_)
  exact hL2 N σ 0 hf _ _ hS _ (lv_sub hl [1, 0] rfl)
/-! isAhead(III)Z: RO -/
noncomputable def M_isAhead (σ : mSt) (x1 : Int32) (x2 : Int32) (x3 : Int32) : Option Int32 :=
  if (σ.1 54 0) = 0 then (some 0) else (bo (M_isIn (Int32.toInt64 x1) (Int32.toInt64 x2) (Int32.toInt64 x3)) fun r1 => if r1 = 0 then (some 0) else (bo (ld 2 σ 56 0) fun v2 => if 999 < (v2 + x1) then (some 0) else (some 1)))
theorem gw_isAhead : GoodIn lw_all (wsV RX6 520 RX6 yX6_isAhead (ws_ yX6_isAhead cX6_isAhead 4 (some .boolean))) := lw_V q2323 q2325 qs120 q164 q2326
theorem gn_isAhead : yX6_isAhead.cls = RX6 ∧ yX6_isAhead.cls ≠ "java/lang/invoke/MethodHandle" ∧ yX6_isAhead.cls ≠ "java/lang/invoke/VarHandle" ∧ (parseMethodDescriptor yX6_isAhead.desc).map (fun d => d.parameters.length) = some 3 := by decide +kernel
abbrev rM_isAhead : Room := { frames := 1, cells := 0, slots := 0, locals := 25 }
set_option maxHeartbeats 4000000 in
theorem cmf_isAhead {l : Launch} {dC : Nat → ClassId} {dI : Nat → Nat → Nat} {ac : Nat → ClassId} {o : Nat} {ad : Nat → Nat} {σ : mSt} {x1 : Int32} {x2 : Int32} {x3 : Int32} {r : Int32} (hf : M_isAhead σ x1 x2 x3 = some r) : Met l yX6_isAhead (ws_ yX6_isAhead cX6_isAhead 4 (some .boolean)) { frames := 1, cells := 0, slots := 0, locals := 25 } (va_Pc [.ref o, .int x1, .int x2, .int x3] (mPre dC dI ac o ad σ)) (mQi dC dI ac o ad r σ) 0 0 (mF o ad) := by
  refine m_of (by decide) rfl (Nat.le_of_ble_eq_true rfl) ?_
  intro p e s m args below meth c E hb hr hlk hml hS ls hl
  have hl : lv_has ls 4 [(0, .ref o), (1, .int x1), (2, .int x2), (3, .int x3)] := hl
  unfold M_isAhead at hf
  refine lv_aload_n E.1 hb dX6_isAhead_0 rfl (lv_at hl 0 rfl) ?_
  refine m_gZ (k := 54) E hb hS rfl fl_54 dX6_isAhead_1 ?_
  refine lv_if_eq (tgt := 37) E.1 hb dX6_isAhead_4 (by decide) (fun hc => ?_) (fun hc => ?_)
  · have hf := it_s hc hf
    refine lv_iconst (v := 0) E.1 hb dX6_isAhead_37 rfl ?_
    exact m_zrR E hb hr hlk hS rfl hf dX6_isAhead_38
  · have hf := if_s hc hf
    refine lv_iload_n E.1 hb dX6_isAhead_7 rfl (lv_at hl 1 rfl) ?_
    refine lv_i2l E.1 hb dX6_isAhead_8 rfl ?_
    refine lv_iload_n E.1 hb dX6_isAhead_9 rfl (lv_at hl 2 rfl) ?_
    refine lv_i2l E.1 hb dX6_isAhead_10 rfl ?_
    refine lv_iload_n E.1 hb dX6_isAhead_11 rfl (lv_at hl 3 rfl) ?_
    refine lv_i2l E.1 hb dX6_isAhead_12 rfl ?_
    obtain ⟨r1, h1, hf⟩ := bo_s hf
    refine m_cSi E hb hml hl.1 hS (cmf_isIn h1) gw_isIn gn_isIn rfl rfl (Nat.le_of_ble_eq_true rfl) ⟨Nat.le_of_ble_eq_true rfl, Nat.le_of_ble_eq_true rfl⟩ ⟨Nat.le_refl 0, Nat.le_refl 0⟩ dX6_isAhead_13 (fun H locs hS => ?_)
    refine lv_if_eq (tgt := 37) E.1 hb dX6_isAhead_16 (by decide) (fun hc => ?_) (fun hc => ?_)
    · have hf := it_s hc hf
      refine lv_iconst (v := 0) E.1 hb dX6_isAhead_37 rfl ?_
      exact m_zrR E hb hr hlk hS rfl hf dX6_isAhead_38
    · have hf := if_s hc hf
      refine lv_aload_n E.1 hb dX6_isAhead_19 rfl (lv_at hl 0 rfl) ?_
      refine m_gA (k := 56) E hb hS 2 rfl (by decide) fl_56 dX6_isAhead_20 ?_
      refine lv_iconst (v := 0) E.1 hb dX6_isAhead_23 rfl ?_
      obtain ⟨hg, hf⟩ := ld_s hf
      refine m_ild E hb hS hg dX6_isAhead_24 ?_
      refine lv_iload_n E.1 hb dX6_isAhead_25 rfl (lv_at hl 1 rfl) ?_
      refine lv_iadd E.1 hb dX6_isAhead_26 ?_
      refine lv_sipush (v := 999) E.1 hb dX6_isAhead_27 rfl ?_
      refine lv_icmp_gt (tgt := 37) E.1 hb dX6_isAhead_30 (by decide) (fun hc => ?_) (fun hc => ?_)
      · have hf := it_s hc hf
        refine lv_iconst (v := 0) E.1 hb dX6_isAhead_37 rfl ?_
        exact m_zrR E hb hr hlk hS rfl hf dX6_isAhead_38
      · have hf := if_s hc hf
        refine lv_iconst (v := 1) E.1 hb dX6_isAhead_33 rfl ?_
        refine lv_goto (tgt := 38) E.1 hb dX6_isAhead_34 (by decide) ?_
        exact m_zrR E hb hr hlk hS rfl hf dX6_isAhead_38
/-! bits(I)I: P -/
noncomputable def M_bits_b4 (N : Nat) (k4 : Int32 → Int32 → Option Int32) (x1 : Int32) (x2 : Int32) : Option Int32 :=
  if x2 = 0 then (some x1) else (k4 (x1 + 1) (x2 &&& (x2 - 1)))
noncomputable def M_bits (N : Nat) (x0 : Int32) : Option Int32 :=
  rn2 (M_bits_b4 N) N 0 x0
theorem gw_bits : GoodIn lw_all (va_wsS RX6 493 yX6_bits (ws_ yX6_bits cX6_bits 3 (some .int))) := lw_S q2202 q2203 q164 q2204
theorem gn_bits : yX6_bits.cls ≠ "java/lang/invoke/MethodHandle" ∧ yX6_bits.cls ≠ "java/lang/invoke/VarHandle" ∧ (parseMethodDescriptor yX6_bits.desc).map (fun d => d.parameters.length) = some 1 := by decide +kernel
abbrev rM_bits : Room := { frames := 0, cells := 0, slots := 0, locals := 0 }
set_option maxHeartbeats 4000000 in
theorem cmf_bits {l : Launch} {dC : Nat → ClassId} {dI : Nat → Nat → Nat} {ac : Nat → ClassId} {o : Nat} {ad : Nat → Nat} {N : Nat} {σ : mSt} {x0 : Int32} {r : Int32} (hf : M_bits N x0 = some r) : Met l yX6_bits (ws_ yX6_bits cX6_bits 3 (some .int)) { frames := 0, cells := 0, slots := 0, locals := 0 } (va_Pc [.int x0] (mPre dC dI ac o ad σ)) (mQi dC dI ac o ad r σ) 0 0 (mF o ad) := by
  refine m_of (by decide) rfl (Nat.le_of_ble_eq_true rfl) ?_
  intro p e s m args below meth c E hb hr hlk hml hS ls hl
  have hl : lv_has ls 3 [(0, .int x0)] := hl
  have hL4 : ∀ (n : Nat) (x1 : Int32) (x2 : Int32), rn2 (M_bits_b4 N) n x1 x2 = some r → ∀ (H : Heap) (locs : List Loc), mS dC dI ac o ad s.heap σ H locs → ∀ (ls : Array Slot), lv_has ls 3 [(1, .int x1), (2, .int x2)] → W p l e rM_bits s m args below meth c H locs 0 0 (MQ below (mQi dC dI ac o ad r σ) args s 0 0 (mF o ad)) (F0 m 4 ls []) := by
    intro  n
    induction n with
    | zero =>
      intro x1 x2 hf
      cases hf
    | succ n ih =>
      intro x1 x2 hf H locs hS ls hl
      have hf : M_bits_b4 N (rn2 (M_bits_b4 N) n) x1 x2 = some r := hf
      have hk4 := ih
      generalize rn2 (M_bits_b4 N) n = k4 at hf hk4
      unfold M_bits_b4 at hf
      refine lv_iload_n E.1 hb dX6_bits_4 rfl (lv_at hl 1 rfl) ?_
      refine lv_if_eq (tgt := 20) E.1 hb dX6_bits_5 (by decide) (fun hc => ?_) (fun hc => ?_)
      · have hf := it_s hc hf
        refine lv_iload_n E.1 hb dX6_bits_20 rfl (lv_at hl 0 rfl) ?_
        exact m_irR E hb hr hlk hS hf dX6_bits_21
      · have hf := if_s hc hf
        refine lv_iinc (v := (x1 + 1)) (lv' := [(1, .int (x1 + 1)), (2, .int x2)]) E.1 hb dX6_bits_8 hl (k := 0) rfl rfl (by decide) rfl (fun ls hl => ?_)
        refine lv_iload_n E.1 hb dX6_bits_11 rfl (lv_at hl 1 rfl) ?_
        refine lv_iload_n E.1 hb dX6_bits_12 rfl (lv_at hl 1 rfl) ?_
        refine lv_iconst (v := 1) E.1 hb dX6_bits_13 rfl ?_
        refine lv_isub E.1 hb dX6_bits_14 ?_
        refine lv_iand E.1 hb dX6_bits_15 ?_
        refine lv_istore_n (lv' := [(2, .int (x2 &&& (x2 - 1))), (1, .int (x1 + 1))]) E.1 hb dX6_bits_16 rfl hl (by decide) rfl (fun ls hl => ?_)
        refine lv_goto (tgt := 4) E.1 hb dX6_bits_17 (by decide) ?_
        exact hk4 (x1 + 1) (x2 &&& (x2 - 1)) hf _ _ hS _ (lv_sub hl [1, 0] rfl)
  unfold M_bits at hf
  refine lv_iconst (v := 0) E.1 hb dX6_bits_0 rfl ?_
  refine lv_istore_n (lv' := [(1, .int 0), (0, .int x0)]) E.1 hb dX6_bits_1 rfl hl (by decide) rfl (fun ls hl => ?_)
  refine lv_iload_n E.1 hb dX6_bits_2 rfl (lv_at hl 1 rfl) ?_
  refine lv_istore_n (lv' := [(2, .int x0), (1, .int 0), (0, .int x0)]) E.1 hb dX6_bits_3 rfl hl (by decide) rfl (fun ls hl => ?_)
  exact hL4 N 0 x0 hf _ _ hS _ (lv_sub hl [1, 0] rfl)
/-! glossMany()I: RO -/
noncomputable def M_glossMany_b4 (N : Nat) (σ : mSt) (k4 : Int32 → Int32 → Option Int32) (x1 : Int32) (x2 : Int32) : Option Int32 :=
  if 6 ≤ x2 then (some x1) else (bo (ld 2 σ 56 (1 + x2)) fun v1 => bo (M_bits N v1) fun r2 => k4 (x1 + r2) (x2 + 1))
noncomputable def M_glossMany (N : Nat) (σ : mSt) : Option Int32 :=
  rn2 (M_glossMany_b4 N σ) N 0 0
theorem gw_glossMany : GoodIn lw_all (wsV RX6 496 RX6 yX6_glossMany (ws_ yX6_glossMany cX6_glossMany 3 (some .int))) := lw_V q2198 q2200 qs101 q164 q2201
theorem gn_glossMany : yX6_glossMany.cls = RX6 ∧ yX6_glossMany.cls ≠ "java/lang/invoke/MethodHandle" ∧ yX6_glossMany.cls ≠ "java/lang/invoke/VarHandle" ∧ (parseMethodDescriptor yX6_glossMany.desc).map (fun d => d.parameters.length) = some 0 := by decide +kernel
abbrev rM_glossMany : Room := { frames := 1, cells := 0, slots := 0, locals := 22 }
set_option maxHeartbeats 4000000 in
theorem cmf_glossMany {l : Launch} {dC : Nat → ClassId} {dI : Nat → Nat → Nat} {ac : Nat → ClassId} {o : Nat} {ad : Nat → Nat} {N : Nat} {σ : mSt} {r : Int32} (hf : M_glossMany N σ = some r) : Met l yX6_glossMany (ws_ yX6_glossMany cX6_glossMany 3 (some .int)) { frames := 1, cells := 0, slots := 0, locals := 22 } (va_Pc [.ref o] (mPre dC dI ac o ad σ)) (mQi dC dI ac o ad r σ) 0 0 (mF o ad) := by
  refine m_of (by decide) rfl (Nat.le_of_ble_eq_true rfl) ?_
  intro p e s m args below meth c E hb hr hlk hml hS ls hl
  have hl : lv_has ls 3 [(0, .ref o)] := hl
  have hL4 : ∀ (n : Nat) (x1 : Int32) (x2 : Int32), rn2 (M_glossMany_b4 N σ) n x1 x2 = some r → ∀ (H : Heap) (locs : List Loc), mS dC dI ac o ad s.heap σ H locs → ∀ (ls : Array Slot), lv_has ls 3 [(0, .ref o), (1, .int x1), (2, .int x2)] → W p l e rM_glossMany s m args below meth c H locs 0 0 (MQ below (mQi dC dI ac o ad r σ) args s 0 0 (mF o ad)) (F0 m 4 ls []) := by
    intro  n
    induction n with
    | zero =>
      intro x1 x2 hf
      cases hf
    | succ n ih =>
      intro x1 x2 hf H locs hS ls hl
      have hf : M_glossMany_b4 N σ (rn2 (M_glossMany_b4 N σ) n) x1 x2 = some r := hf
      have hk4 := ih
      generalize rn2 (M_glossMany_b4 N σ) n = k4 at hf hk4
      unfold M_glossMany_b4 at hf
      refine lv_iload_n E.1 hb dX6_glossMany_4 rfl (lv_at hl 2 rfl) ?_
      refine lv_bipush (v := 6) E.1 hb dX6_glossMany_5 rfl ?_
      refine lv_icmp_ge (tgt := 30) E.1 hb dX6_glossMany_7 (by decide) (fun hc => ?_) (fun hc => ?_)
      · have hf := it_s hc hf
        refine lv_iload_n E.1 hb dX6_glossMany_30 rfl (lv_at hl 1 rfl) ?_
        exact m_irR E hb hr hlk hS hf dX6_glossMany_31
      · have hf := if_s hc hf
        refine lv_iload_n E.1 hb dX6_glossMany_10 rfl (lv_at hl 1 rfl) ?_
        refine lv_aload_n E.1 hb dX6_glossMany_11 rfl (lv_at hl 0 rfl) ?_
        refine m_gA (k := 56) E hb hS 2 rfl (by decide) fl_56 dX6_glossMany_12 ?_
        refine lv_iconst (v := 1) E.1 hb dX6_glossMany_15 rfl ?_
        refine lv_iload_n E.1 hb dX6_glossMany_16 rfl (lv_at hl 2 rfl) ?_
        refine lv_iadd E.1 hb dX6_glossMany_17 ?_
        obtain ⟨hg, hf⟩ := ld_s hf
        refine m_ild E hb hS hg dX6_glossMany_18 ?_
        obtain ⟨r2, h1, hf⟩ := bo_s hf
        refine m_cSi E hb hml hl.1 hS (cmf_bits h1) gw_bits gn_bits rfl rfl (Nat.le_of_ble_eq_true rfl) ⟨Nat.le_of_ble_eq_true rfl, Nat.le_of_ble_eq_true rfl⟩ ⟨Nat.le_refl 0, Nat.le_refl 0⟩ dX6_glossMany_19 (fun H locs hS => ?_)
        refine lv_iadd E.1 hb dX6_glossMany_22 ?_
        refine lv_istore_n (lv' := [(1, .int (x1 + r2)), (0, .ref o), (2, .int x2)]) E.1 hb dX6_glossMany_23 rfl hl (by decide) rfl (fun ls hl => ?_)
        refine lv_iinc (v := (x2 + 1)) (lv' := [(2, .int (x2 + 1)), (1, .int (x1 + r2)), (0, .ref o)]) E.1 hb dX6_glossMany_24 hl (k := 2) rfl rfl (by decide) rfl (fun ls hl => ?_)
        refine lv_goto (tgt := 4) E.1 hb dX6_glossMany_27 (by decide) ?_
        exact hk4 (x1 + r2) (x2 + 1) hf _ _ hS _ (lv_sub hl [2, 1, 0] rfl)
  unfold M_glossMany at hf
  refine lv_iconst (v := 0) E.1 hb dX6_glossMany_0 rfl ?_
  refine lv_istore_n (lv' := [(1, .int 0), (0, .ref o)]) E.1 hb dX6_glossMany_1 rfl hl (by decide) rfl (fun ls hl => ?_)
  refine lv_iconst (v := 0) E.1 hb dX6_glossMany_2 rfl ?_
  refine lv_istore_n (lv' := [(2, .int 0), (1, .int 0), (0, .ref o)]) E.1 hb dX6_glossMany_3 rfl hl (by decide) rfl (fun ls hl => ?_)
  exact hL4 N 0 0 hf _ _ hS _ (lv_sub hl [2, 1, 0] rfl)
/-! pursesAll()I: RO -/
noncomputable def M_pursesAll_b4 (N : Nat) (σ : mSt) (k4 : Int32 → Int32 → Option Int32) (x1 : Int32) (x2 : Int32) : Option Int32 :=
  bo (M_beingMany σ) fun r1 => if r1 ≤ x2 then (some x1) else (bo (M_purseOf σ x2) fun r2 => k4 (x1 + r2) (x2 + 1))
noncomputable def M_pursesAll (N : Nat) (σ : mSt) : Option Int32 :=
  rn2 (M_pursesAll_b4 N σ) N 0 0
theorem gw_pursesAll : GoodIn lw_all (wsV RX6 499 RX6 yX6_pursesAll (ws_ yX6_pursesAll cX6_pursesAll 3 (some .int))) := lw_V q2256 q2258 qs112 q164 q2259
theorem gn_pursesAll : yX6_pursesAll.cls = RX6 ∧ yX6_pursesAll.cls ≠ "java/lang/invoke/MethodHandle" ∧ yX6_pursesAll.cls ≠ "java/lang/invoke/VarHandle" ∧ (parseMethodDescriptor yX6_pursesAll.desc).map (fun d => d.parameters.length) = some 0 := by decide +kernel
abbrev rM_pursesAll : Room := { frames := 1, cells := 0, slots := 0, locals := 21 }
set_option maxHeartbeats 4000000 in
theorem cmf_pursesAll {l : Launch} {dC : Nat → ClassId} {dI : Nat → Nat → Nat} {ac : Nat → ClassId} {o : Nat} {ad : Nat → Nat} {N : Nat} {σ : mSt} {r : Int32} (hf : M_pursesAll N σ = some r) : Met l yX6_pursesAll (ws_ yX6_pursesAll cX6_pursesAll 3 (some .int)) { frames := 1, cells := 0, slots := 0, locals := 21 } (va_Pc [.ref o] (mPre dC dI ac o ad σ)) (mQi dC dI ac o ad r σ) 0 0 (mF o ad) := by
  refine m_of (by decide) rfl (Nat.le_of_ble_eq_true rfl) ?_
  intro p e s m args below meth c E hb hr hlk hml hS ls hl
  have hl : lv_has ls 3 [(0, .ref o)] := hl
  have hL4 : ∀ (n : Nat) (x1 : Int32) (x2 : Int32), rn2 (M_pursesAll_b4 N σ) n x1 x2 = some r → ∀ (H : Heap) (locs : List Loc), mS dC dI ac o ad s.heap σ H locs → ∀ (ls : Array Slot), lv_has ls 3 [(0, .ref o), (1, .int x1), (2, .int x2)] → W p l e rM_pursesAll s m args below meth c H locs 0 0 (MQ below (mQi dC dI ac o ad r σ) args s 0 0 (mF o ad)) (F0 m 4 ls []) := by
    intro  n
    induction n with
    | zero =>
      intro x1 x2 hf
      cases hf
    | succ n ih =>
      intro x1 x2 hf H locs hS ls hl
      have hf : M_pursesAll_b4 N σ (rn2 (M_pursesAll_b4 N σ) n) x1 x2 = some r := hf
      have hk4 := ih
      generalize rn2 (M_pursesAll_b4 N σ) n = k4 at hf hk4
      unfold M_pursesAll_b4 at hf
      refine lv_iload_n E.1 hb dX6_pursesAll_4 rfl (lv_at hl 2 rfl) ?_
      refine lv_aload_n E.1 hb dX6_pursesAll_5 rfl (lv_at hl 0 rfl) ?_
      obtain ⟨r1, h1, hf⟩ := bo_s hf
      refine m_cVi E hb hml hl.1 hS (cmf_beingMany h1) gw_beingMany gn_beingMany rfl rfl (Nat.le_of_ble_eq_true rfl) ⟨Nat.le_of_ble_eq_true rfl, Nat.le_of_ble_eq_true rfl⟩ ⟨Nat.le_refl 0, Nat.le_refl 0⟩ dX6_pursesAll_6 (fun H locs hS => ?_)
      refine lv_icmp_ge (tgt := 26) E.1 hb dX6_pursesAll_9 (by decide) (fun hc => ?_) (fun hc => ?_)
      · have hf := it_s hc hf
        refine lv_iload_n E.1 hb dX6_pursesAll_26 rfl (lv_at hl 1 rfl) ?_
        exact m_irR E hb hr hlk hS hf dX6_pursesAll_27
      · have hf := if_s hc hf
        refine lv_iload_n E.1 hb dX6_pursesAll_12 rfl (lv_at hl 1 rfl) ?_
        refine lv_aload_n E.1 hb dX6_pursesAll_13 rfl (lv_at hl 0 rfl) ?_
        refine lv_iload_n E.1 hb dX6_pursesAll_14 rfl (lv_at hl 2 rfl) ?_
        obtain ⟨r2, h1, hf⟩ := bo_s hf
        refine m_cVi E hb hml hl.1 hS (cmf_purseOf h1) gw_purseOf gn_purseOf rfl rfl (Nat.le_of_ble_eq_true rfl) ⟨Nat.le_of_ble_eq_true rfl, Nat.le_of_ble_eq_true rfl⟩ ⟨Nat.le_refl 0, Nat.le_refl 0⟩ dX6_pursesAll_15 (fun H locs hS => ?_)
        refine lv_iadd E.1 hb dX6_pursesAll_18 ?_
        refine lv_istore_n (lv' := [(1, .int (x1 + r2)), (0, .ref o), (2, .int x2)]) E.1 hb dX6_pursesAll_19 rfl hl (by decide) rfl (fun ls hl => ?_)
        refine lv_iinc (v := (x2 + 1)) (lv' := [(2, .int (x2 + 1)), (1, .int (x1 + r2)), (0, .ref o)]) E.1 hb dX6_pursesAll_20 hl (k := 2) rfl rfl (by decide) rfl (fun ls hl => ?_)
        refine lv_goto (tgt := 4) E.1 hb dX6_pursesAll_23 (by decide) ?_
        exact hk4 (x1 + r2) (x2 + 1) hf _ _ hS _ (lv_sub hl [2, 1, 0] rfl)
  unfold M_pursesAll at hf
  refine lv_iconst (v := 0) E.1 hb dX6_pursesAll_0 rfl ?_
  refine lv_istore_n (lv' := [(1, .int 0), (0, .ref o)]) E.1 hb dX6_pursesAll_1 rfl hl (by decide) rfl (fun ls hl => ?_)
  refine lv_iconst (v := 0) E.1 hb dX6_pursesAll_2 rfl ?_
  refine lv_istore_n (lv' := [(2, .int 0), (1, .int 0), (0, .ref o)]) E.1 hb dX6_pursesAll_3 rfl hl (by decide) rfl (fun ls hl => ?_)
  exact hL4 N 0 0 hf _ _ hS _ (lv_sub hl [2, 1, 0] rfl)
/-! has(I)I: RW -/
noncomputable def M_has_b60 (N : Nat) (σ : mSt) (x1 : Int32) : Option (Int32 × mSt) :=
  bo (ld 2 σ 40 (2 + x1)) fun v1 => some (v1, σ)
noncomputable def M_has (N : Nat) (σ : mSt) (x1 : Int32) : Option (Int32 × mSt) :=
  if x1 = 0 then (M_has_b60 N σ x1) else (if x1 = 1 then (M_has_b60 N σ x1) else (if x1 = 2 then (bo (M_glossMany N σ) fun r2 => some (r2, σ)) else (if x1 = 3 then (bo (ld 2 σ 41 4) fun v3 => some (v3, σ)) else (if x1 = 4 then (bo (M_beingMany σ) fun r4 => some (r4, σ)) else (if x1 = 5 then (bo (ld 2 σ 56 0) fun v5 => some (v5, σ)) else (if x1 = 6 then (bo (ld 2 σ 56 0) fun v6 => bd (M_openingOn N σ v6) fun r7 σ8 => some (r7, σ8)) else (if x1 = 7 then (bo (M_pursesAll N σ) fun r9 => some (r9, σ)) else (if x1 = 8 then (bo (ld 2 σ 56 39) fun v10 => some (v10, σ)) else (if x1 = 9 then (some ((σ.1 65 0), σ)) else (if x1 = 10 then (some ((σ.1 69 0), σ)) else (some ((-1), σ))))))))))))
abbrev rM_has : Room := { frames := 4, cells := 0, slots := 0, locals := 96 }
set_option maxHeartbeats 4000000 in
theorem cmf_has {l : Launch} {dC : Nat → ClassId} {dI : Nat → Nat → Nat} {ac : Nat → ClassId} {o : Nat} {ad : Nat → Nat} {N : Nat} {σ : mSt} {x1 : Int32} {r : Int32} {σ' : mSt} (hf : M_has N σ x1 = some (r, σ')) : Met l yX6_has (ws_ yX6_has cX6_has 2 (some .int)) { frames := 4, cells := 0, slots := 0, locals := 96 } (va_Pc [.ref o, .int x1] (mPre dC dI ac o ad σ)) (mQi dC dI ac o ad r σ') 0 0 (mF o ad) := by
  refine m_of (by decide) rfl (Nat.le_of_ble_eq_true rfl) ?_
  intro p e s m args below meth c E hb hr hlk hml hS ls hl
  have hl : lv_has ls 2 [(0, .ref o), (1, .int x1)] := hl
  have hB60 : ∀ (σ : mSt) (x1 : Int32), M_has_b60 N σ x1 = some (r, σ') → ∀ (H : Heap) (locs : List Loc), mS dC dI ac o ad s.heap σ H locs → ∀ (ls : Array Slot), lv_has ls 2 [(0, .ref o), (1, .int x1)] → W p l e rM_has s m args below meth c H locs 0 0 (MQ below (mQi dC dI ac o ad r σ') args s 0 0 (mF o ad)) (F0 m 60 ls []) := by
    intro σ x1 hf H locs hS ls hl
    unfold M_has_b60 at hf
    refine lv_aload_n E.1 hb dX6_has_60 rfl (lv_at hl 0 rfl) ?_
    refine m_gA (k := 40) E hb hS 2 rfl (by decide) fl_40 dX6_has_61 ?_
    refine lv_iconst (v := 2) E.1 hb dX6_has_64 rfl ?_
    refine lv_iload_n E.1 hb dX6_has_65 rfl (lv_at hl 1 rfl) ?_
    refine lv_iadd E.1 hb dX6_has_66 ?_
    obtain ⟨hg, hf⟩ := ld_s hf
    refine m_ild E hb hS hg dX6_has_67 ?_
    exact m_ir E hb hr hlk hS hf dX6_has_68
  unfold M_has at hf
  refine lv_iload_n E.1 hb dX6_has_0 rfl (lv_at hl 1 rfl) ?_
  by_cases hc0 : x1 = 0
  · have hf := it_s hc0 hf
    refine lv_tableIn (tgt := 60) E.1 hb dX6_has_1 (by rw [hc0]; decide) (by rw [hc0]; decide) (by rw [hc0]; rfl) (by decide) ?_
    exact hB60 σ x1 hf _ _ hS _ (lv_sub hl [0, 1] rfl)
  · have hf := if_s hc0 hf
    by_cases hc1 : x1 = 1
    · have hf := it_s hc1 hf
      refine lv_tableIn (tgt := 60) E.1 hb dX6_has_1 (by rw [hc1]; decide) (by rw [hc1]; decide) (by rw [hc1]; rfl) (by decide) ?_
      exact hB60 σ x1 hf _ _ hS _ (lv_sub hl [0, 1] rfl)
    · have hf := if_s hc1 hf
      by_cases hc2 : x1 = 2
      · have hf := it_s hc2 hf
        refine lv_tableIn (tgt := 69) E.1 hb dX6_has_1 (by rw [hc2]; decide) (by rw [hc2]; decide) (by rw [hc2]; rfl) (by decide) ?_
        refine lv_aload_n E.1 hb dX6_has_69 rfl (lv_at hl 0 rfl) ?_
        obtain ⟨r2, h1, hf⟩ := bo_s hf
        refine m_cVi E hb hml hl.1 hS (cmf_glossMany h1) gw_glossMany gn_glossMany rfl rfl (Nat.le_of_ble_eq_true rfl) ⟨Nat.le_of_ble_eq_true rfl, Nat.le_of_ble_eq_true rfl⟩ ⟨Nat.le_refl 0, Nat.le_refl 0⟩ dX6_has_70 (fun H locs hS => ?_)
        exact m_ir E hb hr hlk hS hf dX6_has_73
      · have hf := if_s hc2 hf
        by_cases hc3 : x1 = 3
        · have hf := it_s hc3 hf
          refine lv_tableIn (tgt := 74) E.1 hb dX6_has_1 (by rw [hc3]; decide) (by rw [hc3]; decide) (by rw [hc3]; rfl) (by decide) ?_
          refine lv_aload_n E.1 hb dX6_has_74 rfl (lv_at hl 0 rfl) ?_
          refine m_gA (k := 41) E hb hS 2 rfl (by decide) fl_41 dX6_has_75 ?_
          refine lv_iconst (v := 4) E.1 hb dX6_has_78 rfl ?_
          obtain ⟨hg, hf⟩ := ld_s hf
          refine m_ild E hb hS hg dX6_has_79 ?_
          exact m_ir E hb hr hlk hS hf dX6_has_80
        · have hf := if_s hc3 hf
          by_cases hc4 : x1 = 4
          · have hf := it_s hc4 hf
            refine lv_tableIn (tgt := 81) E.1 hb dX6_has_1 (by rw [hc4]; decide) (by rw [hc4]; decide) (by rw [hc4]; rfl) (by decide) ?_
            refine lv_aload_n E.1 hb dX6_has_81 rfl (lv_at hl 0 rfl) ?_
            obtain ⟨r4, h1, hf⟩ := bo_s hf
            refine m_cVi E hb hml hl.1 hS (cmf_beingMany h1) gw_beingMany gn_beingMany rfl rfl (Nat.le_of_ble_eq_true rfl) ⟨Nat.le_of_ble_eq_true rfl, Nat.le_of_ble_eq_true rfl⟩ ⟨Nat.le_refl 0, Nat.le_refl 0⟩ dX6_has_82 (fun H locs hS => ?_)
            exact m_ir E hb hr hlk hS hf dX6_has_85
          · have hf := if_s hc4 hf
            by_cases hc5 : x1 = 5
            · have hf := it_s hc5 hf
              refine lv_tableIn (tgt := 86) E.1 hb dX6_has_1 (by rw [hc5]; decide) (by rw [hc5]; decide) (by rw [hc5]; rfl) (by decide) ?_
              refine lv_aload_n E.1 hb dX6_has_86 rfl (lv_at hl 0 rfl) ?_
              refine m_gA (k := 56) E hb hS 2 rfl (by decide) fl_56 dX6_has_87 ?_
              refine lv_iconst (v := 0) E.1 hb dX6_has_90 rfl ?_
              obtain ⟨hg, hf⟩ := ld_s hf
              refine m_ild E hb hS hg dX6_has_91 ?_
              exact m_ir E hb hr hlk hS hf dX6_has_92
            · have hf := if_s hc5 hf
              by_cases hc6 : x1 = 6
              · have hf := it_s hc6 hf
                refine lv_tableIn (tgt := 93) E.1 hb dX6_has_1 (by rw [hc6]; decide) (by rw [hc6]; decide) (by rw [hc6]; rfl) (by decide) ?_
                refine lv_aload_n E.1 hb dX6_has_93 rfl (lv_at hl 0 rfl) ?_
                refine lv_aload_n E.1 hb dX6_has_94 rfl (lv_at hl 0 rfl) ?_
                refine m_gA (k := 56) E hb hS 2 rfl (by decide) fl_56 dX6_has_95 ?_
                refine lv_iconst (v := 0) E.1 hb dX6_has_98 rfl ?_
                obtain ⟨hg, hf⟩ := ld_s hf
                refine m_ild E hb hS hg dX6_has_99 ?_
                obtain ⟨r7, σ8, h1, hf⟩ := bd_s hf
                refine m_cVi E hb hml hl.1 hS (cmf_openingOn h1) gw_openingOn gn_openingOn rfl rfl (Nat.le_of_ble_eq_true rfl) ⟨Nat.le_of_ble_eq_true rfl, Nat.le_of_ble_eq_true rfl⟩ ⟨Nat.le_refl 0, Nat.le_refl 0⟩ dX6_has_100 (fun H locs hS => ?_)
                exact m_ir E hb hr hlk hS hf dX6_has_103
              · have hf := if_s hc6 hf
                by_cases hc7 : x1 = 7
                · have hf := it_s hc7 hf
                  refine lv_tableIn (tgt := 104) E.1 hb dX6_has_1 (by rw [hc7]; decide) (by rw [hc7]; decide) (by rw [hc7]; rfl) (by decide) ?_
                  refine lv_aload_n E.1 hb dX6_has_104 rfl (lv_at hl 0 rfl) ?_
                  obtain ⟨r9, h1, hf⟩ := bo_s hf
                  refine m_cVi E hb hml hl.1 hS (cmf_pursesAll h1) gw_pursesAll gn_pursesAll rfl rfl (Nat.le_of_ble_eq_true rfl) ⟨Nat.le_of_ble_eq_true rfl, Nat.le_of_ble_eq_true rfl⟩ ⟨Nat.le_refl 0, Nat.le_refl 0⟩ dX6_has_105 (fun H locs hS => ?_)
                  exact m_ir E hb hr hlk hS hf dX6_has_108
                · have hf := if_s hc7 hf
                  by_cases hc8 : x1 = 8
                  · have hf := it_s hc8 hf
                    refine lv_tableIn (tgt := 109) E.1 hb dX6_has_1 (by rw [hc8]; decide) (by rw [hc8]; decide) (by rw [hc8]; rfl) (by decide) ?_
                    refine lv_aload_n E.1 hb dX6_has_109 rfl (lv_at hl 0 rfl) ?_
                    refine m_gA (k := 56) E hb hS 2 rfl (by decide) fl_56 dX6_has_110 ?_
                    refine lv_bipush (v := 39) E.1 hb dX6_has_113 rfl ?_
                    obtain ⟨hg, hf⟩ := ld_s hf
                    refine m_ild E hb hS hg dX6_has_115 ?_
                    exact m_ir E hb hr hlk hS hf dX6_has_116
                  · have hf := if_s hc8 hf
                    by_cases hc9 : x1 = 9
                    · have hf := it_s hc9 hf
                      refine lv_tableIn (tgt := 117) E.1 hb dX6_has_1 (by rw [hc9]; decide) (by rw [hc9]; decide) (by rw [hc9]; rfl) (by decide) ?_
                      refine lv_aload_n E.1 hb dX6_has_117 rfl (lv_at hl 0 rfl) ?_
                      refine m_gI (k := 65) E hb hS rfl fl_65 dX6_has_118 ?_
                      exact m_ir E hb hr hlk hS hf dX6_has_121
                    · have hf := if_s hc9 hf
                      by_cases hc10 : x1 = 10
                      · have hf := it_s hc10 hf
                        refine lv_tableIn (tgt := 122) E.1 hb dX6_has_1 (by rw [hc10]; decide) (by rw [hc10]; decide) (by rw [hc10]; rfl) (by decide) ?_
                        refine lv_aload_n E.1 hb dX6_has_122 rfl (lv_at hl 0 rfl) ?_
                        refine m_gI (k := 69) E hb hS rfl fl_69 dX6_has_123 ?_
                        exact m_ir E hb hr hlk hS hf dX6_has_126
                      · have hf := if_s hc10 hf
                        have q0 : (x1 : Int32).toInt ≠ 0 := ne_toInt hc0 rfl
                        have q1 : (x1 : Int32).toInt ≠ 1 := ne_toInt hc1 rfl
                        have q2 : (x1 : Int32).toInt ≠ 2 := ne_toInt hc2 rfl
                        have q3 : (x1 : Int32).toInt ≠ 3 := ne_toInt hc3 rfl
                        have q4 : (x1 : Int32).toInt ≠ 4 := ne_toInt hc4 rfl
                        have q5 : (x1 : Int32).toInt ≠ 5 := ne_toInt hc5 rfl
                        have q6 : (x1 : Int32).toInt ≠ 6 := ne_toInt hc6 rfl
                        have q7 : (x1 : Int32).toInt ≠ 7 := ne_toInt hc7 rfl
                        have q8 : (x1 : Int32).toInt ≠ 8 := ne_toInt hc8 rfl
                        have q9 : (x1 : Int32).toInt ≠ 9 := ne_toInt hc9 rfl
                        have q10 : (x1 : Int32).toInt ≠ 10 := ne_toInt hc10 rfl
                        refine lv_tableOut (tgt := 127) E.1 hb dX6_has_1 (by omega) (by decide) ?_
                        refine lv_iconst (v := (-1)) E.1 hb dX6_has_127 rfl ?_
                        exact m_ir E hb hr hlk hS hf dX6_has_128
/-! letter(II)I: RO -/
noncomputable def M_letter_b73 (N : Nat) (σ : mSt) (k73 : Int32 → Int64 → Int32 → Option Int32) (x2 : Int32) (x3 : Int64) (x6 : Int32) : Option Int32 :=
  if x6 ≤ x2 then (some (Int64.toInt32 (x3 - x3 / 27 * 27))) else (k73 x2 (x3 / 27) (x6 + (-1)))
noncomputable def M_letter_b38 (N : Nat) (σ : mSt) (k38 : Int32 → Int64 → Int32 → Int64 → Option Int32) (x2 : Int32) (x3 : Int64) (x5 : Int32) (x6 : Int64) : Option Int32 :=
  if x6 ≤ 0 then (if x2 < x5 then (rn3 (M_letter_b73 N σ) N x2 x3 (x5 - 1)) else (some 0)) else (k38 x2 x3 (x5 + 1) (x6 / 27))
noncomputable def M_letter (N : Nat) (σ : mSt) (x1 : Int32) (x2 : Int32) : Option Int32 :=
  bo (M_isBeing σ x1) fun r1 => if r1 = 0 then (some (-1)) else (bo (M_isIn (Int32.toInt64 x2) 0 5) fun r2 => if r2 = 0 then (some (-1)) else (bo (ldL σ 42 (8 + x1)) fun v3 => rn4 (M_letter_b38 N σ) N x2 v3 0 v3))
abbrev rM_letter : Room := { frames := 2, cells := 0, slots := 0, locals := 46 }
set_option maxHeartbeats 4000000 in
theorem cmf_letter {l : Launch} {dC : Nat → ClassId} {dI : Nat → Nat → Nat} {ac : Nat → ClassId} {o : Nat} {ad : Nat → Nat} {N : Nat} {σ : mSt} {x1 : Int32} {x2 : Int32} {r : Int32} (hf : M_letter N σ x1 x2 = some r) : Met l yX6_letter (ws_ yX6_letter cX6_letter 8 (some .int)) { frames := 2, cells := 0, slots := 0, locals := 46 } (va_Pc [.ref o, .int x1, .int x2] (mPre dC dI ac o ad σ)) (mQi dC dI ac o ad r σ) 0 0 (mF o ad) := by
  refine m_of (by decide) rfl (Nat.le_of_ble_eq_true rfl) ?_
  intro p e s m args below meth c E hb hr hlk hml hS ls hl
  have hl : lv_has ls 8 [(0, .ref o), (1, .int x1), (2, .int x2)] := hl
  have hL73 : ∀ (n : Nat) (x2 : Int32) (x3 : Int64) (x6 : Int32), rn3 (M_letter_b73 N σ) n x2 x3 x6 = some r → ∀ (H : Heap) (locs : List Loc), mS dC dI ac o ad s.heap σ H locs → ∀ (ls : Array Slot), lv_has ls 8 [(0, .ref o), (2, .int x2), (3, .long x3), (6, .int x6)] → W p l e rM_letter s m args below meth c H locs 0 0 (MQ below (mQi dC dI ac o ad r σ) args s 0 0 (mF o ad)) (F0 m 73 ls []) := by
    intro  n
    induction n with
    | zero =>
      intro x2 x3 x6 hf
      cases hf
    | succ n ih =>
      intro x2 x3 x6 hf H locs hS ls hl
      have hf : M_letter_b73 N σ (rn3 (M_letter_b73 N σ) n) x2 x3 x6 = some r := hf
      have hk73 := ih
      generalize rn3 (M_letter_b73 N σ) n = k73 at hf hk73
      unfold M_letter_b73 at hf
      refine lv_iload E.1 hb dX6_letter_73 (lv_at hl 3 rfl) ?_
      refine lv_iload_n E.1 hb dX6_letter_75 rfl (lv_at hl 1 rfl) ?_
      refine lv_icmp_le (tgt := 91) E.1 hb dX6_letter_76 (by decide) (fun hc => ?_) (fun hc => ?_)
      · have hf := it_s hc hf
        refine lv_lload_n E.1 hb dX6_letter_91 rfl (lv_at hl 2 rfl) ?_
        refine lv_ldc2 E.1 hb E.2.1 (E.2.2.1 _ q2098) dX6_letter_92 ?_
        refine lv_lrem E.1 hb dX6_letter_95 (by decide) ?_
        refine lv_l2i E.1 hb dX6_letter_96 rfl ?_
        exact m_irR E hb hr hlk hS hf dX6_letter_97
      · have hf := if_s hc hf
        refine lv_lload_n E.1 hb dX6_letter_79 rfl (lv_at hl 2 rfl) ?_
        refine lv_ldc2 E.1 hb E.2.1 (E.2.2.1 _ q2098) dX6_letter_80 ?_
        refine lv_ldiv E.1 hb dX6_letter_83 (by decide) ?_
        refine lv_lstore_n (lv' := [(3, .long (x3 / 27)), (0, .ref o), (2, .int x2), (6, .int x6)]) E.1 hb dX6_letter_84 rfl hl (by decide) rfl (fun ls hl => ?_)
        refine lv_iinc (v := (x6 + (-1))) (lv' := [(6, .int (x6 + (-1))), (3, .long (x3 / 27)), (0, .ref o), (2, .int x2)]) E.1 hb dX6_letter_85 hl (k := 3) rfl rfl (by decide) rfl (fun ls hl => ?_)
        refine lv_goto (tgt := 73) E.1 hb dX6_letter_88 (by decide) ?_
        exact hk73 x2 (x3 / 27) (x6 + (-1)) hf _ _ hS _ (lv_sub hl [2, 3, 1, 0] rfl)
  have hL38 : ∀ (n : Nat) (x2 : Int32) (x3 : Int64) (x5 : Int32) (x6 : Int64), rn4 (M_letter_b38 N σ) n x2 x3 x5 x6 = some r → ∀ (H : Heap) (locs : List Loc), mS dC dI ac o ad s.heap σ H locs → ∀ (ls : Array Slot), lv_has ls 8 [(0, .ref o), (2, .int x2), (3, .long x3), (5, .int x5), (6, .long x6)] → W p l e rM_letter s m args below meth c H locs 0 0 (MQ below (mQi dC dI ac o ad r σ) args s 0 0 (mF o ad)) (F0 m 38 ls []) := by
    intro  n
    induction n with
    | zero =>
      intro x2 x3 x5 x6 hf
      cases hf
    | succ n ih =>
      intro x2 x3 x5 x6 hf H locs hS ls hl
      have hf : M_letter_b38 N σ (rn4 (M_letter_b38 N σ) n) x2 x3 x5 x6 = some r := hf
      have hk38 := ih
      generalize rn4 (M_letter_b38 N σ) n = k38 at hf hk38
      unfold M_letter_b38 at hf
      refine lv_lload E.1 hb dX6_letter_38 (lv_at hl 4 rfl) ?_
      refine lv_lconst (v := 0) E.1 hb dX6_letter_40 rfl ?_
      refine lv_lc_le (tgt := 59) E.1 hb dX6_letter_41 dX6_letter_42 (by decide) (fun hc => ?_) (fun hc => ?_)
      · have hf := it_s hc hf
        refine lv_iload_n E.1 hb dX6_letter_59 rfl (lv_at hl 1 rfl) ?_
        refine lv_iload E.1 hb dX6_letter_60 (lv_at hl 3 rfl) ?_
        refine lv_icmp_lt (tgt := 67) E.1 hb dX6_letter_62 (by decide) (fun hc => ?_) (fun hc => ?_)
        · have hf := it_s hc hf
          refine lv_iload E.1 hb dX6_letter_67 (lv_at hl 3 rfl) ?_
          refine lv_iconst (v := 1) E.1 hb dX6_letter_69 rfl ?_
          refine lv_isub E.1 hb dX6_letter_70 ?_
          refine lv_istore (lv' := [(6, .int (x5 - 1)), (0, .ref o), (2, .int x2), (3, .long x3), (5, .int x5)]) E.1 hb dX6_letter_71 hl (by decide) rfl (fun ls hl => ?_)
          exact hL73 N x2 x3 (x5 - 1) hf _ _ hS _ (lv_sub hl [1, 2, 3, 0] rfl)
        · have hf := if_s hc hf
          refine lv_iconst (v := 0) E.1 hb dX6_letter_65 rfl ?_
          exact m_irR E hb hr hlk hS hf dX6_letter_66
      · have hf := if_s hc hf
        refine lv_iinc (v := (x5 + 1)) (lv' := [(5, .int (x5 + 1)), (0, .ref o), (2, .int x2), (3, .long x3), (6, .long x6)]) E.1 hb dX6_letter_45 hl (k := 3) rfl rfl (by decide) rfl (fun ls hl => ?_)
        refine lv_lload E.1 hb dX6_letter_48 (lv_at hl 4 rfl) ?_
        refine lv_ldc2 E.1 hb E.2.1 (E.2.2.1 _ q2098) dX6_letter_50 ?_
        refine lv_ldiv E.1 hb dX6_letter_53 (by decide) ?_
        refine lv_lstore (lv' := [(6, .long (x6 / 27)), (5, .int (x5 + 1)), (0, .ref o), (2, .int x2), (3, .long x3)]) E.1 hb dX6_letter_54 hl (by decide) rfl (fun ls hl => ?_)
        refine lv_goto (tgt := 38) E.1 hb dX6_letter_56 (by decide) ?_
        exact hk38 x2 x3 (x5 + 1) (x6 / 27) hf _ _ hS _ (lv_sub hl [2, 3, 4, 1, 0] rfl)
  unfold M_letter at hf
  refine lv_aload_n E.1 hb dX6_letter_0 rfl (lv_at hl 0 rfl) ?_
  refine lv_iload_n E.1 hb dX6_letter_1 rfl (lv_at hl 1 rfl) ?_
  obtain ⟨r1, h1, hf⟩ := bo_s hf
  refine m_cVi E hb hml hl.1 hS (cmf_isBeing h1) gw_isBeing gn_isBeing rfl rfl (Nat.le_of_ble_eq_true rfl) ⟨Nat.le_of_ble_eq_true rfl, Nat.le_of_ble_eq_true rfl⟩ ⟨Nat.le_refl 0, Nat.le_refl 0⟩ dX6_letter_2 (fun H locs hS => ?_)
  refine lv_if_eq (tgt := 20) E.1 hb dX6_letter_5 (by decide) (fun hc => ?_) (fun hc => ?_)
  · have hf := it_s hc hf
    refine lv_iconst (v := (-1)) E.1 hb dX6_letter_20 rfl ?_
    exact m_irR E hb hr hlk hS hf dX6_letter_21
  · have hf := if_s hc hf
    refine lv_iload_n E.1 hb dX6_letter_8 rfl (lv_at hl 2 rfl) ?_
    refine lv_i2l E.1 hb dX6_letter_9 rfl ?_
    refine lv_lconst (v := 0) E.1 hb dX6_letter_10 rfl ?_
    refine lv_ldc2 E.1 hb E.2.1 (E.2.2.1 _ q2268) dX6_letter_11 ?_
    obtain ⟨r2, h1, hf⟩ := bo_s hf
    refine m_cSi E hb hml hl.1 hS (cmf_isIn h1) gw_isIn gn_isIn rfl rfl (Nat.le_of_ble_eq_true rfl) ⟨Nat.le_of_ble_eq_true rfl, Nat.le_of_ble_eq_true rfl⟩ ⟨Nat.le_refl 0, Nat.le_refl 0⟩ dX6_letter_14 (fun H locs hS => ?_)
    refine lv_if_ne (tgt := 22) E.1 hb dX6_letter_17 (by decide) (fun hc => ?_) (fun hc => ?_)
    · have hf := if_s hc hf
      refine lv_aload_n E.1 hb dX6_letter_22 rfl (lv_at hl 0 rfl) ?_
      refine m_gA (k := 42) E hb hS 3 rfl (by decide) fl_42 dX6_letter_23 ?_
      refine lv_bipush (v := 8) E.1 hb dX6_letter_26 rfl ?_
      refine lv_iload_n E.1 hb dX6_letter_28 rfl (lv_at hl 1 rfl) ?_
      refine lv_iadd E.1 hb dX6_letter_29 ?_
      obtain ⟨hg, hf⟩ := ldL_s hf
      refine m_lld E hb hS hg dX6_letter_30 ?_
      refine lv_lstore_n (lv' := [(3, .long (σ.2 42 (8 + x1).toNatClampNeg)), (0, .ref o), (1, .int x1), (2, .int x2)]) E.1 hb dX6_letter_31 rfl hl (by decide) rfl (fun ls hl => ?_)
      refine lv_iconst (v := 0) E.1 hb dX6_letter_32 rfl ?_
      refine lv_istore (lv' := [(5, .int 0), (3, .long (σ.2 42 (8 + x1).toNatClampNeg)), (0, .ref o), (1, .int x1), (2, .int x2)]) E.1 hb dX6_letter_33 hl (by decide) rfl (fun ls hl => ?_)
      refine lv_lload_n E.1 hb dX6_letter_35 rfl (lv_at hl 1 rfl) ?_
      refine lv_lstore (lv' := [(6, .long (σ.2 42 (8 + x1).toNatClampNeg)), (5, .int 0), (3, .long (σ.2 42 (8 + x1).toNatClampNeg)), (0, .ref o), (1, .int x1), (2, .int x2)]) E.1 hb dX6_letter_36 hl (by decide) rfl (fun ls hl => ?_)
      exact hL38 N x2 (σ.2 42 (8 + x1).toNatClampNeg) 0 (σ.2 42 (8 + x1).toNatClampNeg) hf _ _ hS _ (lv_sub hl [3, 5, 2, 1, 0] rfl)
    · have hf := it_s hc hf
      refine lv_iconst (v := (-1)) E.1 hb dX6_letter_20 rfl ?_
      exact m_irR E hb hr hlk hS hf dX6_letter_21
