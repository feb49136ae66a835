set_option maxRecDepth 100000
/-! isIn(JJJ)Z: P -/
noncomputable def M_isIn (x0 : Int64) (x2 : Int64) (x4 : Int64) : Option Int32 :=
  if x0 < x2 then (some 0) else (if x4 < x0 then (some 0) else (some 1))
theorem gw_isIn : GoodIn lw_all (va_wsS RX6 286 yX6_isIn (ws_ yX6_isIn cX6_isIn 6 (some .boolean))) := lw_S q2047 q2048 q164 q2049
theorem gn_isIn : yX6_isIn.cls ≠ "java/lang/invoke/MethodHandle" ∧ yX6_isIn.cls ≠ "java/lang/invoke/VarHandle" ∧ (parseMethodDescriptor yX6_isIn.desc).map (fun d => d.parameters.length) = some 3 := by decide +kernel
abbrev rM_isIn : Room := { frames := 0, cells := 0, slots := 0, locals := 0 }
set_option maxHeartbeats 4000000 in
theorem cmf_isIn {l : Launch} {dC : Nat → ClassId} {dI : Nat → Nat → Nat} {ac : Nat → ClassId} {o : Nat} {ad : Nat → Nat} {σ : mSt} {x0 : Int64} {x2 : Int64} {x4 : Int64} {r : Int32} (hf : M_isIn x0 x2 x4 = some r) : Met l yX6_isIn (ws_ yX6_isIn cX6_isIn 6 (some .boolean)) { frames := 0, cells := 0, slots := 0, locals := 0 } (va_Pc [.long x0, .long x2, .long x4] (mPre dC dI ac o ad σ)) (mQi dC dI ac o ad r σ) 0 0 (mF o ad) := by
  refine m_of (by decide) rfl (Nat.le_of_ble_eq_true rfl) ?_
  intro p e s m args below meth c E hb hr hlk hml hS ls hl
  have hl : lv_has ls 6 [(0, .long x0), (2, .long x2), (4, .long x4)] := hl
  unfold M_isIn at hf
  refine lv_lload_n E.1 hb dX6_isIn_0 rfl (lv_at hl 0 rfl) ?_
  refine lv_lload_n E.1 hb dX6_isIn_1 rfl (lv_at hl 1 rfl) ?_
  refine lv_lc_lt (tgt := 17) E.1 hb dX6_isIn_2 dX6_isIn_3 (by decide) (fun hc => ?_) (fun hc => ?_)
  · have hf := it_s hc hf
    refine lv_iconst (v := 0) E.1 hb dX6_isIn_17 rfl ?_
    exact m_zrR E hb hr hlk hS rfl hf dX6_isIn_18
  · have hf := if_s hc hf
    refine lv_lload_n E.1 hb dX6_isIn_6 rfl (lv_at hl 0 rfl) ?_
    refine lv_lload E.1 hb dX6_isIn_7 (lv_at hl 2 rfl) ?_
    refine lv_lc_gt (tgt := 17) E.1 hb dX6_isIn_9 dX6_isIn_10 (by decide) (fun hc => ?_) (fun hc => ?_)
    · have hf := it_s hc hf
      refine lv_iconst (v := 0) E.1 hb dX6_isIn_17 rfl ?_
      exact m_zrR E hb hr hlk hS rfl hf dX6_isIn_18
    · have hf := if_s hc hf
      refine lv_iconst (v := 1) E.1 hb dX6_isIn_13 rfl ?_
      refine lv_goto (tgt := 18) E.1 hb dX6_isIn_14 (by decide) ?_
      exact m_zrR E hb hr hlk hS rfl hf dX6_isIn_18
/-! feed(IIIII)I: RW -/
noncomputable def M_feed_b81 (N : Nat) (k28 : mSt → Int32 → Int32 → Int32 → Int32 → Int32 → Int32 → Option (Int32 × mSt)) (σ : mSt) (x1 : Int32) (x2 : Int32) (x3 : Int32) (x4 : Int32) (x5 : Int32) (x6 : Int32) (y0 : Int32) : Option (Int32 × mSt) :=
  bo (stI 2 σ 0 (σ.1 1 0) ((y0 >>> ((8 * (3 - (x6 - x6 / 4 * 4))) &&& 31)) &&& 255)) fun σ1 => lt2 (mUI σ1 1 0 ((σ1.1 1 0) + 1)) fun σ2 => k28 σ2 x1 x2 x3 x4 x5 (x6 + 1)
noncomputable def M_feed_b28 (N : Nat) (k28 : mSt → Int32 → Int32 → Int32 → Int32 → Int32 → Int32 → Option (Int32 × mSt)) (σ : mSt) (x1 : Int32) (x2 : Int32) (x3 : Int32) (x4 : Int32) (x5 : Int32) (x6 : Int32) : Option (Int32 × mSt) :=
  if 20 ≤ x6 then (some ((σ.1 1 0), σ)) else (if 4 ≤ x6 then (if 8 ≤ x6 then (if 12 ≤ x6 then (if 16 ≤ x6 then (M_feed_b81 N k28 σ x1 x2 x3 x4 x5 x6 x5) else (M_feed_b81 N k28 σ x1 x2 x3 x4 x5 x6 x4)) else (M_feed_b81 N k28 σ x1 x2 x3 x4 x5 x6 x3)) else (M_feed_b81 N k28 σ x1 x2 x3 x4 x5 x6 x2)) else (M_feed_b81 N k28 σ x1 x2 x3 x4 x5 x6 x1))
noncomputable def M_feed (N : Nat) (σ : mSt) (x1 : Int32) (x2 : Int32) (x3 : Int32) (x4 : Int32) (x5 : Int32) : Option (Int32 × mSt) :=
  if ((σ.1 1 0) + 20) ≤ 1600 then (rn7 (M_feed_b28 N) N σ x1 x2 x3 x4 x5 0) else (bo (ld 2 σ 9 0) fun v3 => bo (stI 2 σ 9 0 (v3 + 1)) fun σ4 => some ((-1), σ4))
abbrev rM_feed : Room := { frames := 0, cells := 0, slots := 0, locals := 0 }
set_option maxHeartbeats 4000000 in
theorem cmf_feed {l : Launch} {dC : Nat → ClassId} {dI : Nat → Nat → Nat} {ac : Nat → ClassId} {o : Nat} {ad : Nat → Nat} {N : Nat} {σ : mSt} {x1 : Int32} {x2 : Int32} {x3 : Int32} {x4 : Int32} {x5 : Int32} {r : Int32} {σ' : mSt} (hf : M_feed N σ x1 x2 x3 x4 x5 = some (r, σ')) : Met l yX6_feed (ws_ yX6_feed cX6_feed 8 (some .int)) { frames := 0, cells := 0, slots := 0, locals := 0 } (va_Pc [.ref o, .int x1, .int x2, .int x3, .int x4, .int x5] (mPre dC dI ac o ad σ)) (mQi dC dI ac o ad r σ') 0 0 (mF o ad) := by
  refine m_of (by decide) rfl (Nat.le_of_ble_eq_true rfl) ?_
  intro p e s m args below meth c E hb hr hlk hml hS ls hl
  have hl : lv_has ls 8 [(0, .ref o), (1, .int x1), (2, .int x2), (3, .int x3), (4, .int x4), (5, .int x5)] := hl
  have hB81 : ∀ (k28 : mSt → Int32 → Int32 → Int32 → Int32 → Int32 → Int32 → Option (Int32 × mSt)) (hk28 : ∀ (σ : mSt) (x1 : Int32) (x2 : Int32) (x3 : Int32) (x4 : Int32) (x5 : Int32) (x6 : Int32), k28 σ x1 x2 x3 x4 x5 x6 = some (r, σ') → ∀ (H : Heap) (locs : List Loc), mS dC dI ac o ad s.heap σ H locs → ∀ (ls : Array Slot), lv_has ls 8 [(0, .ref o), (1, .int x1), (2, .int x2), (3, .int x3), (4, .int x4), (5, .int x5), (6, .int x6)] → W p l e rM_feed s m args below meth c H locs 0 0 (MQ below (mQi dC dI ac o ad r σ') args s 0 0 (mF o ad)) (F0 m 28 ls [])) (σ : mSt) (x1 : Int32) (x2 : Int32) (x3 : Int32) (x4 : Int32) (x5 : Int32) (x6 : Int32) (y0 : Int32), M_feed_b81 N k28 σ x1 x2 x3 x4 x5 x6 y0 = some (r, σ') → ∀ (H : Heap) (locs : List Loc), mS dC dI ac o ad s.heap σ H locs → ∀ (ls : Array Slot), lv_has ls 8 [(0, .ref o), (1, .int x1), (2, .int x2), (3, .int x3), (4, .int x4), (5, .int x5), (6, .int x6)] → W p l e rM_feed s m args below meth c H locs 0 0 (MQ below (mQi dC dI ac o ad r σ') args s 0 0 (mF o ad)) (F0 m 81 ls [.int y0]) := by
    intro k28 hk28 σ x1 x2 x3 x4 x5 x6 y0 hf H locs hS ls hl
    unfold M_feed_b81 at hf
    refine lv_istore (lv' := [(7, .int y0), (0, .ref o), (1, .int x1), (2, .int x2), (3, .int x3), (4, .int x4), (5, .int x5), (6, .int x6)]) E.1 hb dX6_feed_81 hl (by decide) rfl (fun ls hl => ?_)
    refine lv_aload_n E.1 hb dX6_feed_83 rfl (lv_at hl 1 rfl) ?_
    refine m_gA (k := 0) E hb hS 2 rfl (by decide) fl_0 dX6_feed_84 ?_
    refine lv_aload_n E.1 hb dX6_feed_87 rfl (lv_at hl 1 rfl) ?_
    refine m_gI (k := 1) E hb hS rfl fl_1 dX6_feed_88 ?_
    refine lv_iload E.1 hb dX6_feed_91 (lv_at hl 0 rfl) ?_
    refine lv_bipush (v := 8) E.1 hb dX6_feed_93 rfl ?_
    refine lv_iconst (v := 3) E.1 hb dX6_feed_95 rfl ?_
    refine lv_iload E.1 hb dX6_feed_96 (lv_at hl 7 rfl) ?_
    refine lv_iconst (v := 4) E.1 hb dX6_feed_98 rfl ?_
    refine lv_irem E.1 hb dX6_feed_99 (by decide) ?_
    refine lv_isub E.1 hb dX6_feed_100 ?_
    refine lv_imul E.1 hb dX6_feed_101 ?_
    refine lv_ishr E.1 hb dX6_feed_102 ?_
    refine lv_sipush (v := 255) E.1 hb dX6_feed_103 rfl ?_
    refine lv_iand E.1 hb dX6_feed_106 ?_
    obtain ⟨σ1, hg, hw, hf⟩ := st_s hf
    refine m_ist E hb hS hg hw dX6_feed_107 (fun H locs hS => ?_)
    refine lv_aload_n E.1 hb dX6_feed_108 rfl (lv_at hl 1 rfl) ?_
    refine lv_dup E.1 hb dX6_feed_109 rfl ?_
    refine m_gI (k := 1) E hb hS rfl fl_1 dX6_feed_110 ?_
    refine lv_iconst (v := 1) E.1 hb dX6_feed_113 rfl ?_
    refine lv_iadd E.1 hb dX6_feed_114 ?_
    obtain ⟨σ2, hw, hf⟩ := lt2_s hf
    refine m_pI (k := 1) E hb hS rfl rfl pf_1 fl_1 hw dX6_feed_115 (fun H locs hS => ?_)
    refine lv_iinc (v := (x6 + 1)) (lv' := [(6, .int (x6 + 1)), (7, .int y0), (0, .ref o), (1, .int x1), (2, .int x2), (3, .int x3), (4, .int x4), (5, .int x5)]) E.1 hb dX6_feed_118 hl (k := 7) rfl rfl (by decide) rfl (fun ls hl => ?_)
    refine lv_goto (tgt := 28) E.1 hb dX6_feed_121 (by decide) ?_
    exact hk28 σ2 x1 x2 x3 x4 x5 (x6 + 1) hf _ _ hS _ (lv_sub hl [2, 3, 4, 5, 6, 7, 0] rfl)
  have hL28 : ∀ (n : Nat) (σ : mSt) (x1 : Int32) (x2 : Int32) (x3 : Int32) (x4 : Int32) (x5 : Int32) (x6 : Int32), rn7 (M_feed_b28 N) n σ x1 x2 x3 x4 x5 x6 = some (r, σ') → ∀ (H : Heap) (locs : List Loc), mS dC dI ac o ad s.heap σ H locs → ∀ (ls : Array Slot), lv_has ls 8 [(0, .ref o), (1, .int x1), (2, .int x2), (3, .int x3), (4, .int x4), (5, .int x5), (6, .int x6)] → W p l e rM_feed s m args below meth c H locs 0 0 (MQ below (mQi dC dI ac o ad r σ') args s 0 0 (mF o ad)) (F0 m 28 ls []) := by
    intro  n
    induction n with
    | zero =>
      intro σ x1 x2 x3 x4 x5 x6 hf
      cases hf
    | succ n ih =>
      intro σ x1 x2 x3 x4 x5 x6 hf H locs hS ls hl
      have hf : M_feed_b28 N (rn7 (M_feed_b28 N) n) σ x1 x2 x3 x4 x5 x6 = some (r, σ') := hf
      have hk28 := ih
      generalize rn7 (M_feed_b28 N) n = k28 at hf hk28
      unfold M_feed_b28 at hf
      refine lv_iload E.1 hb dX6_feed_28 (lv_at hl 6 rfl) ?_
      refine lv_bipush (v := 20) E.1 hb dX6_feed_30 rfl ?_
      refine lv_icmp_ge (tgt := 124) E.1 hb dX6_feed_32 (by decide) (fun hc => ?_) (fun hc => ?_)
      · have hf := it_s hc hf
        refine lv_aload_n E.1 hb dX6_feed_124 rfl (lv_at hl 0 rfl) ?_
        refine m_gI (k := 1) E hb hS rfl fl_1 dX6_feed_125 ?_
        exact m_ir E hb hr hlk hS hf dX6_feed_128
      · have hf := if_s hc hf
        refine lv_iload E.1 hb dX6_feed_35 (lv_at hl 6 rfl) ?_
        refine lv_iconst (v := 4) E.1 hb dX6_feed_37 rfl ?_
        refine lv_icmp_ge (tgt := 45) E.1 hb dX6_feed_38 (by decide) (fun hc => ?_) (fun hc => ?_)
        · have hf := it_s hc hf
          refine lv_iload E.1 hb dX6_feed_45 (lv_at hl 6 rfl) ?_
          refine lv_bipush (v := 8) E.1 hb dX6_feed_47 rfl ?_
          refine lv_icmp_ge (tgt := 56) E.1 hb dX6_feed_49 (by decide) (fun hc => ?_) (fun hc => ?_)
          · have hf := it_s hc hf
            refine lv_iload E.1 hb dX6_feed_56 (lv_at hl 6 rfl) ?_
            refine lv_bipush (v := 12) E.1 hb dX6_feed_58 rfl ?_
            refine lv_icmp_ge (tgt := 67) E.1 hb dX6_feed_60 (by decide) (fun hc => ?_) (fun hc => ?_)
            · have hf := it_s hc hf
              refine lv_iload E.1 hb dX6_feed_67 (lv_at hl 6 rfl) ?_
              refine lv_bipush (v := 16) E.1 hb dX6_feed_69 rfl ?_
              refine lv_icmp_ge (tgt := 79) E.1 hb dX6_feed_71 (by decide) (fun hc => ?_) (fun hc => ?_)
              · have hf := it_s hc hf
                refine lv_iload E.1 hb dX6_feed_79 (lv_at hl 5 rfl) ?_
                exact hB81 k28 hk28 σ x1 x2 x3 x4 x5 x6 x5 hf _ _ hS _ (lv_sub hl [0, 1, 2, 3, 4, 5, 6] rfl)
              · have hf := if_s hc hf
                refine lv_iload E.1 hb dX6_feed_74 (lv_at hl 4 rfl) ?_
                refine lv_goto (tgt := 81) E.1 hb dX6_feed_76 (by decide) ?_
                exact hB81 k28 hk28 σ x1 x2 x3 x4 x5 x6 x4 hf _ _ hS _ (lv_sub hl [0, 1, 2, 3, 4, 5, 6] rfl)
            · have hf := if_s hc hf
              refine lv_iload_n E.1 hb dX6_feed_63 rfl (lv_at hl 3 rfl) ?_
              refine lv_goto (tgt := 81) E.1 hb dX6_feed_64 (by decide) ?_
              exact hB81 k28 hk28 σ x1 x2 x3 x4 x5 x6 x3 hf _ _ hS _ (lv_sub hl [0, 1, 2, 3, 4, 5, 6] rfl)
          · have hf := if_s hc hf
            refine lv_iload_n E.1 hb dX6_feed_52 rfl (lv_at hl 2 rfl) ?_
            refine lv_goto (tgt := 81) E.1 hb dX6_feed_53 (by decide) ?_
            exact hB81 k28 hk28 σ x1 x2 x3 x4 x5 x6 x2 hf _ _ hS _ (lv_sub hl [0, 1, 2, 3, 4, 5, 6] rfl)
        · have hf := if_s hc hf
          refine lv_iload_n E.1 hb dX6_feed_41 rfl (lv_at hl 1 rfl) ?_
          refine lv_goto (tgt := 81) E.1 hb dX6_feed_42 (by decide) ?_
          exact hB81 k28 hk28 σ x1 x2 x3 x4 x5 x6 x1 hf _ _ hS _ (lv_sub hl [0, 1, 2, 3, 4, 5, 6] rfl)
  unfold M_feed at hf
  refine lv_aload_n E.1 hb dX6_feed_0 rfl (lv_at hl 0 rfl) ?_
  refine m_gI (k := 1) E hb hS rfl fl_1 dX6_feed_1 ?_
  refine lv_bipush (v := 20) E.1 hb dX6_feed_4 rfl ?_
  refine lv_iadd E.1 hb dX6_feed_6 ?_
  refine lv_sipush (v := 1600) E.1 hb dX6_feed_7 rfl ?_
  refine lv_icmp_le (tgt := 25) E.1 hb dX6_feed_10 (by decide) (fun hc => ?_) (fun hc => ?_)
  · have hf := it_s hc hf
    refine lv_iconst (v := 0) E.1 hb dX6_feed_25 rfl ?_
    refine lv_istore (lv' := [(6, .int 0), (0, .ref o), (1, .int x1), (2, .int x2), (3, .int x3), (4, .int x4), (5, .int x5)]) E.1 hb dX6_feed_26 hl (by decide) rfl (fun ls hl => ?_)
    exact hL28 N σ x1 x2 x3 x4 x5 0 hf _ _ hS _ (lv_sub hl [1, 2, 3, 4, 5, 6, 0] rfl)
  · have hf := if_s hc hf
    refine lv_aload_n E.1 hb dX6_feed_13 rfl (lv_at hl 0 rfl) ?_
    refine m_gA (k := 9) E hb hS 2 rfl (by decide) fl_9 dX6_feed_14 ?_
    refine lv_iconst (v := 0) E.1 hb dX6_feed_17 rfl ?_
    refine lv_dup2_11 E.1 hb dX6_feed_18 rfl rfl ?_
    obtain ⟨hg, hf⟩ := ld_s hf
    refine m_ild E hb hS hg dX6_feed_19 ?_
    refine lv_iconst (v := 1) E.1 hb dX6_feed_20 rfl ?_
    refine lv_iadd E.1 hb dX6_feed_21 ?_
    obtain ⟨σ4, hg, hw, hf⟩ := st_s hf
    refine m_ist E hb hS hg hw dX6_feed_22 (fun H locs hS => ?_)
    refine lv_iconst (v := (-1)) E.1 hb dX6_feed_23 rfl ?_
    exact m_ir E hb hr hlk hS hf dX6_feed_24
/-! end(I)Z: RW -/
noncomputable def M_end_b12 (σ : mSt) : Option (Int32 × mSt) :=
  bo (ld 2 σ 9 0) fun v1 => bo (stI 2 σ 9 0 (v1 + 1)) fun σ2 => some (0, σ2)
noncomputable def M_end (σ : mSt) (x1 : Int32) : Option (Int32 × mSt) :=
  if x1 < 0 then (M_end_b12 σ) else (if x1 ≤ (σ.1 1 0) then (lt2 (mUI σ 1 0 x1) fun σ3 => some (1, σ3)) else (M_end_b12 σ))
abbrev rM_end : Room := { frames := 0, cells := 0, slots := 0, locals := 0 }
set_option maxHeartbeats 4000000 in
theorem cmf_end {l : Launch} {dC : Nat → ClassId} {dI : Nat → Nat → Nat} {ac : Nat → ClassId} {o : Nat} {ad : Nat → Nat} {σ : mSt} {x1 : Int32} {r : Int32} {σ' : mSt} (hf : M_end σ x1 = some (r, σ')) : Met l yX6_end (ws_ yX6_end cX6_end 2 (some .boolean)) { frames := 0, cells := 0, slots := 0, locals := 0 } (va_Pc [.ref o, .int x1] (mPre dC dI ac o ad σ)) (mQi dC dI ac o ad r σ') 0 0 (mF o ad) := by
  refine m_of (by decide) rfl (Nat.le_of_ble_eq_true rfl) ?_
  intro p e s m args below meth c E hb hr hlk hml hS ls hl
  have hl : lv_has ls 2 [(0, .ref o), (1, .int x1)] := hl
  have hB12 : ∀ (σ : mSt), M_end_b12 σ = some (r, σ') → ∀ (H : Heap) (locs : List Loc), mS dC dI ac o ad s.heap σ H locs → ∀ (ls : Array Slot), lv_has ls 2 [(0, .ref o)] → W p l e rM_end s m args below meth c H locs 0 0 (MQ below (mQi dC dI ac o ad r σ') args s 0 0 (mF o ad)) (F0 m 12 ls []) := by
    intro σ hf H locs hS ls hl
    unfold M_end_b12 at hf
    refine lv_aload_n E.1 hb dX6_end_12 rfl (lv_at hl 0 rfl) ?_
    refine m_gA (k := 9) E hb hS 2 rfl (by decide) fl_9 dX6_end_13 ?_
    refine lv_iconst (v := 0) E.1 hb dX6_end_16 rfl ?_
    refine lv_dup2_11 E.1 hb dX6_end_17 rfl rfl ?_
    obtain ⟨hg, hf⟩ := ld_s hf
    refine m_ild E hb hS hg dX6_end_18 ?_
    refine lv_iconst (v := 1) E.1 hb dX6_end_19 rfl ?_
    refine lv_iadd E.1 hb dX6_end_20 ?_
    obtain ⟨σ2, hg, hw, hf⟩ := st_s hf
    refine m_ist E hb hS hg hw dX6_end_21 (fun H locs hS => ?_)
    refine lv_iconst (v := 0) E.1 hb dX6_end_22 rfl ?_
    exact m_zr E hb hr hlk hS rfl hf dX6_end_23
  unfold M_end at hf
  refine lv_iload_n E.1 hb dX6_end_0 rfl (lv_at hl 1 rfl) ?_
  refine lv_if_lt (tgt := 12) E.1 hb dX6_end_1 (by decide) (fun hc => ?_) (fun hc => ?_)
  · have hf := it_s hc hf
    exact hB12 σ hf _ _ hS _ (lv_sub hl [0] rfl)
  · have hf := if_s hc hf
    refine lv_iload_n E.1 hb dX6_end_4 rfl (lv_at hl 1 rfl) ?_
    refine lv_aload_n E.1 hb dX6_end_5 rfl (lv_at hl 0 rfl) ?_
    refine m_gI (k := 1) E hb hS rfl fl_1 dX6_end_6 ?_
    refine lv_icmp_le (tgt := 24) E.1 hb dX6_end_9 (by decide) (fun hc => ?_) (fun hc => ?_)
    · have hf := it_s hc hf
      refine lv_aload_n E.1 hb dX6_end_24 rfl (lv_at hl 0 rfl) ?_
      refine lv_iload_n E.1 hb dX6_end_25 rfl (lv_at hl 1 rfl) ?_
      obtain ⟨σ3, hw, hf⟩ := lt2_s hf
      refine m_pI (k := 1) E hb hS rfl rfl pf_1 fl_1 hw dX6_end_26 (fun H locs hS => ?_)
      refine lv_iconst (v := 1) E.1 hb dX6_end_29 rfl ?_
      exact m_zr E hb hr hlk hS rfl hf dX6_end_30
    · have hf := if_s hc hf
      exact hB12 σ hf _ _ hS _ (lv_sub hl [0] rfl)
/-! fail(II)V: RW -/
noncomputable def M_fail (σ : mSt) (x1 : Int32) (x2 : Int32) : Option (Unit × mSt) :=
  if (σ.1 5 0) = 0 then (lt2 (mUI σ 5 0 x1) fun σ1 => lt2 (mUI σ1 6 0 x2) fun σ2 => some ((), σ2)) else (some ((), σ))
theorem gw_fail : GoodIn lw_all (wsV RX6 273 RX6 yX6_fail (ws_ yX6_fail cX6_fail 3 none)) := lw_V q2036 q2038 qs66 q164 q2039
theorem gn_fail : yX6_fail.cls = RX6 ∧ yX6_fail.cls ≠ "java/lang/invoke/MethodHandle" ∧ yX6_fail.cls ≠ "java/lang/invoke/VarHandle" ∧ (parseMethodDescriptor yX6_fail.desc).map (fun d => d.parameters.length) = some 2 := by decide +kernel
abbrev rM_fail : Room := { frames := 0, cells := 0, slots := 0, locals := 0 }
set_option maxHeartbeats 4000000 in
theorem cmf_fail {l : Launch} {dC : Nat → ClassId} {dI : Nat → Nat → Nat} {ac : Nat → ClassId} {o : Nat} {ad : Nat → Nat} {σ : mSt} {x1 : Int32} {x2 : Int32} {σ' : mSt} (hf : M_fail σ x1 x2 = some ((), σ')) : Met l yX6_fail (ws_ yX6_fail cX6_fail 3 none) { frames := 0, cells := 0, slots := 0, locals := 0 } (va_Pc [.ref o, .int x1, .int x2] (mPre dC dI ac o ad σ)) (mQv dC dI ac o ad σ') 0 0 (mF o ad) := by
  refine m_of (by decide) rfl (Nat.le_of_ble_eq_true rfl) ?_
  intro p e s m args below meth c E hb hr hlk hml hS ls hl
  have hl : lv_has ls 3 [(0, .ref o), (1, .int x1), (2, .int x2)] := hl
  unfold M_fail at hf
  refine lv_aload_n E.1 hb dX6_fail_0 rfl (lv_at hl 0 rfl) ?_
  refine m_gI (k := 5) E hb hS rfl fl_5 dX6_fail_1 ?_
  refine lv_if_eq (tgt := 8) E.1 hb dX6_fail_4 (by decide) (fun hc => ?_) (fun hc => ?_)
  · have hf := it_s hc hf
    refine lv_aload_n E.1 hb dX6_fail_8 rfl (lv_at hl 0 rfl) ?_
    refine lv_iload_n E.1 hb dX6_fail_9 rfl (lv_at hl 1 rfl) ?_
    obtain ⟨σ1, hw, hf⟩ := lt2_s hf
    refine m_pI (k := 5) E hb hS rfl rfl pf_5 fl_5 hw dX6_fail_10 (fun H locs hS => ?_)
    refine lv_aload_n E.1 hb dX6_fail_13 rfl (lv_at hl 0 rfl) ?_
    refine lv_iload_n E.1 hb dX6_fail_14 rfl (lv_at hl 2 rfl) ?_
    obtain ⟨σ2, hw, hf⟩ := lt2_s hf
    refine m_pI (k := 6) E hb hS rfl rfl pf_6 fl_6 hw dX6_fail_15 (fun H locs hS => ?_)
    exact m_vr E hb hr hlk hS hf dX6_fail_18
  · have hf := if_s hc hf
    exact m_vr E hb hr hlk hS hf dX6_fail_7
/-! isLetter(I)Z: P -/
noncomputable def M_isLetter (x0 : Int32) : Option Int32 :=
  if x0 < 97 then (some 0) else (if 122 < x0 then (some 0) else (some 1))
theorem gw_isLetter : GoodIn lw_all (va_wsS RX6 259 yX6_isLetter (ws_ yX6_isLetter cX6_isLetter 1 (some .boolean))) := lw_S q2033 q2034 q164 q2035
theorem gn_isLetter : yX6_isLetter.cls ≠ "java/lang/invoke/MethodHandle" ∧ yX6_isLetter.cls ≠ "java/lang/invoke/VarHandle" ∧ (parseMethodDescriptor yX6_isLetter.desc).map (fun d => d.parameters.length) = some 1 := by decide +kernel
abbrev rM_isLetter : Room := { frames := 0, cells := 0, slots := 0, locals := 0 }
set_option maxHeartbeats 4000000 in
theorem cmf_isLetter {l : Launch} {dC : Nat → ClassId} {dI : Nat → Nat → Nat} {ac : Nat → ClassId} {o : Nat} {ad : Nat → Nat} {σ : mSt} {x0 : Int32} {r : Int32} (hf : M_isLetter x0 = some r) : Met l yX6_isLetter (ws_ yX6_isLetter cX6_isLetter 1 (some .boolean)) { frames := 0, cells := 0, slots := 0, locals := 0 } (va_Pc [.int x0] (mPre dC dI ac o ad σ)) (mQi dC dI ac o ad r σ) 0 0 (mF o ad) := by
  refine m_of (by decide) rfl (Nat.le_of_ble_eq_true rfl) ?_
  intro p e s m args below meth c E hb hr hlk hml hS ls hl
  have hl : lv_has ls 1 [(0, .int x0)] := hl
  unfold M_isLetter at hf
  refine lv_iload_n E.1 hb dX6_isLetter_0 rfl (lv_at hl 0 rfl) ?_
  refine lv_bipush (v := 97) E.1 hb dX6_isLetter_1 rfl ?_
  refine lv_icmp_lt (tgt := 16) E.1 hb dX6_isLetter_3 (by decide) (fun hc => ?_) (fun hc => ?_)
  · have hf := it_s hc hf
    refine lv_iconst (v := 0) E.1 hb dX6_isLetter_16 rfl ?_
    exact m_zrR E hb hr hlk hS rfl hf dX6_isLetter_17
  · have hf := if_s hc hf
    refine lv_iload_n E.1 hb dX6_isLetter_6 rfl (lv_at hl 0 rfl) ?_
    refine lv_bipush (v := 122) E.1 hb dX6_isLetter_7 rfl ?_
    refine lv_icmp_gt (tgt := 16) E.1 hb dX6_isLetter_9 (by decide) (fun hc => ?_) (fun hc => ?_)
    · have hf := it_s hc hf
      refine lv_iconst (v := 0) E.1 hb dX6_isLetter_16 rfl ?_
      exact m_zrR E hb hr hlk hS rfl hf dX6_isLetter_17
    · have hf := if_s hc hf
      refine lv_iconst (v := 1) E.1 hb dX6_isLetter_12 rfl ?_
      refine lv_goto (tgt := 17) E.1 hb dX6_isLetter_13 (by decide) ?_
      exact m_zrR E hb hr hlk hS rfl hf dX6_isLetter_17
/-! isDigit(I)Z: P -/
noncomputable def M_isDigit (x0 : Int32) : Option Int32 :=
  if x0 < 48 then (some 0) else (if 57 < x0 then (some 0) else (some 1))
theorem gw_isDigit : GoodIn lw_all (va_wsS RX6 280 yX6_isDigit (ws_ yX6_isDigit cX6_isDigit 1 (some .boolean))) := lw_S q2044 q2045 q164 q2046
theorem gn_isDigit : yX6_isDigit.cls ≠ "java/lang/invoke/MethodHandle" ∧ yX6_isDigit.cls ≠ "java/lang/invoke/VarHandle" ∧ (parseMethodDescriptor yX6_isDigit.desc).map (fun d => d.parameters.length) = some 1 := by decide +kernel
abbrev rM_isDigit : Room := { frames := 0, cells := 0, slots := 0, locals := 0 }
set_option maxHeartbeats 4000000 in
theorem cmf_isDigit {l : Launch} {dC : Nat → ClassId} {dI : Nat → Nat → Nat} {ac : Nat → ClassId} {o : Nat} {ad : Nat → Nat} {σ : mSt} {x0 : Int32} {r : Int32} (hf : M_isDigit x0 = some r) : Met l yX6_isDigit (ws_ yX6_isDigit cX6_isDigit 1 (some .boolean)) { frames := 0, cells := 0, slots := 0, locals := 0 } (va_Pc [.int x0] (mPre dC dI ac o ad σ)) (mQi dC dI ac o ad r σ) 0 0 (mF o ad) := by
  refine m_of (by decide) rfl (Nat.le_of_ble_eq_true rfl) ?_
  intro p e s m args below meth c E hb hr hlk hml hS ls hl
  have hl : lv_has ls 1 [(0, .int x0)] := hl
  unfold M_isDigit at hf
  refine lv_iload_n E.1 hb dX6_isDigit_0 rfl (lv_at hl 0 rfl) ?_
  refine lv_bipush (v := 48) E.1 hb dX6_isDigit_1 rfl ?_
  refine lv_icmp_lt (tgt := 16) E.1 hb dX6_isDigit_3 (by decide) (fun hc => ?_) (fun hc => ?_)
  · have hf := it_s hc hf
    refine lv_iconst (v := 0) E.1 hb dX6_isDigit_16 rfl ?_
    exact m_zrR E hb hr hlk hS rfl hf dX6_isDigit_17
  · have hf := if_s hc hf
    refine lv_iload_n E.1 hb dX6_isDigit_6 rfl (lv_at hl 0 rfl) ?_
    refine lv_bipush (v := 57) E.1 hb dX6_isDigit_7 rfl ?_
    refine lv_icmp_gt (tgt := 16) E.1 hb dX6_isDigit_9 (by decide) (fun hc => ?_) (fun hc => ?_)
    · have hf := it_s hc hf
      refine lv_iconst (v := 0) E.1 hb dX6_isDigit_16 rfl ?_
      exact m_zrR E hb hr hlk hS rfl hf dX6_isDigit_17
    · have hf := if_s hc hf
      refine lv_iconst (v := 1) E.1 hb dX6_isDigit_12 rfl ?_
      refine lv_goto (tgt := 17) E.1 hb dX6_isDigit_13 (by decide) ?_
      exact m_zrR E hb hr hlk hS rfl hf dX6_isDigit_17
/-! look()I: RW -/
noncomputable def M_look_b52 (N : Nat) (σ : mSt) : Option (Int32 × mSt) :=
  if (σ.1 3 0) ≤ (σ.1 2 0) then (some ((-1), σ)) else (bo (ld 2 σ 0 (σ.1 2 0)) fun v1 => some (v1, σ))
noncomputable def M_look_b39 (N : Nat) (k0 : mSt → Option (Int32 × mSt)) (σ : mSt) : Option (Int32 × mSt) :=
  lt2 (mUI σ 2 0 ((σ.1 2 0) + 1)) fun σ3 => k0 σ3
noncomputable def M_look_b0 (N : Nat) (k0 : mSt → Option (Int32 × mSt)) (σ : mSt) : Option (Int32 × mSt) :=
  if (σ.1 3 0) ≤ (σ.1 2 0) then (M_look_b52 N σ) else (bo (ld 2 σ 0 (σ.1 2 0)) fun v2 => if v2 = 10 then (M_look_b39 N k0 σ) else (bo (ld 2 σ 0 (σ.1 2 0)) fun v4 => if v4 = 32 then (M_look_b39 N k0 σ) else (M_look_b52 N σ)))
noncomputable def M_look (N : Nat) (σ : mSt) : Option (Int32 × mSt) :=
  rn1 (M_look_b0 N) N σ
theorem gw_look : GoodIn lw_all (wsV RX6 255 RX6 yX6_look (ws_ yX6_look cX6_look 1 (some .int))) := lw_V q2029 q2031 qs65 q164 q2032
theorem gn_look : yX6_look.cls = RX6 ∧ yX6_look.cls ≠ "java/lang/invoke/MethodHandle" ∧ yX6_look.cls ≠ "java/lang/invoke/VarHandle" ∧ (parseMethodDescriptor yX6_look.desc).map (fun d => d.parameters.length) = some 0 := by decide +kernel
abbrev rM_look : Room := { frames := 0, cells := 0, slots := 0, locals := 0 }
set_option maxHeartbeats 4000000 in
theorem cmf_look {l : Launch} {dC : Nat → ClassId} {dI : Nat → Nat → Nat} {ac : Nat → ClassId} {o : Nat} {ad : Nat → Nat} {N : Nat} {σ : mSt} {r : Int32} {σ' : mSt} (hf : M_look N σ = some (r, σ')) : Met l yX6_look (ws_ yX6_look cX6_look 1 (some .int)) { frames := 0, cells := 0, slots := 0, locals := 0 } (va_Pc [.ref o] (mPre dC dI ac o ad σ)) (mQi dC dI ac o ad r σ') 0 0 (mF o ad) := by
  refine m_of (by decide) rfl (Nat.le_of_ble_eq_true rfl) ?_
  intro p e s m args below meth c E hb hr hlk hml hS ls hl
  have hl : lv_has ls 1 [(0, .ref o)] := hl
  have hB52 : ∀ (σ : mSt), M_look_b52 N σ = some (r, σ') → ∀ (H : Heap) (locs : List Loc), mS dC dI ac o ad s.heap σ H locs → ∀ (ls : Array Slot), lv_has ls 1 [(0, .ref o)] → W p l e rM_look s m args below meth c H locs 0 0 (MQ below (mQi dC dI ac o ad r σ') args s 0 0 (mF o ad)) (F0 m 52 ls []) := by
    intro σ hf H locs hS ls hl
    unfold M_look_b52 at hf
    refine lv_aload_n E.1 hb dX6_look_52 rfl (lv_at hl 0 rfl) ?_
    refine m_gI (k := 2) E hb hS rfl fl_2 dX6_look_53 ?_
    refine lv_aload_n E.1 hb dX6_look_56 rfl (lv_at hl 0 rfl) ?_
    refine m_gI (k := 3) E hb hS rfl fl_3 dX6_look_57 ?_
    refine lv_icmp_ge (tgt := 75) E.1 hb dX6_look_60 (by decide) (fun hc => ?_) (fun hc => ?_)
    · have hf := it_s hc hf
      refine lv_iconst (v := (-1)) E.1 hb dX6_look_75 rfl ?_
      exact m_ir E hb hr hlk hS hf dX6_look_76
    · have hf := if_s hc hf
      refine lv_aload_n E.1 hb dX6_look_63 rfl (lv_at hl 0 rfl) ?_
      refine m_gA (k := 0) E hb hS 2 rfl (by decide) fl_0 dX6_look_64 ?_
      refine lv_aload_n E.1 hb dX6_look_67 rfl (lv_at hl 0 rfl) ?_
      refine m_gI (k := 2) E hb hS rfl fl_2 dX6_look_68 ?_
      obtain ⟨hg, hf⟩ := ld_s hf
      refine m_ild E hb hS hg dX6_look_71 ?_
      refine lv_goto (tgt := 76) E.1 hb dX6_look_72 (by decide) ?_
      exact m_ir E hb hr hlk hS hf dX6_look_76
  have hB39 : ∀ (k0 : mSt → Option (Int32 × mSt)) (hk0 : ∀ (σ : mSt), k0 σ = some (r, σ') → ∀ (H : Heap) (locs : List Loc), mS dC dI ac o ad s.heap σ H locs → ∀ (ls : Array Slot), lv_has ls 1 [(0, .ref o)] → W p l e rM_look s m args below meth c H locs 0 0 (MQ below (mQi dC dI ac o ad r σ') args s 0 0 (mF o ad)) (F0 m 0 ls [])) (σ : mSt), M_look_b39 N k0 σ = some (r, σ') → ∀ (H : Heap) (locs : List Loc), mS dC dI ac o ad s.heap σ H locs → ∀ (ls : Array Slot), lv_has ls 1 [(0, .ref o)] → W p l e rM_look s m args below meth c H locs 0 0 (MQ below (mQi dC dI ac o ad r σ') args s 0 0 (mF o ad)) (F0 m 39 ls []) := by
    intro k0 hk0 σ hf H locs hS ls hl
    unfold M_look_b39 at hf
    refine lv_aload_n E.1 hb dX6_look_39 rfl (lv_at hl 0 rfl) ?_
    refine lv_dup E.1 hb dX6_look_40 rfl ?_
    refine m_gI (k := 2) E hb hS rfl fl_2 dX6_look_41 ?_
    refine lv_iconst (v := 1) E.1 hb dX6_look_44 rfl ?_
    refine lv_iadd E.1 hb dX6_look_45 ?_
    obtain ⟨σ3, hw, hf⟩ := lt2_s hf
    refine m_pI (k := 2) E hb hS rfl rfl pf_2 fl_2 hw dX6_look_46 (fun H locs hS => ?_)
    refine lv_goto (tgt := 0) E.1 hb dX6_look_49 (by decide) ?_
    exact hk0 σ3 hf _ _ hS _ (lv_sub hl [0] rfl)
  have hL0 : ∀ (n : Nat) (σ : mSt), rn1 (M_look_b0 N) n σ = some (r, σ') → ∀ (H : Heap) (locs : List Loc), mS dC dI ac o ad s.heap σ H locs → ∀ (ls : Array Slot), lv_has ls 1 [(0, .ref o)] → W p l e rM_look s m args below meth c H locs 0 0 (MQ below (mQi dC dI ac o ad r σ') args s 0 0 (mF o ad)) (F0 m 0 ls []) := by
    intro  n
    induction n with
    | zero =>
      intro σ hf
      cases hf
    | succ n ih =>
      intro σ hf H locs hS ls hl
      have hf : M_look_b0 N (rn1 (M_look_b0 N) n) σ = some (r, σ') := hf
      have hk0 := ih
      generalize rn1 (M_look_b0 N) n = k0 at hf hk0
      unfold M_look_b0 at hf
      refine lv_aload_n E.1 hb dX6_look_0 rfl (lv_at hl 0 rfl) ?_
      refine m_gI (k := 2) E hb hS rfl fl_2 dX6_look_1 ?_
      refine lv_aload_n E.1 hb dX6_look_4 rfl (lv_at hl 0 rfl) ?_
      refine m_gI (k := 3) E hb hS rfl fl_3 dX6_look_5 ?_
      refine lv_icmp_ge (tgt := 52) E.1 hb dX6_look_8 (by decide) (fun hc => ?_) (fun hc => ?_)
      · have hf := it_s hc hf
        exact hB52 σ hf _ _ hS _ (lv_sub hl [0] rfl)
      · have hf := if_s hc hf
        refine lv_aload_n E.1 hb dX6_look_11 rfl (lv_at hl 0 rfl) ?_
        refine m_gA (k := 0) E hb hS 2 rfl (by decide) fl_0 dX6_look_12 ?_
        refine lv_aload_n E.1 hb dX6_look_15 rfl (lv_at hl 0 rfl) ?_
        refine m_gI (k := 2) E hb hS rfl fl_2 dX6_look_16 ?_
        obtain ⟨hg, hf⟩ := ld_s hf
        refine m_ild E hb hS hg dX6_look_19 ?_
        refine lv_bipush (v := 10) E.1 hb dX6_look_20 rfl ?_
        refine lv_icmp_eq (tgt := 39) E.1 hb dX6_look_22 (by decide) (fun hc => ?_) (fun hc => ?_)
        · have hf := it_s hc hf
          exact hB39 k0 hk0 σ hf _ _ hS _ (lv_sub hl [0] rfl)
        · have hf := if_s hc hf
          refine lv_aload_n E.1 hb dX6_look_25 rfl (lv_at hl 0 rfl) ?_
          refine m_gA (k := 0) E hb hS 2 rfl (by decide) fl_0 dX6_look_26 ?_
          refine lv_aload_n E.1 hb dX6_look_29 rfl (lv_at hl 0 rfl) ?_
          refine m_gI (k := 2) E hb hS rfl fl_2 dX6_look_30 ?_
          obtain ⟨hg, hf⟩ := ld_s hf
          refine m_ild E hb hS hg dX6_look_33 ?_
          refine lv_bipush (v := 32) E.1 hb dX6_look_34 rfl ?_
          refine lv_icmp_ne (tgt := 52) E.1 hb dX6_look_36 (by decide) (fun hc => ?_) (fun hc => ?_)
          · have hf := if_s hc hf
            exact hB52 σ hf _ _ hS _ (lv_sub hl [0] rfl)
          · have hf := it_s hc hf
            exact hB39 k0 hk0 σ hf _ _ hS _ (lv_sub hl [0] rfl)
  unfold M_look at hf
  exact hL0 N σ hf _ _ hS _ (lv_sub hl [0] rfl)
/-! isHere([C)Z: RW -/
noncomputable def M_isHere_b76 (N : Nat) (k76 : mSt → Nat → Int32 → Option (Int32 × mSt)) (σ : mSt) (w1 : Nat) (x3 : Int32) : Option (Int32 × mSt) :=
  bo (lnC w1) fun v5 => if v5 ≤ x3 then (some (1, σ)) else (bo (ld 2 σ 0 ((σ.1 2 0) + x3)) fun v6 => bo (ld 4 σ w1 x3) fun v7 => if v6 = v7 then (k76 σ w1 (x3 + 1)) else (some (0, σ)))
noncomputable def M_isHere_b61 (N : Nat) (σ : mSt) (w1 : Nat) (x2 : Int32) : Option (Int32 × mSt) :=
  bo (lnC w1) fun v4 => if (x2 - (σ.1 2 0)) = v4 then (rn3 (M_isHere_b76 N) N σ w1 0) else (some (0, σ))
noncomputable def M_isHere_b35 (N : Nat) (k35 : mSt → Nat → Int32 → Option (Int32 × mSt)) (σ : mSt) (w1 : Nat) (x2 : Int32) : Option (Int32 × mSt) :=
  if (σ.1 3 0) ≤ x2 then (M_isHere_b61 N σ w1 x2) else (bo (ld 2 σ 0 x2) fun v8 => bo (M_isLetter v8) fun r9 => if r9 = 0 then (M_isHere_b61 N σ w1 x2) else (k35 σ w1 (x2 + 1)))
noncomputable def M_isHere (N : Nat) (σ : mSt) (w1 : Nat) : Option (Int32 × mSt) :=
  if (σ.1 5 0) = 0 then (bd (M_look N σ) fun r1 σ2 => bo (M_isLetter r1) fun r3 => if r3 = 0 then (some (0, σ2)) else (if (σ2.1 2 0) = (σ2.1 4 0) then (some (0, σ2)) else (rn3 (M_isHere_b35 N) N σ2 w1 (σ2.1 2 0)))) else (some (0, σ))
theorem gw_isHere : GoodIn lw_all (wsV RX6 266 RX6 yX6_isHere (ws_ yX6_isHere cX6_isHere 4 (some .boolean))) := lw_V q2025 q2027 qs64 q164 q2028
theorem gn_isHere : yX6_isHere.cls = RX6 ∧ yX6_isHere.cls ≠ "java/lang/invoke/MethodHandle" ∧ yX6_isHere.cls ≠ "java/lang/invoke/VarHandle" ∧ (parseMethodDescriptor yX6_isHere.desc).map (fun d => d.parameters.length) = some 1 := by decide +kernel
abbrev rM_isHere : Room := { frames := 1, cells := 0, slots := 0, locals := 20 }
set_option maxHeartbeats 4000000 in
theorem cmf_isHere {l : Launch} {dC : Nat → ClassId} {dI : Nat → Nat → Nat} {ac : Nat → ClassId} {o : Nat} {ad : Nat → Nat} {N : Nat} {σ : mSt} {w1 : Nat} {r : Int32} {σ' : mSt} (hf : M_isHere N σ w1 = some (r, σ')) : Met l yX6_isHere (ws_ yX6_isHere cX6_isHere 4 (some .boolean)) { frames := 1, cells := 0, slots := 0, locals := 20 } (va_Pc [.ref o, .ref (ad w1)] (mPre dC dI ac o ad σ)) (mQi dC dI ac o ad r σ') 0 0 (mF o ad) := by
  refine m_of (by decide) rfl (Nat.le_of_ble_eq_true rfl) ?_
  intro p e s m args below meth c E hb hr hlk hml hS ls hl
  have hl : lv_has ls 4 [(0, .ref o), (1, .ref (ad w1))] := hl
  have hL76 : ∀ (n : Nat) (σ : mSt) (w1 : Nat) (x3 : Int32), rn3 (M_isHere_b76 N) n σ w1 x3 = some (r, σ') → ∀ (H : Heap) (locs : List Loc), mS dC dI ac o ad s.heap σ H locs → ∀ (ls : Array Slot), lv_has ls 4 [(0, .ref o), (1, .ref (ad w1)), (3, .int x3)] → W p l e rM_isHere s m args below meth c H locs 0 0 (MQ below (mQi dC dI ac o ad r σ') args s 0 0 (mF o ad)) (F0 m 76 ls []) := by
    intro  n
    induction n with
    | zero =>
      intro σ w1 x3 hf
      cases hf
    | succ n ih =>
      intro σ w1 x3 hf H locs hS ls hl
      have hf : M_isHere_b76 N (rn3 (M_isHere_b76 N) n) σ w1 x3 = some (r, σ') := hf
      have hk76 := ih
      generalize rn3 (M_isHere_b76 N) n = k76 at hf hk76
      unfold M_isHere_b76 at hf
      refine lv_iload_n E.1 hb dX6_isHere_76 rfl (lv_at hl 2 rfl) ?_
      refine lv_aload_n E.1 hb dX6_isHere_77 rfl (lv_at hl 1 rfl) ?_
      obtain ⟨hg, hf⟩ := lnC_s hf
      refine m_aln E hb hS hg dX6_isHere_78 ?_
      refine lv_icmp_ge (tgt := 107) E.1 hb dX6_isHere_79 (by decide) (fun hc => ?_) (fun hc => ?_)
      · have hf := it_s hc hf
        refine lv_iconst (v := 1) E.1 hb dX6_isHere_107 rfl ?_
        exact m_zr E hb hr hlk hS rfl hf dX6_isHere_108
      · have hf := if_s hc hf
        refine lv_aload_n E.1 hb dX6_isHere_82 rfl (lv_at hl 0 rfl) ?_
        refine m_gA (k := 0) E hb hS 2 rfl (by decide) fl_0 dX6_isHere_83 ?_
        refine lv_aload_n E.1 hb dX6_isHere_86 rfl (lv_at hl 0 rfl) ?_
        refine m_gI (k := 2) E hb hS rfl fl_2 dX6_isHere_87 ?_
        refine lv_iload_n E.1 hb dX6_isHere_90 rfl (lv_at hl 2 rfl) ?_
        refine lv_iadd E.1 hb dX6_isHere_91 ?_
        obtain ⟨hg, hf⟩ := ld_s hf
        refine m_ild E hb hS hg dX6_isHere_92 ?_
        refine lv_aload_n E.1 hb dX6_isHere_93 rfl (lv_at hl 1 rfl) ?_
        refine lv_iload_n E.1 hb dX6_isHere_94 rfl (lv_at hl 2 rfl) ?_
        obtain ⟨hg, hf⟩ := ld_s hf
        refine m_cld E hb hS hg dX6_isHere_95 ?_
        refine lv_icmp_eq (tgt := 101) E.1 hb dX6_isHere_96 (by decide) (fun hc => ?_) (fun hc => ?_)
        · have hf := it_s hc hf
          refine lv_iinc (v := (x3 + 1)) (lv' := [(3, .int (x3 + 1)), (0, .ref o), (1, .ref (ad w1))]) E.1 hb dX6_isHere_101 hl (k := 2) rfl rfl (by decide) rfl (fun ls hl => ?_)
          refine lv_goto (tgt := 76) E.1 hb dX6_isHere_104 (by decide) ?_
          exact hk76 σ w1 (x3 + 1) hf _ _ hS _ (lv_sub hl [1, 2, 0] rfl)
        · have hf := if_s hc hf
          refine lv_iconst (v := 0) E.1 hb dX6_isHere_99 rfl ?_
          exact m_zr E hb hr hlk hS rfl hf dX6_isHere_100
  have hB61 : ∀ (σ : mSt) (w1 : Nat) (x2 : Int32), M_isHere_b61 N σ w1 x2 = some (r, σ') → ∀ (H : Heap) (locs : List Loc), mS dC dI ac o ad s.heap σ H locs → ∀ (ls : Array Slot), lv_has ls 4 [(0, .ref o), (1, .ref (ad w1)), (2, .int x2)] → W p l e rM_isHere s m args below meth c H locs 0 0 (MQ below (mQi dC dI ac o ad r σ') args s 0 0 (mF o ad)) (F0 m 61 ls []) := by
    intro σ w1 x2 hf H locs hS ls hl
    unfold M_isHere_b61 at hf
    refine lv_iload_n E.1 hb dX6_isHere_61 rfl (lv_at hl 2 rfl) ?_
    refine lv_aload_n E.1 hb dX6_isHere_62 rfl (lv_at hl 0 rfl) ?_
    refine m_gI (k := 2) E hb hS rfl fl_2 dX6_isHere_63 ?_
    refine lv_isub E.1 hb dX6_isHere_66 ?_
    refine lv_aload_n E.1 hb dX6_isHere_67 rfl (lv_at hl 1 rfl) ?_
    obtain ⟨hg, hf⟩ := lnC_s hf
    refine m_aln E hb hS hg dX6_isHere_68 ?_
    refine lv_icmp_eq (tgt := 74) E.1 hb dX6_isHere_69 (by decide) (fun hc => ?_) (fun hc => ?_)
    · have hf := it_s hc hf
      refine lv_iconst (v := 0) E.1 hb dX6_isHere_74 rfl ?_
      refine lv_istore_n (lv' := [(3, .int 0), (0, .ref o), (1, .ref (ad w1)), (2, .int x2)]) E.1 hb dX6_isHere_75 rfl hl (by decide) rfl (fun ls hl => ?_)
      exact hL76 N σ w1 0 hf _ _ hS _ (lv_sub hl [1, 2, 0] rfl)
    · have hf := if_s hc hf
      refine lv_iconst (v := 0) E.1 hb dX6_isHere_72 rfl ?_
      exact m_zr E hb hr hlk hS rfl hf dX6_isHere_73
  have hL35 : ∀ (n : Nat) (σ : mSt) (w1 : Nat) (x2 : Int32), rn3 (M_isHere_b35 N) n σ w1 x2 = some (r, σ') → ∀ (H : Heap) (locs : List Loc), mS dC dI ac o ad s.heap σ H locs → ∀ (ls : Array Slot), lv_has ls 4 [(0, .ref o), (1, .ref (ad w1)), (2, .int x2)] → W p l e rM_isHere s m args below meth c H locs 0 0 (MQ below (mQi dC dI ac o ad r σ') args s 0 0 (mF o ad)) (F0 m 35 ls []) := by
    intro  n
    induction n with
    | zero =>
      intro σ w1 x2 hf
      cases hf
    | succ n ih =>
      intro σ w1 x2 hf H locs hS ls hl
      have hf : M_isHere_b35 N (rn3 (M_isHere_b35 N) n) σ w1 x2 = some (r, σ') := hf
      have hk35 := ih
      generalize rn3 (M_isHere_b35 N) n = k35 at hf hk35
      unfold M_isHere_b35 at hf
      refine lv_iload_n E.1 hb dX6_isHere_35 rfl (lv_at hl 2 rfl) ?_
      refine lv_aload_n E.1 hb dX6_isHere_36 rfl (lv_at hl 0 rfl) ?_
      refine m_gI (k := 3) E hb hS rfl fl_3 dX6_isHere_37 ?_
      refine lv_icmp_ge (tgt := 61) E.1 hb dX6_isHere_40 (by decide) (fun hc => ?_) (fun hc => ?_)
      · have hf := it_s hc hf
        exact hB61 σ w1 x2 hf _ _ hS _ (lv_sub hl [0, 1, 2] rfl)
      · have hf := if_s hc hf
        refine lv_aload_n E.1 hb dX6_isHere_43 rfl (lv_at hl 0 rfl) ?_
        refine m_gA (k := 0) E hb hS 2 rfl (by decide) fl_0 dX6_isHere_44 ?_
        refine lv_iload_n E.1 hb dX6_isHere_47 rfl (lv_at hl 2 rfl) ?_
        obtain ⟨hg, hf⟩ := ld_s hf
        refine m_ild E hb hS hg dX6_isHere_48 ?_
        obtain ⟨r9, h1, hf⟩ := bo_s hf
        refine m_cSi E hb hml hl.1 hS (cmf_isLetter h1) gw_isLetter gn_isLetter rfl rfl (Nat.le_of_ble_eq_true rfl) ⟨Nat.le_of_ble_eq_true rfl, Nat.le_of_ble_eq_true rfl⟩ ⟨Nat.le_refl 0, Nat.le_refl 0⟩ dX6_isHere_49 (fun H locs hS => ?_)
        refine lv_if_eq (tgt := 61) E.1 hb dX6_isHere_52 (by decide) (fun hc => ?_) (fun hc => ?_)
        · have hf := it_s hc hf
          exact hB61 σ w1 x2 hf _ _ hS _ (lv_sub hl [0, 1, 2] rfl)
        · have hf := if_s hc hf
          refine lv_iinc (v := (x2 + 1)) (lv' := [(2, .int (x2 + 1)), (0, .ref o), (1, .ref (ad w1))]) E.1 hb dX6_isHere_55 hl (k := 2) rfl rfl (by decide) rfl (fun ls hl => ?_)
          refine lv_goto (tgt := 35) E.1 hb dX6_isHere_58 (by decide) ?_
          exact hk35 σ w1 (x2 + 1) hf _ _ hS _ (lv_sub hl [1, 2, 0] rfl)
  unfold M_isHere at hf
  refine lv_aload_n E.1 hb dX6_isHere_0 rfl (lv_at hl 0 rfl) ?_
  refine m_gI (k := 5) E hb hS rfl fl_5 dX6_isHere_1 ?_
  refine lv_if_ne (tgt := 28) E.1 hb dX6_isHere_4 (by decide) (fun hc => ?_) (fun hc => ?_)
  · have hf := if_s hc hf
    refine lv_iconst (v := 0) E.1 hb dX6_isHere_28 rfl ?_
    exact m_zr E hb hr hlk hS rfl hf dX6_isHere_29
  · have hf := it_s hc hf
    refine lv_aload_n E.1 hb dX6_isHere_7 rfl (lv_at hl 0 rfl) ?_
    obtain ⟨r1, σ2, h1, hf⟩ := bd_s hf
    refine m_cVi E hb hml hl.1 hS (cmf_look h1) gw_look gn_look rfl rfl (Nat.le_of_ble_eq_true rfl) ⟨Nat.le_of_ble_eq_true rfl, Nat.le_of_ble_eq_true rfl⟩ ⟨Nat.le_refl 0, Nat.le_refl 0⟩ dX6_isHere_8 (fun H locs hS => ?_)
    obtain ⟨r3, h1, hf⟩ := bo_s hf
    refine m_cSi E hb hml hl.1 hS (cmf_isLetter h1) gw_isLetter gn_isLetter rfl rfl (Nat.le_of_ble_eq_true rfl) ⟨Nat.le_of_ble_eq_true rfl, Nat.le_of_ble_eq_true rfl⟩ ⟨Nat.le_refl 0, Nat.le_refl 0⟩ dX6_isHere_11 (fun H locs hS => ?_)
    refine lv_if_eq (tgt := 28) E.1 hb dX6_isHere_14 (by decide) (fun hc => ?_) (fun hc => ?_)
    · have hf := it_s hc hf
      refine lv_iconst (v := 0) E.1 hb dX6_isHere_28 rfl ?_
      exact m_zr E hb hr hlk hS rfl hf dX6_isHere_29
    · have hf := if_s hc hf
      refine lv_aload_n E.1 hb dX6_isHere_17 rfl (lv_at hl 0 rfl) ?_
      refine m_gI (k := 2) E hb hS rfl fl_2 dX6_isHere_18 ?_
      refine lv_aload_n E.1 hb dX6_isHere_21 rfl (lv_at hl 0 rfl) ?_
      refine m_gI (k := 4) E hb hS rfl fl_4 dX6_isHere_22 ?_
      refine lv_icmp_ne (tgt := 30) E.1 hb dX6_isHere_25 (by decide) (fun hc => ?_) (fun hc => ?_)
      · have hf := if_s hc hf
        refine lv_aload_n E.1 hb dX6_isHere_30 rfl (lv_at hl 0 rfl) ?_
        refine m_gI (k := 2) E hb hS rfl fl_2 dX6_isHere_31 ?_
        refine lv_istore_n (lv' := [(2, .int (σ2.1 2 0)), (0, .ref o), (1, .ref (ad w1))]) E.1 hb dX6_isHere_34 rfl hl (by decide) rfl (fun ls hl => ?_)
        exact hL35 N σ2 w1 (σ2.1 2 0) hf _ _ hS _ (lv_sub hl [1, 2, 0] rfl)
      · have hf := it_s hc hf
        refine lv_iconst (v := 0) E.1 hb dX6_isHere_28 rfl ?_
        exact m_zr E hb hr hlk hS rfl hf dX6_isHere_29
/-! takes([C)Z: RW -/
noncomputable def M_takes (N : Nat) (σ : mSt) (w1 : Nat) : Option (Int32 × mSt) :=
  bd (M_isHere N σ w1) fun r1 σ2 => if r1 = 0 then (some (0, σ2)) else (bo (lnC w1) fun v3 => lt2 (mUI σ2 2 0 ((σ2.1 2 0) + v3)) fun σ4 => lt2 (mUI σ4 4 0 (σ4.1 2 0)) fun σ5 => some (1, σ5))
theorem gw_takes : GoodIn lw_all (wsV RX6 270 RX6 yX6_takes (ws_ yX6_takes cX6_takes 2 (some .boolean))) := lw_V q2021 q2023 qs63 q164 q2024
theorem gn_takes : yX6_takes.cls = RX6 ∧ yX6_takes.cls ≠ "java/lang/invoke/MethodHandle" ∧ yX6_takes.cls ≠ "java/lang/invoke/VarHandle" ∧ (parseMethodDescriptor yX6_takes.desc).map (fun d => d.parameters.length) = some 1 := by decide +kernel
abbrev rM_takes : Room := { frames := 2, cells := 0, slots := 0, locals := 43 }
set_option maxHeartbeats 4000000 in
theorem cmf_takes {l : Launch} {dC : Nat → ClassId} {dI : Nat → Nat → Nat} {ac : Nat → ClassId} {o : Nat} {ad : Nat → Nat} {N : Nat} {σ : mSt} {w1 : Nat} {r : Int32} {σ' : mSt} (hf : M_takes N σ w1 = some (r, σ')) : Met l yX6_takes (ws_ yX6_takes cX6_takes 2 (some .boolean)) { frames := 2, cells := 0, slots := 0, locals := 43 } (va_Pc [.ref o, .ref (ad w1)] (mPre dC dI ac o ad σ)) (mQi dC dI ac o ad r σ') 0 0 (mF o ad) := by
  refine m_of (by decide) rfl (Nat.le_of_ble_eq_true rfl) ?_
  intro p e s m args below meth c E hb hr hlk hml hS ls hl
  have hl : lv_has ls 2 [(0, .ref o), (1, .ref (ad w1))] := hl
  unfold M_takes at hf
  refine lv_aload_n E.1 hb dX6_takes_0 rfl (lv_at hl 0 rfl) ?_
  refine lv_aload_n E.1 hb dX6_takes_1 rfl (lv_at hl 1 rfl) ?_
  obtain ⟨r1, σ2, h1, hf⟩ := bd_s hf
  refine m_cVi E hb hml hl.1 hS (cmf_isHere h1) gw_isHere gn_isHere rfl rfl (Nat.le_of_ble_eq_true rfl) ⟨Nat.le_of_ble_eq_true rfl, Nat.le_of_ble_eq_true rfl⟩ ⟨Nat.le_refl 0, Nat.le_refl 0⟩ dX6_takes_2 (fun H locs hS => ?_)
  refine lv_if_ne (tgt := 10) E.1 hb dX6_takes_5 (by decide) (fun hc => ?_) (fun hc => ?_)
  · have hf := if_s hc hf
    refine lv_aload_n E.1 hb dX6_takes_10 rfl (lv_at hl 0 rfl) ?_
    refine lv_dup E.1 hb dX6_takes_11 rfl ?_
    refine m_gI (k := 2) E hb hS rfl fl_2 dX6_takes_12 ?_
    refine lv_aload_n E.1 hb dX6_takes_15 rfl (lv_at hl 1 rfl) ?_
    obtain ⟨hg, hf⟩ := lnC_s hf
    refine m_aln E hb hS hg dX6_takes_16 ?_
    refine lv_iadd E.1 hb dX6_takes_17 ?_
    obtain ⟨σ4, hw, hf⟩ := lt2_s hf
    refine m_pI (k := 2) E hb hS rfl rfl pf_2 fl_2 hw dX6_takes_18 (fun H locs hS => ?_)
    refine lv_aload_n E.1 hb dX6_takes_21 rfl (lv_at hl 0 rfl) ?_
    refine lv_aload_n E.1 hb dX6_takes_22 rfl (lv_at hl 0 rfl) ?_
    refine m_gI (k := 2) E hb hS rfl fl_2 dX6_takes_23 ?_
    obtain ⟨σ5, hw, hf⟩ := lt2_s hf
    refine m_pI (k := 4) E hb hS rfl rfl pf_4 fl_4 hw dX6_takes_26 (fun H locs hS => ?_)
    refine lv_iconst (v := 1) E.1 hb dX6_takes_29 rfl ?_
    exact m_zr E hb hr hlk hS rfl hf dX6_takes_30
  · have hf := it_s hc hf
    refine lv_iconst (v := 0) E.1 hb dX6_takes_8 rfl ?_
    exact m_zr E hb hr hlk hS rfl hf dX6_takes_9
/-! asks([C)V: RW -/
noncomputable def M_asks (N : Nat) (σ : mSt) (w1 : Nat) : Option (Unit × mSt) :=
  if (σ.1 5 0) = 0 then (bd (M_takes N σ w1) fun r1 σ2 => if r1 = 0 then (bd (M_fail σ2 1 (σ2.1 2 0)) fun _ σ3 => some ((), σ3)) else (some ((), σ2))) else (some ((), σ))
theorem gw_asks : GoodIn lw_all (wsV RX6 304 RX6 yX6_asks (ws_ yX6_asks cX6_asks 2 none)) := lw_V q2017 q2019 qs62 q164 q2020
theorem gn_asks : yX6_asks.cls = RX6 ∧ yX6_asks.cls ≠ "java/lang/invoke/MethodHandle" ∧ yX6_asks.cls ≠ "java/lang/invoke/VarHandle" ∧ (parseMethodDescriptor yX6_asks.desc).map (fun d => d.parameters.length) = some 1 := by decide +kernel
abbrev rM_asks : Room := { frames := 3, cells := 0, slots := 0, locals := 64 }
set_option maxHeartbeats 4000000 in
theorem cmf_asks {l : Launch} {dC : Nat → ClassId} {dI : Nat → Nat → Nat} {ac : Nat → ClassId} {o : Nat} {ad : Nat → Nat} {N : Nat} {σ : mSt} {w1 : Nat} {σ' : mSt} (hf : M_asks N σ w1 = some ((), σ')) : Met l yX6_asks (ws_ yX6_asks cX6_asks 2 none) { frames := 3, cells := 0, slots := 0, locals := 64 } (va_Pc [.ref o, .ref (ad w1)] (mPre dC dI ac o ad σ)) (mQv dC dI ac o ad σ') 0 0 (mF o ad) := by
  refine m_of (by decide) rfl (Nat.le_of_ble_eq_true rfl) ?_
  intro p e s m args below meth c E hb hr hlk hml hS ls hl
  have hl : lv_has ls 2 [(0, .ref o), (1, .ref (ad w1))] := hl
  unfold M_asks at hf
  refine lv_aload_n E.1 hb dX6_asks_0 rfl (lv_at hl 0 rfl) ?_
  refine m_gI (k := 5) E hb hS rfl fl_5 dX6_asks_1 ?_
  refine lv_if_ne (tgt := 24) E.1 hb dX6_asks_4 (by decide) (fun hc => ?_) (fun hc => ?_)
  · have hf := if_s hc hf
    exact m_vr E hb hr hlk hS hf dX6_asks_24
  · have hf := it_s hc hf
    refine lv_aload_n E.1 hb dX6_asks_7 rfl (lv_at hl 0 rfl) ?_
    refine lv_aload_n E.1 hb dX6_asks_8 rfl (lv_at hl 1 rfl) ?_
    obtain ⟨r1, σ2, h1, hf⟩ := bd_s hf
    refine m_cVi E hb hml hl.1 hS (cmf_takes h1) gw_takes gn_takes rfl rfl (Nat.le_of_ble_eq_true rfl) ⟨Nat.le_of_ble_eq_true rfl, Nat.le_of_ble_eq_true rfl⟩ ⟨Nat.le_refl 0, Nat.le_refl 0⟩ dX6_asks_9 (fun H locs hS => ?_)
    refine lv_if_ne (tgt := 24) E.1 hb dX6_asks_12 (by decide) (fun hc => ?_) (fun hc => ?_)
    · have hf := if_s hc hf
      exact m_vr E hb hr hlk hS hf dX6_asks_24
    · have hf := it_s hc hf
      refine lv_aload_n E.1 hb dX6_asks_15 rfl (lv_at hl 0 rfl) ?_
      refine lv_iconst (v := 1) E.1 hb dX6_asks_16 rfl ?_
      refine lv_aload_n E.1 hb dX6_asks_17 rfl (lv_at hl 0 rfl) ?_
      refine m_gI (k := 2) E hb hS rfl fl_2 dX6_asks_18 ?_
      obtain ⟨_, σ3, h1, hf⟩ := bd_s hf
      refine m_cVv E hb hml hl.1 hS (cmf_fail h1) gw_fail gn_fail rfl rfl (Nat.le_of_ble_eq_true rfl) ⟨Nat.le_of_ble_eq_true rfl, Nat.le_of_ble_eq_true rfl⟩ ⟨Nat.le_refl 0, Nat.le_refl 0⟩ dX6_asks_21 (fun H locs hS => ?_)
      exact m_vr E hb hr hlk hS hf dX6_asks_24
/-! takesSign(I)Z: RW -/
noncomputable def M_takesSign (N : Nat) (σ : mSt) (x1 : Int32) : Option (Int32 × mSt) :=
  if (σ.1 5 0) = 0 then (bd (M_look N σ) fun r1 σ2 => if r1 = x1 then (lt2 (mUI σ2 2 0 ((σ2.1 2 0) + 1)) fun σ3 => some (1, σ3)) else (some (0, σ2))) else (some (0, σ))
theorem gw_takesSign : GoodIn lw_all (wsV RX6 277 RX6 yX6_takesSign (ws_ yX6_takesSign cX6_takesSign 2 (some .boolean))) := lw_V q2054 q2056 qs69 q164 q2057
theorem gn_takesSign : yX6_takesSign.cls = RX6 ∧ yX6_takesSign.cls ≠ "java/lang/invoke/MethodHandle" ∧ yX6_takesSign.cls ≠ "java/lang/invoke/VarHandle" ∧ (parseMethodDescriptor yX6_takesSign.desc).map (fun d => d.parameters.length) = some 1 := by decide +kernel
abbrev rM_takesSign : Room := { frames := 1, cells := 0, slots := 0, locals := 20 }
set_option maxHeartbeats 4000000 in
theorem cmf_takesSign {l : Launch} {dC : Nat → ClassId} {dI : Nat → Nat → Nat} {ac : Nat → ClassId} {o : Nat} {ad : Nat → Nat} {N : Nat} {σ : mSt} {x1 : Int32} {r : Int32} {σ' : mSt} (hf : M_takesSign N σ x1 = some (r, σ')) : Met l yX6_takesSign (ws_ yX6_takesSign cX6_takesSign 2 (some .boolean)) { frames := 1, cells := 0, slots := 0, locals := 20 } (va_Pc [.ref o, .int x1] (mPre dC dI ac o ad σ)) (mQi dC dI ac o ad r σ') 0 0 (mF o ad) := by
  refine m_of (by decide) rfl (Nat.le_of_ble_eq_true rfl) ?_
  intro p e s m args below meth c E hb hr hlk hml hS ls hl
  have hl : lv_has ls 2 [(0, .ref o), (1, .int x1)] := hl
  unfold M_takesSign at hf
  refine lv_aload_n E.1 hb dX6_takesSign_0 rfl (lv_at hl 0 rfl) ?_
  refine m_gI (k := 5) E hb hS rfl fl_5 dX6_takesSign_1 ?_
  refine lv_if_ne (tgt := 15) E.1 hb dX6_takesSign_4 (by decide) (fun hc => ?_) (fun hc => ?_)
  · have hf := if_s hc hf
    refine lv_iconst (v := 0) E.1 hb dX6_takesSign_15 rfl ?_
    exact m_zr E hb hr hlk hS rfl hf dX6_takesSign_16
  · have hf := it_s hc hf
    refine lv_aload_n E.1 hb dX6_takesSign_7 rfl (lv_at hl 0 rfl) ?_
    obtain ⟨r1, σ2, h1, hf⟩ := bd_s hf
    refine m_cVi E hb hml hl.1 hS (cmf_look h1) gw_look gn_look rfl rfl (Nat.le_of_ble_eq_true rfl) ⟨Nat.le_of_ble_eq_true rfl, Nat.le_of_ble_eq_true rfl⟩ ⟨Nat.le_refl 0, Nat.le_refl 0⟩ dX6_takesSign_8 (fun H locs hS => ?_)
    refine lv_iload_n E.1 hb dX6_takesSign_11 rfl (lv_at hl 1 rfl) ?_
    refine lv_icmp_eq (tgt := 17) E.1 hb dX6_takesSign_12 (by decide) (fun hc => ?_) (fun hc => ?_)
    · have hf := it_s hc hf
      refine lv_aload_n E.1 hb dX6_takesSign_17 rfl (lv_at hl 0 rfl) ?_
      refine lv_dup E.1 hb dX6_takesSign_18 rfl ?_
      refine m_gI (k := 2) E hb hS rfl fl_2 dX6_takesSign_19 ?_
      refine lv_iconst (v := 1) E.1 hb dX6_takesSign_22 rfl ?_
      refine lv_iadd E.1 hb dX6_takesSign_23 ?_
      obtain ⟨σ3, hw, hf⟩ := lt2_s hf
      refine m_pI (k := 2) E hb hS rfl rfl pf_2 fl_2 hw dX6_takesSign_24 (fun H locs hS => ?_)
      refine lv_iconst (v := 1) E.1 hb dX6_takesSign_27 rfl ?_
      exact m_zr E hb hr hlk hS rfl hf dX6_takesSign_28
    · have hf := if_s hc hf
      refine lv_iconst (v := 0) E.1 hb dX6_takesSign_15 rfl ?_
      exact m_zr E hb hr hlk hS rfl hf dX6_takesSign_16
/-! asksSign(I)V: RW -/
noncomputable def M_asksSign (N : Nat) (σ : mSt) (x1 : Int32) : Option (Unit × mSt) :=
  if (σ.1 5 0) = 0 then (bd (M_takesSign N σ x1) fun r1 σ2 => if r1 = 0 then (bd (M_fail σ2 1 (σ2.1 2 0)) fun _ σ3 => some ((), σ3)) else (some ((), σ2))) else (some ((), σ))
theorem gw_asksSign : GoodIn lw_all (wsV RX6 312 RX6 yX6_asksSign (ws_ yX6_asksSign cX6_asksSign 2 none)) := lw_V q2050 q2052 qs68 q164 q2053
theorem gn_asksSign : yX6_asksSign.cls = RX6 ∧ yX6_asksSign.cls ≠ "java/lang/invoke/MethodHandle" ∧ yX6_asksSign.cls ≠ "java/lang/invoke/VarHandle" ∧ (parseMethodDescriptor yX6_asksSign.desc).map (fun d => d.parameters.length) = some 1 := by decide +kernel
abbrev rM_asksSign : Room := { frames := 2, cells := 0, slots := 0, locals := 41 }
set_option maxHeartbeats 4000000 in
theorem cmf_asksSign {l : Launch} {dC : Nat → ClassId} {dI : Nat → Nat → Nat} {ac : Nat → ClassId} {o : Nat} {ad : Nat → Nat} {N : Nat} {σ : mSt} {x1 : Int32} {σ' : mSt} (hf : M_asksSign N σ x1 = some ((), σ')) : Met l yX6_asksSign (ws_ yX6_asksSign cX6_asksSign 2 none) { frames := 2, cells := 0, slots := 0, locals := 41 } (va_Pc [.ref o, .int x1] (mPre dC dI ac o ad σ)) (mQv dC dI ac o ad σ') 0 0 (mF o ad) := by
  refine m_of (by decide) rfl (Nat.le_of_ble_eq_true rfl) ?_
  intro p e s m args below meth c E hb hr hlk hml hS ls hl
  have hl : lv_has ls 2 [(0, .ref o), (1, .int x1)] := hl
  unfold M_asksSign at hf
  refine lv_aload_n E.1 hb dX6_asksSign_0 rfl (lv_at hl 0 rfl) ?_
  refine m_gI (k := 5) E hb hS rfl fl_5 dX6_asksSign_1 ?_
  refine lv_if_ne (tgt := 24) E.1 hb dX6_asksSign_4 (by decide) (fun hc => ?_) (fun hc => ?_)
  · have hf := if_s hc hf
    exact m_vr E hb hr hlk hS hf dX6_asksSign_24
  · have hf := it_s hc hf
    refine lv_aload_n E.1 hb dX6_asksSign_7 rfl (lv_at hl 0 rfl) ?_
    refine lv_iload_n E.1 hb dX6_asksSign_8 rfl (lv_at hl 1 rfl) ?_
    obtain ⟨r1, σ2, h1, hf⟩ := bd_s hf
    refine m_cVi E hb hml hl.1 hS (cmf_takesSign h1) gw_takesSign gn_takesSign rfl rfl (Nat.le_of_ble_eq_true rfl) ⟨Nat.le_of_ble_eq_true rfl, Nat.le_of_ble_eq_true rfl⟩ ⟨Nat.le_refl 0, Nat.le_refl 0⟩ dX6_asksSign_9 (fun H locs hS => ?_)
    refine lv_if_ne (tgt := 24) E.1 hb dX6_asksSign_12 (by decide) (fun hc => ?_) (fun hc => ?_)
    · have hf := if_s hc hf
      exact m_vr E hb hr hlk hS hf dX6_asksSign_24
    · have hf := it_s hc hf
      refine lv_aload_n E.1 hb dX6_asksSign_15 rfl (lv_at hl 0 rfl) ?_
      refine lv_iconst (v := 1) E.1 hb dX6_asksSign_16 rfl ?_
      refine lv_aload_n E.1 hb dX6_asksSign_17 rfl (lv_at hl 0 rfl) ?_
      refine m_gI (k := 2) E hb hS rfl fl_2 dX6_asksSign_18 ?_
      obtain ⟨_, σ3, h1, hf⟩ := bd_s hf
      refine m_cVv E hb hml hl.1 hS (cmf_fail h1) gw_fail gn_fail rfl rfl (Nat.le_of_ble_eq_true rfl) ⟨Nat.le_of_ble_eq_true rfl, Nat.le_of_ble_eq_true rfl⟩ ⟨Nat.le_refl 0, Nat.le_refl 0⟩ dX6_asksSign_21 (fun H locs hS => ?_)
      exact m_vr E hb hr hlk hS hf dX6_asksSign_24
/-! number(II)I: RW -/
noncomputable def M_number_b30 (N : Nat) (σ : mSt) : Option (Int32 × mSt) :=
  bd (M_fail σ 1 (σ.1 2 0)) fun _ σ4 => some (0, σ4)
noncomputable def M_number_b129 (N : Nat) (σ : mSt) (x1 : Int32) (x2 : Int32) (x3 : Int32) (x4 : Int32) : Option (Int32 × mSt) :=
  lt2 (mUI σ 4 0 (σ.1 2 0)) fun σ5 => lt2 (mUI σ5 10 0 x3) fun σ6 => bo (M_isIn (Int32.toInt64 x4) (Int32.toInt64 x1) (Int32.toInt64 x2)) fun r7 => if r7 = 0 then (bd (M_fail σ6 2 x3) fun _ σ8 => some (x4, σ8)) else (some (x4, σ6))
noncomputable def M_number_b49 (N : Nat) (k49 : mSt → Int32 → Int32 → Int32 → Int32 → Option (Int32 × mSt)) (σ : mSt) (x1 : Int32) (x2 : Int32) (x3 : Int32) (x4 : Int32) : Option (Int32 × mSt) :=
  if (σ.1 3 0) ≤ (σ.1 2 0) then (M_number_b129 N σ x1 x2 x3 x4) else (bo (ld 2 σ 0 (σ.1 2 0)) fun v9 => bo (M_isDigit v9) fun r10 => if r10 = 0 then (M_number_b129 N σ x1 x2 x3 x4) else (if ((σ.1 2 0) - x3) = 4 then (bd (M_fail σ 1 (σ.1 2 0)) fun _ σ13 => some (0, σ13)) else (bo (ld 2 σ 0 (σ.1 2 0)) fun v11 => lt2 (mUI σ 2 0 ((σ.1 2 0) + 1)) fun σ12 => k49 σ12 x1 x2 x3 (((10 * x4) + v11) - 48))))
noncomputable def M_number (N : Nat) (σ : mSt) (x1 : Int32) (x2 : Int32) : Option (Int32 × mSt) :=
  if (σ.1 5 0) = 0 then (bd (M_look N σ) fun r1 σ2 => bo (M_isDigit r1) fun r3 => if r3 = 0 then (M_number_b30 N σ2) else (if (σ2.1 2 0) = (σ2.1 4 0) then (M_number_b30 N σ2) else (rn5 (M_number_b49 N) N σ2 x1 x2 (σ2.1 2 0) 0))) else (some (0, σ))
theorem gw_number : GoodIn lw_all (wsV RX6 308 RX6 yX6_number (ws_ yX6_number cX6_number 5 (some .int))) := lw_V q2040 q2042 qs67 q164 q2043
theorem gn_number : yX6_number.cls = RX6 ∧ yX6_number.cls ≠ "java/lang/invoke/MethodHandle" ∧ yX6_number.cls ≠ "java/lang/invoke/VarHandle" ∧ (parseMethodDescriptor yX6_number.desc).map (fun d => d.parameters.length) = some 2 := by decide +kernel
abbrev rM_number : Room := { frames := 1, cells := 0, slots := 0, locals := 25 }
set_option maxHeartbeats 4000000 in
theorem cmf_number {l : Launch} {dC : Nat → ClassId} {dI : Nat → Nat → Nat} {ac : Nat → ClassId} {o : Nat} {ad : Nat → Nat} {N : Nat} {σ : mSt} {x1 : Int32} {x2 : Int32} {r : Int32} {σ' : mSt} (hf : M_number N σ x1 x2 = some (r, σ')) : Met l yX6_number (ws_ yX6_number cX6_number 5 (some .int)) { frames := 1, cells := 0, slots := 0, locals := 25 } (va_Pc [.ref o, .int x1, .int x2] (mPre dC dI ac o ad σ)) (mQi dC dI ac o ad r σ') 0 0 (mF o ad) := by
  refine m_of (by decide) rfl (Nat.le_of_ble_eq_true rfl) ?_
  intro p e s m args below meth c E hb hr hlk hml hS ls hl
  have hl : lv_has ls 5 [(0, .ref o), (1, .int x1), (2, .int x2)] := hl
  have hB30 : ∀ (σ : mSt), M_number_b30 N σ = some (r, σ') → ∀ (H : Heap) (locs : List Loc), mS dC dI ac o ad s.heap σ H locs → ∀ (ls : Array Slot), lv_has ls 5 [(0, .ref o)] → W p l e rM_number s m args below meth c H locs 0 0 (MQ below (mQi dC dI ac o ad r σ') args s 0 0 (mF o ad)) (F0 m 30 ls []) := by
    intro σ hf H locs hS ls hl
    unfold M_number_b30 at hf
    refine lv_aload_n E.1 hb dX6_number_30 rfl (lv_at hl 0 rfl) ?_
    refine lv_iconst (v := 1) E.1 hb dX6_number_31 rfl ?_
    refine lv_aload_n E.1 hb dX6_number_32 rfl (lv_at hl 0 rfl) ?_
    refine m_gI (k := 2) E hb hS rfl fl_2 dX6_number_33 ?_
    obtain ⟨_, σ4, h1, hf⟩ := bd_s hf
    refine m_cVv E hb hml hl.1 hS (cmf_fail h1) gw_fail gn_fail rfl rfl (Nat.le_of_ble_eq_true rfl) ⟨Nat.le_of_ble_eq_true rfl, Nat.le_of_ble_eq_true rfl⟩ ⟨Nat.le_refl 0, Nat.le_refl 0⟩ dX6_number_36 (fun H locs hS => ?_)
    refine lv_iconst (v := 0) E.1 hb dX6_number_39 rfl ?_
    exact m_ir E hb hr hlk hS hf dX6_number_40
  have hB129 : ∀ (σ : mSt) (x1 : Int32) (x2 : Int32) (x3 : Int32) (x4 : Int32), M_number_b129 N σ x1 x2 x3 x4 = some (r, σ') → ∀ (H : Heap) (locs : List Loc), mS dC dI ac o ad s.heap σ H locs → ∀ (ls : Array Slot), lv_has ls 5 [(0, .ref o), (1, .int x1), (2, .int x2), (3, .int x3), (4, .int x4)] → W p l e rM_number s m args below meth c H locs 0 0 (MQ below (mQi dC dI ac o ad r σ') args s 0 0 (mF o ad)) (F0 m 129 ls []) := by
    intro σ x1 x2 x3 x4 hf H locs hS ls hl
    unfold M_number_b129 at hf
    refine lv_aload_n E.1 hb dX6_number_129 rfl (lv_at hl 0 rfl) ?_
    refine lv_aload_n E.1 hb dX6_number_130 rfl (lv_at hl 0 rfl) ?_
    refine m_gI (k := 2) E hb hS rfl fl_2 dX6_number_131 ?_
    obtain ⟨σ5, hw, hf⟩ := lt2_s hf
    refine m_pI (k := 4) E hb hS rfl rfl pf_4 fl_4 hw dX6_number_134 (fun H locs hS => ?_)
    refine lv_aload_n E.1 hb dX6_number_137 rfl (lv_at hl 0 rfl) ?_
    refine lv_iload_n E.1 hb dX6_number_138 rfl (lv_at hl 3 rfl) ?_
    obtain ⟨σ6, hw, hf⟩ := lt2_s hf
    refine m_pI (k := 10) E hb hS rfl rfl pf_10 fl_10 hw dX6_number_139 (fun H locs hS => ?_)
    refine lv_iload E.1 hb dX6_number_142 (lv_at hl 4 rfl) ?_
    refine lv_i2l E.1 hb dX6_number_144 rfl ?_
    refine lv_iload_n E.1 hb dX6_number_145 rfl (lv_at hl 1 rfl) ?_
    refine lv_i2l E.1 hb dX6_number_146 rfl ?_
    refine lv_iload_n E.1 hb dX6_number_147 rfl (lv_at hl 2 rfl) ?_
    refine lv_i2l E.1 hb dX6_number_148 rfl ?_
    obtain ⟨r7, h1, hf⟩ := bo_s hf
    refine m_cSi E hb hml hl.1 hS (cmf_isIn h1) gw_isIn gn_isIn rfl rfl (Nat.le_of_ble_eq_true rfl) ⟨Nat.le_of_ble_eq_true rfl, Nat.le_of_ble_eq_true rfl⟩ ⟨Nat.le_refl 0, Nat.le_refl 0⟩ dX6_number_149 (fun H locs hS => ?_)
    refine lv_if_ne (tgt := 161) E.1 hb dX6_number_152 (by decide) (fun hc => ?_) (fun hc => ?_)
    · have hf := if_s hc hf
      refine lv_iload E.1 hb dX6_number_161 (lv_at hl 4 rfl) ?_
      exact m_ir E hb hr hlk hS hf dX6_number_163
    · have hf := it_s hc hf
      refine lv_aload_n E.1 hb dX6_number_155 rfl (lv_at hl 0 rfl) ?_
      refine lv_iconst (v := 2) E.1 hb dX6_number_156 rfl ?_
      refine lv_iload_n E.1 hb dX6_number_157 rfl (lv_at hl 3 rfl) ?_
      obtain ⟨_, σ8, h1, hf⟩ := bd_s hf
      refine m_cVv E hb hml hl.1 hS (cmf_fail h1) gw_fail gn_fail rfl rfl (Nat.le_of_ble_eq_true rfl) ⟨Nat.le_of_ble_eq_true rfl, Nat.le_of_ble_eq_true rfl⟩ ⟨Nat.le_refl 0, Nat.le_refl 0⟩ dX6_number_158 (fun H locs hS => ?_)
      refine lv_iload E.1 hb dX6_number_161 (lv_at hl 4 rfl) ?_
      exact m_ir E hb hr hlk hS hf dX6_number_163
  have hL49 : ∀ (n : Nat) (σ : mSt) (x1 : Int32) (x2 : Int32) (x3 : Int32) (x4 : Int32), rn5 (M_number_b49 N) n σ x1 x2 x3 x4 = some (r, σ') → ∀ (H : Heap) (locs : List Loc), mS dC dI ac o ad s.heap σ H locs → ∀ (ls : Array Slot), lv_has ls 5 [(0, .ref o), (1, .int x1), (2, .int x2), (3, .int x3), (4, .int x4)] → W p l e rM_number s m args below meth c H locs 0 0 (MQ below (mQi dC dI ac o ad r σ') args s 0 0 (mF o ad)) (F0 m 49 ls []) := by
    intro  n
    induction n with
    | zero =>
      intro σ x1 x2 x3 x4 hf
      cases hf
    | succ n ih =>
      intro σ x1 x2 x3 x4 hf H locs hS ls hl
      have hf : M_number_b49 N (rn5 (M_number_b49 N) n) σ x1 x2 x3 x4 = some (r, σ') := hf
      have hk49 := ih
      generalize rn5 (M_number_b49 N) n = k49 at hf hk49
      unfold M_number_b49 at hf
      refine lv_aload_n E.1 hb dX6_number_49 rfl (lv_at hl 0 rfl) ?_
      refine m_gI (k := 2) E hb hS rfl fl_2 dX6_number_50 ?_
      refine lv_aload_n E.1 hb dX6_number_53 rfl (lv_at hl 0 rfl) ?_
      refine m_gI (k := 3) E hb hS rfl fl_3 dX6_number_54 ?_
      refine lv_icmp_ge (tgt := 129) E.1 hb dX6_number_57 (by decide) (fun hc => ?_) (fun hc => ?_)
      · have hf := it_s hc hf
        exact hB129 σ x1 x2 x3 x4 hf _ _ hS _ (lv_sub hl [0, 1, 2, 3, 4] rfl)
      · have hf := if_s hc hf
        refine lv_aload_n E.1 hb dX6_number_60 rfl (lv_at hl 0 rfl) ?_
        refine m_gA (k := 0) E hb hS 2 rfl (by decide) fl_0 dX6_number_61 ?_
        refine lv_aload_n E.1 hb dX6_number_64 rfl (lv_at hl 0 rfl) ?_
        refine m_gI (k := 2) E hb hS rfl fl_2 dX6_number_65 ?_
        obtain ⟨hg, hf⟩ := ld_s hf
        refine m_ild E hb hS hg dX6_number_68 ?_
        obtain ⟨r10, h1, hf⟩ := bo_s hf
        refine m_cSi E hb hml hl.1 hS (cmf_isDigit h1) gw_isDigit gn_isDigit rfl rfl (Nat.le_of_ble_eq_true rfl) ⟨Nat.le_of_ble_eq_true rfl, Nat.le_of_ble_eq_true rfl⟩ ⟨Nat.le_refl 0, Nat.le_refl 0⟩ dX6_number_69 (fun H locs hS => ?_)
        refine lv_if_eq (tgt := 129) E.1 hb dX6_number_72 (by decide) (fun hc => ?_) (fun hc => ?_)
        · have hf := it_s hc hf
          exact hB129 σ x1 x2 x3 x4 hf _ _ hS _ (lv_sub hl [0, 1, 2, 3, 4] rfl)
        · have hf := if_s hc hf
          refine lv_aload_n E.1 hb dX6_number_75 rfl (lv_at hl 0 rfl) ?_
          refine m_gI (k := 2) E hb hS rfl fl_2 dX6_number_76 ?_
          refine lv_iload_n E.1 hb dX6_number_79 rfl (lv_at hl 3 rfl) ?_
          refine lv_isub E.1 hb dX6_number_80 ?_
          refine lv_iconst (v := 4) E.1 hb dX6_number_81 rfl ?_
          refine lv_icmp_ne (tgt := 96) E.1 hb dX6_number_82 (by decide) (fun hc => ?_) (fun hc => ?_)
          · have hf := if_s hc hf
            refine lv_bipush (v := 10) E.1 hb dX6_number_96 rfl ?_
            refine lv_iload E.1 hb dX6_number_98 (lv_at hl 4 rfl) ?_
            refine lv_imul E.1 hb dX6_number_100 ?_
            refine lv_aload_n E.1 hb dX6_number_101 rfl (lv_at hl 0 rfl) ?_
            refine m_gA (k := 0) E hb hS 2 rfl (by decide) fl_0 dX6_number_102 ?_
            refine lv_aload_n E.1 hb dX6_number_105 rfl (lv_at hl 0 rfl) ?_
            refine m_gI (k := 2) E hb hS rfl fl_2 dX6_number_106 ?_
            obtain ⟨hg, hf⟩ := ld_s hf
            refine m_ild E hb hS hg dX6_number_109 ?_
            refine lv_iadd E.1 hb dX6_number_110 ?_
            refine lv_bipush (v := 48) E.1 hb dX6_number_111 rfl ?_
            refine lv_isub E.1 hb dX6_number_113 ?_
            refine lv_istore (lv' := [(4, .int (((10 * x4) + (σ.1 0 (σ.1 2 0).toNatClampNeg)) - 48)), (0, .ref o), (1, .int x1), (2, .int x2), (3, .int x3)]) E.1 hb dX6_number_114 hl (by decide) rfl (fun ls hl => ?_)
            refine lv_aload_n E.1 hb dX6_number_116 rfl (lv_at hl 1 rfl) ?_
            refine lv_dup E.1 hb dX6_number_117 rfl ?_
            refine m_gI (k := 2) E hb hS rfl fl_2 dX6_number_118 ?_
            refine lv_iconst (v := 1) E.1 hb dX6_number_121 rfl ?_
            refine lv_iadd E.1 hb dX6_number_122 ?_
            obtain ⟨σ12, hw, hf⟩ := lt2_s hf
            refine m_pI (k := 2) E hb hS rfl rfl pf_2 fl_2 hw dX6_number_123 (fun H locs hS => ?_)
            refine lv_goto (tgt := 49) E.1 hb dX6_number_126 (by decide) ?_
            exact hk49 σ12 x1 x2 x3 (((10 * x4) + (σ.1 0 (σ.1 2 0).toNatClampNeg)) - 48) hf _ _ hS _ (lv_sub hl [1, 2, 3, 4, 0] rfl)
          · have hf := it_s hc hf
            refine lv_aload_n E.1 hb dX6_number_85 rfl (lv_at hl 0 rfl) ?_
            refine lv_iconst (v := 1) E.1 hb dX6_number_86 rfl ?_
            refine lv_aload_n E.1 hb dX6_number_87 rfl (lv_at hl 0 rfl) ?_
            refine m_gI (k := 2) E hb hS rfl fl_2 dX6_number_88 ?_
            obtain ⟨_, σ13, h1, hf⟩ := bd_s hf
            refine m_cVv E hb hml hl.1 hS (cmf_fail h1) gw_fail gn_fail rfl rfl (Nat.le_of_ble_eq_true rfl) ⟨Nat.le_of_ble_eq_true rfl, Nat.le_of_ble_eq_true rfl⟩ ⟨Nat.le_refl 0, Nat.le_refl 0⟩ dX6_number_91 (fun H locs hS => ?_)
            refine lv_iconst (v := 0) E.1 hb dX6_number_94 rfl ?_
            exact m_ir E hb hr hlk hS hf dX6_number_95
  unfold M_number at hf
  refine lv_aload_n E.1 hb dX6_number_0 rfl (lv_at hl 0 rfl) ?_
  refine m_gI (k := 5) E hb hS rfl fl_5 dX6_number_1 ?_
  refine lv_if_eq (tgt := 9) E.1 hb dX6_number_4 (by decide) (fun hc => ?_) (fun hc => ?_)
  · have hf := it_s hc hf
    refine lv_aload_n E.1 hb dX6_number_9 rfl (lv_at hl 0 rfl) ?_
    obtain ⟨r1, σ2, h1, hf⟩ := bd_s hf
    refine m_cVi E hb hml hl.1 hS (cmf_look h1) gw_look gn_look rfl rfl (Nat.le_of_ble_eq_true rfl) ⟨Nat.le_of_ble_eq_true rfl, Nat.le_of_ble_eq_true rfl⟩ ⟨Nat.le_refl 0, Nat.le_refl 0⟩ dX6_number_10 (fun H locs hS => ?_)
    obtain ⟨r3, h1, hf⟩ := bo_s hf
    refine m_cSi E hb hml hl.1 hS (cmf_isDigit h1) gw_isDigit gn_isDigit rfl rfl (Nat.le_of_ble_eq_true rfl) ⟨Nat.le_of_ble_eq_true rfl, Nat.le_of_ble_eq_true rfl⟩ ⟨Nat.le_refl 0, Nat.le_refl 0⟩ dX6_number_13 (fun H locs hS => ?_)
    refine lv_if_eq (tgt := 30) E.1 hb dX6_number_16 (by decide) (fun hc => ?_) (fun hc => ?_)
    · have hf := it_s hc hf
      exact hB30 σ2 hf _ _ hS _ (lv_sub hl [0] rfl)
    · have hf := if_s hc hf
      refine lv_aload_n E.1 hb dX6_number_19 rfl (lv_at hl 0 rfl) ?_
      refine m_gI (k := 2) E hb hS rfl fl_2 dX6_number_20 ?_
      refine lv_aload_n E.1 hb dX6_number_23 rfl (lv_at hl 0 rfl) ?_
      refine m_gI (k := 4) E hb hS rfl fl_4 dX6_number_24 ?_
      refine lv_icmp_ne (tgt := 41) E.1 hb dX6_number_27 (by decide) (fun hc => ?_) (fun hc => ?_)
      · have hf := if_s hc hf
        refine lv_aload_n E.1 hb dX6_number_41 rfl (lv_at hl 0 rfl) ?_
        refine m_gI (k := 2) E hb hS rfl fl_2 dX6_number_42 ?_
        refine lv_istore_n (lv' := [(3, .int (σ2.1 2 0)), (0, .ref o), (1, .int x1), (2, .int x2)]) E.1 hb dX6_number_45 rfl hl (by decide) rfl (fun ls hl => ?_)
        refine lv_iconst (v := 0) E.1 hb dX6_number_46 rfl ?_
        refine lv_istore (lv' := [(4, .int 0), (3, .int (σ2.1 2 0)), (0, .ref o), (1, .int x1), (2, .int x2)]) E.1 hb dX6_number_47 hl (by decide) rfl (fun ls hl => ?_)
        exact hL49 N σ2 x1 x2 (σ2.1 2 0) 0 hf _ _ hS _ (lv_sub hl [2, 3, 4, 1, 0] rfl)
      · have hf := it_s hc hf
        exact hB30 σ2 hf _ _ hS _ (lv_sub hl [0] rfl)
  · have hf := if_s hc hf
    refine lv_iconst (v := 0) E.1 hb dX6_number_7 rfl ?_
    exact m_ir E hb hr hlk hS hf dX6_number_8
/-! isOwnHere()Z: RW -/
noncomputable def M_isOwnHere_b299 (N : Nat) (σ : mSt) (y0 : Int32) : Option (Int32 × mSt) :=
  if y0 = 0 then (bd (M_isHere N σ 35) fun r3 σ4 => if r3 = 0 then (bd (M_isHere N σ4 36) fun r5 σ6 => if r5 = 0 then (bd (M_isHere N σ6 37) fun r7 σ8 => if r7 = 0 then (bd (M_isHere N σ8 38) fun r9 σ10 => if r9 = 0 then (some (0, σ10)) else (some (1, σ10))) else (some (1, σ8))) else (some (1, σ6))) else (some (1, σ4))) else (some (1, σ))
noncomputable def M_isOwnHere_b294 (N : Nat) (σ : mSt) : Option (Int32 × mSt) :=
  M_isOwnHere_b299 N σ 1
noncomputable def M_isOwnHere_b223 (N : Nat) (σ : mSt) (y0 : Int32) : Option (Int32 × mSt) :=
  if y0 = 0 then (bd (M_isHere N σ 29) fun r11 σ12 => if r11 = 0 then (bd (M_isHere N σ12 30) fun r13 σ14 => if r13 = 0 then (bd (M_isHere N σ14 31) fun r15 σ16 => if r15 = 0 then (bd (M_isHere N σ16 32) fun r17 σ18 => if r17 = 0 then (bd (M_isHere N σ18 33) fun r19 σ20 => if r19 = 0 then (bd (M_isHere N σ20 34) fun r21 σ22 => if r21 = 0 then (M_isOwnHere_b299 N σ22 0) else (M_isOwnHere_b294 N σ22)) else (M_isOwnHere_b294 N σ20)) else (M_isOwnHere_b294 N σ18)) else (M_isOwnHere_b294 N σ16)) else (M_isOwnHere_b294 N σ14)) else (M_isOwnHere_b294 N σ12)) else (M_isOwnHere_b294 N σ)
noncomputable def M_isOwnHere_b218 (N : Nat) (σ : mSt) : Option (Int32 × mSt) :=
  M_isOwnHere_b223 N σ 1
noncomputable def M_isOwnHere_b147 (N : Nat) (σ : mSt) (y0 : Int32) : Option (Int32 × mSt) :=
  if y0 = 0 then (bd (M_isHere N σ 23) fun r23 σ24 => if r23 = 0 then (bd (M_isHere N σ24 24) fun r25 σ26 => if r25 = 0 then (bd (M_isHere N σ26 25) fun r27 σ28 => if r27 = 0 then (bd (M_isHere N σ28 26) fun r29 σ30 => if r29 = 0 then (bd (M_isHere N σ30 27) fun r31 σ32 => if r31 = 0 then (bd (M_isHere N σ32 28) fun r33 σ34 => if r33 = 0 then (M_isOwnHere_b223 N σ34 0) else (M_isOwnHere_b218 N σ34)) else (M_isOwnHere_b218 N σ32)) else (M_isOwnHere_b218 N σ30)) else (M_isOwnHere_b218 N σ28)) else (M_isOwnHere_b218 N σ26)) else (M_isOwnHere_b218 N σ24)) else (M_isOwnHere_b218 N σ)
noncomputable def M_isOwnHere_b142 (N : Nat) (σ : mSt) : Option (Int32 × mSt) :=
  M_isOwnHere_b147 N σ 1
noncomputable def M_isOwnHere_b71 (N : Nat) (σ : mSt) (y0 : Int32) : Option (Int32 × mSt) :=
  if y0 = 0 then (bd (M_isHere N σ 17) fun r35 σ36 => if r35 = 0 then (bd (M_isHere N σ36 18) fun r37 σ38 => if r37 = 0 then (bd (M_isHere N σ38 19) fun r39 σ40 => if r39 = 0 then (bd (M_isHere N σ40 20) fun r41 σ42 => if r41 = 0 then (bd (M_isHere N σ42 21) fun r43 σ44 => if r43 = 0 then (bd (M_isHere N σ44 22) fun r45 σ46 => if r45 = 0 then (M_isOwnHere_b147 N σ46 0) else (M_isOwnHere_b142 N σ46)) else (M_isOwnHere_b142 N σ44)) else (M_isOwnHere_b142 N σ42)) else (M_isOwnHere_b142 N σ40)) else (M_isOwnHere_b142 N σ38)) else (M_isOwnHere_b142 N σ36)) else (M_isOwnHere_b142 N σ)
noncomputable def M_isOwnHere_b66 (N : Nat) (σ : mSt) : Option (Int32 × mSt) :=
  M_isOwnHere_b71 N σ 1
noncomputable def M_isOwnHere (N : Nat) (σ : mSt) : Option (Int32 × mSt) :=
  bd (M_isHere N σ 11) fun r1 σ2 => if r1 = 0 then (bd (M_isHere N σ2 12) fun r47 σ48 => if r47 = 0 then (bd (M_isHere N σ48 13) fun r49 σ50 => if r49 = 0 then (bd (M_isHere N σ50 14) fun r51 σ52 => if r51 = 0 then (bd (M_isHere N σ52 15) fun r53 σ54 => if r53 = 0 then (bd (M_isHere N σ54 16) fun r55 σ56 => if r55 = 0 then (M_isOwnHere_b71 N σ56 0) else (M_isOwnHere_b66 N σ56)) else (M_isOwnHere_b66 N σ54)) else (M_isOwnHere_b66 N σ52)) else (M_isOwnHere_b66 N σ50)) else (M_isOwnHere_b66 N σ48)) else (M_isOwnHere_b66 N σ2)
theorem gw_isOwnHere : GoodIn lw_all (wsV RX6 290 RX6 yX6_isOwnHere (ws_ yX6_isOwnHere cX6_isOwnHere 2 (some .boolean))) := lw_V q2094 q2096 qs79 q164 q2097
theorem gn_isOwnHere : yX6_isOwnHere.cls = RX6 ∧ yX6_isOwnHere.cls ≠ "java/lang/invoke/MethodHandle" ∧ yX6_isOwnHere.cls ≠ "java/lang/invoke/VarHandle" ∧ (parseMethodDescriptor yX6_isOwnHere.desc).map (fun d => d.parameters.length) = some 0 := by decide +kernel
abbrev rM_isOwnHere : Room := { frames := 2, cells := 0, slots := 0, locals := 43 }
set_option maxHeartbeats 4000000 in
theorem cmf_isOwnHere {l : Launch} {dC : Nat → ClassId} {dI : Nat → Nat → Nat} {ac : Nat → ClassId} {o : Nat} {ad : Nat → Nat} {N : Nat} {σ : mSt} {r : Int32} {σ' : mSt} (hf : M_isOwnHere N σ = some (r, σ')) : Met l yX6_isOwnHere (ws_ yX6_isOwnHere cX6_isOwnHere 2 (some .boolean)) { frames := 2, cells := 0, slots := 0, locals := 43 } (va_Pc [.ref o] (mPre dC dI ac o ad σ)) (mQi dC dI ac o ad r σ') 0 0 (mF o ad) := by
  refine m_of (by decide) rfl (Nat.le_of_ble_eq_true rfl) ?_
  intro p e s m args below meth c E hb hr hlk hml hS ls hl
  have hl : lv_has ls 2 [(0, .ref o)] := hl
  have hB299 : ∀ (σ : mSt) (y0 : Int32), M_isOwnHere_b299 N σ y0 = some (r, σ') → ∀ (H : Heap) (locs : List Loc), mS dC dI ac o ad s.heap σ H locs → ∀ (ls : Array Slot), lv_has ls 2 [(0, .ref o)] → W p l e rM_isOwnHere s m args below meth c H locs 0 0 (MQ below (mQi dC dI ac o ad r σ') args s 0 0 (mF o ad)) (F0 m 299 ls [.int y0]) := by
    intro σ y0 hf H locs hS ls hl
    unfold M_isOwnHere_b299 at hf
    refine lv_istore_n (lv' := [(1, .int y0), (0, .ref o)]) E.1 hb dX6_isOwnHere_299 rfl hl (by decide) rfl (fun ls hl => ?_)
    refine lv_iload_n E.1 hb dX6_isOwnHere_300 rfl (lv_at hl 0 rfl) ?_
    refine lv_if_ne (tgt := 348) E.1 hb dX6_isOwnHere_301 (by decide) (fun hc => ?_) (fun hc => ?_)
    · have hf := if_s hc hf
      refine lv_iconst (v := 1) E.1 hb dX6_isOwnHere_348 rfl ?_
      refine lv_goto (tgt := 353) E.1 hb dX6_isOwnHere_349 (by decide) ?_
      refine lv_istore_n (lv' := [(1, .int 1), (0, .ref o)]) E.1 hb dX6_isOwnHere_353 rfl hl (by decide) rfl (fun ls hl => ?_)
      refine lv_iload_n E.1 hb dX6_isOwnHere_354 rfl (lv_at hl 0 rfl) ?_
      exact m_zr E hb hr hlk hS rfl hf dX6_isOwnHere_355
    · have hf := it_s hc hf
      refine lv_aload_n E.1 hb dX6_isOwnHere_304 rfl (lv_at hl 1 rfl) ?_
      refine lv_aload_n E.1 hb dX6_isOwnHere_305 rfl (lv_at hl 1 rfl) ?_
      refine m_gA (k := 35) E hb hS 4 rfl (by decide) fl_35 dX6_isOwnHere_306 ?_
      obtain ⟨r3, σ4, h1, hf⟩ := bd_s hf
      refine m_cVi E hb hml hl.1 hS (cmf_isHere h1) gw_isHere gn_isHere rfl rfl (Nat.le_of_ble_eq_true rfl) ⟨Nat.le_of_ble_eq_true rfl, Nat.le_of_ble_eq_true rfl⟩ ⟨Nat.le_refl 0, Nat.le_refl 0⟩ dX6_isOwnHere_309 (fun H locs hS => ?_)
      refine lv_if_ne (tgt := 348) E.1 hb dX6_isOwnHere_312 (by decide) (fun hc => ?_) (fun hc => ?_)
      · have hf := if_s hc hf
        refine lv_iconst (v := 1) E.1 hb dX6_isOwnHere_348 rfl ?_
        refine lv_goto (tgt := 353) E.1 hb dX6_isOwnHere_349 (by decide) ?_
        refine lv_istore_n (lv' := [(1, .int 1), (0, .ref o)]) E.1 hb dX6_isOwnHere_353 rfl hl (by decide) rfl (fun ls hl => ?_)
        refine lv_iload_n E.1 hb dX6_isOwnHere_354 rfl (lv_at hl 0 rfl) ?_
        exact m_zr E hb hr hlk hS rfl hf dX6_isOwnHere_355
      · have hf := it_s hc hf
        refine lv_aload_n E.1 hb dX6_isOwnHere_315 rfl (lv_at hl 1 rfl) ?_
        refine lv_aload_n E.1 hb dX6_isOwnHere_316 rfl (lv_at hl 1 rfl) ?_
        refine m_gA (k := 36) E hb hS 4 rfl (by decide) fl_36 dX6_isOwnHere_317 ?_
        obtain ⟨r5, σ6, h1, hf⟩ := bd_s hf
        refine m_cVi E hb hml hl.1 hS (cmf_isHere h1) gw_isHere gn_isHere rfl rfl (Nat.le_of_ble_eq_true rfl) ⟨Nat.le_of_ble_eq_true rfl, Nat.le_of_ble_eq_true rfl⟩ ⟨Nat.le_refl 0, Nat.le_refl 0⟩ dX6_isOwnHere_320 (fun H locs hS => ?_)
        refine lv_if_ne (tgt := 348) E.1 hb dX6_isOwnHere_323 (by decide) (fun hc => ?_) (fun hc => ?_)
        · have hf := if_s hc hf
          refine lv_iconst (v := 1) E.1 hb dX6_isOwnHere_348 rfl ?_
          refine lv_goto (tgt := 353) E.1 hb dX6_isOwnHere_349 (by decide) ?_
          refine lv_istore_n (lv' := [(1, .int 1), (0, .ref o)]) E.1 hb dX6_isOwnHere_353 rfl hl (by decide) rfl (fun ls hl => ?_)
          refine lv_iload_n E.1 hb dX6_isOwnHere_354 rfl (lv_at hl 0 rfl) ?_
          exact m_zr E hb hr hlk hS rfl hf dX6_isOwnHere_355
        · have hf := it_s hc hf
          refine lv_aload_n E.1 hb dX6_isOwnHere_326 rfl (lv_at hl 1 rfl) ?_
          refine lv_aload_n E.1 hb dX6_isOwnHere_327 rfl (lv_at hl 1 rfl) ?_
          refine m_gA (k := 37) E hb hS 4 rfl (by decide) fl_37 dX6_isOwnHere_328 ?_
          obtain ⟨r7, σ8, h1, hf⟩ := bd_s hf
          refine m_cVi E hb hml hl.1 hS (cmf_isHere h1) gw_isHere gn_isHere rfl rfl (Nat.le_of_ble_eq_true rfl) ⟨Nat.le_of_ble_eq_true rfl, Nat.le_of_ble_eq_true rfl⟩ ⟨Nat.le_refl 0, Nat.le_refl 0⟩ dX6_isOwnHere_331 (fun H locs hS => ?_)
          refine lv_if_ne (tgt := 348) E.1 hb dX6_isOwnHere_334 (by decide) (fun hc => ?_) (fun hc => ?_)
          · have hf := if_s hc hf
            refine lv_iconst (v := 1) E.1 hb dX6_isOwnHere_348 rfl ?_
            refine lv_goto (tgt := 353) E.1 hb dX6_isOwnHere_349 (by decide) ?_
            refine lv_istore_n (lv' := [(1, .int 1), (0, .ref o)]) E.1 hb dX6_isOwnHere_353 rfl hl (by decide) rfl (fun ls hl => ?_)
            refine lv_iload_n E.1 hb dX6_isOwnHere_354 rfl (lv_at hl 0 rfl) ?_
            exact m_zr E hb hr hlk hS rfl hf dX6_isOwnHere_355
          · have hf := it_s hc hf
            refine lv_aload_n E.1 hb dX6_isOwnHere_337 rfl (lv_at hl 1 rfl) ?_
            refine lv_aload_n E.1 hb dX6_isOwnHere_338 rfl (lv_at hl 1 rfl) ?_
            refine m_gA (k := 38) E hb hS 4 rfl (by decide) fl_38 dX6_isOwnHere_339 ?_
            obtain ⟨r9, σ10, h1, hf⟩ := bd_s hf
            refine m_cVi E hb hml hl.1 hS (cmf_isHere h1) gw_isHere gn_isHere rfl rfl (Nat.le_of_ble_eq_true rfl) ⟨Nat.le_of_ble_eq_true rfl, Nat.le_of_ble_eq_true rfl⟩ ⟨Nat.le_refl 0, Nat.le_refl 0⟩ dX6_isOwnHere_342 (fun H locs hS => ?_)
            refine lv_if_eq (tgt := 352) E.1 hb dX6_isOwnHere_345 (by decide) (fun hc => ?_) (fun hc => ?_)
            · have hf := it_s hc hf
              refine lv_iconst (v := 0) E.1 hb dX6_isOwnHere_352 rfl ?_
              refine lv_istore_n (lv' := [(1, .int 0), (0, .ref o)]) E.1 hb dX6_isOwnHere_353 rfl hl (by decide) rfl (fun ls hl => ?_)
              refine lv_iload_n E.1 hb dX6_isOwnHere_354 rfl (lv_at hl 0 rfl) ?_
              exact m_zr E hb hr hlk hS rfl hf dX6_isOwnHere_355
            · have hf := if_s hc hf
              refine lv_iconst (v := 1) E.1 hb dX6_isOwnHere_348 rfl ?_
              refine lv_goto (tgt := 353) E.1 hb dX6_isOwnHere_349 (by decide) ?_
              refine lv_istore_n (lv' := [(1, .int 1), (0, .ref o)]) E.1 hb dX6_isOwnHere_353 rfl hl (by decide) rfl (fun ls hl => ?_)
              refine lv_iload_n E.1 hb dX6_isOwnHere_354 rfl (lv_at hl 0 rfl) ?_
              exact m_zr E hb hr hlk hS rfl hf dX6_isOwnHere_355
  have hB294 : ∀ (σ : mSt), M_isOwnHere_b294 N σ = some (r, σ') → ∀ (H : Heap) (locs : List Loc), mS dC dI ac o ad s.heap σ H locs → ∀ (ls : Array Slot), lv_has ls 2 [(0, .ref o)] → W p l e rM_isOwnHere s m args below meth c H locs 0 0 (MQ below (mQi dC dI ac o ad r σ') args s 0 0 (mF o ad)) (F0 m 294 ls []) := by
    intro σ hf H locs hS ls hl
    unfold M_isOwnHere_b294 at hf
    refine lv_iconst (v := 1) E.1 hb dX6_isOwnHere_294 rfl ?_
    refine lv_goto (tgt := 299) E.1 hb dX6_isOwnHere_295 (by decide) ?_
    exact hB299 σ 1 hf _ _ hS _ (lv_sub hl [0] rfl)
  have hB223 : ∀ (σ : mSt) (y0 : Int32), M_isOwnHere_b223 N σ y0 = some (r, σ') → ∀ (H : Heap) (locs : List Loc), mS dC dI ac o ad s.heap σ H locs → ∀ (ls : Array Slot), lv_has ls 2 [(0, .ref o)] → W p l e rM_isOwnHere s m args below meth c H locs 0 0 (MQ below (mQi dC dI ac o ad r σ') args s 0 0 (mF o ad)) (F0 m 223 ls [.int y0]) := by
    intro σ y0 hf H locs hS ls hl
    unfold M_isOwnHere_b223 at hf
    refine lv_istore_n (lv' := [(1, .int y0), (0, .ref o)]) E.1 hb dX6_isOwnHere_223 rfl hl (by decide) rfl (fun ls hl => ?_)
    refine lv_iload_n E.1 hb dX6_isOwnHere_224 rfl (lv_at hl 0 rfl) ?_
    refine lv_if_ne (tgt := 294) E.1 hb dX6_isOwnHere_225 (by decide) (fun hc => ?_) (fun hc => ?_)
    · have hf := if_s hc hf
      exact hB294 σ hf _ _ hS _ (lv_sub hl [1] rfl)
    · have hf := it_s hc hf
      refine lv_aload_n E.1 hb dX6_isOwnHere_228 rfl (lv_at hl 1 rfl) ?_
      refine lv_aload_n E.1 hb dX6_isOwnHere_229 rfl (lv_at hl 1 rfl) ?_
      refine m_gA (k := 29) E hb hS 4 rfl (by decide) fl_29 dX6_isOwnHere_230 ?_
      obtain ⟨r11, σ12, h1, hf⟩ := bd_s hf
      refine m_cVi E hb hml hl.1 hS (cmf_isHere h1) gw_isHere gn_isHere rfl rfl (Nat.le_of_ble_eq_true rfl) ⟨Nat.le_of_ble_eq_true rfl, Nat.le_of_ble_eq_true rfl⟩ ⟨Nat.le_refl 0, Nat.le_refl 0⟩ dX6_isOwnHere_233 (fun H locs hS => ?_)
      refine lv_if_ne (tgt := 294) E.1 hb dX6_isOwnHere_236 (by decide) (fun hc => ?_) (fun hc => ?_)
      · have hf := if_s hc hf
        exact hB294 σ12 hf _ _ hS _ (lv_sub hl [1] rfl)
      · have hf := it_s hc hf
        refine lv_aload_n E.1 hb dX6_isOwnHere_239 rfl (lv_at hl 1 rfl) ?_
        refine lv_aload_n E.1 hb dX6_isOwnHere_240 rfl (lv_at hl 1 rfl) ?_
        refine m_gA (k := 30) E hb hS 4 rfl (by decide) fl_30 dX6_isOwnHere_241 ?_
        obtain ⟨r13, σ14, h1, hf⟩ := bd_s hf
        refine m_cVi E hb hml hl.1 hS (cmf_isHere h1) gw_isHere gn_isHere rfl rfl (Nat.le_of_ble_eq_true rfl) ⟨Nat.le_of_ble_eq_true rfl, Nat.le_of_ble_eq_true rfl⟩ ⟨Nat.le_refl 0, Nat.le_refl 0⟩ dX6_isOwnHere_244 (fun H locs hS => ?_)
        refine lv_if_ne (tgt := 294) E.1 hb dX6_isOwnHere_247 (by decide) (fun hc => ?_) (fun hc => ?_)
        · have hf := if_s hc hf
          exact hB294 σ14 hf _ _ hS _ (lv_sub hl [1] rfl)
        · have hf := it_s hc hf
          refine lv_aload_n E.1 hb dX6_isOwnHere_250 rfl (lv_at hl 1 rfl) ?_
          refine lv_aload_n E.1 hb dX6_isOwnHere_251 rfl (lv_at hl 1 rfl) ?_
          refine m_gA (k := 31) E hb hS 4 rfl (by decide) fl_31 dX6_isOwnHere_252 ?_
          obtain ⟨r15, σ16, h1, hf⟩ := bd_s hf
          refine m_cVi E hb hml hl.1 hS (cmf_isHere h1) gw_isHere gn_isHere rfl rfl (Nat.le_of_ble_eq_true rfl) ⟨Nat.le_of_ble_eq_true rfl, Nat.le_of_ble_eq_true rfl⟩ ⟨Nat.le_refl 0, Nat.le_refl 0⟩ dX6_isOwnHere_255 (fun H locs hS => ?_)
          refine lv_if_ne (tgt := 294) E.1 hb dX6_isOwnHere_258 (by decide) (fun hc => ?_) (fun hc => ?_)
          · have hf := if_s hc hf
            exact hB294 σ16 hf _ _ hS _ (lv_sub hl [1] rfl)
          · have hf := it_s hc hf
            refine lv_aload_n E.1 hb dX6_isOwnHere_261 rfl (lv_at hl 1 rfl) ?_
            refine lv_aload_n E.1 hb dX6_isOwnHere_262 rfl (lv_at hl 1 rfl) ?_
            refine m_gA (k := 32) E hb hS 4 rfl (by decide) fl_32 dX6_isOwnHere_263 ?_
            obtain ⟨r17, σ18, h1, hf⟩ := bd_s hf
            refine m_cVi E hb hml hl.1 hS (cmf_isHere h1) gw_isHere gn_isHere rfl rfl (Nat.le_of_ble_eq_true rfl) ⟨Nat.le_of_ble_eq_true rfl, Nat.le_of_ble_eq_true rfl⟩ ⟨Nat.le_refl 0, Nat.le_refl 0⟩ dX6_isOwnHere_266 (fun H locs hS => ?_)
            refine lv_if_ne (tgt := 294) E.1 hb dX6_isOwnHere_269 (by decide) (fun hc => ?_) (fun hc => ?_)
            · have hf := if_s hc hf
              exact hB294 σ18 hf _ _ hS _ (lv_sub hl [1] rfl)
            · have hf := it_s hc hf
              refine lv_aload_n E.1 hb dX6_isOwnHere_272 rfl (lv_at hl 1 rfl) ?_
              refine lv_aload_n E.1 hb dX6_isOwnHere_273 rfl (lv_at hl 1 rfl) ?_
              refine m_gA (k := 33) E hb hS 4 rfl (by decide) fl_33 dX6_isOwnHere_274 ?_
              obtain ⟨r19, σ20, h1, hf⟩ := bd_s hf
              refine m_cVi E hb hml hl.1 hS (cmf_isHere h1) gw_isHere gn_isHere rfl rfl (Nat.le_of_ble_eq_true rfl) ⟨Nat.le_of_ble_eq_true rfl, Nat.le_of_ble_eq_true rfl⟩ ⟨Nat.le_refl 0, Nat.le_refl 0⟩ dX6_isOwnHere_277 (fun H locs hS => ?_)
              refine lv_if_ne (tgt := 294) E.1 hb dX6_isOwnHere_280 (by decide) (fun hc => ?_) (fun hc => ?_)
              · have hf := if_s hc hf
                exact hB294 σ20 hf _ _ hS _ (lv_sub hl [1] rfl)
              · have hf := it_s hc hf
                refine lv_aload_n E.1 hb dX6_isOwnHere_283 rfl (lv_at hl 1 rfl) ?_
                refine lv_aload_n E.1 hb dX6_isOwnHere_284 rfl (lv_at hl 1 rfl) ?_
                refine m_gA (k := 34) E hb hS 4 rfl (by decide) fl_34 dX6_isOwnHere_285 ?_
                obtain ⟨r21, σ22, h1, hf⟩ := bd_s hf
                refine m_cVi E hb hml hl.1 hS (cmf_isHere h1) gw_isHere gn_isHere rfl rfl (Nat.le_of_ble_eq_true rfl) ⟨Nat.le_of_ble_eq_true rfl, Nat.le_of_ble_eq_true rfl⟩ ⟨Nat.le_refl 0, Nat.le_refl 0⟩ dX6_isOwnHere_288 (fun H locs hS => ?_)
                refine lv_if_eq (tgt := 298) E.1 hb dX6_isOwnHere_291 (by decide) (fun hc => ?_) (fun hc => ?_)
                · have hf := it_s hc hf
                  refine lv_iconst (v := 0) E.1 hb dX6_isOwnHere_298 rfl ?_
                  exact hB299 σ22 0 hf _ _ hS _ (lv_sub hl [1] rfl)
                · have hf := if_s hc hf
                  exact hB294 σ22 hf _ _ hS _ (lv_sub hl [1] rfl)
  have hB218 : ∀ (σ : mSt), M_isOwnHere_b218 N σ = some (r, σ') → ∀ (H : Heap) (locs : List Loc), mS dC dI ac o ad s.heap σ H locs → ∀ (ls : Array Slot), lv_has ls 2 [(0, .ref o)] → W p l e rM_isOwnHere s m args below meth c H locs 0 0 (MQ below (mQi dC dI ac o ad r σ') args s 0 0 (mF o ad)) (F0 m 218 ls []) := by
    intro σ hf H locs hS ls hl
    unfold M_isOwnHere_b218 at hf
    refine lv_iconst (v := 1) E.1 hb dX6_isOwnHere_218 rfl ?_
    refine lv_goto (tgt := 223) E.1 hb dX6_isOwnHere_219 (by decide) ?_
    exact hB223 σ 1 hf _ _ hS _ (lv_sub hl [0] rfl)
  have hB147 : ∀ (σ : mSt) (y0 : Int32), M_isOwnHere_b147 N σ y0 = some (r, σ') → ∀ (H : Heap) (locs : List Loc), mS dC dI ac o ad s.heap σ H locs → ∀ (ls : Array Slot), lv_has ls 2 [(0, .ref o)] → W p l e rM_isOwnHere s m args below meth c H locs 0 0 (MQ below (mQi dC dI ac o ad r σ') args s 0 0 (mF o ad)) (F0 m 147 ls [.int y0]) := by
    intro σ y0 hf H locs hS ls hl
    unfold M_isOwnHere_b147 at hf
    refine lv_istore_n (lv' := [(1, .int y0), (0, .ref o)]) E.1 hb dX6_isOwnHere_147 rfl hl (by decide) rfl (fun ls hl => ?_)
    refine lv_iload_n E.1 hb dX6_isOwnHere_148 rfl (lv_at hl 0 rfl) ?_
    refine lv_if_ne (tgt := 218) E.1 hb dX6_isOwnHere_149 (by decide) (fun hc => ?_) (fun hc => ?_)
    · have hf := if_s hc hf
      exact hB218 σ hf _ _ hS _ (lv_sub hl [1] rfl)
    · have hf := it_s hc hf
      refine lv_aload_n E.1 hb dX6_isOwnHere_152 rfl (lv_at hl 1 rfl) ?_
      refine lv_aload_n E.1 hb dX6_isOwnHere_153 rfl (lv_at hl 1 rfl) ?_
      refine m_gA (k := 23) E hb hS 4 rfl (by decide) fl_23 dX6_isOwnHere_154 ?_
      obtain ⟨r23, σ24, h1, hf⟩ := bd_s hf
      refine m_cVi E hb hml hl.1 hS (cmf_isHere h1) gw_isHere gn_isHere rfl rfl (Nat.le_of_ble_eq_true rfl) ⟨Nat.le_of_ble_eq_true rfl, Nat.le_of_ble_eq_true rfl⟩ ⟨Nat.le_refl 0, Nat.le_refl 0⟩ dX6_isOwnHere_157 (fun H locs hS => ?_)
      refine lv_if_ne (tgt := 218) E.1 hb dX6_isOwnHere_160 (by decide) (fun hc => ?_) (fun hc => ?_)
      · have hf := if_s hc hf
        exact hB218 σ24 hf _ _ hS _ (lv_sub hl [1] rfl)
      · have hf := it_s hc hf
        refine lv_aload_n E.1 hb dX6_isOwnHere_163 rfl (lv_at hl 1 rfl) ?_
        refine lv_aload_n E.1 hb dX6_isOwnHere_164 rfl (lv_at hl 1 rfl) ?_
        refine m_gA (k := 24) E hb hS 4 rfl (by decide) fl_24 dX6_isOwnHere_165 ?_
        obtain ⟨r25, σ26, h1, hf⟩ := bd_s hf
        refine m_cVi E hb hml hl.1 hS (cmf_isHere h1) gw_isHere gn_isHere rfl rfl (Nat.le_of_ble_eq_true rfl) ⟨Nat.le_of_ble_eq_true rfl, Nat.le_of_ble_eq_true rfl⟩ ⟨Nat.le_refl 0, Nat.le_refl 0⟩ dX6_isOwnHere_168 (fun H locs hS => ?_)
        refine lv_if_ne (tgt := 218) E.1 hb dX6_isOwnHere_171 (by decide) (fun hc => ?_) (fun hc => ?_)
        · have hf := if_s hc hf
          exact hB218 σ26 hf _ _ hS _ (lv_sub hl [1] rfl)
        · have hf := it_s hc hf
          refine lv_aload_n E.1 hb dX6_isOwnHere_174 rfl (lv_at hl 1 rfl) ?_
          refine lv_aload_n E.1 hb dX6_isOwnHere_175 rfl (lv_at hl 1 rfl) ?_
          refine m_gA (k := 25) E hb hS 4 rfl (by decide) fl_25 dX6_isOwnHere_176 ?_
          obtain ⟨r27, σ28, h1, hf⟩ := bd_s hf
          refine m_cVi E hb hml hl.1 hS (cmf_isHere h1) gw_isHere gn_isHere rfl rfl (Nat.le_of_ble_eq_true rfl) ⟨Nat.le_of_ble_eq_true rfl, Nat.le_of_ble_eq_true rfl⟩ ⟨Nat.le_refl 0, Nat.le_refl 0⟩ dX6_isOwnHere_179 (fun H locs hS => ?_)
          refine lv_if_ne (tgt := 218) E.1 hb dX6_isOwnHere_182 (by decide) (fun hc => ?_) (fun hc => ?_)
          · have hf := if_s hc hf
            exact hB218 σ28 hf _ _ hS _ (lv_sub hl [1] rfl)
          · have hf := it_s hc hf
            refine lv_aload_n E.1 hb dX6_isOwnHere_185 rfl (lv_at hl 1 rfl) ?_
            refine lv_aload_n E.1 hb dX6_isOwnHere_186 rfl (lv_at hl 1 rfl) ?_
            refine m_gA (k := 26) E hb hS 4 rfl (by decide) fl_26 dX6_isOwnHere_187 ?_
            obtain ⟨r29, σ30, h1, hf⟩ := bd_s hf
            refine m_cVi E hb hml hl.1 hS (cmf_isHere h1) gw_isHere gn_isHere rfl rfl (Nat.le_of_ble_eq_true rfl) ⟨Nat.le_of_ble_eq_true rfl, Nat.le_of_ble_eq_true rfl⟩ ⟨Nat.le_refl 0, Nat.le_refl 0⟩ dX6_isOwnHere_190 (fun H locs hS => ?_)
            refine lv_if_ne (tgt := 218) E.1 hb dX6_isOwnHere_193 (by decide) (fun hc => ?_) (fun hc => ?_)
            · have hf := if_s hc hf
              exact hB218 σ30 hf _ _ hS _ (lv_sub hl [1] rfl)
            · have hf := it_s hc hf
              refine lv_aload_n E.1 hb dX6_isOwnHere_196 rfl (lv_at hl 1 rfl) ?_
              refine lv_aload_n E.1 hb dX6_isOwnHere_197 rfl (lv_at hl 1 rfl) ?_
              refine m_gA (k := 27) E hb hS 4 rfl (by decide) fl_27 dX6_isOwnHere_198 ?_
              obtain ⟨r31, σ32, h1, hf⟩ := bd_s hf
              refine m_cVi E hb hml hl.1 hS (cmf_isHere h1) gw_isHere gn_isHere rfl rfl (Nat.le_of_ble_eq_true rfl) ⟨Nat.le_of_ble_eq_true rfl, Nat.le_of_ble_eq_true rfl⟩ ⟨Nat.le_refl 0, Nat.le_refl 0⟩ dX6_isOwnHere_201 (fun H locs hS => ?_)
              refine lv_if_ne (tgt := 218) E.1 hb dX6_isOwnHere_204 (by decide) (fun hc => ?_) (fun hc => ?_)
              · have hf := if_s hc hf
                exact hB218 σ32 hf _ _ hS _ (lv_sub hl [1] rfl)
              · have hf := it_s hc hf
                refine lv_aload_n E.1 hb dX6_isOwnHere_207 rfl (lv_at hl 1 rfl) ?_
                refine lv_aload_n E.1 hb dX6_isOwnHere_208 rfl (lv_at hl 1 rfl) ?_
                refine m_gA (k := 28) E hb hS 4 rfl (by decide) fl_28 dX6_isOwnHere_209 ?_
                obtain ⟨r33, σ34, h1, hf⟩ := bd_s hf
                refine m_cVi E hb hml hl.1 hS (cmf_isHere h1) gw_isHere gn_isHere rfl rfl (Nat.le_of_ble_eq_true rfl) ⟨Nat.le_of_ble_eq_true rfl, Nat.le_of_ble_eq_true rfl⟩ ⟨Nat.le_refl 0, Nat.le_refl 0⟩ dX6_isOwnHere_212 (fun H locs hS => ?_)
                refine lv_if_eq (tgt := 222) E.1 hb dX6_isOwnHere_215 (by decide) (fun hc => ?_) (fun hc => ?_)
                · have hf := it_s hc hf
                  refine lv_iconst (v := 0) E.1 hb dX6_isOwnHere_222 rfl ?_
                  exact hB223 σ34 0 hf _ _ hS _ (lv_sub hl [1] rfl)
                · have hf := if_s hc hf
                  exact hB218 σ34 hf _ _ hS _ (lv_sub hl [1] rfl)
  have hB142 : ∀ (σ : mSt), M_isOwnHere_b142 N σ = some (r, σ') → ∀ (H : Heap) (locs : List Loc), mS dC dI ac o ad s.heap σ H locs → ∀ (ls : Array Slot), lv_has ls 2 [(0, .ref o)] → W p l e rM_isOwnHere s m args below meth c H locs 0 0 (MQ below (mQi dC dI ac o ad r σ') args s 0 0 (mF o ad)) (F0 m 142 ls []) := by
    intro σ hf H locs hS ls hl
    unfold M_isOwnHere_b142 at hf
    refine lv_iconst (v := 1) E.1 hb dX6_isOwnHere_142 rfl ?_
    refine lv_goto (tgt := 147) E.1 hb dX6_isOwnHere_143 (by decide) ?_
    exact hB147 σ 1 hf _ _ hS _ (lv_sub hl [0] rfl)
  have hB71 : ∀ (σ : mSt) (y0 : Int32), M_isOwnHere_b71 N σ y0 = some (r, σ') → ∀ (H : Heap) (locs : List Loc), mS dC dI ac o ad s.heap σ H locs → ∀ (ls : Array Slot), lv_has ls 2 [(0, .ref o)] → W p l e rM_isOwnHere s m args below meth c H locs 0 0 (MQ below (mQi dC dI ac o ad r σ') args s 0 0 (mF o ad)) (F0 m 71 ls [.int y0]) := by
    intro σ y0 hf H locs hS ls hl
    unfold M_isOwnHere_b71 at hf
    refine lv_istore_n (lv' := [(1, .int y0), (0, .ref o)]) E.1 hb dX6_isOwnHere_71 rfl hl (by decide) rfl (fun ls hl => ?_)
    refine lv_iload_n E.1 hb dX6_isOwnHere_72 rfl (lv_at hl 0 rfl) ?_
    refine lv_if_ne (tgt := 142) E.1 hb dX6_isOwnHere_73 (by decide) (fun hc => ?_) (fun hc => ?_)
    · have hf := if_s hc hf
      exact hB142 σ hf _ _ hS _ (lv_sub hl [1] rfl)
    · have hf := it_s hc hf
      refine lv_aload_n E.1 hb dX6_isOwnHere_76 rfl (lv_at hl 1 rfl) ?_
      refine lv_aload_n E.1 hb dX6_isOwnHere_77 rfl (lv_at hl 1 rfl) ?_
      refine m_gA (k := 17) E hb hS 4 rfl (by decide) fl_17 dX6_isOwnHere_78 ?_
      obtain ⟨r35, σ36, h1, hf⟩ := bd_s hf
      refine m_cVi E hb hml hl.1 hS (cmf_isHere h1) gw_isHere gn_isHere rfl rfl (Nat.le_of_ble_eq_true rfl) ⟨Nat.le_of_ble_eq_true rfl, Nat.le_of_ble_eq_true rfl⟩ ⟨Nat.le_refl 0, Nat.le_refl 0⟩ dX6_isOwnHere_81 (fun H locs hS => ?_)
      refine lv_if_ne (tgt := 142) E.1 hb dX6_isOwnHere_84 (by decide) (fun hc => ?_) (fun hc => ?_)
      · have hf := if_s hc hf
        exact hB142 σ36 hf _ _ hS _ (lv_sub hl [1] rfl)
      · have hf := it_s hc hf
        refine lv_aload_n E.1 hb dX6_isOwnHere_87 rfl (lv_at hl 1 rfl) ?_
        refine lv_aload_n E.1 hb dX6_isOwnHere_88 rfl (lv_at hl 1 rfl) ?_
        refine m_gA (k := 18) E hb hS 4 rfl (by decide) fl_18 dX6_isOwnHere_89 ?_
        obtain ⟨r37, σ38, h1, hf⟩ := bd_s hf
        refine m_cVi E hb hml hl.1 hS (cmf_isHere h1) gw_isHere gn_isHere rfl rfl (Nat.le_of_ble_eq_true rfl) ⟨Nat.le_of_ble_eq_true rfl, Nat.le_of_ble_eq_true rfl⟩ ⟨Nat.le_refl 0, Nat.le_refl 0⟩ dX6_isOwnHere_92 (fun H locs hS => ?_)
        refine lv_if_ne (tgt := 142) E.1 hb dX6_isOwnHere_95 (by decide) (fun hc => ?_) (fun hc => ?_)
        · have hf := if_s hc hf
          exact hB142 σ38 hf _ _ hS _ (lv_sub hl [1] rfl)
        · have hf := it_s hc hf
          refine lv_aload_n E.1 hb dX6_isOwnHere_98 rfl (lv_at hl 1 rfl) ?_
          refine lv_aload_n E.1 hb dX6_isOwnHere_99 rfl (lv_at hl 1 rfl) ?_
          refine m_gA (k := 19) E hb hS 4 rfl (by decide) fl_19 dX6_isOwnHere_100 ?_
          obtain ⟨r39, σ40, h1, hf⟩ := bd_s hf
          refine m_cVi E hb hml hl.1 hS (cmf_isHere h1) gw_isHere gn_isHere rfl rfl (Nat.le_of_ble_eq_true rfl) ⟨Nat.le_of_ble_eq_true rfl, Nat.le_of_ble_eq_true rfl⟩ ⟨Nat.le_refl 0, Nat.le_refl 0⟩ dX6_isOwnHere_103 (fun H locs hS => ?_)
          refine lv_if_ne (tgt := 142) E.1 hb dX6_isOwnHere_106 (by decide) (fun hc => ?_) (fun hc => ?_)
          · have hf := if_s hc hf
            exact hB142 σ40 hf _ _ hS _ (lv_sub hl [1] rfl)
          · have hf := it_s hc hf
            refine lv_aload_n E.1 hb dX6_isOwnHere_109 rfl (lv_at hl 1 rfl) ?_
            refine lv_aload_n E.1 hb dX6_isOwnHere_110 rfl (lv_at hl 1 rfl) ?_
            refine m_gA (k := 20) E hb hS 4 rfl (by decide) fl_20 dX6_isOwnHere_111 ?_
            obtain ⟨r41, σ42, h1, hf⟩ := bd_s hf
            refine m_cVi E hb hml hl.1 hS (cmf_isHere h1) gw_isHere gn_isHere rfl rfl (Nat.le_of_ble_eq_true rfl) ⟨Nat.le_of_ble_eq_true rfl, Nat.le_of_ble_eq_true rfl⟩ ⟨Nat.le_refl 0, Nat.le_refl 0⟩ dX6_isOwnHere_114 (fun H locs hS => ?_)
            refine lv_if_ne (tgt := 142) E.1 hb dX6_isOwnHere_117 (by decide) (fun hc => ?_) (fun hc => ?_)
            · have hf := if_s hc hf
              exact hB142 σ42 hf _ _ hS _ (lv_sub hl [1] rfl)
            · have hf := it_s hc hf
              refine lv_aload_n E.1 hb dX6_isOwnHere_120 rfl (lv_at hl 1 rfl) ?_
              refine lv_aload_n E.1 hb dX6_isOwnHere_121 rfl (lv_at hl 1 rfl) ?_
              refine m_gA (k := 21) E hb hS 4 rfl (by decide) fl_21 dX6_isOwnHere_122 ?_
              obtain ⟨r43, σ44, h1, hf⟩ := bd_s hf
              refine m_cVi E hb hml hl.1 hS (cmf_isHere h1) gw_isHere gn_isHere rfl rfl (Nat.le_of_ble_eq_true rfl) ⟨Nat.le_of_ble_eq_true rfl, Nat.le_of_ble_eq_true rfl⟩ ⟨Nat.le_refl 0, Nat.le_refl 0⟩ dX6_isOwnHere_125 (fun H locs hS => ?_)
              refine lv_if_ne (tgt := 142) E.1 hb dX6_isOwnHere_128 (by decide) (fun hc => ?_) (fun hc => ?_)
              · have hf := if_s hc hf
                exact hB142 σ44 hf _ _ hS _ (lv_sub hl [1] rfl)
              · have hf := it_s hc hf
                refine lv_aload_n E.1 hb dX6_isOwnHere_131 rfl (lv_at hl 1 rfl) ?_
                refine lv_aload_n E.1 hb dX6_isOwnHere_132 rfl (lv_at hl 1 rfl) ?_
                refine m_gA (k := 22) E hb hS 4 rfl (by decide) fl_22 dX6_isOwnHere_133 ?_
                obtain ⟨r45, σ46, h1, hf⟩ := bd_s hf
                refine m_cVi E hb hml hl.1 hS (cmf_isHere h1) gw_isHere gn_isHere rfl rfl (Nat.le_of_ble_eq_true rfl) ⟨Nat.le_of_ble_eq_true rfl, Nat.le_of_ble_eq_true rfl⟩ ⟨Nat.le_refl 0, Nat.le_refl 0⟩ dX6_isOwnHere_136 (fun H locs hS => ?_)
                refine lv_if_eq (tgt := 146) E.1 hb dX6_isOwnHere_139 (by decide) (fun hc => ?_) (fun hc => ?_)
                · have hf := it_s hc hf
                  refine lv_iconst (v := 0) E.1 hb dX6_isOwnHere_146 rfl ?_
                  exact hB147 σ46 0 hf _ _ hS _ (lv_sub hl [1] rfl)
                · have hf := if_s hc hf
                  exact hB142 σ46 hf _ _ hS _ (lv_sub hl [1] rfl)
  have hB66 : ∀ (σ : mSt), M_isOwnHere_b66 N σ = some (r, σ') → ∀ (H : Heap) (locs : List Loc), mS dC dI ac o ad s.heap σ H locs → ∀ (ls : Array Slot), lv_has ls 2 [(0, .ref o)] → W p l e rM_isOwnHere s m args below meth c H locs 0 0 (MQ below (mQi dC dI ac o ad r σ') args s 0 0 (mF o ad)) (F0 m 66 ls []) := by
    intro σ hf H locs hS ls hl
    unfold M_isOwnHere_b66 at hf
    refine lv_iconst (v := 1) E.1 hb dX6_isOwnHere_66 rfl ?_
    refine lv_goto (tgt := 71) E.1 hb dX6_isOwnHere_67 (by decide) ?_
    exact hB71 σ 1 hf _ _ hS _ (lv_sub hl [0] rfl)
  unfold M_isOwnHere at hf
  refine lv_aload_n E.1 hb dX6_isOwnHere_0 rfl (lv_at hl 0 rfl) ?_
  refine lv_aload_n E.1 hb dX6_isOwnHere_1 rfl (lv_at hl 0 rfl) ?_
  refine m_gA (k := 11) E hb hS 4 rfl (by decide) fl_11 dX6_isOwnHere_2 ?_
  obtain ⟨r1, σ2, h1, hf⟩ := bd_s hf
  refine m_cVi E hb hml hl.1 hS (cmf_isHere h1) gw_isHere gn_isHere rfl rfl (Nat.le_of_ble_eq_true rfl) ⟨Nat.le_of_ble_eq_true rfl, Nat.le_of_ble_eq_true rfl⟩ ⟨Nat.le_refl 0, Nat.le_refl 0⟩ dX6_isOwnHere_5 (fun H locs hS => ?_)
  refine lv_if_ne (tgt := 66) E.1 hb dX6_isOwnHere_8 (by decide) (fun hc => ?_) (fun hc => ?_)
  · have hf := if_s hc hf
    exact hB66 σ2 hf _ _ hS _ (lv_sub hl [0] rfl)
  · have hf := it_s hc hf
    refine lv_aload_n E.1 hb dX6_isOwnHere_11 rfl (lv_at hl 0 rfl) ?_
    refine lv_aload_n E.1 hb dX6_isOwnHere_12 rfl (lv_at hl 0 rfl) ?_
    refine m_gA (k := 12) E hb hS 4 rfl (by decide) fl_12 dX6_isOwnHere_13 ?_
    obtain ⟨r47, σ48, h1, hf⟩ := bd_s hf
    refine m_cVi E hb hml hl.1 hS (cmf_isHere h1) gw_isHere gn_isHere rfl rfl (Nat.le_of_ble_eq_true rfl) ⟨Nat.le_of_ble_eq_true rfl, Nat.le_of_ble_eq_true rfl⟩ ⟨Nat.le_refl 0, Nat.le_refl 0⟩ dX6_isOwnHere_16 (fun H locs hS => ?_)
    refine lv_if_ne (tgt := 66) E.1 hb dX6_isOwnHere_19 (by decide) (fun hc => ?_) (fun hc => ?_)
    · have hf := if_s hc hf
      exact hB66 σ48 hf _ _ hS _ (lv_sub hl [0] rfl)
    · have hf := it_s hc hf
      refine lv_aload_n E.1 hb dX6_isOwnHere_22 rfl (lv_at hl 0 rfl) ?_
      refine lv_aload_n E.1 hb dX6_isOwnHere_23 rfl (lv_at hl 0 rfl) ?_
      refine m_gA (k := 13) E hb hS 4 rfl (by decide) fl_13 dX6_isOwnHere_24 ?_
      obtain ⟨r49, σ50, h1, hf⟩ := bd_s hf
      refine m_cVi E hb hml hl.1 hS (cmf_isHere h1) gw_isHere gn_isHere rfl rfl (Nat.le_of_ble_eq_true rfl) ⟨Nat.le_of_ble_eq_true rfl, Nat.le_of_ble_eq_true rfl⟩ ⟨Nat.le_refl 0, Nat.le_refl 0⟩ dX6_isOwnHere_27 (fun H locs hS => ?_)
      refine lv_if_ne (tgt := 66) E.1 hb dX6_isOwnHere_30 (by decide) (fun hc => ?_) (fun hc => ?_)
      · have hf := if_s hc hf
        exact hB66 σ50 hf _ _ hS _ (lv_sub hl [0] rfl)
      · have hf := it_s hc hf
        refine lv_aload_n E.1 hb dX6_isOwnHere_33 rfl (lv_at hl 0 rfl) ?_
        refine lv_aload_n E.1 hb dX6_isOwnHere_34 rfl (lv_at hl 0 rfl) ?_
        refine m_gA (k := 14) E hb hS 4 rfl (by decide) fl_14 dX6_isOwnHere_35 ?_
        obtain ⟨r51, σ52, h1, hf⟩ := bd_s hf
        refine m_cVi E hb hml hl.1 hS (cmf_isHere h1) gw_isHere gn_isHere rfl rfl (Nat.le_of_ble_eq_true rfl) ⟨Nat.le_of_ble_eq_true rfl, Nat.le_of_ble_eq_true rfl⟩ ⟨Nat.le_refl 0, Nat.le_refl 0⟩ dX6_isOwnHere_38 (fun H locs hS => ?_)
        refine lv_if_ne (tgt := 66) E.1 hb dX6_isOwnHere_41 (by decide) (fun hc => ?_) (fun hc => ?_)
        · have hf := if_s hc hf
          exact hB66 σ52 hf _ _ hS _ (lv_sub hl [0] rfl)
        · have hf := it_s hc hf
          refine lv_aload_n E.1 hb dX6_isOwnHere_44 rfl (lv_at hl 0 rfl) ?_
          refine lv_aload_n E.1 hb dX6_isOwnHere_45 rfl (lv_at hl 0 rfl) ?_
          refine m_gA (k := 15) E hb hS 4 rfl (by decide) fl_15 dX6_isOwnHere_46 ?_
          obtain ⟨r53, σ54, h1, hf⟩ := bd_s hf
          refine m_cVi E hb hml hl.1 hS (cmf_isHere h1) gw_isHere gn_isHere rfl rfl (Nat.le_of_ble_eq_true rfl) ⟨Nat.le_of_ble_eq_true rfl, Nat.le_of_ble_eq_true rfl⟩ ⟨Nat.le_refl 0, Nat.le_refl 0⟩ dX6_isOwnHere_49 (fun H locs hS => ?_)
          refine lv_if_ne (tgt := 66) E.1 hb dX6_isOwnHere_52 (by decide) (fun hc => ?_) (fun hc => ?_)
          · have hf := if_s hc hf
            exact hB66 σ54 hf _ _ hS _ (lv_sub hl [0] rfl)
          · have hf := it_s hc hf
            refine lv_aload_n E.1 hb dX6_isOwnHere_55 rfl (lv_at hl 0 rfl) ?_
            refine lv_aload_n E.1 hb dX6_isOwnHere_56 rfl (lv_at hl 0 rfl) ?_
            refine m_gA (k := 16) E hb hS 4 rfl (by decide) fl_16 dX6_isOwnHere_57 ?_
            obtain ⟨r55, σ56, h1, hf⟩ := bd_s hf
            refine m_cVi E hb hml hl.1 hS (cmf_isHere h1) gw_isHere gn_isHere rfl rfl (Nat.le_of_ble_eq_true rfl) ⟨Nat.le_of_ble_eq_true rfl, Nat.le_of_ble_eq_true rfl⟩ ⟨Nat.le_refl 0, Nat.le_refl 0⟩ dX6_isOwnHere_60 (fun H locs hS => ?_)
            refine lv_if_eq (tgt := 70) E.1 hb dX6_isOwnHere_63 (by decide) (fun hc => ?_) (fun hc => ?_)
            · have hf := it_s hc hf
              refine lv_iconst (v := 0) E.1 hb dX6_isOwnHere_70 rfl ?_
              exact hB71 σ56 0 hf _ _ hS _ (lv_sub hl [0] rfl)
            · have hf := if_s hc hf
              exact hB66 σ56 hf _ _ hS _ (lv_sub hl [0] rfl)
/-! name()J: RW -/
noncomputable def M_name_b37 (N : Nat) (σ : mSt) : Option (Int64 × mSt) :=
  bd (M_fail σ 1 (σ.1 2 0)) fun _ σ4 => some (0, σ4)
noncomputable def M_name_b145 (N : Nat) (σ : mSt) (x1 : Int64) : Option (Int64 × mSt) :=
  lt2 (mUI σ 4 0 (σ.1 2 0)) fun σ8 => some (x1, σ8)
noncomputable def M_name_b58 (N : Nat) (k58 : mSt → Int64 → Option (Int64 × mSt)) (σ : mSt) (x1 : Int64) : Option (Int64 × mSt) :=
  if (σ.1 3 0) ≤ (σ.1 2 0) then (M_name_b145 N σ x1) else (bo (ld 2 σ 0 (σ.1 2 0)) fun v9 => bo (M_isLetter v9) fun r10 => if r10 = 0 then (M_name_b145 N σ x1) else (if ((σ.1 2 0) - (σ.1 39 0)) = 6 then (bd (M_fail σ 1 (σ.1 2 0)) fun _ σ13 => some (0, σ13)) else (bo (ld 2 σ 0 (σ.1 2 0)) fun v11 => lt2 (mUI σ 2 0 ((σ.1 2 0) + 1)) fun σ12 => k58 σ12 ((((27 * x1) + (Int32.toInt64 v11)) - 97) + 1))))
noncomputable def M_name (N : Nat) (σ : mSt) : Option (Int64 × mSt) :=
  if (σ.1 5 0) = 0 then (bd (M_look N σ) fun r1 σ2 => bo (M_isLetter r1) fun r3 => if r3 = 0 then (M_name_b37 N σ2) else (if (σ2.1 2 0) = (σ2.1 4 0) then (M_name_b37 N σ2) else (bd (M_isOwnHere N σ2) fun r5 σ6 => if r5 = 0 then (lt2 (mUI σ6 39 0 (σ6.1 2 0)) fun σ7 => rn2 (M_name_b58 N) N σ7 0) else (M_name_b37 N σ6)))) else (some (0, σ))
theorem gw_name : GoodIn lw_all (wsV RX6 331 RX6 yX6_name (ws_ yX6_name cX6_name 3 (some .long))) := lw_V q2090 q2092 qs78 q164 q2093
theorem gn_name : yX6_name.cls = RX6 ∧ yX6_name.cls ≠ "java/lang/invoke/MethodHandle" ∧ yX6_name.cls ≠ "java/lang/invoke/VarHandle" ∧ (parseMethodDescriptor yX6_name.desc).map (fun d => d.parameters.length) = some 0 := by decide +kernel
abbrev rM_name : Room := { frames := 3, cells := 0, slots := 0, locals := 64 }
set_option maxHeartbeats 4000000 in
theorem cmf_name {l : Launch} {dC : Nat → ClassId} {dI : Nat → Nat → Nat} {ac : Nat → ClassId} {o : Nat} {ad : Nat → Nat} {N : Nat} {σ : mSt} {r : Int64} {σ' : mSt} (hf : M_name N σ = some (r, σ')) : Met l yX6_name (ws_ yX6_name cX6_name 3 (some .long)) { frames := 3, cells := 0, slots := 0, locals := 64 } (va_Pc [.ref o] (mPre dC dI ac o ad σ)) (mQl dC dI ac o ad r σ') 0 0 (mF o ad) := by
  refine m_of (by decide) rfl (Nat.le_of_ble_eq_true rfl) ?_
  intro p e s m args below meth c E hb hr hlk hml hS ls hl
  have hl : lv_has ls 3 [(0, .ref o)] := hl
  have hB37 : ∀ (σ : mSt), M_name_b37 N σ = some (r, σ') → ∀ (H : Heap) (locs : List Loc), mS dC dI ac o ad s.heap σ H locs → ∀ (ls : Array Slot), lv_has ls 3 [(0, .ref o)] → W p l e rM_name s m args below meth c H locs 0 0 (MQ below (mQl dC dI ac o ad r σ') args s 0 0 (mF o ad)) (F0 m 37 ls []) := by
    intro σ hf H locs hS ls hl
    unfold M_name_b37 at hf
    refine lv_aload_n E.1 hb dX6_name_37 rfl (lv_at hl 0 rfl) ?_
    refine lv_iconst (v := 1) E.1 hb dX6_name_38 rfl ?_
    refine lv_aload_n E.1 hb dX6_name_39 rfl (lv_at hl 0 rfl) ?_
    refine m_gI (k := 2) E hb hS rfl fl_2 dX6_name_40 ?_
    obtain ⟨_, σ4, h1, hf⟩ := bd_s hf
    refine m_cVv E hb hml hl.1 hS (cmf_fail h1) gw_fail gn_fail rfl rfl (Nat.le_of_ble_eq_true rfl) ⟨Nat.le_of_ble_eq_true rfl, Nat.le_of_ble_eq_true rfl⟩ ⟨Nat.le_refl 0, Nat.le_refl 0⟩ dX6_name_43 (fun H locs hS => ?_)
    refine lv_lconst (v := 0) E.1 hb dX6_name_46 rfl ?_
    exact m_lr E hb hr hlk hS hf dX6_name_47
  have hB145 : ∀ (σ : mSt) (x1 : Int64), M_name_b145 N σ x1 = some (r, σ') → ∀ (H : Heap) (locs : List Loc), mS dC dI ac o ad s.heap σ H locs → ∀ (ls : Array Slot), lv_has ls 3 [(0, .ref o), (1, .long x1)] → W p l e rM_name s m args below meth c H locs 0 0 (MQ below (mQl dC dI ac o ad r σ') args s 0 0 (mF o ad)) (F0 m 145 ls []) := by
    intro σ x1 hf H locs hS ls hl
    unfold M_name_b145 at hf
    refine lv_aload_n E.1 hb dX6_name_145 rfl (lv_at hl 0 rfl) ?_
    refine lv_aload_n E.1 hb dX6_name_146 rfl (lv_at hl 0 rfl) ?_
    refine m_gI (k := 2) E hb hS rfl fl_2 dX6_name_147 ?_
    obtain ⟨σ8, hw, hf⟩ := lt2_s hf
    refine m_pI (k := 4) E hb hS rfl rfl pf_4 fl_4 hw dX6_name_150 (fun H locs hS => ?_)
    refine lv_lload_n E.1 hb dX6_name_153 rfl (lv_at hl 1 rfl) ?_
    exact m_lr E hb hr hlk hS hf dX6_name_154
  have hL58 : ∀ (n : Nat) (σ : mSt) (x1 : Int64), rn2 (M_name_b58 N) n σ x1 = some (r, σ') → ∀ (H : Heap) (locs : List Loc), mS dC dI ac o ad s.heap σ H locs → ∀ (ls : Array Slot), lv_has ls 3 [(0, .ref o), (1, .long x1)] → W p l e rM_name s m args below meth c H locs 0 0 (MQ below (mQl dC dI ac o ad r σ') args s 0 0 (mF o ad)) (F0 m 58 ls []) := by
    intro  n
    induction n with
    | zero =>
      intro σ x1 hf
      cases hf
    | succ n ih =>
      intro σ x1 hf H locs hS ls hl
      have hf : M_name_b58 N (rn2 (M_name_b58 N) n) σ x1 = some (r, σ') := hf
      have hk58 := ih
      generalize rn2 (M_name_b58 N) n = k58 at hf hk58
      unfold M_name_b58 at hf
      refine lv_aload_n E.1 hb dX6_name_58 rfl (lv_at hl 0 rfl) ?_
      refine m_gI (k := 2) E hb hS rfl fl_2 dX6_name_59 ?_
      refine lv_aload_n E.1 hb dX6_name_62 rfl (lv_at hl 0 rfl) ?_
      refine m_gI (k := 3) E hb hS rfl fl_3 dX6_name_63 ?_
      refine lv_icmp_ge (tgt := 145) E.1 hb dX6_name_66 (by decide) (fun hc => ?_) (fun hc => ?_)
      · have hf := it_s hc hf
        exact hB145 σ x1 hf _ _ hS _ (lv_sub hl [0, 1] rfl)
      · have hf := if_s hc hf
        refine lv_aload_n E.1 hb dX6_name_69 rfl (lv_at hl 0 rfl) ?_
        refine m_gA (k := 0) E hb hS 2 rfl (by decide) fl_0 dX6_name_70 ?_
        refine lv_aload_n E.1 hb dX6_name_73 rfl (lv_at hl 0 rfl) ?_
        refine m_gI (k := 2) E hb hS rfl fl_2 dX6_name_74 ?_
        obtain ⟨hg, hf⟩ := ld_s hf
        refine m_ild E hb hS hg dX6_name_77 ?_
        obtain ⟨r10, h1, hf⟩ := bo_s hf
        refine m_cSi E hb hml hl.1 hS (cmf_isLetter h1) gw_isLetter gn_isLetter rfl rfl (Nat.le_of_ble_eq_true rfl) ⟨Nat.le_of_ble_eq_true rfl, Nat.le_of_ble_eq_true rfl⟩ ⟨Nat.le_refl 0, Nat.le_refl 0⟩ dX6_name_78 (fun H locs hS => ?_)
        refine lv_if_eq (tgt := 145) E.1 hb dX6_name_81 (by decide) (fun hc => ?_) (fun hc => ?_)
        · have hf := it_s hc hf
          exact hB145 σ x1 hf _ _ hS _ (lv_sub hl [0, 1] rfl)
        · have hf := if_s hc hf
          refine lv_aload_n E.1 hb dX6_name_84 rfl (lv_at hl 0 rfl) ?_
          refine m_gI (k := 2) E hb hS rfl fl_2 dX6_name_85 ?_
          refine lv_aload_n E.1 hb dX6_name_88 rfl (lv_at hl 0 rfl) ?_
          refine m_gI (k := 39) E hb hS rfl fl_39 dX6_name_89 ?_
          refine lv_isub E.1 hb dX6_name_92 ?_
          refine lv_bipush (v := 6) E.1 hb dX6_name_93 rfl ?_
          refine lv_icmp_ne (tgt := 109) E.1 hb dX6_name_95 (by decide) (fun hc => ?_) (fun hc => ?_)
          · have hf := if_s hc hf
            refine lv_ldc2 E.1 hb E.2.1 (E.2.2.1 _ q2098) dX6_name_109 ?_
            refine lv_lload_n E.1 hb dX6_name_112 rfl (lv_at hl 1 rfl) ?_
            refine lv_lmul E.1 hb dX6_name_113 ?_
            refine lv_aload_n E.1 hb dX6_name_114 rfl (lv_at hl 0 rfl) ?_
            refine m_gA (k := 0) E hb hS 2 rfl (by decide) fl_0 dX6_name_115 ?_
            refine lv_aload_n E.1 hb dX6_name_118 rfl (lv_at hl 0 rfl) ?_
            refine m_gI (k := 2) E hb hS rfl fl_2 dX6_name_119 ?_
            obtain ⟨hg, hf⟩ := ld_s hf
            refine m_ild E hb hS hg dX6_name_122 ?_
            refine lv_i2l E.1 hb dX6_name_123 rfl ?_
            refine lv_ladd E.1 hb dX6_name_124 ?_
            refine lv_ldc2 E.1 hb E.2.1 (E.2.2.1 _ q2099) dX6_name_125 ?_
            refine lv_lsub E.1 hb dX6_name_128 ?_
            refine lv_lconst (v := 1) E.1 hb dX6_name_129 rfl ?_
            refine lv_ladd E.1 hb dX6_name_130 ?_
            refine lv_lstore_n (lv' := [(1, .long ((((27 * x1) + (Int32.toInt64 (σ.1 0 (σ.1 2 0).toNatClampNeg))) - 97) + 1)), (0, .ref o)]) E.1 hb dX6_name_131 rfl hl (by decide) rfl (fun ls hl => ?_)
            refine lv_aload_n E.1 hb dX6_name_132 rfl (lv_at hl 1 rfl) ?_
            refine lv_dup E.1 hb dX6_name_133 rfl ?_
            refine m_gI (k := 2) E hb hS rfl fl_2 dX6_name_134 ?_
            refine lv_iconst (v := 1) E.1 hb dX6_name_137 rfl ?_
            refine lv_iadd E.1 hb dX6_name_138 ?_
            obtain ⟨σ12, hw, hf⟩ := lt2_s hf
            refine m_pI (k := 2) E hb hS rfl rfl pf_2 fl_2 hw dX6_name_139 (fun H locs hS => ?_)
            refine lv_goto (tgt := 58) E.1 hb dX6_name_142 (by decide) ?_
            exact hk58 σ12 ((((27 * x1) + (Int32.toInt64 (σ.1 0 (σ.1 2 0).toNatClampNeg))) - 97) + 1) hf _ _ hS _ (lv_sub hl [1, 0] rfl)
          · have hf := it_s hc hf
            refine lv_aload_n E.1 hb dX6_name_98 rfl (lv_at hl 0 rfl) ?_
            refine lv_iconst (v := 1) E.1 hb dX6_name_99 rfl ?_
            refine lv_aload_n E.1 hb dX6_name_100 rfl (lv_at hl 0 rfl) ?_
            refine m_gI (k := 2) E hb hS rfl fl_2 dX6_name_101 ?_
            obtain ⟨_, σ13, h1, hf⟩ := bd_s hf
            refine m_cVv E hb hml hl.1 hS (cmf_fail h1) gw_fail gn_fail rfl rfl (Nat.le_of_ble_eq_true rfl) ⟨Nat.le_of_ble_eq_true rfl, Nat.le_of_ble_eq_true rfl⟩ ⟨Nat.le_refl 0, Nat.le_refl 0⟩ dX6_name_104 (fun H locs hS => ?_)
            refine lv_lconst (v := 0) E.1 hb dX6_name_107 rfl ?_
            exact m_lr E hb hr hlk hS hf dX6_name_108
  unfold M_name at hf
  refine lv_aload_n E.1 hb dX6_name_0 rfl (lv_at hl 0 rfl) ?_
  refine m_gI (k := 5) E hb hS rfl fl_5 dX6_name_1 ?_
  refine lv_if_eq (tgt := 9) E.1 hb dX6_name_4 (by decide) (fun hc => ?_) (fun hc => ?_)
  · have hf := it_s hc hf
    refine lv_aload_n E.1 hb dX6_name_9 rfl (lv_at hl 0 rfl) ?_
    obtain ⟨r1, σ2, h1, hf⟩ := bd_s hf
    refine m_cVi E hb hml hl.1 hS (cmf_look h1) gw_look gn_look rfl rfl (Nat.le_of_ble_eq_true rfl) ⟨Nat.le_of_ble_eq_true rfl, Nat.le_of_ble_eq_true rfl⟩ ⟨Nat.le_refl 0, Nat.le_refl 0⟩ dX6_name_10 (fun H locs hS => ?_)
    obtain ⟨r3, h1, hf⟩ := bo_s hf
    refine m_cSi E hb hml hl.1 hS (cmf_isLetter h1) gw_isLetter gn_isLetter rfl rfl (Nat.le_of_ble_eq_true rfl) ⟨Nat.le_of_ble_eq_true rfl, Nat.le_of_ble_eq_true rfl⟩ ⟨Nat.le_refl 0, Nat.le_refl 0⟩ dX6_name_13 (fun H locs hS => ?_)
    refine lv_if_eq (tgt := 37) E.1 hb dX6_name_16 (by decide) (fun hc => ?_) (fun hc => ?_)
    · have hf := it_s hc hf
      exact hB37 σ2 hf _ _ hS _ (lv_sub hl [0] rfl)
    · have hf := if_s hc hf
      refine lv_aload_n E.1 hb dX6_name_19 rfl (lv_at hl 0 rfl) ?_
      refine m_gI (k := 2) E hb hS rfl fl_2 dX6_name_20 ?_
      refine lv_aload_n E.1 hb dX6_name_23 rfl (lv_at hl 0 rfl) ?_
      refine m_gI (k := 4) E hb hS rfl fl_4 dX6_name_24 ?_
      refine lv_icmp_eq (tgt := 37) E.1 hb dX6_name_27 (by decide) (fun hc => ?_) (fun hc => ?_)
      · have hf := it_s hc hf
        exact hB37 σ2 hf _ _ hS _ (lv_sub hl [0] rfl)
      · have hf := if_s hc hf
        refine lv_aload_n E.1 hb dX6_name_30 rfl (lv_at hl 0 rfl) ?_
        obtain ⟨r5, σ6, h1, hf⟩ := bd_s hf
        refine m_cVi E hb hml hl.1 hS (cmf_isOwnHere h1) gw_isOwnHere gn_isOwnHere rfl rfl (Nat.le_of_ble_eq_true rfl) ⟨Nat.le_of_ble_eq_true rfl, Nat.le_of_ble_eq_true rfl⟩ ⟨Nat.le_refl 0, Nat.le_refl 0⟩ dX6_name_31 (fun H locs hS => ?_)
        refine lv_if_eq (tgt := 48) E.1 hb dX6_name_34 (by decide) (fun hc => ?_) (fun hc => ?_)
        · have hf := it_s hc hf
          refine lv_aload_n E.1 hb dX6_name_48 rfl (lv_at hl 0 rfl) ?_
          refine lv_aload_n E.1 hb dX6_name_49 rfl (lv_at hl 0 rfl) ?_
          refine m_gI (k := 2) E hb hS rfl fl_2 dX6_name_50 ?_
          obtain ⟨σ7, hw, hf⟩ := lt2_s hf
          refine m_pI (k := 39) E hb hS rfl rfl pf_39 fl_39 hw dX6_name_53 (fun H locs hS => ?_)
          refine lv_lconst (v := 0) E.1 hb dX6_name_56 rfl ?_
          refine lv_lstore_n (lv' := [(1, .long 0), (0, .ref o)]) E.1 hb dX6_name_57 rfl hl (by decide) rfl (fun ls hl => ?_)
          exact hL58 N σ7 0 hf _ _ hS _ (lv_sub hl [1, 0] rfl)
        · have hf := if_s hc hf
          exact hB37 σ6 hf _ _ hS _ (lv_sub hl [0] rfl)
  · have hf := if_s hc hf
    refine lv_lconst (v := 0) E.1 hb dX6_name_7 rfl ?_
    exact m_lr E hb hr hlk hS hf dX6_name_8
/-! kindBy(I)I: P -/
noncomputable def M_kindBy (x0 : Int32) : Option Int32 :=
  if x0 = 0 then (some 0) else (if x0 = 2 then (some 2) else (some 1))
theorem gw_kindBy : GoodIn lw_all (va_wsS RX6 335 yX6_kindBy (ws_ yX6_kindBy cX6_kindBy 1 (some .int))) := lw_S q2104 q2105 q164 q2106
theorem gn_kindBy : yX6_kindBy.cls ≠ "java/lang/invoke/MethodHandle" ∧ yX6_kindBy.cls ≠ "java/lang/invoke/VarHandle" ∧ (parseMethodDescriptor yX6_kindBy.desc).map (fun d => d.parameters.length) = some 1 := by decide +kernel
abbrev rM_kindBy : Room := { frames := 0, cells := 0, slots := 0, locals := 0 }
set_option maxHeartbeats 4000000 in
theorem cmf_kindBy {l : Launch} {dC : Nat → ClassId} {dI : Nat → Nat → Nat} {ac : Nat → ClassId} {o : Nat} {ad : Nat → Nat} {σ : mSt} {x0 : Int32} {r : Int32} (hf : M_kindBy x0 = some r) : Met l yX6_kindBy (ws_ yX6_kindBy cX6_kindBy 1 (some .int)) { frames := 0, cells := 0, slots := 0, locals := 0 } (va_Pc [.int x0] (mPre dC dI ac o ad σ)) (mQi dC dI ac o ad r σ) 0 0 (mF o ad) := by
  refine m_of (by decide) rfl (Nat.le_of_ble_eq_true rfl) ?_
  intro p e s m args below meth c E hb hr hlk hml hS ls hl
  have hl : lv_has ls 1 [(0, .int x0)] := hl
  unfold M_kindBy at hf
  refine lv_iload_n E.1 hb dX6_kindBy_0 rfl (lv_at hl 0 rfl) ?_
  refine lv_if_ne (tgt := 8) E.1 hb dX6_kindBy_1 (by decide) (fun hc => ?_) (fun hc => ?_)
  · have hf := if_s hc hf
    refine lv_iload_n E.1 hb dX6_kindBy_8 rfl (lv_at hl 0 rfl) ?_
    refine lv_iconst (v := 2) E.1 hb dX6_kindBy_9 rfl ?_
    refine lv_icmp_ne (tgt := 17) E.1 hb dX6_kindBy_10 (by decide) (fun hc => ?_) (fun hc => ?_)
    · have hf := if_s hc hf
      refine lv_iconst (v := 1) E.1 hb dX6_kindBy_17 rfl ?_
      exact m_irR E hb hr hlk hS hf dX6_kindBy_18
    · have hf := it_s hc hf
      refine lv_iconst (v := 2) E.1 hb dX6_kindBy_13 rfl ?_
      refine lv_goto (tgt := 18) E.1 hb dX6_kindBy_14 (by decide) ?_
      exact m_irR E hb hr hlk hS hf dX6_kindBy_18
  · have hf := it_s hc hf
    refine lv_iconst (v := 0) E.1 hb dX6_kindBy_4 rfl ?_
    refine lv_goto (tgt := 18) E.1 hb dX6_kindBy_5 (by decide) ?_
    exact m_irR E hb hr hlk hS hf dX6_kindBy_18
/-! isAllowed(I)Z: RO -/
noncomputable def M_isAllowed (σ : mSt) (x1 : Int32) : Option Int32 :=
  if (σ.1 55 0) = 0 then (if x1 = 0 then (some 1) else (some 0)) else (if (σ.1 55 0) = 1 then (if 6 ≤ x1 then (some 0) else (some 1)) else (if (σ.1 55 0) = 2 then (if 7 ≤ x1 then (some 0) else (some 1)) else (if x1 = 6 then (some 0) else (some 1))))
theorem gw_isAllowed : GoodIn lw_all (wsV RX6 590 RX6 yX6_isAllowed (ws_ yX6_isAllowed cX6_isAllowed 2 (some .boolean))) := lw_V q2139 q2141 qs89 q164 q2142
theorem gn_isAllowed : yX6_isAllowed.cls = RX6 ∧ yX6_isAllowed.cls ≠ "java/lang/invoke/MethodHandle" ∧ yX6_isAllowed.cls ≠ "java/lang/invoke/VarHandle" ∧ (parseMethodDescriptor yX6_isAllowed.desc).map (fun d => d.parameters.length) = some 1 := by decide +kernel
abbrev rM_isAllowed : Room := { frames := 0, cells := 0, slots := 0, locals := 0 }
set_option maxHeartbeats 4000000 in
theorem cmf_isAllowed {l : Launch} {dC : Nat → ClassId} {dI : Nat → Nat → Nat} {ac : Nat → ClassId} {o : Nat} {ad : Nat → Nat} {σ : mSt} {x1 : Int32} {r : Int32} (hf : M_isAllowed σ x1 = some r) : Met l yX6_isAllowed (ws_ yX6_isAllowed cX6_isAllowed 2 (some .boolean)) { frames := 0, cells := 0, slots := 0, locals := 0 } (va_Pc [.ref o, .int x1] (mPre dC dI ac o ad σ)) (mQi dC dI ac o ad r σ) 0 0 (mF o ad) := by
  refine m_of (by decide) rfl (Nat.le_of_ble_eq_true rfl) ?_
  intro p e s m args below meth c E hb hr hlk hml hS ls hl
  have hl : lv_has ls 2 [(0, .ref o), (1, .int x1)] := hl
  unfold M_isAllowed at hf
  refine lv_aload_n E.1 hb dX6_isAllowed_0 rfl (lv_at hl 0 rfl) ?_
  refine m_gI (k := 55) E hb hS rfl fl_55 dX6_isAllowed_1 ?_
  refine lv_if_ne (tgt := 19) E.1 hb dX6_isAllowed_4 (by decide) (fun hc => ?_) (fun hc => ?_)
  · have hf := if_s hc hf
    refine lv_aload_n E.1 hb dX6_isAllowed_19 rfl (lv_at hl 0 rfl) ?_
    refine m_gI (k := 55) E hb hS rfl fl_55 dX6_isAllowed_20 ?_
    refine lv_iconst (v := 1) E.1 hb dX6_isAllowed_23 rfl ?_
    refine lv_icmp_ne (tgt := 41) E.1 hb dX6_isAllowed_24 (by decide) (fun hc => ?_) (fun hc => ?_)
    · have hf := if_s hc hf
      refine lv_aload_n E.1 hb dX6_isAllowed_41 rfl (lv_at hl 0 rfl) ?_
      refine m_gI (k := 55) E hb hS rfl fl_55 dX6_isAllowed_42 ?_
      refine lv_iconst (v := 2) E.1 hb dX6_isAllowed_45 rfl ?_
      refine lv_icmp_ne (tgt := 63) E.1 hb dX6_isAllowed_46 (by decide) (fun hc => ?_) (fun hc => ?_)
      · have hf := if_s hc hf
        refine lv_iload_n E.1 hb dX6_isAllowed_63 rfl (lv_at hl 1 rfl) ?_
        refine lv_bipush (v := 6) E.1 hb dX6_isAllowed_64 rfl ?_
        refine lv_icmp_eq (tgt := 73) E.1 hb dX6_isAllowed_66 (by decide) (fun hc => ?_) (fun hc => ?_)
        · have hf := it_s hc hf
          refine lv_iconst (v := 0) E.1 hb dX6_isAllowed_73 rfl ?_
          exact m_zrR E hb hr hlk hS rfl hf dX6_isAllowed_74
        · have hf := if_s hc hf
          refine lv_iconst (v := 1) E.1 hb dX6_isAllowed_69 rfl ?_
          refine lv_goto (tgt := 74) E.1 hb dX6_isAllowed_70 (by decide) ?_
          exact m_zrR E hb hr hlk hS rfl hf dX6_isAllowed_74
      · have hf := it_s hc hf
        refine lv_iload_n E.1 hb dX6_isAllowed_49 rfl (lv_at hl 1 rfl) ?_
        refine lv_bipush (v := 7) E.1 hb dX6_isAllowed_50 rfl ?_
        refine lv_icmp_ge (tgt := 59) E.1 hb dX6_isAllowed_52 (by decide) (fun hc => ?_) (fun hc => ?_)
        · have hf := it_s hc hf
          refine lv_iconst (v := 0) E.1 hb dX6_isAllowed_59 rfl ?_
          refine lv_goto (tgt := 74) E.1 hb dX6_isAllowed_60 (by decide) ?_
          exact m_zrR E hb hr hlk hS rfl hf dX6_isAllowed_74
        · have hf := if_s hc hf
          refine lv_iconst (v := 1) E.1 hb dX6_isAllowed_55 rfl ?_
          refine lv_goto (tgt := 74) E.1 hb dX6_isAllowed_56 (by decide) ?_
          exact m_zrR E hb hr hlk hS rfl hf dX6_isAllowed_74
    · have hf := it_s hc hf
      refine lv_iload_n E.1 hb dX6_isAllowed_27 rfl (lv_at hl 1 rfl) ?_
      refine lv_bipush (v := 6) E.1 hb dX6_isAllowed_28 rfl ?_
      refine lv_icmp_ge (tgt := 37) E.1 hb dX6_isAllowed_30 (by decide) (fun hc => ?_) (fun hc => ?_)
      · have hf := it_s hc hf
        refine lv_iconst (v := 0) E.1 hb dX6_isAllowed_37 rfl ?_
        refine lv_goto (tgt := 74) E.1 hb dX6_isAllowed_38 (by decide) ?_
        exact m_zrR E hb hr hlk hS rfl hf dX6_isAllowed_74
      · have hf := if_s hc hf
        refine lv_iconst (v := 1) E.1 hb dX6_isAllowed_33 rfl ?_
        refine lv_goto (tgt := 74) E.1 hb dX6_isAllowed_34 (by decide) ?_
        exact m_zrR E hb hr hlk hS rfl hf dX6_isAllowed_74
  · have hf := it_s hc hf
    refine lv_iload_n E.1 hb dX6_isAllowed_7 rfl (lv_at hl 1 rfl) ?_
    refine lv_if_ne (tgt := 15) E.1 hb dX6_isAllowed_8 (by decide) (fun hc => ?_) (fun hc => ?_)
    · have hf := if_s hc hf
      refine lv_iconst (v := 0) E.1 hb dX6_isAllowed_15 rfl ?_
      refine lv_goto (tgt := 74) E.1 hb dX6_isAllowed_16 (by decide) ?_
      exact m_zrR E hb hr hlk hS rfl hf dX6_isAllowed_74
    · have hf := it_s hc hf
      refine lv_iconst (v := 1) E.1 hb dX6_isAllowed_11 rfl ?_
      refine lv_goto (tgt := 74) E.1 hb dX6_isAllowed_12 (by decide) ?_
      exact m_zrR E hb hr hlk hS rfl hf dX6_isAllowed_74
/-! isFull(III)Z: RW -/
noncomputable def M_isFull_b23 (σ : mSt) : Option (Int32 × mSt) :=
  if (σ.1 5 0) = 0 then (some (0, σ)) else (some (1, σ))
noncomputable def M_isFull (σ : mSt) (x1 : Int32) (x2 : Int32) (x3 : Int32) : Option (Int32 × mSt) :=
  if (σ.1 5 0) = 0 then (bo (ld 2 σ 41 x1) fun v1 => if v1 = x2 then (bd (M_fail σ 5 x3) fun _ σ2 => M_isFull_b23 σ2) else (M_isFull_b23 σ)) else (M_isFull_b23 σ)
theorem gw_isFull : GoodIn lw_all (wsV RX6 320 RX6 yX6_isFull (ws_ yX6_isFull cX6_isFull 4 (some .boolean))) := lw_V q2066 q2068 qs72 q164 q2069
theorem gn_isFull : yX6_isFull.cls = RX6 ∧ yX6_isFull.cls ≠ "java/lang/invoke/MethodHandle" ∧ yX6_isFull.cls ≠ "java/lang/invoke/VarHandle" ∧ (parseMethodDescriptor yX6_isFull.desc).map (fun d => d.parameters.length) = some 3 := by decide +kernel
abbrev rM_isFull : Room := { frames := 1, cells := 0, slots := 0, locals := 22 }
set_option maxHeartbeats 4000000 in
theorem cmf_isFull {l : Launch} {dC : Nat → ClassId} {dI : Nat → Nat → Nat} {ac : Nat → ClassId} {o : Nat} {ad : Nat → Nat} {σ : mSt} {x1 : Int32} {x2 : Int32} {x3 : Int32} {r : Int32} {σ' : mSt} (hf : M_isFull σ x1 x2 x3 = some (r, σ')) : Met l yX6_isFull (ws_ yX6_isFull cX6_isFull 4 (some .boolean)) { frames := 1, cells := 0, slots := 0, locals := 22 } (va_Pc [.ref o, .int x1, .int x2, .int x3] (mPre dC dI ac o ad σ)) (mQi dC dI ac o ad r σ') 0 0 (mF o ad) := by
  refine m_of (by decide) rfl (Nat.le_of_ble_eq_true rfl) ?_
  intro p e s m args below meth c E hb hr hlk hml hS ls hl
  have hl : lv_has ls 4 [(0, .ref o), (1, .int x1), (2, .int x2), (3, .int x3)] := hl
  have hB23 : ∀ (σ : mSt), M_isFull_b23 σ = some (r, σ') → ∀ (H : Heap) (locs : List Loc), mS dC dI ac o ad s.heap σ H locs → ∀ (ls : Array Slot), lv_has ls 4 [(0, .ref o)] → W p l e rM_isFull s m args below meth c H locs 0 0 (MQ below (mQi dC dI ac o ad r σ') args s 0 0 (mF o ad)) (F0 m 23 ls []) := by
    intro σ hf H locs hS ls hl
    unfold M_isFull_b23 at hf
    refine lv_aload_n E.1 hb dX6_isFull_23 rfl (lv_at hl 0 rfl) ?_
    refine m_gI (k := 5) E hb hS rfl fl_5 dX6_isFull_24 ?_
    refine lv_if_eq (tgt := 34) E.1 hb dX6_isFull_27 (by decide) (fun hc => ?_) (fun hc => ?_)
    · have hf := it_s hc hf
      refine lv_iconst (v := 0) E.1 hb dX6_isFull_34 rfl ?_
      exact m_zr E hb hr hlk hS rfl hf dX6_isFull_35
    · have hf := if_s hc hf
      refine lv_iconst (v := 1) E.1 hb dX6_isFull_30 rfl ?_
      refine lv_goto (tgt := 35) E.1 hb dX6_isFull_31 (by decide) ?_
      exact m_zr E hb hr hlk hS rfl hf dX6_isFull_35
  unfold M_isFull at hf
  refine lv_aload_n E.1 hb dX6_isFull_0 rfl (lv_at hl 0 rfl) ?_
  refine m_gI (k := 5) E hb hS rfl fl_5 dX6_isFull_1 ?_
  refine lv_if_ne (tgt := 23) E.1 hb dX6_isFull_4 (by decide) (fun hc => ?_) (fun hc => ?_)
  · have hf := if_s hc hf
    exact hB23 σ hf _ _ hS _ (lv_sub hl [0] rfl)
  · have hf := it_s hc hf
    refine lv_aload_n E.1 hb dX6_isFull_7 rfl (lv_at hl 0 rfl) ?_
    refine m_gA (k := 41) E hb hS 2 rfl (by decide) fl_41 dX6_isFull_8 ?_
    refine lv_iload_n E.1 hb dX6_isFull_11 rfl (lv_at hl 1 rfl) ?_
    obtain ⟨hg, hf⟩ := ld_s hf
    refine m_ild E hb hS hg dX6_isFull_12 ?_
    refine lv_iload_n E.1 hb dX6_isFull_13 rfl (lv_at hl 2 rfl) ?_
    refine lv_icmp_ne (tgt := 23) E.1 hb dX6_isFull_14 (by decide) (fun hc => ?_) (fun hc => ?_)
    · have hf := if_s hc hf
      exact hB23 σ hf _ _ hS _ (lv_sub hl [0] rfl)
    · have hf := it_s hc hf
      refine lv_aload_n E.1 hb dX6_isFull_17 rfl (lv_at hl 0 rfl) ?_
      refine lv_iconst (v := 5) E.1 hb dX6_isFull_18 rfl ?_
      refine lv_iload_n E.1 hb dX6_isFull_19 rfl (lv_at hl 3 rfl) ?_
      obtain ⟨_, σ2, h1, hf⟩ := bd_s hf
      refine m_cVv E hb hml hl.1 hS (cmf_fail h1) gw_fail gn_fail rfl rfl (Nat.le_of_ble_eq_true rfl) ⟨Nat.le_of_ble_eq_true rfl, Nat.le_of_ble_eq_true rfl⟩ ⟨Nat.le_refl 0, Nat.le_refl 0⟩ dX6_isFull_20 (fun H locs hS => ?_)
      exact hB23 σ2 hf _ _ hS _ (lv_sub hl [0] rfl)
/-! folioTold()V: RW -/
noncomputable def M_folioTold (N : Nat) (σ : mSt) : Option (Unit × mSt) :=
  bd (M_asks N σ 11) fun _ σ1 => bd (M_number N σ1 1 6) fun r2 σ3 => bo (stI 2 σ3 40 0 r2) fun σ4 => bd (M_asks N σ4 12) fun _ σ5 => bd (M_number N σ5 2 8) fun r6 σ7 => bo (stI 2 σ7 40 1 r6) fun σ8 => bd (M_asksSign N σ8 59) fun _ σ9 => some ((), σ9)
theorem gw_folioTold : GoodIn lw_all (wsV RX6 377 RX6 yX6_folioTold (ws_ yX6_folioTold cX6_folioTold 1 none)) := lw_V q2013 q2015 qs61 q164 q2016
theorem gn_folioTold : yX6_folioTold.cls = RX6 ∧ yX6_folioTold.cls ≠ "java/lang/invoke/MethodHandle" ∧ yX6_folioTold.cls ≠ "java/lang/invoke/VarHandle" ∧ (parseMethodDescriptor yX6_folioTold.desc).map (fun d => d.parameters.length) = some 0 := by decide +kernel
abbrev rM_folioTold : Room := { frames := 4, cells := 0, slots := 0, locals := 85 }
set_option maxHeartbeats 4000000 in
theorem cmf_folioTold {l : Launch} {dC : Nat → ClassId} {dI : Nat → Nat → Nat} {ac : Nat → ClassId} {o : Nat} {ad : Nat → Nat} {N : Nat} {σ : mSt} {σ' : mSt} (hf : M_folioTold N σ = some ((), σ')) : Met l yX6_folioTold (ws_ yX6_folioTold cX6_folioTold 1 none) { frames := 4, cells := 0, slots := 0, locals := 85 } (va_Pc [.ref o] (mPre dC dI ac o ad σ)) (mQv dC dI ac o ad σ') 0 0 (mF o ad) := by
  refine m_of (by decide) rfl (Nat.le_of_ble_eq_true rfl) ?_
  intro p e s m args below meth c E hb hr hlk hml hS ls hl
  have hl : lv_has ls 1 [(0, .ref o)] := hl
  unfold M_folioTold at hf
  refine lv_aload_n E.1 hb dX6_folioTold_0 rfl (lv_at hl 0 rfl) ?_
  refine lv_aload_n E.1 hb dX6_folioTold_1 rfl (lv_at hl 0 rfl) ?_
  refine m_gA (k := 11) E hb hS 4 rfl (by decide) fl_11 dX6_folioTold_2 ?_
  obtain ⟨_, σ1, h1, hf⟩ := bd_s hf
  refine m_cVv E hb hml hl.1 hS (cmf_asks h1) gw_asks gn_asks rfl rfl (Nat.le_of_ble_eq_true rfl) ⟨Nat.le_of_ble_eq_true rfl, Nat.le_of_ble_eq_true rfl⟩ ⟨Nat.le_refl 0, Nat.le_refl 0⟩ dX6_folioTold_5 (fun H locs hS => ?_)
  refine lv_aload_n E.1 hb dX6_folioTold_8 rfl (lv_at hl 0 rfl) ?_
  refine m_gA (k := 40) E hb hS 2 rfl (by decide) fl_40 dX6_folioTold_9 ?_
  refine lv_iconst (v := 0) E.1 hb dX6_folioTold_12 rfl ?_
  refine lv_aload_n E.1 hb dX6_folioTold_13 rfl (lv_at hl 0 rfl) ?_
  refine lv_iconst (v := 1) E.1 hb dX6_folioTold_14 rfl ?_
  refine lv_bipush (v := 6) E.1 hb dX6_folioTold_15 rfl ?_
  obtain ⟨r2, σ3, h1, hf⟩ := bd_s hf
  refine m_cVi E hb hml hl.1 hS (cmf_number h1) gw_number gn_number rfl rfl (Nat.le_of_ble_eq_true rfl) ⟨Nat.le_of_ble_eq_true rfl, Nat.le_of_ble_eq_true rfl⟩ ⟨Nat.le_refl 0, Nat.le_refl 0⟩ dX6_folioTold_17 (fun H locs hS => ?_)
  obtain ⟨σ4, hg, hw, hf⟩ := st_s hf
  refine m_ist E hb hS hg hw dX6_folioTold_20 (fun H locs hS => ?_)
  refine lv_aload_n E.1 hb dX6_folioTold_21 rfl (lv_at hl 0 rfl) ?_
  refine lv_aload_n E.1 hb dX6_folioTold_22 rfl (lv_at hl 0 rfl) ?_
  refine m_gA (k := 12) E hb hS 4 rfl (by decide) fl_12 dX6_folioTold_23 ?_
  obtain ⟨_, σ5, h1, hf⟩ := bd_s hf
  refine m_cVv E hb hml hl.1 hS (cmf_asks h1) gw_asks gn_asks rfl rfl (Nat.le_of_ble_eq_true rfl) ⟨Nat.le_of_ble_eq_true rfl, Nat.le_of_ble_eq_true rfl⟩ ⟨Nat.le_refl 0, Nat.le_refl 0⟩ dX6_folioTold_26 (fun H locs hS => ?_)
  refine lv_aload_n E.1 hb dX6_folioTold_29 rfl (lv_at hl 0 rfl) ?_
  refine m_gA (k := 40) E hb hS 2 rfl (by decide) fl_40 dX6_folioTold_30 ?_
  refine lv_iconst (v := 1) E.1 hb dX6_folioTold_33 rfl ?_
  refine lv_aload_n E.1 hb dX6_folioTold_34 rfl (lv_at hl 0 rfl) ?_
  refine lv_iconst (v := 2) E.1 hb dX6_folioTold_35 rfl ?_
  refine lv_bipush (v := 8) E.1 hb dX6_folioTold_36 rfl ?_
  obtain ⟨r6, σ7, h1, hf⟩ := bd_s hf
  refine m_cVi E hb hml hl.1 hS (cmf_number h1) gw_number gn_number rfl rfl (Nat.le_of_ble_eq_true rfl) ⟨Nat.le_of_ble_eq_true rfl, Nat.le_of_ble_eq_true rfl⟩ ⟨Nat.le_refl 0, Nat.le_refl 0⟩ dX6_folioTold_38 (fun H locs hS => ?_)
  obtain ⟨σ8, hg, hw, hf⟩ := st_s hf
  refine m_ist E hb hS hg hw dX6_folioTold_41 (fun H locs hS => ?_)
  refine lv_aload_n E.1 hb dX6_folioTold_42 rfl (lv_at hl 0 rfl) ?_
  refine lv_bipush (v := 59) E.1 hb dX6_folioTold_43 rfl ?_
  obtain ⟨_, σ9, h1, hf⟩ := bd_s hf
  refine m_cVv E hb hml hl.1 hS (cmf_asksSign h1) gw_asksSign gn_asksSign rfl rfl (Nat.le_of_ble_eq_true rfl) ⟨Nat.le_of_ble_eq_true rfl, Nat.le_of_ble_eq_true rfl⟩ ⟨Nat.le_refl 0, Nat.le_refl 0⟩ dX6_folioTold_45 (fun H locs hS => ?_)
  exact m_vr E hb hr hlk hS hf dX6_folioTold_48
/-! leafTold()I: RW -/
noncomputable def M_leafTold (N : Nat) (σ : mSt) : Option (Int32 × mSt) :=
  bo (ld 2 σ 40 0) fun v1 => bd (M_number N σ 0 (v1 - 1)) fun r2 σ3 => if (σ3.1 5 0) = 0 then (some (r2, σ3)) else (some (0, σ3))
theorem gw_leafTold : GoodIn lw_all (wsV RX6 324 RX6 yX6_leafTold (ws_ yX6_leafTold cX6_leafTold 2 (some .int))) := lw_V q2070 q2072 qs73 q164 q2073
theorem gn_leafTold : yX6_leafTold.cls = RX6 ∧ yX6_leafTold.cls ≠ "java/lang/invoke/MethodHandle" ∧ yX6_leafTold.cls ≠ "java/lang/invoke/VarHandle" ∧ (parseMethodDescriptor yX6_leafTold.desc).map (fun d => d.parameters.length) = some 0 := by decide +kernel
abbrev rM_leafTold : Room := { frames := 2, cells := 0, slots := 0, locals := 49 }
set_option maxHeartbeats 4000000 in
theorem cmf_leafTold {l : Launch} {dC : Nat → ClassId} {dI : Nat → Nat → Nat} {ac : Nat → ClassId} {o : Nat} {ad : Nat → Nat} {N : Nat} {σ : mSt} {r : Int32} {σ' : mSt} (hf : M_leafTold N σ = some (r, σ')) : Met l yX6_leafTold (ws_ yX6_leafTold cX6_leafTold 2 (some .int)) { frames := 2, cells := 0, slots := 0, locals := 49 } (va_Pc [.ref o] (mPre dC dI ac o ad σ)) (mQi dC dI ac o ad r σ') 0 0 (mF o ad) := by
  refine m_of (by decide) rfl (Nat.le_of_ble_eq_true rfl) ?_
  intro p e s m args below meth c E hb hr hlk hml hS ls hl
  have hl : lv_has ls 2 [(0, .ref o)] := hl
  unfold M_leafTold at hf
  refine lv_aload_n E.1 hb dX6_leafTold_0 rfl (lv_at hl 0 rfl) ?_
  refine lv_iconst (v := 0) E.1 hb dX6_leafTold_1 rfl ?_
  refine lv_aload_n E.1 hb dX6_leafTold_2 rfl (lv_at hl 0 rfl) ?_
  refine m_gA (k := 40) E hb hS 2 rfl (by decide) fl_40 dX6_leafTold_3 ?_
  refine lv_iconst (v := 0) E.1 hb dX6_leafTold_6 rfl ?_
  obtain ⟨hg, hf⟩ := ld_s hf
  refine m_ild E hb hS hg dX6_leafTold_7 ?_
  refine lv_iconst (v := 1) E.1 hb dX6_leafTold_8 rfl ?_
  refine lv_isub E.1 hb dX6_leafTold_9 ?_
  obtain ⟨r2, σ3, h1, hf⟩ := bd_s hf
  refine m_cVi E hb hml hl.1 hS (cmf_number h1) gw_number gn_number rfl rfl (Nat.le_of_ble_eq_true rfl) ⟨Nat.le_of_ble_eq_true rfl, Nat.le_of_ble_eq_true rfl⟩ ⟨Nat.le_refl 0, Nat.le_refl 0⟩ dX6_leafTold_10 (fun H locs hS => ?_)
  refine lv_istore_n (lv' := [(1, .int r2), (0, .ref o)]) E.1 hb dX6_leafTold_13 rfl hl (by decide) rfl (fun ls hl => ?_)
  refine lv_aload_n E.1 hb dX6_leafTold_14 rfl (lv_at hl 1 rfl) ?_
  refine m_gI (k := 5) E hb hS rfl fl_5 dX6_leafTold_15 ?_
  refine lv_if_ne (tgt := 25) E.1 hb dX6_leafTold_18 (by decide) (fun hc => ?_) (fun hc => ?_)
  · have hf := if_s hc hf
    refine lv_iconst (v := 0) E.1 hb dX6_leafTold_25 rfl ?_
    exact m_ir E hb hr hlk hS hf dX6_leafTold_26
  · have hf := it_s hc hf
    refine lv_iload_n E.1 hb dX6_leafTold_21 rfl (lv_at hl 0 rfl) ?_
    refine lv_goto (tgt := 26) E.1 hb dX6_leafTold_22 (by decide) ?_
    exact m_ir E hb hr hlk hS hf dX6_leafTold_26
/-! standsTold(II)Z: RO -/
noncomputable def M_standsTold_b40 (N : Nat) (σ : mSt) (k2 : Int32 → Int32 → Int32 → Option Int32) (x1 : Int32) (x2 : Int32) (x3 : Int32) : Option Int32 :=
  k2 x1 x2 (x3 + 1)
noncomputable def M_standsTold_b2 (N : Nat) (σ : mSt) (k2 : Int32 → Int32 → Int32 → Option Int32) (x1 : Int32) (x2 : Int32) (x3 : Int32) : Option Int32 :=
  bo (ld 2 σ 41 0) fun v1 => if v1 ≤ x3 then (some 0) else (bo (ld 2 σ 45 (2 * x3)) fun v2 => if v2 = x1 then (bo (ld 2 σ 45 ((2 * x3) + 1)) fun v3 => if v3 = x2 then (some 1) else (M_standsTold_b40 N σ k2 x1 x2 x3)) else (M_standsTold_b40 N σ k2 x1 x2 x3))
noncomputable def M_standsTold (N : Nat) (σ : mSt) (x1 : Int32) (x2 : Int32) : Option Int32 :=
  rn3 (M_standsTold_b2 N σ) N x1 x2 0
theorem gw_standsTold : GoodIn lw_all (wsV RX6 316 RX6 yX6_standsTold (ws_ yX6_standsTold cX6_standsTold 4 (some .boolean))) := lw_V q2078 q2080 qs75 q164 q2081
theorem gn_standsTold : yX6_standsTold.cls = RX6 ∧ yX6_standsTold.cls ≠ "java/lang/invoke/MethodHandle" ∧ yX6_standsTold.cls ≠ "java/lang/invoke/VarHandle" ∧ (parseMethodDescriptor yX6_standsTold.desc).map (fun d => d.parameters.length) = some 2 := by decide +kernel
abbrev rM_standsTold : Room := { frames := 0, cells := 0, slots := 0, locals := 0 }
set_option maxHeartbeats 4000000 in
theorem cmf_standsTold {l : Launch} {dC : Nat → ClassId} {dI : Nat → Nat → Nat} {ac : Nat → ClassId} {o : Nat} {ad : Nat → Nat} {N : Nat} {σ : mSt} {x1 : Int32} {x2 : Int32} {r : Int32} (hf : M_standsTold N σ x1 x2 = some r) : Met l yX6_standsTold (ws_ yX6_standsTold cX6_standsTold 4 (some .boolean)) { frames := 0, cells := 0, slots := 0, locals := 0 } (va_Pc [.ref o, .int x1, .int x2] (mPre dC dI ac o ad σ)) (mQi dC dI ac o ad r σ) 0 0 (mF o ad) := by
  refine m_of (by decide) rfl (Nat.le_of_ble_eq_true rfl) ?_
  intro p e s m args below meth c E hb hr hlk hml hS ls hl
  have hl : lv_has ls 4 [(0, .ref o), (1, .int x1), (2, .int x2)] := hl
  have hB40 : ∀ (k2 : Int32 → Int32 → Int32 → Option Int32) (hk2 : ∀ (x1 : Int32) (x2 : Int32) (x3 : Int32), k2 x1 x2 x3 = some r → ∀ (H : Heap) (locs : List Loc), mS dC dI ac o ad s.heap σ H locs → ∀ (ls : Array Slot), lv_has ls 4 [(0, .ref o), (1, .int x1), (2, .int x2), (3, .int x3)] → W p l e rM_standsTold s m args below meth c H locs 0 0 (MQ below (mQi dC dI ac o ad r σ) args s 0 0 (mF o ad)) (F0 m 2 ls [])) (x1 : Int32) (x2 : Int32) (x3 : Int32), M_standsTold_b40 N σ k2 x1 x2 x3 = some r → ∀ (H : Heap) (locs : List Loc), mS dC dI ac o ad s.heap σ H locs → ∀ (ls : Array Slot), lv_has ls 4 [(0, .ref o), (1, .int x1), (2, .int x2), (3, .int x3)] → W p l e rM_standsTold s m args below meth c H locs 0 0 (MQ below (mQi dC dI ac o ad r σ) args s 0 0 (mF o ad)) (F0 m 40 ls []) := by
    intro k2 hk2 x1 x2 x3 hf H locs hS ls hl
    unfold M_standsTold_b40 at hf
    refine lv_iinc (v := (x3 + 1)) (lv' := [(3, .int (x3 + 1)), (0, .ref o), (1, .int x1), (2, .int x2)]) E.1 hb dX6_standsTold_40 hl (k := 3) rfl rfl (by decide) rfl (fun ls hl => ?_)
    refine lv_goto (tgt := 2) E.1 hb dX6_standsTold_43 (by decide) ?_
    exact hk2 x1 x2 (x3 + 1) hf _ _ hS _ (lv_sub hl [1, 2, 3, 0] rfl)
  have hL2 : ∀ (n : Nat) (x1 : Int32) (x2 : Int32) (x3 : Int32), rn3 (M_standsTold_b2 N σ) n x1 x2 x3 = some r → ∀ (H : Heap) (locs : List Loc), mS dC dI ac o ad s.heap σ H locs → ∀ (ls : Array Slot), lv_has ls 4 [(0, .ref o), (1, .int x1), (2, .int x2), (3, .int x3)] → W p l e rM_standsTold s m args below meth c H locs 0 0 (MQ below (mQi dC dI ac o ad r σ) args s 0 0 (mF o ad)) (F0 m 2 ls []) := by
    intro  n
    induction n with
    | zero =>
      intro x1 x2 x3 hf
      cases hf
    | succ n ih =>
      intro x1 x2 x3 hf H locs hS ls hl
      have hf : M_standsTold_b2 N σ (rn3 (M_standsTold_b2 N σ) n) x1 x2 x3 = some r := hf
      have hk2 := ih
      generalize rn3 (M_standsTold_b2 N σ) n = k2 at hf hk2
      unfold M_standsTold_b2 at hf
      refine lv_iload_n E.1 hb dX6_standsTold_2 rfl (lv_at hl 3 rfl) ?_
      refine lv_aload_n E.1 hb dX6_standsTold_3 rfl (lv_at hl 0 rfl) ?_
      refine m_gA (k := 41) E hb hS 2 rfl (by decide) fl_41 dX6_standsTold_4 ?_
      refine lv_iconst (v := 0) E.1 hb dX6_standsTold_7 rfl ?_
      obtain ⟨hg, hf⟩ := ld_s hf
      refine m_ild E hb hS hg dX6_standsTold_8 ?_
      refine lv_icmp_ge (tgt := 46) E.1 hb dX6_standsTold_9 (by decide) (fun hc => ?_) (fun hc => ?_)
      · have hf := it_s hc hf
        refine lv_iconst (v := 0) E.1 hb dX6_standsTold_46 rfl ?_
        exact m_zrR E hb hr hlk hS rfl hf dX6_standsTold_47
      · have hf := if_s hc hf
        refine lv_aload_n E.1 hb dX6_standsTold_12 rfl (lv_at hl 0 rfl) ?_
        refine m_gA (k := 45) E hb hS 2 rfl (by decide) fl_45 dX6_standsTold_13 ?_
        refine lv_iconst (v := 2) E.1 hb dX6_standsTold_16 rfl ?_
        refine lv_iload_n E.1 hb dX6_standsTold_17 rfl (lv_at hl 3 rfl) ?_
        refine lv_imul E.1 hb dX6_standsTold_18 ?_
        obtain ⟨hg, hf⟩ := ld_s hf
        refine m_ild E hb hS hg dX6_standsTold_19 ?_
        refine lv_iload_n E.1 hb dX6_standsTold_20 rfl (lv_at hl 1 rfl) ?_
        refine lv_icmp_ne (tgt := 40) E.1 hb dX6_standsTold_21 (by decide) (fun hc => ?_) (fun hc => ?_)
        · have hf := if_s hc hf
          exact hB40 k2 hk2 x1 x2 x3 hf _ _ hS _ (lv_sub hl [0, 1, 2, 3] rfl)
        · have hf := it_s hc hf
          refine lv_aload_n E.1 hb dX6_standsTold_24 rfl (lv_at hl 0 rfl) ?_
          refine m_gA (k := 45) E hb hS 2 rfl (by decide) fl_45 dX6_standsTold_25 ?_
          refine lv_iconst (v := 2) E.1 hb dX6_standsTold_28 rfl ?_
          refine lv_iload_n E.1 hb dX6_standsTold_29 rfl (lv_at hl 3 rfl) ?_
          refine lv_imul E.1 hb dX6_standsTold_30 ?_
          refine lv_iconst (v := 1) E.1 hb dX6_standsTold_31 rfl ?_
          refine lv_iadd E.1 hb dX6_standsTold_32 ?_
          obtain ⟨hg, hf⟩ := ld_s hf
          refine m_ild E hb hS hg dX6_standsTold_33 ?_
          refine lv_iload_n E.1 hb dX6_standsTold_34 rfl (lv_at hl 2 rfl) ?_
          refine lv_icmp_ne (tgt := 40) E.1 hb dX6_standsTold_35 (by decide) (fun hc => ?_) (fun hc => ?_)
          · have hf := if_s hc hf
            exact hB40 k2 hk2 x1 x2 x3 hf _ _ hS _ (lv_sub hl [0, 1, 2, 3] rfl)
          · have hf := it_s hc hf
            refine lv_iconst (v := 1) E.1 hb dX6_standsTold_38 rfl ?_
            exact m_zrR E hb hr hlk hS rfl hf dX6_standsTold_39
  unfold M_standsTold at hf
  refine lv_iconst (v := 0) E.1 hb dX6_standsTold_0 rfl ?_
  refine lv_istore_n (lv' := [(3, .int 0), (0, .ref o), (1, .int x1), (2, .int x2)]) E.1 hb dX6_standsTold_1 rfl hl (by decide) rfl (fun ls hl => ?_)
  exact hL2 N x1 x2 0 hf _ _ hS _ (lv_sub hl [1, 2, 3, 0] rfl)
/-! cellTold(I)I: RW -/
noncomputable def M_cellTold_b53 (N : Nat) (σ : mSt) (x2 : Int32) : Option (Int32 × mSt) :=
  if (σ.1 5 0) = 0 then (some (x2, σ)) else (some (0, σ))
noncomputable def M_cellTold_b44 (N : Nat) (σ : mSt) (x2 : Int32) : Option (Int32 × mSt) :=
  bd (M_fail σ 2 (σ.1 10 0)) fun _ σ5 => M_cellTold_b53 N σ5 x2
noncomputable def M_cellTold (N : Nat) (σ : mSt) (x1 : Int32) : Option (Int32 × mSt) :=
  bo (ld 2 σ 40 1) fun v1 => bd (M_number N σ 0 (v1 - 1)) fun r2 σ3 => if (σ3.1 5 0) = 0 then (bo (ld 2 σ3 43 x1) fun v4 => if ((v4 >>> (r2 &&& 31)) &&& 1) = 1 then (M_cellTold_b44 N σ3 r2) else (bo (M_standsTold N σ3 x1 r2) fun r6 => if r6 = 0 then (M_cellTold_b53 N σ3 r2) else (M_cellTold_b44 N σ3 r2))) else (M_cellTold_b53 N σ3 r2)
theorem gw_cellTold : GoodIn lw_all (wsV RX6 327 RX6 yX6_cellTold (ws_ yX6_cellTold cX6_cellTold 3 (some .int))) := lw_V q2074 q2076 qs74 q164 q2077
theorem gn_cellTold : yX6_cellTold.cls = RX6 ∧ yX6_cellTold.cls ≠ "java/lang/invoke/MethodHandle" ∧ yX6_cellTold.cls ≠ "java/lang/invoke/VarHandle" ∧ (parseMethodDescriptor yX6_cellTold.desc).map (fun d => d.parameters.length) = some 1 := by decide +kernel
abbrev rM_cellTold : Room := { frames := 2, cells := 0, slots := 0, locals := 49 }
set_option maxHeartbeats 4000000 in
theorem cmf_cellTold {l : Launch} {dC : Nat → ClassId} {dI : Nat → Nat → Nat} {ac : Nat → ClassId} {o : Nat} {ad : Nat → Nat} {N : Nat} {σ : mSt} {x1 : Int32} {r : Int32} {σ' : mSt} (hf : M_cellTold N σ x1 = some (r, σ')) : Met l yX6_cellTold (ws_ yX6_cellTold cX6_cellTold 3 (some .int)) { frames := 2, cells := 0, slots := 0, locals := 49 } (va_Pc [.ref o, .int x1] (mPre dC dI ac o ad σ)) (mQi dC dI ac o ad r σ') 0 0 (mF o ad) := by
  refine m_of (by decide) rfl (Nat.le_of_ble_eq_true rfl) ?_
  intro p e s m args below meth c E hb hr hlk hml hS ls hl
  have hl : lv_has ls 3 [(0, .ref o), (1, .int x1)] := hl
  have hB53 : ∀ (σ : mSt) (x2 : Int32), M_cellTold_b53 N σ x2 = some (r, σ') → ∀ (H : Heap) (locs : List Loc), mS dC dI ac o ad s.heap σ H locs → ∀ (ls : Array Slot), lv_has ls 3 [(0, .ref o), (2, .int x2)] → W p l e rM_cellTold s m args below meth c H locs 0 0 (MQ below (mQi dC dI ac o ad r σ') args s 0 0 (mF o ad)) (F0 m 53 ls []) := by
    intro σ x2 hf H locs hS ls hl
    unfold M_cellTold_b53 at hf
    refine lv_aload_n E.1 hb dX6_cellTold_53 rfl (lv_at hl 0 rfl) ?_
    refine m_gI (k := 5) E hb hS rfl fl_5 dX6_cellTold_54 ?_
    refine lv_if_ne (tgt := 64) E.1 hb dX6_cellTold_57 (by decide) (fun hc => ?_) (fun hc => ?_)
    · have hf := if_s hc hf
      refine lv_iconst (v := 0) E.1 hb dX6_cellTold_64 rfl ?_
      exact m_ir E hb hr hlk hS hf dX6_cellTold_65
    · have hf := it_s hc hf
      refine lv_iload_n E.1 hb dX6_cellTold_60 rfl (lv_at hl 1 rfl) ?_
      refine lv_goto (tgt := 65) E.1 hb dX6_cellTold_61 (by decide) ?_
      exact m_ir E hb hr hlk hS hf dX6_cellTold_65
  have hB44 : ∀ (σ : mSt) (x2 : Int32), M_cellTold_b44 N σ x2 = some (r, σ') → ∀ (H : Heap) (locs : List Loc), mS dC dI ac o ad s.heap σ H locs → ∀ (ls : Array Slot), lv_has ls 3 [(0, .ref o), (2, .int x2)] → W p l e rM_cellTold s m args below meth c H locs 0 0 (MQ below (mQi dC dI ac o ad r σ') args s 0 0 (mF o ad)) (F0 m 44 ls []) := by
    intro σ x2 hf H locs hS ls hl
    unfold M_cellTold_b44 at hf
    refine lv_aload_n E.1 hb dX6_cellTold_44 rfl (lv_at hl 0 rfl) ?_
    refine lv_iconst (v := 2) E.1 hb dX6_cellTold_45 rfl ?_
    refine lv_aload_n E.1 hb dX6_cellTold_46 rfl (lv_at hl 0 rfl) ?_
    refine m_gI (k := 10) E hb hS rfl fl_10 dX6_cellTold_47 ?_
    obtain ⟨_, σ5, h1, hf⟩ := bd_s hf
    refine m_cVv E hb hml hl.1 hS (cmf_fail h1) gw_fail gn_fail rfl rfl (Nat.le_of_ble_eq_true rfl) ⟨Nat.le_of_ble_eq_true rfl, Nat.le_of_ble_eq_true rfl⟩ ⟨Nat.le_refl 0, Nat.le_refl 0⟩ dX6_cellTold_50 (fun H locs hS => ?_)
    exact hB53 σ5 x2 hf _ _ hS _ (lv_sub hl [0, 1] rfl)
  unfold M_cellTold at hf
  refine lv_aload_n E.1 hb dX6_cellTold_0 rfl (lv_at hl 0 rfl) ?_
  refine lv_iconst (v := 0) E.1 hb dX6_cellTold_1 rfl ?_
  refine lv_aload_n E.1 hb dX6_cellTold_2 rfl (lv_at hl 0 rfl) ?_
  refine m_gA (k := 40) E hb hS 2 rfl (by decide) fl_40 dX6_cellTold_3 ?_
  refine lv_iconst (v := 1) E.1 hb dX6_cellTold_6 rfl ?_
  obtain ⟨hg, hf⟩ := ld_s hf
  refine m_ild E hb hS hg dX6_cellTold_7 ?_
  refine lv_iconst (v := 1) E.1 hb dX6_cellTold_8 rfl ?_
  refine lv_isub E.1 hb dX6_cellTold_9 ?_
  obtain ⟨r2, σ3, h1, hf⟩ := bd_s hf
  refine m_cVi E hb hml hl.1 hS (cmf_number h1) gw_number gn_number rfl rfl (Nat.le_of_ble_eq_true rfl) ⟨Nat.le_of_ble_eq_true rfl, Nat.le_of_ble_eq_true rfl⟩ ⟨Nat.le_refl 0, Nat.le_refl 0⟩ dX6_cellTold_10 (fun H locs hS => ?_)
  refine lv_istore_n (lv' := [(2, .int r2), (0, .ref o), (1, .int x1)]) E.1 hb dX6_cellTold_13 rfl hl (by decide) rfl (fun ls hl => ?_)
  refine lv_aload_n E.1 hb dX6_cellTold_14 rfl (lv_at hl 1 rfl) ?_
  refine m_gI (k := 5) E hb hS rfl fl_5 dX6_cellTold_15 ?_
  refine lv_if_ne (tgt := 53) E.1 hb dX6_cellTold_18 (by decide) (fun hc => ?_) (fun hc => ?_)
  · have hf := if_s hc hf
    exact hB53 σ3 r2 hf _ _ hS _ (lv_sub hl [1, 0] rfl)
  · have hf := it_s hc hf
    refine lv_aload_n E.1 hb dX6_cellTold_21 rfl (lv_at hl 1 rfl) ?_
    refine m_gA (k := 43) E hb hS 2 rfl (by decide) fl_43 dX6_cellTold_22 ?_
    refine lv_iload_n E.1 hb dX6_cellTold_25 rfl (lv_at hl 2 rfl) ?_
    obtain ⟨hg, hf⟩ := ld_s hf
    refine m_ild E hb hS hg dX6_cellTold_26 ?_
    refine lv_iload_n E.1 hb dX6_cellTold_27 rfl (lv_at hl 0 rfl) ?_
    refine lv_ishr E.1 hb dX6_cellTold_28 ?_
    refine lv_iconst (v := 1) E.1 hb dX6_cellTold_29 rfl ?_
    refine lv_iand E.1 hb dX6_cellTold_30 ?_
    refine lv_iconst (v := 1) E.1 hb dX6_cellTold_31 rfl ?_
    refine lv_icmp_eq (tgt := 44) E.1 hb dX6_cellTold_32 (by decide) (fun hc => ?_) (fun hc => ?_)
    · have hf := it_s hc hf
      exact hB44 σ3 r2 hf _ _ hS _ (lv_sub hl [1, 0] rfl)
    · have hf := if_s hc hf
      refine lv_aload_n E.1 hb dX6_cellTold_35 rfl (lv_at hl 1 rfl) ?_
      refine lv_iload_n E.1 hb dX6_cellTold_36 rfl (lv_at hl 2 rfl) ?_
      refine lv_iload_n E.1 hb dX6_cellTold_37 rfl (lv_at hl 0 rfl) ?_
      obtain ⟨r6, h1, hf⟩ := bo_s hf
      refine m_cVi E hb hml hl.1 hS (cmf_standsTold h1) gw_standsTold gn_standsTold rfl rfl (Nat.le_of_ble_eq_true rfl) ⟨Nat.le_of_ble_eq_true rfl, Nat.le_of_ble_eq_true rfl⟩ ⟨Nat.le_refl 0, Nat.le_refl 0⟩ dX6_cellTold_38 (fun H locs hS => ?_)
      refine lv_if_eq (tgt := 53) E.1 hb dX6_cellTold_41 (by decide) (fun hc => ?_) (fun hc => ?_)
      · have hf := it_s hc hf
        exact hB53 σ3 r2 hf _ _ hS _ (lv_sub hl [1, 0] rfl)
      · have hf := if_s hc hf
        exact hB44 σ3 r2 hf _ _ hS _ (lv_sub hl [1, 0] rfl)
/-! glossTold(I)V: RW -/
noncomputable def M_glossTold (N : Nat) (σ : mSt) (x1 : Int32) : Option (Unit × mSt) :=
  bd (M_isFull σ 2 20 x1) fun r1 σ2 => if r1 = 0 then (bd (M_leafTold N σ2) fun r3 σ4 => bd (M_cellTold N σ4 r3) fun r5 σ6 => if (σ6.1 5 0) = 0 then (bo (ld 2 σ6 43 r3) fun v7 => bo (stI 2 σ6 43 r3 (v7 ||| (1 <<< (r5 &&& 31)))) fun σ8 => bo (ld 2 σ8 41 2) fun v9 => bo (stI 2 σ8 41 2 (v9 + 1)) fun σ10 => some ((), σ10)) else (some ((), σ6))) else (some ((), σ2))
theorem gw_glossTold : GoodIn lw_all (wsV RX6 362 RX6 yX6_glossTold (ws_ yX6_glossTold cX6_glossTold 4 none)) := lw_V q2062 q2064 qs71 q164 q2065
theorem gn_glossTold : yX6_glossTold.cls = RX6 ∧ yX6_glossTold.cls ≠ "java/lang/invoke/MethodHandle" ∧ yX6_glossTold.cls ≠ "java/lang/invoke/VarHandle" ∧ (parseMethodDescriptor yX6_glossTold.desc).map (fun d => d.parameters.length) = some 1 := by decide +kernel
abbrev rM_glossTold : Room := { frames := 3, cells := 0, slots := 0, locals := 71 }
set_option maxHeartbeats 4000000 in
theorem cmf_glossTold {l : Launch} {dC : Nat → ClassId} {dI : Nat → Nat → Nat} {ac : Nat → ClassId} {o : Nat} {ad : Nat → Nat} {N : Nat} {σ : mSt} {x1 : Int32} {σ' : mSt} (hf : M_glossTold N σ x1 = some ((), σ')) : Met l yX6_glossTold (ws_ yX6_glossTold cX6_glossTold 4 none) { frames := 3, cells := 0, slots := 0, locals := 71 } (va_Pc [.ref o, .int x1] (mPre dC dI ac o ad σ)) (mQv dC dI ac o ad σ') 0 0 (mF o ad) := by
  refine m_of (by decide) rfl (Nat.le_of_ble_eq_true rfl) ?_
  intro p e s m args below meth c E hb hr hlk hml hS ls hl
  have hl : lv_has ls 4 [(0, .ref o), (1, .int x1)] := hl
  unfold M_glossTold at hf
  refine lv_aload_n E.1 hb dX6_glossTold_0 rfl (lv_at hl 0 rfl) ?_
  refine lv_iconst (v := 2) E.1 hb dX6_glossTold_1 rfl ?_
  refine lv_bipush (v := 20) E.1 hb dX6_glossTold_2 rfl ?_
  refine lv_iload_n E.1 hb dX6_glossTold_4 rfl (lv_at hl 1 rfl) ?_
  obtain ⟨r1, σ2, h1, hf⟩ := bd_s hf
  refine m_cVi E hb hml hl.1 hS (cmf_isFull h1) gw_isFull gn_isFull rfl rfl (Nat.le_of_ble_eq_true rfl) ⟨Nat.le_of_ble_eq_true rfl, Nat.le_of_ble_eq_true rfl⟩ ⟨Nat.le_refl 0, Nat.le_refl 0⟩ dX6_glossTold_5 (fun H locs hS => ?_)
  refine lv_if_eq (tgt := 12) E.1 hb dX6_glossTold_8 (by decide) (fun hc => ?_) (fun hc => ?_)
  · have hf := it_s hc hf
    refine lv_aload_n E.1 hb dX6_glossTold_12 rfl (lv_at hl 0 rfl) ?_
    obtain ⟨r3, σ4, h1, hf⟩ := bd_s hf
    refine m_cVi E hb hml hl.1 hS (cmf_leafTold h1) gw_leafTold gn_leafTold rfl rfl (Nat.le_of_ble_eq_true rfl) ⟨Nat.le_of_ble_eq_true rfl, Nat.le_of_ble_eq_true rfl⟩ ⟨Nat.le_refl 0, Nat.le_refl 0⟩ dX6_glossTold_13 (fun H locs hS => ?_)
    refine lv_istore_n (lv' := [(2, .int r3), (0, .ref o), (1, .int x1)]) E.1 hb dX6_glossTold_16 rfl hl (by decide) rfl (fun ls hl => ?_)
    refine lv_aload_n E.1 hb dX6_glossTold_17 rfl (lv_at hl 1 rfl) ?_
    refine lv_iload_n E.1 hb dX6_glossTold_18 rfl (lv_at hl 0 rfl) ?_
    obtain ⟨r5, σ6, h1, hf⟩ := bd_s hf
    refine m_cVi E hb hml hl.1 hS (cmf_cellTold h1) gw_cellTold gn_cellTold rfl rfl (Nat.le_of_ble_eq_true rfl) ⟨Nat.le_of_ble_eq_true rfl, Nat.le_of_ble_eq_true rfl⟩ ⟨Nat.le_refl 0, Nat.le_refl 0⟩ dX6_glossTold_19 (fun H locs hS => ?_)
    refine lv_istore_n (lv' := [(3, .int r5), (2, .int r3), (0, .ref o), (1, .int x1)]) E.1 hb dX6_glossTold_22 rfl hl (by decide) rfl (fun ls hl => ?_)
    refine lv_aload_n E.1 hb dX6_glossTold_23 rfl (lv_at hl 2 rfl) ?_
    refine m_gI (k := 5) E hb hS rfl fl_5 dX6_glossTold_24 ?_
    refine lv_if_eq (tgt := 31) E.1 hb dX6_glossTold_27 (by decide) (fun hc => ?_) (fun hc => ?_)
    · have hf := it_s hc hf
      refine lv_aload_n E.1 hb dX6_glossTold_31 rfl (lv_at hl 2 rfl) ?_
      refine m_gA (k := 43) E hb hS 2 rfl (by decide) fl_43 dX6_glossTold_32 ?_
      refine lv_iload_n E.1 hb dX6_glossTold_35 rfl (lv_at hl 1 rfl) ?_
      refine lv_dup2_11 E.1 hb dX6_glossTold_36 rfl rfl ?_
      obtain ⟨hg, hf⟩ := ld_s hf
      refine m_ild E hb hS hg dX6_glossTold_37 ?_
      refine lv_iconst (v := 1) E.1 hb dX6_glossTold_38 rfl ?_
      refine lv_iload_n E.1 hb dX6_glossTold_39 rfl (lv_at hl 0 rfl) ?_
      refine lv_ishl E.1 hb dX6_glossTold_40 ?_
      refine lv_ior E.1 hb dX6_glossTold_41 ?_
      obtain ⟨σ8, hg, hw, hf⟩ := st_s hf
      refine m_ist E hb hS hg hw dX6_glossTold_42 (fun H locs hS => ?_)
      refine lv_aload_n E.1 hb dX6_glossTold_43 rfl (lv_at hl 2 rfl) ?_
      refine m_gA (k := 41) E hb hS 2 rfl (by decide) fl_41 dX6_glossTold_44 ?_
      refine lv_iconst (v := 2) E.1 hb dX6_glossTold_47 rfl ?_
      refine lv_dup2_11 E.1 hb dX6_glossTold_48 rfl rfl ?_
      obtain ⟨hg, hf⟩ := ld_s hf
      refine m_ild E hb hS hg dX6_glossTold_49 ?_
      refine lv_iconst (v := 1) E.1 hb dX6_glossTold_50 rfl ?_
      refine lv_iadd E.1 hb dX6_glossTold_51 ?_
      obtain ⟨σ10, hg, hw, hf⟩ := st_s hf
      refine m_ist E hb hS hg hw dX6_glossTold_52 (fun H locs hS => ?_)
      exact m_vr E hb hr hlk hS hf dX6_glossTold_53
    · have hf := if_s hc hf
      exact m_vr E hb hr hlk hS hf dX6_glossTold_30
  · have hf := if_s hc hf
    exact m_vr E hb hr hlk hS hf dX6_glossTold_11
/-! wormTold(I)V: RW -/
noncomputable def M_wormTold_b43 (N : Nat) (σ : mSt) (x2 : Int32) (x3 : Int32) : Option (Unit × mSt) :=
  bo (ld 2 σ 40 1) fun v7 => bd (M_number N σ 0 (v7 - 1)) fun r8 σ9 => if (σ9.1 5 0) = 0 then (bo (ld 2 σ9 41 1) fun v10 => bo (stI 2 σ9 44 (3 * v10) x2) fun σ11 => bo (stI 2 σ11 44 ((3 * v10) + 1) x3) fun σ12 => bo (stI 2 σ12 44 ((3 * v10) + 2) r8) fun σ13 => bo (ld 2 σ13 41 1) fun v14 => bo (stI 2 σ13 41 1 (v14 + 1)) fun σ15 => some ((), σ15)) else (some ((), σ9))
noncomputable def M_wormTold (N : Nat) (σ : mSt) (x1 : Int32) : Option (Unit × mSt) :=
  bd (M_isFull σ 1 12 x1) fun r1 σ2 => if r1 = 0 then (bd (M_leafTold N σ2) fun r3 σ4 => bd (M_leafTold N σ4) fun r5 σ6 => if (σ6.1 5 0) = 0 then (if r3 = r5 then (bd (M_fail σ6 2 (σ6.1 10 0)) fun _ σ16 => M_wormTold_b43 N σ16 r3 r5) else (M_wormTold_b43 N σ6 r3 r5)) else (M_wormTold_b43 N σ6 r3 r5)) else (some ((), σ2))
theorem gw_wormTold : GoodIn lw_all (wsV RX6 365 RX6 yX6_wormTold (ws_ yX6_wormTold cX6_wormTold 6 none)) := lw_V q2082 q2084 qs76 q164 q2085
theorem gn_wormTold : yX6_wormTold.cls = RX6 ∧ yX6_wormTold.cls ≠ "java/lang/invoke/MethodHandle" ∧ yX6_wormTold.cls ≠ "java/lang/invoke/VarHandle" ∧ (parseMethodDescriptor yX6_wormTold.desc).map (fun d => d.parameters.length) = some 1 := by decide +kernel
abbrev rM_wormTold : Room := { frames := 3, cells := 0, slots := 0, locals := 70 }
set_option maxHeartbeats 4000000 in
theorem cmf_wormTold {l : Launch} {dC : Nat → ClassId} {dI : Nat → Nat → Nat} {ac : Nat → ClassId} {o : Nat} {ad : Nat → Nat} {N : Nat} {σ : mSt} {x1 : Int32} {σ' : mSt} (hf : M_wormTold N σ x1 = some ((), σ')) : Met l yX6_wormTold (ws_ yX6_wormTold cX6_wormTold 6 none) { frames := 3, cells := 0, slots := 0, locals := 70 } (va_Pc [.ref o, .int x1] (mPre dC dI ac o ad σ)) (mQv dC dI ac o ad σ') 0 0 (mF o ad) := by
  refine m_of (by decide) rfl (Nat.le_of_ble_eq_true rfl) ?_
  intro p e s m args below meth c E hb hr hlk hml hS ls hl
  have hl : lv_has ls 6 [(0, .ref o), (1, .int x1)] := hl
  have hB43 : ∀ (σ : mSt) (x2 : Int32) (x3 : Int32), M_wormTold_b43 N σ x2 x3 = some ((), σ') → ∀ (H : Heap) (locs : List Loc), mS dC dI ac o ad s.heap σ H locs → ∀ (ls : Array Slot), lv_has ls 6 [(0, .ref o), (2, .int x2), (3, .int x3)] → W p l e rM_wormTold s m args below meth c H locs 0 0 (MQ below (mQv dC dI ac o ad σ') args s 0 0 (mF o ad)) (F0 m 43 ls []) := by
    intro σ x2 x3 hf H locs hS ls hl
    unfold M_wormTold_b43 at hf
    refine lv_aload_n E.1 hb dX6_wormTold_43 rfl (lv_at hl 0 rfl) ?_
    refine lv_iconst (v := 0) E.1 hb dX6_wormTold_44 rfl ?_
    refine lv_aload_n E.1 hb dX6_wormTold_45 rfl (lv_at hl 0 rfl) ?_
    refine m_gA (k := 40) E hb hS 2 rfl (by decide) fl_40 dX6_wormTold_46 ?_
    refine lv_iconst (v := 1) E.1 hb dX6_wormTold_49 rfl ?_
    obtain ⟨hg, hf⟩ := ld_s hf
    refine m_ild E hb hS hg dX6_wormTold_50 ?_
    refine lv_iconst (v := 1) E.1 hb dX6_wormTold_51 rfl ?_
    refine lv_isub E.1 hb dX6_wormTold_52 ?_
    obtain ⟨r8, σ9, h1, hf⟩ := bd_s hf
    refine m_cVi E hb hml hl.1 hS (cmf_number h1) gw_number gn_number rfl rfl (Nat.le_of_ble_eq_true rfl) ⟨Nat.le_of_ble_eq_true rfl, Nat.le_of_ble_eq_true rfl⟩ ⟨Nat.le_refl 0, Nat.le_refl 0⟩ dX6_wormTold_53 (fun H locs hS => ?_)
    refine lv_istore (lv' := [(4, .int r8), (0, .ref o), (2, .int x2), (3, .int x3)]) E.1 hb dX6_wormTold_56 hl (by decide) rfl (fun ls hl => ?_)
    refine lv_aload_n E.1 hb dX6_wormTold_58 rfl (lv_at hl 1 rfl) ?_
    refine m_gI (k := 5) E hb hS rfl fl_5 dX6_wormTold_59 ?_
    refine lv_if_eq (tgt := 66) E.1 hb dX6_wormTold_62 (by decide) (fun hc => ?_) (fun hc => ?_)
    · have hf := it_s hc hf
      refine lv_iconst (v := 3) E.1 hb dX6_wormTold_66 rfl ?_
      refine lv_aload_n E.1 hb dX6_wormTold_67 rfl (lv_at hl 1 rfl) ?_
      refine m_gA (k := 41) E hb hS 2 rfl (by decide) fl_41 dX6_wormTold_68 ?_
      refine lv_iconst (v := 1) E.1 hb dX6_wormTold_71 rfl ?_
      obtain ⟨hg, hf⟩ := ld_s hf
      refine m_ild E hb hS hg dX6_wormTold_72 ?_
      refine lv_imul E.1 hb dX6_wormTold_73 ?_
      refine lv_istore (lv' := [(5, .int (3 * (σ9.1 41 (1 : Int32).toNatClampNeg))), (4, .int r8), (0, .ref o), (2, .int x2), (3, .int x3)]) E.1 hb dX6_wormTold_74 hl (by decide) rfl (fun ls hl => ?_)
      refine lv_aload_n E.1 hb dX6_wormTold_76 rfl (lv_at hl 2 rfl) ?_
      refine m_gA (k := 44) E hb hS 2 rfl (by decide) fl_44 dX6_wormTold_77 ?_
      refine lv_iload E.1 hb dX6_wormTold_80 (lv_at hl 0 rfl) ?_
      refine lv_iload_n E.1 hb dX6_wormTold_82 rfl (lv_at hl 3 rfl) ?_
      obtain ⟨σ11, hg, hw, hf⟩ := st_s hf
      refine m_ist E hb hS hg hw dX6_wormTold_83 (fun H locs hS => ?_)
      refine lv_aload_n E.1 hb dX6_wormTold_84 rfl (lv_at hl 2 rfl) ?_
      refine m_gA (k := 44) E hb hS 2 rfl (by decide) fl_44 dX6_wormTold_85 ?_
      refine lv_iload E.1 hb dX6_wormTold_88 (lv_at hl 0 rfl) ?_
      refine lv_iconst (v := 1) E.1 hb dX6_wormTold_90 rfl ?_
      refine lv_iadd E.1 hb dX6_wormTold_91 ?_
      refine lv_iload_n E.1 hb dX6_wormTold_92 rfl (lv_at hl 4 rfl) ?_
      obtain ⟨σ12, hg, hw, hf⟩ := st_s hf
      refine m_ist E hb hS hg hw dX6_wormTold_93 (fun H locs hS => ?_)
      refine lv_aload_n E.1 hb dX6_wormTold_94 rfl (lv_at hl 2 rfl) ?_
      refine m_gA (k := 44) E hb hS 2 rfl (by decide) fl_44 dX6_wormTold_95 ?_
      refine lv_iload E.1 hb dX6_wormTold_98 (lv_at hl 0 rfl) ?_
      refine lv_iconst (v := 2) E.1 hb dX6_wormTold_100 rfl ?_
      refine lv_iadd E.1 hb dX6_wormTold_101 ?_
      refine lv_iload E.1 hb dX6_wormTold_102 (lv_at hl 1 rfl) ?_
      obtain ⟨σ13, hg, hw, hf⟩ := st_s hf
      refine m_ist E hb hS hg hw dX6_wormTold_104 (fun H locs hS => ?_)
      refine lv_aload_n E.1 hb dX6_wormTold_105 rfl (lv_at hl 2 rfl) ?_
      refine m_gA (k := 41) E hb hS 2 rfl (by decide) fl_41 dX6_wormTold_106 ?_
      refine lv_iconst (v := 1) E.1 hb dX6_wormTold_109 rfl ?_
      refine lv_dup2_11 E.1 hb dX6_wormTold_110 rfl rfl ?_
      obtain ⟨hg, hf⟩ := ld_s hf
      refine m_ild E hb hS hg dX6_wormTold_111 ?_
      refine lv_iconst (v := 1) E.1 hb dX6_wormTold_112 rfl ?_
      refine lv_iadd E.1 hb dX6_wormTold_113 ?_
      obtain ⟨σ15, hg, hw, hf⟩ := st_s hf
      refine m_ist E hb hS hg hw dX6_wormTold_114 (fun H locs hS => ?_)
      exact m_vr E hb hr hlk hS hf dX6_wormTold_115
    · have hf := if_s hc hf
      exact m_vr E hb hr hlk hS hf dX6_wormTold_65
  unfold M_wormTold at hf
  refine lv_aload_n E.1 hb dX6_wormTold_0 rfl (lv_at hl 0 rfl) ?_
  refine lv_iconst (v := 1) E.1 hb dX6_wormTold_1 rfl ?_
  refine lv_bipush (v := 12) E.1 hb dX6_wormTold_2 rfl ?_
  refine lv_iload_n E.1 hb dX6_wormTold_4 rfl (lv_at hl 1 rfl) ?_
  obtain ⟨r1, σ2, h1, hf⟩ := bd_s hf
  refine m_cVi E hb hml hl.1 hS (cmf_isFull h1) gw_isFull gn_isFull rfl rfl (Nat.le_of_ble_eq_true rfl) ⟨Nat.le_of_ble_eq_true rfl, Nat.le_of_ble_eq_true rfl⟩ ⟨Nat.le_refl 0, Nat.le_refl 0⟩ dX6_wormTold_5 (fun H locs hS => ?_)
  refine lv_if_eq (tgt := 12) E.1 hb dX6_wormTold_8 (by decide) (fun hc => ?_) (fun hc => ?_)
  · have hf := it_s hc hf
    refine lv_aload_n E.1 hb dX6_wormTold_12 rfl (lv_at hl 0 rfl) ?_
    obtain ⟨r3, σ4, h1, hf⟩ := bd_s hf
    refine m_cVi E hb hml hl.1 hS (cmf_leafTold h1) gw_leafTold gn_leafTold rfl rfl (Nat.le_of_ble_eq_true rfl) ⟨Nat.le_of_ble_eq_true rfl, Nat.le_of_ble_eq_true rfl⟩ ⟨Nat.le_refl 0, Nat.le_refl 0⟩ dX6_wormTold_13 (fun H locs hS => ?_)
    refine lv_istore_n (lv' := [(2, .int r3), (0, .ref o), (1, .int x1)]) E.1 hb dX6_wormTold_16 rfl hl (by decide) rfl (fun ls hl => ?_)
    refine lv_aload_n E.1 hb dX6_wormTold_17 rfl (lv_at hl 1 rfl) ?_
    obtain ⟨r5, σ6, h1, hf⟩ := bd_s hf
    refine m_cVi E hb hml hl.1 hS (cmf_leafTold h1) gw_leafTold gn_leafTold rfl rfl (Nat.le_of_ble_eq_true rfl) ⟨Nat.le_of_ble_eq_true rfl, Nat.le_of_ble_eq_true rfl⟩ ⟨Nat.le_refl 0, Nat.le_refl 0⟩ dX6_wormTold_18 (fun H locs hS => ?_)
    refine lv_istore_n (lv' := [(3, .int r5), (2, .int r3), (0, .ref o), (1, .int x1)]) E.1 hb dX6_wormTold_21 rfl hl (by decide) rfl (fun ls hl => ?_)
    refine lv_aload_n E.1 hb dX6_wormTold_22 rfl (lv_at hl 2 rfl) ?_
    refine m_gI (k := 5) E hb hS rfl fl_5 dX6_wormTold_23 ?_
    refine lv_if_ne (tgt := 43) E.1 hb dX6_wormTold_26 (by decide) (fun hc => ?_) (fun hc => ?_)
    · have hf := if_s hc hf
      exact hB43 σ6 r3 r5 hf _ _ hS _ (lv_sub hl [2, 1, 0] rfl)
    · have hf := it_s hc hf
      refine lv_iload_n E.1 hb dX6_wormTold_29 rfl (lv_at hl 1 rfl) ?_
      refine lv_iload_n E.1 hb dX6_wormTold_30 rfl (lv_at hl 0 rfl) ?_
      refine lv_icmp_ne (tgt := 43) E.1 hb dX6_wormTold_31 (by decide) (fun hc => ?_) (fun hc => ?_)
      · have hf := if_s hc hf
        exact hB43 σ6 r3 r5 hf _ _ hS _ (lv_sub hl [2, 1, 0] rfl)
      · have hf := it_s hc hf
        refine lv_aload_n E.1 hb dX6_wormTold_34 rfl (lv_at hl 2 rfl) ?_
        refine lv_iconst (v := 2) E.1 hb dX6_wormTold_35 rfl ?_
        refine lv_aload_n E.1 hb dX6_wormTold_36 rfl (lv_at hl 2 rfl) ?_
        refine m_gI (k := 10) E hb hS rfl fl_10 dX6_wormTold_37 ?_
        obtain ⟨_, σ16, h1, hf⟩ := bd_s hf
        refine m_cVv E hb hml hl.1 hS (cmf_fail h1) gw_fail gn_fail rfl rfl (Nat.le_of_ble_eq_true rfl) ⟨Nat.le_of_ble_eq_true rfl, Nat.le_of_ble_eq_true rfl⟩ ⟨Nat.le_refl 0, Nat.le_refl 0⟩ dX6_wormTold_40 (fun H locs hS => ?_)
        exact hB43 σ16 r3 r5 hf _ _ hS _ (lv_sub hl [2, 1, 0] rfl)
  · have hf := if_s hc hf
    exact m_vr E hb hr hlk hS hf dX6_wormTold_11
/-! beingTold(I)V: RW -/
noncomputable def M_beingTold_b59 (N : Nat) (k20 : mSt → Int64 → Int32 → Option (Unit × mSt)) (σ : mSt) (x2 : Int64) (x4 : Int32) : Option (Unit × mSt) :=
  k20 σ x2 (x4 + 1)
noncomputable def M_beingTold_b20 (N : Nat) (k20 : mSt → Int64 → Int32 → Option (Unit × mSt)) (σ : mSt) (x2 : Int64) (x4 : Int32) : Option (Unit × mSt) :=
  bo (ld 2 σ 41 0) fun v5 => if v5 ≤ x4 then (bd (M_asks N σ 16) fun _ σ6 => bd (M_leafTold N σ6) fun r7 σ8 => bd (M_asks N σ8 17) fun _ σ9 => bd (M_cellTold N σ9 r7) fun r10 σ11 => bd (M_asks N σ11 18) fun _ σ12 => bd (M_number N σ12 0 9) fun r13 σ14 => if (σ14.1 5 0) = 0 then (bo (ld 2 σ14 41 0) fun v15 => bo (stL σ14 42 v15 x2) fun σ16 => bo (ld 2 σ16 41 0) fun v17 => bo (stI 2 σ16 45 (2 * v17) r7) fun σ18 => bo (ld 2 σ18 41 0) fun v19 => bo (stI 2 σ18 45 ((2 * v19) + 1) r10) fun σ20 => bo (ld 2 σ20 41 0) fun v21 => bo (stI 2 σ20 46 v21 r13) fun σ22 => bo (ld 2 σ22 41 0) fun v23 => bo (stI 2 σ22 41 0 (v23 + 1)) fun σ24 => some ((), σ24)) else (some ((), σ14))) else (if (σ.1 5 0) = 0 then (bo (ldL σ 42 x4) fun v25 => if v25 = x2 then (bd (M_fail σ 3 (σ.1 39 0)) fun _ σ26 => M_beingTold_b59 N k20 σ26 x2 x4) else (M_beingTold_b59 N k20 σ x2 x4)) else (M_beingTold_b59 N k20 σ x2 x4))
noncomputable def M_beingTold (N : Nat) (σ : mSt) (x1 : Int32) : Option (Unit × mSt) :=
  bd (M_isFull σ 0 8 x1) fun r1 σ2 => if r1 = 0 then (bd (M_name N σ2) fun r3 σ4 => rn3 (M_beingTold_b20 N) N σ4 r3 0) else (some ((), σ2))
theorem gw_beingTold : GoodIn lw_all (wsV RX6 368 RX6 yX6_beingTold (ws_ yX6_beingTold cX6_beingTold 7 none)) := lw_V q2086 q2088 qs77 q164 q2089
theorem gn_beingTold : yX6_beingTold.cls = RX6 ∧ yX6_beingTold.cls ≠ "java/lang/invoke/MethodHandle" ∧ yX6_beingTold.cls ≠ "java/lang/invoke/VarHandle" ∧ (parseMethodDescriptor yX6_beingTold.desc).map (fun d => d.parameters.length) = some 1 := by decide +kernel
abbrev rM_beingTold : Room := { frames := 4, cells := 0, slots := 0, locals := 86 }
set_option maxHeartbeats 4000000 in
theorem cmf_beingTold {l : Launch} {dC : Nat → ClassId} {dI : Nat → Nat → Nat} {ac : Nat → ClassId} {o : Nat} {ad : Nat → Nat} {N : Nat} {σ : mSt} {x1 : Int32} {σ' : mSt} (hf : M_beingTold N σ x1 = some ((), σ')) : Met l yX6_beingTold (ws_ yX6_beingTold cX6_beingTold 7 none) { frames := 4, cells := 0, slots := 0, locals := 86 } (va_Pc [.ref o, .int x1] (mPre dC dI ac o ad σ)) (mQv dC dI ac o ad σ') 0 0 (mF o ad) := by
  refine m_of (by decide) rfl (Nat.le_of_ble_eq_true rfl) ?_
  intro p e s m args below meth c E hb hr hlk hml hS ls hl
  have hl : lv_has ls 7 [(0, .ref o), (1, .int x1)] := hl
  have hB59 : ∀ (k20 : mSt → Int64 → Int32 → Option (Unit × mSt)) (hk20 : ∀ (σ : mSt) (x2 : Int64) (x4 : Int32), k20 σ x2 x4 = some ((), σ') → ∀ (H : Heap) (locs : List Loc), mS dC dI ac o ad s.heap σ H locs → ∀ (ls : Array Slot), lv_has ls 7 [(0, .ref o), (2, .long x2), (4, .int x4)] → W p l e rM_beingTold s m args below meth c H locs 0 0 (MQ below (mQv dC dI ac o ad σ') args s 0 0 (mF o ad)) (F0 m 20 ls [])) (σ : mSt) (x2 : Int64) (x4 : Int32), M_beingTold_b59 N k20 σ x2 x4 = some ((), σ') → ∀ (H : Heap) (locs : List Loc), mS dC dI ac o ad s.heap σ H locs → ∀ (ls : Array Slot), lv_has ls 7 [(0, .ref o), (2, .long x2), (4, .int x4)] → W p l e rM_beingTold s m args below meth c H locs 0 0 (MQ below (mQv dC dI ac o ad σ') args s 0 0 (mF o ad)) (F0 m 59 ls []) := by
    intro k20 hk20 σ x2 x4 hf H locs hS ls hl
    unfold M_beingTold_b59 at hf
    refine lv_iinc (v := (x4 + 1)) (lv' := [(4, .int (x4 + 1)), (0, .ref o), (2, .long x2)]) E.1 hb dX6_beingTold_59 hl (k := 2) rfl rfl (by decide) rfl (fun ls hl => ?_)
    refine lv_goto (tgt := 20) E.1 hb dX6_beingTold_62 (by decide) ?_
    exact hk20 σ x2 (x4 + 1) hf _ _ hS _ (lv_sub hl [1, 2, 0] rfl)
  have hL20 : ∀ (n : Nat) (σ : mSt) (x2 : Int64) (x4 : Int32), rn3 (M_beingTold_b20 N) n σ x2 x4 = some ((), σ') → ∀ (H : Heap) (locs : List Loc), mS dC dI ac o ad s.heap σ H locs → ∀ (ls : Array Slot), lv_has ls 7 [(0, .ref o), (2, .long x2), (4, .int x4)] → W p l e rM_beingTold s m args below meth c H locs 0 0 (MQ below (mQv dC dI ac o ad σ') args s 0 0 (mF o ad)) (F0 m 20 ls []) := by
    intro  n
    induction n with
    | zero =>
      intro σ x2 x4 hf
      cases hf
    | succ n ih =>
      intro σ x2 x4 hf H locs hS ls hl
      have hf : M_beingTold_b20 N (rn3 (M_beingTold_b20 N) n) σ x2 x4 = some ((), σ') := hf
      have hk20 := ih
      generalize rn3 (M_beingTold_b20 N) n = k20 at hf hk20
      unfold M_beingTold_b20 at hf
      refine lv_iload E.1 hb dX6_beingTold_20 (lv_at hl 2 rfl) ?_
      refine lv_aload_n E.1 hb dX6_beingTold_22 rfl (lv_at hl 0 rfl) ?_
      refine m_gA (k := 41) E hb hS 2 rfl (by decide) fl_41 dX6_beingTold_23 ?_
      refine lv_iconst (v := 0) E.1 hb dX6_beingTold_26 rfl ?_
      obtain ⟨hg, hf⟩ := ld_s hf
      refine m_ild E hb hS hg dX6_beingTold_27 ?_
      refine lv_icmp_ge (tgt := 65) E.1 hb dX6_beingTold_28 (by decide) (fun hc => ?_) (fun hc => ?_)
      · have hf := it_s hc hf
        refine lv_aload_n E.1 hb dX6_beingTold_65 rfl (lv_at hl 0 rfl) ?_
        refine lv_aload_n E.1 hb dX6_beingTold_66 rfl (lv_at hl 0 rfl) ?_
        refine m_gA (k := 16) E hb hS 4 rfl (by decide) fl_16 dX6_beingTold_67 ?_
        obtain ⟨_, σ6, h1, hf⟩ := bd_s hf
        refine m_cVv E hb hml hl.1 hS (cmf_asks h1) gw_asks gn_asks rfl rfl (Nat.le_of_ble_eq_true rfl) ⟨Nat.le_of_ble_eq_true rfl, Nat.le_of_ble_eq_true rfl⟩ ⟨Nat.le_refl 0, Nat.le_refl 0⟩ dX6_beingTold_70 (fun H locs hS => ?_)
        refine lv_aload_n E.1 hb dX6_beingTold_73 rfl (lv_at hl 0 rfl) ?_
        obtain ⟨r7, σ8, h1, hf⟩ := bd_s hf
        refine m_cVi E hb hml hl.1 hS (cmf_leafTold h1) gw_leafTold gn_leafTold rfl rfl (Nat.le_of_ble_eq_true rfl) ⟨Nat.le_of_ble_eq_true rfl, Nat.le_of_ble_eq_true rfl⟩ ⟨Nat.le_refl 0, Nat.le_refl 0⟩ dX6_beingTold_74 (fun H locs hS => ?_)
        refine lv_istore (lv' := [(4, .int r7), (0, .ref o), (2, .long x2)]) E.1 hb dX6_beingTold_77 hl (by decide) rfl (fun ls hl => ?_)
        refine lv_aload_n E.1 hb dX6_beingTold_79 rfl (lv_at hl 1 rfl) ?_
        refine lv_aload_n E.1 hb dX6_beingTold_80 rfl (lv_at hl 1 rfl) ?_
        refine m_gA (k := 17) E hb hS 4 rfl (by decide) fl_17 dX6_beingTold_81 ?_
        obtain ⟨_, σ9, h1, hf⟩ := bd_s hf
        refine m_cVv E hb hml hl.1 hS (cmf_asks h1) gw_asks gn_asks rfl rfl (Nat.le_of_ble_eq_true rfl) ⟨Nat.le_of_ble_eq_true rfl, Nat.le_of_ble_eq_true rfl⟩ ⟨Nat.le_refl 0, Nat.le_refl 0⟩ dX6_beingTold_84 (fun H locs hS => ?_)
        refine lv_aload_n E.1 hb dX6_beingTold_87 rfl (lv_at hl 1 rfl) ?_
        refine lv_iload E.1 hb dX6_beingTold_88 (lv_at hl 0 rfl) ?_
        obtain ⟨r10, σ11, h1, hf⟩ := bd_s hf
        refine m_cVi E hb hml hl.1 hS (cmf_cellTold h1) gw_cellTold gn_cellTold rfl rfl (Nat.le_of_ble_eq_true rfl) ⟨Nat.le_of_ble_eq_true rfl, Nat.le_of_ble_eq_true rfl⟩ ⟨Nat.le_refl 0, Nat.le_refl 0⟩ dX6_beingTold_90 (fun H locs hS => ?_)
        refine lv_istore (lv' := [(5, .int r10), (4, .int r7), (0, .ref o), (2, .long x2)]) E.1 hb dX6_beingTold_93 hl (by decide) rfl (fun ls hl => ?_)
        refine lv_aload_n E.1 hb dX6_beingTold_95 rfl (lv_at hl 2 rfl) ?_
        refine lv_aload_n E.1 hb dX6_beingTold_96 rfl (lv_at hl 2 rfl) ?_
        refine m_gA (k := 18) E hb hS 4 rfl (by decide) fl_18 dX6_beingTold_97 ?_
        obtain ⟨_, σ12, h1, hf⟩ := bd_s hf
        refine m_cVv E hb hml hl.1 hS (cmf_asks h1) gw_asks gn_asks rfl rfl (Nat.le_of_ble_eq_true rfl) ⟨Nat.le_of_ble_eq_true rfl, Nat.le_of_ble_eq_true rfl⟩ ⟨Nat.le_refl 0, Nat.le_refl 0⟩ dX6_beingTold_100 (fun H locs hS => ?_)
        refine lv_aload_n E.1 hb dX6_beingTold_103 rfl (lv_at hl 2 rfl) ?_
        refine lv_iconst (v := 0) E.1 hb dX6_beingTold_104 rfl ?_
        refine lv_bipush (v := 9) E.1 hb dX6_beingTold_105 rfl ?_
        obtain ⟨r13, σ14, h1, hf⟩ := bd_s hf
        refine m_cVi E hb hml hl.1 hS (cmf_number h1) gw_number gn_number rfl rfl (Nat.le_of_ble_eq_true rfl) ⟨Nat.le_of_ble_eq_true rfl, Nat.le_of_ble_eq_true rfl⟩ ⟨Nat.le_refl 0, Nat.le_refl 0⟩ dX6_beingTold_107 (fun H locs hS => ?_)
        refine lv_istore (lv' := [(6, .int r13), (5, .int r10), (4, .int r7), (0, .ref o), (2, .long x2)]) E.1 hb dX6_beingTold_110 hl (by decide) rfl (fun ls hl => ?_)
        refine lv_aload_n E.1 hb dX6_beingTold_112 rfl (lv_at hl 3 rfl) ?_
        refine m_gI (k := 5) E hb hS rfl fl_5 dX6_beingTold_113 ?_
        refine lv_if_eq (tgt := 120) E.1 hb dX6_beingTold_116 (by decide) (fun hc => ?_) (fun hc => ?_)
        · have hf := it_s hc hf
          refine lv_aload_n E.1 hb dX6_beingTold_120 rfl (lv_at hl 3 rfl) ?_
          refine m_gA (k := 42) E hb hS 3 rfl (by decide) fl_42 dX6_beingTold_121 ?_
          refine lv_aload_n E.1 hb dX6_beingTold_124 rfl (lv_at hl 3 rfl) ?_
          refine m_gA (k := 41) E hb hS 2 rfl (by decide) fl_41 dX6_beingTold_125 ?_
          refine lv_iconst (v := 0) E.1 hb dX6_beingTold_128 rfl ?_
          obtain ⟨hg, hf⟩ := ld_s hf
          refine m_ild E hb hS hg dX6_beingTold_129 ?_
          refine lv_lload_n E.1 hb dX6_beingTold_130 rfl (lv_at hl 4 rfl) ?_
          obtain ⟨σ16, hg, hw, hf⟩ := stL_s hf
          refine m_lst E hb hS hg hw dX6_beingTold_131 (fun H locs hS => ?_)
          refine lv_aload_n E.1 hb dX6_beingTold_132 rfl (lv_at hl 3 rfl) ?_
          refine m_gA (k := 45) E hb hS 2 rfl (by decide) fl_45 dX6_beingTold_133 ?_
          refine lv_iconst (v := 2) E.1 hb dX6_beingTold_136 rfl ?_
          refine lv_aload_n E.1 hb dX6_beingTold_137 rfl (lv_at hl 3 rfl) ?_
          refine m_gA (k := 41) E hb hS 2 rfl (by decide) fl_41 dX6_beingTold_138 ?_
          refine lv_iconst (v := 0) E.1 hb dX6_beingTold_141 rfl ?_
          obtain ⟨hg, hf⟩ := ld_s hf
          refine m_ild E hb hS hg dX6_beingTold_142 ?_
          refine lv_imul E.1 hb dX6_beingTold_143 ?_
          refine lv_iload E.1 hb dX6_beingTold_144 (lv_at hl 2 rfl) ?_
          obtain ⟨σ18, hg, hw, hf⟩ := st_s hf
          refine m_ist E hb hS hg hw dX6_beingTold_146 (fun H locs hS => ?_)
          refine lv_aload_n E.1 hb dX6_beingTold_147 rfl (lv_at hl 3 rfl) ?_
          refine m_gA (k := 45) E hb hS 2 rfl (by decide) fl_45 dX6_beingTold_148 ?_
          refine lv_iconst (v := 2) E.1 hb dX6_beingTold_151 rfl ?_
          refine lv_aload_n E.1 hb dX6_beingTold_152 rfl (lv_at hl 3 rfl) ?_
          refine m_gA (k := 41) E hb hS 2 rfl (by decide) fl_41 dX6_beingTold_153 ?_
          refine lv_iconst (v := 0) E.1 hb dX6_beingTold_156 rfl ?_
          obtain ⟨hg, hf⟩ := ld_s hf
          refine m_ild E hb hS hg dX6_beingTold_157 ?_
          refine lv_imul E.1 hb dX6_beingTold_158 ?_
          refine lv_iconst (v := 1) E.1 hb dX6_beingTold_159 rfl ?_
          refine lv_iadd E.1 hb dX6_beingTold_160 ?_
          refine lv_iload E.1 hb dX6_beingTold_161 (lv_at hl 1 rfl) ?_
          obtain ⟨σ20, hg, hw, hf⟩ := st_s hf
          refine m_ist E hb hS hg hw dX6_beingTold_163 (fun H locs hS => ?_)
          refine lv_aload_n E.1 hb dX6_beingTold_164 rfl (lv_at hl 3 rfl) ?_
          refine m_gA (k := 46) E hb hS 2 rfl (by decide) fl_46 dX6_beingTold_165 ?_
          refine lv_aload_n E.1 hb dX6_beingTold_168 rfl (lv_at hl 3 rfl) ?_
          refine m_gA (k := 41) E hb hS 2 rfl (by decide) fl_41 dX6_beingTold_169 ?_
          refine lv_iconst (v := 0) E.1 hb dX6_beingTold_172 rfl ?_
          obtain ⟨hg, hf⟩ := ld_s hf
          refine m_ild E hb hS hg dX6_beingTold_173 ?_
          refine lv_iload E.1 hb dX6_beingTold_174 (lv_at hl 0 rfl) ?_
          obtain ⟨σ22, hg, hw, hf⟩ := st_s hf
          refine m_ist E hb hS hg hw dX6_beingTold_176 (fun H locs hS => ?_)
          refine lv_aload_n E.1 hb dX6_beingTold_177 rfl (lv_at hl 3 rfl) ?_
          refine m_gA (k := 41) E hb hS 2 rfl (by decide) fl_41 dX6_beingTold_178 ?_
          refine lv_iconst (v := 0) E.1 hb dX6_beingTold_181 rfl ?_
          refine lv_dup2_11 E.1 hb dX6_beingTold_182 rfl rfl ?_
          obtain ⟨hg, hf⟩ := ld_s hf
          refine m_ild E hb hS hg dX6_beingTold_183 ?_
          refine lv_iconst (v := 1) E.1 hb dX6_beingTold_184 rfl ?_
          refine lv_iadd E.1 hb dX6_beingTold_185 ?_
          obtain ⟨σ24, hg, hw, hf⟩ := st_s hf
          refine m_ist E hb hS hg hw dX6_beingTold_186 (fun H locs hS => ?_)
          exact m_vr E hb hr hlk hS hf dX6_beingTold_187
        · have hf := if_s hc hf
          exact m_vr E hb hr hlk hS hf dX6_beingTold_119
      · have hf := if_s hc hf
        refine lv_aload_n E.1 hb dX6_beingTold_31 rfl (lv_at hl 0 rfl) ?_
        refine m_gI (k := 5) E hb hS rfl fl_5 dX6_beingTold_32 ?_
        refine lv_if_ne (tgt := 59) E.1 hb dX6_beingTold_35 (by decide) (fun hc => ?_) (fun hc => ?_)
        · have hf := if_s hc hf
          exact hB59 k20 hk20 σ x2 x4 hf _ _ hS _ (lv_sub hl [0, 1, 2] rfl)
        · have hf := it_s hc hf
          refine lv_aload_n E.1 hb dX6_beingTold_38 rfl (lv_at hl 0 rfl) ?_
          refine m_gA (k := 42) E hb hS 3 rfl (by decide) fl_42 dX6_beingTold_39 ?_
          refine lv_iload E.1 hb dX6_beingTold_42 (lv_at hl 2 rfl) ?_
          obtain ⟨hg, hf⟩ := ldL_s hf
          refine m_lld E hb hS hg dX6_beingTold_44 ?_
          refine lv_lload_n E.1 hb dX6_beingTold_45 rfl (lv_at hl 1 rfl) ?_
          refine lv_lc_ne (tgt := 59) E.1 hb dX6_beingTold_46 dX6_beingTold_47 (by decide) (fun hc => ?_) (fun hc => ?_)
          · have hf := if_s hc hf
            exact hB59 k20 hk20 σ x2 x4 hf _ _ hS _ (lv_sub hl [0, 1, 2] rfl)
          · have hf := it_s hc hf
            refine lv_aload_n E.1 hb dX6_beingTold_50 rfl (lv_at hl 0 rfl) ?_
            refine lv_iconst (v := 3) E.1 hb dX6_beingTold_51 rfl ?_
            refine lv_aload_n E.1 hb dX6_beingTold_52 rfl (lv_at hl 0 rfl) ?_
            refine m_gI (k := 39) E hb hS rfl fl_39 dX6_beingTold_53 ?_
            obtain ⟨_, σ26, h1, hf⟩ := bd_s hf
            refine m_cVv E hb hml hl.1 hS (cmf_fail h1) gw_fail gn_fail rfl rfl (Nat.le_of_ble_eq_true rfl) ⟨Nat.le_of_ble_eq_true rfl, Nat.le_of_ble_eq_true rfl⟩ ⟨Nat.le_refl 0, Nat.le_refl 0⟩ dX6_beingTold_56 (fun H locs hS => ?_)
            exact hB59 k20 hk20 σ26 x2 x4 hf _ _ hS _ (lv_sub hl [0, 1, 2] rfl)
  unfold M_beingTold at hf
  refine lv_aload_n E.1 hb dX6_beingTold_0 rfl (lv_at hl 0 rfl) ?_
  refine lv_iconst (v := 0) E.1 hb dX6_beingTold_1 rfl ?_
  refine lv_bipush (v := 8) E.1 hb dX6_beingTold_2 rfl ?_
  refine lv_iload_n E.1 hb dX6_beingTold_4 rfl (lv_at hl 1 rfl) ?_
  obtain ⟨r1, σ2, h1, hf⟩ := bd_s hf
  refine m_cVi E hb hml hl.1 hS (cmf_isFull h1) gw_isFull gn_isFull rfl rfl (Nat.le_of_ble_eq_true rfl) ⟨Nat.le_of_ble_eq_true rfl, Nat.le_of_ble_eq_true rfl⟩ ⟨Nat.le_refl 0, Nat.le_refl 0⟩ dX6_beingTold_5 (fun H locs hS => ?_)
  refine lv_if_eq (tgt := 12) E.1 hb dX6_beingTold_8 (by decide) (fun hc => ?_) (fun hc => ?_)
  · have hf := it_s hc hf
    refine lv_aload_n E.1 hb dX6_beingTold_12 rfl (lv_at hl 0 rfl) ?_
    obtain ⟨r3, σ4, h1, hf⟩ := bd_s hf
    refine m_cVl E hb hml hl.1 hS (cmf_name h1) gw_name gn_name rfl rfl (Nat.le_of_ble_eq_true rfl) ⟨Nat.le_of_ble_eq_true rfl, Nat.le_of_ble_eq_true rfl⟩ ⟨Nat.le_refl 0, Nat.le_refl 0⟩ dX6_beingTold_13 (fun H locs hS => ?_)
    refine lv_lstore_n (lv' := [(2, .long r3), (0, .ref o), (1, .int x1)]) E.1 hb dX6_beingTold_16 rfl hl (by decide) rfl (fun ls hl => ?_)
    refine lv_iconst (v := 0) E.1 hb dX6_beingTold_17 rfl ?_
    refine lv_istore (lv' := [(4, .int 0), (2, .long r3), (0, .ref o), (1, .int x1)]) E.1 hb dX6_beingTold_18 hl (by decide) rfl (fun ls hl => ?_)
    exact hL20 N σ4 r3 0 hf _ _ hS _ (lv_sub hl [2, 1, 0] rfl)
  · have hf := if_s hc hf
    exact m_vr E hb hr hlk hS hf dX6_beingTold_11
/-! qOpens(II)V: RW -/
noncomputable def M_qOpens (σ : mSt) (x1 : Int32) (x2 : Int32) : Option (Unit × mSt) :=
  if (σ.1 5 0) = 0 then (if (σ.1 98 0) = 6 then (bd (M_fail σ 4 x2) fun _ σ4 => some ((), σ4)) else (lt2 (mUI σ 98 0 ((σ.1 98 0) + 1)) fun σ1 => bo (stI 2 σ1 96 (σ1.1 97 0) x1) fun σ2 => lt2 (mUI σ2 97 0 ((σ2.1 97 0) + 1)) fun σ3 => some ((), σ3))) else (some ((), σ))
theorem gw_qOpens : GoodIn lw_all (wsV RX6 596 RX6 yX6_qOpens (ws_ yX6_qOpens cX6_qOpens 3 none)) := lw_V q2111 q2113 qs82 q164 q2114
theorem gn_qOpens : yX6_qOpens.cls = RX6 ∧ yX6_qOpens.cls ≠ "java/lang/invoke/MethodHandle" ∧ yX6_qOpens.cls ≠ "java/lang/invoke/VarHandle" ∧ (parseMethodDescriptor yX6_qOpens.desc).map (fun d => d.parameters.length) = some 2 := by decide +kernel
abbrev rM_qOpens : Room := { frames := 1, cells := 0, slots := 0, locals := 22 }
set_option maxHeartbeats 4000000 in
theorem cmf_qOpens {l : Launch} {dC : Nat → ClassId} {dI : Nat → Nat → Nat} {ac : Nat → ClassId} {o : Nat} {ad : Nat → Nat} {σ : mSt} {x1 : Int32} {x2 : Int32} {σ' : mSt} (hf : M_qOpens σ x1 x2 = some ((), σ')) : Met l yX6_qOpens (ws_ yX6_qOpens cX6_qOpens 3 none) { frames := 1, cells := 0, slots := 0, locals := 22 } (va_Pc [.ref o, .int x1, .int x2] (mPre dC dI ac o ad σ)) (mQv dC dI ac o ad σ') 0 0 (mF o ad) := by
  refine m_of (by decide) rfl (Nat.le_of_ble_eq_true rfl) ?_
  intro p e s m args below meth c E hb hr hlk hml hS ls hl
  have hl : lv_has ls 3 [(0, .ref o), (1, .int x1), (2, .int x2)] := hl
  unfold M_qOpens at hf
  refine lv_aload_n E.1 hb dX6_qOpens_0 rfl (lv_at hl 0 rfl) ?_
  refine m_gI (k := 5) E hb hS rfl fl_5 dX6_qOpens_1 ?_
  refine lv_if_eq (tgt := 8) E.1 hb dX6_qOpens_4 (by decide) (fun hc => ?_) (fun hc => ?_)
  · have hf := it_s hc hf
    refine lv_aload_n E.1 hb dX6_qOpens_8 rfl (lv_at hl 0 rfl) ?_
    refine m_gI (k := 98) E hb hS rfl fl_98 dX6_qOpens_9 ?_
    refine lv_bipush (v := 6) E.1 hb dX6_qOpens_12 rfl ?_
    refine lv_icmp_ne (tgt := 24) E.1 hb dX6_qOpens_14 (by decide) (fun hc => ?_) (fun hc => ?_)
    · have hf := if_s hc hf
      refine lv_aload_n E.1 hb dX6_qOpens_24 rfl (lv_at hl 0 rfl) ?_
      refine lv_dup E.1 hb dX6_qOpens_25 rfl ?_
      refine m_gI (k := 98) E hb hS rfl fl_98 dX6_qOpens_26 ?_
      refine lv_iconst (v := 1) E.1 hb dX6_qOpens_29 rfl ?_
      refine lv_iadd E.1 hb dX6_qOpens_30 ?_
      obtain ⟨σ1, hw, hf⟩ := lt2_s hf
      refine m_pI (k := 98) E hb hS rfl rfl pf_98 fl_98 hw dX6_qOpens_31 (fun H locs hS => ?_)
      refine lv_aload_n E.1 hb dX6_qOpens_34 rfl (lv_at hl 0 rfl) ?_
      refine m_gA (k := 96) E hb hS 2 rfl (by decide) fl_96 dX6_qOpens_35 ?_
      refine lv_aload_n E.1 hb dX6_qOpens_38 rfl (lv_at hl 0 rfl) ?_
      refine m_gI (k := 97) E hb hS rfl fl_97 dX6_qOpens_39 ?_
      refine lv_iload_n E.1 hb dX6_qOpens_42 rfl (lv_at hl 1 rfl) ?_
      obtain ⟨σ2, hg, hw, hf⟩ := st_s hf
      refine m_ist E hb hS hg hw dX6_qOpens_43 (fun H locs hS => ?_)
      refine lv_aload_n E.1 hb dX6_qOpens_44 rfl (lv_at hl 0 rfl) ?_
      refine lv_dup E.1 hb dX6_qOpens_45 rfl ?_
      refine m_gI (k := 97) E hb hS rfl fl_97 dX6_qOpens_46 ?_
      refine lv_iconst (v := 1) E.1 hb dX6_qOpens_49 rfl ?_
      refine lv_iadd E.1 hb dX6_qOpens_50 ?_
      obtain ⟨σ3, hw, hf⟩ := lt2_s hf
      refine m_pI (k := 97) E hb hS rfl rfl pf_97 fl_97 hw dX6_qOpens_51 (fun H locs hS => ?_)
      exact m_vr E hb hr hlk hS hf dX6_qOpens_54
    · have hf := it_s hc hf
      refine lv_aload_n E.1 hb dX6_qOpens_17 rfl (lv_at hl 0 rfl) ?_
      refine lv_iconst (v := 4) E.1 hb dX6_qOpens_18 rfl ?_
      refine lv_iload_n E.1 hb dX6_qOpens_19 rfl (lv_at hl 2 rfl) ?_
      obtain ⟨_, σ4, h1, hf⟩ := bd_s hf
      refine m_cVv E hb hml hl.1 hS (cmf_fail h1) gw_fail gn_fail rfl rfl (Nat.le_of_ble_eq_true rfl) ⟨Nat.le_of_ble_eq_true rfl, Nat.le_of_ble_eq_true rfl⟩ ⟨Nat.le_refl 0, Nat.le_refl 0⟩ dX6_qOpens_20 (fun H locs hS => ?_)
      exact m_vr E hb hr hlk hS hf dX6_qOpens_23
  · have hf := if_s hc hf
    exact m_vr E hb hr hlk hS hf dX6_qOpens_7
/-! qCode(I)V: RW -/
noncomputable def M_qCode (σ : mSt) (x1 : Int32) : Option (Unit × mSt) :=
  bo (stI 2 σ 94 (σ.1 95 0) x1) fun σ1 => lt2 (mUI σ1 95 0 ((σ1.1 95 0) + 1)) fun σ2 => some ((), σ2)
theorem gw_qCode : GoodIn lw_all (wsV RX6 578 RX6 yX6_qCode (ws_ yX6_qCode cX6_qCode 2 none)) := lw_V q2119 q2121 qs84 q164 q2122
theorem gn_qCode : yX6_qCode.cls = RX6 ∧ yX6_qCode.cls ≠ "java/lang/invoke/MethodHandle" ∧ yX6_qCode.cls ≠ "java/lang/invoke/VarHandle" ∧ (parseMethodDescriptor yX6_qCode.desc).map (fun d => d.parameters.length) = some 1 := by decide +kernel
abbrev rM_qCode : Room := { frames := 0, cells := 0, slots := 0, locals := 0 }
set_option maxHeartbeats 4000000 in
theorem cmf_qCode {l : Launch} {dC : Nat → ClassId} {dI : Nat → Nat → Nat} {ac : Nat → ClassId} {o : Nat} {ad : Nat → Nat} {σ : mSt} {x1 : Int32} {σ' : mSt} (hf : M_qCode σ x1 = some ((), σ')) : Met l yX6_qCode (ws_ yX6_qCode cX6_qCode 2 none) { frames := 0, cells := 0, slots := 0, locals := 0 } (va_Pc [.ref o, .int x1] (mPre dC dI ac o ad σ)) (mQv dC dI ac o ad σ') 0 0 (mF o ad) := by
  refine m_of (by decide) rfl (Nat.le_of_ble_eq_true rfl) ?_
  intro p e s m args below meth c E hb hr hlk hml hS ls hl
  have hl : lv_has ls 2 [(0, .ref o), (1, .int x1)] := hl
  unfold M_qCode at hf
  refine lv_aload_n E.1 hb dX6_qCode_0 rfl (lv_at hl 0 rfl) ?_
  refine m_gA (k := 94) E hb hS 2 rfl (by decide) fl_94 dX6_qCode_1 ?_
  refine lv_aload_n E.1 hb dX6_qCode_4 rfl (lv_at hl 0 rfl) ?_
  refine m_gI (k := 95) E hb hS rfl fl_95 dX6_qCode_5 ?_
  refine lv_iload_n E.1 hb dX6_qCode_8 rfl (lv_at hl 1 rfl) ?_
  obtain ⟨σ1, hg, hw, hf⟩ := st_s hf
  refine m_ist E hb hS hg hw dX6_qCode_9 (fun H locs hS => ?_)
  refine lv_aload_n E.1 hb dX6_qCode_10 rfl (lv_at hl 0 rfl) ?_
  refine lv_dup E.1 hb dX6_qCode_11 rfl ?_
  refine m_gI (k := 95) E hb hS rfl fl_95 dX6_qCode_12 ?_
  refine lv_iconst (v := 1) E.1 hb dX6_qCode_15 rfl ?_
  refine lv_iadd E.1 hb dX6_qCode_16 ?_
  obtain ⟨σ2, hw, hf⟩ := lt2_s hf
  refine m_pI (k := 95) E hb hS rfl rfl pf_95 fl_95 hw dX6_qCode_17 (fun H locs hS => ?_)
  exact m_vr E hb hr hlk hS hf dX6_qCode_20
/-! qWordHere()I: RW -/
noncomputable def M_qWordHere (N : Nat) (σ : mSt) : Option (Int32 × mSt) :=
  bd (M_isHere N σ 84) fun r1 σ2 => if r1 = 0 then (bd (M_isHere N σ2 85) fun r3 σ4 => if r3 = 0 then (bd (M_isHere N σ4 86) fun r5 σ6 => if r5 = 0 then (bd (M_isHere N σ6 87) fun r7 σ8 => if r7 = 0 then (bd (M_isHere N σ8 88) fun r9 σ10 => if r9 = 0 then (bd (M_isHere N σ10 89) fun r11 σ12 => if r11 = 0 then (bd (M_isHere N σ12 90) fun r13 σ14 => if r13 = 0 then (bd (M_isHere N σ14 91) fun r15 σ16 => if r15 = 0 then (bd (M_isHere N σ16 92) fun r17 σ18 => if r17 = 0 then (bd (M_isHere N σ18 93) fun r19 σ20 => if r19 = 0 then (some ((-1), σ20)) else (some (9, σ20))) else (some (8, σ18))) else (some (7, σ16))) else (some (6, σ14))) else (some (5, σ12))) else (some (4, σ10))) else (some (3, σ8))) else (some (2, σ6))) else (some (1, σ4))) else (some (0, σ2))
theorem gw_qWordHere : GoodIn lw_all (wsV RX6 587 RX6 yX6_qWordHere (ws_ yX6_qWordHere cX6_qWordHere 1 (some .int))) := lw_V q2135 q2137 qs88 q164 q2138
theorem gn_qWordHere : yX6_qWordHere.cls = RX6 ∧ yX6_qWordHere.cls ≠ "java/lang/invoke/MethodHandle" ∧ yX6_qWordHere.cls ≠ "java/lang/invoke/VarHandle" ∧ (parseMethodDescriptor yX6_qWordHere.desc).map (fun d => d.parameters.length) = some 0 := by decide +kernel
abbrev rM_qWordHere : Room := { frames := 2, cells := 0, slots := 0, locals := 43 }
set_option maxHeartbeats 4000000 in
theorem cmf_qWordHere {l : Launch} {dC : Nat → ClassId} {dI : Nat → Nat → Nat} {ac : Nat → ClassId} {o : Nat} {ad : Nat → Nat} {N : Nat} {σ : mSt} {r : Int32} {σ' : mSt} (hf : M_qWordHere N σ = some (r, σ')) : Met l yX6_qWordHere (ws_ yX6_qWordHere cX6_qWordHere 1 (some .int)) { frames := 2, cells := 0, slots := 0, locals := 43 } (va_Pc [.ref o] (mPre dC dI ac o ad σ)) (mQi dC dI ac o ad r σ') 0 0 (mF o ad) := by
  refine m_of (by decide) rfl (Nat.le_of_ble_eq_true rfl) ?_
  intro p e s m args below meth c E hb hr hlk hml hS ls hl
  have hl : lv_has ls 1 [(0, .ref o)] := hl
  unfold M_qWordHere at hf
  refine lv_aload_n E.1 hb dX6_qWordHere_0 rfl (lv_at hl 0 rfl) ?_
  refine lv_aload_n E.1 hb dX6_qWordHere_1 rfl (lv_at hl 0 rfl) ?_
  refine m_gA (k := 84) E hb hS 4 rfl (by decide) fl_84 dX6_qWordHere_2 ?_
  obtain ⟨r1, σ2, h1, hf⟩ := bd_s hf
  refine m_cVi E hb hml hl.1 hS (cmf_isHere h1) gw_isHere gn_isHere rfl rfl (Nat.le_of_ble_eq_true rfl) ⟨Nat.le_of_ble_eq_true rfl, Nat.le_of_ble_eq_true rfl⟩ ⟨Nat.le_refl 0, Nat.le_refl 0⟩ dX6_qWordHere_5 (fun H locs hS => ?_)
  refine lv_if_eq (tgt := 13) E.1 hb dX6_qWordHere_8 (by decide) (fun hc => ?_) (fun hc => ?_)
  · have hf := it_s hc hf
    refine lv_aload_n E.1 hb dX6_qWordHere_13 rfl (lv_at hl 0 rfl) ?_
    refine lv_aload_n E.1 hb dX6_qWordHere_14 rfl (lv_at hl 0 rfl) ?_
    refine m_gA (k := 85) E hb hS 4 rfl (by decide) fl_85 dX6_qWordHere_15 ?_
    obtain ⟨r3, σ4, h1, hf⟩ := bd_s hf
    refine m_cVi E hb hml hl.1 hS (cmf_isHere h1) gw_isHere gn_isHere rfl rfl (Nat.le_of_ble_eq_true rfl) ⟨Nat.le_of_ble_eq_true rfl, Nat.le_of_ble_eq_true rfl⟩ ⟨Nat.le_refl 0, Nat.le_refl 0⟩ dX6_qWordHere_18 (fun H locs hS => ?_)
    refine lv_if_eq (tgt := 26) E.1 hb dX6_qWordHere_21 (by decide) (fun hc => ?_) (fun hc => ?_)
    · have hf := it_s hc hf
      refine lv_aload_n E.1 hb dX6_qWordHere_26 rfl (lv_at hl 0 rfl) ?_
      refine lv_aload_n E.1 hb dX6_qWordHere_27 rfl (lv_at hl 0 rfl) ?_
      refine m_gA (k := 86) E hb hS 4 rfl (by decide) fl_86 dX6_qWordHere_28 ?_
      obtain ⟨r5, σ6, h1, hf⟩ := bd_s hf
      refine m_cVi E hb hml hl.1 hS (cmf_isHere h1) gw_isHere gn_isHere rfl rfl (Nat.le_of_ble_eq_true rfl) ⟨Nat.le_of_ble_eq_true rfl, Nat.le_of_ble_eq_true rfl⟩ ⟨Nat.le_refl 0, Nat.le_refl 0⟩ dX6_qWordHere_31 (fun H locs hS => ?_)
      refine lv_if_eq (tgt := 39) E.1 hb dX6_qWordHere_34 (by decide) (fun hc => ?_) (fun hc => ?_)
      · have hf := it_s hc hf
        refine lv_aload_n E.1 hb dX6_qWordHere_39 rfl (lv_at hl 0 rfl) ?_
        refine lv_aload_n E.1 hb dX6_qWordHere_40 rfl (lv_at hl 0 rfl) ?_
        refine m_gA (k := 87) E hb hS 4 rfl (by decide) fl_87 dX6_qWordHere_41 ?_
        obtain ⟨r7, σ8, h1, hf⟩ := bd_s hf
        refine m_cVi E hb hml hl.1 hS (cmf_isHere h1) gw_isHere gn_isHere rfl rfl (Nat.le_of_ble_eq_true rfl) ⟨Nat.le_of_ble_eq_true rfl, Nat.le_of_ble_eq_true rfl⟩ ⟨Nat.le_refl 0, Nat.le_refl 0⟩ dX6_qWordHere_44 (fun H locs hS => ?_)
        refine lv_if_eq (tgt := 52) E.1 hb dX6_qWordHere_47 (by decide) (fun hc => ?_) (fun hc => ?_)
        · have hf := it_s hc hf
          refine lv_aload_n E.1 hb dX6_qWordHere_52 rfl (lv_at hl 0 rfl) ?_
          refine lv_aload_n E.1 hb dX6_qWordHere_53 rfl (lv_at hl 0 rfl) ?_
          refine m_gA (k := 88) E hb hS 4 rfl (by decide) fl_88 dX6_qWordHere_54 ?_
          obtain ⟨r9, σ10, h1, hf⟩ := bd_s hf
          refine m_cVi E hb hml hl.1 hS (cmf_isHere h1) gw_isHere gn_isHere rfl rfl (Nat.le_of_ble_eq_true rfl) ⟨Nat.le_of_ble_eq_true rfl, Nat.le_of_ble_eq_true rfl⟩ ⟨Nat.le_refl 0, Nat.le_refl 0⟩ dX6_qWordHere_57 (fun H locs hS => ?_)
          refine lv_if_eq (tgt := 65) E.1 hb dX6_qWordHere_60 (by decide) (fun hc => ?_) (fun hc => ?_)
          · have hf := it_s hc hf
            refine lv_aload_n E.1 hb dX6_qWordHere_65 rfl (lv_at hl 0 rfl) ?_
            refine lv_aload_n E.1 hb dX6_qWordHere_66 rfl (lv_at hl 0 rfl) ?_
            refine m_gA (k := 89) E hb hS 4 rfl (by decide) fl_89 dX6_qWordHere_67 ?_
            obtain ⟨r11, σ12, h1, hf⟩ := bd_s hf
            refine m_cVi E hb hml hl.1 hS (cmf_isHere h1) gw_isHere gn_isHere rfl rfl (Nat.le_of_ble_eq_true rfl) ⟨Nat.le_of_ble_eq_true rfl, Nat.le_of_ble_eq_true rfl⟩ ⟨Nat.le_refl 0, Nat.le_refl 0⟩ dX6_qWordHere_70 (fun H locs hS => ?_)
            refine lv_if_eq (tgt := 78) E.1 hb dX6_qWordHere_73 (by decide) (fun hc => ?_) (fun hc => ?_)
            · have hf := it_s hc hf
              refine lv_aload_n E.1 hb dX6_qWordHere_78 rfl (lv_at hl 0 rfl) ?_
              refine lv_aload_n E.1 hb dX6_qWordHere_79 rfl (lv_at hl 0 rfl) ?_
              refine m_gA (k := 90) E hb hS 4 rfl (by decide) fl_90 dX6_qWordHere_80 ?_
              obtain ⟨r13, σ14, h1, hf⟩ := bd_s hf
              refine m_cVi E hb hml hl.1 hS (cmf_isHere h1) gw_isHere gn_isHere rfl rfl (Nat.le_of_ble_eq_true rfl) ⟨Nat.le_of_ble_eq_true rfl, Nat.le_of_ble_eq_true rfl⟩ ⟨Nat.le_refl 0, Nat.le_refl 0⟩ dX6_qWordHere_83 (fun H locs hS => ?_)
              refine lv_if_eq (tgt := 92) E.1 hb dX6_qWordHere_86 (by decide) (fun hc => ?_) (fun hc => ?_)
              · have hf := it_s hc hf
                refine lv_aload_n E.1 hb dX6_qWordHere_92 rfl (lv_at hl 0 rfl) ?_
                refine lv_aload_n E.1 hb dX6_qWordHere_93 rfl (lv_at hl 0 rfl) ?_
                refine m_gA (k := 91) E hb hS 4 rfl (by decide) fl_91 dX6_qWordHere_94 ?_
                obtain ⟨r15, σ16, h1, hf⟩ := bd_s hf
                refine m_cVi E hb hml hl.1 hS (cmf_isHere h1) gw_isHere gn_isHere rfl rfl (Nat.le_of_ble_eq_true rfl) ⟨Nat.le_of_ble_eq_true rfl, Nat.le_of_ble_eq_true rfl⟩ ⟨Nat.le_refl 0, Nat.le_refl 0⟩ dX6_qWordHere_97 (fun H locs hS => ?_)
                refine lv_if_eq (tgt := 106) E.1 hb dX6_qWordHere_100 (by decide) (fun hc => ?_) (fun hc => ?_)
                · have hf := it_s hc hf
                  refine lv_aload_n E.1 hb dX6_qWordHere_106 rfl (lv_at hl 0 rfl) ?_
                  refine lv_aload_n E.1 hb dX6_qWordHere_107 rfl (lv_at hl 0 rfl) ?_
                  refine m_gA (k := 92) E hb hS 4 rfl (by decide) fl_92 dX6_qWordHere_108 ?_
                  obtain ⟨r17, σ18, h1, hf⟩ := bd_s hf
                  refine m_cVi E hb hml hl.1 hS (cmf_isHere h1) gw_isHere gn_isHere rfl rfl (Nat.le_of_ble_eq_true rfl) ⟨Nat.le_of_ble_eq_true rfl, Nat.le_of_ble_eq_true rfl⟩ ⟨Nat.le_refl 0, Nat.le_refl 0⟩ dX6_qWordHere_111 (fun H locs hS => ?_)
                  refine lv_if_eq (tgt := 120) E.1 hb dX6_qWordHere_114 (by decide) (fun hc => ?_) (fun hc => ?_)
                  · have hf := it_s hc hf
                    refine lv_aload_n E.1 hb dX6_qWordHere_120 rfl (lv_at hl 0 rfl) ?_
                    refine lv_aload_n E.1 hb dX6_qWordHere_121 rfl (lv_at hl 0 rfl) ?_
                    refine m_gA (k := 93) E hb hS 4 rfl (by decide) fl_93 dX6_qWordHere_122 ?_
                    obtain ⟨r19, σ20, h1, hf⟩ := bd_s hf
                    refine m_cVi E hb hml hl.1 hS (cmf_isHere h1) gw_isHere gn_isHere rfl rfl (Nat.le_of_ble_eq_true rfl) ⟨Nat.le_of_ble_eq_true rfl, Nat.le_of_ble_eq_true rfl⟩ ⟨Nat.le_refl 0, Nat.le_refl 0⟩ dX6_qWordHere_125 (fun H locs hS => ?_)
                    refine lv_if_eq (tgt := 134) E.1 hb dX6_qWordHere_128 (by decide) (fun hc => ?_) (fun hc => ?_)
                    · have hf := it_s hc hf
                      refine lv_iconst (v := (-1)) E.1 hb dX6_qWordHere_134 rfl ?_
                      exact m_ir E hb hr hlk hS hf dX6_qWordHere_135
                    · have hf := if_s hc hf
                      refine lv_bipush (v := 9) E.1 hb dX6_qWordHere_131 rfl ?_
                      exact m_ir E hb hr hlk hS hf dX6_qWordHere_133
                  · have hf := if_s hc hf
                    refine lv_bipush (v := 8) E.1 hb dX6_qWordHere_117 rfl ?_
                    exact m_ir E hb hr hlk hS hf dX6_qWordHere_119
                · have hf := if_s hc hf
                  refine lv_bipush (v := 7) E.1 hb dX6_qWordHere_103 rfl ?_
                  exact m_ir E hb hr hlk hS hf dX6_qWordHere_105
              · have hf := if_s hc hf
                refine lv_bipush (v := 6) E.1 hb dX6_qWordHere_89 rfl ?_
                exact m_ir E hb hr hlk hS hf dX6_qWordHere_91
            · have hf := if_s hc hf
              refine lv_iconst (v := 5) E.1 hb dX6_qWordHere_76 rfl ?_
              exact m_ir E hb hr hlk hS hf dX6_qWordHere_77
          · have hf := if_s hc hf
            refine lv_iconst (v := 4) E.1 hb dX6_qWordHere_63 rfl ?_
            exact m_ir E hb hr hlk hS hf dX6_qWordHere_64
        · have hf := if_s hc hf
          refine lv_iconst (v := 3) E.1 hb dX6_qWordHere_50 rfl ?_
          exact m_ir E hb hr hlk hS hf dX6_qWordHere_51
      · have hf := if_s hc hf
        refine lv_iconst (v := 2) E.1 hb dX6_qWordHere_37 rfl ?_
        exact m_ir E hb hr hlk hS hf dX6_qWordHere_38
    · have hf := if_s hc hf
      refine lv_iconst (v := 1) E.1 hb dX6_qWordHere_24 rfl ?_
      exact m_ir E hb hr hlk hS hf dX6_qWordHere_25
  · have hf := if_s hc hf
    refine lv_iconst (v := 0) E.1 hb dX6_qWordHere_11 rfl ?_
    exact m_ir E hb hr hlk hS hf dX6_qWordHere_12
/-! qWordOf(II)I: RW -/
noncomputable def M_qWordOf (N : Nat) (σ : mSt) (x1 : Int32) (x2 : Int32) : Option (Int32 × mSt) :=
  bd (M_qWordHere N σ) fun r1 σ2 => if r1 < x1 then (some ((-1), σ2)) else (if x2 ≤ r1 then (some ((-1), σ2)) else (bo (M_isAllowed σ2 r1) fun r3 => if r3 = 0 then (some ((-1), σ2)) else (some (r1, σ2))))
theorem gw_qWordOf : GoodIn lw_all (wsV RX6 593 RX6 yX6_qWordOf (ws_ yX6_qWordOf cX6_qWordOf 4 (some .int))) := lw_V q2131 q2133 qs87 q164 q2134
theorem gn_qWordOf : yX6_qWordOf.cls = RX6 ∧ yX6_qWordOf.cls ≠ "java/lang/invoke/MethodHandle" ∧ yX6_qWordOf.cls ≠ "java/lang/invoke/VarHandle" ∧ (parseMethodDescriptor yX6_qWordOf.desc).map (fun d => d.parameters.length) = some 2 := by decide +kernel
abbrev rM_qWordOf : Room := { frames := 3, cells := 0, slots := 0, locals := 63 }
set_option maxHeartbeats 4000000 in
theorem cmf_qWordOf {l : Launch} {dC : Nat → ClassId} {dI : Nat → Nat → Nat} {ac : Nat → ClassId} {o : Nat} {ad : Nat → Nat} {N : Nat} {σ : mSt} {x1 : Int32} {x2 : Int32} {r : Int32} {σ' : mSt} (hf : M_qWordOf N σ x1 x2 = some (r, σ')) : Met l yX6_qWordOf (ws_ yX6_qWordOf cX6_qWordOf 4 (some .int)) { frames := 3, cells := 0, slots := 0, locals := 63 } (va_Pc [.ref o, .int x1, .int x2] (mPre dC dI ac o ad σ)) (mQi dC dI ac o ad r σ') 0 0 (mF o ad) := by
  refine m_of (by decide) rfl (Nat.le_of_ble_eq_true rfl) ?_
  intro p e s m args below meth c E hb hr hlk hml hS ls hl
  have hl : lv_has ls 4 [(0, .ref o), (1, .int x1), (2, .int x2)] := hl
  unfold M_qWordOf at hf
  refine lv_aload_n E.1 hb dX6_qWordOf_0 rfl (lv_at hl 0 rfl) ?_
  obtain ⟨r1, σ2, h1, hf⟩ := bd_s hf
  refine m_cVi E hb hml hl.1 hS (cmf_qWordHere h1) gw_qWordHere gn_qWordHere rfl rfl (Nat.le_of_ble_eq_true rfl) ⟨Nat.le_of_ble_eq_true rfl, Nat.le_of_ble_eq_true rfl⟩ ⟨Nat.le_refl 0, Nat.le_refl 0⟩ dX6_qWordOf_1 (fun H locs hS => ?_)
  refine lv_istore_n (lv' := [(3, .int r1), (0, .ref o), (1, .int x1), (2, .int x2)]) E.1 hb dX6_qWordOf_4 rfl hl (by decide) rfl (fun ls hl => ?_)
  refine lv_iload_n E.1 hb dX6_qWordOf_5 rfl (lv_at hl 0 rfl) ?_
  refine lv_iload_n E.1 hb dX6_qWordOf_6 rfl (lv_at hl 2 rfl) ?_
  refine lv_icmp_lt (tgt := 27) E.1 hb dX6_qWordOf_7 (by decide) (fun hc => ?_) (fun hc => ?_)
  · have hf := it_s hc hf
    refine lv_iconst (v := (-1)) E.1 hb dX6_qWordOf_27 rfl ?_
    exact m_ir E hb hr hlk hS hf dX6_qWordOf_28
  · have hf := if_s hc hf
    refine lv_iload_n E.1 hb dX6_qWordOf_10 rfl (lv_at hl 0 rfl) ?_
    refine lv_iload_n E.1 hb dX6_qWordOf_11 rfl (lv_at hl 3 rfl) ?_
    refine lv_icmp_ge (tgt := 27) E.1 hb dX6_qWordOf_12 (by decide) (fun hc => ?_) (fun hc => ?_)
    · have hf := it_s hc hf
      refine lv_iconst (v := (-1)) E.1 hb dX6_qWordOf_27 rfl ?_
      exact m_ir E hb hr hlk hS hf dX6_qWordOf_28
    · have hf := if_s hc hf
      refine lv_aload_n E.1 hb dX6_qWordOf_15 rfl (lv_at hl 1 rfl) ?_
      refine lv_iload_n E.1 hb dX6_qWordOf_16 rfl (lv_at hl 0 rfl) ?_
      obtain ⟨r3, h1, hf⟩ := bo_s hf
      refine m_cVi E hb hml hl.1 hS (cmf_isAllowed h1) gw_isAllowed gn_isAllowed rfl rfl (Nat.le_of_ble_eq_true rfl) ⟨Nat.le_of_ble_eq_true rfl, Nat.le_of_ble_eq_true rfl⟩ ⟨Nat.le_refl 0, Nat.le_refl 0⟩ dX6_qWordOf_17 (fun H locs hS => ?_)
      refine lv_if_eq (tgt := 27) E.1 hb dX6_qWordOf_20 (by decide) (fun hc => ?_) (fun hc => ?_)
      · have hf := it_s hc hf
        refine lv_iconst (v := (-1)) E.1 hb dX6_qWordOf_27 rfl ?_
        exact m_ir E hb hr hlk hS hf dX6_qWordOf_28
      · have hf := if_s hc hf
        refine lv_iload_n E.1 hb dX6_qWordOf_23 rfl (lv_at hl 0 rfl) ?_
        refine lv_goto (tgt := 28) E.1 hb dX6_qWordOf_24 (by decide) ?_
        exact m_ir E hb hr hlk hS hf dX6_qWordOf_28
/-! qAsksWord(I)V: RW -/
noncomputable def M_qAsksWord (N : Nat) (σ : mSt) (x1 : Int32) : Option (Unit × mSt) :=
  if x1 = 0 then (bd (M_asks N σ 84) fun _ σ1 => some ((), σ1)) else (if x1 = 1 then (bd (M_asks N σ 85) fun _ σ2 => some ((), σ2)) else (if x1 = 2 then (bd (M_asks N σ 86) fun _ σ3 => some ((), σ3)) else (if x1 = 3 then (bd (M_asks N σ 87) fun _ σ4 => some ((), σ4)) else (if x1 = 4 then (bd (M_asks N σ 88) fun _ σ5 => some ((), σ5)) else (if x1 = 5 then (bd (M_asks N σ 89) fun _ σ6 => some ((), σ6)) else (if x1 = 6 then (bd (M_asks N σ 90) fun _ σ7 => some ((), σ7)) else (if x1 = 7 then (bd (M_asks N σ 91) fun _ σ8 => some ((), σ8)) else (if x1 = 8 then (bd (M_asks N σ 92) fun _ σ9 => some ((), σ9)) else (bd (M_asks N σ 93) fun _ σ10 => some ((), σ10))))))))))
theorem gw_qAsksWord : GoodIn lw_all (wsV RX6 599 RX6 yX6_qAsksWord (ws_ yX6_qAsksWord cX6_qAsksWord 2 none)) := lw_V q2143 q2145 qs90 q164 q2146
theorem gn_qAsksWord : yX6_qAsksWord.cls = RX6 ∧ yX6_qAsksWord.cls ≠ "java/lang/invoke/MethodHandle" ∧ yX6_qAsksWord.cls ≠ "java/lang/invoke/VarHandle" ∧ (parseMethodDescriptor yX6_qAsksWord.desc).map (fun d => d.parameters.length) = some 1 := by decide +kernel
abbrev rM_qAsksWord : Room := { frames := 4, cells := 0, slots := 0, locals := 85 }
set_option maxHeartbeats 4000000 in
theorem cmf_qAsksWord {l : Launch} {dC : Nat → ClassId} {dI : Nat → Nat → Nat} {ac : Nat → ClassId} {o : Nat} {ad : Nat → Nat} {N : Nat} {σ : mSt} {x1 : Int32} {σ' : mSt} (hf : M_qAsksWord N σ x1 = some ((), σ')) : Met l yX6_qAsksWord (ws_ yX6_qAsksWord cX6_qAsksWord 2 none) { frames := 4, cells := 0, slots := 0, locals := 85 } (va_Pc [.ref o, .int x1] (mPre dC dI ac o ad σ)) (mQv dC dI ac o ad σ') 0 0 (mF o ad) := by
  refine m_of (by decide) rfl (Nat.le_of_ble_eq_true rfl) ?_
  intro p e s m args below meth c E hb hr hlk hml hS ls hl
  have hl : lv_has ls 2 [(0, .ref o), (1, .int x1)] := hl
  unfold M_qAsksWord at hf
  refine lv_iload_n E.1 hb dX6_qAsksWord_0 rfl (lv_at hl 1 rfl) ?_
  by_cases hc0 : x1 = 0
  · have hf := it_s hc0 hf
    refine lv_tableIn (tgt := 52) E.1 hb dX6_qAsksWord_1 (by rw [hc0]; decide) (by rw [hc0]; decide) (by rw [hc0]; rfl) (by decide) ?_
    refine lv_aload_n E.1 hb dX6_qAsksWord_52 rfl (lv_at hl 0 rfl) ?_
    refine lv_aload_n E.1 hb dX6_qAsksWord_53 rfl (lv_at hl 0 rfl) ?_
    refine m_gA (k := 84) E hb hS 4 rfl (by decide) fl_84 dX6_qAsksWord_54 ?_
    obtain ⟨_, σ1, h1, hf⟩ := bd_s hf
    refine m_cVv E hb hml hl.1 hS (cmf_asks h1) gw_asks gn_asks rfl rfl (Nat.le_of_ble_eq_true rfl) ⟨Nat.le_of_ble_eq_true rfl, Nat.le_of_ble_eq_true rfl⟩ ⟨Nat.le_refl 0, Nat.le_refl 0⟩ dX6_qAsksWord_57 (fun H locs hS => ?_)
    refine lv_goto (tgt := 159) E.1 hb dX6_qAsksWord_60 (by decide) ?_
    exact m_vr E hb hr hlk hS hf dX6_qAsksWord_159
  · have hf := if_s hc0 hf
    by_cases hc1 : x1 = 1
    · have hf := it_s hc1 hf
      refine lv_tableIn (tgt := 63) E.1 hb dX6_qAsksWord_1 (by rw [hc1]; decide) (by rw [hc1]; decide) (by rw [hc1]; rfl) (by decide) ?_
      refine lv_aload_n E.1 hb dX6_qAsksWord_63 rfl (lv_at hl 0 rfl) ?_
      refine lv_aload_n E.1 hb dX6_qAsksWord_64 rfl (lv_at hl 0 rfl) ?_
      refine m_gA (k := 85) E hb hS 4 rfl (by decide) fl_85 dX6_qAsksWord_65 ?_
      obtain ⟨_, σ2, h1, hf⟩ := bd_s hf
      refine m_cVv E hb hml hl.1 hS (cmf_asks h1) gw_asks gn_asks rfl rfl (Nat.le_of_ble_eq_true rfl) ⟨Nat.le_of_ble_eq_true rfl, Nat.le_of_ble_eq_true rfl⟩ ⟨Nat.le_refl 0, Nat.le_refl 0⟩ dX6_qAsksWord_68 (fun H locs hS => ?_)
      refine lv_goto (tgt := 159) E.1 hb dX6_qAsksWord_71 (by decide) ?_
      exact m_vr E hb hr hlk hS hf dX6_qAsksWord_159
    · have hf := if_s hc1 hf
      by_cases hc2 : x1 = 2
      · have hf := it_s hc2 hf
        refine lv_tableIn (tgt := 74) E.1 hb dX6_qAsksWord_1 (by rw [hc2]; decide) (by rw [hc2]; decide) (by rw [hc2]; rfl) (by decide) ?_
        refine lv_aload_n E.1 hb dX6_qAsksWord_74 rfl (lv_at hl 0 rfl) ?_
        refine lv_aload_n E.1 hb dX6_qAsksWord_75 rfl (lv_at hl 0 rfl) ?_
        refine m_gA (k := 86) E hb hS 4 rfl (by decide) fl_86 dX6_qAsksWord_76 ?_
        obtain ⟨_, σ3, h1, hf⟩ := bd_s hf
        refine m_cVv E hb hml hl.1 hS (cmf_asks h1) gw_asks gn_asks rfl rfl (Nat.le_of_ble_eq_true rfl) ⟨Nat.le_of_ble_eq_true rfl, Nat.le_of_ble_eq_true rfl⟩ ⟨Nat.le_refl 0, Nat.le_refl 0⟩ dX6_qAsksWord_79 (fun H locs hS => ?_)
        refine lv_goto (tgt := 159) E.1 hb dX6_qAsksWord_82 (by decide) ?_
        exact m_vr E hb hr hlk hS hf dX6_qAsksWord_159
      · have hf := if_s hc2 hf
        by_cases hc3 : x1 = 3
        · have hf := it_s hc3 hf
          refine lv_tableIn (tgt := 85) E.1 hb dX6_qAsksWord_1 (by rw [hc3]; decide) (by rw [hc3]; decide) (by rw [hc3]; rfl) (by decide) ?_
          refine lv_aload_n E.1 hb dX6_qAsksWord_85 rfl (lv_at hl 0 rfl) ?_
          refine lv_aload_n E.1 hb dX6_qAsksWord_86 rfl (lv_at hl 0 rfl) ?_
          refine m_gA (k := 87) E hb hS 4 rfl (by decide) fl_87 dX6_qAsksWord_87 ?_
          obtain ⟨_, σ4, h1, hf⟩ := bd_s hf
          refine m_cVv E hb hml hl.1 hS (cmf_asks h1) gw_asks gn_asks rfl rfl (Nat.le_of_ble_eq_true rfl) ⟨Nat.le_of_ble_eq_true rfl, Nat.le_of_ble_eq_true rfl⟩ ⟨Nat.le_refl 0, Nat.le_refl 0⟩ dX6_qAsksWord_90 (fun H locs hS => ?_)
          refine lv_goto (tgt := 159) E.1 hb dX6_qAsksWord_93 (by decide) ?_
          exact m_vr E hb hr hlk hS hf dX6_qAsksWord_159
        · have hf := if_s hc3 hf
          by_cases hc4 : x1 = 4
          · have hf := it_s hc4 hf
            refine lv_tableIn (tgt := 96) E.1 hb dX6_qAsksWord_1 (by rw [hc4]; decide) (by rw [hc4]; decide) (by rw [hc4]; rfl) (by decide) ?_
            refine lv_aload_n E.1 hb dX6_qAsksWord_96 rfl (lv_at hl 0 rfl) ?_
            refine lv_aload_n E.1 hb dX6_qAsksWord_97 rfl (lv_at hl 0 rfl) ?_
            refine m_gA (k := 88) E hb hS 4 rfl (by decide) fl_88 dX6_qAsksWord_98 ?_
            obtain ⟨_, σ5, h1, hf⟩ := bd_s hf
            refine m_cVv E hb hml hl.1 hS (cmf_asks h1) gw_asks gn_asks rfl rfl (Nat.le_of_ble_eq_true rfl) ⟨Nat.le_of_ble_eq_true rfl, Nat.le_of_ble_eq_true rfl⟩ ⟨Nat.le_refl 0, Nat.le_refl 0⟩ dX6_qAsksWord_101 (fun H locs hS => ?_)
            refine lv_goto (tgt := 159) E.1 hb dX6_qAsksWord_104 (by decide) ?_
            exact m_vr E hb hr hlk hS hf dX6_qAsksWord_159
          · have hf := if_s hc4 hf
            by_cases hc5 : x1 = 5
            · have hf := it_s hc5 hf
              refine lv_tableIn (tgt := 107) E.1 hb dX6_qAsksWord_1 (by rw [hc5]; decide) (by rw [hc5]; decide) (by rw [hc5]; rfl) (by decide) ?_
              refine lv_aload_n E.1 hb dX6_qAsksWord_107 rfl (lv_at hl 0 rfl) ?_
              refine lv_aload_n E.1 hb dX6_qAsksWord_108 rfl (lv_at hl 0 rfl) ?_
              refine m_gA (k := 89) E hb hS 4 rfl (by decide) fl_89 dX6_qAsksWord_109 ?_
              obtain ⟨_, σ6, h1, hf⟩ := bd_s hf
              refine m_cVv E hb hml hl.1 hS (cmf_asks h1) gw_asks gn_asks rfl rfl (Nat.le_of_ble_eq_true rfl) ⟨Nat.le_of_ble_eq_true rfl, Nat.le_of_ble_eq_true rfl⟩ ⟨Nat.le_refl 0, Nat.le_refl 0⟩ dX6_qAsksWord_112 (fun H locs hS => ?_)
              refine lv_goto (tgt := 159) E.1 hb dX6_qAsksWord_115 (by decide) ?_
              exact m_vr E hb hr hlk hS hf dX6_qAsksWord_159
            · have hf := if_s hc5 hf
              by_cases hc6 : x1 = 6
              · have hf := it_s hc6 hf
                refine lv_tableIn (tgt := 118) E.1 hb dX6_qAsksWord_1 (by rw [hc6]; decide) (by rw [hc6]; decide) (by rw [hc6]; rfl) (by decide) ?_
                refine lv_aload_n E.1 hb dX6_qAsksWord_118 rfl (lv_at hl 0 rfl) ?_
                refine lv_aload_n E.1 hb dX6_qAsksWord_119 rfl (lv_at hl 0 rfl) ?_
                refine m_gA (k := 90) E hb hS 4 rfl (by decide) fl_90 dX6_qAsksWord_120 ?_
                obtain ⟨_, σ7, h1, hf⟩ := bd_s hf
                refine m_cVv E hb hml hl.1 hS (cmf_asks h1) gw_asks gn_asks rfl rfl (Nat.le_of_ble_eq_true rfl) ⟨Nat.le_of_ble_eq_true rfl, Nat.le_of_ble_eq_true rfl⟩ ⟨Nat.le_refl 0, Nat.le_refl 0⟩ dX6_qAsksWord_123 (fun H locs hS => ?_)
                refine lv_goto (tgt := 159) E.1 hb dX6_qAsksWord_126 (by decide) ?_
                exact m_vr E hb hr hlk hS hf dX6_qAsksWord_159
              · have hf := if_s hc6 hf
                by_cases hc7 : x1 = 7
                · have hf := it_s hc7 hf
                  refine lv_tableIn (tgt := 129) E.1 hb dX6_qAsksWord_1 (by rw [hc7]; decide) (by rw [hc7]; decide) (by rw [hc7]; rfl) (by decide) ?_
                  refine lv_aload_n E.1 hb dX6_qAsksWord_129 rfl (lv_at hl 0 rfl) ?_
                  refine lv_aload_n E.1 hb dX6_qAsksWord_130 rfl (lv_at hl 0 rfl) ?_
                  refine m_gA (k := 91) E hb hS 4 rfl (by decide) fl_91 dX6_qAsksWord_131 ?_
                  obtain ⟨_, σ8, h1, hf⟩ := bd_s hf
                  refine m_cVv E hb hml hl.1 hS (cmf_asks h1) gw_asks gn_asks rfl rfl (Nat.le_of_ble_eq_true rfl) ⟨Nat.le_of_ble_eq_true rfl, Nat.le_of_ble_eq_true rfl⟩ ⟨Nat.le_refl 0, Nat.le_refl 0⟩ dX6_qAsksWord_134 (fun H locs hS => ?_)
                  refine lv_goto (tgt := 159) E.1 hb dX6_qAsksWord_137 (by decide) ?_
                  exact m_vr E hb hr hlk hS hf dX6_qAsksWord_159
                · have hf := if_s hc7 hf
                  by_cases hc8 : x1 = 8
                  · have hf := it_s hc8 hf
                    refine lv_tableIn (tgt := 140) E.1 hb dX6_qAsksWord_1 (by rw [hc8]; decide) (by rw [hc8]; decide) (by rw [hc8]; rfl) (by decide) ?_
                    refine lv_aload_n E.1 hb dX6_qAsksWord_140 rfl (lv_at hl 0 rfl) ?_
                    refine lv_aload_n E.1 hb dX6_qAsksWord_141 rfl (lv_at hl 0 rfl) ?_
                    refine m_gA (k := 92) E hb hS 4 rfl (by decide) fl_92 dX6_qAsksWord_142 ?_
                    obtain ⟨_, σ9, h1, hf⟩ := bd_s hf
                    refine m_cVv E hb hml hl.1 hS (cmf_asks h1) gw_asks gn_asks rfl rfl (Nat.le_of_ble_eq_true rfl) ⟨Nat.le_of_ble_eq_true rfl, Nat.le_of_ble_eq_true rfl⟩ ⟨Nat.le_refl 0, Nat.le_refl 0⟩ dX6_qAsksWord_145 (fun H locs hS => ?_)
                    refine lv_goto (tgt := 159) E.1 hb dX6_qAsksWord_148 (by decide) ?_
                    exact m_vr E hb hr hlk hS hf dX6_qAsksWord_159
                  · have hf := if_s hc8 hf
                    have q0 : (x1 : Int32).toInt ≠ 0 := ne_toInt hc0 rfl
                    have q1 : (x1 : Int32).toInt ≠ 1 := ne_toInt hc1 rfl
                    have q2 : (x1 : Int32).toInt ≠ 2 := ne_toInt hc2 rfl
                    have q3 : (x1 : Int32).toInt ≠ 3 := ne_toInt hc3 rfl
                    have q4 : (x1 : Int32).toInt ≠ 4 := ne_toInt hc4 rfl
                    have q5 : (x1 : Int32).toInt ≠ 5 := ne_toInt hc5 rfl
                    have q6 : (x1 : Int32).toInt ≠ 6 := ne_toInt hc6 rfl
                    have q7 : (x1 : Int32).toInt ≠ 7 := ne_toInt hc7 rfl
                    have q8 : (x1 : Int32).toInt ≠ 8 := ne_toInt hc8 rfl
                    refine lv_tableOut (tgt := 151) E.1 hb dX6_qAsksWord_1 (by omega) (by decide) ?_
                    refine lv_aload_n E.1 hb dX6_qAsksWord_151 rfl (lv_at hl 0 rfl) ?_
                    refine lv_aload_n E.1 hb dX6_qAsksWord_152 rfl (lv_at hl 0 rfl) ?_
                    refine m_gA (k := 93) E hb hS 4 rfl (by decide) fl_93 dX6_qAsksWord_153 ?_
                    obtain ⟨_, σ10, h1, hf⟩ := bd_s hf
                    refine m_cVv E hb hml hl.1 hS (cmf_asks h1) gw_asks gn_asks rfl rfl (Nat.le_of_ble_eq_true rfl) ⟨Nat.le_of_ble_eq_true rfl, Nat.le_of_ble_eq_true rfl⟩ ⟨Nat.le_refl 0, Nat.le_refl 0⟩ dX6_qAsksWord_156 (fun H locs hS => ?_)
                    exact m_vr E hb hr hlk hS hf dX6_qAsksWord_159
