set_option maxRecDepth 100000
/-! being(II)I: RW -/
noncomputable def M_being (N : Nat) (σ : mSt) (x1 : Int32) (x2 : Int32) : Option (Int32 × mSt) :=
  bo (M_isBeing σ x1) fun r1 => if r1 = 0 then (some ((-1), σ)) else (if x2 = 0 then (bo (M_leafOf σ x1) fun r2 => some (r2, σ)) else (if x2 = 1 then (bo (M_cellOf σ x1) fun r3 => some (r3, σ)) else (if x2 = 2 then (bo (ld 2 σ 46 (8 + x1)) fun v4 => some (v4, σ)) else (if x2 = 3 then (bo (M_purseOf σ x1) fun r5 => some (r5, σ)) else (if x2 = 4 then (bo (ld 2 σ 56 ((7 + (4 * x1)) + 3)) fun v6 => some (v6, σ)) else (if x2 = 5 then (bo (M_leafOf σ x1) fun r7 => bo (ld 2 σ 56 0) fun v8 => bd (M_openingOn N σ v8) fun r9 σ10 => bo (M_isOpen r7 r9) fun r11 => if r11 = 0 then (some (0, σ10)) else (some (1, σ10))) else (some ((-1), σ))))))))
abbrev rM_being : Room := { frames := 4, cells := 0, slots := 0, locals := 96 }
set_option maxHeartbeats 4000000 in
theorem cmf_being {l : Launch} {dC : Nat → ClassId} {dI : Nat → Nat → Nat} {ac : Nat → ClassId} {o : Nat} {ad : Nat → Nat} {N : Nat} {σ : mSt} {x1 : Int32} {x2 : Int32} {r : Int32} {σ' : mSt} (hf : M_being N σ x1 x2 = some (r, σ')) : Met l yX6_being (ws_ yX6_being cX6_being 3 (some .int)) { frames := 4, cells := 0, slots := 0, locals := 96 } (va_Pc [.ref o, .int x1, .int x2] (mPre dC dI ac o ad σ)) (mQi dC dI ac o ad r σ') 0 0 (mF o ad) := by
  refine m_of (by decide) rfl (Nat.le_of_ble_eq_true rfl) ?_
  intro p e s m args below meth c E hb hr hlk hml hS ls hl
  have hl : lv_has ls 3 [(0, .ref o), (1, .int x1), (2, .int x2)] := hl
  unfold M_being at hf
  refine lv_aload_n E.1 hb dX6_being_0 rfl (lv_at hl 0 rfl) ?_
  refine lv_iload_n E.1 hb dX6_being_1 rfl (lv_at hl 1 rfl) ?_
  obtain ⟨r1, h1, hf⟩ := bo_s hf
  refine m_cVi E hb hml hl.1 hS (cmf_isBeing h1) gw_isBeing gn_isBeing rfl rfl (Nat.le_of_ble_eq_true rfl) ⟨Nat.le_of_ble_eq_true rfl, Nat.le_of_ble_eq_true rfl⟩ ⟨Nat.le_refl 0, Nat.le_refl 0⟩ dX6_being_2 (fun H locs hS => ?_)
  refine lv_if_ne (tgt := 10) E.1 hb dX6_being_5 (by decide) (fun hc => ?_) (fun hc => ?_)
  · have hf := if_s hc hf
    refine lv_iload_n E.1 hb dX6_being_10 rfl (lv_at hl 2 rfl) ?_
    by_cases hc0 : x2 = 0
    · have hf := it_s hc0 hf
      refine lv_tableIn (tgt := 48) E.1 hb dX6_being_11 (by rw [hc0]; decide) (by rw [hc0]; decide) (by rw [hc0]; rfl) (by decide) ?_
      refine lv_aload_n E.1 hb dX6_being_48 rfl (lv_at hl 0 rfl) ?_
      refine lv_iload_n E.1 hb dX6_being_49 rfl (lv_at hl 1 rfl) ?_
      obtain ⟨r2, h1, hf⟩ := bo_s hf
      refine m_cVi E hb hml hl.1 hS (cmf_leafOf h1) gw_leafOf gn_leafOf rfl rfl (Nat.le_of_ble_eq_true rfl) ⟨Nat.le_of_ble_eq_true rfl, Nat.le_of_ble_eq_true rfl⟩ ⟨Nat.le_refl 0, Nat.le_refl 0⟩ dX6_being_50 (fun H locs hS => ?_)
      exact m_ir E hb hr hlk hS hf dX6_being_53
    · have hf := if_s hc0 hf
      by_cases hc1 : x2 = 1
      · have hf := it_s hc1 hf
        refine lv_tableIn (tgt := 54) E.1 hb dX6_being_11 (by rw [hc1]; decide) (by rw [hc1]; decide) (by rw [hc1]; rfl) (by decide) ?_
        refine lv_aload_n E.1 hb dX6_being_54 rfl (lv_at hl 0 rfl) ?_
        refine lv_iload_n E.1 hb dX6_being_55 rfl (lv_at hl 1 rfl) ?_
        obtain ⟨r3, h1, hf⟩ := bo_s hf
        refine m_cVi E hb hml hl.1 hS (cmf_cellOf h1) gw_cellOf gn_cellOf rfl rfl (Nat.le_of_ble_eq_true rfl) ⟨Nat.le_of_ble_eq_true rfl, Nat.le_of_ble_eq_true rfl⟩ ⟨Nat.le_refl 0, Nat.le_refl 0⟩ dX6_being_56 (fun H locs hS => ?_)
        exact m_ir E hb hr hlk hS hf dX6_being_59
      · have hf := if_s hc1 hf
        by_cases hc2 : x2 = 2
        · have hf := it_s hc2 hf
          refine lv_tableIn (tgt := 60) E.1 hb dX6_being_11 (by rw [hc2]; decide) (by rw [hc2]; decide) (by rw [hc2]; rfl) (by decide) ?_
          refine lv_aload_n E.1 hb dX6_being_60 rfl (lv_at hl 0 rfl) ?_
          refine m_gA (k := 46) E hb hS 2 rfl (by decide) fl_46 dX6_being_61 ?_
          refine lv_bipush (v := 8) E.1 hb dX6_being_64 rfl ?_
          refine lv_iload_n E.1 hb dX6_being_66 rfl (lv_at hl 1 rfl) ?_
          refine lv_iadd E.1 hb dX6_being_67 ?_
          obtain ⟨hg, hf⟩ := ld_s hf
          refine m_ild E hb hS hg dX6_being_68 ?_
          exact m_ir E hb hr hlk hS hf dX6_being_69
        · have hf := if_s hc2 hf
          by_cases hc3 : x2 = 3
          · have hf := it_s hc3 hf
            refine lv_tableIn (tgt := 70) E.1 hb dX6_being_11 (by rw [hc3]; decide) (by rw [hc3]; decide) (by rw [hc3]; rfl) (by decide) ?_
            refine lv_aload_n E.1 hb dX6_being_70 rfl (lv_at hl 0 rfl) ?_
            refine lv_iload_n E.1 hb dX6_being_71 rfl (lv_at hl 1 rfl) ?_
            obtain ⟨r5, h1, hf⟩ := bo_s hf
            refine m_cVi E hb hml hl.1 hS (cmf_purseOf h1) gw_purseOf gn_purseOf rfl rfl (Nat.le_of_ble_eq_true rfl) ⟨Nat.le_of_ble_eq_true rfl, Nat.le_of_ble_eq_true rfl⟩ ⟨Nat.le_refl 0, Nat.le_refl 0⟩ dX6_being_72 (fun H locs hS => ?_)
            exact m_ir E hb hr hlk hS hf dX6_being_75
          · have hf := if_s hc3 hf
            by_cases hc4 : x2 = 4
            · have hf := it_s hc4 hf
              refine lv_tableIn (tgt := 76) E.1 hb dX6_being_11 (by rw [hc4]; decide) (by rw [hc4]; decide) (by rw [hc4]; rfl) (by decide) ?_
              refine lv_aload_n E.1 hb dX6_being_76 rfl (lv_at hl 0 rfl) ?_
              refine m_gA (k := 56) E hb hS 2 rfl (by decide) fl_56 dX6_being_77 ?_
              refine lv_bipush (v := 7) E.1 hb dX6_being_80 rfl ?_
              refine lv_iconst (v := 4) E.1 hb dX6_being_82 rfl ?_
              refine lv_iload_n E.1 hb dX6_being_83 rfl (lv_at hl 1 rfl) ?_
              refine lv_imul E.1 hb dX6_being_84 ?_
              refine lv_iadd E.1 hb dX6_being_85 ?_
              refine lv_iconst (v := 3) E.1 hb dX6_being_86 rfl ?_
              refine lv_iadd E.1 hb dX6_being_87 ?_
              obtain ⟨hg, hf⟩ := ld_s hf
              refine m_ild E hb hS hg dX6_being_88 ?_
              exact m_ir E hb hr hlk hS hf dX6_being_89
            · have hf := if_s hc4 hf
              by_cases hc5 : x2 = 5
              · have hf := it_s hc5 hf
                refine lv_tableIn (tgt := 90) E.1 hb dX6_being_11 (by rw [hc5]; decide) (by rw [hc5]; decide) (by rw [hc5]; rfl) (by decide) ?_
                refine lv_aload_n E.1 hb dX6_being_90 rfl (lv_at hl 0 rfl) ?_
                refine lv_iload_n E.1 hb dX6_being_91 rfl (lv_at hl 1 rfl) ?_
                obtain ⟨r7, h1, hf⟩ := bo_s hf
                refine m_cVi E hb hml hl.1 hS (cmf_leafOf h1) gw_leafOf gn_leafOf rfl rfl (Nat.le_of_ble_eq_true rfl) ⟨Nat.le_of_ble_eq_true rfl, Nat.le_of_ble_eq_true rfl⟩ ⟨Nat.le_refl 0, Nat.le_refl 0⟩ dX6_being_92 (fun H locs hS => ?_)
                refine lv_aload_n E.1 hb dX6_being_95 rfl (lv_at hl 0 rfl) ?_
                refine lv_aload_n E.1 hb dX6_being_96 rfl (lv_at hl 0 rfl) ?_
                refine m_gA (k := 56) E hb hS 2 rfl (by decide) fl_56 dX6_being_97 ?_
                refine lv_iconst (v := 0) E.1 hb dX6_being_100 rfl ?_
                obtain ⟨hg, hf⟩ := ld_s hf
                refine m_ild E hb hS hg dX6_being_101 ?_
                obtain ⟨r9, σ10, h1, hf⟩ := bd_s hf
                refine m_cVi E hb hml hl.1 hS (cmf_openingOn h1) gw_openingOn gn_openingOn rfl rfl (Nat.le_of_ble_eq_true rfl) ⟨Nat.le_of_ble_eq_true rfl, Nat.le_of_ble_eq_true rfl⟩ ⟨Nat.le_refl 0, Nat.le_refl 0⟩ dX6_being_102 (fun H locs hS => ?_)
                obtain ⟨r11, h1, hf⟩ := bo_s hf
                refine m_cSi E hb hml hl.1 hS (cmf_isOpen h1) gw_isOpen gn_isOpen rfl rfl (Nat.le_of_ble_eq_true rfl) ⟨Nat.le_of_ble_eq_true rfl, Nat.le_of_ble_eq_true rfl⟩ ⟨Nat.le_refl 0, Nat.le_refl 0⟩ dX6_being_105 (fun H locs hS => ?_)
                refine lv_if_eq (tgt := 115) E.1 hb dX6_being_108 (by decide) (fun hc => ?_) (fun hc => ?_)
                · have hf := it_s hc hf
                  refine lv_iconst (v := 0) E.1 hb dX6_being_115 rfl ?_
                  exact m_ir E hb hr hlk hS hf dX6_being_116
                · have hf := if_s hc hf
                  refine lv_iconst (v := 1) E.1 hb dX6_being_111 rfl ?_
                  refine lv_goto (tgt := 116) E.1 hb dX6_being_112 (by decide) ?_
                  exact m_ir E hb hr hlk hS hf dX6_being_116
              · have hf := if_s hc5 hf
                have q0 : (x2 : Int32).toInt ≠ 0 := ne_toInt hc0 rfl
                have q1 : (x2 : Int32).toInt ≠ 1 := ne_toInt hc1 rfl
                have q2 : (x2 : Int32).toInt ≠ 2 := ne_toInt hc2 rfl
                have q3 : (x2 : Int32).toInt ≠ 3 := ne_toInt hc3 rfl
                have q4 : (x2 : Int32).toInt ≠ 4 := ne_toInt hc4 rfl
                have q5 : (x2 : Int32).toInt ≠ 5 := ne_toInt hc5 rfl
                refine lv_tableOut (tgt := 117) E.1 hb dX6_being_11 (by omega) (by decide) ?_
                refine lv_iconst (v := (-1)) E.1 hb dX6_being_117 rfl ?_
                exact m_ir E hb hr hlk hS hf dX6_being_118
  · have hf := it_s hc hf
    refine lv_iconst (v := (-1)) E.1 hb dX6_being_8 rfl ?_
    exact m_ir E hb hr hlk hS hf dX6_being_9
/-! cell(III)I: RW -/
noncomputable def M_cell_b58 (N : Nat) (σ : mSt) (x1 : Int32) (x2 : Int32) (x3 : Int32) (y0 : Int32) : Option (Int32 × mSt) :=
  if x3 = 0 then (bo (M_hasGloss σ x1 x2) fun r7 => if r7 = 0 then (some (0, σ)) else (some (1, σ))) else (if x3 = 1 then (bo (M_standsOn N σ x1 x2) fun r8 => some (r8, σ)) else (if x3 = 2 then (some (y0, σ)) else (if x3 = 3 then (if y0 = (-1) then (some ((-1), σ)) else (bo (ld 2 σ 40 3) fun v9 => some (((v9 - 1) - x2), σ))) else (some ((-1), σ)))))
noncomputable def M_cell (N : Nat) (σ : mSt) (x1 : Int32) (x2 : Int32) (x3 : Int32) : Option (Int32 × mSt) :=
  bo (M_isCell σ x1 x2) fun r1 => if r1 = 0 then (some ((-1), σ)) else (bo (ld 2 σ 56 0) fun v2 => bd (M_openingOn N σ v2) fun r3 σ4 => bo (M_liesOnNext σ4 (x1 - 1) r3) fun r5 => if r5 = 0 then (bo (M_liesOnNext σ4 x1 r3) fun r6 => if r6 = 0 then (M_cell_b58 N σ4 x1 x2 x3 (-1)) else (M_cell_b58 N σ4 x1 x2 x3 (x1 + 1))) else (M_cell_b58 N σ4 x1 x2 x3 (x1 - 1)))
abbrev rM_cell : Room := { frames := 4, cells := 0, slots := 0, locals := 96 }
set_option maxHeartbeats 4000000 in
theorem cmf_cell {l : Launch} {dC : Nat → ClassId} {dI : Nat → Nat → Nat} {ac : Nat → ClassId} {o : Nat} {ad : Nat → Nat} {N : Nat} {σ : mSt} {x1 : Int32} {x2 : Int32} {x3 : Int32} {r : Int32} {σ' : mSt} (hf : M_cell N σ x1 x2 x3 = some (r, σ')) : Met l yX6_cell (ws_ yX6_cell cX6_cell 6 (some .int)) { frames := 4, cells := 0, slots := 0, locals := 96 } (va_Pc [.ref o, .int x1, .int x2, .int x3] (mPre dC dI ac o ad σ)) (mQi dC dI ac o ad r σ') 0 0 (mF o ad) := by
  refine m_of (by decide) rfl (Nat.le_of_ble_eq_true rfl) ?_
  intro p e s m args below meth c E hb hr hlk hml hS ls hl
  have hl : lv_has ls 6 [(0, .ref o), (1, .int x1), (2, .int x2), (3, .int x3)] := hl
  have hB58 : ∀ (σ : mSt) (x1 : Int32) (x2 : Int32) (x3 : Int32) (y0 : Int32), M_cell_b58 N σ x1 x2 x3 y0 = some (r, σ') → ∀ (H : Heap) (locs : List Loc), mS dC dI ac o ad s.heap σ H locs → ∀ (ls : Array Slot), lv_has ls 6 [(0, .ref o), (1, .int x1), (2, .int x2), (3, .int x3)] → W p l e rM_cell s m args below meth c H locs 0 0 (MQ below (mQi dC dI ac o ad r σ') args s 0 0 (mF o ad)) (F0 m 58 ls [.int y0]) := by
    intro σ x1 x2 x3 y0 hf H locs hS ls hl
    unfold M_cell_b58 at hf
    refine lv_istore (lv' := [(5, .int y0), (0, .ref o), (1, .int x1), (2, .int x2), (3, .int x3)]) E.1 hb dX6_cell_58 hl (by decide) rfl (fun ls hl => ?_)
    refine lv_iload_n E.1 hb dX6_cell_60 rfl (lv_at hl 4 rfl) ?_
    by_cases hc0 : x3 = 0
    · have hf := it_s hc0 hf
      refine lv_tableIn (tgt := 92) E.1 hb dX6_cell_61 (by rw [hc0]; decide) (by rw [hc0]; decide) (by rw [hc0]; rfl) (by decide) ?_
      refine lv_aload_n E.1 hb dX6_cell_92 rfl (lv_at hl 1 rfl) ?_
      refine lv_iload_n E.1 hb dX6_cell_93 rfl (lv_at hl 2 rfl) ?_
      refine lv_iload_n E.1 hb dX6_cell_94 rfl (lv_at hl 3 rfl) ?_
      obtain ⟨r7, h1, hf⟩ := bo_s hf
      refine m_cVi E hb hml hl.1 hS (cmf_hasGloss h1) gw_hasGloss gn_hasGloss rfl rfl (Nat.le_of_ble_eq_true rfl) ⟨Nat.le_of_ble_eq_true rfl, Nat.le_of_ble_eq_true rfl⟩ ⟨Nat.le_refl 0, Nat.le_refl 0⟩ dX6_cell_95 (fun H locs hS => ?_)
      refine lv_if_eq (tgt := 105) E.1 hb dX6_cell_98 (by decide) (fun hc => ?_) (fun hc => ?_)
      · have hf := it_s hc hf
        refine lv_iconst (v := 0) E.1 hb dX6_cell_105 rfl ?_
        exact m_ir E hb hr hlk hS hf dX6_cell_106
      · have hf := if_s hc hf
        refine lv_iconst (v := 1) E.1 hb dX6_cell_101 rfl ?_
        refine lv_goto (tgt := 106) E.1 hb dX6_cell_102 (by decide) ?_
        exact m_ir E hb hr hlk hS hf dX6_cell_106
    · have hf := if_s hc0 hf
      by_cases hc1 : x3 = 1
      · have hf := it_s hc1 hf
        refine lv_tableIn (tgt := 107) E.1 hb dX6_cell_61 (by rw [hc1]; decide) (by rw [hc1]; decide) (by rw [hc1]; rfl) (by decide) ?_
        refine lv_aload_n E.1 hb dX6_cell_107 rfl (lv_at hl 1 rfl) ?_
        refine lv_iload_n E.1 hb dX6_cell_108 rfl (lv_at hl 2 rfl) ?_
        refine lv_iload_n E.1 hb dX6_cell_109 rfl (lv_at hl 3 rfl) ?_
        obtain ⟨r8, h1, hf⟩ := bo_s hf
        refine m_cVi E hb hml hl.1 hS (cmf_standsOn h1) gw_standsOn gn_standsOn rfl rfl (Nat.le_of_ble_eq_true rfl) ⟨Nat.le_of_ble_eq_true rfl, Nat.le_of_ble_eq_true rfl⟩ ⟨Nat.le_refl 0, Nat.le_refl 0⟩ dX6_cell_110 (fun H locs hS => ?_)
        exact m_ir E hb hr hlk hS hf dX6_cell_113
      · have hf := if_s hc1 hf
        by_cases hc2 : x3 = 2
        · have hf := it_s hc2 hf
          refine lv_tableIn (tgt := 114) E.1 hb dX6_cell_61 (by rw [hc2]; decide) (by rw [hc2]; decide) (by rw [hc2]; rfl) (by decide) ?_
          refine lv_iload E.1 hb dX6_cell_114 (lv_at hl 0 rfl) ?_
          exact m_ir E hb hr hlk hS hf dX6_cell_116
        · have hf := if_s hc2 hf
          by_cases hc3 : x3 = 3
          · have hf := it_s hc3 hf
            refine lv_tableIn (tgt := 117) E.1 hb dX6_cell_61 (by rw [hc3]; decide) (by rw [hc3]; decide) (by rw [hc3]; rfl) (by decide) ?_
            refine lv_iload E.1 hb dX6_cell_117 (lv_at hl 0 rfl) ?_
            refine lv_iconst (v := (-1)) E.1 hb dX6_cell_119 rfl ?_
            refine lv_icmp_ne (tgt := 127) E.1 hb dX6_cell_120 (by decide) (fun hc => ?_) (fun hc => ?_)
            · have hf := if_s hc hf
              refine lv_aload_n E.1 hb dX6_cell_127 rfl (lv_at hl 1 rfl) ?_
              refine m_gA (k := 40) E hb hS 2 rfl (by decide) fl_40 dX6_cell_128 ?_
              refine lv_iconst (v := 3) E.1 hb dX6_cell_131 rfl ?_
              obtain ⟨hg, hf⟩ := ld_s hf
              refine m_ild E hb hS hg dX6_cell_132 ?_
              refine lv_iconst (v := 1) E.1 hb dX6_cell_133 rfl ?_
              refine lv_isub E.1 hb dX6_cell_134 ?_
              refine lv_iload_n E.1 hb dX6_cell_135 rfl (lv_at hl 3 rfl) ?_
              refine lv_isub E.1 hb dX6_cell_136 ?_
              exact m_ir E hb hr hlk hS hf dX6_cell_137
            · have hf := it_s hc hf
              refine lv_iconst (v := (-1)) E.1 hb dX6_cell_123 rfl ?_
              refine lv_goto (tgt := 137) E.1 hb dX6_cell_124 (by decide) ?_
              exact m_ir E hb hr hlk hS hf dX6_cell_137
          · have hf := if_s hc3 hf
            have q0 : (x3 : Int32).toInt ≠ 0 := ne_toInt hc0 rfl
            have q1 : (x3 : Int32).toInt ≠ 1 := ne_toInt hc1 rfl
            have q2 : (x3 : Int32).toInt ≠ 2 := ne_toInt hc2 rfl
            have q3 : (x3 : Int32).toInt ≠ 3 := ne_toInt hc3 rfl
            refine lv_tableOut (tgt := 138) E.1 hb dX6_cell_61 (by omega) (by decide) ?_
            refine lv_iconst (v := (-1)) E.1 hb dX6_cell_138 rfl ?_
            exact m_ir E hb hr hlk hS hf dX6_cell_139
  unfold M_cell at hf
  refine lv_aload_n E.1 hb dX6_cell_0 rfl (lv_at hl 0 rfl) ?_
  refine lv_iload_n E.1 hb dX6_cell_1 rfl (lv_at hl 1 rfl) ?_
  refine lv_iload_n E.1 hb dX6_cell_2 rfl (lv_at hl 2 rfl) ?_
  obtain ⟨r1, h1, hf⟩ := bo_s hf
  refine m_cVi E hb hml hl.1 hS (cmf_isCell h1) gw_isCell gn_isCell rfl rfl (Nat.le_of_ble_eq_true rfl) ⟨Nat.le_of_ble_eq_true rfl, Nat.le_of_ble_eq_true rfl⟩ ⟨Nat.le_refl 0, Nat.le_refl 0⟩ dX6_cell_3 (fun H locs hS => ?_)
  refine lv_if_ne (tgt := 11) E.1 hb dX6_cell_6 (by decide) (fun hc => ?_) (fun hc => ?_)
  · have hf := if_s hc hf
    refine lv_aload_n E.1 hb dX6_cell_11 rfl (lv_at hl 0 rfl) ?_
    refine lv_aload_n E.1 hb dX6_cell_12 rfl (lv_at hl 0 rfl) ?_
    refine m_gA (k := 56) E hb hS 2 rfl (by decide) fl_56 dX6_cell_13 ?_
    refine lv_iconst (v := 0) E.1 hb dX6_cell_16 rfl ?_
    obtain ⟨hg, hf⟩ := ld_s hf
    refine m_ild E hb hS hg dX6_cell_17 ?_
    obtain ⟨r3, σ4, h1, hf⟩ := bd_s hf
    refine m_cVi E hb hml hl.1 hS (cmf_openingOn h1) gw_openingOn gn_openingOn rfl rfl (Nat.le_of_ble_eq_true rfl) ⟨Nat.le_of_ble_eq_true rfl, Nat.le_of_ble_eq_true rfl⟩ ⟨Nat.le_refl 0, Nat.le_refl 0⟩ dX6_cell_18 (fun H locs hS => ?_)
    refine lv_istore (lv' := [(4, .int r3), (0, .ref o), (1, .int x1), (2, .int x2), (3, .int x3)]) E.1 hb dX6_cell_21 hl (by decide) rfl (fun ls hl => ?_)
    refine lv_aload_n E.1 hb dX6_cell_23 rfl (lv_at hl 1 rfl) ?_
    refine lv_iload_n E.1 hb dX6_cell_24 rfl (lv_at hl 2 rfl) ?_
    refine lv_iconst (v := 1) E.1 hb dX6_cell_25 rfl ?_
    refine lv_isub E.1 hb dX6_cell_26 ?_
    refine lv_iload E.1 hb dX6_cell_27 (lv_at hl 0 rfl) ?_
    obtain ⟨r5, h1, hf⟩ := bo_s hf
    refine m_cVi E hb hml hl.1 hS (cmf_liesOnNext h1) gw_liesOnNext gn_liesOnNext rfl rfl (Nat.le_of_ble_eq_true rfl) ⟨Nat.le_of_ble_eq_true rfl, Nat.le_of_ble_eq_true rfl⟩ ⟨Nat.le_refl 0, Nat.le_refl 0⟩ dX6_cell_29 (fun H locs hS => ?_)
    refine lv_if_eq (tgt := 41) E.1 hb dX6_cell_32 (by decide) (fun hc => ?_) (fun hc => ?_)
    · have hf := it_s hc hf
      refine lv_aload_n E.1 hb dX6_cell_41 rfl (lv_at hl 1 rfl) ?_
      refine lv_iload_n E.1 hb dX6_cell_42 rfl (lv_at hl 2 rfl) ?_
      refine lv_iload E.1 hb dX6_cell_43 (lv_at hl 0 rfl) ?_
      obtain ⟨r6, h1, hf⟩ := bo_s hf
      refine m_cVi E hb hml hl.1 hS (cmf_liesOnNext h1) gw_liesOnNext gn_liesOnNext rfl rfl (Nat.le_of_ble_eq_true rfl) ⟨Nat.le_of_ble_eq_true rfl, Nat.le_of_ble_eq_true rfl⟩ ⟨Nat.le_refl 0, Nat.le_refl 0⟩ dX6_cell_45 (fun H locs hS => ?_)
      refine lv_if_eq (tgt := 57) E.1 hb dX6_cell_48 (by decide) (fun hc => ?_) (fun hc => ?_)
      · have hf := it_s hc hf
        refine lv_iconst (v := (-1)) E.1 hb dX6_cell_57 rfl ?_
        exact hB58 σ4 x1 x2 x3 (-1) hf _ _ hS _ (lv_sub hl [1, 2, 3, 4] rfl)
      · have hf := if_s hc hf
        refine lv_iload_n E.1 hb dX6_cell_51 rfl (lv_at hl 2 rfl) ?_
        refine lv_iconst (v := 1) E.1 hb dX6_cell_52 rfl ?_
        refine lv_iadd E.1 hb dX6_cell_53 ?_
        refine lv_goto (tgt := 58) E.1 hb dX6_cell_54 (by decide) ?_
        exact hB58 σ4 x1 x2 x3 (x1 + 1) hf _ _ hS _ (lv_sub hl [1, 2, 3, 4] rfl)
    · have hf := if_s hc hf
      refine lv_iload_n E.1 hb dX6_cell_35 rfl (lv_at hl 2 rfl) ?_
      refine lv_iconst (v := 1) E.1 hb dX6_cell_36 rfl ?_
      refine lv_isub E.1 hb dX6_cell_37 ?_
      refine lv_goto (tgt := 58) E.1 hb dX6_cell_38 (by decide) ?_
      exact hB58 σ4 x1 x2 x3 (x1 - 1) hf _ _ hS _ (lv_sub hl [1, 2, 3, 4] rfl)
  · have hf := it_s hc hf
    refine lv_iconst (v := (-1)) E.1 hb dX6_cell_9 rfl ?_
    exact m_ir E hb hr hlk hS hf dX6_cell_10
/-! kept(II)I: RO -/
noncomputable def M_kept (σ : mSt) (x1 : Int32) (x2 : Int32) : Option Int32 :=
  bo (ld 2 σ 56 39) fun v1 => bo (M_isIn (Int32.toInt64 x1) 0 (Int32.toInt64 (v1 - 1))) fun r2 => if r2 = 0 then (some (-1)) else (bo (M_isIn (Int32.toInt64 x2) 0 2) fun r3 => if r3 = 0 then (some (-1)) else (bo (ld 2 σ 56 ((40 + (3 * x1)) + x2)) fun v4 => some v4))
abbrev rM_kept : Room := { frames := 1, cells := 0, slots := 0, locals := 25 }
set_option maxHeartbeats 4000000 in
theorem cmf_kept {l : Launch} {dC : Nat → ClassId} {dI : Nat → Nat → Nat} {ac : Nat → ClassId} {o : Nat} {ad : Nat → Nat} {σ : mSt} {x1 : Int32} {x2 : Int32} {r : Int32} (hf : M_kept σ x1 x2 = some r) : Met l yX6_kept (ws_ yX6_kept cX6_kept 3 (some .int)) { frames := 1, cells := 0, slots := 0, locals := 25 } (va_Pc [.ref o, .int x1, .int x2] (mPre dC dI ac o ad σ)) (mQi dC dI ac o ad r σ) 0 0 (mF o ad) := by
  refine m_of (by decide) rfl (Nat.le_of_ble_eq_true rfl) ?_
  intro p e s m args below meth c E hb hr hlk hml hS ls hl
  have hl : lv_has ls 3 [(0, .ref o), (1, .int x1), (2, .int x2)] := hl
  unfold M_kept at hf
  refine lv_iload_n E.1 hb dX6_kept_0 rfl (lv_at hl 1 rfl) ?_
  refine lv_i2l E.1 hb dX6_kept_1 rfl ?_
  refine lv_lconst (v := 0) E.1 hb dX6_kept_2 rfl ?_
  refine lv_aload_n E.1 hb dX6_kept_3 rfl (lv_at hl 0 rfl) ?_
  refine m_gA (k := 56) E hb hS 2 rfl (by decide) fl_56 dX6_kept_4 ?_
  refine lv_bipush (v := 39) E.1 hb dX6_kept_7 rfl ?_
  obtain ⟨hg, hf⟩ := ld_s hf
  refine m_ild E hb hS hg dX6_kept_9 ?_
  refine lv_iconst (v := 1) E.1 hb dX6_kept_10 rfl ?_
  refine lv_isub E.1 hb dX6_kept_11 ?_
  refine lv_i2l E.1 hb dX6_kept_12 rfl ?_
  obtain ⟨r2, h1, hf⟩ := bo_s hf
  refine m_cSi E hb hml hl.1 hS (cmf_isIn h1) gw_isIn gn_isIn rfl rfl (Nat.le_of_ble_eq_true rfl) ⟨Nat.le_of_ble_eq_true rfl, Nat.le_of_ble_eq_true rfl⟩ ⟨Nat.le_refl 0, Nat.le_refl 0⟩ dX6_kept_13 (fun H locs hS => ?_)
  refine lv_if_eq (tgt := 47) E.1 hb dX6_kept_16 (by decide) (fun hc => ?_) (fun hc => ?_)
  · have hf := it_s hc hf
    refine lv_iconst (v := (-1)) E.1 hb dX6_kept_47 rfl ?_
    exact m_irR E hb hr hlk hS hf dX6_kept_48
  · have hf := if_s hc hf
    refine lv_iload_n E.1 hb dX6_kept_19 rfl (lv_at hl 2 rfl) ?_
    refine lv_i2l E.1 hb dX6_kept_20 rfl ?_
    refine lv_lconst (v := 0) E.1 hb dX6_kept_21 rfl ?_
    refine lv_ldc2 E.1 hb E.2.1 (E.2.2.1 _ q2297) dX6_kept_22 ?_
    obtain ⟨r3, h1, hf⟩ := bo_s hf
    refine m_cSi E hb hml hl.1 hS (cmf_isIn h1) gw_isIn gn_isIn rfl rfl (Nat.le_of_ble_eq_true rfl) ⟨Nat.le_of_ble_eq_true rfl, Nat.le_of_ble_eq_true rfl⟩ ⟨Nat.le_refl 0, Nat.le_refl 0⟩ dX6_kept_25 (fun H locs hS => ?_)
    refine lv_if_eq (tgt := 47) E.1 hb dX6_kept_28 (by decide) (fun hc => ?_) (fun hc => ?_)
    · have hf := it_s hc hf
      refine lv_iconst (v := (-1)) E.1 hb dX6_kept_47 rfl ?_
      exact m_irR E hb hr hlk hS hf dX6_kept_48
    · have hf := if_s hc hf
      refine lv_aload_n E.1 hb dX6_kept_31 rfl (lv_at hl 0 rfl) ?_
      refine m_gA (k := 56) E hb hS 2 rfl (by decide) fl_56 dX6_kept_32 ?_
      refine lv_bipush (v := 40) E.1 hb dX6_kept_35 rfl ?_
      refine lv_iconst (v := 3) E.1 hb dX6_kept_37 rfl ?_
      refine lv_iload_n E.1 hb dX6_kept_38 rfl (lv_at hl 1 rfl) ?_
      refine lv_imul E.1 hb dX6_kept_39 ?_
      refine lv_iadd E.1 hb dX6_kept_40 ?_
      refine lv_iload_n E.1 hb dX6_kept_41 rfl (lv_at hl 2 rfl) ?_
      refine lv_iadd E.1 hb dX6_kept_42 ?_
      obtain ⟨hg, hf⟩ := ld_s hf
      refine m_ild E hb hS hg dX6_kept_43 ?_
      refine lv_goto (tgt := 48) E.1 hb dX6_kept_44 (by decide) ?_
      exact m_irR E hb hr hlk hS hf dX6_kept_48
/-! meets(II)I: RW -/
noncomputable def M_meets (N : Nat) (σ : mSt) (x1 : Int32) (x2 : Int32) : Option (Int32 × mSt) :=
  bo (M_isBeing σ x1) fun r1 => if r1 = 0 then (some ((-1), σ)) else (bo (M_isBeing σ x2) fun r2 => if r2 = 0 then (some ((-1), σ)) else (if x1 = x2 then (some ((-1), σ)) else (bo (ld 2 σ 56 0) fun v3 => bd (M_openingOn N σ v3) fun r4 σ5 => bo (M_doMeet σ5 x1 x2 r4) fun r6 => if r6 = 0 then (some (0, σ5)) else (some (1, σ5)))))
abbrev rM_meets : Room := { frames := 4, cells := 0, slots := 0, locals := 96 }
set_option maxHeartbeats 4000000 in
theorem cmf_meets {l : Launch} {dC : Nat → ClassId} {dI : Nat → Nat → Nat} {ac : Nat → ClassId} {o : Nat} {ad : Nat → Nat} {N : Nat} {σ : mSt} {x1 : Int32} {x2 : Int32} {r : Int32} {σ' : mSt} (hf : M_meets N σ x1 x2 = some (r, σ')) : Met l yX6_meets (ws_ yX6_meets cX6_meets 3 (some .int)) { frames := 4, cells := 0, slots := 0, locals := 96 } (va_Pc [.ref o, .int x1, .int x2] (mPre dC dI ac o ad σ)) (mQi dC dI ac o ad r σ') 0 0 (mF o ad) := by
  refine m_of (by decide) rfl (Nat.le_of_ble_eq_true rfl) ?_
  intro p e s m args below meth c E hb hr hlk hml hS ls hl
  have hl : lv_has ls 3 [(0, .ref o), (1, .int x1), (2, .int x2)] := hl
  unfold M_meets at hf
  refine lv_aload_n E.1 hb dX6_meets_0 rfl (lv_at hl 0 rfl) ?_
  refine lv_iload_n E.1 hb dX6_meets_1 rfl (lv_at hl 1 rfl) ?_
  obtain ⟨r1, h1, hf⟩ := bo_s hf
  refine m_cVi E hb hml hl.1 hS (cmf_isBeing h1) gw_isBeing gn_isBeing rfl rfl (Nat.le_of_ble_eq_true rfl) ⟨Nat.le_of_ble_eq_true rfl, Nat.le_of_ble_eq_true rfl⟩ ⟨Nat.le_refl 0, Nat.le_refl 0⟩ dX6_meets_2 (fun H locs hS => ?_)
  refine lv_if_eq (tgt := 21) E.1 hb dX6_meets_5 (by decide) (fun hc => ?_) (fun hc => ?_)
  · have hf := it_s hc hf
    refine lv_iconst (v := (-1)) E.1 hb dX6_meets_21 rfl ?_
    exact m_ir E hb hr hlk hS hf dX6_meets_22
  · have hf := if_s hc hf
    refine lv_aload_n E.1 hb dX6_meets_8 rfl (lv_at hl 0 rfl) ?_
    refine lv_iload_n E.1 hb dX6_meets_9 rfl (lv_at hl 2 rfl) ?_
    obtain ⟨r2, h1, hf⟩ := bo_s hf
    refine m_cVi E hb hml hl.1 hS (cmf_isBeing h1) gw_isBeing gn_isBeing rfl rfl (Nat.le_of_ble_eq_true rfl) ⟨Nat.le_of_ble_eq_true rfl, Nat.le_of_ble_eq_true rfl⟩ ⟨Nat.le_refl 0, Nat.le_refl 0⟩ dX6_meets_10 (fun H locs hS => ?_)
    refine lv_if_eq (tgt := 21) E.1 hb dX6_meets_13 (by decide) (fun hc => ?_) (fun hc => ?_)
    · have hf := it_s hc hf
      refine lv_iconst (v := (-1)) E.1 hb dX6_meets_21 rfl ?_
      exact m_ir E hb hr hlk hS hf dX6_meets_22
    · have hf := if_s hc hf
      refine lv_iload_n E.1 hb dX6_meets_16 rfl (lv_at hl 1 rfl) ?_
      refine lv_iload_n E.1 hb dX6_meets_17 rfl (lv_at hl 2 rfl) ?_
      refine lv_icmp_ne (tgt := 23) E.1 hb dX6_meets_18 (by decide) (fun hc => ?_) (fun hc => ?_)
      · have hf := if_s hc hf
        refine lv_aload_n E.1 hb dX6_meets_23 rfl (lv_at hl 0 rfl) ?_
        refine lv_iload_n E.1 hb dX6_meets_24 rfl (lv_at hl 1 rfl) ?_
        refine lv_iload_n E.1 hb dX6_meets_25 rfl (lv_at hl 2 rfl) ?_
        refine lv_aload_n E.1 hb dX6_meets_26 rfl (lv_at hl 0 rfl) ?_
        refine lv_aload_n E.1 hb dX6_meets_27 rfl (lv_at hl 0 rfl) ?_
        refine m_gA (k := 56) E hb hS 2 rfl (by decide) fl_56 dX6_meets_28 ?_
        refine lv_iconst (v := 0) E.1 hb dX6_meets_31 rfl ?_
        obtain ⟨hg, hf⟩ := ld_s hf
        refine m_ild E hb hS hg dX6_meets_32 ?_
        obtain ⟨r4, σ5, h1, hf⟩ := bd_s hf
        refine m_cVi E hb hml hl.1 hS (cmf_openingOn h1) gw_openingOn gn_openingOn rfl rfl (Nat.le_of_ble_eq_true rfl) ⟨Nat.le_of_ble_eq_true rfl, Nat.le_of_ble_eq_true rfl⟩ ⟨Nat.le_refl 0, Nat.le_refl 0⟩ dX6_meets_33 (fun H locs hS => ?_)
        obtain ⟨r6, h1, hf⟩ := bo_s hf
        refine m_cVi E hb hml hl.1 hS (cmf_doMeet h1) gw_doMeet gn_doMeet rfl rfl (Nat.le_of_ble_eq_true rfl) ⟨Nat.le_of_ble_eq_true rfl, Nat.le_of_ble_eq_true rfl⟩ ⟨Nat.le_refl 0, Nat.le_refl 0⟩ dX6_meets_36 (fun H locs hS => ?_)
        refine lv_if_eq (tgt := 46) E.1 hb dX6_meets_39 (by decide) (fun hc => ?_) (fun hc => ?_)
        · have hf := it_s hc hf
          refine lv_iconst (v := 0) E.1 hb dX6_meets_46 rfl ?_
          exact m_ir E hb hr hlk hS hf dX6_meets_47
        · have hf := if_s hc hf
          refine lv_iconst (v := 1) E.1 hb dX6_meets_42 rfl ?_
          refine lv_goto (tgt := 47) E.1 hb dX6_meets_43 (by decide) ?_
          exact m_ir E hb hr hlk hS hf dX6_meets_47
      · have hf := it_s hc hf
        refine lv_iconst (v := (-1)) E.1 hb dX6_meets_21 rfl ?_
        exact m_ir E hb hr hlk hS hf dX6_meets_22
/-! pairsBy(I)I: RO -/
noncomputable def M_pairsBy_b40 (N : Nat) (σ : mSt) (k4 : Int32 → Int32 → Int32 → Option Int32) (k17 : Int32 → Int32 → Int32 → Int32 → Option Int32) (x1 : Int32) (x2 : Int32) (x3 : Int32) (x4 : Int32) : Option Int32 :=
  k17 x1 x2 x3 (x4 + 1)
noncomputable def M_pairsBy_b17 (N : Nat) (σ : mSt) (k4 : Int32 → Int32 → Int32 → Option Int32) (k17 : Int32 → Int32 → Int32 → Int32 → Option Int32) (x1 : Int32) (x2 : Int32) (x3 : Int32) (x4 : Int32) : Option Int32 :=
  bo (M_beingMany σ) fun r2 => if r2 ≤ x4 then (k4 x1 x2 (x3 + 1)) else (bo (M_doMeet σ x3 x4 x1) fun r3 => if r3 = 0 then (M_pairsBy_b40 N σ k4 k17 x1 x2 x3 x4) else (M_pairsBy_b40 N σ k4 k17 x1 (x2 + 1) x3 x4))
noncomputable def M_pairsBy_b4 (N : Nat) (σ : mSt) (k4 : Int32 → Int32 → Int32 → Option Int32) (x1 : Int32) (x2 : Int32) (x3 : Int32) : Option Int32 :=
  bo (M_beingMany σ) fun r1 => if r1 ≤ x3 then (some x2) else (rn4 (M_pairsBy_b17 N σ k4) N x1 x2 x3 (x3 + 1))
noncomputable def M_pairsBy (N : Nat) (σ : mSt) (x1 : Int32) : Option Int32 :=
  rn3 (M_pairsBy_b4 N σ) N x1 0 0
theorem gw_pairsBy : GoodIn lw_all (wsV RX6 514 RX6 yX6_pairsBy (ws_ yX6_pairsBy cX6_pairsBy 5 (some .int))) := lw_V q2311 q2313 qs119 q164 q2314
theorem gn_pairsBy : yX6_pairsBy.cls = RX6 ∧ yX6_pairsBy.cls ≠ "java/lang/invoke/MethodHandle" ∧ yX6_pairsBy.cls ≠ "java/lang/invoke/VarHandle" ∧ (parseMethodDescriptor yX6_pairsBy.desc).map (fun d => d.parameters.length) = some 1 := by decide +kernel
abbrev rM_pairsBy : Room := { frames := 3, cells := 0, slots := 0, locals := 68 }
set_option maxHeartbeats 4000000 in
theorem cmf_pairsBy {l : Launch} {dC : Nat → ClassId} {dI : Nat → Nat → Nat} {ac : Nat → ClassId} {o : Nat} {ad : Nat → Nat} {N : Nat} {σ : mSt} {x1 : Int32} {r : Int32} (hf : M_pairsBy N σ x1 = some r) : Met l yX6_pairsBy (ws_ yX6_pairsBy cX6_pairsBy 5 (some .int)) { frames := 3, cells := 0, slots := 0, locals := 68 } (va_Pc [.ref o, .int x1] (mPre dC dI ac o ad σ)) (mQi dC dI ac o ad r σ) 0 0 (mF o ad) := by
  refine m_of (by decide) rfl (Nat.le_of_ble_eq_true rfl) ?_
  intro p e s m args below meth c E hb hr hlk hml hS ls hl
  have hl : lv_has ls 5 [(0, .ref o), (1, .int x1)] := hl
  have hB40 : ∀ (k4 : Int32 → Int32 → Int32 → Option Int32) (hk4 : ∀ (x1 : Int32) (x2 : Int32) (x3 : Int32), k4 x1 x2 x3 = some r → ∀ (H : Heap) (locs : List Loc), mS dC dI ac o ad s.heap σ H locs → ∀ (ls : Array Slot), lv_has ls 5 [(0, .ref o), (1, .int x1), (2, .int x2), (3, .int x3)] → W p l e rM_pairsBy s m args below meth c H locs 0 0 (MQ below (mQi dC dI ac o ad r σ) args s 0 0 (mF o ad)) (F0 m 4 ls [])) (k17 : Int32 → Int32 → Int32 → Int32 → Option Int32) (hk17 : ∀ (x1 : Int32) (x2 : Int32) (x3 : Int32) (x4 : Int32), k17 x1 x2 x3 x4 = some r → ∀ (H : Heap) (locs : List Loc), mS dC dI ac o ad s.heap σ H locs → ∀ (ls : Array Slot), lv_has ls 5 [(0, .ref o), (1, .int x1), (2, .int x2), (3, .int x3), (4, .int x4)] → W p l e rM_pairsBy s m args below meth c H locs 0 0 (MQ below (mQi dC dI ac o ad r σ) args s 0 0 (mF o ad)) (F0 m 17 ls [])) (x1 : Int32) (x2 : Int32) (x3 : Int32) (x4 : Int32), M_pairsBy_b40 N σ k4 k17 x1 x2 x3 x4 = some r → ∀ (H : Heap) (locs : List Loc), mS dC dI ac o ad s.heap σ H locs → ∀ (ls : Array Slot), lv_has ls 5 [(0, .ref o), (1, .int x1), (2, .int x2), (3, .int x3), (4, .int x4)] → W p l e rM_pairsBy s m args below meth c H locs 0 0 (MQ below (mQi dC dI ac o ad r σ) args s 0 0 (mF o ad)) (F0 m 40 ls []) := by
    intro k4 hk4 k17 hk17 x1 x2 x3 x4 hf H locs hS ls hl
    unfold M_pairsBy_b40 at hf
    refine lv_iinc (v := (x4 + 1)) (lv' := [(4, .int (x4 + 1)), (0, .ref o), (1, .int x1), (2, .int x2), (3, .int x3)]) E.1 hb dX6_pairsBy_40 hl (k := 4) rfl rfl (by decide) rfl (fun ls hl => ?_)
    refine lv_goto (tgt := 17) E.1 hb dX6_pairsBy_43 (by decide) ?_
    exact hk17 x1 x2 x3 (x4 + 1) hf _ _ hS _ (lv_sub hl [1, 2, 3, 4, 0] rfl)
  have hL17 : ∀ (k4 : Int32 → Int32 → Int32 → Option Int32) (hk4 : ∀ (x1 : Int32) (x2 : Int32) (x3 : Int32), k4 x1 x2 x3 = some r → ∀ (H : Heap) (locs : List Loc), mS dC dI ac o ad s.heap σ H locs → ∀ (ls : Array Slot), lv_has ls 5 [(0, .ref o), (1, .int x1), (2, .int x2), (3, .int x3)] → W p l e rM_pairsBy s m args below meth c H locs 0 0 (MQ below (mQi dC dI ac o ad r σ) args s 0 0 (mF o ad)) (F0 m 4 ls [])) (n : Nat) (x1 : Int32) (x2 : Int32) (x3 : Int32) (x4 : Int32), rn4 (M_pairsBy_b17 N σ k4) n x1 x2 x3 x4 = some r → ∀ (H : Heap) (locs : List Loc), mS dC dI ac o ad s.heap σ H locs → ∀ (ls : Array Slot), lv_has ls 5 [(0, .ref o), (1, .int x1), (2, .int x2), (3, .int x3), (4, .int x4)] → W p l e rM_pairsBy s m args below meth c H locs 0 0 (MQ below (mQi dC dI ac o ad r σ) args s 0 0 (mF o ad)) (F0 m 17 ls []) := by
    intro k4 hk4 n
    induction n with
    | zero =>
      intro x1 x2 x3 x4 hf
      cases hf
    | succ n ih =>
      intro x1 x2 x3 x4 hf H locs hS ls hl
      have hf : M_pairsBy_b17 N σ k4 (rn4 (M_pairsBy_b17 N σ k4) n) x1 x2 x3 x4 = some r := hf
      have hk17 := ih
      generalize rn4 (M_pairsBy_b17 N σ k4) n = k17 at hf hk17
      unfold M_pairsBy_b17 at hf
      refine lv_iload E.1 hb dX6_pairsBy_17 (lv_at hl 4 rfl) ?_
      refine lv_aload_n E.1 hb dX6_pairsBy_19 rfl (lv_at hl 0 rfl) ?_
      obtain ⟨r2, h1, hf⟩ := bo_s hf
      refine m_cVi E hb hml hl.1 hS (cmf_beingMany h1) gw_beingMany gn_beingMany rfl rfl (Nat.le_of_ble_eq_true rfl) ⟨Nat.le_of_ble_eq_true rfl, Nat.le_of_ble_eq_true rfl⟩ ⟨Nat.le_refl 0, Nat.le_refl 0⟩ dX6_pairsBy_20 (fun H locs hS => ?_)
      refine lv_icmp_ge (tgt := 46) E.1 hb dX6_pairsBy_23 (by decide) (fun hc => ?_) (fun hc => ?_)
      · have hf := it_s hc hf
        refine lv_iinc (v := (x3 + 1)) (lv' := [(3, .int (x3 + 1)), (0, .ref o), (1, .int x1), (2, .int x2), (4, .int x4)]) E.1 hb dX6_pairsBy_46 hl (k := 3) rfl rfl (by decide) rfl (fun ls hl => ?_)
        refine lv_goto (tgt := 4) E.1 hb dX6_pairsBy_49 (by decide) ?_
        exact hk4 x1 x2 (x3 + 1) hf _ _ hS _ (lv_sub hl [1, 2, 3, 0] rfl)
      · have hf := if_s hc hf
        refine lv_aload_n E.1 hb dX6_pairsBy_26 rfl (lv_at hl 0 rfl) ?_
        refine lv_iload_n E.1 hb dX6_pairsBy_27 rfl (lv_at hl 3 rfl) ?_
        refine lv_iload E.1 hb dX6_pairsBy_28 (lv_at hl 4 rfl) ?_
        refine lv_iload_n E.1 hb dX6_pairsBy_30 rfl (lv_at hl 1 rfl) ?_
        obtain ⟨r3, h1, hf⟩ := bo_s hf
        refine m_cVi E hb hml hl.1 hS (cmf_doMeet h1) gw_doMeet gn_doMeet rfl rfl (Nat.le_of_ble_eq_true rfl) ⟨Nat.le_of_ble_eq_true rfl, Nat.le_of_ble_eq_true rfl⟩ ⟨Nat.le_refl 0, Nat.le_refl 0⟩ dX6_pairsBy_31 (fun H locs hS => ?_)
        refine lv_if_eq (tgt := 40) E.1 hb dX6_pairsBy_34 (by decide) (fun hc => ?_) (fun hc => ?_)
        · have hf := it_s hc hf
          exact hB40 k4 hk4 k17 hk17 x1 x2 x3 x4 hf _ _ hS _ (lv_sub hl [0, 1, 2, 3, 4] rfl)
        · have hf := if_s hc hf
          refine lv_iinc (v := (x2 + 1)) (lv' := [(2, .int (x2 + 1)), (0, .ref o), (1, .int x1), (3, .int x3), (4, .int x4)]) E.1 hb dX6_pairsBy_37 hl (k := 2) rfl rfl (by decide) rfl (fun ls hl => ?_)
          exact hB40 k4 hk4 k17 hk17 x1 (x2 + 1) x3 x4 hf _ _ hS _ (lv_sub hl [1, 2, 0, 3, 4] rfl)
  have hL4 : ∀ (n : Nat) (x1 : Int32) (x2 : Int32) (x3 : Int32), rn3 (M_pairsBy_b4 N σ) n x1 x2 x3 = some r → ∀ (H : Heap) (locs : List Loc), mS dC dI ac o ad s.heap σ H locs → ∀ (ls : Array Slot), lv_has ls 5 [(0, .ref o), (1, .int x1), (2, .int x2), (3, .int x3)] → W p l e rM_pairsBy s m args below meth c H locs 0 0 (MQ below (mQi dC dI ac o ad r σ) args s 0 0 (mF o ad)) (F0 m 4 ls []) := by
    intro  n
    induction n with
    | zero =>
      intro x1 x2 x3 hf
      cases hf
    | succ n ih =>
      intro x1 x2 x3 hf H locs hS ls hl
      have hf : M_pairsBy_b4 N σ (rn3 (M_pairsBy_b4 N σ) n) x1 x2 x3 = some r := hf
      have hk4 := ih
      generalize rn3 (M_pairsBy_b4 N σ) n = k4 at hf hk4
      unfold M_pairsBy_b4 at hf
      refine lv_iload_n E.1 hb dX6_pairsBy_4 rfl (lv_at hl 3 rfl) ?_
      refine lv_aload_n E.1 hb dX6_pairsBy_5 rfl (lv_at hl 0 rfl) ?_
      obtain ⟨r1, h1, hf⟩ := bo_s hf
      refine m_cVi E hb hml hl.1 hS (cmf_beingMany h1) gw_beingMany gn_beingMany rfl rfl (Nat.le_of_ble_eq_true rfl) ⟨Nat.le_of_ble_eq_true rfl, Nat.le_of_ble_eq_true rfl⟩ ⟨Nat.le_refl 0, Nat.le_refl 0⟩ dX6_pairsBy_6 (fun H locs hS => ?_)
      refine lv_icmp_ge (tgt := 52) E.1 hb dX6_pairsBy_9 (by decide) (fun hc => ?_) (fun hc => ?_)
      · have hf := it_s hc hf
        refine lv_iload_n E.1 hb dX6_pairsBy_52 rfl (lv_at hl 2 rfl) ?_
        exact m_irR E hb hr hlk hS hf dX6_pairsBy_53
      · have hf := if_s hc hf
        refine lv_iload_n E.1 hb dX6_pairsBy_12 rfl (lv_at hl 3 rfl) ?_
        refine lv_iconst (v := 1) E.1 hb dX6_pairsBy_13 rfl ?_
        refine lv_iadd E.1 hb dX6_pairsBy_14 ?_
        refine lv_istore (lv' := [(4, .int (x3 + 1)), (0, .ref o), (1, .int x1), (2, .int x2), (3, .int x3)]) E.1 hb dX6_pairsBy_15 hl (by decide) rfl (fun ls hl => ?_)
        exact hL17 k4 hk4 N x1 x2 x3 (x3 + 1) hf _ _ hS _ (lv_sub hl [1, 2, 3, 4, 0] rfl)
  unfold M_pairsBy at hf
  refine lv_iconst (v := 0) E.1 hb dX6_pairsBy_0 rfl ?_
  refine lv_istore_n (lv' := [(2, .int 0), (0, .ref o), (1, .int x1)]) E.1 hb dX6_pairsBy_1 rfl hl (by decide) rfl (fun ls hl => ?_)
  refine lv_iconst (v := 0) E.1 hb dX6_pairsBy_2 rfl ?_
  refine lv_istore_n (lv' := [(3, .int 0), (2, .int 0), (0, .ref o), (1, .int x1)]) E.1 hb dX6_pairsBy_3 rfl hl (by decide) rfl (fun ls hl => ?_)
  exact hL4 N x1 0 0 hf _ _ hS _ (lv_sub hl [2, 3, 1, 0] rfl)
/-! pairs(I)I: RW -/
noncomputable def M_pairs_b45 (N : Nat) (σ : mSt) (y0 : Int32) : Option (Int32 × mSt) :=
  bo (M_pairsBy N σ y0) fun r3 => some (r3, σ)
noncomputable def M_pairs (N : Nat) (σ : mSt) (x1 : Int32) : Option (Int32 × mSt) :=
  if (σ.1 54 0) = 0 then (some ((-1), σ)) else (bo (M_leaves σ) fun r1 => bo (M_isIn (Int32.toInt64 x1) (-1) (Int32.toInt64 r1)) fun r2 => if r2 = 0 then (some ((-1), σ)) else (if x1 = (-1) then (bo (ld 2 σ 56 0) fun v4 => bd (M_openingOn N σ v4) fun r5 σ6 => M_pairs_b45 N σ6 r5) else (M_pairs_b45 N σ x1)))
abbrev rM_pairs : Room := { frames := 4, cells := 0, slots := 0, locals := 96 }
set_option maxHeartbeats 4000000 in
theorem cmf_pairs {l : Launch} {dC : Nat → ClassId} {dI : Nat → Nat → Nat} {ac : Nat → ClassId} {o : Nat} {ad : Nat → Nat} {N : Nat} {σ : mSt} {x1 : Int32} {r : Int32} {σ' : mSt} (hf : M_pairs N σ x1 = some (r, σ')) : Met l yX6_pairs (ws_ yX6_pairs cX6_pairs 2 (some .int)) { frames := 4, cells := 0, slots := 0, locals := 96 } (va_Pc [.ref o, .int x1] (mPre dC dI ac o ad σ)) (mQi dC dI ac o ad r σ') 0 0 (mF o ad) := by
  refine m_of (by decide) rfl (Nat.le_of_ble_eq_true rfl) ?_
  intro p e s m args below meth c E hb hr hlk hml hS ls hl
  have hl : lv_has ls 2 [(0, .ref o), (1, .int x1)] := hl
  have hB45 : ∀ (σ : mSt) (y0 : Int32), M_pairs_b45 N σ y0 = some (r, σ') → ∀ (H : Heap) (locs : List Loc), mS dC dI ac o ad s.heap σ H locs → ∀ (ls : Array Slot), lv_has ls 2 [(0, .ref o)] → W p l e rM_pairs s m args below meth c H locs 0 0 (MQ below (mQi dC dI ac o ad r σ') args s 0 0 (mF o ad)) (F0 m 45 ls [.int y0, .ref o]) := by
    intro σ y0 hf H locs hS ls hl
    unfold M_pairs_b45 at hf
    obtain ⟨r3, h1, hf⟩ := bo_s hf
    refine m_cVi E hb hml hl.1 hS (cmf_pairsBy h1) gw_pairsBy gn_pairsBy rfl rfl (Nat.le_of_ble_eq_true rfl) ⟨Nat.le_of_ble_eq_true rfl, Nat.le_of_ble_eq_true rfl⟩ ⟨Nat.le_refl 0, Nat.le_refl 0⟩ dX6_pairs_45 (fun H locs hS => ?_)
    exact m_ir E hb hr hlk hS hf dX6_pairs_48
  unfold M_pairs at hf
  refine lv_aload_n E.1 hb dX6_pairs_0 rfl (lv_at hl 0 rfl) ?_
  refine m_gZ (k := 54) E hb hS rfl fl_54 dX6_pairs_1 ?_
  refine lv_if_eq (tgt := 23) E.1 hb dX6_pairs_4 (by decide) (fun hc => ?_) (fun hc => ?_)
  · have hf := it_s hc hf
    refine lv_iconst (v := (-1)) E.1 hb dX6_pairs_23 rfl ?_
    exact m_ir E hb hr hlk hS hf dX6_pairs_24
  · have hf := if_s hc hf
    refine lv_iload_n E.1 hb dX6_pairs_7 rfl (lv_at hl 1 rfl) ?_
    refine lv_i2l E.1 hb dX6_pairs_8 rfl ?_
    refine lv_ldc2 E.1 hb E.2.1 (E.2.2.1 _ q2310) dX6_pairs_9 ?_
    refine lv_aload_n E.1 hb dX6_pairs_12 rfl (lv_at hl 0 rfl) ?_
    obtain ⟨r1, h1, hf⟩ := bo_s hf
    refine m_cVi E hb hml hl.1 hS (cmf_leaves h1) gw_leaves gn_leaves rfl rfl (Nat.le_of_ble_eq_true rfl) ⟨Nat.le_of_ble_eq_true rfl, Nat.le_of_ble_eq_true rfl⟩ ⟨Nat.le_refl 0, Nat.le_refl 0⟩ dX6_pairs_13 (fun H locs hS => ?_)
    refine lv_i2l E.1 hb dX6_pairs_16 rfl ?_
    obtain ⟨r2, h1, hf⟩ := bo_s hf
    refine m_cSi E hb hml hl.1 hS (cmf_isIn h1) gw_isIn gn_isIn rfl rfl (Nat.le_of_ble_eq_true rfl) ⟨Nat.le_of_ble_eq_true rfl, Nat.le_of_ble_eq_true rfl⟩ ⟨Nat.le_refl 0, Nat.le_refl 0⟩ dX6_pairs_17 (fun H locs hS => ?_)
    refine lv_if_ne (tgt := 25) E.1 hb dX6_pairs_20 (by decide) (fun hc => ?_) (fun hc => ?_)
    · have hf := if_s hc hf
      refine lv_aload_n E.1 hb dX6_pairs_25 rfl (lv_at hl 0 rfl) ?_
      refine lv_iload_n E.1 hb dX6_pairs_26 rfl (lv_at hl 1 rfl) ?_
      refine lv_iconst (v := (-1)) E.1 hb dX6_pairs_27 rfl ?_
      refine lv_icmp_ne (tgt := 44) E.1 hb dX6_pairs_28 (by decide) (fun hc => ?_) (fun hc => ?_)
      · have hf := if_s hc hf
        refine lv_iload_n E.1 hb dX6_pairs_44 rfl (lv_at hl 1 rfl) ?_
        exact hB45 σ x1 hf _ _ hS _ (lv_sub hl [0] rfl)
      · have hf := it_s hc hf
        refine lv_aload_n E.1 hb dX6_pairs_31 rfl (lv_at hl 0 rfl) ?_
        refine lv_aload_n E.1 hb dX6_pairs_32 rfl (lv_at hl 0 rfl) ?_
        refine m_gA (k := 56) E hb hS 2 rfl (by decide) fl_56 dX6_pairs_33 ?_
        refine lv_iconst (v := 0) E.1 hb dX6_pairs_36 rfl ?_
        obtain ⟨hg, hf⟩ := ld_s hf
        refine m_ild E hb hS hg dX6_pairs_37 ?_
        obtain ⟨r5, σ6, h1, hf⟩ := bd_s hf
        refine m_cVi E hb hml hl.1 hS (cmf_openingOn h1) gw_openingOn gn_openingOn rfl rfl (Nat.le_of_ble_eq_true rfl) ⟨Nat.le_of_ble_eq_true rfl, Nat.le_of_ble_eq_true rfl⟩ ⟨Nat.le_refl 0, Nat.le_refl 0⟩ dX6_pairs_38 (fun H locs hS => ?_)
        refine lv_goto (tgt := 45) E.1 hb dX6_pairs_41 (by decide) ?_
        exact hB45 σ6 r5 hf _ _ hS _ (lv_sub hl [0] rfl)
    · have hf := it_s hc hf
      refine lv_iconst (v := (-1)) E.1 hb dX6_pairs_23 rfl ?_
      exact m_ir E hb hr hlk hS hf dX6_pairs_24
/-! apart()I: RO -/
noncomputable def M_apart_b36 (N : Nat) (σ : mSt) (k13 : Int32 → Int32 → Option Int32) (x1 : Int32) (x2 : Int32) : Option Int32 :=
  k13 x1 (x2 + 1)
noncomputable def M_apart_b13 (N : Nat) (σ : mSt) (k13 : Int32 → Int32 → Option Int32) (x1 : Int32) (x2 : Int32) : Option Int32 :=
  bo (M_leaves σ) fun r1 => if r1 < x2 then (some x1) else (bo (M_pairsBy N σ x2) fun r2 => bo (M_pairsBy N σ x1) fun r3 => if r3 ≤ r2 then (M_apart_b36 N σ k13 x1 x2) else (M_apart_b36 N σ k13 x2 x2))
noncomputable def M_apart (N : Nat) (σ : mSt) : Option Int32 :=
  if (σ.1 54 0) = 0 then (some (-1)) else (rn2 (M_apart_b13 N σ) N 0 1)
abbrev rM_apart : Room := { frames := 4, cells := 0, slots := 0, locals := 92 }
set_option maxHeartbeats 4000000 in
theorem cmf_apart {l : Launch} {dC : Nat → ClassId} {dI : Nat → Nat → Nat} {ac : Nat → ClassId} {o : Nat} {ad : Nat → Nat} {N : Nat} {σ : mSt} {r : Int32} (hf : M_apart N σ = some r) : Met l yX6_apart (ws_ yX6_apart cX6_apart 3 (some .int)) { frames := 4, cells := 0, slots := 0, locals := 92 } (va_Pc [.ref o] (mPre dC dI ac o ad σ)) (mQi dC dI ac o ad r σ) 0 0 (mF o ad) := by
  refine m_of (by decide) rfl (Nat.le_of_ble_eq_true rfl) ?_
  intro p e s m args below meth c E hb hr hlk hml hS ls hl
  have hl : lv_has ls 3 [(0, .ref o)] := hl
  have hB36 : ∀ (k13 : Int32 → Int32 → Option Int32) (hk13 : ∀ (x1 : Int32) (x2 : Int32), k13 x1 x2 = some r → ∀ (H : Heap) (locs : List Loc), mS dC dI ac o ad s.heap σ H locs → ∀ (ls : Array Slot), lv_has ls 3 [(0, .ref o), (1, .int x1), (2, .int x2)] → W p l e rM_apart s m args below meth c H locs 0 0 (MQ below (mQi dC dI ac o ad r σ) args s 0 0 (mF o ad)) (F0 m 13 ls [])) (x1 : Int32) (x2 : Int32), M_apart_b36 N σ k13 x1 x2 = some r → ∀ (H : Heap) (locs : List Loc), mS dC dI ac o ad s.heap σ H locs → ∀ (ls : Array Slot), lv_has ls 3 [(0, .ref o), (1, .int x1), (2, .int x2)] → W p l e rM_apart s m args below meth c H locs 0 0 (MQ below (mQi dC dI ac o ad r σ) args s 0 0 (mF o ad)) (F0 m 36 ls []) := by
    intro k13 hk13 x1 x2 hf H locs hS ls hl
    unfold M_apart_b36 at hf
    refine lv_iinc (v := (x2 + 1)) (lv' := [(2, .int (x2 + 1)), (0, .ref o), (1, .int x1)]) E.1 hb dX6_apart_36 hl (k := 2) rfl rfl (by decide) rfl (fun ls hl => ?_)
    refine lv_goto (tgt := 13) E.1 hb dX6_apart_39 (by decide) ?_
    exact hk13 x1 (x2 + 1) hf _ _ hS _ (lv_sub hl [1, 2, 0] rfl)
  have hL13 : ∀ (n : Nat) (x1 : Int32) (x2 : Int32), rn2 (M_apart_b13 N σ) n x1 x2 = some r → ∀ (H : Heap) (locs : List Loc), mS dC dI ac o ad s.heap σ H locs → ∀ (ls : Array Slot), lv_has ls 3 [(0, .ref o), (1, .int x1), (2, .int x2)] → W p l e rM_apart s m args below meth c H locs 0 0 (MQ below (mQi dC dI ac o ad r σ) args s 0 0 (mF o ad)) (F0 m 13 ls []) := by
    intro  n
    induction n with
    | zero =>
      intro x1 x2 hf
      cases hf
    | succ n ih =>
      intro x1 x2 hf H locs hS ls hl
      have hf : M_apart_b13 N σ (rn2 (M_apart_b13 N σ) n) x1 x2 = some r := hf
      have hk13 := ih
      generalize rn2 (M_apart_b13 N σ) n = k13 at hf hk13
      unfold M_apart_b13 at hf
      refine lv_iload_n E.1 hb dX6_apart_13 rfl (lv_at hl 2 rfl) ?_
      refine lv_aload_n E.1 hb dX6_apart_14 rfl (lv_at hl 0 rfl) ?_
      obtain ⟨r1, h1, hf⟩ := bo_s hf
      refine m_cVi E hb hml hl.1 hS (cmf_leaves h1) gw_leaves gn_leaves rfl rfl (Nat.le_of_ble_eq_true rfl) ⟨Nat.le_of_ble_eq_true rfl, Nat.le_of_ble_eq_true rfl⟩ ⟨Nat.le_refl 0, Nat.le_refl 0⟩ dX6_apart_15 (fun H locs hS => ?_)
      refine lv_icmp_gt (tgt := 42) E.1 hb dX6_apart_18 (by decide) (fun hc => ?_) (fun hc => ?_)
      · have hf := it_s hc hf
        refine lv_iload_n E.1 hb dX6_apart_42 rfl (lv_at hl 1 rfl) ?_
        exact m_irR E hb hr hlk hS hf dX6_apart_43
      · have hf := if_s hc hf
        refine lv_aload_n E.1 hb dX6_apart_21 rfl (lv_at hl 0 rfl) ?_
        refine lv_iload_n E.1 hb dX6_apart_22 rfl (lv_at hl 2 rfl) ?_
        obtain ⟨r2, h1, hf⟩ := bo_s hf
        refine m_cVi E hb hml hl.1 hS (cmf_pairsBy h1) gw_pairsBy gn_pairsBy rfl rfl (Nat.le_of_ble_eq_true rfl) ⟨Nat.le_of_ble_eq_true rfl, Nat.le_of_ble_eq_true rfl⟩ ⟨Nat.le_refl 0, Nat.le_refl 0⟩ dX6_apart_23 (fun H locs hS => ?_)
        refine lv_aload_n E.1 hb dX6_apart_26 rfl (lv_at hl 0 rfl) ?_
        refine lv_iload_n E.1 hb dX6_apart_27 rfl (lv_at hl 1 rfl) ?_
        obtain ⟨r3, h1, hf⟩ := bo_s hf
        refine m_cVi E hb hml hl.1 hS (cmf_pairsBy h1) gw_pairsBy gn_pairsBy rfl rfl (Nat.le_of_ble_eq_true rfl) ⟨Nat.le_of_ble_eq_true rfl, Nat.le_of_ble_eq_true rfl⟩ ⟨Nat.le_refl 0, Nat.le_refl 0⟩ dX6_apart_28 (fun H locs hS => ?_)
        refine lv_icmp_ge (tgt := 36) E.1 hb dX6_apart_31 (by decide) (fun hc => ?_) (fun hc => ?_)
        · have hf := it_s hc hf
          exact hB36 k13 hk13 x1 x2 hf _ _ hS _ (lv_sub hl [0, 1, 2] rfl)
        · have hf := if_s hc hf
          refine lv_iload_n E.1 hb dX6_apart_34 rfl (lv_at hl 2 rfl) ?_
          refine lv_istore_n (lv' := [(1, .int x2), (0, .ref o), (2, .int x2)]) E.1 hb dX6_apart_35 rfl hl (by decide) rfl (fun ls hl => ?_)
          exact hB36 k13 hk13 x2 x2 hf _ _ hS _ (lv_sub hl [1, 0, 2] rfl)
  unfold M_apart at hf
  refine lv_aload_n E.1 hb dX6_apart_0 rfl (lv_at hl 0 rfl) ?_
  refine m_gZ (k := 54) E hb hS rfl fl_54 dX6_apart_1 ?_
  refine lv_if_ne (tgt := 9) E.1 hb dX6_apart_4 (by decide) (fun hc => ?_) (fun hc => ?_)
  · have hf := if_s hc hf
    refine lv_iconst (v := 0) E.1 hb dX6_apart_9 rfl ?_
    refine lv_istore_n (lv' := [(1, .int 0), (0, .ref o)]) E.1 hb dX6_apart_10 rfl hl (by decide) rfl (fun ls hl => ?_)
    refine lv_iconst (v := 1) E.1 hb dX6_apart_11 rfl ?_
    refine lv_istore_n (lv' := [(2, .int 1), (1, .int 0), (0, .ref o)]) E.1 hb dX6_apart_12 rfl hl (by decide) rfl (fun ls hl => ?_)
    exact hL13 N 0 1 hf _ _ hS _ (lv_sub hl [2, 1, 0] rfl)
  · have hf := it_s hc hf
    refine lv_iconst (v := (-1)) E.1 hb dX6_apart_7 rfl ?_
    exact m_irR E hb hr hlk hS hf dX6_apart_8
/-! rowsOf(I)I: RO -/
noncomputable def M_rowsOf_b4 (N : Nat) (σ : mSt) (k4 : Int32 → Int32 → Int32 → Option Int32) (x1 : Int32) (x2 : Int32) (x3 : Int32) : Option Int32 :=
  if x1 ≤ x3 then (some x2) else (bo (M_leaves σ) fun r1 => k4 x1 (x2 * (r1 + 1)) (x3 + 1))
noncomputable def M_rowsOf (N : Nat) (σ : mSt) (x1 : Int32) : Option Int32 :=
  rn3 (M_rowsOf_b4 N σ) N x1 1 0
theorem gw_rowsOf : GoodIn lw_all (wsV RX6 517 RX6 yX6_rowsOf (ws_ yX6_rowsOf cX6_rowsOf 4 (some .int))) := lw_V q2327 q2329 qs121 q164 q2330
theorem gn_rowsOf : yX6_rowsOf.cls = RX6 ∧ yX6_rowsOf.cls ≠ "java/lang/invoke/MethodHandle" ∧ yX6_rowsOf.cls ≠ "java/lang/invoke/VarHandle" ∧ (parseMethodDescriptor yX6_rowsOf.desc).map (fun d => d.parameters.length) = some 1 := by decide +kernel
abbrev rM_rowsOf : Room := { frames := 1, cells := 0, slots := 0, locals := 20 }
set_option maxHeartbeats 4000000 in
theorem cmf_rowsOf {l : Launch} {dC : Nat → ClassId} {dI : Nat → Nat → Nat} {ac : Nat → ClassId} {o : Nat} {ad : Nat → Nat} {N : Nat} {σ : mSt} {x1 : Int32} {r : Int32} (hf : M_rowsOf N σ x1 = some r) : Met l yX6_rowsOf (ws_ yX6_rowsOf cX6_rowsOf 4 (some .int)) { frames := 1, cells := 0, slots := 0, locals := 20 } (va_Pc [.ref o, .int x1] (mPre dC dI ac o ad σ)) (mQi dC dI ac o ad r σ) 0 0 (mF o ad) := by
  refine m_of (by decide) rfl (Nat.le_of_ble_eq_true rfl) ?_
  intro p e s m args below meth c E hb hr hlk hml hS ls hl
  have hl : lv_has ls 4 [(0, .ref o), (1, .int x1)] := hl
  have hL4 : ∀ (n : Nat) (x1 : Int32) (x2 : Int32) (x3 : Int32), rn3 (M_rowsOf_b4 N σ) n x1 x2 x3 = some r → ∀ (H : Heap) (locs : List Loc), mS dC dI ac o ad s.heap σ H locs → ∀ (ls : Array Slot), lv_has ls 4 [(0, .ref o), (1, .int x1), (2, .int x2), (3, .int x3)] → W p l e rM_rowsOf s m args below meth c H locs 0 0 (MQ below (mQi dC dI ac o ad r σ) args s 0 0 (mF o ad)) (F0 m 4 ls []) := by
    intro  n
    induction n with
    | zero =>
      intro x1 x2 x3 hf
      cases hf
    | succ n ih =>
      intro x1 x2 x3 hf H locs hS ls hl
      have hf : M_rowsOf_b4 N σ (rn3 (M_rowsOf_b4 N σ) n) x1 x2 x3 = some r := hf
      have hk4 := ih
      generalize rn3 (M_rowsOf_b4 N σ) n = k4 at hf hk4
      unfold M_rowsOf_b4 at hf
      refine lv_iload_n E.1 hb dX6_rowsOf_4 rfl (lv_at hl 3 rfl) ?_
      refine lv_iload_n E.1 hb dX6_rowsOf_5 rfl (lv_at hl 1 rfl) ?_
      refine lv_icmp_ge (tgt := 24) E.1 hb dX6_rowsOf_6 (by decide) (fun hc => ?_) (fun hc => ?_)
      · have hf := it_s hc hf
        refine lv_iload_n E.1 hb dX6_rowsOf_24 rfl (lv_at hl 2 rfl) ?_
        exact m_irR E hb hr hlk hS hf dX6_rowsOf_25
      · have hf := if_s hc hf
        refine lv_iload_n E.1 hb dX6_rowsOf_9 rfl (lv_at hl 2 rfl) ?_
        refine lv_aload_n E.1 hb dX6_rowsOf_10 rfl (lv_at hl 0 rfl) ?_
        obtain ⟨r1, h1, hf⟩ := bo_s hf
        refine m_cVi E hb hml hl.1 hS (cmf_leaves h1) gw_leaves gn_leaves rfl rfl (Nat.le_of_ble_eq_true rfl) ⟨Nat.le_of_ble_eq_true rfl, Nat.le_of_ble_eq_true rfl⟩ ⟨Nat.le_refl 0, Nat.le_refl 0⟩ dX6_rowsOf_11 (fun H locs hS => ?_)
        refine lv_iconst (v := 1) E.1 hb dX6_rowsOf_14 rfl ?_
        refine lv_iadd E.1 hb dX6_rowsOf_15 ?_
        refine lv_imul E.1 hb dX6_rowsOf_16 ?_
        refine lv_istore_n (lv' := [(2, .int (x2 * (r1 + 1))), (0, .ref o), (1, .int x1), (3, .int x3)]) E.1 hb dX6_rowsOf_17 rfl hl (by decide) rfl (fun ls hl => ?_)
        refine lv_iinc (v := (x3 + 1)) (lv' := [(3, .int (x3 + 1)), (2, .int (x2 * (r1 + 1))), (0, .ref o), (1, .int x1)]) E.1 hb dX6_rowsOf_18 hl (k := 3) rfl rfl (by decide) rfl (fun ls hl => ?_)
        refine lv_goto (tgt := 4) E.1 hb dX6_rowsOf_21 (by decide) ?_
        exact hk4 x1 (x2 * (r1 + 1)) (x3 + 1) hf _ _ hS _ (lv_sub hl [2, 3, 1, 0] rfl)
  unfold M_rowsOf at hf
  refine lv_iconst (v := 1) E.1 hb dX6_rowsOf_0 rfl ?_
  refine lv_istore_n (lv' := [(2, .int 1), (0, .ref o), (1, .int x1)]) E.1 hb dX6_rowsOf_1 rfl hl (by decide) rfl (fun ls hl => ?_)
  refine lv_iconst (v := 0) E.1 hb dX6_rowsOf_2 rfl ?_
  refine lv_istore_n (lv' := [(3, .int 0), (2, .int 1), (0, .ref o), (1, .int x1)]) E.1 hb dX6_rowsOf_3 rfl hl (by decide) rfl (fun ls hl => ?_)
  exact hL4 N x1 1 0 hf _ _ hS _ (lv_sub hl [2, 3, 1, 0] rfl)
/-! openingAt(III)I: RO -/
noncomputable def M_openingAt (N : Nat) (σ : mSt) (x1 : Int32) (x2 : Int32) (x3 : Int32) : Option Int32 :=
  bo (M_rowsOf N σ ((x2 - 1) - x3)) fun r1 => if ¬ r1 = 0 then (bo (M_leaves σ) fun r2 => if ¬ (r2 + 1) = 0 then (some ((x1 / r1) - (x1 / r1) / (r2 + 1) * (r2 + 1))) else none) else none
theorem gw_openingAt : GoodIn lw_all (wsV RX6 526 RX6 yX6_openingAt (ws_ yX6_openingAt cX6_openingAt 4 (some .int))) := lw_V q2335 q2337 qs123 q164 q2338
theorem gn_openingAt : yX6_openingAt.cls = RX6 ∧ yX6_openingAt.cls ≠ "java/lang/invoke/MethodHandle" ∧ yX6_openingAt.cls ≠ "java/lang/invoke/VarHandle" ∧ (parseMethodDescriptor yX6_openingAt.desc).map (fun d => d.parameters.length) = some 3 := by decide +kernel
abbrev rM_openingAt : Room := { frames := 2, cells := 0, slots := 0, locals := 43 }
set_option maxHeartbeats 4000000 in
theorem cmf_openingAt {l : Launch} {dC : Nat → ClassId} {dI : Nat → Nat → Nat} {ac : Nat → ClassId} {o : Nat} {ad : Nat → Nat} {N : Nat} {σ : mSt} {x1 : Int32} {x2 : Int32} {x3 : Int32} {r : Int32} (hf : M_openingAt N σ x1 x2 x3 = some r) : Met l yX6_openingAt (ws_ yX6_openingAt cX6_openingAt 4 (some .int)) { frames := 2, cells := 0, slots := 0, locals := 43 } (va_Pc [.ref o, .int x1, .int x2, .int x3] (mPre dC dI ac o ad σ)) (mQi dC dI ac o ad r σ) 0 0 (mF o ad) := by
  refine m_of (by decide) rfl (Nat.le_of_ble_eq_true rfl) ?_
  intro p e s m args below meth c E hb hr hlk hml hS ls hl
  have hl : lv_has ls 4 [(0, .ref o), (1, .int x1), (2, .int x2), (3, .int x3)] := hl
  unfold M_openingAt at hf
  refine lv_iload_n E.1 hb dX6_openingAt_0 rfl (lv_at hl 1 rfl) ?_
  refine lv_aload_n E.1 hb dX6_openingAt_1 rfl (lv_at hl 0 rfl) ?_
  refine lv_iload_n E.1 hb dX6_openingAt_2 rfl (lv_at hl 2 rfl) ?_
  refine lv_iconst (v := 1) E.1 hb dX6_openingAt_3 rfl ?_
  refine lv_isub E.1 hb dX6_openingAt_4 ?_
  refine lv_iload_n E.1 hb dX6_openingAt_5 rfl (lv_at hl 3 rfl) ?_
  refine lv_isub E.1 hb dX6_openingAt_6 ?_
  obtain ⟨r1, h1, hf⟩ := bo_s hf
  refine m_cVi E hb hml hl.1 hS (cmf_rowsOf h1) gw_rowsOf gn_rowsOf rfl rfl (Nat.le_of_ble_eq_true rfl) ⟨Nat.le_of_ble_eq_true rfl, Nat.le_of_ble_eq_true rfl⟩ ⟨Nat.le_refl 0, Nat.le_refl 0⟩ dX6_openingAt_7 (fun H locs hS => ?_)
  obtain ⟨hg, hf⟩ := gu_s hf
  refine lv_idiv E.1 hb dX6_openingAt_10 hg ?_
  refine lv_aload_n E.1 hb dX6_openingAt_11 rfl (lv_at hl 0 rfl) ?_
  obtain ⟨r2, h1, hf⟩ := bo_s hf
  refine m_cVi E hb hml hl.1 hS (cmf_leaves h1) gw_leaves gn_leaves rfl rfl (Nat.le_of_ble_eq_true rfl) ⟨Nat.le_of_ble_eq_true rfl, Nat.le_of_ble_eq_true rfl⟩ ⟨Nat.le_refl 0, Nat.le_refl 0⟩ dX6_openingAt_12 (fun H locs hS => ?_)
  refine lv_iconst (v := 1) E.1 hb dX6_openingAt_15 rfl ?_
  refine lv_iadd E.1 hb dX6_openingAt_16 ?_
  obtain ⟨hg, hf⟩ := gu_s hf
  refine lv_irem E.1 hb dX6_openingAt_17 hg ?_
  exact m_irR E hb hr hlk hS hf dX6_openingAt_18
/-! reading(II)I: RW -/
noncomputable def M_reading_b114 (N : Nat) (k46 : mSt → Int32 → Int32 → Int32 → Int32 → Int32 → Int32 → Option (Int32 × mSt)) (σ : mSt) (x1 : Int32) (x2 : Int32) (x3 : Int32) (x4 : Int32) (x5 : Int32) (x6 : Int32) : Option (Int32 × mSt) :=
  k46 σ x1 x2 x3 x4 x5 (x6 + 1)
noncomputable def M_reading_b107 (N : Nat) (k46 : mSt → Int32 → Int32 → Int32 → Int32 → Int32 → Int32 → Option (Int32 × mSt)) (σ : mSt) (x1 : Int32) (x2 : Int32) (x5 : Int32) (x6 : Int32) (x7 : Int32) : Option (Int32 × mSt) :=
  M_reading_b114 N k46 σ x1 x2 x6 x7 x5 x6
noncomputable def M_reading_b56 (N : Nat) (k46 : mSt → Int32 → Int32 → Int32 → Int32 → Int32 → Int32 → Option (Int32 × mSt)) (k56 : mSt → Int32 → Int32 → Int32 → Int32 → Int32 → Int32 → Int32 → Option (Int32 × mSt)) (σ : mSt) (x1 : Int32) (x2 : Int32) (x3 : Int32) (x4 : Int32) (x5 : Int32) (x6 : Int32) (x7 : Int32) : Option (Int32 × mSt) :=
  if x1 ≤ x7 then (bd (M_triesAnew N σ) fun _ σ7 => if x4 = (-1) then (M_reading_b107 N k46 σ7 x1 x2 x5 x6 (σ.1 62 0)) else (if (σ.1 62 0) < x4 then (M_reading_b107 N k46 σ7 x1 x2 x5 x6 (σ.1 62 0)) else (M_reading_b114 N k46 σ7 x1 x2 x3 x4 x5 x6))) else (bo (M_openingAt N σ x6 x1 x7) fun r8 => bd (M_dayBy N σ r8) fun _ σ9 => k56 σ9 x1 x2 x3 x4 x5 x6 (x7 + 1))
noncomputable def M_reading_b46 (N : Nat) (k46 : mSt → Int32 → Int32 → Int32 → Int32 → Int32 → Int32 → Option (Int32 × mSt)) (σ : mSt) (x1 : Int32) (x2 : Int32) (x3 : Int32) (x4 : Int32) (x5 : Int32) (x6 : Int32) : Option (Int32 × mSt) :=
  if x5 ≤ x6 then (bd (M_takesBack N σ) fun _ σ5 => if x2 = (-1) then (some (x4, σ5)) else (bo (M_openingAt N σ5 x3 x1 x2) fun r6 => some (r6, σ5))) else (rn8 (M_reading_b56 N k46) N σ x1 x2 x3 x4 x5 x6 0)
noncomputable def M_reading (N : Nat) (σ : mSt) (x1 : Int32) (x2 : Int32) : Option (Int32 × mSt) :=
  bo (M_isAhead σ x1 1 3) fun r1 => if r1 = 0 then (some ((-1), σ)) else (bo (M_isIn (Int32.toInt64 x2) (-1) (Int32.toInt64 (x1 - 1))) fun r2 => if r2 = 0 then (some ((-1), σ)) else (bo (M_rowsOf N σ x1) fun r3 => bd (M_putsAside N σ) fun _ σ4 => rn7 (M_reading_b46 N) N σ4 x1 x2 0 (-1) r3 0))
abbrev rM_reading : Room := { frames := 5, cells := 0, slots := 0, locals := 122 }
set_option maxHeartbeats 4000000 in
theorem cmf_reading {l : Launch} {dC : Nat → ClassId} {dI : Nat → Nat → Nat} {ac : Nat → ClassId} {o : Nat} {ad : Nat → Nat} {N : Nat} {σ : mSt} {x1 : Int32} {x2 : Int32} {r : Int32} {σ' : mSt} (hf : M_reading N σ x1 x2 = some (r, σ')) : Met l yX6_reading (ws_ yX6_reading cX6_reading 8 (some .int)) { frames := 5, cells := 0, slots := 0, locals := 122 } (va_Pc [.ref o, .int x1, .int x2] (mPre dC dI ac o ad σ)) (mQi dC dI ac o ad r σ') 0 0 (mF o ad) := by
  refine m_of (by decide) rfl (Nat.le_of_ble_eq_true rfl) ?_
  intro p e s m args below meth c E hb hr hlk hml hS ls hl
  have hl : lv_has ls 8 [(0, .ref o), (1, .int x1), (2, .int x2)] := hl
  have hB114 : ∀ (k46 : mSt → Int32 → Int32 → Int32 → Int32 → Int32 → Int32 → Option (Int32 × mSt)) (hk46 : ∀ (σ : mSt) (x1 : Int32) (x2 : Int32) (x3 : Int32) (x4 : Int32) (x5 : Int32) (x6 : Int32), k46 σ x1 x2 x3 x4 x5 x6 = some (r, σ') → ∀ (H : Heap) (locs : List Loc), mS dC dI ac o ad s.heap σ H locs → ∀ (ls : Array Slot), lv_has ls 8 [(0, .ref o), (1, .int x1), (2, .int x2), (3, .int x3), (4, .int x4), (5, .int x5), (6, .int x6)] → W p l e rM_reading s m args below meth c H locs 0 0 (MQ below (mQi dC dI ac o ad r σ') args s 0 0 (mF o ad)) (F0 m 46 ls [])) (σ : mSt) (x1 : Int32) (x2 : Int32) (x3 : Int32) (x4 : Int32) (x5 : Int32) (x6 : Int32), M_reading_b114 N k46 σ x1 x2 x3 x4 x5 x6 = some (r, σ') → ∀ (H : Heap) (locs : List Loc), mS dC dI ac o ad s.heap σ H locs → ∀ (ls : Array Slot), lv_has ls 8 [(0, .ref o), (1, .int x1), (2, .int x2), (3, .int x3), (4, .int x4), (5, .int x5), (6, .int x6)] → W p l e rM_reading s m args below meth c H locs 0 0 (MQ below (mQi dC dI ac o ad r σ') args s 0 0 (mF o ad)) (F0 m 114 ls []) := by
    intro k46 hk46 σ x1 x2 x3 x4 x5 x6 hf H locs hS ls hl
    unfold M_reading_b114 at hf
    refine lv_iinc (v := (x6 + 1)) (lv' := [(6, .int (x6 + 1)), (0, .ref o), (1, .int x1), (2, .int x2), (3, .int x3), (4, .int x4), (5, .int x5)]) E.1 hb dX6_reading_114 hl (k := 6) rfl rfl (by decide) rfl (fun ls hl => ?_)
    refine lv_goto (tgt := 46) E.1 hb dX6_reading_117 (by decide) ?_
    exact hk46 σ x1 x2 x3 x4 x5 (x6 + 1) hf _ _ hS _ (lv_sub hl [1, 2, 3, 4, 5, 6, 0] rfl)
  have hB107 : ∀ (k46 : mSt → Int32 → Int32 → Int32 → Int32 → Int32 → Int32 → Option (Int32 × mSt)) (hk46 : ∀ (σ : mSt) (x1 : Int32) (x2 : Int32) (x3 : Int32) (x4 : Int32) (x5 : Int32) (x6 : Int32), k46 σ x1 x2 x3 x4 x5 x6 = some (r, σ') → ∀ (H : Heap) (locs : List Loc), mS dC dI ac o ad s.heap σ H locs → ∀ (ls : Array Slot), lv_has ls 8 [(0, .ref o), (1, .int x1), (2, .int x2), (3, .int x3), (4, .int x4), (5, .int x5), (6, .int x6)] → W p l e rM_reading s m args below meth c H locs 0 0 (MQ below (mQi dC dI ac o ad r σ') args s 0 0 (mF o ad)) (F0 m 46 ls [])) (σ : mSt) (x1 : Int32) (x2 : Int32) (x5 : Int32) (x6 : Int32) (x7 : Int32), M_reading_b107 N k46 σ x1 x2 x5 x6 x7 = some (r, σ') → ∀ (H : Heap) (locs : List Loc), mS dC dI ac o ad s.heap σ H locs → ∀ (ls : Array Slot), lv_has ls 8 [(0, .ref o), (1, .int x1), (2, .int x2), (5, .int x5), (6, .int x6), (7, .int x7)] → W p l e rM_reading s m args below meth c H locs 0 0 (MQ below (mQi dC dI ac o ad r σ') args s 0 0 (mF o ad)) (F0 m 107 ls []) := by
    intro k46 hk46 σ x1 x2 x5 x6 x7 hf H locs hS ls hl
    unfold M_reading_b107 at hf
    refine lv_iload E.1 hb dX6_reading_107 (lv_at hl 4 rfl) ?_
    refine lv_istore_n (lv' := [(3, .int x6), (0, .ref o), (1, .int x1), (2, .int x2), (5, .int x5), (6, .int x6), (7, .int x7)]) E.1 hb dX6_reading_109 rfl hl (by decide) rfl (fun ls hl => ?_)
    refine lv_iload E.1 hb dX6_reading_110 (lv_at hl 6 rfl) ?_
    refine lv_istore (lv' := [(4, .int x7), (3, .int x6), (0, .ref o), (1, .int x1), (2, .int x2), (5, .int x5), (6, .int x6), (7, .int x7)]) E.1 hb dX6_reading_112 hl (by decide) rfl (fun ls hl => ?_)
    exact hB114 k46 hk46 σ x1 x2 x6 x7 x5 x6 hf _ _ hS _ (lv_sub hl [2, 3, 4, 1, 0, 5, 6] rfl)
  have hL56 : ∀ (k46 : mSt → Int32 → Int32 → Int32 → Int32 → Int32 → Int32 → Option (Int32 × mSt)) (hk46 : ∀ (σ : mSt) (x1 : Int32) (x2 : Int32) (x3 : Int32) (x4 : Int32) (x5 : Int32) (x6 : Int32), k46 σ x1 x2 x3 x4 x5 x6 = some (r, σ') → ∀ (H : Heap) (locs : List Loc), mS dC dI ac o ad s.heap σ H locs → ∀ (ls : Array Slot), lv_has ls 8 [(0, .ref o), (1, .int x1), (2, .int x2), (3, .int x3), (4, .int x4), (5, .int x5), (6, .int x6)] → W p l e rM_reading s m args below meth c H locs 0 0 (MQ below (mQi dC dI ac o ad r σ') args s 0 0 (mF o ad)) (F0 m 46 ls [])) (n : Nat) (σ : mSt) (x1 : Int32) (x2 : Int32) (x3 : Int32) (x4 : Int32) (x5 : Int32) (x6 : Int32) (x7 : Int32), rn8 (M_reading_b56 N k46) n σ x1 x2 x3 x4 x5 x6 x7 = some (r, σ') → ∀ (H : Heap) (locs : List Loc), mS dC dI ac o ad s.heap σ H locs → ∀ (ls : Array Slot), lv_has ls 8 [(0, .ref o), (1, .int x1), (2, .int x2), (3, .int x3), (4, .int x4), (5, .int x5), (6, .int x6), (7, .int x7)] → W p l e rM_reading s m args below meth c H locs 0 0 (MQ below (mQi dC dI ac o ad r σ') args s 0 0 (mF o ad)) (F0 m 56 ls []) := by
    intro k46 hk46 n
    induction n with
    | zero =>
      intro σ x1 x2 x3 x4 x5 x6 x7 hf
      cases hf
    | succ n ih =>
      intro σ x1 x2 x3 x4 x5 x6 x7 hf H locs hS ls hl
      have hf : M_reading_b56 N k46 (rn8 (M_reading_b56 N k46) n) σ x1 x2 x3 x4 x5 x6 x7 = some (r, σ') := hf
      have hk56 := ih
      generalize rn8 (M_reading_b56 N k46) n = k56 at hf hk56
      unfold M_reading_b56 at hf
      refine lv_iload E.1 hb dX6_reading_56 (lv_at hl 7 rfl) ?_
      refine lv_iload_n E.1 hb dX6_reading_58 rfl (lv_at hl 1 rfl) ?_
      refine lv_icmp_ge (tgt := 81) E.1 hb dX6_reading_59 (by decide) (fun hc => ?_) (fun hc => ?_)
      · have hf := it_s hc hf
        refine lv_aload_n E.1 hb dX6_reading_81 rfl (lv_at hl 0 rfl) ?_
        refine m_gI (k := 62) E hb hS rfl fl_62 dX6_reading_82 ?_
        refine lv_istore (lv' := [(7, .int (σ.1 62 0)), (0, .ref o), (1, .int x1), (2, .int x2), (3, .int x3), (4, .int x4), (5, .int x5), (6, .int x6)]) E.1 hb dX6_reading_85 hl (by decide) rfl (fun ls hl => ?_)
        refine lv_aload_n E.1 hb dX6_reading_87 rfl (lv_at hl 1 rfl) ?_
        obtain ⟨_, σ7, h1, hf⟩ := bd_s hf
        refine m_cVv E hb hml hl.1 hS (cmf_triesAnew h1) gw_triesAnew gn_triesAnew rfl rfl (Nat.le_of_ble_eq_true rfl) ⟨Nat.le_of_ble_eq_true rfl, Nat.le_of_ble_eq_true rfl⟩ ⟨Nat.le_refl 0, Nat.le_refl 0⟩ dX6_reading_88 (fun H locs hS => ?_)
        refine lv_iload E.1 hb dX6_reading_91 (lv_at hl 5 rfl) ?_
        refine lv_iconst (v := (-1)) E.1 hb dX6_reading_93 rfl ?_
        refine lv_icmp_eq (tgt := 107) E.1 hb dX6_reading_94 (by decide) (fun hc => ?_) (fun hc => ?_)
        · have hf := it_s hc hf
          exact hB107 k46 hk46 σ7 x1 x2 x5 x6 (σ.1 62 0) hf _ _ hS _ (lv_sub hl [1, 2, 3, 6, 7, 0] rfl)
        · have hf := if_s hc hf
          refine lv_iload E.1 hb dX6_reading_97 (lv_at hl 0 rfl) ?_
          refine lv_iload E.1 hb dX6_reading_99 (lv_at hl 5 rfl) ?_
          refine lv_icmp_lt (tgt := 107) E.1 hb dX6_reading_101 (by decide) (fun hc => ?_) (fun hc => ?_)
          · have hf := it_s hc hf
            exact hB107 k46 hk46 σ7 x1 x2 x5 x6 (σ.1 62 0) hf _ _ hS _ (lv_sub hl [1, 2, 3, 6, 7, 0] rfl)
          · have hf := if_s hc hf
            refine lv_goto (tgt := 114) E.1 hb dX6_reading_104 (by decide) ?_
            exact hB114 k46 hk46 σ7 x1 x2 x3 x4 x5 x6 hf _ _ hS _ (lv_sub hl [1, 2, 3, 4, 5, 6, 7] rfl)
      · have hf := if_s hc hf
        refine lv_aload_n E.1 hb dX6_reading_62 rfl (lv_at hl 0 rfl) ?_
        refine lv_aload_n E.1 hb dX6_reading_63 rfl (lv_at hl 0 rfl) ?_
        refine lv_iload E.1 hb dX6_reading_64 (lv_at hl 6 rfl) ?_
        refine lv_iload_n E.1 hb dX6_reading_66 rfl (lv_at hl 1 rfl) ?_
        refine lv_iload E.1 hb dX6_reading_67 (lv_at hl 7 rfl) ?_
        obtain ⟨r8, h1, hf⟩ := bo_s hf
        refine m_cVi E hb hml hl.1 hS (cmf_openingAt h1) gw_openingAt gn_openingAt rfl rfl (Nat.le_of_ble_eq_true rfl) ⟨Nat.le_of_ble_eq_true rfl, Nat.le_of_ble_eq_true rfl⟩ ⟨Nat.le_refl 0, Nat.le_refl 0⟩ dX6_reading_69 (fun H locs hS => ?_)
        obtain ⟨_, σ9, h1, hf⟩ := bd_s hf
        refine m_cVv E hb hml hl.1 hS (cmf_dayBy h1) gw_dayBy gn_dayBy rfl rfl (Nat.le_of_ble_eq_true rfl) ⟨Nat.le_of_ble_eq_true rfl, Nat.le_of_ble_eq_true rfl⟩ ⟨Nat.le_refl 0, Nat.le_refl 0⟩ dX6_reading_72 (fun H locs hS => ?_)
        refine lv_iinc (v := (x7 + 1)) (lv' := [(7, .int (x7 + 1)), (0, .ref o), (1, .int x1), (2, .int x2), (3, .int x3), (4, .int x4), (5, .int x5), (6, .int x6)]) E.1 hb dX6_reading_75 hl (k := 7) rfl rfl (by decide) rfl (fun ls hl => ?_)
        refine lv_goto (tgt := 56) E.1 hb dX6_reading_78 (by decide) ?_
        exact hk56 σ9 x1 x2 x3 x4 x5 x6 (x7 + 1) hf _ _ hS _ (lv_sub hl [1, 2, 3, 4, 5, 6, 7, 0] rfl)
  have hL46 : ∀ (n : Nat) (σ : mSt) (x1 : Int32) (x2 : Int32) (x3 : Int32) (x4 : Int32) (x5 : Int32) (x6 : Int32), rn7 (M_reading_b46 N) n σ x1 x2 x3 x4 x5 x6 = some (r, σ') → ∀ (H : Heap) (locs : List Loc), mS dC dI ac o ad s.heap σ H locs → ∀ (ls : Array Slot), lv_has ls 8 [(0, .ref o), (1, .int x1), (2, .int x2), (3, .int x3), (4, .int x4), (5, .int x5), (6, .int x6)] → W p l e rM_reading s m args below meth c H locs 0 0 (MQ below (mQi dC dI ac o ad r σ') args s 0 0 (mF o ad)) (F0 m 46 ls []) := by
    intro  n
    induction n with
    | zero =>
      intro σ x1 x2 x3 x4 x5 x6 hf
      cases hf
    | succ n ih =>
      intro σ x1 x2 x3 x4 x5 x6 hf H locs hS ls hl
      have hf : M_reading_b46 N (rn7 (M_reading_b46 N) n) σ x1 x2 x3 x4 x5 x6 = some (r, σ') := hf
      have hk46 := ih
      generalize rn7 (M_reading_b46 N) n = k46 at hf hk46
      unfold M_reading_b46 at hf
      refine lv_iload E.1 hb dX6_reading_46 (lv_at hl 6 rfl) ?_
      refine lv_iload E.1 hb dX6_reading_48 (lv_at hl 5 rfl) ?_
      refine lv_icmp_ge (tgt := 120) E.1 hb dX6_reading_50 (by decide) (fun hc => ?_) (fun hc => ?_)
      · have hf := it_s hc hf
        refine lv_aload_n E.1 hb dX6_reading_120 rfl (lv_at hl 0 rfl) ?_
        obtain ⟨_, σ5, h1, hf⟩ := bd_s hf
        refine m_cVv E hb hml hl.1 hS (cmf_takesBack h1) gw_takesBack gn_takesBack rfl rfl (Nat.le_of_ble_eq_true rfl) ⟨Nat.le_of_ble_eq_true rfl, Nat.le_of_ble_eq_true rfl⟩ ⟨Nat.le_refl 0, Nat.le_refl 0⟩ dX6_reading_121 (fun H locs hS => ?_)
        refine lv_iload_n E.1 hb dX6_reading_124 rfl (lv_at hl 2 rfl) ?_
        refine lv_iconst (v := (-1)) E.1 hb dX6_reading_125 rfl ?_
        refine lv_icmp_ne (tgt := 134) E.1 hb dX6_reading_126 (by decide) (fun hc => ?_) (fun hc => ?_)
        · have hf := if_s hc hf
          refine lv_aload_n E.1 hb dX6_reading_134 rfl (lv_at hl 0 rfl) ?_
          refine lv_iload_n E.1 hb dX6_reading_135 rfl (lv_at hl 3 rfl) ?_
          refine lv_iload_n E.1 hb dX6_reading_136 rfl (lv_at hl 1 rfl) ?_
          refine lv_iload_n E.1 hb dX6_reading_137 rfl (lv_at hl 2 rfl) ?_
          obtain ⟨r6, h1, hf⟩ := bo_s hf
          refine m_cVi E hb hml hl.1 hS (cmf_openingAt h1) gw_openingAt gn_openingAt rfl rfl (Nat.le_of_ble_eq_true rfl) ⟨Nat.le_of_ble_eq_true rfl, Nat.le_of_ble_eq_true rfl⟩ ⟨Nat.le_refl 0, Nat.le_refl 0⟩ dX6_reading_138 (fun H locs hS => ?_)
          exact m_ir E hb hr hlk hS hf dX6_reading_141
        · have hf := it_s hc hf
          refine lv_iload E.1 hb dX6_reading_129 (lv_at hl 4 rfl) ?_
          refine lv_goto (tgt := 141) E.1 hb dX6_reading_131 (by decide) ?_
          exact m_ir E hb hr hlk hS hf dX6_reading_141
      · have hf := if_s hc hf
        refine lv_iconst (v := 0) E.1 hb dX6_reading_53 rfl ?_
        refine lv_istore (lv' := [(7, .int 0), (0, .ref o), (1, .int x1), (2, .int x2), (3, .int x3), (4, .int x4), (5, .int x5), (6, .int x6)]) E.1 hb dX6_reading_54 hl (by decide) rfl (fun ls hl => ?_)
        exact hL56 k46 hk46 N σ x1 x2 x3 x4 x5 x6 0 hf _ _ hS _ (lv_sub hl [1, 2, 3, 4, 5, 6, 7, 0] rfl)
  unfold M_reading at hf
  refine lv_aload_n E.1 hb dX6_reading_0 rfl (lv_at hl 0 rfl) ?_
  refine lv_iload_n E.1 hb dX6_reading_1 rfl (lv_at hl 1 rfl) ?_
  refine lv_iconst (v := 1) E.1 hb dX6_reading_2 rfl ?_
  refine lv_iconst (v := 3) E.1 hb dX6_reading_3 rfl ?_
  obtain ⟨r1, h1, hf⟩ := bo_s hf
  refine m_cVi E hb hml hl.1 hS (cmf_isAhead h1) gw_isAhead gn_isAhead rfl rfl (Nat.le_of_ble_eq_true rfl) ⟨Nat.le_of_ble_eq_true rfl, Nat.le_of_ble_eq_true rfl⟩ ⟨Nat.le_refl 0, Nat.le_refl 0⟩ dX6_reading_4 (fun H locs hS => ?_)
  refine lv_if_eq (tgt := 25) E.1 hb dX6_reading_7 (by decide) (fun hc => ?_) (fun hc => ?_)
  · have hf := it_s hc hf
    refine lv_iconst (v := (-1)) E.1 hb dX6_reading_25 rfl ?_
    exact m_ir E hb hr hlk hS hf dX6_reading_26
  · have hf := if_s hc hf
    refine lv_iload_n E.1 hb dX6_reading_10 rfl (lv_at hl 2 rfl) ?_
    refine lv_i2l E.1 hb dX6_reading_11 rfl ?_
    refine lv_ldc2 E.1 hb E.2.1 (E.2.2.1 _ q2310) dX6_reading_12 ?_
    refine lv_iload_n E.1 hb dX6_reading_15 rfl (lv_at hl 1 rfl) ?_
    refine lv_iconst (v := 1) E.1 hb dX6_reading_16 rfl ?_
    refine lv_isub E.1 hb dX6_reading_17 ?_
    refine lv_i2l E.1 hb dX6_reading_18 rfl ?_
    obtain ⟨r2, h1, hf⟩ := bo_s hf
    refine m_cSi E hb hml hl.1 hS (cmf_isIn h1) gw_isIn gn_isIn rfl rfl (Nat.le_of_ble_eq_true rfl) ⟨Nat.le_of_ble_eq_true rfl, Nat.le_of_ble_eq_true rfl⟩ ⟨Nat.le_refl 0, Nat.le_refl 0⟩ dX6_reading_19 (fun H locs hS => ?_)
    refine lv_if_ne (tgt := 27) E.1 hb dX6_reading_22 (by decide) (fun hc => ?_) (fun hc => ?_)
    · have hf := if_s hc hf
      refine lv_iconst (v := 0) E.1 hb dX6_reading_27 rfl ?_
      refine lv_istore_n (lv' := [(3, .int 0), (0, .ref o), (1, .int x1), (2, .int x2)]) E.1 hb dX6_reading_28 rfl hl (by decide) rfl (fun ls hl => ?_)
      refine lv_iconst (v := (-1)) E.1 hb dX6_reading_29 rfl ?_
      refine lv_istore (lv' := [(4, .int (-1)), (3, .int 0), (0, .ref o), (1, .int x1), (2, .int x2)]) E.1 hb dX6_reading_30 hl (by decide) rfl (fun ls hl => ?_)
      refine lv_aload_n E.1 hb dX6_reading_32 rfl (lv_at hl 2 rfl) ?_
      refine lv_iload_n E.1 hb dX6_reading_33 rfl (lv_at hl 3 rfl) ?_
      obtain ⟨r3, h1, hf⟩ := bo_s hf
      refine m_cVi E hb hml hl.1 hS (cmf_rowsOf h1) gw_rowsOf gn_rowsOf rfl rfl (Nat.le_of_ble_eq_true rfl) ⟨Nat.le_of_ble_eq_true rfl, Nat.le_of_ble_eq_true rfl⟩ ⟨Nat.le_refl 0, Nat.le_refl 0⟩ dX6_reading_34 (fun H locs hS => ?_)
      refine lv_istore (lv' := [(5, .int r3), (4, .int (-1)), (3, .int 0), (0, .ref o), (1, .int x1), (2, .int x2)]) E.1 hb dX6_reading_37 hl (by decide) rfl (fun ls hl => ?_)
      refine lv_aload_n E.1 hb dX6_reading_39 rfl (lv_at hl 3 rfl) ?_
      obtain ⟨_, σ4, h1, hf⟩ := bd_s hf
      refine m_cVv E hb hml hl.1 hS (cmf_putsAside h1) gw_putsAside gn_putsAside rfl rfl (Nat.le_of_ble_eq_true rfl) ⟨Nat.le_of_ble_eq_true rfl, Nat.le_of_ble_eq_true rfl⟩ ⟨Nat.le_refl 0, Nat.le_refl 0⟩ dX6_reading_40 (fun H locs hS => ?_)
      refine lv_iconst (v := 0) E.1 hb dX6_reading_43 rfl ?_
      refine lv_istore (lv' := [(6, .int 0), (5, .int r3), (4, .int (-1)), (3, .int 0), (0, .ref o), (1, .int x1), (2, .int x2)]) E.1 hb dX6_reading_44 hl (by decide) rfl (fun ls hl => ?_)
      exact hL46 N σ4 x1 x2 0 (-1) r3 0 hf _ _ hS _ (lv_sub hl [4, 5, 6, 3, 2, 1, 0] rfl)
    · have hf := it_s hc hf
      refine lv_iconst (v := (-1)) E.1 hb dX6_reading_25 rfl ?_
      exact m_ir E hb hr hlk hS hf dX6_reading_26
/-! later(III)I: RW -/
noncomputable def M_later_b73 (N : Nat) (σ : mSt) (y0 : Int32) : Option (Int32 × mSt) :=
  bd (M_takesBack N σ) fun _ σ7 => some (y0, σ7)
noncomputable def M_later (N : Nat) (σ : mSt) (x1 : Int32) (x2 : Int32) (x3 : Int32) : Option (Int32 × mSt) :=
  bo (M_isBeing σ x1) fun r1 => if r1 = 0 then (some ((-1), σ)) else (bo (M_isAhead σ x2 0 60) fun r2 => if r2 = 0 then (some ((-1), σ)) else (bo (M_isIn (Int32.toInt64 x3) 0 2) fun r3 => if r3 = 0 then (some ((-1), σ)) else (bd (M_putsAside N σ) fun _ σ4 => bd (M_daysGo N σ4 x2) fun _ σ5 => if x3 = 0 then (bo (M_cellOf σ5 x1) fun r9 => M_later_b73 N σ5 r9) else (if x3 = 1 then (bo (M_purseOf σ5 x1) fun r8 => M_later_b73 N σ5 r8) else (bo (ld 2 σ5 63 x1) fun v6 => M_later_b73 N σ5 v6)))))
abbrev rM_later : Room := { frames := 6, cells := 0, slots := 0, locals := 144 }
set_option maxHeartbeats 4000000 in
theorem cmf_later {l : Launch} {dC : Nat → ClassId} {dI : Nat → Nat → Nat} {ac : Nat → ClassId} {o : Nat} {ad : Nat → Nat} {N : Nat} {σ : mSt} {x1 : Int32} {x2 : Int32} {x3 : Int32} {r : Int32} {σ' : mSt} (hf : M_later N σ x1 x2 x3 = some (r, σ')) : Met l yX6_later (ws_ yX6_later cX6_later 5 (some .int)) { frames := 6, cells := 0, slots := 0, locals := 144 } (va_Pc [.ref o, .int x1, .int x2, .int x3] (mPre dC dI ac o ad σ)) (mQi dC dI ac o ad r σ') 0 0 (mF o ad) := by
  refine m_of (by decide) rfl (Nat.le_of_ble_eq_true rfl) ?_
  intro p e s m args below meth c E hb hr hlk hml hS ls hl
  have hl : lv_has ls 5 [(0, .ref o), (1, .int x1), (2, .int x2), (3, .int x3)] := hl
  have hB73 : ∀ (σ : mSt) (y0 : Int32), M_later_b73 N σ y0 = some (r, σ') → ∀ (H : Heap) (locs : List Loc), mS dC dI ac o ad s.heap σ H locs → ∀ (ls : Array Slot), lv_has ls 5 [(0, .ref o)] → W p l e rM_later s m args below meth c H locs 0 0 (MQ below (mQi dC dI ac o ad r σ') args s 0 0 (mF o ad)) (F0 m 73 ls [.int y0]) := by
    intro σ y0 hf H locs hS ls hl
    unfold M_later_b73 at hf
    refine lv_istore (lv' := [(4, .int y0), (0, .ref o)]) E.1 hb dX6_later_73 hl (by decide) rfl (fun ls hl => ?_)
    refine lv_aload_n E.1 hb dX6_later_75 rfl (lv_at hl 1 rfl) ?_
    obtain ⟨_, σ7, h1, hf⟩ := bd_s hf
    refine m_cVv E hb hml hl.1 hS (cmf_takesBack h1) gw_takesBack gn_takesBack rfl rfl (Nat.le_of_ble_eq_true rfl) ⟨Nat.le_of_ble_eq_true rfl, Nat.le_of_ble_eq_true rfl⟩ ⟨Nat.le_refl 0, Nat.le_refl 0⟩ dX6_later_76 (fun H locs hS => ?_)
    refine lv_iload E.1 hb dX6_later_79 (lv_at hl 0 rfl) ?_
    exact m_ir E hb hr hlk hS hf dX6_later_81
  unfold M_later at hf
  refine lv_aload_n E.1 hb dX6_later_0 rfl (lv_at hl 0 rfl) ?_
  refine lv_iload_n E.1 hb dX6_later_1 rfl (lv_at hl 1 rfl) ?_
  obtain ⟨r1, h1, hf⟩ := bo_s hf
  refine m_cVi E hb hml hl.1 hS (cmf_isBeing h1) gw_isBeing gn_isBeing rfl rfl (Nat.le_of_ble_eq_true rfl) ⟨Nat.le_of_ble_eq_true rfl, Nat.le_of_ble_eq_true rfl⟩ ⟨Nat.le_refl 0, Nat.le_refl 0⟩ dX6_later_2 (fun H locs hS => ?_)
  refine lv_if_eq (tgt := 31) E.1 hb dX6_later_5 (by decide) (fun hc => ?_) (fun hc => ?_)
  · have hf := it_s hc hf
    refine lv_iconst (v := (-1)) E.1 hb dX6_later_31 rfl ?_
    exact m_ir E hb hr hlk hS hf dX6_later_32
  · have hf := if_s hc hf
    refine lv_aload_n E.1 hb dX6_later_8 rfl (lv_at hl 0 rfl) ?_
    refine lv_iload_n E.1 hb dX6_later_9 rfl (lv_at hl 2 rfl) ?_
    refine lv_iconst (v := 0) E.1 hb dX6_later_10 rfl ?_
    refine lv_bipush (v := 60) E.1 hb dX6_later_11 rfl ?_
    obtain ⟨r2, h1, hf⟩ := bo_s hf
    refine m_cVi E hb hml hl.1 hS (cmf_isAhead h1) gw_isAhead gn_isAhead rfl rfl (Nat.le_of_ble_eq_true rfl) ⟨Nat.le_of_ble_eq_true rfl, Nat.le_of_ble_eq_true rfl⟩ ⟨Nat.le_refl 0, Nat.le_refl 0⟩ dX6_later_13 (fun H locs hS => ?_)
    refine lv_if_eq (tgt := 31) E.1 hb dX6_later_16 (by decide) (fun hc => ?_) (fun hc => ?_)
    · have hf := it_s hc hf
      refine lv_iconst (v := (-1)) E.1 hb dX6_later_31 rfl ?_
      exact m_ir E hb hr hlk hS hf dX6_later_32
    · have hf := if_s hc hf
      refine lv_iload_n E.1 hb dX6_later_19 rfl (lv_at hl 3 rfl) ?_
      refine lv_i2l E.1 hb dX6_later_20 rfl ?_
      refine lv_lconst (v := 0) E.1 hb dX6_later_21 rfl ?_
      refine lv_ldc2 E.1 hb E.2.1 (E.2.2.1 _ q2297) dX6_later_22 ?_
      obtain ⟨r3, h1, hf⟩ := bo_s hf
      refine m_cSi E hb hml hl.1 hS (cmf_isIn h1) gw_isIn gn_isIn rfl rfl (Nat.le_of_ble_eq_true rfl) ⟨Nat.le_of_ble_eq_true rfl, Nat.le_of_ble_eq_true rfl⟩ ⟨Nat.le_refl 0, Nat.le_refl 0⟩ dX6_later_25 (fun H locs hS => ?_)
      refine lv_if_ne (tgt := 33) E.1 hb dX6_later_28 (by decide) (fun hc => ?_) (fun hc => ?_)
      · have hf := if_s hc hf
        refine lv_aload_n E.1 hb dX6_later_33 rfl (lv_at hl 0 rfl) ?_
        obtain ⟨_, σ4, h1, hf⟩ := bd_s hf
        refine m_cVv E hb hml hl.1 hS (cmf_putsAside h1) gw_putsAside gn_putsAside rfl rfl (Nat.le_of_ble_eq_true rfl) ⟨Nat.le_of_ble_eq_true rfl, Nat.le_of_ble_eq_true rfl⟩ ⟨Nat.le_refl 0, Nat.le_refl 0⟩ dX6_later_34 (fun H locs hS => ?_)
        refine lv_aload_n E.1 hb dX6_later_37 rfl (lv_at hl 0 rfl) ?_
        refine lv_iload_n E.1 hb dX6_later_38 rfl (lv_at hl 2 rfl) ?_
        obtain ⟨_, σ5, h1, hf⟩ := bd_s hf
        refine m_cVv E hb hml hl.1 hS (cmf_daysGo h1) gw_daysGo gn_daysGo rfl rfl (Nat.le_of_ble_eq_true rfl) ⟨Nat.le_of_ble_eq_true rfl, Nat.le_of_ble_eq_true rfl⟩ ⟨Nat.le_refl 0, Nat.le_refl 0⟩ dX6_later_39 (fun H locs hS => ?_)
        refine lv_iload_n E.1 hb dX6_later_42 rfl (lv_at hl 3 rfl) ?_
        refine lv_if_ne (tgt := 54) E.1 hb dX6_later_43 (by decide) (fun hc => ?_) (fun hc => ?_)
        · have hf := if_s hc hf
          refine lv_iload_n E.1 hb dX6_later_54 rfl (lv_at hl 3 rfl) ?_
          refine lv_iconst (v := 1) E.1 hb dX6_later_55 rfl ?_
          refine lv_icmp_ne (tgt := 67) E.1 hb dX6_later_56 (by decide) (fun hc => ?_) (fun hc => ?_)
          · have hf := if_s hc hf
            refine lv_aload_n E.1 hb dX6_later_67 rfl (lv_at hl 0 rfl) ?_
            refine m_gA (k := 63) E hb hS 2 rfl (by decide) fl_63 dX6_later_68 ?_
            refine lv_iload_n E.1 hb dX6_later_71 rfl (lv_at hl 1 rfl) ?_
            obtain ⟨hg, hf⟩ := ld_s hf
            refine m_ild E hb hS hg dX6_later_72 ?_
            exact hB73 σ5 (σ5.1 63 x1.toNatClampNeg) hf _ _ hS _ (lv_sub hl [0] rfl)
          · have hf := it_s hc hf
            refine lv_aload_n E.1 hb dX6_later_59 rfl (lv_at hl 0 rfl) ?_
            refine lv_iload_n E.1 hb dX6_later_60 rfl (lv_at hl 1 rfl) ?_
            obtain ⟨r8, h1, hf⟩ := bo_s hf
            refine m_cVi E hb hml hl.1 hS (cmf_purseOf h1) gw_purseOf gn_purseOf rfl rfl (Nat.le_of_ble_eq_true rfl) ⟨Nat.le_of_ble_eq_true rfl, Nat.le_of_ble_eq_true rfl⟩ ⟨Nat.le_refl 0, Nat.le_refl 0⟩ dX6_later_61 (fun H locs hS => ?_)
            refine lv_goto (tgt := 73) E.1 hb dX6_later_64 (by decide) ?_
            exact hB73 σ5 r8 hf _ _ hS _ (lv_sub hl [0] rfl)
        · have hf := it_s hc hf
          refine lv_aload_n E.1 hb dX6_later_46 rfl (lv_at hl 0 rfl) ?_
          refine lv_iload_n E.1 hb dX6_later_47 rfl (lv_at hl 1 rfl) ?_
          obtain ⟨r9, h1, hf⟩ := bo_s hf
          refine m_cVi E hb hml hl.1 hS (cmf_cellOf h1) gw_cellOf gn_cellOf rfl rfl (Nat.le_of_ble_eq_true rfl) ⟨Nat.le_of_ble_eq_true rfl, Nat.le_of_ble_eq_true rfl⟩ ⟨Nat.le_refl 0, Nat.le_refl 0⟩ dX6_later_48 (fun H locs hS => ?_)
          refine lv_goto (tgt := 73) E.1 hb dX6_later_51 (by decide) ?_
          exact hB73 σ5 r9 hf _ _ hS _ (lv_sub hl [0] rfl)
      · have hf := it_s hc hf
        refine lv_iconst (v := (-1)) E.1 hb dX6_later_31 rfl ?_
        exact m_ir E hb hr hlk hS hf dX6_later_32
/-! opening(I)I: RW -/
noncomputable def M_opening (N : Nat) (σ : mSt) (x1 : Int32) : Option (Int32 × mSt) :=
  bo (M_isAhead σ x1 0 60) fun r1 => if r1 = 0 then (some ((-1), σ)) else (bo (ld 2 σ 56 0) fun v2 => bd (M_openingOn N σ (v2 + x1)) fun r3 σ4 => some (r3, σ4))
abbrev rM_opening : Room := { frames := 4, cells := 0, slots := 0, locals := 96 }
set_option maxHeartbeats 4000000 in
theorem cmf_opening {l : Launch} {dC : Nat → ClassId} {dI : Nat → Nat → Nat} {ac : Nat → ClassId} {o : Nat} {ad : Nat → Nat} {N : Nat} {σ : mSt} {x1 : Int32} {r : Int32} {σ' : mSt} (hf : M_opening N σ x1 = some (r, σ')) : Met l yX6_opening (ws_ yX6_opening cX6_opening 2 (some .int)) { frames := 4, cells := 0, slots := 0, locals := 96 } (va_Pc [.ref o, .int x1] (mPre dC dI ac o ad σ)) (mQi dC dI ac o ad r σ') 0 0 (mF o ad) := by
  refine m_of (by decide) rfl (Nat.le_of_ble_eq_true rfl) ?_
  intro p e s m args below meth c E hb hr hlk hml hS ls hl
  have hl : lv_has ls 2 [(0, .ref o), (1, .int x1)] := hl
  unfold M_opening at hf
  refine lv_aload_n E.1 hb dX6_opening_0 rfl (lv_at hl 0 rfl) ?_
  refine lv_iload_n E.1 hb dX6_opening_1 rfl (lv_at hl 1 rfl) ?_
  refine lv_iconst (v := 0) E.1 hb dX6_opening_2 rfl ?_
  refine lv_bipush (v := 60) E.1 hb dX6_opening_3 rfl ?_
  obtain ⟨r1, h1, hf⟩ := bo_s hf
  refine m_cVi E hb hml hl.1 hS (cmf_isAhead h1) gw_isAhead gn_isAhead rfl rfl (Nat.le_of_ble_eq_true rfl) ⟨Nat.le_of_ble_eq_true rfl, Nat.le_of_ble_eq_true rfl⟩ ⟨Nat.le_refl 0, Nat.le_refl 0⟩ dX6_opening_5 (fun H locs hS => ?_)
  refine lv_if_eq (tgt := 26) E.1 hb dX6_opening_8 (by decide) (fun hc => ?_) (fun hc => ?_)
  · have hf := it_s hc hf
    refine lv_iconst (v := (-1)) E.1 hb dX6_opening_26 rfl ?_
    exact m_ir E hb hr hlk hS hf dX6_opening_27
  · have hf := if_s hc hf
    refine lv_aload_n E.1 hb dX6_opening_11 rfl (lv_at hl 0 rfl) ?_
    refine lv_aload_n E.1 hb dX6_opening_12 rfl (lv_at hl 0 rfl) ?_
    refine m_gA (k := 56) E hb hS 2 rfl (by decide) fl_56 dX6_opening_13 ?_
    refine lv_iconst (v := 0) E.1 hb dX6_opening_16 rfl ?_
    obtain ⟨hg, hf⟩ := ld_s hf
    refine m_ild E hb hS hg dX6_opening_17 ?_
    refine lv_iload_n E.1 hb dX6_opening_18 rfl (lv_at hl 1 rfl) ?_
    refine lv_iadd E.1 hb dX6_opening_19 ?_
    obtain ⟨r3, σ4, h1, hf⟩ := bd_s hf
    refine m_cVi E hb hml hl.1 hS (cmf_openingOn h1) gw_openingOn gn_openingOn rfl rfl (Nat.le_of_ble_eq_true rfl) ⟨Nat.le_of_ble_eq_true rfl, Nat.le_of_ble_eq_true rfl⟩ ⟨Nat.le_refl 0, Nat.le_refl 0⟩ dX6_opening_20 (fun H locs hS => ?_)
    refine lv_goto (tgt := 27) E.1 hb dX6_opening_23 (by decide) ?_
    exact m_ir E hb hr hlk hS hf dX6_opening_27
/-! comes(III)V: RW -/
noncomputable def M_comes (σ : mSt) (x1 : Int32) (x2 : Int32) (x3 : Int32) : Option (Unit × mSt) :=
  bo (M_isCell σ x2 x3) fun r1 => if r1 = 0 then (some ((), σ)) else (bo (M_hasGloss σ x2 x3) fun r2 => if r2 = 0 then (bo (stI 5 σ 64 (((48 * x1) + (8 * x2)) + x3) 1) fun σ3 => some ((), σ3)) else (some ((), σ)))
theorem gw_comes : GoodIn lw_all (wsV RX6 539 RX6 yX6_comes (ws_ yX6_comes cX6_comes 4 none)) := lw_V q2394 q2396 qs134 q164 q2397
theorem gn_comes : yX6_comes.cls = RX6 ∧ yX6_comes.cls ≠ "java/lang/invoke/MethodHandle" ∧ yX6_comes.cls ≠ "java/lang/invoke/VarHandle" ∧ (parseMethodDescriptor yX6_comes.desc).map (fun d => d.parameters.length) = some 3 := by decide +kernel
abbrev rM_comes : Room := { frames := 2, cells := 0, slots := 0, locals := 47 }
set_option maxHeartbeats 4000000 in
theorem cmf_comes {l : Launch} {dC : Nat → ClassId} {dI : Nat → Nat → Nat} {ac : Nat → ClassId} {o : Nat} {ad : Nat → Nat} {σ : mSt} {x1 : Int32} {x2 : Int32} {x3 : Int32} {σ' : mSt} (hf : M_comes σ x1 x2 x3 = some ((), σ')) : Met l yX6_comes (ws_ yX6_comes cX6_comes 4 none) { frames := 2, cells := 0, slots := 0, locals := 47 } (va_Pc [.ref o, .int x1, .int x2, .int x3] (mPre dC dI ac o ad σ)) (mQv dC dI ac o ad σ') 0 0 (mF o ad) := by
  refine m_of (by decide) rfl (Nat.le_of_ble_eq_true rfl) ?_
  intro p e s m args below meth c E hb hr hlk hml hS ls hl
  have hl : lv_has ls 4 [(0, .ref o), (1, .int x1), (2, .int x2), (3, .int x3)] := hl
  unfold M_comes at hf
  refine lv_aload_n E.1 hb dX6_comes_0 rfl (lv_at hl 0 rfl) ?_
  refine lv_iload_n E.1 hb dX6_comes_1 rfl (lv_at hl 2 rfl) ?_
  refine lv_iload_n E.1 hb dX6_comes_2 rfl (lv_at hl 3 rfl) ?_
  obtain ⟨r1, h1, hf⟩ := bo_s hf
  refine m_cVi E hb hml hl.1 hS (cmf_isCell h1) gw_isCell gn_isCell rfl rfl (Nat.le_of_ble_eq_true rfl) ⟨Nat.le_of_ble_eq_true rfl, Nat.le_of_ble_eq_true rfl⟩ ⟨Nat.le_refl 0, Nat.le_refl 0⟩ dX6_comes_3 (fun H locs hS => ?_)
  refine lv_if_eq (tgt := 35) E.1 hb dX6_comes_6 (by decide) (fun hc => ?_) (fun hc => ?_)
  · have hf := it_s hc hf
    exact m_vr E hb hr hlk hS hf dX6_comes_35
  · have hf := if_s hc hf
    refine lv_aload_n E.1 hb dX6_comes_9 rfl (lv_at hl 0 rfl) ?_
    refine lv_iload_n E.1 hb dX6_comes_10 rfl (lv_at hl 2 rfl) ?_
    refine lv_iload_n E.1 hb dX6_comes_11 rfl (lv_at hl 3 rfl) ?_
    obtain ⟨r2, h1, hf⟩ := bo_s hf
    refine m_cVi E hb hml hl.1 hS (cmf_hasGloss h1) gw_hasGloss gn_hasGloss rfl rfl (Nat.le_of_ble_eq_true rfl) ⟨Nat.le_of_ble_eq_true rfl, Nat.le_of_ble_eq_true rfl⟩ ⟨Nat.le_refl 0, Nat.le_refl 0⟩ dX6_comes_12 (fun H locs hS => ?_)
    refine lv_if_ne (tgt := 35) E.1 hb dX6_comes_15 (by decide) (fun hc => ?_) (fun hc => ?_)
    · have hf := if_s hc hf
      exact m_vr E hb hr hlk hS hf dX6_comes_35
    · have hf := it_s hc hf
      refine lv_aload_n E.1 hb dX6_comes_18 rfl (lv_at hl 0 rfl) ?_
      refine m_gA (k := 64) E hb hS 5 rfl (by decide) fl_64 dX6_comes_19 ?_
      refine lv_bipush (v := 48) E.1 hb dX6_comes_22 rfl ?_
      refine lv_iload_n E.1 hb dX6_comes_24 rfl (lv_at hl 1 rfl) ?_
      refine lv_imul E.1 hb dX6_comes_25 ?_
      refine lv_bipush (v := 8) E.1 hb dX6_comes_26 rfl ?_
      refine lv_iload_n E.1 hb dX6_comes_28 rfl (lv_at hl 2 rfl) ?_
      refine lv_imul E.1 hb dX6_comes_29 ?_
      refine lv_iadd E.1 hb dX6_comes_30 ?_
      refine lv_iload_n E.1 hb dX6_comes_31 rfl (lv_at hl 3 rfl) ?_
      refine lv_iadd E.1 hb dX6_comes_32 ?_
      refine lv_iconst (v := 1) E.1 hb dX6_comes_33 rfl ?_
      obtain ⟨σ3, hg, hw, hf⟩ := st_s hf
      refine m_zst E hb hS rfl hg hw dX6_comes_34 (fun H locs hS => ?_)
      exact m_vr E hb hr hlk hS hf dX6_comes_35
/-! goesOn(III)V: RW -/
noncomputable def M_goesOn_b289 (N : Nat) (k39 : mSt → Int32 → Int32 → Int32 → Int32 → Option (Unit × mSt)) (σ : mSt) (x2 : Int32) (x3 : Int32) (x4 : Int32) (x5 : Int32) : Option (Unit × mSt) :=
  k39 σ x2 x3 x4 (x5 + 1)
noncomputable def M_goesOn_b283 (N : Nat) (k39 : mSt → Int32 → Int32 → Int32 → Int32 → Option (Unit × mSt)) (k180 : mSt → Int32 → Int32 → Int32 → Int32 → Int32 → Int32 → Int32 → Option (Unit × mSt)) (σ : mSt) (x2 : Int32) (x3 : Int32) (x4 : Int32) (x5 : Int32) (x6 : Int32) (x7 : Int32) (x8 : Int32) : Option (Unit × mSt) :=
  k180 σ x2 x3 x4 x5 x6 x7 (x8 + 1)
noncomputable def M_goesOn_b247 (N : Nat) (k39 : mSt → Int32 → Int32 → Int32 → Int32 → Option (Unit × mSt)) (k180 : mSt → Int32 → Int32 → Int32 → Int32 → Int32 → Int32 → Int32 → Option (Unit × mSt)) (σ : mSt) (x2 : Int32) (x3 : Int32) (x4 : Int32) (x5 : Int32) (x6 : Int32) (x7 : Int32) (x8 : Int32) : Option (Unit × mSt) :=
  bo (ld 2 σ 44 (37 + (3 * x8))) fun v12 => if v12 = x6 then (bo (ld 2 σ 44 (36 + (3 * x8))) fun v13 => bd (M_comes σ x3 v13 x7) fun _ σ14 => M_goesOn_b283 N k39 k180 σ14 x2 x3 x4 x5 x6 x7 x8) else (M_goesOn_b283 N k39 k180 σ x2 x3 x4 x5 x6 x7 x8)
noncomputable def M_goesOn_b180 (N : Nat) (k39 : mSt → Int32 → Int32 → Int32 → Int32 → Option (Unit × mSt)) (k180 : mSt → Int32 → Int32 → Int32 → Int32 → Int32 → Int32 → Int32 → Option (Unit × mSt)) (σ : mSt) (x2 : Int32) (x3 : Int32) (x4 : Int32) (x5 : Int32) (x6 : Int32) (x7 : Int32) (x8 : Int32) : Option (Unit × mSt) :=
  bo (ld 2 σ 41 4) fun v9 => if v9 ≤ x8 then (M_goesOn_b289 N k39 σ x2 x3 x4 x5) else (bo (ld 2 σ 44 (38 + (3 * x8))) fun v10 => if v10 = x7 then (bo (ld 2 σ 44 (36 + (3 * x8))) fun v11 => if v11 = x6 then (bo (ld 2 σ 44 (37 + (3 * x8))) fun v15 => bd (M_comes σ x3 v15 x7) fun _ σ16 => M_goesOn_b247 N k39 k180 σ16 x2 x3 x4 x5 x6 x7 x8) else (M_goesOn_b247 N k39 k180 σ x2 x3 x4 x5 x6 x7 x8)) else (M_goesOn_b283 N k39 k180 σ x2 x3 x4 x5 x6 x7 x8))
noncomputable def M_goesOn_b177 (N : Nat) (k39 : mSt → Int32 → Int32 → Int32 → Int32 → Option (Unit × mSt)) (σ : mSt) (x2 : Int32) (x3 : Int32) (x4 : Int32) (x5 : Int32) (x6 : Int32) (x7 : Int32) : Option (Unit × mSt) :=
  rn8 (M_goesOn_b180 N k39) N σ x2 x3 x4 x5 x6 x7 0
noncomputable def M_goesOn_b144 (N : Nat) (k39 : mSt → Int32 → Int32 → Int32 → Int32 → Option (Unit × mSt)) (σ : mSt) (x2 : Int32) (x3 : Int32) (x4 : Int32) (x5 : Int32) (x6 : Int32) (x7 : Int32) : Option (Unit × mSt) :=
  bo (M_liesOnNext σ (x6 - 1) x4) fun r8 => if r8 = 0 then (M_goesOn_b177 N k39 σ x2 x3 x4 x5 x6 x7) else (bo (ld 2 σ 40 3) fun v17 => bd (M_comes σ x3 (x6 - 1) ((v17 - 1) - x7)) fun _ σ18 => M_goesOn_b177 N k39 σ18 x2 x3 x4 x5 x6 x7)
noncomputable def M_goesOn_b39 (N : Nat) (k39 : mSt → Int32 → Int32 → Int32 → Int32 → Option (Unit × mSt)) (σ : mSt) (x2 : Int32) (x3 : Int32) (x4 : Int32) (x5 : Int32) : Option (Unit × mSt) :=
  if 48 ≤ x5 then (some ((), σ)) else (bo (ld 5 σ 64 ((48 * x2) + x5)) fun v3 => if v3 = 0 then (M_goesOn_b289 N k39 σ x2 x3 x4 x5) else (bo (stI 5 σ 64 ((48 * x3) + x5) 1) fun σ4 => bd (M_comes σ4 x3 (x5 / 8) ((x5 - x5 / 8 * 8) - 1)) fun _ σ5 => bd (M_comes σ5 x3 (x5 / 8) ((x5 - x5 / 8 * 8) + 1)) fun _ σ6 => bo (M_liesOnNext σ6 (x5 / 8) x4) fun r7 => if r7 = 0 then (M_goesOn_b144 N k39 σ6 x2 x3 x4 x5 (x5 / 8) (x5 - x5 / 8 * 8)) else (bo (ld 2 σ6 40 3) fun v19 => bd (M_comes σ6 x3 ((x5 / 8) + 1) ((v19 - 1) - (x5 - x5 / 8 * 8))) fun _ σ20 => M_goesOn_b144 N k39 σ20 x2 x3 x4 x5 (x5 / 8) (x5 - x5 / 8 * 8))))
noncomputable def M_goesOn_b10 (N : Nat) (k10 : mSt → Int32 → Int32 → Int32 → Int32 → Option (Unit × mSt)) (σ : mSt) (x2 : Int32) (x3 : Int32) (x4 : Int32) (x5 : Int32) : Option (Unit × mSt) :=
  if 48 ≤ x5 then (rn5 (M_goesOn_b39 N) N σ x2 x3 x4 0) else (bo (stI 5 σ 64 ((48 * x3) + x5) 0) fun σ21 => k10 σ21 x2 x3 x4 (x5 + 1))
noncomputable def M_goesOn (N : Nat) (σ : mSt) (x1 : Int32) (x2 : Int32) (x3 : Int32) : Option (Unit × mSt) :=
  bd (M_openingOn N σ x1) fun r1 σ2 => rn5 (M_goesOn_b10 N) N σ2 x2 x3 r1 0
theorem gw_goesOn : GoodIn lw_all (wsV RX6 543 RX6 yX6_goesOn (ws_ yX6_goesOn cX6_goesOn 9 none)) := lw_V q2390 q2392 qs133 q164 q2393
theorem gn_goesOn : yX6_goesOn.cls = RX6 ∧ yX6_goesOn.cls ≠ "java/lang/invoke/MethodHandle" ∧ yX6_goesOn.cls ≠ "java/lang/invoke/VarHandle" ∧ (parseMethodDescriptor yX6_goesOn.desc).map (fun d => d.parameters.length) = some 3 := by decide +kernel
abbrev rM_goesOn : Room := { frames := 4, cells := 0, slots := 0, locals := 96 }
set_option maxHeartbeats 4000000 in
theorem cmf_goesOn {l : Launch} {dC : Nat → ClassId} {dI : Nat → Nat → Nat} {ac : Nat → ClassId} {o : Nat} {ad : Nat → Nat} {N : Nat} {σ : mSt} {x1 : Int32} {x2 : Int32} {x3 : Int32} {σ' : mSt} (hf : M_goesOn N σ x1 x2 x3 = some ((), σ')) : Met l yX6_goesOn (ws_ yX6_goesOn cX6_goesOn 9 none) { frames := 4, cells := 0, slots := 0, locals := 96 } (va_Pc [.ref o, .int x1, .int x2, .int x3] (mPre dC dI ac o ad σ)) (mQv dC dI ac o ad σ') 0 0 (mF o ad) := by
  refine m_of (by decide) rfl (Nat.le_of_ble_eq_true rfl) ?_
  intro p e s m args below meth c E hb hr hlk hml hS ls hl
  have hl : lv_has ls 9 [(0, .ref o), (1, .int x1), (2, .int x2), (3, .int x3)] := hl
  have hB289 : ∀ (k39 : mSt → Int32 → Int32 → Int32 → Int32 → Option (Unit × mSt)) (hk39 : ∀ (σ : mSt) (x2 : Int32) (x3 : Int32) (x4 : Int32) (x5 : Int32), k39 σ x2 x3 x4 x5 = some ((), σ') → ∀ (H : Heap) (locs : List Loc), mS dC dI ac o ad s.heap σ H locs → ∀ (ls : Array Slot), lv_has ls 9 [(0, .ref o), (2, .int x2), (3, .int x3), (4, .int x4), (5, .int x5)] → W p l e rM_goesOn s m args below meth c H locs 0 0 (MQ below (mQv dC dI ac o ad σ') args s 0 0 (mF o ad)) (F0 m 39 ls [])) (σ : mSt) (x2 : Int32) (x3 : Int32) (x4 : Int32) (x5 : Int32), M_goesOn_b289 N k39 σ x2 x3 x4 x5 = some ((), σ') → ∀ (H : Heap) (locs : List Loc), mS dC dI ac o ad s.heap σ H locs → ∀ (ls : Array Slot), lv_has ls 9 [(0, .ref o), (2, .int x2), (3, .int x3), (4, .int x4), (5, .int x5)] → W p l e rM_goesOn s m args below meth c H locs 0 0 (MQ below (mQv dC dI ac o ad σ') args s 0 0 (mF o ad)) (F0 m 289 ls []) := by
    intro k39 hk39 σ x2 x3 x4 x5 hf H locs hS ls hl
    unfold M_goesOn_b289 at hf
    refine lv_iinc (v := (x5 + 1)) (lv' := [(5, .int (x5 + 1)), (0, .ref o), (2, .int x2), (3, .int x3), (4, .int x4)]) E.1 hb dX6_goesOn_289 hl (k := 4) rfl rfl (by decide) rfl (fun ls hl => ?_)
    refine lv_goto (tgt := 39) E.1 hb dX6_goesOn_292 (by decide) ?_
    exact hk39 σ x2 x3 x4 (x5 + 1) hf _ _ hS _ (lv_sub hl [1, 2, 3, 4, 0] rfl)
  have hB283 : ∀ (k39 : mSt → Int32 → Int32 → Int32 → Int32 → Option (Unit × mSt)) (hk39 : ∀ (σ : mSt) (x2 : Int32) (x3 : Int32) (x4 : Int32) (x5 : Int32), k39 σ x2 x3 x4 x5 = some ((), σ') → ∀ (H : Heap) (locs : List Loc), mS dC dI ac o ad s.heap σ H locs → ∀ (ls : Array Slot), lv_has ls 9 [(0, .ref o), (2, .int x2), (3, .int x3), (4, .int x4), (5, .int x5)] → W p l e rM_goesOn s m args below meth c H locs 0 0 (MQ below (mQv dC dI ac o ad σ') args s 0 0 (mF o ad)) (F0 m 39 ls [])) (k180 : mSt → Int32 → Int32 → Int32 → Int32 → Int32 → Int32 → Int32 → Option (Unit × mSt)) (hk180 : ∀ (σ : mSt) (x2 : Int32) (x3 : Int32) (x4 : Int32) (x5 : Int32) (x6 : Int32) (x7 : Int32) (x8 : Int32), k180 σ x2 x3 x4 x5 x6 x7 x8 = some ((), σ') → ∀ (H : Heap) (locs : List Loc), mS dC dI ac o ad s.heap σ H locs → ∀ (ls : Array Slot), lv_has ls 9 [(0, .ref o), (2, .int x2), (3, .int x3), (4, .int x4), (5, .int x5), (6, .int x6), (7, .int x7), (8, .int x8)] → W p l e rM_goesOn s m args below meth c H locs 0 0 (MQ below (mQv dC dI ac o ad σ') args s 0 0 (mF o ad)) (F0 m 180 ls [])) (σ : mSt) (x2 : Int32) (x3 : Int32) (x4 : Int32) (x5 : Int32) (x6 : Int32) (x7 : Int32) (x8 : Int32), M_goesOn_b283 N k39 k180 σ x2 x3 x4 x5 x6 x7 x8 = some ((), σ') → ∀ (H : Heap) (locs : List Loc), mS dC dI ac o ad s.heap σ H locs → ∀ (ls : Array Slot), lv_has ls 9 [(0, .ref o), (2, .int x2), (3, .int x3), (4, .int x4), (5, .int x5), (6, .int x6), (7, .int x7), (8, .int x8)] → W p l e rM_goesOn s m args below meth c H locs 0 0 (MQ below (mQv dC dI ac o ad σ') args s 0 0 (mF o ad)) (F0 m 283 ls []) := by
    intro k39 hk39 k180 hk180 σ x2 x3 x4 x5 x6 x7 x8 hf H locs hS ls hl
    unfold M_goesOn_b283 at hf
    refine lv_iinc (v := (x8 + 1)) (lv' := [(8, .int (x8 + 1)), (0, .ref o), (2, .int x2), (3, .int x3), (4, .int x4), (5, .int x5), (6, .int x6), (7, .int x7)]) E.1 hb dX6_goesOn_283 hl (k := 7) rfl rfl (by decide) rfl (fun ls hl => ?_)
    refine lv_goto (tgt := 180) E.1 hb dX6_goesOn_286 (by decide) ?_
    exact hk180 σ x2 x3 x4 x5 x6 x7 (x8 + 1) hf _ _ hS _ (lv_sub hl [1, 2, 3, 4, 5, 6, 7, 0] rfl)
  have hB247 : ∀ (k39 : mSt → Int32 → Int32 → Int32 → Int32 → Option (Unit × mSt)) (hk39 : ∀ (σ : mSt) (x2 : Int32) (x3 : Int32) (x4 : Int32) (x5 : Int32), k39 σ x2 x3 x4 x5 = some ((), σ') → ∀ (H : Heap) (locs : List Loc), mS dC dI ac o ad s.heap σ H locs → ∀ (ls : Array Slot), lv_has ls 9 [(0, .ref o), (2, .int x2), (3, .int x3), (4, .int x4), (5, .int x5)] → W p l e rM_goesOn s m args below meth c H locs 0 0 (MQ below (mQv dC dI ac o ad σ') args s 0 0 (mF o ad)) (F0 m 39 ls [])) (k180 : mSt → Int32 → Int32 → Int32 → Int32 → Int32 → Int32 → Int32 → Option (Unit × mSt)) (hk180 : ∀ (σ : mSt) (x2 : Int32) (x3 : Int32) (x4 : Int32) (x5 : Int32) (x6 : Int32) (x7 : Int32) (x8 : Int32), k180 σ x2 x3 x4 x5 x6 x7 x8 = some ((), σ') → ∀ (H : Heap) (locs : List Loc), mS dC dI ac o ad s.heap σ H locs → ∀ (ls : Array Slot), lv_has ls 9 [(0, .ref o), (2, .int x2), (3, .int x3), (4, .int x4), (5, .int x5), (6, .int x6), (7, .int x7), (8, .int x8)] → W p l e rM_goesOn s m args below meth c H locs 0 0 (MQ below (mQv dC dI ac o ad σ') args s 0 0 (mF o ad)) (F0 m 180 ls [])) (σ : mSt) (x2 : Int32) (x3 : Int32) (x4 : Int32) (x5 : Int32) (x6 : Int32) (x7 : Int32) (x8 : Int32), M_goesOn_b247 N k39 k180 σ x2 x3 x4 x5 x6 x7 x8 = some ((), σ') → ∀ (H : Heap) (locs : List Loc), mS dC dI ac o ad s.heap σ H locs → ∀ (ls : Array Slot), lv_has ls 9 [(0, .ref o), (2, .int x2), (3, .int x3), (4, .int x4), (5, .int x5), (6, .int x6), (7, .int x7), (8, .int x8)] → W p l e rM_goesOn s m args below meth c H locs 0 0 (MQ below (mQv dC dI ac o ad σ') args s 0 0 (mF o ad)) (F0 m 247 ls []) := by
    intro k39 hk39 k180 hk180 σ x2 x3 x4 x5 x6 x7 x8 hf H locs hS ls hl
    unfold M_goesOn_b247 at hf
    refine lv_aload_n E.1 hb dX6_goesOn_247 rfl (lv_at hl 0 rfl) ?_
    refine m_gA (k := 44) E hb hS 2 rfl (by decide) fl_44 dX6_goesOn_248 ?_
    refine lv_bipush (v := 37) E.1 hb dX6_goesOn_251 rfl ?_
    refine lv_iconst (v := 3) E.1 hb dX6_goesOn_253 rfl ?_
    refine lv_iload E.1 hb dX6_goesOn_254 (lv_at hl 7 rfl) ?_
    refine lv_imul E.1 hb dX6_goesOn_256 ?_
    refine lv_iadd E.1 hb dX6_goesOn_257 ?_
    obtain ⟨hg, hf⟩ := ld_s hf
    refine m_ild E hb hS hg dX6_goesOn_258 ?_
    refine lv_iload E.1 hb dX6_goesOn_259 (lv_at hl 5 rfl) ?_
    refine lv_icmp_ne (tgt := 283) E.1 hb dX6_goesOn_261 (by decide) (fun hc => ?_) (fun hc => ?_)
    · have hf := if_s hc hf
      exact hB283 k39 hk39 k180 hk180 σ x2 x3 x4 x5 x6 x7 x8 hf _ _ hS _ (lv_sub hl [0, 1, 2, 3, 4, 5, 6, 7] rfl)
    · have hf := it_s hc hf
      refine lv_aload_n E.1 hb dX6_goesOn_264 rfl (lv_at hl 0 rfl) ?_
      refine lv_iload_n E.1 hb dX6_goesOn_265 rfl (lv_at hl 2 rfl) ?_
      refine lv_aload_n E.1 hb dX6_goesOn_266 rfl (lv_at hl 0 rfl) ?_
      refine m_gA (k := 44) E hb hS 2 rfl (by decide) fl_44 dX6_goesOn_267 ?_
      refine lv_bipush (v := 36) E.1 hb dX6_goesOn_270 rfl ?_
      refine lv_iconst (v := 3) E.1 hb dX6_goesOn_272 rfl ?_
      refine lv_iload E.1 hb dX6_goesOn_273 (lv_at hl 7 rfl) ?_
      refine lv_imul E.1 hb dX6_goesOn_275 ?_
      refine lv_iadd E.1 hb dX6_goesOn_276 ?_
      obtain ⟨hg, hf⟩ := ld_s hf
      refine m_ild E hb hS hg dX6_goesOn_277 ?_
      refine lv_iload E.1 hb dX6_goesOn_278 (lv_at hl 6 rfl) ?_
      obtain ⟨_, σ14, h1, hf⟩ := bd_s hf
      refine m_cVv E hb hml hl.1 hS (cmf_comes h1) gw_comes gn_comes rfl rfl (Nat.le_of_ble_eq_true rfl) ⟨Nat.le_of_ble_eq_true rfl, Nat.le_of_ble_eq_true rfl⟩ ⟨Nat.le_refl 0, Nat.le_refl 0⟩ dX6_goesOn_280 (fun H locs hS => ?_)
      exact hB283 k39 hk39 k180 hk180 σ14 x2 x3 x4 x5 x6 x7 x8 hf _ _ hS _ (lv_sub hl [0, 1, 2, 3, 4, 5, 6, 7] rfl)
  have hL180 : ∀ (k39 : mSt → Int32 → Int32 → Int32 → Int32 → Option (Unit × mSt)) (hk39 : ∀ (σ : mSt) (x2 : Int32) (x3 : Int32) (x4 : Int32) (x5 : Int32), k39 σ x2 x3 x4 x5 = some ((), σ') → ∀ (H : Heap) (locs : List Loc), mS dC dI ac o ad s.heap σ H locs → ∀ (ls : Array Slot), lv_has ls 9 [(0, .ref o), (2, .int x2), (3, .int x3), (4, .int x4), (5, .int x5)] → W p l e rM_goesOn s m args below meth c H locs 0 0 (MQ below (mQv dC dI ac o ad σ') args s 0 0 (mF o ad)) (F0 m 39 ls [])) (n : Nat) (σ : mSt) (x2 : Int32) (x3 : Int32) (x4 : Int32) (x5 : Int32) (x6 : Int32) (x7 : Int32) (x8 : Int32), rn8 (M_goesOn_b180 N k39) n σ x2 x3 x4 x5 x6 x7 x8 = some ((), σ') → ∀ (H : Heap) (locs : List Loc), mS dC dI ac o ad s.heap σ H locs → ∀ (ls : Array Slot), lv_has ls 9 [(0, .ref o), (2, .int x2), (3, .int x3), (4, .int x4), (5, .int x5), (6, .int x6), (7, .int x7), (8, .int x8)] → W p l e rM_goesOn s m args below meth c H locs 0 0 (MQ below (mQv dC dI ac o ad σ') args s 0 0 (mF o ad)) (F0 m 180 ls []) := by
    intro k39 hk39 n
    induction n with
    | zero =>
      intro σ x2 x3 x4 x5 x6 x7 x8 hf
      cases hf
    | succ n ih =>
      intro σ x2 x3 x4 x5 x6 x7 x8 hf H locs hS ls hl
      have hf : M_goesOn_b180 N k39 (rn8 (M_goesOn_b180 N k39) n) σ x2 x3 x4 x5 x6 x7 x8 = some ((), σ') := hf
      have hk180 := ih
      generalize rn8 (M_goesOn_b180 N k39) n = k180 at hf hk180
      unfold M_goesOn_b180 at hf
      refine lv_iload E.1 hb dX6_goesOn_180 (lv_at hl 7 rfl) ?_
      refine lv_aload_n E.1 hb dX6_goesOn_182 rfl (lv_at hl 0 rfl) ?_
      refine m_gA (k := 41) E hb hS 2 rfl (by decide) fl_41 dX6_goesOn_183 ?_
      refine lv_iconst (v := 4) E.1 hb dX6_goesOn_186 rfl ?_
      obtain ⟨hg, hf⟩ := ld_s hf
      refine m_ild E hb hS hg dX6_goesOn_187 ?_
      refine lv_icmp_ge (tgt := 289) E.1 hb dX6_goesOn_188 (by decide) (fun hc => ?_) (fun hc => ?_)
      · have hf := it_s hc hf
        exact hB289 k39 hk39 σ x2 x3 x4 x5 hf _ _ hS _ (lv_sub hl [0, 1, 2, 3, 4] rfl)
      · have hf := if_s hc hf
        refine lv_aload_n E.1 hb dX6_goesOn_191 rfl (lv_at hl 0 rfl) ?_
        refine m_gA (k := 44) E hb hS 2 rfl (by decide) fl_44 dX6_goesOn_192 ?_
        refine lv_bipush (v := 38) E.1 hb dX6_goesOn_195 rfl ?_
        refine lv_iconst (v := 3) E.1 hb dX6_goesOn_197 rfl ?_
        refine lv_iload E.1 hb dX6_goesOn_198 (lv_at hl 7 rfl) ?_
        refine lv_imul E.1 hb dX6_goesOn_200 ?_
        refine lv_iadd E.1 hb dX6_goesOn_201 ?_
        obtain ⟨hg, hf⟩ := ld_s hf
        refine m_ild E hb hS hg dX6_goesOn_202 ?_
        refine lv_iload E.1 hb dX6_goesOn_203 (lv_at hl 6 rfl) ?_
        refine lv_icmp_eq (tgt := 211) E.1 hb dX6_goesOn_205 (by decide) (fun hc => ?_) (fun hc => ?_)
        · have hf := it_s hc hf
          refine lv_aload_n E.1 hb dX6_goesOn_211 rfl (lv_at hl 0 rfl) ?_
          refine m_gA (k := 44) E hb hS 2 rfl (by decide) fl_44 dX6_goesOn_212 ?_
          refine lv_bipush (v := 36) E.1 hb dX6_goesOn_215 rfl ?_
          refine lv_iconst (v := 3) E.1 hb dX6_goesOn_217 rfl ?_
          refine lv_iload E.1 hb dX6_goesOn_218 (lv_at hl 7 rfl) ?_
          refine lv_imul E.1 hb dX6_goesOn_220 ?_
          refine lv_iadd E.1 hb dX6_goesOn_221 ?_
          obtain ⟨hg, hf⟩ := ld_s hf
          refine m_ild E hb hS hg dX6_goesOn_222 ?_
          refine lv_iload E.1 hb dX6_goesOn_223 (lv_at hl 5 rfl) ?_
          refine lv_icmp_ne (tgt := 247) E.1 hb dX6_goesOn_225 (by decide) (fun hc => ?_) (fun hc => ?_)
          · have hf := if_s hc hf
            exact hB247 k39 hk39 k180 hk180 σ x2 x3 x4 x5 x6 x7 x8 hf _ _ hS _ (lv_sub hl [0, 1, 2, 3, 4, 5, 6, 7] rfl)
          · have hf := it_s hc hf
            refine lv_aload_n E.1 hb dX6_goesOn_228 rfl (lv_at hl 0 rfl) ?_
            refine lv_iload_n E.1 hb dX6_goesOn_229 rfl (lv_at hl 2 rfl) ?_
            refine lv_aload_n E.1 hb dX6_goesOn_230 rfl (lv_at hl 0 rfl) ?_
            refine m_gA (k := 44) E hb hS 2 rfl (by decide) fl_44 dX6_goesOn_231 ?_
            refine lv_bipush (v := 37) E.1 hb dX6_goesOn_234 rfl ?_
            refine lv_iconst (v := 3) E.1 hb dX6_goesOn_236 rfl ?_
            refine lv_iload E.1 hb dX6_goesOn_237 (lv_at hl 7 rfl) ?_
            refine lv_imul E.1 hb dX6_goesOn_239 ?_
            refine lv_iadd E.1 hb dX6_goesOn_240 ?_
            obtain ⟨hg, hf⟩ := ld_s hf
            refine m_ild E hb hS hg dX6_goesOn_241 ?_
            refine lv_iload E.1 hb dX6_goesOn_242 (lv_at hl 6 rfl) ?_
            obtain ⟨_, σ16, h1, hf⟩ := bd_s hf
            refine m_cVv E hb hml hl.1 hS (cmf_comes h1) gw_comes gn_comes rfl rfl (Nat.le_of_ble_eq_true rfl) ⟨Nat.le_of_ble_eq_true rfl, Nat.le_of_ble_eq_true rfl⟩ ⟨Nat.le_refl 0, Nat.le_refl 0⟩ dX6_goesOn_244 (fun H locs hS => ?_)
            exact hB247 k39 hk39 k180 hk180 σ16 x2 x3 x4 x5 x6 x7 x8 hf _ _ hS _ (lv_sub hl [0, 1, 2, 3, 4, 5, 6, 7] rfl)
        · have hf := if_s hc hf
          refine lv_goto (tgt := 283) E.1 hb dX6_goesOn_208 (by decide) ?_
          exact hB283 k39 hk39 k180 hk180 σ x2 x3 x4 x5 x6 x7 x8 hf _ _ hS _ (lv_sub hl [0, 1, 2, 3, 4, 5, 6, 7] rfl)
  have hB177 : ∀ (k39 : mSt → Int32 → Int32 → Int32 → Int32 → Option (Unit × mSt)) (hk39 : ∀ (σ : mSt) (x2 : Int32) (x3 : Int32) (x4 : Int32) (x5 : Int32), k39 σ x2 x3 x4 x5 = some ((), σ') → ∀ (H : Heap) (locs : List Loc), mS dC dI ac o ad s.heap σ H locs → ∀ (ls : Array Slot), lv_has ls 9 [(0, .ref o), (2, .int x2), (3, .int x3), (4, .int x4), (5, .int x5)] → W p l e rM_goesOn s m args below meth c H locs 0 0 (MQ below (mQv dC dI ac o ad σ') args s 0 0 (mF o ad)) (F0 m 39 ls [])) (σ : mSt) (x2 : Int32) (x3 : Int32) (x4 : Int32) (x5 : Int32) (x6 : Int32) (x7 : Int32), M_goesOn_b177 N k39 σ x2 x3 x4 x5 x6 x7 = some ((), σ') → ∀ (H : Heap) (locs : List Loc), mS dC dI ac o ad s.heap σ H locs → ∀ (ls : Array Slot), lv_has ls 9 [(0, .ref o), (2, .int x2), (3, .int x3), (4, .int x4), (5, .int x5), (6, .int x6), (7, .int x7)] → W p l e rM_goesOn s m args below meth c H locs 0 0 (MQ below (mQv dC dI ac o ad σ') args s 0 0 (mF o ad)) (F0 m 177 ls []) := by
    intro k39 hk39 σ x2 x3 x4 x5 x6 x7 hf H locs hS ls hl
    unfold M_goesOn_b177 at hf
    refine lv_iconst (v := 0) E.1 hb dX6_goesOn_177 rfl ?_
    refine lv_istore (lv' := [(8, .int 0), (0, .ref o), (2, .int x2), (3, .int x3), (4, .int x4), (5, .int x5), (6, .int x6), (7, .int x7)]) E.1 hb dX6_goesOn_178 hl (by decide) rfl (fun ls hl => ?_)
    exact hL180 k39 hk39 N σ x2 x3 x4 x5 x6 x7 0 hf _ _ hS _ (lv_sub hl [1, 2, 3, 4, 5, 6, 7, 0] rfl)
  have hB144 : ∀ (k39 : mSt → Int32 → Int32 → Int32 → Int32 → Option (Unit × mSt)) (hk39 : ∀ (σ : mSt) (x2 : Int32) (x3 : Int32) (x4 : Int32) (x5 : Int32), k39 σ x2 x3 x4 x5 = some ((), σ') → ∀ (H : Heap) (locs : List Loc), mS dC dI ac o ad s.heap σ H locs → ∀ (ls : Array Slot), lv_has ls 9 [(0, .ref o), (2, .int x2), (3, .int x3), (4, .int x4), (5, .int x5)] → W p l e rM_goesOn s m args below meth c H locs 0 0 (MQ below (mQv dC dI ac o ad σ') args s 0 0 (mF o ad)) (F0 m 39 ls [])) (σ : mSt) (x2 : Int32) (x3 : Int32) (x4 : Int32) (x5 : Int32) (x6 : Int32) (x7 : Int32), M_goesOn_b144 N k39 σ x2 x3 x4 x5 x6 x7 = some ((), σ') → ∀ (H : Heap) (locs : List Loc), mS dC dI ac o ad s.heap σ H locs → ∀ (ls : Array Slot), lv_has ls 9 [(0, .ref o), (2, .int x2), (3, .int x3), (4, .int x4), (5, .int x5), (6, .int x6), (7, .int x7)] → W p l e rM_goesOn s m args below meth c H locs 0 0 (MQ below (mQv dC dI ac o ad σ') args s 0 0 (mF o ad)) (F0 m 144 ls []) := by
    intro k39 hk39 σ x2 x3 x4 x5 x6 x7 hf H locs hS ls hl
    unfold M_goesOn_b144 at hf
    refine lv_aload_n E.1 hb dX6_goesOn_144 rfl (lv_at hl 0 rfl) ?_
    refine lv_iload E.1 hb dX6_goesOn_145 (lv_at hl 5 rfl) ?_
    refine lv_iconst (v := 1) E.1 hb dX6_goesOn_147 rfl ?_
    refine lv_isub E.1 hb dX6_goesOn_148 ?_
    refine lv_iload E.1 hb dX6_goesOn_149 (lv_at hl 3 rfl) ?_
    obtain ⟨r8, h1, hf⟩ := bo_s hf
    refine m_cVi E hb hml hl.1 hS (cmf_liesOnNext h1) gw_liesOnNext gn_liesOnNext rfl rfl (Nat.le_of_ble_eq_true rfl) ⟨Nat.le_of_ble_eq_true rfl, Nat.le_of_ble_eq_true rfl⟩ ⟨Nat.le_refl 0, Nat.le_refl 0⟩ dX6_goesOn_151 (fun H locs hS => ?_)
    refine lv_if_eq (tgt := 177) E.1 hb dX6_goesOn_154 (by decide) (fun hc => ?_) (fun hc => ?_)
    · have hf := it_s hc hf
      exact hB177 k39 hk39 σ x2 x3 x4 x5 x6 x7 hf _ _ hS _ (lv_sub hl [0, 1, 2, 3, 4, 5, 6] rfl)
    · have hf := if_s hc hf
      refine lv_aload_n E.1 hb dX6_goesOn_157 rfl (lv_at hl 0 rfl) ?_
      refine lv_iload_n E.1 hb dX6_goesOn_158 rfl (lv_at hl 2 rfl) ?_
      refine lv_iload E.1 hb dX6_goesOn_159 (lv_at hl 5 rfl) ?_
      refine lv_iconst (v := 1) E.1 hb dX6_goesOn_161 rfl ?_
      refine lv_isub E.1 hb dX6_goesOn_162 ?_
      refine lv_aload_n E.1 hb dX6_goesOn_163 rfl (lv_at hl 0 rfl) ?_
      refine m_gA (k := 40) E hb hS 2 rfl (by decide) fl_40 dX6_goesOn_164 ?_
      refine lv_iconst (v := 3) E.1 hb dX6_goesOn_167 rfl ?_
      obtain ⟨hg, hf⟩ := ld_s hf
      refine m_ild E hb hS hg dX6_goesOn_168 ?_
      refine lv_iconst (v := 1) E.1 hb dX6_goesOn_169 rfl ?_
      refine lv_isub E.1 hb dX6_goesOn_170 ?_
      refine lv_iload E.1 hb dX6_goesOn_171 (lv_at hl 6 rfl) ?_
      refine lv_isub E.1 hb dX6_goesOn_173 ?_
      obtain ⟨_, σ18, h1, hf⟩ := bd_s hf
      refine m_cVv E hb hml hl.1 hS (cmf_comes h1) gw_comes gn_comes rfl rfl (Nat.le_of_ble_eq_true rfl) ⟨Nat.le_of_ble_eq_true rfl, Nat.le_of_ble_eq_true rfl⟩ ⟨Nat.le_refl 0, Nat.le_refl 0⟩ dX6_goesOn_174 (fun H locs hS => ?_)
      exact hB177 k39 hk39 σ18 x2 x3 x4 x5 x6 x7 hf _ _ hS _ (lv_sub hl [0, 1, 2, 3, 4, 5, 6] rfl)
  have hL39 : ∀ (n : Nat) (σ : mSt) (x2 : Int32) (x3 : Int32) (x4 : Int32) (x5 : Int32), rn5 (M_goesOn_b39 N) n σ x2 x3 x4 x5 = some ((), σ') → ∀ (H : Heap) (locs : List Loc), mS dC dI ac o ad s.heap σ H locs → ∀ (ls : Array Slot), lv_has ls 9 [(0, .ref o), (2, .int x2), (3, .int x3), (4, .int x4), (5, .int x5)] → W p l e rM_goesOn s m args below meth c H locs 0 0 (MQ below (mQv dC dI ac o ad σ') args s 0 0 (mF o ad)) (F0 m 39 ls []) := by
    intro  n
    induction n with
    | zero =>
      intro σ x2 x3 x4 x5 hf
      cases hf
    | succ n ih =>
      intro σ x2 x3 x4 x5 hf H locs hS ls hl
      have hf : M_goesOn_b39 N (rn5 (M_goesOn_b39 N) n) σ x2 x3 x4 x5 = some ((), σ') := hf
      have hk39 := ih
      generalize rn5 (M_goesOn_b39 N) n = k39 at hf hk39
      unfold M_goesOn_b39 at hf
      refine lv_iload E.1 hb dX6_goesOn_39 (lv_at hl 4 rfl) ?_
      refine lv_bipush (v := 48) E.1 hb dX6_goesOn_41 rfl ?_
      refine lv_icmp_ge (tgt := 295) E.1 hb dX6_goesOn_43 (by decide) (fun hc => ?_) (fun hc => ?_)
      · have hf := it_s hc hf
        exact m_vr E hb hr hlk hS hf dX6_goesOn_295
      · have hf := if_s hc hf
        refine lv_aload_n E.1 hb dX6_goesOn_46 rfl (lv_at hl 0 rfl) ?_
        refine m_gA (k := 64) E hb hS 5 rfl (by decide) fl_64 dX6_goesOn_47 ?_
        refine lv_bipush (v := 48) E.1 hb dX6_goesOn_50 rfl ?_
        refine lv_iload_n E.1 hb dX6_goesOn_52 rfl (lv_at hl 1 rfl) ?_
        refine lv_imul E.1 hb dX6_goesOn_53 ?_
        refine lv_iload E.1 hb dX6_goesOn_54 (lv_at hl 4 rfl) ?_
        refine lv_iadd E.1 hb dX6_goesOn_56 ?_
        obtain ⟨hg, hf⟩ := ld_s hf
        refine m_zld E hb hS hg dX6_goesOn_57 ?_
        refine lv_if_ne (tgt := 64) E.1 hb dX6_goesOn_58 (by decide) (fun hc => ?_) (fun hc => ?_)
        · have hf := if_s hc hf
          refine lv_iload E.1 hb dX6_goesOn_64 (lv_at hl 4 rfl) ?_
          refine lv_bipush (v := 8) E.1 hb dX6_goesOn_66 rfl ?_
          refine lv_idiv E.1 hb dX6_goesOn_68 (by decide) ?_
          refine lv_istore (lv' := [(6, .int (x5 / 8)), (0, .ref o), (2, .int x2), (3, .int x3), (4, .int x4), (5, .int x5)]) E.1 hb dX6_goesOn_69 hl (by decide) rfl (fun ls hl => ?_)
          refine lv_iload E.1 hb dX6_goesOn_71 (lv_at hl 5 rfl) ?_
          refine lv_bipush (v := 8) E.1 hb dX6_goesOn_73 rfl ?_
          refine lv_irem E.1 hb dX6_goesOn_75 (by decide) ?_
          refine lv_istore (lv' := [(7, .int (x5 - x5 / 8 * 8)), (6, .int (x5 / 8)), (0, .ref o), (2, .int x2), (3, .int x3), (4, .int x4), (5, .int x5)]) E.1 hb dX6_goesOn_76 hl (by decide) rfl (fun ls hl => ?_)
          refine lv_aload_n E.1 hb dX6_goesOn_78 rfl (lv_at hl 2 rfl) ?_
          refine m_gA (k := 64) E hb hS 5 rfl (by decide) fl_64 dX6_goesOn_79 ?_
          refine lv_bipush (v := 48) E.1 hb dX6_goesOn_82 rfl ?_
          refine lv_iload_n E.1 hb dX6_goesOn_84 rfl (lv_at hl 4 rfl) ?_
          refine lv_imul E.1 hb dX6_goesOn_85 ?_
          refine lv_iload E.1 hb dX6_goesOn_86 (lv_at hl 6 rfl) ?_
          refine lv_iadd E.1 hb dX6_goesOn_88 ?_
          refine lv_iconst (v := 1) E.1 hb dX6_goesOn_89 rfl ?_
          obtain ⟨σ4, hg, hw, hf⟩ := st_s hf
          refine m_zst E hb hS rfl hg hw dX6_goesOn_90 (fun H locs hS => ?_)
          refine lv_aload_n E.1 hb dX6_goesOn_91 rfl (lv_at hl 2 rfl) ?_
          refine lv_iload_n E.1 hb dX6_goesOn_92 rfl (lv_at hl 4 rfl) ?_
          refine lv_iload E.1 hb dX6_goesOn_93 (lv_at hl 1 rfl) ?_
          refine lv_iload E.1 hb dX6_goesOn_95 (lv_at hl 0 rfl) ?_
          refine lv_iconst (v := 1) E.1 hb dX6_goesOn_97 rfl ?_
          refine lv_isub E.1 hb dX6_goesOn_98 ?_
          obtain ⟨_, σ5, h1, hf⟩ := bd_s hf
          refine m_cVv E hb hml hl.1 hS (cmf_comes h1) gw_comes gn_comes rfl rfl (Nat.le_of_ble_eq_true rfl) ⟨Nat.le_of_ble_eq_true rfl, Nat.le_of_ble_eq_true rfl⟩ ⟨Nat.le_refl 0, Nat.le_refl 0⟩ dX6_goesOn_99 (fun H locs hS => ?_)
          refine lv_aload_n E.1 hb dX6_goesOn_102 rfl (lv_at hl 2 rfl) ?_
          refine lv_iload_n E.1 hb dX6_goesOn_103 rfl (lv_at hl 4 rfl) ?_
          refine lv_iload E.1 hb dX6_goesOn_104 (lv_at hl 1 rfl) ?_
          refine lv_iload E.1 hb dX6_goesOn_106 (lv_at hl 0 rfl) ?_
          refine lv_iconst (v := 1) E.1 hb dX6_goesOn_108 rfl ?_
          refine lv_iadd E.1 hb dX6_goesOn_109 ?_
          obtain ⟨_, σ6, h1, hf⟩ := bd_s hf
          refine m_cVv E hb hml hl.1 hS (cmf_comes h1) gw_comes gn_comes rfl rfl (Nat.le_of_ble_eq_true rfl) ⟨Nat.le_of_ble_eq_true rfl, Nat.le_of_ble_eq_true rfl⟩ ⟨Nat.le_refl 0, Nat.le_refl 0⟩ dX6_goesOn_110 (fun H locs hS => ?_)
          refine lv_aload_n E.1 hb dX6_goesOn_113 rfl (lv_at hl 2 rfl) ?_
          refine lv_iload E.1 hb dX6_goesOn_114 (lv_at hl 1 rfl) ?_
          refine lv_iload E.1 hb dX6_goesOn_116 (lv_at hl 5 rfl) ?_
          obtain ⟨r7, h1, hf⟩ := bo_s hf
          refine m_cVi E hb hml hl.1 hS (cmf_liesOnNext h1) gw_liesOnNext gn_liesOnNext rfl rfl (Nat.le_of_ble_eq_true rfl) ⟨Nat.le_of_ble_eq_true rfl, Nat.le_of_ble_eq_true rfl⟩ ⟨Nat.le_refl 0, Nat.le_refl 0⟩ dX6_goesOn_118 (fun H locs hS => ?_)
          refine lv_if_eq (tgt := 144) E.1 hb dX6_goesOn_121 (by decide) (fun hc => ?_) (fun hc => ?_)
          · have hf := it_s hc hf
            exact hB144 k39 hk39 σ6 x2 x3 x4 x5 (x5 / 8) (x5 - x5 / 8 * 8) hf _ _ hS _ (lv_sub hl [2, 3, 4, 5, 6, 1, 0] rfl)
          · have hf := if_s hc hf
            refine lv_aload_n E.1 hb dX6_goesOn_124 rfl (lv_at hl 2 rfl) ?_
            refine lv_iload_n E.1 hb dX6_goesOn_125 rfl (lv_at hl 4 rfl) ?_
            refine lv_iload E.1 hb dX6_goesOn_126 (lv_at hl 1 rfl) ?_
            refine lv_iconst (v := 1) E.1 hb dX6_goesOn_128 rfl ?_
            refine lv_iadd E.1 hb dX6_goesOn_129 ?_
            refine lv_aload_n E.1 hb dX6_goesOn_130 rfl (lv_at hl 2 rfl) ?_
            refine m_gA (k := 40) E hb hS 2 rfl (by decide) fl_40 dX6_goesOn_131 ?_
            refine lv_iconst (v := 3) E.1 hb dX6_goesOn_134 rfl ?_
            obtain ⟨hg, hf⟩ := ld_s hf
            refine m_ild E hb hS hg dX6_goesOn_135 ?_
            refine lv_iconst (v := 1) E.1 hb dX6_goesOn_136 rfl ?_
            refine lv_isub E.1 hb dX6_goesOn_137 ?_
            refine lv_iload E.1 hb dX6_goesOn_138 (lv_at hl 0 rfl) ?_
            refine lv_isub E.1 hb dX6_goesOn_140 ?_
            obtain ⟨_, σ20, h1, hf⟩ := bd_s hf
            refine m_cVv E hb hml hl.1 hS (cmf_comes h1) gw_comes gn_comes rfl rfl (Nat.le_of_ble_eq_true rfl) ⟨Nat.le_of_ble_eq_true rfl, Nat.le_of_ble_eq_true rfl⟩ ⟨Nat.le_refl 0, Nat.le_refl 0⟩ dX6_goesOn_141 (fun H locs hS => ?_)
            exact hB144 k39 hk39 σ20 x2 x3 x4 x5 (x5 / 8) (x5 - x5 / 8 * 8) hf _ _ hS _ (lv_sub hl [2, 3, 4, 5, 6, 1, 0] rfl)
        · have hf := it_s hc hf
          refine lv_goto (tgt := 289) E.1 hb dX6_goesOn_61 (by decide) ?_
          exact hB289 k39 hk39 σ x2 x3 x4 x5 hf _ _ hS _ (lv_sub hl [0, 1, 2, 3, 4] rfl)
  have hL10 : ∀ (n : Nat) (σ : mSt) (x2 : Int32) (x3 : Int32) (x4 : Int32) (x5 : Int32), rn5 (M_goesOn_b10 N) n σ x2 x3 x4 x5 = some ((), σ') → ∀ (H : Heap) (locs : List Loc), mS dC dI ac o ad s.heap σ H locs → ∀ (ls : Array Slot), lv_has ls 9 [(0, .ref o), (2, .int x2), (3, .int x3), (4, .int x4), (5, .int x5)] → W p l e rM_goesOn s m args below meth c H locs 0 0 (MQ below (mQv dC dI ac o ad σ') args s 0 0 (mF o ad)) (F0 m 10 ls []) := by
    intro  n
    induction n with
    | zero =>
      intro σ x2 x3 x4 x5 hf
      cases hf
    | succ n ih =>
      intro σ x2 x3 x4 x5 hf H locs hS ls hl
      have hf : M_goesOn_b10 N (rn5 (M_goesOn_b10 N) n) σ x2 x3 x4 x5 = some ((), σ') := hf
      have hk10 := ih
      generalize rn5 (M_goesOn_b10 N) n = k10 at hf hk10
      unfold M_goesOn_b10 at hf
      refine lv_iload E.1 hb dX6_goesOn_10 (lv_at hl 4 rfl) ?_
      refine lv_bipush (v := 48) E.1 hb dX6_goesOn_12 rfl ?_
      refine lv_icmp_ge (tgt := 36) E.1 hb dX6_goesOn_14 (by decide) (fun hc => ?_) (fun hc => ?_)
      · have hf := it_s hc hf
        refine lv_iconst (v := 0) E.1 hb dX6_goesOn_36 rfl ?_
        refine lv_istore (lv' := [(5, .int 0), (0, .ref o), (2, .int x2), (3, .int x3), (4, .int x4)]) E.1 hb dX6_goesOn_37 hl (by decide) rfl (fun ls hl => ?_)
        exact hL39 N σ x2 x3 x4 0 hf _ _ hS _ (lv_sub hl [1, 2, 3, 4, 0] rfl)
      · have hf := if_s hc hf
        refine lv_aload_n E.1 hb dX6_goesOn_17 rfl (lv_at hl 0 rfl) ?_
        refine m_gA (k := 64) E hb hS 5 rfl (by decide) fl_64 dX6_goesOn_18 ?_
        refine lv_bipush (v := 48) E.1 hb dX6_goesOn_21 rfl ?_
        refine lv_iload_n E.1 hb dX6_goesOn_23 rfl (lv_at hl 2 rfl) ?_
        refine lv_imul E.1 hb dX6_goesOn_24 ?_
        refine lv_iload E.1 hb dX6_goesOn_25 (lv_at hl 4 rfl) ?_
        refine lv_iadd E.1 hb dX6_goesOn_27 ?_
        refine lv_iconst (v := 0) E.1 hb dX6_goesOn_28 rfl ?_
        obtain ⟨σ21, hg, hw, hf⟩ := st_s hf
        refine m_zst E hb hS rfl hg hw dX6_goesOn_29 (fun H locs hS => ?_)
        refine lv_iinc (v := (x5 + 1)) (lv' := [(5, .int (x5 + 1)), (0, .ref o), (2, .int x2), (3, .int x3), (4, .int x4)]) E.1 hb dX6_goesOn_30 hl (k := 4) rfl rfl (by decide) rfl (fun ls hl => ?_)
        refine lv_goto (tgt := 10) E.1 hb dX6_goesOn_33 (by decide) ?_
        exact hk10 σ21 x2 x3 x4 (x5 + 1) hf _ _ hS _ (lv_sub hl [1, 2, 3, 4, 0] rfl)
  unfold M_goesOn at hf
  refine lv_aload_n E.1 hb dX6_goesOn_0 rfl (lv_at hl 0 rfl) ?_
  refine lv_iload_n E.1 hb dX6_goesOn_1 rfl (lv_at hl 1 rfl) ?_
  obtain ⟨r1, σ2, h1, hf⟩ := bd_s hf
  refine m_cVi E hb hml hl.1 hS (cmf_openingOn h1) gw_openingOn gn_openingOn rfl rfl (Nat.le_of_ble_eq_true rfl) ⟨Nat.le_of_ble_eq_true rfl, Nat.le_of_ble_eq_true rfl⟩ ⟨Nat.le_refl 0, Nat.le_refl 0⟩ dX6_goesOn_2 (fun H locs hS => ?_)
  refine lv_istore (lv' := [(4, .int r1), (0, .ref o), (1, .int x1), (2, .int x2), (3, .int x3)]) E.1 hb dX6_goesOn_5 hl (by decide) rfl (fun ls hl => ?_)
  refine lv_iconst (v := 0) E.1 hb dX6_goesOn_7 rfl ?_
  refine lv_istore (lv' := [(5, .int 0), (4, .int r1), (0, .ref o), (1, .int x1), (2, .int x2), (3, .int x3)]) E.1 hb dX6_goesOn_8 hl (by decide) rfl (fun ls hl => ?_)
  exact hL10 N σ2 x2 x3 r1 0 hf _ _ hS _ (lv_sub hl [2, 4, 5, 1, 0] rfl)
/-! way(III)I: RW -/
noncomputable def M_way_b66 (N : Nat) (k66 : mSt → Int32 → Int32 → Int32 → Option (Int32 × mSt)) (σ : mSt) (x2 : Int32) (x3 : Int32) (x4 : Int32) : Option (Int32 × mSt) :=
  if 40 < x4 then (some ((-1), σ)) else (bo (ld 2 σ 56 0) fun v6 => if 999 < (v6 + x4) then (some ((-1), σ)) else (bo (ld 5 σ 64 (((48 * (x4 - x4 / 2 * 2)) + (8 * x2)) + x3)) fun v7 => if v7 = 0 then (bo (ld 2 σ 56 0) fun v8 => bd (M_goesOn N σ (v8 + x4) (x4 - x4 / 2 * 2) (1 - (x4 - x4 / 2 * 2))) fun _ σ9 => k66 σ9 x2 x3 (x4 + 1)) else (some (x4, σ))))
noncomputable def M_way_b22 (N : Nat) (k22 : mSt → Int32 → Int32 → Int32 → Int32 → Option (Int32 × mSt)) (σ : mSt) (x1 : Int32) (x2 : Int32) (x3 : Int32) (x4 : Int32) : Option (Int32 × mSt) :=
  if 96 ≤ x4 then (bo (M_leafOf σ x1) fun r3 => bo (M_cellOf σ x1) fun r4 => bo (stI 5 σ 64 ((8 * r3) + r4) 1) fun σ5 => rn4 (M_way_b66 N) N σ5 x2 x3 0) else (bo (stI 5 σ 64 x4 0) fun σ10 => k22 σ10 x1 x2 x3 (x4 + 1))
noncomputable def M_way (N : Nat) (σ : mSt) (x1 : Int32) (x2 : Int32) (x3 : Int32) : Option (Int32 × mSt) :=
  bo (M_isBeing σ x1) fun r1 => if r1 = 0 then (some ((-1), σ)) else (bo (M_isCell σ x2 x3) fun r2 => if r2 = 0 then (some ((-1), σ)) else (rn5 (M_way_b22 N) N σ x1 x2 x3 0))
abbrev rM_way : Room := { frames := 5, cells := 0, slots := 0, locals := 124 }
set_option maxHeartbeats 4000000 in
theorem cmf_way {l : Launch} {dC : Nat → ClassId} {dI : Nat → Nat → Nat} {ac : Nat → ClassId} {o : Nat} {ad : Nat → Nat} {N : Nat} {σ : mSt} {x1 : Int32} {x2 : Int32} {x3 : Int32} {r : Int32} {σ' : mSt} (hf : M_way N σ x1 x2 x3 = some (r, σ')) : Met l yX6_way (ws_ yX6_way cX6_way 5 (some .int)) { frames := 5, cells := 0, slots := 0, locals := 124 } (va_Pc [.ref o, .int x1, .int x2, .int x3] (mPre dC dI ac o ad σ)) (mQi dC dI ac o ad r σ') 0 0 (mF o ad) := by
  refine m_of (by decide) rfl (Nat.le_of_ble_eq_true rfl) ?_
  intro p e s m args below meth c E hb hr hlk hml hS ls hl
  have hl : lv_has ls 5 [(0, .ref o), (1, .int x1), (2, .int x2), (3, .int x3)] := hl
  have hL66 : ∀ (n : Nat) (σ : mSt) (x2 : Int32) (x3 : Int32) (x4 : Int32), rn4 (M_way_b66 N) n σ x2 x3 x4 = some (r, σ') → ∀ (H : Heap) (locs : List Loc), mS dC dI ac o ad s.heap σ H locs → ∀ (ls : Array Slot), lv_has ls 5 [(0, .ref o), (2, .int x2), (3, .int x3), (4, .int x4)] → W p l e rM_way s m args below meth c H locs 0 0 (MQ below (mQi dC dI ac o ad r σ') args s 0 0 (mF o ad)) (F0 m 66 ls []) := by
    intro  n
    induction n with
    | zero =>
      intro σ x2 x3 x4 hf
      cases hf
    | succ n ih =>
      intro σ x2 x3 x4 hf H locs hS ls hl
      have hf : M_way_b66 N (rn4 (M_way_b66 N) n) σ x2 x3 x4 = some (r, σ') := hf
      have hk66 := ih
      generalize rn4 (M_way_b66 N) n = k66 at hf hk66
      unfold M_way_b66 at hf
      refine lv_iload E.1 hb dX6_way_66 (lv_at hl 3 rfl) ?_
      refine lv_bipush (v := 40) E.1 hb dX6_way_68 rfl ?_
      refine lv_icmp_gt (tgt := 142) E.1 hb dX6_way_70 (by decide) (fun hc => ?_) (fun hc => ?_)
      · have hf := it_s hc hf
        refine lv_iconst (v := (-1)) E.1 hb dX6_way_142 rfl ?_
        exact m_ir E hb hr hlk hS hf dX6_way_143
      · have hf := if_s hc hf
        refine lv_aload_n E.1 hb dX6_way_73 rfl (lv_at hl 0 rfl) ?_
        refine m_gA (k := 56) E hb hS 2 rfl (by decide) fl_56 dX6_way_74 ?_
        refine lv_iconst (v := 0) E.1 hb dX6_way_77 rfl ?_
        obtain ⟨hg, hf⟩ := ld_s hf
        refine m_ild E hb hS hg dX6_way_78 ?_
        refine lv_iload E.1 hb dX6_way_79 (lv_at hl 3 rfl) ?_
        refine lv_iadd E.1 hb dX6_way_81 ?_
        refine lv_sipush (v := 999) E.1 hb dX6_way_82 rfl ?_
        refine lv_icmp_gt (tgt := 142) E.1 hb dX6_way_85 (by decide) (fun hc => ?_) (fun hc => ?_)
        · have hf := it_s hc hf
          refine lv_iconst (v := (-1)) E.1 hb dX6_way_142 rfl ?_
          exact m_ir E hb hr hlk hS hf dX6_way_143
        · have hf := if_s hc hf
          refine lv_aload_n E.1 hb dX6_way_88 rfl (lv_at hl 0 rfl) ?_
          refine m_gA (k := 64) E hb hS 5 rfl (by decide) fl_64 dX6_way_89 ?_
          refine lv_bipush (v := 48) E.1 hb dX6_way_92 rfl ?_
          refine lv_iload E.1 hb dX6_way_94 (lv_at hl 3 rfl) ?_
          refine lv_iconst (v := 2) E.1 hb dX6_way_96 rfl ?_
          refine lv_irem E.1 hb dX6_way_97 (by decide) ?_
          refine lv_imul E.1 hb dX6_way_98 ?_
          refine lv_bipush (v := 8) E.1 hb dX6_way_99 rfl ?_
          refine lv_iload_n E.1 hb dX6_way_101 rfl (lv_at hl 1 rfl) ?_
          refine lv_imul E.1 hb dX6_way_102 ?_
          refine lv_iadd E.1 hb dX6_way_103 ?_
          refine lv_iload_n E.1 hb dX6_way_104 rfl (lv_at hl 2 rfl) ?_
          refine lv_iadd E.1 hb dX6_way_105 ?_
          obtain ⟨hg, hf⟩ := ld_s hf
          refine m_zld E hb hS hg dX6_way_106 ?_
          refine lv_if_eq (tgt := 113) E.1 hb dX6_way_107 (by decide) (fun hc => ?_) (fun hc => ?_)
          · have hf := it_s hc hf
            refine lv_aload_n E.1 hb dX6_way_113 rfl (lv_at hl 0 rfl) ?_
            refine lv_aload_n E.1 hb dX6_way_114 rfl (lv_at hl 0 rfl) ?_
            refine m_gA (k := 56) E hb hS 2 rfl (by decide) fl_56 dX6_way_115 ?_
            refine lv_iconst (v := 0) E.1 hb dX6_way_118 rfl ?_
            obtain ⟨hg, hf⟩ := ld_s hf
            refine m_ild E hb hS hg dX6_way_119 ?_
            refine lv_iload E.1 hb dX6_way_120 (lv_at hl 3 rfl) ?_
            refine lv_iadd E.1 hb dX6_way_122 ?_
            refine lv_iload E.1 hb dX6_way_123 (lv_at hl 3 rfl) ?_
            refine lv_iconst (v := 2) E.1 hb dX6_way_125 rfl ?_
            refine lv_irem E.1 hb dX6_way_126 (by decide) ?_
            refine lv_iconst (v := 1) E.1 hb dX6_way_127 rfl ?_
            refine lv_iload E.1 hb dX6_way_128 (lv_at hl 3 rfl) ?_
            refine lv_iconst (v := 2) E.1 hb dX6_way_130 rfl ?_
            refine lv_irem E.1 hb dX6_way_131 (by decide) ?_
            refine lv_isub E.1 hb dX6_way_132 ?_
            obtain ⟨_, σ9, h1, hf⟩ := bd_s hf
            refine m_cVv E hb hml hl.1 hS (cmf_goesOn h1) gw_goesOn gn_goesOn rfl rfl (Nat.le_of_ble_eq_true rfl) ⟨Nat.le_of_ble_eq_true rfl, Nat.le_of_ble_eq_true rfl⟩ ⟨Nat.le_refl 0, Nat.le_refl 0⟩ dX6_way_133 (fun H locs hS => ?_)
            refine lv_iinc (v := (x4 + 1)) (lv' := [(4, .int (x4 + 1)), (0, .ref o), (2, .int x2), (3, .int x3)]) E.1 hb dX6_way_136 hl (k := 3) rfl rfl (by decide) rfl (fun ls hl => ?_)
            refine lv_goto (tgt := 66) E.1 hb dX6_way_139 (by decide) ?_
            exact hk66 σ9 x2 x3 (x4 + 1) hf _ _ hS _ (lv_sub hl [1, 2, 3, 0] rfl)
          · have hf := if_s hc hf
            refine lv_iload E.1 hb dX6_way_110 (lv_at hl 3 rfl) ?_
            exact m_ir E hb hr hlk hS hf dX6_way_112
  have hL22 : ∀ (n : Nat) (σ : mSt) (x1 : Int32) (x2 : Int32) (x3 : Int32) (x4 : Int32), rn5 (M_way_b22 N) n σ x1 x2 x3 x4 = some (r, σ') → ∀ (H : Heap) (locs : List Loc), mS dC dI ac o ad s.heap σ H locs → ∀ (ls : Array Slot), lv_has ls 5 [(0, .ref o), (1, .int x1), (2, .int x2), (3, .int x3), (4, .int x4)] → W p l e rM_way s m args below meth c H locs 0 0 (MQ below (mQi dC dI ac o ad r σ') args s 0 0 (mF o ad)) (F0 m 22 ls []) := by
    intro  n
    induction n with
    | zero =>
      intro σ x1 x2 x3 x4 hf
      cases hf
    | succ n ih =>
      intro σ x1 x2 x3 x4 hf H locs hS ls hl
      have hf : M_way_b22 N (rn5 (M_way_b22 N) n) σ x1 x2 x3 x4 = some (r, σ') := hf
      have hk22 := ih
      generalize rn5 (M_way_b22 N) n = k22 at hf hk22
      unfold M_way_b22 at hf
      refine lv_iload E.1 hb dX6_way_22 (lv_at hl 4 rfl) ?_
      refine lv_bipush (v := 96) E.1 hb dX6_way_24 rfl ?_
      refine lv_icmp_ge (tgt := 43) E.1 hb dX6_way_26 (by decide) (fun hc => ?_) (fun hc => ?_)
      · have hf := it_s hc hf
        refine lv_aload_n E.1 hb dX6_way_43 rfl (lv_at hl 0 rfl) ?_
        refine m_gA (k := 64) E hb hS 5 rfl (by decide) fl_64 dX6_way_44 ?_
        refine lv_bipush (v := 8) E.1 hb dX6_way_47 rfl ?_
        refine lv_aload_n E.1 hb dX6_way_49 rfl (lv_at hl 0 rfl) ?_
        refine lv_iload_n E.1 hb dX6_way_50 rfl (lv_at hl 1 rfl) ?_
        obtain ⟨r3, h1, hf⟩ := bo_s hf
        refine m_cVi E hb hml hl.1 hS (cmf_leafOf h1) gw_leafOf gn_leafOf rfl rfl (Nat.le_of_ble_eq_true rfl) ⟨Nat.le_of_ble_eq_true rfl, Nat.le_of_ble_eq_true rfl⟩ ⟨Nat.le_refl 0, Nat.le_refl 0⟩ dX6_way_51 (fun H locs hS => ?_)
        refine lv_imul E.1 hb dX6_way_54 ?_
        refine lv_aload_n E.1 hb dX6_way_55 rfl (lv_at hl 0 rfl) ?_
        refine lv_iload_n E.1 hb dX6_way_56 rfl (lv_at hl 1 rfl) ?_
        obtain ⟨r4, h1, hf⟩ := bo_s hf
        refine m_cVi E hb hml hl.1 hS (cmf_cellOf h1) gw_cellOf gn_cellOf rfl rfl (Nat.le_of_ble_eq_true rfl) ⟨Nat.le_of_ble_eq_true rfl, Nat.le_of_ble_eq_true rfl⟩ ⟨Nat.le_refl 0, Nat.le_refl 0⟩ dX6_way_57 (fun H locs hS => ?_)
        refine lv_iadd E.1 hb dX6_way_60 ?_
        refine lv_iconst (v := 1) E.1 hb dX6_way_61 rfl ?_
        obtain ⟨σ5, hg, hw, hf⟩ := st_s hf
        refine m_zst E hb hS rfl hg hw dX6_way_62 (fun H locs hS => ?_)
        refine lv_iconst (v := 0) E.1 hb dX6_way_63 rfl ?_
        refine lv_istore (lv' := [(4, .int 0), (0, .ref o), (1, .int x1), (2, .int x2), (3, .int x3)]) E.1 hb dX6_way_64 hl (by decide) rfl (fun ls hl => ?_)
        exact hL66 N σ5 x2 x3 0 hf _ _ hS _ (lv_sub hl [1, 3, 4, 0] rfl)
      · have hf := if_s hc hf
        refine lv_aload_n E.1 hb dX6_way_29 rfl (lv_at hl 0 rfl) ?_
        refine m_gA (k := 64) E hb hS 5 rfl (by decide) fl_64 dX6_way_30 ?_
        refine lv_iload E.1 hb dX6_way_33 (lv_at hl 4 rfl) ?_
        refine lv_iconst (v := 0) E.1 hb dX6_way_35 rfl ?_
        obtain ⟨σ10, hg, hw, hf⟩ := st_s hf
        refine m_zst E hb hS rfl hg hw dX6_way_36 (fun H locs hS => ?_)
        refine lv_iinc (v := (x4 + 1)) (lv' := [(4, .int (x4 + 1)), (0, .ref o), (1, .int x1), (2, .int x2), (3, .int x3)]) E.1 hb dX6_way_37 hl (k := 4) rfl rfl (by decide) rfl (fun ls hl => ?_)
        refine lv_goto (tgt := 22) E.1 hb dX6_way_40 (by decide) ?_
        exact hk22 σ10 x1 x2 x3 (x4 + 1) hf _ _ hS _ (lv_sub hl [1, 2, 3, 4, 0] rfl)
  unfold M_way at hf
  refine lv_aload_n E.1 hb dX6_way_0 rfl (lv_at hl 0 rfl) ?_
  refine lv_iload_n E.1 hb dX6_way_1 rfl (lv_at hl 1 rfl) ?_
  obtain ⟨r1, h1, hf⟩ := bo_s hf
  refine m_cVi E hb hml hl.1 hS (cmf_isBeing h1) gw_isBeing gn_isBeing rfl rfl (Nat.le_of_ble_eq_true rfl) ⟨Nat.le_of_ble_eq_true rfl, Nat.le_of_ble_eq_true rfl⟩ ⟨Nat.le_refl 0, Nat.le_refl 0⟩ dX6_way_2 (fun H locs hS => ?_)
  refine lv_if_eq (tgt := 17) E.1 hb dX6_way_5 (by decide) (fun hc => ?_) (fun hc => ?_)
  · have hf := it_s hc hf
    refine lv_iconst (v := (-1)) E.1 hb dX6_way_17 rfl ?_
    exact m_ir E hb hr hlk hS hf dX6_way_18
  · have hf := if_s hc hf
    refine lv_aload_n E.1 hb dX6_way_8 rfl (lv_at hl 0 rfl) ?_
    refine lv_iload_n E.1 hb dX6_way_9 rfl (lv_at hl 2 rfl) ?_
    refine lv_iload_n E.1 hb dX6_way_10 rfl (lv_at hl 3 rfl) ?_
    obtain ⟨r2, h1, hf⟩ := bo_s hf
    refine m_cVi E hb hml hl.1 hS (cmf_isCell h1) gw_isCell gn_isCell rfl rfl (Nat.le_of_ble_eq_true rfl) ⟨Nat.le_of_ble_eq_true rfl, Nat.le_of_ble_eq_true rfl⟩ ⟨Nat.le_refl 0, Nat.le_refl 0⟩ dX6_way_11 (fun H locs hS => ?_)
    refine lv_if_ne (tgt := 19) E.1 hb dX6_way_14 (by decide) (fun hc => ?_) (fun hc => ?_)
    · have hf := if_s hc hf
      refine lv_iconst (v := 0) E.1 hb dX6_way_19 rfl ?_
      refine lv_istore (lv' := [(4, .int 0), (0, .ref o), (1, .int x1), (2, .int x2), (3, .int x3)]) E.1 hb dX6_way_20 hl (by decide) rfl (fun ls hl => ?_)
      exact hL22 N σ x1 x2 x3 0 hf _ _ hS _ (lv_sub hl [1, 2, 3, 4, 0] rfl)
    · have hf := it_s hc hf
      refine lv_iconst (v := (-1)) E.1 hb dX6_way_17 rfl ?_
      exact m_ir E hb hr hlk hS hf dX6_way_18
/-! refuses(I)I: RW -/
noncomputable def M_refuses (σ : mSt) (x1 : Int32) : Option (Int32 × mSt) :=
  bo (ld 2 σ 9 x1) fun v1 => bo (stI 2 σ 9 x1 (v1 + 1)) fun σ2 => some ((-1), σ2)
theorem gw_refuses : GoodIn lw_all (wsV RX6 546 RX6 yX6_refuses (ws_ yX6_refuses cX6_refuses 2 (some .int))) := lw_V q2402 q2404 qs135 q164 q2405
theorem gn_refuses : yX6_refuses.cls = RX6 ∧ yX6_refuses.cls ≠ "java/lang/invoke/MethodHandle" ∧ yX6_refuses.cls ≠ "java/lang/invoke/VarHandle" ∧ (parseMethodDescriptor yX6_refuses.desc).map (fun d => d.parameters.length) = some 1 := by decide +kernel
abbrev rM_refuses : Room := { frames := 0, cells := 0, slots := 0, locals := 0 }
set_option maxHeartbeats 4000000 in
theorem cmf_refuses {l : Launch} {dC : Nat → ClassId} {dI : Nat → Nat → Nat} {ac : Nat → ClassId} {o : Nat} {ad : Nat → Nat} {σ : mSt} {x1 : Int32} {r : Int32} {σ' : mSt} (hf : M_refuses σ x1 = some (r, σ')) : Met l yX6_refuses (ws_ yX6_refuses cX6_refuses 2 (some .int)) { frames := 0, cells := 0, slots := 0, locals := 0 } (va_Pc [.ref o, .int x1] (mPre dC dI ac o ad σ)) (mQi dC dI ac o ad r σ') 0 0 (mF o ad) := by
  refine m_of (by decide) rfl (Nat.le_of_ble_eq_true rfl) ?_
  intro p e s m args below meth c E hb hr hlk hml hS ls hl
  have hl : lv_has ls 2 [(0, .ref o), (1, .int x1)] := hl
  unfold M_refuses at hf
  refine lv_aload_n E.1 hb dX6_refuses_0 rfl (lv_at hl 0 rfl) ?_
  refine m_gA (k := 9) E hb hS 2 rfl (by decide) fl_9 dX6_refuses_1 ?_
  refine lv_iload_n E.1 hb dX6_refuses_4 rfl (lv_at hl 1 rfl) ?_
  refine lv_dup2_11 E.1 hb dX6_refuses_5 rfl rfl ?_
  obtain ⟨hg, hf⟩ := ld_s hf
  refine m_ild E hb hS hg dX6_refuses_6 ?_
  refine lv_iconst (v := 1) E.1 hb dX6_refuses_7 rfl ?_
  refine lv_iadd E.1 hb dX6_refuses_8 ?_
  obtain ⟨σ2, hg, hw, hf⟩ := st_s hf
  refine m_ist E hb hS hg hw dX6_refuses_9 (fun H locs hS => ?_)
  refine lv_iconst (v := (-1)) E.1 hb dX6_refuses_10 rfl ?_
  exact m_ir E hb hr hlk hS hf dX6_refuses_11
/-! see()I: RW -/
noncomputable def M_see_b99 (N : Nat) (k99 : mSt → Int32 → Int32 → Option (Int32 × mSt)) (σ : mSt) (x1 : Int32) (x3 : Int32) : Option (Int32 × mSt) :=
  if x1 ≤ x3 then (lt2 (mUI σ 65 0 (x1 / 2)) fun σ2 => some ((σ2.1 65 0), σ2)) else (bo (ld 2 σ 0 x3) fun v3 => bo (stI 2 σ 66 x3 v3) fun σ4 => k99 σ4 x1 (x3 + 1))
noncomputable def M_see_b87 (N : Nat) (σ : mSt) (x1 : Int32) (x2 : Int32) : Option (Int32 × mSt) :=
  if x2 = 0 then (bd (M_refuses σ 1) fun r5 σ6 => some (r5, σ6)) else (rn3 (M_see_b99 N) N σ x1 0)
noncomputable def M_see_b80 (N : Nat) (k36 : mSt → Int32 → Int32 → Int32 → Option (Int32 × mSt)) (σ : mSt) (x1 : Int32) (x3 : Int32) (y0 : Int32) : Option (Int32 × mSt) :=
  k36 σ x1 y0 (x3 + 2)
noncomputable def M_see_b79 (N : Nat) (k36 : mSt → Int32 → Int32 → Int32 → Option (Int32 × mSt)) (σ : mSt) (x1 : Int32) (x3 : Int32) : Option (Int32 × mSt) :=
  M_see_b80 N k36 σ x1 x3 0
noncomputable def M_see_b36 (N : Nat) (k36 : mSt → Int32 → Int32 → Int32 → Option (Int32 × mSt)) (σ : mSt) (x1 : Int32) (x2 : Int32) (x3 : Int32) : Option (Int32 × mSt) :=
  if x1 ≤ x3 then (M_see_b87 N σ x1 x2) else (if x2 = 0 then (M_see_b87 N σ x1 x2) else (bo (ld 2 σ 0 x3) fun v7 => bo (M_isBeing σ v7) fun r8 => if r8 = 0 then (M_see_b79 N k36 σ x1 x3) else (bo (ld 2 σ 0 (x3 + 1)) fun v9 => bo (ld 2 σ 40 3) fun v10 => if v10 ≤ v9 then (M_see_b79 N k36 σ x1 x3) else (M_see_b80 N k36 σ x1 x3 1))))
noncomputable def M_see_b33 (N : Nat) (σ : mSt) (x1 : Int32) (y0 : Int32) : Option (Int32 × mSt) :=
  rn4 (M_see_b36 N) N σ x1 y0 0
noncomputable def M_see_b32 (N : Nat) (σ : mSt) (x1 : Int32) : Option (Int32 × mSt) :=
  M_see_b33 N σ x1 0
noncomputable def M_see (N : Nat) (σ : mSt) : Option (Int32 × mSt) :=
  lt2 (mUI σ 1 0 0) fun σ1 => if (σ.1 1 0) ≤ 0 then (M_see_b32 N σ1 (σ.1 1 0)) else (if ((σ.1 1 0) - (σ.1 1 0) / 2 * 2) = 0 then (if 16 < ((σ.1 1 0) / 2) then (M_see_b32 N σ1 (σ.1 1 0)) else (M_see_b33 N σ1 (σ.1 1 0) 1)) else (M_see_b32 N σ1 (σ.1 1 0)))
abbrev rM_see : Room := { frames := 2, cells := 0, slots := 0, locals := 46 }
set_option maxHeartbeats 4000000 in
theorem cmf_see {l : Launch} {dC : Nat → ClassId} {dI : Nat → Nat → Nat} {ac : Nat → ClassId} {o : Nat} {ad : Nat → Nat} {N : Nat} {σ : mSt} {r : Int32} {σ' : mSt} (hf : M_see N σ = some (r, σ')) : Met l yX6_see (ws_ yX6_see cX6_see 4 (some .int)) { frames := 2, cells := 0, slots := 0, locals := 46 } (va_Pc [.ref o] (mPre dC dI ac o ad σ)) (mQi dC dI ac o ad r σ') 0 0 (mF o ad) := by
  refine m_of (by decide) rfl (Nat.le_of_ble_eq_true rfl) ?_
  intro p e s m args below meth c E hb hr hlk hml hS ls hl
  have hl : lv_has ls 4 [(0, .ref o)] := hl
  have hL99 : ∀ (n : Nat) (σ : mSt) (x1 : Int32) (x3 : Int32), rn3 (M_see_b99 N) n σ x1 x3 = some (r, σ') → ∀ (H : Heap) (locs : List Loc), mS dC dI ac o ad s.heap σ H locs → ∀ (ls : Array Slot), lv_has ls 4 [(0, .ref o), (1, .int x1), (3, .int x3)] → W p l e rM_see s m args below meth c H locs 0 0 (MQ below (mQi dC dI ac o ad r σ') args s 0 0 (mF o ad)) (F0 m 99 ls []) := by
    intro  n
    induction n with
    | zero =>
      intro σ x1 x3 hf
      cases hf
    | succ n ih =>
      intro σ x1 x3 hf H locs hS ls hl
      have hf : M_see_b99 N (rn3 (M_see_b99 N) n) σ x1 x3 = some (r, σ') := hf
      have hk99 := ih
      generalize rn3 (M_see_b99 N) n = k99 at hf hk99
      unfold M_see_b99 at hf
      refine lv_iload_n E.1 hb dX6_see_99 rfl (lv_at hl 2 rfl) ?_
      refine lv_iload_n E.1 hb dX6_see_100 rfl (lv_at hl 1 rfl) ?_
      refine lv_icmp_ge (tgt := 122) E.1 hb dX6_see_101 (by decide) (fun hc => ?_) (fun hc => ?_)
      · have hf := it_s hc hf
        refine lv_aload_n E.1 hb dX6_see_122 rfl (lv_at hl 0 rfl) ?_
        refine lv_iload_n E.1 hb dX6_see_123 rfl (lv_at hl 1 rfl) ?_
        refine lv_iconst (v := 2) E.1 hb dX6_see_124 rfl ?_
        refine lv_idiv E.1 hb dX6_see_125 (by decide) ?_
        obtain ⟨σ2, hw, hf⟩ := lt2_s hf
        refine m_pI (k := 65) E hb hS rfl rfl pf_65 fl_65 hw dX6_see_126 (fun H locs hS => ?_)
        refine lv_aload_n E.1 hb dX6_see_129 rfl (lv_at hl 0 rfl) ?_
        refine m_gI (k := 65) E hb hS rfl fl_65 dX6_see_130 ?_
        exact m_ir E hb hr hlk hS hf dX6_see_133
      · have hf := if_s hc hf
        refine lv_aload_n E.1 hb dX6_see_104 rfl (lv_at hl 0 rfl) ?_
        refine m_gA (k := 66) E hb hS 2 rfl (by decide) fl_66 dX6_see_105 ?_
        refine lv_iload_n E.1 hb dX6_see_108 rfl (lv_at hl 2 rfl) ?_
        refine lv_aload_n E.1 hb dX6_see_109 rfl (lv_at hl 0 rfl) ?_
        refine m_gA (k := 0) E hb hS 2 rfl (by decide) fl_0 dX6_see_110 ?_
        refine lv_iload_n E.1 hb dX6_see_113 rfl (lv_at hl 2 rfl) ?_
        obtain ⟨hg, hf⟩ := ld_s hf
        refine m_ild E hb hS hg dX6_see_114 ?_
        obtain ⟨σ4, hg, hw, hf⟩ := st_s hf
        refine m_ist E hb hS hg hw dX6_see_115 (fun H locs hS => ?_)
        refine lv_iinc (v := (x3 + 1)) (lv' := [(3, .int (x3 + 1)), (0, .ref o), (1, .int x1)]) E.1 hb dX6_see_116 hl (k := 2) rfl rfl (by decide) rfl (fun ls hl => ?_)
        refine lv_goto (tgt := 99) E.1 hb dX6_see_119 (by decide) ?_
        exact hk99 σ4 x1 (x3 + 1) hf _ _ hS _ (lv_sub hl [1, 2, 0] rfl)
  have hB87 : ∀ (σ : mSt) (x1 : Int32) (x2 : Int32), M_see_b87 N σ x1 x2 = some (r, σ') → ∀ (H : Heap) (locs : List Loc), mS dC dI ac o ad s.heap σ H locs → ∀ (ls : Array Slot), lv_has ls 4 [(0, .ref o), (1, .int x1), (2, .int x2)] → W p l e rM_see s m args below meth c H locs 0 0 (MQ below (mQi dC dI ac o ad r σ') args s 0 0 (mF o ad)) (F0 m 87 ls []) := by
    intro σ x1 x2 hf H locs hS ls hl
    unfold M_see_b87 at hf
    refine lv_iload_n E.1 hb dX6_see_87 rfl (lv_at hl 2 rfl) ?_
    refine lv_if_ne (tgt := 97) E.1 hb dX6_see_88 (by decide) (fun hc => ?_) (fun hc => ?_)
    · have hf := if_s hc hf
      refine lv_iconst (v := 0) E.1 hb dX6_see_97 rfl ?_
      refine lv_istore_n (lv' := [(3, .int 0), (0, .ref o), (1, .int x1), (2, .int x2)]) E.1 hb dX6_see_98 rfl hl (by decide) rfl (fun ls hl => ?_)
      exact hL99 N σ x1 0 hf _ _ hS _ (lv_sub hl [1, 2, 0] rfl)
    · have hf := it_s hc hf
      refine lv_aload_n E.1 hb dX6_see_91 rfl (lv_at hl 0 rfl) ?_
      refine lv_iconst (v := 1) E.1 hb dX6_see_92 rfl ?_
      obtain ⟨r5, σ6, h1, hf⟩ := bd_s hf
      refine m_cVi E hb hml hl.1 hS (cmf_refuses h1) gw_refuses gn_refuses rfl rfl (Nat.le_of_ble_eq_true rfl) ⟨Nat.le_of_ble_eq_true rfl, Nat.le_of_ble_eq_true rfl⟩ ⟨Nat.le_refl 0, Nat.le_refl 0⟩ dX6_see_93 (fun H locs hS => ?_)
      exact m_ir E hb hr hlk hS hf dX6_see_96
  have hB80 : ∀ (k36 : mSt → Int32 → Int32 → Int32 → Option (Int32 × mSt)) (hk36 : ∀ (σ : mSt) (x1 : Int32) (x2 : Int32) (x3 : Int32), k36 σ x1 x2 x3 = some (r, σ') → ∀ (H : Heap) (locs : List Loc), mS dC dI ac o ad s.heap σ H locs → ∀ (ls : Array Slot), lv_has ls 4 [(0, .ref o), (1, .int x1), (2, .int x2), (3, .int x3)] → W p l e rM_see s m args below meth c H locs 0 0 (MQ below (mQi dC dI ac o ad r σ') args s 0 0 (mF o ad)) (F0 m 36 ls [])) (σ : mSt) (x1 : Int32) (x3 : Int32) (y0 : Int32), M_see_b80 N k36 σ x1 x3 y0 = some (r, σ') → ∀ (H : Heap) (locs : List Loc), mS dC dI ac o ad s.heap σ H locs → ∀ (ls : Array Slot), lv_has ls 4 [(0, .ref o), (1, .int x1), (3, .int x3)] → W p l e rM_see s m args below meth c H locs 0 0 (MQ below (mQi dC dI ac o ad r σ') args s 0 0 (mF o ad)) (F0 m 80 ls [.int y0]) := by
    intro k36 hk36 σ x1 x3 y0 hf H locs hS ls hl
    unfold M_see_b80 at hf
    refine lv_istore_n (lv' := [(2, .int y0), (0, .ref o), (1, .int x1), (3, .int x3)]) E.1 hb dX6_see_80 rfl hl (by decide) rfl (fun ls hl => ?_)
    refine lv_iinc (v := (x3 + 2)) (lv' := [(3, .int (x3 + 2)), (2, .int y0), (0, .ref o), (1, .int x1)]) E.1 hb dX6_see_81 hl (k := 3) rfl rfl (by decide) rfl (fun ls hl => ?_)
    refine lv_goto (tgt := 36) E.1 hb dX6_see_84 (by decide) ?_
    exact hk36 σ x1 y0 (x3 + 2) hf _ _ hS _ (lv_sub hl [2, 3, 1, 0] rfl)
  have hB79 : ∀ (k36 : mSt → Int32 → Int32 → Int32 → Option (Int32 × mSt)) (hk36 : ∀ (σ : mSt) (x1 : Int32) (x2 : Int32) (x3 : Int32), k36 σ x1 x2 x3 = some (r, σ') → ∀ (H : Heap) (locs : List Loc), mS dC dI ac o ad s.heap σ H locs → ∀ (ls : Array Slot), lv_has ls 4 [(0, .ref o), (1, .int x1), (2, .int x2), (3, .int x3)] → W p l e rM_see s m args below meth c H locs 0 0 (MQ below (mQi dC dI ac o ad r σ') args s 0 0 (mF o ad)) (F0 m 36 ls [])) (σ : mSt) (x1 : Int32) (x3 : Int32), M_see_b79 N k36 σ x1 x3 = some (r, σ') → ∀ (H : Heap) (locs : List Loc), mS dC dI ac o ad s.heap σ H locs → ∀ (ls : Array Slot), lv_has ls 4 [(0, .ref o), (1, .int x1), (3, .int x3)] → W p l e rM_see s m args below meth c H locs 0 0 (MQ below (mQi dC dI ac o ad r σ') args s 0 0 (mF o ad)) (F0 m 79 ls []) := by
    intro k36 hk36 σ x1 x3 hf H locs hS ls hl
    unfold M_see_b79 at hf
    refine lv_iconst (v := 0) E.1 hb dX6_see_79 rfl ?_
    exact hB80 k36 hk36 σ x1 x3 0 hf _ _ hS _ (lv_sub hl [0, 1, 2] rfl)
  have hL36 : ∀ (n : Nat) (σ : mSt) (x1 : Int32) (x2 : Int32) (x3 : Int32), rn4 (M_see_b36 N) n σ x1 x2 x3 = some (r, σ') → ∀ (H : Heap) (locs : List Loc), mS dC dI ac o ad s.heap σ H locs → ∀ (ls : Array Slot), lv_has ls 4 [(0, .ref o), (1, .int x1), (2, .int x2), (3, .int x3)] → W p l e rM_see s m args below meth c H locs 0 0 (MQ below (mQi dC dI ac o ad r σ') args s 0 0 (mF o ad)) (F0 m 36 ls []) := by
    intro  n
    induction n with
    | zero =>
      intro σ x1 x2 x3 hf
      cases hf
    | succ n ih =>
      intro σ x1 x2 x3 hf H locs hS ls hl
      have hf : M_see_b36 N (rn4 (M_see_b36 N) n) σ x1 x2 x3 = some (r, σ') := hf
      have hk36 := ih
      generalize rn4 (M_see_b36 N) n = k36 at hf hk36
      unfold M_see_b36 at hf
      refine lv_iload_n E.1 hb dX6_see_36 rfl (lv_at hl 3 rfl) ?_
      refine lv_iload_n E.1 hb dX6_see_37 rfl (lv_at hl 1 rfl) ?_
      refine lv_icmp_ge (tgt := 87) E.1 hb dX6_see_38 (by decide) (fun hc => ?_) (fun hc => ?_)
      · have hf := it_s hc hf
        exact hB87 σ x1 x2 hf _ _ hS _ (lv_sub hl [0, 1, 2] rfl)
      · have hf := if_s hc hf
        refine lv_iload_n E.1 hb dX6_see_41 rfl (lv_at hl 2 rfl) ?_
        refine lv_if_eq (tgt := 87) E.1 hb dX6_see_42 (by decide) (fun hc => ?_) (fun hc => ?_)
        · have hf := it_s hc hf
          exact hB87 σ x1 x2 hf _ _ hS _ (lv_sub hl [0, 1, 2] rfl)
        · have hf := if_s hc hf
          refine lv_aload_n E.1 hb dX6_see_45 rfl (lv_at hl 0 rfl) ?_
          refine lv_aload_n E.1 hb dX6_see_46 rfl (lv_at hl 0 rfl) ?_
          refine m_gA (k := 0) E hb hS 2 rfl (by decide) fl_0 dX6_see_47 ?_
          refine lv_iload_n E.1 hb dX6_see_50 rfl (lv_at hl 3 rfl) ?_
          obtain ⟨hg, hf⟩ := ld_s hf
          refine m_ild E hb hS hg dX6_see_51 ?_
          obtain ⟨r8, h1, hf⟩ := bo_s hf
          refine m_cVi E hb hml hl.1 hS (cmf_isBeing h1) gw_isBeing gn_isBeing rfl rfl (Nat.le_of_ble_eq_true rfl) ⟨Nat.le_of_ble_eq_true rfl, Nat.le_of_ble_eq_true rfl⟩ ⟨Nat.le_refl 0, Nat.le_refl 0⟩ dX6_see_52 (fun H locs hS => ?_)
          refine lv_if_eq (tgt := 79) E.1 hb dX6_see_55 (by decide) (fun hc => ?_) (fun hc => ?_)
          · have hf := it_s hc hf
            exact hB79 k36 hk36 σ x1 x3 hf _ _ hS _ (lv_sub hl [0, 1, 3] rfl)
          · have hf := if_s hc hf
            refine lv_aload_n E.1 hb dX6_see_58 rfl (lv_at hl 0 rfl) ?_
            refine m_gA (k := 0) E hb hS 2 rfl (by decide) fl_0 dX6_see_59 ?_
            refine lv_iload_n E.1 hb dX6_see_62 rfl (lv_at hl 3 rfl) ?_
            refine lv_iconst (v := 1) E.1 hb dX6_see_63 rfl ?_
            refine lv_iadd E.1 hb dX6_see_64 ?_
            obtain ⟨hg, hf⟩ := ld_s hf
            refine m_ild E hb hS hg dX6_see_65 ?_
            refine lv_aload_n E.1 hb dX6_see_66 rfl (lv_at hl 0 rfl) ?_
            refine m_gA (k := 40) E hb hS 2 rfl (by decide) fl_40 dX6_see_67 ?_
            refine lv_iconst (v := 3) E.1 hb dX6_see_70 rfl ?_
            obtain ⟨hg, hf⟩ := ld_s hf
            refine m_ild E hb hS hg dX6_see_71 ?_
            refine lv_icmp_ge (tgt := 79) E.1 hb dX6_see_72 (by decide) (fun hc => ?_) (fun hc => ?_)
            · have hf := it_s hc hf
              exact hB79 k36 hk36 σ x1 x3 hf _ _ hS _ (lv_sub hl [0, 1, 3] rfl)
            · have hf := if_s hc hf
              refine lv_iconst (v := 1) E.1 hb dX6_see_75 rfl ?_
              refine lv_goto (tgt := 80) E.1 hb dX6_see_76 (by decide) ?_
              exact hB80 k36 hk36 σ x1 x3 1 hf _ _ hS _ (lv_sub hl [0, 1, 3] rfl)
  have hB33 : ∀ (σ : mSt) (x1 : Int32) (y0 : Int32), M_see_b33 N σ x1 y0 = some (r, σ') → ∀ (H : Heap) (locs : List Loc), mS dC dI ac o ad s.heap σ H locs → ∀ (ls : Array Slot), lv_has ls 4 [(0, .ref o), (1, .int x1)] → W p l e rM_see s m args below meth c H locs 0 0 (MQ below (mQi dC dI ac o ad r σ') args s 0 0 (mF o ad)) (F0 m 33 ls [.int y0]) := by
    intro σ x1 y0 hf H locs hS ls hl
    unfold M_see_b33 at hf
    refine lv_istore_n (lv' := [(2, .int y0), (0, .ref o), (1, .int x1)]) E.1 hb dX6_see_33 rfl hl (by decide) rfl (fun ls hl => ?_)
    refine lv_iconst (v := 0) E.1 hb dX6_see_34 rfl ?_
    refine lv_istore_n (lv' := [(3, .int 0), (2, .int y0), (0, .ref o), (1, .int x1)]) E.1 hb dX6_see_35 rfl hl (by decide) rfl (fun ls hl => ?_)
    exact hL36 N σ x1 y0 0 hf _ _ hS _ (lv_sub hl [2, 3, 1, 0] rfl)
  have hB32 : ∀ (σ : mSt) (x1 : Int32), M_see_b32 N σ x1 = some (r, σ') → ∀ (H : Heap) (locs : List Loc), mS dC dI ac o ad s.heap σ H locs → ∀ (ls : Array Slot), lv_has ls 4 [(0, .ref o), (1, .int x1)] → W p l e rM_see s m args below meth c H locs 0 0 (MQ below (mQi dC dI ac o ad r σ') args s 0 0 (mF o ad)) (F0 m 32 ls []) := by
    intro σ x1 hf H locs hS ls hl
    unfold M_see_b32 at hf
    refine lv_iconst (v := 0) E.1 hb dX6_see_32 rfl ?_
    exact hB33 σ x1 0 hf _ _ hS _ (lv_sub hl [0, 1] rfl)
  unfold M_see at hf
  refine lv_aload_n E.1 hb dX6_see_0 rfl (lv_at hl 0 rfl) ?_
  refine m_gI (k := 1) E hb hS rfl fl_1 dX6_see_1 ?_
  refine lv_istore_n (lv' := [(1, .int (σ.1 1 0)), (0, .ref o)]) E.1 hb dX6_see_4 rfl hl (by decide) rfl (fun ls hl => ?_)
  refine lv_aload_n E.1 hb dX6_see_5 rfl (lv_at hl 1 rfl) ?_
  refine lv_iconst (v := 0) E.1 hb dX6_see_6 rfl ?_
  obtain ⟨σ1, hw, hf⟩ := lt2_s hf
  refine m_pI (k := 1) E hb hS rfl rfl pf_1 fl_1 hw dX6_see_7 (fun H locs hS => ?_)
  refine lv_iload_n E.1 hb dX6_see_10 rfl (lv_at hl 0 rfl) ?_
  refine lv_if_le (tgt := 32) E.1 hb dX6_see_11 (by decide) (fun hc => ?_) (fun hc => ?_)
  · have hf := it_s hc hf
    exact hB32 σ1 (σ.1 1 0) hf _ _ hS _ (lv_sub hl [1, 0] rfl)
  · have hf := if_s hc hf
    refine lv_iload_n E.1 hb dX6_see_14 rfl (lv_at hl 0 rfl) ?_
    refine lv_iconst (v := 2) E.1 hb dX6_see_15 rfl ?_
    refine lv_irem E.1 hb dX6_see_16 (by decide) ?_
    refine lv_if_ne (tgt := 32) E.1 hb dX6_see_17 (by decide) (fun hc => ?_) (fun hc => ?_)
    · have hf := if_s hc hf
      exact hB32 σ1 (σ.1 1 0) hf _ _ hS _ (lv_sub hl [1, 0] rfl)
    · have hf := it_s hc hf
      refine lv_iload_n E.1 hb dX6_see_20 rfl (lv_at hl 0 rfl) ?_
      refine lv_iconst (v := 2) E.1 hb dX6_see_21 rfl ?_
      refine lv_idiv E.1 hb dX6_see_22 (by decide) ?_
      refine lv_bipush (v := 16) E.1 hb dX6_see_23 rfl ?_
      refine lv_icmp_gt (tgt := 32) E.1 hb dX6_see_25 (by decide) (fun hc => ?_) (fun hc => ?_)
      · have hf := it_s hc hf
        exact hB32 σ1 (σ.1 1 0) hf _ _ hS _ (lv_sub hl [1, 0] rfl)
      · have hf := if_s hc hf
        refine lv_iconst (v := 1) E.1 hb dX6_see_28 rfl ?_
        refine lv_goto (tgt := 33) E.1 hb dX6_see_29 (by decide) ?_
        exact hB33 σ1 (σ.1 1 0) 1 hf _ _ hS _ (lv_sub hl [1, 0] rfl)
/-! isAsSeen(I)Z: RO -/
noncomputable def M_isAsSeen_b2 (N : Nat) (σ : mSt) (k2 : Int32 → Int32 → Option Int32) (x1 : Int32) (x2 : Int32) : Option Int32 :=
  if (σ.1 65 0) ≤ x2 then (some 1) else (bo (ld 2 σ 66 (2 * x2)) fun v1 => bo (ld 2 σ 67 ((8 * x1) + v1)) fun v2 => bo (ld 2 σ 66 ((2 * x2) + 1)) fun v3 => if v2 = v3 then (k2 x1 (x2 + 1)) else (some 0))
noncomputable def M_isAsSeen (N : Nat) (σ : mSt) (x1 : Int32) : Option Int32 :=
  rn2 (M_isAsSeen_b2 N σ) N x1 0
theorem gw_isAsSeen : GoodIn lw_all (wsV RX6 549 RX6 yX6_isAsSeen (ws_ yX6_isAsSeen cX6_isAsSeen 3 (some .boolean))) := lw_V q2414 q2416 qs137 q164 q2417
theorem gn_isAsSeen : yX6_isAsSeen.cls = RX6 ∧ yX6_isAsSeen.cls ≠ "java/lang/invoke/MethodHandle" ∧ yX6_isAsSeen.cls ≠ "java/lang/invoke/VarHandle" ∧ (parseMethodDescriptor yX6_isAsSeen.desc).map (fun d => d.parameters.length) = some 1 := by decide +kernel
abbrev rM_isAsSeen : Room := { frames := 0, cells := 0, slots := 0, locals := 0 }
set_option maxHeartbeats 4000000 in
theorem cmf_isAsSeen {l : Launch} {dC : Nat → ClassId} {dI : Nat → Nat → Nat} {ac : Nat → ClassId} {o : Nat} {ad : Nat → Nat} {N : Nat} {σ : mSt} {x1 : Int32} {r : Int32} (hf : M_isAsSeen N σ x1 = some r) : Met l yX6_isAsSeen (ws_ yX6_isAsSeen cX6_isAsSeen 3 (some .boolean)) { frames := 0, cells := 0, slots := 0, locals := 0 } (va_Pc [.ref o, .int x1] (mPre dC dI ac o ad σ)) (mQi dC dI ac o ad r σ) 0 0 (mF o ad) := by
  refine m_of (by decide) rfl (Nat.le_of_ble_eq_true rfl) ?_
  intro p e s m args below meth c E hb hr hlk hml hS ls hl
  have hl : lv_has ls 3 [(0, .ref o), (1, .int x1)] := hl
  have hL2 : ∀ (n : Nat) (x1 : Int32) (x2 : Int32), rn2 (M_isAsSeen_b2 N σ) n x1 x2 = some r → ∀ (H : Heap) (locs : List Loc), mS dC dI ac o ad s.heap σ H locs → ∀ (ls : Array Slot), lv_has ls 3 [(0, .ref o), (1, .int x1), (2, .int x2)] → W p l e rM_isAsSeen s m args below meth c H locs 0 0 (MQ below (mQi dC dI ac o ad r σ) args s 0 0 (mF o ad)) (F0 m 2 ls []) := by
    intro  n
    induction n with
    | zero =>
      intro x1 x2 hf
      cases hf
    | succ n ih =>
      intro x1 x2 hf H locs hS ls hl
      have hf : M_isAsSeen_b2 N σ (rn2 (M_isAsSeen_b2 N σ) n) x1 x2 = some r := hf
      have hk2 := ih
      generalize rn2 (M_isAsSeen_b2 N σ) n = k2 at hf hk2
      unfold M_isAsSeen_b2 at hf
      refine lv_iload_n E.1 hb dX6_isAsSeen_2 rfl (lv_at hl 2 rfl) ?_
      refine lv_aload_n E.1 hb dX6_isAsSeen_3 rfl (lv_at hl 0 rfl) ?_
      refine m_gI (k := 65) E hb hS rfl fl_65 dX6_isAsSeen_4 ?_
      refine lv_icmp_ge (tgt := 49) E.1 hb dX6_isAsSeen_7 (by decide) (fun hc => ?_) (fun hc => ?_)
      · have hf := it_s hc hf
        refine lv_iconst (v := 1) E.1 hb dX6_isAsSeen_49 rfl ?_
        exact m_zrR E hb hr hlk hS rfl hf dX6_isAsSeen_50
      · have hf := if_s hc hf
        refine lv_aload_n E.1 hb dX6_isAsSeen_10 rfl (lv_at hl 0 rfl) ?_
        refine m_gA (k := 67) E hb hS 2 rfl (by decide) fl_67 dX6_isAsSeen_11 ?_
        refine lv_bipush (v := 8) E.1 hb dX6_isAsSeen_14 rfl ?_
        refine lv_iload_n E.1 hb dX6_isAsSeen_16 rfl (lv_at hl 1 rfl) ?_
        refine lv_imul E.1 hb dX6_isAsSeen_17 ?_
        refine lv_aload_n E.1 hb dX6_isAsSeen_18 rfl (lv_at hl 0 rfl) ?_
        refine m_gA (k := 66) E hb hS 2 rfl (by decide) fl_66 dX6_isAsSeen_19 ?_
        refine lv_iconst (v := 2) E.1 hb dX6_isAsSeen_22 rfl ?_
        refine lv_iload_n E.1 hb dX6_isAsSeen_23 rfl (lv_at hl 2 rfl) ?_
        refine lv_imul E.1 hb dX6_isAsSeen_24 ?_
        obtain ⟨hg, hf⟩ := ld_s hf
        refine m_ild E hb hS hg dX6_isAsSeen_25 ?_
        refine lv_iadd E.1 hb dX6_isAsSeen_26 ?_
        obtain ⟨hg, hf⟩ := ld_s hf
        refine m_ild E hb hS hg dX6_isAsSeen_27 ?_
        refine lv_aload_n E.1 hb dX6_isAsSeen_28 rfl (lv_at hl 0 rfl) ?_
        refine m_gA (k := 66) E hb hS 2 rfl (by decide) fl_66 dX6_isAsSeen_29 ?_
        refine lv_iconst (v := 2) E.1 hb dX6_isAsSeen_32 rfl ?_
        refine lv_iload_n E.1 hb dX6_isAsSeen_33 rfl (lv_at hl 2 rfl) ?_
        refine lv_imul E.1 hb dX6_isAsSeen_34 ?_
        refine lv_iconst (v := 1) E.1 hb dX6_isAsSeen_35 rfl ?_
        refine lv_iadd E.1 hb dX6_isAsSeen_36 ?_
        obtain ⟨hg, hf⟩ := ld_s hf
        refine m_ild E hb hS hg dX6_isAsSeen_37 ?_
        refine lv_icmp_eq (tgt := 43) E.1 hb dX6_isAsSeen_38 (by decide) (fun hc => ?_) (fun hc => ?_)
        · have hf := it_s hc hf
          refine lv_iinc (v := (x2 + 1)) (lv' := [(2, .int (x2 + 1)), (0, .ref o), (1, .int x1)]) E.1 hb dX6_isAsSeen_43 hl (k := 2) rfl rfl (by decide) rfl (fun ls hl => ?_)
          refine lv_goto (tgt := 2) E.1 hb dX6_isAsSeen_46 (by decide) ?_
          exact hk2 x1 (x2 + 1) hf _ _ hS _ (lv_sub hl [1, 2, 0] rfl)
        · have hf := if_s hc hf
          refine lv_iconst (v := 0) E.1 hb dX6_isAsSeen_41 rfl ?_
          exact m_zrR E hb hr hlk hS rfl hf dX6_isAsSeen_42
  unfold M_isAsSeen at hf
  refine lv_iconst (v := 0) E.1 hb dX6_isAsSeen_0 rfl ?_
  refine lv_istore_n (lv' := [(2, .int 0), (0, .ref o), (1, .int x1)]) E.1 hb dX6_isAsSeen_1 rfl hl (by decide) rfl (fun ls hl => ?_)
  exact hL2 N x1 0 hf _ _ hS _ (lv_sub hl [1, 2, 0] rfl)
/-! openingsSeen()I: RW -/
noncomputable def M_openingsSeen_b71 (N : Nat) (k8 : mSt → Int32 → Int32 → Option (Int32 × mSt)) (σ : mSt) (x1 : Int32) (x2 : Int32) : Option (Int32 × mSt) :=
  k8 σ x1 (x2 + 1)
noncomputable def M_openingsSeen_b23 (N : Nat) (k8 : mSt → Int32 → Int32 → Option (Int32 × mSt)) (k23 : mSt → Int32 → Int32 → Int32 → Option (Int32 × mSt)) (σ : mSt) (x1 : Int32) (x2 : Int32) (x3 : Int32) : Option (Int32 × mSt) :=
  bo (M_beingMany σ) fun r5 => if r5 ≤ x3 then (bd (M_triesAnew N σ) fun _ σ6 => bo (M_isAsSeen N σ6 x2) fun r7 => if r7 = 0 then (M_openingsSeen_b71 N k8 σ6 x1 x2) else (M_openingsSeen_b71 N k8 σ6 (x1 ||| (1 <<< (x2 &&& 31))) x2)) else (bo (M_cellOf σ x3) fun r8 => bo (stI 2 σ 67 ((8 * x2) + x3) r8) fun σ9 => k23 σ9 x1 x2 (x3 + 1))
noncomputable def M_openingsSeen_b8 (N : Nat) (k8 : mSt → Int32 → Int32 → Option (Int32 × mSt)) (σ : mSt) (x1 : Int32) (x2 : Int32) : Option (Int32 × mSt) :=
  bo (M_leaves σ) fun r2 => if r2 < x2 then (bd (M_takesBack N σ) fun _ σ3 => some (x1, σ3)) else (bd (M_dayBy N σ x2) fun _ σ4 => rn4 (M_openingsSeen_b23 N k8) N σ4 x1 x2 0)
noncomputable def M_openingsSeen (N : Nat) (σ : mSt) : Option (Int32 × mSt) :=
  bd (M_putsAside N σ) fun _ σ1 => rn3 (M_openingsSeen_b8 N) N σ1 0 0
theorem gw_openingsSeen : GoodIn lw_all (wsV RX6 552 RX6 yX6_openingsSeen (ws_ yX6_openingsSeen cX6_openingsSeen 4 (some .int))) := lw_V q2410 q2412 qs136 q164 q2413
theorem gn_openingsSeen : yX6_openingsSeen.cls = RX6 ∧ yX6_openingsSeen.cls ≠ "java/lang/invoke/MethodHandle" ∧ yX6_openingsSeen.cls ≠ "java/lang/invoke/VarHandle" ∧ (parseMethodDescriptor yX6_openingsSeen.desc).map (fun d => d.parameters.length) = some 0 := by decide +kernel
abbrev rM_openingsSeen : Room := { frames := 5, cells := 0, slots := 0, locals := 122 }
set_option maxHeartbeats 4000000 in
theorem cmf_openingsSeen {l : Launch} {dC : Nat → ClassId} {dI : Nat → Nat → Nat} {ac : Nat → ClassId} {o : Nat} {ad : Nat → Nat} {N : Nat} {σ : mSt} {r : Int32} {σ' : mSt} (hf : M_openingsSeen N σ = some (r, σ')) : Met l yX6_openingsSeen (ws_ yX6_openingsSeen cX6_openingsSeen 4 (some .int)) { frames := 5, cells := 0, slots := 0, locals := 122 } (va_Pc [.ref o] (mPre dC dI ac o ad σ)) (mQi dC dI ac o ad r σ') 0 0 (mF o ad) := by
  refine m_of (by decide) rfl (Nat.le_of_ble_eq_true rfl) ?_
  intro p e s m args below meth c E hb hr hlk hml hS ls hl
  have hl : lv_has ls 4 [(0, .ref o)] := hl
  have hB71 : ∀ (k8 : mSt → Int32 → Int32 → Option (Int32 × mSt)) (hk8 : ∀ (σ : mSt) (x1 : Int32) (x2 : Int32), k8 σ x1 x2 = some (r, σ') → ∀ (H : Heap) (locs : List Loc), mS dC dI ac o ad s.heap σ H locs → ∀ (ls : Array Slot), lv_has ls 4 [(0, .ref o), (1, .int x1), (2, .int x2)] → W p l e rM_openingsSeen s m args below meth c H locs 0 0 (MQ below (mQi dC dI ac o ad r σ') args s 0 0 (mF o ad)) (F0 m 8 ls [])) (σ : mSt) (x1 : Int32) (x2 : Int32), M_openingsSeen_b71 N k8 σ x1 x2 = some (r, σ') → ∀ (H : Heap) (locs : List Loc), mS dC dI ac o ad s.heap σ H locs → ∀ (ls : Array Slot), lv_has ls 4 [(0, .ref o), (1, .int x1), (2, .int x2)] → W p l e rM_openingsSeen s m args below meth c H locs 0 0 (MQ below (mQi dC dI ac o ad r σ') args s 0 0 (mF o ad)) (F0 m 71 ls []) := by
    intro k8 hk8 σ x1 x2 hf H locs hS ls hl
    unfold M_openingsSeen_b71 at hf
    refine lv_iinc (v := (x2 + 1)) (lv' := [(2, .int (x2 + 1)), (0, .ref o), (1, .int x1)]) E.1 hb dX6_openingsSeen_71 hl (k := 2) rfl rfl (by decide) rfl (fun ls hl => ?_)
    refine lv_goto (tgt := 8) E.1 hb dX6_openingsSeen_74 (by decide) ?_
    exact hk8 σ x1 (x2 + 1) hf _ _ hS _ (lv_sub hl [1, 2, 0] rfl)
  have hL23 : ∀ (k8 : mSt → Int32 → Int32 → Option (Int32 × mSt)) (hk8 : ∀ (σ : mSt) (x1 : Int32) (x2 : Int32), k8 σ x1 x2 = some (r, σ') → ∀ (H : Heap) (locs : List Loc), mS dC dI ac o ad s.heap σ H locs → ∀ (ls : Array Slot), lv_has ls 4 [(0, .ref o), (1, .int x1), (2, .int x2)] → W p l e rM_openingsSeen s m args below meth c H locs 0 0 (MQ below (mQi dC dI ac o ad r σ') args s 0 0 (mF o ad)) (F0 m 8 ls [])) (n : Nat) (σ : mSt) (x1 : Int32) (x2 : Int32) (x3 : Int32), rn4 (M_openingsSeen_b23 N k8) n σ x1 x2 x3 = some (r, σ') → ∀ (H : Heap) (locs : List Loc), mS dC dI ac o ad s.heap σ H locs → ∀ (ls : Array Slot), lv_has ls 4 [(0, .ref o), (1, .int x1), (2, .int x2), (3, .int x3)] → W p l e rM_openingsSeen s m args below meth c H locs 0 0 (MQ below (mQi dC dI ac o ad r σ') args s 0 0 (mF o ad)) (F0 m 23 ls []) := by
    intro k8 hk8 n
    induction n with
    | zero =>
      intro σ x1 x2 x3 hf
      cases hf
    | succ n ih =>
      intro σ x1 x2 x3 hf H locs hS ls hl
      have hf : M_openingsSeen_b23 N k8 (rn4 (M_openingsSeen_b23 N k8) n) σ x1 x2 x3 = some (r, σ') := hf
      have hk23 := ih
      generalize rn4 (M_openingsSeen_b23 N k8) n = k23 at hf hk23
      unfold M_openingsSeen_b23 at hf
      refine lv_iload_n E.1 hb dX6_openingsSeen_23 rfl (lv_at hl 3 rfl) ?_
      refine lv_aload_n E.1 hb dX6_openingsSeen_24 rfl (lv_at hl 0 rfl) ?_
      obtain ⟨r5, h1, hf⟩ := bo_s hf
      refine m_cVi E hb hml hl.1 hS (cmf_beingMany h1) gw_beingMany gn_beingMany rfl rfl (Nat.le_of_ble_eq_true rfl) ⟨Nat.le_of_ble_eq_true rfl, Nat.le_of_ble_eq_true rfl⟩ ⟨Nat.le_refl 0, Nat.le_refl 0⟩ dX6_openingsSeen_25 (fun H locs hS => ?_)
      refine lv_icmp_ge (tgt := 53) E.1 hb dX6_openingsSeen_28 (by decide) (fun hc => ?_) (fun hc => ?_)
      · have hf := it_s hc hf
        refine lv_aload_n E.1 hb dX6_openingsSeen_53 rfl (lv_at hl 0 rfl) ?_
        obtain ⟨_, σ6, h1, hf⟩ := bd_s hf
        refine m_cVv E hb hml hl.1 hS (cmf_triesAnew h1) gw_triesAnew gn_triesAnew rfl rfl (Nat.le_of_ble_eq_true rfl) ⟨Nat.le_of_ble_eq_true rfl, Nat.le_of_ble_eq_true rfl⟩ ⟨Nat.le_refl 0, Nat.le_refl 0⟩ dX6_openingsSeen_54 (fun H locs hS => ?_)
        refine lv_aload_n E.1 hb dX6_openingsSeen_57 rfl (lv_at hl 0 rfl) ?_
        refine lv_iload_n E.1 hb dX6_openingsSeen_58 rfl (lv_at hl 2 rfl) ?_
        obtain ⟨r7, h1, hf⟩ := bo_s hf
        refine m_cVi E hb hml hl.1 hS (cmf_isAsSeen h1) gw_isAsSeen gn_isAsSeen rfl rfl (Nat.le_of_ble_eq_true rfl) ⟨Nat.le_of_ble_eq_true rfl, Nat.le_of_ble_eq_true rfl⟩ ⟨Nat.le_refl 0, Nat.le_refl 0⟩ dX6_openingsSeen_59 (fun H locs hS => ?_)
        refine lv_if_eq (tgt := 71) E.1 hb dX6_openingsSeen_62 (by decide) (fun hc => ?_) (fun hc => ?_)
        · have hf := it_s hc hf
          exact hB71 k8 hk8 σ6 x1 x2 hf _ _ hS _ (lv_sub hl [0, 1, 2] rfl)
        · have hf := if_s hc hf
          refine lv_iload_n E.1 hb dX6_openingsSeen_65 rfl (lv_at hl 1 rfl) ?_
          refine lv_iconst (v := 1) E.1 hb dX6_openingsSeen_66 rfl ?_
          refine lv_iload_n E.1 hb dX6_openingsSeen_67 rfl (lv_at hl 2 rfl) ?_
          refine lv_ishl E.1 hb dX6_openingsSeen_68 ?_
          refine lv_ior E.1 hb dX6_openingsSeen_69 ?_
          refine lv_istore_n (lv' := [(1, .int (x1 ||| (1 <<< (x2 &&& 31)))), (0, .ref o), (2, .int x2), (3, .int x3)]) E.1 hb dX6_openingsSeen_70 rfl hl (by decide) rfl (fun ls hl => ?_)
          exact hB71 k8 hk8 σ6 (x1 ||| (1 <<< (x2 &&& 31))) x2 hf _ _ hS _ (lv_sub hl [1, 0, 2] rfl)
      · have hf := if_s hc hf
        refine lv_aload_n E.1 hb dX6_openingsSeen_31 rfl (lv_at hl 0 rfl) ?_
        refine m_gA (k := 67) E hb hS 2 rfl (by decide) fl_67 dX6_openingsSeen_32 ?_
        refine lv_bipush (v := 8) E.1 hb dX6_openingsSeen_35 rfl ?_
        refine lv_iload_n E.1 hb dX6_openingsSeen_37 rfl (lv_at hl 2 rfl) ?_
        refine lv_imul E.1 hb dX6_openingsSeen_38 ?_
        refine lv_iload_n E.1 hb dX6_openingsSeen_39 rfl (lv_at hl 3 rfl) ?_
        refine lv_iadd E.1 hb dX6_openingsSeen_40 ?_
        refine lv_aload_n E.1 hb dX6_openingsSeen_41 rfl (lv_at hl 0 rfl) ?_
        refine lv_iload_n E.1 hb dX6_openingsSeen_42 rfl (lv_at hl 3 rfl) ?_
        obtain ⟨r8, h1, hf⟩ := bo_s hf
        refine m_cVi E hb hml hl.1 hS (cmf_cellOf h1) gw_cellOf gn_cellOf rfl rfl (Nat.le_of_ble_eq_true rfl) ⟨Nat.le_of_ble_eq_true rfl, Nat.le_of_ble_eq_true rfl⟩ ⟨Nat.le_refl 0, Nat.le_refl 0⟩ dX6_openingsSeen_43 (fun H locs hS => ?_)
        obtain ⟨σ9, hg, hw, hf⟩ := st_s hf
        refine m_ist E hb hS hg hw dX6_openingsSeen_46 (fun H locs hS => ?_)
        refine lv_iinc (v := (x3 + 1)) (lv' := [(3, .int (x3 + 1)), (0, .ref o), (1, .int x1), (2, .int x2)]) E.1 hb dX6_openingsSeen_47 hl (k := 3) rfl rfl (by decide) rfl (fun ls hl => ?_)
        refine lv_goto (tgt := 23) E.1 hb dX6_openingsSeen_50 (by decide) ?_
        exact hk23 σ9 x1 x2 (x3 + 1) hf _ _ hS _ (lv_sub hl [1, 2, 3, 0] rfl)
  have hL8 : ∀ (n : Nat) (σ : mSt) (x1 : Int32) (x2 : Int32), rn3 (M_openingsSeen_b8 N) n σ x1 x2 = some (r, σ') → ∀ (H : Heap) (locs : List Loc), mS dC dI ac o ad s.heap σ H locs → ∀ (ls : Array Slot), lv_has ls 4 [(0, .ref o), (1, .int x1), (2, .int x2)] → W p l e rM_openingsSeen s m args below meth c H locs 0 0 (MQ below (mQi dC dI ac o ad r σ') args s 0 0 (mF o ad)) (F0 m 8 ls []) := by
    intro  n
    induction n with
    | zero =>
      intro σ x1 x2 hf
      cases hf
    | succ n ih =>
      intro σ x1 x2 hf H locs hS ls hl
      have hf : M_openingsSeen_b8 N (rn3 (M_openingsSeen_b8 N) n) σ x1 x2 = some (r, σ') := hf
      have hk8 := ih
      generalize rn3 (M_openingsSeen_b8 N) n = k8 at hf hk8
      unfold M_openingsSeen_b8 at hf
      refine lv_iload_n E.1 hb dX6_openingsSeen_8 rfl (lv_at hl 2 rfl) ?_
      refine lv_aload_n E.1 hb dX6_openingsSeen_9 rfl (lv_at hl 0 rfl) ?_
      obtain ⟨r2, h1, hf⟩ := bo_s hf
      refine m_cVi E hb hml hl.1 hS (cmf_leaves h1) gw_leaves gn_leaves rfl rfl (Nat.le_of_ble_eq_true rfl) ⟨Nat.le_of_ble_eq_true rfl, Nat.le_of_ble_eq_true rfl⟩ ⟨Nat.le_refl 0, Nat.le_refl 0⟩ dX6_openingsSeen_10 (fun H locs hS => ?_)
      refine lv_icmp_gt (tgt := 77) E.1 hb dX6_openingsSeen_13 (by decide) (fun hc => ?_) (fun hc => ?_)
      · have hf := it_s hc hf
        refine lv_aload_n E.1 hb dX6_openingsSeen_77 rfl (lv_at hl 0 rfl) ?_
        obtain ⟨_, σ3, h1, hf⟩ := bd_s hf
        refine m_cVv E hb hml hl.1 hS (cmf_takesBack h1) gw_takesBack gn_takesBack rfl rfl (Nat.le_of_ble_eq_true rfl) ⟨Nat.le_of_ble_eq_true rfl, Nat.le_of_ble_eq_true rfl⟩ ⟨Nat.le_refl 0, Nat.le_refl 0⟩ dX6_openingsSeen_78 (fun H locs hS => ?_)
        refine lv_iload_n E.1 hb dX6_openingsSeen_81 rfl (lv_at hl 1 rfl) ?_
        exact m_ir E hb hr hlk hS hf dX6_openingsSeen_82
      · have hf := if_s hc hf
        refine lv_aload_n E.1 hb dX6_openingsSeen_16 rfl (lv_at hl 0 rfl) ?_
        refine lv_iload_n E.1 hb dX6_openingsSeen_17 rfl (lv_at hl 2 rfl) ?_
        obtain ⟨_, σ4, h1, hf⟩ := bd_s hf
        refine m_cVv E hb hml hl.1 hS (cmf_dayBy h1) gw_dayBy gn_dayBy rfl rfl (Nat.le_of_ble_eq_true rfl) ⟨Nat.le_of_ble_eq_true rfl, Nat.le_of_ble_eq_true rfl⟩ ⟨Nat.le_refl 0, Nat.le_refl 0⟩ dX6_openingsSeen_18 (fun H locs hS => ?_)
        refine lv_iconst (v := 0) E.1 hb dX6_openingsSeen_21 rfl ?_
        refine lv_istore_n (lv' := [(3, .int 0), (0, .ref o), (1, .int x1), (2, .int x2)]) E.1 hb dX6_openingsSeen_22 rfl hl (by decide) rfl (fun ls hl => ?_)
        exact hL23 k8 hk8 N σ4 x1 x2 0 hf _ _ hS _ (lv_sub hl [1, 2, 3, 0] rfl)
  unfold M_openingsSeen at hf
  refine lv_iconst (v := 0) E.1 hb dX6_openingsSeen_0 rfl ?_
  refine lv_istore_n (lv' := [(1, .int 0), (0, .ref o)]) E.1 hb dX6_openingsSeen_1 rfl hl (by decide) rfl (fun ls hl => ?_)
  refine lv_aload_n E.1 hb dX6_openingsSeen_2 rfl (lv_at hl 1 rfl) ?_
  obtain ⟨_, σ1, h1, hf⟩ := bd_s hf
  refine m_cVv E hb hml hl.1 hS (cmf_putsAside h1) gw_putsAside gn_putsAside rfl rfl (Nat.le_of_ble_eq_true rfl) ⟨Nat.le_of_ble_eq_true rfl, Nat.le_of_ble_eq_true rfl⟩ ⟨Nat.le_refl 0, Nat.le_refl 0⟩ dX6_openingsSeen_3 (fun H locs hS => ?_)
  refine lv_iconst (v := 0) E.1 hb dX6_openingsSeen_6 rfl ?_
  refine lv_istore_n (lv' := [(2, .int 0), (1, .int 0), (0, .ref o)]) E.1 hb dX6_openingsSeen_7 rfl hl (by decide) rfl (fun ls hl => ?_)
  exact hL8 N σ1 0 0 hf _ _ hS _ (lv_sub hl [2, 1, 0] rfl)
/-! lay(I)I: RW -/
noncomputable def M_lay (N : Nat) (σ : mSt) (x1 : Int32) : Option (Int32 × mSt) :=
  bo (M_isAhead σ 1 1 1) fun r1 => if r1 = 0 then (some ((-1), σ)) else (bo (M_isIn (Int32.toInt64 x1) 0 1) fun r2 => if r2 = 0 then (some ((-1), σ)) else (bd (M_openingsSeen N σ) fun r3 σ4 => if x1 = 0 then (bo (M_bits N r3) fun r5 => some (r5, σ4)) else (some (r3, σ4))))
abbrev rM_lay : Room := { frames := 6, cells := 0, slots := 0, locals := 145 }
set_option maxHeartbeats 4000000 in
theorem cmf_lay {l : Launch} {dC : Nat → ClassId} {dI : Nat → Nat → Nat} {ac : Nat → ClassId} {o : Nat} {ad : Nat → Nat} {N : Nat} {σ : mSt} {x1 : Int32} {r : Int32} {σ' : mSt} (hf : M_lay N σ x1 = some (r, σ')) : Met l yX6_lay (ws_ yX6_lay cX6_lay 3 (some .int)) { frames := 6, cells := 0, slots := 0, locals := 145 } (va_Pc [.ref o, .int x1] (mPre dC dI ac o ad σ)) (mQi dC dI ac o ad r σ') 0 0 (mF o ad) := by
  refine m_of (by decide) rfl (Nat.le_of_ble_eq_true rfl) ?_
  intro p e s m args below meth c E hb hr hlk hml hS ls hl
  have hl : lv_has ls 3 [(0, .ref o), (1, .int x1)] := hl
  unfold M_lay at hf
  refine lv_aload_n E.1 hb dX6_lay_0 rfl (lv_at hl 0 rfl) ?_
  refine lv_iconst (v := 1) E.1 hb dX6_lay_1 rfl ?_
  refine lv_iconst (v := 1) E.1 hb dX6_lay_2 rfl ?_
  refine lv_iconst (v := 1) E.1 hb dX6_lay_3 rfl ?_
  obtain ⟨r1, h1, hf⟩ := bo_s hf
  refine m_cVi E hb hml hl.1 hS (cmf_isAhead h1) gw_isAhead gn_isAhead rfl rfl (Nat.le_of_ble_eq_true rfl) ⟨Nat.le_of_ble_eq_true rfl, Nat.le_of_ble_eq_true rfl⟩ ⟨Nat.le_refl 0, Nat.le_refl 0⟩ dX6_lay_4 (fun H locs hS => ?_)
  refine lv_if_eq (tgt := 20) E.1 hb dX6_lay_7 (by decide) (fun hc => ?_) (fun hc => ?_)
  · have hf := it_s hc hf
    refine lv_iconst (v := (-1)) E.1 hb dX6_lay_20 rfl ?_
    exact m_ir E hb hr hlk hS hf dX6_lay_21
  · have hf := if_s hc hf
    refine lv_iload_n E.1 hb dX6_lay_10 rfl (lv_at hl 1 rfl) ?_
    refine lv_i2l E.1 hb dX6_lay_11 rfl ?_
    refine lv_lconst (v := 0) E.1 hb dX6_lay_12 rfl ?_
    refine lv_lconst (v := 1) E.1 hb dX6_lay_13 rfl ?_
    obtain ⟨r2, h1, hf⟩ := bo_s hf
    refine m_cSi E hb hml hl.1 hS (cmf_isIn h1) gw_isIn gn_isIn rfl rfl (Nat.le_of_ble_eq_true rfl) ⟨Nat.le_of_ble_eq_true rfl, Nat.le_of_ble_eq_true rfl⟩ ⟨Nat.le_refl 0, Nat.le_refl 0⟩ dX6_lay_14 (fun H locs hS => ?_)
    refine lv_if_ne (tgt := 22) E.1 hb dX6_lay_17 (by decide) (fun hc => ?_) (fun hc => ?_)
    · have hf := if_s hc hf
      refine lv_aload_n E.1 hb dX6_lay_22 rfl (lv_at hl 0 rfl) ?_
      obtain ⟨r3, σ4, h1, hf⟩ := bd_s hf
      refine m_cVi E hb hml hl.1 hS (cmf_openingsSeen h1) gw_openingsSeen gn_openingsSeen rfl rfl (Nat.le_of_ble_eq_true rfl) ⟨Nat.le_of_ble_eq_true rfl, Nat.le_of_ble_eq_true rfl⟩ ⟨Nat.le_refl 0, Nat.le_refl 0⟩ dX6_lay_23 (fun H locs hS => ?_)
      refine lv_istore_n (lv' := [(2, .int r3), (0, .ref o), (1, .int x1)]) E.1 hb dX6_lay_26 rfl hl (by decide) rfl (fun ls hl => ?_)
      refine lv_iload_n E.1 hb dX6_lay_27 rfl (lv_at hl 2 rfl) ?_
      refine lv_if_ne (tgt := 38) E.1 hb dX6_lay_28 (by decide) (fun hc => ?_) (fun hc => ?_)
      · have hf := if_s hc hf
        refine lv_iload_n E.1 hb dX6_lay_38 rfl (lv_at hl 0 rfl) ?_
        exact m_ir E hb hr hlk hS hf dX6_lay_39
      · have hf := it_s hc hf
        refine lv_iload_n E.1 hb dX6_lay_31 rfl (lv_at hl 0 rfl) ?_
        obtain ⟨r5, h1, hf⟩ := bo_s hf
        refine m_cSi E hb hml hl.1 hS (cmf_bits h1) gw_bits gn_bits rfl rfl (Nat.le_of_ble_eq_true rfl) ⟨Nat.le_of_ble_eq_true rfl, Nat.le_of_ble_eq_true rfl⟩ ⟨Nat.le_refl 0, Nat.le_refl 0⟩ dX6_lay_32 (fun H locs hS => ?_)
        refine lv_goto (tgt := 39) E.1 hb dX6_lay_35 (by decide) ?_
        exact m_ir E hb hr hlk hS hf dX6_lay_39
    · have hf := it_s hc hf
      refine lv_iconst (v := (-1)) E.1 hb dX6_lay_20 rfl ?_
      exact m_ir E hb hr hlk hS hf dX6_lay_21
/-! after(I)I: RW -/
noncomputable def M_after_b162 (N : Nat) (σ : mSt) (x1 : Int32) (x3 : Int32) (x4 : Int32) : Option (Int32 × mSt) :=
  if x3 = (-1) then (some ((-1), σ)) else (if x1 = 0 then (some (x3, σ)) else (some (x4, σ)))
noncomputable def M_after_b156 (N : Nat) (k35 : mSt → Int32 → Int32 → Int32 → Int32 → Int32 → Option (Int32 × mSt)) (σ : mSt) (x1 : Int32) (x2 : Int32) (x3 : Int32) (x4 : Int32) (x5 : Int32) : Option (Int32 × mSt) :=
  k35 σ x1 x2 x3 x4 (x5 + 1)
noncomputable def M_after_b149 (N : Nat) (k35 : mSt → Int32 → Int32 → Int32 → Int32 → Int32 → Option (Int32 × mSt)) (σ : mSt) (x1 : Int32) (x2 : Int32) (x5 : Int32) (x6 : Int32) : Option (Int32 × mSt) :=
  M_after_b156 N k35 σ x1 x2 x5 x6 x5
noncomputable def M_after_b128 (N : Nat) (k35 : mSt → Int32 → Int32 → Int32 → Int32 → Int32 → Option (Int32 × mSt)) (k54 : mSt → Int32 → Int32 → Int32 → Int32 → Int32 → Int32 → Int32 → Option (Int32 × mSt)) (σ : mSt) (x1 : Int32) (x2 : Int32) (x3 : Int32) (x4 : Int32) (x5 : Int32) (x6 : Int32) (x7 : Int32) : Option (Int32 × mSt) :=
  k54 σ x1 x2 x3 x4 x5 x6 (x7 + 1)
noncomputable def M_after_b111 (N : Nat) (k35 : mSt → Int32 → Int32 → Int32 → Int32 → Int32 → Option (Int32 × mSt)) (k54 : mSt → Int32 → Int32 → Int32 → Int32 → Int32 → Int32 → Int32 → Option (Int32 × mSt)) (k71 : mSt → Int32 → Int32 → Int32 → Int32 → Int32 → Int32 → Int32 → Int32 → Int32 → Option (Int32 × mSt)) (σ : mSt) (x1 : Int32) (x2 : Int32) (x3 : Int32) (x4 : Int32) (x5 : Int32) (x6 : Int32) (x7 : Int32) (x8 : Int32) (x9 : Int32) : Option (Int32 × mSt) :=
  k71 σ x1 x2 x3 x4 x5 x6 x7 x8 (x9 + 1)
noncomputable def M_after_b71 (N : Nat) (k35 : mSt → Int32 → Int32 → Int32 → Int32 → Int32 → Option (Int32 × mSt)) (k54 : mSt → Int32 → Int32 → Int32 → Int32 → Int32 → Int32 → Int32 → Option (Int32 × mSt)) (k71 : mSt → Int32 → Int32 → Int32 → Int32 → Int32 → Int32 → Int32 → Int32 → Int32 → Option (Int32 × mSt)) (σ : mSt) (x1 : Int32) (x2 : Int32) (x3 : Int32) (x4 : Int32) (x5 : Int32) (x6 : Int32) (x7 : Int32) (x8 : Int32) (x9 : Int32) : Option (Int32 × mSt) :=
  bo (M_leaves σ) fun r7 => if r7 < x9 then (if x8 ≤ x6 then (M_after_b128 N k35 k54 σ x1 x2 x3 x4 x5 x6 x7) else (M_after_b128 N k35 k54 σ x1 x2 x3 x4 x5 x8 x7)) else (if ((x2 >>> (x9 &&& 31)) &&& 1) = 1 then (bo (ld 2 σ 67 ((8 * x9) + x5)) fun v8 => if v8 = x7 then (M_after_b111 N k35 k54 k71 σ x1 x2 x3 x4 x5 x6 x7 (x8 + 1) x9) else (M_after_b111 N k35 k54 k71 σ x1 x2 x3 x4 x5 x6 x7 x8 x9)) else (M_after_b111 N k35 k54 k71 σ x1 x2 x3 x4 x5 x6 x7 x8 x9))
noncomputable def M_after_b54 (N : Nat) (k35 : mSt → Int32 → Int32 → Int32 → Int32 → Int32 → Option (Int32 × mSt)) (k54 : mSt → Int32 → Int32 → Int32 → Int32 → Int32 → Int32 → Int32 → Option (Int32 × mSt)) (σ : mSt) (x1 : Int32) (x2 : Int32) (x3 : Int32) (x4 : Int32) (x5 : Int32) (x6 : Int32) (x7 : Int32) : Option (Int32 × mSt) :=
  bo (ld 2 σ 40 3) fun v6 => if v6 ≤ x7 then (if x3 = (-1) then (M_after_b149 N k35 σ x1 x2 x5 x6) else (if x6 < x4 then (M_after_b149 N k35 σ x1 x2 x5 x6) else (M_after_b156 N k35 σ x1 x2 x3 x4 x5))) else (rn10 (M_after_b71 N k35 k54) N σ x1 x2 x3 x4 x5 x6 x7 0 0)
noncomputable def M_after_b35 (N : Nat) (k35 : mSt → Int32 → Int32 → Int32 → Int32 → Int32 → Option (Int32 × mSt)) (σ : mSt) (x1 : Int32) (x2 : Int32) (x3 : Int32) (x4 : Int32) (x5 : Int32) : Option (Int32 × mSt) :=
  bo (M_beingMany σ) fun r5 => if r5 ≤ x5 then (M_after_b162 N σ x1 x3 x4) else (if x2 = 0 then (M_after_b162 N σ x1 x3 x4) else (rn8 (M_after_b54 N k35) N σ x1 x2 x3 x4 x5 0 0))
noncomputable def M_after (N : Nat) (σ : mSt) (x1 : Int32) : Option (Int32 × mSt) :=
  bo (M_isAhead σ 1 1 1) fun r1 => if r1 = 0 then (some ((-1), σ)) else (bo (M_isIn (Int32.toInt64 x1) 0 1) fun r2 => if r2 = 0 then (some ((-1), σ)) else (bd (M_openingsSeen N σ) fun r3 σ4 => rn6 (M_after_b35 N) N σ4 x1 r3 (-1) 0 0))
abbrev rM_after : Room := { frames := 6, cells := 0, slots := 0, locals := 145 }
set_option maxHeartbeats 4000000 in
theorem cmf_after {l : Launch} {dC : Nat → ClassId} {dI : Nat → Nat → Nat} {ac : Nat → ClassId} {o : Nat} {ad : Nat → Nat} {N : Nat} {σ : mSt} {x1 : Int32} {r : Int32} {σ' : mSt} (hf : M_after N σ x1 = some (r, σ')) : Met l yX6_after (ws_ yX6_after cX6_after 10 (some .int)) { frames := 6, cells := 0, slots := 0, locals := 145 } (va_Pc [.ref o, .int x1] (mPre dC dI ac o ad σ)) (mQi dC dI ac o ad r σ') 0 0 (mF o ad) := by
  refine m_of (by decide) rfl (Nat.le_of_ble_eq_true rfl) ?_
  intro p e s m args below meth c E hb hr hlk hml hS ls hl
  have hl : lv_has ls 10 [(0, .ref o), (1, .int x1)] := hl
  have hB162 : ∀ (σ : mSt) (x1 : Int32) (x3 : Int32) (x4 : Int32), M_after_b162 N σ x1 x3 x4 = some (r, σ') → ∀ (H : Heap) (locs : List Loc), mS dC dI ac o ad s.heap σ H locs → ∀ (ls : Array Slot), lv_has ls 10 [(0, .ref o), (1, .int x1), (3, .int x3), (4, .int x4)] → W p l e rM_after s m args below meth c H locs 0 0 (MQ below (mQi dC dI ac o ad r σ') args s 0 0 (mF o ad)) (F0 m 162 ls []) := by
    intro σ x1 x3 x4 hf H locs hS ls hl
    unfold M_after_b162 at hf
    refine lv_iload_n E.1 hb dX6_after_162 rfl (lv_at hl 2 rfl) ?_
    refine lv_iconst (v := (-1)) E.1 hb dX6_after_163 rfl ?_
    refine lv_icmp_ne (tgt := 171) E.1 hb dX6_after_164 (by decide) (fun hc => ?_) (fun hc => ?_)
    · have hf := if_s hc hf
      refine lv_iload_n E.1 hb dX6_after_171 rfl (lv_at hl 1 rfl) ?_
      refine lv_if_ne (tgt := 179) E.1 hb dX6_after_172 (by decide) (fun hc => ?_) (fun hc => ?_)
      · have hf := if_s hc hf
        refine lv_iload E.1 hb dX6_after_179 (lv_at hl 3 rfl) ?_
        exact m_ir E hb hr hlk hS hf dX6_after_181
      · have hf := it_s hc hf
        refine lv_iload_n E.1 hb dX6_after_175 rfl (lv_at hl 2 rfl) ?_
        refine lv_goto (tgt := 181) E.1 hb dX6_after_176 (by decide) ?_
        exact m_ir E hb hr hlk hS hf dX6_after_181
    · have hf := it_s hc hf
      refine lv_iconst (v := (-1)) E.1 hb dX6_after_167 rfl ?_
      refine lv_goto (tgt := 181) E.1 hb dX6_after_168 (by decide) ?_
      exact m_ir E hb hr hlk hS hf dX6_after_181
  have hB156 : ∀ (k35 : mSt → Int32 → Int32 → Int32 → Int32 → Int32 → Option (Int32 × mSt)) (hk35 : ∀ (σ : mSt) (x1 : Int32) (x2 : Int32) (x3 : Int32) (x4 : Int32) (x5 : Int32), k35 σ x1 x2 x3 x4 x5 = some (r, σ') → ∀ (H : Heap) (locs : List Loc), mS dC dI ac o ad s.heap σ H locs → ∀ (ls : Array Slot), lv_has ls 10 [(0, .ref o), (1, .int x1), (2, .int x2), (3, .int x3), (4, .int x4), (5, .int x5)] → W p l e rM_after s m args below meth c H locs 0 0 (MQ below (mQi dC dI ac o ad r σ') args s 0 0 (mF o ad)) (F0 m 35 ls [])) (σ : mSt) (x1 : Int32) (x2 : Int32) (x3 : Int32) (x4 : Int32) (x5 : Int32), M_after_b156 N k35 σ x1 x2 x3 x4 x5 = some (r, σ') → ∀ (H : Heap) (locs : List Loc), mS dC dI ac o ad s.heap σ H locs → ∀ (ls : Array Slot), lv_has ls 10 [(0, .ref o), (1, .int x1), (2, .int x2), (3, .int x3), (4, .int x4), (5, .int x5)] → W p l e rM_after s m args below meth c H locs 0 0 (MQ below (mQi dC dI ac o ad r σ') args s 0 0 (mF o ad)) (F0 m 156 ls []) := by
    intro k35 hk35 σ x1 x2 x3 x4 x5 hf H locs hS ls hl
    unfold M_after_b156 at hf
    refine lv_iinc (v := (x5 + 1)) (lv' := [(5, .int (x5 + 1)), (0, .ref o), (1, .int x1), (2, .int x2), (3, .int x3), (4, .int x4)]) E.1 hb dX6_after_156 hl (k := 5) rfl rfl (by decide) rfl (fun ls hl => ?_)
    refine lv_goto (tgt := 35) E.1 hb dX6_after_159 (by decide) ?_
    exact hk35 σ x1 x2 x3 x4 (x5 + 1) hf _ _ hS _ (lv_sub hl [1, 2, 3, 4, 5, 0] rfl)
  have hB149 : ∀ (k35 : mSt → Int32 → Int32 → Int32 → Int32 → Int32 → Option (Int32 × mSt)) (hk35 : ∀ (σ : mSt) (x1 : Int32) (x2 : Int32) (x3 : Int32) (x4 : Int32) (x5 : Int32), k35 σ x1 x2 x3 x4 x5 = some (r, σ') → ∀ (H : Heap) (locs : List Loc), mS dC dI ac o ad s.heap σ H locs → ∀ (ls : Array Slot), lv_has ls 10 [(0, .ref o), (1, .int x1), (2, .int x2), (3, .int x3), (4, .int x4), (5, .int x5)] → W p l e rM_after s m args below meth c H locs 0 0 (MQ below (mQi dC dI ac o ad r σ') args s 0 0 (mF o ad)) (F0 m 35 ls [])) (σ : mSt) (x1 : Int32) (x2 : Int32) (x5 : Int32) (x6 : Int32), M_after_b149 N k35 σ x1 x2 x5 x6 = some (r, σ') → ∀ (H : Heap) (locs : List Loc), mS dC dI ac o ad s.heap σ H locs → ∀ (ls : Array Slot), lv_has ls 10 [(0, .ref o), (1, .int x1), (2, .int x2), (5, .int x5), (6, .int x6)] → W p l e rM_after s m args below meth c H locs 0 0 (MQ below (mQi dC dI ac o ad r σ') args s 0 0 (mF o ad)) (F0 m 149 ls []) := by
    intro k35 hk35 σ x1 x2 x5 x6 hf H locs hS ls hl
    unfold M_after_b149 at hf
    refine lv_iload E.1 hb dX6_after_149 (lv_at hl 3 rfl) ?_
    refine lv_istore_n (lv' := [(3, .int x5), (0, .ref o), (1, .int x1), (2, .int x2), (5, .int x5), (6, .int x6)]) E.1 hb dX6_after_151 rfl hl (by decide) rfl (fun ls hl => ?_)
    refine lv_iload E.1 hb dX6_after_152 (lv_at hl 5 rfl) ?_
    refine lv_istore (lv' := [(4, .int x6), (3, .int x5), (0, .ref o), (1, .int x1), (2, .int x2), (5, .int x5), (6, .int x6)]) E.1 hb dX6_after_154 hl (by decide) rfl (fun ls hl => ?_)
    exact hB156 k35 hk35 σ x1 x2 x5 x6 x5 hf _ _ hS _ (lv_sub hl [2, 3, 4, 1, 0, 5] rfl)
  have hB128 : ∀ (k35 : mSt → Int32 → Int32 → Int32 → Int32 → Int32 → Option (Int32 × mSt)) (hk35 : ∀ (σ : mSt) (x1 : Int32) (x2 : Int32) (x3 : Int32) (x4 : Int32) (x5 : Int32), k35 σ x1 x2 x3 x4 x5 = some (r, σ') → ∀ (H : Heap) (locs : List Loc), mS dC dI ac o ad s.heap σ H locs → ∀ (ls : Array Slot), lv_has ls 10 [(0, .ref o), (1, .int x1), (2, .int x2), (3, .int x3), (4, .int x4), (5, .int x5)] → W p l e rM_after s m args below meth c H locs 0 0 (MQ below (mQi dC dI ac o ad r σ') args s 0 0 (mF o ad)) (F0 m 35 ls [])) (k54 : mSt → Int32 → Int32 → Int32 → Int32 → Int32 → Int32 → Int32 → Option (Int32 × mSt)) (hk54 : ∀ (σ : mSt) (x1 : Int32) (x2 : Int32) (x3 : Int32) (x4 : Int32) (x5 : Int32) (x6 : Int32) (x7 : Int32), k54 σ x1 x2 x3 x4 x5 x6 x7 = some (r, σ') → ∀ (H : Heap) (locs : List Loc), mS dC dI ac o ad s.heap σ H locs → ∀ (ls : Array Slot), lv_has ls 10 [(0, .ref o), (1, .int x1), (2, .int x2), (3, .int x3), (4, .int x4), (5, .int x5), (6, .int x6), (7, .int x7)] → W p l e rM_after s m args below meth c H locs 0 0 (MQ below (mQi dC dI ac o ad r σ') args s 0 0 (mF o ad)) (F0 m 54 ls [])) (σ : mSt) (x1 : Int32) (x2 : Int32) (x3 : Int32) (x4 : Int32) (x5 : Int32) (x6 : Int32) (x7 : Int32), M_after_b128 N k35 k54 σ x1 x2 x3 x4 x5 x6 x7 = some (r, σ') → ∀ (H : Heap) (locs : List Loc), mS dC dI ac o ad s.heap σ H locs → ∀ (ls : Array Slot), lv_has ls 10 [(0, .ref o), (1, .int x1), (2, .int x2), (3, .int x3), (4, .int x4), (5, .int x5), (6, .int x6), (7, .int x7)] → W p l e rM_after s m args below meth c H locs 0 0 (MQ below (mQi dC dI ac o ad r σ') args s 0 0 (mF o ad)) (F0 m 128 ls []) := by
    intro k35 hk35 k54 hk54 σ x1 x2 x3 x4 x5 x6 x7 hf H locs hS ls hl
    unfold M_after_b128 at hf
    refine lv_iinc (v := (x7 + 1)) (lv' := [(7, .int (x7 + 1)), (0, .ref o), (1, .int x1), (2, .int x2), (3, .int x3), (4, .int x4), (5, .int x5), (6, .int x6)]) E.1 hb dX6_after_128 hl (k := 7) rfl rfl (by decide) rfl (fun ls hl => ?_)
    refine lv_goto (tgt := 54) E.1 hb dX6_after_131 (by decide) ?_
    exact hk54 σ x1 x2 x3 x4 x5 x6 (x7 + 1) hf _ _ hS _ (lv_sub hl [1, 2, 3, 4, 5, 6, 7, 0] rfl)
  have hB111 : ∀ (k35 : mSt → Int32 → Int32 → Int32 → Int32 → Int32 → Option (Int32 × mSt)) (hk35 : ∀ (σ : mSt) (x1 : Int32) (x2 : Int32) (x3 : Int32) (x4 : Int32) (x5 : Int32), k35 σ x1 x2 x3 x4 x5 = some (r, σ') → ∀ (H : Heap) (locs : List Loc), mS dC dI ac o ad s.heap σ H locs → ∀ (ls : Array Slot), lv_has ls 10 [(0, .ref o), (1, .int x1), (2, .int x2), (3, .int x3), (4, .int x4), (5, .int x5)] → W p l e rM_after s m args below meth c H locs 0 0 (MQ below (mQi dC dI ac o ad r σ') args s 0 0 (mF o ad)) (F0 m 35 ls [])) (k54 : mSt → Int32 → Int32 → Int32 → Int32 → Int32 → Int32 → Int32 → Option (Int32 × mSt)) (hk54 : ∀ (σ : mSt) (x1 : Int32) (x2 : Int32) (x3 : Int32) (x4 : Int32) (x5 : Int32) (x6 : Int32) (x7 : Int32), k54 σ x1 x2 x3 x4 x5 x6 x7 = some (r, σ') → ∀ (H : Heap) (locs : List Loc), mS dC dI ac o ad s.heap σ H locs → ∀ (ls : Array Slot), lv_has ls 10 [(0, .ref o), (1, .int x1), (2, .int x2), (3, .int x3), (4, .int x4), (5, .int x5), (6, .int x6), (7, .int x7)] → W p l e rM_after s m args below meth c H locs 0 0 (MQ below (mQi dC dI ac o ad r σ') args s 0 0 (mF o ad)) (F0 m 54 ls [])) (k71 : mSt → Int32 → Int32 → Int32 → Int32 → Int32 → Int32 → Int32 → Int32 → Int32 → Option (Int32 × mSt)) (hk71 : ∀ (σ : mSt) (x1 : Int32) (x2 : Int32) (x3 : Int32) (x4 : Int32) (x5 : Int32) (x6 : Int32) (x7 : Int32) (x8 : Int32) (x9 : Int32), k71 σ x1 x2 x3 x4 x5 x6 x7 x8 x9 = some (r, σ') → ∀ (H : Heap) (locs : List Loc), mS dC dI ac o ad s.heap σ H locs → ∀ (ls : Array Slot), lv_has ls 10 [(0, .ref o), (1, .int x1), (2, .int x2), (3, .int x3), (4, .int x4), (5, .int x5), (6, .int x6), (7, .int x7), (8, .int x8), (9, .int x9)] → W p l e rM_after s m args below meth c H locs 0 0 (MQ below (mQi dC dI ac o ad r σ') args s 0 0 (mF o ad)) (F0 m 71 ls [])) (σ : mSt) (x1 : Int32) (x2 : Int32) (x3 : Int32) (x4 : Int32) (x5 : Int32) (x6 : Int32) (x7 : Int32) (x8 : Int32) (x9 : Int32), M_after_b111 N k35 k54 k71 σ x1 x2 x3 x4 x5 x6 x7 x8 x9 = some (r, σ') → ∀ (H : Heap) (locs : List Loc), mS dC dI ac o ad s.heap σ H locs → ∀ (ls : Array Slot), lv_has ls 10 [(0, .ref o), (1, .int x1), (2, .int x2), (3, .int x3), (4, .int x4), (5, .int x5), (6, .int x6), (7, .int x7), (8, .int x8), (9, .int x9)] → W p l e rM_after s m args below meth c H locs 0 0 (MQ below (mQi dC dI ac o ad r σ') args s 0 0 (mF o ad)) (F0 m 111 ls []) := by
    intro k35 hk35 k54 hk54 k71 hk71 σ x1 x2 x3 x4 x5 x6 x7 x8 x9 hf H locs hS ls hl
    unfold M_after_b111 at hf
    refine lv_iinc (v := (x9 + 1)) (lv' := [(9, .int (x9 + 1)), (0, .ref o), (1, .int x1), (2, .int x2), (3, .int x3), (4, .int x4), (5, .int x5), (6, .int x6), (7, .int x7), (8, .int x8)]) E.1 hb dX6_after_111 hl (k := 9) rfl rfl (by decide) rfl (fun ls hl => ?_)
    refine lv_goto (tgt := 71) E.1 hb dX6_after_114 (by decide) ?_
    exact hk71 σ x1 x2 x3 x4 x5 x6 x7 x8 (x9 + 1) hf _ _ hS _ (lv_sub hl [1, 2, 3, 4, 5, 6, 7, 8, 9, 0] rfl)
  have hL71 : ∀ (k35 : mSt → Int32 → Int32 → Int32 → Int32 → Int32 → Option (Int32 × mSt)) (hk35 : ∀ (σ : mSt) (x1 : Int32) (x2 : Int32) (x3 : Int32) (x4 : Int32) (x5 : Int32), k35 σ x1 x2 x3 x4 x5 = some (r, σ') → ∀ (H : Heap) (locs : List Loc), mS dC dI ac o ad s.heap σ H locs → ∀ (ls : Array Slot), lv_has ls 10 [(0, .ref o), (1, .int x1), (2, .int x2), (3, .int x3), (4, .int x4), (5, .int x5)] → W p l e rM_after s m args below meth c H locs 0 0 (MQ below (mQi dC dI ac o ad r σ') args s 0 0 (mF o ad)) (F0 m 35 ls [])) (k54 : mSt → Int32 → Int32 → Int32 → Int32 → Int32 → Int32 → Int32 → Option (Int32 × mSt)) (hk54 : ∀ (σ : mSt) (x1 : Int32) (x2 : Int32) (x3 : Int32) (x4 : Int32) (x5 : Int32) (x6 : Int32) (x7 : Int32), k54 σ x1 x2 x3 x4 x5 x6 x7 = some (r, σ') → ∀ (H : Heap) (locs : List Loc), mS dC dI ac o ad s.heap σ H locs → ∀ (ls : Array Slot), lv_has ls 10 [(0, .ref o), (1, .int x1), (2, .int x2), (3, .int x3), (4, .int x4), (5, .int x5), (6, .int x6), (7, .int x7)] → W p l e rM_after s m args below meth c H locs 0 0 (MQ below (mQi dC dI ac o ad r σ') args s 0 0 (mF o ad)) (F0 m 54 ls [])) (n : Nat) (σ : mSt) (x1 : Int32) (x2 : Int32) (x3 : Int32) (x4 : Int32) (x5 : Int32) (x6 : Int32) (x7 : Int32) (x8 : Int32) (x9 : Int32), rn10 (M_after_b71 N k35 k54) n σ x1 x2 x3 x4 x5 x6 x7 x8 x9 = some (r, σ') → ∀ (H : Heap) (locs : List Loc), mS dC dI ac o ad s.heap σ H locs → ∀ (ls : Array Slot), lv_has ls 10 [(0, .ref o), (1, .int x1), (2, .int x2), (3, .int x3), (4, .int x4), (5, .int x5), (6, .int x6), (7, .int x7), (8, .int x8), (9, .int x9)] → W p l e rM_after s m args below meth c H locs 0 0 (MQ below (mQi dC dI ac o ad r σ') args s 0 0 (mF o ad)) (F0 m 71 ls []) := by
    intro k35 hk35 k54 hk54 n
    induction n with
    | zero =>
      intro σ x1 x2 x3 x4 x5 x6 x7 x8 x9 hf
      cases hf
    | succ n ih =>
      intro σ x1 x2 x3 x4 x5 x6 x7 x8 x9 hf H locs hS ls hl
      have hf : M_after_b71 N k35 k54 (rn10 (M_after_b71 N k35 k54) n) σ x1 x2 x3 x4 x5 x6 x7 x8 x9 = some (r, σ') := hf
      have hk71 := ih
      generalize rn10 (M_after_b71 N k35 k54) n = k71 at hf hk71
      unfold M_after_b71 at hf
      refine lv_iload E.1 hb dX6_after_71 (lv_at hl 9 rfl) ?_
      refine lv_aload_n E.1 hb dX6_after_73 rfl (lv_at hl 0 rfl) ?_
      obtain ⟨r7, h1, hf⟩ := bo_s hf
      refine m_cVi E hb hml hl.1 hS (cmf_leaves h1) gw_leaves gn_leaves rfl rfl (Nat.le_of_ble_eq_true rfl) ⟨Nat.le_of_ble_eq_true rfl, Nat.le_of_ble_eq_true rfl⟩ ⟨Nat.le_refl 0, Nat.le_refl 0⟩ dX6_after_74 (fun H locs hS => ?_)
      refine lv_icmp_gt (tgt := 117) E.1 hb dX6_after_77 (by decide) (fun hc => ?_) (fun hc => ?_)
      · have hf := it_s hc hf
        refine lv_iload E.1 hb dX6_after_117 (lv_at hl 8 rfl) ?_
        refine lv_iload E.1 hb dX6_after_119 (lv_at hl 6 rfl) ?_
        refine lv_icmp_le (tgt := 128) E.1 hb dX6_after_121 (by decide) (fun hc => ?_) (fun hc => ?_)
        · have hf := it_s hc hf
          exact hB128 k35 hk35 k54 hk54 σ x1 x2 x3 x4 x5 x6 x7 hf _ _ hS _ (lv_sub hl [0, 1, 2, 3, 4, 5, 6, 7] rfl)
        · have hf := if_s hc hf
          refine lv_iload E.1 hb dX6_after_124 (lv_at hl 8 rfl) ?_
          refine lv_istore (lv' := [(6, .int x8), (0, .ref o), (1, .int x1), (2, .int x2), (3, .int x3), (4, .int x4), (5, .int x5), (7, .int x7), (8, .int x8), (9, .int x9)]) E.1 hb dX6_after_126 hl (by decide) rfl (fun ls hl => ?_)
          exact hB128 k35 hk35 k54 hk54 σ x1 x2 x3 x4 x5 x8 x7 hf _ _ hS _ (lv_sub hl [1, 2, 3, 4, 5, 6, 0, 7] rfl)
      · have hf := if_s hc hf
        refine lv_iload_n E.1 hb dX6_after_80 rfl (lv_at hl 2 rfl) ?_
        refine lv_iload E.1 hb dX6_after_81 (lv_at hl 9 rfl) ?_
        refine lv_ishr E.1 hb dX6_after_83 ?_
        refine lv_iconst (v := 1) E.1 hb dX6_after_84 rfl ?_
        refine lv_iand E.1 hb dX6_after_85 ?_
        refine lv_iconst (v := 1) E.1 hb dX6_after_86 rfl ?_
        refine lv_icmp_ne (tgt := 111) E.1 hb dX6_after_87 (by decide) (fun hc => ?_) (fun hc => ?_)
        · have hf := if_s hc hf
          exact hB111 k35 hk35 k54 hk54 k71 hk71 σ x1 x2 x3 x4 x5 x6 x7 x8 x9 hf _ _ hS _ (lv_sub hl [0, 1, 2, 3, 4, 5, 6, 7, 8, 9] rfl)
        · have hf := it_s hc hf
          refine lv_aload_n E.1 hb dX6_after_90 rfl (lv_at hl 0 rfl) ?_
          refine m_gA (k := 67) E hb hS 2 rfl (by decide) fl_67 dX6_after_91 ?_
          refine lv_bipush (v := 8) E.1 hb dX6_after_94 rfl ?_
          refine lv_iload E.1 hb dX6_after_96 (lv_at hl 9 rfl) ?_
          refine lv_imul E.1 hb dX6_after_98 ?_
          refine lv_iload E.1 hb dX6_after_99 (lv_at hl 5 rfl) ?_
          refine lv_iadd E.1 hb dX6_after_101 ?_
          obtain ⟨hg, hf⟩ := ld_s hf
          refine m_ild E hb hS hg dX6_after_102 ?_
          refine lv_iload E.1 hb dX6_after_103 (lv_at hl 7 rfl) ?_
          refine lv_icmp_ne (tgt := 111) E.1 hb dX6_after_105 (by decide) (fun hc => ?_) (fun hc => ?_)
          · have hf := if_s hc hf
            exact hB111 k35 hk35 k54 hk54 k71 hk71 σ x1 x2 x3 x4 x5 x6 x7 x8 x9 hf _ _ hS _ (lv_sub hl [0, 1, 2, 3, 4, 5, 6, 7, 8, 9] rfl)
          · have hf := it_s hc hf
            refine lv_iinc (v := (x8 + 1)) (lv' := [(8, .int (x8 + 1)), (0, .ref o), (1, .int x1), (2, .int x2), (3, .int x3), (4, .int x4), (5, .int x5), (6, .int x6), (7, .int x7), (9, .int x9)]) E.1 hb dX6_after_108 hl (k := 8) rfl rfl (by decide) rfl (fun ls hl => ?_)
            exact hB111 k35 hk35 k54 hk54 k71 hk71 σ x1 x2 x3 x4 x5 x6 x7 (x8 + 1) x9 hf _ _ hS _ (lv_sub hl [1, 2, 3, 4, 5, 6, 7, 8, 0, 9] rfl)
  have hL54 : ∀ (k35 : mSt → Int32 → Int32 → Int32 → Int32 → Int32 → Option (Int32 × mSt)) (hk35 : ∀ (σ : mSt) (x1 : Int32) (x2 : Int32) (x3 : Int32) (x4 : Int32) (x5 : Int32), k35 σ x1 x2 x3 x4 x5 = some (r, σ') → ∀ (H : Heap) (locs : List Loc), mS dC dI ac o ad s.heap σ H locs → ∀ (ls : Array Slot), lv_has ls 10 [(0, .ref o), (1, .int x1), (2, .int x2), (3, .int x3), (4, .int x4), (5, .int x5)] → W p l e rM_after s m args below meth c H locs 0 0 (MQ below (mQi dC dI ac o ad r σ') args s 0 0 (mF o ad)) (F0 m 35 ls [])) (n : Nat) (σ : mSt) (x1 : Int32) (x2 : Int32) (x3 : Int32) (x4 : Int32) (x5 : Int32) (x6 : Int32) (x7 : Int32), rn8 (M_after_b54 N k35) n σ x1 x2 x3 x4 x5 x6 x7 = some (r, σ') → ∀ (H : Heap) (locs : List Loc), mS dC dI ac o ad s.heap σ H locs → ∀ (ls : Array Slot), lv_has ls 10 [(0, .ref o), (1, .int x1), (2, .int x2), (3, .int x3), (4, .int x4), (5, .int x5), (6, .int x6), (7, .int x7)] → W p l e rM_after s m args below meth c H locs 0 0 (MQ below (mQi dC dI ac o ad r σ') args s 0 0 (mF o ad)) (F0 m 54 ls []) := by
    intro k35 hk35 n
    induction n with
    | zero =>
      intro σ x1 x2 x3 x4 x5 x6 x7 hf
      cases hf
    | succ n ih =>
      intro σ x1 x2 x3 x4 x5 x6 x7 hf H locs hS ls hl
      have hf : M_after_b54 N k35 (rn8 (M_after_b54 N k35) n) σ x1 x2 x3 x4 x5 x6 x7 = some (r, σ') := hf
      have hk54 := ih
      generalize rn8 (M_after_b54 N k35) n = k54 at hf hk54
      unfold M_after_b54 at hf
      refine lv_iload E.1 hb dX6_after_54 (lv_at hl 7 rfl) ?_
      refine lv_aload_n E.1 hb dX6_after_56 rfl (lv_at hl 0 rfl) ?_
      refine m_gA (k := 40) E hb hS 2 rfl (by decide) fl_40 dX6_after_57 ?_
      refine lv_iconst (v := 3) E.1 hb dX6_after_60 rfl ?_
      obtain ⟨hg, hf⟩ := ld_s hf
      refine m_ild E hb hS hg dX6_after_61 ?_
      refine lv_icmp_ge (tgt := 134) E.1 hb dX6_after_62 (by decide) (fun hc => ?_) (fun hc => ?_)
      · have hf := it_s hc hf
        refine lv_iload_n E.1 hb dX6_after_134 rfl (lv_at hl 3 rfl) ?_
        refine lv_iconst (v := (-1)) E.1 hb dX6_after_135 rfl ?_
        refine lv_icmp_eq (tgt := 149) E.1 hb dX6_after_136 (by decide) (fun hc => ?_) (fun hc => ?_)
        · have hf := it_s hc hf
          exact hB149 k35 hk35 σ x1 x2 x5 x6 hf _ _ hS _ (lv_sub hl [0, 1, 2, 5, 6] rfl)
        · have hf := if_s hc hf
          refine lv_iload E.1 hb dX6_after_139 (lv_at hl 6 rfl) ?_
          refine lv_iload E.1 hb dX6_after_141 (lv_at hl 4 rfl) ?_
          refine lv_icmp_lt (tgt := 149) E.1 hb dX6_after_143 (by decide) (fun hc => ?_) (fun hc => ?_)
          · have hf := it_s hc hf
            exact hB149 k35 hk35 σ x1 x2 x5 x6 hf _ _ hS _ (lv_sub hl [0, 1, 2, 5, 6] rfl)
          · have hf := if_s hc hf
            refine lv_goto (tgt := 156) E.1 hb dX6_after_146 (by decide) ?_
            exact hB156 k35 hk35 σ x1 x2 x3 x4 x5 hf _ _ hS _ (lv_sub hl [0, 1, 2, 3, 4, 5] rfl)
      · have hf := if_s hc hf
        refine lv_iconst (v := 0) E.1 hb dX6_after_65 rfl ?_
        refine lv_istore (lv' := [(8, .int 0), (0, .ref o), (1, .int x1), (2, .int x2), (3, .int x3), (4, .int x4), (5, .int x5), (6, .int x6), (7, .int x7)]) E.1 hb dX6_after_66 hl (by decide) rfl (fun ls hl => ?_)
        refine lv_iconst (v := 0) E.1 hb dX6_after_68 rfl ?_
        refine lv_istore (lv' := [(9, .int 0), (8, .int 0), (0, .ref o), (1, .int x1), (2, .int x2), (3, .int x3), (4, .int x4), (5, .int x5), (6, .int x6), (7, .int x7)]) E.1 hb dX6_after_69 hl (by decide) rfl (fun ls hl => ?_)
        exact hL71 k35 hk35 k54 hk54 N σ x1 x2 x3 x4 x5 x6 x7 0 0 hf _ _ hS _ (lv_sub hl [2, 3, 4, 5, 6, 7, 8, 9, 1, 0] rfl)
  have hL35 : ∀ (n : Nat) (σ : mSt) (x1 : Int32) (x2 : Int32) (x3 : Int32) (x4 : Int32) (x5 : Int32), rn6 (M_after_b35 N) n σ x1 x2 x3 x4 x5 = some (r, σ') → ∀ (H : Heap) (locs : List Loc), mS dC dI ac o ad s.heap σ H locs → ∀ (ls : Array Slot), lv_has ls 10 [(0, .ref o), (1, .int x1), (2, .int x2), (3, .int x3), (4, .int x4), (5, .int x5)] → W p l e rM_after s m args below meth c H locs 0 0 (MQ below (mQi dC dI ac o ad r σ') args s 0 0 (mF o ad)) (F0 m 35 ls []) := by
    intro  n
    induction n with
    | zero =>
      intro σ x1 x2 x3 x4 x5 hf
      cases hf
    | succ n ih =>
      intro σ x1 x2 x3 x4 x5 hf H locs hS ls hl
      have hf : M_after_b35 N (rn6 (M_after_b35 N) n) σ x1 x2 x3 x4 x5 = some (r, σ') := hf
      have hk35 := ih
      generalize rn6 (M_after_b35 N) n = k35 at hf hk35
      unfold M_after_b35 at hf
      refine lv_iload E.1 hb dX6_after_35 (lv_at hl 5 rfl) ?_
      refine lv_aload_n E.1 hb dX6_after_37 rfl (lv_at hl 0 rfl) ?_
      obtain ⟨r5, h1, hf⟩ := bo_s hf
      refine m_cVi E hb hml hl.1 hS (cmf_beingMany h1) gw_beingMany gn_beingMany rfl rfl (Nat.le_of_ble_eq_true rfl) ⟨Nat.le_of_ble_eq_true rfl, Nat.le_of_ble_eq_true rfl⟩ ⟨Nat.le_refl 0, Nat.le_refl 0⟩ dX6_after_38 (fun H locs hS => ?_)
      refine lv_icmp_ge (tgt := 162) E.1 hb dX6_after_41 (by decide) (fun hc => ?_) (fun hc => ?_)
      · have hf := it_s hc hf
        exact hB162 σ x1 x3 x4 hf _ _ hS _ (lv_sub hl [0, 1, 3, 4] rfl)
      · have hf := if_s hc hf
        refine lv_iload_n E.1 hb dX6_after_44 rfl (lv_at hl 2 rfl) ?_
        refine lv_if_eq (tgt := 162) E.1 hb dX6_after_45 (by decide) (fun hc => ?_) (fun hc => ?_)
        · have hf := it_s hc hf
          exact hB162 σ x1 x3 x4 hf _ _ hS _ (lv_sub hl [0, 1, 3, 4] rfl)
        · have hf := if_s hc hf
          refine lv_iconst (v := 0) E.1 hb dX6_after_48 rfl ?_
          refine lv_istore (lv' := [(6, .int 0), (0, .ref o), (1, .int x1), (2, .int x2), (3, .int x3), (4, .int x4), (5, .int x5)]) E.1 hb dX6_after_49 hl (by decide) rfl (fun ls hl => ?_)
          refine lv_iconst (v := 0) E.1 hb dX6_after_51 rfl ?_
          refine lv_istore (lv' := [(7, .int 0), (6, .int 0), (0, .ref o), (1, .int x1), (2, .int x2), (3, .int x3), (4, .int x4), (5, .int x5)]) E.1 hb dX6_after_52 hl (by decide) rfl (fun ls hl => ?_)
          exact hL54 k35 hk35 N σ x1 x2 x3 x4 x5 0 0 hf _ _ hS _ (lv_sub hl [2, 3, 4, 5, 6, 7, 1, 0] rfl)
  unfold M_after at hf
  refine lv_aload_n E.1 hb dX6_after_0 rfl (lv_at hl 0 rfl) ?_
  refine lv_iconst (v := 1) E.1 hb dX6_after_1 rfl ?_
  refine lv_iconst (v := 1) E.1 hb dX6_after_2 rfl ?_
  refine lv_iconst (v := 1) E.1 hb dX6_after_3 rfl ?_
  obtain ⟨r1, h1, hf⟩ := bo_s hf
  refine m_cVi E hb hml hl.1 hS (cmf_isAhead h1) gw_isAhead gn_isAhead rfl rfl (Nat.le_of_ble_eq_true rfl) ⟨Nat.le_of_ble_eq_true rfl, Nat.le_of_ble_eq_true rfl⟩ ⟨Nat.le_refl 0, Nat.le_refl 0⟩ dX6_after_4 (fun H locs hS => ?_)
  refine lv_if_eq (tgt := 20) E.1 hb dX6_after_7 (by decide) (fun hc => ?_) (fun hc => ?_)
  · have hf := it_s hc hf
    refine lv_iconst (v := (-1)) E.1 hb dX6_after_20 rfl ?_
    exact m_ir E hb hr hlk hS hf dX6_after_21
  · have hf := if_s hc hf
    refine lv_iload_n E.1 hb dX6_after_10 rfl (lv_at hl 1 rfl) ?_
    refine lv_i2l E.1 hb dX6_after_11 rfl ?_
    refine lv_lconst (v := 0) E.1 hb dX6_after_12 rfl ?_
    refine lv_lconst (v := 1) E.1 hb dX6_after_13 rfl ?_
    obtain ⟨r2, h1, hf⟩ := bo_s hf
    refine m_cSi E hb hml hl.1 hS (cmf_isIn h1) gw_isIn gn_isIn rfl rfl (Nat.le_of_ble_eq_true rfl) ⟨Nat.le_of_ble_eq_true rfl, Nat.le_of_ble_eq_true rfl⟩ ⟨Nat.le_refl 0, Nat.le_refl 0⟩ dX6_after_14 (fun H locs hS => ?_)
    refine lv_if_ne (tgt := 22) E.1 hb dX6_after_17 (by decide) (fun hc => ?_) (fun hc => ?_)
    · have hf := if_s hc hf
      refine lv_aload_n E.1 hb dX6_after_22 rfl (lv_at hl 0 rfl) ?_
      obtain ⟨r3, σ4, h1, hf⟩ := bd_s hf
      refine m_cVi E hb hml hl.1 hS (cmf_openingsSeen h1) gw_openingsSeen gn_openingsSeen rfl rfl (Nat.le_of_ble_eq_true rfl) ⟨Nat.le_of_ble_eq_true rfl, Nat.le_of_ble_eq_true rfl⟩ ⟨Nat.le_refl 0, Nat.le_refl 0⟩ dX6_after_23 (fun H locs hS => ?_)
      refine lv_istore_n (lv' := [(2, .int r3), (0, .ref o), (1, .int x1)]) E.1 hb dX6_after_26 rfl hl (by decide) rfl (fun ls hl => ?_)
      refine lv_iconst (v := (-1)) E.1 hb dX6_after_27 rfl ?_
      refine lv_istore_n (lv' := [(3, .int (-1)), (2, .int r3), (0, .ref o), (1, .int x1)]) E.1 hb dX6_after_28 rfl hl (by decide) rfl (fun ls hl => ?_)
      refine lv_iconst (v := 0) E.1 hb dX6_after_29 rfl ?_
      refine lv_istore (lv' := [(4, .int 0), (3, .int (-1)), (2, .int r3), (0, .ref o), (1, .int x1)]) E.1 hb dX6_after_30 hl (by decide) rfl (fun ls hl => ?_)
      refine lv_iconst (v := 0) E.1 hb dX6_after_32 rfl ?_
      refine lv_istore (lv' := [(5, .int 0), (4, .int 0), (3, .int (-1)), (2, .int r3), (0, .ref o), (1, .int x1)]) E.1 hb dX6_after_33 hl (by decide) rfl (fun ls hl => ?_)
      exact hL35 N σ4 x1 r3 (-1) 0 0 hf _ _ hS _ (lv_sub hl [4, 5, 3, 2, 1, 0] rfl)
    · have hf := it_s hc hf
      refine lv_iconst (v := (-1)) E.1 hb dX6_after_20 rfl ?_
      exact m_ir E hb hr hlk hS hf dX6_after_21
/-! trim(II)I: RO -/
noncomputable def M_trim_b140 (N : Nat) (σ : mSt) (k63 : Int32 → Int32 → Int32 → Int32 → Option Int32) (x1 : Int32) (x4 : Int32) (x5 : Int32) (x6 : Int32) : Option Int32 :=
  k63 x1 x4 x5 (x6 + 1)
noncomputable def M_trim_b120 (N : Nat) (σ : mSt) (k63 : Int32 → Int32 → Int32 → Int32 → Option Int32) (x1 : Int32) (x4 : Int32) (x5 : Int32) (x6 : Int32) : Option Int32 :=
  if 0 ≤ x4 then (M_trim_b140 N σ k63 x1 (x4 + (-1)) (x5 + (x6 - x4)) x6) else (some (-1))
noncomputable def M_trim_b114 (N : Nat) (σ : mSt) (k63 : Int32 → Int32 → Int32 → Int32 → Option Int32) (k88 : Int32 → Int32 → Int32 → Int32 → Option Int32) (x1 : Int32) (x4 : Int32) (x5 : Int32) (x6 : Int32) : Option Int32 :=
  k88 x1 (x4 + (-1)) x5 x6
noncomputable def M_trim_b88 (N : Nat) (σ : mSt) (k63 : Int32 → Int32 → Int32 → Int32 → Option Int32) (k88 : Int32 → Int32 → Int32 → Int32 → Option Int32) (x1 : Int32) (x4 : Int32) (x5 : Int32) (x6 : Int32) : Option Int32 :=
  if x4 < 0 then (M_trim_b120 N σ k63 x1 x4 x5 x6) else (bo (M_hasGloss σ x1 x4) fun r8 => if r8 = 0 then (bo (M_standsOn N σ x1 x4) fun r9 => if r9 = (-1) then (M_trim_b120 N σ k63 x1 x4 x5 x6) else (M_trim_b114 N σ k63 k88 x1 x4 x5 x6)) else (M_trim_b114 N σ k63 k88 x1 x4 x5 x6))
noncomputable def M_trim_b63 (N : Nat) (σ : mSt) (k63 : Int32 → Int32 → Int32 → Int32 → Option Int32) (x1 : Int32) (x4 : Int32) (x5 : Int32) (x6 : Int32) : Option Int32 :=
  bo (ld 2 σ 40 3) fun v6 => if v6 ≤ x6 then (some x5) else (bo (M_standsOn N σ x1 x6) fun r7 => if r7 = (-1) then (M_trim_b140 N σ k63 x1 x4 x5 x6) else (rn4 (M_trim_b88 N σ k63) N x1 x4 x5 x6))
noncomputable def M_trim (N : Nat) (σ : mSt) (x1 : Int32) (x2 : Int32) : Option Int32 :=
  if (σ.1 54 0) = 0 then (some (-1)) else (bo (M_leaves σ) fun r1 => bo (M_isIn (Int32.toInt64 x1) 0 (Int32.toInt64 (r1 - 1))) fun r2 => if r2 = 0 then (some (-1)) else (bo (ld 2 σ 40 3) fun v3 => bo (M_isIn (Int32.toInt64 x2) 1 (Int32.toInt64 (v3 - 1))) fun r4 => if r4 = 0 then (some (-1)) else (bo (ld 2 σ 40 3) fun v5 => rn4 (M_trim_b63 N σ) N x1 ((v5 - x2) - 1) 0 (v5 - x2))))
abbrev rM_trim : Room := { frames := 2, cells := 0, slots := 0, locals := 44 }
set_option maxHeartbeats 4000000 in
theorem cmf_trim {l : Launch} {dC : Nat → ClassId} {dI : Nat → Nat → Nat} {ac : Nat → ClassId} {o : Nat} {ad : Nat → Nat} {N : Nat} {σ : mSt} {x1 : Int32} {x2 : Int32} {r : Int32} (hf : M_trim N σ x1 x2 = some r) : Met l yX6_trim (ws_ yX6_trim cX6_trim 7 (some .int)) { frames := 2, cells := 0, slots := 0, locals := 44 } (va_Pc [.ref o, .int x1, .int x2] (mPre dC dI ac o ad σ)) (mQi dC dI ac o ad r σ) 0 0 (mF o ad) := by
  refine m_of (by decide) rfl (Nat.le_of_ble_eq_true rfl) ?_
  intro p e s m args below meth c E hb hr hlk hml hS ls hl
  have hl : lv_has ls 7 [(0, .ref o), (1, .int x1), (2, .int x2)] := hl
  have hB140 : ∀ (k63 : Int32 → Int32 → Int32 → Int32 → Option Int32) (hk63 : ∀ (x1 : Int32) (x4 : Int32) (x5 : Int32) (x6 : Int32), k63 x1 x4 x5 x6 = some r → ∀ (H : Heap) (locs : List Loc), mS dC dI ac o ad s.heap σ H locs → ∀ (ls : Array Slot), lv_has ls 7 [(0, .ref o), (1, .int x1), (4, .int x4), (5, .int x5), (6, .int x6)] → W p l e rM_trim s m args below meth c H locs 0 0 (MQ below (mQi dC dI ac o ad r σ) args s 0 0 (mF o ad)) (F0 m 63 ls [])) (x1 : Int32) (x4 : Int32) (x5 : Int32) (x6 : Int32), M_trim_b140 N σ k63 x1 x4 x5 x6 = some r → ∀ (H : Heap) (locs : List Loc), mS dC dI ac o ad s.heap σ H locs → ∀ (ls : Array Slot), lv_has ls 7 [(0, .ref o), (1, .int x1), (4, .int x4), (5, .int x5), (6, .int x6)] → W p l e rM_trim s m args below meth c H locs 0 0 (MQ below (mQi dC dI ac o ad r σ) args s 0 0 (mF o ad)) (F0 m 140 ls []) := by
    intro k63 hk63 x1 x4 x5 x6 hf H locs hS ls hl
    unfold M_trim_b140 at hf
    refine lv_iinc (v := (x6 + 1)) (lv' := [(6, .int (x6 + 1)), (0, .ref o), (1, .int x1), (4, .int x4), (5, .int x5)]) E.1 hb dX6_trim_140 hl (k := 4) rfl rfl (by decide) rfl (fun ls hl => ?_)
    refine lv_goto (tgt := 63) E.1 hb dX6_trim_143 (by decide) ?_
    exact hk63 x1 x4 x5 (x6 + 1) hf _ _ hS _ (lv_sub hl [1, 2, 3, 4, 0] rfl)
  have hB120 : ∀ (k63 : Int32 → Int32 → Int32 → Int32 → Option Int32) (hk63 : ∀ (x1 : Int32) (x4 : Int32) (x5 : Int32) (x6 : Int32), k63 x1 x4 x5 x6 = some r → ∀ (H : Heap) (locs : List Loc), mS dC dI ac o ad s.heap σ H locs → ∀ (ls : Array Slot), lv_has ls 7 [(0, .ref o), (1, .int x1), (4, .int x4), (5, .int x5), (6, .int x6)] → W p l e rM_trim s m args below meth c H locs 0 0 (MQ below (mQi dC dI ac o ad r σ) args s 0 0 (mF o ad)) (F0 m 63 ls [])) (x1 : Int32) (x4 : Int32) (x5 : Int32) (x6 : Int32), M_trim_b120 N σ k63 x1 x4 x5 x6 = some r → ∀ (H : Heap) (locs : List Loc), mS dC dI ac o ad s.heap σ H locs → ∀ (ls : Array Slot), lv_has ls 7 [(0, .ref o), (1, .int x1), (4, .int x4), (5, .int x5), (6, .int x6)] → W p l e rM_trim s m args below meth c H locs 0 0 (MQ below (mQi dC dI ac o ad r σ) args s 0 0 (mF o ad)) (F0 m 120 ls []) := by
    intro k63 hk63 x1 x4 x5 x6 hf H locs hS ls hl
    unfold M_trim_b120 at hf
    refine lv_iload E.1 hb dX6_trim_120 (lv_at hl 2 rfl) ?_
    refine lv_if_ge (tgt := 127) E.1 hb dX6_trim_122 (by decide) (fun hc => ?_) (fun hc => ?_)
    · have hf := it_s hc hf
      refine lv_iload E.1 hb dX6_trim_127 (lv_at hl 3 rfl) ?_
      refine lv_iload E.1 hb dX6_trim_129 (lv_at hl 4 rfl) ?_
      refine lv_iload E.1 hb dX6_trim_131 (lv_at hl 2 rfl) ?_
      refine lv_isub E.1 hb dX6_trim_133 ?_
      refine lv_iadd E.1 hb dX6_trim_134 ?_
      refine lv_istore (lv' := [(5, .int (x5 + (x6 - x4))), (0, .ref o), (1, .int x1), (4, .int x4), (6, .int x6)]) E.1 hb dX6_trim_135 hl (by decide) rfl (fun ls hl => ?_)
      refine lv_iinc (v := (x4 + (-1))) (lv' := [(4, .int (x4 + (-1))), (5, .int (x5 + (x6 - x4))), (0, .ref o), (1, .int x1), (6, .int x6)]) E.1 hb dX6_trim_137 hl (k := 3) rfl rfl (by decide) rfl (fun ls hl => ?_)
      exact hB140 k63 hk63 x1 (x4 + (-1)) (x5 + (x6 - x4)) x6 hf _ _ hS _ (lv_sub hl [2, 3, 0, 1, 4] rfl)
    · have hf := if_s hc hf
      refine lv_iconst (v := (-1)) E.1 hb dX6_trim_125 rfl ?_
      exact m_irR E hb hr hlk hS hf dX6_trim_126
  have hB114 : ∀ (k63 : Int32 → Int32 → Int32 → Int32 → Option Int32) (hk63 : ∀ (x1 : Int32) (x4 : Int32) (x5 : Int32) (x6 : Int32), k63 x1 x4 x5 x6 = some r → ∀ (H : Heap) (locs : List Loc), mS dC dI ac o ad s.heap σ H locs → ∀ (ls : Array Slot), lv_has ls 7 [(0, .ref o), (1, .int x1), (4, .int x4), (5, .int x5), (6, .int x6)] → W p l e rM_trim s m args below meth c H locs 0 0 (MQ below (mQi dC dI ac o ad r σ) args s 0 0 (mF o ad)) (F0 m 63 ls [])) (k88 : Int32 → Int32 → Int32 → Int32 → Option Int32) (hk88 : ∀ (x1 : Int32) (x4 : Int32) (x5 : Int32) (x6 : Int32), k88 x1 x4 x5 x6 = some r → ∀ (H : Heap) (locs : List Loc), mS dC dI ac o ad s.heap σ H locs → ∀ (ls : Array Slot), lv_has ls 7 [(0, .ref o), (1, .int x1), (4, .int x4), (5, .int x5), (6, .int x6)] → W p l e rM_trim s m args below meth c H locs 0 0 (MQ below (mQi dC dI ac o ad r σ) args s 0 0 (mF o ad)) (F0 m 88 ls [])) (x1 : Int32) (x4 : Int32) (x5 : Int32) (x6 : Int32), M_trim_b114 N σ k63 k88 x1 x4 x5 x6 = some r → ∀ (H : Heap) (locs : List Loc), mS dC dI ac o ad s.heap σ H locs → ∀ (ls : Array Slot), lv_has ls 7 [(0, .ref o), (1, .int x1), (4, .int x4), (5, .int x5), (6, .int x6)] → W p l e rM_trim s m args below meth c H locs 0 0 (MQ below (mQi dC dI ac o ad r σ) args s 0 0 (mF o ad)) (F0 m 114 ls []) := by
    intro k63 hk63 k88 hk88 x1 x4 x5 x6 hf H locs hS ls hl
    unfold M_trim_b114 at hf
    refine lv_iinc (v := (x4 + (-1))) (lv' := [(4, .int (x4 + (-1))), (0, .ref o), (1, .int x1), (5, .int x5), (6, .int x6)]) E.1 hb dX6_trim_114 hl (k := 2) rfl rfl (by decide) rfl (fun ls hl => ?_)
    refine lv_goto (tgt := 88) E.1 hb dX6_trim_117 (by decide) ?_
    exact hk88 x1 (x4 + (-1)) x5 x6 hf _ _ hS _ (lv_sub hl [1, 2, 0, 3, 4] rfl)
  have hL88 : ∀ (k63 : Int32 → Int32 → Int32 → Int32 → Option Int32) (hk63 : ∀ (x1 : Int32) (x4 : Int32) (x5 : Int32) (x6 : Int32), k63 x1 x4 x5 x6 = some r → ∀ (H : Heap) (locs : List Loc), mS dC dI ac o ad s.heap σ H locs → ∀ (ls : Array Slot), lv_has ls 7 [(0, .ref o), (1, .int x1), (4, .int x4), (5, .int x5), (6, .int x6)] → W p l e rM_trim s m args below meth c H locs 0 0 (MQ below (mQi dC dI ac o ad r σ) args s 0 0 (mF o ad)) (F0 m 63 ls [])) (n : Nat) (x1 : Int32) (x4 : Int32) (x5 : Int32) (x6 : Int32), rn4 (M_trim_b88 N σ k63) n x1 x4 x5 x6 = some r → ∀ (H : Heap) (locs : List Loc), mS dC dI ac o ad s.heap σ H locs → ∀ (ls : Array Slot), lv_has ls 7 [(0, .ref o), (1, .int x1), (4, .int x4), (5, .int x5), (6, .int x6)] → W p l e rM_trim s m args below meth c H locs 0 0 (MQ below (mQi dC dI ac o ad r σ) args s 0 0 (mF o ad)) (F0 m 88 ls []) := by
    intro k63 hk63 n
    induction n with
    | zero =>
      intro x1 x4 x5 x6 hf
      cases hf
    | succ n ih =>
      intro x1 x4 x5 x6 hf H locs hS ls hl
      have hf : M_trim_b88 N σ k63 (rn4 (M_trim_b88 N σ k63) n) x1 x4 x5 x6 = some r := hf
      have hk88 := ih
      generalize rn4 (M_trim_b88 N σ k63) n = k88 at hf hk88
      unfold M_trim_b88 at hf
      refine lv_iload E.1 hb dX6_trim_88 (lv_at hl 2 rfl) ?_
      refine lv_if_lt (tgt := 120) E.1 hb dX6_trim_90 (by decide) (fun hc => ?_) (fun hc => ?_)
      · have hf := it_s hc hf
        exact hB120 k63 hk63 x1 x4 x5 x6 hf _ _ hS _ (lv_sub hl [0, 1, 2, 3, 4] rfl)
      · have hf := if_s hc hf
        refine lv_aload_n E.1 hb dX6_trim_93 rfl (lv_at hl 0 rfl) ?_
        refine lv_iload_n E.1 hb dX6_trim_94 rfl (lv_at hl 1 rfl) ?_
        refine lv_iload E.1 hb dX6_trim_95 (lv_at hl 2 rfl) ?_
        obtain ⟨r8, h1, hf⟩ := bo_s hf
        refine m_cVi E hb hml hl.1 hS (cmf_hasGloss h1) gw_hasGloss gn_hasGloss rfl rfl (Nat.le_of_ble_eq_true rfl) ⟨Nat.le_of_ble_eq_true rfl, Nat.le_of_ble_eq_true rfl⟩ ⟨Nat.le_refl 0, Nat.le_refl 0⟩ dX6_trim_97 (fun H locs hS => ?_)
        refine lv_if_ne (tgt := 114) E.1 hb dX6_trim_100 (by decide) (fun hc => ?_) (fun hc => ?_)
        · have hf := if_s hc hf
          exact hB114 k63 hk63 k88 hk88 x1 x4 x5 x6 hf _ _ hS _ (lv_sub hl [0, 1, 2, 3, 4] rfl)
        · have hf := it_s hc hf
          refine lv_aload_n E.1 hb dX6_trim_103 rfl (lv_at hl 0 rfl) ?_
          refine lv_iload_n E.1 hb dX6_trim_104 rfl (lv_at hl 1 rfl) ?_
          refine lv_iload E.1 hb dX6_trim_105 (lv_at hl 2 rfl) ?_
          obtain ⟨r9, h1, hf⟩ := bo_s hf
          refine m_cVi E hb hml hl.1 hS (cmf_standsOn h1) gw_standsOn gn_standsOn rfl rfl (Nat.le_of_ble_eq_true rfl) ⟨Nat.le_of_ble_eq_true rfl, Nat.le_of_ble_eq_true rfl⟩ ⟨Nat.le_refl 0, Nat.le_refl 0⟩ dX6_trim_107 (fun H locs hS => ?_)
          refine lv_iconst (v := (-1)) E.1 hb dX6_trim_110 rfl ?_
          refine lv_icmp_eq (tgt := 120) E.1 hb dX6_trim_111 (by decide) (fun hc => ?_) (fun hc => ?_)
          · have hf := it_s hc hf
            exact hB120 k63 hk63 x1 x4 x5 x6 hf _ _ hS _ (lv_sub hl [0, 1, 2, 3, 4] rfl)
          · have hf := if_s hc hf
            exact hB114 k63 hk63 k88 hk88 x1 x4 x5 x6 hf _ _ hS _ (lv_sub hl [0, 1, 2, 3, 4] rfl)
  have hL63 : ∀ (n : Nat) (x1 : Int32) (x4 : Int32) (x5 : Int32) (x6 : Int32), rn4 (M_trim_b63 N σ) n x1 x4 x5 x6 = some r → ∀ (H : Heap) (locs : List Loc), mS dC dI ac o ad s.heap σ H locs → ∀ (ls : Array Slot), lv_has ls 7 [(0, .ref o), (1, .int x1), (4, .int x4), (5, .int x5), (6, .int x6)] → W p l e rM_trim s m args below meth c H locs 0 0 (MQ below (mQi dC dI ac o ad r σ) args s 0 0 (mF o ad)) (F0 m 63 ls []) := by
    intro  n
    induction n with
    | zero =>
      intro x1 x4 x5 x6 hf
      cases hf
    | succ n ih =>
      intro x1 x4 x5 x6 hf H locs hS ls hl
      have hf : M_trim_b63 N σ (rn4 (M_trim_b63 N σ) n) x1 x4 x5 x6 = some r := hf
      have hk63 := ih
      generalize rn4 (M_trim_b63 N σ) n = k63 at hf hk63
      unfold M_trim_b63 at hf
      refine lv_iload E.1 hb dX6_trim_63 (lv_at hl 4 rfl) ?_
      refine lv_aload_n E.1 hb dX6_trim_65 rfl (lv_at hl 0 rfl) ?_
      refine m_gA (k := 40) E hb hS 2 rfl (by decide) fl_40 dX6_trim_66 ?_
      refine lv_iconst (v := 3) E.1 hb dX6_trim_69 rfl ?_
      obtain ⟨hg, hf⟩ := ld_s hf
      refine m_ild E hb hS hg dX6_trim_70 ?_
      refine lv_icmp_ge (tgt := 146) E.1 hb dX6_trim_71 (by decide) (fun hc => ?_) (fun hc => ?_)
      · have hf := it_s hc hf
        refine lv_iload E.1 hb dX6_trim_146 (lv_at hl 3 rfl) ?_
        exact m_irR E hb hr hlk hS hf dX6_trim_148
      · have hf := if_s hc hf
        refine lv_aload_n E.1 hb dX6_trim_74 rfl (lv_at hl 0 rfl) ?_
        refine lv_iload_n E.1 hb dX6_trim_75 rfl (lv_at hl 1 rfl) ?_
        refine lv_iload E.1 hb dX6_trim_76 (lv_at hl 4 rfl) ?_
        obtain ⟨r7, h1, hf⟩ := bo_s hf
        refine m_cVi E hb hml hl.1 hS (cmf_standsOn h1) gw_standsOn gn_standsOn rfl rfl (Nat.le_of_ble_eq_true rfl) ⟨Nat.le_of_ble_eq_true rfl, Nat.le_of_ble_eq_true rfl⟩ ⟨Nat.le_refl 0, Nat.le_refl 0⟩ dX6_trim_78 (fun H locs hS => ?_)
        refine lv_iconst (v := (-1)) E.1 hb dX6_trim_81 rfl ?_
        refine lv_icmp_ne (tgt := 88) E.1 hb dX6_trim_82 (by decide) (fun hc => ?_) (fun hc => ?_)
        · have hf := if_s hc hf
          exact hL88 k63 hk63 N x1 x4 x5 x6 hf _ _ hS _ (lv_sub hl [0, 1, 2, 3, 4] rfl)
        · have hf := it_s hc hf
          refine lv_goto (tgt := 140) E.1 hb dX6_trim_85 (by decide) ?_
          exact hB140 k63 hk63 x1 x4 x5 x6 hf _ _ hS _ (lv_sub hl [0, 1, 2, 3, 4] rfl)
  unfold M_trim at hf
  refine lv_aload_n E.1 hb dX6_trim_0 rfl (lv_at hl 0 rfl) ?_
  refine m_gZ (k := 54) E hb hS rfl fl_54 dX6_trim_1 ?_
  refine lv_if_eq (tgt := 41) E.1 hb dX6_trim_4 (by decide) (fun hc => ?_) (fun hc => ?_)
  · have hf := it_s hc hf
    refine lv_iconst (v := (-1)) E.1 hb dX6_trim_41 rfl ?_
    exact m_irR E hb hr hlk hS hf dX6_trim_42
  · have hf := if_s hc hf
    refine lv_iload_n E.1 hb dX6_trim_7 rfl (lv_at hl 1 rfl) ?_
    refine lv_i2l E.1 hb dX6_trim_8 rfl ?_
    refine lv_lconst (v := 0) E.1 hb dX6_trim_9 rfl ?_
    refine lv_aload_n E.1 hb dX6_trim_10 rfl (lv_at hl 0 rfl) ?_
    obtain ⟨r1, h1, hf⟩ := bo_s hf
    refine m_cVi E hb hml hl.1 hS (cmf_leaves h1) gw_leaves gn_leaves rfl rfl (Nat.le_of_ble_eq_true rfl) ⟨Nat.le_of_ble_eq_true rfl, Nat.le_of_ble_eq_true rfl⟩ ⟨Nat.le_refl 0, Nat.le_refl 0⟩ dX6_trim_11 (fun H locs hS => ?_)
    refine lv_iconst (v := 1) E.1 hb dX6_trim_14 rfl ?_
    refine lv_isub E.1 hb dX6_trim_15 ?_
    refine lv_i2l E.1 hb dX6_trim_16 rfl ?_
    obtain ⟨r2, h1, hf⟩ := bo_s hf
    refine m_cSi E hb hml hl.1 hS (cmf_isIn h1) gw_isIn gn_isIn rfl rfl (Nat.le_of_ble_eq_true rfl) ⟨Nat.le_of_ble_eq_true rfl, Nat.le_of_ble_eq_true rfl⟩ ⟨Nat.le_refl 0, Nat.le_refl 0⟩ dX6_trim_17 (fun H locs hS => ?_)
    refine lv_if_eq (tgt := 41) E.1 hb dX6_trim_20 (by decide) (fun hc => ?_) (fun hc => ?_)
    · have hf := it_s hc hf
      refine lv_iconst (v := (-1)) E.1 hb dX6_trim_41 rfl ?_
      exact m_irR E hb hr hlk hS hf dX6_trim_42
    · have hf := if_s hc hf
      refine lv_iload_n E.1 hb dX6_trim_23 rfl (lv_at hl 2 rfl) ?_
      refine lv_i2l E.1 hb dX6_trim_24 rfl ?_
      refine lv_lconst (v := 1) E.1 hb dX6_trim_25 rfl ?_
      refine lv_aload_n E.1 hb dX6_trim_26 rfl (lv_at hl 0 rfl) ?_
      refine m_gA (k := 40) E hb hS 2 rfl (by decide) fl_40 dX6_trim_27 ?_
      refine lv_iconst (v := 3) E.1 hb dX6_trim_30 rfl ?_
      obtain ⟨hg, hf⟩ := ld_s hf
      refine m_ild E hb hS hg dX6_trim_31 ?_
      refine lv_iconst (v := 1) E.1 hb dX6_trim_32 rfl ?_
      refine lv_isub E.1 hb dX6_trim_33 ?_
      refine lv_i2l E.1 hb dX6_trim_34 rfl ?_
      obtain ⟨r4, h1, hf⟩ := bo_s hf
      refine m_cSi E hb hml hl.1 hS (cmf_isIn h1) gw_isIn gn_isIn rfl rfl (Nat.le_of_ble_eq_true rfl) ⟨Nat.le_of_ble_eq_true rfl, Nat.le_of_ble_eq_true rfl⟩ ⟨Nat.le_refl 0, Nat.le_refl 0⟩ dX6_trim_35 (fun H locs hS => ?_)
      refine lv_if_ne (tgt := 43) E.1 hb dX6_trim_38 (by decide) (fun hc => ?_) (fun hc => ?_)
      · have hf := if_s hc hf
        refine lv_aload_n E.1 hb dX6_trim_43 rfl (lv_at hl 0 rfl) ?_
        refine m_gA (k := 40) E hb hS 2 rfl (by decide) fl_40 dX6_trim_44 ?_
        refine lv_iconst (v := 3) E.1 hb dX6_trim_47 rfl ?_
        obtain ⟨hg, hf⟩ := ld_s hf
        refine m_ild E hb hS hg dX6_trim_48 ?_
        refine lv_iload_n E.1 hb dX6_trim_49 rfl (lv_at hl 2 rfl) ?_
        refine lv_isub E.1 hb dX6_trim_50 ?_
        refine lv_istore_n (lv' := [(3, .int ((σ.1 40 (3 : Int32).toNatClampNeg) - x2)), (0, .ref o), (1, .int x1), (2, .int x2)]) E.1 hb dX6_trim_51 rfl hl (by decide) rfl (fun ls hl => ?_)
        refine lv_iload_n E.1 hb dX6_trim_52 rfl (lv_at hl 0 rfl) ?_
        refine lv_iconst (v := 1) E.1 hb dX6_trim_53 rfl ?_
        refine lv_isub E.1 hb dX6_trim_54 ?_
        refine lv_istore (lv' := [(4, .int (((σ.1 40 (3 : Int32).toNatClampNeg) - x2) - 1)), (3, .int ((σ.1 40 (3 : Int32).toNatClampNeg) - x2)), (0, .ref o), (1, .int x1), (2, .int x2)]) E.1 hb dX6_trim_55 hl (by decide) rfl (fun ls hl => ?_)
        refine lv_iconst (v := 0) E.1 hb dX6_trim_57 rfl ?_
        refine lv_istore (lv' := [(5, .int 0), (4, .int (((σ.1 40 (3 : Int32).toNatClampNeg) - x2) - 1)), (3, .int ((σ.1 40 (3 : Int32).toNatClampNeg) - x2)), (0, .ref o), (1, .int x1), (2, .int x2)]) E.1 hb dX6_trim_58 hl (by decide) rfl (fun ls hl => ?_)
        refine lv_iload_n E.1 hb dX6_trim_60 rfl (lv_at hl 2 rfl) ?_
        refine lv_istore (lv' := [(6, .int ((σ.1 40 (3 : Int32).toNatClampNeg) - x2)), (5, .int 0), (4, .int (((σ.1 40 (3 : Int32).toNatClampNeg) - x2) - 1)), (3, .int ((σ.1 40 (3 : Int32).toNatClampNeg) - x2)), (0, .ref o), (1, .int x1), (2, .int x2)]) E.1 hb dX6_trim_61 hl (by decide) rfl (fun ls hl => ?_)
        exact hL63 N x1 (((σ.1 40 (3 : Int32).toNatClampNeg) - x2) - 1) 0 ((σ.1 40 (3 : Int32).toNatClampNeg) - x2) hf _ _ hS _ (lv_sub hl [4, 5, 2, 1, 0] rfl)
      · have hf := it_s hc hf
        refine lv_iconst (v := (-1)) E.1 hb dX6_trim_41 rfl ?_
        exact m_irR E hb hr hlk hS hf dX6_trim_42
/-! keeps()V: RW -/
noncomputable def M_keeps_b15 (N : Nat) (k15 : mSt → Int32 → Option (Unit × mSt)) (σ : mSt) (x1 : Int32) : Option (Unit × mSt) :=
  if 160 ≤ x1 then (if 20 ≤ (σ.1 69 0) then (some ((), σ)) else (lt2 (mUI σ 69 0 ((σ.1 69 0) + 1)) fun σ2 => some ((), σ2))) else (bo (ld 2 σ 56 x1) fun v3 => bo (stI 2 σ 68 ((160 * (σ.1 70 0)) + x1) v3) fun σ4 => k15 σ4 (x1 + 1))
noncomputable def M_keeps (N : Nat) (σ : mSt) : Option (Unit × mSt) :=
  lt2 (mUI σ 70 0 (((σ.1 70 0) + 1) - ((σ.1 70 0) + 1) / 20 * 20)) fun σ1 => rn2 (M_keeps_b15 N) N σ1 0
theorem gw_keeps : GoodIn lw_all (wsV RX6 558 RX6 yX6_keeps (ws_ yX6_keeps cX6_keeps 2 none)) := lw_V q2434 q2436 qs138 q164 q2437
theorem gn_keeps : yX6_keeps.cls = RX6 ∧ yX6_keeps.cls ≠ "java/lang/invoke/MethodHandle" ∧ yX6_keeps.cls ≠ "java/lang/invoke/VarHandle" ∧ (parseMethodDescriptor yX6_keeps.desc).map (fun d => d.parameters.length) = some 0 := by decide +kernel
abbrev rM_keeps : Room := { frames := 0, cells := 0, slots := 0, locals := 0 }
set_option maxHeartbeats 4000000 in
theorem cmf_keeps {l : Launch} {dC : Nat → ClassId} {dI : Nat → Nat → Nat} {ac : Nat → ClassId} {o : Nat} {ad : Nat → Nat} {N : Nat} {σ : mSt} {σ' : mSt} (hf : M_keeps N σ = some ((), σ')) : Met l yX6_keeps (ws_ yX6_keeps cX6_keeps 2 none) { frames := 0, cells := 0, slots := 0, locals := 0 } (va_Pc [.ref o] (mPre dC dI ac o ad σ)) (mQv dC dI ac o ad σ') 0 0 (mF o ad) := by
  refine m_of (by decide) rfl (Nat.le_of_ble_eq_true rfl) ?_
  intro p e s m args below meth c E hb hr hlk hml hS ls hl
  have hl : lv_has ls 2 [(0, .ref o)] := hl
  have hL15 : ∀ (n : Nat) (σ : mSt) (x1 : Int32), rn2 (M_keeps_b15 N) n σ x1 = some ((), σ') → ∀ (H : Heap) (locs : List Loc), mS dC dI ac o ad s.heap σ H locs → ∀ (ls : Array Slot), lv_has ls 2 [(0, .ref o), (1, .int x1)] → W p l e rM_keeps s m args below meth c H locs 0 0 (MQ below (mQv dC dI ac o ad σ') args s 0 0 (mF o ad)) (F0 m 15 ls []) := by
    intro  n
    induction n with
    | zero =>
      intro σ x1 hf
      cases hf
    | succ n ih =>
      intro σ x1 hf H locs hS ls hl
      have hf : M_keeps_b15 N (rn2 (M_keeps_b15 N) n) σ x1 = some ((), σ') := hf
      have hk15 := ih
      generalize rn2 (M_keeps_b15 N) n = k15 at hf hk15
      unfold M_keeps_b15 at hf
      refine lv_iload_n E.1 hb dX6_keeps_15 rfl (lv_at hl 1 rfl) ?_
      refine lv_sipush (v := 160) E.1 hb dX6_keeps_16 rfl ?_
      refine lv_icmp_ge (tgt := 49) E.1 hb dX6_keeps_19 (by decide) (fun hc => ?_) (fun hc => ?_)
      · have hf := it_s hc hf
        refine lv_aload_n E.1 hb dX6_keeps_49 rfl (lv_at hl 0 rfl) ?_
        refine m_gI (k := 69) E hb hS rfl fl_69 dX6_keeps_50 ?_
        refine lv_bipush (v := 20) E.1 hb dX6_keeps_53 rfl ?_
        refine lv_icmp_ge (tgt := 68) E.1 hb dX6_keeps_55 (by decide) (fun hc => ?_) (fun hc => ?_)
        · have hf := it_s hc hf
          exact m_vr E hb hr hlk hS hf dX6_keeps_68
        · have hf := if_s hc hf
          refine lv_aload_n E.1 hb dX6_keeps_58 rfl (lv_at hl 0 rfl) ?_
          refine lv_dup E.1 hb dX6_keeps_59 rfl ?_
          refine m_gI (k := 69) E hb hS rfl fl_69 dX6_keeps_60 ?_
          refine lv_iconst (v := 1) E.1 hb dX6_keeps_63 rfl ?_
          refine lv_iadd E.1 hb dX6_keeps_64 ?_
          obtain ⟨σ2, hw, hf⟩ := lt2_s hf
          refine m_pI (k := 69) E hb hS rfl rfl pf_69 fl_69 hw dX6_keeps_65 (fun H locs hS => ?_)
          exact m_vr E hb hr hlk hS hf dX6_keeps_68
      · have hf := if_s hc hf
        refine lv_aload_n E.1 hb dX6_keeps_22 rfl (lv_at hl 0 rfl) ?_
        refine m_gA (k := 68) E hb hS 2 rfl (by decide) fl_68 dX6_keeps_23 ?_
        refine lv_sipush (v := 160) E.1 hb dX6_keeps_26 rfl ?_
        refine lv_aload_n E.1 hb dX6_keeps_29 rfl (lv_at hl 0 rfl) ?_
        refine m_gI (k := 70) E hb hS rfl fl_70 dX6_keeps_30 ?_
        refine lv_imul E.1 hb dX6_keeps_33 ?_
        refine lv_iload_n E.1 hb dX6_keeps_34 rfl (lv_at hl 1 rfl) ?_
        refine lv_iadd E.1 hb dX6_keeps_35 ?_
        refine lv_aload_n E.1 hb dX6_keeps_36 rfl (lv_at hl 0 rfl) ?_
        refine m_gA (k := 56) E hb hS 2 rfl (by decide) fl_56 dX6_keeps_37 ?_
        refine lv_iload_n E.1 hb dX6_keeps_40 rfl (lv_at hl 1 rfl) ?_
        obtain ⟨hg, hf⟩ := ld_s hf
        refine m_ild E hb hS hg dX6_keeps_41 ?_
        obtain ⟨σ4, hg, hw, hf⟩ := st_s hf
        refine m_ist E hb hS hg hw dX6_keeps_42 (fun H locs hS => ?_)
        refine lv_iinc (v := (x1 + 1)) (lv' := [(1, .int (x1 + 1)), (0, .ref o)]) E.1 hb dX6_keeps_43 hl (k := 1) rfl rfl (by decide) rfl (fun ls hl => ?_)
        refine lv_goto (tgt := 15) E.1 hb dX6_keeps_46 (by decide) ?_
        exact hk15 σ4 (x1 + 1) hf _ _ hS _ (lv_sub hl [1, 0] rfl)
  unfold M_keeps at hf
  refine lv_aload_n E.1 hb dX6_keeps_0 rfl (lv_at hl 0 rfl) ?_
  refine lv_aload_n E.1 hb dX6_keeps_1 rfl (lv_at hl 0 rfl) ?_
  refine m_gI (k := 70) E hb hS rfl fl_70 dX6_keeps_2 ?_
  refine lv_iconst (v := 1) E.1 hb dX6_keeps_5 rfl ?_
  refine lv_iadd E.1 hb dX6_keeps_6 ?_
  refine lv_bipush (v := 20) E.1 hb dX6_keeps_7 rfl ?_
  refine lv_irem E.1 hb dX6_keeps_9 (by decide) ?_
  obtain ⟨σ1, hw, hf⟩ := lt2_s hf
  refine m_pI (k := 70) E hb hS rfl rfl pf_70 fl_70 hw dX6_keeps_10 (fun H locs hS => ?_)
  refine lv_iconst (v := 0) E.1 hb dX6_keeps_13 rfl ?_
  refine lv_istore_n (lv' := [(1, .int 0), (0, .ref o)]) E.1 hb dX6_keeps_14 rfl hl (by decide) rfl (fun ls hl => ?_)
  exact hL15 N σ1 0 hf _ _ hS _ (lv_sub hl [1, 0] rfl)
/-! undo()Z: RW -/
noncomputable def M_undo_b21 (N : Nat) (k21 : mSt → Int32 → Option (Int32 × mSt)) (σ : mSt) (x1 : Int32) : Option (Int32 × mSt) :=
  if 160 ≤ x1 then (lt2 (mUI σ 70 0 ((((σ.1 70 0) + 20) - 1) - (((σ.1 70 0) + 20) - 1) / 20 * 20)) fun σ1 => lt2 (mUI σ1 69 0 ((σ1.1 69 0) - 1)) fun σ2 => some (1, σ2)) else (bo (ld 2 σ 68 ((160 * (σ.1 70 0)) + x1)) fun v3 => bo (stI 2 σ 56 x1 v3) fun σ4 => k21 σ4 (x1 + 1))
noncomputable def M_undo (N : Nat) (σ : mSt) : Option (Int32 × mSt) :=
  if (σ.1 69 0) = 0 then (bo (ld 2 σ 9 4) fun v5 => bo (stI 2 σ 9 4 (v5 + 1)) fun σ6 => some (0, σ6)) else (rn2 (M_undo_b21 N) N σ 0)
abbrev rM_undo : Room := { frames := 0, cells := 0, slots := 0, locals := 0 }
set_option maxHeartbeats 4000000 in
theorem cmf_undo {l : Launch} {dC : Nat → ClassId} {dI : Nat → Nat → Nat} {ac : Nat → ClassId} {o : Nat} {ad : Nat → Nat} {N : Nat} {σ : mSt} {r : Int32} {σ' : mSt} (hf : M_undo N σ = some (r, σ')) : Met l yX6_undo (ws_ yX6_undo cX6_undo 2 (some .boolean)) { frames := 0, cells := 0, slots := 0, locals := 0 } (va_Pc [.ref o] (mPre dC dI ac o ad σ)) (mQi dC dI ac o ad r σ') 0 0 (mF o ad) := by
  refine m_of (by decide) rfl (Nat.le_of_ble_eq_true rfl) ?_
  intro p e s m args below meth c E hb hr hlk hml hS ls hl
  have hl : lv_has ls 2 [(0, .ref o)] := hl
  have hL21 : ∀ (n : Nat) (σ : mSt) (x1 : Int32), rn2 (M_undo_b21 N) n σ x1 = some (r, σ') → ∀ (H : Heap) (locs : List Loc), mS dC dI ac o ad s.heap σ H locs → ∀ (ls : Array Slot), lv_has ls 2 [(0, .ref o), (1, .int x1)] → W p l e rM_undo s m args below meth c H locs 0 0 (MQ below (mQi dC dI ac o ad r σ') args s 0 0 (mF o ad)) (F0 m 21 ls []) := by
    intro  n
    induction n with
    | zero =>
      intro σ x1 hf
      cases hf
    | succ n ih =>
      intro σ x1 hf H locs hS ls hl
      have hf : M_undo_b21 N (rn2 (M_undo_b21 N) n) σ x1 = some (r, σ') := hf
      have hk21 := ih
      generalize rn2 (M_undo_b21 N) n = k21 at hf hk21
      unfold M_undo_b21 at hf
      refine lv_iload_n E.1 hb dX6_undo_21 rfl (lv_at hl 1 rfl) ?_
      refine lv_sipush (v := 160) E.1 hb dX6_undo_22 rfl ?_
      refine lv_icmp_ge (tgt := 55) E.1 hb dX6_undo_25 (by decide) (fun hc => ?_) (fun hc => ?_)
      · have hf := it_s hc hf
        refine lv_aload_n E.1 hb dX6_undo_55 rfl (lv_at hl 0 rfl) ?_
        refine lv_aload_n E.1 hb dX6_undo_56 rfl (lv_at hl 0 rfl) ?_
        refine m_gI (k := 70) E hb hS rfl fl_70 dX6_undo_57 ?_
        refine lv_bipush (v := 20) E.1 hb dX6_undo_60 rfl ?_
        refine lv_iadd E.1 hb dX6_undo_62 ?_
        refine lv_iconst (v := 1) E.1 hb dX6_undo_63 rfl ?_
        refine lv_isub E.1 hb dX6_undo_64 ?_
        refine lv_bipush (v := 20) E.1 hb dX6_undo_65 rfl ?_
        refine lv_irem E.1 hb dX6_undo_67 (by decide) ?_
        obtain ⟨σ1, hw, hf⟩ := lt2_s hf
        refine m_pI (k := 70) E hb hS rfl rfl pf_70 fl_70 hw dX6_undo_68 (fun H locs hS => ?_)
        refine lv_aload_n E.1 hb dX6_undo_71 rfl (lv_at hl 0 rfl) ?_
        refine lv_dup E.1 hb dX6_undo_72 rfl ?_
        refine m_gI (k := 69) E hb hS rfl fl_69 dX6_undo_73 ?_
        refine lv_iconst (v := 1) E.1 hb dX6_undo_76 rfl ?_
        refine lv_isub E.1 hb dX6_undo_77 ?_
        obtain ⟨σ2, hw, hf⟩ := lt2_s hf
        refine m_pI (k := 69) E hb hS rfl rfl pf_69 fl_69 hw dX6_undo_78 (fun H locs hS => ?_)
        refine lv_iconst (v := 1) E.1 hb dX6_undo_81 rfl ?_
        exact m_zr E hb hr hlk hS rfl hf dX6_undo_82
      · have hf := if_s hc hf
        refine lv_aload_n E.1 hb dX6_undo_28 rfl (lv_at hl 0 rfl) ?_
        refine m_gA (k := 56) E hb hS 2 rfl (by decide) fl_56 dX6_undo_29 ?_
        refine lv_iload_n E.1 hb dX6_undo_32 rfl (lv_at hl 1 rfl) ?_
        refine lv_aload_n E.1 hb dX6_undo_33 rfl (lv_at hl 0 rfl) ?_
        refine m_gA (k := 68) E hb hS 2 rfl (by decide) fl_68 dX6_undo_34 ?_
        refine lv_sipush (v := 160) E.1 hb dX6_undo_37 rfl ?_
        refine lv_aload_n E.1 hb dX6_undo_40 rfl (lv_at hl 0 rfl) ?_
        refine m_gI (k := 70) E hb hS rfl fl_70 dX6_undo_41 ?_
        refine lv_imul E.1 hb dX6_undo_44 ?_
        refine lv_iload_n E.1 hb dX6_undo_45 rfl (lv_at hl 1 rfl) ?_
        refine lv_iadd E.1 hb dX6_undo_46 ?_
        obtain ⟨hg, hf⟩ := ld_s hf
        refine m_ild E hb hS hg dX6_undo_47 ?_
        obtain ⟨σ4, hg, hw, hf⟩ := st_s hf
        refine m_ist E hb hS hg hw dX6_undo_48 (fun H locs hS => ?_)
        refine lv_iinc (v := (x1 + 1)) (lv' := [(1, .int (x1 + 1)), (0, .ref o)]) E.1 hb dX6_undo_49 hl (k := 1) rfl rfl (by decide) rfl (fun ls hl => ?_)
        refine lv_goto (tgt := 21) E.1 hb dX6_undo_52 (by decide) ?_
        exact hk21 σ4 (x1 + 1) hf _ _ hS _ (lv_sub hl [1, 0] rfl)
  unfold M_undo at hf
  refine lv_aload_n E.1 hb dX6_undo_0 rfl (lv_at hl 0 rfl) ?_
  refine m_gI (k := 69) E hb hS rfl fl_69 dX6_undo_1 ?_
  refine lv_if_ne (tgt := 19) E.1 hb dX6_undo_4 (by decide) (fun hc => ?_) (fun hc => ?_)
  · have hf := if_s hc hf
    refine lv_iconst (v := 0) E.1 hb dX6_undo_19 rfl ?_
    refine lv_istore_n (lv' := [(1, .int 0), (0, .ref o)]) E.1 hb dX6_undo_20 rfl hl (by decide) rfl (fun ls hl => ?_)
    exact hL21 N σ 0 hf _ _ hS _ (lv_sub hl [1, 0] rfl)
  · have hf := it_s hc hf
    refine lv_aload_n E.1 hb dX6_undo_7 rfl (lv_at hl 0 rfl) ?_
    refine m_gA (k := 9) E hb hS 2 rfl (by decide) fl_9 dX6_undo_8 ?_
    refine lv_iconst (v := 4) E.1 hb dX6_undo_11 rfl ?_
    refine lv_dup2_11 E.1 hb dX6_undo_12 rfl rfl ?_
    obtain ⟨hg, hf⟩ := ld_s hf
    refine m_ild E hb hS hg dX6_undo_13 ?_
    refine lv_iconst (v := 1) E.1 hb dX6_undo_14 rfl ?_
    refine lv_iadd E.1 hb dX6_undo_15 ?_
    obtain ⟨σ6, hg, hw, hf⟩ := st_s hf
    refine m_ist E hb hS hg hw dX6_undo_16 (fun H locs hS => ?_)
    refine lv_iconst (v := 0) E.1 hb dX6_undo_17 rfl ?_
    exact m_zr E hb hr hlk hS rfl hf dX6_undo_18
/-! go(III)Z: RW -/
noncomputable def M_go_b36 (N : Nat) (σ : mSt) : Option (Int32 × mSt) :=
  bo (ld 2 σ 9 2) fun v2 => bo (stI 2 σ 9 2 (v2 + 1)) fun σ3 => some (0, σ3)
noncomputable def M_go (N : Nat) (σ : mSt) (x1 : Int32) (x2 : Int32) (x3 : Int32) : Option (Int32 × mSt) :=
  bo (M_isBeing σ x1) fun r1 => if r1 = 0 then (M_go_b36 N σ) else (bo (M_isCell σ x2 x3) fun r4 => if r4 = 0 then (M_go_b36 N σ) else (bo (M_hasGloss σ x2 x3) fun r5 => if r5 = 0 then (bo (M_standsOn N σ x2 x3) fun r6 => if r6 = (-1) then (bd (M_keeps N σ) fun _ σ7 => bo (stI 2 σ7 56 (7 + (4 * x1)) x2) fun σ8 => bo (stI 2 σ8 56 ((7 + (4 * x1)) + 1) x3) fun σ9 => some (1, σ9)) else (M_go_b36 N σ)) else (M_go_b36 N σ)))
abbrev rM_go : Room := { frames := 2, cells := 0, slots := 0, locals := 47 }
set_option maxHeartbeats 4000000 in
theorem cmf_go {l : Launch} {dC : Nat → ClassId} {dI : Nat → Nat → Nat} {ac : Nat → ClassId} {o : Nat} {ad : Nat → Nat} {N : Nat} {σ : mSt} {x1 : Int32} {x2 : Int32} {x3 : Int32} {r : Int32} {σ' : mSt} (hf : M_go N σ x1 x2 x3 = some (r, σ')) : Met l yX6_go (ws_ yX6_go cX6_go 4 (some .boolean)) { frames := 2, cells := 0, slots := 0, locals := 47 } (va_Pc [.ref o, .int x1, .int x2, .int x3] (mPre dC dI ac o ad σ)) (mQi dC dI ac o ad r σ') 0 0 (mF o ad) := by
  refine m_of (by decide) rfl (Nat.le_of_ble_eq_true rfl) ?_
  intro p e s m args below meth c E hb hr hlk hml hS ls hl
  have hl : lv_has ls 4 [(0, .ref o), (1, .int x1), (2, .int x2), (3, .int x3)] := hl
  have hB36 : ∀ (σ : mSt), M_go_b36 N σ = some (r, σ') → ∀ (H : Heap) (locs : List Loc), mS dC dI ac o ad s.heap σ H locs → ∀ (ls : Array Slot), lv_has ls 4 [(0, .ref o)] → W p l e rM_go s m args below meth c H locs 0 0 (MQ below (mQi dC dI ac o ad r σ') args s 0 0 (mF o ad)) (F0 m 36 ls []) := by
    intro σ hf H locs hS ls hl
    unfold M_go_b36 at hf
    refine lv_aload_n E.1 hb dX6_go_36 rfl (lv_at hl 0 rfl) ?_
    refine m_gA (k := 9) E hb hS 2 rfl (by decide) fl_9 dX6_go_37 ?_
    refine lv_iconst (v := 2) E.1 hb dX6_go_40 rfl ?_
    refine lv_dup2_11 E.1 hb dX6_go_41 rfl rfl ?_
    obtain ⟨hg, hf⟩ := ld_s hf
    refine m_ild E hb hS hg dX6_go_42 ?_
    refine lv_iconst (v := 1) E.1 hb dX6_go_43 rfl ?_
    refine lv_iadd E.1 hb dX6_go_44 ?_
    obtain ⟨σ3, hg, hw, hf⟩ := st_s hf
    refine m_ist E hb hS hg hw dX6_go_45 (fun H locs hS => ?_)
    refine lv_iconst (v := 0) E.1 hb dX6_go_46 rfl ?_
    exact m_zr E hb hr hlk hS rfl hf dX6_go_47
  unfold M_go at hf
  refine lv_aload_n E.1 hb dX6_go_0 rfl (lv_at hl 0 rfl) ?_
  refine lv_iload_n E.1 hb dX6_go_1 rfl (lv_at hl 1 rfl) ?_
  obtain ⟨r1, h1, hf⟩ := bo_s hf
  refine m_cVi E hb hml hl.1 hS (cmf_isBeing h1) gw_isBeing gn_isBeing rfl rfl (Nat.le_of_ble_eq_true rfl) ⟨Nat.le_of_ble_eq_true rfl, Nat.le_of_ble_eq_true rfl⟩ ⟨Nat.le_refl 0, Nat.le_refl 0⟩ dX6_go_2 (fun H locs hS => ?_)
  refine lv_if_eq (tgt := 36) E.1 hb dX6_go_5 (by decide) (fun hc => ?_) (fun hc => ?_)
  · have hf := it_s hc hf
    exact hB36 σ hf _ _ hS _ (lv_sub hl [0] rfl)
  · have hf := if_s hc hf
    refine lv_aload_n E.1 hb dX6_go_8 rfl (lv_at hl 0 rfl) ?_
    refine lv_iload_n E.1 hb dX6_go_9 rfl (lv_at hl 2 rfl) ?_
    refine lv_iload_n E.1 hb dX6_go_10 rfl (lv_at hl 3 rfl) ?_
    obtain ⟨r4, h1, hf⟩ := bo_s hf
    refine m_cVi E hb hml hl.1 hS (cmf_isCell h1) gw_isCell gn_isCell rfl rfl (Nat.le_of_ble_eq_true rfl) ⟨Nat.le_of_ble_eq_true rfl, Nat.le_of_ble_eq_true rfl⟩ ⟨Nat.le_refl 0, Nat.le_refl 0⟩ dX6_go_11 (fun H locs hS => ?_)
    refine lv_if_eq (tgt := 36) E.1 hb dX6_go_14 (by decide) (fun hc => ?_) (fun hc => ?_)
    · have hf := it_s hc hf
      exact hB36 σ hf _ _ hS _ (lv_sub hl [0] rfl)
    · have hf := if_s hc hf
      refine lv_aload_n E.1 hb dX6_go_17 rfl (lv_at hl 0 rfl) ?_
      refine lv_iload_n E.1 hb dX6_go_18 rfl (lv_at hl 2 rfl) ?_
      refine lv_iload_n E.1 hb dX6_go_19 rfl (lv_at hl 3 rfl) ?_
      obtain ⟨r5, h1, hf⟩ := bo_s hf
      refine m_cVi E hb hml hl.1 hS (cmf_hasGloss h1) gw_hasGloss gn_hasGloss rfl rfl (Nat.le_of_ble_eq_true rfl) ⟨Nat.le_of_ble_eq_true rfl, Nat.le_of_ble_eq_true rfl⟩ ⟨Nat.le_refl 0, Nat.le_refl 0⟩ dX6_go_20 (fun H locs hS => ?_)
      refine lv_if_ne (tgt := 36) E.1 hb dX6_go_23 (by decide) (fun hc => ?_) (fun hc => ?_)
      · have hf := if_s hc hf
        exact hB36 σ hf _ _ hS _ (lv_sub hl [0] rfl)
      · have hf := it_s hc hf
        refine lv_aload_n E.1 hb dX6_go_26 rfl (lv_at hl 0 rfl) ?_
        refine lv_iload_n E.1 hb dX6_go_27 rfl (lv_at hl 2 rfl) ?_
        refine lv_iload_n E.1 hb dX6_go_28 rfl (lv_at hl 3 rfl) ?_
        obtain ⟨r6, h1, hf⟩ := bo_s hf
        refine m_cVi E hb hml hl.1 hS (cmf_standsOn h1) gw_standsOn gn_standsOn rfl rfl (Nat.le_of_ble_eq_true rfl) ⟨Nat.le_of_ble_eq_true rfl, Nat.le_of_ble_eq_true rfl⟩ ⟨Nat.le_refl 0, Nat.le_refl 0⟩ dX6_go_29 (fun H locs hS => ?_)
        refine lv_iconst (v := (-1)) E.1 hb dX6_go_32 rfl ?_
        refine lv_icmp_eq (tgt := 48) E.1 hb dX6_go_33 (by decide) (fun hc => ?_) (fun hc => ?_)
        · have hf := it_s hc hf
          refine lv_aload_n E.1 hb dX6_go_48 rfl (lv_at hl 0 rfl) ?_
          obtain ⟨_, σ7, h1, hf⟩ := bd_s hf
          refine m_cVv E hb hml hl.1 hS (cmf_keeps h1) gw_keeps gn_keeps rfl rfl (Nat.le_of_ble_eq_true rfl) ⟨Nat.le_of_ble_eq_true rfl, Nat.le_of_ble_eq_true rfl⟩ ⟨Nat.le_refl 0, Nat.le_refl 0⟩ dX6_go_49 (fun H locs hS => ?_)
          refine lv_aload_n E.1 hb dX6_go_52 rfl (lv_at hl 0 rfl) ?_
          refine m_gA (k := 56) E hb hS 2 rfl (by decide) fl_56 dX6_go_53 ?_
          refine lv_bipush (v := 7) E.1 hb dX6_go_56 rfl ?_
          refine lv_iconst (v := 4) E.1 hb dX6_go_58 rfl ?_
          refine lv_iload_n E.1 hb dX6_go_59 rfl (lv_at hl 1 rfl) ?_
          refine lv_imul E.1 hb dX6_go_60 ?_
          refine lv_iadd E.1 hb dX6_go_61 ?_
          refine lv_iload_n E.1 hb dX6_go_62 rfl (lv_at hl 2 rfl) ?_
          obtain ⟨σ8, hg, hw, hf⟩ := st_s hf
          refine m_ist E hb hS hg hw dX6_go_63 (fun H locs hS => ?_)
          refine lv_aload_n E.1 hb dX6_go_64 rfl (lv_at hl 0 rfl) ?_
          refine m_gA (k := 56) E hb hS 2 rfl (by decide) fl_56 dX6_go_65 ?_
          refine lv_bipush (v := 7) E.1 hb dX6_go_68 rfl ?_
          refine lv_iconst (v := 4) E.1 hb dX6_go_70 rfl ?_
          refine lv_iload_n E.1 hb dX6_go_71 rfl (lv_at hl 1 rfl) ?_
          refine lv_imul E.1 hb dX6_go_72 ?_
          refine lv_iadd E.1 hb dX6_go_73 ?_
          refine lv_iconst (v := 1) E.1 hb dX6_go_74 rfl ?_
          refine lv_iadd E.1 hb dX6_go_75 ?_
          refine lv_iload_n E.1 hb dX6_go_76 rfl (lv_at hl 3 rfl) ?_
          obtain ⟨σ9, hg, hw, hf⟩ := st_s hf
          refine m_ist E hb hS hg hw dX6_go_77 (fun H locs hS => ?_)
          refine lv_iconst (v := 1) E.1 hb dX6_go_78 rfl ?_
          exact m_zr E hb hr hlk hS rfl hf dX6_go_79
        · have hf := if_s hc hf
          exact hB36 σ hf _ _ hS _ (lv_sub hl [0] rfl)
