set_option maxRecDepth 100000
theorem fk_X0_312_X1 : FLk RX0 312 "MarginFolk$Folio" (TX1 8).2.1 (TX1 8).2.2.1 := Or.inr ⟨_, q253⟩
theorem fk_X0_309_X1 : FLk RX0 309 "MarginFolk$Folio" (TX1 7).2.1 (TX1 7).2.2.1 := Or.inr ⟨_, q250⟩
theorem gw_X0_302 : GoodIn lw_all (wsV RX0 302 RX0 yX0_comes (ws_ yX0_comes cX0_comes 3 none)) := lw_V q1520 q1522 qs51 q152 q1523
theorem gnX0_comes : yX0_comes.cls ≠ "java/lang/invoke/MethodHandle" ∧ yX0_comes.cls ≠ "java/lang/invoke/VarHandle" ∧ (parseMethodDescriptor yX0_comes.desc).map (fun d => d.parameters.length) = some 2 := by decide +kernel
theorem fk_X0_306_X1 : FLk RX0 306 "MarginFolk$Folio" (TX1 9).2.1 (TX1 9).2.2.1 := Or.inr ⟨_, q256⟩
/-! MarginFolk.goesOn(III)V: RW -/
noncomputable def X0_goesOn_b156 (N : Nat) (x1 : Int32) (x2 : Int32) (x3 : Int32) (k69 : AH → Int32 → Option (Unit × AH)) (A : AH) (x4 : Int32) : Option (Unit × AH) :=
  k69 A (x4 + 1)
noncomputable def X0_goesOn_b127 (N : Nat) (x1 : Int32) (x2 : Int32) (x3 : Int32) (k69 : AH → Int32 → Option (Unit × AH)) (A : AH) (x4 : Int32) : Option (Unit × AH) :=
  bo (aR A 100 0 0) fun q14 => bo (gN 2 A 208 q14) fun q15 => bo (dI_ 31 A q15 x4) fun v16 => if v16 = x1 then (bo (aR A 100 0 0) fun q17 => bo (gN 2 A 207 q17) fun q18 => bo (dI_ 31 A q18 x4) fun v19 => bd (X0_comes A v19 x2) fun _ A20 => X0_goesOn_b156 N x1 x2 x3 k69 A20 x4) else (X0_goesOn_b156 N x1 x2 x3 k69 A x4)
noncomputable def X0_goesOn_b69 (N : Nat) (x1 : Int32) (x2 : Int32) (x3 : Int32) (k69 : AH → Int32 → Option (Unit × AH)) (A : AH) (x4 : Int32) : Option (Unit × AH) :=
  bo (aR A 100 0 0) fun q6 => bo (gI 2 A 204 q6) fun v7 => if v7 ≤ x4 then (some ((), A)) else (bo (aR A 100 0 0) fun q8 => bo (gN 2 A 209 q8) fun q9 => bo (dI_ 31 A q9 x4) fun v10 => if v10 = x2 then (bo (aR A 100 0 0) fun q11 => bo (gN 2 A 207 q11) fun q12 => bo (dI_ 31 A q12 x4) fun v13 => if v13 = x1 then (bo (aR A 100 0 0) fun q21 => bo (gN 2 A 208 q21) fun q22 => bo (dI_ 31 A q22 x4) fun v23 => bd (X0_comes A v23 x2) fun _ A24 => X0_goesOn_b127 N x1 x2 x3 k69 A24 x4) else (X0_goesOn_b127 N x1 x2 x3 k69 A x4)) else (X0_goesOn_b156 N x1 x2 x3 k69 A x4))
noncomputable def X0_goesOn_b66 (N : Nat) (x1 : Int32) (x2 : Int32) (x3 : Int32) (A : AH) : Option (Unit × AH) :=
  rn2 (X0_goesOn_b69 N x1 x2 x3) N A 0
noncomputable def X0_goesOn_b43 (N : Nat) (x1 : Int32) (x2 : Int32) (x3 : Int32) (A : AH) : Option (Unit × AH) :=
  bo (X0_liesOn A (x1 - 1) x3) fun r5 => if r5 = 0 then (X0_goesOn_b66 N x1 x2 x3 A) else (bo (X0_mirrored A x2) fun r25 => bd (X0_comes A (x1 - 1) r25) fun _ A26 => X0_goesOn_b66 N x1 x2 x3 A26)
noncomputable def X0_goesOn (N : Nat) (A0 : AH) (x1 : Int32) (x2 : Int32) (x3 : Int32) : Option (Unit × AH) :=
  bd (X0_comes A0 x1 x2) fun _ A1 => bd (X0_comes A1 x1 (x2 - 1)) fun _ A2 => bd (X0_comes A2 x1 (x2 + 1)) fun _ A3 => bo (X0_liesOn A3 x1 x3) fun r4 => if r4 = 0 then (X0_goesOn_b43 N x1 x2 x3 A3) else (bo (X0_mirrored A3 x2) fun r27 => bd (X0_comes A3 (x1 + 1) r27) fun _ A28 => X0_goesOn_b43 N x1 x2 x3 A28)
abbrev rX0_goesOn : Room := { frames := 3, cells := 0, slots := 0, locals := 66 }
set_option maxHeartbeats 4000000 in
theorem zX0_goesOn {l : Launch} {dC : Nat → ClassId} {dI : Nat → Nat → Nat} {ac : Nat → ClassId} {ad : Nat → Nat} {N : Nat} {A0 : AH} {x1 : Int32} {x2 : Int32} {x3 : Int32} {A' : AH} (hf : X0_goesOn N A0 x1 x2 x3 = some ((), A')) : Met l yX0_goesOn (ws_ yX0_goesOn cX0_goesOn 5 none) { frames := 3, cells := 0, slots := 0, locals := 66 } (va_Pc [.ref (ad 0), .int x1, .int x2, .int x3] (cPre dC dI ac ad True A0)) (cQv dC dI ac ad True (aN A0) (aS A0) (aN A0) (aS A0) A') 0 0 (cF ad) := by
  unfold X0_goesOn at hf
  refine c_of ⟨Nat.le_refl _, Nat.le_refl _⟩ RX0 (plainFor_of_name (by decide)) rfl (Nat.le_of_ble_eq_true rfl) ?_
  intro p e s m args below meth c E hb hr hlk hnm hml hS ls hl
  have hl : lv_has ls 5 [(0, .ref (ad 0)), (1, .int x1), (2, .int x2), (3, .int x3)] := hl
  have hB156 : ∀ (k69 : AH → Int32 → Option (Unit × AH)) (hk69 : ∀ (A : AH) (x4 : Int32), k69 A x4 = some ((), A') → ∀ (H : Heap) (locs : List Loc), cS dC dI ac ad True s.heap (aN A0) (aS A0) (aN A0) (aS A0) A H locs → ∀ (ls : Array Slot), lv_has ls 5 [(0, .ref (ad 0)), (1, .int x1), (2, .int x2), (3, .int x3), (4, .int x4)] → W p l e rX0_goesOn s m args below meth c H locs 0 0 (MQ below (cQv dC dI ac ad True (aN A0) (aS A0) (aN A0) (aS A0) A') args s 0 0 (cF ad)) (F0 m 69 ls [])) (A : AH) (x4 : Int32), X0_goesOn_b156 N x1 x2 x3 k69 A x4 = some ((), A') → ∀ (H : Heap) (locs : List Loc), cS dC dI ac ad True s.heap (aN A0) (aS A0) (aN A0) (aS A0) A H locs → ∀ (ls : Array Slot), lv_has ls 5 [(0, .ref (ad 0)), (1, .int x1), (2, .int x2), (3, .int x3), (4, .int x4)] → W p l e rX0_goesOn s m args below meth c H locs 0 0 (MQ below (cQv dC dI ac ad True (aN A0) (aS A0) (aN A0) (aS A0) A') args s 0 0 (cF ad)) (F0 m 156 ls []) := by
    intro k69 hk69 A x4 hf H locs hS ls hl
    unfold X0_goesOn_b156 at hf
    refine lv_iinc (v := (x4 + 1)) (lv' := [(4, .int (x4 + 1)), (0, .ref (ad 0)), (1, .int x1), (2, .int x2), (3, .int x3)]) E.1 hb dX0_goesOn_156 hl (k := 4) rfl rfl (by decide) rfl (fun ls hl => ?_)
    refine lv_goto (tgt := 69) E.1 hb dX0_goesOn_159 (by decide) ?_
    exact hk69 A (x4 + 1) hf _ _ hS _ (lv_sub hl [1, 2, 3, 4, 0] rfl)
  have hB127 : ∀ (k69 : AH → Int32 → Option (Unit × AH)) (hk69 : ∀ (A : AH) (x4 : Int32), k69 A x4 = some ((), A') → ∀ (H : Heap) (locs : List Loc), cS dC dI ac ad True s.heap (aN A0) (aS A0) (aN A0) (aS A0) A H locs → ∀ (ls : Array Slot), lv_has ls 5 [(0, .ref (ad 0)), (1, .int x1), (2, .int x2), (3, .int x3), (4, .int x4)] → W p l e rX0_goesOn s m args below meth c H locs 0 0 (MQ below (cQv dC dI ac ad True (aN A0) (aS A0) (aN A0) (aS A0) A') args s 0 0 (cF ad)) (F0 m 69 ls [])) (A : AH) (x4 : Int32), X0_goesOn_b127 N x1 x2 x3 k69 A x4 = some ((), A') → ∀ (H : Heap) (locs : List Loc), cS dC dI ac ad True s.heap (aN A0) (aS A0) (aN A0) (aS A0) A H locs → ∀ (ls : Array Slot), lv_has ls 5 [(0, .ref (ad 0)), (1, .int x1), (2, .int x2), (3, .int x3), (4, .int x4)] → W p l e rX0_goesOn s m args below meth c H locs 0 0 (MQ below (cQv dC dI ac ad True (aN A0) (aS A0) (aN A0) (aS A0) A') args s 0 0 (cF ad)) (F0 m 127 ls []) := by
    intro k69 hk69 A x4 hf H locs hS ls hl
    unfold X0_goesOn_b127 at hf
    refine lv_aload_n E.1 hb dX0_goesOn_127 rfl (lv_at hl 0 rfl) ?_
    obtain ⟨q14, hr7, hf⟩ := bo_s hf
    refine c_gN (k := 0) (f := 100) E hb hS ci_1 (sK hS (by decide) rfl) rfl rfl rfl hr7 fk_X0_31_X0 (fun _ h => h) dX0_goesOn_128 ?_
    obtain ⟨q15, hk, hf⟩ := gN_s hf
    refine c_gN (k := 8) (f := 208) E hb hS ci_2 hk.1 rfl rfl rfl hk.2 fk_X0_312_X1 (fun _ h => h) dX0_goesOn_131 ?_
    refine lv_iload E.1 hb dX0_goesOn_134 (lv_at hl 4 rfl) ?_
    obtain ⟨hg, hf⟩ := dI_s hf
    refine d_ld E hb hS hg rfl (Or.inl ⟨rfl, rfl⟩) dX0_goesOn_136 ?_
    refine lv_iload_n E.1 hb dX0_goesOn_137 rfl (lv_at hl 1 rfl) ?_
    refine lv_icmp_ne (tgt := 156) E.1 hb dX0_goesOn_138 (by decide) (fun hc => ?_) (fun hc => ?_)
    · have hf := if_s hc hf
      exact hB156 k69 hk69 A x4 hf _ _ hS _ (lv_sub hl [0, 1, 2, 3, 4] rfl)
    · have hf := it_s hc hf
      refine lv_aload_n E.1 hb dX0_goesOn_141 rfl (lv_at hl 0 rfl) ?_
      refine lv_aload_n E.1 hb dX0_goesOn_142 rfl (lv_at hl 0 rfl) ?_
      obtain ⟨q17, hr7, hf⟩ := bo_s hf
      refine c_gN (k := 0) (f := 100) E hb hS ci_1 (sK hS (by decide) rfl) rfl rfl rfl hr7 fk_X0_31_X0 (fun _ h => h) dX0_goesOn_143 ?_
      obtain ⟨q18, hk, hf⟩ := gN_s hf
      refine c_gN (k := 7) (f := 207) E hb hS ci_2 hk.1 rfl rfl rfl hk.2 fk_X0_309_X1 (fun _ h => h) dX0_goesOn_146 ?_
      refine lv_iload E.1 hb dX0_goesOn_149 (lv_at hl 4 rfl) ?_
      obtain ⟨hg, hf⟩ := dI_s hf
      refine d_ld E hb hS hg rfl (Or.inl ⟨rfl, rfl⟩) dX0_goesOn_151 ?_
      refine lv_iload_n E.1 hb dX0_goesOn_152 rfl (lv_at hl 2 rfl) ?_
      obtain ⟨_, A20, h1, hf⟩ := bd_s hf
      refine c_kv hS (va_runV ⟨E.1, hb, hml, E.2.1, E.2.2.1⟩ (zX0_comes h1) (cwV 2 E.2.2.1 gw_X0_302 rfl rfl rfl ⟨rfl, gnX0_comes⟩ ⟨Nat.le_of_ble_eq_true rfl, Nat.le_of_ble_eq_true rfl⟩) (c_preV E hS ci_1 (sK hS (by decide) rfl) (hS.1.lt (sK hS (by decide) rfl) rfl) _) rfl rfl hl.1 rfl (lv_room (Nat.le_of_ble_eq_true rfl)) dX0_goesOn_153 ⟨Nat.le_refl 0, Nat.le_refl 0⟩) hS.2.2.2.2 (fun H locs hS hn => ?_)
      exact hB156 k69 hk69 A20 x4 hf _ _ hS _ (lv_sub hl [0, 1, 2, 3, 4] rfl)
  have hL69 : ∀ (n : Nat) (A : AH) (x4 : Int32), rn2 (X0_goesOn_b69 N x1 x2 x3) n A x4 = some ((), A') → ∀ (H : Heap) (locs : List Loc), cS dC dI ac ad True s.heap (aN A0) (aS A0) (aN A0) (aS A0) A H locs → ∀ (ls : Array Slot), lv_has ls 5 [(0, .ref (ad 0)), (1, .int x1), (2, .int x2), (3, .int x3), (4, .int x4)] → W p l e rX0_goesOn s m args below meth c H locs 0 0 (MQ below (cQv dC dI ac ad True (aN A0) (aS A0) (aN A0) (aS A0) A') args s 0 0 (cF ad)) (F0 m 69 ls []) := by
    intro  n
    induction n with
    | zero =>
      intro A x4 hf
      cases hf
    | succ n ih =>
      intro A x4 hf H locs hS ls hl
      have hf : X0_goesOn_b69 N x1 x2 x3 (rn2 (X0_goesOn_b69 N x1 x2 x3) n) A x4 = some ((), A') := hf
      have hk69 := ih
      generalize rn2 (X0_goesOn_b69 N x1 x2 x3) n = k69 at hf hk69
      unfold X0_goesOn_b69 at hf
      refine lv_iload E.1 hb dX0_goesOn_69 (lv_at hl 4 rfl) ?_
      refine lv_aload_n E.1 hb dX0_goesOn_71 rfl (lv_at hl 0 rfl) ?_
      obtain ⟨q6, hr7, hf⟩ := bo_s hf
      refine c_gN (k := 0) (f := 100) E hb hS ci_1 (sK hS (by decide) rfl) rfl rfl rfl hr7 fk_X0_31_X0 (fun _ h => h) dX0_goesOn_72 ?_
      obtain ⟨hk, hf⟩ := gI_s hf
      refine c_gI (k := 4) (f := 204) E hb hS ci_2 hk rfl rfl rfl fk_X0_210_X1 (fun _ h => h) dX0_goesOn_75 ?_
      refine lv_icmp_ge (tgt := 162) E.1 hb dX0_goesOn_78 (by decide) (fun hc => ?_) (fun hc => ?_)
      · have hf := it_s hc hf
        exact c_vr E hb hr hlk hS ⟨Nat.le_refl 0, Nat.le_refl 0⟩ hf dX0_goesOn_162
      · have hf := if_s hc hf
        refine lv_aload_n E.1 hb dX0_goesOn_81 rfl (lv_at hl 0 rfl) ?_
        obtain ⟨q8, hr7, hf⟩ := bo_s hf
        refine c_gN (k := 0) (f := 100) E hb hS ci_1 (sK hS (by decide) rfl) rfl rfl rfl hr7 fk_X0_31_X0 (fun _ h => h) dX0_goesOn_82 ?_
        obtain ⟨q9, hk, hf⟩ := gN_s hf
        refine c_gN (k := 9) (f := 209) E hb hS ci_2 hk.1 rfl rfl rfl hk.2 fk_X0_306_X1 (fun _ h => h) dX0_goesOn_85 ?_
        refine lv_iload E.1 hb dX0_goesOn_88 (lv_at hl 4 rfl) ?_
        obtain ⟨hg, hf⟩ := dI_s hf
        refine d_ld E hb hS hg rfl (Or.inl ⟨rfl, rfl⟩) dX0_goesOn_90 ?_
        refine lv_iload_n E.1 hb dX0_goesOn_91 rfl (lv_at hl 2 rfl) ?_
        refine lv_icmp_eq (tgt := 98) E.1 hb dX0_goesOn_92 (by decide) (fun hc => ?_) (fun hc => ?_)
        · have hf := it_s hc hf
          refine lv_aload_n E.1 hb dX0_goesOn_98 rfl (lv_at hl 0 rfl) ?_
          obtain ⟨q11, hr7, hf⟩ := bo_s hf
          refine c_gN (k := 0) (f := 100) E hb hS ci_1 (sK hS (by decide) rfl) rfl rfl rfl hr7 fk_X0_31_X0 (fun _ h => h) dX0_goesOn_99 ?_
          obtain ⟨q12, hk, hf⟩ := gN_s hf
          refine c_gN (k := 7) (f := 207) E hb hS ci_2 hk.1 rfl rfl rfl hk.2 fk_X0_309_X1 (fun _ h => h) dX0_goesOn_102 ?_
          refine lv_iload E.1 hb dX0_goesOn_105 (lv_at hl 4 rfl) ?_
          obtain ⟨hg, hf⟩ := dI_s hf
          refine d_ld E hb hS hg rfl (Or.inl ⟨rfl, rfl⟩) dX0_goesOn_107 ?_
          refine lv_iload_n E.1 hb dX0_goesOn_108 rfl (lv_at hl 1 rfl) ?_
          refine lv_icmp_ne (tgt := 127) E.1 hb dX0_goesOn_109 (by decide) (fun hc => ?_) (fun hc => ?_)
          · have hf := if_s hc hf
            exact hB127 k69 hk69 A x4 hf _ _ hS _ (lv_sub hl [0, 1, 2, 3, 4] rfl)
          · have hf := it_s hc hf
            refine lv_aload_n E.1 hb dX0_goesOn_112 rfl (lv_at hl 0 rfl) ?_
            refine lv_aload_n E.1 hb dX0_goesOn_113 rfl (lv_at hl 0 rfl) ?_
            obtain ⟨q21, hr7, hf⟩ := bo_s hf
            refine c_gN (k := 0) (f := 100) E hb hS ci_1 (sK hS (by decide) rfl) rfl rfl rfl hr7 fk_X0_31_X0 (fun _ h => h) dX0_goesOn_114 ?_
            obtain ⟨q22, hk, hf⟩ := gN_s hf
            refine c_gN (k := 8) (f := 208) E hb hS ci_2 hk.1 rfl rfl rfl hk.2 fk_X0_312_X1 (fun _ h => h) dX0_goesOn_117 ?_
            refine lv_iload E.1 hb dX0_goesOn_120 (lv_at hl 4 rfl) ?_
            obtain ⟨hg, hf⟩ := dI_s hf
            refine d_ld E hb hS hg rfl (Or.inl ⟨rfl, rfl⟩) dX0_goesOn_122 ?_
            refine lv_iload_n E.1 hb dX0_goesOn_123 rfl (lv_at hl 2 rfl) ?_
            obtain ⟨_, A24, h1, hf⟩ := bd_s hf
            refine c_kv hS (va_runV ⟨E.1, hb, hml, E.2.1, E.2.2.1⟩ (zX0_comes h1) (cwV 2 E.2.2.1 gw_X0_302 rfl rfl rfl ⟨rfl, gnX0_comes⟩ ⟨Nat.le_of_ble_eq_true rfl, Nat.le_of_ble_eq_true rfl⟩) (c_preV E hS ci_1 (sK hS (by decide) rfl) (hS.1.lt (sK hS (by decide) rfl) rfl) _) rfl rfl hl.1 rfl (lv_room (Nat.le_of_ble_eq_true rfl)) dX0_goesOn_124 ⟨Nat.le_refl 0, Nat.le_refl 0⟩) hS.2.2.2.2 (fun H locs hS hn => ?_)
            exact hB127 k69 hk69 A24 x4 hf _ _ hS _ (lv_sub hl [0, 1, 2, 3, 4] rfl)
        · have hf := if_s hc hf
          refine lv_goto (tgt := 156) E.1 hb dX0_goesOn_95 (by decide) ?_
          exact hB156 k69 hk69 A x4 hf _ _ hS _ (lv_sub hl [0, 1, 2, 3, 4] rfl)
  have hB66 : ∀ (A : AH), X0_goesOn_b66 N x1 x2 x3 A = some ((), A') → ∀ (H : Heap) (locs : List Loc), cS dC dI ac ad True s.heap (aN A0) (aS A0) (aN A0) (aS A0) A H locs → ∀ (ls : Array Slot), lv_has ls 5 [(0, .ref (ad 0)), (1, .int x1), (2, .int x2), (3, .int x3)] → W p l e rX0_goesOn s m args below meth c H locs 0 0 (MQ below (cQv dC dI ac ad True (aN A0) (aS A0) (aN A0) (aS A0) A') args s 0 0 (cF ad)) (F0 m 66 ls []) := by
    intro A hf H locs hS ls hl
    unfold X0_goesOn_b66 at hf
    refine lv_iconst (v := 0) E.1 hb dX0_goesOn_66 rfl ?_
    refine lv_istore (lv' := [(4, .int 0), (0, .ref (ad 0)), (1, .int x1), (2, .int x2), (3, .int x3)]) E.1 hb dX0_goesOn_67 hl (by decide) rfl (fun ls hl => ?_)
    exact hL69 N A 0 hf _ _ hS _ (lv_sub hl [1, 2, 3, 4, 0] rfl)
  have hB43 : ∀ (A : AH), X0_goesOn_b43 N x1 x2 x3 A = some ((), A') → ∀ (H : Heap) (locs : List Loc), cS dC dI ac ad True s.heap (aN A0) (aS A0) (aN A0) (aS A0) A H locs → ∀ (ls : Array Slot), lv_has ls 5 [(0, .ref (ad 0)), (1, .int x1), (2, .int x2), (3, .int x3)] → W p l e rX0_goesOn s m args below meth c H locs 0 0 (MQ below (cQv dC dI ac ad True (aN A0) (aS A0) (aN A0) (aS A0) A') args s 0 0 (cF ad)) (F0 m 43 ls []) := by
    intro A hf H locs hS ls hl
    unfold X0_goesOn_b43 at hf
    refine lv_aload_n E.1 hb dX0_goesOn_43 rfl (lv_at hl 0 rfl) ?_
    refine lv_iload_n E.1 hb dX0_goesOn_44 rfl (lv_at hl 1 rfl) ?_
    refine lv_iconst (v := 1) E.1 hb dX0_goesOn_45 rfl ?_
    refine lv_isub E.1 hb dX0_goesOn_46 ?_
    refine lv_iload_n E.1 hb dX0_goesOn_47 rfl (lv_at hl 3 rfl) ?_
    obtain ⟨r5, h1, hf⟩ := bo_s hf
    refine c_ki hS (va_runV ⟨E.1, hb, hml, E.2.1, E.2.2.1⟩ (zX0_liesOn h1) (cwV 2 E.2.2.1 gw_X0_261 rfl rfl rfl ⟨rfl, gnX0_liesOn⟩ ⟨Nat.le_of_ble_eq_true rfl, Nat.le_of_ble_eq_true rfl⟩) (c_preV E hS ci_1 (sK hS (by decide) rfl) (hS.1.lt (sK hS (by decide) rfl) rfl) _) rfl rfl hl.1 rfl (lv_room (Nat.le_of_ble_eq_true rfl)) dX0_goesOn_48 ⟨Nat.le_refl 0, Nat.le_refl 0⟩) hS.2.2.2.2 (fun H locs hS hn => ?_)
    refine lv_if_eq (tgt := 66) E.1 hb dX0_goesOn_51 (by decide) (fun hc => ?_) (fun hc => ?_)
    · have hf := it_s hc hf
      exact hB66 A hf _ _ hS _ (lv_sub hl [0, 1, 2, 3] rfl)
    · have hf := if_s hc hf
      refine lv_aload_n E.1 hb dX0_goesOn_54 rfl (lv_at hl 0 rfl) ?_
      refine lv_iload_n E.1 hb dX0_goesOn_55 rfl (lv_at hl 1 rfl) ?_
      refine lv_iconst (v := 1) E.1 hb dX0_goesOn_56 rfl ?_
      refine lv_isub E.1 hb dX0_goesOn_57 ?_
      refine lv_aload_n E.1 hb dX0_goesOn_58 rfl (lv_at hl 0 rfl) ?_
      refine lv_iload_n E.1 hb dX0_goesOn_59 rfl (lv_at hl 2 rfl) ?_
      obtain ⟨r25, h1, hf⟩ := bo_s hf
      refine c_ki hS (va_runV ⟨E.1, hb, hml, E.2.1, E.2.2.1⟩ (zX0_mirrored h1) (cwV 1 E.2.2.1 gw_X0_264 rfl rfl rfl ⟨rfl, gnX0_mirrored⟩ ⟨Nat.le_of_ble_eq_true rfl, Nat.le_of_ble_eq_true rfl⟩) (c_preV E hS ci_1 (sK hS (by decide) rfl) (hS.1.lt (sK hS (by decide) rfl) rfl) _) rfl rfl hl.1 rfl (lv_room (Nat.le_of_ble_eq_true rfl)) dX0_goesOn_60 ⟨Nat.le_refl 0, Nat.le_refl 0⟩) hS.2.2.2.2 (fun H locs hS hn => ?_)
      obtain ⟨_, A26, h1, hf⟩ := bd_s hf
      refine c_kv hS (va_runV ⟨E.1, hb, hml, E.2.1, E.2.2.1⟩ (zX0_comes h1) (cwV 2 E.2.2.1 gw_X0_302 rfl rfl rfl ⟨rfl, gnX0_comes⟩ ⟨Nat.le_of_ble_eq_true rfl, Nat.le_of_ble_eq_true rfl⟩) (c_preV E hS ci_1 (sK hS (by decide) rfl) (hS.1.lt (sK hS (by decide) rfl) rfl) _) rfl rfl hl.1 rfl (lv_room (Nat.le_of_ble_eq_true rfl)) dX0_goesOn_63 ⟨Nat.le_refl 0, Nat.le_refl 0⟩) hS.2.2.2.2 (fun H locs hS hn => ?_)
      exact hB66 A26 hf _ _ hS _ (lv_sub hl [0, 1, 2, 3] rfl)
  refine lv_aload_n E.1 hb dX0_goesOn_0 rfl (lv_at hl 0 rfl) ?_
  refine lv_iload_n E.1 hb dX0_goesOn_1 rfl (lv_at hl 1 rfl) ?_
  refine lv_iload_n E.1 hb dX0_goesOn_2 rfl (lv_at hl 2 rfl) ?_
  obtain ⟨_, A1, h1, hf⟩ := bd_s hf
  refine c_kv hS (va_runV ⟨E.1, hb, hml, E.2.1, E.2.2.1⟩ (zX0_comes h1) (cwV 2 E.2.2.1 gw_X0_302 rfl rfl rfl ⟨rfl, gnX0_comes⟩ ⟨Nat.le_of_ble_eq_true rfl, Nat.le_of_ble_eq_true rfl⟩) (c_preV E hS ci_1 (sK hS (by decide) rfl) (hS.1.lt (sK hS (by decide) rfl) rfl) _) rfl rfl hl.1 rfl (lv_room (Nat.le_of_ble_eq_true rfl)) dX0_goesOn_3 ⟨Nat.le_refl 0, Nat.le_refl 0⟩) hS.2.2.2.2 (fun H locs hS hn => ?_)
  refine lv_aload_n E.1 hb dX0_goesOn_6 rfl (lv_at hl 0 rfl) ?_
  refine lv_iload_n E.1 hb dX0_goesOn_7 rfl (lv_at hl 1 rfl) ?_
  refine lv_iload_n E.1 hb dX0_goesOn_8 rfl (lv_at hl 2 rfl) ?_
  refine lv_iconst (v := 1) E.1 hb dX0_goesOn_9 rfl ?_
  refine lv_isub E.1 hb dX0_goesOn_10 ?_
  obtain ⟨_, A2, h1, hf⟩ := bd_s hf
  refine c_kv hS (va_runV ⟨E.1, hb, hml, E.2.1, E.2.2.1⟩ (zX0_comes h1) (cwV 2 E.2.2.1 gw_X0_302 rfl rfl rfl ⟨rfl, gnX0_comes⟩ ⟨Nat.le_of_ble_eq_true rfl, Nat.le_of_ble_eq_true rfl⟩) (c_preV E hS ci_1 (sK hS (by decide) rfl) (hS.1.lt (sK hS (by decide) rfl) rfl) _) rfl rfl hl.1 rfl (lv_room (Nat.le_of_ble_eq_true rfl)) dX0_goesOn_11 ⟨Nat.le_refl 0, Nat.le_refl 0⟩) hS.2.2.2.2 (fun H locs hS hn => ?_)
  refine lv_aload_n E.1 hb dX0_goesOn_14 rfl (lv_at hl 0 rfl) ?_
  refine lv_iload_n E.1 hb dX0_goesOn_15 rfl (lv_at hl 1 rfl) ?_
  refine lv_iload_n E.1 hb dX0_goesOn_16 rfl (lv_at hl 2 rfl) ?_
  refine lv_iconst (v := 1) E.1 hb dX0_goesOn_17 rfl ?_
  refine lv_iadd E.1 hb dX0_goesOn_18 ?_
  obtain ⟨_, A3, h1, hf⟩ := bd_s hf
  refine c_kv hS (va_runV ⟨E.1, hb, hml, E.2.1, E.2.2.1⟩ (zX0_comes h1) (cwV 2 E.2.2.1 gw_X0_302 rfl rfl rfl ⟨rfl, gnX0_comes⟩ ⟨Nat.le_of_ble_eq_true rfl, Nat.le_of_ble_eq_true rfl⟩) (c_preV E hS ci_1 (sK hS (by decide) rfl) (hS.1.lt (sK hS (by decide) rfl) rfl) _) rfl rfl hl.1 rfl (lv_room (Nat.le_of_ble_eq_true rfl)) dX0_goesOn_19 ⟨Nat.le_refl 0, Nat.le_refl 0⟩) hS.2.2.2.2 (fun H locs hS hn => ?_)
  refine lv_aload_n E.1 hb dX0_goesOn_22 rfl (lv_at hl 0 rfl) ?_
  refine lv_iload_n E.1 hb dX0_goesOn_23 rfl (lv_at hl 1 rfl) ?_
  refine lv_iload_n E.1 hb dX0_goesOn_24 rfl (lv_at hl 3 rfl) ?_
  obtain ⟨r4, h1, hf⟩ := bo_s hf
  refine c_ki hS (va_runV ⟨E.1, hb, hml, E.2.1, E.2.2.1⟩ (zX0_liesOn h1) (cwV 2 E.2.2.1 gw_X0_261 rfl rfl rfl ⟨rfl, gnX0_liesOn⟩ ⟨Nat.le_of_ble_eq_true rfl, Nat.le_of_ble_eq_true rfl⟩) (c_preV E hS ci_1 (sK hS (by decide) rfl) (hS.1.lt (sK hS (by decide) rfl) rfl) _) rfl rfl hl.1 rfl (lv_room (Nat.le_of_ble_eq_true rfl)) dX0_goesOn_25 ⟨Nat.le_refl 0, Nat.le_refl 0⟩) hS.2.2.2.2 (fun H locs hS hn => ?_)
  refine lv_if_eq (tgt := 43) E.1 hb dX0_goesOn_28 (by decide) (fun hc => ?_) (fun hc => ?_)
  · have hf := it_s hc hf
    exact hB43 A3 hf _ _ hS _ (lv_sub hl [0, 1, 2, 3] rfl)
  · have hf := if_s hc hf
    refine lv_aload_n E.1 hb dX0_goesOn_31 rfl (lv_at hl 0 rfl) ?_
    refine lv_iload_n E.1 hb dX0_goesOn_32 rfl (lv_at hl 1 rfl) ?_
    refine lv_iconst (v := 1) E.1 hb dX0_goesOn_33 rfl ?_
    refine lv_iadd E.1 hb dX0_goesOn_34 ?_
    refine lv_aload_n E.1 hb dX0_goesOn_35 rfl (lv_at hl 0 rfl) ?_
    refine lv_iload_n E.1 hb dX0_goesOn_36 rfl (lv_at hl 2 rfl) ?_
    obtain ⟨r27, h1, hf⟩ := bo_s hf
    refine c_ki hS (va_runV ⟨E.1, hb, hml, E.2.1, E.2.2.1⟩ (zX0_mirrored h1) (cwV 1 E.2.2.1 gw_X0_264 rfl rfl rfl ⟨rfl, gnX0_mirrored⟩ ⟨Nat.le_of_ble_eq_true rfl, Nat.le_of_ble_eq_true rfl⟩) (c_preV E hS ci_1 (sK hS (by decide) rfl) (hS.1.lt (sK hS (by decide) rfl) rfl) _) rfl rfl hl.1 rfl (lv_room (Nat.le_of_ble_eq_true rfl)) dX0_goesOn_37 ⟨Nat.le_refl 0, Nat.le_refl 0⟩) hS.2.2.2.2 (fun H locs hS hn => ?_)
    obtain ⟨_, A28, h1, hf⟩ := bd_s hf
    refine c_kv hS (va_runV ⟨E.1, hb, hml, E.2.1, E.2.2.1⟩ (zX0_comes h1) (cwV 2 E.2.2.1 gw_X0_302 rfl rfl rfl ⟨rfl, gnX0_comes⟩ ⟨Nat.le_of_ble_eq_true rfl, Nat.le_of_ble_eq_true rfl⟩) (c_preV E hS ci_1 (sK hS (by decide) rfl) (hS.1.lt (sK hS (by decide) rfl) rfl) _) rfl rfl hl.1 rfl (lv_room (Nat.le_of_ble_eq_true rfl)) dX0_goesOn_40 ⟨Nat.le_refl 0, Nat.le_refl 0⟩) hS.2.2.2.2 (fun H locs hS hn => ?_)
    exact hB43 A28 hf _ _ hS _ (lv_sub hl [0, 1, 2, 3] rfl)
theorem gw_X0_315 : GoodIn lw_all (wsV RX0 315 RX0 yX0_goesOn (ws_ yX0_goesOn cX0_goesOn 5 none)) := lw_V q1516 q1518 qs50 q152 q1519
theorem gnX0_goesOn : yX0_goesOn.cls ≠ "java/lang/invoke/MethodHandle" ∧ yX0_goesOn.cls ≠ "java/lang/invoke/VarHandle" ∧ (parseMethodDescriptor yX0_goesOn.desc).map (fun d => d.parameters.length) = some 3 := by decide +kernel
/-! MarginFolk.way(III)I: RW -/
noncomputable def X0_way_b254 (N : Nat) (x1 : Int32) (x2 : Int32) (x3 : Int32) (k103 : AH → Int32 → Option (Int32 × AH)) (k204 : AH → Int32 → Int32 → Int32 → Option (Int32 × AH)) (k219 : AH → Int32 → Int32 → Int32 → Int32 → Option (Int32 × AH)) (A : AH) (x4 : Int32) (x5 : Int32) (x6 : Int32) (x7 : Int32) : Option (Int32 × AH) :=
  k219 A x4 x5 x6 (x7 + 1)
noncomputable def X0_way_b219 (N : Nat) (x1 : Int32) (x2 : Int32) (x3 : Int32) (k103 : AH → Int32 → Option (Int32 × AH)) (k204 : AH → Int32 → Int32 → Int32 → Option (Int32 × AH)) (k219 : AH → Int32 → Int32 → Int32 → Int32 → Option (Int32 × AH)) (A : AH) (x4 : Int32) (x5 : Int32) (x6 : Int32) (x7 : Int32) : Option (Int32 × AH) :=
  bo (aR A 100 0 0) fun q24 => bo (gI 2 A 202 q24) fun v25 => if v25 ≤ x7 then (k204 A x4 x5 (x6 + 1)) else (bo (aR A 111 0 0) fun q26 => bo (dR_ 37 A q26 x6) fun q27 => bo (dI_ 35 A q27 x7) fun v28 => if v28 = 0 then (X0_way_b254 N x1 x2 x3 k103 k204 k219 A x4 x5 x6 x7) else (bd (X0_goesOn N A x6 x7 x5) fun _ A29 => X0_way_b254 N x1 x2 x3 k103 k204 k219 A29 x4 x5 x6 x7))
noncomputable def X0_way_b204 (N : Nat) (x1 : Int32) (x2 : Int32) (x3 : Int32) (k103 : AH → Int32 → Option (Int32 × AH)) (k204 : AH → Int32 → Int32 → Int32 → Option (Int32 × AH)) (A : AH) (x4 : Int32) (x5 : Int32) (x6 : Int32) : Option (Int32 × AH) :=
  bo (aR A 100 0 0) fun q18 => bo (gI 2 A 201 q18) fun v19 => if v19 ≤ x6 then (bo (aR A 111 0 0) fun q20 => bo (aR A 112 0 0) fun q21 => lt2 (wR A 111 0 0 (some q21)) fun A22 => lt2 (wR A22 112 0 0 (some q20)) fun A23 => k103 A23 (x4 + 1)) else (rn5 (X0_way_b219 N x1 x2 x3 k103 k204) N A x4 x5 x6 0)
noncomputable def X0_way_b160 (N : Nat) (x1 : Int32) (x2 : Int32) (x3 : Int32) (k103 : AH → Int32 → Option (Int32 × AH)) (k143 : AH → Int32 → Nat → Int32 → Int32 → Option (Int32 × AH)) (k160 : AH → Int32 → Nat → Int32 → Int32 → Nat → Int32 → Option (Int32 × AH)) (A : AH) (x4 : Int32) (x5 : Nat) (x6 : Int32) (x7 : Int32) (x8 : Nat) (x9 : Int32) : Option (Int32 × AH) :=
  if 8 ≤ x9 then (k143 A x4 x5 x6 (x7 + 1)) else (bo (uI_ 35 A x8 x9 0) fun A31 => k160 A31 x4 x5 x6 x7 x8 (x9 + 1))
noncomputable def X0_way_b143 (N : Nat) (x1 : Int32) (x2 : Int32) (x3 : Int32) (k103 : AH → Int32 → Option (Int32 × AH)) (k143 : AH → Int32 → Nat → Int32 → Int32 → Option (Int32 × AH)) (A : AH) (x4 : Int32) (x5 : Nat) (x6 : Int32) (x7 : Int32) : Option (Int32 × AH) :=
  if x6 ≤ x7 then (bd (X0_openingOf (valF N) A ((aI A 600 16 0) + x4)) fun r16 A17 => rn4 (X0_way_b204 N x1 x2 x3 k103) N A17 x4 r16 0) else (bo (dR_ 37 A x5 x7) fun q30 => rn7 (X0_way_b160 N x1 x2 x3 k103 k143) N A x4 x5 x6 x7 q30 0)
noncomputable def X0_way_b103 (N : Nat) (x1 : Int32) (x2 : Int32) (x3 : Int32) (k103 : AH → Int32 → Option (Int32 × AH)) (A : AH) (x4 : Int32) : Option (Int32 × AH) :=
  bo (X0_isAhead A x4 0 40) fun r10 => if r10 = 0 then (some ((-1), A)) else (bo (aR A 111 0 0) fun q11 => bo (dR_ 37 A q11 x2) fun q12 => bo (dI_ 35 A q12 x3) fun v13 => if v13 = 0 then (bo (aR A 112 0 0) fun q14 => bo (aLn 37 A q14) fun v15 => rn5 (X0_way_b143 N x1 x2 x3 k103) N A x4 q14 v15 0) else (some (x4, A)))
noncomputable def X0_way_b50 (N : Nat) (x1 : Int32) (x2 : Int32) (x3 : Int32) (k33 : AH → Nat → Int32 → Int32 → Option (Int32 × AH)) (k50 : AH → Nat → Int32 → Int32 → Nat → Int32 → Option (Int32 × AH)) (A : AH) (x4 : Nat) (x5 : Int32) (x6 : Int32) (x7 : Nat) (x8 : Int32) : Option (Int32 × AH) :=
  if 8 ≤ x8 then (k33 A x4 x5 (x6 + 1)) else (bo (uI_ 35 A x7 x8 0) fun A33 => k50 A33 x4 x5 x6 x7 (x8 + 1))
noncomputable def X0_way_b33 (N : Nat) (x1 : Int32) (x2 : Int32) (x3 : Int32) (k33 : AH → Nat → Int32 → Int32 → Option (Int32 × AH)) (A : AH) (x4 : Nat) (x5 : Int32) (x6 : Int32) : Option (Int32 × AH) :=
  if x5 ≤ x6 then (bo (aR A 111 0 0) fun q5 => bo (sI 8 31 A 18 x1) fun v6 => bo (dR_ 37 A q5 v6) fun q7 => bo (sI 8 31 A 19 x1) fun v8 => bo (uI_ 35 A q7 v8 1) fun A9 => rn2 (X0_way_b103 N x1 x2 x3) N A9 0) else (bo (dR_ 37 A x4 x6) fun q32 => rn6 (X0_way_b50 N x1 x2 x3 k33) N A x4 x5 x6 q32 0)
noncomputable def X0_way (N : Nat) (A0 : AH) (x1 : Int32) (x2 : Int32) (x3 : Int32) : Option (Int32 × AH) :=
  bo (X0_isBeing A0 x1) fun r1 => if r1 = 0 then (some ((-1), A0)) else (bo (X0_isCell A0 x2 x3) fun r2 => if r2 = 0 then (some ((-1), A0)) else (bo (aR A0 111 0 0) fun q3 => bo (aLn 37 A0 q3) fun v4 => rn4 (X0_way_b33 N x1 x2 x3) N A0 q3 v4 0))
abbrev rX0_way : Room := { frames := 258, cells := 0, slots := 0, locals := 5811 }
set_option maxHeartbeats 4000000 in
theorem zX0_way {l : Launch} {dC : Nat → ClassId} {dI : Nat → Nat → Nat} {ac : Nat → ClassId} {ad : Nat → Nat} {N : Nat} {A0 : AH} {x1 : Int32} {x2 : Int32} {x3 : Int32} {r : Int32} {A' : AH} (hf : X0_way N A0 x1 x2 x3 = some (r, A')) : Met l yX0_way (ws_ yX0_way cX0_way 10 (some .int)) { frames := 258, cells := 0, slots := 0, locals := 5811 } (va_Pc [.ref (ad 0), .int x1, .int x2, .int x3] (cPre dC dI ac ad True A0)) (cQi dC dI ac ad True (aN A0) (aS A0) (aN A0) (aS A0) r A') 0 0 (cF ad) := by
  unfold X0_way at hf
  refine c_of ⟨Nat.le_refl _, Nat.le_refl _⟩ RX0 (plainFor_of_name (by decide)) rfl (Nat.le_of_ble_eq_true rfl) ?_
  intro p e s m args below meth c E hb hr hlk hnm hml hS ls hl
  have hl : lv_has ls 10 [(0, .ref (ad 0)), (1, .int x1), (2, .int x2), (3, .int x3)] := hl
  have hB254 : ∀ (k103 : AH → Int32 → Option (Int32 × AH)) (hk103 : ∀ (A : AH) (x4 : Int32), k103 A x4 = some (r, A') → ∀ (H : Heap) (locs : List Loc), cS dC dI ac ad True s.heap (aN A0) (aS A0) (aN A0) (aS A0) A H locs → ∀ (ls : Array Slot), lv_has ls 10 [(0, .ref (ad 0)), (1, .int x1), (2, .int x2), (3, .int x3), (4, .int x4)] → W p l e rX0_way s m args below meth c H locs 0 0 (MQ below (cQi dC dI ac ad True (aN A0) (aS A0) (aN A0) (aS A0) r A') args s 0 0 (cF ad)) (F0 m 103 ls [])) (k204 : AH → Int32 → Int32 → Int32 → Option (Int32 × AH)) (hk204 : ∀ (A : AH) (x4 : Int32) (x5 : Int32) (x6 : Int32), k204 A x4 x5 x6 = some (r, A') → ∀ (H : Heap) (locs : List Loc), cS dC dI ac ad True s.heap (aN A0) (aS A0) (aN A0) (aS A0) A H locs → ∀ (ls : Array Slot), lv_has ls 10 [(0, .ref (ad 0)), (1, .int x1), (2, .int x2), (3, .int x3), (4, .int x4), (5, .int x5), (6, .int x6)] → W p l e rX0_way s m args below meth c H locs 0 0 (MQ below (cQi dC dI ac ad True (aN A0) (aS A0) (aN A0) (aS A0) r A') args s 0 0 (cF ad)) (F0 m 204 ls [])) (k219 : AH → Int32 → Int32 → Int32 → Int32 → Option (Int32 × AH)) (hk219 : ∀ (A : AH) (x4 : Int32) (x5 : Int32) (x6 : Int32) (x7 : Int32), k219 A x4 x5 x6 x7 = some (r, A') → ∀ (H : Heap) (locs : List Loc), cS dC dI ac ad True s.heap (aN A0) (aS A0) (aN A0) (aS A0) A H locs → ∀ (ls : Array Slot), lv_has ls 10 [(0, .ref (ad 0)), (1, .int x1), (2, .int x2), (3, .int x3), (4, .int x4), (5, .int x5), (6, .int x6), (7, .int x7)] → W p l e rX0_way s m args below meth c H locs 0 0 (MQ below (cQi dC dI ac ad True (aN A0) (aS A0) (aN A0) (aS A0) r A') args s 0 0 (cF ad)) (F0 m 219 ls [])) (A : AH) (x4 : Int32) (x5 : Int32) (x6 : Int32) (x7 : Int32), X0_way_b254 N x1 x2 x3 k103 k204 k219 A x4 x5 x6 x7 = some (r, A') → ∀ (H : Heap) (locs : List Loc), cS dC dI ac ad True s.heap (aN A0) (aS A0) (aN A0) (aS A0) A H locs → ∀ (ls : Array Slot), lv_has ls 10 [(0, .ref (ad 0)), (1, .int x1), (2, .int x2), (3, .int x3), (4, .int x4), (5, .int x5), (6, .int x6), (7, .int x7)] → W p l e rX0_way s m args below meth c H locs 0 0 (MQ below (cQi dC dI ac ad True (aN A0) (aS A0) (aN A0) (aS A0) r A') args s 0 0 (cF ad)) (F0 m 254 ls []) := by
    intro k103 hk103 k204 hk204 k219 hk219 A x4 x5 x6 x7 hf H locs hS ls hl
    unfold X0_way_b254 at hf
    refine lv_iinc (v := (x7 + 1)) (lv' := [(7, .int (x7 + 1)), (0, .ref (ad 0)), (1, .int x1), (2, .int x2), (3, .int x3), (4, .int x4), (5, .int x5), (6, .int x6)]) E.1 hb dX0_way_254 hl (k := 7) rfl rfl (by decide) rfl (fun ls hl => ?_)
    refine lv_goto (tgt := 219) E.1 hb dX0_way_257 (by decide) ?_
    exact hk219 A x4 x5 x6 (x7 + 1) hf _ _ hS _ (lv_sub hl [1, 2, 3, 4, 5, 6, 7, 0] rfl)
  have hL219 : ∀ (k103 : AH → Int32 → Option (Int32 × AH)) (hk103 : ∀ (A : AH) (x4 : Int32), k103 A x4 = some (r, A') → ∀ (H : Heap) (locs : List Loc), cS dC dI ac ad True s.heap (aN A0) (aS A0) (aN A0) (aS A0) A H locs → ∀ (ls : Array Slot), lv_has ls 10 [(0, .ref (ad 0)), (1, .int x1), (2, .int x2), (3, .int x3), (4, .int x4)] → W p l e rX0_way s m args below meth c H locs 0 0 (MQ below (cQi dC dI ac ad True (aN A0) (aS A0) (aN A0) (aS A0) r A') args s 0 0 (cF ad)) (F0 m 103 ls [])) (k204 : AH → Int32 → Int32 → Int32 → Option (Int32 × AH)) (hk204 : ∀ (A : AH) (x4 : Int32) (x5 : Int32) (x6 : Int32), k204 A x4 x5 x6 = some (r, A') → ∀ (H : Heap) (locs : List Loc), cS dC dI ac ad True s.heap (aN A0) (aS A0) (aN A0) (aS A0) A H locs → ∀ (ls : Array Slot), lv_has ls 10 [(0, .ref (ad 0)), (1, .int x1), (2, .int x2), (3, .int x3), (4, .int x4), (5, .int x5), (6, .int x6)] → W p l e rX0_way s m args below meth c H locs 0 0 (MQ below (cQi dC dI ac ad True (aN A0) (aS A0) (aN A0) (aS A0) r A') args s 0 0 (cF ad)) (F0 m 204 ls [])) (n : Nat) (A : AH) (x4 : Int32) (x5 : Int32) (x6 : Int32) (x7 : Int32), rn5 (X0_way_b219 N x1 x2 x3 k103 k204) n A x4 x5 x6 x7 = some (r, A') → ∀ (H : Heap) (locs : List Loc), cS dC dI ac ad True s.heap (aN A0) (aS A0) (aN A0) (aS A0) A H locs → ∀ (ls : Array Slot), lv_has ls 10 [(0, .ref (ad 0)), (1, .int x1), (2, .int x2), (3, .int x3), (4, .int x4), (5, .int x5), (6, .int x6), (7, .int x7)] → W p l e rX0_way s m args below meth c H locs 0 0 (MQ below (cQi dC dI ac ad True (aN A0) (aS A0) (aN A0) (aS A0) r A') args s 0 0 (cF ad)) (F0 m 219 ls []) := by
    intro k103 hk103 k204 hk204 n
    induction n with
    | zero =>
      intro A x4 x5 x6 x7 hf
      cases hf
    | succ n ih =>
      intro A x4 x5 x6 x7 hf H locs hS ls hl
      have hf : X0_way_b219 N x1 x2 x3 k103 k204 (rn5 (X0_way_b219 N x1 x2 x3 k103 k204) n) A x4 x5 x6 x7 = some (r, A') := hf
      have hk219 := ih
      generalize rn5 (X0_way_b219 N x1 x2 x3 k103 k204) n = k219 at hf hk219
      unfold X0_way_b219 at hf
      refine lv_iload E.1 hb dX0_way_219 (lv_at hl 7 rfl) ?_
      refine lv_aload_n E.1 hb dX0_way_221 rfl (lv_at hl 0 rfl) ?_
      obtain ⟨q24, hr7, hf⟩ := bo_s hf
      refine c_gN (k := 0) (f := 100) E hb hS ci_1 (sK hS (by decide) rfl) rfl rfl rfl hr7 fk_X0_31_X0 (fun _ h => h) dX0_way_222 ?_
      obtain ⟨hk, hf⟩ := gI_s hf
      refine c_gI (k := 2) (f := 202) E hb hS ci_2 hk rfl rfl rfl fk_X0_172_X1 (fun _ h => h) dX0_way_225 ?_
      refine lv_icmp_ge (tgt := 260) E.1 hb dX0_way_228 (by decide) (fun hc => ?_) (fun hc => ?_)
      · have hf := it_s hc hf
        refine lv_iinc (v := (x6 + 1)) (lv' := [(6, .int (x6 + 1)), (0, .ref (ad 0)), (1, .int x1), (2, .int x2), (3, .int x3), (4, .int x4), (5, .int x5), (7, .int x7)]) E.1 hb dX0_way_260 hl (k := 6) rfl rfl (by decide) rfl (fun ls hl => ?_)
        refine lv_goto (tgt := 204) E.1 hb dX0_way_263 (by decide) ?_
        exact hk204 A x4 x5 (x6 + 1) hf _ _ hS _ (lv_sub hl [1, 2, 3, 4, 5, 6, 0] rfl)
      · have hf := if_s hc hf
        refine lv_aload_n E.1 hb dX0_way_231 rfl (lv_at hl 0 rfl) ?_
        obtain ⟨q26, hr7, hf⟩ := bo_s hf
        refine c_gN (k := 11) (f := 111) E hb hS ci_1 (sK hS (by decide) rfl) rfl rfl rfl hr7 fk_X0_78_X0 (fun _ h => h) dX0_way_232 ?_
        refine lv_iload E.1 hb dX0_way_235 (lv_at hl 6 rfl) ?_
        obtain ⟨q27, hg, hf⟩ := dR_s hf
        refine d_ald E hb hS (by decide) hg dX0_way_237 ?_
        refine lv_iload E.1 hb dX0_way_238 (lv_at hl 7 rfl) ?_
        obtain ⟨hg, hf⟩ := dI_s hf
        refine d_ld E hb hS hg rfl (Or.inr (Or.inr (Or.inr ⟨rfl, rfl⟩))) dX0_way_240 ?_
        refine lv_if_eq (tgt := 254) E.1 hb dX0_way_241 (by decide) (fun hc => ?_) (fun hc => ?_)
        · have hf := it_s hc hf
          exact hB254 k103 hk103 k204 hk204 k219 hk219 A x4 x5 x6 x7 hf _ _ hS _ (lv_sub hl [0, 1, 2, 3, 4, 5, 6, 7] rfl)
        · have hf := if_s hc hf
          refine lv_aload_n E.1 hb dX0_way_244 rfl (lv_at hl 0 rfl) ?_
          refine lv_iload E.1 hb dX0_way_245 (lv_at hl 6 rfl) ?_
          refine lv_iload E.1 hb dX0_way_247 (lv_at hl 7 rfl) ?_
          refine lv_iload E.1 hb dX0_way_249 (lv_at hl 5 rfl) ?_
          obtain ⟨_, A29, h1, hf⟩ := bd_s hf
          refine c_kv hS (va_runV ⟨E.1, hb, hml, E.2.1, E.2.2.1⟩ (zX0_goesOn h1) (cwV 3 E.2.2.1 gw_X0_315 rfl rfl rfl ⟨rfl, gnX0_goesOn⟩ ⟨Nat.le_of_ble_eq_true rfl, Nat.le_of_ble_eq_true rfl⟩) (c_preV E hS ci_1 (sK hS (by decide) rfl) (hS.1.lt (sK hS (by decide) rfl) rfl) _) rfl rfl hl.1 rfl (lv_room (Nat.le_of_ble_eq_true rfl)) dX0_way_251 ⟨Nat.le_refl 0, Nat.le_refl 0⟩) hS.2.2.2.2 (fun H locs hS hn => ?_)
          exact hB254 k103 hk103 k204 hk204 k219 hk219 A29 x4 x5 x6 x7 hf _ _ hS _ (lv_sub hl [0, 1, 2, 3, 4, 5, 6, 7] rfl)
  have hL204 : ∀ (k103 : AH → Int32 → Option (Int32 × AH)) (hk103 : ∀ (A : AH) (x4 : Int32), k103 A x4 = some (r, A') → ∀ (H : Heap) (locs : List Loc), cS dC dI ac ad True s.heap (aN A0) (aS A0) (aN A0) (aS A0) A H locs → ∀ (ls : Array Slot), lv_has ls 10 [(0, .ref (ad 0)), (1, .int x1), (2, .int x2), (3, .int x3), (4, .int x4)] → W p l e rX0_way s m args below meth c H locs 0 0 (MQ below (cQi dC dI ac ad True (aN A0) (aS A0) (aN A0) (aS A0) r A') args s 0 0 (cF ad)) (F0 m 103 ls [])) (n : Nat) (A : AH) (x4 : Int32) (x5 : Int32) (x6 : Int32), rn4 (X0_way_b204 N x1 x2 x3 k103) n A x4 x5 x6 = some (r, A') → ∀ (H : Heap) (locs : List Loc), cS dC dI ac ad True s.heap (aN A0) (aS A0) (aN A0) (aS A0) A H locs → ∀ (ls : Array Slot), lv_has ls 10 [(0, .ref (ad 0)), (1, .int x1), (2, .int x2), (3, .int x3), (4, .int x4), (5, .int x5), (6, .int x6)] → W p l e rX0_way s m args below meth c H locs 0 0 (MQ below (cQi dC dI ac ad True (aN A0) (aS A0) (aN A0) (aS A0) r A') args s 0 0 (cF ad)) (F0 m 204 ls []) := by
    intro k103 hk103 n
    induction n with
    | zero =>
      intro A x4 x5 x6 hf
      cases hf
    | succ n ih =>
      intro A x4 x5 x6 hf H locs hS ls hl
      have hf : X0_way_b204 N x1 x2 x3 k103 (rn4 (X0_way_b204 N x1 x2 x3 k103) n) A x4 x5 x6 = some (r, A') := hf
      have hk204 := ih
      generalize rn4 (X0_way_b204 N x1 x2 x3 k103) n = k204 at hf hk204
      unfold X0_way_b204 at hf
      refine lv_iload E.1 hb dX0_way_204 (lv_at hl 6 rfl) ?_
      refine lv_aload_n E.1 hb dX0_way_206 rfl (lv_at hl 0 rfl) ?_
      obtain ⟨q18, hr7, hf⟩ := bo_s hf
      refine c_gN (k := 0) (f := 100) E hb hS ci_1 (sK hS (by decide) rfl) rfl rfl rfl hr7 fk_X0_31_X0 (fun _ h => h) dX0_way_207 ?_
      obtain ⟨hk, hf⟩ := gI_s hf
      refine c_gI (k := 1) (f := 201) E hb hS ci_2 hk rfl rfl rfl fk_X0_154_X1 (fun _ h => h) dX0_way_210 ?_
      refine lv_icmp_ge (tgt := 266) E.1 hb dX0_way_213 (by decide) (fun hc => ?_) (fun hc => ?_)
      · have hf := it_s hc hf
        refine lv_aload_n E.1 hb dX0_way_266 rfl (lv_at hl 0 rfl) ?_
        obtain ⟨q20, hr7, hf⟩ := bo_s hf
        refine c_gN (k := 11) (f := 111) E hb hS ci_1 (sK hS (by decide) rfl) rfl rfl rfl hr7 fk_X0_78_X0 (fun _ h => h) dX0_way_267 ?_
        refine lv_astore (lv' := [(6, .ref (ad q20)), (0, .ref (ad 0)), (1, .int x1), (2, .int x2), (3, .int x3), (4, .int x4), (5, .int x5)]) E.1 hb dX0_way_270 hl (by decide) rfl (fun ls hl => ?_)
        refine lv_aload_n E.1 hb dX0_way_272 rfl (lv_at hl 1 rfl) ?_
        refine lv_aload_n E.1 hb dX0_way_273 rfl (lv_at hl 1 rfl) ?_
        obtain ⟨q21, hr7, hf⟩ := bo_s hf
        refine c_gN (k := 12) (f := 112) E hb hS ci_1 (sK hS (by decide) rfl) rfl rfl rfl hr7 fk_X0_81_X0 (fun _ h => h) dX0_way_274 ?_
        obtain ⟨A22, hw, hf⟩ := lt2_s hf
        refine c_pR (k := 11) (f := 111) (r := (some q21)) E hb hS ci_1 (sK hS (by decide) rfl) (hS.1.lt (sK hS (by decide) rfl) rfl) rfl rfl (fun _ => rfl) (Or.inl rfl) fk_X0_78_X0 (fun _ h => h) (fun q => by cases q <;> exact ⟨rfl, rfl⟩) hw dX0_way_277 (fun H locs hS => ?_)
        refine lv_aload_n E.1 hb dX0_way_280 rfl (lv_at hl 1 rfl) ?_
        refine lv_aload E.1 hb dX0_way_281 (lv_at hl 0 rfl) ?_
        obtain ⟨A23, hw, hf⟩ := lt2_s hf
        refine c_pR (k := 12) (f := 112) (r := (some q20)) E hb hS ci_1 (sK hS (by decide) rfl) (hS.1.lt (sK hS (by decide) rfl) rfl) rfl rfl (fun _ => rfl) (Or.inl rfl) fk_X0_81_X0 (fun _ h => h) (fun q => by cases q <;> exact ⟨rfl, rfl⟩) hw dX0_way_283 (fun H locs hS => ?_)
        refine lv_iinc (v := (x4 + 1)) (lv' := [(4, .int (x4 + 1)), (6, .ref (ad q20)), (0, .ref (ad 0)), (1, .int x1), (2, .int x2), (3, .int x3), (5, .int x5)]) E.1 hb dX0_way_286 hl (k := 5) rfl rfl (by decide) rfl (fun ls hl => ?_)
        refine lv_goto (tgt := 103) E.1 hb dX0_way_289 (by decide) ?_
        exact hk103 A23 (x4 + 1) hf _ _ hS _ (lv_sub hl [2, 3, 4, 5, 0] rfl)
      · have hf := if_s hc hf
        refine lv_iconst (v := 0) E.1 hb dX0_way_216 rfl ?_
        refine lv_istore (lv' := [(7, .int 0), (0, .ref (ad 0)), (1, .int x1), (2, .int x2), (3, .int x3), (4, .int x4), (5, .int x5), (6, .int x6)]) E.1 hb dX0_way_217 hl (by decide) rfl (fun ls hl => ?_)
        exact hL219 k103 hk103 k204 hk204 N A x4 x5 x6 0 hf _ _ hS _ (lv_sub hl [1, 2, 3, 4, 5, 6, 7, 0] rfl)
  have hL160 : ∀ (k103 : AH → Int32 → Option (Int32 × AH)) (hk103 : ∀ (A : AH) (x4 : Int32), k103 A x4 = some (r, A') → ∀ (H : Heap) (locs : List Loc), cS dC dI ac ad True s.heap (aN A0) (aS A0) (aN A0) (aS A0) A H locs → ∀ (ls : Array Slot), lv_has ls 10 [(0, .ref (ad 0)), (1, .int x1), (2, .int x2), (3, .int x3), (4, .int x4)] → W p l e rX0_way s m args below meth c H locs 0 0 (MQ below (cQi dC dI ac ad True (aN A0) (aS A0) (aN A0) (aS A0) r A') args s 0 0 (cF ad)) (F0 m 103 ls [])) (k143 : AH → Int32 → Nat → Int32 → Int32 → Option (Int32 × AH)) (hk143 : ∀ (A : AH) (x4 : Int32) (x5 : Nat) (x6 : Int32) (x7 : Int32), k143 A x4 x5 x6 x7 = some (r, A') → ∀ (H : Heap) (locs : List Loc), cS dC dI ac ad True s.heap (aN A0) (aS A0) (aN A0) (aS A0) A H locs → ∀ (ls : Array Slot), lv_has ls 10 [(0, .ref (ad 0)), (1, .int x1), (2, .int x2), (3, .int x3), (4, .int x4), (5, .ref (ad x5)), (6, .int x6), (7, .int x7)] → W p l e rX0_way s m args below meth c H locs 0 0 (MQ below (cQi dC dI ac ad True (aN A0) (aS A0) (aN A0) (aS A0) r A') args s 0 0 (cF ad)) (F0 m 143 ls [])) (n : Nat) (A : AH) (x4 : Int32) (x5 : Nat) (x6 : Int32) (x7 : Int32) (x8 : Nat) (x9 : Int32), rn7 (X0_way_b160 N x1 x2 x3 k103 k143) n A x4 x5 x6 x7 x8 x9 = some (r, A') → ∀ (H : Heap) (locs : List Loc), cS dC dI ac ad True s.heap (aN A0) (aS A0) (aN A0) (aS A0) A H locs → ∀ (ls : Array Slot), lv_has ls 10 [(0, .ref (ad 0)), (1, .int x1), (2, .int x2), (3, .int x3), (4, .int x4), (5, .ref (ad x5)), (6, .int x6), (7, .int x7), (8, .ref (ad x8)), (9, .int x9)] → W p l e rX0_way s m args below meth c H locs 0 0 (MQ below (cQi dC dI ac ad True (aN A0) (aS A0) (aN A0) (aS A0) r A') args s 0 0 (cF ad)) (F0 m 160 ls []) := by
    intro k103 hk103 k143 hk143 n
    induction n with
    | zero =>
      intro A x4 x5 x6 x7 x8 x9 hf
      cases hf
    | succ n ih =>
      intro A x4 x5 x6 x7 x8 x9 hf H locs hS ls hl
      have hf : X0_way_b160 N x1 x2 x3 k103 k143 (rn7 (X0_way_b160 N x1 x2 x3 k103 k143) n) A x4 x5 x6 x7 x8 x9 = some (r, A') := hf
      have hk160 := ih
      generalize rn7 (X0_way_b160 N x1 x2 x3 k103 k143) n = k160 at hf hk160
      unfold X0_way_b160 at hf
      refine lv_iload E.1 hb dX0_way_160 (lv_at hl 9 rfl) ?_
      refine lv_bipush (v := 8) E.1 hb dX0_way_162 rfl ?_
      refine lv_icmp_ge (tgt := 179) E.1 hb dX0_way_164 (by decide) (fun hc => ?_) (fun hc => ?_)
      · have hf := it_s hc hf
        refine lv_iinc (v := (x7 + 1)) (lv' := [(7, .int (x7 + 1)), (0, .ref (ad 0)), (1, .int x1), (2, .int x2), (3, .int x3), (4, .int x4), (5, .ref (ad x5)), (6, .int x6), (8, .ref (ad x8)), (9, .int x9)]) E.1 hb dX0_way_179 hl (k := 7) rfl rfl (by decide) rfl (fun ls hl => ?_)
        refine lv_goto (tgt := 143) E.1 hb dX0_way_182 (by decide) ?_
        exact hk143 A x4 x5 x6 (x7 + 1) hf _ _ hS _ (lv_sub hl [1, 2, 3, 4, 5, 6, 7, 0] rfl)
      · have hf := if_s hc hf
        refine lv_aload E.1 hb dX0_way_167 (lv_at hl 8 rfl) ?_
        refine lv_iload E.1 hb dX0_way_169 (lv_at hl 9 rfl) ?_
        refine lv_iconst (v := 0) E.1 hb dX0_way_171 rfl ?_
        obtain ⟨A31, hg, hw, hf⟩ := uI_s hf
        refine d_st E hb hS hg rfl (Or.inr (Or.inr (Or.inr ⟨rfl, rfl, rfl⟩))) hw dX0_way_172 (fun H locs hS => ?_)
        refine lv_iinc (v := (x9 + 1)) (lv' := [(9, .int (x9 + 1)), (0, .ref (ad 0)), (1, .int x1), (2, .int x2), (3, .int x3), (4, .int x4), (5, .ref (ad x5)), (6, .int x6), (7, .int x7), (8, .ref (ad x8))]) E.1 hb dX0_way_173 hl (k := 9) rfl rfl (by decide) rfl (fun ls hl => ?_)
        refine lv_goto (tgt := 160) E.1 hb dX0_way_176 (by decide) ?_
        exact hk160 A31 x4 x5 x6 x7 x8 (x9 + 1) hf _ _ hS _ (lv_sub hl [1, 2, 3, 4, 5, 6, 7, 8, 9, 0] rfl)
  have hL143 : ∀ (k103 : AH → Int32 → Option (Int32 × AH)) (hk103 : ∀ (A : AH) (x4 : Int32), k103 A x4 = some (r, A') → ∀ (H : Heap) (locs : List Loc), cS dC dI ac ad True s.heap (aN A0) (aS A0) (aN A0) (aS A0) A H locs → ∀ (ls : Array Slot), lv_has ls 10 [(0, .ref (ad 0)), (1, .int x1), (2, .int x2), (3, .int x3), (4, .int x4)] → W p l e rX0_way s m args below meth c H locs 0 0 (MQ below (cQi dC dI ac ad True (aN A0) (aS A0) (aN A0) (aS A0) r A') args s 0 0 (cF ad)) (F0 m 103 ls [])) (n : Nat) (A : AH) (x4 : Int32) (x5 : Nat) (x6 : Int32) (x7 : Int32), rn5 (X0_way_b143 N x1 x2 x3 k103) n A x4 x5 x6 x7 = some (r, A') → ∀ (H : Heap) (locs : List Loc), cS dC dI ac ad True s.heap (aN A0) (aS A0) (aN A0) (aS A0) A H locs → ∀ (ls : Array Slot), lv_has ls 10 [(0, .ref (ad 0)), (1, .int x1), (2, .int x2), (3, .int x3), (4, .int x4), (5, .ref (ad x5)), (6, .int x6), (7, .int x7)] → W p l e rX0_way s m args below meth c H locs 0 0 (MQ below (cQi dC dI ac ad True (aN A0) (aS A0) (aN A0) (aS A0) r A') args s 0 0 (cF ad)) (F0 m 143 ls []) := by
    intro k103 hk103 n
    induction n with
    | zero =>
      intro A x4 x5 x6 x7 hf
      cases hf
    | succ n ih =>
      intro A x4 x5 x6 x7 hf H locs hS ls hl
      have hf : X0_way_b143 N x1 x2 x3 k103 (rn5 (X0_way_b143 N x1 x2 x3 k103) n) A x4 x5 x6 x7 = some (r, A') := hf
      have hk143 := ih
      generalize rn5 (X0_way_b143 N x1 x2 x3 k103) n = k143 at hf hk143
      unfold X0_way_b143 at hf
      refine lv_iload E.1 hb dX0_way_143 (lv_at hl 7 rfl) ?_
      refine lv_iload E.1 hb dX0_way_145 (lv_at hl 6 rfl) ?_
      refine lv_icmp_ge (tgt := 185) E.1 hb dX0_way_147 (by decide) (fun hc => ?_) (fun hc => ?_)
      · have hf := it_s hc hf
        refine lv_aload_n E.1 hb dX0_way_185 rfl (lv_at hl 0 rfl) ?_
        refine lv_aload_n E.1 hb dX0_way_186 rfl (lv_at hl 0 rfl) ?_
        refine c_gN (k := 9) (f := 109) (q := 16) E hb hS ci_1 (sK hS (by decide) rfl) rfl rfl rfl (sRf hS (by decide) rfl) fk_X0_69_X0 (fun _ h => h) dX0_way_187 ?_
        refine c_gI (k := 0) (f := 600) E hb hS ci_6 (sK hS (by decide) rfl) rfl rfl rfl fk_X0_213_X5 (fun _ h => h) dX0_way_190 ?_
        refine lv_iload E.1 hb dX0_way_193 (lv_at hl 4 rfl) ?_
        refine lv_iadd E.1 hb dX0_way_195 ?_
        obtain ⟨r16, A17, h1, hf⟩ := bd_s hf
        refine c_ki hS (va_runV ⟨E.1, hb, hml, E.2.1, E.2.2.1⟩ (zX0_openingOf zvalF h1) (cwV 1 E.2.2.1 gw_X0_216 rfl rfl rfl ⟨rfl, gnX0_openingOf⟩ ⟨by dsimp only; omega, by dsimp only; omega⟩) (c_preV E hS ci_1 (sK hS (by decide) rfl) (hS.1.lt (sK hS (by decide) rfl) rfl) _) rfl rfl hl.1 rfl (lv_room (Nat.le_of_ble_eq_true rfl)) dX0_way_196 ⟨Nat.le_refl 0, Nat.le_refl 0⟩) hS.2.2.2.2 (fun H locs hS hn => ?_)
        refine lv_istore (lv' := [(5, .int r16), (0, .ref (ad 0)), (1, .int x1), (2, .int x2), (3, .int x3), (4, .int x4), (6, .int x6), (7, .int x7)]) E.1 hb dX0_way_199 hl (by decide) rfl (fun ls hl => ?_)
        refine lv_iconst (v := 0) E.1 hb dX0_way_201 rfl ?_
        refine lv_istore (lv' := [(6, .int 0), (5, .int r16), (0, .ref (ad 0)), (1, .int x1), (2, .int x2), (3, .int x3), (4, .int x4), (7, .int x7)]) E.1 hb dX0_way_202 hl (by decide) rfl (fun ls hl => ?_)
        exact hL204 k103 hk103 N A17 x4 r16 0 hf _ _ hS _ (lv_sub hl [2, 3, 4, 5, 6, 1, 0] rfl)
      · have hf := if_s hc hf
        refine lv_aload E.1 hb dX0_way_150 (lv_at hl 5 rfl) ?_
        refine lv_iload E.1 hb dX0_way_152 (lv_at hl 7 rfl) ?_
        obtain ⟨q30, hg, hf⟩ := dR_s hf
        refine d_ald E hb hS (by decide) hg dX0_way_154 ?_
        refine lv_astore (lv' := [(8, .ref (ad q30)), (0, .ref (ad 0)), (1, .int x1), (2, .int x2), (3, .int x3), (4, .int x4), (5, .ref (ad x5)), (6, .int x6), (7, .int x7)]) E.1 hb dX0_way_155 hl (by decide) rfl (fun ls hl => ?_)
        refine lv_iconst (v := 0) E.1 hb dX0_way_157 rfl ?_
        refine lv_istore (lv' := [(9, .int 0), (8, .ref (ad q30)), (0, .ref (ad 0)), (1, .int x1), (2, .int x2), (3, .int x3), (4, .int x4), (5, .ref (ad x5)), (6, .int x6), (7, .int x7)]) E.1 hb dX0_way_158 hl (by decide) rfl (fun ls hl => ?_)
        exact hL160 k103 hk103 k143 hk143 N A x4 x5 x6 x7 q30 0 hf _ _ hS _ (lv_sub hl [2, 3, 4, 5, 6, 7, 8, 9, 1, 0] rfl)
  have hL103 : ∀ (n : Nat) (A : AH) (x4 : Int32), rn2 (X0_way_b103 N x1 x2 x3) n A x4 = some (r, A') → ∀ (H : Heap) (locs : List Loc), cS dC dI ac ad True s.heap (aN A0) (aS A0) (aN A0) (aS A0) A H locs → ∀ (ls : Array Slot), lv_has ls 10 [(0, .ref (ad 0)), (1, .int x1), (2, .int x2), (3, .int x3), (4, .int x4)] → W p l e rX0_way s m args below meth c H locs 0 0 (MQ below (cQi dC dI ac ad True (aN A0) (aS A0) (aN A0) (aS A0) r A') args s 0 0 (cF ad)) (F0 m 103 ls []) := by
    intro  n
    induction n with
    | zero =>
      intro A x4 hf
      cases hf
    | succ n ih =>
      intro A x4 hf H locs hS ls hl
      have hf : X0_way_b103 N x1 x2 x3 (rn2 (X0_way_b103 N x1 x2 x3) n) A x4 = some (r, A') := hf
      have hk103 := ih
      generalize rn2 (X0_way_b103 N x1 x2 x3) n = k103 at hf hk103
      unfold X0_way_b103 at hf
      refine lv_aload_n E.1 hb dX0_way_103 rfl (lv_at hl 0 rfl) ?_
      refine lv_iload E.1 hb dX0_way_104 (lv_at hl 4 rfl) ?_
      refine lv_iconst (v := 0) E.1 hb dX0_way_106 rfl ?_
      refine lv_bipush (v := 40) E.1 hb dX0_way_107 rfl ?_
      obtain ⟨r10, h1, hf⟩ := bo_s hf
      refine c_ki hS (va_runV ⟨E.1, hb, hml, E.2.1, E.2.2.1⟩ (zX0_isAhead h1) (cwV 3 E.2.2.1 gw_X0_279 rfl rfl rfl ⟨rfl, gnX0_isAhead⟩ ⟨Nat.le_of_ble_eq_true rfl, Nat.le_of_ble_eq_true rfl⟩) (c_preV E hS ci_1 (sK hS (by decide) rfl) (hS.1.lt (sK hS (by decide) rfl) rfl) _) rfl rfl hl.1 rfl (lv_room (Nat.le_of_ble_eq_true rfl)) dX0_way_109 ⟨Nat.le_refl 0, Nat.le_refl 0⟩) hS.2.2.2.2 (fun H locs hS hn => ?_)
      refine lv_if_eq (tgt := 292) E.1 hb dX0_way_112 (by decide) (fun hc => ?_) (fun hc => ?_)
      · have hf := it_s hc hf
        refine lv_iconst (v := (-1)) E.1 hb dX0_way_292 rfl ?_
        exact c_ir E hb hr hlk hS ⟨Nat.le_refl 0, Nat.le_refl 0⟩ hf dX0_way_293
      · have hf := if_s hc hf
        refine lv_aload_n E.1 hb dX0_way_115 rfl (lv_at hl 0 rfl) ?_
        obtain ⟨q11, hr7, hf⟩ := bo_s hf
        refine c_gN (k := 11) (f := 111) E hb hS ci_1 (sK hS (by decide) rfl) rfl rfl rfl hr7 fk_X0_78_X0 (fun _ h => h) dX0_way_116 ?_
        refine lv_iload_n E.1 hb dX0_way_119 rfl (lv_at hl 2 rfl) ?_
        obtain ⟨q12, hg, hf⟩ := dR_s hf
        refine d_ald E hb hS (by decide) hg dX0_way_120 ?_
        refine lv_iload_n E.1 hb dX0_way_121 rfl (lv_at hl 3 rfl) ?_
        obtain ⟨hg, hf⟩ := dI_s hf
        refine d_ld E hb hS hg rfl (Or.inr (Or.inr (Or.inr ⟨rfl, rfl⟩))) dX0_way_122 ?_
        refine lv_if_eq (tgt := 129) E.1 hb dX0_way_123 (by decide) (fun hc => ?_) (fun hc => ?_)
        · have hf := it_s hc hf
          refine lv_aload_n E.1 hb dX0_way_129 rfl (lv_at hl 0 rfl) ?_
          obtain ⟨q14, hr7, hf⟩ := bo_s hf
          refine c_gN (k := 12) (f := 112) E hb hS ci_1 (sK hS (by decide) rfl) rfl rfl rfl hr7 fk_X0_81_X0 (fun _ h => h) dX0_way_130 ?_
          refine lv_astore (lv' := [(5, .ref (ad q14)), (0, .ref (ad 0)), (1, .int x1), (2, .int x2), (3, .int x3), (4, .int x4)]) E.1 hb dX0_way_133 hl (by decide) rfl (fun ls hl => ?_)
          refine lv_aload E.1 hb dX0_way_135 (lv_at hl 0 rfl) ?_
          obtain ⟨hk, hf⟩ := aLn_s hf
          refine c_aln E hb hS hk (hS.1.lt hk rfl) (by decide) dX0_way_137 ?_
          refine lv_istore (lv' := [(6, .int (Int32.ofNat (aL A q14))), (5, .ref (ad q14)), (0, .ref (ad 0)), (1, .int x1), (2, .int x2), (3, .int x3), (4, .int x4)]) E.1 hb dX0_way_138 hl (by decide) rfl (fun ls hl => ?_)
          refine lv_iconst (v := 0) E.1 hb dX0_way_140 rfl ?_
          refine lv_istore (lv' := [(7, .int 0), (6, .int (Int32.ofNat (aL A q14))), (5, .ref (ad q14)), (0, .ref (ad 0)), (1, .int x1), (2, .int x2), (3, .int x3), (4, .int x4)]) E.1 hb dX0_way_141 hl (by decide) rfl (fun ls hl => ?_)
          exact hL143 k103 hk103 N A x4 q14 (Int32.ofNat (aL A q14)) 0 hf _ _ hS _ (lv_sub hl [3, 4, 5, 6, 7, 2, 1, 0] rfl)
        · have hf := if_s hc hf
          refine lv_iload E.1 hb dX0_way_126 (lv_at hl 4 rfl) ?_
          exact c_ir E hb hr hlk hS ⟨Nat.le_refl 0, Nat.le_refl 0⟩ hf dX0_way_128
  have hL50 : ∀ (k33 : AH → Nat → Int32 → Int32 → Option (Int32 × AH)) (hk33 : ∀ (A : AH) (x4 : Nat) (x5 : Int32) (x6 : Int32), k33 A x4 x5 x6 = some (r, A') → ∀ (H : Heap) (locs : List Loc), cS dC dI ac ad True s.heap (aN A0) (aS A0) (aN A0) (aS A0) A H locs → ∀ (ls : Array Slot), lv_has ls 10 [(0, .ref (ad 0)), (1, .int x1), (2, .int x2), (3, .int x3), (4, .ref (ad x4)), (5, .int x5), (6, .int x6)] → W p l e rX0_way s m args below meth c H locs 0 0 (MQ below (cQi dC dI ac ad True (aN A0) (aS A0) (aN A0) (aS A0) r A') args s 0 0 (cF ad)) (F0 m 33 ls [])) (n : Nat) (A : AH) (x4 : Nat) (x5 : Int32) (x6 : Int32) (x7 : Nat) (x8 : Int32), rn6 (X0_way_b50 N x1 x2 x3 k33) n A x4 x5 x6 x7 x8 = some (r, A') → ∀ (H : Heap) (locs : List Loc), cS dC dI ac ad True s.heap (aN A0) (aS A0) (aN A0) (aS A0) A H locs → ∀ (ls : Array Slot), lv_has ls 10 [(0, .ref (ad 0)), (1, .int x1), (2, .int x2), (3, .int x3), (4, .ref (ad x4)), (5, .int x5), (6, .int x6), (7, .ref (ad x7)), (8, .int x8)] → W p l e rX0_way s m args below meth c H locs 0 0 (MQ below (cQi dC dI ac ad True (aN A0) (aS A0) (aN A0) (aS A0) r A') args s 0 0 (cF ad)) (F0 m 50 ls []) := by
    intro k33 hk33 n
    induction n with
    | zero =>
      intro A x4 x5 x6 x7 x8 hf
      cases hf
    | succ n ih =>
      intro A x4 x5 x6 x7 x8 hf H locs hS ls hl
      have hf : X0_way_b50 N x1 x2 x3 k33 (rn6 (X0_way_b50 N x1 x2 x3 k33) n) A x4 x5 x6 x7 x8 = some (r, A') := hf
      have hk50 := ih
      generalize rn6 (X0_way_b50 N x1 x2 x3 k33) n = k50 at hf hk50
      unfold X0_way_b50 at hf
      refine lv_iload E.1 hb dX0_way_50 (lv_at hl 8 rfl) ?_
      refine lv_bipush (v := 8) E.1 hb dX0_way_52 rfl ?_
      refine lv_icmp_ge (tgt := 69) E.1 hb dX0_way_54 (by decide) (fun hc => ?_) (fun hc => ?_)
      · have hf := it_s hc hf
        refine lv_iinc (v := (x6 + 1)) (lv' := [(6, .int (x6 + 1)), (0, .ref (ad 0)), (1, .int x1), (2, .int x2), (3, .int x3), (4, .ref (ad x4)), (5, .int x5), (7, .ref (ad x7)), (8, .int x8)]) E.1 hb dX0_way_69 hl (k := 6) rfl rfl (by decide) rfl (fun ls hl => ?_)
        refine lv_goto (tgt := 33) E.1 hb dX0_way_72 (by decide) ?_
        exact hk33 A x4 x5 (x6 + 1) hf _ _ hS _ (lv_sub hl [1, 2, 3, 4, 5, 6, 0] rfl)
      · have hf := if_s hc hf
        refine lv_aload E.1 hb dX0_way_57 (lv_at hl 7 rfl) ?_
        refine lv_iload E.1 hb dX0_way_59 (lv_at hl 8 rfl) ?_
        refine lv_iconst (v := 0) E.1 hb dX0_way_61 rfl ?_
        obtain ⟨A33, hg, hw, hf⟩ := uI_s hf
        refine d_st E hb hS hg rfl (Or.inr (Or.inr (Or.inr ⟨rfl, rfl, rfl⟩))) hw dX0_way_62 (fun H locs hS => ?_)
        refine lv_iinc (v := (x8 + 1)) (lv' := [(8, .int (x8 + 1)), (0, .ref (ad 0)), (1, .int x1), (2, .int x2), (3, .int x3), (4, .ref (ad x4)), (5, .int x5), (6, .int x6), (7, .ref (ad x7))]) E.1 hb dX0_way_63 hl (k := 8) rfl rfl (by decide) rfl (fun ls hl => ?_)
        refine lv_goto (tgt := 50) E.1 hb dX0_way_66 (by decide) ?_
        exact hk50 A33 x4 x5 x6 x7 (x8 + 1) hf _ _ hS _ (lv_sub hl [1, 2, 3, 4, 5, 6, 7, 8, 0] rfl)
  have hL33 : ∀ (n : Nat) (A : AH) (x4 : Nat) (x5 : Int32) (x6 : Int32), rn4 (X0_way_b33 N x1 x2 x3) n A x4 x5 x6 = some (r, A') → ∀ (H : Heap) (locs : List Loc), cS dC dI ac ad True s.heap (aN A0) (aS A0) (aN A0) (aS A0) A H locs → ∀ (ls : Array Slot), lv_has ls 10 [(0, .ref (ad 0)), (1, .int x1), (2, .int x2), (3, .int x3), (4, .ref (ad x4)), (5, .int x5), (6, .int x6)] → W p l e rX0_way s m args below meth c H locs 0 0 (MQ below (cQi dC dI ac ad True (aN A0) (aS A0) (aN A0) (aS A0) r A') args s 0 0 (cF ad)) (F0 m 33 ls []) := by
    intro  n
    induction n with
    | zero =>
      intro A x4 x5 x6 hf
      cases hf
    | succ n ih =>
      intro A x4 x5 x6 hf H locs hS ls hl
      have hf : X0_way_b33 N x1 x2 x3 (rn4 (X0_way_b33 N x1 x2 x3) n) A x4 x5 x6 = some (r, A') := hf
      have hk33 := ih
      generalize rn4 (X0_way_b33 N x1 x2 x3) n = k33 at hf hk33
      unfold X0_way_b33 at hf
      refine lv_iload E.1 hb dX0_way_33 (lv_at hl 6 rfl) ?_
      refine lv_iload E.1 hb dX0_way_35 (lv_at hl 5 rfl) ?_
      refine lv_icmp_ge (tgt := 75) E.1 hb dX0_way_37 (by decide) (fun hc => ?_) (fun hc => ?_)
      · have hf := it_s hc hf
        refine lv_aload_n E.1 hb dX0_way_75 rfl (lv_at hl 0 rfl) ?_
        obtain ⟨q5, hr7, hf⟩ := bo_s hf
        refine c_gN (k := 11) (f := 111) E hb hS ci_1 (sK hS (by decide) rfl) rfl rfl rfl hr7 fk_X0_78_X0 (fun _ h => h) dX0_way_76 ?_
        refine lv_aload_n E.1 hb dX0_way_79 rfl (lv_at hl 0 rfl) ?_
        refine c_gN (k := 9) (f := 109) (q := 16) E hb hS ci_1 (sK hS (by decide) rfl) rfl rfl rfl (sRf hS (by decide) rfl) fk_X0_69_X0 (fun _ h => h) dX0_way_80 ?_
        refine c_gN (k := 3) (f := 603) (q := 18) E hb hS ci_6 (sK hS (by decide) rfl) rfl rfl rfl (sRf hS (by decide) rfl) fk_X0_236_X5 (fun _ h => h) dX0_way_83 ?_
        refine lv_iload_n E.1 hb dX0_way_86 rfl (lv_at hl 1 rfl) ?_
        obtain ⟨hg, hf⟩ := sI_s hf
        refine s_ld E hb hS (t := 31) ⟨by decide, rfl, rfl⟩ hg (Or.inl ⟨rfl, rfl⟩) dX0_way_87 ?_
        obtain ⟨q7, hg, hf⟩ := dR_s hf
        refine d_ald E hb hS (by decide) hg dX0_way_88 ?_
        refine lv_aload_n E.1 hb dX0_way_89 rfl (lv_at hl 0 rfl) ?_
        refine c_gN (k := 9) (f := 109) (q := 16) E hb hS ci_1 (sK hS (by decide) rfl) rfl rfl rfl (sRf hS (by decide) rfl) fk_X0_69_X0 (fun _ h => h) dX0_way_90 ?_
        refine c_gN (k := 4) (f := 604) (q := 19) E hb hS ci_6 (sK hS (by decide) rfl) rfl rfl rfl (sRf hS (by decide) rfl) fk_X0_239_X5 (fun _ h => h) dX0_way_93 ?_
        refine lv_iload_n E.1 hb dX0_way_96 rfl (lv_at hl 1 rfl) ?_
        obtain ⟨hg, hf⟩ := sI_s hf
        refine s_ld E hb hS (t := 31) ⟨by decide, rfl, rfl⟩ hg (Or.inl ⟨rfl, rfl⟩) dX0_way_97 ?_
        refine lv_iconst (v := 1) E.1 hb dX0_way_98 rfl ?_
        obtain ⟨A9, hg, hw, hf⟩ := uI_s hf
        refine d_st E hb hS hg rfl (Or.inr (Or.inr (Or.inr ⟨rfl, rfl, rfl⟩))) hw dX0_way_99 (fun H locs hS => ?_)
        refine lv_iconst (v := 0) E.1 hb dX0_way_100 rfl ?_
        refine lv_istore (lv' := [(4, .int 0), (0, .ref (ad 0)), (1, .int x1), (2, .int x2), (3, .int x3), (5, .int x5), (6, .int x6)]) E.1 hb dX0_way_101 hl (by decide) rfl (fun ls hl => ?_)
        exact hL103 N A9 0 hf _ _ hS _ (lv_sub hl [1, 2, 3, 4, 0] rfl)
      · have hf := if_s hc hf
        refine lv_aload E.1 hb dX0_way_40 (lv_at hl 4 rfl) ?_
        refine lv_iload E.1 hb dX0_way_42 (lv_at hl 6 rfl) ?_
        obtain ⟨q32, hg, hf⟩ := dR_s hf
        refine d_ald E hb hS (by decide) hg dX0_way_44 ?_
        refine lv_astore (lv' := [(7, .ref (ad q32)), (0, .ref (ad 0)), (1, .int x1), (2, .int x2), (3, .int x3), (4, .ref (ad x4)), (5, .int x5), (6, .int x6)]) E.1 hb dX0_way_45 hl (by decide) rfl (fun ls hl => ?_)
        refine lv_iconst (v := 0) E.1 hb dX0_way_47 rfl ?_
        refine lv_istore (lv' := [(8, .int 0), (7, .ref (ad q32)), (0, .ref (ad 0)), (1, .int x1), (2, .int x2), (3, .int x3), (4, .ref (ad x4)), (5, .int x5), (6, .int x6)]) E.1 hb dX0_way_48 hl (by decide) rfl (fun ls hl => ?_)
        exact hL50 k33 hk33 N A x4 x5 x6 q32 0 hf _ _ hS _ (lv_sub hl [2, 3, 4, 5, 6, 7, 8, 1, 0] rfl)
  refine lv_aload_n E.1 hb dX0_way_0 rfl (lv_at hl 0 rfl) ?_
  refine lv_iload_n E.1 hb dX0_way_1 rfl (lv_at hl 1 rfl) ?_
  obtain ⟨r1, h1, hf⟩ := bo_s hf
  refine c_ki hS (va_runV ⟨E.1, hb, hml, E.2.1, E.2.2.1⟩ (zX0_isBeing h1) (cwV 1 E.2.2.1 gw_X0_225 rfl rfl rfl ⟨rfl, gnX0_isBeing⟩ ⟨Nat.le_of_ble_eq_true rfl, Nat.le_of_ble_eq_true rfl⟩) (c_preV E hS ci_1 (sK hS (by decide) rfl) (hS.1.lt (sK hS (by decide) rfl) rfl) _) rfl rfl hl.1 rfl (lv_room (Nat.le_of_ble_eq_true rfl)) dX0_way_2 ⟨Nat.le_refl 0, Nat.le_refl 0⟩) hS.2.2.2.2 (fun H locs hS hn => ?_)
  refine lv_if_eq (tgt := 17) E.1 hb dX0_way_5 (by decide) (fun hc => ?_) (fun hc => ?_)
  · have hf := it_s hc hf
    refine lv_iconst (v := (-1)) E.1 hb dX0_way_17 rfl ?_
    exact c_ir E hb hr hlk hS ⟨Nat.le_refl 0, Nat.le_refl 0⟩ hf dX0_way_18
  · have hf := if_s hc hf
    refine lv_aload_n E.1 hb dX0_way_8 rfl (lv_at hl 0 rfl) ?_
    refine lv_iload_n E.1 hb dX0_way_9 rfl (lv_at hl 2 rfl) ?_
    refine lv_iload_n E.1 hb dX0_way_10 rfl (lv_at hl 3 rfl) ?_
    obtain ⟨r2, h1, hf⟩ := bo_s hf
    refine c_ki hS (va_runV ⟨E.1, hb, hml, E.2.1, E.2.2.1⟩ (zX0_isCell h1) (cwV 2 E.2.2.1 gw_X0_251 rfl rfl rfl ⟨rfl, gnX0_isCell⟩ ⟨Nat.le_of_ble_eq_true rfl, Nat.le_of_ble_eq_true rfl⟩) (c_preV E hS ci_1 (sK hS (by decide) rfl) (hS.1.lt (sK hS (by decide) rfl) rfl) _) rfl rfl hl.1 rfl (lv_room (Nat.le_of_ble_eq_true rfl)) dX0_way_11 ⟨Nat.le_refl 0, Nat.le_refl 0⟩) hS.2.2.2.2 (fun H locs hS hn => ?_)
    refine lv_if_ne (tgt := 19) E.1 hb dX0_way_14 (by decide) (fun hc => ?_) (fun hc => ?_)
    · have hf := if_s hc hf
      refine lv_aload_n E.1 hb dX0_way_19 rfl (lv_at hl 0 rfl) ?_
      obtain ⟨q3, hr7, hf⟩ := bo_s hf
      refine c_gN (k := 11) (f := 111) E hb hS ci_1 (sK hS (by decide) rfl) rfl rfl rfl hr7 fk_X0_78_X0 (fun _ h => h) dX0_way_20 ?_
      refine lv_astore (lv' := [(4, .ref (ad q3)), (0, .ref (ad 0)), (1, .int x1), (2, .int x2), (3, .int x3)]) E.1 hb dX0_way_23 hl (by decide) rfl (fun ls hl => ?_)
      refine lv_aload E.1 hb dX0_way_25 (lv_at hl 0 rfl) ?_
      obtain ⟨hk, hf⟩ := aLn_s hf
      refine c_aln E hb hS hk (hS.1.lt hk rfl) (by decide) dX0_way_27 ?_
      refine lv_istore (lv' := [(5, .int (Int32.ofNat (aL A0 q3))), (4, .ref (ad q3)), (0, .ref (ad 0)), (1, .int x1), (2, .int x2), (3, .int x3)]) E.1 hb dX0_way_28 hl (by decide) rfl (fun ls hl => ?_)
      refine lv_iconst (v := 0) E.1 hb dX0_way_30 rfl ?_
      refine lv_istore (lv' := [(6, .int 0), (5, .int (Int32.ofNat (aL A0 q3))), (4, .ref (ad q3)), (0, .ref (ad 0)), (1, .int x1), (2, .int x2), (3, .int x3)]) E.1 hb dX0_way_31 hl (by decide) rfl (fun ls hl => ?_)
      exact hL33 N A0 q3 (Int32.ofNat (aL A0 q3)) 0 hf _ _ hS _ (lv_sub hl [3, 4, 5, 6, 2, 1, 0] rfl)
    · have hf := it_s hc hf
      refine lv_iconst (v := (-1)) E.1 hb dX0_way_17 rfl ?_
      exact c_ir E hb hr hlk hS ⟨Nat.le_refl 0, Nat.le_refl 0⟩ hf dX0_way_18
/-! MarginFolk.byteAt(I)I: RO -/
noncomputable def X0_byteAt (A : AH) (x1 : Int32) : Option Int32 :=
  bo (sI 1600 33 A 8 x1) fun v1 => some (v1 &&& 255)
abbrev rX0_byteAt : Room := { frames := 0, cells := 0, slots := 0, locals := 0 }
set_option maxHeartbeats 4000000 in
theorem zX0_byteAt {l : Launch} {dC : Nat → ClassId} {dI : Nat → Nat → Nat} {ac : Nat → ClassId} {ad : Nat → Nat} {A : AH} {x1 : Int32} {r : Int32} (hf : X0_byteAt A x1 = some r) : Met l yX0_byteAt (ws_ yX0_byteAt cX0_byteAt 2 (some .int)) { frames := 0, cells := 0, slots := 0, locals := 0 } (va_Pc [.ref (ad 0), .int x1] (cPre dC dI ac ad True A)) (cQi dC dI ac ad True (aN A) (aS A) (aN A) (aS A) r A) 0 0 (cF ad) := by
  unfold X0_byteAt at hf
  refine c_of ⟨Nat.le_refl _, Nat.le_refl _⟩ RX0 (plainFor_of_name (by decide)) rfl (Nat.le_of_ble_eq_true rfl) ?_
  intro p e s m args below meth c E hb hr hlk hnm hml hS ls hl
  have hl : lv_has ls 2 [(0, .ref (ad 0)), (1, .int x1)] := hl
  refine lv_aload_n E.1 hb dX0_byteAt_0 rfl (lv_at hl 0 rfl) ?_
  refine c_gN (k := 1) (f := 101) (q := 8) E hb hS ci_1 (sK hS (by decide) rfl) rfl rfl rfl (sRf hS (by decide) rfl) fk_X0_35_X0 (fun _ h => h) dX0_byteAt_1 ?_
  refine lv_iload_n E.1 hb dX0_byteAt_4 rfl (lv_at hl 1 rfl) ?_
  obtain ⟨hg, hf⟩ := sI_s hf
  refine s_ld E hb hS (t := 33) ⟨by decide, rfl, rfl⟩ hg (Or.inr (Or.inl ⟨rfl, rfl⟩)) dX0_byteAt_5 ?_
  refine lv_sipush (v := 255) E.1 hb dX0_byteAt_6 rfl ?_
  refine lv_iand E.1 hb dX0_byteAt_9 ?_
  exact c_ir E hb hr hlk hS ⟨Nat.le_refl 0, Nat.le_refl 0⟩ (ro_s hf) dX0_byteAt_10
theorem gw_X0_319 : GoodIn lw_all (wsV RX0 319 RX0 yX0_byteAt (ws_ yX0_byteAt cX0_byteAt 2 (some .int))) := lw_V q1528 q1530 qs52 q152 q1531
theorem gnX0_byteAt : yX0_byteAt.cls ≠ "java/lang/invoke/MethodHandle" ∧ yX0_byteAt.cls ≠ "java/lang/invoke/VarHandle" ∧ (parseMethodDescriptor yX0_byteAt.desc).map (fun d => d.parameters.length) = some 1 := by decide +kernel
/-! MarginFolk.see()I: RW -/
noncomputable def X0_see_b98 (N : Nat) (k98 : AH → Int32 → Option (Int32 × AH)) (A : AH) (x3 : Int32) : Option (Int32 × AH) :=
  if (aI A 115 0 0) ≤ x3 then (some ((aI A 115 0 0), A)) else (bo (X0_byteAt A (2 * x3)) fun r4 => bo (tI 16 31 A 126 x3 r4) fun A5 => bo (X0_byteAt A5 ((2 * x3) + 1)) fun r6 => bo (tI 16 31 A5 127 x3 r6) fun A7 => k98 A7 (x3 + 1))
noncomputable def X0_see_b79 (N : Nat) (A : AH) (x1 : Int32) (x2 : Int32) : Option (Int32 × AH) :=
  if x2 = 0 then (bd (X0_refuses A 1) fun r8 A9 => some (r8, A9)) else (lt2 (wI A 115 0 0 (x1 / 2)) fun A3 => rn2 (X0_see_b98 N) N A3 0)
noncomputable def X0_see_b72 (N : Nat) (k29 : AH → Int32 → Int32 → Int32 → Option (Int32 × AH)) (A : AH) (x1 : Int32) (x3 : Int32) (y0 : Int32) : Option (Int32 × AH) :=
  k29 A x1 y0 (x3 + 2)
noncomputable def X0_see_b71 (N : Nat) (k29 : AH → Int32 → Int32 → Int32 → Option (Int32 × AH)) (A : AH) (x1 : Int32) (x3 : Int32) : Option (Int32 × AH) :=
  X0_see_b72 N k29 A x1 x3 0
noncomputable def X0_see_b29 (N : Nat) (k29 : AH → Int32 → Int32 → Int32 → Option (Int32 × AH)) (A : AH) (x1 : Int32) (x2 : Int32) (x3 : Int32) : Option (Int32 × AH) :=
  if x1 ≤ x3 then (X0_see_b79 N A x1 x2) else (if x2 = 0 then (X0_see_b79 N A x1 x2) else (bo (X0_byteAt A x3) fun r10 => bo (X0_isBeing A r10) fun r11 => if r11 = 0 then (X0_see_b71 N k29 A x1 x3) else (bo (X0_byteAt A (x3 + 1)) fun r12 => bo (aR A 100 0 0) fun q13 => bo (gI 2 A 202 q13) fun v14 => if v14 ≤ r12 then (X0_see_b71 N k29 A x1 x3) else (X0_see_b72 N k29 A x1 x3 1))))
noncomputable def X0_see_b26 (N : Nat) (A : AH) (x1 : Int32) (y0 : Int32) : Option (Int32 × AH) :=
  rn4 (X0_see_b29 N) N A x1 y0 0
noncomputable def X0_see_b25 (N : Nat) (A : AH) (x1 : Int32) : Option (Int32 × AH) :=
  X0_see_b26 N A x1 0
noncomputable def X0_see (N : Nat) (A0 : AH) : Option (Int32 × AH) :=
  bd (X0_taken A0) fun r1 A2 => if r1 ≤ 0 then (X0_see_b25 N A2 r1) else (if (r1 - r1 / 2 * 2) = 0 then (if 32 < r1 then (X0_see_b25 N A2 r1) else (X0_see_b26 N A2 r1 1)) else (X0_see_b25 N A2 r1))
abbrev rX0_see : Room := { frames := 3, cells := 0, slots := 0, locals := 61 }
set_option maxHeartbeats 4000000 in
theorem zX0_see {l : Launch} {dC : Nat → ClassId} {dI : Nat → Nat → Nat} {ac : Nat → ClassId} {ad : Nat → Nat} {N : Nat} {A0 : AH} {r : Int32} {A' : AH} (hf : X0_see N A0 = some (r, A')) : Met l yX0_see (ws_ yX0_see cX0_see 4 (some .int)) { frames := 3, cells := 0, slots := 0, locals := 61 } (va_Pc [.ref (ad 0)] (cPre dC dI ac ad True A0)) (cQi dC dI ac ad True (aN A0) (aS A0) (aN A0) (aS A0) r A') 0 0 (cF ad) := by
  unfold X0_see at hf
  refine c_of ⟨Nat.le_refl _, Nat.le_refl _⟩ RX0 (plainFor_of_name (by decide)) rfl (Nat.le_of_ble_eq_true rfl) ?_
  intro p e s m args below meth c E hb hr hlk hnm hml hS ls hl
  have hl : lv_has ls 4 [(0, .ref (ad 0))] := hl
  have hL98 : ∀ (n : Nat) (A : AH) (x3 : Int32), rn2 (X0_see_b98 N) n A x3 = some (r, A') → ∀ (H : Heap) (locs : List Loc), cS dC dI ac ad True s.heap (aN A0) (aS A0) (aN A0) (aS A0) A H locs → ∀ (ls : Array Slot), lv_has ls 4 [(0, .ref (ad 0)), (3, .int x3)] → W p l e rX0_see s m args below meth c H locs 0 0 (MQ below (cQi dC dI ac ad True (aN A0) (aS A0) (aN A0) (aS A0) r A') args s 0 0 (cF ad)) (F0 m 98 ls []) := by
    intro  n
    induction n with
    | zero =>
      intro A x3 hf
      cases hf
    | succ n ih =>
      intro A x3 hf H locs hS ls hl
      have hf : X0_see_b98 N (rn2 (X0_see_b98 N) n) A x3 = some (r, A') := hf
      have hk98 := ih
      generalize rn2 (X0_see_b98 N) n = k98 at hf hk98
      unfold X0_see_b98 at hf
      refine lv_iload_n E.1 hb dX0_see_98 rfl (lv_at hl 1 rfl) ?_
      refine lv_aload_n E.1 hb dX0_see_99 rfl (lv_at hl 0 rfl) ?_
      refine c_gI (k := 15) (f := 115) E hb hS ci_1 (sK hS (by decide) rfl) rfl rfl rfl fk_X0_148_X0 (fun _ h => h) dX0_see_100 ?_
      refine lv_icmp_ge (tgt := 140) E.1 hb dX0_see_103 (by decide) (fun hc => ?_) (fun hc => ?_)
      · have hf := it_s hc hf
        refine lv_aload_n E.1 hb dX0_see_140 rfl (lv_at hl 0 rfl) ?_
        refine c_gI (k := 15) (f := 115) E hb hS ci_1 (sK hS (by decide) rfl) rfl rfl rfl fk_X0_148_X0 (fun _ h => h) dX0_see_141 ?_
        exact c_ir E hb hr hlk hS ⟨Nat.le_refl 0, Nat.le_refl 0⟩ hf dX0_see_144
      · have hf := if_s hc hf
        refine lv_aload_n E.1 hb dX0_see_106 rfl (lv_at hl 0 rfl) ?_
        refine c_gN (k := 13) (f := 113) (q := 126) E hb hS ci_1 (sK hS (by decide) rfl) rfl rfl rfl (sRf hS (by decide) rfl) fk_X0_84_X0 (fun _ h => h) dX0_see_107 ?_
        refine lv_iload_n E.1 hb dX0_see_110 rfl (lv_at hl 1 rfl) ?_
        refine lv_aload_n E.1 hb dX0_see_111 rfl (lv_at hl 0 rfl) ?_
        refine lv_iconst (v := 2) E.1 hb dX0_see_112 rfl ?_
        refine lv_iload_n E.1 hb dX0_see_113 rfl (lv_at hl 1 rfl) ?_
        refine lv_imul E.1 hb dX0_see_114 ?_
        obtain ⟨r4, h1, hf⟩ := bo_s hf
        refine c_ki hS (va_runV ⟨E.1, hb, hml, E.2.1, E.2.2.1⟩ (zX0_byteAt h1) (cwV 1 E.2.2.1 gw_X0_319 rfl rfl rfl ⟨rfl, gnX0_byteAt⟩ ⟨Nat.le_of_ble_eq_true rfl, Nat.le_of_ble_eq_true rfl⟩) (c_preV E hS ci_1 (sK hS (by decide) rfl) (hS.1.lt (sK hS (by decide) rfl) rfl) _) rfl rfl hl.1 rfl (lv_room (Nat.le_of_ble_eq_true rfl)) dX0_see_115 ⟨Nat.le_refl 0, Nat.le_refl 0⟩) hS.2.2.2.2 (fun H locs hS hn => ?_)
        obtain ⟨A5, hg, hw, hf⟩ := tI_s hf
        refine s_st E hb hS (t := 31) ⟨by decide, rfl, rfl⟩ hg (Or.inl ⟨rfl, rfl, rfl⟩) hw dX0_see_118 (fun H locs hS => ?_)
        refine lv_aload_n E.1 hb dX0_see_119 rfl (lv_at hl 0 rfl) ?_
        refine c_gN (k := 14) (f := 114) (q := 127) E hb hS ci_1 (sK hS (by decide) rfl) rfl rfl rfl (sRf hS (by decide) rfl) fk_X0_87_X0 (fun _ h => h) dX0_see_120 ?_
        refine lv_iload_n E.1 hb dX0_see_123 rfl (lv_at hl 1 rfl) ?_
        refine lv_aload_n E.1 hb dX0_see_124 rfl (lv_at hl 0 rfl) ?_
        refine lv_iconst (v := 2) E.1 hb dX0_see_125 rfl ?_
        refine lv_iload_n E.1 hb dX0_see_126 rfl (lv_at hl 1 rfl) ?_
        refine lv_imul E.1 hb dX0_see_127 ?_
        refine lv_iconst (v := 1) E.1 hb dX0_see_128 rfl ?_
        refine lv_iadd E.1 hb dX0_see_129 ?_
        obtain ⟨r6, h1, hf⟩ := bo_s hf
        refine c_ki hS (va_runV ⟨E.1, hb, hml, E.2.1, E.2.2.1⟩ (zX0_byteAt h1) (cwV 1 E.2.2.1 gw_X0_319 rfl rfl rfl ⟨rfl, gnX0_byteAt⟩ ⟨Nat.le_of_ble_eq_true rfl, Nat.le_of_ble_eq_true rfl⟩) (c_preV E hS ci_1 (sK hS (by decide) rfl) (hS.1.lt (sK hS (by decide) rfl) rfl) _) rfl rfl hl.1 rfl (lv_room (Nat.le_of_ble_eq_true rfl)) dX0_see_130 ⟨Nat.le_refl 0, Nat.le_refl 0⟩) hS.2.2.2.2 (fun H locs hS hn => ?_)
        obtain ⟨A7, hg, hw, hf⟩ := tI_s hf
        refine s_st E hb hS (t := 31) ⟨by decide, rfl, rfl⟩ hg (Or.inl ⟨rfl, rfl, rfl⟩) hw dX0_see_133 (fun H locs hS => ?_)
        refine lv_iinc (v := (x3 + 1)) (lv' := [(3, .int (x3 + 1)), (0, .ref (ad 0))]) E.1 hb dX0_see_134 hl (k := 1) rfl rfl (by decide) rfl (fun ls hl => ?_)
        refine lv_goto (tgt := 98) E.1 hb dX0_see_137 (by decide) ?_
        exact hk98 A7 (x3 + 1) hf _ _ hS _ (lv_sub hl [1, 0] rfl)
  have hB79 : ∀ (A : AH) (x1 : Int32) (x2 : Int32), X0_see_b79 N A x1 x2 = some (r, A') → ∀ (H : Heap) (locs : List Loc), cS dC dI ac ad True s.heap (aN A0) (aS A0) (aN A0) (aS A0) A H locs → ∀ (ls : Array Slot), lv_has ls 4 [(0, .ref (ad 0)), (1, .int x1), (2, .int x2)] → W p l e rX0_see s m args below meth c H locs 0 0 (MQ below (cQi dC dI ac ad True (aN A0) (aS A0) (aN A0) (aS A0) r A') args s 0 0 (cF ad)) (F0 m 79 ls []) := by
    intro A x1 x2 hf H locs hS ls hl
    unfold X0_see_b79 at hf
    refine lv_iload_n E.1 hb dX0_see_79 rfl (lv_at hl 2 rfl) ?_
    refine lv_if_ne (tgt := 89) E.1 hb dX0_see_80 (by decide) (fun hc => ?_) (fun hc => ?_)
    · have hf := if_s hc hf
      refine lv_aload_n E.1 hb dX0_see_89 rfl (lv_at hl 0 rfl) ?_
      refine lv_iload_n E.1 hb dX0_see_90 rfl (lv_at hl 1 rfl) ?_
      refine lv_iconst (v := 2) E.1 hb dX0_see_91 rfl ?_
      refine lv_idiv E.1 hb dX0_see_92 (by decide) ?_
      obtain ⟨A3, hw, hf⟩ := lt2_s hf
      refine c_pI (k := 15) (f := 115) E hb hS ci_1 (sK hS (by decide) rfl) (hS.1.lt (sK hS (by decide) rfl) rfl) rfl rfl (Or.inl rfl) fk_X0_148_X0 (fun _ h => h) rfl rfl hw dX0_see_93 (fun H locs hS => ?_)
      refine lv_iconst (v := 0) E.1 hb dX0_see_96 rfl ?_
      refine lv_istore_n (lv' := [(3, .int 0), (0, .ref (ad 0)), (1, .int x1), (2, .int x2)]) E.1 hb dX0_see_97 rfl hl (by decide) rfl (fun ls hl => ?_)
      exact hL98 N A3 0 hf _ _ hS _ (lv_sub hl [1, 0] rfl)
    · have hf := it_s hc hf
      refine lv_aload_n E.1 hb dX0_see_83 rfl (lv_at hl 0 rfl) ?_
      refine lv_iconst (v := 1) E.1 hb dX0_see_84 rfl ?_
      obtain ⟨r8, A9, h1, hf⟩ := bd_s hf
      refine c_ki hS (va_runV ⟨E.1, hb, hml, E.2.1, E.2.2.1⟩ (zX0_refuses h1) (cwV 1 E.2.2.1 gw_X0_115 rfl rfl rfl ⟨rfl, gnX0_refuses⟩ ⟨Nat.le_of_ble_eq_true rfl, Nat.le_of_ble_eq_true rfl⟩) (c_preV E hS ci_1 (sK hS (by decide) rfl) (hS.1.lt (sK hS (by decide) rfl) rfl) _) rfl rfl hl.1 rfl (lv_room (Nat.le_of_ble_eq_true rfl)) dX0_see_85 ⟨Nat.le_refl 0, Nat.le_refl 0⟩) hS.2.2.2.2 (fun H locs hS hn => ?_)
      exact c_ir E hb hr hlk hS ⟨Nat.le_refl 0, Nat.le_refl 0⟩ hf dX0_see_88
  have hB72 : ∀ (k29 : AH → Int32 → Int32 → Int32 → Option (Int32 × AH)) (hk29 : ∀ (A : AH) (x1 : Int32) (x2 : Int32) (x3 : Int32), k29 A x1 x2 x3 = some (r, A') → ∀ (H : Heap) (locs : List Loc), cS dC dI ac ad True s.heap (aN A0) (aS A0) (aN A0) (aS A0) A H locs → ∀ (ls : Array Slot), lv_has ls 4 [(0, .ref (ad 0)), (1, .int x1), (2, .int x2), (3, .int x3)] → W p l e rX0_see s m args below meth c H locs 0 0 (MQ below (cQi dC dI ac ad True (aN A0) (aS A0) (aN A0) (aS A0) r A') args s 0 0 (cF ad)) (F0 m 29 ls [])) (A : AH) (x1 : Int32) (x3 : Int32) (y0 : Int32), X0_see_b72 N k29 A x1 x3 y0 = some (r, A') → ∀ (H : Heap) (locs : List Loc), cS dC dI ac ad True s.heap (aN A0) (aS A0) (aN A0) (aS A0) A H locs → ∀ (ls : Array Slot), lv_has ls 4 [(0, .ref (ad 0)), (1, .int x1), (3, .int x3)] → W p l e rX0_see s m args below meth c H locs 0 0 (MQ below (cQi dC dI ac ad True (aN A0) (aS A0) (aN A0) (aS A0) r A') args s 0 0 (cF ad)) (F0 m 72 ls [.int y0]) := by
    intro k29 hk29 A x1 x3 y0 hf H locs hS ls hl
    unfold X0_see_b72 at hf
    refine lv_istore_n (lv' := [(2, .int y0), (0, .ref (ad 0)), (1, .int x1), (3, .int x3)]) E.1 hb dX0_see_72 rfl hl (by decide) rfl (fun ls hl => ?_)
    refine lv_iinc (v := (x3 + 2)) (lv' := [(3, .int (x3 + 2)), (2, .int y0), (0, .ref (ad 0)), (1, .int x1)]) E.1 hb dX0_see_73 hl (k := 3) rfl rfl (by decide) rfl (fun ls hl => ?_)
    refine lv_goto (tgt := 29) E.1 hb dX0_see_76 (by decide) ?_
    exact hk29 A x1 y0 (x3 + 2) hf _ _ hS _ (lv_sub hl [2, 3, 1, 0] rfl)
  have hB71 : ∀ (k29 : AH → Int32 → Int32 → Int32 → Option (Int32 × AH)) (hk29 : ∀ (A : AH) (x1 : Int32) (x2 : Int32) (x3 : Int32), k29 A x1 x2 x3 = some (r, A') → ∀ (H : Heap) (locs : List Loc), cS dC dI ac ad True s.heap (aN A0) (aS A0) (aN A0) (aS A0) A H locs → ∀ (ls : Array Slot), lv_has ls 4 [(0, .ref (ad 0)), (1, .int x1), (2, .int x2), (3, .int x3)] → W p l e rX0_see s m args below meth c H locs 0 0 (MQ below (cQi dC dI ac ad True (aN A0) (aS A0) (aN A0) (aS A0) r A') args s 0 0 (cF ad)) (F0 m 29 ls [])) (A : AH) (x1 : Int32) (x3 : Int32), X0_see_b71 N k29 A x1 x3 = some (r, A') → ∀ (H : Heap) (locs : List Loc), cS dC dI ac ad True s.heap (aN A0) (aS A0) (aN A0) (aS A0) A H locs → ∀ (ls : Array Slot), lv_has ls 4 [(0, .ref (ad 0)), (1, .int x1), (3, .int x3)] → W p l e rX0_see s m args below meth c H locs 0 0 (MQ below (cQi dC dI ac ad True (aN A0) (aS A0) (aN A0) (aS A0) r A') args s 0 0 (cF ad)) (F0 m 71 ls []) := by
    intro k29 hk29 A x1 x3 hf H locs hS ls hl
    unfold X0_see_b71 at hf
    refine lv_iconst (v := 0) E.1 hb dX0_see_71 rfl ?_
    exact hB72 k29 hk29 A x1 x3 0 hf _ _ hS _ (lv_sub hl [0, 1, 2] rfl)
  have hL29 : ∀ (n : Nat) (A : AH) (x1 : Int32) (x2 : Int32) (x3 : Int32), rn4 (X0_see_b29 N) n A x1 x2 x3 = some (r, A') → ∀ (H : Heap) (locs : List Loc), cS dC dI ac ad True s.heap (aN A0) (aS A0) (aN A0) (aS A0) A H locs → ∀ (ls : Array Slot), lv_has ls 4 [(0, .ref (ad 0)), (1, .int x1), (2, .int x2), (3, .int x3)] → W p l e rX0_see s m args below meth c H locs 0 0 (MQ below (cQi dC dI ac ad True (aN A0) (aS A0) (aN A0) (aS A0) r A') args s 0 0 (cF ad)) (F0 m 29 ls []) := by
    intro  n
    induction n with
    | zero =>
      intro A x1 x2 x3 hf
      cases hf
    | succ n ih =>
      intro A x1 x2 x3 hf H locs hS ls hl
      have hf : X0_see_b29 N (rn4 (X0_see_b29 N) n) A x1 x2 x3 = some (r, A') := hf
      have hk29 := ih
      generalize rn4 (X0_see_b29 N) n = k29 at hf hk29
      unfold X0_see_b29 at hf
      refine lv_iload_n E.1 hb dX0_see_29 rfl (lv_at hl 3 rfl) ?_
      refine lv_iload_n E.1 hb dX0_see_30 rfl (lv_at hl 1 rfl) ?_
      refine lv_icmp_ge (tgt := 79) E.1 hb dX0_see_31 (by decide) (fun hc => ?_) (fun hc => ?_)
      · have hf := it_s hc hf
        exact hB79 A x1 x2 hf _ _ hS _ (lv_sub hl [0, 1, 2] rfl)
      · have hf := if_s hc hf
        refine lv_iload_n E.1 hb dX0_see_34 rfl (lv_at hl 2 rfl) ?_
        refine lv_if_eq (tgt := 79) E.1 hb dX0_see_35 (by decide) (fun hc => ?_) (fun hc => ?_)
        · have hf := it_s hc hf
          exact hB79 A x1 x2 hf _ _ hS _ (lv_sub hl [0, 1, 2] rfl)
        · have hf := if_s hc hf
          refine lv_aload_n E.1 hb dX0_see_38 rfl (lv_at hl 0 rfl) ?_
          refine lv_aload_n E.1 hb dX0_see_39 rfl (lv_at hl 0 rfl) ?_
          refine lv_iload_n E.1 hb dX0_see_40 rfl (lv_at hl 3 rfl) ?_
          obtain ⟨r10, h1, hf⟩ := bo_s hf
          refine c_ki hS (va_runV ⟨E.1, hb, hml, E.2.1, E.2.2.1⟩ (zX0_byteAt h1) (cwV 1 E.2.2.1 gw_X0_319 rfl rfl rfl ⟨rfl, gnX0_byteAt⟩ ⟨Nat.le_of_ble_eq_true rfl, Nat.le_of_ble_eq_true rfl⟩) (c_preV E hS ci_1 (sK hS (by decide) rfl) (hS.1.lt (sK hS (by decide) rfl) rfl) _) rfl rfl hl.1 rfl (lv_room (Nat.le_of_ble_eq_true rfl)) dX0_see_41 ⟨Nat.le_refl 0, Nat.le_refl 0⟩) hS.2.2.2.2 (fun H locs hS hn => ?_)
          obtain ⟨r11, h1, hf⟩ := bo_s hf
          refine c_ki hS (va_runV ⟨E.1, hb, hml, E.2.1, E.2.2.1⟩ (zX0_isBeing h1) (cwV 1 E.2.2.1 gw_X0_225 rfl rfl rfl ⟨rfl, gnX0_isBeing⟩ ⟨Nat.le_of_ble_eq_true rfl, Nat.le_of_ble_eq_true rfl⟩) (c_preV E hS ci_1 (sK hS (by decide) rfl) (hS.1.lt (sK hS (by decide) rfl) rfl) _) rfl rfl hl.1 rfl (lv_room (Nat.le_of_ble_eq_true rfl)) dX0_see_44 ⟨Nat.le_refl 0, Nat.le_refl 0⟩) hS.2.2.2.2 (fun H locs hS hn => ?_)
          refine lv_if_eq (tgt := 71) E.1 hb dX0_see_47 (by decide) (fun hc => ?_) (fun hc => ?_)
          · have hf := it_s hc hf
            exact hB71 k29 hk29 A x1 x3 hf _ _ hS _ (lv_sub hl [0, 1, 3] rfl)
          · have hf := if_s hc hf
            refine lv_aload_n E.1 hb dX0_see_50 rfl (lv_at hl 0 rfl) ?_
            refine lv_iload_n E.1 hb dX0_see_51 rfl (lv_at hl 3 rfl) ?_
            refine lv_iconst (v := 1) E.1 hb dX0_see_52 rfl ?_
            refine lv_iadd E.1 hb dX0_see_53 ?_
            obtain ⟨r12, h1, hf⟩ := bo_s hf
            refine c_ki hS (va_runV ⟨E.1, hb, hml, E.2.1, E.2.2.1⟩ (zX0_byteAt h1) (cwV 1 E.2.2.1 gw_X0_319 rfl rfl rfl ⟨rfl, gnX0_byteAt⟩ ⟨Nat.le_of_ble_eq_true rfl, Nat.le_of_ble_eq_true rfl⟩) (c_preV E hS ci_1 (sK hS (by decide) rfl) (hS.1.lt (sK hS (by decide) rfl) rfl) _) rfl rfl hl.1 rfl (lv_room (Nat.le_of_ble_eq_true rfl)) dX0_see_54 ⟨Nat.le_refl 0, Nat.le_refl 0⟩) hS.2.2.2.2 (fun H locs hS hn => ?_)
            refine lv_aload_n E.1 hb dX0_see_57 rfl (lv_at hl 0 rfl) ?_
            obtain ⟨q13, hr7, hf⟩ := bo_s hf
            refine c_gN (k := 0) (f := 100) E hb hS ci_1 (sK hS (by decide) rfl) rfl rfl rfl hr7 fk_X0_31_X0 (fun _ h => h) dX0_see_58 ?_
            obtain ⟨hk, hf⟩ := gI_s hf
            refine c_gI (k := 2) (f := 202) E hb hS ci_2 hk rfl rfl rfl fk_X0_172_X1 (fun _ h => h) dX0_see_61 ?_
            refine lv_icmp_ge (tgt := 71) E.1 hb dX0_see_64 (by decide) (fun hc => ?_) (fun hc => ?_)
            · have hf := it_s hc hf
              exact hB71 k29 hk29 A x1 x3 hf _ _ hS _ (lv_sub hl [0, 1, 3] rfl)
            · have hf := if_s hc hf
              refine lv_iconst (v := 1) E.1 hb dX0_see_67 rfl ?_
              refine lv_goto (tgt := 72) E.1 hb dX0_see_68 (by decide) ?_
              exact hB72 k29 hk29 A x1 x3 1 hf _ _ hS _ (lv_sub hl [0, 1, 3] rfl)
  have hB26 : ∀ (A : AH) (x1 : Int32) (y0 : Int32), X0_see_b26 N A x1 y0 = some (r, A') → ∀ (H : Heap) (locs : List Loc), cS dC dI ac ad True s.heap (aN A0) (aS A0) (aN A0) (aS A0) A H locs → ∀ (ls : Array Slot), lv_has ls 4 [(0, .ref (ad 0)), (1, .int x1)] → W p l e rX0_see s m args below meth c H locs 0 0 (MQ below (cQi dC dI ac ad True (aN A0) (aS A0) (aN A0) (aS A0) r A') args s 0 0 (cF ad)) (F0 m 26 ls [.int y0]) := by
    intro A x1 y0 hf H locs hS ls hl
    unfold X0_see_b26 at hf
    refine lv_istore_n (lv' := [(2, .int y0), (0, .ref (ad 0)), (1, .int x1)]) E.1 hb dX0_see_26 rfl hl (by decide) rfl (fun ls hl => ?_)
    refine lv_iconst (v := 0) E.1 hb dX0_see_27 rfl ?_
    refine lv_istore_n (lv' := [(3, .int 0), (2, .int y0), (0, .ref (ad 0)), (1, .int x1)]) E.1 hb dX0_see_28 rfl hl (by decide) rfl (fun ls hl => ?_)
    exact hL29 N A x1 y0 0 hf _ _ hS _ (lv_sub hl [2, 3, 1, 0] rfl)
  have hB25 : ∀ (A : AH) (x1 : Int32), X0_see_b25 N A x1 = some (r, A') → ∀ (H : Heap) (locs : List Loc), cS dC dI ac ad True s.heap (aN A0) (aS A0) (aN A0) (aS A0) A H locs → ∀ (ls : Array Slot), lv_has ls 4 [(0, .ref (ad 0)), (1, .int x1)] → W p l e rX0_see s m args below meth c H locs 0 0 (MQ below (cQi dC dI ac ad True (aN A0) (aS A0) (aN A0) (aS A0) r A') args s 0 0 (cF ad)) (F0 m 25 ls []) := by
    intro A x1 hf H locs hS ls hl
    unfold X0_see_b25 at hf
    refine lv_iconst (v := 0) E.1 hb dX0_see_25 rfl ?_
    exact hB26 A x1 0 hf _ _ hS _ (lv_sub hl [0, 1] rfl)
  refine lv_aload_n E.1 hb dX0_see_0 rfl (lv_at hl 0 rfl) ?_
  obtain ⟨r1, A2, h1, hf⟩ := bd_s hf
  refine c_ki hS (va_runV ⟨E.1, hb, hml, E.2.1, E.2.2.1⟩ (zX0_taken h1) (cwV 0 E.2.2.1 gw_X0_126 rfl rfl rfl ⟨rfl, gnX0_taken⟩ ⟨Nat.le_of_ble_eq_true rfl, Nat.le_of_ble_eq_true rfl⟩) (c_preV E hS ci_1 (sK hS (by decide) rfl) (hS.1.lt (sK hS (by decide) rfl) rfl) _) rfl rfl hl.1 rfl (lv_room (Nat.le_of_ble_eq_true rfl)) dX0_see_1 ⟨Nat.le_refl 0, Nat.le_refl 0⟩) hS.2.2.2.2 (fun H locs hS hn => ?_)
  refine lv_istore_n (lv' := [(1, .int r1), (0, .ref (ad 0))]) E.1 hb dX0_see_4 rfl hl (by decide) rfl (fun ls hl => ?_)
  refine lv_iload_n E.1 hb dX0_see_5 rfl (lv_at hl 0 rfl) ?_
  refine lv_if_le (tgt := 25) E.1 hb dX0_see_6 (by decide) (fun hc => ?_) (fun hc => ?_)
  · have hf := it_s hc hf
    exact hB25 A2 r1 hf _ _ hS _ (lv_sub hl [1, 0] rfl)
  · have hf := if_s hc hf
    refine lv_iload_n E.1 hb dX0_see_9 rfl (lv_at hl 0 rfl) ?_
    refine lv_iconst (v := 2) E.1 hb dX0_see_10 rfl ?_
    refine lv_irem E.1 hb dX0_see_11 (by decide) ?_
    refine lv_if_ne (tgt := 25) E.1 hb dX0_see_12 (by decide) (fun hc => ?_) (fun hc => ?_)
    · have hf := if_s hc hf
      exact hB25 A2 r1 hf _ _ hS _ (lv_sub hl [1, 0] rfl)
    · have hf := it_s hc hf
      refine lv_iload_n E.1 hb dX0_see_15 rfl (lv_at hl 0 rfl) ?_
      refine lv_bipush (v := 32) E.1 hb dX0_see_16 rfl ?_
      refine lv_icmp_gt (tgt := 25) E.1 hb dX0_see_18 (by decide) (fun hc => ?_) (fun hc => ?_)
      · have hf := it_s hc hf
        exact hB25 A2 r1 hf _ _ hS _ (lv_sub hl [1, 0] rfl)
      · have hf := if_s hc hf
        refine lv_iconst (v := 1) E.1 hb dX0_see_21 rfl ?_
        refine lv_goto (tgt := 26) E.1 hb dX0_see_22 (by decide) ?_
        exact hB26 A2 r1 1 hf _ _ hS _ (lv_sub hl [1, 0] rfl)
/-! MarginFolk.canLie(I)Z: RW -/
noncomputable def X0_canLie_b17 (N : Nat) (x1 : Int32) (k17 : AH → Int32 → Option (Int32 × AH)) (A : AH) (x2 : Int32) : Option (Int32 × AH) :=
  if (aI A 115 0 0) ≤ x2 then (some (1, A)) else (bo (sI 16 31 A 126 x2) fun v5 => bo (sI 8 31 A 67 v5) fun v6 => bo (sI 16 31 A 127 x2) fun v7 => if v6 = v7 then (k17 A (x2 + 1)) else (some (0, A)))
noncomputable def X0_canLie (N : Nat) (A0 : AH) (x1 : Int32) : Option (Int32 × AH) :=
  bd (X5_copy N A0 64 16) fun r1 A2 => bo r1 fun q3 => if aK A2 q3 = 6 then ( bd (X5_passes N A2 q3 x1) fun _ A4 => rn2 (X0_canLie_b17 N x1) N A4 0) else none
abbrev rX0_canLie : Room := { frames := 8226, cells := 0, slots := 0, locals := 185333 }
set_option maxHeartbeats 4000000 in
theorem zX0_canLie {l : Launch} {dC : Nat → ClassId} {dI : Nat → Nat → Nat} {ac : Nat → ClassId} {ad : Nat → Nat} {N : Nat} {A0 : AH} {x1 : Int32} {r : Int32} {A' : AH} (hf : X0_canLie N A0 x1 = some (r, A')) : Met l yX0_canLie (ws_ yX0_canLie cX0_canLie 3 (some .boolean)) { frames := 8226, cells := 0, slots := 0, locals := 185333 } (va_Pc [.ref (ad 0), .int x1] (cPre dC dI ac ad True A0)) (cQi dC dI ac ad True (aN A0) (aS A0) (aN A0) (aS A0) r A') 0 0 (cF ad) := by
  unfold X0_canLie at hf
  refine c_of ⟨Nat.le_refl _, Nat.le_refl _⟩ RX0 (plainFor_of_name (by decide)) rfl (Nat.le_of_ble_eq_true rfl) ?_
  intro p e s m args below meth c E hb hr hlk hnm hml hS ls hl
  have hl : lv_has ls 3 [(0, .ref (ad 0)), (1, .int x1)] := hl
  have hL17 : ∀ (n : Nat) (A : AH) (x2 : Int32), rn2 (X0_canLie_b17 N x1) n A x2 = some (r, A') → ∀ (H : Heap) (locs : List Loc), cS dC dI ac ad True s.heap (aN A0) (aS A0) (aN A0) (aS A0) A H locs → ∀ (ls : Array Slot), lv_has ls 3 [(0, .ref (ad 0)), (1, .int x1), (2, .int x2)] → W p l e rX0_canLie s m args below meth c H locs 0 0 (MQ below (cQi dC dI ac ad True (aN A0) (aS A0) (aN A0) (aS A0) r A') args s 0 0 (cF ad)) (F0 m 17 ls []) := by
    intro  n
    induction n with
    | zero =>
      intro A x2 hf
      cases hf
    | succ n ih =>
      intro A x2 hf H locs hS ls hl
      have hf : X0_canLie_b17 N x1 (rn2 (X0_canLie_b17 N x1) n) A x2 = some (r, A') := hf
      have hk17 := ih
      generalize rn2 (X0_canLie_b17 N x1) n = k17 at hf hk17
      unfold X0_canLie_b17 at hf
      refine lv_iload_n E.1 hb dX0_canLie_17 rfl (lv_at hl 2 rfl) ?_
      refine lv_aload_n E.1 hb dX0_canLie_18 rfl (lv_at hl 0 rfl) ?_
      refine c_gI (k := 15) (f := 115) E hb hS ci_1 (sK hS (by decide) rfl) rfl rfl rfl fk_X0_148_X0 (fun _ h => h) dX0_canLie_19 ?_
      refine lv_icmp_ge (tgt := 56) E.1 hb dX0_canLie_22 (by decide) (fun hc => ?_) (fun hc => ?_)
      · have hf := it_s hc hf
        refine lv_iconst (v := 1) E.1 hb dX0_canLie_56 rfl ?_
        exact c_zr (ty := .boolean) E hb hr hlk hS ⟨Nat.le_refl 0, Nat.le_refl 0⟩ rfl hf dX0_canLie_57
      · have hf := if_s hc hf
        refine lv_aload_n E.1 hb dX0_canLie_25 rfl (lv_at hl 0 rfl) ?_
        refine c_gN (k := 10) (f := 110) (q := 64) E hb hS ci_1 (sK hS (by decide) rfl) rfl rfl rfl (sRf hS (by decide) rfl) fk_X0_73_X0 (fun _ h => h) dX0_canLie_26 ?_
        refine c_gN (k := 4) (f := 604) (q := 67) E hb hS ci_6 (sK hS (by decide) rfl) rfl rfl rfl (sRf hS (by decide) rfl) fk_X0_239_X5 (fun _ h => h) dX0_canLie_29 ?_
        refine lv_aload_n E.1 hb dX0_canLie_32 rfl (lv_at hl 0 rfl) ?_
        refine c_gN (k := 13) (f := 113) (q := 126) E hb hS ci_1 (sK hS (by decide) rfl) rfl rfl rfl (sRf hS (by decide) rfl) fk_X0_84_X0 (fun _ h => h) dX0_canLie_33 ?_
        refine lv_iload_n E.1 hb dX0_canLie_36 rfl (lv_at hl 2 rfl) ?_
        obtain ⟨hg, hf⟩ := sI_s hf
        refine s_ld E hb hS (t := 31) ⟨by decide, rfl, rfl⟩ hg (Or.inl ⟨rfl, rfl⟩) dX0_canLie_37 ?_
        obtain ⟨hg, hf⟩ := sI_s hf
        refine s_ld E hb hS (t := 31) ⟨by decide, rfl, rfl⟩ hg (Or.inl ⟨rfl, rfl⟩) dX0_canLie_38 ?_
        refine lv_aload_n E.1 hb dX0_canLie_39 rfl (lv_at hl 0 rfl) ?_
        refine c_gN (k := 14) (f := 114) (q := 127) E hb hS ci_1 (sK hS (by decide) rfl) rfl rfl rfl (sRf hS (by decide) rfl) fk_X0_87_X0 (fun _ h => h) dX0_canLie_40 ?_
        refine lv_iload_n E.1 hb dX0_canLie_43 rfl (lv_at hl 2 rfl) ?_
        obtain ⟨hg, hf⟩ := sI_s hf
        refine s_ld E hb hS (t := 31) ⟨by decide, rfl, rfl⟩ hg (Or.inl ⟨rfl, rfl⟩) dX0_canLie_44 ?_
        refine lv_icmp_eq (tgt := 50) E.1 hb dX0_canLie_45 (by decide) (fun hc => ?_) (fun hc => ?_)
        · have hf := it_s hc hf
          refine lv_iinc (v := (x2 + 1)) (lv' := [(2, .int (x2 + 1)), (0, .ref (ad 0)), (1, .int x1)]) E.1 hb dX0_canLie_50 hl (k := 2) rfl rfl (by decide) rfl (fun ls hl => ?_)
          refine lv_goto (tgt := 17) E.1 hb dX0_canLie_53 (by decide) ?_
          exact hk17 A (x2 + 1) hf _ _ hS _ (lv_sub hl [1, 2, 0] rfl)
        · have hf := if_s hc hf
          refine lv_iconst (v := 0) E.1 hb dX0_canLie_48 rfl ?_
          exact c_zr (ty := .boolean) E hb hr hlk hS ⟨Nat.le_refl 0, Nat.le_refl 0⟩ rfl hf dX0_canLie_49
  refine lv_aload_n E.1 hb dX0_canLie_0 rfl (lv_at hl 0 rfl) ?_
  refine c_gN (k := 10) (f := 110) (q := 64) E hb hS ci_1 (sK hS (by decide) rfl) rfl rfl rfl (sRf hS (by decide) rfl) fk_X0_73_X0 (fun _ h => h) dX0_canLie_1 ?_
  refine lv_aload_n E.1 hb dX0_canLie_4 rfl (lv_at hl 0 rfl) ?_
  refine c_gN (k := 9) (f := 109) (q := 16) E hb hS ci_1 (sK hS (by decide) rfl) rfl rfl rfl (sRf hS (by decide) rfl) fk_X0_69_X0 (fun _ h => h) dX0_canLie_5 ?_
  obtain ⟨r1, A2, h1, hf⟩ := bd_s hf
  refine c_kq hS (va_runV ⟨E.1, hb, hml, E.2.1, E.2.2.1⟩ (zX5_copy h1) (cwV 1 E.2.2.1 gw_X0_286 rfl rfl rfl ⟨rfl, gnX5_copy⟩ ⟨Nat.le_of_ble_eq_true rfl, Nat.le_of_ble_eq_true rfl⟩) (c_preV E hS ci_6 (sK hS (by decide) rfl) (hS.1.lt (sK hS (by decide) rfl) rfl) _) rfl rfl hl.1 rfl (lv_room (Nat.le_of_ble_eq_true rfl)) dX0_canLie_8 ⟨Nat.le_refl 0, Nat.le_refl 0⟩) hS.2.2.2.2 (fun H locs hS hn => ?_)
  obtain ⟨q3, hr9, hf⟩ := bo_s hf
  refine c_dr hr9 ?_
  refine lv_iload_n E.1 hb dX0_canLie_11 rfl (lv_at hl 1 rfl) ?_
  obtain ⟨hkr, hf⟩ := gu_s hf
  obtain ⟨_, A4, h1, hf⟩ := bd_s hf
  refine c_kv hS (va_runV ⟨E.1, hb, hml, E.2.1, E.2.2.1⟩ (zX5_passes h1) (cwV 1 E.2.2.1 gw_X0_290 rfl rfl rfl ⟨rfl, gnX5_passes⟩ ⟨Nat.le_of_ble_eq_true rfl, Nat.le_of_ble_eq_true rfl⟩) (c_preV E hS ci_6 hkr (hS.1.lt hkr rfl) _) rfl rfl hl.1 rfl (lv_room (Nat.le_of_ble_eq_true rfl)) dX0_canLie_12 ⟨Nat.le_refl 0, Nat.le_refl 0⟩) hS.2.2.2.2 (fun H locs hS hn => ?_)
  refine lv_iconst (v := 0) E.1 hb dX0_canLie_15 rfl ?_
  refine lv_istore_n (lv' := [(2, .int 0), (0, .ref (ad 0)), (1, .int x1)]) E.1 hb dX0_canLie_16 rfl hl (by decide) rfl (fun ls hl => ?_)
  exact hL17 N A4 0 hf _ _ hS _ (lv_sub hl [1, 2, 0] rfl)
theorem gw_X0_322 : GoodIn lw_all (wsV RX0 322 RX0 yX0_canLie (ws_ yX0_canLie cX0_canLie 3 (some .boolean))) := lw_V q1540 q1542 qs54 q152 q1543
theorem gnX0_canLie : yX0_canLie.cls ≠ "java/lang/invoke/MethodHandle" ∧ yX0_canLie.cls ≠ "java/lang/invoke/VarHandle" ∧ (parseMethodDescriptor yX0_canLie.desc).map (fun d => d.parameters.length) = some 1 := by decide +kernel
/-! MarginFolk.openings()I: RW -/
noncomputable def X0_openings_b31 (N : Nat) (k4 : AH → Int32 → Int32 → Option (Int32 × AH)) (A : AH) (x2 : Int32) (y0 : Int32) (y1 : Int32) : Option (Int32 × AH) :=
  k4 A (y1 ||| y0) (x2 + 1)
noncomputable def X0_openings_b4 (N : Nat) (k4 : AH → Int32 → Int32 → Option (Int32 × AH)) (A : AH) (x1 : Int32) (x2 : Int32) : Option (Int32 × AH) :=
  bo (aR A 100 0 0) fun q1 => bo (gI 2 A 201 q1) fun v2 => if v2 < x2 then (some (x1, A)) else (bd (X0_canLie N A x2) fun r3 A4 => if r3 = 0 then (X0_openings_b31 N k4 A4 x2 0 x1) else (X0_openings_b31 N k4 A4 x2 (1 <<< (x2 &&& 31)) x1))
noncomputable def X0_openings (N : Nat) (A0 : AH) : Option (Int32 × AH) :=
  rn3 (X0_openings_b4 N) N A0 0 0
abbrev rX0_openings : Room := { frames := 8227, cells := 0, slots := 0, locals := 185355 }
set_option maxHeartbeats 4000000 in
theorem zX0_openings {l : Launch} {dC : Nat → ClassId} {dI : Nat → Nat → Nat} {ac : Nat → ClassId} {ad : Nat → Nat} {N : Nat} {A0 : AH} {r : Int32} {A' : AH} (hf : X0_openings N A0 = some (r, A')) : Met l yX0_openings (ws_ yX0_openings cX0_openings 3 (some .int)) { frames := 8227, cells := 0, slots := 0, locals := 185355 } (va_Pc [.ref (ad 0)] (cPre dC dI ac ad True A0)) (cQi dC dI ac ad True (aN A0) (aS A0) (aN A0) (aS A0) r A') 0 0 (cF ad) := by
  unfold X0_openings at hf
  refine c_of ⟨Nat.le_refl _, Nat.le_refl _⟩ RX0 (plainFor_of_name (by decide)) rfl (Nat.le_of_ble_eq_true rfl) ?_
  intro p e s m args below meth c E hb hr hlk hnm hml hS ls hl
  have hl : lv_has ls 3 [(0, .ref (ad 0))] := hl
  have hB31 : ∀ (k4 : AH → Int32 → Int32 → Option (Int32 × AH)) (hk4 : ∀ (A : AH) (x1 : Int32) (x2 : Int32), k4 A x1 x2 = some (r, A') → ∀ (H : Heap) (locs : List Loc), cS dC dI ac ad True s.heap (aN A0) (aS A0) (aN A0) (aS A0) A H locs → ∀ (ls : Array Slot), lv_has ls 3 [(0, .ref (ad 0)), (1, .int x1), (2, .int x2)] → W p l e rX0_openings s m args below meth c H locs 0 0 (MQ below (cQi dC dI ac ad True (aN A0) (aS A0) (aN A0) (aS A0) r A') args s 0 0 (cF ad)) (F0 m 4 ls [])) (A : AH) (x2 : Int32) (y0 : Int32) (y1 : Int32), X0_openings_b31 N k4 A x2 y0 y1 = some (r, A') → ∀ (H : Heap) (locs : List Loc), cS dC dI ac ad True s.heap (aN A0) (aS A0) (aN A0) (aS A0) A H locs → ∀ (ls : Array Slot), lv_has ls 3 [(0, .ref (ad 0)), (2, .int x2)] → W p l e rX0_openings s m args below meth c H locs 0 0 (MQ below (cQi dC dI ac ad True (aN A0) (aS A0) (aN A0) (aS A0) r A') args s 0 0 (cF ad)) (F0 m 31 ls [.int y0, .int y1]) := by
    intro k4 hk4 A x2 y0 y1 hf H locs hS ls hl
    unfold X0_openings_b31 at hf
    refine lv_ior E.1 hb dX0_openings_31 ?_
    refine lv_istore_n (lv' := [(1, .int (y1 ||| y0)), (0, .ref (ad 0)), (2, .int x2)]) E.1 hb dX0_openings_32 rfl hl (by decide) rfl (fun ls hl => ?_)
    refine lv_iinc (v := (x2 + 1)) (lv' := [(2, .int (x2 + 1)), (1, .int (y1 ||| y0)), (0, .ref (ad 0))]) E.1 hb dX0_openings_33 hl (k := 2) rfl rfl (by decide) rfl (fun ls hl => ?_)
    refine lv_goto (tgt := 4) E.1 hb dX0_openings_36 (by decide) ?_
    exact hk4 A (y1 ||| y0) (x2 + 1) hf _ _ hS _ (lv_sub hl [2, 1, 0] rfl)
  have hL4 : ∀ (n : Nat) (A : AH) (x1 : Int32) (x2 : Int32), rn3 (X0_openings_b4 N) n A x1 x2 = some (r, A') → ∀ (H : Heap) (locs : List Loc), cS dC dI ac ad True s.heap (aN A0) (aS A0) (aN A0) (aS A0) A H locs → ∀ (ls : Array Slot), lv_has ls 3 [(0, .ref (ad 0)), (1, .int x1), (2, .int x2)] → W p l e rX0_openings s m args below meth c H locs 0 0 (MQ below (cQi dC dI ac ad True (aN A0) (aS A0) (aN A0) (aS A0) r A') args s 0 0 (cF ad)) (F0 m 4 ls []) := by
    intro  n
    induction n with
    | zero =>
      intro A x1 x2 hf
      cases hf
    | succ n ih =>
      intro A x1 x2 hf H locs hS ls hl
      have hf : X0_openings_b4 N (rn3 (X0_openings_b4 N) n) A x1 x2 = some (r, A') := hf
      have hk4 := ih
      generalize rn3 (X0_openings_b4 N) n = k4 at hf hk4
      unfold X0_openings_b4 at hf
      refine lv_iload_n E.1 hb dX0_openings_4 rfl (lv_at hl 2 rfl) ?_
      refine lv_aload_n E.1 hb dX0_openings_5 rfl (lv_at hl 0 rfl) ?_
      obtain ⟨q1, hr7, hf⟩ := bo_s hf
      refine c_gN (k := 0) (f := 100) E hb hS ci_1 (sK hS (by decide) rfl) rfl rfl rfl hr7 fk_X0_31_X0 (fun _ h => h) dX0_openings_6 ?_
      obtain ⟨hk, hf⟩ := gI_s hf
      refine c_gI (k := 1) (f := 201) E hb hS ci_2 hk rfl rfl rfl fk_X0_154_X1 (fun _ h => h) dX0_openings_9 ?_
      refine lv_icmp_gt (tgt := 39) E.1 hb dX0_openings_12 (by decide) (fun hc => ?_) (fun hc => ?_)
      · have hf := it_s hc hf
        refine lv_iload_n E.1 hb dX0_openings_39 rfl (lv_at hl 1 rfl) ?_
        exact c_ir E hb hr hlk hS ⟨Nat.le_refl 0, Nat.le_refl 0⟩ hf dX0_openings_40
      · have hf := if_s hc hf
        refine lv_iload_n E.1 hb dX0_openings_15 rfl (lv_at hl 1 rfl) ?_
        refine lv_aload_n E.1 hb dX0_openings_16 rfl (lv_at hl 0 rfl) ?_
        refine lv_iload_n E.1 hb dX0_openings_17 rfl (lv_at hl 2 rfl) ?_
        obtain ⟨r3, A4, h1, hf⟩ := bd_s hf
        refine c_ki hS (va_runV ⟨E.1, hb, hml, E.2.1, E.2.2.1⟩ (zX0_canLie h1) (cwV 1 E.2.2.1 gw_X0_322 rfl rfl rfl ⟨rfl, gnX0_canLie⟩ ⟨Nat.le_of_ble_eq_true rfl, Nat.le_of_ble_eq_true rfl⟩) (c_preV E hS ci_1 (sK hS (by decide) rfl) (hS.1.lt (sK hS (by decide) rfl) rfl) _) rfl rfl hl.1 rfl (lv_room (Nat.le_of_ble_eq_true rfl)) dX0_openings_18 ⟨Nat.le_refl 0, Nat.le_refl 0⟩) hS.2.2.2.2 (fun H locs hS hn => ?_)
        refine lv_if_eq (tgt := 30) E.1 hb dX0_openings_21 (by decide) (fun hc => ?_) (fun hc => ?_)
        · have hf := it_s hc hf
          refine lv_iconst (v := 0) E.1 hb dX0_openings_30 rfl ?_
          exact hB31 k4 hk4 A4 x2 0 x1 hf _ _ hS _ (lv_sub hl [0, 2] rfl)
        · have hf := if_s hc hf
          refine lv_iconst (v := 1) E.1 hb dX0_openings_24 rfl ?_
          refine lv_iload_n E.1 hb dX0_openings_25 rfl (lv_at hl 2 rfl) ?_
          refine lv_ishl E.1 hb dX0_openings_26 ?_
          refine lv_goto (tgt := 31) E.1 hb dX0_openings_27 (by decide) ?_
          exact hB31 k4 hk4 A4 x2 (1 <<< (x2 &&& 31)) x1 hf _ _ hS _ (lv_sub hl [0, 2] rfl)
  refine lv_iconst (v := 0) E.1 hb dX0_openings_0 rfl ?_
  refine lv_istore_n (lv' := [(1, .int 0), (0, .ref (ad 0))]) E.1 hb dX0_openings_1 rfl hl (by decide) rfl (fun ls hl => ?_)
  refine lv_iconst (v := 0) E.1 hb dX0_openings_2 rfl ?_
  refine lv_istore_n (lv' := [(2, .int 0), (1, .int 0), (0, .ref (ad 0))]) E.1 hb dX0_openings_3 rfl hl (by decide) rfl (fun ls hl => ?_)
  exact hL4 N A0 0 0 hf _ _ hS _ (lv_sub hl [2, 1, 0] rfl)
theorem gw_X0_325 : GoodIn lw_all (wsV RX0 325 RX0 yX0_openings (ws_ yX0_openings cX0_openings 3 (some .int))) := lw_V q1536 q1538 qs53 q152 q1539
theorem gnX0_openings : yX0_openings.cls ≠ "java/lang/invoke/MethodHandle" ∧ yX0_openings.cls ≠ "java/lang/invoke/VarHandle" ∧ (parseMethodDescriptor yX0_openings.desc).map (fun d => d.parameters.length) = some 0 := by decide +kernel
/-! MarginFolk.lay(I)I: RW -/
noncomputable def X0_lay (N : Nat) (A0 : AH) (x1 : Int32) : Option (Int32 × AH) :=
  bo (X0_isAhead A0 1 1 1) fun r1 => if r1 = 0 then (some ((-1), A0)) else (bo (X0_is x1 0 1) fun r2 => if r2 = 0 then (some ((-1), A0)) else (if x1 = 0 then (bd (X0_openings N A0) fun r5 A6 => bo (J16_bitCount r5) fun r7 => some (r7, A6)) else (bd (X0_openings N A0) fun r3 A4 => some (r3, A4))))
abbrev rX0_lay : Room := { frames := 8228, cells := 0, slots := 0, locals := 185377 }
set_option maxHeartbeats 4000000 in
theorem zX0_lay {l : Launch} {dC : Nat → ClassId} {dI : Nat → Nat → Nat} {ac : Nat → ClassId} {ad : Nat → Nat} {N : Nat} {A0 : AH} {x1 : Int32} {r : Int32} {A' : AH} (hf : X0_lay N A0 x1 = some (r, A')) : Met l yX0_lay (ws_ yX0_lay cX0_lay 2 (some .int)) { frames := 8228, cells := 0, slots := 0, locals := 185377 } (va_Pc [.ref (ad 0), .int x1] (cPre dC dI ac ad True A0)) (cQi dC dI ac ad True (aN A0) (aS A0) (aN A0) (aS A0) r A') 0 0 (cF ad) := by
  unfold X0_lay at hf
  refine c_of ⟨Nat.le_refl _, Nat.le_refl _⟩ RX0 (plainFor_of_name (by decide)) rfl (Nat.le_of_ble_eq_true rfl) ?_
  intro p e s m args below meth c E hb hr hlk hnm hml hS ls hl
  have hl : lv_has ls 2 [(0, .ref (ad 0)), (1, .int x1)] := hl
  refine lv_aload_n E.1 hb dX0_lay_0 rfl (lv_at hl 0 rfl) ?_
  refine lv_iconst (v := 1) E.1 hb dX0_lay_1 rfl ?_
  refine lv_iconst (v := 1) E.1 hb dX0_lay_2 rfl ?_
  refine lv_iconst (v := 1) E.1 hb dX0_lay_3 rfl ?_
  obtain ⟨r1, h1, hf⟩ := bo_s hf
  refine c_ki hS (va_runV ⟨E.1, hb, hml, E.2.1, E.2.2.1⟩ (zX0_isAhead h1) (cwV 3 E.2.2.1 gw_X0_279 rfl rfl rfl ⟨rfl, gnX0_isAhead⟩ ⟨Nat.le_of_ble_eq_true rfl, Nat.le_of_ble_eq_true rfl⟩) (c_preV E hS ci_1 (sK hS (by decide) rfl) (hS.1.lt (sK hS (by decide) rfl) rfl) _) rfl rfl hl.1 rfl (lv_room (Nat.le_of_ble_eq_true rfl)) dX0_lay_4 ⟨Nat.le_refl 0, Nat.le_refl 0⟩) hS.2.2.2.2 (fun H locs hS hn => ?_)
  refine lv_if_eq (tgt := 19) E.1 hb dX0_lay_7 (by decide) (fun hc => ?_) (fun hc => ?_)
  · have hf := it_s hc hf
    refine lv_iconst (v := (-1)) E.1 hb dX0_lay_19 rfl ?_
    exact c_ir E hb hr hlk hS ⟨Nat.le_refl 0, Nat.le_refl 0⟩ hf dX0_lay_20
  · have hf := if_s hc hf
    refine lv_iload_n E.1 hb dX0_lay_10 rfl (lv_at hl 1 rfl) ?_
    refine lv_iconst (v := 0) E.1 hb dX0_lay_11 rfl ?_
    refine lv_iconst (v := 1) E.1 hb dX0_lay_12 rfl ?_
    obtain ⟨r2, h1, hf⟩ := bo_s hf
    refine c_ki hS (va_runS ⟨E.1, hb, hml, E.2.1, E.2.2.1⟩ (zX0_is h1) (va_cwS 3 E.2.2.1 gw_X0_168 rfl rfl rfl gnX0_is ⟨Nat.le_of_ble_eq_true rfl, Nat.le_of_ble_eq_true rfl⟩) (c_preS E hS _) rfl rfl hl.1 rfl (lv_room (Nat.le_of_ble_eq_true rfl)) dX0_lay_13 ⟨Nat.le_refl 0, Nat.le_refl 0⟩) hS.2.2.2.2 (fun H locs hS hn => ?_)
    refine lv_if_ne (tgt := 21) E.1 hb dX0_lay_16 (by decide) (fun hc => ?_) (fun hc => ?_)
    · have hf := if_s hc hf
      refine lv_iload_n E.1 hb dX0_lay_21 rfl (lv_at hl 1 rfl) ?_
      refine lv_if_ne (tgt := 35) E.1 hb dX0_lay_22 (by decide) (fun hc => ?_) (fun hc => ?_)
      · have hf := if_s hc hf
        refine lv_aload_n E.1 hb dX0_lay_35 rfl (lv_at hl 0 rfl) ?_
        obtain ⟨r3, A4, h1, hf⟩ := bd_s hf
        refine c_ki hS (va_runV ⟨E.1, hb, hml, E.2.1, E.2.2.1⟩ (zX0_openings h1) (cwV 0 E.2.2.1 gw_X0_325 rfl rfl rfl ⟨rfl, gnX0_openings⟩ ⟨Nat.le_of_ble_eq_true rfl, Nat.le_of_ble_eq_true rfl⟩) (c_preV E hS ci_1 (sK hS (by decide) rfl) (hS.1.lt (sK hS (by decide) rfl) rfl) _) rfl rfl hl.1 rfl (lv_room (Nat.le_of_ble_eq_true rfl)) dX0_lay_36 ⟨Nat.le_refl 0, Nat.le_refl 0⟩) hS.2.2.2.2 (fun H locs hS hn => ?_)
        exact c_ir E hb hr hlk hS ⟨Nat.le_refl 0, Nat.le_refl 0⟩ hf dX0_lay_39
      · have hf := it_s hc hf
        refine lv_aload_n E.1 hb dX0_lay_25 rfl (lv_at hl 0 rfl) ?_
        obtain ⟨r5, A6, h1, hf⟩ := bd_s hf
        refine c_ki hS (va_runV ⟨E.1, hb, hml, E.2.1, E.2.2.1⟩ (zX0_openings h1) (cwV 0 E.2.2.1 gw_X0_325 rfl rfl rfl ⟨rfl, gnX0_openings⟩ ⟨Nat.le_of_ble_eq_true rfl, Nat.le_of_ble_eq_true rfl⟩) (c_preV E hS ci_1 (sK hS (by decide) rfl) (hS.1.lt (sK hS (by decide) rfl) rfl) _) rfl rfl hl.1 rfl (lv_room (Nat.le_of_ble_eq_true rfl)) dX0_lay_26 ⟨Nat.le_refl 0, Nat.le_refl 0⟩) hS.2.2.2.2 (fun H locs hS hn => ?_)
        obtain ⟨r7, h1, hf⟩ := bo_s hf
        refine c_ki hS (va_runS ⟨E.1, hb, hml, E.2.1, E.2.2.1⟩ (zJ16_bitCount h1) (va_cwS 1 E.2.2.1 gw_X0_205 rfl rfl rfl gnJ16_bitCount ⟨Nat.le_of_ble_eq_true rfl, Nat.le_of_ble_eq_true rfl⟩) (c_preS E hS _) rfl rfl hl.1 rfl (lv_room (Nat.le_of_ble_eq_true rfl)) dX0_lay_29 ⟨Nat.le_refl 0, Nat.le_refl 0⟩) hS.2.2.2.2 (fun H locs hS hn => ?_)
        refine lv_goto (tgt := 39) E.1 hb dX0_lay_32 (by decide) ?_
        exact c_ir E hb hr hlk hS ⟨Nat.le_refl 0, Nat.le_refl 0⟩ hf dX0_lay_39
    · have hf := it_s hc hf
      refine lv_iconst (v := (-1)) E.1 hb dX0_lay_19 rfl ?_
      exact c_ir E hb hr hlk hS ⟨Nat.le_refl 0, Nat.le_refl 0⟩ hf dX0_lay_20
theorem gw_X0_328 : GoodIn lw_all (va_wsS RX0 328 yJ12_max (ws_ yJ12_max cJ12_max 2 (some .int))) := lw_S q1548 q906 q172 q907
/-! MarginFolk.after(I)I: RW -/
noncomputable def X0_after_b229 (N : Nat) (x1 : Int32) (A : AH) (x3 : Int32) (x4 : Int32) : Option (Int32 × AH) :=
  if x3 = (-1) then (some (x3, A)) else (if x1 = 0 then (some (x3, A)) else (some (x4, A)))
noncomputable def X0_after_b223 (N : Nat) (x1 : Int32) (k157 : AH → Int32 → Int32 → Int32 → Int32 → Option (Int32 × AH)) (A : AH) (x2 : Int32) (x3 : Int32) (x4 : Int32) (x5 : Int32) : Option (Int32 × AH) :=
  k157 A x2 x3 x4 (x5 + 1)
noncomputable def X0_after_b176 (N : Nat) (x1 : Int32) (k157 : AH → Int32 → Int32 → Int32 → Int32 → Option (Int32 × AH)) (k176 : AH → Int32 → Int32 → Int32 → Int32 → Int32 → Int32 → Option (Int32 × AH)) (A : AH) (x2 : Int32) (x3 : Int32) (x4 : Int32) (x5 : Int32) (x6 : Int32) (x7 : Int32) : Option (Int32 × AH) :=
  if 8 ≤ x7 then (if x6 < x4 then (X0_after_b223 N x1 k157 A x2 x5 x6 x5) else (X0_after_b223 N x1 k157 A x2 x3 x4 x5)) else (bo (sR 8 36 A 128 x5) fun q6 => bo (dI_ 31 A q6 x7) fun v7 => bo (J12_max x6 v7) fun r8 => k176 A x2 x3 x4 x5 r8 (x7 + 1))
noncomputable def X0_after_b157 (N : Nat) (x1 : Int32) (k157 : AH → Int32 → Int32 → Int32 → Int32 → Option (Int32 × AH)) (A : AH) (x2 : Int32) (x3 : Int32) (x4 : Int32) (x5 : Int32) : Option (Int32 × AH) :=
  bo (X0_beings A) fun r5 => if r5 ≤ x5 then (X0_after_b229 N x1 A x3 x4) else (if x2 ≤ 0 then (X0_after_b229 N x1 A x3 x4) else (rn7 (X0_after_b176 N x1 k157) N A x2 x3 x4 x5 0 0))
noncomputable def X0_after_b141 (N : Nat) (x1 : Int32) (k76 : AH → Int32 → Int32 → Option (Int32 × AH)) (A : AH) (x2 : Int32) (x3 : Int32) : Option (Int32 × AH) :=
  k76 A x2 (x3 + 1)
noncomputable def X0_after_b104 (N : Nat) (x1 : Int32) (k76 : AH → Int32 → Int32 → Option (Int32 × AH)) (k104 : AH → Int32 → Int32 → Int32 → Option (Int32 × AH)) (A : AH) (x2 : Int32) (x3 : Int32) (x4 : Int32) : Option (Int32 × AH) :=
  bo (X0_beings A) fun r11 => if r11 ≤ x4 then (X0_after_b141 N x1 k76 A x2 x3) else (bo (sR 8 36 A 128 x4) fun q12 => bo (sI 8 31 A 67 x4) fun v13 => bo (dI_ 31 A q12 v13) fun v14 => bo (uI_ 31 A q12 v13 (v14 + 1)) fun A15 => k104 A15 x2 x3 (x4 + 1))
noncomputable def X0_after_b76 (N : Nat) (x1 : Int32) (k76 : AH → Int32 → Int32 → Option (Int32 × AH)) (A : AH) (x2 : Int32) (x3 : Int32) : Option (Int32 × AH) :=
  bo (aR A 100 0 0) fun q3 => bo (gI 2 A 201 q3) fun v4 => if v4 < x3 then (rn5 (X0_after_b157 N x1) N A x2 (-1) 100000000 0) else (bd (X0_canLie N A x3) fun r9 A10 => if r9 = 0 then (X0_after_b141 N x1 k76 A10 x2 x3) else (rn4 (X0_after_b104 N x1 k76) N A10 (x2 + 1) x3 0))
noncomputable def X0_after_b47 (N : Nat) (x1 : Int32) (k32 : AH → Nat → Int32 → Int32 → Option (Int32 × AH)) (k47 : AH → Nat → Int32 → Int32 → Nat → Int32 → Option (Int32 × AH)) (A : AH) (x2 : Nat) (x3 : Int32) (x4 : Int32) (x5 : Nat) (x6 : Int32) : Option (Int32 × AH) :=
  if 8 ≤ x6 then (k32 A x2 x3 (x4 + 1)) else (bo (uI_ 31 A x5 x6 0) fun A17 => k47 A17 x2 x3 x4 x5 (x6 + 1))
noncomputable def X0_after_b32 (N : Nat) (x1 : Int32) (k32 : AH → Nat → Int32 → Int32 → Option (Int32 × AH)) (A : AH) (x2 : Nat) (x3 : Int32) (x4 : Int32) : Option (Int32 × AH) :=
  if x3 ≤ x4 then (rn3 (X0_after_b76 N x1) N A 0 0) else (bo (dR_ 36 A x2 x4) fun q16 => rn6 (X0_after_b47 N x1 k32) N A x2 x3 x4 q16 0)
noncomputable def X0_after (N : Nat) (A0 : AH) (x1 : Int32) : Option (Int32 × AH) :=
  bo (X0_isAhead A0 1 1 1) fun r1 => if r1 = 0 then (some ((-1), A0)) else (bo (X0_is x1 0 1) fun r2 => if r2 = 0 then (some ((-1), A0)) else (rn4 (X0_after_b32 N x1) N A0 128 (Int32.ofNat 8) 0))
abbrev rX0_after : Room := { frames := 8227, cells := 0, slots := 0, locals := 185355 }
set_option maxHeartbeats 4000000 in
theorem zX0_after {l : Launch} {dC : Nat → ClassId} {dI : Nat → Nat → Nat} {ac : Nat → ClassId} {ad : Nat → Nat} {N : Nat} {A0 : AH} {x1 : Int32} {r : Int32} {A' : AH} (hf : X0_after N A0 x1 = some (r, A')) : Met l yX0_after (ws_ yX0_after cX0_after 8 (some .int)) { frames := 8227, cells := 0, slots := 0, locals := 185355 } (va_Pc [.ref (ad 0), .int x1] (cPre dC dI ac ad True A0)) (cQi dC dI ac ad True (aN A0) (aS A0) (aN A0) (aS A0) r A') 0 0 (cF ad) := by
  unfold X0_after at hf
  refine c_of ⟨Nat.le_refl _, Nat.le_refl _⟩ RX0 (plainFor_of_name (by decide)) rfl (Nat.le_of_ble_eq_true rfl) ?_
  intro p e s m args below meth c E hb hr hlk hnm hml hS ls hl
  have hl : lv_has ls 8 [(0, .ref (ad 0)), (1, .int x1)] := hl
  have hB229 : ∀ (A : AH) (x3 : Int32) (x4 : Int32), X0_after_b229 N x1 A x3 x4 = some (r, A') → ∀ (H : Heap) (locs : List Loc), cS dC dI ac ad True s.heap (aN A0) (aS A0) (aN A0) (aS A0) A H locs → ∀ (ls : Array Slot), lv_has ls 8 [(0, .ref (ad 0)), (1, .int x1), (3, .int x3), (4, .int x4)] → W p l e rX0_after s m args below meth c H locs 0 0 (MQ below (cQi dC dI ac ad True (aN A0) (aS A0) (aN A0) (aS A0) r A') args s 0 0 (cF ad)) (F0 m 229 ls []) := by
    intro A x3 x4 hf H locs hS ls hl
    unfold X0_after_b229 at hf
    refine lv_iload_n E.1 hb dX0_after_229 rfl (lv_at hl 2 rfl) ?_
    refine lv_iconst (v := (-1)) E.1 hb dX0_after_230 rfl ?_
    refine lv_icmp_eq (tgt := 238) E.1 hb dX0_after_231 (by decide) (fun hc => ?_) (fun hc => ?_)
    · have hf := it_s hc hf
      refine lv_iload_n E.1 hb dX0_after_238 rfl (lv_at hl 2 rfl) ?_
      refine lv_goto (tgt := 244) E.1 hb dX0_after_239 (by decide) ?_
      exact c_ir E hb hr hlk hS ⟨Nat.le_refl 0, Nat.le_refl 0⟩ hf dX0_after_244
    · have hf := if_s hc hf
      refine lv_iload_n E.1 hb dX0_after_234 rfl (lv_at hl 1 rfl) ?_
      refine lv_if_ne (tgt := 242) E.1 hb dX0_after_235 (by decide) (fun hc => ?_) (fun hc => ?_)
      · have hf := if_s hc hf
        refine lv_iload E.1 hb dX0_after_242 (lv_at hl 3 rfl) ?_
        exact c_ir E hb hr hlk hS ⟨Nat.le_refl 0, Nat.le_refl 0⟩ hf dX0_after_244
      · have hf := it_s hc hf
        refine lv_iload_n E.1 hb dX0_after_238 rfl (lv_at hl 2 rfl) ?_
        refine lv_goto (tgt := 244) E.1 hb dX0_after_239 (by decide) ?_
        exact c_ir E hb hr hlk hS ⟨Nat.le_refl 0, Nat.le_refl 0⟩ hf dX0_after_244
  have hB223 : ∀ (k157 : AH → Int32 → Int32 → Int32 → Int32 → Option (Int32 × AH)) (hk157 : ∀ (A : AH) (x2 : Int32) (x3 : Int32) (x4 : Int32) (x5 : Int32), k157 A x2 x3 x4 x5 = some (r, A') → ∀ (H : Heap) (locs : List Loc), cS dC dI ac ad True s.heap (aN A0) (aS A0) (aN A0) (aS A0) A H locs → ∀ (ls : Array Slot), lv_has ls 8 [(0, .ref (ad 0)), (1, .int x1), (2, .int x2), (3, .int x3), (4, .int x4), (5, .int x5)] → W p l e rX0_after s m args below meth c H locs 0 0 (MQ below (cQi dC dI ac ad True (aN A0) (aS A0) (aN A0) (aS A0) r A') args s 0 0 (cF ad)) (F0 m 157 ls [])) (A : AH) (x2 : Int32) (x3 : Int32) (x4 : Int32) (x5 : Int32), X0_after_b223 N x1 k157 A x2 x3 x4 x5 = some (r, A') → ∀ (H : Heap) (locs : List Loc), cS dC dI ac ad True s.heap (aN A0) (aS A0) (aN A0) (aS A0) A H locs → ∀ (ls : Array Slot), lv_has ls 8 [(0, .ref (ad 0)), (1, .int x1), (2, .int x2), (3, .int x3), (4, .int x4), (5, .int x5)] → W p l e rX0_after s m args below meth c H locs 0 0 (MQ below (cQi dC dI ac ad True (aN A0) (aS A0) (aN A0) (aS A0) r A') args s 0 0 (cF ad)) (F0 m 223 ls []) := by
    intro k157 hk157 A x2 x3 x4 x5 hf H locs hS ls hl
    unfold X0_after_b223 at hf
    refine lv_iinc (v := (x5 + 1)) (lv' := [(5, .int (x5 + 1)), (0, .ref (ad 0)), (1, .int x1), (2, .int x2), (3, .int x3), (4, .int x4)]) E.1 hb dX0_after_223 hl (k := 5) rfl rfl (by decide) rfl (fun ls hl => ?_)
    refine lv_goto (tgt := 157) E.1 hb dX0_after_226 (by decide) ?_
    exact hk157 A x2 x3 x4 (x5 + 1) hf _ _ hS _ (lv_sub hl [1, 2, 3, 4, 5, 0] rfl)
  have hL176 : ∀ (k157 : AH → Int32 → Int32 → Int32 → Int32 → Option (Int32 × AH)) (hk157 : ∀ (A : AH) (x2 : Int32) (x3 : Int32) (x4 : Int32) (x5 : Int32), k157 A x2 x3 x4 x5 = some (r, A') → ∀ (H : Heap) (locs : List Loc), cS dC dI ac ad True s.heap (aN A0) (aS A0) (aN A0) (aS A0) A H locs → ∀ (ls : Array Slot), lv_has ls 8 [(0, .ref (ad 0)), (1, .int x1), (2, .int x2), (3, .int x3), (4, .int x4), (5, .int x5)] → W p l e rX0_after s m args below meth c H locs 0 0 (MQ below (cQi dC dI ac ad True (aN A0) (aS A0) (aN A0) (aS A0) r A') args s 0 0 (cF ad)) (F0 m 157 ls [])) (n : Nat) (A : AH) (x2 : Int32) (x3 : Int32) (x4 : Int32) (x5 : Int32) (x6 : Int32) (x7 : Int32), rn7 (X0_after_b176 N x1 k157) n A x2 x3 x4 x5 x6 x7 = some (r, A') → ∀ (H : Heap) (locs : List Loc), cS dC dI ac ad True s.heap (aN A0) (aS A0) (aN A0) (aS A0) A H locs → ∀ (ls : Array Slot), lv_has ls 8 [(0, .ref (ad 0)), (1, .int x1), (2, .int x2), (3, .int x3), (4, .int x4), (5, .int x5), (6, .int x6), (7, .int x7)] → W p l e rX0_after s m args below meth c H locs 0 0 (MQ below (cQi dC dI ac ad True (aN A0) (aS A0) (aN A0) (aS A0) r A') args s 0 0 (cF ad)) (F0 m 176 ls []) := by
    intro k157 hk157 n
    induction n with
    | zero =>
      intro A x2 x3 x4 x5 x6 x7 hf
      cases hf
    | succ n ih =>
      intro A x2 x3 x4 x5 x6 x7 hf H locs hS ls hl
      have hf : X0_after_b176 N x1 k157 (rn7 (X0_after_b176 N x1 k157) n) A x2 x3 x4 x5 x6 x7 = some (r, A') := hf
      have hk176 := ih
      generalize rn7 (X0_after_b176 N x1 k157) n = k176 at hf hk176
      unfold X0_after_b176 at hf
      refine lv_iload E.1 hb dX0_after_176 (lv_at hl 7 rfl) ?_
      refine lv_bipush (v := 8) E.1 hb dX0_after_178 rfl ?_
      refine lv_icmp_ge (tgt := 206) E.1 hb dX0_after_180 (by decide) (fun hc => ?_) (fun hc => ?_)
      · have hf := it_s hc hf
        refine lv_iload E.1 hb dX0_after_206 (lv_at hl 6 rfl) ?_
        refine lv_iload E.1 hb dX0_after_208 (lv_at hl 4 rfl) ?_
        refine lv_icmp_lt (tgt := 216) E.1 hb dX0_after_210 (by decide) (fun hc => ?_) (fun hc => ?_)
        · have hf := it_s hc hf
          refine lv_iload E.1 hb dX0_after_216 (lv_at hl 6 rfl) ?_
          refine lv_istore (lv' := [(4, .int x6), (0, .ref (ad 0)), (1, .int x1), (2, .int x2), (3, .int x3), (5, .int x5), (6, .int x6), (7, .int x7)]) E.1 hb dX0_after_218 hl (by decide) rfl (fun ls hl => ?_)
          refine lv_iload E.1 hb dX0_after_220 (lv_at hl 5 rfl) ?_
          refine lv_istore_n (lv' := [(3, .int x5), (4, .int x6), (0, .ref (ad 0)), (1, .int x1), (2, .int x2), (5, .int x5), (6, .int x6), (7, .int x7)]) E.1 hb dX0_after_222 rfl hl (by decide) rfl (fun ls hl => ?_)
          exact hB223 k157 hk157 A x2 x5 x6 x5 hf _ _ hS _ (lv_sub hl [2, 3, 4, 0, 1, 5] rfl)
        · have hf := if_s hc hf
          refine lv_goto (tgt := 223) E.1 hb dX0_after_213 (by decide) ?_
          exact hB223 k157 hk157 A x2 x3 x4 x5 hf _ _ hS _ (lv_sub hl [0, 1, 2, 3, 4, 5] rfl)
      · have hf := if_s hc hf
        refine lv_iload E.1 hb dX0_after_183 (lv_at hl 6 rfl) ?_
        refine lv_aload_n E.1 hb dX0_after_185 rfl (lv_at hl 0 rfl) ?_
        refine c_gN (k := 16) (f := 116) (q := 128) E hb hS ci_1 (sK hS (by decide) rfl) rfl rfl rfl (sRf hS (by decide) rfl) fk_X0_92_X0 (fun _ h => h) dX0_after_186 ?_
        refine lv_iload E.1 hb dX0_after_189 (lv_at hl 5 rfl) ?_
        obtain ⟨q6, hg, hf⟩ := sR_s hf
        refine s_ald E hb hS (t := 36) ⟨by decide, rfl, rfl⟩ (by decide) hg dX0_after_191 ?_
        refine lv_iload E.1 hb dX0_after_192 (lv_at hl 7 rfl) ?_
        obtain ⟨hg, hf⟩ := dI_s hf
        refine d_ld E hb hS hg rfl (Or.inl ⟨rfl, rfl⟩) dX0_after_194 ?_
        obtain ⟨r8, h1, hf⟩ := bo_s hf
        refine c_ki hS (va_runS ⟨E.1, hb, hml, E.2.1, E.2.2.1⟩ (zJ12_max h1) (va_cwS 2 E.2.2.1 gw_X0_328 rfl rfl rfl gnJ12_max ⟨Nat.le_of_ble_eq_true rfl, Nat.le_of_ble_eq_true rfl⟩) (c_preS E hS _) rfl rfl hl.1 rfl (lv_room (Nat.le_of_ble_eq_true rfl)) dX0_after_195 ⟨Nat.le_refl 0, Nat.le_refl 0⟩) hS.2.2.2.2 (fun H locs hS hn => ?_)
        refine lv_istore (lv' := [(6, .int r8), (0, .ref (ad 0)), (1, .int x1), (2, .int x2), (3, .int x3), (4, .int x4), (5, .int x5), (7, .int x7)]) E.1 hb dX0_after_198 hl (by decide) rfl (fun ls hl => ?_)
        refine lv_iinc (v := (x7 + 1)) (lv' := [(7, .int (x7 + 1)), (6, .int r8), (0, .ref (ad 0)), (1, .int x1), (2, .int x2), (3, .int x3), (4, .int x4), (5, .int x5)]) E.1 hb dX0_after_200 hl (k := 7) rfl rfl (by decide) rfl (fun ls hl => ?_)
        refine lv_goto (tgt := 176) E.1 hb dX0_after_203 (by decide) ?_
        exact hk176 A x2 x3 x4 x5 r8 (x7 + 1) hf _ _ hS _ (lv_sub hl [2, 3, 4, 5, 6, 7, 1, 0] rfl)
  have hL157 : ∀ (n : Nat) (A : AH) (x2 : Int32) (x3 : Int32) (x4 : Int32) (x5 : Int32), rn5 (X0_after_b157 N x1) n A x2 x3 x4 x5 = some (r, A') → ∀ (H : Heap) (locs : List Loc), cS dC dI ac ad True s.heap (aN A0) (aS A0) (aN A0) (aS A0) A H locs → ∀ (ls : Array Slot), lv_has ls 8 [(0, .ref (ad 0)), (1, .int x1), (2, .int x2), (3, .int x3), (4, .int x4), (5, .int x5)] → W p l e rX0_after s m args below meth c H locs 0 0 (MQ below (cQi dC dI ac ad True (aN A0) (aS A0) (aN A0) (aS A0) r A') args s 0 0 (cF ad)) (F0 m 157 ls []) := by
    intro  n
    induction n with
    | zero =>
      intro A x2 x3 x4 x5 hf
      cases hf
    | succ n ih =>
      intro A x2 x3 x4 x5 hf H locs hS ls hl
      have hf : X0_after_b157 N x1 (rn5 (X0_after_b157 N x1) n) A x2 x3 x4 x5 = some (r, A') := hf
      have hk157 := ih
      generalize rn5 (X0_after_b157 N x1) n = k157 at hf hk157
      unfold X0_after_b157 at hf
      refine lv_iload E.1 hb dX0_after_157 (lv_at hl 5 rfl) ?_
      refine lv_aload_n E.1 hb dX0_after_159 rfl (lv_at hl 0 rfl) ?_
      obtain ⟨r5, h1, hf⟩ := bo_s hf
      refine c_ki hS (va_runV ⟨E.1, hb, hml, E.2.1, E.2.2.1⟩ (zX0_beings h1) (cwV 0 E.2.2.1 gw_X0_166 rfl rfl rfl ⟨rfl, gnX0_beings⟩ ⟨Nat.le_of_ble_eq_true rfl, Nat.le_of_ble_eq_true rfl⟩) (c_preV E hS ci_1 (sK hS (by decide) rfl) (hS.1.lt (sK hS (by decide) rfl) rfl) _) rfl rfl hl.1 rfl (lv_room (Nat.le_of_ble_eq_true rfl)) dX0_after_160 ⟨Nat.le_refl 0, Nat.le_refl 0⟩) hS.2.2.2.2 (fun H locs hS hn => ?_)
      refine lv_icmp_ge (tgt := 229) E.1 hb dX0_after_163 (by decide) (fun hc => ?_) (fun hc => ?_)
      · have hf := it_s hc hf
        exact hB229 A x3 x4 hf _ _ hS _ (lv_sub hl [0, 1, 3, 4] rfl)
      · have hf := if_s hc hf
        refine lv_iload_n E.1 hb dX0_after_166 rfl (lv_at hl 2 rfl) ?_
        refine lv_if_le (tgt := 229) E.1 hb dX0_after_167 (by decide) (fun hc => ?_) (fun hc => ?_)
        · have hf := it_s hc hf
          exact hB229 A x3 x4 hf _ _ hS _ (lv_sub hl [0, 1, 3, 4] rfl)
        · have hf := if_s hc hf
          refine lv_iconst (v := 0) E.1 hb dX0_after_170 rfl ?_
          refine lv_istore (lv' := [(6, .int 0), (0, .ref (ad 0)), (1, .int x1), (2, .int x2), (3, .int x3), (4, .int x4), (5, .int x5)]) E.1 hb dX0_after_171 hl (by decide) rfl (fun ls hl => ?_)
          refine lv_iconst (v := 0) E.1 hb dX0_after_173 rfl ?_
          refine lv_istore (lv' := [(7, .int 0), (6, .int 0), (0, .ref (ad 0)), (1, .int x1), (2, .int x2), (3, .int x3), (4, .int x4), (5, .int x5)]) E.1 hb dX0_after_174 hl (by decide) rfl (fun ls hl => ?_)
          exact hL176 k157 hk157 N A x2 x3 x4 x5 0 0 hf _ _ hS _ (lv_sub hl [2, 3, 4, 5, 6, 7, 1, 0] rfl)
  have hB141 : ∀ (k76 : AH → Int32 → Int32 → Option (Int32 × AH)) (hk76 : ∀ (A : AH) (x2 : Int32) (x3 : Int32), k76 A x2 x3 = some (r, A') → ∀ (H : Heap) (locs : List Loc), cS dC dI ac ad True s.heap (aN A0) (aS A0) (aN A0) (aS A0) A H locs → ∀ (ls : Array Slot), lv_has ls 8 [(0, .ref (ad 0)), (1, .int x1), (2, .int x2), (3, .int x3)] → W p l e rX0_after s m args below meth c H locs 0 0 (MQ below (cQi dC dI ac ad True (aN A0) (aS A0) (aN A0) (aS A0) r A') args s 0 0 (cF ad)) (F0 m 76 ls [])) (A : AH) (x2 : Int32) (x3 : Int32), X0_after_b141 N x1 k76 A x2 x3 = some (r, A') → ∀ (H : Heap) (locs : List Loc), cS dC dI ac ad True s.heap (aN A0) (aS A0) (aN A0) (aS A0) A H locs → ∀ (ls : Array Slot), lv_has ls 8 [(0, .ref (ad 0)), (1, .int x1), (2, .int x2), (3, .int x3)] → W p l e rX0_after s m args below meth c H locs 0 0 (MQ below (cQi dC dI ac ad True (aN A0) (aS A0) (aN A0) (aS A0) r A') args s 0 0 (cF ad)) (F0 m 141 ls []) := by
    intro k76 hk76 A x2 x3 hf H locs hS ls hl
    unfold X0_after_b141 at hf
    refine lv_iinc (v := (x3 + 1)) (lv' := [(3, .int (x3 + 1)), (0, .ref (ad 0)), (1, .int x1), (2, .int x2)]) E.1 hb dX0_after_141 hl (k := 3) rfl rfl (by decide) rfl (fun ls hl => ?_)
    refine lv_goto (tgt := 76) E.1 hb dX0_after_144 (by decide) ?_
    exact hk76 A x2 (x3 + 1) hf _ _ hS _ (lv_sub hl [1, 2, 3, 0] rfl)
  have hL104 : ∀ (k76 : AH → Int32 → Int32 → Option (Int32 × AH)) (hk76 : ∀ (A : AH) (x2 : Int32) (x3 : Int32), k76 A x2 x3 = some (r, A') → ∀ (H : Heap) (locs : List Loc), cS dC dI ac ad True s.heap (aN A0) (aS A0) (aN A0) (aS A0) A H locs → ∀ (ls : Array Slot), lv_has ls 8 [(0, .ref (ad 0)), (1, .int x1), (2, .int x2), (3, .int x3)] → W p l e rX0_after s m args below meth c H locs 0 0 (MQ below (cQi dC dI ac ad True (aN A0) (aS A0) (aN A0) (aS A0) r A') args s 0 0 (cF ad)) (F0 m 76 ls [])) (n : Nat) (A : AH) (x2 : Int32) (x3 : Int32) (x4 : Int32), rn4 (X0_after_b104 N x1 k76) n A x2 x3 x4 = some (r, A') → ∀ (H : Heap) (locs : List Loc), cS dC dI ac ad True s.heap (aN A0) (aS A0) (aN A0) (aS A0) A H locs → ∀ (ls : Array Slot), lv_has ls 8 [(0, .ref (ad 0)), (1, .int x1), (2, .int x2), (3, .int x3), (4, .int x4)] → W p l e rX0_after s m args below meth c H locs 0 0 (MQ below (cQi dC dI ac ad True (aN A0) (aS A0) (aN A0) (aS A0) r A') args s 0 0 (cF ad)) (F0 m 104 ls []) := by
    intro k76 hk76 n
    induction n with
    | zero =>
      intro A x2 x3 x4 hf
      cases hf
    | succ n ih =>
      intro A x2 x3 x4 hf H locs hS ls hl
      have hf : X0_after_b104 N x1 k76 (rn4 (X0_after_b104 N x1 k76) n) A x2 x3 x4 = some (r, A') := hf
      have hk104 := ih
      generalize rn4 (X0_after_b104 N x1 k76) n = k104 at hf hk104
      unfold X0_after_b104 at hf
      refine lv_iload E.1 hb dX0_after_104 (lv_at hl 4 rfl) ?_
      refine lv_aload_n E.1 hb dX0_after_106 rfl (lv_at hl 0 rfl) ?_
      obtain ⟨r11, h1, hf⟩ := bo_s hf
      refine c_ki hS (va_runV ⟨E.1, hb, hml, E.2.1, E.2.2.1⟩ (zX0_beings h1) (cwV 0 E.2.2.1 gw_X0_166 rfl rfl rfl ⟨rfl, gnX0_beings⟩ ⟨Nat.le_of_ble_eq_true rfl, Nat.le_of_ble_eq_true rfl⟩) (c_preV E hS ci_1 (sK hS (by decide) rfl) (hS.1.lt (sK hS (by decide) rfl) rfl) _) rfl rfl hl.1 rfl (lv_room (Nat.le_of_ble_eq_true rfl)) dX0_after_107 ⟨Nat.le_refl 0, Nat.le_refl 0⟩) hS.2.2.2.2 (fun H locs hS hn => ?_)
      refine lv_icmp_ge (tgt := 141) E.1 hb dX0_after_110 (by decide) (fun hc => ?_) (fun hc => ?_)
      · have hf := it_s hc hf
        exact hB141 k76 hk76 A x2 x3 hf _ _ hS _ (lv_sub hl [0, 1, 2, 3] rfl)
      · have hf := if_s hc hf
        refine lv_aload_n E.1 hb dX0_after_113 rfl (lv_at hl 0 rfl) ?_
        refine c_gN (k := 16) (f := 116) (q := 128) E hb hS ci_1 (sK hS (by decide) rfl) rfl rfl rfl (sRf hS (by decide) rfl) fk_X0_92_X0 (fun _ h => h) dX0_after_114 ?_
        refine lv_iload E.1 hb dX0_after_117 (lv_at hl 4 rfl) ?_
        obtain ⟨q12, hg, hf⟩ := sR_s hf
        refine s_ald E hb hS (t := 36) ⟨by decide, rfl, rfl⟩ (by decide) hg dX0_after_119 ?_
        refine lv_aload_n E.1 hb dX0_after_120 rfl (lv_at hl 0 rfl) ?_
        refine c_gN (k := 10) (f := 110) (q := 64) E hb hS ci_1 (sK hS (by decide) rfl) rfl rfl rfl (sRf hS (by decide) rfl) fk_X0_73_X0 (fun _ h => h) dX0_after_121 ?_
        refine c_gN (k := 4) (f := 604) (q := 67) E hb hS ci_6 (sK hS (by decide) rfl) rfl rfl rfl (sRf hS (by decide) rfl) fk_X0_239_X5 (fun _ h => h) dX0_after_124 ?_
        refine lv_iload E.1 hb dX0_after_127 (lv_at hl 4 rfl) ?_
        obtain ⟨hg, hf⟩ := sI_s hf
        refine s_ld E hb hS (t := 31) ⟨by decide, rfl, rfl⟩ hg (Or.inl ⟨rfl, rfl⟩) dX0_after_129 ?_
        refine lv_dup2_11 E.1 hb dX0_after_130 rfl rfl ?_
        obtain ⟨hg, hf⟩ := dI_s hf
        refine d_ld E hb hS hg rfl (Or.inl ⟨rfl, rfl⟩) dX0_after_131 ?_
        refine lv_iconst (v := 1) E.1 hb dX0_after_132 rfl ?_
        refine lv_iadd E.1 hb dX0_after_133 ?_
        obtain ⟨A15, hg, hw, hf⟩ := uI_s hf
        refine d_st E hb hS hg rfl (Or.inl ⟨rfl, rfl, rfl⟩) hw dX0_after_134 (fun H locs hS => ?_)
        refine lv_iinc (v := (x4 + 1)) (lv' := [(4, .int (x4 + 1)), (0, .ref (ad 0)), (1, .int x1), (2, .int x2), (3, .int x3)]) E.1 hb dX0_after_135 hl (k := 4) rfl rfl (by decide) rfl (fun ls hl => ?_)
        refine lv_goto (tgt := 104) E.1 hb dX0_after_138 (by decide) ?_
        exact hk104 A15 x2 x3 (x4 + 1) hf _ _ hS _ (lv_sub hl [1, 2, 3, 4, 0] rfl)
  have hL76 : ∀ (n : Nat) (A : AH) (x2 : Int32) (x3 : Int32), rn3 (X0_after_b76 N x1) n A x2 x3 = some (r, A') → ∀ (H : Heap) (locs : List Loc), cS dC dI ac ad True s.heap (aN A0) (aS A0) (aN A0) (aS A0) A H locs → ∀ (ls : Array Slot), lv_has ls 8 [(0, .ref (ad 0)), (1, .int x1), (2, .int x2), (3, .int x3)] → W p l e rX0_after s m args below meth c H locs 0 0 (MQ below (cQi dC dI ac ad True (aN A0) (aS A0) (aN A0) (aS A0) r A') args s 0 0 (cF ad)) (F0 m 76 ls []) := by
    intro  n
    induction n with
    | zero =>
      intro A x2 x3 hf
      cases hf
    | succ n ih =>
      intro A x2 x3 hf H locs hS ls hl
      have hf : X0_after_b76 N x1 (rn3 (X0_after_b76 N x1) n) A x2 x3 = some (r, A') := hf
      have hk76 := ih
      generalize rn3 (X0_after_b76 N x1) n = k76 at hf hk76
      unfold X0_after_b76 at hf
      refine lv_iload_n E.1 hb dX0_after_76 rfl (lv_at hl 3 rfl) ?_
      refine lv_aload_n E.1 hb dX0_after_77 rfl (lv_at hl 0 rfl) ?_
      obtain ⟨q3, hr7, hf⟩ := bo_s hf
      refine c_gN (k := 0) (f := 100) E hb hS ci_1 (sK hS (by decide) rfl) rfl rfl rfl hr7 fk_X0_31_X0 (fun _ h => h) dX0_after_78 ?_
      obtain ⟨hk, hf⟩ := gI_s hf
      refine c_gI (k := 1) (f := 201) E hb hS ci_2 hk rfl rfl rfl fk_X0_154_X1 (fun _ h => h) dX0_after_81 ?_
      refine lv_icmp_gt (tgt := 147) E.1 hb dX0_after_84 (by decide) (fun hc => ?_) (fun hc => ?_)
      · have hf := it_s hc hf
        refine lv_iconst (v := (-1)) E.1 hb dX0_after_147 rfl ?_
        refine lv_istore_n (lv' := [(3, .int (-1)), (0, .ref (ad 0)), (1, .int x1), (2, .int x2)]) E.1 hb dX0_after_148 rfl hl (by decide) rfl (fun ls hl => ?_)
        refine lv_ldcw E.1 hb E.2.1 (E.2.2.1 _ q1426) dX0_after_149 ?_
        refine lv_istore (lv' := [(4, .int 100000000), (3, .int (-1)), (0, .ref (ad 0)), (1, .int x1), (2, .int x2)]) E.1 hb dX0_after_152 hl (by decide) rfl (fun ls hl => ?_)
        refine lv_iconst (v := 0) E.1 hb dX0_after_154 rfl ?_
        refine lv_istore (lv' := [(5, .int 0), (4, .int 100000000), (3, .int (-1)), (0, .ref (ad 0)), (1, .int x1), (2, .int x2)]) E.1 hb dX0_after_155 hl (by decide) rfl (fun ls hl => ?_)
        exact hL157 N A x2 (-1) 100000000 0 hf _ _ hS _ (lv_sub hl [3, 4, 5, 2, 1, 0] rfl)
      · have hf := if_s hc hf
        refine lv_aload_n E.1 hb dX0_after_87 rfl (lv_at hl 0 rfl) ?_
        refine lv_iload_n E.1 hb dX0_after_88 rfl (lv_at hl 3 rfl) ?_
        obtain ⟨r9, A10, h1, hf⟩ := bd_s hf
        refine c_ki hS (va_runV ⟨E.1, hb, hml, E.2.1, E.2.2.1⟩ (zX0_canLie h1) (cwV 1 E.2.2.1 gw_X0_322 rfl rfl rfl ⟨rfl, gnX0_canLie⟩ ⟨Nat.le_of_ble_eq_true rfl, Nat.le_of_ble_eq_true rfl⟩) (c_preV E hS ci_1 (sK hS (by decide) rfl) (hS.1.lt (sK hS (by decide) rfl) rfl) _) rfl rfl hl.1 rfl (lv_room (Nat.le_of_ble_eq_true rfl)) dX0_after_89 ⟨Nat.le_refl 0, Nat.le_refl 0⟩) hS.2.2.2.2 (fun H locs hS hn => ?_)
        refine lv_if_ne (tgt := 98) E.1 hb dX0_after_92 (by decide) (fun hc => ?_) (fun hc => ?_)
        · have hf := if_s hc hf
          refine lv_iinc (v := (x2 + 1)) (lv' := [(2, .int (x2 + 1)), (0, .ref (ad 0)), (1, .int x1), (3, .int x3)]) E.1 hb dX0_after_98 hl (k := 2) rfl rfl (by decide) rfl (fun ls hl => ?_)
          refine lv_iconst (v := 0) E.1 hb dX0_after_101 rfl ?_
          refine lv_istore (lv' := [(4, .int 0), (2, .int (x2 + 1)), (0, .ref (ad 0)), (1, .int x1), (3, .int x3)]) E.1 hb dX0_after_102 hl (by decide) rfl (fun ls hl => ?_)
          exact hL104 k76 hk76 N A10 (x2 + 1) x3 0 hf _ _ hS _ (lv_sub hl [2, 3, 1, 4, 0] rfl)
        · have hf := it_s hc hf
          refine lv_goto (tgt := 141) E.1 hb dX0_after_95 (by decide) ?_
          exact hB141 k76 hk76 A10 x2 x3 hf _ _ hS _ (lv_sub hl [0, 1, 2, 3] rfl)
  have hL47 : ∀ (k32 : AH → Nat → Int32 → Int32 → Option (Int32 × AH)) (hk32 : ∀ (A : AH) (x2 : Nat) (x3 : Int32) (x4 : Int32), k32 A x2 x3 x4 = some (r, A') → ∀ (H : Heap) (locs : List Loc), cS dC dI ac ad True s.heap (aN A0) (aS A0) (aN A0) (aS A0) A H locs → ∀ (ls : Array Slot), lv_has ls 8 [(0, .ref (ad 0)), (1, .int x1), (2, .ref (ad x2)), (3, .int x3), (4, .int x4)] → W p l e rX0_after s m args below meth c H locs 0 0 (MQ below (cQi dC dI ac ad True (aN A0) (aS A0) (aN A0) (aS A0) r A') args s 0 0 (cF ad)) (F0 m 32 ls [])) (n : Nat) (A : AH) (x2 : Nat) (x3 : Int32) (x4 : Int32) (x5 : Nat) (x6 : Int32), rn6 (X0_after_b47 N x1 k32) n A x2 x3 x4 x5 x6 = some (r, A') → ∀ (H : Heap) (locs : List Loc), cS dC dI ac ad True s.heap (aN A0) (aS A0) (aN A0) (aS A0) A H locs → ∀ (ls : Array Slot), lv_has ls 8 [(0, .ref (ad 0)), (1, .int x1), (2, .ref (ad x2)), (3, .int x3), (4, .int x4), (5, .ref (ad x5)), (6, .int x6)] → W p l e rX0_after s m args below meth c H locs 0 0 (MQ below (cQi dC dI ac ad True (aN A0) (aS A0) (aN A0) (aS A0) r A') args s 0 0 (cF ad)) (F0 m 47 ls []) := by
    intro k32 hk32 n
    induction n with
    | zero =>
      intro A x2 x3 x4 x5 x6 hf
      cases hf
    | succ n ih =>
      intro A x2 x3 x4 x5 x6 hf H locs hS ls hl
      have hf : X0_after_b47 N x1 k32 (rn6 (X0_after_b47 N x1 k32) n) A x2 x3 x4 x5 x6 = some (r, A') := hf
      have hk47 := ih
      generalize rn6 (X0_after_b47 N x1 k32) n = k47 at hf hk47
      unfold X0_after_b47 at hf
      refine lv_iload E.1 hb dX0_after_47 (lv_at hl 6 rfl) ?_
      refine lv_bipush (v := 8) E.1 hb dX0_after_49 rfl ?_
      refine lv_icmp_ge (tgt := 66) E.1 hb dX0_after_51 (by decide) (fun hc => ?_) (fun hc => ?_)
      · have hf := it_s hc hf
        refine lv_iinc (v := (x4 + 1)) (lv' := [(4, .int (x4 + 1)), (0, .ref (ad 0)), (1, .int x1), (2, .ref (ad x2)), (3, .int x3), (5, .ref (ad x5)), (6, .int x6)]) E.1 hb dX0_after_66 hl (k := 4) rfl rfl (by decide) rfl (fun ls hl => ?_)
        refine lv_goto (tgt := 32) E.1 hb dX0_after_69 (by decide) ?_
        exact hk32 A x2 x3 (x4 + 1) hf _ _ hS _ (lv_sub hl [1, 2, 3, 4, 0] rfl)
      · have hf := if_s hc hf
        refine lv_aload E.1 hb dX0_after_54 (lv_at hl 5 rfl) ?_
        refine lv_iload E.1 hb dX0_after_56 (lv_at hl 6 rfl) ?_
        refine lv_iconst (v := 0) E.1 hb dX0_after_58 rfl ?_
        obtain ⟨A17, hg, hw, hf⟩ := uI_s hf
        refine d_st E hb hS hg rfl (Or.inl ⟨rfl, rfl, rfl⟩) hw dX0_after_59 (fun H locs hS => ?_)
        refine lv_iinc (v := (x6 + 1)) (lv' := [(6, .int (x6 + 1)), (0, .ref (ad 0)), (1, .int x1), (2, .ref (ad x2)), (3, .int x3), (4, .int x4), (5, .ref (ad x5))]) E.1 hb dX0_after_60 hl (k := 6) rfl rfl (by decide) rfl (fun ls hl => ?_)
        refine lv_goto (tgt := 47) E.1 hb dX0_after_63 (by decide) ?_
        exact hk47 A17 x2 x3 x4 x5 (x6 + 1) hf _ _ hS _ (lv_sub hl [1, 2, 3, 4, 5, 6, 0] rfl)
  have hL32 : ∀ (n : Nat) (A : AH) (x2 : Nat) (x3 : Int32) (x4 : Int32), rn4 (X0_after_b32 N x1) n A x2 x3 x4 = some (r, A') → ∀ (H : Heap) (locs : List Loc), cS dC dI ac ad True s.heap (aN A0) (aS A0) (aN A0) (aS A0) A H locs → ∀ (ls : Array Slot), lv_has ls 8 [(0, .ref (ad 0)), (1, .int x1), (2, .ref (ad x2)), (3, .int x3), (4, .int x4)] → W p l e rX0_after s m args below meth c H locs 0 0 (MQ below (cQi dC dI ac ad True (aN A0) (aS A0) (aN A0) (aS A0) r A') args s 0 0 (cF ad)) (F0 m 32 ls []) := by
    intro  n
    induction n with
    | zero =>
      intro A x2 x3 x4 hf
      cases hf
    | succ n ih =>
      intro A x2 x3 x4 hf H locs hS ls hl
      have hf : X0_after_b32 N x1 (rn4 (X0_after_b32 N x1) n) A x2 x3 x4 = some (r, A') := hf
      have hk32 := ih
      generalize rn4 (X0_after_b32 N x1) n = k32 at hf hk32
      unfold X0_after_b32 at hf
      refine lv_iload E.1 hb dX0_after_32 (lv_at hl 4 rfl) ?_
      refine lv_iload_n E.1 hb dX0_after_34 rfl (lv_at hl 3 rfl) ?_
      refine lv_icmp_ge (tgt := 72) E.1 hb dX0_after_35 (by decide) (fun hc => ?_) (fun hc => ?_)
      · have hf := it_s hc hf
        refine lv_iconst (v := 0) E.1 hb dX0_after_72 rfl ?_
        refine lv_istore_n (lv' := [(2, .int 0), (0, .ref (ad 0)), (1, .int x1), (3, .int x3), (4, .int x4)]) E.1 hb dX0_after_73 rfl hl (by decide) rfl (fun ls hl => ?_)
        refine lv_iconst (v := 0) E.1 hb dX0_after_74 rfl ?_
        refine lv_istore_n (lv' := [(3, .int 0), (2, .int 0), (0, .ref (ad 0)), (1, .int x1), (4, .int x4)]) E.1 hb dX0_after_75 rfl hl (by decide) rfl (fun ls hl => ?_)
        exact hL76 N A 0 0 hf _ _ hS _ (lv_sub hl [2, 3, 1, 0] rfl)
      · have hf := if_s hc hf
        refine lv_aload_n E.1 hb dX0_after_38 rfl (lv_at hl 2 rfl) ?_
        refine lv_iload E.1 hb dX0_after_39 (lv_at hl 4 rfl) ?_
        obtain ⟨q16, hg, hf⟩ := dR_s hf
        refine d_ald E hb hS (by decide) hg dX0_after_41 ?_
        refine lv_astore (lv' := [(5, .ref (ad q16)), (0, .ref (ad 0)), (1, .int x1), (2, .ref (ad x2)), (3, .int x3), (4, .int x4)]) E.1 hb dX0_after_42 hl (by decide) rfl (fun ls hl => ?_)
        refine lv_iconst (v := 0) E.1 hb dX0_after_44 rfl ?_
        refine lv_istore (lv' := [(6, .int 0), (5, .ref (ad q16)), (0, .ref (ad 0)), (1, .int x1), (2, .ref (ad x2)), (3, .int x3), (4, .int x4)]) E.1 hb dX0_after_45 hl (by decide) rfl (fun ls hl => ?_)
        exact hL47 k32 hk32 N A x2 x3 x4 q16 0 hf _ _ hS _ (lv_sub hl [2, 3, 4, 5, 6, 1, 0] rfl)
  refine lv_aload_n E.1 hb dX0_after_0 rfl (lv_at hl 0 rfl) ?_
  refine lv_iconst (v := 1) E.1 hb dX0_after_1 rfl ?_
  refine lv_iconst (v := 1) E.1 hb dX0_after_2 rfl ?_
  refine lv_iconst (v := 1) E.1 hb dX0_after_3 rfl ?_
  obtain ⟨r1, h1, hf⟩ := bo_s hf
  refine c_ki hS (va_runV ⟨E.1, hb, hml, E.2.1, E.2.2.1⟩ (zX0_isAhead h1) (cwV 3 E.2.2.1 gw_X0_279 rfl rfl rfl ⟨rfl, gnX0_isAhead⟩ ⟨Nat.le_of_ble_eq_true rfl, Nat.le_of_ble_eq_true rfl⟩) (c_preV E hS ci_1 (sK hS (by decide) rfl) (hS.1.lt (sK hS (by decide) rfl) rfl) _) rfl rfl hl.1 rfl (lv_room (Nat.le_of_ble_eq_true rfl)) dX0_after_4 ⟨Nat.le_refl 0, Nat.le_refl 0⟩) hS.2.2.2.2 (fun H locs hS hn => ?_)
  refine lv_if_eq (tgt := 19) E.1 hb dX0_after_7 (by decide) (fun hc => ?_) (fun hc => ?_)
  · have hf := it_s hc hf
    refine lv_iconst (v := (-1)) E.1 hb dX0_after_19 rfl ?_
    exact c_ir E hb hr hlk hS ⟨Nat.le_refl 0, Nat.le_refl 0⟩ hf dX0_after_20
  · have hf := if_s hc hf
    refine lv_iload_n E.1 hb dX0_after_10 rfl (lv_at hl 1 rfl) ?_
    refine lv_iconst (v := 0) E.1 hb dX0_after_11 rfl ?_
    refine lv_iconst (v := 1) E.1 hb dX0_after_12 rfl ?_
    obtain ⟨r2, h1, hf⟩ := bo_s hf
    refine c_ki hS (va_runS ⟨E.1, hb, hml, E.2.1, E.2.2.1⟩ (zX0_is h1) (va_cwS 3 E.2.2.1 gw_X0_168 rfl rfl rfl gnX0_is ⟨Nat.le_of_ble_eq_true rfl, Nat.le_of_ble_eq_true rfl⟩) (c_preS E hS _) rfl rfl hl.1 rfl (lv_room (Nat.le_of_ble_eq_true rfl)) dX0_after_13 ⟨Nat.le_refl 0, Nat.le_refl 0⟩) hS.2.2.2.2 (fun H locs hS hn => ?_)
    refine lv_if_ne (tgt := 21) E.1 hb dX0_after_16 (by decide) (fun hc => ?_) (fun hc => ?_)
    · have hf := if_s hc hf
      refine lv_aload_n E.1 hb dX0_after_21 rfl (lv_at hl 0 rfl) ?_
      refine c_gN (k := 16) (f := 116) (q := 128) E hb hS ci_1 (sK hS (by decide) rfl) rfl rfl rfl (sRf hS (by decide) rfl) fk_X0_92_X0 (fun _ h => h) dX0_after_22 ?_
      refine lv_astore_n (lv' := [(2, .ref (ad 128)), (0, .ref (ad 0)), (1, .int x1)]) E.1 hb dX0_after_25 rfl hl (by decide) rfl (fun ls hl => ?_)
      refine lv_aload_n E.1 hb dX0_after_26 rfl (lv_at hl 0 rfl) ?_
      refine s_aln E hb hS ⟨by decide, rfl, rfl⟩ (by decide) dX0_after_27 ?_
      refine lv_istore_n (lv' := [(3, .int (Int32.ofNat 8)), (2, .ref (ad 128)), (0, .ref (ad 0)), (1, .int x1)]) E.1 hb dX0_after_28 rfl hl (by decide) rfl (fun ls hl => ?_)
      refine lv_iconst (v := 0) E.1 hb dX0_after_29 rfl ?_
      refine lv_istore (lv' := [(4, .int 0), (3, .int (Int32.ofNat 8)), (2, .ref (ad 128)), (0, .ref (ad 0)), (1, .int x1)]) E.1 hb dX0_after_30 hl (by decide) rfl (fun ls hl => ?_)
      exact hL32 N A0 128 (Int32.ofNat 8) 0 hf _ _ hS _ (lv_sub hl [3, 4, 2, 1, 0] rfl)
    · have hf := it_s hc hf
      refine lv_iconst (v := (-1)) E.1 hb dX0_after_19 rfl ?_
      exact c_ir E hb hr hlk hS ⟨Nat.le_refl 0, Nat.le_refl 0⟩ hf dX0_after_20
theorem gw_X0_330 : GoodIn lw_all (wsV RX0 330 RX0 yX0_fewest (ws_ yX0_fewest cX0_fewest 7 (some .int))) := lw_V q1554 q1556 qs55 q152 q1557
theorem gnX0_fewest : yX0_fewest.cls ≠ "java/lang/invoke/MethodHandle" ∧ yX0_fewest.cls ≠ "java/lang/invoke/VarHandle" ∧ (parseMethodDescriptor yX0_fewest.desc).map (fun d => d.parameters.length) = some 4 := by decide +kernel
theorem gw_X0_334 : GoodIn lw_all (va_wsS RX0 334 yJ12_min (ws_ yJ12_min cJ12_min 2 (some .int))) := lw_S q1558 q947 q172 q948
/-! MarginFolk.fewest(IIII)I: RO -/
noncomputable def X0_fewest_b15 (N : Nat) (rw : AH → Int32 → Int32 → Int32 → Int32 → Option Int32) (x1 : Int32) (x2 : Int32) (x3 : Int32) (x4 : Int32) (A : AH) (k15 : Int32 → Int32 → Option Int32) (x5 : Int32) (x6 : Int32) : Option Int32 :=
  if (x4 - (x2 - x1)) < x6 then (some x5) else (bo (sI 8 31 A 137 x1) fun v1 => bo (sI 8 31 A 138 x6) fun v2 => bo (rw A (x1 + 1) x2 (x6 + 1) x4) fun r3 => bo (J12_min x5 ((v1 - v2) + r3)) fun r4 => k15 r4 (x6 + 1))
noncomputable def X0_fewest (N : Nat) (rw : AH → Int32 → Int32 → Int32 → Int32 → Option Int32) (A : AH) (x1 : Int32) (x2 : Int32) (x3 : Int32) (x4 : Int32) : Option Int32 :=
  if x1 = x2 then (some 0) else (rn2 (X0_fewest_b15 N rw x1 x2 x3 x4 A) N 100000000 x3)
set_option maxHeartbeats 4000000 in
theorem zX0_fewest {l : Launch} {dC : Nat → ClassId} {dI : Nat → Nat → Nat} {ac : Nat → ClassId} {ad : Nat → Nat} {N : Nat} {rw : AH → Int32 → Int32 → Int32 → Int32 → Option Int32} {fa la : Nat} (ha : RcW l dC dI ac ad yX0_fewest cX0_fewest 7 fa la rw) {A : AH} {x1 : Int32} {x2 : Int32} {x3 : Int32} {x4 : Int32} {r : Int32} (hf : X0_fewest N rw A x1 x2 x3 x4 = some r) : Met l yX0_fewest (ws_ yX0_fewest cX0_fewest 7 (some .int)) { frames := fa + 1, cells := 0, slots := 0, locals := la + 26 } (va_Pc [.ref (ad 0), .int x1, .int x2, .int x3, .int x4] (cPre dC dI ac ad True A)) (cQi dC dI ac ad True (aN A) (aS A) (aN A) (aS A) r A) 0 0 (cF ad) := by
  unfold X0_fewest at hf
  refine c_of ⟨Nat.le_refl _, Nat.le_refl _⟩ RX0 (plainFor_of_name (by decide)) rfl (Nat.le_of_ble_eq_true rfl) ?_
  intro p e s m args below meth c E hb hr hlk hnm hml hS ls hl
  have hl : lv_has ls 7 [(0, .ref (ad 0)), (1, .int x1), (2, .int x2), (3, .int x3), (4, .int x4)] := hl
  have hL15 : ∀ (n : Nat) (x5 : Int32) (x6 : Int32), rn2 (X0_fewest_b15 N rw x1 x2 x3 x4 A) n x5 x6 = some r → ∀ (H : Heap) (locs : List Loc), cS dC dI ac ad True s.heap (aN A) (aS A) (aN A) (aS A) A H locs → ∀ (ls : Array Slot), lv_has ls 7 [(0, .ref (ad 0)), (1, .int x1), (2, .int x2), (3, .int x3), (4, .int x4), (5, .int x5), (6, .int x6)] → W p l e { frames := fa + 1, cells := 0, slots := 0, locals := la + 26 } s m args below meth c H locs 0 0 (MQ below (cQi dC dI ac ad True (aN A) (aS A) (aN A) (aS A) r A) args s 0 0 (cF ad)) (F0 m 15 ls []) := by
    intro  n
    induction n with
    | zero =>
      intro x5 x6 hf
      cases hf
    | succ n ih =>
      intro x5 x6 hf H locs hS ls hl
      have hf : X0_fewest_b15 N rw x1 x2 x3 x4 A (rn2 (X0_fewest_b15 N rw x1 x2 x3 x4 A) n) x5 x6 = some r := hf
      have hk15 := ih
      generalize rn2 (X0_fewest_b15 N rw x1 x2 x3 x4 A) n = k15 at hf hk15
      unfold X0_fewest_b15 at hf
      refine lv_iload E.1 hb dX0_fewest_15 (lv_at hl 6 rfl) ?_
      refine lv_iload E.1 hb dX0_fewest_17 (lv_at hl 4 rfl) ?_
      refine lv_iload_n E.1 hb dX0_fewest_19 rfl (lv_at hl 2 rfl) ?_
      refine lv_iload_n E.1 hb dX0_fewest_20 rfl (lv_at hl 1 rfl) ?_
      refine lv_isub E.1 hb dX0_fewest_21 ?_
      refine lv_isub E.1 hb dX0_fewest_22 ?_
      refine lv_icmp_gt (tgt := 68) E.1 hb dX0_fewest_23 (by decide) (fun hc => ?_) (fun hc => ?_)
      · have hf := it_s hc hf
        refine lv_iload E.1 hb dX0_fewest_68 (lv_at hl 5 rfl) ?_
        exact c_ir E hb hr hlk hS ⟨Nat.le_refl 0, Nat.le_refl 0⟩ (ro_s hf) dX0_fewest_70
      · have hf := if_s hc hf
        refine lv_iload E.1 hb dX0_fewest_26 (lv_at hl 5 rfl) ?_
        refine lv_aload_n E.1 hb dX0_fewest_28 rfl (lv_at hl 0 rfl) ?_
        refine c_gN (k := 17) (f := 117) (q := 137) E hb hS ci_1 (sK hS (by decide) rfl) rfl rfl rfl (sRf hS (by decide) rfl) fk_X0_95_X0 (fun _ h => h) dX0_fewest_29 ?_
        refine lv_iload_n E.1 hb dX0_fewest_32 rfl (lv_at hl 1 rfl) ?_
        obtain ⟨hg, hf⟩ := sI_s hf
        refine s_ld E hb hS (t := 31) ⟨by decide, rfl, rfl⟩ hg (Or.inl ⟨rfl, rfl⟩) dX0_fewest_33 ?_
        refine lv_aload_n E.1 hb dX0_fewest_34 rfl (lv_at hl 0 rfl) ?_
        refine c_gN (k := 18) (f := 118) (q := 138) E hb hS ci_1 (sK hS (by decide) rfl) rfl rfl rfl (sRf hS (by decide) rfl) fk_X0_98_X0 (fun _ h => h) dX0_fewest_35 ?_
        refine lv_iload E.1 hb dX0_fewest_38 (lv_at hl 6 rfl) ?_
        obtain ⟨hg, hf⟩ := sI_s hf
        refine s_ld E hb hS (t := 31) ⟨by decide, rfl, rfl⟩ hg (Or.inl ⟨rfl, rfl⟩) dX0_fewest_40 ?_
        refine lv_isub E.1 hb dX0_fewest_41 ?_
        refine lv_aload_n E.1 hb dX0_fewest_42 rfl (lv_at hl 0 rfl) ?_
        refine lv_iload_n E.1 hb dX0_fewest_43 rfl (lv_at hl 1 rfl) ?_
        refine lv_iconst (v := 1) E.1 hb dX0_fewest_44 rfl ?_
        refine lv_iadd E.1 hb dX0_fewest_45 ?_
        refine lv_iload_n E.1 hb dX0_fewest_46 rfl (lv_at hl 2 rfl) ?_
        refine lv_iload E.1 hb dX0_fewest_47 (lv_at hl 6 rfl) ?_
        refine lv_iconst (v := 1) E.1 hb dX0_fewest_49 rfl ?_
        refine lv_iadd E.1 hb dX0_fewest_50 ?_
        refine lv_iload E.1 hb dX0_fewest_51 (lv_at hl 4 rfl) ?_
        obtain ⟨r3, h1, hf⟩ := bo_s hf
        refine c_ki hS (va_runV ⟨E.1, hb, hml, E.2.1, E.2.2.1⟩ (ha _ _ _ _ _ _ h1) (cwV 4 E.2.2.1 gw_X0_330 rfl rfl rfl ⟨rfl, gnX0_fewest⟩ ⟨by dsimp only; omega, by dsimp only; omega⟩) (c_preV E hS ci_1 (sK hS (by decide) rfl) (hS.1.lt (sK hS (by decide) rfl) rfl) _) rfl rfl hl.1 rfl (lv_room (Nat.le_of_ble_eq_true rfl)) dX0_fewest_53 ⟨Nat.le_refl 0, Nat.le_refl 0⟩) hS.2.2.2.2 (fun H locs hS hn => ?_)
        refine lv_iadd E.1 hb dX0_fewest_56 ?_
        obtain ⟨r4, h1, hf⟩ := bo_s hf
        refine c_ki hS (va_runS ⟨E.1, hb, hml, E.2.1, E.2.2.1⟩ (zJ12_min h1) (va_cwS 2 E.2.2.1 gw_X0_334 rfl rfl rfl gnJ12_min ⟨by dsimp only; omega, by dsimp only; omega⟩) (c_preS E hS _) rfl rfl hl.1 rfl (lv_room (Nat.le_of_ble_eq_true rfl)) dX0_fewest_57 ⟨Nat.le_refl 0, Nat.le_refl 0⟩) hS.2.2.2.2 (fun H locs hS hn => ?_)
        refine lv_istore (lv' := [(5, .int r4), (0, .ref (ad 0)), (1, .int x1), (2, .int x2), (3, .int x3), (4, .int x4), (6, .int x6)]) E.1 hb dX0_fewest_60 hl (by decide) rfl (fun ls hl => ?_)
        refine lv_iinc (v := (x6 + 1)) (lv' := [(6, .int (x6 + 1)), (5, .int r4), (0, .ref (ad 0)), (1, .int x1), (2, .int x2), (3, .int x3), (4, .int x4)]) E.1 hb dX0_fewest_62 hl (k := 6) rfl rfl (by decide) rfl (fun ls hl => ?_)
        refine lv_goto (tgt := 15) E.1 hb dX0_fewest_65 (by decide) ?_
        exact hk15 r4 (x6 + 1) hf _ _ hS _ (lv_sub hl [2, 3, 4, 5, 6, 1, 0] rfl)
  refine lv_iload_n E.1 hb dX0_fewest_0 rfl (lv_at hl 1 rfl) ?_
  refine lv_iload_n E.1 hb dX0_fewest_1 rfl (lv_at hl 2 rfl) ?_
  refine lv_icmp_ne (tgt := 7) E.1 hb dX0_fewest_2 (by decide) (fun hc => ?_) (fun hc => ?_)
  · have hf := if_s hc hf
    refine lv_ldcw E.1 hb E.2.1 (E.2.2.1 _ q1426) dX0_fewest_7 ?_
    refine lv_istore (lv' := [(5, .int 100000000), (0, .ref (ad 0)), (1, .int x1), (2, .int x2), (3, .int x3), (4, .int x4)]) E.1 hb dX0_fewest_10 hl (by decide) rfl (fun ls hl => ?_)
    refine lv_iload_n E.1 hb dX0_fewest_12 rfl (lv_at hl 4 rfl) ?_
    refine lv_istore (lv' := [(6, .int x3), (5, .int 100000000), (0, .ref (ad 0)), (1, .int x1), (2, .int x2), (3, .int x3), (4, .int x4)]) E.1 hb dX0_fewest_13 hl (by decide) rfl (fun ls hl => ?_)
    exact hL15 N 100000000 x3 hf _ _ hS _ (lv_sub hl [2, 3, 4, 5, 6, 1, 0] rfl)
  · have hf := it_s hc hf
    refine lv_iconst (v := 0) E.1 hb dX0_fewest_5 rfl ?_
    exact c_ir E hb hr hlk hS ⟨Nat.le_refl 0, Nat.le_refl 0⟩ (ro_s hf) dX0_fewest_6
/-! the recursion w closed -/
noncomputable def fewG (N : Nat) : Nat → AH → Int32 → Int32 → Int32 → Int32 → Option Int32
  | 0 => fun _ _ _ _ _ => none
  | d + 1 => X0_fewest N (fewG N d)
theorem zfewG {l : Launch} {dC : Nat → ClassId} {dI : Nat → Nat → Nat} {ac : Nat → ClassId} {ad : Nat → Nat} {N : Nat} (d : Nat) : RcW l dC dI ac ad yX0_fewest cX0_fewest 7 (1 * d) (26 * d) (fewG N d) := by
  induction d with
  | zero =>
    intro A x1 x2 x3 x4 r h
    cases h
  | succ d ih =>
    rw [Nat.mul_add, Nat.mul_one, Nat.mul_add, Nat.mul_one]
    intro A x1 x2 x3 x4 r h
    exact zX0_fewest ih h
noncomputable def fewF (N : Nat) : AH → Int32 → Int32 → Int32 → Int32 → Option Int32 := fewG N 16
theorem zfewF {l : Launch} {dC : Nat → ClassId} {dI : Nat → Nat → Nat} {ac : Nat → ClassId} {ad : Nat → Nat} {N : Nat} : RcW l dC dI ac ad yX0_fewest cX0_fewest 7 16 416 (fewF N) := zfewG 16
theorem gw_X0_336 : GoodIn lw_all (wsV RX0 336 RX5 yX5_isFree (ws_ yX5_isFree cX5_isFree 3 (some .boolean))) := lw_V q1553 q1470 q1471 q163 q1472
/-! MarginFolk.trim(II)I: RW -/
noncomputable def X0_trim_b137 (N : Nat) (x1 : Int32) (x2 : Int32) (k44 : AH → Int32 → Int32 → Int32 → Option (Int32 × AH)) (A : AH) (x3 : Int32) (x4 : Int32) (x5 : Int32) : Option (Int32 × AH) :=
  k44 A x3 x4 (x5 + 1)
noncomputable def X0_trim_b107 (N : Nat) (x1 : Int32) (x2 : Int32) (k44 : AH → Int32 → Int32 → Int32 → Option (Int32 × AH)) (A : AH) (x3 : Int32) (x4 : Int32) (x5 : Int32) (x6 : Int32) : Option (Int32 × AH) :=
  if x6 = 0 then (bo (X5_isFree N A 16 x1 x5) fun r12 => if r12 = 0 then (X0_trim_b137 N x1 x2 k44 A x3 x4 x5) else (bo (tI 8 31 A 138 x4 x5) fun A13 => X0_trim_b137 N x1 x2 k44 A13 x3 (x4 + 1) x5)) else (X0_trim_b137 N x1 x2 k44 A x3 x4 x5)
noncomputable def X0_trim_b75 (N : Nat) (x1 : Int32) (x2 : Int32) (k44 : AH → Int32 → Int32 → Int32 → Option (Int32 × AH)) (A : AH) (x3 : Int32) (x4 : Int32) (x5 : Int32) (y0 : Int32) : Option (Int32 × AH) :=
  if y0 = 0 then (X0_trim_b107 N x1 x2 k44 A x3 x4 x5 y0) else (bo (X5_who N A 16 x1 x5) fun r14 => if r14 = (-1) then (X0_trim_b107 N x1 x2 k44 A x3 x4 x5 y0) else (bo (tI 8 31 A 137 x3 x5) fun A15 => X0_trim_b107 N x1 x2 k44 A15 (x3 + 1) x4 x5 y0))
noncomputable def X0_trim_b44 (N : Nat) (x1 : Int32) (x2 : Int32) (k44 : AH → Int32 → Int32 → Int32 → Option (Int32 × AH)) (A : AH) (x3 : Int32) (x4 : Int32) (x5 : Int32) : Option (Int32 × AH) :=
  bo (aR A 100 0 0) fun q7 => bo (gI 2 A 202 q7) fun v8 => if v8 ≤ x5 then (if x3 ≤ x4 then (bo (X0_fewest N (fewF N) A 0 x3 0 x4) fun r9 => some (r9, A)) else (some ((-1), A))) else (bo (aR A 100 0 0) fun q10 => bo (gI 2 A 202 q10) fun v11 => if x5 < (v11 - x2) then (X0_trim_b75 N x1 x2 k44 A x3 x4 x5 0) else (X0_trim_b75 N x1 x2 k44 A x3 x4 x5 1))
noncomputable def X0_trim (N : Nat) (A0 : AH) (x1 : Int32) (x2 : Int32) : Option (Int32 × AH) :=
  bo (aR A0 100 0 0) fun q1 => bo (gI 2 A0 201 q1) fun v2 => bo (X0_is x1 0 (v2 - 1)) fun r3 => if r3 = 0 then (some ((-1), A0)) else (bo (aR A0 100 0 0) fun q4 => bo (gI 2 A0 202 q4) fun v5 => bo (X0_is x2 1 (v5 - 1)) fun r6 => if r6 = 0 then (some ((-1), A0)) else (rn4 (X0_trim_b44 N x1 x2) N A0 0 0 0))
abbrev rX0_trim : Room := { frames := 18, cells := 0, slots := 0, locals := 468 }
set_option maxHeartbeats 4000000 in
theorem zX0_trim {l : Launch} {dC : Nat → ClassId} {dI : Nat → Nat → Nat} {ac : Nat → ClassId} {ad : Nat → Nat} {N : Nat} {A0 : AH} {x1 : Int32} {x2 : Int32} {r : Int32} {A' : AH} (hf : X0_trim N A0 x1 x2 = some (r, A')) : Met l yX0_trim (ws_ yX0_trim cX0_trim 7 (some .int)) { frames := 18, cells := 0, slots := 0, locals := 468 } (va_Pc [.ref (ad 0), .int x1, .int x2] (cPre dC dI ac ad True A0)) (cQi dC dI ac ad True (aN A0) (aS A0) (aN A0) (aS A0) r A') 0 0 (cF ad) := by
  unfold X0_trim at hf
  refine c_of ⟨Nat.le_refl _, Nat.le_refl _⟩ RX0 (plainFor_of_name (by decide)) rfl (Nat.le_of_ble_eq_true rfl) ?_
  intro p e s m args below meth c E hb hr hlk hnm hml hS ls hl
  have hl : lv_has ls 7 [(0, .ref (ad 0)), (1, .int x1), (2, .int x2)] := hl
  have hB137 : ∀ (k44 : AH → Int32 → Int32 → Int32 → Option (Int32 × AH)) (hk44 : ∀ (A : AH) (x3 : Int32) (x4 : Int32) (x5 : Int32), k44 A x3 x4 x5 = some (r, A') → ∀ (H : Heap) (locs : List Loc), cS dC dI ac ad True s.heap (aN A0) (aS A0) (aN A0) (aS A0) A H locs → ∀ (ls : Array Slot), lv_has ls 7 [(0, .ref (ad 0)), (1, .int x1), (2, .int x2), (3, .int x3), (4, .int x4), (5, .int x5)] → W p l e rX0_trim s m args below meth c H locs 0 0 (MQ below (cQi dC dI ac ad True (aN A0) (aS A0) (aN A0) (aS A0) r A') args s 0 0 (cF ad)) (F0 m 44 ls [])) (A : AH) (x3 : Int32) (x4 : Int32) (x5 : Int32), X0_trim_b137 N x1 x2 k44 A x3 x4 x5 = some (r, A') → ∀ (H : Heap) (locs : List Loc), cS dC dI ac ad True s.heap (aN A0) (aS A0) (aN A0) (aS A0) A H locs → ∀ (ls : Array Slot), lv_has ls 7 [(0, .ref (ad 0)), (1, .int x1), (2, .int x2), (3, .int x3), (4, .int x4), (5, .int x5)] → W p l e rX0_trim s m args below meth c H locs 0 0 (MQ below (cQi dC dI ac ad True (aN A0) (aS A0) (aN A0) (aS A0) r A') args s 0 0 (cF ad)) (F0 m 137 ls []) := by
    intro k44 hk44 A x3 x4 x5 hf H locs hS ls hl
    unfold X0_trim_b137 at hf
    refine lv_iinc (v := (x5 + 1)) (lv' := [(5, .int (x5 + 1)), (0, .ref (ad 0)), (1, .int x1), (2, .int x2), (3, .int x3), (4, .int x4)]) E.1 hb dX0_trim_137 hl (k := 5) rfl rfl (by decide) rfl (fun ls hl => ?_)
    refine lv_goto (tgt := 44) E.1 hb dX0_trim_140 (by decide) ?_
    exact hk44 A x3 x4 (x5 + 1) hf _ _ hS _ (lv_sub hl [1, 2, 3, 4, 5, 0] rfl)
  have hB107 : ∀ (k44 : AH → Int32 → Int32 → Int32 → Option (Int32 × AH)) (hk44 : ∀ (A : AH) (x3 : Int32) (x4 : Int32) (x5 : Int32), k44 A x3 x4 x5 = some (r, A') → ∀ (H : Heap) (locs : List Loc), cS dC dI ac ad True s.heap (aN A0) (aS A0) (aN A0) (aS A0) A H locs → ∀ (ls : Array Slot), lv_has ls 7 [(0, .ref (ad 0)), (1, .int x1), (2, .int x2), (3, .int x3), (4, .int x4), (5, .int x5)] → W p l e rX0_trim s m args below meth c H locs 0 0 (MQ below (cQi dC dI ac ad True (aN A0) (aS A0) (aN A0) (aS A0) r A') args s 0 0 (cF ad)) (F0 m 44 ls [])) (A : AH) (x3 : Int32) (x4 : Int32) (x5 : Int32) (x6 : Int32), X0_trim_b107 N x1 x2 k44 A x3 x4 x5 x6 = some (r, A') → ∀ (H : Heap) (locs : List Loc), cS dC dI ac ad True s.heap (aN A0) (aS A0) (aN A0) (aS A0) A H locs → ∀ (ls : Array Slot), lv_has ls 7 [(0, .ref (ad 0)), (1, .int x1), (2, .int x2), (3, .int x3), (4, .int x4), (5, .int x5), (6, .int x6)] → W p l e rX0_trim s m args below meth c H locs 0 0 (MQ below (cQi dC dI ac ad True (aN A0) (aS A0) (aN A0) (aS A0) r A') args s 0 0 (cF ad)) (F0 m 107 ls []) := by
    intro k44 hk44 A x3 x4 x5 x6 hf H locs hS ls hl
    unfold X0_trim_b107 at hf
    refine lv_iload E.1 hb dX0_trim_107 (lv_at hl 6 rfl) ?_
    refine lv_if_ne (tgt := 137) E.1 hb dX0_trim_109 (by decide) (fun hc => ?_) (fun hc => ?_)
    · have hf := if_s hc hf
      exact hB137 k44 hk44 A x3 x4 x5 hf _ _ hS _ (lv_sub hl [0, 1, 2, 3, 4, 5] rfl)
    · have hf := it_s hc hf
      refine lv_aload_n E.1 hb dX0_trim_112 rfl (lv_at hl 0 rfl) ?_
      refine c_gN (k := 9) (f := 109) (q := 16) E hb hS ci_1 (sK hS (by decide) rfl) rfl rfl rfl (sRf hS (by decide) rfl) fk_X0_69_X0 (fun _ h => h) dX0_trim_113 ?_
      refine lv_iload_n E.1 hb dX0_trim_116 rfl (lv_at hl 1 rfl) ?_
      refine lv_iload E.1 hb dX0_trim_117 (lv_at hl 5 rfl) ?_
      obtain ⟨r12, h1, hf⟩ := bo_s hf
      refine c_ki hS (va_runV ⟨E.1, hb, hml, E.2.1, E.2.2.1⟩ (zX5_isFree h1) (cwV 2 E.2.2.1 gw_X0_336 rfl rfl rfl ⟨rfl, gnX5_isFree⟩ ⟨Nat.le_of_ble_eq_true rfl, Nat.le_of_ble_eq_true rfl⟩) (c_preV E hS ci_6 (sK hS (by decide) rfl) (hS.1.lt (sK hS (by decide) rfl) rfl) _) rfl rfl hl.1 rfl (lv_room (Nat.le_of_ble_eq_true rfl)) dX0_trim_119 ⟨Nat.le_refl 0, Nat.le_refl 0⟩) hS.2.2.2.2 (fun H locs hS hn => ?_)
      refine lv_if_eq (tgt := 137) E.1 hb dX0_trim_122 (by decide) (fun hc => ?_) (fun hc => ?_)
      · have hf := it_s hc hf
        exact hB137 k44 hk44 A x3 x4 x5 hf _ _ hS _ (lv_sub hl [0, 1, 2, 3, 4, 5] rfl)
      · have hf := if_s hc hf
        refine lv_aload_n E.1 hb dX0_trim_125 rfl (lv_at hl 0 rfl) ?_
        refine c_gN (k := 18) (f := 118) (q := 138) E hb hS ci_1 (sK hS (by decide) rfl) rfl rfl rfl (sRf hS (by decide) rfl) fk_X0_98_X0 (fun _ h => h) dX0_trim_126 ?_
        refine lv_iload E.1 hb dX0_trim_129 (lv_at hl 4 rfl) ?_
        refine lv_iinc (v := (x4 + 1)) (lv' := [(4, .int (x4 + 1)), (0, .ref (ad 0)), (1, .int x1), (2, .int x2), (3, .int x3), (5, .int x5), (6, .int x6)]) E.1 hb dX0_trim_131 hl (k := 4) rfl rfl (by decide) rfl (fun ls hl => ?_)
        refine lv_iload E.1 hb dX0_trim_134 (lv_at hl 5 rfl) ?_
        obtain ⟨A13, hg, hw, hf⟩ := tI_s hf
        refine s_st E hb hS (t := 31) ⟨by decide, rfl, rfl⟩ hg (Or.inl ⟨rfl, rfl, rfl⟩) hw dX0_trim_136 (fun H locs hS => ?_)
        exact hB137 k44 hk44 A13 x3 (x4 + 1) x5 hf _ _ hS _ (lv_sub hl [1, 2, 3, 4, 0, 5] rfl)
  have hB75 : ∀ (k44 : AH → Int32 → Int32 → Int32 → Option (Int32 × AH)) (hk44 : ∀ (A : AH) (x3 : Int32) (x4 : Int32) (x5 : Int32), k44 A x3 x4 x5 = some (r, A') → ∀ (H : Heap) (locs : List Loc), cS dC dI ac ad True s.heap (aN A0) (aS A0) (aN A0) (aS A0) A H locs → ∀ (ls : Array Slot), lv_has ls 7 [(0, .ref (ad 0)), (1, .int x1), (2, .int x2), (3, .int x3), (4, .int x4), (5, .int x5)] → W p l e rX0_trim s m args below meth c H locs 0 0 (MQ below (cQi dC dI ac ad True (aN A0) (aS A0) (aN A0) (aS A0) r A') args s 0 0 (cF ad)) (F0 m 44 ls [])) (A : AH) (x3 : Int32) (x4 : Int32) (x5 : Int32) (y0 : Int32), X0_trim_b75 N x1 x2 k44 A x3 x4 x5 y0 = some (r, A') → ∀ (H : Heap) (locs : List Loc), cS dC dI ac ad True s.heap (aN A0) (aS A0) (aN A0) (aS A0) A H locs → ∀ (ls : Array Slot), lv_has ls 7 [(0, .ref (ad 0)), (1, .int x1), (2, .int x2), (3, .int x3), (4, .int x4), (5, .int x5)] → W p l e rX0_trim s m args below meth c H locs 0 0 (MQ below (cQi dC dI ac ad True (aN A0) (aS A0) (aN A0) (aS A0) r A') args s 0 0 (cF ad)) (F0 m 75 ls [.int y0]) := by
    intro k44 hk44 A x3 x4 x5 y0 hf H locs hS ls hl
    unfold X0_trim_b75 at hf
    refine lv_istore (lv' := [(6, .int y0), (0, .ref (ad 0)), (1, .int x1), (2, .int x2), (3, .int x3), (4, .int x4), (5, .int x5)]) E.1 hb dX0_trim_75 hl (by decide) rfl (fun ls hl => ?_)
    refine lv_iload E.1 hb dX0_trim_77 (lv_at hl 0 rfl) ?_
    refine lv_if_eq (tgt := 107) E.1 hb dX0_trim_79 (by decide) (fun hc => ?_) (fun hc => ?_)
    · have hf := it_s hc hf
      exact hB107 k44 hk44 A x3 x4 x5 y0 hf _ _ hS _ (lv_sub hl [1, 2, 3, 4, 5, 6, 0] rfl)
    · have hf := if_s hc hf
      refine lv_aload_n E.1 hb dX0_trim_82 rfl (lv_at hl 1 rfl) ?_
      refine c_gN (k := 9) (f := 109) (q := 16) E hb hS ci_1 (sK hS (by decide) rfl) rfl rfl rfl (sRf hS (by decide) rfl) fk_X0_69_X0 (fun _ h => h) dX0_trim_83 ?_
      refine lv_iload_n E.1 hb dX0_trim_86 rfl (lv_at hl 2 rfl) ?_
      refine lv_iload E.1 hb dX0_trim_87 (lv_at hl 6 rfl) ?_
      obtain ⟨r14, h1, hf⟩ := bo_s hf
      refine c_ki hS (va_runV ⟨E.1, hb, hml, E.2.1, E.2.2.1⟩ (zX5_who h1) (cwV 2 E.2.2.1 gw_X0_257 rfl rfl rfl ⟨rfl, gnX5_who⟩ ⟨Nat.le_of_ble_eq_true rfl, Nat.le_of_ble_eq_true rfl⟩) (c_preV E hS ci_6 (sK hS (by decide) rfl) (hS.1.lt (sK hS (by decide) rfl) rfl) _) rfl rfl hl.1 rfl (lv_room (Nat.le_of_ble_eq_true rfl)) dX0_trim_89 ⟨Nat.le_refl 0, Nat.le_refl 0⟩) hS.2.2.2.2 (fun H locs hS hn => ?_)
      refine lv_iconst (v := (-1)) E.1 hb dX0_trim_92 rfl ?_
      refine lv_icmp_eq (tgt := 107) E.1 hb dX0_trim_93 (by decide) (fun hc => ?_) (fun hc => ?_)
      · have hf := it_s hc hf
        exact hB107 k44 hk44 A x3 x4 x5 y0 hf _ _ hS _ (lv_sub hl [1, 2, 3, 4, 5, 6, 0] rfl)
      · have hf := if_s hc hf
        refine lv_aload_n E.1 hb dX0_trim_96 rfl (lv_at hl 1 rfl) ?_
        refine c_gN (k := 17) (f := 117) (q := 137) E hb hS ci_1 (sK hS (by decide) rfl) rfl rfl rfl (sRf hS (by decide) rfl) fk_X0_95_X0 (fun _ h => h) dX0_trim_97 ?_
        refine lv_iload_n E.1 hb dX0_trim_100 rfl (lv_at hl 4 rfl) ?_
        refine lv_iinc (v := (x3 + 1)) (lv' := [(3, .int (x3 + 1)), (6, .int y0), (0, .ref (ad 0)), (1, .int x1), (2, .int x2), (4, .int x4), (5, .int x5)]) E.1 hb dX0_trim_101 hl (k := 4) rfl rfl (by decide) rfl (fun ls hl => ?_)
        refine lv_iload E.1 hb dX0_trim_104 (lv_at hl 6 rfl) ?_
        obtain ⟨A15, hg, hw, hf⟩ := tI_s hf
        refine s_st E hb hS (t := 31) ⟨by decide, rfl, rfl⟩ hg (Or.inl ⟨rfl, rfl, rfl⟩) hw dX0_trim_106 (fun H locs hS => ?_)
        exact hB107 k44 hk44 A15 (x3 + 1) x4 x5 y0 hf _ _ hS _ (lv_sub hl [2, 3, 4, 0, 5, 6, 1] rfl)
  have hL44 : ∀ (n : Nat) (A : AH) (x3 : Int32) (x4 : Int32) (x5 : Int32), rn4 (X0_trim_b44 N x1 x2) n A x3 x4 x5 = some (r, A') → ∀ (H : Heap) (locs : List Loc), cS dC dI ac ad True s.heap (aN A0) (aS A0) (aN A0) (aS A0) A H locs → ∀ (ls : Array Slot), lv_has ls 7 [(0, .ref (ad 0)), (1, .int x1), (2, .int x2), (3, .int x3), (4, .int x4), (5, .int x5)] → W p l e rX0_trim s m args below meth c H locs 0 0 (MQ below (cQi dC dI ac ad True (aN A0) (aS A0) (aN A0) (aS A0) r A') args s 0 0 (cF ad)) (F0 m 44 ls []) := by
    intro  n
    induction n with
    | zero =>
      intro A x3 x4 x5 hf
      cases hf
    | succ n ih =>
      intro A x3 x4 x5 hf H locs hS ls hl
      have hf : X0_trim_b44 N x1 x2 (rn4 (X0_trim_b44 N x1 x2) n) A x3 x4 x5 = some (r, A') := hf
      have hk44 := ih
      generalize rn4 (X0_trim_b44 N x1 x2) n = k44 at hf hk44
      unfold X0_trim_b44 at hf
      refine lv_iload E.1 hb dX0_trim_44 (lv_at hl 5 rfl) ?_
      refine lv_aload_n E.1 hb dX0_trim_46 rfl (lv_at hl 0 rfl) ?_
      obtain ⟨q7, hr7, hf⟩ := bo_s hf
      refine c_gN (k := 0) (f := 100) E hb hS ci_1 (sK hS (by decide) rfl) rfl rfl rfl hr7 fk_X0_31_X0 (fun _ h => h) dX0_trim_47 ?_
      obtain ⟨hk, hf⟩ := gI_s hf
      refine c_gI (k := 2) (f := 202) E hb hS ci_2 hk rfl rfl rfl fk_X0_172_X1 (fun _ h => h) dX0_trim_50 ?_
      refine lv_icmp_ge (tgt := 143) E.1 hb dX0_trim_53 (by decide) (fun hc => ?_) (fun hc => ?_)
      · have hf := it_s hc hf
        refine lv_iload_n E.1 hb dX0_trim_143 rfl (lv_at hl 3 rfl) ?_
        refine lv_iload E.1 hb dX0_trim_144 (lv_at hl 4 rfl) ?_
        refine lv_icmp_le (tgt := 153) E.1 hb dX0_trim_146 (by decide) (fun hc => ?_) (fun hc => ?_)
        · have hf := it_s hc hf
          refine lv_aload_n E.1 hb dX0_trim_153 rfl (lv_at hl 0 rfl) ?_
          refine lv_iconst (v := 0) E.1 hb dX0_trim_154 rfl ?_
          refine lv_iload_n E.1 hb dX0_trim_155 rfl (lv_at hl 3 rfl) ?_
          refine lv_iconst (v := 0) E.1 hb dX0_trim_156 rfl ?_
          refine lv_iload E.1 hb dX0_trim_157 (lv_at hl 4 rfl) ?_
          obtain ⟨r9, h1, hf⟩ := bo_s hf
          refine c_ki hS (va_runV ⟨E.1, hb, hml, E.2.1, E.2.2.1⟩ (zX0_fewest zfewF h1) (cwV 4 E.2.2.1 gw_X0_330 rfl rfl rfl ⟨rfl, gnX0_fewest⟩ ⟨by dsimp only; omega, by dsimp only; omega⟩) (c_preV E hS ci_1 (sK hS (by decide) rfl) (hS.1.lt (sK hS (by decide) rfl) rfl) _) rfl rfl hl.1 rfl (lv_room (Nat.le_of_ble_eq_true rfl)) dX0_trim_159 ⟨Nat.le_refl 0, Nat.le_refl 0⟩) hS.2.2.2.2 (fun H locs hS hn => ?_)
          exact c_ir E hb hr hlk hS ⟨Nat.le_refl 0, Nat.le_refl 0⟩ hf dX0_trim_162
        · have hf := if_s hc hf
          refine lv_iconst (v := (-1)) E.1 hb dX0_trim_149 rfl ?_
          refine lv_goto (tgt := 162) E.1 hb dX0_trim_150 (by decide) ?_
          exact c_ir E hb hr hlk hS ⟨Nat.le_refl 0, Nat.le_refl 0⟩ hf dX0_trim_162
      · have hf := if_s hc hf
        refine lv_iload E.1 hb dX0_trim_56 (lv_at hl 5 rfl) ?_
        refine lv_aload_n E.1 hb dX0_trim_58 rfl (lv_at hl 0 rfl) ?_
        obtain ⟨q10, hr7, hf⟩ := bo_s hf
        refine c_gN (k := 0) (f := 100) E hb hS ci_1 (sK hS (by decide) rfl) rfl rfl rfl hr7 fk_X0_31_X0 (fun _ h => h) dX0_trim_59 ?_
        obtain ⟨hk, hf⟩ := gI_s hf
        refine c_gI (k := 2) (f := 202) E hb hS ci_2 hk rfl rfl rfl fk_X0_172_X1 (fun _ h => h) dX0_trim_62 ?_
        refine lv_iload_n E.1 hb dX0_trim_65 rfl (lv_at hl 2 rfl) ?_
        refine lv_isub E.1 hb dX0_trim_66 ?_
        refine lv_icmp_lt (tgt := 74) E.1 hb dX0_trim_67 (by decide) (fun hc => ?_) (fun hc => ?_)
        · have hf := it_s hc hf
          refine lv_iconst (v := 0) E.1 hb dX0_trim_74 rfl ?_
          exact hB75 k44 hk44 A x3 x4 x5 0 hf _ _ hS _ (lv_sub hl [0, 1, 2, 3, 4, 5] rfl)
        · have hf := if_s hc hf
          refine lv_iconst (v := 1) E.1 hb dX0_trim_70 rfl ?_
          refine lv_goto (tgt := 75) E.1 hb dX0_trim_71 (by decide) ?_
          exact hB75 k44 hk44 A x3 x4 x5 1 hf _ _ hS _ (lv_sub hl [0, 1, 2, 3, 4, 5] rfl)
  refine lv_iload_n E.1 hb dX0_trim_0 rfl (lv_at hl 1 rfl) ?_
  refine lv_iconst (v := 0) E.1 hb dX0_trim_1 rfl ?_
  refine lv_aload_n E.1 hb dX0_trim_2 rfl (lv_at hl 0 rfl) ?_
  obtain ⟨q1, hr7, hf⟩ := bo_s hf
  refine c_gN (k := 0) (f := 100) E hb hS ci_1 (sK hS (by decide) rfl) rfl rfl rfl hr7 fk_X0_31_X0 (fun _ h => h) dX0_trim_3 ?_
  obtain ⟨hk, hf⟩ := gI_s hf
  refine c_gI (k := 1) (f := 201) E hb hS ci_2 hk rfl rfl rfl fk_X0_154_X1 (fun _ h => h) dX0_trim_6 ?_
  refine lv_iconst (v := 1) E.1 hb dX0_trim_9 rfl ?_
  refine lv_isub E.1 hb dX0_trim_10 ?_
  obtain ⟨r3, h1, hf⟩ := bo_s hf
  refine c_ki hS (va_runS ⟨E.1, hb, hml, E.2.1, E.2.2.1⟩ (zX0_is h1) (va_cwS 3 E.2.2.1 gw_X0_168 rfl rfl rfl gnX0_is ⟨Nat.le_of_ble_eq_true rfl, Nat.le_of_ble_eq_true rfl⟩) (c_preS E hS _) rfl rfl hl.1 rfl (lv_room (Nat.le_of_ble_eq_true rfl)) dX0_trim_11 ⟨Nat.le_refl 0, Nat.le_refl 0⟩) hS.2.2.2.2 (fun H locs hS hn => ?_)
  refine lv_if_eq (tgt := 34) E.1 hb dX0_trim_14 (by decide) (fun hc => ?_) (fun hc => ?_)
  · have hf := it_s hc hf
    refine lv_iconst (v := (-1)) E.1 hb dX0_trim_34 rfl ?_
    exact c_ir E hb hr hlk hS ⟨Nat.le_refl 0, Nat.le_refl 0⟩ hf dX0_trim_35
  · have hf := if_s hc hf
    refine lv_iload_n E.1 hb dX0_trim_17 rfl (lv_at hl 2 rfl) ?_
    refine lv_iconst (v := 1) E.1 hb dX0_trim_18 rfl ?_
    refine lv_aload_n E.1 hb dX0_trim_19 rfl (lv_at hl 0 rfl) ?_
    obtain ⟨q4, hr7, hf⟩ := bo_s hf
    refine c_gN (k := 0) (f := 100) E hb hS ci_1 (sK hS (by decide) rfl) rfl rfl rfl hr7 fk_X0_31_X0 (fun _ h => h) dX0_trim_20 ?_
    obtain ⟨hk, hf⟩ := gI_s hf
    refine c_gI (k := 2) (f := 202) E hb hS ci_2 hk rfl rfl rfl fk_X0_172_X1 (fun _ h => h) dX0_trim_23 ?_
    refine lv_iconst (v := 1) E.1 hb dX0_trim_26 rfl ?_
    refine lv_isub E.1 hb dX0_trim_27 ?_
    obtain ⟨r6, h1, hf⟩ := bo_s hf
    refine c_ki hS (va_runS ⟨E.1, hb, hml, E.2.1, E.2.2.1⟩ (zX0_is h1) (va_cwS 3 E.2.2.1 gw_X0_168 rfl rfl rfl gnX0_is ⟨Nat.le_of_ble_eq_true rfl, Nat.le_of_ble_eq_true rfl⟩) (c_preS E hS _) rfl rfl hl.1 rfl (lv_room (Nat.le_of_ble_eq_true rfl)) dX0_trim_28 ⟨Nat.le_refl 0, Nat.le_refl 0⟩) hS.2.2.2.2 (fun H locs hS hn => ?_)
    refine lv_if_ne (tgt := 36) E.1 hb dX0_trim_31 (by decide) (fun hc => ?_) (fun hc => ?_)
    · have hf := if_s hc hf
      refine lv_iconst (v := 0) E.1 hb dX0_trim_36 rfl ?_
      refine lv_istore_n (lv' := [(3, .int 0), (0, .ref (ad 0)), (1, .int x1), (2, .int x2)]) E.1 hb dX0_trim_37 rfl hl (by decide) rfl (fun ls hl => ?_)
      refine lv_iconst (v := 0) E.1 hb dX0_trim_38 rfl ?_
      refine lv_istore (lv' := [(4, .int 0), (3, .int 0), (0, .ref (ad 0)), (1, .int x1), (2, .int x2)]) E.1 hb dX0_trim_39 hl (by decide) rfl (fun ls hl => ?_)
      refine lv_iconst (v := 0) E.1 hb dX0_trim_41 rfl ?_
      refine lv_istore (lv' := [(5, .int 0), (4, .int 0), (3, .int 0), (0, .ref (ad 0)), (1, .int x1), (2, .int x2)]) E.1 hb dX0_trim_42 hl (by decide) rfl (fun ls hl => ?_)
      exact hL44 N A0 0 0 0 hf _ _ hS _ (lv_sub hl [3, 4, 5, 2, 1, 0] rfl)
    · have hf := it_s hc hf
      refine lv_iconst (v := (-1)) E.1 hb dX0_trim_34 rfl ?_
      exact c_ir E hb hr hlk hS ⟨Nat.le_refl 0, Nat.le_refl 0⟩ hf dX0_trim_35
/-! MarginFolk.undo()Z: RW -/
noncomputable def X0_undo (N : Nat) (A0 : AH) : Option (Int32 × AH) :=
  if (aI A0 120 0 0) = 0 then (bd (X0_refuses A0 4) fun r6 A7 => if r6 < 0 then (some (0, A7)) else (some (1, A7))) else (lt2 (wI A0 120 0 0 ((aI A0 120 0 0) - 1)) fun A1 => bo (sR 20 38 A1 139 (aI A1 120 0 0)) fun q2 => bd (X5_copy N A1 16 q2) fun r3 A4 => bo r3 fun q5 => some (1, A4))
abbrev rX0_undo : Room := { frames := 1, cells := 0, slots := 0, locals := 23 }
set_option maxHeartbeats 4000000 in
theorem zX0_undo {l : Launch} {dC : Nat → ClassId} {dI : Nat → Nat → Nat} {ac : Nat → ClassId} {ad : Nat → Nat} {N : Nat} {A0 : AH} {r : Int32} {A' : AH} (hf : X0_undo N A0 = some (r, A')) : Met l yX0_undo (ws_ yX0_undo cX0_undo 1 (some .boolean)) { frames := 1, cells := 0, slots := 0, locals := 23 } (va_Pc [.ref (ad 0)] (cPre dC dI ac ad True A0)) (cQi dC dI ac ad True (aN A0) (aS A0) (aN A0) (aS A0) r A') 0 0 (cF ad) := by
  unfold X0_undo at hf
  refine c_of ⟨Nat.le_refl _, Nat.le_refl _⟩ RX0 (plainFor_of_name (by decide)) rfl (Nat.le_of_ble_eq_true rfl) ?_
  intro p e s m args below meth c E hb hr hlk hnm hml hS ls hl
  have hl : lv_has ls 1 [(0, .ref (ad 0))] := hl
  refine lv_aload_n E.1 hb dX0_undo_0 rfl (lv_at hl 0 rfl) ?_
  refine c_gI (k := 20) (f := 120) E hb hS ci_1 (sK hS (by decide) rfl) rfl rfl rfl fk_X0_145_X0 (fun _ h => h) dX0_undo_1 ?_
  refine lv_if_ne (tgt := 21) E.1 hb dX0_undo_4 (by decide) (fun hc => ?_) (fun hc => ?_)
  · have hf := if_s hc hf
    refine lv_aload_n E.1 hb dX0_undo_21 rfl (lv_at hl 0 rfl) ?_
    refine lv_dup E.1 hb dX0_undo_22 rfl ?_
    refine c_gI (k := 20) (f := 120) E hb hS ci_1 (sK hS (by decide) rfl) rfl rfl rfl fk_X0_145_X0 (fun _ h => h) dX0_undo_23 ?_
    refine lv_iconst (v := 1) E.1 hb dX0_undo_26 rfl ?_
    refine lv_isub E.1 hb dX0_undo_27 ?_
    obtain ⟨A1, hw, hf⟩ := lt2_s hf
    refine c_pI (k := 20) (f := 120) E hb hS ci_1 (sK hS (by decide) rfl) (hS.1.lt (sK hS (by decide) rfl) rfl) rfl rfl (Or.inl rfl) fk_X0_145_X0 (fun _ h => h) rfl rfl hw dX0_undo_28 (fun H locs hS => ?_)
    refine lv_aload_n E.1 hb dX0_undo_31 rfl (lv_at hl 0 rfl) ?_
    refine c_gN (k := 9) (f := 109) (q := 16) E hb hS ci_1 (sK hS (by decide) rfl) rfl rfl rfl (sRf hS (by decide) rfl) fk_X0_69_X0 (fun _ h => h) dX0_undo_32 ?_
    refine lv_aload_n E.1 hb dX0_undo_35 rfl (lv_at hl 0 rfl) ?_
    refine c_gN (k := 19) (f := 119) (q := 139) E hb hS ci_1 (sK hS (by decide) rfl) rfl rfl rfl (sRf hS (by decide) rfl) fk_X0_101_X0 (fun _ h => h) dX0_undo_36 ?_
    refine lv_aload_n E.1 hb dX0_undo_39 rfl (lv_at hl 0 rfl) ?_
    refine c_gI (k := 20) (f := 120) E hb hS ci_1 (sK hS (by decide) rfl) rfl rfl rfl fk_X0_145_X0 (fun _ h => h) dX0_undo_40 ?_
    obtain ⟨q2, hg, hf⟩ := sR_s hf
    refine s_ald E hb hS (t := 38) ⟨by decide, rfl, rfl⟩ (by decide) hg dX0_undo_43 ?_
    obtain ⟨r3, A4, h1, hf⟩ := bd_s hf
    refine c_kq hS (va_runV ⟨E.1, hb, hml, E.2.1, E.2.2.1⟩ (zX5_copy h1) (cwV 1 E.2.2.1 gw_X0_286 rfl rfl rfl ⟨rfl, gnX5_copy⟩ ⟨Nat.le_of_ble_eq_true rfl, Nat.le_of_ble_eq_true rfl⟩) (c_preV E hS ci_6 (sK hS (by decide) rfl) (hS.1.lt (sK hS (by decide) rfl) rfl) _) rfl rfl hl.1 rfl (lv_room (Nat.le_of_ble_eq_true rfl)) dX0_undo_44 ⟨Nat.le_refl 0, Nat.le_refl 0⟩) hS.2.2.2.2 (fun H locs hS hn => ?_)
    obtain ⟨q5, hr9, hf⟩ := bo_s hf
    refine c_dr hr9 ?_
    refine lv_pop E.1 hb dX0_undo_47 rfl ?_
    refine lv_iconst (v := 1) E.1 hb dX0_undo_48 rfl ?_
    exact c_zr (ty := .boolean) E hb hr hlk hS ⟨Nat.le_refl 0, Nat.le_refl 0⟩ rfl hf dX0_undo_49
  · have hf := it_s hc hf
    refine lv_aload_n E.1 hb dX0_undo_7 rfl (lv_at hl 0 rfl) ?_
    refine lv_iconst (v := 4) E.1 hb dX0_undo_8 rfl ?_
    obtain ⟨r6, A7, h1, hf⟩ := bd_s hf
    refine c_ki hS (va_runV ⟨E.1, hb, hml, E.2.1, E.2.2.1⟩ (zX0_refuses h1) (cwV 1 E.2.2.1 gw_X0_115 rfl rfl rfl ⟨rfl, gnX0_refuses⟩ ⟨Nat.le_of_ble_eq_true rfl, Nat.le_of_ble_eq_true rfl⟩) (c_preV E hS ci_1 (sK hS (by decide) rfl) (hS.1.lt (sK hS (by decide) rfl) rfl) _) rfl rfl hl.1 rfl (lv_room (Nat.le_of_ble_eq_true rfl)) dX0_undo_9 ⟨Nat.le_refl 0, Nat.le_refl 0⟩) hS.2.2.2.2 (fun H locs hS hn => ?_)
    refine lv_if_lt (tgt := 19) E.1 hb dX0_undo_12 (by decide) (fun hc => ?_) (fun hc => ?_)
    · have hf := it_s hc hf
      refine lv_iconst (v := 0) E.1 hb dX0_undo_19 rfl ?_
      exact c_zr (ty := .boolean) E hb hr hlk hS ⟨Nat.le_refl 0, Nat.le_refl 0⟩ rfl hf dX0_undo_20
    · have hf := if_s hc hf
      refine lv_iconst (v := 1) E.1 hb dX0_undo_15 rfl ?_
      refine lv_goto (tgt := 20) E.1 hb dX0_undo_16 (by decide) ?_
      exact c_zr (ty := .boolean) E hb hr hlk hS ⟨Nat.le_refl 0, Nat.le_refl 0⟩ rfl hf dX0_undo_20
/-! MarginFolk.keeps()V: RW -/
noncomputable def X0_keeps_b62 (N : Nat) (A : AH) : Option (Unit × AH) :=
  bo (sR 20 38 A 139 (aI A 120 0 0)) fun q1 => if aK A q1 = 6 then ( bd (X5_copy N A q1 16) fun r2 A3 => bo r2 fun q4 => lt2 (wI A3 120 0 0 ((aI A3 120 0 0) + 1)) fun A5 => some ((), A5)) else none
noncomputable def X0_keeps_b18 (N : Nat) (k18 : AH → Nat → Int32 → Option (Unit × AH)) (A : AH) (x1 : Nat) (x2 : Int32) : Option (Unit × AH) :=
  if 20 ≤ x2 then (bo (tR 20 38 A 139 19 x1) fun A7 => lt2 (wI A7 120 0 0 ((aI A7 120 0 0) - 1)) fun A8 => X0_keeps_b62 N A8) else (bo (sR 20 38 A 139 x2) fun q9 => bo (tR 20 38 A 139 (x2 - 1) q9) fun A10 => k18 A10 x1 (x2 + 1))
noncomputable def X0_keeps (N : Nat) (A0 : AH) : Option (Unit × AH) :=
  if (aI A0 120 0 0) = 20 then (bo (sR 20 38 A0 139 0) fun q6 => rn3 (X0_keeps_b18 N) N A0 q6 1) else (X0_keeps_b62 N A0)
abbrev rX0_keeps : Room := { frames := 1, cells := 0, slots := 0, locals := 23 }
set_option maxHeartbeats 4000000 in
theorem zX0_keeps {l : Launch} {dC : Nat → ClassId} {dI : Nat → Nat → Nat} {ac : Nat → ClassId} {ad : Nat → Nat} {N : Nat} {A0 : AH} {A' : AH} (hf : X0_keeps N A0 = some ((), A')) : Met l yX0_keeps (ws_ yX0_keeps cX0_keeps 3 none) { frames := 1, cells := 0, slots := 0, locals := 23 } (va_Pc [.ref (ad 0)] (cPre dC dI ac ad True A0)) (cQv dC dI ac ad True (aN A0) (aS A0) (aN A0) (aS A0) A') 0 0 (cF ad) := by
  unfold X0_keeps at hf
  refine c_of ⟨Nat.le_refl _, Nat.le_refl _⟩ RX0 (plainFor_of_name (by decide)) rfl (Nat.le_of_ble_eq_true rfl) ?_
  intro p e s m args below meth c E hb hr hlk hnm hml hS ls hl
  have hl : lv_has ls 3 [(0, .ref (ad 0))] := hl
  have hB62 : ∀ (A : AH), X0_keeps_b62 N A = some ((), A') → ∀ (H : Heap) (locs : List Loc), cS dC dI ac ad True s.heap (aN A0) (aS A0) (aN A0) (aS A0) A H locs → ∀ (ls : Array Slot), lv_has ls 3 [(0, .ref (ad 0))] → W p l e rX0_keeps s m args below meth c H locs 0 0 (MQ below (cQv dC dI ac ad True (aN A0) (aS A0) (aN A0) (aS A0) A') args s 0 0 (cF ad)) (F0 m 62 ls []) := by
    intro A hf H locs hS ls hl
    unfold X0_keeps_b62 at hf
    refine lv_aload_n E.1 hb dX0_keeps_62 rfl (lv_at hl 0 rfl) ?_
    refine c_gN (k := 19) (f := 119) (q := 139) E hb hS ci_1 (sK hS (by decide) rfl) rfl rfl rfl (sRf hS (by decide) rfl) fk_X0_101_X0 (fun _ h => h) dX0_keeps_63 ?_
    refine lv_aload_n E.1 hb dX0_keeps_66 rfl (lv_at hl 0 rfl) ?_
    refine c_gI (k := 20) (f := 120) E hb hS ci_1 (sK hS (by decide) rfl) rfl rfl rfl fk_X0_145_X0 (fun _ h => h) dX0_keeps_67 ?_
    obtain ⟨q1, hg, hf⟩ := sR_s hf
    refine s_ald E hb hS (t := 38) ⟨by decide, rfl, rfl⟩ (by decide) hg dX0_keeps_70 ?_
    refine lv_aload_n E.1 hb dX0_keeps_71 rfl (lv_at hl 0 rfl) ?_
    refine c_gN (k := 9) (f := 109) (q := 16) E hb hS ci_1 (sK hS (by decide) rfl) rfl rfl rfl (sRf hS (by decide) rfl) fk_X0_69_X0 (fun _ h => h) dX0_keeps_72 ?_
    obtain ⟨hkr, hf⟩ := gu_s hf
    obtain ⟨r2, A3, h1, hf⟩ := bd_s hf
    refine c_kq hS (va_runV ⟨E.1, hb, hml, E.2.1, E.2.2.1⟩ (zX5_copy h1) (cwV 1 E.2.2.1 gw_X0_286 rfl rfl rfl ⟨rfl, gnX5_copy⟩ ⟨Nat.le_of_ble_eq_true rfl, Nat.le_of_ble_eq_true rfl⟩) (c_preV E hS ci_6 hkr (hS.1.lt hkr rfl) _) rfl rfl hl.1 rfl (lv_room (Nat.le_of_ble_eq_true rfl)) dX0_keeps_75 ⟨Nat.le_refl 0, Nat.le_refl 0⟩) hS.2.2.2.2 (fun H locs hS hn => ?_)
    obtain ⟨q4, hr9, hf⟩ := bo_s hf
    refine c_dr hr9 ?_
    refine lv_pop E.1 hb dX0_keeps_78 rfl ?_
    refine lv_aload_n E.1 hb dX0_keeps_79 rfl (lv_at hl 0 rfl) ?_
    refine lv_dup E.1 hb dX0_keeps_80 rfl ?_
    refine c_gI (k := 20) (f := 120) E hb hS ci_1 (sK hS (by decide) rfl) rfl rfl rfl fk_X0_145_X0 (fun _ h => h) dX0_keeps_81 ?_
    refine lv_iconst (v := 1) E.1 hb dX0_keeps_84 rfl ?_
    refine lv_iadd E.1 hb dX0_keeps_85 ?_
    obtain ⟨A5, hw, hf⟩ := lt2_s hf
    refine c_pI (k := 20) (f := 120) E hb hS ci_1 (sK hS (by decide) rfl) (hS.1.lt (sK hS (by decide) rfl) rfl) rfl rfl (Or.inl rfl) fk_X0_145_X0 (fun _ h => h) rfl rfl hw dX0_keeps_86 (fun H locs hS => ?_)
    exact c_vr E hb hr hlk hS ⟨Nat.le_refl 0, Nat.le_refl 0⟩ hf dX0_keeps_89
  have hL18 : ∀ (n : Nat) (A : AH) (x1 : Nat) (x2 : Int32), rn3 (X0_keeps_b18 N) n A x1 x2 = some ((), A') → ∀ (H : Heap) (locs : List Loc), cS dC dI ac ad True s.heap (aN A0) (aS A0) (aN A0) (aS A0) A H locs → ∀ (ls : Array Slot), lv_has ls 3 [(0, .ref (ad 0)), (1, .ref (ad x1)), (2, .int x2)] → W p l e rX0_keeps s m args below meth c H locs 0 0 (MQ below (cQv dC dI ac ad True (aN A0) (aS A0) (aN A0) (aS A0) A') args s 0 0 (cF ad)) (F0 m 18 ls []) := by
    intro  n
    induction n with
    | zero =>
      intro A x1 x2 hf
      cases hf
    | succ n ih =>
      intro A x1 x2 hf H locs hS ls hl
      have hf : X0_keeps_b18 N (rn3 (X0_keeps_b18 N) n) A x1 x2 = some ((), A') := hf
      have hk18 := ih
      generalize rn3 (X0_keeps_b18 N) n = k18 at hf hk18
      unfold X0_keeps_b18 at hf
      refine lv_iload_n E.1 hb dX0_keeps_18 rfl (lv_at hl 2 rfl) ?_
      refine lv_bipush (v := 20) E.1 hb dX0_keeps_19 rfl ?_
      refine lv_icmp_ge (tgt := 44) E.1 hb dX0_keeps_21 (by decide) (fun hc => ?_) (fun hc => ?_)
      · have hf := it_s hc hf
        refine lv_aload_n E.1 hb dX0_keeps_44 rfl (lv_at hl 0 rfl) ?_
        refine c_gN (k := 19) (f := 119) (q := 139) E hb hS ci_1 (sK hS (by decide) rfl) rfl rfl rfl (sRf hS (by decide) rfl) fk_X0_101_X0 (fun _ h => h) dX0_keeps_45 ?_
        refine lv_bipush (v := 19) E.1 hb dX0_keeps_48 rfl ?_
        refine lv_aload_n E.1 hb dX0_keeps_50 rfl (lv_at hl 1 rfl) ?_
        obtain ⟨A7, hg, hw, hf⟩ := tR_s hf
        have h1 : 139 < 1101 ∧ stK 139 = 38 ∧ stLn 139 = 20 := ⟨by decide, rfl, rfl⟩
        refine c_ast38 E hb hS ⟨sK hS h1.1 h1.2.1, by rw [sLn hS h1.1 h1.2.2]; exact hg.1⟩ hg.2 hw dX0_keeps_51 (fun H locs hS => ?_)
        refine lv_aload_n E.1 hb dX0_keeps_52 rfl (lv_at hl 0 rfl) ?_
        refine lv_dup E.1 hb dX0_keeps_53 rfl ?_
        refine c_gI (k := 20) (f := 120) E hb hS ci_1 (sK hS (by decide) rfl) rfl rfl rfl fk_X0_145_X0 (fun _ h => h) dX0_keeps_54 ?_
        refine lv_iconst (v := 1) E.1 hb dX0_keeps_57 rfl ?_
        refine lv_isub E.1 hb dX0_keeps_58 ?_
        obtain ⟨A8, hw, hf⟩ := lt2_s hf
        refine c_pI (k := 20) (f := 120) E hb hS ci_1 (sK hS (by decide) rfl) (hS.1.lt (sK hS (by decide) rfl) rfl) rfl rfl (Or.inl rfl) fk_X0_145_X0 (fun _ h => h) rfl rfl hw dX0_keeps_59 (fun H locs hS => ?_)
        exact hB62 A8 hf _ _ hS _ (lv_sub hl [0] rfl)
      · have hf := if_s hc hf
        refine lv_aload_n E.1 hb dX0_keeps_24 rfl (lv_at hl 0 rfl) ?_
        refine c_gN (k := 19) (f := 119) (q := 139) E hb hS ci_1 (sK hS (by decide) rfl) rfl rfl rfl (sRf hS (by decide) rfl) fk_X0_101_X0 (fun _ h => h) dX0_keeps_25 ?_
        refine lv_iload_n E.1 hb dX0_keeps_28 rfl (lv_at hl 2 rfl) ?_
        refine lv_iconst (v := 1) E.1 hb dX0_keeps_29 rfl ?_
        refine lv_isub E.1 hb dX0_keeps_30 ?_
        refine lv_aload_n E.1 hb dX0_keeps_31 rfl (lv_at hl 0 rfl) ?_
        refine c_gN (k := 19) (f := 119) (q := 139) E hb hS ci_1 (sK hS (by decide) rfl) rfl rfl rfl (sRf hS (by decide) rfl) fk_X0_101_X0 (fun _ h => h) dX0_keeps_32 ?_
        refine lv_iload_n E.1 hb dX0_keeps_35 rfl (lv_at hl 2 rfl) ?_
        obtain ⟨q9, hg, hf⟩ := sR_s hf
        refine s_ald E hb hS (t := 38) ⟨by decide, rfl, rfl⟩ (by decide) hg dX0_keeps_36 ?_
        obtain ⟨A10, hg, hw, hf⟩ := tR_s hf
        have h1 : 139 < 1101 ∧ stK 139 = 38 ∧ stLn 139 = 20 := ⟨by decide, rfl, rfl⟩
        refine c_ast38 E hb hS ⟨sK hS h1.1 h1.2.1, by rw [sLn hS h1.1 h1.2.2]; exact hg.1⟩ hg.2 hw dX0_keeps_37 (fun H locs hS => ?_)
        refine lv_iinc (v := (x2 + 1)) (lv' := [(2, .int (x2 + 1)), (0, .ref (ad 0)), (1, .ref (ad x1))]) E.1 hb dX0_keeps_38 hl (k := 2) rfl rfl (by decide) rfl (fun ls hl => ?_)
        refine lv_goto (tgt := 18) E.1 hb dX0_keeps_41 (by decide) ?_
        exact hk18 A10 x1 (x2 + 1) hf _ _ hS _ (lv_sub hl [1, 2, 0] rfl)
  refine lv_aload_n E.1 hb dX0_keeps_0 rfl (lv_at hl 0 rfl) ?_
  refine c_gI (k := 20) (f := 120) E hb hS ci_1 (sK hS (by decide) rfl) rfl rfl rfl fk_X0_145_X0 (fun _ h => h) dX0_keeps_1 ?_
  refine lv_bipush (v := 20) E.1 hb dX0_keeps_4 rfl ?_
  refine lv_icmp_ne (tgt := 62) E.1 hb dX0_keeps_6 (by decide) (fun hc => ?_) (fun hc => ?_)
  · have hf := if_s hc hf
    exact hB62 A0 hf _ _ hS _ (lv_sub hl [0] rfl)
  · have hf := it_s hc hf
    refine lv_aload_n E.1 hb dX0_keeps_9 rfl (lv_at hl 0 rfl) ?_
    refine c_gN (k := 19) (f := 119) (q := 139) E hb hS ci_1 (sK hS (by decide) rfl) rfl rfl rfl (sRf hS (by decide) rfl) fk_X0_101_X0 (fun _ h => h) dX0_keeps_10 ?_
    refine lv_iconst (v := 0) E.1 hb dX0_keeps_13 rfl ?_
    obtain ⟨q6, hg, hf⟩ := sR_s hf
    refine s_ald E hb hS (t := 38) ⟨by decide, rfl, rfl⟩ (by decide) hg dX0_keeps_14 ?_
    refine lv_astore_n (lv' := [(1, .ref (ad q6)), (0, .ref (ad 0))]) E.1 hb dX0_keeps_15 rfl hl (by decide) rfl (fun ls hl => ?_)
    refine lv_iconst (v := 1) E.1 hb dX0_keeps_16 rfl ?_
    refine lv_istore_n (lv' := [(2, .int 1), (1, .ref (ad q6)), (0, .ref (ad 0))]) E.1 hb dX0_keeps_17 rfl hl (by decide) rfl (fun ls hl => ?_)
    exact hL18 N A0 q6 1 hf _ _ hS _ (lv_sub hl [2, 1, 0] rfl)
theorem gw_X0_339 : GoodIn lw_all (wsV RX0 339 RX0 yX0_keeps (ws_ yX0_keeps cX0_keeps 3 none)) := lw_V q1567 q1569 qs56 q152 q1570
theorem gnX0_keeps : yX0_keeps.cls ≠ "java/lang/invoke/MethodHandle" ∧ yX0_keeps.cls ≠ "java/lang/invoke/VarHandle" ∧ (parseMethodDescriptor yX0_keeps.desc).map (fun d => d.parameters.length) = some 0 := by decide +kernel
/-! MarginFolk.go(III)Z: RW -/
noncomputable def X0_go_b29 (N : Nat) (x1 : Int32) (x2 : Int32) (x3 : Int32) (A : AH) : Option (Int32 × AH) :=
  bd (X0_refuses A 2) fun r2 A3 => if r2 < 0 then (some (0, A3)) else (some (1, A3))
noncomputable def X0_go (N : Nat) (A0 : AH) (x1 : Int32) (x2 : Int32) (x3 : Int32) : Option (Int32 × AH) :=
  bo (X0_isBeing A0 x1) fun r1 => if r1 = 0 then (X0_go_b29 N x1 x2 x3 A0) else (bo (X0_isCell A0 x2 x3) fun r4 => if r4 = 0 then (X0_go_b29 N x1 x2 x3 A0) else (bo (X5_isFree N A0 16 x2 x3) fun r5 => if r5 = 0 then (X0_go_b29 N x1 x2 x3 A0) else (bd (X0_keeps N A0) fun _ A6 => bo (tI 8 31 A6 18 x1 x2) fun A7 => bo (tI 8 31 A7 19 x1 x3) fun A8 => some (1, A8))))
abbrev rX0_go : Room := { frames := 4, cells := 0, slots := 0, locals := 85 }
set_option maxHeartbeats 4000000 in
theorem zX0_go {l : Launch} {dC : Nat → ClassId} {dI : Nat → Nat → Nat} {ac : Nat → ClassId} {ad : Nat → Nat} {N : Nat} {A0 : AH} {x1 : Int32} {x2 : Int32} {x3 : Int32} {r : Int32} {A' : AH} (hf : X0_go N A0 x1 x2 x3 = some (r, A')) : Met l yX0_go (ws_ yX0_go cX0_go 4 (some .boolean)) { frames := 4, cells := 0, slots := 0, locals := 85 } (va_Pc [.ref (ad 0), .int x1, .int x2, .int x3] (cPre dC dI ac ad True A0)) (cQi dC dI ac ad True (aN A0) (aS A0) (aN A0) (aS A0) r A') 0 0 (cF ad) := by
  unfold X0_go at hf
  refine c_of ⟨Nat.le_refl _, Nat.le_refl _⟩ RX0 (plainFor_of_name (by decide)) rfl (Nat.le_of_ble_eq_true rfl) ?_
  intro p e s m args below meth c E hb hr hlk hnm hml hS ls hl
  have hl : lv_has ls 4 [(0, .ref (ad 0)), (1, .int x1), (2, .int x2), (3, .int x3)] := hl
  have hB29 : ∀ (A : AH), X0_go_b29 N x1 x2 x3 A = some (r, A') → ∀ (H : Heap) (locs : List Loc), cS dC dI ac ad True s.heap (aN A0) (aS A0) (aN A0) (aS A0) A H locs → ∀ (ls : Array Slot), lv_has ls 4 [(0, .ref (ad 0)), (1, .int x1), (2, .int x2), (3, .int x3)] → W p l e rX0_go s m args below meth c H locs 0 0 (MQ below (cQi dC dI ac ad True (aN A0) (aS A0) (aN A0) (aS A0) r A') args s 0 0 (cF ad)) (F0 m 29 ls []) := by
    intro A hf H locs hS ls hl
    unfold X0_go_b29 at hf
    refine lv_aload_n E.1 hb dX0_go_29 rfl (lv_at hl 0 rfl) ?_
    refine lv_iconst (v := 2) E.1 hb dX0_go_30 rfl ?_
    obtain ⟨r2, A3, h1, hf⟩ := bd_s hf
    refine c_ki hS (va_runV ⟨E.1, hb, hml, E.2.1, E.2.2.1⟩ (zX0_refuses h1) (cwV 1 E.2.2.1 gw_X0_115 rfl rfl rfl ⟨rfl, gnX0_refuses⟩ ⟨Nat.le_of_ble_eq_true rfl, Nat.le_of_ble_eq_true rfl⟩) (c_preV E hS ci_1 (sK hS (by decide) rfl) (hS.1.lt (sK hS (by decide) rfl) rfl) _) rfl rfl hl.1 rfl (lv_room (Nat.le_of_ble_eq_true rfl)) dX0_go_31 ⟨Nat.le_refl 0, Nat.le_refl 0⟩) hS.2.2.2.2 (fun H locs hS hn => ?_)
    refine lv_if_lt (tgt := 41) E.1 hb dX0_go_34 (by decide) (fun hc => ?_) (fun hc => ?_)
    · have hf := it_s hc hf
      refine lv_iconst (v := 0) E.1 hb dX0_go_41 rfl ?_
      exact c_zr (ty := .boolean) E hb hr hlk hS ⟨Nat.le_refl 0, Nat.le_refl 0⟩ rfl hf dX0_go_42
    · have hf := if_s hc hf
      refine lv_iconst (v := 1) E.1 hb dX0_go_37 rfl ?_
      refine lv_goto (tgt := 42) E.1 hb dX0_go_38 (by decide) ?_
      exact c_zr (ty := .boolean) E hb hr hlk hS ⟨Nat.le_refl 0, Nat.le_refl 0⟩ rfl hf dX0_go_42
  refine lv_aload_n E.1 hb dX0_go_0 rfl (lv_at hl 0 rfl) ?_
  refine lv_iload_n E.1 hb dX0_go_1 rfl (lv_at hl 1 rfl) ?_
  obtain ⟨r1, h1, hf⟩ := bo_s hf
  refine c_ki hS (va_runV ⟨E.1, hb, hml, E.2.1, E.2.2.1⟩ (zX0_isBeing h1) (cwV 1 E.2.2.1 gw_X0_225 rfl rfl rfl ⟨rfl, gnX0_isBeing⟩ ⟨Nat.le_of_ble_eq_true rfl, Nat.le_of_ble_eq_true rfl⟩) (c_preV E hS ci_1 (sK hS (by decide) rfl) (hS.1.lt (sK hS (by decide) rfl) rfl) _) rfl rfl hl.1 rfl (lv_room (Nat.le_of_ble_eq_true rfl)) dX0_go_2 ⟨Nat.le_refl 0, Nat.le_refl 0⟩) hS.2.2.2.2 (fun H locs hS hn => ?_)
  refine lv_if_eq (tgt := 29) E.1 hb dX0_go_5 (by decide) (fun hc => ?_) (fun hc => ?_)
  · have hf := it_s hc hf
    exact hB29 A0 hf _ _ hS _ (lv_sub hl [0, 1, 2, 3] rfl)
  · have hf := if_s hc hf
    refine lv_aload_n E.1 hb dX0_go_8 rfl (lv_at hl 0 rfl) ?_
    refine lv_iload_n E.1 hb dX0_go_9 rfl (lv_at hl 2 rfl) ?_
    refine lv_iload_n E.1 hb dX0_go_10 rfl (lv_at hl 3 rfl) ?_
    obtain ⟨r4, h1, hf⟩ := bo_s hf
    refine c_ki hS (va_runV ⟨E.1, hb, hml, E.2.1, E.2.2.1⟩ (zX0_isCell h1) (cwV 2 E.2.2.1 gw_X0_251 rfl rfl rfl ⟨rfl, gnX0_isCell⟩ ⟨Nat.le_of_ble_eq_true rfl, Nat.le_of_ble_eq_true rfl⟩) (c_preV E hS ci_1 (sK hS (by decide) rfl) (hS.1.lt (sK hS (by decide) rfl) rfl) _) rfl rfl hl.1 rfl (lv_room (Nat.le_of_ble_eq_true rfl)) dX0_go_11 ⟨Nat.le_refl 0, Nat.le_refl 0⟩) hS.2.2.2.2 (fun H locs hS hn => ?_)
    refine lv_if_eq (tgt := 29) E.1 hb dX0_go_14 (by decide) (fun hc => ?_) (fun hc => ?_)
    · have hf := it_s hc hf
      exact hB29 A0 hf _ _ hS _ (lv_sub hl [0, 1, 2, 3] rfl)
    · have hf := if_s hc hf
      refine lv_aload_n E.1 hb dX0_go_17 rfl (lv_at hl 0 rfl) ?_
      refine c_gN (k := 9) (f := 109) (q := 16) E hb hS ci_1 (sK hS (by decide) rfl) rfl rfl rfl (sRf hS (by decide) rfl) fk_X0_69_X0 (fun _ h => h) dX0_go_18 ?_
      refine lv_iload_n E.1 hb dX0_go_21 rfl (lv_at hl 2 rfl) ?_
      refine lv_iload_n E.1 hb dX0_go_22 rfl (lv_at hl 3 rfl) ?_
      obtain ⟨r5, h1, hf⟩ := bo_s hf
      refine c_ki hS (va_runV ⟨E.1, hb, hml, E.2.1, E.2.2.1⟩ (zX5_isFree h1) (cwV 2 E.2.2.1 gw_X0_336 rfl rfl rfl ⟨rfl, gnX5_isFree⟩ ⟨Nat.le_of_ble_eq_true rfl, Nat.le_of_ble_eq_true rfl⟩) (c_preV E hS ci_6 (sK hS (by decide) rfl) (hS.1.lt (sK hS (by decide) rfl) rfl) _) rfl rfl hl.1 rfl (lv_room (Nat.le_of_ble_eq_true rfl)) dX0_go_23 ⟨Nat.le_refl 0, Nat.le_refl 0⟩) hS.2.2.2.2 (fun H locs hS hn => ?_)
      refine lv_if_ne (tgt := 43) E.1 hb dX0_go_26 (by decide) (fun hc => ?_) (fun hc => ?_)
      · have hf := if_s hc hf
        refine lv_aload_n E.1 hb dX0_go_43 rfl (lv_at hl 0 rfl) ?_
        obtain ⟨_, A6, h1, hf⟩ := bd_s hf
        refine c_kv hS (va_runV ⟨E.1, hb, hml, E.2.1, E.2.2.1⟩ (zX0_keeps h1) (cwV 0 E.2.2.1 gw_X0_339 rfl rfl rfl ⟨rfl, gnX0_keeps⟩ ⟨Nat.le_of_ble_eq_true rfl, Nat.le_of_ble_eq_true rfl⟩) (c_preV E hS ci_1 (sK hS (by decide) rfl) (hS.1.lt (sK hS (by decide) rfl) rfl) _) rfl rfl hl.1 rfl (lv_room (Nat.le_of_ble_eq_true rfl)) dX0_go_44 ⟨Nat.le_refl 0, Nat.le_refl 0⟩) hS.2.2.2.2 (fun H locs hS hn => ?_)
        refine lv_aload_n E.1 hb dX0_go_47 rfl (lv_at hl 0 rfl) ?_
        refine c_gN (k := 9) (f := 109) (q := 16) E hb hS ci_1 (sK hS (by decide) rfl) rfl rfl rfl (sRf hS (by decide) rfl) fk_X0_69_X0 (fun _ h => h) dX0_go_48 ?_
        refine c_gN (k := 3) (f := 603) (q := 18) E hb hS ci_6 (sK hS (by decide) rfl) rfl rfl rfl (sRf hS (by decide) rfl) fk_X0_236_X5 (fun _ h => h) dX0_go_51 ?_
        refine lv_iload_n E.1 hb dX0_go_54 rfl (lv_at hl 1 rfl) ?_
        refine lv_iload_n E.1 hb dX0_go_55 rfl (lv_at hl 2 rfl) ?_
        obtain ⟨A7, hg, hw, hf⟩ := tI_s hf
        refine s_st E hb hS (t := 31) ⟨by decide, rfl, rfl⟩ hg (Or.inl ⟨rfl, rfl, rfl⟩) hw dX0_go_56 (fun H locs hS => ?_)
        refine lv_aload_n E.1 hb dX0_go_57 rfl (lv_at hl 0 rfl) ?_
        refine c_gN (k := 9) (f := 109) (q := 16) E hb hS ci_1 (sK hS (by decide) rfl) rfl rfl rfl (sRf hS (by decide) rfl) fk_X0_69_X0 (fun _ h => h) dX0_go_58 ?_
        refine c_gN (k := 4) (f := 604) (q := 19) E hb hS ci_6 (sK hS (by decide) rfl) rfl rfl rfl (sRf hS (by decide) rfl) fk_X0_239_X5 (fun _ h => h) dX0_go_61 ?_
        refine lv_iload_n E.1 hb dX0_go_64 rfl (lv_at hl 1 rfl) ?_
        refine lv_iload_n E.1 hb dX0_go_65 rfl (lv_at hl 3 rfl) ?_
        obtain ⟨A8, hg, hw, hf⟩ := tI_s hf
        refine s_st E hb hS (t := 31) ⟨by decide, rfl, rfl⟩ hg (Or.inl ⟨rfl, rfl, rfl⟩) hw dX0_go_66 (fun H locs hS => ?_)
        refine lv_iconst (v := 1) E.1 hb dX0_go_67 rfl ?_
        exact c_zr (ty := .boolean) E hb hr hlk hS ⟨Nat.le_refl 0, Nat.le_refl 0⟩ rfl hf dX0_go_68
      · have hf := it_s hc hf
        exact hB29 A0 hf _ _ hS _ (lv_sub hl [0, 1, 2, 3] rfl)
/-! MarginFolk$State.nearest(II)I: RO -/
noncomputable def X5_nearest_b68 (N : Nat) (x0 : Nat) (x1 : Int32) (x2 : Int32) (A : AH) (k2 : Int32 → Option Int32) (x3 : Int32) : Option Int32 :=
  k2 (x3 + 1)
noncomputable def X5_nearest_b37 (N : Nat) (x0 : Nat) (x1 : Int32) (x2 : Int32) (A : AH) (k2 : Int32 → Option Int32) (x3 : Int32) : Option Int32 :=
  bo (aR A 100 0 0) fun q3 => bo (gI 2 A 202 q3) fun v4 => if v4 ≤ (x2 + x3) then (X5_nearest_b68 N x0 x1 x2 A k2 x3) else (bo (X5_isFree N A x0 x1 (x2 + x3)) fun r5 => if r5 = 0 then (X5_nearest_b68 N x0 x1 x2 A k2 x3) else (some (x2 + x3)))
noncomputable def X5_nearest_b2 (N : Nat) (x0 : Nat) (x1 : Int32) (x2 : Int32) (A : AH) (k2 : Int32 → Option Int32) (x3 : Int32) : Option Int32 :=
  bo (aR A 100 0 0) fun q1 => bo (gI 2 A 202 q1) fun v2 => if v2 ≤ x3 then (some (-1)) else (if (x2 - x3) < 0 then (X5_nearest_b37 N x0 x1 x2 A k2 x3) else (bo (X5_isFree N A x0 x1 (x2 - x3)) fun r6 => if r6 = 0 then (X5_nearest_b37 N x0 x1 x2 A k2 x3) else (some (x2 - x3))))
noncomputable def X5_nearest (N : Nat) (A : AH) (x0 : Nat) (x1 : Int32) (x2 : Int32) : Option Int32 :=
  if isStb x0 = true then (rn1 (X5_nearest_b2 N x0 x1 x2 A) N 1) else none
abbrev rX5_nearest : Room := { frames := 4, cells := 0, slots := 0, locals := 85 }
set_option maxHeartbeats 4000000 in
theorem zX5_nearest {l : Launch} {dC : Nat → ClassId} {dI : Nat → Nat → Nat} {ac : Nat → ClassId} {ad : Nat → Nat} {N : Nat} {A : AH} {x0 : Nat} {x1 : Int32} {x2 : Int32} {r : Int32} (hf : X5_nearest N A x0 x1 x2 = some r) : Met l yX5_nearest (ws_ yX5_nearest cX5_nearest 4 (some .int)) { frames := 4, cells := 0, slots := 0, locals := 85 } (va_Pc [.ref (ad x0), .int x1, .int x2] (cPre dC dI ac ad True A)) (cQi dC dI ac ad True (aN A) (aS A) (aN A) (aS A) r A) 0 0 (cF ad) := by
  unfold X5_nearest at hf
  obtain ⟨hg0, hf⟩ := gu_s hf
  have hs0 := isSt_of hg0
  refine c_of ⟨Nat.le_refl _, Nat.le_refl _⟩ RX5 (plainFor_of_name (by decide)) rfl (Nat.le_of_ble_eq_true rfl) ?_
  intro p e s m args below meth c E hb hr hlk hnm hml hS ls hl
  have hl : lv_has ls 4 [(0, .ref (ad x0)), (1, .int x1), (2, .int x2)] := hl
  have hB68 : ∀ (k2 : Int32 → Option Int32) (hk2 : ∀ (x3 : Int32), k2 x3 = some r → ∀ (H : Heap) (locs : List Loc), cS dC dI ac ad True s.heap (aN A) (aS A) (aN A) (aS A) A H locs → ∀ (ls : Array Slot), lv_has ls 4 [(0, .ref (ad x0)), (1, .int x1), (2, .int x2), (3, .int x3)] → W p l e rX5_nearest s m args below meth c H locs 0 0 (MQ below (cQi dC dI ac ad True (aN A) (aS A) (aN A) (aS A) r A) args s 0 0 (cF ad)) (F0 m 2 ls [])) (x3 : Int32), X5_nearest_b68 N x0 x1 x2 A k2 x3 = some r → ∀ (H : Heap) (locs : List Loc), cS dC dI ac ad True s.heap (aN A) (aS A) (aN A) (aS A) A H locs → ∀ (ls : Array Slot), lv_has ls 4 [(0, .ref (ad x0)), (1, .int x1), (2, .int x2), (3, .int x3)] → W p l e rX5_nearest s m args below meth c H locs 0 0 (MQ below (cQi dC dI ac ad True (aN A) (aS A) (aN A) (aS A) r A) args s 0 0 (cF ad)) (F0 m 68 ls []) := by
    intro k2 hk2 x3 hf H locs hS ls hl
    unfold X5_nearest_b68 at hf
    refine lv_iinc (v := (x3 + 1)) (lv' := [(3, .int (x3 + 1)), (0, .ref (ad x0)), (1, .int x1), (2, .int x2)]) E.1 hb dX5_nearest_68 hl (k := 3) rfl rfl (by decide) rfl (fun ls hl => ?_)
    refine lv_goto (tgt := 2) E.1 hb dX5_nearest_71 (by decide) ?_
    exact hk2 (x3 + 1) hf _ _ hS _ (lv_sub hl [1, 2, 3, 0] rfl)
  have hB37 : ∀ (k2 : Int32 → Option Int32) (hk2 : ∀ (x3 : Int32), k2 x3 = some r → ∀ (H : Heap) (locs : List Loc), cS dC dI ac ad True s.heap (aN A) (aS A) (aN A) (aS A) A H locs → ∀ (ls : Array Slot), lv_has ls 4 [(0, .ref (ad x0)), (1, .int x1), (2, .int x2), (3, .int x3)] → W p l e rX5_nearest s m args below meth c H locs 0 0 (MQ below (cQi dC dI ac ad True (aN A) (aS A) (aN A) (aS A) r A) args s 0 0 (cF ad)) (F0 m 2 ls [])) (x3 : Int32), X5_nearest_b37 N x0 x1 x2 A k2 x3 = some r → ∀ (H : Heap) (locs : List Loc), cS dC dI ac ad True s.heap (aN A) (aS A) (aN A) (aS A) A H locs → ∀ (ls : Array Slot), lv_has ls 4 [(0, .ref (ad x0)), (1, .int x1), (2, .int x2), (3, .int x3)] → W p l e rX5_nearest s m args below meth c H locs 0 0 (MQ below (cQi dC dI ac ad True (aN A) (aS A) (aN A) (aS A) r A) args s 0 0 (cF ad)) (F0 m 37 ls []) := by
    intro k2 hk2 x3 hf H locs hS ls hl
    unfold X5_nearest_b37 at hf
    refine lv_iload_n E.1 hb dX5_nearest_37 rfl (lv_at hl 2 rfl) ?_
    refine lv_iload_n E.1 hb dX5_nearest_38 rfl (lv_at hl 3 rfl) ?_
    refine lv_iadd E.1 hb dX5_nearest_39 ?_
    refine lv_aload_n E.1 hb dX5_nearest_40 rfl (lv_at hl 0 rfl) ?_
    refine c_gN (k := 10) (f := 610) (q := 0) E hb hS ci_6 (sK hS (st_K0 hs0).1 (st_K0 hs0).2) rfl rfl rfl (st_R0 (cst hS) hs0) fk_X5_3_X5 (fun _ h => h) dX5_nearest_41 ?_
    obtain ⟨q3, hr7, hf⟩ := bo_s hf
    refine c_gN (k := 0) (f := 100) E hb hS ci_1 (sK hS (by decide) rfl) rfl rfl rfl hr7 fk_X5_46_X0 (fun _ h => h) dX5_nearest_44 ?_
    obtain ⟨hk, hf⟩ := gI_s hf
    refine c_gI (k := 2) (f := 202) E hb hS ci_2 hk rfl rfl rfl fk_X5_162_X1 (fun _ h => h) dX5_nearest_47 ?_
    refine lv_icmp_ge (tgt := 68) E.1 hb dX5_nearest_50 (by decide) (fun hc => ?_) (fun hc => ?_)
    · have hf := it_s hc hf
      exact hB68 k2 hk2 x3 hf _ _ hS _ (lv_sub hl [0, 1, 2, 3] rfl)
    · have hf := if_s hc hf
      refine lv_aload_n E.1 hb dX5_nearest_53 rfl (lv_at hl 0 rfl) ?_
      refine lv_iload_n E.1 hb dX5_nearest_54 rfl (lv_at hl 1 rfl) ?_
      refine lv_iload_n E.1 hb dX5_nearest_55 rfl (lv_at hl 2 rfl) ?_
      refine lv_iload_n E.1 hb dX5_nearest_56 rfl (lv_at hl 3 rfl) ?_
      refine lv_iadd E.1 hb dX5_nearest_57 ?_
      obtain ⟨r5, h1, hf⟩ := bo_s hf
      refine c_ki hS (va_runV ⟨E.1, hb, hml, E.2.1, E.2.2.1⟩ (zX5_isFree h1) (cwV 2 E.2.2.1 gw_X5_165 rfl rfl rfl ⟨rfl, gnX5_isFree⟩ ⟨Nat.le_of_ble_eq_true rfl, Nat.le_of_ble_eq_true rfl⟩) (c_preV E hS ci_6 (sK hS (st_K0 hs0).1 (st_K0 hs0).2) (hS.1.lt (sK hS (st_K0 hs0).1 (st_K0 hs0).2) rfl) _) rfl rfl hl.1 rfl (lv_room (Nat.le_of_ble_eq_true rfl)) dX5_nearest_58 ⟨Nat.le_refl 0, Nat.le_refl 0⟩) hS.2.2.2.2 (fun H locs hS hn => ?_)
      refine lv_if_eq (tgt := 68) E.1 hb dX5_nearest_61 (by decide) (fun hc => ?_) (fun hc => ?_)
      · have hf := it_s hc hf
        exact hB68 k2 hk2 x3 hf _ _ hS _ (lv_sub hl [0, 1, 2, 3] rfl)
      · have hf := if_s hc hf
        refine lv_iload_n E.1 hb dX5_nearest_64 rfl (lv_at hl 2 rfl) ?_
        refine lv_iload_n E.1 hb dX5_nearest_65 rfl (lv_at hl 3 rfl) ?_
        refine lv_iadd E.1 hb dX5_nearest_66 ?_
        exact c_ir E hb hr hlk hS ⟨Nat.le_refl 0, Nat.le_refl 0⟩ (ro_s hf) dX5_nearest_67
  have hL2 : ∀ (n : Nat) (x3 : Int32), rn1 (X5_nearest_b2 N x0 x1 x2 A) n x3 = some r → ∀ (H : Heap) (locs : List Loc), cS dC dI ac ad True s.heap (aN A) (aS A) (aN A) (aS A) A H locs → ∀ (ls : Array Slot), lv_has ls 4 [(0, .ref (ad x0)), (1, .int x1), (2, .int x2), (3, .int x3)] → W p l e rX5_nearest s m args below meth c H locs 0 0 (MQ below (cQi dC dI ac ad True (aN A) (aS A) (aN A) (aS A) r A) args s 0 0 (cF ad)) (F0 m 2 ls []) := by
    intro  n
    induction n with
    | zero =>
      intro x3 hf
      cases hf
    | succ n ih =>
      intro x3 hf H locs hS ls hl
      have hf : X5_nearest_b2 N x0 x1 x2 A (rn1 (X5_nearest_b2 N x0 x1 x2 A) n) x3 = some r := hf
      have hk2 := ih
      generalize rn1 (X5_nearest_b2 N x0 x1 x2 A) n = k2 at hf hk2
      unfold X5_nearest_b2 at hf
      refine lv_iload_n E.1 hb dX5_nearest_2 rfl (lv_at hl 3 rfl) ?_
      refine lv_aload_n E.1 hb dX5_nearest_3 rfl (lv_at hl 0 rfl) ?_
      refine c_gN (k := 10) (f := 610) (q := 0) E hb hS ci_6 (sK hS (st_K0 hs0).1 (st_K0 hs0).2) rfl rfl rfl (st_R0 (cst hS) hs0) fk_X5_3_X5 (fun _ h => h) dX5_nearest_4 ?_
      obtain ⟨q1, hr7, hf⟩ := bo_s hf
      refine c_gN (k := 0) (f := 100) E hb hS ci_1 (sK hS (by decide) rfl) rfl rfl rfl hr7 fk_X5_46_X0 (fun _ h => h) dX5_nearest_7 ?_
      obtain ⟨hk, hf⟩ := gI_s hf
      refine c_gI (k := 2) (f := 202) E hb hS ci_2 hk rfl rfl rfl fk_X5_162_X1 (fun _ h => h) dX5_nearest_10 ?_
      refine lv_icmp_ge (tgt := 74) E.1 hb dX5_nearest_13 (by decide) (fun hc => ?_) (fun hc => ?_)
      · have hf := it_s hc hf
        refine lv_iconst (v := (-1)) E.1 hb dX5_nearest_74 rfl ?_
        exact c_ir E hb hr hlk hS ⟨Nat.le_refl 0, Nat.le_refl 0⟩ (ro_s hf) dX5_nearest_75
      · have hf := if_s hc hf
        refine lv_iload_n E.1 hb dX5_nearest_16 rfl (lv_at hl 2 rfl) ?_
        refine lv_iload_n E.1 hb dX5_nearest_17 rfl (lv_at hl 3 rfl) ?_
        refine lv_isub E.1 hb dX5_nearest_18 ?_
        refine lv_if_lt (tgt := 37) E.1 hb dX5_nearest_19 (by decide) (fun hc => ?_) (fun hc => ?_)
        · have hf := it_s hc hf
          exact hB37 k2 hk2 x3 hf _ _ hS _ (lv_sub hl [0, 1, 2, 3] rfl)
        · have hf := if_s hc hf
          refine lv_aload_n E.1 hb dX5_nearest_22 rfl (lv_at hl 0 rfl) ?_
          refine lv_iload_n E.1 hb dX5_nearest_23 rfl (lv_at hl 1 rfl) ?_
          refine lv_iload_n E.1 hb dX5_nearest_24 rfl (lv_at hl 2 rfl) ?_
          refine lv_iload_n E.1 hb dX5_nearest_25 rfl (lv_at hl 3 rfl) ?_
          refine lv_isub E.1 hb dX5_nearest_26 ?_
          obtain ⟨r6, h1, hf⟩ := bo_s hf
          refine c_ki hS (va_runV ⟨E.1, hb, hml, E.2.1, E.2.2.1⟩ (zX5_isFree h1) (cwV 2 E.2.2.1 gw_X5_165 rfl rfl rfl ⟨rfl, gnX5_isFree⟩ ⟨Nat.le_of_ble_eq_true rfl, Nat.le_of_ble_eq_true rfl⟩) (c_preV E hS ci_6 (sK hS (st_K0 hs0).1 (st_K0 hs0).2) (hS.1.lt (sK hS (st_K0 hs0).1 (st_K0 hs0).2) rfl) _) rfl rfl hl.1 rfl (lv_room (Nat.le_of_ble_eq_true rfl)) dX5_nearest_27 ⟨Nat.le_refl 0, Nat.le_refl 0⟩) hS.2.2.2.2 (fun H locs hS hn => ?_)
          refine lv_if_eq (tgt := 37) E.1 hb dX5_nearest_30 (by decide) (fun hc => ?_) (fun hc => ?_)
          · have hf := it_s hc hf
            exact hB37 k2 hk2 x3 hf _ _ hS _ (lv_sub hl [0, 1, 2, 3] rfl)
          · have hf := if_s hc hf
            refine lv_iload_n E.1 hb dX5_nearest_33 rfl (lv_at hl 2 rfl) ?_
            refine lv_iload_n E.1 hb dX5_nearest_34 rfl (lv_at hl 3 rfl) ?_
            refine lv_isub E.1 hb dX5_nearest_35 ?_
            exact c_ir E hb hr hlk hS ⟨Nat.le_refl 0, Nat.le_refl 0⟩ (ro_s hf) dX5_nearest_36
  refine lv_iconst (v := 1) E.1 hb dX5_nearest_0 rfl ?_
  refine lv_istore_n (lv' := [(3, .int 1), (0, .ref (ad x0)), (1, .int x1), (2, .int x2)]) E.1 hb dX5_nearest_1 rfl hl (by decide) rfl (fun ls hl => ?_)
  exact hL2 N 1 hf _ _ hS _ (lv_sub hl [1, 2, 3, 0] rfl)
theorem gw_X0_341 : GoodIn lw_all (wsV RX0 341 RX5 yX5_nearest (ws_ yX5_nearest cX5_nearest 4 (some .int))) := lw_V q1575 q1576 q1577 q163 q1578
theorem gnX5_nearest : yX5_nearest.cls ≠ "java/lang/invoke/MethodHandle" ∧ yX5_nearest.cls ≠ "java/lang/invoke/VarHandle" ∧ (parseMethodDescriptor yX5_nearest.desc).map (fun d => d.parameters.length) = some 2 := by decide +kernel
/-! MarginFolk.gloss(II)I: RW -/
noncomputable def X0_gloss_b25 (N : Nat) (x1 : Int32) (x2 : Int32) (A : AH) : Option (Int32 × AH) :=
  bd (X0_refuses A 2) fun r2 A3 => some (r2, A3)
noncomputable def X0_gloss_b60 (N : Nat) (x1 : Int32) (x2 : Int32) (A : AH) (x3 : Int32) (y0 : Int32) : Option (Int32 × AH) :=
  if y0 = (-1) then (bd (X0_refuses A 2) fun r12 A13 => some (r12, A13)) else (bd (X0_keeps N A) fun _ A8 => bo (sI 6 31 A8 17 x1) fun v9 => bo (tI 6 31 A8 17 x1 (v9 ||| (1 <<< (x2 &&& 31)))) fun A10 => if x3 = (-1) then (some (y0, A10)) else (bo (tI 8 31 A10 19 x3 y0) fun A11 => some (y0, A11)))
noncomputable def X0_gloss (N : Nat) (A0 : AH) (x1 : Int32) (x2 : Int32) : Option (Int32 × AH) :=
  bo (X0_isCell A0 x1 x2) fun r1 => if r1 = 0 then (X0_gloss_b25 N x1 x2 A0) else (bo (sI 6 31 A0 17 x1) fun v4 => bo (X0_has v4 x2) fun r5 => if r5 = 0 then (bo (X5_who N A0 16 x1 x2) fun r6 => if r6 = (-1) then (X0_gloss_b60 N x1 x2 A0 r6 100) else (bo (X5_nearest N A0 16 x1 x2) fun r7 => X0_gloss_b60 N x1 x2 A0 r6 r7)) else (X0_gloss_b25 N x1 x2 A0))
abbrev rX0_gloss : Room := { frames := 5, cells := 0, slots := 0, locals := 108 }
set_option maxHeartbeats 4000000 in
theorem zX0_gloss {l : Launch} {dC : Nat → ClassId} {dI : Nat → Nat → Nat} {ac : Nat → ClassId} {ad : Nat → Nat} {N : Nat} {A0 : AH} {x1 : Int32} {x2 : Int32} {r : Int32} {A' : AH} (hf : X0_gloss N A0 x1 x2 = some (r, A')) : Met l yX0_gloss (ws_ yX0_gloss cX0_gloss 5 (some .int)) { frames := 5, cells := 0, slots := 0, locals := 108 } (va_Pc [.ref (ad 0), .int x1, .int x2] (cPre dC dI ac ad True A0)) (cQi dC dI ac ad True (aN A0) (aS A0) (aN A0) (aS A0) r A') 0 0 (cF ad) := by
  unfold X0_gloss at hf
  refine c_of ⟨Nat.le_refl _, Nat.le_refl _⟩ RX0 (plainFor_of_name (by decide)) rfl (Nat.le_of_ble_eq_true rfl) ?_
  intro p e s m args below meth c E hb hr hlk hnm hml hS ls hl
  have hl : lv_has ls 5 [(0, .ref (ad 0)), (1, .int x1), (2, .int x2)] := hl
  have hB25 : ∀ (A : AH), X0_gloss_b25 N x1 x2 A = some (r, A') → ∀ (H : Heap) (locs : List Loc), cS dC dI ac ad True s.heap (aN A0) (aS A0) (aN A0) (aS A0) A H locs → ∀ (ls : Array Slot), lv_has ls 5 [(0, .ref (ad 0)), (1, .int x1), (2, .int x2)] → W p l e rX0_gloss s m args below meth c H locs 0 0 (MQ below (cQi dC dI ac ad True (aN A0) (aS A0) (aN A0) (aS A0) r A') args s 0 0 (cF ad)) (F0 m 25 ls []) := by
    intro A hf H locs hS ls hl
    unfold X0_gloss_b25 at hf
    refine lv_aload_n E.1 hb dX0_gloss_25 rfl (lv_at hl 0 rfl) ?_
    refine lv_iconst (v := 2) E.1 hb dX0_gloss_26 rfl ?_
    obtain ⟨r2, A3, h1, hf⟩ := bd_s hf
    refine c_ki hS (va_runV ⟨E.1, hb, hml, E.2.1, E.2.2.1⟩ (zX0_refuses h1) (cwV 1 E.2.2.1 gw_X0_115 rfl rfl rfl ⟨rfl, gnX0_refuses⟩ ⟨Nat.le_of_ble_eq_true rfl, Nat.le_of_ble_eq_true rfl⟩) (c_preV E hS ci_1 (sK hS (by decide) rfl) (hS.1.lt (sK hS (by decide) rfl) rfl) _) rfl rfl hl.1 rfl (lv_room (Nat.le_of_ble_eq_true rfl)) dX0_gloss_27 ⟨Nat.le_refl 0, Nat.le_refl 0⟩) hS.2.2.2.2 (fun H locs hS hn => ?_)
    exact c_ir E hb hr hlk hS ⟨Nat.le_refl 0, Nat.le_refl 0⟩ hf dX0_gloss_30
  have hB60 : ∀ (A : AH) (x3 : Int32) (y0 : Int32), X0_gloss_b60 N x1 x2 A x3 y0 = some (r, A') → ∀ (H : Heap) (locs : List Loc), cS dC dI ac ad True s.heap (aN A0) (aS A0) (aN A0) (aS A0) A H locs → ∀ (ls : Array Slot), lv_has ls 5 [(0, .ref (ad 0)), (1, .int x1), (2, .int x2), (3, .int x3)] → W p l e rX0_gloss s m args below meth c H locs 0 0 (MQ below (cQi dC dI ac ad True (aN A0) (aS A0) (aN A0) (aS A0) r A') args s 0 0 (cF ad)) (F0 m 60 ls [.int y0]) := by
    intro A x3 y0 hf H locs hS ls hl
    unfold X0_gloss_b60 at hf
    refine lv_istore (lv' := [(4, .int y0), (0, .ref (ad 0)), (1, .int x1), (2, .int x2), (3, .int x3)]) E.1 hb dX0_gloss_60 hl (by decide) rfl (fun ls hl => ?_)
    refine lv_iload E.1 hb dX0_gloss_62 (lv_at hl 0 rfl) ?_
    refine lv_iconst (v := (-1)) E.1 hb dX0_gloss_64 rfl ?_
    refine lv_icmp_ne (tgt := 74) E.1 hb dX0_gloss_65 (by decide) (fun hc => ?_) (fun hc => ?_)
    · have hf := if_s hc hf
      refine lv_aload_n E.1 hb dX0_gloss_74 rfl (lv_at hl 1 rfl) ?_
      obtain ⟨_, A8, h1, hf⟩ := bd_s hf
      refine c_kv hS (va_runV ⟨E.1, hb, hml, E.2.1, E.2.2.1⟩ (zX0_keeps h1) (cwV 0 E.2.2.1 gw_X0_339 rfl rfl rfl ⟨rfl, gnX0_keeps⟩ ⟨Nat.le_of_ble_eq_true rfl, Nat.le_of_ble_eq_true rfl⟩) (c_preV E hS ci_1 (sK hS (by decide) rfl) (hS.1.lt (sK hS (by decide) rfl) rfl) _) rfl rfl hl.1 rfl (lv_room (Nat.le_of_ble_eq_true rfl)) dX0_gloss_75 ⟨Nat.le_refl 0, Nat.le_refl 0⟩) hS.2.2.2.2 (fun H locs hS hn => ?_)
      refine lv_aload_n E.1 hb dX0_gloss_78 rfl (lv_at hl 1 rfl) ?_
      refine c_gN (k := 9) (f := 109) (q := 16) E hb hS ci_1 (sK hS (by decide) rfl) rfl rfl rfl (sRf hS (by decide) rfl) fk_X0_69_X0 (fun _ h => h) dX0_gloss_79 ?_
      refine c_gN (k := 2) (f := 602) (q := 17) E hb hS ci_6 (sK hS (by decide) rfl) rfl rfl rfl (sRf hS (by decide) rfl) fk_X0_202_X5 (fun _ h => h) dX0_gloss_82 ?_
      refine lv_iload_n E.1 hb dX0_gloss_85 rfl (lv_at hl 2 rfl) ?_
      refine lv_dup2_11 E.1 hb dX0_gloss_86 rfl rfl ?_
      obtain ⟨hg, hf⟩ := sI_s hf
      refine s_ld E hb hS (t := 31) ⟨by decide, rfl, rfl⟩ hg (Or.inl ⟨rfl, rfl⟩) dX0_gloss_87 ?_
      refine lv_iconst (v := 1) E.1 hb dX0_gloss_88 rfl ?_
      refine lv_iload_n E.1 hb dX0_gloss_89 rfl (lv_at hl 3 rfl) ?_
      refine lv_ishl E.1 hb dX0_gloss_90 ?_
      refine lv_ior E.1 hb dX0_gloss_91 ?_
      obtain ⟨A10, hg, hw, hf⟩ := tI_s hf
      refine s_st E hb hS (t := 31) ⟨by decide, rfl, rfl⟩ hg (Or.inl ⟨rfl, rfl, rfl⟩) hw dX0_gloss_92 (fun H locs hS => ?_)
      refine lv_iload_n E.1 hb dX0_gloss_93 rfl (lv_at hl 4 rfl) ?_
      refine lv_iconst (v := (-1)) E.1 hb dX0_gloss_94 rfl ?_
      refine lv_icmp_eq (tgt := 109) E.1 hb dX0_gloss_95 (by decide) (fun hc => ?_) (fun hc => ?_)
      · have hf := it_s hc hf
        refine lv_iload E.1 hb dX0_gloss_109 (lv_at hl 0 rfl) ?_
        exact c_ir E hb hr hlk hS ⟨Nat.le_refl 0, Nat.le_refl 0⟩ hf dX0_gloss_111
      · have hf := if_s hc hf
        refine lv_aload_n E.1 hb dX0_gloss_98 rfl (lv_at hl 1 rfl) ?_
        refine c_gN (k := 9) (f := 109) (q := 16) E hb hS ci_1 (sK hS (by decide) rfl) rfl rfl rfl (sRf hS (by decide) rfl) fk_X0_69_X0 (fun _ h => h) dX0_gloss_99 ?_
        refine c_gN (k := 4) (f := 604) (q := 19) E hb hS ci_6 (sK hS (by decide) rfl) rfl rfl rfl (sRf hS (by decide) rfl) fk_X0_239_X5 (fun _ h => h) dX0_gloss_102 ?_
        refine lv_iload_n E.1 hb dX0_gloss_105 rfl (lv_at hl 4 rfl) ?_
        refine lv_iload E.1 hb dX0_gloss_106 (lv_at hl 0 rfl) ?_
        obtain ⟨A11, hg, hw, hf⟩ := tI_s hf
        refine s_st E hb hS (t := 31) ⟨by decide, rfl, rfl⟩ hg (Or.inl ⟨rfl, rfl, rfl⟩) hw dX0_gloss_108 (fun H locs hS => ?_)
        refine lv_iload E.1 hb dX0_gloss_109 (lv_at hl 0 rfl) ?_
        exact c_ir E hb hr hlk hS ⟨Nat.le_refl 0, Nat.le_refl 0⟩ hf dX0_gloss_111
    · have hf := it_s hc hf
      refine lv_aload_n E.1 hb dX0_gloss_68 rfl (lv_at hl 1 rfl) ?_
      refine lv_iconst (v := 2) E.1 hb dX0_gloss_69 rfl ?_
      obtain ⟨r12, A13, h1, hf⟩ := bd_s hf
      refine c_ki hS (va_runV ⟨E.1, hb, hml, E.2.1, E.2.2.1⟩ (zX0_refuses h1) (cwV 1 E.2.2.1 gw_X0_115 rfl rfl rfl ⟨rfl, gnX0_refuses⟩ ⟨Nat.le_of_ble_eq_true rfl, Nat.le_of_ble_eq_true rfl⟩) (c_preV E hS ci_1 (sK hS (by decide) rfl) (hS.1.lt (sK hS (by decide) rfl) rfl) _) rfl rfl hl.1 rfl (lv_room (Nat.le_of_ble_eq_true rfl)) dX0_gloss_70 ⟨Nat.le_refl 0, Nat.le_refl 0⟩) hS.2.2.2.2 (fun H locs hS hn => ?_)
      exact c_ir E hb hr hlk hS ⟨Nat.le_refl 0, Nat.le_refl 0⟩ hf dX0_gloss_73
  refine lv_aload_n E.1 hb dX0_gloss_0 rfl (lv_at hl 0 rfl) ?_
  refine lv_iload_n E.1 hb dX0_gloss_1 rfl (lv_at hl 1 rfl) ?_
  refine lv_iload_n E.1 hb dX0_gloss_2 rfl (lv_at hl 2 rfl) ?_
  obtain ⟨r1, h1, hf⟩ := bo_s hf
  refine c_ki hS (va_runV ⟨E.1, hb, hml, E.2.1, E.2.2.1⟩ (zX0_isCell h1) (cwV 2 E.2.2.1 gw_X0_251 rfl rfl rfl ⟨rfl, gnX0_isCell⟩ ⟨Nat.le_of_ble_eq_true rfl, Nat.le_of_ble_eq_true rfl⟩) (c_preV E hS ci_1 (sK hS (by decide) rfl) (hS.1.lt (sK hS (by decide) rfl) rfl) _) rfl rfl hl.1 rfl (lv_room (Nat.le_of_ble_eq_true rfl)) dX0_gloss_3 ⟨Nat.le_refl 0, Nat.le_refl 0⟩) hS.2.2.2.2 (fun H locs hS hn => ?_)
  refine lv_if_eq (tgt := 25) E.1 hb dX0_gloss_6 (by decide) (fun hc => ?_) (fun hc => ?_)
  · have hf := it_s hc hf
    exact hB25 A0 hf _ _ hS _ (lv_sub hl [0, 1, 2] rfl)
  · have hf := if_s hc hf
    refine lv_aload_n E.1 hb dX0_gloss_9 rfl (lv_at hl 0 rfl) ?_
    refine c_gN (k := 9) (f := 109) (q := 16) E hb hS ci_1 (sK hS (by decide) rfl) rfl rfl rfl (sRf hS (by decide) rfl) fk_X0_69_X0 (fun _ h => h) dX0_gloss_10 ?_
    refine c_gN (k := 2) (f := 602) (q := 17) E hb hS ci_6 (sK hS (by decide) rfl) rfl rfl rfl (sRf hS (by decide) rfl) fk_X0_202_X5 (fun _ h => h) dX0_gloss_13 ?_
    refine lv_iload_n E.1 hb dX0_gloss_16 rfl (lv_at hl 1 rfl) ?_
    obtain ⟨hg, hf⟩ := sI_s hf
    refine s_ld E hb hS (t := 31) ⟨by decide, rfl, rfl⟩ hg (Or.inl ⟨rfl, rfl⟩) dX0_gloss_17 ?_
    refine lv_iload_n E.1 hb dX0_gloss_18 rfl (lv_at hl 2 rfl) ?_
    obtain ⟨r5, h1, hf⟩ := bo_s hf
    refine c_ki hS (va_runS ⟨E.1, hb, hml, E.2.1, E.2.2.1⟩ (zX0_has h1) (va_cwS 2 E.2.2.1 gw_X0_254 rfl rfl rfl gnX0_has ⟨Nat.le_of_ble_eq_true rfl, Nat.le_of_ble_eq_true rfl⟩) (c_preS E hS _) rfl rfl hl.1 rfl (lv_room (Nat.le_of_ble_eq_true rfl)) dX0_gloss_19 ⟨Nat.le_refl 0, Nat.le_refl 0⟩) hS.2.2.2.2 (fun H locs hS hn => ?_)
    refine lv_if_eq (tgt := 31) E.1 hb dX0_gloss_22 (by decide) (fun hc => ?_) (fun hc => ?_)
    · have hf := it_s hc hf
      refine lv_aload_n E.1 hb dX0_gloss_31 rfl (lv_at hl 0 rfl) ?_
      refine c_gN (k := 9) (f := 109) (q := 16) E hb hS ci_1 (sK hS (by decide) rfl) rfl rfl rfl (sRf hS (by decide) rfl) fk_X0_69_X0 (fun _ h => h) dX0_gloss_32 ?_
      refine lv_iload_n E.1 hb dX0_gloss_35 rfl (lv_at hl 1 rfl) ?_
      refine lv_iload_n E.1 hb dX0_gloss_36 rfl (lv_at hl 2 rfl) ?_
      obtain ⟨r6, h1, hf⟩ := bo_s hf
      refine c_ki hS (va_runV ⟨E.1, hb, hml, E.2.1, E.2.2.1⟩ (zX5_who h1) (cwV 2 E.2.2.1 gw_X0_257 rfl rfl rfl ⟨rfl, gnX5_who⟩ ⟨Nat.le_of_ble_eq_true rfl, Nat.le_of_ble_eq_true rfl⟩) (c_preV E hS ci_6 (sK hS (by decide) rfl) (hS.1.lt (sK hS (by decide) rfl) rfl) _) rfl rfl hl.1 rfl (lv_room (Nat.le_of_ble_eq_true rfl)) dX0_gloss_37 ⟨Nat.le_refl 0, Nat.le_refl 0⟩) hS.2.2.2.2 (fun H locs hS hn => ?_)
      refine lv_istore_n (lv' := [(3, .int r6), (0, .ref (ad 0)), (1, .int x1), (2, .int x2)]) E.1 hb dX0_gloss_40 rfl hl (by decide) rfl (fun ls hl => ?_)
      refine lv_iload_n E.1 hb dX0_gloss_41 rfl (lv_at hl 0 rfl) ?_
      refine lv_iconst (v := (-1)) E.1 hb dX0_gloss_42 rfl ?_
      refine lv_icmp_ne (tgt := 51) E.1 hb dX0_gloss_43 (by decide) (fun hc => ?_) (fun hc => ?_)
      · have hf := if_s hc hf
        refine lv_aload_n E.1 hb dX0_gloss_51 rfl (lv_at hl 1 rfl) ?_
        refine c_gN (k := 9) (f := 109) (q := 16) E hb hS ci_1 (sK hS (by decide) rfl) rfl rfl rfl (sRf hS (by decide) rfl) fk_X0_69_X0 (fun _ h => h) dX0_gloss_52 ?_
        refine lv_iload_n E.1 hb dX0_gloss_55 rfl (lv_at hl 2 rfl) ?_
        refine lv_iload_n E.1 hb dX0_gloss_56 rfl (lv_at hl 3 rfl) ?_
        obtain ⟨r7, h1, hf⟩ := bo_s hf
        refine c_ki hS (va_runV ⟨E.1, hb, hml, E.2.1, E.2.2.1⟩ (zX5_nearest h1) (cwV 2 E.2.2.1 gw_X0_341 rfl rfl rfl ⟨rfl, gnX5_nearest⟩ ⟨Nat.le_of_ble_eq_true rfl, Nat.le_of_ble_eq_true rfl⟩) (c_preV E hS ci_6 (sK hS (by decide) rfl) (hS.1.lt (sK hS (by decide) rfl) rfl) _) rfl rfl hl.1 rfl (lv_room (Nat.le_of_ble_eq_true rfl)) dX0_gloss_57 ⟨Nat.le_refl 0, Nat.le_refl 0⟩) hS.2.2.2.2 (fun H locs hS hn => ?_)
        exact hB60 A0 r6 r7 hf _ _ hS _ (lv_sub hl [1, 2, 3, 0] rfl)
      · have hf := it_s hc hf
        refine lv_bipush (v := 100) E.1 hb dX0_gloss_46 rfl ?_
        refine lv_goto (tgt := 60) E.1 hb dX0_gloss_48 (by decide) ?_
        exact hB60 A0 r6 100 hf _ _ hS _ (lv_sub hl [1, 2, 3, 0] rfl)
    · have hf := if_s hc hf
      exact hB25 A0 hf _ _ hS _ (lv_sub hl [0, 1, 2] rfl)
/-! MarginFolk.days(I)I: RW -/
noncomputable def X0_days (N : Nat) (A0 : AH) (x1 : Int32) : Option (Int32 × AH) :=
  bo (X0_isAhead A0 x1 1 100) fun r1 => if r1 = 0 then (bd (X0_refuses A0 3) fun r8 A9 => some (r8, A9)) else (bd (X0_keeps N A0) fun _ A2 => lt2 (wI A2 608 16 0 0) fun A3 => bd (X5_days N A3 16 x1) fun r4 A5 => bo r4 fun q6 => bo (gI 6 A5 608 q6) fun v7 => some (v7, A5))
abbrev rX0_days : Room := { frames := 8227, cells := 0, slots := 0, locals := 185355 }
set_option maxHeartbeats 4000000 in
theorem zX0_days {l : Launch} {dC : Nat → ClassId} {dI : Nat → Nat → Nat} {ac : Nat → ClassId} {ad : Nat → Nat} {N : Nat} {A0 : AH} {x1 : Int32} {r : Int32} {A' : AH} (hf : X0_days N A0 x1 = some (r, A')) : Met l yX0_days (ws_ yX0_days cX0_days 2 (some .int)) { frames := 8227, cells := 0, slots := 0, locals := 185355 } (va_Pc [.ref (ad 0), .int x1] (cPre dC dI ac ad True A0)) (cQi dC dI ac ad True (aN A0) (aS A0) (aN A0) (aS A0) r A') 0 0 (cF ad) := by
  unfold X0_days at hf
  refine c_of ⟨Nat.le_refl _, Nat.le_refl _⟩ RX0 (plainFor_of_name (by decide)) rfl (Nat.le_of_ble_eq_true rfl) ?_
  intro p e s m args below meth c E hb hr hlk hnm hml hS ls hl
  have hl : lv_has ls 2 [(0, .ref (ad 0)), (1, .int x1)] := hl
  refine lv_aload_n E.1 hb dX0_days_0 rfl (lv_at hl 0 rfl) ?_
  refine lv_iload_n E.1 hb dX0_days_1 rfl (lv_at hl 1 rfl) ?_
  refine lv_iconst (v := 1) E.1 hb dX0_days_2 rfl ?_
  refine lv_bipush (v := 100) E.1 hb dX0_days_3 rfl ?_
  obtain ⟨r1, h1, hf⟩ := bo_s hf
  refine c_ki hS (va_runV ⟨E.1, hb, hml, E.2.1, E.2.2.1⟩ (zX0_isAhead h1) (cwV 3 E.2.2.1 gw_X0_279 rfl rfl rfl ⟨rfl, gnX0_isAhead⟩ ⟨Nat.le_of_ble_eq_true rfl, Nat.le_of_ble_eq_true rfl⟩) (c_preV E hS ci_1 (sK hS (by decide) rfl) (hS.1.lt (sK hS (by decide) rfl) rfl) _) rfl rfl hl.1 rfl (lv_room (Nat.le_of_ble_eq_true rfl)) dX0_days_5 ⟨Nat.le_refl 0, Nat.le_refl 0⟩) hS.2.2.2.2 (fun H locs hS hn => ?_)
  refine lv_if_ne (tgt := 17) E.1 hb dX0_days_8 (by decide) (fun hc => ?_) (fun hc => ?_)
  · have hf := if_s hc hf
    refine lv_aload_n E.1 hb dX0_days_17 rfl (lv_at hl 0 rfl) ?_
    obtain ⟨_, A2, h1, hf⟩ := bd_s hf
    refine c_kv hS (va_runV ⟨E.1, hb, hml, E.2.1, E.2.2.1⟩ (zX0_keeps h1) (cwV 0 E.2.2.1 gw_X0_339 rfl rfl rfl ⟨rfl, gnX0_keeps⟩ ⟨Nat.le_of_ble_eq_true rfl, Nat.le_of_ble_eq_true rfl⟩) (c_preV E hS ci_1 (sK hS (by decide) rfl) (hS.1.lt (sK hS (by decide) rfl) rfl) _) rfl rfl hl.1 rfl (lv_room (Nat.le_of_ble_eq_true rfl)) dX0_days_18 ⟨Nat.le_refl 0, Nat.le_refl 0⟩) hS.2.2.2.2 (fun H locs hS hn => ?_)
    refine lv_aload_n E.1 hb dX0_days_21 rfl (lv_at hl 0 rfl) ?_
    refine c_gN (k := 9) (f := 109) (q := 16) E hb hS ci_1 (sK hS (by decide) rfl) rfl rfl rfl (sRf hS (by decide) rfl) fk_X0_69_X0 (fun _ h => h) dX0_days_22 ?_
    refine lv_iconst (v := 0) E.1 hb dX0_days_25 rfl ?_
    obtain ⟨A3, hw, hf⟩ := lt2_s hf
    refine c_pI (k := 8) (f := 608) E hb hS ci_6 (sK hS (by decide) rfl) (hS.1.lt (sK hS (by decide) rfl) rfl) rfl rfl (Or.inl rfl) fk_X0_293_X5 (fun _ h => h) rfl rfl hw dX0_days_26 (fun H locs hS => ?_)
    refine lv_aload_n E.1 hb dX0_days_29 rfl (lv_at hl 0 rfl) ?_
    refine c_gN (k := 9) (f := 109) (q := 16) E hb hS ci_1 (sK hS (by decide) rfl) rfl rfl rfl (sRf hS (by decide) rfl) fk_X0_69_X0 (fun _ h => h) dX0_days_30 ?_
    refine lv_iload_n E.1 hb dX0_days_33 rfl (lv_at hl 1 rfl) ?_
    obtain ⟨r4, A5, h1, hf⟩ := bd_s hf
    refine c_kq hS (va_runV ⟨E.1, hb, hml, E.2.1, E.2.2.1⟩ (zX5_days h1) (cwV 1 E.2.2.1 gw_X0_295 rfl rfl rfl ⟨rfl, gnX5_days⟩ ⟨Nat.le_of_ble_eq_true rfl, Nat.le_of_ble_eq_true rfl⟩) (c_preV E hS ci_6 (sK hS (by decide) rfl) (hS.1.lt (sK hS (by decide) rfl) rfl) _) rfl rfl hl.1 rfl (lv_room (Nat.le_of_ble_eq_true rfl)) dX0_days_34 ⟨Nat.le_refl 0, Nat.le_refl 0⟩) hS.2.2.2.2 (fun H locs hS hn => ?_)
    obtain ⟨q6, hr9, hf⟩ := bo_s hf
    refine c_dr hr9 ?_
    obtain ⟨hk, hf⟩ := gI_s hf
    refine c_gI (k := 8) (f := 608) E hb hS ci_6 hk rfl rfl rfl fk_X0_293_X5 (fun _ h => h) dX0_days_37 ?_
    exact c_ir E hb hr hlk hS ⟨Nat.le_refl 0, Nat.le_refl 0⟩ hf dX0_days_40
  · have hf := it_s hc hf
    refine lv_aload_n E.1 hb dX0_days_11 rfl (lv_at hl 0 rfl) ?_
    refine lv_iconst (v := 3) E.1 hb dX0_days_12 rfl ?_
    obtain ⟨r8, A9, h1, hf⟩ := bd_s hf
    refine c_ki hS (va_runV ⟨E.1, hb, hml, E.2.1, E.2.2.1⟩ (zX0_refuses h1) (cwV 1 E.2.2.1 gw_X0_115 rfl rfl rfl ⟨rfl, gnX0_refuses⟩ ⟨Nat.le_of_ble_eq_true rfl, Nat.le_of_ble_eq_true rfl⟩) (c_preV E hS ci_1 (sK hS (by decide) rfl) (hS.1.lt (sK hS (by decide) rfl) rfl) _) rfl rfl hl.1 rfl (lv_room (Nat.le_of_ble_eq_true rfl)) dX0_days_13 ⟨Nat.le_refl 0, Nat.le_refl 0⟩) hS.2.2.2.2 (fun H locs hS hn => ?_)
    exact c_ir E hb hr hlk hS ⟨Nat.le_refl 0, Nat.le_refl 0⟩ hf dX0_days_16
/-! MarginFolk.draw(I)I: RW -/
noncomputable def X0_draw (A0 : AH) (x1 : Int32) : Option (Int32 × AH) :=
  lt2 (wJ A0 121 0 0 (((1103515245 * (aJ A0 121 0 0)) + 12345) - ((1103515245 * (aJ A0 121 0 0)) + 12345) / 2147483648 * 2147483648)) fun A1 => if ¬ (Int32.toInt64 x1) = 0 then (some ((Int64.toInt32 (((aJ A1 121 0 0) / 64) - ((aJ A1 121 0 0) / 64) / (Int32.toInt64 x1) * (Int32.toInt64 x1))), A1)) else none
abbrev rX0_draw : Room := { frames := 0, cells := 0, slots := 0, locals := 0 }
set_option maxHeartbeats 4000000 in
theorem zX0_draw {l : Launch} {dC : Nat → ClassId} {dI : Nat → Nat → Nat} {ac : Nat → ClassId} {ad : Nat → Nat} {A0 : AH} {x1 : Int32} {r : Int32} {A' : AH} (hf : X0_draw A0 x1 = some (r, A')) : Met l yX0_draw (ws_ yX0_draw cX0_draw 2 (some .int)) { frames := 0, cells := 0, slots := 0, locals := 0 } (va_Pc [.ref (ad 0), .int x1] (cPre dC dI ac ad True A0)) (cQi dC dI ac ad True (aN A0) (aS A0) (aN A0) (aS A0) r A') 0 0 (cF ad) := by
  unfold X0_draw at hf
  refine c_of ⟨Nat.le_refl _, Nat.le_refl _⟩ RX0 (plainFor_of_name (by decide)) rfl (Nat.le_of_ble_eq_true rfl) ?_
  intro p e s m args below meth c E hb hr hlk hnm hml hS ls hl
  have hl : lv_has ls 2 [(0, .ref (ad 0)), (1, .int x1)] := hl
  refine lv_aload_n E.1 hb dX0_draw_0 rfl (lv_at hl 0 rfl) ?_
  refine lv_ldc2 E.1 hb E.2.1 (E.2.2.1 _ q1591) dX0_draw_1 ?_
  refine lv_aload_n E.1 hb dX0_draw_4 rfl (lv_at hl 0 rfl) ?_
  refine c_gJ (k := 21) (f := 121) E hb hS ci_1 (sK hS (by decide) rfl) rfl rfl rfl fk_X0_105_X0 (fun _ h => h) dX0_draw_5 ?_
  refine lv_lmul E.1 hb dX0_draw_8 ?_
  refine lv_ldc2 E.1 hb E.2.1 (E.2.2.1 _ q1592) dX0_draw_9 ?_
  refine lv_ladd E.1 hb dX0_draw_12 ?_
  refine lv_ldc2 E.1 hb E.2.1 (E.2.2.1 _ q1593) dX0_draw_13 ?_
  refine lv_lrem E.1 hb dX0_draw_16 (by decide) ?_
  obtain ⟨A1, hw, hf⟩ := lt2_s hf
  refine c_pJ (k := 21) (f := 121) E hb hS ci_1 (sK hS (by decide) rfl) (hS.1.lt (sK hS (by decide) rfl) rfl) rfl rfl (Or.inl rfl) fk_X0_105_X0 (fun _ h => h) rfl rfl hw dX0_draw_17 (fun H locs hS => ?_)
  refine lv_aload_n E.1 hb dX0_draw_20 rfl (lv_at hl 0 rfl) ?_
  refine c_gJ (k := 21) (f := 121) E hb hS ci_1 (sK hS (by decide) rfl) rfl rfl rfl fk_X0_105_X0 (fun _ h => h) dX0_draw_21 ?_
  refine lv_ldc2 E.1 hb E.2.1 (E.2.2.1 _ q1594) dX0_draw_24 ?_
  refine lv_ldiv E.1 hb dX0_draw_27 (by decide) ?_
  refine lv_iload_n E.1 hb dX0_draw_28 rfl (lv_at hl 1 rfl) ?_
  refine lv_i2l E.1 hb dX0_draw_29 rfl ?_
  obtain ⟨hg, hf⟩ := gu_s hf
  refine lv_lrem E.1 hb dX0_draw_30 hg ?_
  refine lv_l2i E.1 hb dX0_draw_31 rfl ?_
  exact c_ir E hb hr hlk hS ⟨Nat.le_refl 0, Nat.le_refl 0⟩ hf dX0_draw_32
theorem gw_X0_352 : GoodIn lw_all (wsV RX0 352 RX0 yX0_draw (ws_ yX0_draw cX0_draw 2 (some .int))) := lw_V q1587 q1589 qs57 q152 q1590
theorem gnX0_draw : yX0_draw.cls ≠ "java/lang/invoke/MethodHandle" ∧ yX0_draw.cls ≠ "java/lang/invoke/VarHandle" ∧ (parseMethodDescriptor yX0_draw.desc).map (fun d => d.parameters.length) = some 1 := by decide +kernel
theorem fk_X0_355_X1 : FLk RX0 355 "MarginFolk$Folio" (TX1 5).2.1 (TX1 5).2.2.1 := Or.inr ⟨_, q244⟩
/-! MarginFolk.chance(I)I: RW -/
noncomputable def X0_chance_b76 (N : Nat) (x1 : Int32) (k25 : AH → Int32 → Int32 → Option (Int32 × AH)) (A : AH) (x2 : Int32) (x3 : Int32) : Option (Int32 × AH) :=
  bd (X5_days N A 16 1) fun r7 A8 => bo r7 fun q9 => k25 A8 x2 (x3 + 1)
noncomputable def X0_chance_b25 (N : Nat) (x1 : Int32) (k25 : AH → Int32 → Int32 → Option (Int32 × AH)) (A : AH) (x2 : Int32) (x3 : Int32) : Option (Int32 × AH) :=
  if x1 ≤ x3 then (some (x2, A)) else (bd (X0_draw A 100) fun r3 A4 => bo (aR A4 100 0 0) fun q5 => bo (gI 2 A4 205 q5) fun v6 => if v6 ≤ r3 then (X0_chance_b76 N x1 k25 A4 x2 x3) else (bo (X0_beings A4) fun r10 => if r10 ≤ 0 then (X0_chance_b76 N x1 k25 A4 x2 x3) else (bo (X0_beings A4) fun r11 => bd (X0_draw A4 r11) fun r12 A13 => bo (sI 8 31 A13 20 r12) fun v14 => bo (tI 8 31 A13 20 r12 (v14 / 2)) fun A15 => X0_chance_b76 N x1 k25 A15 (x2 + 1) x3)))
noncomputable def X0_chance (N : Nat) (A0 : AH) (x1 : Int32) : Option (Int32 × AH) :=
  bo (X0_isAhead A0 x1 1 100) fun r1 => if r1 = 0 then (bd (X0_refuses A0 3) fun r16 A17 => some (r16, A17)) else (bd (X0_keeps N A0) fun _ A2 => rn3 (X0_chance_b25 N x1) N A2 0 0)
abbrev rX0_chance : Room := { frames := 8227, cells := 0, slots := 0, locals := 185355 }
set_option maxHeartbeats 4000000 in
theorem zX0_chance {l : Launch} {dC : Nat → ClassId} {dI : Nat → Nat → Nat} {ac : Nat → ClassId} {ad : Nat → Nat} {N : Nat} {A0 : AH} {x1 : Int32} {r : Int32} {A' : AH} (hf : X0_chance N A0 x1 = some (r, A')) : Met l yX0_chance (ws_ yX0_chance cX0_chance 4 (some .int)) { frames := 8227, cells := 0, slots := 0, locals := 185355 } (va_Pc [.ref (ad 0), .int x1] (cPre dC dI ac ad True A0)) (cQi dC dI ac ad True (aN A0) (aS A0) (aN A0) (aS A0) r A') 0 0 (cF ad) := by
  unfold X0_chance at hf
  refine c_of ⟨Nat.le_refl _, Nat.le_refl _⟩ RX0 (plainFor_of_name (by decide)) rfl (Nat.le_of_ble_eq_true rfl) ?_
  intro p e s m args below meth c E hb hr hlk hnm hml hS ls hl
  have hl : lv_has ls 4 [(0, .ref (ad 0)), (1, .int x1)] := hl
  have hB76 : ∀ (k25 : AH → Int32 → Int32 → Option (Int32 × AH)) (hk25 : ∀ (A : AH) (x2 : Int32) (x3 : Int32), k25 A x2 x3 = some (r, A') → ∀ (H : Heap) (locs : List Loc), cS dC dI ac ad True s.heap (aN A0) (aS A0) (aN A0) (aS A0) A H locs → ∀ (ls : Array Slot), lv_has ls 4 [(0, .ref (ad 0)), (1, .int x1), (2, .int x2), (3, .int x3)] → W p l e rX0_chance s m args below meth c H locs 0 0 (MQ below (cQi dC dI ac ad True (aN A0) (aS A0) (aN A0) (aS A0) r A') args s 0 0 (cF ad)) (F0 m 25 ls [])) (A : AH) (x2 : Int32) (x3 : Int32), X0_chance_b76 N x1 k25 A x2 x3 = some (r, A') → ∀ (H : Heap) (locs : List Loc), cS dC dI ac ad True s.heap (aN A0) (aS A0) (aN A0) (aS A0) A H locs → ∀ (ls : Array Slot), lv_has ls 4 [(0, .ref (ad 0)), (1, .int x1), (2, .int x2), (3, .int x3)] → W p l e rX0_chance s m args below meth c H locs 0 0 (MQ below (cQi dC dI ac ad True (aN A0) (aS A0) (aN A0) (aS A0) r A') args s 0 0 (cF ad)) (F0 m 76 ls []) := by
    intro k25 hk25 A x2 x3 hf H locs hS ls hl
    unfold X0_chance_b76 at hf
    refine lv_aload_n E.1 hb dX0_chance_76 rfl (lv_at hl 0 rfl) ?_
    refine c_gN (k := 9) (f := 109) (q := 16) E hb hS ci_1 (sK hS (by decide) rfl) rfl rfl rfl (sRf hS (by decide) rfl) fk_X0_69_X0 (fun _ h => h) dX0_chance_77 ?_
    refine lv_iconst (v := 1) E.1 hb dX0_chance_80 rfl ?_
    obtain ⟨r7, A8, h1, hf⟩ := bd_s hf
    refine c_kq hS (va_runV ⟨E.1, hb, hml, E.2.1, E.2.2.1⟩ (zX5_days h1) (cwV 1 E.2.2.1 gw_X0_295 rfl rfl rfl ⟨rfl, gnX5_days⟩ ⟨Nat.le_of_ble_eq_true rfl, Nat.le_of_ble_eq_true rfl⟩) (c_preV E hS ci_6 (sK hS (by decide) rfl) (hS.1.lt (sK hS (by decide) rfl) rfl) _) rfl rfl hl.1 rfl (lv_room (Nat.le_of_ble_eq_true rfl)) dX0_chance_81 ⟨Nat.le_refl 0, Nat.le_refl 0⟩) hS.2.2.2.2 (fun H locs hS hn => ?_)
    obtain ⟨q9, hr9, hf⟩ := bo_s hf
    refine c_dr hr9 ?_
    refine lv_pop E.1 hb dX0_chance_84 rfl ?_
    refine lv_iinc (v := (x3 + 1)) (lv' := [(3, .int (x3 + 1)), (0, .ref (ad 0)), (1, .int x1), (2, .int x2)]) E.1 hb dX0_chance_85 hl (k := 3) rfl rfl (by decide) rfl (fun ls hl => ?_)
    refine lv_goto (tgt := 25) E.1 hb dX0_chance_88 (by decide) ?_
    exact hk25 A8 x2 (x3 + 1) hf _ _ hS _ (lv_sub hl [1, 2, 3, 0] rfl)
  have hL25 : ∀ (n : Nat) (A : AH) (x2 : Int32) (x3 : Int32), rn3 (X0_chance_b25 N x1) n A x2 x3 = some (r, A') → ∀ (H : Heap) (locs : List Loc), cS dC dI ac ad True s.heap (aN A0) (aS A0) (aN A0) (aS A0) A H locs → ∀ (ls : Array Slot), lv_has ls 4 [(0, .ref (ad 0)), (1, .int x1), (2, .int x2), (3, .int x3)] → W p l e rX0_chance s m args below meth c H locs 0 0 (MQ below (cQi dC dI ac ad True (aN A0) (aS A0) (aN A0) (aS A0) r A') args s 0 0 (cF ad)) (F0 m 25 ls []) := by
    intro  n
    induction n with
    | zero =>
      intro A x2 x3 hf
      cases hf
    | succ n ih =>
      intro A x2 x3 hf H locs hS ls hl
      have hf : X0_chance_b25 N x1 (rn3 (X0_chance_b25 N x1) n) A x2 x3 = some (r, A') := hf
      have hk25 := ih
      generalize rn3 (X0_chance_b25 N x1) n = k25 at hf hk25
      unfold X0_chance_b25 at hf
      refine lv_iload_n E.1 hb dX0_chance_25 rfl (lv_at hl 3 rfl) ?_
      refine lv_iload_n E.1 hb dX0_chance_26 rfl (lv_at hl 1 rfl) ?_
      refine lv_icmp_ge (tgt := 91) E.1 hb dX0_chance_27 (by decide) (fun hc => ?_) (fun hc => ?_)
      · have hf := it_s hc hf
        refine lv_iload_n E.1 hb dX0_chance_91 rfl (lv_at hl 2 rfl) ?_
        exact c_ir E hb hr hlk hS ⟨Nat.le_refl 0, Nat.le_refl 0⟩ hf dX0_chance_92
      · have hf := if_s hc hf
        refine lv_aload_n E.1 hb dX0_chance_30 rfl (lv_at hl 0 rfl) ?_
        refine lv_bipush (v := 100) E.1 hb dX0_chance_31 rfl ?_
        obtain ⟨r3, A4, h1, hf⟩ := bd_s hf
        refine c_ki hS (va_runV ⟨E.1, hb, hml, E.2.1, E.2.2.1⟩ (zX0_draw h1) (cwV 1 E.2.2.1 gw_X0_352 rfl rfl rfl ⟨rfl, gnX0_draw⟩ ⟨Nat.le_of_ble_eq_true rfl, Nat.le_of_ble_eq_true rfl⟩) (c_preV E hS ci_1 (sK hS (by decide) rfl) (hS.1.lt (sK hS (by decide) rfl) rfl) _) rfl rfl hl.1 rfl (lv_room (Nat.le_of_ble_eq_true rfl)) dX0_chance_33 ⟨Nat.le_refl 0, Nat.le_refl 0⟩) hS.2.2.2.2 (fun H locs hS hn => ?_)
        refine lv_aload_n E.1 hb dX0_chance_36 rfl (lv_at hl 0 rfl) ?_
        obtain ⟨q5, hr7, hf⟩ := bo_s hf
        refine c_gN (k := 0) (f := 100) E hb hS ci_1 (sK hS (by decide) rfl) rfl rfl rfl hr7 fk_X0_31_X0 (fun _ h => h) dX0_chance_37 ?_
        obtain ⟨hk, hf⟩ := gI_s hf
        refine c_gI (k := 5) (f := 205) E hb hS ci_2 hk rfl rfl rfl fk_X0_355_X1 (fun _ h => h) dX0_chance_40 ?_
        refine lv_icmp_ge (tgt := 76) E.1 hb dX0_chance_43 (by decide) (fun hc => ?_) (fun hc => ?_)
        · have hf := it_s hc hf
          exact hB76 k25 hk25 A4 x2 x3 hf _ _ hS _ (lv_sub hl [0, 1, 2, 3] rfl)
        · have hf := if_s hc hf
          refine lv_aload_n E.1 hb dX0_chance_46 rfl (lv_at hl 0 rfl) ?_
          obtain ⟨r10, h1, hf⟩ := bo_s hf
          refine c_ki hS (va_runV ⟨E.1, hb, hml, E.2.1, E.2.2.1⟩ (zX0_beings h1) (cwV 0 E.2.2.1 gw_X0_166 rfl rfl rfl ⟨rfl, gnX0_beings⟩ ⟨Nat.le_of_ble_eq_true rfl, Nat.le_of_ble_eq_true rfl⟩) (c_preV E hS ci_1 (sK hS (by decide) rfl) (hS.1.lt (sK hS (by decide) rfl) rfl) _) rfl rfl hl.1 rfl (lv_room (Nat.le_of_ble_eq_true rfl)) dX0_chance_47 ⟨Nat.le_refl 0, Nat.le_refl 0⟩) hS.2.2.2.2 (fun H locs hS hn => ?_)
          refine lv_if_le (tgt := 76) E.1 hb dX0_chance_50 (by decide) (fun hc => ?_) (fun hc => ?_)
          · have hf := it_s hc hf
            exact hB76 k25 hk25 A4 x2 x3 hf _ _ hS _ (lv_sub hl [0, 1, 2, 3] rfl)
          · have hf := if_s hc hf
            refine lv_aload_n E.1 hb dX0_chance_53 rfl (lv_at hl 0 rfl) ?_
            refine c_gN (k := 9) (f := 109) (q := 16) E hb hS ci_1 (sK hS (by decide) rfl) rfl rfl rfl (sRf hS (by decide) rfl) fk_X0_69_X0 (fun _ h => h) dX0_chance_54 ?_
            refine c_gN (k := 5) (f := 605) (q := 20) E hb hS ci_6 (sK hS (by decide) rfl) rfl rfl rfl (sRf hS (by decide) rfl) fk_X0_245_X5 (fun _ h => h) dX0_chance_57 ?_
            refine lv_aload_n E.1 hb dX0_chance_60 rfl (lv_at hl 0 rfl) ?_
            refine lv_aload_n E.1 hb dX0_chance_61 rfl (lv_at hl 0 rfl) ?_
            obtain ⟨r11, h1, hf⟩ := bo_s hf
            refine c_ki hS (va_runV ⟨E.1, hb, hml, E.2.1, E.2.2.1⟩ (zX0_beings h1) (cwV 0 E.2.2.1 gw_X0_166 rfl rfl rfl ⟨rfl, gnX0_beings⟩ ⟨Nat.le_of_ble_eq_true rfl, Nat.le_of_ble_eq_true rfl⟩) (c_preV E hS ci_1 (sK hS (by decide) rfl) (hS.1.lt (sK hS (by decide) rfl) rfl) _) rfl rfl hl.1 rfl (lv_room (Nat.le_of_ble_eq_true rfl)) dX0_chance_62 ⟨Nat.le_refl 0, Nat.le_refl 0⟩) hS.2.2.2.2 (fun H locs hS hn => ?_)
            obtain ⟨r12, A13, h1, hf⟩ := bd_s hf
            refine c_ki hS (va_runV ⟨E.1, hb, hml, E.2.1, E.2.2.1⟩ (zX0_draw h1) (cwV 1 E.2.2.1 gw_X0_352 rfl rfl rfl ⟨rfl, gnX0_draw⟩ ⟨Nat.le_of_ble_eq_true rfl, Nat.le_of_ble_eq_true rfl⟩) (c_preV E hS ci_1 (sK hS (by decide) rfl) (hS.1.lt (sK hS (by decide) rfl) rfl) _) rfl rfl hl.1 rfl (lv_room (Nat.le_of_ble_eq_true rfl)) dX0_chance_65 ⟨Nat.le_refl 0, Nat.le_refl 0⟩) hS.2.2.2.2 (fun H locs hS hn => ?_)
            refine lv_dup2_11 E.1 hb dX0_chance_68 rfl rfl ?_
            obtain ⟨hg, hf⟩ := sI_s hf
            refine s_ld E hb hS (t := 31) ⟨by decide, rfl, rfl⟩ hg (Or.inl ⟨rfl, rfl⟩) dX0_chance_69 ?_
            refine lv_iconst (v := 2) E.1 hb dX0_chance_70 rfl ?_
            refine lv_idiv E.1 hb dX0_chance_71 (by decide) ?_
            obtain ⟨A15, hg, hw, hf⟩ := tI_s hf
            refine s_st E hb hS (t := 31) ⟨by decide, rfl, rfl⟩ hg (Or.inl ⟨rfl, rfl, rfl⟩) hw dX0_chance_72 (fun H locs hS => ?_)
            refine lv_iinc (v := (x2 + 1)) (lv' := [(2, .int (x2 + 1)), (0, .ref (ad 0)), (1, .int x1), (3, .int x3)]) E.1 hb dX0_chance_73 hl (k := 2) rfl rfl (by decide) rfl (fun ls hl => ?_)
            exact hB76 k25 hk25 A15 (x2 + 1) x3 hf _ _ hS _ (lv_sub hl [1, 2, 0, 3] rfl)
  refine lv_aload_n E.1 hb dX0_chance_0 rfl (lv_at hl 0 rfl) ?_
  refine lv_iload_n E.1 hb dX0_chance_1 rfl (lv_at hl 1 rfl) ?_
  refine lv_iconst (v := 1) E.1 hb dX0_chance_2 rfl ?_
  refine lv_bipush (v := 100) E.1 hb dX0_chance_3 rfl ?_
  obtain ⟨r1, h1, hf⟩ := bo_s hf
  refine c_ki hS (va_runV ⟨E.1, hb, hml, E.2.1, E.2.2.1⟩ (zX0_isAhead h1) (cwV 3 E.2.2.1 gw_X0_279 rfl rfl rfl ⟨rfl, gnX0_isAhead⟩ ⟨Nat.le_of_ble_eq_true rfl, Nat.le_of_ble_eq_true rfl⟩) (c_preV E hS ci_1 (sK hS (by decide) rfl) (hS.1.lt (sK hS (by decide) rfl) rfl) _) rfl rfl hl.1 rfl (lv_room (Nat.le_of_ble_eq_true rfl)) dX0_chance_5 ⟨Nat.le_refl 0, Nat.le_refl 0⟩) hS.2.2.2.2 (fun H locs hS hn => ?_)
  refine lv_if_ne (tgt := 17) E.1 hb dX0_chance_8 (by decide) (fun hc => ?_) (fun hc => ?_)
  · have hf := if_s hc hf
    refine lv_aload_n E.1 hb dX0_chance_17 rfl (lv_at hl 0 rfl) ?_
    obtain ⟨_, A2, h1, hf⟩ := bd_s hf
    refine c_kv hS (va_runV ⟨E.1, hb, hml, E.2.1, E.2.2.1⟩ (zX0_keeps h1) (cwV 0 E.2.2.1 gw_X0_339 rfl rfl rfl ⟨rfl, gnX0_keeps⟩ ⟨Nat.le_of_ble_eq_true rfl, Nat.le_of_ble_eq_true rfl⟩) (c_preV E hS ci_1 (sK hS (by decide) rfl) (hS.1.lt (sK hS (by decide) rfl) rfl) _) rfl rfl hl.1 rfl (lv_room (Nat.le_of_ble_eq_true rfl)) dX0_chance_18 ⟨Nat.le_refl 0, Nat.le_refl 0⟩) hS.2.2.2.2 (fun H locs hS hn => ?_)
    refine lv_iconst (v := 0) E.1 hb dX0_chance_21 rfl ?_
    refine lv_istore_n (lv' := [(2, .int 0), (0, .ref (ad 0)), (1, .int x1)]) E.1 hb dX0_chance_22 rfl hl (by decide) rfl (fun ls hl => ?_)
    refine lv_iconst (v := 0) E.1 hb dX0_chance_23 rfl ?_
    refine lv_istore_n (lv' := [(3, .int 0), (2, .int 0), (0, .ref (ad 0)), (1, .int x1)]) E.1 hb dX0_chance_24 rfl hl (by decide) rfl (fun ls hl => ?_)
    exact hL25 N A2 0 0 hf _ _ hS _ (lv_sub hl [2, 3, 1, 0] rfl)
  · have hf := it_s hc hf
    refine lv_aload_n E.1 hb dX0_chance_11 rfl (lv_at hl 0 rfl) ?_
    refine lv_iconst (v := 3) E.1 hb dX0_chance_12 rfl ?_
    obtain ⟨r16, A17, h1, hf⟩ := bd_s hf
    refine c_ki hS (va_runV ⟨E.1, hb, hml, E.2.1, E.2.2.1⟩ (zX0_refuses h1) (cwV 1 E.2.2.1 gw_X0_115 rfl rfl rfl ⟨rfl, gnX0_refuses⟩ ⟨Nat.le_of_ble_eq_true rfl, Nat.le_of_ble_eq_true rfl⟩) (c_preV E hS ci_1 (sK hS (by decide) rfl) (hS.1.lt (sK hS (by decide) rfl) rfl) _) rfl rfl hl.1 rfl (lv_room (Nat.le_of_ble_eq_true rfl)) dX0_chance_13 ⟨Nat.le_refl 0, Nat.le_refl 0⟩) hS.2.2.2.2 (fun H locs hS hn => ?_)
    exact c_ir E hb hr hlk hS ⟨Nat.le_refl 0, Nat.le_refl 0⟩ hf dX0_chance_16
/-! MarginFolk.seed(I)Z: RW -/
noncomputable def X0_seed (A0 : AH) (x1 : Int32) : Option (Int32 × AH) :=
  if 0 ≤ x1 then (lt2 (wJ A0 121 0 0 (Int32.toInt64 x1)) fun A1 => some (1, A1)) else (bd (X0_refuses A0 5) fun r2 A3 => if r2 < 0 then (some (0, A3)) else (some (1, A3)))
abbrev rX0_seed : Room := { frames := 1, cells := 0, slots := 0, locals := 21 }
set_option maxHeartbeats 4000000 in
theorem zX0_seed {l : Launch} {dC : Nat → ClassId} {dI : Nat → Nat → Nat} {ac : Nat → ClassId} {ad : Nat → Nat} {A0 : AH} {x1 : Int32} {r : Int32} {A' : AH} (hf : X0_seed A0 x1 = some (r, A')) : Met l yX0_seed (ws_ yX0_seed cX0_seed 2 (some .boolean)) { frames := 1, cells := 0, slots := 0, locals := 21 } (va_Pc [.ref (ad 0), .int x1] (cPre dC dI ac ad True A0)) (cQi dC dI ac ad True (aN A0) (aS A0) (aN A0) (aS A0) r A') 0 0 (cF ad) := by
  unfold X0_seed at hf
  refine c_of ⟨Nat.le_refl _, Nat.le_refl _⟩ RX0 (plainFor_of_name (by decide)) rfl (Nat.le_of_ble_eq_true rfl) ?_
  intro p e s m args below meth c E hb hr hlk hnm hml hS ls hl
  have hl : lv_has ls 2 [(0, .ref (ad 0)), (1, .int x1)] := hl
  refine lv_iload_n E.1 hb dX0_seed_0 rfl (lv_at hl 1 rfl) ?_
  refine lv_if_ge (tgt := 18) E.1 hb dX0_seed_1 (by decide) (fun hc => ?_) (fun hc => ?_)
  · have hf := it_s hc hf
    refine lv_aload_n E.1 hb dX0_seed_18 rfl (lv_at hl 0 rfl) ?_
    refine lv_iload_n E.1 hb dX0_seed_19 rfl (lv_at hl 1 rfl) ?_
    refine lv_i2l E.1 hb dX0_seed_20 rfl ?_
    obtain ⟨A1, hw, hf⟩ := lt2_s hf
    refine c_pJ (k := 21) (f := 121) E hb hS ci_1 (sK hS (by decide) rfl) (hS.1.lt (sK hS (by decide) rfl) rfl) rfl rfl (Or.inl rfl) fk_X0_105_X0 (fun _ h => h) rfl rfl hw dX0_seed_21 (fun H locs hS => ?_)
    refine lv_iconst (v := 1) E.1 hb dX0_seed_24 rfl ?_
    exact c_zr (ty := .boolean) E hb hr hlk hS ⟨Nat.le_refl 0, Nat.le_refl 0⟩ rfl hf dX0_seed_25
  · have hf := if_s hc hf
    refine lv_aload_n E.1 hb dX0_seed_4 rfl (lv_at hl 0 rfl) ?_
    refine lv_iconst (v := 5) E.1 hb dX0_seed_5 rfl ?_
    obtain ⟨r2, A3, h1, hf⟩ := bd_s hf
    refine c_ki hS (va_runV ⟨E.1, hb, hml, E.2.1, E.2.2.1⟩ (zX0_refuses h1) (cwV 1 E.2.2.1 gw_X0_115 rfl rfl rfl ⟨rfl, gnX0_refuses⟩ ⟨Nat.le_of_ble_eq_true rfl, Nat.le_of_ble_eq_true rfl⟩) (c_preV E hS ci_1 (sK hS (by decide) rfl) (hS.1.lt (sK hS (by decide) rfl) rfl) _) rfl rfl hl.1 rfl (lv_room (Nat.le_of_ble_eq_true rfl)) dX0_seed_6 ⟨Nat.le_refl 0, Nat.le_refl 0⟩) hS.2.2.2.2 (fun H locs hS hn => ?_)
    refine lv_if_lt (tgt := 16) E.1 hb dX0_seed_9 (by decide) (fun hc => ?_) (fun hc => ?_)
    · have hf := it_s hc hf
      refine lv_iconst (v := 0) E.1 hb dX0_seed_16 rfl ?_
      exact c_zr (ty := .boolean) E hb hr hlk hS ⟨Nat.le_refl 0, Nat.le_refl 0⟩ rfl hf dX0_seed_17
    · have hf := if_s hc hf
      refine lv_iconst (v := 1) E.1 hb dX0_seed_12 rfl ?_
      refine lv_goto (tgt := 17) E.1 hb dX0_seed_13 (by decide) ?_
      exact c_zr (ty := .boolean) E hb hr hlk hS ⟨Nat.le_refl 0, Nat.le_refl 0⟩ rfl hf dX0_seed_17
theorem fk_X19_11_X19 : FLk RX19 11 "MarginFolk$Question" (TX19 3).2.1 (TX19 3).2.2.1 := Or.inl q1620
theorem fk_X19_17_X19 : FLk RX19 17 "MarginFolk$Question" (TX19 0).2.1 (TX19 0).2.2.1 := Or.inl q1617
theorem fk_X19_21_X19 : FLk RX19 21 "MarginFolk$Question" (TX19 1).2.1 (TX19 1).2.2.1 := Or.inl q1618
theorem fk_X19_25_X19 : FLk RX19 25 "MarginFolk$Question" (TX19 2).2.1 (TX19 2).2.2.1 := Or.inl q1619
/-! MarginFolk$Question.<init>(ILMarginFolk$Test;LMarginFolk$Value;)V: RW -/
noncomputable def X19_init (A0 : AH) (x0 : Nat) (x1 : Int32) (x2 : Option Nat) (x3 : Option Nat) : Option (Unit × AH) :=
  bo (pJ 17 A0 1703 x0 (-1)) fun A1 => bo (pI 17 A1 1700 x0 x1) fun A2 => bo (pR 17 A2 1701 x0 x2) fun A3 => bo (pR 17 A3 1702 x0 x3) fun A4 => some ((), A4)
abbrev rX19_init : Room := { frames := 1, cells := 0, slots := 0, locals := 20 }
set_option maxHeartbeats 4000000 in
theorem zX19_init {l : Launch} {dC : Nat → ClassId} {dI : Nat → Nat → Nat} {ac : Nat → ClassId} {ad : Nat → Nat} {b : Prop} {A0 : AH} {x0 : Nat} {x1 : Int32} {x2 : Option Nat} {x3 : Option Nat} {A' : AH} (hf : X19_init A0 x0 x1 x2 x3 = some ((), A')) : Met l yX19_init (ws_ yX19_init cX19_init 4 none) { frames := 1, cells := 0, slots := 0, locals := 20 } (va_Pc [.ref (ad x0), .int x1, va_rf (Option.map ad x2), va_rf (Option.map ad x3)] (cPre dC dI ac ad b A0)) (cQv dC dI ac ad b (aN A0) (aS A0) (aN A0) (aS A0) A') 0 0 (cF ad) := by
  unfold X19_init at hf
  refine c_of ⟨Nat.le_refl _, Nat.le_refl _⟩ RX19 (plainFor_of_name (by decide)) rfl (by cases x2 <;> cases x3 <;> exact Nat.le_of_ble_eq_true rfl) ?_
  intro p e s m args below meth c E hb hr hlk hnm hml hS ls hl
  have hl : lv_has ls 4 [(0, .ref (ad x0)), (1, .int x1), (2, va_rf (Option.map ad x2)), (3, va_rf (Option.map ad x3))] := (by cases x2 <;> cases x3 <;> exact hl)
  refine lv_aload_n E.1 hb dX19_init_0 rfl (lv_at hl 0 rfl) ?_
  refine W.objInit E.1 hb E.2.1 (E.2.2.1 _ q1615) (E.2.2.1 _ q196) (E.2.2.1 _ q197) rfl (by rw [hml]; exact hl.1) rfl dX19_init_1 (Nat.le_of_ble_eq_true rfl) (Nat.le_of_ble_eq_true rfl) ?_
  refine W.eq (g2 := F0 m 4 ls []) rfl ?_
  refine lv_aload_n E.1 hb dX19_init_4 rfl (lv_at hl 0 rfl) ?_
  refine lv_ldc2 E.1 hb E.2.1 (E.2.2.1 _ q1616) dX19_init_5 ?_
  obtain ⟨A1, hk, hw, hf⟩ := pJ_s hf
  refine c_pJ (k := 3) (f := 1703) E hb hS ci_17 hk (hS.1.lt hk rfl) rfl rfl (Or.inl rfl) fk_X19_11_X19 (fun _ h => h) rfl rfl hw dX19_init_8 (fun H locs hS => ?_)
  refine lv_aload_n E.1 hb dX19_init_11 rfl (lv_at hl 0 rfl) ?_
  refine lv_iload_n E.1 hb dX19_init_12 rfl (lv_at hl 1 rfl) ?_
  obtain ⟨A2, hk, hw, hf⟩ := pI_s hf
  refine c_pI (k := 0) (f := 1700) E hb hS ci_17 hk (hS.1.lt hk rfl) rfl rfl (Or.inr ⟨hnm, rfl, rfl, q1617⟩) fk_X19_17_X19 (fun _ h => h) rfl rfl hw dX19_init_13 (fun H locs hS => ?_)
  refine lv_aload_n E.1 hb dX19_init_16 rfl (lv_at hl 0 rfl) ?_
  refine c_aldv_n E hb dX19_init_17 rfl (lv_at hl 2 rfl) ?_
  obtain ⟨A3, hk, hw, hf⟩ := pR_s hf
  refine c_pR (k := 1) (f := 1701) (r := x2) E hb hS ci_17 hk (hS.1.lt hk rfl) rfl rfl (fun _ => rfl) (Or.inr ⟨hnm, rfl, rfl, q1618⟩) fk_X19_21_X19 (fun _ h => h) (fun q => by cases q <;> exact ⟨rfl, rfl⟩) hw dX19_init_18 (fun H locs hS => ?_)
  refine lv_aload_n E.1 hb dX19_init_21 rfl (lv_at hl 0 rfl) ?_
  refine c_aldv_n E hb dX19_init_22 rfl (lv_at hl 3 rfl) ?_
  obtain ⟨A4, hk, hw, hf⟩ := pR_s hf
  refine c_pR (k := 2) (f := 1702) (r := x3) E hb hS ci_17 hk (hS.1.lt hk rfl) rfl rfl (fun _ => rfl) (Or.inr ⟨hnm, rfl, rfl, q1619⟩) fk_X19_25_X19 (fun _ h => h) (fun q => by cases q <;> exact ⟨rfl, rfl⟩) hw dX19_init_23 (fun H locs hS => ?_)
  exact c_vr E hb hr hlk hS ⟨Nat.le_refl 0, Nat.le_refl 0⟩ hf dX19_init_26
theorem gnX19_init : yX19_init.cls ≠ "java/lang/invoke/MethodHandle" ∧ yX19_init.cls ≠ "java/lang/invoke/VarHandle" ∧ (parseMethodDescriptor yX19_init.desc).map (fun d => d.parameters.length) = some 3 := by decide +kernel
/-! MarginFolk$Reader.question(I)LMarginFolk$Question;: RW -/
noncomputable def X2_question_b82 (N : Nat) (x1 : Int32) (A : AH) (y0 : Nat) : Option (Option (Option Nat) × AH) :=
  bd (X2_here N A) fun r16 A17 => if r16 = (-1) then (some (some (some y0), A17)) else (bd (X2_wrong A17 1 (aI A17 302 9 0)) fun r18 A19 => bo r18 fun q20 => if q20 = 10 then some (none, A19) else none)
noncomputable def X2_question (N : Nat) (A0 : AH) (x1 : Int32) : Option (Option (Option Nat) × AH) :=
  ck A0 (lt2 (wI A0 301 9 0 x1) fun A1 => lt2 (wI A1 302 9 0 0) fun A2 => lt2 (wI A2 304 9 0 0) fun A3 => lt2 (wI A3 305 9 0 447) fun A4 => bxa A4 (X2_word_2 N A4) fun r5 A6 => bo r5 fun q8 => bo (X0_find N A6 q8 (CB + 83)) fun r9 => if r9 = (-1) then (bd (X2_wrong A6 1 (aI A6 303 9 0)) fun r27 A28 => bo r27 fun q29 => if q29 = 10 then some (none, A28) else none) else (if 3 ≤ r9 then (bo (nwO A6 17 5) fun A10 => ck A10 ( bxa A10 (X2_sum N (atomF N) A10) fun r11 A12 => bo r11 fun q14 => bd (X19_init A12 (aN A6) r9 none (some q14)) fun _ A15 => X2_question_b82 N x1 A15 (aN A6))) else (bo (nwO A6 17 5) fun A21 => ck A21 ( bxa A21 (X2_test N (factF N) A21) fun r22 A23 => bo r22 fun q25 => bd (X19_init A23 (aN A6) r9 (some q25) none) fun _ A26 => X2_question_b82 N x1 A26 (aN A6)))))
set_option maxHeartbeats 4000000 in
theorem zX2_question {l : Launch} {dC : Nat → ClassId} {dI : Nat → Nat → Nat} {ac : Nat → ClassId} {ad : Nat → Nat} {N : Nat} {A0 : AH} {x1 : Int32} {o : Option (Option Nat)} {A' : AH} (hf : X2_question N A0 x1 = some (o, A')) : vx_Met l yX2_question (ws_ yX2_question cX2_question 4 (some (.object "MarginFolk$Question"))) { frames := 1012, cells := aN A' - aN A0, slots := aS A' - aS A0, locals := 21959 } (va_Pc [.ref (ad 9), .int x1] (cPre dC dI ac ad True A0)) (cQxq dC dI ac ad True (aN A0) (aS A0) (aN A') (aS A') o A') (cXC dC dI ac ad True (aN A0) (aS A0) (aN A') (aS A') o A') (aN A' - aN A0) (aS A' - aS A0) (cF ad) := by
  unfold X2_question at hf
  obtain ⟨hck0, hf⟩ := ck_s hf
  refine c_ofx hck0 RX2 (by decide) rfl (Nat.le_of_ble_eq_true rfl) ?_
  intro p e s m args below meth c E hb hr hlk hnm hml hnx hS ls hl
  have hl : lv_has ls 4 [(0, .ref (ad 9)), (1, .int x1)] := hl
  have hcs : aN A0 + 0 ≤ aN A0 ∧ aS A0 + 0 ≤ aS A0 := ⟨Nat.le_refl _, Nat.le_refl _⟩
  have hB82 : ∀ (A : AH) (y0 : Nat), X2_question_b82 N x1 A y0 = some (o, A') → ∀ (H : Heap) (locs : List Loc) (cells slots : Nat), aN A0 + cells ≤ aN A ∧ aS A0 + slots ≤ aS A →  cS dC dI ac ad True s.heap (aN A0) (aS A0) (aN A') (aS A') A H locs → ∀ (ls : Array Slot), lv_has ls 4 [(0, .ref (ad 9)), (1, .int x1)] → W p l e { frames := 1012, cells := aN A' - aN A0, slots := aS A' - aS A0, locals := 21959 } s m args below meth c H locs cells slots (vx_MQ below (cQxq dC dI ac ad True (aN A0) (aS A0) (aN A') (aS A') o A') (cXC dC dI ac ad True (aN A0) (aS A0) (aN A') (aS A') o A') args s (aN A' - aN A0) (aS A' - aS A0) (cF ad)) (F0 m 82 ls [.ref (ad y0)]) := by
    intro A y0 hf H locs cells slots hcs hS ls hl
    unfold X2_question_b82 at hf
    refine lv_astore_n (lv' := [(3, .ref (ad y0)), (0, .ref (ad 9)), (1, .int x1)]) E.1 hb dX2_question_82 rfl hl (by decide) rfl (fun ls hl => ?_)
    refine lv_aload_n E.1 hb dX2_question_83 rfl (lv_at hl 1 rfl) ?_
    obtain ⟨r16, A17, h1, hf⟩ := bd_s hf
    refine c_ki hS (va_runV ⟨E.1, hb, hml, E.2.1, E.2.2.1⟩ (zX2_here h1) (cwV 0 E.2.2.1 gw_X2_43 rfl rfl rfl ⟨rfl, gnX2_here⟩ ⟨Nat.le_of_ble_eq_true rfl, Nat.le_of_ble_eq_true rfl⟩) (c_preV E hS ci_3 (sK hS (by decide) rfl) (hS.1.lt (sK hS (by decide) rfl) rfl) _) rfl rfl hl.1 rfl (lv_room (Nat.le_of_ble_eq_true rfl)) dX2_question_84 (rm_n hcs hS.2.2.2.2)) hS.2.2.2.2 (fun H locs hS hn => ?_)
    have hcs := rm_n2 hcs hn
    refine lv_iconst (v := (-1)) E.1 hb dX2_question_87 rfl ?_
    refine lv_icmp_eq (tgt := 101) E.1 hb dX2_question_88 (by decide) (fun hc => ?_) (fun hc => ?_)
    · have hf := it_s hc hf
      refine lv_aload_n E.1 hb dX2_question_101 rfl (lv_at hl 0 rfl) ?_
      exact x_ar E hb hr (Or.inl ⟨_, rfl⟩) hlk hS (rm_e ⟨Nat.le_trans hcs.1 hS.2.2.2.2.1, Nat.le_trans hcs.2 hS.2.2.2.2.2⟩) (v := (some y0)) hf dX2_question_102
    · have hf := if_s hc hf
      refine lv_aload_n E.1 hb dX2_question_91 rfl (lv_at hl 1 rfl) ?_
      refine lv_iconst (v := 1) E.1 hb dX2_question_92 rfl ?_
      refine lv_aload_n E.1 hb dX2_question_93 rfl (lv_at hl 1 rfl) ?_
      refine c_gI (k := 2) (f := 302) E hb hS ci_3 (sK hS (by decide) rfl) rfl rfl rfl fk_X2_36_X2 (fun _ h => h) dX2_question_94 ?_
      obtain ⟨r18, A19, h1, hf⟩ := bd_s hf
      refine c_kq hS (va_runV ⟨E.1, hb, hml, E.2.1, E.2.2.1⟩ (zX2_wrong h1) (cwV 2 E.2.2.1 gw_X2_47 rfl rfl rfl ⟨rfl, gnX2_wrong⟩ ⟨Nat.le_of_ble_eq_true rfl, Nat.le_of_ble_eq_true rfl⟩) (c_preV E hS ci_3 (sK hS (by decide) rfl) (hS.1.lt (sK hS (by decide) rfl) rfl) _) rfl rfl hl.1 rfl (lv_room (Nat.le_of_ble_eq_true rfl)) dX2_question_97 (rm_n hcs hS.2.2.2.2)) hS.2.2.2.2 (fun H locs hS hn => ?_)
      have hcs := rm_n2 hcs hn
      obtain ⟨q20, hr9, hf⟩ := bo_s hf
      refine c_dr hr9 ?_
      obtain ⟨hg, hf9⟩ := gu_s hf
      subst hg
      exact x_thr E hb hnx hlk hS (rm_e ⟨Nat.le_trans hcs.1 hS.2.2.2.2.1, Nat.le_trans hcs.2 hS.2.2.2.2.2⟩) hf9 dX2_question_100
  refine lv_aload_n E.1 hb dX2_question_0 rfl (lv_at hl 0 rfl) ?_
  refine lv_iload_n E.1 hb dX2_question_1 rfl (lv_at hl 1 rfl) ?_
  obtain ⟨A1, hw, hf⟩ := lt2_s hf
  refine c_pI (k := 1) (f := 301) E hb hS ci_3 (sK hS (by decide) rfl) (hS.1.lt (sK hS (by decide) rfl) rfl) rfl rfl (Or.inl rfl) fk_X2_29_X2 (fun _ h => h) rfl rfl hw dX2_question_2 (fun H locs hS => ?_)
  have hcs := rm_w (A2 := A1) hcs (by rw [hw]; exact ⟨rfl, rfl⟩)
  refine lv_aload_n E.1 hb dX2_question_5 rfl (lv_at hl 0 rfl) ?_
  refine lv_iconst (v := 0) E.1 hb dX2_question_6 rfl ?_
  obtain ⟨A2, hw, hf⟩ := lt2_s hf
  refine c_pI (k := 2) (f := 302) E hb hS ci_3 (sK hS (by decide) rfl) (hS.1.lt (sK hS (by decide) rfl) rfl) rfl rfl (Or.inl rfl) fk_X2_36_X2 (fun _ h => h) rfl rfl hw dX2_question_7 (fun H locs hS => ?_)
  have hcs := rm_w (A2 := A2) hcs (by rw [hw]; exact ⟨rfl, rfl⟩)
  refine lv_aload_n E.1 hb dX2_question_10 rfl (lv_at hl 0 rfl) ?_
  refine lv_iconst (v := 0) E.1 hb dX2_question_11 rfl ?_
  obtain ⟨A3, hw, hf⟩ := lt2_s hf
  refine c_pI (k := 4) (f := 304) E hb hS ci_3 (sK hS (by decide) rfl) (hS.1.lt (sK hS (by decide) rfl) rfl) rfl rfl (Or.inl rfl) fk_X2_117_X2 (fun _ h => h) rfl rfl hw dX2_question_12 (fun H locs hS => ?_)
  have hcs := rm_w (A2 := A3) hcs (by rw [hw]; exact ⟨rfl, rfl⟩)
  refine lv_aload_n E.1 hb dX2_question_15 rfl (lv_at hl 0 rfl) ?_
  refine lv_sipush (v := 447) E.1 hb dX2_question_16 rfl ?_
  obtain ⟨A4, hw, hf⟩ := lt2_s hf
  refine c_pI (k := 5) (f := 305) E hb hS ci_3 (sK hS (by decide) rfl) (hS.1.lt (sK hS (by decide) rfl) rfl) rfl rfl (Or.inl rfl) fk_X2_205_X2 (fun _ h => h) rfl rfl hw dX2_question_19 (fun H locs hS => ?_)
  have hcs := rm_w (A2 := A4) hcs (by rw [hw]; exact ⟨rfl, rfl⟩)
  refine lv_aload_n E.1 hb dX2_question_22 rfl (lv_at hl 0 rfl) ?_
  obtain ⟨o7, A6, h1, hge, hup, hf⟩ := bxa_s hf
  refine x_kq hS (vx_runV ⟨E.1, hb, hml, E.2.1, E.2.2.1⟩ (zX2_word_2 h1) (cwV 0 E.2.2.1 gw_X2_70 rfl rfl rfl ⟨rfl, gnX2_word_2⟩ ⟨Nat.le_of_ble_eq_true rfl, Nat.le_of_ble_eq_true rfl⟩) (c_preV E hS ci_3 (sK hS (by decide) rfl) (hS.1.lt (sK hS (by decide) rfl) rfl) _) rfl rfl hl.1 rfl (lv_room (Nat.le_of_ble_eq_true rfl)) dX2_question_23 (rm_a hcs hge hup)) hup (fun ho H locs hS hn => ?_) (fun r5 ho H locs hS hn => ?_)
  · subst ho
    have hcs := rm_a2 hcs hge
    exact x_out E hnx hlk hS (rm_e ⟨Nat.le_trans hcs.1 hS.2.2.2.2.1, Nat.le_trans hcs.2 hS.2.2.2.2.2⟩) (xm_n hf)
  subst ho
  have hcs := rm_a2 hcs hge
  have hf := xm_s hf
  obtain ⟨q8, hr9, hf⟩ := bo_s hf
  refine c_dr hr9 ?_
  refine c_gst E hb hS 4 rfl (Or.inr ⟨_, q1608⟩) rfl dX2_question_26 ?_
  obtain ⟨r9, h1, hf⟩ := bo_s hf
  refine c_ki hS (va_runSN ⟨E.1, hb, hml, E.2.1, E.2.2.1⟩ (zX0_find h1) ⟨va_cnB 2 E.2.2.1 (lw_meth q835) rfl rfl rfl (E.2.2.2.2.1 _ q833 rfl) (E.2.2.1 _ q152) gnX0_find ⟨Nat.le_of_ble_eq_true rfl, Nat.le_of_ble_eq_true rfl⟩, E.2.2.1 _ q834, trivial⟩ (c_preS E hS _) rfl rfl hl.1 rfl (lv_room (Nat.le_of_ble_eq_true rfl)) dX2_question_29 (rm_n hcs hS.2.2.2.2)) hS.2.2.2.2 (fun H locs hS hn => ?_)
  have hcs := rm_n2 hcs hn
  refine lv_istore_n (lv' := [(2, .int r9), (0, .ref (ad 9)), (1, .int x1)]) E.1 hb dX2_question_32 rfl hl (by decide) rfl (fun ls hl => ?_)
  refine lv_iload_n E.1 hb dX2_question_33 rfl (lv_at hl 0 rfl) ?_
  refine lv_iconst (v := (-1)) E.1 hb dX2_question_34 rfl ?_
  refine lv_icmp_ne (tgt := 48) E.1 hb dX2_question_35 (by decide) (fun hc => ?_) (fun hc => ?_)
  · have hf := if_s hc hf
    refine lv_iload_n E.1 hb dX2_question_48 rfl (lv_at hl 0 rfl) ?_
    refine lv_iconst (v := 3) E.1 hb dX2_question_49 rfl ?_
    refine lv_icmp_ge (tgt := 69) E.1 hb dX2_question_50 (by decide) (fun hc => ?_) (fun hc => ?_)
    · have hf := it_s hc hf
      obtain ⟨A10, hn9, hw, hf⟩ := nwO_s hf
      obtain ⟨hck, hf⟩ := ck_s hf
      refine c_new E hb hS hcs ci_17 dv_17 q1610 q1611 q189 hn9 hw hck (rm_up _ _ _ _) dX2_question_69 (fun H cells slots hS hcs => ?_)
      refine lv_dup E.1 hb dX2_question_72 rfl ?_
      refine lv_iload_n E.1 hb dX2_question_73 rfl (lv_at hl 0 rfl) ?_
      refine lv_null E.1 hb dX2_question_74 ?_
      refine lv_aload_n E.1 hb dX2_question_75 rfl (lv_at hl 1 rfl) ?_
      obtain ⟨o13, A12, h1, hge, hup, hf⟩ := bxa_s hf
      refine x_kq hS (vx_runV ⟨E.1, hb, hml, E.2.1, E.2.2.1⟩ (zX2_sum zatomF h1) (cwV 0 E.2.2.1 gw_X2_208 rfl rfl rfl ⟨rfl, gnX2_sum⟩ ⟨by dsimp only; omega, by dsimp only; omega⟩) (c_preV E hS ci_3 (sK hS (by decide) rfl) (hS.1.lt (sK hS (by decide) rfl) rfl) _) rfl rfl hl.1 rfl (lv_room (Nat.le_of_ble_eq_true rfl)) dX2_question_76 (rm_a hcs hge hup)) hup (fun ho H locs hS hn => ?_) (fun r11 ho H locs hS hn => ?_)
      · subst ho
        have hcs := rm_a2 hcs hge
        exact x_out E hnx hlk hS (rm_e ⟨Nat.le_trans hcs.1 hS.2.2.2.2.1, Nat.le_trans hcs.2 hS.2.2.2.2.2⟩) (xm_n hf)
      subst ho
      have hcs := rm_a2 hcs hge
      have hf := xm_s hf
      obtain ⟨q14, hr9, hf⟩ := bo_s hf
      refine c_dr hr9 ?_
      obtain ⟨_, A15, h1, hf⟩ := bd_s hf
      refine c_kv hS (va_runI ⟨E.1, hb, hml, E.2.1, E.2.2.1⟩ (zX19_init h1) (cwI 3 E.2.2.1 (lw_meth q1614) rfl rfl rfl (E.2.2.1 _ q189) (E.2.2.1 _ q1612) (E.2.2.1 _ q1613) rfl gnX19_init ⟨Nat.le_of_ble_eq_true rfl, Nat.le_of_ble_eq_true rfl⟩) (c_preS E hS _) rfl rfl hl.1 rfl (lv_room (Nat.le_of_ble_eq_true rfl)) dX2_question_79 (rm_n hcs hS.2.2.2.2)) hS.2.2.2.2 (fun H locs hS hn => ?_)
      have hcs := rm_n2 hcs hn
      exact hB82 A15 (aN A6) hf _ _ _ _ hcs hS _ (lv_sub hl [1, 2] rfl)
    · have hf := if_s hc hf
      obtain ⟨A21, hn9, hw, hf⟩ := nwO_s hf
      obtain ⟨hck, hf⟩ := ck_s hf
      refine c_new E hb hS hcs ci_17 dv_17 q1610 q1611 q189 hn9 hw hck (rm_up _ _ _ _) dX2_question_53 (fun H cells slots hS hcs => ?_)
      refine lv_dup E.1 hb dX2_question_56 rfl ?_
      refine lv_iload_n E.1 hb dX2_question_57 rfl (lv_at hl 0 rfl) ?_
      refine lv_aload_n E.1 hb dX2_question_58 rfl (lv_at hl 1 rfl) ?_
      obtain ⟨o24, A23, h1, hge, hup, hf⟩ := bxa_s hf
      refine x_kq hS (vx_runV ⟨E.1, hb, hml, E.2.1, E.2.2.1⟩ (zX2_test zfactF h1) (cwV 0 E.2.2.1 gw_X2_236 rfl rfl rfl ⟨rfl, gnX2_test⟩ ⟨by dsimp only; omega, by dsimp only; omega⟩) (c_preV E hS ci_3 (sK hS (by decide) rfl) (hS.1.lt (sK hS (by decide) rfl) rfl) _) rfl rfl hl.1 rfl (lv_room (Nat.le_of_ble_eq_true rfl)) dX2_question_59 (rm_a hcs hge hup)) hup (fun ho H locs hS hn => ?_) (fun r22 ho H locs hS hn => ?_)
      · subst ho
        have hcs := rm_a2 hcs hge
        exact x_out E hnx hlk hS (rm_e ⟨Nat.le_trans hcs.1 hS.2.2.2.2.1, Nat.le_trans hcs.2 hS.2.2.2.2.2⟩) (xm_n hf)
      subst ho
      have hcs := rm_a2 hcs hge
      have hf := xm_s hf
      obtain ⟨q25, hr9, hf⟩ := bo_s hf
      refine c_dr hr9 ?_
      refine lv_null E.1 hb dX2_question_62 ?_
      obtain ⟨_, A26, h1, hf⟩ := bd_s hf
      refine c_kv hS (va_runI ⟨E.1, hb, hml, E.2.1, E.2.2.1⟩ (zX19_init h1) (cwI 3 E.2.2.1 (lw_meth q1614) rfl rfl rfl (E.2.2.1 _ q189) (E.2.2.1 _ q1612) (E.2.2.1 _ q1613) rfl gnX19_init ⟨Nat.le_of_ble_eq_true rfl, Nat.le_of_ble_eq_true rfl⟩) (c_preS E hS _) rfl rfl hl.1 rfl (lv_room (Nat.le_of_ble_eq_true rfl)) dX2_question_63 (rm_n hcs hS.2.2.2.2)) hS.2.2.2.2 (fun H locs hS hn => ?_)
      have hcs := rm_n2 hcs hn
      refine lv_goto (tgt := 82) E.1 hb dX2_question_66 (by decide) ?_
      exact hB82 A26 (aN A6) hf _ _ _ _ hcs hS _ (lv_sub hl [1, 2] rfl)
  · have hf := it_s hc hf
    refine lv_aload_n E.1 hb dX2_question_38 rfl (lv_at hl 1 rfl) ?_
    refine lv_iconst (v := 1) E.1 hb dX2_question_39 rfl ?_
    refine lv_aload_n E.1 hb dX2_question_40 rfl (lv_at hl 1 rfl) ?_
    refine c_gI (k := 3) (f := 303) E hb hS ci_3 (sK hS (by decide) rfl) rfl rfl rfl fk_X2_61_X2 (fun _ h => h) dX2_question_41 ?_
    obtain ⟨r27, A28, h1, hf⟩ := bd_s hf
    refine c_kq hS (va_runV ⟨E.1, hb, hml, E.2.1, E.2.2.1⟩ (zX2_wrong h1) (cwV 2 E.2.2.1 gw_X2_47 rfl rfl rfl ⟨rfl, gnX2_wrong⟩ ⟨Nat.le_of_ble_eq_true rfl, Nat.le_of_ble_eq_true rfl⟩) (c_preV E hS ci_3 (sK hS (by decide) rfl) (hS.1.lt (sK hS (by decide) rfl) rfl) _) rfl rfl hl.1 rfl (lv_room (Nat.le_of_ble_eq_true rfl)) dX2_question_44 (rm_n hcs hS.2.2.2.2)) hS.2.2.2.2 (fun H locs hS hn => ?_)
    have hcs := rm_n2 hcs hn
    obtain ⟨q29, hr9, hf⟩ := bo_s hf
    refine c_dr hr9 ?_
    obtain ⟨hg, hf9⟩ := gu_s hf
    subst hg
    exact x_thr E hb hnx hlk hS (rm_e ⟨Nat.le_trans hcs.1 hS.2.2.2.2.1, Nat.le_trans hcs.2 hS.2.2.2.2.2⟩) hf9 dX2_question_47
theorem fk_X19_41_X19 : FLk RX19 41 "MarginFolk$Question" (TX19 4).2.1 (TX19 4).2.2.1 := Or.inl q1621
theorem gw_X19_51 : GoodIn lw_all (va_wsS RX19 51 yJ12_min_2 (ws_ yJ12_min_2 cJ12_min_2 4 (some .long))) := lw_S q1640 q1275 q172 q1276
theorem gw_X19_35 : GoodIn lw_all (va_wsS RX19 35 yJ12_max_2 (ws_ yJ12_max_2 cJ12_max_2 4 (some .long))) := lw_S q1638 q1278 q172 q1279
/-! MarginFolk$Question.meets(ILMarginFolk$Moment;)V: RW -/
noncomputable def X19_meets_b139 (N : Nat) (x0 : Nat) (x1 : Int32) (x2 : Nat) (A : AH) (y0 : Int64) (y1 : Nat) : Option (Unit × AH) :=
  bo (pJ 17 A 1703 y1 y0) fun A11 => bo (pI 17 A11 1704 x0 1) fun A12 => some ((), A12)
noncomputable def X19_meets_b65 (N : Nat) (x0 : Nat) (x1 : Int32) (x2 : Nat) (A : AH) (y0 : Int64) (y1 : Nat) : Option (Unit × AH) :=
  bo (pJ 17 A 1703 y1 y0) fun A22 => bo (pI 17 A22 1704 x0 1) fun A23 => some ((), A23)
noncomputable def X19_meets_b63 (N : Nat) (x0 : Nat) (x1 : Int32) (x2 : Nat) (A : AH) (y0 : Nat) : Option (Unit × AH) :=
  X19_meets_b65 N x0 x1 x2 A (Int32.toInt64 x1) y0
noncomputable def X19_meets (N : Nat) (A0 : AH) (x0 : Nat) (x1 : Int32) (x2 : Nat) : Option (Unit × AH) :=
  bo (gI 17 A0 1700 x0) fun v1 => if 3 ≤ v1 then (bo (gR 17 A0 1702 x0) fun v2 => bo v2 fun q3 => bd (valF N A0 q3 x2) fun r4 A5 => bo (gI 17 A5 1704 x0) fun v6 => if v6 = 0 then (X19_meets_b139 N x0 x1 x2 A5 r4 x0) else (bo (gI 17 A5 1700 x0) fun v7 => if v7 = 3 then (bo (gJ 17 A5 1703 x0) fun v15 => X19_meets_b139 N x0 x1 x2 A5 (v15 + r4) x0) else (bo (gI 17 A5 1700 x0) fun v8 => if v8 = 4 then (bo (gJ 17 A5 1703 x0) fun v13 => bo (J12_max_2 v13 r4) fun r14 => X19_meets_b139 N x0 x1 x2 A5 r14 x0) else (bo (gJ 17 A5 1703 x0) fun v9 => bo (J12_min_2 v9 r4) fun r10 => X19_meets_b139 N x0 x1 x2 A5 r10 x0)))) else (bo (gR 17 A0 1701 x0) fun v16 => bo v16 fun q17 => bd (tstF N A0 q17 x2) fun r18 A19 => if r18 = 0 then (some ((), A19)) else (bo (gI 17 A19 1700 x0) fun v20 => if v20 = 2 then (bo (gJ 17 A19 1703 x0) fun v26 => bo (J12_max_2 0 v26) fun r27 => X19_meets_b65 N x0 x1 x2 A19 (r27 + 1) x0) else (bo (gI 17 A19 1700 x0) fun v21 => if v21 = 0 then (bo (gI 17 A19 1704 x0) fun v24 => if v24 = 0 then (X19_meets_b63 N x0 x1 x2 A19 x0) else (bo (gJ 17 A19 1703 x0) fun v25 => X19_meets_b65 N x0 x1 x2 A19 v25 x0)) else (X19_meets_b63 N x0 x1 x2 A19 x0))))
abbrev rX19_meets : Room := { frames := 8225, cells := 0, slots := 0, locals := 185310 }
set_option maxHeartbeats 4000000 in
theorem zX19_meets {l : Launch} {dC : Nat → ClassId} {dI : Nat → Nat → Nat} {ac : Nat → ClassId} {ad : Nat → Nat} {N : Nat} {A0 : AH} {x0 : Nat} {x1 : Int32} {x2 : Nat} {A' : AH} (hf : X19_meets N A0 x0 x1 x2 = some ((), A')) : Met l yX19_meets (ws_ yX19_meets cX19_meets 5 none) { frames := 8225, cells := 0, slots := 0, locals := 185310 } (va_Pc [.ref (ad x0), .int x1, .ref (ad x2)] (cPre dC dI ac ad True A0)) (cQv dC dI ac ad True (aN A0) (aS A0) (aN A0) (aS A0) A') 0 0 (cF ad) := by
  unfold X19_meets at hf
  refine c_of ⟨Nat.le_refl _, Nat.le_refl _⟩ RX19 (plainFor_of_name (by decide)) rfl (Nat.le_of_ble_eq_true rfl) ?_
  intro p e s m args below meth c E hb hr hlk hnm hml hS ls hl
  have hl : lv_has ls 5 [(0, .ref (ad x0)), (1, .int x1), (2, .ref (ad x2))] := hl
  have hB139 : ∀ (A : AH) (y0 : Int64) (y1 : Nat), X19_meets_b139 N x0 x1 x2 A y0 y1 = some ((), A') → ∀ (H : Heap) (locs : List Loc), cS dC dI ac ad True s.heap (aN A0) (aS A0) (aN A0) (aS A0) A H locs → ∀ (ls : Array Slot), lv_has ls 5 [(0, .ref (ad x0)), (1, .int x1), (2, .ref (ad x2))] → W p l e rX19_meets s m args below meth c H locs 0 0 (MQ below (cQv dC dI ac ad True (aN A0) (aS A0) (aN A0) (aS A0) A') args s 0 0 (cF ad)) (F0 m 139 ls [.long y0, .ref (ad y1)]) := by
    intro A y0 y1 hf H locs hS ls hl
    unfold X19_meets_b139 at hf
    obtain ⟨A11, hk, hw, hf⟩ := pJ_s hf
    refine c_pJ (k := 3) (f := 1703) E hb hS ci_17 hk (hS.1.lt hk rfl) rfl rfl (Or.inl rfl) fk_X19_11_X19 (fun _ h => h) rfl rfl hw dX19_meets_139 (fun H locs hS => ?_)
    refine lv_aload_n E.1 hb dX19_meets_142 rfl (lv_at hl 0 rfl) ?_
    refine lv_iconst (v := 1) E.1 hb dX19_meets_143 rfl ?_
    obtain ⟨A12, hk, hw, hf⟩ := pI_s hf
    refine c_pI (k := 4) (f := 1704) E hb hS ci_17 hk (hS.1.lt hk rfl) rfl rfl (Or.inl rfl) fk_X19_41_X19 (fun _ h => h) rfl rfl hw dX19_meets_144 (fun H locs hS => ?_)
    exact c_vr E hb hr hlk hS ⟨Nat.le_refl 0, Nat.le_refl 0⟩ hf dX19_meets_147
  have hB65 : ∀ (A : AH) (y0 : Int64) (y1 : Nat), X19_meets_b65 N x0 x1 x2 A y0 y1 = some ((), A') → ∀ (H : Heap) (locs : List Loc), cS dC dI ac ad True s.heap (aN A0) (aS A0) (aN A0) (aS A0) A H locs → ∀ (ls : Array Slot), lv_has ls 5 [(0, .ref (ad x0)), (1, .int x1), (2, .ref (ad x2))] → W p l e rX19_meets s m args below meth c H locs 0 0 (MQ below (cQv dC dI ac ad True (aN A0) (aS A0) (aN A0) (aS A0) A') args s 0 0 (cF ad)) (F0 m 65 ls [.long y0, .ref (ad y1)]) := by
    intro A y0 y1 hf H locs hS ls hl
    unfold X19_meets_b65 at hf
    obtain ⟨A22, hk, hw, hf⟩ := pJ_s hf
    refine c_pJ (k := 3) (f := 1703) E hb hS ci_17 hk (hS.1.lt hk rfl) rfl rfl (Or.inl rfl) fk_X19_11_X19 (fun _ h => h) rfl rfl hw dX19_meets_65 (fun H locs hS => ?_)
    refine lv_aload_n E.1 hb dX19_meets_68 rfl (lv_at hl 0 rfl) ?_
    refine lv_iconst (v := 1) E.1 hb dX19_meets_69 rfl ?_
    obtain ⟨A23, hk, hw, hf⟩ := pI_s hf
    refine c_pI (k := 4) (f := 1704) E hb hS ci_17 hk (hS.1.lt hk rfl) rfl rfl (Or.inl rfl) fk_X19_41_X19 (fun _ h => h) rfl rfl hw dX19_meets_70 (fun H locs hS => ?_)
    exact c_vr E hb hr hlk hS ⟨Nat.le_refl 0, Nat.le_refl 0⟩ hf dX19_meets_73
  have hB63 : ∀ (A : AH) (y0 : Nat), X19_meets_b63 N x0 x1 x2 A y0 = some ((), A') → ∀ (H : Heap) (locs : List Loc), cS dC dI ac ad True s.heap (aN A0) (aS A0) (aN A0) (aS A0) A H locs → ∀ (ls : Array Slot), lv_has ls 5 [(0, .ref (ad x0)), (1, .int x1), (2, .ref (ad x2))] → W p l e rX19_meets s m args below meth c H locs 0 0 (MQ below (cQv dC dI ac ad True (aN A0) (aS A0) (aN A0) (aS A0) A') args s 0 0 (cF ad)) (F0 m 63 ls [.ref (ad y0)]) := by
    intro A y0 hf H locs hS ls hl
    unfold X19_meets_b63 at hf
    refine lv_iload_n E.1 hb dX19_meets_63 rfl (lv_at hl 1 rfl) ?_
    refine lv_i2l E.1 hb dX19_meets_64 rfl ?_
    exact hB65 A (Int32.toInt64 x1) y0 hf _ _ hS _ (lv_sub hl [0, 1, 2] rfl)
  refine lv_aload_n E.1 hb dX19_meets_0 rfl (lv_at hl 0 rfl) ?_
  obtain ⟨hk, hf⟩ := gI_s hf
  refine c_gI (k := 0) (f := 1700) E hb hS ci_17 hk rfl rfl rfl fk_X19_17_X19 (fun _ h => h) dX19_meets_1 ?_
  refine lv_iconst (v := 3) E.1 hb dX19_meets_4 rfl ?_
  refine lv_icmp_ge (tgt := 74) E.1 hb dX19_meets_5 (by decide) (fun hc => ?_) (fun hc => ?_)
  · have hf := it_s hc hf
    refine lv_aload_n E.1 hb dX19_meets_74 rfl (lv_at hl 0 rfl) ?_
    obtain ⟨hk, hf⟩ := gR_s hf
    refine c_gR (k := 2) (f := 1702) E hb hS ci_17 hk rfl rfl rfl fk_X19_25_X19 (fun _ h => h) dX19_meets_75 ?_
    refine lv_aload_n E.1 hb dX19_meets_78 rfl (lv_at hl 2 rfl) ?_
    obtain ⟨q3, hr9, hf⟩ := bo_s hf
    refine c_dr2 hr9 ?_
    obtain ⟨r4, A5, h1, hf⟩ := bd_s hf
    refine c_kl hS (c_runRcV E hb hml hS zvalF h1 q1639 ⟨Nat.le_of_ble_eq_true rfl, Nat.le_of_ble_eq_true rfl⟩ hl.1 (lv_room (Nat.le_of_ble_eq_true rfl)) dX19_meets_79 ⟨Nat.le_refl 0, Nat.le_refl 0⟩) hS.2.2.2.2 (fun H locs hS hn => ?_)
    refine lv_lstore_n (lv' := [(3, .long r4), (0, .ref (ad x0)), (1, .int x1), (2, .ref (ad x2))]) E.1 hb dX19_meets_82 rfl hl (by decide) rfl (fun ls hl => ?_)
    refine lv_aload_n E.1 hb dX19_meets_83 rfl (lv_at hl 1 rfl) ?_
    refine lv_aload_n E.1 hb dX19_meets_84 rfl (lv_at hl 1 rfl) ?_
    obtain ⟨hk, hf⟩ := gI_s hf
    refine c_gI (k := 4) (f := 1704) E hb hS ci_17 hk rfl rfl rfl fk_X19_41_X19 (fun _ h => h) dX19_meets_85 ?_
    refine lv_if_ne (tgt := 95) E.1 hb dX19_meets_88 (by decide) (fun hc => ?_) (fun hc => ?_)
    · have hf := if_s hc hf
      refine lv_aload_n E.1 hb dX19_meets_95 rfl (lv_at hl 1 rfl) ?_
      obtain ⟨hk, hf⟩ := gI_s hf
      refine c_gI (k := 0) (f := 1700) E hb hS ci_17 hk rfl rfl rfl fk_X19_17_X19 (fun _ h => h) dX19_meets_96 ?_
      refine lv_iconst (v := 3) E.1 hb dX19_meets_99 rfl ?_
      refine lv_icmp_ne (tgt := 112) E.1 hb dX19_meets_100 (by decide) (fun hc => ?_) (fun hc => ?_)
      · have hf := if_s hc hf
        refine lv_aload_n E.1 hb dX19_meets_112 rfl (lv_at hl 1 rfl) ?_
        obtain ⟨hk, hf⟩ := gI_s hf
        refine c_gI (k := 0) (f := 1700) E hb hS ci_17 hk rfl rfl rfl fk_X19_17_X19 (fun _ h => h) dX19_meets_113 ?_
        refine lv_iconst (v := 4) E.1 hb dX19_meets_116 rfl ?_
        refine lv_icmp_ne (tgt := 131) E.1 hb dX19_meets_117 (by decide) (fun hc => ?_) (fun hc => ?_)
        · have hf := if_s hc hf
          refine lv_aload_n E.1 hb dX19_meets_131 rfl (lv_at hl 1 rfl) ?_
          obtain ⟨hk, hf⟩ := gJ_s hf
          refine c_gJ (k := 3) (f := 1703) E hb hS ci_17 hk rfl rfl rfl fk_X19_11_X19 (fun _ h => h) dX19_meets_132 ?_
          refine lv_lload_n E.1 hb dX19_meets_135 rfl (lv_at hl 0 rfl) ?_
          obtain ⟨r10, h1, hf⟩ := bo_s hf
          refine c_kl hS (va_runS ⟨E.1, hb, hml, E.2.1, E.2.2.1⟩ (zJ12_min_2 h1) (va_cwS 2 E.2.2.1 gw_X19_51 rfl rfl rfl gnJ12_min_2 ⟨Nat.le_of_ble_eq_true rfl, Nat.le_of_ble_eq_true rfl⟩) (c_preS E hS _) rfl rfl hl.1 rfl (lv_room (Nat.le_of_ble_eq_true rfl)) dX19_meets_136 ⟨Nat.le_refl 0, Nat.le_refl 0⟩) hS.2.2.2.2 (fun H locs hS hn => ?_)
          exact hB139 A5 r10 x0 hf _ _ hS _ (lv_sub hl [1, 2, 3] rfl)
        · have hf := it_s hc hf
          refine lv_aload_n E.1 hb dX19_meets_120 rfl (lv_at hl 1 rfl) ?_
          obtain ⟨hk, hf⟩ := gJ_s hf
          refine c_gJ (k := 3) (f := 1703) E hb hS ci_17 hk rfl rfl rfl fk_X19_11_X19 (fun _ h => h) dX19_meets_121 ?_
          refine lv_lload_n E.1 hb dX19_meets_124 rfl (lv_at hl 0 rfl) ?_
          obtain ⟨r14, h1, hf⟩ := bo_s hf
          refine c_kl hS (va_runS ⟨E.1, hb, hml, E.2.1, E.2.2.1⟩ (zJ12_max_2 h1) (va_cwS 2 E.2.2.1 gw_X19_35 rfl rfl rfl gnJ12_max_2 ⟨Nat.le_of_ble_eq_true rfl, Nat.le_of_ble_eq_true rfl⟩) (c_preS E hS _) rfl rfl hl.1 rfl (lv_room (Nat.le_of_ble_eq_true rfl)) dX19_meets_125 ⟨Nat.le_refl 0, Nat.le_refl 0⟩) hS.2.2.2.2 (fun H locs hS hn => ?_)
          refine lv_goto (tgt := 139) E.1 hb dX19_meets_128 (by decide) ?_
          exact hB139 A5 r14 x0 hf _ _ hS _ (lv_sub hl [1, 2, 3] rfl)
      · have hf := it_s hc hf
        refine lv_aload_n E.1 hb dX19_meets_103 rfl (lv_at hl 1 rfl) ?_
        obtain ⟨hk, hf⟩ := gJ_s hf
        refine c_gJ (k := 3) (f := 1703) E hb hS ci_17 hk rfl rfl rfl fk_X19_11_X19 (fun _ h => h) dX19_meets_104 ?_
        refine lv_lload_n E.1 hb dX19_meets_107 rfl (lv_at hl 0 rfl) ?_
        refine lv_ladd E.1 hb dX19_meets_108 ?_
        refine lv_goto (tgt := 139) E.1 hb dX19_meets_109 (by decide) ?_
        exact hB139 A5 ((aJ A5 1703 x0 0) + r4) x0 hf _ _ hS _ (lv_sub hl [1, 2, 3] rfl)
    · have hf := it_s hc hf
      refine lv_lload_n E.1 hb dX19_meets_91 rfl (lv_at hl 0 rfl) ?_
      refine lv_goto (tgt := 139) E.1 hb dX19_meets_92 (by decide) ?_
      exact hB139 A5 r4 x0 hf _ _ hS _ (lv_sub hl [1, 2, 3] rfl)
  · have hf := if_s hc hf
    refine lv_aload_n E.1 hb dX19_meets_8 rfl (lv_at hl 0 rfl) ?_
    obtain ⟨hk, hf⟩ := gR_s hf
    refine c_gR (k := 1) (f := 1701) E hb hS ci_17 hk rfl rfl rfl fk_X19_21_X19 (fun _ h => h) dX19_meets_9 ?_
    refine lv_aload_n E.1 hb dX19_meets_12 rfl (lv_at hl 2 rfl) ?_
    obtain ⟨q17, hr9, hf⟩ := bo_s hf
    refine c_dr2 hr9 ?_
    obtain ⟨r18, A19, h1, hf⟩ := bd_s hf
    refine c_ki hS (c_runRcH E hb hml hS ztstF h1 q1637 ⟨Nat.le_of_ble_eq_true rfl, Nat.le_of_ble_eq_true rfl⟩ hl.1 (lv_room (Nat.le_of_ble_eq_true rfl)) dX19_meets_13 ⟨Nat.le_refl 0, Nat.le_refl 0⟩) hS.2.2.2.2 (fun H locs hS hn => ?_)
    refine lv_if_ne (tgt := 20) E.1 hb dX19_meets_16 (by decide) (fun hc => ?_) (fun hc => ?_)
    · have hf := if_s hc hf
      refine lv_aload_n E.1 hb dX19_meets_20 rfl (lv_at hl 0 rfl) ?_
      refine lv_aload_n E.1 hb dX19_meets_21 rfl (lv_at hl 0 rfl) ?_
      obtain ⟨hk, hf⟩ := gI_s hf
      refine c_gI (k := 0) (f := 1700) E hb hS ci_17 hk rfl rfl rfl fk_X19_17_X19 (fun _ h => h) dX19_meets_22 ?_
      refine lv_iconst (v := 2) E.1 hb dX19_meets_25 rfl ?_
      refine lv_icmp_ne (tgt := 42) E.1 hb dX19_meets_26 (by decide) (fun hc => ?_) (fun hc => ?_)
      · have hf := if_s hc hf
        refine lv_aload_n E.1 hb dX19_meets_42 rfl (lv_at hl 0 rfl) ?_
        obtain ⟨hk, hf⟩ := gI_s hf
        refine c_gI (k := 0) (f := 1700) E hb hS ci_17 hk rfl rfl rfl fk_X19_17_X19 (fun _ h => h) dX19_meets_43 ?_
        refine lv_if_ne (tgt := 63) E.1 hb dX19_meets_46 (by decide) (fun hc => ?_) (fun hc => ?_)
        · have hf := if_s hc hf
          exact hB63 A19 x0 hf _ _ hS _ (lv_sub hl [0, 1, 2] rfl)
        · have hf := it_s hc hf
          refine lv_aload_n E.1 hb dX19_meets_49 rfl (lv_at hl 0 rfl) ?_
          obtain ⟨hk, hf⟩ := gI_s hf
          refine c_gI (k := 4) (f := 1704) E hb hS ci_17 hk rfl rfl rfl fk_X19_41_X19 (fun _ h => h) dX19_meets_50 ?_
          refine lv_if_eq (tgt := 63) E.1 hb dX19_meets_53 (by decide) (fun hc => ?_) (fun hc => ?_)
          · have hf := it_s hc hf
            exact hB63 A19 x0 hf _ _ hS _ (lv_sub hl [0, 1, 2] rfl)
          · have hf := if_s hc hf
            refine lv_aload_n E.1 hb dX19_meets_56 rfl (lv_at hl 0 rfl) ?_
            obtain ⟨hk, hf⟩ := gJ_s hf
            refine c_gJ (k := 3) (f := 1703) E hb hS ci_17 hk rfl rfl rfl fk_X19_11_X19 (fun _ h => h) dX19_meets_57 ?_
            refine lv_goto (tgt := 65) E.1 hb dX19_meets_60 (by decide) ?_
            exact hB65 A19 (aJ A19 1703 x0 0) x0 hf _ _ hS _ (lv_sub hl [0, 1, 2] rfl)
      · have hf := it_s hc hf
        refine lv_lconst (v := 0) E.1 hb dX19_meets_29 rfl ?_
        refine lv_aload_n E.1 hb dX19_meets_30 rfl (lv_at hl 0 rfl) ?_
        obtain ⟨hk, hf⟩ := gJ_s hf
        refine c_gJ (k := 3) (f := 1703) E hb hS ci_17 hk rfl rfl rfl fk_X19_11_X19 (fun _ h => h) dX19_meets_31 ?_
        obtain ⟨r27, h1, hf⟩ := bo_s hf
        refine c_kl hS (va_runS ⟨E.1, hb, hml, E.2.1, E.2.2.1⟩ (zJ12_max_2 h1) (va_cwS 2 E.2.2.1 gw_X19_35 rfl rfl rfl gnJ12_max_2 ⟨Nat.le_of_ble_eq_true rfl, Nat.le_of_ble_eq_true rfl⟩) (c_preS E hS _) rfl rfl hl.1 rfl (lv_room (Nat.le_of_ble_eq_true rfl)) dX19_meets_34 ⟨Nat.le_refl 0, Nat.le_refl 0⟩) hS.2.2.2.2 (fun H locs hS hn => ?_)
        refine lv_lconst (v := 1) E.1 hb dX19_meets_37 rfl ?_
        refine lv_ladd E.1 hb dX19_meets_38 ?_
        refine lv_goto (tgt := 65) E.1 hb dX19_meets_39 (by decide) ?_
        exact hB65 A19 (r27 + 1) x0 hf _ _ hS _ (lv_sub hl [0, 1, 2] rfl)
    · have hf := it_s hc hf
      exact c_vr E hb hr hlk hS ⟨Nat.le_refl 0, Nat.le_refl 0⟩ hf dX19_meets_19
/-! MarginFolk$Question.answer()J: RO -/
noncomputable def X19_answer_b15 (x0 : Nat) (A : AH) : Option Int64 :=
  bo (gJ 17 A 1703 x0) fun v2 => some v2
noncomputable def X19_answer (A : AH) (x0 : Nat) : Option Int64 :=
  bo (gI 17 A 1704 x0) fun v1 => if v1 = 0 then (bo (gI 17 A 1700 x0) fun v3 => if 2 ≤ v3 then (some 0) else (X19_answer_b15 x0 A )) else (X19_answer_b15 x0 A )
abbrev rX19_answer : Room := { frames := 0, cells := 0, slots := 0, locals := 0 }
set_option maxHeartbeats 4000000 in
theorem zX19_answer {l : Launch} {dC : Nat → ClassId} {dI : Nat → Nat → Nat} {ac : Nat → ClassId} {ad : Nat → Nat} {A : AH} {x0 : Nat} {r : Int64} (hf : X19_answer A x0 = some r) : Met l yX19_answer (ws_ yX19_answer cX19_answer 1 (some .long)) { frames := 0, cells := 0, slots := 0, locals := 0 } (va_Pc [.ref (ad x0)] (cPre dC dI ac ad True A)) (cQl dC dI ac ad True (aN A) (aS A) (aN A) (aS A) r A) 0 0 (cF ad) := by
  unfold X19_answer at hf
  refine c_of ⟨Nat.le_refl _, Nat.le_refl _⟩ RX19 (plainFor_of_name (by decide)) rfl (Nat.le_of_ble_eq_true rfl) ?_
  intro p e s m args below meth c E hb hr hlk hnm hml hS ls hl
  have hl : lv_has ls 1 [(0, .ref (ad x0))] := hl
  have hB15 : X19_answer_b15 x0 A  = some r → ∀ (H : Heap) (locs : List Loc), cS dC dI ac ad True s.heap (aN A) (aS A) (aN A) (aS A) A H locs → ∀ (ls : Array Slot), lv_has ls 1 [(0, .ref (ad x0))] → W p l e rX19_answer s m args below meth c H locs 0 0 (MQ below (cQl dC dI ac ad True (aN A) (aS A) (aN A) (aS A) r A) args s 0 0 (cF ad)) (F0 m 15 ls []) := by
    intro  hf H locs hS ls hl
    unfold X19_answer_b15 at hf
    refine lv_aload_n E.1 hb dX19_answer_15 rfl (lv_at hl 0 rfl) ?_
    obtain ⟨hk, hf⟩ := gJ_s hf
    refine c_gJ (k := 3) (f := 1703) E hb hS ci_17 hk rfl rfl rfl fk_X19_11_X19 (fun _ h => h) dX19_answer_16 ?_
    refine lv_goto (tgt := 23) E.1 hb dX19_answer_19 (by decide) ?_
    exact c_lr E hb hr hlk hS ⟨Nat.le_refl 0, Nat.le_refl 0⟩ (ro_s hf) dX19_answer_23
  refine lv_aload_n E.1 hb dX19_answer_0 rfl (lv_at hl 0 rfl) ?_
  obtain ⟨hk, hf⟩ := gI_s hf
  refine c_gI (k := 4) (f := 1704) E hb hS ci_17 hk rfl rfl rfl fk_X19_41_X19 (fun _ h => h) dX19_answer_1 ?_
  refine lv_if_ne (tgt := 15) E.1 hb dX19_answer_4 (by decide) (fun hc => ?_) (fun hc => ?_)
  · have hf := if_s hc hf
    exact hB15 hf _ _ hS _ (lv_sub hl [0] rfl)
  · have hf := it_s hc hf
    refine lv_aload_n E.1 hb dX19_answer_7 rfl (lv_at hl 0 rfl) ?_
    obtain ⟨hk, hf⟩ := gI_s hf
    refine c_gI (k := 0) (f := 1700) E hb hS ci_17 hk rfl rfl rfl fk_X19_17_X19 (fun _ h => h) dX19_answer_8 ?_
    refine lv_iconst (v := 2) E.1 hb dX19_answer_11 rfl ?_
    refine lv_icmp_ge (tgt := 22) E.1 hb dX19_answer_12 (by decide) (fun hc => ?_) (fun hc => ?_)
    · have hf := it_s hc hf
      refine lv_lconst (v := 0) E.1 hb dX19_answer_22 rfl ?_
      exact c_lr E hb hr hlk hS ⟨Nat.le_refl 0, Nat.le_refl 0⟩ (ro_s hf) dX19_answer_23
    · have hf := if_s hc hf
      exact hB15 hf _ _ hS _ (lv_sub hl [0] rfl)
theorem gw_X0_367 : GoodIn lw_all (wsV RX0 367 RX19 yX19_meets (ws_ yX19_meets cX19_meets 5 none)) := lw_V q1633 q1634 q1635 q189 q1636
theorem gnX19_meets : yX19_meets.cls ≠ "java/lang/invoke/MethodHandle" ∧ yX19_meets.cls ≠ "java/lang/invoke/VarHandle" ∧ (parseMethodDescriptor yX19_meets.desc).map (fun d => d.parameters.length) = some 2 := by decide +kernel
theorem gw_X0_373 : GoodIn lw_all (wsV RX0 373 RX19 yX19_answer (ws_ yX19_answer cX19_answer 1 (some .long))) := lw_V q1641 q1642 q1643 q189 q1644
theorem gnX19_answer : yX19_answer.cls ≠ "java/lang/invoke/MethodHandle" ∧ yX19_answer.cls ≠ "java/lang/invoke/VarHandle" ∧ (parseMethodDescriptor yX19_answer.desc).map (fun d => d.parameters.length) = some 0 := by decide +kernel
theorem gw_X0_363 : GoodIn lw_all (wsV RX0 363 RX2 yX2_question (ws_ yX2_question cX2_question 4 (some (.object "MarginFolk$Question")))) := lw_V q1604 q1605 q1606 q157 q1607
theorem gnX2_question : yX2_question.cls ≠ "java/lang/invoke/MethodHandle" ∧ yX2_question.cls ≠ "java/lang/invoke/VarHandle" ∧ (parseMethodDescriptor yX2_question.desc).map (fun d => d.parameters.length) = some 1 := by decide +kernel
/-! MarginFolk.ask()J: RW -/
noncomputable def X0_ask_b223 (N : Nat) (k76 : AH → Nat → Int32 → Option (Int64 × AH)) (A : AH) (x2 : Nat) (x3 : Int32) (y0 : Int64) (y1 : Int32) : Option (Int64 × AH) :=
  bo (tJ 9 A 14 y1 y0) fun A30 => bo (tJ 9 A30 14 7 (Int32.toInt64 (aI A30 122 0 0))) fun A31 => bo (sI 8 31 A31 21 (aI A31 122 0 0)) fun v32 => bo (tJ 9 A31 14 8 (Int32.toInt64 v32)) fun A33 => if aK A33 x2 = 17 then ( bd (X19_meets N A33 x2 (aI A33 122 0 0) 13) fun _ A34 => lt2 (wI A34 122 0 0 ((aI A34 122 0 0) + 1)) fun A35 => k76 A35 x2 x3) else none
noncomputable def X0_ask_b76 (N : Nat) (k76 : AH → Nat → Int32 → Option (Int64 × AH)) (A : AH) (x2 : Nat) (x3 : Int32) : Option (Int64 × AH) :=
  bo (X0_beings A) fun r15 => if r15 ≤ (aI A 122 0 0) then (if aK A x2 = 17 then ( bo (X19_answer A x2) fun r16 => some (r16, A)) else none) else (bo (tJ 9 A 14 0 (Int32.toInt64 (aI A 600 16 0))) fun A17 => bo (sI 8 31 A17 18 (aI A17 122 0 0)) fun v18 => bo (tJ 9 A17 14 1 (Int32.toInt64 v18)) fun A19 => bo (sI 8 31 A19 19 (aI A19 122 0 0)) fun v20 => bo (tJ 9 A19 14 2 (Int32.toInt64 v20)) fun A21 => bo (X0_beingOf A21 (aI A21 122 0 0)) fun r22 => bo r22 fun q23 => bo (gI 7 A21 703 q23) fun v24 => bo (tJ 9 A21 14 3 (Int32.toInt64 v24)) fun A25 => bo (sI 8 31 A25 20 (aI A25 122 0 0)) fun v26 => bo (tJ 9 A25 14 4 (Int32.toInt64 v26)) fun A27 => bo (sI 8 31 A27 18 (aI A27 122 0 0)) fun v28 => bo (X0_isOpen v28 x3) fun r29 => if r29 = 0 then (X0_ask_b223 N k76 A27 x2 x3 0 5) else (X0_ask_b223 N k76 A27 x2 x3 1 5))
noncomputable def X0_ask (N : Nat) (A0 : AH) : Option (Int64 × AH) :=
  ck A0 (bd (X0_taken A0) fun r1 A2 => bo (X0_isFolio A2) fun r3 => if r3 = 0 then (some ((-1000000000000000), A2)) else (lt2 (wI A2 103 0 0 0) fun A4 => lt2 (wI A4 104 0 0 (-1)) fun A5 => bda A5 (X2_question N A5 r1) fun o8 A7 => xh o8 A7 (fun A7 => (lt2 (wI A7 103 0 0 (aI A7 406 10 0)) fun A9 => lt2 (wI A9 104 0 0 (aI A9 407 10 0)) fun A10 => some ((-1000000000000000), A10))) fun r6 A7 => bo r6 fun q11 => bd (X0_openingOf (valF N) A7 (aI A7 600 16 0)) fun r12 A13 => lt2 (wI A13 122 0 0 0) fun A14 => rn3 (X0_ask_b76 N) N A14 q11 r12))
set_option maxHeartbeats 4000000 in
theorem zX0_ask {l : Launch} {dC : Nat → ClassId} {dI : Nat → Nat → Nat} {ac : Nat → ClassId} {ad : Nat → Nat} {N : Nat} {A0 : AH} {r : Int64} {A' : AH} (hf : X0_ask N A0 = some (r, A')) : Met l yX0_ask (wsw_ yX0_ask cX0_ask 4 (some .long) [(26, 35, 38, 134)]) { frames := 8226, cells := aN A' - aN A0, slots := aS A' - aS A0, locals := 185334 } (va_Pc [.ref (ad 0)] (cPre dC dI ac ad True A0)) (cQl dC dI ac ad True (aN A0) (aS A0) (aN A') (aS A') r A') (aN A' - aN A0) (aS A' - aS A0) (cF ad) := by
  unfold X0_ask at hf
  obtain ⟨hck0, hf⟩ := ck_s hf
  refine c_ofw hck0 RX0 (by decide) rfl (Nat.le_of_ble_eq_true rfl) ?_
  intro p e s m args below meth c E hb hr hlk hnm hml htb hS ls hl
  have hl : lv_has ls 4 [(0, .ref (ad 0))] := hl
  have hcs : aN A0 + 0 ≤ aN A0 ∧ aS A0 + 0 ≤ aS A0 := ⟨Nat.le_refl _, Nat.le_refl _⟩
  have hB223 : ∀ (k76 : AH → Nat → Int32 → Option (Int64 × AH)) (hk76 : ∀ (A : AH) (x2 : Nat) (x3 : Int32), k76 A x2 x3 = some (r, A') → ∀ (H : Heap) (locs : List Loc) (cells slots : Nat), aN A0 + cells ≤ aN A ∧ aS A0 + slots ≤ aS A →  cS dC dI ac ad True s.heap (aN A0) (aS A0) (aN A') (aS A') A H locs → ∀ (ls : Array Slot), lv_has ls 4 [(0, .ref (ad 0)), (2, .ref (ad x2)), (3, .int x3)] → W p l e { frames := 8226, cells := aN A' - aN A0, slots := aS A' - aS A0, locals := 185334 } s m args below meth c H locs cells slots (MQ below (cQl dC dI ac ad True (aN A0) (aS A0) (aN A') (aS A') r A') args s (aN A' - aN A0) (aS A' - aS A0) (cF ad)) (F0 m 76 ls [])) (A : AH) (x2 : Nat) (x3 : Int32) (y0 : Int64) (y1 : Int32), X0_ask_b223 N k76 A x2 x3 y0 y1 = some (r, A') → ∀ (H : Heap) (locs : List Loc) (cells slots : Nat), aN A0 + cells ≤ aN A ∧ aS A0 + slots ≤ aS A →  cS dC dI ac ad True s.heap (aN A0) (aS A0) (aN A') (aS A') A H locs → ∀ (ls : Array Slot), lv_has ls 4 [(0, .ref (ad 0)), (2, .ref (ad x2)), (3, .int x3)] → W p l e { frames := 8226, cells := aN A' - aN A0, slots := aS A' - aS A0, locals := 185334 } s m args below meth c H locs cells slots (MQ below (cQl dC dI ac ad True (aN A0) (aS A0) (aN A') (aS A') r A') args s (aN A' - aN A0) (aS A' - aS A0) (cF ad)) (F0 m 223 ls [.long y0, .int y1, .ref (ad 14)]) := by
    intro k76 hk76 A x2 x3 y0 y1 hf H locs cells slots hcs hS ls hl
    unfold X0_ask_b223 at hf
    obtain ⟨A30, hg, hw, hf⟩ := tJ_s hf
    refine s_lst E hb hS ⟨by decide, rfl, rfl⟩ hg hw dX0_ask_223 (fun H locs hS => ?_)
    have hcs := rm_w (A2 := A30) hcs (by rw [hw]; exact ⟨rfl, rfl⟩)
    refine lv_aload_n E.1 hb dX0_ask_224 rfl (lv_at hl 0 rfl) ?_
    refine c_gN (k := 7) (f := 107) (q := 13) E hb hS ci_1 (sK hS (by decide) rfl) rfl rfl rfl (sRf hS (by decide) rfl) fk_X0_59_X0 (fun _ h => h) dX0_ask_225 ?_
    refine c_gN (k := 0) (f := 500) (q := 14) E hb hS ci_5 (sK hS (by decide) rfl) rfl rfl rfl (sRf hS (by decide) rfl) fk_X0_189_X4 (fun _ h => h) dX0_ask_228 ?_
    refine lv_bipush (v := 7) E.1 hb dX0_ask_231 rfl ?_
    refine lv_aload_n E.1 hb dX0_ask_233 rfl (lv_at hl 0 rfl) ?_
    refine c_gI (k := 22) (f := 122) E hb hS ci_1 (sK hS (by decide) rfl) rfl rfl rfl fk_X0_358_X0 (fun _ h => h) dX0_ask_234 ?_
    refine lv_i2l E.1 hb dX0_ask_237 rfl ?_
    obtain ⟨A31, hg, hw, hf⟩ := tJ_s hf
    refine s_lst E hb hS ⟨by decide, rfl, rfl⟩ hg hw dX0_ask_238 (fun H locs hS => ?_)
    have hcs := rm_w (A2 := A31) hcs (by rw [hw]; exact ⟨rfl, rfl⟩)
    refine lv_aload_n E.1 hb dX0_ask_239 rfl (lv_at hl 0 rfl) ?_
    refine c_gN (k := 7) (f := 107) (q := 13) E hb hS ci_1 (sK hS (by decide) rfl) rfl rfl rfl (sRf hS (by decide) rfl) fk_X0_59_X0 (fun _ h => h) dX0_ask_240 ?_
    refine c_gN (k := 0) (f := 500) (q := 14) E hb hS ci_5 (sK hS (by decide) rfl) rfl rfl rfl (sRf hS (by decide) rfl) fk_X0_189_X4 (fun _ h => h) dX0_ask_243 ?_
    refine lv_bipush (v := 8) E.1 hb dX0_ask_246 rfl ?_
    refine lv_aload_n E.1 hb dX0_ask_248 rfl (lv_at hl 0 rfl) ?_
    refine c_gN (k := 9) (f := 109) (q := 16) E hb hS ci_1 (sK hS (by decide) rfl) rfl rfl rfl (sRf hS (by decide) rfl) fk_X0_69_X0 (fun _ h => h) dX0_ask_249 ?_
    refine c_gN (k := 6) (f := 606) (q := 21) E hb hS ci_6 (sK hS (by decide) rfl) rfl rfl rfl (sRf hS (by decide) rfl) fk_X0_248_X5 (fun _ h => h) dX0_ask_252 ?_
    refine lv_aload_n E.1 hb dX0_ask_255 rfl (lv_at hl 0 rfl) ?_
    refine c_gI (k := 22) (f := 122) E hb hS ci_1 (sK hS (by decide) rfl) rfl rfl rfl fk_X0_358_X0 (fun _ h => h) dX0_ask_256 ?_
    obtain ⟨hg, hf⟩ := sI_s hf
    refine s_ld E hb hS (t := 31) ⟨by decide, rfl, rfl⟩ hg (Or.inl ⟨rfl, rfl⟩) dX0_ask_259 ?_
    refine lv_i2l E.1 hb dX0_ask_260 rfl ?_
    obtain ⟨A33, hg, hw, hf⟩ := tJ_s hf
    refine s_lst E hb hS ⟨by decide, rfl, rfl⟩ hg hw dX0_ask_261 (fun H locs hS => ?_)
    have hcs := rm_w (A2 := A33) hcs (by rw [hw]; exact ⟨rfl, rfl⟩)
    refine lv_aload_n E.1 hb dX0_ask_262 rfl (lv_at hl 1 rfl) ?_
    refine lv_aload_n E.1 hb dX0_ask_263 rfl (lv_at hl 0 rfl) ?_
    refine c_gI (k := 22) (f := 122) E hb hS ci_1 (sK hS (by decide) rfl) rfl rfl rfl fk_X0_358_X0 (fun _ h => h) dX0_ask_264 ?_
    refine lv_aload_n E.1 hb dX0_ask_267 rfl (lv_at hl 0 rfl) ?_
    refine c_gN (k := 7) (f := 107) (q := 13) E hb hS ci_1 (sK hS (by decide) rfl) rfl rfl rfl (sRf hS (by decide) rfl) fk_X0_59_X0 (fun _ h => h) dX0_ask_268 ?_
    obtain ⟨hkr, hf⟩ := gu_s hf
    obtain ⟨_, A34, h1, hf⟩ := bd_s hf
    refine c_kv hS (va_runV ⟨E.1, hb, hml, E.2.1, E.2.2.1⟩ (zX19_meets h1) (cwV 2 E.2.2.1 gw_X0_367 rfl rfl rfl ⟨rfl, gnX19_meets⟩ ⟨Nat.le_of_ble_eq_true rfl, Nat.le_of_ble_eq_true rfl⟩) (c_preV E hS ci_17 hkr (hS.1.lt hkr rfl) _) rfl rfl hl.1 rfl (lv_room (Nat.le_of_ble_eq_true rfl)) dX0_ask_271 (rm_n hcs hS.2.2.2.2)) hS.2.2.2.2 (fun H locs hS hn => ?_)
    have hcs := rm_n2 hcs hn
    refine lv_aload_n E.1 hb dX0_ask_274 rfl (lv_at hl 0 rfl) ?_
    refine lv_dup E.1 hb dX0_ask_275 rfl ?_
    refine c_gI (k := 22) (f := 122) E hb hS ci_1 (sK hS (by decide) rfl) rfl rfl rfl fk_X0_358_X0 (fun _ h => h) dX0_ask_276 ?_
    refine lv_iconst (v := 1) E.1 hb dX0_ask_279 rfl ?_
    refine lv_iadd E.1 hb dX0_ask_280 ?_
    obtain ⟨A35, hw, hf⟩ := lt2_s hf
    refine c_pI (k := 22) (f := 122) E hb hS ci_1 (sK hS (by decide) rfl) (hS.1.lt (sK hS (by decide) rfl) rfl) rfl rfl (Or.inl rfl) fk_X0_358_X0 (fun _ h => h) rfl rfl hw dX0_ask_281 (fun H locs hS => ?_)
    have hcs := rm_w (A2 := A35) hcs (by rw [hw]; exact ⟨rfl, rfl⟩)
    refine lv_goto (tgt := 76) E.1 hb dX0_ask_284 (by decide) ?_
    exact hk76 A35 x2 x3 hf _ _ _ _ hcs hS _ (lv_sub hl [0, 1, 2] rfl)
  have hL76 : ∀ (n : Nat) (A : AH) (x2 : Nat) (x3 : Int32), rn3 (X0_ask_b76 N) n A x2 x3 = some (r, A') → ∀ (H : Heap) (locs : List Loc) (cells slots : Nat), aN A0 + cells ≤ aN A ∧ aS A0 + slots ≤ aS A →  cS dC dI ac ad True s.heap (aN A0) (aS A0) (aN A') (aS A') A H locs → ∀ (ls : Array Slot), lv_has ls 4 [(0, .ref (ad 0)), (2, .ref (ad x2)), (3, .int x3)] → W p l e { frames := 8226, cells := aN A' - aN A0, slots := aS A' - aS A0, locals := 185334 } s m args below meth c H locs cells slots (MQ below (cQl dC dI ac ad True (aN A0) (aS A0) (aN A') (aS A') r A') args s (aN A' - aN A0) (aS A' - aS A0) (cF ad)) (F0 m 76 ls []) := by
    intro  n
    induction n with
    | zero =>
      intro A x2 x3 hf
      cases hf
    | succ n ih =>
      intro A x2 x3 hf H locs cells slots hcs hS ls hl
      have hf : X0_ask_b76 N (rn3 (X0_ask_b76 N) n) A x2 x3 = some (r, A') := hf
      have hk76 := ih
      generalize rn3 (X0_ask_b76 N) n = k76 at hf hk76
      unfold X0_ask_b76 at hf
      refine lv_aload_n E.1 hb dX0_ask_76 rfl (lv_at hl 0 rfl) ?_
      refine c_gI (k := 22) (f := 122) E hb hS ci_1 (sK hS (by decide) rfl) rfl rfl rfl fk_X0_358_X0 (fun _ h => h) dX0_ask_77 ?_
      refine lv_aload_n E.1 hb dX0_ask_80 rfl (lv_at hl 0 rfl) ?_
      obtain ⟨r15, h1, hf⟩ := bo_s hf
      refine c_ki hS (va_runV ⟨E.1, hb, hml, E.2.1, E.2.2.1⟩ (zX0_beings h1) (cwV 0 E.2.2.1 gw_X0_166 rfl rfl rfl ⟨rfl, gnX0_beings⟩ ⟨Nat.le_of_ble_eq_true rfl, Nat.le_of_ble_eq_true rfl⟩) (c_preV E hS ci_1 (sK hS (by decide) rfl) (hS.1.lt (sK hS (by decide) rfl) rfl) _) rfl rfl hl.1 rfl (lv_room (Nat.le_of_ble_eq_true rfl)) dX0_ask_81 (rm_n hcs hS.2.2.2.2)) hS.2.2.2.2 (fun H locs hS hn => ?_)
      have hcs := rm_n2 hcs hn
      refine lv_icmp_ge (tgt := 287) E.1 hb dX0_ask_84 (by decide) (fun hc => ?_) (fun hc => ?_)
      · have hf := it_s hc hf
        refine lv_aload_n E.1 hb dX0_ask_287 rfl (lv_at hl 1 rfl) ?_
        obtain ⟨hkr, hf⟩ := gu_s hf
        obtain ⟨r16, h1, hf⟩ := bo_s hf
        refine c_kl hS (va_runV ⟨E.1, hb, hml, E.2.1, E.2.2.1⟩ (zX19_answer h1) (cwV 0 E.2.2.1 gw_X0_373 rfl rfl rfl ⟨rfl, gnX19_answer⟩ ⟨Nat.le_of_ble_eq_true rfl, Nat.le_of_ble_eq_true rfl⟩) (c_preV E hS ci_17 hkr (hS.1.lt hkr rfl) _) rfl rfl hl.1 rfl (lv_room (Nat.le_of_ble_eq_true rfl)) dX0_ask_288 (rm_n hcs hS.2.2.2.2)) hS.2.2.2.2 (fun H locs hS hn => ?_)
        have hcs := rm_n2 hcs hn
        exact c_lr E hb hr hlk hS (rm_e ⟨Nat.le_trans hcs.1 hS.2.2.2.2.1, Nat.le_trans hcs.2 hS.2.2.2.2.2⟩) hf dX0_ask_291
      · have hf := if_s hc hf
        refine lv_aload_n E.1 hb dX0_ask_87 rfl (lv_at hl 0 rfl) ?_
        refine c_gN (k := 7) (f := 107) (q := 13) E hb hS ci_1 (sK hS (by decide) rfl) rfl rfl rfl (sRf hS (by decide) rfl) fk_X0_59_X0 (fun _ h => h) dX0_ask_88 ?_
        refine c_gN (k := 0) (f := 500) (q := 14) E hb hS ci_5 (sK hS (by decide) rfl) rfl rfl rfl (sRf hS (by decide) rfl) fk_X0_189_X4 (fun _ h => h) dX0_ask_91 ?_
        refine lv_iconst (v := 0) E.1 hb dX0_ask_94 rfl ?_
        refine lv_aload_n E.1 hb dX0_ask_95 rfl (lv_at hl 0 rfl) ?_
        refine c_gN (k := 9) (f := 109) (q := 16) E hb hS ci_1 (sK hS (by decide) rfl) rfl rfl rfl (sRf hS (by decide) rfl) fk_X0_69_X0 (fun _ h => h) dX0_ask_96 ?_
        refine c_gI (k := 0) (f := 600) E hb hS ci_6 (sK hS (by decide) rfl) rfl rfl rfl fk_X0_213_X5 (fun _ h => h) dX0_ask_99 ?_
        refine lv_i2l E.1 hb dX0_ask_102 rfl ?_
        obtain ⟨A17, hg, hw, hf⟩ := tJ_s hf
        refine s_lst E hb hS ⟨by decide, rfl, rfl⟩ hg hw dX0_ask_103 (fun H locs hS => ?_)
        have hcs := rm_w (A2 := A17) hcs (by rw [hw]; exact ⟨rfl, rfl⟩)
        refine lv_aload_n E.1 hb dX0_ask_104 rfl (lv_at hl 0 rfl) ?_
        refine c_gN (k := 7) (f := 107) (q := 13) E hb hS ci_1 (sK hS (by decide) rfl) rfl rfl rfl (sRf hS (by decide) rfl) fk_X0_59_X0 (fun _ h => h) dX0_ask_105 ?_
        refine c_gN (k := 0) (f := 500) (q := 14) E hb hS ci_5 (sK hS (by decide) rfl) rfl rfl rfl (sRf hS (by decide) rfl) fk_X0_189_X4 (fun _ h => h) dX0_ask_108 ?_
        refine lv_iconst (v := 1) E.1 hb dX0_ask_111 rfl ?_
        refine lv_aload_n E.1 hb dX0_ask_112 rfl (lv_at hl 0 rfl) ?_
        refine c_gN (k := 9) (f := 109) (q := 16) E hb hS ci_1 (sK hS (by decide) rfl) rfl rfl rfl (sRf hS (by decide) rfl) fk_X0_69_X0 (fun _ h => h) dX0_ask_113 ?_
        refine c_gN (k := 3) (f := 603) (q := 18) E hb hS ci_6 (sK hS (by decide) rfl) rfl rfl rfl (sRf hS (by decide) rfl) fk_X0_236_X5 (fun _ h => h) dX0_ask_116 ?_
        refine lv_aload_n E.1 hb dX0_ask_119 rfl (lv_at hl 0 rfl) ?_
        refine c_gI (k := 22) (f := 122) E hb hS ci_1 (sK hS (by decide) rfl) rfl rfl rfl fk_X0_358_X0 (fun _ h => h) dX0_ask_120 ?_
        obtain ⟨hg, hf⟩ := sI_s hf
        refine s_ld E hb hS (t := 31) ⟨by decide, rfl, rfl⟩ hg (Or.inl ⟨rfl, rfl⟩) dX0_ask_123 ?_
        refine lv_i2l E.1 hb dX0_ask_124 rfl ?_
        obtain ⟨A19, hg, hw, hf⟩ := tJ_s hf
        refine s_lst E hb hS ⟨by decide, rfl, rfl⟩ hg hw dX0_ask_125 (fun H locs hS => ?_)
        have hcs := rm_w (A2 := A19) hcs (by rw [hw]; exact ⟨rfl, rfl⟩)
        refine lv_aload_n E.1 hb dX0_ask_126 rfl (lv_at hl 0 rfl) ?_
        refine c_gN (k := 7) (f := 107) (q := 13) E hb hS ci_1 (sK hS (by decide) rfl) rfl rfl rfl (sRf hS (by decide) rfl) fk_X0_59_X0 (fun _ h => h) dX0_ask_127 ?_
        refine c_gN (k := 0) (f := 500) (q := 14) E hb hS ci_5 (sK hS (by decide) rfl) rfl rfl rfl (sRf hS (by decide) rfl) fk_X0_189_X4 (fun _ h => h) dX0_ask_130 ?_
        refine lv_iconst (v := 2) E.1 hb dX0_ask_133 rfl ?_
        refine lv_aload_n E.1 hb dX0_ask_134 rfl (lv_at hl 0 rfl) ?_
        refine c_gN (k := 9) (f := 109) (q := 16) E hb hS ci_1 (sK hS (by decide) rfl) rfl rfl rfl (sRf hS (by decide) rfl) fk_X0_69_X0 (fun _ h => h) dX0_ask_135 ?_
        refine c_gN (k := 4) (f := 604) (q := 19) E hb hS ci_6 (sK hS (by decide) rfl) rfl rfl rfl (sRf hS (by decide) rfl) fk_X0_239_X5 (fun _ h => h) dX0_ask_138 ?_
        refine lv_aload_n E.1 hb dX0_ask_141 rfl (lv_at hl 0 rfl) ?_
        refine c_gI (k := 22) (f := 122) E hb hS ci_1 (sK hS (by decide) rfl) rfl rfl rfl fk_X0_358_X0 (fun _ h => h) dX0_ask_142 ?_
        obtain ⟨hg, hf⟩ := sI_s hf
        refine s_ld E hb hS (t := 31) ⟨by decide, rfl, rfl⟩ hg (Or.inl ⟨rfl, rfl⟩) dX0_ask_145 ?_
        refine lv_i2l E.1 hb dX0_ask_146 rfl ?_
        obtain ⟨A21, hg, hw, hf⟩ := tJ_s hf
        refine s_lst E hb hS ⟨by decide, rfl, rfl⟩ hg hw dX0_ask_147 (fun H locs hS => ?_)
        have hcs := rm_w (A2 := A21) hcs (by rw [hw]; exact ⟨rfl, rfl⟩)
        refine lv_aload_n E.1 hb dX0_ask_148 rfl (lv_at hl 0 rfl) ?_
        refine c_gN (k := 7) (f := 107) (q := 13) E hb hS ci_1 (sK hS (by decide) rfl) rfl rfl rfl (sRf hS (by decide) rfl) fk_X0_59_X0 (fun _ h => h) dX0_ask_149 ?_
        refine c_gN (k := 0) (f := 500) (q := 14) E hb hS ci_5 (sK hS (by decide) rfl) rfl rfl rfl (sRf hS (by decide) rfl) fk_X0_189_X4 (fun _ h => h) dX0_ask_152 ?_
        refine lv_iconst (v := 3) E.1 hb dX0_ask_155 rfl ?_
        refine lv_aload_n E.1 hb dX0_ask_156 rfl (lv_at hl 0 rfl) ?_
        refine lv_aload_n E.1 hb dX0_ask_157 rfl (lv_at hl 0 rfl) ?_
        refine c_gI (k := 22) (f := 122) E hb hS ci_1 (sK hS (by decide) rfl) rfl rfl rfl fk_X0_358_X0 (fun _ h => h) dX0_ask_158 ?_
        obtain ⟨r22, h1, hf⟩ := bo_s hf
        refine c_kq hS (va_runV ⟨E.1, hb, hml, E.2.1, E.2.2.1⟩ (zX0_beingOf h1) (cwV 1 E.2.2.1 gw_X0_229 rfl rfl rfl ⟨rfl, gnX0_beingOf⟩ ⟨Nat.le_of_ble_eq_true rfl, Nat.le_of_ble_eq_true rfl⟩) (c_preV E hS ci_1 (sK hS (by decide) rfl) (hS.1.lt (sK hS (by decide) rfl) rfl) _) rfl rfl hl.1 rfl (lv_room (Nat.le_of_ble_eq_true rfl)) dX0_ask_161 (rm_n hcs hS.2.2.2.2)) hS.2.2.2.2 (fun H locs hS hn => ?_)
        have hcs := rm_n2 hcs hn
        obtain ⟨q23, hr9, hf⟩ := bo_s hf
        refine c_dr hr9 ?_
        obtain ⟨hk, hf⟩ := gI_s hf
        refine c_gI (k := 3) (f := 703) E hb hS ci_7 hk rfl rfl rfl fk_X0_242_X7 (fun _ h => h) dX0_ask_164 ?_
        refine lv_i2l E.1 hb dX0_ask_167 rfl ?_
        obtain ⟨A25, hg, hw, hf⟩ := tJ_s hf
        refine s_lst E hb hS ⟨by decide, rfl, rfl⟩ hg hw dX0_ask_168 (fun H locs hS => ?_)
        have hcs := rm_w (A2 := A25) hcs (by rw [hw]; exact ⟨rfl, rfl⟩)
        refine lv_aload_n E.1 hb dX0_ask_169 rfl (lv_at hl 0 rfl) ?_
        refine c_gN (k := 7) (f := 107) (q := 13) E hb hS ci_1 (sK hS (by decide) rfl) rfl rfl rfl (sRf hS (by decide) rfl) fk_X0_59_X0 (fun _ h => h) dX0_ask_170 ?_
        refine c_gN (k := 0) (f := 500) (q := 14) E hb hS ci_5 (sK hS (by decide) rfl) rfl rfl rfl (sRf hS (by decide) rfl) fk_X0_189_X4 (fun _ h => h) dX0_ask_173 ?_
        refine lv_iconst (v := 4) E.1 hb dX0_ask_176 rfl ?_
        refine lv_aload_n E.1 hb dX0_ask_177 rfl (lv_at hl 0 rfl) ?_
        refine c_gN (k := 9) (f := 109) (q := 16) E hb hS ci_1 (sK hS (by decide) rfl) rfl rfl rfl (sRf hS (by decide) rfl) fk_X0_69_X0 (fun _ h => h) dX0_ask_178 ?_
        refine c_gN (k := 5) (f := 605) (q := 20) E hb hS ci_6 (sK hS (by decide) rfl) rfl rfl rfl (sRf hS (by decide) rfl) fk_X0_245_X5 (fun _ h => h) dX0_ask_181 ?_
        refine lv_aload_n E.1 hb dX0_ask_184 rfl (lv_at hl 0 rfl) ?_
        refine c_gI (k := 22) (f := 122) E hb hS ci_1 (sK hS (by decide) rfl) rfl rfl rfl fk_X0_358_X0 (fun _ h => h) dX0_ask_185 ?_
        obtain ⟨hg, hf⟩ := sI_s hf
        refine s_ld E hb hS (t := 31) ⟨by decide, rfl, rfl⟩ hg (Or.inl ⟨rfl, rfl⟩) dX0_ask_188 ?_
        refine lv_i2l E.1 hb dX0_ask_189 rfl ?_
        obtain ⟨A27, hg, hw, hf⟩ := tJ_s hf
        refine s_lst E hb hS ⟨by decide, rfl, rfl⟩ hg hw dX0_ask_190 (fun H locs hS => ?_)
        have hcs := rm_w (A2 := A27) hcs (by rw [hw]; exact ⟨rfl, rfl⟩)
        refine lv_aload_n E.1 hb dX0_ask_191 rfl (lv_at hl 0 rfl) ?_
        refine c_gN (k := 7) (f := 107) (q := 13) E hb hS ci_1 (sK hS (by decide) rfl) rfl rfl rfl (sRf hS (by decide) rfl) fk_X0_59_X0 (fun _ h => h) dX0_ask_192 ?_
        refine c_gN (k := 0) (f := 500) (q := 14) E hb hS ci_5 (sK hS (by decide) rfl) rfl rfl rfl (sRf hS (by decide) rfl) fk_X0_189_X4 (fun _ h => h) dX0_ask_195 ?_
        refine lv_iconst (v := 5) E.1 hb dX0_ask_198 rfl ?_
        refine lv_aload_n E.1 hb dX0_ask_199 rfl (lv_at hl 0 rfl) ?_
        refine c_gN (k := 9) (f := 109) (q := 16) E hb hS ci_1 (sK hS (by decide) rfl) rfl rfl rfl (sRf hS (by decide) rfl) fk_X0_69_X0 (fun _ h => h) dX0_ask_200 ?_
        refine c_gN (k := 3) (f := 603) (q := 18) E hb hS ci_6 (sK hS (by decide) rfl) rfl rfl rfl (sRf hS (by decide) rfl) fk_X0_236_X5 (fun _ h => h) dX0_ask_203 ?_
        refine lv_aload_n E.1 hb dX0_ask_206 rfl (lv_at hl 0 rfl) ?_
        refine c_gI (k := 22) (f := 122) E hb hS ci_1 (sK hS (by decide) rfl) rfl rfl rfl fk_X0_358_X0 (fun _ h => h) dX0_ask_207 ?_
        obtain ⟨hg, hf⟩ := sI_s hf
        refine s_ld E hb hS (t := 31) ⟨by decide, rfl, rfl⟩ hg (Or.inl ⟨rfl, rfl⟩) dX0_ask_210 ?_
        refine lv_iload_n E.1 hb dX0_ask_211 rfl (lv_at hl 2 rfl) ?_
        obtain ⟨r29, h1, hf⟩ := bo_s hf
        refine c_ki hS (va_runS ⟨E.1, hb, hml, E.2.1, E.2.2.1⟩ (zX0_isOpen h1) (va_cwS 2 E.2.2.1 gw_X0_181 rfl rfl rfl gnX0_isOpen ⟨Nat.le_of_ble_eq_true rfl, Nat.le_of_ble_eq_true rfl⟩) (c_preS E hS _) rfl rfl hl.1 rfl (lv_room (Nat.le_of_ble_eq_true rfl)) dX0_ask_212 (rm_n hcs hS.2.2.2.2)) hS.2.2.2.2 (fun H locs hS hn => ?_)
        have hcs := rm_n2 hcs hn
        refine lv_if_eq (tgt := 222) E.1 hb dX0_ask_215 (by decide) (fun hc => ?_) (fun hc => ?_)
        · have hf := it_s hc hf
          refine lv_lconst (v := 0) E.1 hb dX0_ask_222 rfl ?_
          exact hB223 k76 hk76 A27 x2 x3 0 5 hf _ _ _ _ hcs hS _ (lv_sub hl [0, 1, 2] rfl)
        · have hf := if_s hc hf
          refine lv_lconst (v := 1) E.1 hb dX0_ask_218 rfl ?_
          refine lv_goto (tgt := 223) E.1 hb dX0_ask_219 (by decide) ?_
          exact hB223 k76 hk76 A27 x2 x3 1 5 hf _ _ _ _ hcs hS _ (lv_sub hl [0, 1, 2] rfl)
  refine lv_aload_n E.1 hb dX0_ask_0 rfl (lv_at hl 0 rfl) ?_
  obtain ⟨r1, A2, h1, hf⟩ := bd_s hf
  refine c_ki hS (va_runV ⟨E.1, hb, hml, E.2.1, E.2.2.1⟩ (zX0_taken h1) (cwV 0 E.2.2.1 gw_X0_126 rfl rfl rfl ⟨rfl, gnX0_taken⟩ ⟨Nat.le_of_ble_eq_true rfl, Nat.le_of_ble_eq_true rfl⟩) (c_preV E hS ci_1 (sK hS (by decide) rfl) (hS.1.lt (sK hS (by decide) rfl) rfl) _) rfl rfl hl.1 rfl (lv_room (Nat.le_of_ble_eq_true rfl)) dX0_ask_1 (rm_n hcs hS.2.2.2.2)) hS.2.2.2.2 (fun H locs hS hn => ?_)
  have hcs := rm_n2 hcs hn
  refine lv_istore_n (lv' := [(1, .int r1), (0, .ref (ad 0))]) E.1 hb dX0_ask_4 rfl hl (by decide) rfl (fun ls hl => ?_)
  refine lv_aload_n E.1 hb dX0_ask_5 rfl (lv_at hl 1 rfl) ?_
  obtain ⟨r3, h1, hf⟩ := bo_s hf
  refine c_ki hS (va_runV ⟨E.1, hb, hml, E.2.1, E.2.2.1⟩ (zX0_isFolio h1) (cwV 0 E.2.2.1 gw_X0_272 rfl rfl rfl ⟨rfl, gnX0_isFolio⟩ ⟨Nat.le_of_ble_eq_true rfl, Nat.le_of_ble_eq_true rfl⟩) (c_preV E hS ci_1 (sK hS (by decide) rfl) (hS.1.lt (sK hS (by decide) rfl) rfl) _) rfl rfl hl.1 rfl (lv_room (Nat.le_of_ble_eq_true rfl)) dX0_ask_6 (rm_n hcs hS.2.2.2.2)) hS.2.2.2.2 (fun H locs hS hn => ?_)
  have hcs := rm_n2 hcs hn
  refine lv_if_ne (tgt := 16) E.1 hb dX0_ask_9 (by decide) (fun hc => ?_) (fun hc => ?_)
  · have hf := if_s hc hf
    refine lv_aload_n E.1 hb dX0_ask_16 rfl (lv_at hl 1 rfl) ?_
    refine lv_iconst (v := 0) E.1 hb dX0_ask_17 rfl ?_
    obtain ⟨A4, hw, hf⟩ := lt2_s hf
    refine c_pI (k := 3) (f := 103) E hb hS ci_1 (sK hS (by decide) rfl) (hS.1.lt (sK hS (by decide) rfl) rfl) rfl rfl (Or.inl rfl) fk_X0_123_X0 (fun _ h => h) rfl rfl hw dX0_ask_18 (fun H locs hS => ?_)
    have hcs := rm_w (A2 := A4) hcs (by rw [hw]; exact ⟨rfl, rfl⟩)
    refine lv_aload_n E.1 hb dX0_ask_21 rfl (lv_at hl 1 rfl) ?_
    refine lv_iconst (v := (-1)) E.1 hb dX0_ask_22 rfl ?_
    obtain ⟨A5, hw, hf⟩ := lt2_s hf
    refine c_pI (k := 4) (f := 104) E hb hS ci_1 (sK hS (by decide) rfl) (hS.1.lt (sK hS (by decide) rfl) rfl) rfl rfl (Or.inl rfl) fk_X0_39_X0 (fun _ h => h) rfl rfl hw dX0_ask_23 (fun H locs hS => ?_)
    have hcs := rm_w (A2 := A5) hcs (by rw [hw]; exact ⟨rfl, rfl⟩)
    refine lv_aload_n E.1 hb dX0_ask_26 rfl (lv_at hl 1 rfl) ?_
    refine c_gN (k := 5) (f := 105) (q := 9) E hb hS ci_1 (sK hS (by decide) rfl) rfl rfl rfl (sRf hS (by decide) rfl) fk_X0_48_X0 (fun _ h => h) dX0_ask_27 ?_
    refine lv_iload_n E.1 hb dX0_ask_30 rfl (lv_at hl 0 rfl) ?_
    obtain ⟨o8, A7, h1, hge, hup, hf⟩ := bda_s hf
    refine x_kq hS (vx_runV ⟨E.1, hb, hml, E.2.1, E.2.2.1⟩ (zX2_question h1) (cwV 1 E.2.2.1 gw_X0_363 rfl rfl rfl ⟨rfl, gnX2_question⟩ ⟨Nat.le_of_ble_eq_true rfl, Nat.le_of_ble_eq_true rfl⟩) (c_preV E hS ci_3 (sK hS (by decide) rfl) (hS.1.lt (sK hS (by decide) rfl) rfl) _) rfl rfl hl.1 rfl (lv_room (Nat.le_of_ble_eq_true rfl)) dX0_ask_31 (rm_a hcs hge hup)) hup (fun ho H locs hS hn => ?_) (fun r6 ho H locs hS hn => ?_)
    · subst ho
      have hcs := rm_a2 hcs hge
      have hf := xh_n hf
      refine x_cat E htb hS q573 (by decide) (by decide) ?_
      refine lv_astore_n (lv' := [(3, .ref (ad 10)), (1, .int r1), (0, .ref (ad 0))]) E.1 hb dX0_ask_38 rfl hl (by decide) rfl (fun ls hl => ?_)
      refine lv_aload_n E.1 hb dX0_ask_39 rfl (lv_at hl 2 rfl) ?_
      refine lv_aload_n E.1 hb dX0_ask_40 rfl (lv_at hl 0 rfl) ?_
      refine c_gI (k := 6) (f := 406) E hb hS ci_4 (sK hS (by decide) rfl) rfl rfl rfl fk_X0_136_X3 (fun _ h => h) dX0_ask_41 ?_
      obtain ⟨A9, hw, hf⟩ := lt2_s hf
      refine c_pI (k := 3) (f := 103) E hb hS ci_1 (sK hS (by decide) rfl) (hS.1.lt (sK hS (by decide) rfl) rfl) rfl rfl (Or.inl rfl) fk_X0_123_X0 (fun _ h => h) rfl rfl hw dX0_ask_44 (fun H locs hS => ?_)
      have hcs := rm_w (A2 := A9) hcs (by rw [hw]; exact ⟨rfl, rfl⟩)
      refine lv_aload_n E.1 hb dX0_ask_47 rfl (lv_at hl 2 rfl) ?_
      refine lv_aload_n E.1 hb dX0_ask_48 rfl (lv_at hl 0 rfl) ?_
      refine c_gI (k := 7) (f := 407) E hb hS ci_4 (sK hS (by decide) rfl) rfl rfl rfl fk_X0_139_X3 (fun _ h => h) dX0_ask_49 ?_
      obtain ⟨A10, hw, hf⟩ := lt2_s hf
      refine c_pI (k := 4) (f := 104) E hb hS ci_1 (sK hS (by decide) rfl) (hS.1.lt (sK hS (by decide) rfl) rfl) rfl rfl (Or.inl rfl) fk_X0_39_X0 (fun _ h => h) rfl rfl hw dX0_ask_52 (fun H locs hS => ?_)
      have hcs := rm_w (A2 := A10) hcs (by rw [hw]; exact ⟨rfl, rfl⟩)
      refine lv_ldc2 E.1 hb E.2.1 (E.2.2.1 _ q1603) dX0_ask_55 ?_
      exact c_lr E hb hr hlk hS (rm_e ⟨Nat.le_trans hcs.1 hS.2.2.2.2.1, Nat.le_trans hcs.2 hS.2.2.2.2.2⟩) hf dX0_ask_58
    subst ho
    have hcs := rm_a2 hcs hge
    have hf := xh_s hf
    obtain ⟨q11, hr9, hf⟩ := bo_s hf
    refine c_dr hr9 ?_
    refine lv_astore_n (lv' := [(2, .ref (ad q11)), (1, .int r1), (0, .ref (ad 0))]) E.1 hb dX0_ask_34 rfl hl (by decide) rfl (fun ls hl => ?_)
    refine lv_goto (tgt := 59) E.1 hb dX0_ask_35 (by decide) ?_
    refine lv_aload_n E.1 hb dX0_ask_59 rfl (lv_at hl 2 rfl) ?_
    refine lv_aload_n E.1 hb dX0_ask_60 rfl (lv_at hl 2 rfl) ?_
    refine c_gN (k := 9) (f := 109) (q := 16) E hb hS ci_1 (sK hS (by decide) rfl) rfl rfl rfl (sRf hS (by decide) rfl) fk_X0_69_X0 (fun _ h => h) dX0_ask_61 ?_
    refine c_gI (k := 0) (f := 600) E hb hS ci_6 (sK hS (by decide) rfl) rfl rfl rfl fk_X0_213_X5 (fun _ h => h) dX0_ask_64 ?_
    obtain ⟨r12, A13, h1, hf⟩ := bd_s hf
    refine c_ki hS (va_runV ⟨E.1, hb, hml, E.2.1, E.2.2.1⟩ (zX0_openingOf zvalF h1) (cwV 1 E.2.2.1 gw_X0_216 rfl rfl rfl ⟨rfl, gnX0_openingOf⟩ ⟨by dsimp only; omega, by dsimp only; omega⟩) (c_preV E hS ci_1 (sK hS (by decide) rfl) (hS.1.lt (sK hS (by decide) rfl) rfl) _) rfl rfl hl.1 rfl (lv_room (Nat.le_of_ble_eq_true rfl)) dX0_ask_67 (rm_n hcs hS.2.2.2.2)) hS.2.2.2.2 (fun H locs hS hn => ?_)
    have hcs := rm_n2 hcs hn
    refine lv_istore_n (lv' := [(3, .int r12), (2, .ref (ad q11)), (1, .int r1), (0, .ref (ad 0))]) E.1 hb dX0_ask_70 rfl hl (by decide) rfl (fun ls hl => ?_)
    refine lv_aload_n E.1 hb dX0_ask_71 rfl (lv_at hl 3 rfl) ?_
    refine lv_iconst (v := 0) E.1 hb dX0_ask_72 rfl ?_
    obtain ⟨A14, hw, hf⟩ := lt2_s hf
    refine c_pI (k := 22) (f := 122) E hb hS ci_1 (sK hS (by decide) rfl) (hS.1.lt (sK hS (by decide) rfl) rfl) rfl rfl (Or.inl rfl) fk_X0_358_X0 (fun _ h => h) rfl rfl hw dX0_ask_73 (fun H locs hS => ?_)
    have hcs := rm_w (A2 := A14) hcs (by rw [hw]; exact ⟨rfl, rfl⟩)
    exact hL76 N A14 q11 r12 hf _ _ _ _ hcs hS _ (lv_sub hl [3, 1, 0] rfl)
  · have hf := it_s hc hf
    refine lv_ldc2 E.1 hb E.2.1 (E.2.2.1 _ q1603) dX0_ask_12 ?_
    exact c_lr E hb hr hlk hS (rm_e ⟨Nat.le_trans hcs.1 hS.2.2.2.2.1, Nat.le_trans hcs.2 hS.2.2.2.2.2⟩) hf dX0_ask_15
theorem fk_X0_377_X0 : FLk RX0 377 "MarginFolk" (TX0 24).2.1 (TX0 24).2.2.1 := Or.inl q500
/-! MarginFolk.writes(II)V: RW -/
noncomputable def X0_writes_b8 (N : Nat) (x1 : Int32) (x2 : Int32) (k8 : AH → Int32 → Option (Unit × AH)) (A : AH) (x3 : Int32) : Option (Unit × AH) :=
  if x3 < 0 then (some ((), A)) else (lt2 (wI A 124 0 0 ((aI A 124 0 0) + 1)) fun A1 => bo (tI 57 33 A1 1100 (aI A 124 0 0) (vp_nar .byte ((Int32.toInt8 (x1 >>> (x3 &&& 31))).toInt32))) fun A2 => k8 A2 (x3 + (-8)))
noncomputable def X0_writes (N : Nat) (A0 : AH) (x1 : Int32) (x2 : Int32) : Option (Unit × AH) :=
  rn2 (X0_writes_b8 N x1 x2) N A0 ((8 * x2) - 8)
abbrev rX0_writes : Room := { frames := 0, cells := 0, slots := 0, locals := 0 }
set_option maxHeartbeats 4000000 in
theorem zX0_writes {l : Launch} {dC : Nat → ClassId} {dI : Nat → Nat → Nat} {ac : Nat → ClassId} {ad : Nat → Nat} {N : Nat} {A0 : AH} {x1 : Int32} {x2 : Int32} {A' : AH} (hf : X0_writes N A0 x1 x2 = some ((), A')) : Met l yX0_writes (ws_ yX0_writes cX0_writes 4 none) { frames := 0, cells := 0, slots := 0, locals := 0 } (va_Pc [.ref (ad 0), .int x1, .int x2] (cPre dC dI ac ad True A0)) (cQv dC dI ac ad True (aN A0) (aS A0) (aN A0) (aS A0) A') 0 0 (cF ad) := by
  unfold X0_writes at hf
  refine c_of ⟨Nat.le_refl _, Nat.le_refl _⟩ RX0 (plainFor_of_name (by decide)) rfl (Nat.le_of_ble_eq_true rfl) ?_
  intro p e s m args below meth c E hb hr hlk hnm hml hS ls hl
  have hl : lv_has ls 4 [(0, .ref (ad 0)), (1, .int x1), (2, .int x2)] := hl
  have hL8 : ∀ (n : Nat) (A : AH) (x3 : Int32), rn2 (X0_writes_b8 N x1 x2) n A x3 = some ((), A') → ∀ (H : Heap) (locs : List Loc), cS dC dI ac ad True s.heap (aN A0) (aS A0) (aN A0) (aS A0) A H locs → ∀ (ls : Array Slot), lv_has ls 4 [(0, .ref (ad 0)), (1, .int x1), (2, .int x2), (3, .int x3)] → W p l e rX0_writes s m args below meth c H locs 0 0 (MQ below (cQv dC dI ac ad True (aN A0) (aS A0) (aN A0) (aS A0) A') args s 0 0 (cF ad)) (F0 m 8 ls []) := by
    intro  n
    induction n with
    | zero =>
      intro A x3 hf
      cases hf
    | succ n ih =>
      intro A x3 hf H locs hS ls hl
      have hf : X0_writes_b8 N x1 x2 (rn2 (X0_writes_b8 N x1 x2) n) A x3 = some ((), A') := hf
      have hk8 := ih
      generalize rn2 (X0_writes_b8 N x1 x2) n = k8 at hf hk8
      unfold X0_writes_b8 at hf
      refine lv_iload_n E.1 hb dX0_writes_8 rfl (lv_at hl 3 rfl) ?_
      refine lv_if_lt (tgt := 38) E.1 hb dX0_writes_9 (by decide) (fun hc => ?_) (fun hc => ?_)
      · have hf := it_s hc hf
        exact c_vr E hb hr hlk hS ⟨Nat.le_refl 0, Nat.le_refl 0⟩ hf dX0_writes_38
      · have hf := if_s hc hf
        refine lv_aload_n E.1 hb dX0_writes_12 rfl (lv_at hl 0 rfl) ?_
        refine c_gN (k := 23) (f := 123) (q := 1100) E hb hS ci_1 (sK hS (by decide) rfl) rfl rfl rfl (sRf hS (by decide) rfl) fk_X0_109_X0 (fun _ h => h) dX0_writes_13 ?_
        refine lv_aload_n E.1 hb dX0_writes_16 rfl (lv_at hl 0 rfl) ?_
        refine lv_dup E.1 hb dX0_writes_17 rfl ?_
        refine c_gI (k := 24) (f := 124) E hb hS ci_1 (sK hS (by decide) rfl) rfl rfl rfl fk_X0_377_X0 (fun _ h => h) dX0_writes_18 ?_
        refine lv_dup_x1 E.1 hb dX0_writes_21 rfl rfl ?_
        refine lv_iconst (v := 1) E.1 hb dX0_writes_22 rfl ?_
        refine lv_iadd E.1 hb dX0_writes_23 ?_
        obtain ⟨A1, hw, hf⟩ := lt2_s hf
        refine c_pI (k := 24) (f := 124) E hb hS ci_1 (sK hS (by decide) rfl) (hS.1.lt (sK hS (by decide) rfl) rfl) rfl rfl (Or.inl rfl) fk_X0_377_X0 (fun _ h => h) rfl rfl hw dX0_writes_24 (fun H locs hS => ?_)
        refine lv_iload_n E.1 hb dX0_writes_27 rfl (lv_at hl 1 rfl) ?_
        refine lv_iload_n E.1 hb dX0_writes_28 rfl (lv_at hl 3 rfl) ?_
        refine lv_ishr E.1 hb dX0_writes_29 ?_
        refine lv_i2b E.1 hb dX0_writes_30 rfl ?_
        obtain ⟨A2, hg, hw, hf⟩ := tI_s hf
        refine s_st E hb hS (t := 33) ⟨by decide, rfl, rfl⟩ hg (Or.inr (Or.inl ⟨rfl, rfl, rfl⟩)) hw dX0_writes_31 (fun H locs hS => ?_)
        refine lv_iinc (v := (x3 + (-8))) (lv' := [(3, .int (x3 + (-8))), (0, .ref (ad 0)), (1, .int x1), (2, .int x2)]) E.1 hb dX0_writes_32 hl (k := 3) rfl rfl (by decide) rfl (fun ls hl => ?_)
        refine lv_goto (tgt := 8) E.1 hb dX0_writes_35 (by decide) ?_
        exact hk8 A2 (x3 + (-8)) hf _ _ hS _ (lv_sub hl [1, 2, 3, 0] rfl)
  refine lv_bipush (v := 8) E.1 hb dX0_writes_0 rfl ?_
  refine lv_iload_n E.1 hb dX0_writes_2 rfl (lv_at hl 2 rfl) ?_
  refine lv_imul E.1 hb dX0_writes_3 ?_
  refine lv_bipush (v := 8) E.1 hb dX0_writes_4 rfl ?_
  refine lv_isub E.1 hb dX0_writes_6 ?_
  refine lv_istore_n (lv' := [(3, .int ((8 * x2) - 8)), (0, .ref (ad 0)), (1, .int x1), (2, .int x2)]) E.1 hb dX0_writes_7 rfl hl (by decide) rfl (fun ls hl => ?_)
  exact hL8 N A0 ((8 * x2) - 8) hf _ _ hS _ (lv_sub hl [1, 2, 3, 0] rfl)
/-! MarginFolk.check([BI)I: RO -/
noncomputable def X0_check_b5 (N : Nat) (x0 : Nat) (x1 : Int32) (A : AH) (k5 : Int32 → Int32 → Option Int32) (x2 : Int32) (x3 : Int32) : Option Int32 :=
  if x1 ≤ x3 then (some x2) else (bo (dI_ 33 A x0 x3) fun v1 => k5 (((3 * x2) + (v1 &&& 255)) - ((3 * x2) + (v1 &&& 255)) / 251 * 251) (x3 + 1))
noncomputable def X0_check (N : Nat) (A : AH) (x0 : Nat) (x1 : Int32) : Option Int32 :=
  rn2 (X0_check_b5 N x0 x1 A) N 83 0
abbrev rX0_check : Room := { frames := 0, cells := 0, slots := 0, locals := 0 }
set_option maxHeartbeats 4000000 in
theorem zX0_check {l : Launch} {dC : Nat → ClassId} {dI : Nat → Nat → Nat} {ac : Nat → ClassId} {ad : Nat → Nat} {N : Nat} {A : AH} {x0 : Nat} {x1 : Int32} {r : Int32} (hf : X0_check N A x0 x1 = some r) : Met l yX0_check (ws_ yX0_check cX0_check 4 (some .int)) { frames := 0, cells := 0, slots := 0, locals := 0 } (va_Pc [.ref (ad x0), .int x1] (cPre dC dI ac ad True A)) (cQi dC dI ac ad True (aN A) (aS A) (aN A) (aS A) r A) 0 0 (cF ad) := by
  unfold X0_check at hf
  refine c_of ⟨Nat.le_refl _, Nat.le_refl _⟩ RX0 (plainFor_of_name (by decide)) rfl (Nat.le_of_ble_eq_true rfl) ?_
  intro p e s m args below meth c E hb hr hlk hnm hml hS ls hl
  have hl : lv_has ls 4 [(0, .ref (ad x0)), (1, .int x1)] := hl
  have hL5 : ∀ (n : Nat) (x2 : Int32) (x3 : Int32), rn2 (X0_check_b5 N x0 x1 A) n x2 x3 = some r → ∀ (H : Heap) (locs : List Loc), cS dC dI ac ad True s.heap (aN A) (aS A) (aN A) (aS A) A H locs → ∀ (ls : Array Slot), lv_has ls 4 [(0, .ref (ad x0)), (1, .int x1), (2, .int x2), (3, .int x3)] → W p l e rX0_check s m args below meth c H locs 0 0 (MQ below (cQi dC dI ac ad True (aN A) (aS A) (aN A) (aS A) r A) args s 0 0 (cF ad)) (F0 m 5 ls []) := by
    intro  n
    induction n with
    | zero =>
      intro x2 x3 hf
      cases hf
    | succ n ih =>
      intro x2 x3 hf H locs hS ls hl
      have hf : X0_check_b5 N x0 x1 A (rn2 (X0_check_b5 N x0 x1 A) n) x2 x3 = some r := hf
      have hk5 := ih
      generalize rn2 (X0_check_b5 N x0 x1 A) n = k5 at hf hk5
      unfold X0_check_b5 at hf
      refine lv_iload_n E.1 hb dX0_check_5 rfl (lv_at hl 3 rfl) ?_
      refine lv_iload_n E.1 hb dX0_check_6 rfl (lv_at hl 1 rfl) ?_
      refine lv_icmp_ge (tgt := 32) E.1 hb dX0_check_7 (by decide) (fun hc => ?_) (fun hc => ?_)
      · have hf := it_s hc hf
        refine lv_iload_n E.1 hb dX0_check_32 rfl (lv_at hl 2 rfl) ?_
        exact c_ir E hb hr hlk hS ⟨Nat.le_refl 0, Nat.le_refl 0⟩ (ro_s hf) dX0_check_33
      · have hf := if_s hc hf
        refine lv_iconst (v := 3) E.1 hb dX0_check_10 rfl ?_
        refine lv_iload_n E.1 hb dX0_check_11 rfl (lv_at hl 2 rfl) ?_
        refine lv_imul E.1 hb dX0_check_12 ?_
        refine lv_aload_n E.1 hb dX0_check_13 rfl (lv_at hl 0 rfl) ?_
        refine lv_iload_n E.1 hb dX0_check_14 rfl (lv_at hl 3 rfl) ?_
        obtain ⟨hg, hf⟩ := dI_s hf
        refine c_bld E hb hS hg dX0_check_15 ?_
        refine lv_sipush (v := 255) E.1 hb dX0_check_16 rfl ?_
        refine lv_iand E.1 hb dX0_check_19 ?_
        refine lv_iadd E.1 hb dX0_check_20 ?_
        refine lv_sipush (v := 251) E.1 hb dX0_check_21 rfl ?_
        refine lv_irem E.1 hb dX0_check_24 (by decide) ?_
        refine lv_istore_n (lv' := [(2, .int (((3 * x2) + ((aI A 33 x0 x3.toNatClampNeg) &&& 255)) - ((3 * x2) + ((aI A 33 x0 x3.toNatClampNeg) &&& 255)) / 251 * 251)), (0, .ref (ad x0)), (1, .int x1), (3, .int x3)]) E.1 hb dX0_check_25 rfl hl (by decide) rfl (fun ls hl => ?_)
        refine lv_iinc (v := (x3 + 1)) (lv' := [(3, .int (x3 + 1)), (2, .int (((3 * x2) + ((aI A 33 x0 x3.toNatClampNeg) &&& 255)) - ((3 * x2) + ((aI A 33 x0 x3.toNatClampNeg) &&& 255)) / 251 * 251)), (0, .ref (ad x0)), (1, .int x1)]) E.1 hb dX0_check_26 hl (k := 3) rfl rfl (by decide) rfl (fun ls hl => ?_)
        refine lv_goto (tgt := 5) E.1 hb dX0_check_29 (by decide) ?_
        exact hk5 (((3 * x2) + ((aI A 33 x0 x3.toNatClampNeg) &&& 255)) - ((3 * x2) + ((aI A 33 x0 x3.toNatClampNeg) &&& 255)) / 251 * 251) (x3 + 1) hf _ _ hS _ (lv_sub hl [2, 3, 1, 0] rfl)
  refine lv_bipush (v := 83) E.1 hb dX0_check_0 rfl ?_
  refine lv_istore_n (lv' := [(2, .int 83), (0, .ref (ad x0)), (1, .int x1)]) E.1 hb dX0_check_2 rfl hl (by decide) rfl (fun ls hl => ?_)
  refine lv_iconst (v := 0) E.1 hb dX0_check_3 rfl ?_
  refine lv_istore_n (lv' := [(3, .int 0), (2, .int 83), (0, .ref (ad x0)), (1, .int x1)]) E.1 hb dX0_check_4 rfl hl (by decide) rfl (fun ls hl => ?_)
  exact hL5 N 83 0 hf _ _ hS _ (lv_sub hl [2, 3, 1, 0] rfl)
theorem gw_X0_383 : GoodIn lw_all (va_wsS RX0 383 yX0_check (ws_ yX0_check cX0_check 4 (some .int))) := lw_S q1653 q1654 q152 q1655
theorem gnX0_check : yX0_check.cls ≠ "java/lang/invoke/MethodHandle" ∧ yX0_check.cls ≠ "java/lang/invoke/VarHandle" ∧ (parseMethodDescriptor yX0_check.desc).map (fun d => d.parameters.length) = some 2 := by decide +kernel
theorem gw_X0_380 : GoodIn lw_all (wsV RX0 380 RX0 yX0_writes (ws_ yX0_writes cX0_writes 4 none)) := lw_V q1649 q1651 qs58 q152 q1652
theorem gnX0_writes : yX0_writes.cls ≠ "java/lang/invoke/MethodHandle" ∧ yX0_writes.cls ≠ "java/lang/invoke/VarHandle" ∧ (parseMethodDescriptor yX0_writes.desc).map (fun d => d.parameters.length) = some 2 := by decide +kernel
/-! MarginFolk.image()I: RW -/
noncomputable def X0_image_b52 (N : Nat) (k52 : AH → Int32 → Option (Int32 × AH)) (A : AH) (x1 : Int32) : Option (Int32 × AH) :=
  bo (X0_beings A) fun r5 => if r5 ≤ x1 then (bo (X0_check N A 1100 (aI A 124 0 0)) fun r6 => bd (X0_writes N A r6 1) fun _ A7 => some ((aI A7 124 0 0), A7)) else (bo (sI 8 31 A 18 x1) fun v8 => bd (X0_writes N A v8 1) fun _ A9 => bo (sI 8 31 A9 19 x1) fun v10 => bd (X0_writes N A9 v10 1) fun _ A11 => bo (sI 8 31 A11 20 x1) fun v12 => bd (X0_writes N A11 v12 2) fun _ A13 => bo (sI 8 31 A13 21 x1) fun v14 => bd (X0_writes N A13 v14 2) fun _ A15 => k52 A15 (x1 + 1))
noncomputable def X0_image_b19 (N : Nat) (k19 : AH → Int32 → Option (Int32 × AH)) (A : AH) (x1 : Int32) : Option (Int32 × AH) :=
  bo (aR A 100 0 0) fun q3 => bo (gI 2 A 201 q3) fun v4 => if v4 ≤ x1 then (rn2 (X0_image_b52 N) N A 0) else (bo (sI 6 31 A 17 x1) fun v16 => bd (X0_writes N A v16 1) fun _ A17 => k19 A17 (x1 + 1))
noncomputable def X0_image (N : Nat) (A0 : AH) : Option (Int32 × AH) :=
  lt2 (wI A0 124 0 0 0) fun A1 => bd (X0_writes N A1 (aI A1 600 16 0) 2) fun _ A2 => rn2 (X0_image_b19 N) N A2 0
abbrev rX0_image : Room := { frames := 2, cells := 0, slots := 0, locals := 40 }
set_option maxHeartbeats 4000000 in
theorem zX0_image {l : Launch} {dC : Nat → ClassId} {dI : Nat → Nat → Nat} {ac : Nat → ClassId} {ad : Nat → Nat} {N : Nat} {A0 : AH} {r : Int32} {A' : AH} (hf : X0_image N A0 = some (r, A')) : Met l yX0_image (ws_ yX0_image cX0_image 2 (some .int)) { frames := 2, cells := 0, slots := 0, locals := 40 } (va_Pc [.ref (ad 0)] (cPre dC dI ac ad True A0)) (cQi dC dI ac ad True (aN A0) (aS A0) (aN A0) (aS A0) r A') 0 0 (cF ad) := by
  unfold X0_image at hf
  refine c_of ⟨Nat.le_refl _, Nat.le_refl _⟩ RX0 (plainFor_of_name (by decide)) rfl (Nat.le_of_ble_eq_true rfl) ?_
  intro p e s m args below meth c E hb hr hlk hnm hml hS ls hl
  have hl : lv_has ls 2 [(0, .ref (ad 0))] := hl
  have hL52 : ∀ (n : Nat) (A : AH) (x1 : Int32), rn2 (X0_image_b52 N) n A x1 = some (r, A') → ∀ (H : Heap) (locs : List Loc), cS dC dI ac ad True s.heap (aN A0) (aS A0) (aN A0) (aS A0) A H locs → ∀ (ls : Array Slot), lv_has ls 2 [(0, .ref (ad 0)), (1, .int x1)] → W p l e rX0_image s m args below meth c H locs 0 0 (MQ below (cQi dC dI ac ad True (aN A0) (aS A0) (aN A0) (aS A0) r A') args s 0 0 (cF ad)) (F0 m 52 ls []) := by
    intro  n
    induction n with
    | zero =>
      intro A x1 hf
      cases hf
    | succ n ih =>
      intro A x1 hf H locs hS ls hl
      have hf : X0_image_b52 N (rn2 (X0_image_b52 N) n) A x1 = some (r, A') := hf
      have hk52 := ih
      generalize rn2 (X0_image_b52 N) n = k52 at hf hk52
      unfold X0_image_b52 at hf
      refine lv_iload_n E.1 hb dX0_image_52 rfl (lv_at hl 1 rfl) ?_
      refine lv_aload_n E.1 hb dX0_image_53 rfl (lv_at hl 0 rfl) ?_
      obtain ⟨r5, h1, hf⟩ := bo_s hf
      refine c_ki hS (va_runV ⟨E.1, hb, hml, E.2.1, E.2.2.1⟩ (zX0_beings h1) (cwV 0 E.2.2.1 gw_X0_166 rfl rfl rfl ⟨rfl, gnX0_beings⟩ ⟨Nat.le_of_ble_eq_true rfl, Nat.le_of_ble_eq_true rfl⟩) (c_preV E hS ci_1 (sK hS (by decide) rfl) (hS.1.lt (sK hS (by decide) rfl) rfl) _) rfl rfl hl.1 rfl (lv_room (Nat.le_of_ble_eq_true rfl)) dX0_image_54 ⟨Nat.le_refl 0, Nat.le_refl 0⟩) hS.2.2.2.2 (fun H locs hS hn => ?_)
      refine lv_icmp_ge (tgt := 122) E.1 hb dX0_image_57 (by decide) (fun hc => ?_) (fun hc => ?_)
      · have hf := it_s hc hf
        refine lv_aload_n E.1 hb dX0_image_122 rfl (lv_at hl 0 rfl) ?_
        refine lv_aload_n E.1 hb dX0_image_123 rfl (lv_at hl 0 rfl) ?_
        refine c_gN (k := 23) (f := 123) (q := 1100) E hb hS ci_1 (sK hS (by decide) rfl) rfl rfl rfl (sRf hS (by decide) rfl) fk_X0_109_X0 (fun _ h => h) dX0_image_124 ?_
        refine lv_aload_n E.1 hb dX0_image_127 rfl (lv_at hl 0 rfl) ?_
        refine c_gI (k := 24) (f := 124) E hb hS ci_1 (sK hS (by decide) rfl) rfl rfl rfl fk_X0_377_X0 (fun _ h => h) dX0_image_128 ?_
        obtain ⟨r6, h1, hf⟩ := bo_s hf
        refine c_ki hS (va_runS ⟨E.1, hb, hml, E.2.1, E.2.2.1⟩ (zX0_check h1) (va_cwS 2 E.2.2.1 gw_X0_383 rfl rfl rfl gnX0_check ⟨Nat.le_of_ble_eq_true rfl, Nat.le_of_ble_eq_true rfl⟩) (c_preS E hS _) rfl rfl hl.1 rfl (lv_room (Nat.le_of_ble_eq_true rfl)) dX0_image_131 ⟨Nat.le_refl 0, Nat.le_refl 0⟩) hS.2.2.2.2 (fun H locs hS hn => ?_)
        refine lv_iconst (v := 1) E.1 hb dX0_image_134 rfl ?_
        obtain ⟨_, A7, h1, hf⟩ := bd_s hf
        refine c_kv hS (va_runV ⟨E.1, hb, hml, E.2.1, E.2.2.1⟩ (zX0_writes h1) (cwV 2 E.2.2.1 gw_X0_380 rfl rfl rfl ⟨rfl, gnX0_writes⟩ ⟨Nat.le_of_ble_eq_true rfl, Nat.le_of_ble_eq_true rfl⟩) (c_preV E hS ci_1 (sK hS (by decide) rfl) (hS.1.lt (sK hS (by decide) rfl) rfl) _) rfl rfl hl.1 rfl (lv_room (Nat.le_of_ble_eq_true rfl)) dX0_image_135 ⟨Nat.le_refl 0, Nat.le_refl 0⟩) hS.2.2.2.2 (fun H locs hS hn => ?_)
        refine lv_aload_n E.1 hb dX0_image_138 rfl (lv_at hl 0 rfl) ?_
        refine c_gI (k := 24) (f := 124) E hb hS ci_1 (sK hS (by decide) rfl) rfl rfl rfl fk_X0_377_X0 (fun _ h => h) dX0_image_139 ?_
        exact c_ir E hb hr hlk hS ⟨Nat.le_refl 0, Nat.le_refl 0⟩ hf dX0_image_142
      · have hf := if_s hc hf
        refine lv_aload_n E.1 hb dX0_image_60 rfl (lv_at hl 0 rfl) ?_
        refine lv_aload_n E.1 hb dX0_image_61 rfl (lv_at hl 0 rfl) ?_
        refine c_gN (k := 9) (f := 109) (q := 16) E hb hS ci_1 (sK hS (by decide) rfl) rfl rfl rfl (sRf hS (by decide) rfl) fk_X0_69_X0 (fun _ h => h) dX0_image_62 ?_
        refine c_gN (k := 3) (f := 603) (q := 18) E hb hS ci_6 (sK hS (by decide) rfl) rfl rfl rfl (sRf hS (by decide) rfl) fk_X0_236_X5 (fun _ h => h) dX0_image_65 ?_
        refine lv_iload_n E.1 hb dX0_image_68 rfl (lv_at hl 1 rfl) ?_
        obtain ⟨hg, hf⟩ := sI_s hf
        refine s_ld E hb hS (t := 31) ⟨by decide, rfl, rfl⟩ hg (Or.inl ⟨rfl, rfl⟩) dX0_image_69 ?_
        refine lv_iconst (v := 1) E.1 hb dX0_image_70 rfl ?_
        obtain ⟨_, A9, h1, hf⟩ := bd_s hf
        refine c_kv hS (va_runV ⟨E.1, hb, hml, E.2.1, E.2.2.1⟩ (zX0_writes h1) (cwV 2 E.2.2.1 gw_X0_380 rfl rfl rfl ⟨rfl, gnX0_writes⟩ ⟨Nat.le_of_ble_eq_true rfl, Nat.le_of_ble_eq_true rfl⟩) (c_preV E hS ci_1 (sK hS (by decide) rfl) (hS.1.lt (sK hS (by decide) rfl) rfl) _) rfl rfl hl.1 rfl (lv_room (Nat.le_of_ble_eq_true rfl)) dX0_image_71 ⟨Nat.le_refl 0, Nat.le_refl 0⟩) hS.2.2.2.2 (fun H locs hS hn => ?_)
        refine lv_aload_n E.1 hb dX0_image_74 rfl (lv_at hl 0 rfl) ?_
        refine lv_aload_n E.1 hb dX0_image_75 rfl (lv_at hl 0 rfl) ?_
        refine c_gN (k := 9) (f := 109) (q := 16) E hb hS ci_1 (sK hS (by decide) rfl) rfl rfl rfl (sRf hS (by decide) rfl) fk_X0_69_X0 (fun _ h => h) dX0_image_76 ?_
        refine c_gN (k := 4) (f := 604) (q := 19) E hb hS ci_6 (sK hS (by decide) rfl) rfl rfl rfl (sRf hS (by decide) rfl) fk_X0_239_X5 (fun _ h => h) dX0_image_79 ?_
        refine lv_iload_n E.1 hb dX0_image_82 rfl (lv_at hl 1 rfl) ?_
        obtain ⟨hg, hf⟩ := sI_s hf
        refine s_ld E hb hS (t := 31) ⟨by decide, rfl, rfl⟩ hg (Or.inl ⟨rfl, rfl⟩) dX0_image_83 ?_
        refine lv_iconst (v := 1) E.1 hb dX0_image_84 rfl ?_
        obtain ⟨_, A11, h1, hf⟩ := bd_s hf
        refine c_kv hS (va_runV ⟨E.1, hb, hml, E.2.1, E.2.2.1⟩ (zX0_writes h1) (cwV 2 E.2.2.1 gw_X0_380 rfl rfl rfl ⟨rfl, gnX0_writes⟩ ⟨Nat.le_of_ble_eq_true rfl, Nat.le_of_ble_eq_true rfl⟩) (c_preV E hS ci_1 (sK hS (by decide) rfl) (hS.1.lt (sK hS (by decide) rfl) rfl) _) rfl rfl hl.1 rfl (lv_room (Nat.le_of_ble_eq_true rfl)) dX0_image_85 ⟨Nat.le_refl 0, Nat.le_refl 0⟩) hS.2.2.2.2 (fun H locs hS hn => ?_)
        refine lv_aload_n E.1 hb dX0_image_88 rfl (lv_at hl 0 rfl) ?_
        refine lv_aload_n E.1 hb dX0_image_89 rfl (lv_at hl 0 rfl) ?_
        refine c_gN (k := 9) (f := 109) (q := 16) E hb hS ci_1 (sK hS (by decide) rfl) rfl rfl rfl (sRf hS (by decide) rfl) fk_X0_69_X0 (fun _ h => h) dX0_image_90 ?_
        refine c_gN (k := 5) (f := 605) (q := 20) E hb hS ci_6 (sK hS (by decide) rfl) rfl rfl rfl (sRf hS (by decide) rfl) fk_X0_245_X5 (fun _ h => h) dX0_image_93 ?_
        refine lv_iload_n E.1 hb dX0_image_96 rfl (lv_at hl 1 rfl) ?_
        obtain ⟨hg, hf⟩ := sI_s hf
        refine s_ld E hb hS (t := 31) ⟨by decide, rfl, rfl⟩ hg (Or.inl ⟨rfl, rfl⟩) dX0_image_97 ?_
        refine lv_iconst (v := 2) E.1 hb dX0_image_98 rfl ?_
        obtain ⟨_, A13, h1, hf⟩ := bd_s hf
        refine c_kv hS (va_runV ⟨E.1, hb, hml, E.2.1, E.2.2.1⟩ (zX0_writes h1) (cwV 2 E.2.2.1 gw_X0_380 rfl rfl rfl ⟨rfl, gnX0_writes⟩ ⟨Nat.le_of_ble_eq_true rfl, Nat.le_of_ble_eq_true rfl⟩) (c_preV E hS ci_1 (sK hS (by decide) rfl) (hS.1.lt (sK hS (by decide) rfl) rfl) _) rfl rfl hl.1 rfl (lv_room (Nat.le_of_ble_eq_true rfl)) dX0_image_99 ⟨Nat.le_refl 0, Nat.le_refl 0⟩) hS.2.2.2.2 (fun H locs hS hn => ?_)
        refine lv_aload_n E.1 hb dX0_image_102 rfl (lv_at hl 0 rfl) ?_
        refine lv_aload_n E.1 hb dX0_image_103 rfl (lv_at hl 0 rfl) ?_
        refine c_gN (k := 9) (f := 109) (q := 16) E hb hS ci_1 (sK hS (by decide) rfl) rfl rfl rfl (sRf hS (by decide) rfl) fk_X0_69_X0 (fun _ h => h) dX0_image_104 ?_
        refine c_gN (k := 6) (f := 606) (q := 21) E hb hS ci_6 (sK hS (by decide) rfl) rfl rfl rfl (sRf hS (by decide) rfl) fk_X0_248_X5 (fun _ h => h) dX0_image_107 ?_
        refine lv_iload_n E.1 hb dX0_image_110 rfl (lv_at hl 1 rfl) ?_
        obtain ⟨hg, hf⟩ := sI_s hf
        refine s_ld E hb hS (t := 31) ⟨by decide, rfl, rfl⟩ hg (Or.inl ⟨rfl, rfl⟩) dX0_image_111 ?_
        refine lv_iconst (v := 2) E.1 hb dX0_image_112 rfl ?_
        obtain ⟨_, A15, h1, hf⟩ := bd_s hf
        refine c_kv hS (va_runV ⟨E.1, hb, hml, E.2.1, E.2.2.1⟩ (zX0_writes h1) (cwV 2 E.2.2.1 gw_X0_380 rfl rfl rfl ⟨rfl, gnX0_writes⟩ ⟨Nat.le_of_ble_eq_true rfl, Nat.le_of_ble_eq_true rfl⟩) (c_preV E hS ci_1 (sK hS (by decide) rfl) (hS.1.lt (sK hS (by decide) rfl) rfl) _) rfl rfl hl.1 rfl (lv_room (Nat.le_of_ble_eq_true rfl)) dX0_image_113 ⟨Nat.le_refl 0, Nat.le_refl 0⟩) hS.2.2.2.2 (fun H locs hS hn => ?_)
        refine lv_iinc (v := (x1 + 1)) (lv' := [(1, .int (x1 + 1)), (0, .ref (ad 0))]) E.1 hb dX0_image_116 hl (k := 1) rfl rfl (by decide) rfl (fun ls hl => ?_)
        refine lv_goto (tgt := 52) E.1 hb dX0_image_119 (by decide) ?_
        exact hk52 A15 (x1 + 1) hf _ _ hS _ (lv_sub hl [1, 0] rfl)
  have hL19 : ∀ (n : Nat) (A : AH) (x1 : Int32), rn2 (X0_image_b19 N) n A x1 = some (r, A') → ∀ (H : Heap) (locs : List Loc), cS dC dI ac ad True s.heap (aN A0) (aS A0) (aN A0) (aS A0) A H locs → ∀ (ls : Array Slot), lv_has ls 2 [(0, .ref (ad 0)), (1, .int x1)] → W p l e rX0_image s m args below meth c H locs 0 0 (MQ below (cQi dC dI ac ad True (aN A0) (aS A0) (aN A0) (aS A0) r A') args s 0 0 (cF ad)) (F0 m 19 ls []) := by
    intro  n
    induction n with
    | zero =>
      intro A x1 hf
      cases hf
    | succ n ih =>
      intro A x1 hf H locs hS ls hl
      have hf : X0_image_b19 N (rn2 (X0_image_b19 N) n) A x1 = some (r, A') := hf
      have hk19 := ih
      generalize rn2 (X0_image_b19 N) n = k19 at hf hk19
      unfold X0_image_b19 at hf
      refine lv_iload_n E.1 hb dX0_image_19 rfl (lv_at hl 1 rfl) ?_
      refine lv_aload_n E.1 hb dX0_image_20 rfl (lv_at hl 0 rfl) ?_
      obtain ⟨q3, hr7, hf⟩ := bo_s hf
      refine c_gN (k := 0) (f := 100) E hb hS ci_1 (sK hS (by decide) rfl) rfl rfl rfl hr7 fk_X0_31_X0 (fun _ h => h) dX0_image_21 ?_
      obtain ⟨hk, hf⟩ := gI_s hf
      refine c_gI (k := 1) (f := 201) E hb hS ci_2 hk rfl rfl rfl fk_X0_154_X1 (fun _ h => h) dX0_image_24 ?_
      refine lv_icmp_ge (tgt := 50) E.1 hb dX0_image_27 (by decide) (fun hc => ?_) (fun hc => ?_)
      · have hf := it_s hc hf
        refine lv_iconst (v := 0) E.1 hb dX0_image_50 rfl ?_
        refine lv_istore_n (lv' := [(1, .int 0), (0, .ref (ad 0))]) E.1 hb dX0_image_51 rfl hl (by decide) rfl (fun ls hl => ?_)
        exact hL52 N A 0 hf _ _ hS _ (lv_sub hl [1, 0] rfl)
      · have hf := if_s hc hf
        refine lv_aload_n E.1 hb dX0_image_30 rfl (lv_at hl 0 rfl) ?_
        refine lv_aload_n E.1 hb dX0_image_31 rfl (lv_at hl 0 rfl) ?_
        refine c_gN (k := 9) (f := 109) (q := 16) E hb hS ci_1 (sK hS (by decide) rfl) rfl rfl rfl (sRf hS (by decide) rfl) fk_X0_69_X0 (fun _ h => h) dX0_image_32 ?_
        refine c_gN (k := 2) (f := 602) (q := 17) E hb hS ci_6 (sK hS (by decide) rfl) rfl rfl rfl (sRf hS (by decide) rfl) fk_X0_202_X5 (fun _ h => h) dX0_image_35 ?_
        refine lv_iload_n E.1 hb dX0_image_38 rfl (lv_at hl 1 rfl) ?_
        obtain ⟨hg, hf⟩ := sI_s hf
        refine s_ld E hb hS (t := 31) ⟨by decide, rfl, rfl⟩ hg (Or.inl ⟨rfl, rfl⟩) dX0_image_39 ?_
        refine lv_iconst (v := 1) E.1 hb dX0_image_40 rfl ?_
        obtain ⟨_, A17, h1, hf⟩ := bd_s hf
        refine c_kv hS (va_runV ⟨E.1, hb, hml, E.2.1, E.2.2.1⟩ (zX0_writes h1) (cwV 2 E.2.2.1 gw_X0_380 rfl rfl rfl ⟨rfl, gnX0_writes⟩ ⟨Nat.le_of_ble_eq_true rfl, Nat.le_of_ble_eq_true rfl⟩) (c_preV E hS ci_1 (sK hS (by decide) rfl) (hS.1.lt (sK hS (by decide) rfl) rfl) _) rfl rfl hl.1 rfl (lv_room (Nat.le_of_ble_eq_true rfl)) dX0_image_41 ⟨Nat.le_refl 0, Nat.le_refl 0⟩) hS.2.2.2.2 (fun H locs hS hn => ?_)
        refine lv_iinc (v := (x1 + 1)) (lv' := [(1, .int (x1 + 1)), (0, .ref (ad 0))]) E.1 hb dX0_image_44 hl (k := 1) rfl rfl (by decide) rfl (fun ls hl => ?_)
        refine lv_goto (tgt := 19) E.1 hb dX0_image_47 (by decide) ?_
        exact hk19 A17 (x1 + 1) hf _ _ hS _ (lv_sub hl [1, 0] rfl)
  refine lv_aload_n E.1 hb dX0_image_0 rfl (lv_at hl 0 rfl) ?_
  refine lv_iconst (v := 0) E.1 hb dX0_image_1 rfl ?_
  obtain ⟨A1, hw, hf⟩ := lt2_s hf
  refine c_pI (k := 24) (f := 124) E hb hS ci_1 (sK hS (by decide) rfl) (hS.1.lt (sK hS (by decide) rfl) rfl) rfl rfl (Or.inl rfl) fk_X0_377_X0 (fun _ h => h) rfl rfl hw dX0_image_2 (fun H locs hS => ?_)
  refine lv_aload_n E.1 hb dX0_image_5 rfl (lv_at hl 0 rfl) ?_
  refine lv_aload_n E.1 hb dX0_image_6 rfl (lv_at hl 0 rfl) ?_
  refine c_gN (k := 9) (f := 109) (q := 16) E hb hS ci_1 (sK hS (by decide) rfl) rfl rfl rfl (sRf hS (by decide) rfl) fk_X0_69_X0 (fun _ h => h) dX0_image_7 ?_
  refine c_gI (k := 0) (f := 600) E hb hS ci_6 (sK hS (by decide) rfl) rfl rfl rfl fk_X0_213_X5 (fun _ h => h) dX0_image_10 ?_
  refine lv_iconst (v := 2) E.1 hb dX0_image_13 rfl ?_
  obtain ⟨_, A2, h1, hf⟩ := bd_s hf
  refine c_kv hS (va_runV ⟨E.1, hb, hml, E.2.1, E.2.2.1⟩ (zX0_writes h1) (cwV 2 E.2.2.1 gw_X0_380 rfl rfl rfl ⟨rfl, gnX0_writes⟩ ⟨Nat.le_of_ble_eq_true rfl, Nat.le_of_ble_eq_true rfl⟩) (c_preV E hS ci_1 (sK hS (by decide) rfl) (hS.1.lt (sK hS (by decide) rfl) rfl) _) rfl rfl hl.1 rfl (lv_room (Nat.le_of_ble_eq_true rfl)) dX0_image_14 ⟨Nat.le_refl 0, Nat.le_refl 0⟩) hS.2.2.2.2 (fun H locs hS hn => ?_)
  refine lv_iconst (v := 0) E.1 hb dX0_image_17 rfl ?_
  refine lv_istore_n (lv' := [(1, .int 0), (0, .ref (ad 0))]) E.1 hb dX0_image_18 rfl hl (by decide) rfl (fun ls hl => ?_)
  exact hL19 N A2 0 hf _ _ hS _ (lv_sub hl [1, 0] rfl)
/-! MarginFolk.octet(I)I: RO -/
noncomputable def X0_octet (A : AH) (x1 : Int32) : Option Int32 :=
  if x1 < 0 then (some (-1)) else (if x1 < (aI A 124 0 0) then (bo (sI 57 33 A 1100 x1) fun v1 => some (v1 &&& 255)) else (some (-1)))
abbrev rX0_octet : Room := { frames := 0, cells := 0, slots := 0, locals := 0 }
set_option maxHeartbeats 4000000 in
theorem zX0_octet {l : Launch} {dC : Nat → ClassId} {dI : Nat → Nat → Nat} {ac : Nat → ClassId} {ad : Nat → Nat} {A : AH} {x1 : Int32} {r : Int32} (hf : X0_octet A x1 = some r) : Met l yX0_octet (ws_ yX0_octet cX0_octet 2 (some .int)) { frames := 0, cells := 0, slots := 0, locals := 0 } (va_Pc [.ref (ad 0), .int x1] (cPre dC dI ac ad True A)) (cQi dC dI ac ad True (aN A) (aS A) (aN A) (aS A) r A) 0 0 (cF ad) := by
  unfold X0_octet at hf
  refine c_of ⟨Nat.le_refl _, Nat.le_refl _⟩ RX0 (plainFor_of_name (by decide)) rfl (Nat.le_of_ble_eq_true rfl) ?_
  intro p e s m args below meth c E hb hr hlk hnm hml hS ls hl
  have hl : lv_has ls 2 [(0, .ref (ad 0)), (1, .int x1)] := hl
  refine lv_iload_n E.1 hb dX0_octet_0 rfl (lv_at hl 1 rfl) ?_
  refine lv_if_lt (tgt := 12) E.1 hb dX0_octet_1 (by decide) (fun hc => ?_) (fun hc => ?_)
  · have hf := it_s hc hf
    refine lv_iconst (v := (-1)) E.1 hb dX0_octet_12 rfl ?_
    refine lv_goto (tgt := 26) E.1 hb dX0_octet_13 (by decide) ?_
    exact c_ir E hb hr hlk hS ⟨Nat.le_refl 0, Nat.le_refl 0⟩ (ro_s hf) dX0_octet_26
  · have hf := if_s hc hf
    refine lv_iload_n E.1 hb dX0_octet_4 rfl (lv_at hl 1 rfl) ?_
    refine lv_aload_n E.1 hb dX0_octet_5 rfl (lv_at hl 0 rfl) ?_
    refine c_gI (k := 24) (f := 124) E hb hS ci_1 (sK hS (by decide) rfl) rfl rfl rfl fk_X0_377_X0 (fun _ h => h) dX0_octet_6 ?_
    refine lv_icmp_lt (tgt := 16) E.1 hb dX0_octet_9 (by decide) (fun hc => ?_) (fun hc => ?_)
    · have hf := it_s hc hf
      refine lv_aload_n E.1 hb dX0_octet_16 rfl (lv_at hl 0 rfl) ?_
      refine c_gN (k := 23) (f := 123) (q := 1100) E hb hS ci_1 (sK hS (by decide) rfl) rfl rfl rfl (sRf hS (by decide) rfl) fk_X0_109_X0 (fun _ h => h) dX0_octet_17 ?_
      refine lv_iload_n E.1 hb dX0_octet_20 rfl (lv_at hl 1 rfl) ?_
      obtain ⟨hg, hf⟩ := sI_s hf
      refine s_ld E hb hS (t := 33) ⟨by decide, rfl, rfl⟩ hg (Or.inr (Or.inl ⟨rfl, rfl⟩)) dX0_octet_21 ?_
      refine lv_sipush (v := 255) E.1 hb dX0_octet_22 rfl ?_
      refine lv_iand E.1 hb dX0_octet_25 ?_
      exact c_ir E hb hr hlk hS ⟨Nat.le_refl 0, Nat.le_refl 0⟩ (ro_s hf) dX0_octet_26
    · have hf := if_s hc hf
      refine lv_iconst (v := (-1)) E.1 hb dX0_octet_12 rfl ?_
      refine lv_goto (tgt := 26) E.1 hb dX0_octet_13 (by decide) ?_
      exact c_ir E hb hr hlk hS ⟨Nat.le_refl 0, Nat.le_refl 0⟩ (ro_s hf) dX0_octet_26
/-! MarginFolk.twoAt(I)I: RO -/
noncomputable def X0_twoAt (A : AH) (x1 : Int32) : Option Int32 :=
  bo (X0_byteAt A x1) fun r1 => bo (X0_byteAt A (x1 + 1)) fun r2 => some ((r1 <<< (8 &&& 31)) ||| r2)
abbrev rX0_twoAt : Room := { frames := 1, cells := 0, slots := 0, locals := 21 }
set_option maxHeartbeats 4000000 in
theorem zX0_twoAt {l : Launch} {dC : Nat → ClassId} {dI : Nat → Nat → Nat} {ac : Nat → ClassId} {ad : Nat → Nat} {A : AH} {x1 : Int32} {r : Int32} (hf : X0_twoAt A x1 = some r) : Met l yX0_twoAt (ws_ yX0_twoAt cX0_twoAt 2 (some .int)) { frames := 1, cells := 0, slots := 0, locals := 21 } (va_Pc [.ref (ad 0), .int x1] (cPre dC dI ac ad True A)) (cQi dC dI ac ad True (aN A) (aS A) (aN A) (aS A) r A) 0 0 (cF ad) := by
  unfold X0_twoAt at hf
  refine c_of ⟨Nat.le_refl _, Nat.le_refl _⟩ RX0 (plainFor_of_name (by decide)) rfl (Nat.le_of_ble_eq_true rfl) ?_
  intro p e s m args below meth c E hb hr hlk hnm hml hS ls hl
  have hl : lv_has ls 2 [(0, .ref (ad 0)), (1, .int x1)] := hl
  refine lv_aload_n E.1 hb dX0_twoAt_0 rfl (lv_at hl 0 rfl) ?_
  refine lv_iload_n E.1 hb dX0_twoAt_1 rfl (lv_at hl 1 rfl) ?_
  obtain ⟨r1, h1, hf⟩ := bo_s hf
  refine c_ki hS (va_runV ⟨E.1, hb, hml, E.2.1, E.2.2.1⟩ (zX0_byteAt h1) (cwV 1 E.2.2.1 gw_X0_319 rfl rfl rfl ⟨rfl, gnX0_byteAt⟩ ⟨Nat.le_of_ble_eq_true rfl, Nat.le_of_ble_eq_true rfl⟩) (c_preV E hS ci_1 (sK hS (by decide) rfl) (hS.1.lt (sK hS (by decide) rfl) rfl) _) rfl rfl hl.1 rfl (lv_room (Nat.le_of_ble_eq_true rfl)) dX0_twoAt_2 ⟨Nat.le_refl 0, Nat.le_refl 0⟩) hS.2.2.2.2 (fun H locs hS hn => ?_)
  refine lv_bipush (v := 8) E.1 hb dX0_twoAt_5 rfl ?_
  refine lv_ishl E.1 hb dX0_twoAt_7 ?_
  refine lv_aload_n E.1 hb dX0_twoAt_8 rfl (lv_at hl 0 rfl) ?_
  refine lv_iload_n E.1 hb dX0_twoAt_9 rfl (lv_at hl 1 rfl) ?_
  refine lv_iconst (v := 1) E.1 hb dX0_twoAt_10 rfl ?_
  refine lv_iadd E.1 hb dX0_twoAt_11 ?_
  obtain ⟨r2, h1, hf⟩ := bo_s hf
  refine c_ki hS (va_runV ⟨E.1, hb, hml, E.2.1, E.2.2.1⟩ (zX0_byteAt h1) (cwV 1 E.2.2.1 gw_X0_319 rfl rfl rfl ⟨rfl, gnX0_byteAt⟩ ⟨Nat.le_of_ble_eq_true rfl, Nat.le_of_ble_eq_true rfl⟩) (c_preV E hS ci_1 (sK hS (by decide) rfl) (hS.1.lt (sK hS (by decide) rfl) rfl) _) rfl rfl hl.1 rfl (lv_room (Nat.le_of_ble_eq_true rfl)) dX0_twoAt_12 ⟨Nat.le_refl 0, Nat.le_refl 0⟩) hS.2.2.2.2 (fun H locs hS hn => ?_)
  refine lv_ior E.1 hb dX0_twoAt_15 ?_
  exact c_ir E hb hr hlk hS ⟨Nat.le_refl 0, Nat.le_refl 0⟩ (ro_s hf) dX0_twoAt_16
theorem gw_X0_387 : GoodIn lw_all (wsV RX0 387 RX0 yX0_twoAt (ws_ yX0_twoAt cX0_twoAt 2 (some .int))) := lw_V q1664 q1666 qs59 q152 q1667
theorem gnX0_twoAt : yX0_twoAt.cls ≠ "java/lang/invoke/MethodHandle" ∧ yX0_twoAt.cls ≠ "java/lang/invoke/VarHandle" ∧ (parseMethodDescriptor yX0_twoAt.desc).map (fun d => d.parameters.length) = some 1 := by decide +kernel
/-! MarginFolk.beingOn(II)Z: RW -/
noncomputable def X0_beingOn_b84 (N : Nat) (x1 : Int32) (x2 : Int32) (k47 : AH → Int32 → Int32 → Int32 → Option (Int32 × AH)) (A : AH) (x3 : Int32) (x4 : Int32) (x5 : Int32) : Option (Int32 × AH) :=
  k47 A x3 x4 (x5 + 1)
noncomputable def X0_beingOn_b47 (N : Nat) (x1 : Int32) (x2 : Int32) (k47 : AH → Int32 → Int32 → Int32 → Option (Int32 × AH)) (A : AH) (x3 : Int32) (x4 : Int32) (x5 : Int32) : Option (Int32 × AH) :=
  if x1 ≤ x5 then (bo (tI 8 31 A 66 x1 x3) fun A6 => bo (tI 8 31 A6 67 x1 x4) fun A7 => bo (X0_twoAt A7 (x2 + 2)) fun r8 => bo (tI 8 31 A7 68 x1 r8) fun A9 => bo (X0_twoAt A9 (x2 + 4)) fun r10 => bo (tI 8 31 A9 69 x1 r10) fun A11 => bo (sI 8 31 A11 68 x1) fun v12 => if 9999 < v12 then (some (0, A11)) else (bo (sI 8 31 A11 69 x1) fun v13 => if 9999 < v13 then (some (0, A11)) else (some (1, A11)))) else (bo (sI 8 31 A 66 x5) fun v14 => if v14 = x3 then (bo (sI 8 31 A 67 x5) fun v15 => if v15 = x4 then (some (0, A)) else (X0_beingOn_b84 N x1 x2 k47 A x3 x4 x5)) else (X0_beingOn_b84 N x1 x2 k47 A x3 x4 x5))
noncomputable def X0_beingOn (N : Nat) (A0 : AH) (x1 : Int32) (x2 : Int32) : Option (Int32 × AH) :=
  bo (X0_byteAt A0 x2) fun r1 => bo (X0_byteAt A0 (x2 + 1)) fun r2 => bo (X0_isCell A0 r1 r2) fun r3 => if r3 = 0 then (some (0, A0)) else (bo (sI 6 31 A0 65 r1) fun v4 => bo (X0_has v4 r2) fun r5 => if r5 = 0 then (rn4 (X0_beingOn_b47 N x1 x2) N A0 r1 r2 0) else (some (0, A0)))
abbrev rX0_beingOn : Room := { frames := 2, cells := 0, slots := 0, locals := 44 }
set_option maxHeartbeats 4000000 in
theorem zX0_beingOn {l : Launch} {dC : Nat → ClassId} {dI : Nat → Nat → Nat} {ac : Nat → ClassId} {ad : Nat → Nat} {N : Nat} {A0 : AH} {x1 : Int32} {x2 : Int32} {r : Int32} {A' : AH} (hf : X0_beingOn N A0 x1 x2 = some (r, A')) : Met l yX0_beingOn (ws_ yX0_beingOn cX0_beingOn 6 (some .boolean)) { frames := 2, cells := 0, slots := 0, locals := 44 } (va_Pc [.ref (ad 0), .int x1, .int x2] (cPre dC dI ac ad True A0)) (cQi dC dI ac ad True (aN A0) (aS A0) (aN A0) (aS A0) r A') 0 0 (cF ad) := by
  unfold X0_beingOn at hf
  refine c_of ⟨Nat.le_refl _, Nat.le_refl _⟩ RX0 (plainFor_of_name (by decide)) rfl (Nat.le_of_ble_eq_true rfl) ?_
  intro p e s m args below meth c E hb hr hlk hnm hml hS ls hl
  have hl : lv_has ls 6 [(0, .ref (ad 0)), (1, .int x1), (2, .int x2)] := hl
  have hB84 : ∀ (k47 : AH → Int32 → Int32 → Int32 → Option (Int32 × AH)) (hk47 : ∀ (A : AH) (x3 : Int32) (x4 : Int32) (x5 : Int32), k47 A x3 x4 x5 = some (r, A') → ∀ (H : Heap) (locs : List Loc), cS dC dI ac ad True s.heap (aN A0) (aS A0) (aN A0) (aS A0) A H locs → ∀ (ls : Array Slot), lv_has ls 6 [(0, .ref (ad 0)), (1, .int x1), (2, .int x2), (3, .int x3), (4, .int x4), (5, .int x5)] → W p l e rX0_beingOn s m args below meth c H locs 0 0 (MQ below (cQi dC dI ac ad True (aN A0) (aS A0) (aN A0) (aS A0) r A') args s 0 0 (cF ad)) (F0 m 47 ls [])) (A : AH) (x3 : Int32) (x4 : Int32) (x5 : Int32), X0_beingOn_b84 N x1 x2 k47 A x3 x4 x5 = some (r, A') → ∀ (H : Heap) (locs : List Loc), cS dC dI ac ad True s.heap (aN A0) (aS A0) (aN A0) (aS A0) A H locs → ∀ (ls : Array Slot), lv_has ls 6 [(0, .ref (ad 0)), (1, .int x1), (2, .int x2), (3, .int x3), (4, .int x4), (5, .int x5)] → W p l e rX0_beingOn s m args below meth c H locs 0 0 (MQ below (cQi dC dI ac ad True (aN A0) (aS A0) (aN A0) (aS A0) r A') args s 0 0 (cF ad)) (F0 m 84 ls []) := by
    intro k47 hk47 A x3 x4 x5 hf H locs hS ls hl
    unfold X0_beingOn_b84 at hf
    refine lv_iinc (v := (x5 + 1)) (lv' := [(5, .int (x5 + 1)), (0, .ref (ad 0)), (1, .int x1), (2, .int x2), (3, .int x3), (4, .int x4)]) E.1 hb dX0_beingOn_84 hl (k := 5) rfl rfl (by decide) rfl (fun ls hl => ?_)
    refine lv_goto (tgt := 47) E.1 hb dX0_beingOn_87 (by decide) ?_
    exact hk47 A x3 x4 (x5 + 1) hf _ _ hS _ (lv_sub hl [1, 2, 3, 4, 5, 0] rfl)
  have hL47 : ∀ (n : Nat) (A : AH) (x3 : Int32) (x4 : Int32) (x5 : Int32), rn4 (X0_beingOn_b47 N x1 x2) n A x3 x4 x5 = some (r, A') → ∀ (H : Heap) (locs : List Loc), cS dC dI ac ad True s.heap (aN A0) (aS A0) (aN A0) (aS A0) A H locs → ∀ (ls : Array Slot), lv_has ls 6 [(0, .ref (ad 0)), (1, .int x1), (2, .int x2), (3, .int x3), (4, .int x4), (5, .int x5)] → W p l e rX0_beingOn s m args below meth c H locs 0 0 (MQ below (cQi dC dI ac ad True (aN A0) (aS A0) (aN A0) (aS A0) r A') args s 0 0 (cF ad)) (F0 m 47 ls []) := by
    intro  n
    induction n with
    | zero =>
      intro A x3 x4 x5 hf
      cases hf
    | succ n ih =>
      intro A x3 x4 x5 hf H locs hS ls hl
      have hf : X0_beingOn_b47 N x1 x2 (rn4 (X0_beingOn_b47 N x1 x2) n) A x3 x4 x5 = some (r, A') := hf
      have hk47 := ih
      generalize rn4 (X0_beingOn_b47 N x1 x2) n = k47 at hf hk47
      unfold X0_beingOn_b47 at hf
      refine lv_iload E.1 hb dX0_beingOn_47 (lv_at hl 5 rfl) ?_
      refine lv_iload_n E.1 hb dX0_beingOn_49 rfl (lv_at hl 1 rfl) ?_
      refine lv_icmp_ge (tgt := 90) E.1 hb dX0_beingOn_50 (by decide) (fun hc => ?_) (fun hc => ?_)
      · have hf := it_s hc hf
        refine lv_aload_n E.1 hb dX0_beingOn_90 rfl (lv_at hl 0 rfl) ?_
        refine c_gN (k := 10) (f := 110) (q := 64) E hb hS ci_1 (sK hS (by decide) rfl) rfl rfl rfl (sRf hS (by decide) rfl) fk_X0_73_X0 (fun _ h => h) dX0_beingOn_91 ?_
        refine c_gN (k := 3) (f := 603) (q := 66) E hb hS ci_6 (sK hS (by decide) rfl) rfl rfl rfl (sRf hS (by decide) rfl) fk_X0_236_X5 (fun _ h => h) dX0_beingOn_94 ?_
        refine lv_iload_n E.1 hb dX0_beingOn_97 rfl (lv_at hl 1 rfl) ?_
        refine lv_iload_n E.1 hb dX0_beingOn_98 rfl (lv_at hl 3 rfl) ?_
        obtain ⟨A6, hg, hw, hf⟩ := tI_s hf
        refine s_st E hb hS (t := 31) ⟨by decide, rfl, rfl⟩ hg (Or.inl ⟨rfl, rfl, rfl⟩) hw dX0_beingOn_99 (fun H locs hS => ?_)
        refine lv_aload_n E.1 hb dX0_beingOn_100 rfl (lv_at hl 0 rfl) ?_
        refine c_gN (k := 10) (f := 110) (q := 64) E hb hS ci_1 (sK hS (by decide) rfl) rfl rfl rfl (sRf hS (by decide) rfl) fk_X0_73_X0 (fun _ h => h) dX0_beingOn_101 ?_
        refine c_gN (k := 4) (f := 604) (q := 67) E hb hS ci_6 (sK hS (by decide) rfl) rfl rfl rfl (sRf hS (by decide) rfl) fk_X0_239_X5 (fun _ h => h) dX0_beingOn_104 ?_
        refine lv_iload_n E.1 hb dX0_beingOn_107 rfl (lv_at hl 1 rfl) ?_
        refine lv_iload E.1 hb dX0_beingOn_108 (lv_at hl 4 rfl) ?_
        obtain ⟨A7, hg, hw, hf⟩ := tI_s hf
        refine s_st E hb hS (t := 31) ⟨by decide, rfl, rfl⟩ hg (Or.inl ⟨rfl, rfl, rfl⟩) hw dX0_beingOn_110 (fun H locs hS => ?_)
        refine lv_aload_n E.1 hb dX0_beingOn_111 rfl (lv_at hl 0 rfl) ?_
        refine c_gN (k := 10) (f := 110) (q := 64) E hb hS ci_1 (sK hS (by decide) rfl) rfl rfl rfl (sRf hS (by decide) rfl) fk_X0_73_X0 (fun _ h => h) dX0_beingOn_112 ?_
        refine c_gN (k := 5) (f := 605) (q := 68) E hb hS ci_6 (sK hS (by decide) rfl) rfl rfl rfl (sRf hS (by decide) rfl) fk_X0_245_X5 (fun _ h => h) dX0_beingOn_115 ?_
        refine lv_iload_n E.1 hb dX0_beingOn_118 rfl (lv_at hl 1 rfl) ?_
        refine lv_aload_n E.1 hb dX0_beingOn_119 rfl (lv_at hl 0 rfl) ?_
        refine lv_iload_n E.1 hb dX0_beingOn_120 rfl (lv_at hl 2 rfl) ?_
        refine lv_iconst (v := 2) E.1 hb dX0_beingOn_121 rfl ?_
        refine lv_iadd E.1 hb dX0_beingOn_122 ?_
        obtain ⟨r8, h1, hf⟩ := bo_s hf
        refine c_ki hS (va_runV ⟨E.1, hb, hml, E.2.1, E.2.2.1⟩ (zX0_twoAt h1) (cwV 1 E.2.2.1 gw_X0_387 rfl rfl rfl ⟨rfl, gnX0_twoAt⟩ ⟨Nat.le_of_ble_eq_true rfl, Nat.le_of_ble_eq_true rfl⟩) (c_preV E hS ci_1 (sK hS (by decide) rfl) (hS.1.lt (sK hS (by decide) rfl) rfl) _) rfl rfl hl.1 rfl (lv_room (Nat.le_of_ble_eq_true rfl)) dX0_beingOn_123 ⟨Nat.le_refl 0, Nat.le_refl 0⟩) hS.2.2.2.2 (fun H locs hS hn => ?_)
        obtain ⟨A9, hg, hw, hf⟩ := tI_s hf
        refine s_st E hb hS (t := 31) ⟨by decide, rfl, rfl⟩ hg (Or.inl ⟨rfl, rfl, rfl⟩) hw dX0_beingOn_126 (fun H locs hS => ?_)
        refine lv_aload_n E.1 hb dX0_beingOn_127 rfl (lv_at hl 0 rfl) ?_
        refine c_gN (k := 10) (f := 110) (q := 64) E hb hS ci_1 (sK hS (by decide) rfl) rfl rfl rfl (sRf hS (by decide) rfl) fk_X0_73_X0 (fun _ h => h) dX0_beingOn_128 ?_
        refine c_gN (k := 6) (f := 606) (q := 69) E hb hS ci_6 (sK hS (by decide) rfl) rfl rfl rfl (sRf hS (by decide) rfl) fk_X0_248_X5 (fun _ h => h) dX0_beingOn_131 ?_
        refine lv_iload_n E.1 hb dX0_beingOn_134 rfl (lv_at hl 1 rfl) ?_
        refine lv_aload_n E.1 hb dX0_beingOn_135 rfl (lv_at hl 0 rfl) ?_
        refine lv_iload_n E.1 hb dX0_beingOn_136 rfl (lv_at hl 2 rfl) ?_
        refine lv_iconst (v := 4) E.1 hb dX0_beingOn_137 rfl ?_
        refine lv_iadd E.1 hb dX0_beingOn_138 ?_
        obtain ⟨r10, h1, hf⟩ := bo_s hf
        refine c_ki hS (va_runV ⟨E.1, hb, hml, E.2.1, E.2.2.1⟩ (zX0_twoAt h1) (cwV 1 E.2.2.1 gw_X0_387 rfl rfl rfl ⟨rfl, gnX0_twoAt⟩ ⟨Nat.le_of_ble_eq_true rfl, Nat.le_of_ble_eq_true rfl⟩) (c_preV E hS ci_1 (sK hS (by decide) rfl) (hS.1.lt (sK hS (by decide) rfl) rfl) _) rfl rfl hl.1 rfl (lv_room (Nat.le_of_ble_eq_true rfl)) dX0_beingOn_139 ⟨Nat.le_refl 0, Nat.le_refl 0⟩) hS.2.2.2.2 (fun H locs hS hn => ?_)
        obtain ⟨A11, hg, hw, hf⟩ := tI_s hf
        refine s_st E hb hS (t := 31) ⟨by decide, rfl, rfl⟩ hg (Or.inl ⟨rfl, rfl, rfl⟩) hw dX0_beingOn_142 (fun H locs hS => ?_)
        refine lv_aload_n E.1 hb dX0_beingOn_143 rfl (lv_at hl 0 rfl) ?_
        refine c_gN (k := 10) (f := 110) (q := 64) E hb hS ci_1 (sK hS (by decide) rfl) rfl rfl rfl (sRf hS (by decide) rfl) fk_X0_73_X0 (fun _ h => h) dX0_beingOn_144 ?_
        refine c_gN (k := 5) (f := 605) (q := 68) E hb hS ci_6 (sK hS (by decide) rfl) rfl rfl rfl (sRf hS (by decide) rfl) fk_X0_245_X5 (fun _ h => h) dX0_beingOn_147 ?_
        refine lv_iload_n E.1 hb dX0_beingOn_150 rfl (lv_at hl 1 rfl) ?_
        obtain ⟨hg, hf⟩ := sI_s hf
        refine s_ld E hb hS (t := 31) ⟨by decide, rfl, rfl⟩ hg (Or.inl ⟨rfl, rfl⟩) dX0_beingOn_151 ?_
        refine lv_sipush (v := 9999) E.1 hb dX0_beingOn_152 rfl ?_
        refine lv_icmp_gt (tgt := 177) E.1 hb dX0_beingOn_155 (by decide) (fun hc => ?_) (fun hc => ?_)
        · have hf := it_s hc hf
          refine lv_iconst (v := 0) E.1 hb dX0_beingOn_177 rfl ?_
          exact c_zr (ty := .boolean) E hb hr hlk hS ⟨Nat.le_refl 0, Nat.le_refl 0⟩ rfl hf dX0_beingOn_178
        · have hf := if_s hc hf
          refine lv_aload_n E.1 hb dX0_beingOn_158 rfl (lv_at hl 0 rfl) ?_
          refine c_gN (k := 10) (f := 110) (q := 64) E hb hS ci_1 (sK hS (by decide) rfl) rfl rfl rfl (sRf hS (by decide) rfl) fk_X0_73_X0 (fun _ h => h) dX0_beingOn_159 ?_
          refine c_gN (k := 6) (f := 606) (q := 69) E hb hS ci_6 (sK hS (by decide) rfl) rfl rfl rfl (sRf hS (by decide) rfl) fk_X0_248_X5 (fun _ h => h) dX0_beingOn_162 ?_
          refine lv_iload_n E.1 hb dX0_beingOn_165 rfl (lv_at hl 1 rfl) ?_
          obtain ⟨hg, hf⟩ := sI_s hf
          refine s_ld E hb hS (t := 31) ⟨by decide, rfl, rfl⟩ hg (Or.inl ⟨rfl, rfl⟩) dX0_beingOn_166 ?_
          refine lv_sipush (v := 9999) E.1 hb dX0_beingOn_167 rfl ?_
          refine lv_icmp_gt (tgt := 177) E.1 hb dX0_beingOn_170 (by decide) (fun hc => ?_) (fun hc => ?_)
          · have hf := it_s hc hf
            refine lv_iconst (v := 0) E.1 hb dX0_beingOn_177 rfl ?_
            exact c_zr (ty := .boolean) E hb hr hlk hS ⟨Nat.le_refl 0, Nat.le_refl 0⟩ rfl hf dX0_beingOn_178
          · have hf := if_s hc hf
            refine lv_iconst (v := 1) E.1 hb dX0_beingOn_173 rfl ?_
            refine lv_goto (tgt := 178) E.1 hb dX0_beingOn_174 (by decide) ?_
            exact c_zr (ty := .boolean) E hb hr hlk hS ⟨Nat.le_refl 0, Nat.le_refl 0⟩ rfl hf dX0_beingOn_178
      · have hf := if_s hc hf
        refine lv_aload_n E.1 hb dX0_beingOn_53 rfl (lv_at hl 0 rfl) ?_
        refine c_gN (k := 10) (f := 110) (q := 64) E hb hS ci_1 (sK hS (by decide) rfl) rfl rfl rfl (sRf hS (by decide) rfl) fk_X0_73_X0 (fun _ h => h) dX0_beingOn_54 ?_
        refine c_gN (k := 3) (f := 603) (q := 66) E hb hS ci_6 (sK hS (by decide) rfl) rfl rfl rfl (sRf hS (by decide) rfl) fk_X0_236_X5 (fun _ h => h) dX0_beingOn_57 ?_
        refine lv_iload E.1 hb dX0_beingOn_60 (lv_at hl 5 rfl) ?_
        obtain ⟨hg, hf⟩ := sI_s hf
        refine s_ld E hb hS (t := 31) ⟨by decide, rfl, rfl⟩ hg (Or.inl ⟨rfl, rfl⟩) dX0_beingOn_62 ?_
        refine lv_iload_n E.1 hb dX0_beingOn_63 rfl (lv_at hl 3 rfl) ?_
        refine lv_icmp_ne (tgt := 84) E.1 hb dX0_beingOn_64 (by decide) (fun hc => ?_) (fun hc => ?_)
        · have hf := if_s hc hf
          exact hB84 k47 hk47 A x3 x4 x5 hf _ _ hS _ (lv_sub hl [0, 1, 2, 3, 4, 5] rfl)
        · have hf := it_s hc hf
          refine lv_aload_n E.1 hb dX0_beingOn_67 rfl (lv_at hl 0 rfl) ?_
          refine c_gN (k := 10) (f := 110) (q := 64) E hb hS ci_1 (sK hS (by decide) rfl) rfl rfl rfl (sRf hS (by decide) rfl) fk_X0_73_X0 (fun _ h => h) dX0_beingOn_68 ?_
          refine c_gN (k := 4) (f := 604) (q := 67) E hb hS ci_6 (sK hS (by decide) rfl) rfl rfl rfl (sRf hS (by decide) rfl) fk_X0_239_X5 (fun _ h => h) dX0_beingOn_71 ?_
          refine lv_iload E.1 hb dX0_beingOn_74 (lv_at hl 5 rfl) ?_
          obtain ⟨hg, hf⟩ := sI_s hf
          refine s_ld E hb hS (t := 31) ⟨by decide, rfl, rfl⟩ hg (Or.inl ⟨rfl, rfl⟩) dX0_beingOn_76 ?_
          refine lv_iload E.1 hb dX0_beingOn_77 (lv_at hl 4 rfl) ?_
          refine lv_icmp_ne (tgt := 84) E.1 hb dX0_beingOn_79 (by decide) (fun hc => ?_) (fun hc => ?_)
          · have hf := if_s hc hf
            exact hB84 k47 hk47 A x3 x4 x5 hf _ _ hS _ (lv_sub hl [0, 1, 2, 3, 4, 5] rfl)
          · have hf := it_s hc hf
            refine lv_iconst (v := 0) E.1 hb dX0_beingOn_82 rfl ?_
            exact c_zr (ty := .boolean) E hb hr hlk hS ⟨Nat.le_refl 0, Nat.le_refl 0⟩ rfl hf dX0_beingOn_83
  refine lv_aload_n E.1 hb dX0_beingOn_0 rfl (lv_at hl 0 rfl) ?_
  refine lv_iload_n E.1 hb dX0_beingOn_1 rfl (lv_at hl 2 rfl) ?_
  obtain ⟨r1, h1, hf⟩ := bo_s hf
  refine c_ki hS (va_runV ⟨E.1, hb, hml, E.2.1, E.2.2.1⟩ (zX0_byteAt h1) (cwV 1 E.2.2.1 gw_X0_319 rfl rfl rfl ⟨rfl, gnX0_byteAt⟩ ⟨Nat.le_of_ble_eq_true rfl, Nat.le_of_ble_eq_true rfl⟩) (c_preV E hS ci_1 (sK hS (by decide) rfl) (hS.1.lt (sK hS (by decide) rfl) rfl) _) rfl rfl hl.1 rfl (lv_room (Nat.le_of_ble_eq_true rfl)) dX0_beingOn_2 ⟨Nat.le_refl 0, Nat.le_refl 0⟩) hS.2.2.2.2 (fun H locs hS hn => ?_)
  refine lv_istore_n (lv' := [(3, .int r1), (0, .ref (ad 0)), (1, .int x1), (2, .int x2)]) E.1 hb dX0_beingOn_5 rfl hl (by decide) rfl (fun ls hl => ?_)
  refine lv_aload_n E.1 hb dX0_beingOn_6 rfl (lv_at hl 1 rfl) ?_
  refine lv_iload_n E.1 hb dX0_beingOn_7 rfl (lv_at hl 3 rfl) ?_
  refine lv_iconst (v := 1) E.1 hb dX0_beingOn_8 rfl ?_
  refine lv_iadd E.1 hb dX0_beingOn_9 ?_
  obtain ⟨r2, h1, hf⟩ := bo_s hf
  refine c_ki hS (va_runV ⟨E.1, hb, hml, E.2.1, E.2.2.1⟩ (zX0_byteAt h1) (cwV 1 E.2.2.1 gw_X0_319 rfl rfl rfl ⟨rfl, gnX0_byteAt⟩ ⟨Nat.le_of_ble_eq_true rfl, Nat.le_of_ble_eq_true rfl⟩) (c_preV E hS ci_1 (sK hS (by decide) rfl) (hS.1.lt (sK hS (by decide) rfl) rfl) _) rfl rfl hl.1 rfl (lv_room (Nat.le_of_ble_eq_true rfl)) dX0_beingOn_10 ⟨Nat.le_refl 0, Nat.le_refl 0⟩) hS.2.2.2.2 (fun H locs hS hn => ?_)
  refine lv_istore (lv' := [(4, .int r2), (3, .int r1), (0, .ref (ad 0)), (1, .int x1), (2, .int x2)]) E.1 hb dX0_beingOn_13 hl (by decide) rfl (fun ls hl => ?_)
  refine lv_aload_n E.1 hb dX0_beingOn_15 rfl (lv_at hl 2 rfl) ?_
  refine lv_iload_n E.1 hb dX0_beingOn_16 rfl (lv_at hl 1 rfl) ?_
  refine lv_iload E.1 hb dX0_beingOn_17 (lv_at hl 0 rfl) ?_
  obtain ⟨r3, h1, hf⟩ := bo_s hf
  refine c_ki hS (va_runV ⟨E.1, hb, hml, E.2.1, E.2.2.1⟩ (zX0_isCell h1) (cwV 2 E.2.2.1 gw_X0_251 rfl rfl rfl ⟨rfl, gnX0_isCell⟩ ⟨Nat.le_of_ble_eq_true rfl, Nat.le_of_ble_eq_true rfl⟩) (c_preV E hS ci_1 (sK hS (by decide) rfl) (hS.1.lt (sK hS (by decide) rfl) rfl) _) rfl rfl hl.1 rfl (lv_room (Nat.le_of_ble_eq_true rfl)) dX0_beingOn_19 ⟨Nat.le_refl 0, Nat.le_refl 0⟩) hS.2.2.2.2 (fun H locs hS hn => ?_)
  refine lv_if_eq (tgt := 42) E.1 hb dX0_beingOn_22 (by decide) (fun hc => ?_) (fun hc => ?_)
  · have hf := it_s hc hf
    refine lv_iconst (v := 0) E.1 hb dX0_beingOn_42 rfl ?_
    exact c_zr (ty := .boolean) E hb hr hlk hS ⟨Nat.le_refl 0, Nat.le_refl 0⟩ rfl hf dX0_beingOn_43
  · have hf := if_s hc hf
    refine lv_aload_n E.1 hb dX0_beingOn_25 rfl (lv_at hl 2 rfl) ?_
    refine c_gN (k := 10) (f := 110) (q := 64) E hb hS ci_1 (sK hS (by decide) rfl) rfl rfl rfl (sRf hS (by decide) rfl) fk_X0_73_X0 (fun _ h => h) dX0_beingOn_26 ?_
    refine c_gN (k := 2) (f := 602) (q := 65) E hb hS ci_6 (sK hS (by decide) rfl) rfl rfl rfl (sRf hS (by decide) rfl) fk_X0_202_X5 (fun _ h => h) dX0_beingOn_29 ?_
    refine lv_iload_n E.1 hb dX0_beingOn_32 rfl (lv_at hl 1 rfl) ?_
    obtain ⟨hg, hf⟩ := sI_s hf
    refine s_ld E hb hS (t := 31) ⟨by decide, rfl, rfl⟩ hg (Or.inl ⟨rfl, rfl⟩) dX0_beingOn_33 ?_
    refine lv_iload E.1 hb dX0_beingOn_34 (lv_at hl 0 rfl) ?_
    obtain ⟨r5, h1, hf⟩ := bo_s hf
    refine c_ki hS (va_runS ⟨E.1, hb, hml, E.2.1, E.2.2.1⟩ (zX0_has h1) (va_cwS 2 E.2.2.1 gw_X0_254 rfl rfl rfl gnX0_has ⟨Nat.le_of_ble_eq_true rfl, Nat.le_of_ble_eq_true rfl⟩) (c_preS E hS _) rfl rfl hl.1 rfl (lv_room (Nat.le_of_ble_eq_true rfl)) dX0_beingOn_36 ⟨Nat.le_refl 0, Nat.le_refl 0⟩) hS.2.2.2.2 (fun H locs hS hn => ?_)
    refine lv_if_eq (tgt := 44) E.1 hb dX0_beingOn_39 (by decide) (fun hc => ?_) (fun hc => ?_)
    · have hf := it_s hc hf
      refine lv_iconst (v := 0) E.1 hb dX0_beingOn_44 rfl ?_
      refine lv_istore (lv' := [(5, .int 0), (4, .int r2), (3, .int r1), (0, .ref (ad 0)), (1, .int x1), (2, .int x2)]) E.1 hb dX0_beingOn_45 hl (by decide) rfl (fun ls hl => ?_)
      exact hL47 N A0 r1 r2 0 hf _ _ hS _ (lv_sub hl [3, 4, 5, 2, 1, 0] rfl)
    · have hf := if_s hc hf
      refine lv_iconst (v := 0) E.1 hb dX0_beingOn_42 rfl ?_
      exact c_zr (ty := .boolean) E hb hr hlk hS ⟨Nat.le_refl 0, Nat.le_refl 0⟩ rfl hf dX0_beingOn_43
