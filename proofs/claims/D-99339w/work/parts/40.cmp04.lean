set_option maxRecDepth 100000
theorem gw_X0_390 : GoodIn lw_all (wsV RX0 390 RX0 yX0_beingOn (ws_ yX0_beingOn cX0_beingOn 6 (some .boolean))) := lw_V q1668 q1670 qs60 q152 q1671
theorem gnX0_beingOn : yX0_beingOn.cls ≠ "java/lang/invoke/MethodHandle" ∧ yX0_beingOn.cls ≠ "java/lang/invoke/VarHandle" ∧ (parseMethodDescriptor yX0_beingOn.desc).map (fun d => d.parameters.length) = some 2 := by decide +kernel
/-! MarginFolk.on()Z: RW -/
noncomputable def X0_on_b208 (N : Nat) (A : AH) (x3 : Int32) : Option (Int32 × AH) :=
  if x3 = 0 then (bd (X0_refuses A 5) fun r19 A20 => if r19 < 0 then (some (0, A20)) else (some (1, A20))) else (bd (X5_copy N A 16 64) fun r15 A16 => bo r15 fun q17 => lt2 (wI A16 120 0 0 0) fun A18 => some (1, A18))
noncomputable def X0_on_b175 (N : Nat) (k175 : AH → Int32 → Int32 → Int32 → Option (Int32 × AH)) (A : AH) (x2 : Int32) (x3 : Int32) (x4 : Int32) : Option (Int32 × AH) :=
  bo (X0_beings A) fun r14 => if r14 ≤ x4 then (X0_on_b208 N A x3) else (if x3 = 0 then (X0_on_b208 N A x3) else (bd (X0_beingOn N A x4 (x2 + (6 * x4))) fun r21 A22 => k175 A22 x2 r21 (x4 + 1)))
noncomputable def X0_on_b172 (N : Nat) (A : AH) (x2 : Int32) (x3 : Int32) : Option (Int32 × AH) :=
  rn4 (X0_on_b175 N) N A x2 x3 0
noncomputable def X0_on_b165 (N : Nat) (k104 : AH → Int32 → Int32 → Int32 → Option (Int32 × AH)) (A : AH) (x2 : Int32) (x4 : Int32) (y0 : Int32) : Option (Int32 × AH) :=
  k104 A x2 y0 (x4 + 1)
noncomputable def X0_on_b104 (N : Nat) (k104 : AH → Int32 → Int32 → Int32 → Option (Int32 × AH)) (A : AH) (x2 : Int32) (x3 : Int32) (x4 : Int32) : Option (Int32 × AH) :=
  bo (aR A 100 0 0) fun q12 => bo (gI 2 A 201 q12) fun v13 => if v13 ≤ x4 then (X0_on_b172 N A x2 x3) else (if x3 = 0 then (X0_on_b172 N A x2 x3) else (bo (X0_byteAt A (2 + x4)) fun r23 => bo (tI 6 31 A 65 x4 r23) fun A24 => bo (sI 6 31 A24 65 x4) fun v25 => bo (aR A24 100 0 0) fun q26 => bo (gI 2 A24 202 q26) fun v27 => if (1 <<< (v27 &&& 31)) ≤ v25 then (X0_on_b165 N k104 A24 x2 x4 0) else (X0_on_b165 N k104 A24 x2 x4 1)))
noncomputable def X0_on_b73 (N : Nat) (A : AH) (x2 : Int32) (y0 : Int32) : Option (Int32 × AH) :=
  bd (X5_copy N A 64 16) fun r6 A7 => bo r6 fun q8 => bo (X0_twoAt A7 0) fun r9 => bo (pI 6 A7 600 q8 r9) fun A10 => lt2 (wI A10 601 64 0 0) fun A11 => rn4 (X0_on_b104 N) N A11 x2 y0 0
noncomputable def X0_on_b72 (N : Nat) (A : AH) (x2 : Int32) : Option (Int32 × AH) :=
  X0_on_b73 N A x2 0
noncomputable def X0_on (N : Nat) (A0 : AH) : Option (Int32 × AH) :=
  bd (X0_taken A0) fun r1 A2 => bo (aR A2 100 0 0) fun q3 => bo (gI 2 A2 201 q3) fun v4 => bo (X0_isFolio A2) fun r5 => if r5 = 0 then (X0_on_b72 N A2 (2 + v4)) else (bo (X0_beings A2) fun r28 => if r1 = (((2 + v4) + (6 * r28)) + 1) then (bo (X0_byteAt A2 (r1 - 1)) fun r29 => bo (X0_check N A2 8 (r1 - 1)) fun r30 => if r29 = r30 then (bo (X0_twoAt A2 0) fun r31 => if 999 < r31 then (X0_on_b72 N A2 (2 + v4)) else (X0_on_b73 N A2 (2 + v4) 1)) else (X0_on_b72 N A2 (2 + v4))) else (X0_on_b72 N A2 (2 + v4)))
abbrev rX0_on : Room := { frames := 3, cells := 0, slots := 0, locals := 69 }
set_option maxHeartbeats 4000000 in
theorem zX0_on {l : Launch} {dC : Nat → ClassId} {dI : Nat → Nat → Nat} {ac : Nat → ClassId} {ad : Nat → Nat} {N : Nat} {A0 : AH} {r : Int32} {A' : AH} (hf : X0_on N A0 = some (r, A')) : Met l yX0_on (ws_ yX0_on cX0_on 5 (some .boolean)) { frames := 3, cells := 0, slots := 0, locals := 69 } (va_Pc [.ref (ad 0)] (cPre dC dI ac ad True A0)) (cQi dC dI ac ad True (aN A0) (aS A0) (aN A0) (aS A0) r A') 0 0 (cF ad) := by
  unfold X0_on at hf
  refine c_of ⟨Nat.le_refl _, Nat.le_refl _⟩ RX0 (plainFor_of_name (by decide)) rfl (Nat.le_of_ble_eq_true rfl) ?_
  intro p e s m args below meth c E hb hr hlk hnm hml hS ls hl
  have hl : lv_has ls 5 [(0, .ref (ad 0))] := hl
  have hB208 : ∀ (A : AH) (x3 : Int32), X0_on_b208 N A x3 = some (r, A') → ∀ (H : Heap) (locs : List Loc), cS dC dI ac ad True s.heap (aN A0) (aS A0) (aN A0) (aS A0) A H locs → ∀ (ls : Array Slot), lv_has ls 5 [(0, .ref (ad 0)), (3, .int x3)] → W p l e rX0_on s m args below meth c H locs 0 0 (MQ below (cQi dC dI ac ad True (aN A0) (aS A0) (aN A0) (aS A0) r A') args s 0 0 (cF ad)) (F0 m 208 ls []) := by
    intro A x3 hf H locs hS ls hl
    unfold X0_on_b208 at hf
    refine lv_iload_n E.1 hb dX0_on_208 rfl (lv_at hl 1 rfl) ?_
    refine lv_if_ne (tgt := 226) E.1 hb dX0_on_209 (by decide) (fun hc => ?_) (fun hc => ?_)
    · have hf := if_s hc hf
      refine lv_aload_n E.1 hb dX0_on_226 rfl (lv_at hl 0 rfl) ?_
      refine c_gN (k := 9) (f := 109) (q := 16) E hb hS ci_1 (sK hS (by decide) rfl) rfl rfl rfl (sRf hS (by decide) rfl) fk_X0_69_X0 (fun _ h => h) dX0_on_227 ?_
      refine lv_aload_n E.1 hb dX0_on_230 rfl (lv_at hl 0 rfl) ?_
      refine c_gN (k := 10) (f := 110) (q := 64) E hb hS ci_1 (sK hS (by decide) rfl) rfl rfl rfl (sRf hS (by decide) rfl) fk_X0_73_X0 (fun _ h => h) dX0_on_231 ?_
      obtain ⟨r15, A16, h1, hf⟩ := bd_s hf
      refine c_kq hS (va_runV ⟨E.1, hb, hml, E.2.1, E.2.2.1⟩ (zX5_copy h1) (cwV 1 E.2.2.1 gw_X0_286 rfl rfl rfl ⟨rfl, gnX5_copy⟩ ⟨Nat.le_of_ble_eq_true rfl, Nat.le_of_ble_eq_true rfl⟩) (c_preV E hS ci_6 (sK hS (by decide) rfl) (hS.1.lt (sK hS (by decide) rfl) rfl) _) rfl rfl hl.1 rfl (lv_room (Nat.le_of_ble_eq_true rfl)) dX0_on_234 ⟨Nat.le_refl 0, Nat.le_refl 0⟩) hS.2.2.2.2 (fun H locs hS hn => ?_)
      obtain ⟨q17, hr9, hf⟩ := bo_s hf
      refine c_dr hr9 ?_
      refine lv_pop E.1 hb dX0_on_237 rfl ?_
      refine lv_aload_n E.1 hb dX0_on_238 rfl (lv_at hl 0 rfl) ?_
      refine lv_iconst (v := 0) E.1 hb dX0_on_239 rfl ?_
      obtain ⟨A18, hw, hf⟩ := lt2_s hf
      refine c_pI (k := 20) (f := 120) E hb hS ci_1 (sK hS (by decide) rfl) (hS.1.lt (sK hS (by decide) rfl) rfl) rfl rfl (Or.inl rfl) fk_X0_145_X0 (fun _ h => h) rfl rfl hw dX0_on_240 (fun H locs hS => ?_)
      refine lv_iconst (v := 1) E.1 hb dX0_on_243 rfl ?_
      exact c_zr (ty := .boolean) E hb hr hlk hS ⟨Nat.le_refl 0, Nat.le_refl 0⟩ rfl hf dX0_on_244
    · have hf := it_s hc hf
      refine lv_aload_n E.1 hb dX0_on_212 rfl (lv_at hl 0 rfl) ?_
      refine lv_iconst (v := 5) E.1 hb dX0_on_213 rfl ?_
      obtain ⟨r19, A20, h1, hf⟩ := bd_s hf
      refine c_ki hS (va_runV ⟨E.1, hb, hml, E.2.1, E.2.2.1⟩ (zX0_refuses h1) (cwV 1 E.2.2.1 gw_X0_115 rfl rfl rfl ⟨rfl, gnX0_refuses⟩ ⟨Nat.le_of_ble_eq_true rfl, Nat.le_of_ble_eq_true rfl⟩) (c_preV E hS ci_1 (sK hS (by decide) rfl) (hS.1.lt (sK hS (by decide) rfl) rfl) _) rfl rfl hl.1 rfl (lv_room (Nat.le_of_ble_eq_true rfl)) dX0_on_214 ⟨Nat.le_refl 0, Nat.le_refl 0⟩) hS.2.2.2.2 (fun H locs hS hn => ?_)
      refine lv_if_lt (tgt := 224) E.1 hb dX0_on_217 (by decide) (fun hc => ?_) (fun hc => ?_)
      · have hf := it_s hc hf
        refine lv_iconst (v := 0) E.1 hb dX0_on_224 rfl ?_
        exact c_zr (ty := .boolean) E hb hr hlk hS ⟨Nat.le_refl 0, Nat.le_refl 0⟩ rfl hf dX0_on_225
      · have hf := if_s hc hf
        refine lv_iconst (v := 1) E.1 hb dX0_on_220 rfl ?_
        refine lv_goto (tgt := 225) E.1 hb dX0_on_221 (by decide) ?_
        exact c_zr (ty := .boolean) E hb hr hlk hS ⟨Nat.le_refl 0, Nat.le_refl 0⟩ rfl hf dX0_on_225
  have hL175 : ∀ (n : Nat) (A : AH) (x2 : Int32) (x3 : Int32) (x4 : Int32), rn4 (X0_on_b175 N) n A x2 x3 x4 = some (r, A') → ∀ (H : Heap) (locs : List Loc), cS dC dI ac ad True s.heap (aN A0) (aS A0) (aN A0) (aS A0) A H locs → ∀ (ls : Array Slot), lv_has ls 5 [(0, .ref (ad 0)), (2, .int x2), (3, .int x3), (4, .int x4)] → W p l e rX0_on s m args below meth c H locs 0 0 (MQ below (cQi dC dI ac ad True (aN A0) (aS A0) (aN A0) (aS A0) r A') args s 0 0 (cF ad)) (F0 m 175 ls []) := by
    intro  n
    induction n with
    | zero =>
      intro A x2 x3 x4 hf
      cases hf
    | succ n ih =>
      intro A x2 x3 x4 hf H locs hS ls hl
      have hf : X0_on_b175 N (rn4 (X0_on_b175 N) n) A x2 x3 x4 = some (r, A') := hf
      have hk175 := ih
      generalize rn4 (X0_on_b175 N) n = k175 at hf hk175
      unfold X0_on_b175 at hf
      refine lv_iload E.1 hb dX0_on_175 (lv_at hl 3 rfl) ?_
      refine lv_aload_n E.1 hb dX0_on_177 rfl (lv_at hl 0 rfl) ?_
      obtain ⟨r14, h1, hf⟩ := bo_s hf
      refine c_ki hS (va_runV ⟨E.1, hb, hml, E.2.1, E.2.2.1⟩ (zX0_beings h1) (cwV 0 E.2.2.1 gw_X0_166 rfl rfl rfl ⟨rfl, gnX0_beings⟩ ⟨Nat.le_of_ble_eq_true rfl, Nat.le_of_ble_eq_true rfl⟩) (c_preV E hS ci_1 (sK hS (by decide) rfl) (hS.1.lt (sK hS (by decide) rfl) rfl) _) rfl rfl hl.1 rfl (lv_room (Nat.le_of_ble_eq_true rfl)) dX0_on_178 ⟨Nat.le_refl 0, Nat.le_refl 0⟩) hS.2.2.2.2 (fun H locs hS hn => ?_)
      refine lv_icmp_ge (tgt := 208) E.1 hb dX0_on_181 (by decide) (fun hc => ?_) (fun hc => ?_)
      · have hf := it_s hc hf
        exact hB208 A x3 hf _ _ hS _ (lv_sub hl [0, 2] rfl)
      · have hf := if_s hc hf
        refine lv_iload_n E.1 hb dX0_on_184 rfl (lv_at hl 2 rfl) ?_
        refine lv_if_eq (tgt := 208) E.1 hb dX0_on_185 (by decide) (fun hc => ?_) (fun hc => ?_)
        · have hf := it_s hc hf
          exact hB208 A x3 hf _ _ hS _ (lv_sub hl [0, 2] rfl)
        · have hf := if_s hc hf
          refine lv_aload_n E.1 hb dX0_on_188 rfl (lv_at hl 0 rfl) ?_
          refine lv_iload E.1 hb dX0_on_189 (lv_at hl 3 rfl) ?_
          refine lv_iload_n E.1 hb dX0_on_191 rfl (lv_at hl 1 rfl) ?_
          refine lv_bipush (v := 6) E.1 hb dX0_on_192 rfl ?_
          refine lv_iload E.1 hb dX0_on_194 (lv_at hl 3 rfl) ?_
          refine lv_imul E.1 hb dX0_on_196 ?_
          refine lv_iadd E.1 hb dX0_on_197 ?_
          obtain ⟨r21, A22, h1, hf⟩ := bd_s hf
          refine c_ki hS (va_runV ⟨E.1, hb, hml, E.2.1, E.2.2.1⟩ (zX0_beingOn h1) (cwV 2 E.2.2.1 gw_X0_390 rfl rfl rfl ⟨rfl, gnX0_beingOn⟩ ⟨Nat.le_of_ble_eq_true rfl, Nat.le_of_ble_eq_true rfl⟩) (c_preV E hS ci_1 (sK hS (by decide) rfl) (hS.1.lt (sK hS (by decide) rfl) rfl) _) rfl rfl hl.1 rfl (lv_room (Nat.le_of_ble_eq_true rfl)) dX0_on_198 ⟨Nat.le_refl 0, Nat.le_refl 0⟩) hS.2.2.2.2 (fun H locs hS hn => ?_)
          refine lv_istore_n (lv' := [(3, .int r21), (0, .ref (ad 0)), (2, .int x2), (4, .int x4)]) E.1 hb dX0_on_201 rfl hl (by decide) rfl (fun ls hl => ?_)
          refine lv_iinc (v := (x4 + 1)) (lv' := [(4, .int (x4 + 1)), (3, .int r21), (0, .ref (ad 0)), (2, .int x2)]) E.1 hb dX0_on_202 hl (k := 3) rfl rfl (by decide) rfl (fun ls hl => ?_)
          refine lv_goto (tgt := 175) E.1 hb dX0_on_205 (by decide) ?_
          exact hk175 A22 x2 r21 (x4 + 1) hf _ _ hS _ (lv_sub hl [2, 3, 1, 0] rfl)
  have hB172 : ∀ (A : AH) (x2 : Int32) (x3 : Int32), X0_on_b172 N A x2 x3 = some (r, A') → ∀ (H : Heap) (locs : List Loc), cS dC dI ac ad True s.heap (aN A0) (aS A0) (aN A0) (aS A0) A H locs → ∀ (ls : Array Slot), lv_has ls 5 [(0, .ref (ad 0)), (2, .int x2), (3, .int x3)] → W p l e rX0_on s m args below meth c H locs 0 0 (MQ below (cQi dC dI ac ad True (aN A0) (aS A0) (aN A0) (aS A0) r A') args s 0 0 (cF ad)) (F0 m 172 ls []) := by
    intro A x2 x3 hf H locs hS ls hl
    unfold X0_on_b172 at hf
    refine lv_iconst (v := 0) E.1 hb dX0_on_172 rfl ?_
    refine lv_istore (lv' := [(4, .int 0), (0, .ref (ad 0)), (2, .int x2), (3, .int x3)]) E.1 hb dX0_on_173 hl (by decide) rfl (fun ls hl => ?_)
    exact hL175 N A x2 x3 0 hf _ _ hS _ (lv_sub hl [1, 2, 3, 0] rfl)
  have hB165 : ∀ (k104 : AH → Int32 → Int32 → Int32 → Option (Int32 × AH)) (hk104 : ∀ (A : AH) (x2 : Int32) (x3 : Int32) (x4 : Int32), k104 A x2 x3 x4 = some (r, A') → ∀ (H : Heap) (locs : List Loc), cS dC dI ac ad True s.heap (aN A0) (aS A0) (aN A0) (aS A0) A H locs → ∀ (ls : Array Slot), lv_has ls 5 [(0, .ref (ad 0)), (2, .int x2), (3, .int x3), (4, .int x4)] → W p l e rX0_on s m args below meth c H locs 0 0 (MQ below (cQi dC dI ac ad True (aN A0) (aS A0) (aN A0) (aS A0) r A') args s 0 0 (cF ad)) (F0 m 104 ls [])) (A : AH) (x2 : Int32) (x4 : Int32) (y0 : Int32), X0_on_b165 N k104 A x2 x4 y0 = some (r, A') → ∀ (H : Heap) (locs : List Loc), cS dC dI ac ad True s.heap (aN A0) (aS A0) (aN A0) (aS A0) A H locs → ∀ (ls : Array Slot), lv_has ls 5 [(0, .ref (ad 0)), (2, .int x2), (4, .int x4)] → W p l e rX0_on s m args below meth c H locs 0 0 (MQ below (cQi dC dI ac ad True (aN A0) (aS A0) (aN A0) (aS A0) r A') args s 0 0 (cF ad)) (F0 m 165 ls [.int y0]) := by
    intro k104 hk104 A x2 x4 y0 hf H locs hS ls hl
    unfold X0_on_b165 at hf
    refine lv_istore_n (lv' := [(3, .int y0), (0, .ref (ad 0)), (2, .int x2), (4, .int x4)]) E.1 hb dX0_on_165 rfl hl (by decide) rfl (fun ls hl => ?_)
    refine lv_iinc (v := (x4 + 1)) (lv' := [(4, .int (x4 + 1)), (3, .int y0), (0, .ref (ad 0)), (2, .int x2)]) E.1 hb dX0_on_166 hl (k := 3) rfl rfl (by decide) rfl (fun ls hl => ?_)
    refine lv_goto (tgt := 104) E.1 hb dX0_on_169 (by decide) ?_
    exact hk104 A x2 y0 (x4 + 1) hf _ _ hS _ (lv_sub hl [2, 3, 1, 0] rfl)
  have hL104 : ∀ (n : Nat) (A : AH) (x2 : Int32) (x3 : Int32) (x4 : Int32), rn4 (X0_on_b104 N) n A x2 x3 x4 = some (r, A') → ∀ (H : Heap) (locs : List Loc), cS dC dI ac ad True s.heap (aN A0) (aS A0) (aN A0) (aS A0) A H locs → ∀ (ls : Array Slot), lv_has ls 5 [(0, .ref (ad 0)), (2, .int x2), (3, .int x3), (4, .int x4)] → W p l e rX0_on s m args below meth c H locs 0 0 (MQ below (cQi dC dI ac ad True (aN A0) (aS A0) (aN A0) (aS A0) r A') args s 0 0 (cF ad)) (F0 m 104 ls []) := by
    intro  n
    induction n with
    | zero =>
      intro A x2 x3 x4 hf
      cases hf
    | succ n ih =>
      intro A x2 x3 x4 hf H locs hS ls hl
      have hf : X0_on_b104 N (rn4 (X0_on_b104 N) n) A x2 x3 x4 = some (r, A') := hf
      have hk104 := ih
      generalize rn4 (X0_on_b104 N) n = k104 at hf hk104
      unfold X0_on_b104 at hf
      refine lv_iload E.1 hb dX0_on_104 (lv_at hl 3 rfl) ?_
      refine lv_aload_n E.1 hb dX0_on_106 rfl (lv_at hl 0 rfl) ?_
      obtain ⟨q12, hr7, hf⟩ := bo_s hf
      refine c_gN (k := 0) (f := 100) E hb hS ci_1 (sK hS (by decide) rfl) rfl rfl rfl hr7 fk_X0_31_X0 (fun _ h => h) dX0_on_107 ?_
      obtain ⟨hk, hf⟩ := gI_s hf
      refine c_gI (k := 1) (f := 201) E hb hS ci_2 hk rfl rfl rfl fk_X0_154_X1 (fun _ h => h) dX0_on_110 ?_
      refine lv_icmp_ge (tgt := 172) E.1 hb dX0_on_113 (by decide) (fun hc => ?_) (fun hc => ?_)
      · have hf := it_s hc hf
        exact hB172 A x2 x3 hf _ _ hS _ (lv_sub hl [0, 1, 2] rfl)
      · have hf := if_s hc hf
        refine lv_iload_n E.1 hb dX0_on_116 rfl (lv_at hl 2 rfl) ?_
        refine lv_if_eq (tgt := 172) E.1 hb dX0_on_117 (by decide) (fun hc => ?_) (fun hc => ?_)
        · have hf := it_s hc hf
          exact hB172 A x2 x3 hf _ _ hS _ (lv_sub hl [0, 1, 2] rfl)
        · have hf := if_s hc hf
          refine lv_aload_n E.1 hb dX0_on_120 rfl (lv_at hl 0 rfl) ?_
          refine c_gN (k := 10) (f := 110) (q := 64) E hb hS ci_1 (sK hS (by decide) rfl) rfl rfl rfl (sRf hS (by decide) rfl) fk_X0_73_X0 (fun _ h => h) dX0_on_121 ?_
          refine c_gN (k := 2) (f := 602) (q := 65) E hb hS ci_6 (sK hS (by decide) rfl) rfl rfl rfl (sRf hS (by decide) rfl) fk_X0_202_X5 (fun _ h => h) dX0_on_124 ?_
          refine lv_iload E.1 hb dX0_on_127 (lv_at hl 3 rfl) ?_
          refine lv_aload_n E.1 hb dX0_on_129 rfl (lv_at hl 0 rfl) ?_
          refine lv_iconst (v := 2) E.1 hb dX0_on_130 rfl ?_
          refine lv_iload E.1 hb dX0_on_131 (lv_at hl 3 rfl) ?_
          refine lv_iadd E.1 hb dX0_on_133 ?_
          obtain ⟨r23, h1, hf⟩ := bo_s hf
          refine c_ki hS (va_runV ⟨E.1, hb, hml, E.2.1, E.2.2.1⟩ (zX0_byteAt h1) (cwV 1 E.2.2.1 gw_X0_319 rfl rfl rfl ⟨rfl, gnX0_byteAt⟩ ⟨Nat.le_of_ble_eq_true rfl, Nat.le_of_ble_eq_true rfl⟩) (c_preV E hS ci_1 (sK hS (by decide) rfl) (hS.1.lt (sK hS (by decide) rfl) rfl) _) rfl rfl hl.1 rfl (lv_room (Nat.le_of_ble_eq_true rfl)) dX0_on_134 ⟨Nat.le_refl 0, Nat.le_refl 0⟩) hS.2.2.2.2 (fun H locs hS hn => ?_)
          obtain ⟨A24, hg, hw, hf⟩ := tI_s hf
          refine s_st E hb hS (t := 31) ⟨by decide, rfl, rfl⟩ hg (Or.inl ⟨rfl, rfl, rfl⟩) hw dX0_on_137 (fun H locs hS => ?_)
          refine lv_aload_n E.1 hb dX0_on_138 rfl (lv_at hl 0 rfl) ?_
          refine c_gN (k := 10) (f := 110) (q := 64) E hb hS ci_1 (sK hS (by decide) rfl) rfl rfl rfl (sRf hS (by decide) rfl) fk_X0_73_X0 (fun _ h => h) dX0_on_139 ?_
          refine c_gN (k := 2) (f := 602) (q := 65) E hb hS ci_6 (sK hS (by decide) rfl) rfl rfl rfl (sRf hS (by decide) rfl) fk_X0_202_X5 (fun _ h => h) dX0_on_142 ?_
          refine lv_iload E.1 hb dX0_on_145 (lv_at hl 3 rfl) ?_
          obtain ⟨hg, hf⟩ := sI_s hf
          refine s_ld E hb hS (t := 31) ⟨by decide, rfl, rfl⟩ hg (Or.inl ⟨rfl, rfl⟩) dX0_on_147 ?_
          refine lv_iconst (v := 1) E.1 hb dX0_on_148 rfl ?_
          refine lv_aload_n E.1 hb dX0_on_149 rfl (lv_at hl 0 rfl) ?_
          obtain ⟨q26, hr7, hf⟩ := bo_s hf
          refine c_gN (k := 0) (f := 100) E hb hS ci_1 (sK hS (by decide) rfl) rfl rfl rfl hr7 fk_X0_31_X0 (fun _ h => h) dX0_on_150 ?_
          obtain ⟨hk, hf⟩ := gI_s hf
          refine c_gI (k := 2) (f := 202) E hb hS ci_2 hk rfl rfl rfl fk_X0_172_X1 (fun _ h => h) dX0_on_153 ?_
          refine lv_ishl E.1 hb dX0_on_156 ?_
          refine lv_icmp_ge (tgt := 164) E.1 hb dX0_on_157 (by decide) (fun hc => ?_) (fun hc => ?_)
          · have hf := it_s hc hf
            refine lv_iconst (v := 0) E.1 hb dX0_on_164 rfl ?_
            exact hB165 k104 hk104 A24 x2 x4 0 hf _ _ hS _ (lv_sub hl [0, 1, 3] rfl)
          · have hf := if_s hc hf
            refine lv_iconst (v := 1) E.1 hb dX0_on_160 rfl ?_
            refine lv_goto (tgt := 165) E.1 hb dX0_on_161 (by decide) ?_
            exact hB165 k104 hk104 A24 x2 x4 1 hf _ _ hS _ (lv_sub hl [0, 1, 3] rfl)
  have hB73 : ∀ (A : AH) (x2 : Int32) (y0 : Int32), X0_on_b73 N A x2 y0 = some (r, A') → ∀ (H : Heap) (locs : List Loc), cS dC dI ac ad True s.heap (aN A0) (aS A0) (aN A0) (aS A0) A H locs → ∀ (ls : Array Slot), lv_has ls 5 [(0, .ref (ad 0)), (2, .int x2)] → W p l e rX0_on s m args below meth c H locs 0 0 (MQ below (cQi dC dI ac ad True (aN A0) (aS A0) (aN A0) (aS A0) r A') args s 0 0 (cF ad)) (F0 m 73 ls [.int y0]) := by
    intro A x2 y0 hf H locs hS ls hl
    unfold X0_on_b73 at hf
    refine lv_istore_n (lv' := [(3, .int y0), (0, .ref (ad 0)), (2, .int x2)]) E.1 hb dX0_on_73 rfl hl (by decide) rfl (fun ls hl => ?_)
    refine lv_aload_n E.1 hb dX0_on_74 rfl (lv_at hl 1 rfl) ?_
    refine c_gN (k := 10) (f := 110) (q := 64) E hb hS ci_1 (sK hS (by decide) rfl) rfl rfl rfl (sRf hS (by decide) rfl) fk_X0_73_X0 (fun _ h => h) dX0_on_75 ?_
    refine lv_aload_n E.1 hb dX0_on_78 rfl (lv_at hl 1 rfl) ?_
    refine c_gN (k := 9) (f := 109) (q := 16) E hb hS ci_1 (sK hS (by decide) rfl) rfl rfl rfl (sRf hS (by decide) rfl) fk_X0_69_X0 (fun _ h => h) dX0_on_79 ?_
    obtain ⟨r6, A7, h1, hf⟩ := bd_s hf
    refine c_kq hS (va_runV ⟨E.1, hb, hml, E.2.1, E.2.2.1⟩ (zX5_copy h1) (cwV 1 E.2.2.1 gw_X0_286 rfl rfl rfl ⟨rfl, gnX5_copy⟩ ⟨Nat.le_of_ble_eq_true rfl, Nat.le_of_ble_eq_true rfl⟩) (c_preV E hS ci_6 (sK hS (by decide) rfl) (hS.1.lt (sK hS (by decide) rfl) rfl) _) rfl rfl hl.1 rfl (lv_room (Nat.le_of_ble_eq_true rfl)) dX0_on_82 ⟨Nat.le_refl 0, Nat.le_refl 0⟩) hS.2.2.2.2 (fun H locs hS hn => ?_)
    obtain ⟨q8, hr9, hf⟩ := bo_s hf
    refine c_dr hr9 ?_
    refine lv_aload_n E.1 hb dX0_on_85 rfl (lv_at hl 1 rfl) ?_
    refine lv_iconst (v := 0) E.1 hb dX0_on_86 rfl ?_
    obtain ⟨r9, h1, hf⟩ := bo_s hf
    refine c_ki hS (va_runV ⟨E.1, hb, hml, E.2.1, E.2.2.1⟩ (zX0_twoAt h1) (cwV 1 E.2.2.1 gw_X0_387 rfl rfl rfl ⟨rfl, gnX0_twoAt⟩ ⟨Nat.le_of_ble_eq_true rfl, Nat.le_of_ble_eq_true rfl⟩) (c_preV E hS ci_1 (sK hS (by decide) rfl) (hS.1.lt (sK hS (by decide) rfl) rfl) _) rfl rfl hl.1 rfl (lv_room (Nat.le_of_ble_eq_true rfl)) dX0_on_87 ⟨Nat.le_refl 0, Nat.le_refl 0⟩) hS.2.2.2.2 (fun H locs hS hn => ?_)
    obtain ⟨A10, hk, hw, hf⟩ := pI_s hf
    refine c_pI (k := 0) (f := 600) E hb hS ci_6 hk (hS.1.lt hk rfl) rfl rfl (Or.inl rfl) fk_X0_213_X5 (fun _ h => h) rfl rfl hw dX0_on_90 (fun H locs hS => ?_)
    refine lv_aload_n E.1 hb dX0_on_93 rfl (lv_at hl 1 rfl) ?_
    refine c_gN (k := 10) (f := 110) (q := 64) E hb hS ci_1 (sK hS (by decide) rfl) rfl rfl rfl (sRf hS (by decide) rfl) fk_X0_73_X0 (fun _ h => h) dX0_on_94 ?_
    refine lv_iconst (v := 0) E.1 hb dX0_on_97 rfl ?_
    obtain ⟨A11, hw, hf⟩ := lt2_s hf
    refine c_pI (k := 1) (f := 601) E hb hS ci_6 (sK hS (by decide) rfl) (hS.1.lt (sK hS (by decide) rfl) rfl) rfl rfl (Or.inl rfl) fk_X0_222_X5 (fun _ h => h) rfl rfl hw dX0_on_98 (fun H locs hS => ?_)
    refine lv_iconst (v := 0) E.1 hb dX0_on_101 rfl ?_
    refine lv_istore (lv' := [(4, .int 0), (3, .int y0), (0, .ref (ad 0)), (2, .int x2)]) E.1 hb dX0_on_102 hl (by decide) rfl (fun ls hl => ?_)
    exact hL104 N A11 x2 y0 0 hf _ _ hS _ (lv_sub hl [2, 3, 1, 0] rfl)
  have hB72 : ∀ (A : AH) (x2 : Int32), X0_on_b72 N A x2 = some (r, A') → ∀ (H : Heap) (locs : List Loc), cS dC dI ac ad True s.heap (aN A0) (aS A0) (aN A0) (aS A0) A H locs → ∀ (ls : Array Slot), lv_has ls 5 [(0, .ref (ad 0)), (2, .int x2)] → W p l e rX0_on s m args below meth c H locs 0 0 (MQ below (cQi dC dI ac ad True (aN A0) (aS A0) (aN A0) (aS A0) r A') args s 0 0 (cF ad)) (F0 m 72 ls []) := by
    intro A x2 hf H locs hS ls hl
    unfold X0_on_b72 at hf
    refine lv_iconst (v := 0) E.1 hb dX0_on_72 rfl ?_
    exact hB73 A x2 0 hf _ _ hS _ (lv_sub hl [0, 1] rfl)
  refine lv_aload_n E.1 hb dX0_on_0 rfl (lv_at hl 0 rfl) ?_
  obtain ⟨r1, A2, h1, hf⟩ := bd_s hf
  refine c_ki hS (va_runV ⟨E.1, hb, hml, E.2.1, E.2.2.1⟩ (zX0_taken h1) (cwV 0 E.2.2.1 gw_X0_126 rfl rfl rfl ⟨rfl, gnX0_taken⟩ ⟨Nat.le_of_ble_eq_true rfl, Nat.le_of_ble_eq_true rfl⟩) (c_preV E hS ci_1 (sK hS (by decide) rfl) (hS.1.lt (sK hS (by decide) rfl) rfl) _) rfl rfl hl.1 rfl (lv_room (Nat.le_of_ble_eq_true rfl)) dX0_on_1 ⟨Nat.le_refl 0, Nat.le_refl 0⟩) hS.2.2.2.2 (fun H locs hS hn => ?_)
  refine lv_istore_n (lv' := [(1, .int r1), (0, .ref (ad 0))]) E.1 hb dX0_on_4 rfl hl (by decide) rfl (fun ls hl => ?_)
  refine lv_iconst (v := 2) E.1 hb dX0_on_5 rfl ?_
  refine lv_aload_n E.1 hb dX0_on_6 rfl (lv_at hl 1 rfl) ?_
  obtain ⟨q3, hr7, hf⟩ := bo_s hf
  refine c_gN (k := 0) (f := 100) E hb hS ci_1 (sK hS (by decide) rfl) rfl rfl rfl hr7 fk_X0_31_X0 (fun _ h => h) dX0_on_7 ?_
  obtain ⟨hk, hf⟩ := gI_s hf
  refine c_gI (k := 1) (f := 201) E hb hS ci_2 hk rfl rfl rfl fk_X0_154_X1 (fun _ h => h) dX0_on_10 ?_
  refine lv_iadd E.1 hb dX0_on_13 ?_
  refine lv_istore_n (lv' := [(2, .int (2 + (aI A2 201 q3 0))), (1, .int r1), (0, .ref (ad 0))]) E.1 hb dX0_on_14 rfl hl (by decide) rfl (fun ls hl => ?_)
  refine lv_aload_n E.1 hb dX0_on_15 rfl (lv_at hl 2 rfl) ?_
  obtain ⟨r5, h1, hf⟩ := bo_s hf
  refine c_ki hS (va_runV ⟨E.1, hb, hml, E.2.1, E.2.2.1⟩ (zX0_isFolio h1) (cwV 0 E.2.2.1 gw_X0_272 rfl rfl rfl ⟨rfl, gnX0_isFolio⟩ ⟨Nat.le_of_ble_eq_true rfl, Nat.le_of_ble_eq_true rfl⟩) (c_preV E hS ci_1 (sK hS (by decide) rfl) (hS.1.lt (sK hS (by decide) rfl) rfl) _) rfl rfl hl.1 rfl (lv_room (Nat.le_of_ble_eq_true rfl)) dX0_on_16 ⟨Nat.le_refl 0, Nat.le_refl 0⟩) hS.2.2.2.2 (fun H locs hS hn => ?_)
  refine lv_if_eq (tgt := 72) E.1 hb dX0_on_19 (by decide) (fun hc => ?_) (fun hc => ?_)
  · have hf := it_s hc hf
    exact hB72 A2 (2 + (aI A2 201 q3 0)) hf _ _ hS _ (lv_sub hl [2, 0] rfl)
  · have hf := if_s hc hf
    refine lv_iload_n E.1 hb dX0_on_22 rfl (lv_at hl 1 rfl) ?_
    refine lv_iload_n E.1 hb dX0_on_23 rfl (lv_at hl 0 rfl) ?_
    refine lv_bipush (v := 6) E.1 hb dX0_on_24 rfl ?_
    refine lv_aload_n E.1 hb dX0_on_26 rfl (lv_at hl 2 rfl) ?_
    obtain ⟨r28, h1, hf⟩ := bo_s hf
    refine c_ki hS (va_runV ⟨E.1, hb, hml, E.2.1, E.2.2.1⟩ (zX0_beings h1) (cwV 0 E.2.2.1 gw_X0_166 rfl rfl rfl ⟨rfl, gnX0_beings⟩ ⟨Nat.le_of_ble_eq_true rfl, Nat.le_of_ble_eq_true rfl⟩) (c_preV E hS ci_1 (sK hS (by decide) rfl) (hS.1.lt (sK hS (by decide) rfl) rfl) _) rfl rfl hl.1 rfl (lv_room (Nat.le_of_ble_eq_true rfl)) dX0_on_27 ⟨Nat.le_refl 0, Nat.le_refl 0⟩) hS.2.2.2.2 (fun H locs hS hn => ?_)
    refine lv_imul E.1 hb dX0_on_30 ?_
    refine lv_iadd E.1 hb dX0_on_31 ?_
    refine lv_iconst (v := 1) E.1 hb dX0_on_32 rfl ?_
    refine lv_iadd E.1 hb dX0_on_33 ?_
    refine lv_icmp_ne (tgt := 72) E.1 hb dX0_on_34 (by decide) (fun hc => ?_) (fun hc => ?_)
    · have hf := if_s hc hf
      exact hB72 A2 (2 + (aI A2 201 q3 0)) hf _ _ hS _ (lv_sub hl [2, 0] rfl)
    · have hf := it_s hc hf
      refine lv_aload_n E.1 hb dX0_on_37 rfl (lv_at hl 2 rfl) ?_
      refine lv_iload_n E.1 hb dX0_on_38 rfl (lv_at hl 1 rfl) ?_
      refine lv_iconst (v := 1) E.1 hb dX0_on_39 rfl ?_
      refine lv_isub E.1 hb dX0_on_40 ?_
      obtain ⟨r29, h1, hf⟩ := bo_s hf
      refine c_ki hS (va_runV ⟨E.1, hb, hml, E.2.1, E.2.2.1⟩ (zX0_byteAt h1) (cwV 1 E.2.2.1 gw_X0_319 rfl rfl rfl ⟨rfl, gnX0_byteAt⟩ ⟨Nat.le_of_ble_eq_true rfl, Nat.le_of_ble_eq_true rfl⟩) (c_preV E hS ci_1 (sK hS (by decide) rfl) (hS.1.lt (sK hS (by decide) rfl) rfl) _) rfl rfl hl.1 rfl (lv_room (Nat.le_of_ble_eq_true rfl)) dX0_on_41 ⟨Nat.le_refl 0, Nat.le_refl 0⟩) hS.2.2.2.2 (fun H locs hS hn => ?_)
      refine lv_aload_n E.1 hb dX0_on_44 rfl (lv_at hl 2 rfl) ?_
      refine c_gN (k := 1) (f := 101) (q := 8) E hb hS ci_1 (sK hS (by decide) rfl) rfl rfl rfl (sRf hS (by decide) rfl) fk_X0_35_X0 (fun _ h => h) dX0_on_45 ?_
      refine lv_iload_n E.1 hb dX0_on_48 rfl (lv_at hl 1 rfl) ?_
      refine lv_iconst (v := 1) E.1 hb dX0_on_49 rfl ?_
      refine lv_isub E.1 hb dX0_on_50 ?_
      obtain ⟨r30, h1, hf⟩ := bo_s hf
      refine c_ki hS (va_runS ⟨E.1, hb, hml, E.2.1, E.2.2.1⟩ (zX0_check h1) (va_cwS 2 E.2.2.1 gw_X0_383 rfl rfl rfl gnX0_check ⟨Nat.le_of_ble_eq_true rfl, Nat.le_of_ble_eq_true rfl⟩) (c_preS E hS _) rfl rfl hl.1 rfl (lv_room (Nat.le_of_ble_eq_true rfl)) dX0_on_51 ⟨Nat.le_refl 0, Nat.le_refl 0⟩) hS.2.2.2.2 (fun H locs hS hn => ?_)
      refine lv_icmp_ne (tgt := 72) E.1 hb dX0_on_54 (by decide) (fun hc => ?_) (fun hc => ?_)
      · have hf := if_s hc hf
        exact hB72 A2 (2 + (aI A2 201 q3 0)) hf _ _ hS _ (lv_sub hl [2, 0] rfl)
      · have hf := it_s hc hf
        refine lv_aload_n E.1 hb dX0_on_57 rfl (lv_at hl 2 rfl) ?_
        refine lv_iconst (v := 0) E.1 hb dX0_on_58 rfl ?_
        obtain ⟨r31, h1, hf⟩ := bo_s hf
        refine c_ki hS (va_runV ⟨E.1, hb, hml, E.2.1, E.2.2.1⟩ (zX0_twoAt h1) (cwV 1 E.2.2.1 gw_X0_387 rfl rfl rfl ⟨rfl, gnX0_twoAt⟩ ⟨Nat.le_of_ble_eq_true rfl, Nat.le_of_ble_eq_true rfl⟩) (c_preV E hS ci_1 (sK hS (by decide) rfl) (hS.1.lt (sK hS (by decide) rfl) rfl) _) rfl rfl hl.1 rfl (lv_room (Nat.le_of_ble_eq_true rfl)) dX0_on_59 ⟨Nat.le_refl 0, Nat.le_refl 0⟩) hS.2.2.2.2 (fun H locs hS hn => ?_)
        refine lv_sipush (v := 999) E.1 hb dX0_on_62 rfl ?_
        refine lv_icmp_gt (tgt := 72) E.1 hb dX0_on_65 (by decide) (fun hc => ?_) (fun hc => ?_)
        · have hf := it_s hc hf
          exact hB72 A2 (2 + (aI A2 201 q3 0)) hf _ _ hS _ (lv_sub hl [2, 0] rfl)
        · have hf := if_s hc hf
          refine lv_iconst (v := 1) E.1 hb dX0_on_68 rfl ?_
          refine lv_goto (tgt := 73) E.1 hb dX0_on_69 (by decide) ?_
          exact hB73 A2 (2 + (aI A2 201 q3 0)) 1 hf _ _ hS _ (lv_sub hl [2, 0] rfl)
/-! MarginFolk.status(I)I: RO -/
noncomputable def X0_status (A : AH) (x1 : Int32) : Option Int32 :=
  bo (X0_is x1 0 5) fun r1 => if r1 = 0 then (some (-1)) else (bo (sI 6 31 A 15 x1) fun v2 => some v2)
abbrev rX0_status : Room := { frames := 1, cells := 0, slots := 0, locals := 22 }
set_option maxHeartbeats 4000000 in
theorem zX0_status {l : Launch} {dC : Nat → ClassId} {dI : Nat → Nat → Nat} {ac : Nat → ClassId} {ad : Nat → Nat} {A : AH} {x1 : Int32} {r : Int32} (hf : X0_status A x1 = some r) : Met l yX0_status (ws_ yX0_status cX0_status 2 (some .int)) { frames := 1, cells := 0, slots := 0, locals := 22 } (va_Pc [.ref (ad 0), .int x1] (cPre dC dI ac ad True A)) (cQi dC dI ac ad True (aN A) (aS A) (aN A) (aS A) r A) 0 0 (cF ad) := by
  unfold X0_status at hf
  refine c_of ⟨Nat.le_refl _, Nat.le_refl _⟩ RX0 (plainFor_of_name (by decide)) rfl (Nat.le_of_ble_eq_true rfl) ?_
  intro p e s m args below meth c E hb hr hlk hnm hml hS ls hl
  have hl : lv_has ls 2 [(0, .ref (ad 0)), (1, .int x1)] := hl
  refine lv_iload_n E.1 hb dX0_status_0 rfl (lv_at hl 1 rfl) ?_
  refine lv_iconst (v := 0) E.1 hb dX0_status_1 rfl ?_
  refine lv_iconst (v := 5) E.1 hb dX0_status_2 rfl ?_
  obtain ⟨r1, h1, hf⟩ := bo_s hf
  refine c_ki hS (va_runS ⟨E.1, hb, hml, E.2.1, E.2.2.1⟩ (zX0_is h1) (va_cwS 3 E.2.2.1 gw_X0_168 rfl rfl rfl gnX0_is ⟨Nat.le_of_ble_eq_true rfl, Nat.le_of_ble_eq_true rfl⟩) (c_preS E hS _) rfl rfl hl.1 rfl (lv_room (Nat.le_of_ble_eq_true rfl)) dX0_status_3 ⟨Nat.le_refl 0, Nat.le_refl 0⟩) hS.2.2.2.2 (fun H locs hS hn => ?_)
  refine lv_if_eq (tgt := 18) E.1 hb dX0_status_6 (by decide) (fun hc => ?_) (fun hc => ?_)
  · have hf := it_s hc hf
    refine lv_iconst (v := (-1)) E.1 hb dX0_status_18 rfl ?_
    exact c_ir E hb hr hlk hS ⟨Nat.le_refl 0, Nat.le_refl 0⟩ (ro_s hf) dX0_status_19
  · have hf := if_s hc hf
    refine lv_aload_n E.1 hb dX0_status_9 rfl (lv_at hl 0 rfl) ?_
    refine c_gN (k := 8) (f := 108) (q := 15) E hb hS ci_1 (sK hS (by decide) rfl) rfl rfl rfl (sRf hS (by decide) rfl) fk_X0_62_X0 (fun _ h => h) dX0_status_10 ?_
    refine lv_iload_n E.1 hb dX0_status_13 rfl (lv_at hl 1 rfl) ?_
    obtain ⟨hg, hf⟩ := sI_s hf
    refine s_ld E hb hS (t := 31) ⟨by decide, rfl, rfl⟩ hg (Or.inl ⟨rfl, rfl⟩) dX0_status_14 ?_
    refine lv_goto (tgt := 19) E.1 hb dX0_status_15 (by decide) ?_
    exact c_ir E hb hr hlk hS ⟨Nat.le_refl 0, Nat.le_refl 0⟩ (ro_s hf) dX0_status_19
theorem fk_X6_228_X6 : FLk RX6 228 "MarginFolkModel" (TX6 94).2.1 (TX6 94).2.2.1 := Or.inl q1776
theorem fk_X6_231_X6 : FLk RX6 231 "MarginFolkModel" (TX6 96).2.1 (TX6 96).2.2.1 := Or.inl q1778
theorem fk_X6_234_X6 : FLk RX6 234 "MarginFolkModel" (TX6 100).2.1 (TX6 100).2.2.1 := Or.inl q1782
theorem fk_X6_237_X6 : FLk RX6 237 "MarginFolkModel" (TX6 104).2.1 (TX6 104).2.2.1 := Or.inl q1786
theorem fk_X6_222_X6 : FLk RX6 222 "MarginFolkModel" (TX6 92).2.1 (TX6 92).2.2.1 := Or.inl q1774
theorem fk_X6_225_X6 : FLk RX6 225 "MarginFolkModel" (TX6 93).2.1 (TX6 93).2.2.1 := Or.inl q1775
theorem fk_X6_216_X6 : FLk RX6 216 "MarginFolkModel" (TX6 90).2.1 (TX6 90).2.2.1 := Or.inl q1772
theorem fk_X6_219_X6 : FLk RX6 219 "MarginFolkModel" (TX6 91).2.1 (TX6 91).2.2.1 := Or.inl q1773
theorem fk_X6_210_X6 : FLk RX6 210 "MarginFolkModel" (TX6 88).2.1 (TX6 88).2.2.1 := Or.inl q1770
theorem fk_X6_213_X6 : FLk RX6 213 "MarginFolkModel" (TX6 89).2.1 (TX6 89).2.2.1 := Or.inl q1771
theorem fk_X6_204_X6 : FLk RX6 204 "MarginFolkModel" (TX6 86).2.1 (TX6 86).2.2.1 := Or.inl q1768
theorem fk_X6_207_X6 : FLk RX6 207 "MarginFolkModel" (TX6 87).2.1 (TX6 87).2.2.1 := Or.inl q1769
theorem fk_X6_198_X6 : FLk RX6 198 "MarginFolkModel" (TX6 84).2.1 (TX6 84).2.2.1 := Or.inl q1766
theorem fk_X6_201_X6 : FLk RX6 201 "MarginFolkModel" (TX6 85).2.1 (TX6 85).2.2.1 := Or.inl q1767
theorem fk_X6_192_X6 : FLk RX6 192 "MarginFolkModel" (TX6 82).2.1 (TX6 82).2.2.1 := Or.inl q1764
theorem fk_X6_195_X6 : FLk RX6 195 "MarginFolkModel" (TX6 83).2.1 (TX6 83).2.2.1 := Or.inl q1765
theorem fk_X6_183_X6 : FLk RX6 183 "MarginFolkModel" (TX6 79).2.1 (TX6 79).2.2.1 := Or.inl q1761
theorem fk_X6_186_X6 : FLk RX6 186 "MarginFolkModel" (TX6 80).2.1 (TX6 80).2.2.1 := Or.inl q1762
theorem fk_X6_189_X6 : FLk RX6 189 "MarginFolkModel" (TX6 81).2.1 (TX6 81).2.2.1 := Or.inl q1763
theorem fk_X6_177_X6 : FLk RX6 177 "MarginFolkModel" (TX6 77).2.1 (TX6 77).2.2.1 := Or.inl q1759
theorem fk_X6_180_X6 : FLk RX6 180 "MarginFolkModel" (TX6 78).2.1 (TX6 78).2.2.1 := Or.inl q1760
theorem fk_X6_171_X6 : FLk RX6 171 "MarginFolkModel" (TX6 75).2.1 (TX6 75).2.2.1 := Or.inl q1757
theorem fk_X6_174_X6 : FLk RX6 174 "MarginFolkModel" (TX6 76).2.1 (TX6 76).2.2.1 := Or.inl q1758
theorem fk_X6_165_X6 : FLk RX6 165 "MarginFolkModel" (TX6 73).2.1 (TX6 73).2.2.1 := Or.inl q1755
theorem fk_X6_168_X6 : FLk RX6 168 "MarginFolkModel" (TX6 74).2.1 (TX6 74).2.2.1 := Or.inl q1756
theorem fk_X6_155_X6 : FLk RX6 155 "MarginFolkModel" (TX6 68).2.1 (TX6 68).2.2.1 := Or.inl q1750
theorem fk_X6_158_X6 : FLk RX6 158 "MarginFolkModel" (TX6 71).2.1 (TX6 71).2.2.1 := Or.inl q1753
theorem fk_X6_162_X6 : FLk RX6 162 "MarginFolkModel" (TX6 72).2.1 (TX6 72).2.2.1 := Or.inl q1754
theorem fk_X6_130_X6 : FLk RX6 130 "MarginFolkModel" (TX6 50).2.1 (TX6 50).2.2.1 := Or.inl q1732
theorem fk_X6_133_X6 : FLk RX6 133 "MarginFolkModel" (TX6 51).2.1 (TX6 51).2.2.1 := Or.inl q1733
theorem fk_X6_136_X6 : FLk RX6 136 "MarginFolkModel" (TX6 56).2.1 (TX6 56).2.2.1 := Or.inl q1738
theorem fk_X6_139_X6 : FLk RX6 139 "MarginFolkModel" (TX6 57).2.1 (TX6 57).2.2.1 := Or.inl q1739
theorem fk_X6_142_X6 : FLk RX6 142 "MarginFolkModel" (TX6 63).2.1 (TX6 63).2.2.1 := Or.inl q1745
theorem fk_X6_145_X6 : FLk RX6 145 "MarginFolkModel" (TX6 64).2.1 (TX6 64).2.2.1 := Or.inl q1746
theorem fk_X6_149_X6 : FLk RX6 149 "MarginFolkModel" (TX6 66).2.1 (TX6 66).2.2.1 := Or.inl q1748
theorem fk_X6_152_X6 : FLk RX6 152 "MarginFolkModel" (TX6 67).2.1 (TX6 67).2.2.1 := Or.inl q1749
theorem fk_X6_118_X6 : FLk RX6 118 "MarginFolkModel" (TX6 44).2.1 (TX6 44).2.2.1 := Or.inl q1726
theorem fk_X6_121_X6 : FLk RX6 121 "MarginFolkModel" (TX6 45).2.1 (TX6 45).2.2.1 := Or.inl q1727
theorem fk_X6_124_X6 : FLk RX6 124 "MarginFolkModel" (TX6 46).2.1 (TX6 46).2.2.1 := Or.inl q1728
theorem fk_X6_127_X6 : FLk RX6 127 "MarginFolkModel" (TX6 49).2.1 (TX6 49).2.2.1 := Or.inl q1731
theorem fk_X6_102_X6 : FLk RX6 102 "MarginFolkModel" (TX6 38).2.1 (TX6 38).2.2.1 := Or.inl q1720
theorem fk_X6_105_X6 : FLk RX6 105 "MarginFolkModel" (TX6 40).2.1 (TX6 40).2.2.1 := Or.inl q1722
theorem fk_X6_108_X6 : FLk RX6 108 "MarginFolkModel" (TX6 41).2.1 (TX6 41).2.2.1 := Or.inl q1723
theorem fk_X6_111_X6 : FLk RX6 111 "MarginFolkModel" (TX6 42).2.1 (TX6 42).2.2.1 := Or.inl q1724
theorem fk_X6_115_X6 : FLk RX6 115 "MarginFolkModel" (TX6 43).2.1 (TX6 43).2.2.1 := Or.inl q1725
theorem fk_X6_96_X6 : FLk RX6 96 "MarginFolkModel" (TX6 36).2.1 (TX6 36).2.2.1 := Or.inl q1718
theorem fk_X6_99_X6 : FLk RX6 99 "MarginFolkModel" (TX6 37).2.1 (TX6 37).2.2.1 := Or.inl q1719
theorem fk_X6_87_X6 : FLk RX6 87 "MarginFolkModel" (TX6 33).2.1 (TX6 33).2.2.1 := Or.inl q1715
theorem fk_X6_90_X6 : FLk RX6 90 "MarginFolkModel" (TX6 34).2.1 (TX6 34).2.2.1 := Or.inl q1716
theorem fk_X6_93_X6 : FLk RX6 93 "MarginFolkModel" (TX6 35).2.1 (TX6 35).2.2.1 := Or.inl q1717
theorem fk_X6_81_X6 : FLk RX6 81 "MarginFolkModel" (TX6 31).2.1 (TX6 31).2.2.1 := Or.inl q1713
theorem fk_X6_84_X6 : FLk RX6 84 "MarginFolkModel" (TX6 32).2.1 (TX6 32).2.2.1 := Or.inl q1714
theorem fk_X6_75_X6 : FLk RX6 75 "MarginFolkModel" (TX6 29).2.1 (TX6 29).2.2.1 := Or.inl q1711
theorem fk_X6_78_X6 : FLk RX6 78 "MarginFolkModel" (TX6 30).2.1 (TX6 30).2.2.1 := Or.inl q1712
theorem fk_X6_69_X6 : FLk RX6 69 "MarginFolkModel" (TX6 27).2.1 (TX6 27).2.2.1 := Or.inl q1709
theorem fk_X6_72_X6 : FLk RX6 72 "MarginFolkModel" (TX6 28).2.1 (TX6 28).2.2.1 := Or.inl q1710
theorem fk_X6_63_X6 : FLk RX6 63 "MarginFolkModel" (TX6 25).2.1 (TX6 25).2.2.1 := Or.inl q1707
theorem fk_X6_66_X6 : FLk RX6 66 "MarginFolkModel" (TX6 26).2.1 (TX6 26).2.2.1 := Or.inl q1708
theorem fk_X6_57_X6 : FLk RX6 57 "MarginFolkModel" (TX6 23).2.1 (TX6 23).2.2.1 := Or.inl q1705
theorem fk_X6_60_X6 : FLk RX6 60 "MarginFolkModel" (TX6 24).2.1 (TX6 24).2.2.1 := Or.inl q1706
theorem fk_X6_51_X6 : FLk RX6 51 "MarginFolkModel" (TX6 21).2.1 (TX6 21).2.2.1 := Or.inl q1703
theorem fk_X6_54_X6 : FLk RX6 54 "MarginFolkModel" (TX6 22).2.1 (TX6 22).2.2.1 := Or.inl q1704
theorem fk_X6_45_X6 : FLk RX6 45 "MarginFolkModel" (TX6 19).2.1 (TX6 19).2.2.1 := Or.inl q1701
theorem fk_X6_48_X6 : FLk RX6 48 "MarginFolkModel" (TX6 20).2.1 (TX6 20).2.2.1 := Or.inl q1702
theorem fk_X6_36_X6 : FLk RX6 36 "MarginFolkModel" (TX6 16).2.1 (TX6 16).2.2.1 := Or.inl q1698
theorem fk_X6_39_X6 : FLk RX6 39 "MarginFolkModel" (TX6 17).2.1 (TX6 17).2.2.1 := Or.inl q1699
theorem fk_X6_42_X6 : FLk RX6 42 "MarginFolkModel" (TX6 18).2.1 (TX6 18).2.2.1 := Or.inl q1700
theorem fk_X6_30_X6 : FLk RX6 30 "MarginFolkModel" (TX6 14).2.1 (TX6 14).2.2.1 := Or.inl q1696
theorem fk_X6_33_X6 : FLk RX6 33 "MarginFolkModel" (TX6 15).2.1 (TX6 15).2.2.1 := Or.inl q1697
theorem fk_X6_24_X6 : FLk RX6 24 "MarginFolkModel" (TX6 12).2.1 (TX6 12).2.2.1 := Or.inl q1694
theorem fk_X6_27_X6 : FLk RX6 27 "MarginFolkModel" (TX6 13).2.1 (TX6 13).2.2.1 := Or.inl q1695
theorem fk_X6_7_X6 : FLk RX6 7 "MarginFolkModel" (TX6 0).2.1 (TX6 0).2.2.1 := Or.inl q1682
theorem fk_X6_13_X6 : FLk RX6 13 "MarginFolkModel" (TX6 8).2.1 (TX6 8).2.2.1 := Or.inl q1690
theorem fk_X6_17_X6 : FLk RX6 17 "MarginFolkModel" (TX6 9).2.1 (TX6 9).2.2.1 := Or.inl q1691
theorem fk_X6_20_X6 : FLk RX6 20 "MarginFolkModel" (TX6 11).2.1 (TX6 11).2.2.1 := Or.inl q1693
/-! MarginFolkModel.<init>()V: RW -/
noncomputable def X6_init_b1560 (x0 : Nat) (A : AH) : Option (Unit × AH) :=
  bo (nwA A 31 1700) fun A350 => ck A350 ( bo (pR 21 A350 2194 x0 (some (aN A))) fun A351 => bo (nwA A351 31 1700) fun A352 => ck A352 ( bo (pR 21 A352 2196 x0 (some (aN A351))) fun A353 => bo (nwA A353 32 1700) fun A354 => ck A354 ( bo (pR 21 A354 2200 x0 (some (aN A353))) fun A355 => bo (nwA A355 31 57) fun A356 => ck A356 ( bo (pR 21 A356 2204 x0 (some (aN A355))) fun A357 => some ((), A357)))))
noncomputable def X6_init_b1506 (x0 : Nat) (A : AH) : Option (Unit × AH) :=
  bo (nwA A 34 3) fun A338 => ck A338 ( bo (uI_ 34 A338 (aN A) 0 (vp_nar .char 109)) fun A339 => bo (uI_ 34 A339 (aN A) 1 (vp_nar .char 101)) fun A340 => bo (uI_ 34 A340 (aN A) 2 (vp_nar .char 116)) fun A341 => bo (pR 21 A341 2192 x0 (some (aN A))) fun A342 => bo (nwA A342 34 5) fun A343 => ck A343 ( bo (uI_ 34 A343 (aN A342) 0 (vp_nar .char 109)) fun A344 => bo (uI_ 34 A344 (aN A342) 1 (vp_nar .char 101)) fun A345 => bo (uI_ 34 A345 (aN A342) 2 (vp_nar .char 101)) fun A346 => bo (uI_ 34 A346 (aN A342) 3 (vp_nar .char 116)) fun A347 => bo (uI_ 34 A347 (aN A342) 4 (vp_nar .char 115)) fun A348 => bo (pR 21 A348 2193 x0 (some (aN A342))) fun A349 => X6_init_b1560 x0 A349))
noncomputable def X6_init_b1436 (x0 : Nat) (A : AH) : Option (Unit × AH) :=
  bo (nwA A 34 5) fun A323 => ck A323 ( bo (uI_ 34 A323 (aN A) 0 (vp_nar .char 111)) fun A324 => bo (uI_ 34 A324 (aN A) 1 (vp_nar .char 116)) fun A325 => bo (uI_ 34 A325 (aN A) 2 (vp_nar .char 104)) fun A326 => bo (uI_ 34 A326 (aN A) 3 (vp_nar .char 101)) fun A327 => bo (uI_ 34 A327 (aN A) 4 (vp_nar .char 114)) fun A328 => bo (pR 21 A328 2190 x0 (some (aN A))) fun A329 => bo (nwA A329 34 6) fun A330 => ck A330 ( bo (uI_ 34 A330 (aN A329) 0 (vp_nar .char 110)) fun A331 => bo (uI_ 34 A331 (aN A329) 1 (vp_nar .char 117)) fun A332 => bo (uI_ 34 A332 (aN A329) 2 (vp_nar .char 109)) fun A333 => bo (uI_ 34 A333 (aN A329) 3 (vp_nar .char 98)) fun A334 => bo (uI_ 34 A334 (aN A329) 4 (vp_nar .char 101)) fun A335 => bo (uI_ 34 A335 (aN A329) 5 (vp_nar .char 114)) fun A336 => bo (pR 21 A336 2191 x0 (some (aN A329))) fun A337 => X6_init_b1506 x0 A337))
noncomputable def X6_init_b1377 (x0 : Nat) (A : AH) : Option (Unit × AH) :=
  bo (nwA A 34 5) fun A310 => ck A310 ( bo (uI_ 34 A310 (aN A) 0 (vp_nar .char 112)) fun A311 => bo (uI_ 34 A311 (aN A) 1 (vp_nar .char 117)) fun A312 => bo (uI_ 34 A312 (aN A) 2 (vp_nar .char 114)) fun A313 => bo (uI_ 34 A313 (aN A) 3 (vp_nar .char 115)) fun A314 => bo (uI_ 34 A314 (aN A) 4 (vp_nar .char 101)) fun A315 => bo (pR 21 A315 2188 x0 (some (aN A))) fun A316 => bo (nwA A316 34 4) fun A317 => ck A317 ( bo (uI_ 34 A317 (aN A316) 0 (vp_nar .char 111)) fun A318 => bo (uI_ 34 A318 (aN A316) 1 (vp_nar .char 112)) fun A319 => bo (uI_ 34 A319 (aN A316) 2 (vp_nar .char 101)) fun A320 => bo (uI_ 34 A320 (aN A316) 3 (vp_nar .char 110)) fun A321 => bo (pR 21 A321 2189 x0 (some (aN A316))) fun A322 => X6_init_b1436 x0 A322))
noncomputable def X6_init_b1318 (x0 : Nat) (A : AH) : Option (Unit × AH) :=
  bo (nwA A 34 4) fun A297 => ck A297 ( bo (uI_ 34 A297 (aN A) 0 (vp_nar .char 99)) fun A298 => bo (uI_ 34 A298 (aN A) 1 (vp_nar .char 101)) fun A299 => bo (uI_ 34 A299 (aN A) 2 (vp_nar .char 108)) fun A300 => bo (uI_ 34 A300 (aN A) 3 (vp_nar .char 108)) fun A301 => bo (pR 21 A301 2186 x0 (some (aN A))) fun A302 => bo (nwA A302 34 5) fun A303 => ck A303 ( bo (uI_ 34 A303 (aN A302) 0 (vp_nar .char 116)) fun A304 => bo (uI_ 34 A304 (aN A302) 1 (vp_nar .char 114)) fun A305 => bo (uI_ 34 A305 (aN A302) 2 (vp_nar .char 97)) fun A306 => bo (uI_ 34 A306 (aN A302) 3 (vp_nar .char 100)) fun A307 => bo (uI_ 34 A307 (aN A302) 4 (vp_nar .char 101)) fun A308 => bo (pR 21 A308 2187 x0 (some (aN A302))) fun A309 => X6_init_b1377 x0 A309))
noncomputable def X6_init_b1269 (x0 : Nat) (A : AH) : Option (Unit × AH) :=
  bo (nwA A 34 3) fun A286 => ck A286 ( bo (uI_ 34 A286 (aN A) 0 (vp_nar .char 100)) fun A287 => bo (uI_ 34 A287 (aN A) 1 (vp_nar .char 97)) fun A288 => bo (uI_ 34 A288 (aN A) 2 (vp_nar .char 121)) fun A289 => bo (pR 21 A289 2184 x0 (some (aN A))) fun A290 => bo (nwA A290 34 4) fun A291 => ck A291 ( bo (uI_ 34 A291 (aN A290) 0 (vp_nar .char 108)) fun A292 => bo (uI_ 34 A292 (aN A290) 1 (vp_nar .char 101)) fun A293 => bo (uI_ 34 A293 (aN A290) 2 (vp_nar .char 97)) fun A294 => bo (uI_ 34 A294 (aN A290) 3 (vp_nar .char 102)) fun A295 => bo (pR 21 A295 2185 x0 (some (aN A290))) fun A296 => X6_init_b1318 x0 A296))
noncomputable def X6_init_b1225 (x0 : Nat) (A : AH) : Option (Unit × AH) :=
  bo (nwA A 34 3) fun A276 => ck A276 ( bo (uI_ 34 A276 (aN A) 0 (vp_nar .char 109)) fun A277 => bo (uI_ 34 A277 (aN A) 1 (vp_nar .char 105)) fun A278 => bo (uI_ 34 A278 (aN A) 2 (vp_nar .char 110)) fun A279 => bo (pR 21 A279 2182 x0 (some (aN A))) fun A280 => bo (nwA A280 34 3) fun A281 => ck A281 ( bo (uI_ 34 A281 (aN A280) 0 (vp_nar .char 109)) fun A282 => bo (uI_ 34 A282 (aN A280) 1 (vp_nar .char 97)) fun A283 => bo (uI_ 34 A283 (aN A280) 2 (vp_nar .char 120)) fun A284 => bo (pR 21 A284 2183 x0 (some (aN A280))) fun A285 => X6_init_b1269 x0 A285))
noncomputable def X6_init_b1164 (x0 : Nat) (A : AH) : Option (Unit × AH) :=
  bo (nwA A 34 3) fun A262 => ck A262 ( bo (uI_ 34 A262 (aN A) 0 (vp_nar .char 97)) fun A263 => bo (uI_ 34 A263 (aN A) 1 (vp_nar .char 110)) fun A264 => bo (uI_ 34 A264 (aN A) 2 (vp_nar .char 100)) fun A265 => bo (pR 21 A265 2179 x0 (some (aN A))) fun A266 => bo (nwA A266 34 2) fun A267 => ck A267 ( bo (uI_ 34 A267 (aN A266) 0 (vp_nar .char 111)) fun A268 => bo (uI_ 34 A268 (aN A266) 1 (vp_nar .char 114)) fun A269 => bo (pR 21 A269 2180 x0 (some (aN A266))) fun A270 => bo (nwA A270 34 3) fun A271 => ck A271 ( bo (uI_ 34 A271 (aN A270) 0 (vp_nar .char 97)) fun A272 => bo (uI_ 34 A272 (aN A270) 1 (vp_nar .char 108)) fun A273 => bo (uI_ 34 A273 (aN A270) 2 (vp_nar .char 108)) fun A274 => bo (pR 21 A274 2181 x0 (some (aN A270))) fun A275 => X6_init_b1225 x0 A275)))
noncomputable def X6_init_b1110 (x0 : Nat) (A : AH) : Option (Unit × AH) :=
  bo (nwA A 34 5) fun A250 => ck A250 ( bo (uI_ 34 A250 (aN A) 0 (vp_nar .char 108)) fun A251 => bo (uI_ 34 A251 (aN A) 1 (vp_nar .char 101)) fun A252 => bo (uI_ 34 A252 (aN A) 2 (vp_nar .char 97)) fun A253 => bo (uI_ 34 A253 (aN A) 3 (vp_nar .char 115)) fun A254 => bo (uI_ 34 A254 (aN A) 4 (vp_nar .char 116)) fun A255 => bo (pR 21 A255 2177 x0 (some (aN A))) fun A256 => bo (nwA A256 34 3) fun A257 => ck A257 ( bo (uI_ 34 A257 (aN A256) 0 (vp_nar .char 110)) fun A258 => bo (uI_ 34 A258 (aN A256) 1 (vp_nar .char 111)) fun A259 => bo (uI_ 34 A259 (aN A256) 2 (vp_nar .char 116)) fun A260 => bo (pR 21 A260 2178 x0 (some (aN A256))) fun A261 => X6_init_b1164 x0 A261))
noncomputable def X6_init_b1051 (x0 : Nat) (A : AH) : Option (Unit × AH) :=
  bo (nwA A 34 5) fun A237 => ck A237 ( bo (uI_ 34 A237 (aN A) 0 (vp_nar .char 116)) fun A238 => bo (uI_ 34 A238 (aN A) 1 (vp_nar .char 111)) fun A239 => bo (uI_ 34 A239 (aN A) 2 (vp_nar .char 116)) fun A240 => bo (uI_ 34 A240 (aN A) 3 (vp_nar .char 97)) fun A241 => bo (uI_ 34 A241 (aN A) 4 (vp_nar .char 108)) fun A242 => bo (pR 21 A242 2175 x0 (some (aN A))) fun A243 => bo (nwA A243 34 4) fun A244 => ck A244 ( bo (uI_ 34 A244 (aN A243) 0 (vp_nar .char 109)) fun A245 => bo (uI_ 34 A245 (aN A243) 1 (vp_nar .char 111)) fun A246 => bo (uI_ 34 A246 (aN A243) 2 (vp_nar .char 115)) fun A247 => bo (uI_ 34 A247 (aN A243) 3 (vp_nar .char 116)) fun A248 => bo (pR 21 A248 2176 x0 (some (aN A243))) fun A249 => X6_init_b1110 x0 A249))
noncomputable def X6_init_b992 (x0 : Nat) (A : AH) : Option (Unit × AH) :=
  bo (nwA A 34 4) fun A224 => ck A224 ( bo (uI_ 34 A224 (aN A) 0 (vp_nar .char 108)) fun A225 => bo (uI_ 34 A225 (aN A) 1 (vp_nar .char 97)) fun A226 => bo (uI_ 34 A226 (aN A) 2 (vp_nar .char 115)) fun A227 => bo (uI_ 34 A227 (aN A) 3 (vp_nar .char 116)) fun A228 => bo (pR 21 A228 2173 x0 (some (aN A))) fun A229 => bo (nwA A229 34 5) fun A230 => ck A230 ( bo (uI_ 34 A230 (aN A229) 0 (vp_nar .char 111)) fun A231 => bo (uI_ 34 A231 (aN A229) 1 (vp_nar .char 102)) fun A232 => bo (uI_ 34 A232 (aN A229) 2 (vp_nar .char 116)) fun A233 => bo (uI_ 34 A233 (aN A229) 3 (vp_nar .char 101)) fun A234 => bo (uI_ 34 A234 (aN A229) 4 (vp_nar .char 110)) fun A235 => bo (pR 21 A235 2174 x0 (some (aN A229))) fun A236 => X6_init_b1051 x0 A236))
noncomputable def X6_init_b946 (x0 : Nat) (A : AH) : Option (Unit × AH) :=
  bo (nwA A 31 3200) fun A214 => ck A214 ( bo (pR 21 A214 2168 x0 (some (aN A))) fun A215 => bo (pJ 21 A215 2171 x0 1) fun A216 => bo (nwA A216 34 5) fun A217 => ck A217 ( bo (uI_ 34 A217 (aN A216) 0 (vp_nar .char 102)) fun A218 => bo (uI_ 34 A218 (aN A216) 1 (vp_nar .char 105)) fun A219 => bo (uI_ 34 A219 (aN A216) 2 (vp_nar .char 114)) fun A220 => bo (uI_ 34 A220 (aN A216) 3 (vp_nar .char 115)) fun A221 => bo (uI_ 34 A221 (aN A216) 4 (vp_nar .char 116)) fun A222 => bo (pR 21 A222 2172 x0 (some (aN A216))) fun A223 => X6_init_b992 x0 A223))
noncomputable def X6_init_b880 (x0 : Nat) (A : AH) : Option (Unit × AH) :=
  bo (nwA A 31 8) fun A198 => ck A198 ( bo (pR 21 A198 2150 x0 (some (aN A))) fun A199 => bo (nwA A199 31 3200) fun A200 => ck A200 ( bo (pR 21 A200 2151 x0 (some (aN A199))) fun A201 => bo (nwA A201 31 160) fun A202 => ck A202 ( bo (pR 21 A202 2156 x0 (some (aN A201))) fun A203 => bo (nwA A203 31 39) fun A204 => ck A204 ( bo (pR 21 A204 2157 x0 (some (aN A203))) fun A205 => bo (nwA A205 31 8) fun A206 => ck A206 ( bo (pR 21 A206 2163 x0 (some (aN A205))) fun A207 => bo (nwA A207 35 96) fun A208 => ck A208 ( bo (pR 21 A208 2164 x0 (some (aN A207))) fun A209 => bo (nwA A209 31 32) fun A210 => ck A210 ( bo (pR 21 A210 2166 x0 (some (aN A209))) fun A211 => bo (nwA A211 31 56) fun A212 => ck A212 ( bo (pR 21 A212 2167 x0 (some (aN A211))) fun A213 => X6_init_b946 x0 A213))))))))
noncomputable def X6_init_b814 (x0 : Nat) (A : AH) : Option (Unit × AH) :=
  bo (nwA A 31 72) fun A182 => ck A182 ( bo (pR 21 A182 2144 x0 (some (aN A))) fun A183 => bo (nwA A183 31 16) fun A184 => ck A184 ( bo (pR 21 A184 2145 x0 (some (aN A183))) fun A185 => bo (nwA A185 31 16) fun A186 => ck A186 ( bo (pR 21 A186 2146 x0 (some (aN A185))) fun A187 => bo (nwA A187 31 8) fun A188 => ck A188 ( bo (uI_ 31 A188 (aN A187) 0 (-1)) fun A189 => bo (uI_ 31 A189 (aN A187) 1 (-1)) fun A190 => bo (uI_ 31 A190 (aN A187) 2 (-1)) fun A191 => bo (uI_ 31 A191 (aN A187) 3 (-1)) fun A192 => bo (uI_ 31 A192 (aN A187) 4 (-1)) fun A193 => bo (uI_ 31 A193 (aN A187) 5 (-1)) fun A194 => bo (uI_ 31 A194 (aN A187) 6 (-1)) fun A195 => bo (uI_ 31 A195 (aN A187) 7 (-1)) fun A196 => bo (pR 21 A196 2149 x0 (some (aN A187))) fun A197 => X6_init_b880 x0 A197))))
noncomputable def X6_init_b761 (x0 : Nat) (A : AH) : Option (Unit × AH) :=
  bo (nwA A 34 3) fun A169 => ck A169 ( bo (uI_ 34 A169 (aN A) 0 (vp_nar .char 109)) fun A170 => bo (uI_ 34 A170 (aN A) 1 (vp_nar .char 97)) fun A171 => bo (uI_ 34 A171 (aN A) 2 (vp_nar .char 120)) fun A172 => bo (pR 21 A172 2138 x0 (some (aN A))) fun A173 => bo (nwA A173 31 4) fun A174 => ck A174 ( bo (pR 21 A174 2140 x0 (some (aN A173))) fun A175 => bo (nwA A175 31 6) fun A176 => ck A176 ( bo (pR 21 A176 2141 x0 (some (aN A175))) fun A177 => bo (nwA A177 32 16) fun A178 => ck A178 ( bo (pR 21 A178 2142 x0 (some (aN A177))) fun A179 => bo (nwA A179 31 6) fun A180 => ck A180 ( bo (pR 21 A180 2143 x0 (some (aN A179))) fun A181 => X6_init_b814 x0 A181)))))
noncomputable def X6_init_b717 (x0 : Nat) (A : AH) : Option (Unit × AH) :=
  bo (nwA A 34 3) fun A159 => ck A159 ( bo (uI_ 34 A159 (aN A) 0 (vp_nar .char 97)) fun A160 => bo (uI_ 34 A160 (aN A) 1 (vp_nar .char 108)) fun A161 => bo (uI_ 34 A161 (aN A) 2 (vp_nar .char 108)) fun A162 => bo (pR 21 A162 2136 x0 (some (aN A))) fun A163 => bo (nwA A163 34 3) fun A164 => ck A164 ( bo (uI_ 34 A164 (aN A163) 0 (vp_nar .char 109)) fun A165 => bo (uI_ 34 A165 (aN A163) 1 (vp_nar .char 105)) fun A166 => bo (uI_ 34 A166 (aN A163) 2 (vp_nar .char 110)) fun A167 => bo (pR 21 A167 2137 x0 (some (aN A163))) fun A168 => X6_init_b761 x0 A168))
noncomputable def X6_init_b656 (x0 : Nat) (A : AH) : Option (Unit × AH) :=
  bo (nwA A 34 2) fun A145 => ck A145 ( bo (uI_ 34 A145 (aN A) 0 (vp_nar .char 111)) fun A146 => bo (uI_ 34 A146 (aN A) 1 (vp_nar .char 114)) fun A147 => bo (pR 21 A147 2133 x0 (some (aN A))) fun A148 => bo (nwA A148 34 3) fun A149 => ck A149 ( bo (uI_ 34 A149 (aN A148) 0 (vp_nar .char 97)) fun A150 => bo (uI_ 34 A150 (aN A148) 1 (vp_nar .char 110)) fun A151 => bo (uI_ 34 A151 (aN A148) 2 (vp_nar .char 100)) fun A152 => bo (pR 21 A152 2134 x0 (some (aN A148))) fun A153 => bo (nwA A153 34 3) fun A154 => ck A154 ( bo (uI_ 34 A154 (aN A153) 0 (vp_nar .char 110)) fun A155 => bo (uI_ 34 A155 (aN A153) 1 (vp_nar .char 111)) fun A156 => bo (uI_ 34 A156 (aN A153) 2 (vp_nar .char 116)) fun A157 => bo (pR 21 A157 2135 x0 (some (aN A153))) fun A158 => X6_init_b717 x0 A158)))
noncomputable def X6_init_b602 (x0 : Nat) (A : AH) : Option (Unit × AH) :=
  bo (nwA A 34 3) fun A133 => ck A133 ( bo (uI_ 34 A133 (aN A) 0 (vp_nar .char 109)) fun A134 => bo (uI_ 34 A134 (aN A) 1 (vp_nar .char 101)) fun A135 => bo (uI_ 34 A135 (aN A) 2 (vp_nar .char 116)) fun A136 => bo (pR 21 A136 2131 x0 (some (aN A))) fun A137 => bo (nwA A137 34 5) fun A138 => ck A138 ( bo (uI_ 34 A138 (aN A137) 0 (vp_nar .char 109)) fun A139 => bo (uI_ 34 A139 (aN A137) 1 (vp_nar .char 101)) fun A140 => bo (uI_ 34 A140 (aN A137) 2 (vp_nar .char 101)) fun A141 => bo (uI_ 34 A141 (aN A137) 3 (vp_nar .char 116)) fun A142 => bo (uI_ 34 A142 (aN A137) 4 (vp_nar .char 115)) fun A143 => bo (pR 21 A143 2132 x0 (some (aN A137))) fun A144 => X6_init_b656 x0 A144))
noncomputable def X6_init_b532 (x0 : Nat) (A : AH) : Option (Unit × AH) :=
  bo (nwA A 34 5) fun A118 => ck A118 ( bo (uI_ 34 A118 (aN A) 0 (vp_nar .char 111)) fun A119 => bo (uI_ 34 A119 (aN A) 1 (vp_nar .char 116)) fun A120 => bo (uI_ 34 A120 (aN A) 2 (vp_nar .char 104)) fun A121 => bo (uI_ 34 A121 (aN A) 3 (vp_nar .char 101)) fun A122 => bo (uI_ 34 A122 (aN A) 4 (vp_nar .char 114)) fun A123 => bo (pR 21 A123 2129 x0 (some (aN A))) fun A124 => bo (nwA A124 34 6) fun A125 => ck A125 ( bo (uI_ 34 A125 (aN A124) 0 (vp_nar .char 110)) fun A126 => bo (uI_ 34 A126 (aN A124) 1 (vp_nar .char 117)) fun A127 => bo (uI_ 34 A127 (aN A124) 2 (vp_nar .char 109)) fun A128 => bo (uI_ 34 A128 (aN A124) 3 (vp_nar .char 98)) fun A129 => bo (uI_ 34 A129 (aN A124) 4 (vp_nar .char 101)) fun A130 => bo (uI_ 34 A130 (aN A124) 5 (vp_nar .char 114)) fun A131 => bo (pR 21 A131 2130 x0 (some (aN A124))) fun A132 => X6_init_b602 x0 A132))
noncomputable def X6_init_b473 (x0 : Nat) (A : AH) : Option (Unit × AH) :=
  bo (nwA A 34 5) fun A105 => ck A105 ( bo (uI_ 34 A105 (aN A) 0 (vp_nar .char 112)) fun A106 => bo (uI_ 34 A106 (aN A) 1 (vp_nar .char 117)) fun A107 => bo (uI_ 34 A107 (aN A) 2 (vp_nar .char 114)) fun A108 => bo (uI_ 34 A108 (aN A) 3 (vp_nar .char 115)) fun A109 => bo (uI_ 34 A109 (aN A) 4 (vp_nar .char 101)) fun A110 => bo (pR 21 A110 2127 x0 (some (aN A))) fun A111 => bo (nwA A111 34 4) fun A112 => ck A112 ( bo (uI_ 34 A112 (aN A111) 0 (vp_nar .char 111)) fun A113 => bo (uI_ 34 A113 (aN A111) 1 (vp_nar .char 112)) fun A114 => bo (uI_ 34 A114 (aN A111) 2 (vp_nar .char 101)) fun A115 => bo (uI_ 34 A115 (aN A111) 3 (vp_nar .char 110)) fun A116 => bo (pR 21 A116 2128 x0 (some (aN A111))) fun A117 => X6_init_b532 x0 A117))
noncomputable def X6_init_b419 (x0 : Nat) (A : AH) : Option (Unit × AH) :=
  bo (nwA A 34 4) fun A93 => ck A93 ( bo (uI_ 34 A93 (aN A) 0 (vp_nar .char 108)) fun A94 => bo (uI_ 34 A94 (aN A) 1 (vp_nar .char 101)) fun A95 => bo (uI_ 34 A95 (aN A) 2 (vp_nar .char 97)) fun A96 => bo (uI_ 34 A96 (aN A) 3 (vp_nar .char 102)) fun A97 => bo (pR 21 A97 2125 x0 (some (aN A))) fun A98 => bo (nwA A98 34 4) fun A99 => ck A99 ( bo (uI_ 34 A99 (aN A98) 0 (vp_nar .char 99)) fun A100 => bo (uI_ 34 A100 (aN A98) 1 (vp_nar .char 101)) fun A101 => bo (uI_ 34 A101 (aN A98) 2 (vp_nar .char 108)) fun A102 => bo (uI_ 34 A102 (aN A98) 3 (vp_nar .char 108)) fun A103 => bo (pR 21 A103 2126 x0 (some (aN A98))) fun A104 => X6_init_b473 x0 A104))
noncomputable def X6_init_b365 (x0 : Nat) (A : AH) : Option (Unit × AH) :=
  bo (nwA A 34 5) fun A81 => ck A81 ( bo (uI_ 34 A81 (aN A) 0 (vp_nar .char 116)) fun A82 => bo (uI_ 34 A82 (aN A) 1 (vp_nar .char 104)) fun A83 => bo (uI_ 34 A83 (aN A) 2 (vp_nar .char 117)) fun A84 => bo (uI_ 34 A84 (aN A) 3 (vp_nar .char 109)) fun A85 => bo (uI_ 34 A85 (aN A) 4 (vp_nar .char 98)) fun A86 => bo (pR 21 A86 2123 x0 (some (aN A))) fun A87 => bo (nwA A87 34 3) fun A88 => ck A88 ( bo (uI_ 34 A88 (aN A87) 0 (vp_nar .char 100)) fun A89 => bo (uI_ 34 A89 (aN A87) 1 (vp_nar .char 97)) fun A90 => bo (uI_ 34 A90 (aN A87) 2 (vp_nar .char 121)) fun A91 => bo (pR 21 A91 2124 x0 (some (aN A87))) fun A92 => X6_init_b419 x0 A92))
noncomputable def X6_init_b306 (x0 : Nat) (A : AH) : Option (Unit × AH) :=
  bo (nwA A 34 4) fun A68 => ck A68 ( bo (uI_ 34 A68 (aN A) 0 (vp_nar .char 116)) fun A69 => bo (uI_ 34 A69 (aN A) 1 (vp_nar .char 111)) fun A70 => bo (uI_ 34 A70 (aN A) 2 (vp_nar .char 108)) fun A71 => bo (uI_ 34 A71 (aN A) 3 (vp_nar .char 108)) fun A72 => bo (pR 21 A72 2121 x0 (some (aN A))) fun A73 => bo (nwA A73 34 5) fun A74 => ck A74 ( bo (uI_ 34 A74 (aN A73) 0 (vp_nar .char 115)) fun A75 => bo (uI_ 34 A75 (aN A73) 1 (vp_nar .char 116)) fun A76 => bo (uI_ 34 A76 (aN A73) 2 (vp_nar .char 101)) fun A77 => bo (uI_ 34 A77 (aN A73) 3 (vp_nar .char 112)) fun A78 => bo (uI_ 34 A78 (aN A73) 4 (vp_nar .char 115)) fun A79 => bo (pR 21 A79 2122 x0 (some (aN A73))) fun A80 => X6_init_b365 x0 A80))
noncomputable def X6_init_b247 (x0 : Nat) (A : AH) : Option (Unit × AH) :=
  bo (nwA A 34 5) fun A55 => ck A55 ( bo (uI_ 34 A55 (aN A) 0 (vp_nar .char 111)) fun A56 => bo (uI_ 34 A56 (aN A) 1 (vp_nar .char 112)) fun A57 => bo (uI_ 34 A57 (aN A) 2 (vp_nar .char 101)) fun A58 => bo (uI_ 34 A58 (aN A) 3 (vp_nar .char 110)) fun A59 => bo (uI_ 34 A59 (aN A) 4 (vp_nar .char 115)) fun A60 => bo (pR 21 A60 2119 x0 (some (aN A))) fun A61 => bo (nwA A61 34 4) fun A62 => ck A62 ( bo (uI_ 34 A62 (aN A61) 0 (vp_nar .char 99)) fun A63 => bo (uI_ 34 A63 (aN A61) 1 (vp_nar .char 111)) fun A64 => bo (uI_ 34 A64 (aN A61) 2 (vp_nar .char 114)) fun A65 => bo (uI_ 34 A65 (aN A61) 3 (vp_nar .char 110)) fun A66 => bo (pR 21 A66 2120 x0 (some (aN A61))) fun A67 => X6_init_b306 x0 A67))
noncomputable def X6_init_b181 (x0 : Nat) (A : AH) : Option (Unit × AH) :=
  bo (nwA A 34 2) fun A40 => ck A40 ( bo (uI_ 34 A40 (aN A) 0 (vp_nar .char 111)) fun A41 => bo (uI_ 34 A41 (aN A) 1 (vp_nar .char 110)) fun A42 => bo (pR 21 A42 2116 x0 (some (aN A))) fun A43 => bo (nwA A43 34 2) fun A44 => ck A44 ( bo (uI_ 34 A44 (aN A43) 0 (vp_nar .char 97)) fun A45 => bo (uI_ 34 A45 (aN A43) 1 (vp_nar .char 116)) fun A46 => bo (pR 21 A46 2117 x0 (some (aN A43))) fun A47 => bo (nwA A47 34 5) fun A48 => ck A48 ( bo (uI_ 34 A48 (aN A47) 0 (vp_nar .char 116)) fun A49 => bo (uI_ 34 A49 (aN A47) 1 (vp_nar .char 114)) fun A50 => bo (uI_ 34 A50 (aN A47) 2 (vp_nar .char 97)) fun A51 => bo (uI_ 34 A51 (aN A47) 3 (vp_nar .char 100)) fun A52 => bo (uI_ 34 A52 (aN A47) 4 (vp_nar .char 101)) fun A53 => bo (pR 21 A53 2118 x0 (some (aN A47))) fun A54 => X6_init_b247 x0 A54)))
noncomputable def X6_init_b122 (x0 : Nat) (A : AH) : Option (Unit × AH) :=
  bo (nwA A 34 4) fun A27 => ck A27 ( bo (uI_ 34 A27 (aN A) 0 (vp_nar .char 119)) fun A28 => bo (uI_ 34 A28 (aN A) 1 (vp_nar .char 111)) fun A29 => bo (uI_ 34 A29 (aN A) 2 (vp_nar .char 114)) fun A30 => bo (uI_ 34 A30 (aN A) 3 (vp_nar .char 109)) fun A31 => bo (pR 21 A31 2114 x0 (some (aN A))) fun A32 => bo (nwA A32 34 5) fun A33 => ck A33 ( bo (uI_ 34 A33 (aN A32) 0 (vp_nar .char 98)) fun A34 => bo (uI_ 34 A34 (aN A32) 1 (vp_nar .char 101)) fun A35 => bo (uI_ 34 A35 (aN A32) 2 (vp_nar .char 105)) fun A36 => bo (uI_ 34 A36 (aN A32) 3 (vp_nar .char 110)) fun A37 => bo (uI_ 34 A37 (aN A32) 4 (vp_nar .char 103)) fun A38 => bo (pR 21 A38 2115 x0 (some (aN A32))) fun A39 => X6_init_b181 x0 A39))
noncomputable def X6_init_b58 (x0 : Nat) (A : AH) : Option (Unit × AH) :=
  bo (nwA A 34 5) fun A13 => ck A13 ( bo (uI_ 34 A13 (aN A) 0 (vp_nar .char 99)) fun A14 => bo (uI_ 34 A14 (aN A) 1 (vp_nar .char 101)) fun A15 => bo (uI_ 34 A15 (aN A) 2 (vp_nar .char 108)) fun A16 => bo (uI_ 34 A16 (aN A) 3 (vp_nar .char 108)) fun A17 => bo (uI_ 34 A17 (aN A) 4 (vp_nar .char 115)) fun A18 => bo (pR 21 A18 2112 x0 (some (aN A))) fun A19 => bo (nwA A19 34 5) fun A20 => ck A20 ( bo (uI_ 34 A20 (aN A19) 0 (vp_nar .char 103)) fun A21 => bo (uI_ 34 A21 (aN A19) 1 (vp_nar .char 108)) fun A22 => bo (uI_ 34 A22 (aN A19) 2 (vp_nar .char 111)) fun A23 => bo (uI_ 34 A23 (aN A19) 3 (vp_nar .char 115)) fun A24 => bo (uI_ 34 A24 (aN A19) 4 (vp_nar .char 115)) fun A25 => bo (pR 21 A25 2113 x0 (some (aN A19))) fun A26 => X6_init_b122 x0 A26))
noncomputable def X6_init (A0 : AH) (x0 : Nat) : Option (Unit × AH) :=
  ck A0 (bo (nwA A0 31 1600) fun A1 => ck A1 ( bo (pR 21 A1 2100 x0 (some (aN A0))) fun A2 => bo (pI 21 A2 2108 x0 (-1)) fun A3 => bo (nwA A3 31 6) fun A4 => ck A4 ( bo (pR 21 A4 2109 x0 (some (aN A3))) fun A5 => bo (nwA A5 34 5) fun A6 => ck A6 ( bo (uI_ 34 A6 (aN A5) 0 (vp_nar .char 102)) fun A7 => bo (uI_ 34 A7 (aN A5) 1 (vp_nar .char 111)) fun A8 => bo (uI_ 34 A8 (aN A5) 2 (vp_nar .char 108)) fun A9 => bo (uI_ 34 A9 (aN A5) 3 (vp_nar .char 105)) fun A10 => bo (uI_ 34 A10 (aN A5) 4 (vp_nar .char 111)) fun A11 => bo (pR 21 A11 2111 x0 (some (aN A5))) fun A12 => X6_init_b58 x0 A12))))
set_option maxHeartbeats 4000000 in
theorem zX6_init {l : Launch} {dC : Nat → ClassId} {dI : Nat → Nat → Nat} {ac : Nat → ClassId} {ad : Nat → Nat} {A0 : AH} {x0 : Nat} {A' : AH} (hf : X6_init A0 x0 = some ((), A')) : Met l yX6_init (ws_ yX6_init cX6_init 1 none) { frames := 1, cells := aN A' - aN A0, slots := aS A' - aS A0, locals := 20 } (va_Pc [.ref (ad x0)] (cPre dC dI ac ad False A0)) (cQv dC dI ac ad False (aN A0) (aS A0) (aN A') (aS A') A') (aN A' - aN A0) (aS A' - aS A0) (cF ad) := by
  unfold X6_init at hf
  obtain ⟨hck0, hf⟩ := ck_s hf
  refine c_of hck0 RX6 (plainFor_of_name (by decide)) rfl (Nat.le_of_ble_eq_true rfl) ?_
  intro p e s m args below meth c E hb hr hlk hnm hml hS ls hl
  have hl : lv_has ls 1 [(0, .ref (ad x0))] := hl
  have hcs : aN A0 + 0 ≤ aN A0 ∧ aS A0 + 0 ≤ aS A0 := ⟨Nat.le_refl _, Nat.le_refl _⟩
  have hB1560 : ∀ (A : AH), X6_init_b1560 x0 A = some ((), A') → ∀ (H : Heap) (locs : List Loc) (cells slots : Nat), aN A0 + cells ≤ aN A ∧ aS A0 + slots ≤ aS A →  cS dC dI ac ad False s.heap (aN A0) (aS A0) (aN A') (aS A') A H locs → ∀ (ls : Array Slot), lv_has ls 1 [(0, .ref (ad x0))] → W p l e { frames := 1, cells := aN A' - aN A0, slots := aS A' - aS A0, locals := 20 } s m args below meth c H locs cells slots (MQ below (cQv dC dI ac ad False (aN A0) (aS A0) (aN A') (aS A') A') args s (aN A' - aN A0) (aS A' - aS A0) (cF ad)) (F0 m 1560 ls []) := by
    intro A hf H locs cells slots hcs hS ls hl
    unfold X6_init_b1560 at hf
    refine lv_aload_n E.1 hb dX6_init_1560 rfl (lv_at hl 0 rfl) ?_
    refine lv_sipush (v := 1700) E.1 hb dX6_init_1561 rfl ?_
    obtain ⟨A350, hn9, hw, hf⟩ := nwA_s hf
    obtain ⟨hck, hf⟩ := ck_s hf
    refine c_newa (atype := .int) E hb hS hcs (Or.inl ⟨rfl, rfl⟩) q232 hn9 hw hck (rm_up _ _ _ _) dX6_init_1564 (fun H cells slots hS hcs => ?_)
    obtain ⟨A351, hk, hw, hf⟩ := pR_s hf
    refine c_pR (k := 94) (f := 2194) (r := (some (aN A))) E hb hS ci_21 hk (hS.1.lt hk rfl) rfl rfl (fun h => h.elim) (Or.inr ⟨hnm, rfl, rfl, q1776⟩) fk_X6_228_X6 (fun _ h => h) (fun q => by cases q <;> exact ⟨rfl, rfl⟩) hw dX6_init_1566 (fun H locs hS => ?_)
    have hcs := rm_w (A2 := A351) hcs (by rw [hw]; exact ⟨rfl, rfl⟩)
    refine lv_aload_n E.1 hb dX6_init_1569 rfl (lv_at hl 0 rfl) ?_
    refine lv_sipush (v := 1700) E.1 hb dX6_init_1570 rfl ?_
    obtain ⟨A352, hn9, hw, hf⟩ := nwA_s hf
    obtain ⟨hck, hf⟩ := ck_s hf
    refine c_newa (atype := .int) E hb hS hcs (Or.inl ⟨rfl, rfl⟩) q232 hn9 hw hck (rm_up _ _ _ _) dX6_init_1573 (fun H cells slots hS hcs => ?_)
    obtain ⟨A353, hk, hw, hf⟩ := pR_s hf
    refine c_pR (k := 96) (f := 2196) (r := (some (aN A351))) E hb hS ci_21 hk (hS.1.lt hk rfl) rfl rfl (fun h => h.elim) (Or.inr ⟨hnm, rfl, rfl, q1778⟩) fk_X6_231_X6 (fun _ h => h) (fun q => by cases q <;> exact ⟨rfl, rfl⟩) hw dX6_init_1575 (fun H locs hS => ?_)
    have hcs := rm_w (A2 := A353) hcs (by rw [hw]; exact ⟨rfl, rfl⟩)
    refine lv_aload_n E.1 hb dX6_init_1578 rfl (lv_at hl 0 rfl) ?_
    refine lv_sipush (v := 1700) E.1 hb dX6_init_1579 rfl ?_
    obtain ⟨A354, hn9, hw, hf⟩ := nwA_s hf
    obtain ⟨hck, hf⟩ := ck_s hf
    refine c_newa (atype := .long) E hb hS hcs (Or.inr (Or.inl ⟨rfl, rfl⟩)) q416 hn9 hw hck (rm_up _ _ _ _) dX6_init_1582 (fun H cells slots hS hcs => ?_)
    obtain ⟨A355, hk, hw, hf⟩ := pR_s hf
    refine c_pR (k := 100) (f := 2200) (r := (some (aN A353))) E hb hS ci_21 hk (hS.1.lt hk rfl) rfl rfl (fun h => h.elim) (Or.inr ⟨hnm, rfl, rfl, q1782⟩) fk_X6_234_X6 (fun _ h => h) (fun q => by cases q <;> exact ⟨rfl, rfl⟩) hw dX6_init_1584 (fun H locs hS => ?_)
    have hcs := rm_w (A2 := A355) hcs (by rw [hw]; exact ⟨rfl, rfl⟩)
    refine lv_aload_n E.1 hb dX6_init_1587 rfl (lv_at hl 0 rfl) ?_
    refine lv_bipush (v := 57) E.1 hb dX6_init_1588 rfl ?_
    obtain ⟨A356, hn9, hw, hf⟩ := nwA_s hf
    obtain ⟨hck, hf⟩ := ck_s hf
    refine c_newa (atype := .int) E hb hS hcs (Or.inl ⟨rfl, rfl⟩) q232 hn9 hw hck (rm_up _ _ _ _) dX6_init_1590 (fun H cells slots hS hcs => ?_)
    obtain ⟨A357, hk, hw, hf⟩ := pR_s hf
    refine c_pR (k := 104) (f := 2204) (r := (some (aN A355))) E hb hS ci_21 hk (hS.1.lt hk rfl) rfl rfl (fun h => h.elim) (Or.inr ⟨hnm, rfl, rfl, q1786⟩) fk_X6_237_X6 (fun _ h => h) (fun q => by cases q <;> exact ⟨rfl, rfl⟩) hw dX6_init_1592 (fun H locs hS => ?_)
    have hcs := rm_w (A2 := A357) hcs (by rw [hw]; exact ⟨rfl, rfl⟩)
    exact c_vr E hb hr hlk hS (rm_e ⟨Nat.le_trans hcs.1 hS.2.2.2.2.1, Nat.le_trans hcs.2 hS.2.2.2.2.2⟩) hf dX6_init_1595
  have hB1506 : ∀ (A : AH), X6_init_b1506 x0 A = some ((), A') → ∀ (H : Heap) (locs : List Loc) (cells slots : Nat), aN A0 + cells ≤ aN A ∧ aS A0 + slots ≤ aS A →  cS dC dI ac ad False s.heap (aN A0) (aS A0) (aN A') (aS A') A H locs → ∀ (ls : Array Slot), lv_has ls 1 [(0, .ref (ad x0))] → W p l e { frames := 1, cells := aN A' - aN A0, slots := aS A' - aS A0, locals := 20 } s m args below meth c H locs cells slots (MQ below (cQv dC dI ac ad False (aN A0) (aS A0) (aN A') (aS A') A') args s (aN A' - aN A0) (aS A' - aS A0) (cF ad)) (F0 m 1506 ls []) := by
    intro A hf H locs cells slots hcs hS ls hl
    unfold X6_init_b1506 at hf
    refine lv_aload_n E.1 hb dX6_init_1506 rfl (lv_at hl 0 rfl) ?_
    refine lv_iconst (v := 3) E.1 hb dX6_init_1507 rfl ?_
    obtain ⟨A338, hn9, hw, hf⟩ := nwA_s hf
    obtain ⟨hck, hf⟩ := ck_s hf
    refine c_newa (atype := .char) E hb hS hcs (Or.inr (Or.inr (Or.inr (Or.inl ⟨rfl, rfl⟩)))) q692 hn9 hw hck (rm_up _ _ _ _) dX6_init_1508 (fun H cells slots hS hcs => ?_)
    refine lv_dup E.1 hb dX6_init_1510 rfl ?_
    refine lv_iconst (v := 0) E.1 hb dX6_init_1511 rfl ?_
    refine lv_bipush (v := 109) E.1 hb dX6_init_1512 rfl ?_
    obtain ⟨A339, hg, hw, hf⟩ := uI_s hf
    refine d_st E hb hS hg rfl (Or.inr (Or.inr (Or.inl ⟨rfl, rfl, rfl⟩))) hw dX6_init_1514 (fun H locs hS => ?_)
    have hcs := rm_w (A2 := A339) hcs (by rw [hw]; exact ⟨rfl, rfl⟩)
    refine lv_dup E.1 hb dX6_init_1515 rfl ?_
    refine lv_iconst (v := 1) E.1 hb dX6_init_1516 rfl ?_
    refine lv_bipush (v := 101) E.1 hb dX6_init_1517 rfl ?_
    obtain ⟨A340, hg, hw, hf⟩ := uI_s hf
    refine d_st E hb hS hg rfl (Or.inr (Or.inr (Or.inl ⟨rfl, rfl, rfl⟩))) hw dX6_init_1519 (fun H locs hS => ?_)
    have hcs := rm_w (A2 := A340) hcs (by rw [hw]; exact ⟨rfl, rfl⟩)
    refine lv_dup E.1 hb dX6_init_1520 rfl ?_
    refine lv_iconst (v := 2) E.1 hb dX6_init_1521 rfl ?_
    refine lv_bipush (v := 116) E.1 hb dX6_init_1522 rfl ?_
    obtain ⟨A341, hg, hw, hf⟩ := uI_s hf
    refine d_st E hb hS hg rfl (Or.inr (Or.inr (Or.inl ⟨rfl, rfl, rfl⟩))) hw dX6_init_1524 (fun H locs hS => ?_)
    have hcs := rm_w (A2 := A341) hcs (by rw [hw]; exact ⟨rfl, rfl⟩)
    obtain ⟨A342, hk, hw, hf⟩ := pR_s hf
    refine c_pR (k := 92) (f := 2192) (r := (some (aN A))) E hb hS ci_21 hk (hS.1.lt hk rfl) rfl rfl (fun h => h.elim) (Or.inr ⟨hnm, rfl, rfl, q1774⟩) fk_X6_222_X6 (fun _ h => h) (fun q => by cases q <;> exact ⟨rfl, rfl⟩) hw dX6_init_1525 (fun H locs hS => ?_)
    have hcs := rm_w (A2 := A342) hcs (by rw [hw]; exact ⟨rfl, rfl⟩)
    refine lv_aload_n E.1 hb dX6_init_1528 rfl (lv_at hl 0 rfl) ?_
    refine lv_iconst (v := 5) E.1 hb dX6_init_1529 rfl ?_
    obtain ⟨A343, hn9, hw, hf⟩ := nwA_s hf
    obtain ⟨hck, hf⟩ := ck_s hf
    refine c_newa (atype := .char) E hb hS hcs (Or.inr (Or.inr (Or.inr (Or.inl ⟨rfl, rfl⟩)))) q692 hn9 hw hck (rm_up _ _ _ _) dX6_init_1530 (fun H cells slots hS hcs => ?_)
    refine lv_dup E.1 hb dX6_init_1532 rfl ?_
    refine lv_iconst (v := 0) E.1 hb dX6_init_1533 rfl ?_
    refine lv_bipush (v := 109) E.1 hb dX6_init_1534 rfl ?_
    obtain ⟨A344, hg, hw, hf⟩ := uI_s hf
    refine d_st E hb hS hg rfl (Or.inr (Or.inr (Or.inl ⟨rfl, rfl, rfl⟩))) hw dX6_init_1536 (fun H locs hS => ?_)
    have hcs := rm_w (A2 := A344) hcs (by rw [hw]; exact ⟨rfl, rfl⟩)
    refine lv_dup E.1 hb dX6_init_1537 rfl ?_
    refine lv_iconst (v := 1) E.1 hb dX6_init_1538 rfl ?_
    refine lv_bipush (v := 101) E.1 hb dX6_init_1539 rfl ?_
    obtain ⟨A345, hg, hw, hf⟩ := uI_s hf
    refine d_st E hb hS hg rfl (Or.inr (Or.inr (Or.inl ⟨rfl, rfl, rfl⟩))) hw dX6_init_1541 (fun H locs hS => ?_)
    have hcs := rm_w (A2 := A345) hcs (by rw [hw]; exact ⟨rfl, rfl⟩)
    refine lv_dup E.1 hb dX6_init_1542 rfl ?_
    refine lv_iconst (v := 2) E.1 hb dX6_init_1543 rfl ?_
    refine lv_bipush (v := 101) E.1 hb dX6_init_1544 rfl ?_
    obtain ⟨A346, hg, hw, hf⟩ := uI_s hf
    refine d_st E hb hS hg rfl (Or.inr (Or.inr (Or.inl ⟨rfl, rfl, rfl⟩))) hw dX6_init_1546 (fun H locs hS => ?_)
    have hcs := rm_w (A2 := A346) hcs (by rw [hw]; exact ⟨rfl, rfl⟩)
    refine lv_dup E.1 hb dX6_init_1547 rfl ?_
    refine lv_iconst (v := 3) E.1 hb dX6_init_1548 rfl ?_
    refine lv_bipush (v := 116) E.1 hb dX6_init_1549 rfl ?_
    obtain ⟨A347, hg, hw, hf⟩ := uI_s hf
    refine d_st E hb hS hg rfl (Or.inr (Or.inr (Or.inl ⟨rfl, rfl, rfl⟩))) hw dX6_init_1551 (fun H locs hS => ?_)
    have hcs := rm_w (A2 := A347) hcs (by rw [hw]; exact ⟨rfl, rfl⟩)
    refine lv_dup E.1 hb dX6_init_1552 rfl ?_
    refine lv_iconst (v := 4) E.1 hb dX6_init_1553 rfl ?_
    refine lv_bipush (v := 115) E.1 hb dX6_init_1554 rfl ?_
    obtain ⟨A348, hg, hw, hf⟩ := uI_s hf
    refine d_st E hb hS hg rfl (Or.inr (Or.inr (Or.inl ⟨rfl, rfl, rfl⟩))) hw dX6_init_1556 (fun H locs hS => ?_)
    have hcs := rm_w (A2 := A348) hcs (by rw [hw]; exact ⟨rfl, rfl⟩)
    obtain ⟨A349, hk, hw, hf⟩ := pR_s hf
    refine c_pR (k := 93) (f := 2193) (r := (some (aN A342))) E hb hS ci_21 hk (hS.1.lt hk rfl) rfl rfl (fun h => h.elim) (Or.inr ⟨hnm, rfl, rfl, q1775⟩) fk_X6_225_X6 (fun _ h => h) (fun q => by cases q <;> exact ⟨rfl, rfl⟩) hw dX6_init_1557 (fun H locs hS => ?_)
    have hcs := rm_w (A2 := A349) hcs (by rw [hw]; exact ⟨rfl, rfl⟩)
    exact hB1560 A349 hf _ _ _ _ hcs hS _ (lv_sub hl [0] rfl)
  have hB1436 : ∀ (A : AH), X6_init_b1436 x0 A = some ((), A') → ∀ (H : Heap) (locs : List Loc) (cells slots : Nat), aN A0 + cells ≤ aN A ∧ aS A0 + slots ≤ aS A →  cS dC dI ac ad False s.heap (aN A0) (aS A0) (aN A') (aS A') A H locs → ∀ (ls : Array Slot), lv_has ls 1 [(0, .ref (ad x0))] → W p l e { frames := 1, cells := aN A' - aN A0, slots := aS A' - aS A0, locals := 20 } s m args below meth c H locs cells slots (MQ below (cQv dC dI ac ad False (aN A0) (aS A0) (aN A') (aS A') A') args s (aN A' - aN A0) (aS A' - aS A0) (cF ad)) (F0 m 1436 ls []) := by
    intro A hf H locs cells slots hcs hS ls hl
    unfold X6_init_b1436 at hf
    refine lv_aload_n E.1 hb dX6_init_1436 rfl (lv_at hl 0 rfl) ?_
    refine lv_iconst (v := 5) E.1 hb dX6_init_1437 rfl ?_
    obtain ⟨A323, hn9, hw, hf⟩ := nwA_s hf
    obtain ⟨hck, hf⟩ := ck_s hf
    refine c_newa (atype := .char) E hb hS hcs (Or.inr (Or.inr (Or.inr (Or.inl ⟨rfl, rfl⟩)))) q692 hn9 hw hck (rm_up _ _ _ _) dX6_init_1438 (fun H cells slots hS hcs => ?_)
    refine lv_dup E.1 hb dX6_init_1440 rfl ?_
    refine lv_iconst (v := 0) E.1 hb dX6_init_1441 rfl ?_
    refine lv_bipush (v := 111) E.1 hb dX6_init_1442 rfl ?_
    obtain ⟨A324, hg, hw, hf⟩ := uI_s hf
    refine d_st E hb hS hg rfl (Or.inr (Or.inr (Or.inl ⟨rfl, rfl, rfl⟩))) hw dX6_init_1444 (fun H locs hS => ?_)
    have hcs := rm_w (A2 := A324) hcs (by rw [hw]; exact ⟨rfl, rfl⟩)
    refine lv_dup E.1 hb dX6_init_1445 rfl ?_
    refine lv_iconst (v := 1) E.1 hb dX6_init_1446 rfl ?_
    refine lv_bipush (v := 116) E.1 hb dX6_init_1447 rfl ?_
    obtain ⟨A325, hg, hw, hf⟩ := uI_s hf
    refine d_st E hb hS hg rfl (Or.inr (Or.inr (Or.inl ⟨rfl, rfl, rfl⟩))) hw dX6_init_1449 (fun H locs hS => ?_)
    have hcs := rm_w (A2 := A325) hcs (by rw [hw]; exact ⟨rfl, rfl⟩)
    refine lv_dup E.1 hb dX6_init_1450 rfl ?_
    refine lv_iconst (v := 2) E.1 hb dX6_init_1451 rfl ?_
    refine lv_bipush (v := 104) E.1 hb dX6_init_1452 rfl ?_
    obtain ⟨A326, hg, hw, hf⟩ := uI_s hf
    refine d_st E hb hS hg rfl (Or.inr (Or.inr (Or.inl ⟨rfl, rfl, rfl⟩))) hw dX6_init_1454 (fun H locs hS => ?_)
    have hcs := rm_w (A2 := A326) hcs (by rw [hw]; exact ⟨rfl, rfl⟩)
    refine lv_dup E.1 hb dX6_init_1455 rfl ?_
    refine lv_iconst (v := 3) E.1 hb dX6_init_1456 rfl ?_
    refine lv_bipush (v := 101) E.1 hb dX6_init_1457 rfl ?_
    obtain ⟨A327, hg, hw, hf⟩ := uI_s hf
    refine d_st E hb hS hg rfl (Or.inr (Or.inr (Or.inl ⟨rfl, rfl, rfl⟩))) hw dX6_init_1459 (fun H locs hS => ?_)
    have hcs := rm_w (A2 := A327) hcs (by rw [hw]; exact ⟨rfl, rfl⟩)
    refine lv_dup E.1 hb dX6_init_1460 rfl ?_
    refine lv_iconst (v := 4) E.1 hb dX6_init_1461 rfl ?_
    refine lv_bipush (v := 114) E.1 hb dX6_init_1462 rfl ?_
    obtain ⟨A328, hg, hw, hf⟩ := uI_s hf
    refine d_st E hb hS hg rfl (Or.inr (Or.inr (Or.inl ⟨rfl, rfl, rfl⟩))) hw dX6_init_1464 (fun H locs hS => ?_)
    have hcs := rm_w (A2 := A328) hcs (by rw [hw]; exact ⟨rfl, rfl⟩)
    obtain ⟨A329, hk, hw, hf⟩ := pR_s hf
    refine c_pR (k := 90) (f := 2190) (r := (some (aN A))) E hb hS ci_21 hk (hS.1.lt hk rfl) rfl rfl (fun h => h.elim) (Or.inr ⟨hnm, rfl, rfl, q1772⟩) fk_X6_216_X6 (fun _ h => h) (fun q => by cases q <;> exact ⟨rfl, rfl⟩) hw dX6_init_1465 (fun H locs hS => ?_)
    have hcs := rm_w (A2 := A329) hcs (by rw [hw]; exact ⟨rfl, rfl⟩)
    refine lv_aload_n E.1 hb dX6_init_1468 rfl (lv_at hl 0 rfl) ?_
    refine lv_bipush (v := 6) E.1 hb dX6_init_1469 rfl ?_
    obtain ⟨A330, hn9, hw, hf⟩ := nwA_s hf
    obtain ⟨hck, hf⟩ := ck_s hf
    refine c_newa (atype := .char) E hb hS hcs (Or.inr (Or.inr (Or.inr (Or.inl ⟨rfl, rfl⟩)))) q692 hn9 hw hck (rm_up _ _ _ _) dX6_init_1471 (fun H cells slots hS hcs => ?_)
    refine lv_dup E.1 hb dX6_init_1473 rfl ?_
    refine lv_iconst (v := 0) E.1 hb dX6_init_1474 rfl ?_
    refine lv_bipush (v := 110) E.1 hb dX6_init_1475 rfl ?_
    obtain ⟨A331, hg, hw, hf⟩ := uI_s hf
    refine d_st E hb hS hg rfl (Or.inr (Or.inr (Or.inl ⟨rfl, rfl, rfl⟩))) hw dX6_init_1477 (fun H locs hS => ?_)
    have hcs := rm_w (A2 := A331) hcs (by rw [hw]; exact ⟨rfl, rfl⟩)
    refine lv_dup E.1 hb dX6_init_1478 rfl ?_
    refine lv_iconst (v := 1) E.1 hb dX6_init_1479 rfl ?_
    refine lv_bipush (v := 117) E.1 hb dX6_init_1480 rfl ?_
    obtain ⟨A332, hg, hw, hf⟩ := uI_s hf
    refine d_st E hb hS hg rfl (Or.inr (Or.inr (Or.inl ⟨rfl, rfl, rfl⟩))) hw dX6_init_1482 (fun H locs hS => ?_)
    have hcs := rm_w (A2 := A332) hcs (by rw [hw]; exact ⟨rfl, rfl⟩)
    refine lv_dup E.1 hb dX6_init_1483 rfl ?_
    refine lv_iconst (v := 2) E.1 hb dX6_init_1484 rfl ?_
    refine lv_bipush (v := 109) E.1 hb dX6_init_1485 rfl ?_
    obtain ⟨A333, hg, hw, hf⟩ := uI_s hf
    refine d_st E hb hS hg rfl (Or.inr (Or.inr (Or.inl ⟨rfl, rfl, rfl⟩))) hw dX6_init_1487 (fun H locs hS => ?_)
    have hcs := rm_w (A2 := A333) hcs (by rw [hw]; exact ⟨rfl, rfl⟩)
    refine lv_dup E.1 hb dX6_init_1488 rfl ?_
    refine lv_iconst (v := 3) E.1 hb dX6_init_1489 rfl ?_
    refine lv_bipush (v := 98) E.1 hb dX6_init_1490 rfl ?_
    obtain ⟨A334, hg, hw, hf⟩ := uI_s hf
    refine d_st E hb hS hg rfl (Or.inr (Or.inr (Or.inl ⟨rfl, rfl, rfl⟩))) hw dX6_init_1492 (fun H locs hS => ?_)
    have hcs := rm_w (A2 := A334) hcs (by rw [hw]; exact ⟨rfl, rfl⟩)
    refine lv_dup E.1 hb dX6_init_1493 rfl ?_
    refine lv_iconst (v := 4) E.1 hb dX6_init_1494 rfl ?_
    refine lv_bipush (v := 101) E.1 hb dX6_init_1495 rfl ?_
    obtain ⟨A335, hg, hw, hf⟩ := uI_s hf
    refine d_st E hb hS hg rfl (Or.inr (Or.inr (Or.inl ⟨rfl, rfl, rfl⟩))) hw dX6_init_1497 (fun H locs hS => ?_)
    have hcs := rm_w (A2 := A335) hcs (by rw [hw]; exact ⟨rfl, rfl⟩)
    refine lv_dup E.1 hb dX6_init_1498 rfl ?_
    refine lv_iconst (v := 5) E.1 hb dX6_init_1499 rfl ?_
    refine lv_bipush (v := 114) E.1 hb dX6_init_1500 rfl ?_
    obtain ⟨A336, hg, hw, hf⟩ := uI_s hf
    refine d_st E hb hS hg rfl (Or.inr (Or.inr (Or.inl ⟨rfl, rfl, rfl⟩))) hw dX6_init_1502 (fun H locs hS => ?_)
    have hcs := rm_w (A2 := A336) hcs (by rw [hw]; exact ⟨rfl, rfl⟩)
    obtain ⟨A337, hk, hw, hf⟩ := pR_s hf
    refine c_pR (k := 91) (f := 2191) (r := (some (aN A329))) E hb hS ci_21 hk (hS.1.lt hk rfl) rfl rfl (fun h => h.elim) (Or.inr ⟨hnm, rfl, rfl, q1773⟩) fk_X6_219_X6 (fun _ h => h) (fun q => by cases q <;> exact ⟨rfl, rfl⟩) hw dX6_init_1503 (fun H locs hS => ?_)
    have hcs := rm_w (A2 := A337) hcs (by rw [hw]; exact ⟨rfl, rfl⟩)
    exact hB1506 A337 hf _ _ _ _ hcs hS _ (lv_sub hl [0] rfl)
  have hB1377 : ∀ (A : AH), X6_init_b1377 x0 A = some ((), A') → ∀ (H : Heap) (locs : List Loc) (cells slots : Nat), aN A0 + cells ≤ aN A ∧ aS A0 + slots ≤ aS A →  cS dC dI ac ad False s.heap (aN A0) (aS A0) (aN A') (aS A') A H locs → ∀ (ls : Array Slot), lv_has ls 1 [(0, .ref (ad x0))] → W p l e { frames := 1, cells := aN A' - aN A0, slots := aS A' - aS A0, locals := 20 } s m args below meth c H locs cells slots (MQ below (cQv dC dI ac ad False (aN A0) (aS A0) (aN A') (aS A') A') args s (aN A' - aN A0) (aS A' - aS A0) (cF ad)) (F0 m 1377 ls []) := by
    intro A hf H locs cells slots hcs hS ls hl
    unfold X6_init_b1377 at hf
    refine lv_aload_n E.1 hb dX6_init_1377 rfl (lv_at hl 0 rfl) ?_
    refine lv_iconst (v := 5) E.1 hb dX6_init_1378 rfl ?_
    obtain ⟨A310, hn9, hw, hf⟩ := nwA_s hf
    obtain ⟨hck, hf⟩ := ck_s hf
    refine c_newa (atype := .char) E hb hS hcs (Or.inr (Or.inr (Or.inr (Or.inl ⟨rfl, rfl⟩)))) q692 hn9 hw hck (rm_up _ _ _ _) dX6_init_1379 (fun H cells slots hS hcs => ?_)
    refine lv_dup E.1 hb dX6_init_1381 rfl ?_
    refine lv_iconst (v := 0) E.1 hb dX6_init_1382 rfl ?_
    refine lv_bipush (v := 112) E.1 hb dX6_init_1383 rfl ?_
    obtain ⟨A311, hg, hw, hf⟩ := uI_s hf
    refine d_st E hb hS hg rfl (Or.inr (Or.inr (Or.inl ⟨rfl, rfl, rfl⟩))) hw dX6_init_1385 (fun H locs hS => ?_)
    have hcs := rm_w (A2 := A311) hcs (by rw [hw]; exact ⟨rfl, rfl⟩)
    refine lv_dup E.1 hb dX6_init_1386 rfl ?_
    refine lv_iconst (v := 1) E.1 hb dX6_init_1387 rfl ?_
    refine lv_bipush (v := 117) E.1 hb dX6_init_1388 rfl ?_
    obtain ⟨A312, hg, hw, hf⟩ := uI_s hf
    refine d_st E hb hS hg rfl (Or.inr (Or.inr (Or.inl ⟨rfl, rfl, rfl⟩))) hw dX6_init_1390 (fun H locs hS => ?_)
    have hcs := rm_w (A2 := A312) hcs (by rw [hw]; exact ⟨rfl, rfl⟩)
    refine lv_dup E.1 hb dX6_init_1391 rfl ?_
    refine lv_iconst (v := 2) E.1 hb dX6_init_1392 rfl ?_
    refine lv_bipush (v := 114) E.1 hb dX6_init_1393 rfl ?_
    obtain ⟨A313, hg, hw, hf⟩ := uI_s hf
    refine d_st E hb hS hg rfl (Or.inr (Or.inr (Or.inl ⟨rfl, rfl, rfl⟩))) hw dX6_init_1395 (fun H locs hS => ?_)
    have hcs := rm_w (A2 := A313) hcs (by rw [hw]; exact ⟨rfl, rfl⟩)
    refine lv_dup E.1 hb dX6_init_1396 rfl ?_
    refine lv_iconst (v := 3) E.1 hb dX6_init_1397 rfl ?_
    refine lv_bipush (v := 115) E.1 hb dX6_init_1398 rfl ?_
    obtain ⟨A314, hg, hw, hf⟩ := uI_s hf
    refine d_st E hb hS hg rfl (Or.inr (Or.inr (Or.inl ⟨rfl, rfl, rfl⟩))) hw dX6_init_1400 (fun H locs hS => ?_)
    have hcs := rm_w (A2 := A314) hcs (by rw [hw]; exact ⟨rfl, rfl⟩)
    refine lv_dup E.1 hb dX6_init_1401 rfl ?_
    refine lv_iconst (v := 4) E.1 hb dX6_init_1402 rfl ?_
    refine lv_bipush (v := 101) E.1 hb dX6_init_1403 rfl ?_
    obtain ⟨A315, hg, hw, hf⟩ := uI_s hf
    refine d_st E hb hS hg rfl (Or.inr (Or.inr (Or.inl ⟨rfl, rfl, rfl⟩))) hw dX6_init_1405 (fun H locs hS => ?_)
    have hcs := rm_w (A2 := A315) hcs (by rw [hw]; exact ⟨rfl, rfl⟩)
    obtain ⟨A316, hk, hw, hf⟩ := pR_s hf
    refine c_pR (k := 88) (f := 2188) (r := (some (aN A))) E hb hS ci_21 hk (hS.1.lt hk rfl) rfl rfl (fun h => h.elim) (Or.inr ⟨hnm, rfl, rfl, q1770⟩) fk_X6_210_X6 (fun _ h => h) (fun q => by cases q <;> exact ⟨rfl, rfl⟩) hw dX6_init_1406 (fun H locs hS => ?_)
    have hcs := rm_w (A2 := A316) hcs (by rw [hw]; exact ⟨rfl, rfl⟩)
    refine lv_aload_n E.1 hb dX6_init_1409 rfl (lv_at hl 0 rfl) ?_
    refine lv_iconst (v := 4) E.1 hb dX6_init_1410 rfl ?_
    obtain ⟨A317, hn9, hw, hf⟩ := nwA_s hf
    obtain ⟨hck, hf⟩ := ck_s hf
    refine c_newa (atype := .char) E hb hS hcs (Or.inr (Or.inr (Or.inr (Or.inl ⟨rfl, rfl⟩)))) q692 hn9 hw hck (rm_up _ _ _ _) dX6_init_1411 (fun H cells slots hS hcs => ?_)
    refine lv_dup E.1 hb dX6_init_1413 rfl ?_
    refine lv_iconst (v := 0) E.1 hb dX6_init_1414 rfl ?_
    refine lv_bipush (v := 111) E.1 hb dX6_init_1415 rfl ?_
    obtain ⟨A318, hg, hw, hf⟩ := uI_s hf
    refine d_st E hb hS hg rfl (Or.inr (Or.inr (Or.inl ⟨rfl, rfl, rfl⟩))) hw dX6_init_1417 (fun H locs hS => ?_)
    have hcs := rm_w (A2 := A318) hcs (by rw [hw]; exact ⟨rfl, rfl⟩)
    refine lv_dup E.1 hb dX6_init_1418 rfl ?_
    refine lv_iconst (v := 1) E.1 hb dX6_init_1419 rfl ?_
    refine lv_bipush (v := 112) E.1 hb dX6_init_1420 rfl ?_
    obtain ⟨A319, hg, hw, hf⟩ := uI_s hf
    refine d_st E hb hS hg rfl (Or.inr (Or.inr (Or.inl ⟨rfl, rfl, rfl⟩))) hw dX6_init_1422 (fun H locs hS => ?_)
    have hcs := rm_w (A2 := A319) hcs (by rw [hw]; exact ⟨rfl, rfl⟩)
    refine lv_dup E.1 hb dX6_init_1423 rfl ?_
    refine lv_iconst (v := 2) E.1 hb dX6_init_1424 rfl ?_
    refine lv_bipush (v := 101) E.1 hb dX6_init_1425 rfl ?_
    obtain ⟨A320, hg, hw, hf⟩ := uI_s hf
    refine d_st E hb hS hg rfl (Or.inr (Or.inr (Or.inl ⟨rfl, rfl, rfl⟩))) hw dX6_init_1427 (fun H locs hS => ?_)
    have hcs := rm_w (A2 := A320) hcs (by rw [hw]; exact ⟨rfl, rfl⟩)
    refine lv_dup E.1 hb dX6_init_1428 rfl ?_
    refine lv_iconst (v := 3) E.1 hb dX6_init_1429 rfl ?_
    refine lv_bipush (v := 110) E.1 hb dX6_init_1430 rfl ?_
    obtain ⟨A321, hg, hw, hf⟩ := uI_s hf
    refine d_st E hb hS hg rfl (Or.inr (Or.inr (Or.inl ⟨rfl, rfl, rfl⟩))) hw dX6_init_1432 (fun H locs hS => ?_)
    have hcs := rm_w (A2 := A321) hcs (by rw [hw]; exact ⟨rfl, rfl⟩)
    obtain ⟨A322, hk, hw, hf⟩ := pR_s hf
    refine c_pR (k := 89) (f := 2189) (r := (some (aN A316))) E hb hS ci_21 hk (hS.1.lt hk rfl) rfl rfl (fun h => h.elim) (Or.inr ⟨hnm, rfl, rfl, q1771⟩) fk_X6_213_X6 (fun _ h => h) (fun q => by cases q <;> exact ⟨rfl, rfl⟩) hw dX6_init_1433 (fun H locs hS => ?_)
    have hcs := rm_w (A2 := A322) hcs (by rw [hw]; exact ⟨rfl, rfl⟩)
    exact hB1436 A322 hf _ _ _ _ hcs hS _ (lv_sub hl [0] rfl)
  have hB1318 : ∀ (A : AH), X6_init_b1318 x0 A = some ((), A') → ∀ (H : Heap) (locs : List Loc) (cells slots : Nat), aN A0 + cells ≤ aN A ∧ aS A0 + slots ≤ aS A →  cS dC dI ac ad False s.heap (aN A0) (aS A0) (aN A') (aS A') A H locs → ∀ (ls : Array Slot), lv_has ls 1 [(0, .ref (ad x0))] → W p l e { frames := 1, cells := aN A' - aN A0, slots := aS A' - aS A0, locals := 20 } s m args below meth c H locs cells slots (MQ below (cQv dC dI ac ad False (aN A0) (aS A0) (aN A') (aS A') A') args s (aN A' - aN A0) (aS A' - aS A0) (cF ad)) (F0 m 1318 ls []) := by
    intro A hf H locs cells slots hcs hS ls hl
    unfold X6_init_b1318 at hf
    refine lv_aload_n E.1 hb dX6_init_1318 rfl (lv_at hl 0 rfl) ?_
    refine lv_iconst (v := 4) E.1 hb dX6_init_1319 rfl ?_
    obtain ⟨A297, hn9, hw, hf⟩ := nwA_s hf
    obtain ⟨hck, hf⟩ := ck_s hf
    refine c_newa (atype := .char) E hb hS hcs (Or.inr (Or.inr (Or.inr (Or.inl ⟨rfl, rfl⟩)))) q692 hn9 hw hck (rm_up _ _ _ _) dX6_init_1320 (fun H cells slots hS hcs => ?_)
    refine lv_dup E.1 hb dX6_init_1322 rfl ?_
    refine lv_iconst (v := 0) E.1 hb dX6_init_1323 rfl ?_
    refine lv_bipush (v := 99) E.1 hb dX6_init_1324 rfl ?_
    obtain ⟨A298, hg, hw, hf⟩ := uI_s hf
    refine d_st E hb hS hg rfl (Or.inr (Or.inr (Or.inl ⟨rfl, rfl, rfl⟩))) hw dX6_init_1326 (fun H locs hS => ?_)
    have hcs := rm_w (A2 := A298) hcs (by rw [hw]; exact ⟨rfl, rfl⟩)
    refine lv_dup E.1 hb dX6_init_1327 rfl ?_
    refine lv_iconst (v := 1) E.1 hb dX6_init_1328 rfl ?_
    refine lv_bipush (v := 101) E.1 hb dX6_init_1329 rfl ?_
    obtain ⟨A299, hg, hw, hf⟩ := uI_s hf
    refine d_st E hb hS hg rfl (Or.inr (Or.inr (Or.inl ⟨rfl, rfl, rfl⟩))) hw dX6_init_1331 (fun H locs hS => ?_)
    have hcs := rm_w (A2 := A299) hcs (by rw [hw]; exact ⟨rfl, rfl⟩)
    refine lv_dup E.1 hb dX6_init_1332 rfl ?_
    refine lv_iconst (v := 2) E.1 hb dX6_init_1333 rfl ?_
    refine lv_bipush (v := 108) E.1 hb dX6_init_1334 rfl ?_
    obtain ⟨A300, hg, hw, hf⟩ := uI_s hf
    refine d_st E hb hS hg rfl (Or.inr (Or.inr (Or.inl ⟨rfl, rfl, rfl⟩))) hw dX6_init_1336 (fun H locs hS => ?_)
    have hcs := rm_w (A2 := A300) hcs (by rw [hw]; exact ⟨rfl, rfl⟩)
    refine lv_dup E.1 hb dX6_init_1337 rfl ?_
    refine lv_iconst (v := 3) E.1 hb dX6_init_1338 rfl ?_
    refine lv_bipush (v := 108) E.1 hb dX6_init_1339 rfl ?_
    obtain ⟨A301, hg, hw, hf⟩ := uI_s hf
    refine d_st E hb hS hg rfl (Or.inr (Or.inr (Or.inl ⟨rfl, rfl, rfl⟩))) hw dX6_init_1341 (fun H locs hS => ?_)
    have hcs := rm_w (A2 := A301) hcs (by rw [hw]; exact ⟨rfl, rfl⟩)
    obtain ⟨A302, hk, hw, hf⟩ := pR_s hf
    refine c_pR (k := 86) (f := 2186) (r := (some (aN A))) E hb hS ci_21 hk (hS.1.lt hk rfl) rfl rfl (fun h => h.elim) (Or.inr ⟨hnm, rfl, rfl, q1768⟩) fk_X6_204_X6 (fun _ h => h) (fun q => by cases q <;> exact ⟨rfl, rfl⟩) hw dX6_init_1342 (fun H locs hS => ?_)
    have hcs := rm_w (A2 := A302) hcs (by rw [hw]; exact ⟨rfl, rfl⟩)
    refine lv_aload_n E.1 hb dX6_init_1345 rfl (lv_at hl 0 rfl) ?_
    refine lv_iconst (v := 5) E.1 hb dX6_init_1346 rfl ?_
    obtain ⟨A303, hn9, hw, hf⟩ := nwA_s hf
    obtain ⟨hck, hf⟩ := ck_s hf
    refine c_newa (atype := .char) E hb hS hcs (Or.inr (Or.inr (Or.inr (Or.inl ⟨rfl, rfl⟩)))) q692 hn9 hw hck (rm_up _ _ _ _) dX6_init_1347 (fun H cells slots hS hcs => ?_)
    refine lv_dup E.1 hb dX6_init_1349 rfl ?_
    refine lv_iconst (v := 0) E.1 hb dX6_init_1350 rfl ?_
    refine lv_bipush (v := 116) E.1 hb dX6_init_1351 rfl ?_
    obtain ⟨A304, hg, hw, hf⟩ := uI_s hf
    refine d_st E hb hS hg rfl (Or.inr (Or.inr (Or.inl ⟨rfl, rfl, rfl⟩))) hw dX6_init_1353 (fun H locs hS => ?_)
    have hcs := rm_w (A2 := A304) hcs (by rw [hw]; exact ⟨rfl, rfl⟩)
    refine lv_dup E.1 hb dX6_init_1354 rfl ?_
    refine lv_iconst (v := 1) E.1 hb dX6_init_1355 rfl ?_
    refine lv_bipush (v := 114) E.1 hb dX6_init_1356 rfl ?_
    obtain ⟨A305, hg, hw, hf⟩ := uI_s hf
    refine d_st E hb hS hg rfl (Or.inr (Or.inr (Or.inl ⟨rfl, rfl, rfl⟩))) hw dX6_init_1358 (fun H locs hS => ?_)
    have hcs := rm_w (A2 := A305) hcs (by rw [hw]; exact ⟨rfl, rfl⟩)
    refine lv_dup E.1 hb dX6_init_1359 rfl ?_
    refine lv_iconst (v := 2) E.1 hb dX6_init_1360 rfl ?_
    refine lv_bipush (v := 97) E.1 hb dX6_init_1361 rfl ?_
    obtain ⟨A306, hg, hw, hf⟩ := uI_s hf
    refine d_st E hb hS hg rfl (Or.inr (Or.inr (Or.inl ⟨rfl, rfl, rfl⟩))) hw dX6_init_1363 (fun H locs hS => ?_)
    have hcs := rm_w (A2 := A306) hcs (by rw [hw]; exact ⟨rfl, rfl⟩)
    refine lv_dup E.1 hb dX6_init_1364 rfl ?_
    refine lv_iconst (v := 3) E.1 hb dX6_init_1365 rfl ?_
    refine lv_bipush (v := 100) E.1 hb dX6_init_1366 rfl ?_
    obtain ⟨A307, hg, hw, hf⟩ := uI_s hf
    refine d_st E hb hS hg rfl (Or.inr (Or.inr (Or.inl ⟨rfl, rfl, rfl⟩))) hw dX6_init_1368 (fun H locs hS => ?_)
    have hcs := rm_w (A2 := A307) hcs (by rw [hw]; exact ⟨rfl, rfl⟩)
    refine lv_dup E.1 hb dX6_init_1369 rfl ?_
    refine lv_iconst (v := 4) E.1 hb dX6_init_1370 rfl ?_
    refine lv_bipush (v := 101) E.1 hb dX6_init_1371 rfl ?_
    obtain ⟨A308, hg, hw, hf⟩ := uI_s hf
    refine d_st E hb hS hg rfl (Or.inr (Or.inr (Or.inl ⟨rfl, rfl, rfl⟩))) hw dX6_init_1373 (fun H locs hS => ?_)
    have hcs := rm_w (A2 := A308) hcs (by rw [hw]; exact ⟨rfl, rfl⟩)
    obtain ⟨A309, hk, hw, hf⟩ := pR_s hf
    refine c_pR (k := 87) (f := 2187) (r := (some (aN A302))) E hb hS ci_21 hk (hS.1.lt hk rfl) rfl rfl (fun h => h.elim) (Or.inr ⟨hnm, rfl, rfl, q1769⟩) fk_X6_207_X6 (fun _ h => h) (fun q => by cases q <;> exact ⟨rfl, rfl⟩) hw dX6_init_1374 (fun H locs hS => ?_)
    have hcs := rm_w (A2 := A309) hcs (by rw [hw]; exact ⟨rfl, rfl⟩)
    exact hB1377 A309 hf _ _ _ _ hcs hS _ (lv_sub hl [0] rfl)
  have hB1269 : ∀ (A : AH), X6_init_b1269 x0 A = some ((), A') → ∀ (H : Heap) (locs : List Loc) (cells slots : Nat), aN A0 + cells ≤ aN A ∧ aS A0 + slots ≤ aS A →  cS dC dI ac ad False s.heap (aN A0) (aS A0) (aN A') (aS A') A H locs → ∀ (ls : Array Slot), lv_has ls 1 [(0, .ref (ad x0))] → W p l e { frames := 1, cells := aN A' - aN A0, slots := aS A' - aS A0, locals := 20 } s m args below meth c H locs cells slots (MQ below (cQv dC dI ac ad False (aN A0) (aS A0) (aN A') (aS A') A') args s (aN A' - aN A0) (aS A' - aS A0) (cF ad)) (F0 m 1269 ls []) := by
    intro A hf H locs cells slots hcs hS ls hl
    unfold X6_init_b1269 at hf
    refine lv_aload_n E.1 hb dX6_init_1269 rfl (lv_at hl 0 rfl) ?_
    refine lv_iconst (v := 3) E.1 hb dX6_init_1270 rfl ?_
    obtain ⟨A286, hn9, hw, hf⟩ := nwA_s hf
    obtain ⟨hck, hf⟩ := ck_s hf
    refine c_newa (atype := .char) E hb hS hcs (Or.inr (Or.inr (Or.inr (Or.inl ⟨rfl, rfl⟩)))) q692 hn9 hw hck (rm_up _ _ _ _) dX6_init_1271 (fun H cells slots hS hcs => ?_)
    refine lv_dup E.1 hb dX6_init_1273 rfl ?_
    refine lv_iconst (v := 0) E.1 hb dX6_init_1274 rfl ?_
    refine lv_bipush (v := 100) E.1 hb dX6_init_1275 rfl ?_
    obtain ⟨A287, hg, hw, hf⟩ := uI_s hf
    refine d_st E hb hS hg rfl (Or.inr (Or.inr (Or.inl ⟨rfl, rfl, rfl⟩))) hw dX6_init_1277 (fun H locs hS => ?_)
    have hcs := rm_w (A2 := A287) hcs (by rw [hw]; exact ⟨rfl, rfl⟩)
    refine lv_dup E.1 hb dX6_init_1278 rfl ?_
    refine lv_iconst (v := 1) E.1 hb dX6_init_1279 rfl ?_
    refine lv_bipush (v := 97) E.1 hb dX6_init_1280 rfl ?_
    obtain ⟨A288, hg, hw, hf⟩ := uI_s hf
    refine d_st E hb hS hg rfl (Or.inr (Or.inr (Or.inl ⟨rfl, rfl, rfl⟩))) hw dX6_init_1282 (fun H locs hS => ?_)
    have hcs := rm_w (A2 := A288) hcs (by rw [hw]; exact ⟨rfl, rfl⟩)
    refine lv_dup E.1 hb dX6_init_1283 rfl ?_
    refine lv_iconst (v := 2) E.1 hb dX6_init_1284 rfl ?_
    refine lv_bipush (v := 121) E.1 hb dX6_init_1285 rfl ?_
    obtain ⟨A289, hg, hw, hf⟩ := uI_s hf
    refine d_st E hb hS hg rfl (Or.inr (Or.inr (Or.inl ⟨rfl, rfl, rfl⟩))) hw dX6_init_1287 (fun H locs hS => ?_)
    have hcs := rm_w (A2 := A289) hcs (by rw [hw]; exact ⟨rfl, rfl⟩)
    obtain ⟨A290, hk, hw, hf⟩ := pR_s hf
    refine c_pR (k := 84) (f := 2184) (r := (some (aN A))) E hb hS ci_21 hk (hS.1.lt hk rfl) rfl rfl (fun h => h.elim) (Or.inr ⟨hnm, rfl, rfl, q1766⟩) fk_X6_198_X6 (fun _ h => h) (fun q => by cases q <;> exact ⟨rfl, rfl⟩) hw dX6_init_1288 (fun H locs hS => ?_)
    have hcs := rm_w (A2 := A290) hcs (by rw [hw]; exact ⟨rfl, rfl⟩)
    refine lv_aload_n E.1 hb dX6_init_1291 rfl (lv_at hl 0 rfl) ?_
    refine lv_iconst (v := 4) E.1 hb dX6_init_1292 rfl ?_
    obtain ⟨A291, hn9, hw, hf⟩ := nwA_s hf
    obtain ⟨hck, hf⟩ := ck_s hf
    refine c_newa (atype := .char) E hb hS hcs (Or.inr (Or.inr (Or.inr (Or.inl ⟨rfl, rfl⟩)))) q692 hn9 hw hck (rm_up _ _ _ _) dX6_init_1293 (fun H cells slots hS hcs => ?_)
    refine lv_dup E.1 hb dX6_init_1295 rfl ?_
    refine lv_iconst (v := 0) E.1 hb dX6_init_1296 rfl ?_
    refine lv_bipush (v := 108) E.1 hb dX6_init_1297 rfl ?_
    obtain ⟨A292, hg, hw, hf⟩ := uI_s hf
    refine d_st E hb hS hg rfl (Or.inr (Or.inr (Or.inl ⟨rfl, rfl, rfl⟩))) hw dX6_init_1299 (fun H locs hS => ?_)
    have hcs := rm_w (A2 := A292) hcs (by rw [hw]; exact ⟨rfl, rfl⟩)
    refine lv_dup E.1 hb dX6_init_1300 rfl ?_
    refine lv_iconst (v := 1) E.1 hb dX6_init_1301 rfl ?_
    refine lv_bipush (v := 101) E.1 hb dX6_init_1302 rfl ?_
    obtain ⟨A293, hg, hw, hf⟩ := uI_s hf
    refine d_st E hb hS hg rfl (Or.inr (Or.inr (Or.inl ⟨rfl, rfl, rfl⟩))) hw dX6_init_1304 (fun H locs hS => ?_)
    have hcs := rm_w (A2 := A293) hcs (by rw [hw]; exact ⟨rfl, rfl⟩)
    refine lv_dup E.1 hb dX6_init_1305 rfl ?_
    refine lv_iconst (v := 2) E.1 hb dX6_init_1306 rfl ?_
    refine lv_bipush (v := 97) E.1 hb dX6_init_1307 rfl ?_
    obtain ⟨A294, hg, hw, hf⟩ := uI_s hf
    refine d_st E hb hS hg rfl (Or.inr (Or.inr (Or.inl ⟨rfl, rfl, rfl⟩))) hw dX6_init_1309 (fun H locs hS => ?_)
    have hcs := rm_w (A2 := A294) hcs (by rw [hw]; exact ⟨rfl, rfl⟩)
    refine lv_dup E.1 hb dX6_init_1310 rfl ?_
    refine lv_iconst (v := 3) E.1 hb dX6_init_1311 rfl ?_
    refine lv_bipush (v := 102) E.1 hb dX6_init_1312 rfl ?_
    obtain ⟨A295, hg, hw, hf⟩ := uI_s hf
    refine d_st E hb hS hg rfl (Or.inr (Or.inr (Or.inl ⟨rfl, rfl, rfl⟩))) hw dX6_init_1314 (fun H locs hS => ?_)
    have hcs := rm_w (A2 := A295) hcs (by rw [hw]; exact ⟨rfl, rfl⟩)
    obtain ⟨A296, hk, hw, hf⟩ := pR_s hf
    refine c_pR (k := 85) (f := 2185) (r := (some (aN A290))) E hb hS ci_21 hk (hS.1.lt hk rfl) rfl rfl (fun h => h.elim) (Or.inr ⟨hnm, rfl, rfl, q1767⟩) fk_X6_201_X6 (fun _ h => h) (fun q => by cases q <;> exact ⟨rfl, rfl⟩) hw dX6_init_1315 (fun H locs hS => ?_)
    have hcs := rm_w (A2 := A296) hcs (by rw [hw]; exact ⟨rfl, rfl⟩)
    exact hB1318 A296 hf _ _ _ _ hcs hS _ (lv_sub hl [0] rfl)
  have hB1225 : ∀ (A : AH), X6_init_b1225 x0 A = some ((), A') → ∀ (H : Heap) (locs : List Loc) (cells slots : Nat), aN A0 + cells ≤ aN A ∧ aS A0 + slots ≤ aS A →  cS dC dI ac ad False s.heap (aN A0) (aS A0) (aN A') (aS A') A H locs → ∀ (ls : Array Slot), lv_has ls 1 [(0, .ref (ad x0))] → W p l e { frames := 1, cells := aN A' - aN A0, slots := aS A' - aS A0, locals := 20 } s m args below meth c H locs cells slots (MQ below (cQv dC dI ac ad False (aN A0) (aS A0) (aN A') (aS A') A') args s (aN A' - aN A0) (aS A' - aS A0) (cF ad)) (F0 m 1225 ls []) := by
    intro A hf H locs cells slots hcs hS ls hl
    unfold X6_init_b1225 at hf
    refine lv_aload_n E.1 hb dX6_init_1225 rfl (lv_at hl 0 rfl) ?_
    refine lv_iconst (v := 3) E.1 hb dX6_init_1226 rfl ?_
    obtain ⟨A276, hn9, hw, hf⟩ := nwA_s hf
    obtain ⟨hck, hf⟩ := ck_s hf
    refine c_newa (atype := .char) E hb hS hcs (Or.inr (Or.inr (Or.inr (Or.inl ⟨rfl, rfl⟩)))) q692 hn9 hw hck (rm_up _ _ _ _) dX6_init_1227 (fun H cells slots hS hcs => ?_)
    refine lv_dup E.1 hb dX6_init_1229 rfl ?_
    refine lv_iconst (v := 0) E.1 hb dX6_init_1230 rfl ?_
    refine lv_bipush (v := 109) E.1 hb dX6_init_1231 rfl ?_
    obtain ⟨A277, hg, hw, hf⟩ := uI_s hf
    refine d_st E hb hS hg rfl (Or.inr (Or.inr (Or.inl ⟨rfl, rfl, rfl⟩))) hw dX6_init_1233 (fun H locs hS => ?_)
    have hcs := rm_w (A2 := A277) hcs (by rw [hw]; exact ⟨rfl, rfl⟩)
    refine lv_dup E.1 hb dX6_init_1234 rfl ?_
    refine lv_iconst (v := 1) E.1 hb dX6_init_1235 rfl ?_
    refine lv_bipush (v := 105) E.1 hb dX6_init_1236 rfl ?_
    obtain ⟨A278, hg, hw, hf⟩ := uI_s hf
    refine d_st E hb hS hg rfl (Or.inr (Or.inr (Or.inl ⟨rfl, rfl, rfl⟩))) hw dX6_init_1238 (fun H locs hS => ?_)
    have hcs := rm_w (A2 := A278) hcs (by rw [hw]; exact ⟨rfl, rfl⟩)
    refine lv_dup E.1 hb dX6_init_1239 rfl ?_
    refine lv_iconst (v := 2) E.1 hb dX6_init_1240 rfl ?_
    refine lv_bipush (v := 110) E.1 hb dX6_init_1241 rfl ?_
    obtain ⟨A279, hg, hw, hf⟩ := uI_s hf
    refine d_st E hb hS hg rfl (Or.inr (Or.inr (Or.inl ⟨rfl, rfl, rfl⟩))) hw dX6_init_1243 (fun H locs hS => ?_)
    have hcs := rm_w (A2 := A279) hcs (by rw [hw]; exact ⟨rfl, rfl⟩)
    obtain ⟨A280, hk, hw, hf⟩ := pR_s hf
    refine c_pR (k := 82) (f := 2182) (r := (some (aN A))) E hb hS ci_21 hk (hS.1.lt hk rfl) rfl rfl (fun h => h.elim) (Or.inr ⟨hnm, rfl, rfl, q1764⟩) fk_X6_192_X6 (fun _ h => h) (fun q => by cases q <;> exact ⟨rfl, rfl⟩) hw dX6_init_1244 (fun H locs hS => ?_)
    have hcs := rm_w (A2 := A280) hcs (by rw [hw]; exact ⟨rfl, rfl⟩)
    refine lv_aload_n E.1 hb dX6_init_1247 rfl (lv_at hl 0 rfl) ?_
    refine lv_iconst (v := 3) E.1 hb dX6_init_1248 rfl ?_
    obtain ⟨A281, hn9, hw, hf⟩ := nwA_s hf
    obtain ⟨hck, hf⟩ := ck_s hf
    refine c_newa (atype := .char) E hb hS hcs (Or.inr (Or.inr (Or.inr (Or.inl ⟨rfl, rfl⟩)))) q692 hn9 hw hck (rm_up _ _ _ _) dX6_init_1249 (fun H cells slots hS hcs => ?_)
    refine lv_dup E.1 hb dX6_init_1251 rfl ?_
    refine lv_iconst (v := 0) E.1 hb dX6_init_1252 rfl ?_
    refine lv_bipush (v := 109) E.1 hb dX6_init_1253 rfl ?_
    obtain ⟨A282, hg, hw, hf⟩ := uI_s hf
    refine d_st E hb hS hg rfl (Or.inr (Or.inr (Or.inl ⟨rfl, rfl, rfl⟩))) hw dX6_init_1255 (fun H locs hS => ?_)
    have hcs := rm_w (A2 := A282) hcs (by rw [hw]; exact ⟨rfl, rfl⟩)
    refine lv_dup E.1 hb dX6_init_1256 rfl ?_
    refine lv_iconst (v := 1) E.1 hb dX6_init_1257 rfl ?_
    refine lv_bipush (v := 97) E.1 hb dX6_init_1258 rfl ?_
    obtain ⟨A283, hg, hw, hf⟩ := uI_s hf
    refine d_st E hb hS hg rfl (Or.inr (Or.inr (Or.inl ⟨rfl, rfl, rfl⟩))) hw dX6_init_1260 (fun H locs hS => ?_)
    have hcs := rm_w (A2 := A283) hcs (by rw [hw]; exact ⟨rfl, rfl⟩)
    refine lv_dup E.1 hb dX6_init_1261 rfl ?_
    refine lv_iconst (v := 2) E.1 hb dX6_init_1262 rfl ?_
    refine lv_bipush (v := 120) E.1 hb dX6_init_1263 rfl ?_
    obtain ⟨A284, hg, hw, hf⟩ := uI_s hf
    refine d_st E hb hS hg rfl (Or.inr (Or.inr (Or.inl ⟨rfl, rfl, rfl⟩))) hw dX6_init_1265 (fun H locs hS => ?_)
    have hcs := rm_w (A2 := A284) hcs (by rw [hw]; exact ⟨rfl, rfl⟩)
    obtain ⟨A285, hk, hw, hf⟩ := pR_s hf
    refine c_pR (k := 83) (f := 2183) (r := (some (aN A280))) E hb hS ci_21 hk (hS.1.lt hk rfl) rfl rfl (fun h => h.elim) (Or.inr ⟨hnm, rfl, rfl, q1765⟩) fk_X6_195_X6 (fun _ h => h) (fun q => by cases q <;> exact ⟨rfl, rfl⟩) hw dX6_init_1266 (fun H locs hS => ?_)
    have hcs := rm_w (A2 := A285) hcs (by rw [hw]; exact ⟨rfl, rfl⟩)
    exact hB1269 A285 hf _ _ _ _ hcs hS _ (lv_sub hl [0] rfl)
  have hB1164 : ∀ (A : AH), X6_init_b1164 x0 A = some ((), A') → ∀ (H : Heap) (locs : List Loc) (cells slots : Nat), aN A0 + cells ≤ aN A ∧ aS A0 + slots ≤ aS A →  cS dC dI ac ad False s.heap (aN A0) (aS A0) (aN A') (aS A') A H locs → ∀ (ls : Array Slot), lv_has ls 1 [(0, .ref (ad x0))] → W p l e { frames := 1, cells := aN A' - aN A0, slots := aS A' - aS A0, locals := 20 } s m args below meth c H locs cells slots (MQ below (cQv dC dI ac ad False (aN A0) (aS A0) (aN A') (aS A') A') args s (aN A' - aN A0) (aS A' - aS A0) (cF ad)) (F0 m 1164 ls []) := by
    intro A hf H locs cells slots hcs hS ls hl
    unfold X6_init_b1164 at hf
    refine lv_aload_n E.1 hb dX6_init_1164 rfl (lv_at hl 0 rfl) ?_
    refine lv_iconst (v := 3) E.1 hb dX6_init_1165 rfl ?_
    obtain ⟨A262, hn9, hw, hf⟩ := nwA_s hf
    obtain ⟨hck, hf⟩ := ck_s hf
    refine c_newa (atype := .char) E hb hS hcs (Or.inr (Or.inr (Or.inr (Or.inl ⟨rfl, rfl⟩)))) q692 hn9 hw hck (rm_up _ _ _ _) dX6_init_1166 (fun H cells slots hS hcs => ?_)
    refine lv_dup E.1 hb dX6_init_1168 rfl ?_
    refine lv_iconst (v := 0) E.1 hb dX6_init_1169 rfl ?_
    refine lv_bipush (v := 97) E.1 hb dX6_init_1170 rfl ?_
    obtain ⟨A263, hg, hw, hf⟩ := uI_s hf
    refine d_st E hb hS hg rfl (Or.inr (Or.inr (Or.inl ⟨rfl, rfl, rfl⟩))) hw dX6_init_1172 (fun H locs hS => ?_)
    have hcs := rm_w (A2 := A263) hcs (by rw [hw]; exact ⟨rfl, rfl⟩)
    refine lv_dup E.1 hb dX6_init_1173 rfl ?_
    refine lv_iconst (v := 1) E.1 hb dX6_init_1174 rfl ?_
    refine lv_bipush (v := 110) E.1 hb dX6_init_1175 rfl ?_
    obtain ⟨A264, hg, hw, hf⟩ := uI_s hf
    refine d_st E hb hS hg rfl (Or.inr (Or.inr (Or.inl ⟨rfl, rfl, rfl⟩))) hw dX6_init_1177 (fun H locs hS => ?_)
    have hcs := rm_w (A2 := A264) hcs (by rw [hw]; exact ⟨rfl, rfl⟩)
    refine lv_dup E.1 hb dX6_init_1178 rfl ?_
    refine lv_iconst (v := 2) E.1 hb dX6_init_1179 rfl ?_
    refine lv_bipush (v := 100) E.1 hb dX6_init_1180 rfl ?_
    obtain ⟨A265, hg, hw, hf⟩ := uI_s hf
    refine d_st E hb hS hg rfl (Or.inr (Or.inr (Or.inl ⟨rfl, rfl, rfl⟩))) hw dX6_init_1182 (fun H locs hS => ?_)
    have hcs := rm_w (A2 := A265) hcs (by rw [hw]; exact ⟨rfl, rfl⟩)
    obtain ⟨A266, hk, hw, hf⟩ := pR_s hf
    refine c_pR (k := 79) (f := 2179) (r := (some (aN A))) E hb hS ci_21 hk (hS.1.lt hk rfl) rfl rfl (fun h => h.elim) (Or.inr ⟨hnm, rfl, rfl, q1761⟩) fk_X6_183_X6 (fun _ h => h) (fun q => by cases q <;> exact ⟨rfl, rfl⟩) hw dX6_init_1183 (fun H locs hS => ?_)
    have hcs := rm_w (A2 := A266) hcs (by rw [hw]; exact ⟨rfl, rfl⟩)
    refine lv_aload_n E.1 hb dX6_init_1186 rfl (lv_at hl 0 rfl) ?_
    refine lv_iconst (v := 2) E.1 hb dX6_init_1187 rfl ?_
    obtain ⟨A267, hn9, hw, hf⟩ := nwA_s hf
    obtain ⟨hck, hf⟩ := ck_s hf
    refine c_newa (atype := .char) E hb hS hcs (Or.inr (Or.inr (Or.inr (Or.inl ⟨rfl, rfl⟩)))) q692 hn9 hw hck (rm_up _ _ _ _) dX6_init_1188 (fun H cells slots hS hcs => ?_)
    refine lv_dup E.1 hb dX6_init_1190 rfl ?_
    refine lv_iconst (v := 0) E.1 hb dX6_init_1191 rfl ?_
    refine lv_bipush (v := 111) E.1 hb dX6_init_1192 rfl ?_
    obtain ⟨A268, hg, hw, hf⟩ := uI_s hf
    refine d_st E hb hS hg rfl (Or.inr (Or.inr (Or.inl ⟨rfl, rfl, rfl⟩))) hw dX6_init_1194 (fun H locs hS => ?_)
    have hcs := rm_w (A2 := A268) hcs (by rw [hw]; exact ⟨rfl, rfl⟩)
    refine lv_dup E.1 hb dX6_init_1195 rfl ?_
    refine lv_iconst (v := 1) E.1 hb dX6_init_1196 rfl ?_
    refine lv_bipush (v := 114) E.1 hb dX6_init_1197 rfl ?_
    obtain ⟨A269, hg, hw, hf⟩ := uI_s hf
    refine d_st E hb hS hg rfl (Or.inr (Or.inr (Or.inl ⟨rfl, rfl, rfl⟩))) hw dX6_init_1199 (fun H locs hS => ?_)
    have hcs := rm_w (A2 := A269) hcs (by rw [hw]; exact ⟨rfl, rfl⟩)
    obtain ⟨A270, hk, hw, hf⟩ := pR_s hf
    refine c_pR (k := 80) (f := 2180) (r := (some (aN A266))) E hb hS ci_21 hk (hS.1.lt hk rfl) rfl rfl (fun h => h.elim) (Or.inr ⟨hnm, rfl, rfl, q1762⟩) fk_X6_186_X6 (fun _ h => h) (fun q => by cases q <;> exact ⟨rfl, rfl⟩) hw dX6_init_1200 (fun H locs hS => ?_)
    have hcs := rm_w (A2 := A270) hcs (by rw [hw]; exact ⟨rfl, rfl⟩)
    refine lv_aload_n E.1 hb dX6_init_1203 rfl (lv_at hl 0 rfl) ?_
    refine lv_iconst (v := 3) E.1 hb dX6_init_1204 rfl ?_
    obtain ⟨A271, hn9, hw, hf⟩ := nwA_s hf
    obtain ⟨hck, hf⟩ := ck_s hf
    refine c_newa (atype := .char) E hb hS hcs (Or.inr (Or.inr (Or.inr (Or.inl ⟨rfl, rfl⟩)))) q692 hn9 hw hck (rm_up _ _ _ _) dX6_init_1205 (fun H cells slots hS hcs => ?_)
    refine lv_dup E.1 hb dX6_init_1207 rfl ?_
    refine lv_iconst (v := 0) E.1 hb dX6_init_1208 rfl ?_
    refine lv_bipush (v := 97) E.1 hb dX6_init_1209 rfl ?_
    obtain ⟨A272, hg, hw, hf⟩ := uI_s hf
    refine d_st E hb hS hg rfl (Or.inr (Or.inr (Or.inl ⟨rfl, rfl, rfl⟩))) hw dX6_init_1211 (fun H locs hS => ?_)
    have hcs := rm_w (A2 := A272) hcs (by rw [hw]; exact ⟨rfl, rfl⟩)
    refine lv_dup E.1 hb dX6_init_1212 rfl ?_
    refine lv_iconst (v := 1) E.1 hb dX6_init_1213 rfl ?_
    refine lv_bipush (v := 108) E.1 hb dX6_init_1214 rfl ?_
    obtain ⟨A273, hg, hw, hf⟩ := uI_s hf
    refine d_st E hb hS hg rfl (Or.inr (Or.inr (Or.inl ⟨rfl, rfl, rfl⟩))) hw dX6_init_1216 (fun H locs hS => ?_)
    have hcs := rm_w (A2 := A273) hcs (by rw [hw]; exact ⟨rfl, rfl⟩)
    refine lv_dup E.1 hb dX6_init_1217 rfl ?_
    refine lv_iconst (v := 2) E.1 hb dX6_init_1218 rfl ?_
    refine lv_bipush (v := 108) E.1 hb dX6_init_1219 rfl ?_
    obtain ⟨A274, hg, hw, hf⟩ := uI_s hf
    refine d_st E hb hS hg rfl (Or.inr (Or.inr (Or.inl ⟨rfl, rfl, rfl⟩))) hw dX6_init_1221 (fun H locs hS => ?_)
    have hcs := rm_w (A2 := A274) hcs (by rw [hw]; exact ⟨rfl, rfl⟩)
    obtain ⟨A275, hk, hw, hf⟩ := pR_s hf
    refine c_pR (k := 81) (f := 2181) (r := (some (aN A270))) E hb hS ci_21 hk (hS.1.lt hk rfl) rfl rfl (fun h => h.elim) (Or.inr ⟨hnm, rfl, rfl, q1763⟩) fk_X6_189_X6 (fun _ h => h) (fun q => by cases q <;> exact ⟨rfl, rfl⟩) hw dX6_init_1222 (fun H locs hS => ?_)
    have hcs := rm_w (A2 := A275) hcs (by rw [hw]; exact ⟨rfl, rfl⟩)
    exact hB1225 A275 hf _ _ _ _ hcs hS _ (lv_sub hl [0] rfl)
  have hB1110 : ∀ (A : AH), X6_init_b1110 x0 A = some ((), A') → ∀ (H : Heap) (locs : List Loc) (cells slots : Nat), aN A0 + cells ≤ aN A ∧ aS A0 + slots ≤ aS A →  cS dC dI ac ad False s.heap (aN A0) (aS A0) (aN A') (aS A') A H locs → ∀ (ls : Array Slot), lv_has ls 1 [(0, .ref (ad x0))] → W p l e { frames := 1, cells := aN A' - aN A0, slots := aS A' - aS A0, locals := 20 } s m args below meth c H locs cells slots (MQ below (cQv dC dI ac ad False (aN A0) (aS A0) (aN A') (aS A') A') args s (aN A' - aN A0) (aS A' - aS A0) (cF ad)) (F0 m 1110 ls []) := by
    intro A hf H locs cells slots hcs hS ls hl
    unfold X6_init_b1110 at hf
    refine lv_aload_n E.1 hb dX6_init_1110 rfl (lv_at hl 0 rfl) ?_
    refine lv_iconst (v := 5) E.1 hb dX6_init_1111 rfl ?_
    obtain ⟨A250, hn9, hw, hf⟩ := nwA_s hf
    obtain ⟨hck, hf⟩ := ck_s hf
    refine c_newa (atype := .char) E hb hS hcs (Or.inr (Or.inr (Or.inr (Or.inl ⟨rfl, rfl⟩)))) q692 hn9 hw hck (rm_up _ _ _ _) dX6_init_1112 (fun H cells slots hS hcs => ?_)
    refine lv_dup E.1 hb dX6_init_1114 rfl ?_
    refine lv_iconst (v := 0) E.1 hb dX6_init_1115 rfl ?_
    refine lv_bipush (v := 108) E.1 hb dX6_init_1116 rfl ?_
    obtain ⟨A251, hg, hw, hf⟩ := uI_s hf
    refine d_st E hb hS hg rfl (Or.inr (Or.inr (Or.inl ⟨rfl, rfl, rfl⟩))) hw dX6_init_1118 (fun H locs hS => ?_)
    have hcs := rm_w (A2 := A251) hcs (by rw [hw]; exact ⟨rfl, rfl⟩)
    refine lv_dup E.1 hb dX6_init_1119 rfl ?_
    refine lv_iconst (v := 1) E.1 hb dX6_init_1120 rfl ?_
    refine lv_bipush (v := 101) E.1 hb dX6_init_1121 rfl ?_
    obtain ⟨A252, hg, hw, hf⟩ := uI_s hf
    refine d_st E hb hS hg rfl (Or.inr (Or.inr (Or.inl ⟨rfl, rfl, rfl⟩))) hw dX6_init_1123 (fun H locs hS => ?_)
    have hcs := rm_w (A2 := A252) hcs (by rw [hw]; exact ⟨rfl, rfl⟩)
    refine lv_dup E.1 hb dX6_init_1124 rfl ?_
    refine lv_iconst (v := 2) E.1 hb dX6_init_1125 rfl ?_
    refine lv_bipush (v := 97) E.1 hb dX6_init_1126 rfl ?_
    obtain ⟨A253, hg, hw, hf⟩ := uI_s hf
    refine d_st E hb hS hg rfl (Or.inr (Or.inr (Or.inl ⟨rfl, rfl, rfl⟩))) hw dX6_init_1128 (fun H locs hS => ?_)
    have hcs := rm_w (A2 := A253) hcs (by rw [hw]; exact ⟨rfl, rfl⟩)
    refine lv_dup E.1 hb dX6_init_1129 rfl ?_
    refine lv_iconst (v := 3) E.1 hb dX6_init_1130 rfl ?_
    refine lv_bipush (v := 115) E.1 hb dX6_init_1131 rfl ?_
    obtain ⟨A254, hg, hw, hf⟩ := uI_s hf
    refine d_st E hb hS hg rfl (Or.inr (Or.inr (Or.inl ⟨rfl, rfl, rfl⟩))) hw dX6_init_1133 (fun H locs hS => ?_)
    have hcs := rm_w (A2 := A254) hcs (by rw [hw]; exact ⟨rfl, rfl⟩)
    refine lv_dup E.1 hb dX6_init_1134 rfl ?_
    refine lv_iconst (v := 4) E.1 hb dX6_init_1135 rfl ?_
    refine lv_bipush (v := 116) E.1 hb dX6_init_1136 rfl ?_
    obtain ⟨A255, hg, hw, hf⟩ := uI_s hf
    refine d_st E hb hS hg rfl (Or.inr (Or.inr (Or.inl ⟨rfl, rfl, rfl⟩))) hw dX6_init_1138 (fun H locs hS => ?_)
    have hcs := rm_w (A2 := A255) hcs (by rw [hw]; exact ⟨rfl, rfl⟩)
    obtain ⟨A256, hk, hw, hf⟩ := pR_s hf
    refine c_pR (k := 77) (f := 2177) (r := (some (aN A))) E hb hS ci_21 hk (hS.1.lt hk rfl) rfl rfl (fun h => h.elim) (Or.inr ⟨hnm, rfl, rfl, q1759⟩) fk_X6_177_X6 (fun _ h => h) (fun q => by cases q <;> exact ⟨rfl, rfl⟩) hw dX6_init_1139 (fun H locs hS => ?_)
    have hcs := rm_w (A2 := A256) hcs (by rw [hw]; exact ⟨rfl, rfl⟩)
    refine lv_aload_n E.1 hb dX6_init_1142 rfl (lv_at hl 0 rfl) ?_
    refine lv_iconst (v := 3) E.1 hb dX6_init_1143 rfl ?_
    obtain ⟨A257, hn9, hw, hf⟩ := nwA_s hf
    obtain ⟨hck, hf⟩ := ck_s hf
    refine c_newa (atype := .char) E hb hS hcs (Or.inr (Or.inr (Or.inr (Or.inl ⟨rfl, rfl⟩)))) q692 hn9 hw hck (rm_up _ _ _ _) dX6_init_1144 (fun H cells slots hS hcs => ?_)
    refine lv_dup E.1 hb dX6_init_1146 rfl ?_
    refine lv_iconst (v := 0) E.1 hb dX6_init_1147 rfl ?_
    refine lv_bipush (v := 110) E.1 hb dX6_init_1148 rfl ?_
    obtain ⟨A258, hg, hw, hf⟩ := uI_s hf
    refine d_st E hb hS hg rfl (Or.inr (Or.inr (Or.inl ⟨rfl, rfl, rfl⟩))) hw dX6_init_1150 (fun H locs hS => ?_)
    have hcs := rm_w (A2 := A258) hcs (by rw [hw]; exact ⟨rfl, rfl⟩)
    refine lv_dup E.1 hb dX6_init_1151 rfl ?_
    refine lv_iconst (v := 1) E.1 hb dX6_init_1152 rfl ?_
    refine lv_bipush (v := 111) E.1 hb dX6_init_1153 rfl ?_
    obtain ⟨A259, hg, hw, hf⟩ := uI_s hf
    refine d_st E hb hS hg rfl (Or.inr (Or.inr (Or.inl ⟨rfl, rfl, rfl⟩))) hw dX6_init_1155 (fun H locs hS => ?_)
    have hcs := rm_w (A2 := A259) hcs (by rw [hw]; exact ⟨rfl, rfl⟩)
    refine lv_dup E.1 hb dX6_init_1156 rfl ?_
    refine lv_iconst (v := 2) E.1 hb dX6_init_1157 rfl ?_
    refine lv_bipush (v := 116) E.1 hb dX6_init_1158 rfl ?_
    obtain ⟨A260, hg, hw, hf⟩ := uI_s hf
    refine d_st E hb hS hg rfl (Or.inr (Or.inr (Or.inl ⟨rfl, rfl, rfl⟩))) hw dX6_init_1160 (fun H locs hS => ?_)
    have hcs := rm_w (A2 := A260) hcs (by rw [hw]; exact ⟨rfl, rfl⟩)
    obtain ⟨A261, hk, hw, hf⟩ := pR_s hf
    refine c_pR (k := 78) (f := 2178) (r := (some (aN A256))) E hb hS ci_21 hk (hS.1.lt hk rfl) rfl rfl (fun h => h.elim) (Or.inr ⟨hnm, rfl, rfl, q1760⟩) fk_X6_180_X6 (fun _ h => h) (fun q => by cases q <;> exact ⟨rfl, rfl⟩) hw dX6_init_1161 (fun H locs hS => ?_)
    have hcs := rm_w (A2 := A261) hcs (by rw [hw]; exact ⟨rfl, rfl⟩)
    exact hB1164 A261 hf _ _ _ _ hcs hS _ (lv_sub hl [0] rfl)
  have hB1051 : ∀ (A : AH), X6_init_b1051 x0 A = some ((), A') → ∀ (H : Heap) (locs : List Loc) (cells slots : Nat), aN A0 + cells ≤ aN A ∧ aS A0 + slots ≤ aS A →  cS dC dI ac ad False s.heap (aN A0) (aS A0) (aN A') (aS A') A H locs → ∀ (ls : Array Slot), lv_has ls 1 [(0, .ref (ad x0))] → W p l e { frames := 1, cells := aN A' - aN A0, slots := aS A' - aS A0, locals := 20 } s m args below meth c H locs cells slots (MQ below (cQv dC dI ac ad False (aN A0) (aS A0) (aN A') (aS A') A') args s (aN A' - aN A0) (aS A' - aS A0) (cF ad)) (F0 m 1051 ls []) := by
    intro A hf H locs cells slots hcs hS ls hl
    unfold X6_init_b1051 at hf
    refine lv_aload_n E.1 hb dX6_init_1051 rfl (lv_at hl 0 rfl) ?_
    refine lv_iconst (v := 5) E.1 hb dX6_init_1052 rfl ?_
    obtain ⟨A237, hn9, hw, hf⟩ := nwA_s hf
    obtain ⟨hck, hf⟩ := ck_s hf
    refine c_newa (atype := .char) E hb hS hcs (Or.inr (Or.inr (Or.inr (Or.inl ⟨rfl, rfl⟩)))) q692 hn9 hw hck (rm_up _ _ _ _) dX6_init_1053 (fun H cells slots hS hcs => ?_)
    refine lv_dup E.1 hb dX6_init_1055 rfl ?_
    refine lv_iconst (v := 0) E.1 hb dX6_init_1056 rfl ?_
    refine lv_bipush (v := 116) E.1 hb dX6_init_1057 rfl ?_
    obtain ⟨A238, hg, hw, hf⟩ := uI_s hf
    refine d_st E hb hS hg rfl (Or.inr (Or.inr (Or.inl ⟨rfl, rfl, rfl⟩))) hw dX6_init_1059 (fun H locs hS => ?_)
    have hcs := rm_w (A2 := A238) hcs (by rw [hw]; exact ⟨rfl, rfl⟩)
    refine lv_dup E.1 hb dX6_init_1060 rfl ?_
    refine lv_iconst (v := 1) E.1 hb dX6_init_1061 rfl ?_
    refine lv_bipush (v := 111) E.1 hb dX6_init_1062 rfl ?_
    obtain ⟨A239, hg, hw, hf⟩ := uI_s hf
    refine d_st E hb hS hg rfl (Or.inr (Or.inr (Or.inl ⟨rfl, rfl, rfl⟩))) hw dX6_init_1064 (fun H locs hS => ?_)
    have hcs := rm_w (A2 := A239) hcs (by rw [hw]; exact ⟨rfl, rfl⟩)
    refine lv_dup E.1 hb dX6_init_1065 rfl ?_
    refine lv_iconst (v := 2) E.1 hb dX6_init_1066 rfl ?_
    refine lv_bipush (v := 116) E.1 hb dX6_init_1067 rfl ?_
    obtain ⟨A240, hg, hw, hf⟩ := uI_s hf
    refine d_st E hb hS hg rfl (Or.inr (Or.inr (Or.inl ⟨rfl, rfl, rfl⟩))) hw dX6_init_1069 (fun H locs hS => ?_)
    have hcs := rm_w (A2 := A240) hcs (by rw [hw]; exact ⟨rfl, rfl⟩)
    refine lv_dup E.1 hb dX6_init_1070 rfl ?_
    refine lv_iconst (v := 3) E.1 hb dX6_init_1071 rfl ?_
    refine lv_bipush (v := 97) E.1 hb dX6_init_1072 rfl ?_
    obtain ⟨A241, hg, hw, hf⟩ := uI_s hf
    refine d_st E hb hS hg rfl (Or.inr (Or.inr (Or.inl ⟨rfl, rfl, rfl⟩))) hw dX6_init_1074 (fun H locs hS => ?_)
    have hcs := rm_w (A2 := A241) hcs (by rw [hw]; exact ⟨rfl, rfl⟩)
    refine lv_dup E.1 hb dX6_init_1075 rfl ?_
    refine lv_iconst (v := 4) E.1 hb dX6_init_1076 rfl ?_
    refine lv_bipush (v := 108) E.1 hb dX6_init_1077 rfl ?_
    obtain ⟨A242, hg, hw, hf⟩ := uI_s hf
    refine d_st E hb hS hg rfl (Or.inr (Or.inr (Or.inl ⟨rfl, rfl, rfl⟩))) hw dX6_init_1079 (fun H locs hS => ?_)
    have hcs := rm_w (A2 := A242) hcs (by rw [hw]; exact ⟨rfl, rfl⟩)
    obtain ⟨A243, hk, hw, hf⟩ := pR_s hf
    refine c_pR (k := 75) (f := 2175) (r := (some (aN A))) E hb hS ci_21 hk (hS.1.lt hk rfl) rfl rfl (fun h => h.elim) (Or.inr ⟨hnm, rfl, rfl, q1757⟩) fk_X6_171_X6 (fun _ h => h) (fun q => by cases q <;> exact ⟨rfl, rfl⟩) hw dX6_init_1080 (fun H locs hS => ?_)
    have hcs := rm_w (A2 := A243) hcs (by rw [hw]; exact ⟨rfl, rfl⟩)
    refine lv_aload_n E.1 hb dX6_init_1083 rfl (lv_at hl 0 rfl) ?_
    refine lv_iconst (v := 4) E.1 hb dX6_init_1084 rfl ?_
    obtain ⟨A244, hn9, hw, hf⟩ := nwA_s hf
    obtain ⟨hck, hf⟩ := ck_s hf
    refine c_newa (atype := .char) E hb hS hcs (Or.inr (Or.inr (Or.inr (Or.inl ⟨rfl, rfl⟩)))) q692 hn9 hw hck (rm_up _ _ _ _) dX6_init_1085 (fun H cells slots hS hcs => ?_)
    refine lv_dup E.1 hb dX6_init_1087 rfl ?_
    refine lv_iconst (v := 0) E.1 hb dX6_init_1088 rfl ?_
    refine lv_bipush (v := 109) E.1 hb dX6_init_1089 rfl ?_
    obtain ⟨A245, hg, hw, hf⟩ := uI_s hf
    refine d_st E hb hS hg rfl (Or.inr (Or.inr (Or.inl ⟨rfl, rfl, rfl⟩))) hw dX6_init_1091 (fun H locs hS => ?_)
    have hcs := rm_w (A2 := A245) hcs (by rw [hw]; exact ⟨rfl, rfl⟩)
    refine lv_dup E.1 hb dX6_init_1092 rfl ?_
    refine lv_iconst (v := 1) E.1 hb dX6_init_1093 rfl ?_
    refine lv_bipush (v := 111) E.1 hb dX6_init_1094 rfl ?_
    obtain ⟨A246, hg, hw, hf⟩ := uI_s hf
    refine d_st E hb hS hg rfl (Or.inr (Or.inr (Or.inl ⟨rfl, rfl, rfl⟩))) hw dX6_init_1096 (fun H locs hS => ?_)
    have hcs := rm_w (A2 := A246) hcs (by rw [hw]; exact ⟨rfl, rfl⟩)
    refine lv_dup E.1 hb dX6_init_1097 rfl ?_
    refine lv_iconst (v := 2) E.1 hb dX6_init_1098 rfl ?_
    refine lv_bipush (v := 115) E.1 hb dX6_init_1099 rfl ?_
    obtain ⟨A247, hg, hw, hf⟩ := uI_s hf
    refine d_st E hb hS hg rfl (Or.inr (Or.inr (Or.inl ⟨rfl, rfl, rfl⟩))) hw dX6_init_1101 (fun H locs hS => ?_)
    have hcs := rm_w (A2 := A247) hcs (by rw [hw]; exact ⟨rfl, rfl⟩)
    refine lv_dup E.1 hb dX6_init_1102 rfl ?_
    refine lv_iconst (v := 3) E.1 hb dX6_init_1103 rfl ?_
    refine lv_bipush (v := 116) E.1 hb dX6_init_1104 rfl ?_
    obtain ⟨A248, hg, hw, hf⟩ := uI_s hf
    refine d_st E hb hS hg rfl (Or.inr (Or.inr (Or.inl ⟨rfl, rfl, rfl⟩))) hw dX6_init_1106 (fun H locs hS => ?_)
    have hcs := rm_w (A2 := A248) hcs (by rw [hw]; exact ⟨rfl, rfl⟩)
    obtain ⟨A249, hk, hw, hf⟩ := pR_s hf
    refine c_pR (k := 76) (f := 2176) (r := (some (aN A243))) E hb hS ci_21 hk (hS.1.lt hk rfl) rfl rfl (fun h => h.elim) (Or.inr ⟨hnm, rfl, rfl, q1758⟩) fk_X6_174_X6 (fun _ h => h) (fun q => by cases q <;> exact ⟨rfl, rfl⟩) hw dX6_init_1107 (fun H locs hS => ?_)
    have hcs := rm_w (A2 := A249) hcs (by rw [hw]; exact ⟨rfl, rfl⟩)
    exact hB1110 A249 hf _ _ _ _ hcs hS _ (lv_sub hl [0] rfl)
  have hB992 : ∀ (A : AH), X6_init_b992 x0 A = some ((), A') → ∀ (H : Heap) (locs : List Loc) (cells slots : Nat), aN A0 + cells ≤ aN A ∧ aS A0 + slots ≤ aS A →  cS dC dI ac ad False s.heap (aN A0) (aS A0) (aN A') (aS A') A H locs → ∀ (ls : Array Slot), lv_has ls 1 [(0, .ref (ad x0))] → W p l e { frames := 1, cells := aN A' - aN A0, slots := aS A' - aS A0, locals := 20 } s m args below meth c H locs cells slots (MQ below (cQv dC dI ac ad False (aN A0) (aS A0) (aN A') (aS A') A') args s (aN A' - aN A0) (aS A' - aS A0) (cF ad)) (F0 m 992 ls []) := by
    intro A hf H locs cells slots hcs hS ls hl
    unfold X6_init_b992 at hf
    refine lv_aload_n E.1 hb dX6_init_992 rfl (lv_at hl 0 rfl) ?_
    refine lv_iconst (v := 4) E.1 hb dX6_init_993 rfl ?_
    obtain ⟨A224, hn9, hw, hf⟩ := nwA_s hf
    obtain ⟨hck, hf⟩ := ck_s hf
    refine c_newa (atype := .char) E hb hS hcs (Or.inr (Or.inr (Or.inr (Or.inl ⟨rfl, rfl⟩)))) q692 hn9 hw hck (rm_up _ _ _ _) dX6_init_994 (fun H cells slots hS hcs => ?_)
    refine lv_dup E.1 hb dX6_init_996 rfl ?_
    refine lv_iconst (v := 0) E.1 hb dX6_init_997 rfl ?_
    refine lv_bipush (v := 108) E.1 hb dX6_init_998 rfl ?_
    obtain ⟨A225, hg, hw, hf⟩ := uI_s hf
    refine d_st E hb hS hg rfl (Or.inr (Or.inr (Or.inl ⟨rfl, rfl, rfl⟩))) hw dX6_init_1000 (fun H locs hS => ?_)
    have hcs := rm_w (A2 := A225) hcs (by rw [hw]; exact ⟨rfl, rfl⟩)
    refine lv_dup E.1 hb dX6_init_1001 rfl ?_
    refine lv_iconst (v := 1) E.1 hb dX6_init_1002 rfl ?_
    refine lv_bipush (v := 97) E.1 hb dX6_init_1003 rfl ?_
    obtain ⟨A226, hg, hw, hf⟩ := uI_s hf
    refine d_st E hb hS hg rfl (Or.inr (Or.inr (Or.inl ⟨rfl, rfl, rfl⟩))) hw dX6_init_1005 (fun H locs hS => ?_)
    have hcs := rm_w (A2 := A226) hcs (by rw [hw]; exact ⟨rfl, rfl⟩)
    refine lv_dup E.1 hb dX6_init_1006 rfl ?_
    refine lv_iconst (v := 2) E.1 hb dX6_init_1007 rfl ?_
    refine lv_bipush (v := 115) E.1 hb dX6_init_1008 rfl ?_
    obtain ⟨A227, hg, hw, hf⟩ := uI_s hf
    refine d_st E hb hS hg rfl (Or.inr (Or.inr (Or.inl ⟨rfl, rfl, rfl⟩))) hw dX6_init_1010 (fun H locs hS => ?_)
    have hcs := rm_w (A2 := A227) hcs (by rw [hw]; exact ⟨rfl, rfl⟩)
    refine lv_dup E.1 hb dX6_init_1011 rfl ?_
    refine lv_iconst (v := 3) E.1 hb dX6_init_1012 rfl ?_
    refine lv_bipush (v := 116) E.1 hb dX6_init_1013 rfl ?_
    obtain ⟨A228, hg, hw, hf⟩ := uI_s hf
    refine d_st E hb hS hg rfl (Or.inr (Or.inr (Or.inl ⟨rfl, rfl, rfl⟩))) hw dX6_init_1015 (fun H locs hS => ?_)
    have hcs := rm_w (A2 := A228) hcs (by rw [hw]; exact ⟨rfl, rfl⟩)
    obtain ⟨A229, hk, hw, hf⟩ := pR_s hf
    refine c_pR (k := 73) (f := 2173) (r := (some (aN A))) E hb hS ci_21 hk (hS.1.lt hk rfl) rfl rfl (fun h => h.elim) (Or.inr ⟨hnm, rfl, rfl, q1755⟩) fk_X6_165_X6 (fun _ h => h) (fun q => by cases q <;> exact ⟨rfl, rfl⟩) hw dX6_init_1016 (fun H locs hS => ?_)
    have hcs := rm_w (A2 := A229) hcs (by rw [hw]; exact ⟨rfl, rfl⟩)
    refine lv_aload_n E.1 hb dX6_init_1019 rfl (lv_at hl 0 rfl) ?_
    refine lv_iconst (v := 5) E.1 hb dX6_init_1020 rfl ?_
    obtain ⟨A230, hn9, hw, hf⟩ := nwA_s hf
    obtain ⟨hck, hf⟩ := ck_s hf
    refine c_newa (atype := .char) E hb hS hcs (Or.inr (Or.inr (Or.inr (Or.inl ⟨rfl, rfl⟩)))) q692 hn9 hw hck (rm_up _ _ _ _) dX6_init_1021 (fun H cells slots hS hcs => ?_)
    refine lv_dup E.1 hb dX6_init_1023 rfl ?_
    refine lv_iconst (v := 0) E.1 hb dX6_init_1024 rfl ?_
    refine lv_bipush (v := 111) E.1 hb dX6_init_1025 rfl ?_
    obtain ⟨A231, hg, hw, hf⟩ := uI_s hf
    refine d_st E hb hS hg rfl (Or.inr (Or.inr (Or.inl ⟨rfl, rfl, rfl⟩))) hw dX6_init_1027 (fun H locs hS => ?_)
    have hcs := rm_w (A2 := A231) hcs (by rw [hw]; exact ⟨rfl, rfl⟩)
    refine lv_dup E.1 hb dX6_init_1028 rfl ?_
    refine lv_iconst (v := 1) E.1 hb dX6_init_1029 rfl ?_
    refine lv_bipush (v := 102) E.1 hb dX6_init_1030 rfl ?_
    obtain ⟨A232, hg, hw, hf⟩ := uI_s hf
    refine d_st E hb hS hg rfl (Or.inr (Or.inr (Or.inl ⟨rfl, rfl, rfl⟩))) hw dX6_init_1032 (fun H locs hS => ?_)
    have hcs := rm_w (A2 := A232) hcs (by rw [hw]; exact ⟨rfl, rfl⟩)
    refine lv_dup E.1 hb dX6_init_1033 rfl ?_
    refine lv_iconst (v := 2) E.1 hb dX6_init_1034 rfl ?_
    refine lv_bipush (v := 116) E.1 hb dX6_init_1035 rfl ?_
    obtain ⟨A233, hg, hw, hf⟩ := uI_s hf
    refine d_st E hb hS hg rfl (Or.inr (Or.inr (Or.inl ⟨rfl, rfl, rfl⟩))) hw dX6_init_1037 (fun H locs hS => ?_)
    have hcs := rm_w (A2 := A233) hcs (by rw [hw]; exact ⟨rfl, rfl⟩)
    refine lv_dup E.1 hb dX6_init_1038 rfl ?_
    refine lv_iconst (v := 3) E.1 hb dX6_init_1039 rfl ?_
    refine lv_bipush (v := 101) E.1 hb dX6_init_1040 rfl ?_
    obtain ⟨A234, hg, hw, hf⟩ := uI_s hf
    refine d_st E hb hS hg rfl (Or.inr (Or.inr (Or.inl ⟨rfl, rfl, rfl⟩))) hw dX6_init_1042 (fun H locs hS => ?_)
    have hcs := rm_w (A2 := A234) hcs (by rw [hw]; exact ⟨rfl, rfl⟩)
    refine lv_dup E.1 hb dX6_init_1043 rfl ?_
    refine lv_iconst (v := 4) E.1 hb dX6_init_1044 rfl ?_
    refine lv_bipush (v := 110) E.1 hb dX6_init_1045 rfl ?_
    obtain ⟨A235, hg, hw, hf⟩ := uI_s hf
    refine d_st E hb hS hg rfl (Or.inr (Or.inr (Or.inl ⟨rfl, rfl, rfl⟩))) hw dX6_init_1047 (fun H locs hS => ?_)
    have hcs := rm_w (A2 := A235) hcs (by rw [hw]; exact ⟨rfl, rfl⟩)
    obtain ⟨A236, hk, hw, hf⟩ := pR_s hf
    refine c_pR (k := 74) (f := 2174) (r := (some (aN A229))) E hb hS ci_21 hk (hS.1.lt hk rfl) rfl rfl (fun h => h.elim) (Or.inr ⟨hnm, rfl, rfl, q1756⟩) fk_X6_168_X6 (fun _ h => h) (fun q => by cases q <;> exact ⟨rfl, rfl⟩) hw dX6_init_1048 (fun H locs hS => ?_)
    have hcs := rm_w (A2 := A236) hcs (by rw [hw]; exact ⟨rfl, rfl⟩)
    exact hB1051 A236 hf _ _ _ _ hcs hS _ (lv_sub hl [0] rfl)
  have hB946 : ∀ (A : AH), X6_init_b946 x0 A = some ((), A') → ∀ (H : Heap) (locs : List Loc) (cells slots : Nat), aN A0 + cells ≤ aN A ∧ aS A0 + slots ≤ aS A →  cS dC dI ac ad False s.heap (aN A0) (aS A0) (aN A') (aS A') A H locs → ∀ (ls : Array Slot), lv_has ls 1 [(0, .ref (ad x0))] → W p l e { frames := 1, cells := aN A' - aN A0, slots := aS A' - aS A0, locals := 20 } s m args below meth c H locs cells slots (MQ below (cQv dC dI ac ad False (aN A0) (aS A0) (aN A') (aS A') A') args s (aN A' - aN A0) (aS A' - aS A0) (cF ad)) (F0 m 946 ls []) := by
    intro A hf H locs cells slots hcs hS ls hl
    unfold X6_init_b946 at hf
    refine lv_aload_n E.1 hb dX6_init_946 rfl (lv_at hl 0 rfl) ?_
    refine lv_sipush (v := 3200) E.1 hb dX6_init_947 rfl ?_
    obtain ⟨A214, hn9, hw, hf⟩ := nwA_s hf
    obtain ⟨hck, hf⟩ := ck_s hf
    refine c_newa (atype := .int) E hb hS hcs (Or.inl ⟨rfl, rfl⟩) q232 hn9 hw hck (rm_up _ _ _ _) dX6_init_950 (fun H cells slots hS hcs => ?_)
    obtain ⟨A215, hk, hw, hf⟩ := pR_s hf
    refine c_pR (k := 68) (f := 2168) (r := (some (aN A))) E hb hS ci_21 hk (hS.1.lt hk rfl) rfl rfl (fun h => h.elim) (Or.inr ⟨hnm, rfl, rfl, q1750⟩) fk_X6_155_X6 (fun _ h => h) (fun q => by cases q <;> exact ⟨rfl, rfl⟩) hw dX6_init_952 (fun H locs hS => ?_)
    have hcs := rm_w (A2 := A215) hcs (by rw [hw]; exact ⟨rfl, rfl⟩)
    refine lv_aload_n E.1 hb dX6_init_955 rfl (lv_at hl 0 rfl) ?_
    refine lv_lconst (v := 1) E.1 hb dX6_init_956 rfl ?_
    obtain ⟨A216, hk, hw, hf⟩ := pJ_s hf
    refine c_pJ (k := 71) (f := 2171) E hb hS ci_21 hk (hS.1.lt hk rfl) rfl rfl (Or.inl rfl) fk_X6_158_X6 (fun _ h => h) rfl rfl hw dX6_init_957 (fun H locs hS => ?_)
    have hcs := rm_w (A2 := A216) hcs (by rw [hw]; exact ⟨rfl, rfl⟩)
    refine lv_aload_n E.1 hb dX6_init_960 rfl (lv_at hl 0 rfl) ?_
    refine lv_iconst (v := 5) E.1 hb dX6_init_961 rfl ?_
    obtain ⟨A217, hn9, hw, hf⟩ := nwA_s hf
    obtain ⟨hck, hf⟩ := ck_s hf
    refine c_newa (atype := .char) E hb hS hcs (Or.inr (Or.inr (Or.inr (Or.inl ⟨rfl, rfl⟩)))) q692 hn9 hw hck (rm_up _ _ _ _) dX6_init_962 (fun H cells slots hS hcs => ?_)
    refine lv_dup E.1 hb dX6_init_964 rfl ?_
    refine lv_iconst (v := 0) E.1 hb dX6_init_965 rfl ?_
    refine lv_bipush (v := 102) E.1 hb dX6_init_966 rfl ?_
    obtain ⟨A218, hg, hw, hf⟩ := uI_s hf
    refine d_st E hb hS hg rfl (Or.inr (Or.inr (Or.inl ⟨rfl, rfl, rfl⟩))) hw dX6_init_968 (fun H locs hS => ?_)
    have hcs := rm_w (A2 := A218) hcs (by rw [hw]; exact ⟨rfl, rfl⟩)
    refine lv_dup E.1 hb dX6_init_969 rfl ?_
    refine lv_iconst (v := 1) E.1 hb dX6_init_970 rfl ?_
    refine lv_bipush (v := 105) E.1 hb dX6_init_971 rfl ?_
    obtain ⟨A219, hg, hw, hf⟩ := uI_s hf
    refine d_st E hb hS hg rfl (Or.inr (Or.inr (Or.inl ⟨rfl, rfl, rfl⟩))) hw dX6_init_973 (fun H locs hS => ?_)
    have hcs := rm_w (A2 := A219) hcs (by rw [hw]; exact ⟨rfl, rfl⟩)
    refine lv_dup E.1 hb dX6_init_974 rfl ?_
    refine lv_iconst (v := 2) E.1 hb dX6_init_975 rfl ?_
    refine lv_bipush (v := 114) E.1 hb dX6_init_976 rfl ?_
    obtain ⟨A220, hg, hw, hf⟩ := uI_s hf
    refine d_st E hb hS hg rfl (Or.inr (Or.inr (Or.inl ⟨rfl, rfl, rfl⟩))) hw dX6_init_978 (fun H locs hS => ?_)
    have hcs := rm_w (A2 := A220) hcs (by rw [hw]; exact ⟨rfl, rfl⟩)
    refine lv_dup E.1 hb dX6_init_979 rfl ?_
    refine lv_iconst (v := 3) E.1 hb dX6_init_980 rfl ?_
    refine lv_bipush (v := 115) E.1 hb dX6_init_981 rfl ?_
    obtain ⟨A221, hg, hw, hf⟩ := uI_s hf
    refine d_st E hb hS hg rfl (Or.inr (Or.inr (Or.inl ⟨rfl, rfl, rfl⟩))) hw dX6_init_983 (fun H locs hS => ?_)
    have hcs := rm_w (A2 := A221) hcs (by rw [hw]; exact ⟨rfl, rfl⟩)
    refine lv_dup E.1 hb dX6_init_984 rfl ?_
    refine lv_iconst (v := 4) E.1 hb dX6_init_985 rfl ?_
    refine lv_bipush (v := 116) E.1 hb dX6_init_986 rfl ?_
    obtain ⟨A222, hg, hw, hf⟩ := uI_s hf
    refine d_st E hb hS hg rfl (Or.inr (Or.inr (Or.inl ⟨rfl, rfl, rfl⟩))) hw dX6_init_988 (fun H locs hS => ?_)
    have hcs := rm_w (A2 := A222) hcs (by rw [hw]; exact ⟨rfl, rfl⟩)
    obtain ⟨A223, hk, hw, hf⟩ := pR_s hf
    refine c_pR (k := 72) (f := 2172) (r := (some (aN A216))) E hb hS ci_21 hk (hS.1.lt hk rfl) rfl rfl (fun h => h.elim) (Or.inr ⟨hnm, rfl, rfl, q1754⟩) fk_X6_162_X6 (fun _ h => h) (fun q => by cases q <;> exact ⟨rfl, rfl⟩) hw dX6_init_989 (fun H locs hS => ?_)
    have hcs := rm_w (A2 := A223) hcs (by rw [hw]; exact ⟨rfl, rfl⟩)
    exact hB992 A223 hf _ _ _ _ hcs hS _ (lv_sub hl [0] rfl)
  have hB880 : ∀ (A : AH), X6_init_b880 x0 A = some ((), A') → ∀ (H : Heap) (locs : List Loc) (cells slots : Nat), aN A0 + cells ≤ aN A ∧ aS A0 + slots ≤ aS A →  cS dC dI ac ad False s.heap (aN A0) (aS A0) (aN A') (aS A') A H locs → ∀ (ls : Array Slot), lv_has ls 1 [(0, .ref (ad x0))] → W p l e { frames := 1, cells := aN A' - aN A0, slots := aS A' - aS A0, locals := 20 } s m args below meth c H locs cells slots (MQ below (cQv dC dI ac ad False (aN A0) (aS A0) (aN A') (aS A') A') args s (aN A' - aN A0) (aS A' - aS A0) (cF ad)) (F0 m 880 ls []) := by
    intro A hf H locs cells slots hcs hS ls hl
    unfold X6_init_b880 at hf
    refine lv_aload_n E.1 hb dX6_init_880 rfl (lv_at hl 0 rfl) ?_
    refine lv_bipush (v := 8) E.1 hb dX6_init_881 rfl ?_
    obtain ⟨A198, hn9, hw, hf⟩ := nwA_s hf
    obtain ⟨hck, hf⟩ := ck_s hf
    refine c_newa (atype := .int) E hb hS hcs (Or.inl ⟨rfl, rfl⟩) q232 hn9 hw hck (rm_up _ _ _ _) dX6_init_883 (fun H cells slots hS hcs => ?_)
    obtain ⟨A199, hk, hw, hf⟩ := pR_s hf
    refine c_pR (k := 50) (f := 2150) (r := (some (aN A))) E hb hS ci_21 hk (hS.1.lt hk rfl) rfl rfl (fun h => h.elim) (Or.inr ⟨hnm, rfl, rfl, q1732⟩) fk_X6_130_X6 (fun _ h => h) (fun q => by cases q <;> exact ⟨rfl, rfl⟩) hw dX6_init_885 (fun H locs hS => ?_)
    have hcs := rm_w (A2 := A199) hcs (by rw [hw]; exact ⟨rfl, rfl⟩)
    refine lv_aload_n E.1 hb dX6_init_888 rfl (lv_at hl 0 rfl) ?_
    refine lv_sipush (v := 3200) E.1 hb dX6_init_889 rfl ?_
    obtain ⟨A200, hn9, hw, hf⟩ := nwA_s hf
    obtain ⟨hck, hf⟩ := ck_s hf
    refine c_newa (atype := .int) E hb hS hcs (Or.inl ⟨rfl, rfl⟩) q232 hn9 hw hck (rm_up _ _ _ _) dX6_init_892 (fun H cells slots hS hcs => ?_)
    obtain ⟨A201, hk, hw, hf⟩ := pR_s hf
    refine c_pR (k := 51) (f := 2151) (r := (some (aN A199))) E hb hS ci_21 hk (hS.1.lt hk rfl) rfl rfl (fun h => h.elim) (Or.inr ⟨hnm, rfl, rfl, q1733⟩) fk_X6_133_X6 (fun _ h => h) (fun q => by cases q <;> exact ⟨rfl, rfl⟩) hw dX6_init_894 (fun H locs hS => ?_)
    have hcs := rm_w (A2 := A201) hcs (by rw [hw]; exact ⟨rfl, rfl⟩)
    refine lv_aload_n E.1 hb dX6_init_897 rfl (lv_at hl 0 rfl) ?_
    refine lv_sipush (v := 160) E.1 hb dX6_init_898 rfl ?_
    obtain ⟨A202, hn9, hw, hf⟩ := nwA_s hf
    obtain ⟨hck, hf⟩ := ck_s hf
    refine c_newa (atype := .int) E hb hS hcs (Or.inl ⟨rfl, rfl⟩) q232 hn9 hw hck (rm_up _ _ _ _) dX6_init_901 (fun H cells slots hS hcs => ?_)
    obtain ⟨A203, hk, hw, hf⟩ := pR_s hf
    refine c_pR (k := 56) (f := 2156) (r := (some (aN A201))) E hb hS ci_21 hk (hS.1.lt hk rfl) rfl rfl (fun h => h.elim) (Or.inr ⟨hnm, rfl, rfl, q1738⟩) fk_X6_136_X6 (fun _ h => h) (fun q => by cases q <;> exact ⟨rfl, rfl⟩) hw dX6_init_903 (fun H locs hS => ?_)
    have hcs := rm_w (A2 := A203) hcs (by rw [hw]; exact ⟨rfl, rfl⟩)
    refine lv_aload_n E.1 hb dX6_init_906 rfl (lv_at hl 0 rfl) ?_
    refine lv_bipush (v := 39) E.1 hb dX6_init_907 rfl ?_
    obtain ⟨A204, hn9, hw, hf⟩ := nwA_s hf
    obtain ⟨hck, hf⟩ := ck_s hf
    refine c_newa (atype := .int) E hb hS hcs (Or.inl ⟨rfl, rfl⟩) q232 hn9 hw hck (rm_up _ _ _ _) dX6_init_909 (fun H cells slots hS hcs => ?_)
    obtain ⟨A205, hk, hw, hf⟩ := pR_s hf
    refine c_pR (k := 57) (f := 2157) (r := (some (aN A203))) E hb hS ci_21 hk (hS.1.lt hk rfl) rfl rfl (fun h => h.elim) (Or.inr ⟨hnm, rfl, rfl, q1739⟩) fk_X6_139_X6 (fun _ h => h) (fun q => by cases q <;> exact ⟨rfl, rfl⟩) hw dX6_init_911 (fun H locs hS => ?_)
    have hcs := rm_w (A2 := A205) hcs (by rw [hw]; exact ⟨rfl, rfl⟩)
    refine lv_aload_n E.1 hb dX6_init_914 rfl (lv_at hl 0 rfl) ?_
    refine lv_bipush (v := 8) E.1 hb dX6_init_915 rfl ?_
    obtain ⟨A206, hn9, hw, hf⟩ := nwA_s hf
    obtain ⟨hck, hf⟩ := ck_s hf
    refine c_newa (atype := .int) E hb hS hcs (Or.inl ⟨rfl, rfl⟩) q232 hn9 hw hck (rm_up _ _ _ _) dX6_init_917 (fun H cells slots hS hcs => ?_)
    obtain ⟨A207, hk, hw, hf⟩ := pR_s hf
    refine c_pR (k := 63) (f := 2163) (r := (some (aN A205))) E hb hS ci_21 hk (hS.1.lt hk rfl) rfl rfl (fun h => h.elim) (Or.inr ⟨hnm, rfl, rfl, q1745⟩) fk_X6_142_X6 (fun _ h => h) (fun q => by cases q <;> exact ⟨rfl, rfl⟩) hw dX6_init_919 (fun H locs hS => ?_)
    have hcs := rm_w (A2 := A207) hcs (by rw [hw]; exact ⟨rfl, rfl⟩)
    refine lv_aload_n E.1 hb dX6_init_922 rfl (lv_at hl 0 rfl) ?_
    refine lv_bipush (v := 96) E.1 hb dX6_init_923 rfl ?_
    obtain ⟨A208, hn9, hw, hf⟩ := nwA_s hf
    obtain ⟨hck, hf⟩ := ck_s hf
    refine c_newa (atype := .boolean) E hb hS hcs (Or.inr (Or.inr (Or.inr (Or.inr (⟨rfl, rfl⟩))))) q552 hn9 hw hck (rm_up _ _ _ _) dX6_init_925 (fun H cells slots hS hcs => ?_)
    obtain ⟨A209, hk, hw, hf⟩ := pR_s hf
    refine c_pR (k := 64) (f := 2164) (r := (some (aN A207))) E hb hS ci_21 hk (hS.1.lt hk rfl) rfl rfl (fun h => h.elim) (Or.inr ⟨hnm, rfl, rfl, q1746⟩) fk_X6_145_X6 (fun _ h => h) (fun q => by cases q <;> exact ⟨rfl, rfl⟩) hw dX6_init_927 (fun H locs hS => ?_)
    have hcs := rm_w (A2 := A209) hcs (by rw [hw]; exact ⟨rfl, rfl⟩)
    refine lv_aload_n E.1 hb dX6_init_930 rfl (lv_at hl 0 rfl) ?_
    refine lv_bipush (v := 32) E.1 hb dX6_init_931 rfl ?_
    obtain ⟨A210, hn9, hw, hf⟩ := nwA_s hf
    obtain ⟨hck, hf⟩ := ck_s hf
    refine c_newa (atype := .int) E hb hS hcs (Or.inl ⟨rfl, rfl⟩) q232 hn9 hw hck (rm_up _ _ _ _) dX6_init_933 (fun H cells slots hS hcs => ?_)
    obtain ⟨A211, hk, hw, hf⟩ := pR_s hf
    refine c_pR (k := 66) (f := 2166) (r := (some (aN A209))) E hb hS ci_21 hk (hS.1.lt hk rfl) rfl rfl (fun h => h.elim) (Or.inr ⟨hnm, rfl, rfl, q1748⟩) fk_X6_149_X6 (fun _ h => h) (fun q => by cases q <;> exact ⟨rfl, rfl⟩) hw dX6_init_935 (fun H locs hS => ?_)
    have hcs := rm_w (A2 := A211) hcs (by rw [hw]; exact ⟨rfl, rfl⟩)
    refine lv_aload_n E.1 hb dX6_init_938 rfl (lv_at hl 0 rfl) ?_
    refine lv_bipush (v := 56) E.1 hb dX6_init_939 rfl ?_
    obtain ⟨A212, hn9, hw, hf⟩ := nwA_s hf
    obtain ⟨hck, hf⟩ := ck_s hf
    refine c_newa (atype := .int) E hb hS hcs (Or.inl ⟨rfl, rfl⟩) q232 hn9 hw hck (rm_up _ _ _ _) dX6_init_941 (fun H cells slots hS hcs => ?_)
    obtain ⟨A213, hk, hw, hf⟩ := pR_s hf
    refine c_pR (k := 67) (f := 2167) (r := (some (aN A211))) E hb hS ci_21 hk (hS.1.lt hk rfl) rfl rfl (fun h => h.elim) (Or.inr ⟨hnm, rfl, rfl, q1749⟩) fk_X6_152_X6 (fun _ h => h) (fun q => by cases q <;> exact ⟨rfl, rfl⟩) hw dX6_init_943 (fun H locs hS => ?_)
    have hcs := rm_w (A2 := A213) hcs (by rw [hw]; exact ⟨rfl, rfl⟩)
    exact hB946 A213 hf _ _ _ _ hcs hS _ (lv_sub hl [0] rfl)
  have hB814 : ∀ (A : AH), X6_init_b814 x0 A = some ((), A') → ∀ (H : Heap) (locs : List Loc) (cells slots : Nat), aN A0 + cells ≤ aN A ∧ aS A0 + slots ≤ aS A →  cS dC dI ac ad False s.heap (aN A0) (aS A0) (aN A') (aS A') A H locs → ∀ (ls : Array Slot), lv_has ls 1 [(0, .ref (ad x0))] → W p l e { frames := 1, cells := aN A' - aN A0, slots := aS A' - aS A0, locals := 20 } s m args below meth c H locs cells slots (MQ below (cQv dC dI ac ad False (aN A0) (aS A0) (aN A') (aS A') A') args s (aN A' - aN A0) (aS A' - aS A0) (cF ad)) (F0 m 814 ls []) := by
    intro A hf H locs cells slots hcs hS ls hl
    unfold X6_init_b814 at hf
    refine lv_aload_n E.1 hb dX6_init_814 rfl (lv_at hl 0 rfl) ?_
    refine lv_bipush (v := 72) E.1 hb dX6_init_815 rfl ?_
    obtain ⟨A182, hn9, hw, hf⟩ := nwA_s hf
    obtain ⟨hck, hf⟩ := ck_s hf
    refine c_newa (atype := .int) E hb hS hcs (Or.inl ⟨rfl, rfl⟩) q232 hn9 hw hck (rm_up _ _ _ _) dX6_init_817 (fun H cells slots hS hcs => ?_)
    obtain ⟨A183, hk, hw, hf⟩ := pR_s hf
    refine c_pR (k := 44) (f := 2144) (r := (some (aN A))) E hb hS ci_21 hk (hS.1.lt hk rfl) rfl rfl (fun h => h.elim) (Or.inr ⟨hnm, rfl, rfl, q1726⟩) fk_X6_118_X6 (fun _ h => h) (fun q => by cases q <;> exact ⟨rfl, rfl⟩) hw dX6_init_819 (fun H locs hS => ?_)
    have hcs := rm_w (A2 := A183) hcs (by rw [hw]; exact ⟨rfl, rfl⟩)
    refine lv_aload_n E.1 hb dX6_init_822 rfl (lv_at hl 0 rfl) ?_
    refine lv_bipush (v := 16) E.1 hb dX6_init_823 rfl ?_
    obtain ⟨A184, hn9, hw, hf⟩ := nwA_s hf
    obtain ⟨hck, hf⟩ := ck_s hf
    refine c_newa (atype := .int) E hb hS hcs (Or.inl ⟨rfl, rfl⟩) q232 hn9 hw hck (rm_up _ _ _ _) dX6_init_825 (fun H cells slots hS hcs => ?_)
    obtain ⟨A185, hk, hw, hf⟩ := pR_s hf
    refine c_pR (k := 45) (f := 2145) (r := (some (aN A183))) E hb hS ci_21 hk (hS.1.lt hk rfl) rfl rfl (fun h => h.elim) (Or.inr ⟨hnm, rfl, rfl, q1727⟩) fk_X6_121_X6 (fun _ h => h) (fun q => by cases q <;> exact ⟨rfl, rfl⟩) hw dX6_init_827 (fun H locs hS => ?_)
    have hcs := rm_w (A2 := A185) hcs (by rw [hw]; exact ⟨rfl, rfl⟩)
    refine lv_aload_n E.1 hb dX6_init_830 rfl (lv_at hl 0 rfl) ?_
    refine lv_bipush (v := 16) E.1 hb dX6_init_831 rfl ?_
    obtain ⟨A186, hn9, hw, hf⟩ := nwA_s hf
    obtain ⟨hck, hf⟩ := ck_s hf
    refine c_newa (atype := .int) E hb hS hcs (Or.inl ⟨rfl, rfl⟩) q232 hn9 hw hck (rm_up _ _ _ _) dX6_init_833 (fun H cells slots hS hcs => ?_)
    obtain ⟨A187, hk, hw, hf⟩ := pR_s hf
    refine c_pR (k := 46) (f := 2146) (r := (some (aN A185))) E hb hS ci_21 hk (hS.1.lt hk rfl) rfl rfl (fun h => h.elim) (Or.inr ⟨hnm, rfl, rfl, q1728⟩) fk_X6_124_X6 (fun _ h => h) (fun q => by cases q <;> exact ⟨rfl, rfl⟩) hw dX6_init_835 (fun H locs hS => ?_)
    have hcs := rm_w (A2 := A187) hcs (by rw [hw]; exact ⟨rfl, rfl⟩)
    refine lv_aload_n E.1 hb dX6_init_838 rfl (lv_at hl 0 rfl) ?_
    refine lv_bipush (v := 8) E.1 hb dX6_init_839 rfl ?_
    obtain ⟨A188, hn9, hw, hf⟩ := nwA_s hf
    obtain ⟨hck, hf⟩ := ck_s hf
    refine c_newa (atype := .int) E hb hS hcs (Or.inl ⟨rfl, rfl⟩) q232 hn9 hw hck (rm_up _ _ _ _) dX6_init_841 (fun H cells slots hS hcs => ?_)
    refine lv_dup E.1 hb dX6_init_843 rfl ?_
    refine lv_iconst (v := 0) E.1 hb dX6_init_844 rfl ?_
    refine lv_iconst (v := (-1)) E.1 hb dX6_init_845 rfl ?_
    obtain ⟨A189, hg, hw, hf⟩ := uI_s hf
    refine d_st E hb hS hg rfl (Or.inl ⟨rfl, rfl, rfl⟩) hw dX6_init_846 (fun H locs hS => ?_)
    have hcs := rm_w (A2 := A189) hcs (by rw [hw]; exact ⟨rfl, rfl⟩)
    refine lv_dup E.1 hb dX6_init_847 rfl ?_
    refine lv_iconst (v := 1) E.1 hb dX6_init_848 rfl ?_
    refine lv_iconst (v := (-1)) E.1 hb dX6_init_849 rfl ?_
    obtain ⟨A190, hg, hw, hf⟩ := uI_s hf
    refine d_st E hb hS hg rfl (Or.inl ⟨rfl, rfl, rfl⟩) hw dX6_init_850 (fun H locs hS => ?_)
    have hcs := rm_w (A2 := A190) hcs (by rw [hw]; exact ⟨rfl, rfl⟩)
    refine lv_dup E.1 hb dX6_init_851 rfl ?_
    refine lv_iconst (v := 2) E.1 hb dX6_init_852 rfl ?_
    refine lv_iconst (v := (-1)) E.1 hb dX6_init_853 rfl ?_
    obtain ⟨A191, hg, hw, hf⟩ := uI_s hf
    refine d_st E hb hS hg rfl (Or.inl ⟨rfl, rfl, rfl⟩) hw dX6_init_854 (fun H locs hS => ?_)
    have hcs := rm_w (A2 := A191) hcs (by rw [hw]; exact ⟨rfl, rfl⟩)
    refine lv_dup E.1 hb dX6_init_855 rfl ?_
    refine lv_iconst (v := 3) E.1 hb dX6_init_856 rfl ?_
    refine lv_iconst (v := (-1)) E.1 hb dX6_init_857 rfl ?_
    obtain ⟨A192, hg, hw, hf⟩ := uI_s hf
    refine d_st E hb hS hg rfl (Or.inl ⟨rfl, rfl, rfl⟩) hw dX6_init_858 (fun H locs hS => ?_)
    have hcs := rm_w (A2 := A192) hcs (by rw [hw]; exact ⟨rfl, rfl⟩)
    refine lv_dup E.1 hb dX6_init_859 rfl ?_
    refine lv_iconst (v := 4) E.1 hb dX6_init_860 rfl ?_
    refine lv_iconst (v := (-1)) E.1 hb dX6_init_861 rfl ?_
    obtain ⟨A193, hg, hw, hf⟩ := uI_s hf
    refine d_st E hb hS hg rfl (Or.inl ⟨rfl, rfl, rfl⟩) hw dX6_init_862 (fun H locs hS => ?_)
    have hcs := rm_w (A2 := A193) hcs (by rw [hw]; exact ⟨rfl, rfl⟩)
    refine lv_dup E.1 hb dX6_init_863 rfl ?_
    refine lv_iconst (v := 5) E.1 hb dX6_init_864 rfl ?_
    refine lv_iconst (v := (-1)) E.1 hb dX6_init_865 rfl ?_
    obtain ⟨A194, hg, hw, hf⟩ := uI_s hf
    refine d_st E hb hS hg rfl (Or.inl ⟨rfl, rfl, rfl⟩) hw dX6_init_866 (fun H locs hS => ?_)
    have hcs := rm_w (A2 := A194) hcs (by rw [hw]; exact ⟨rfl, rfl⟩)
    refine lv_dup E.1 hb dX6_init_867 rfl ?_
    refine lv_bipush (v := 6) E.1 hb dX6_init_868 rfl ?_
    refine lv_iconst (v := (-1)) E.1 hb dX6_init_870 rfl ?_
    obtain ⟨A195, hg, hw, hf⟩ := uI_s hf
    refine d_st E hb hS hg rfl (Or.inl ⟨rfl, rfl, rfl⟩) hw dX6_init_871 (fun H locs hS => ?_)
    have hcs := rm_w (A2 := A195) hcs (by rw [hw]; exact ⟨rfl, rfl⟩)
    refine lv_dup E.1 hb dX6_init_872 rfl ?_
    refine lv_bipush (v := 7) E.1 hb dX6_init_873 rfl ?_
    refine lv_iconst (v := (-1)) E.1 hb dX6_init_875 rfl ?_
    obtain ⟨A196, hg, hw, hf⟩ := uI_s hf
    refine d_st E hb hS hg rfl (Or.inl ⟨rfl, rfl, rfl⟩) hw dX6_init_876 (fun H locs hS => ?_)
    have hcs := rm_w (A2 := A196) hcs (by rw [hw]; exact ⟨rfl, rfl⟩)
    obtain ⟨A197, hk, hw, hf⟩ := pR_s hf
    refine c_pR (k := 49) (f := 2149) (r := (some (aN A187))) E hb hS ci_21 hk (hS.1.lt hk rfl) rfl rfl (fun h => h.elim) (Or.inr ⟨hnm, rfl, rfl, q1731⟩) fk_X6_127_X6 (fun _ h => h) (fun q => by cases q <;> exact ⟨rfl, rfl⟩) hw dX6_init_877 (fun H locs hS => ?_)
    have hcs := rm_w (A2 := A197) hcs (by rw [hw]; exact ⟨rfl, rfl⟩)
    exact hB880 A197 hf _ _ _ _ hcs hS _ (lv_sub hl [0] rfl)
  have hB761 : ∀ (A : AH), X6_init_b761 x0 A = some ((), A') → ∀ (H : Heap) (locs : List Loc) (cells slots : Nat), aN A0 + cells ≤ aN A ∧ aS A0 + slots ≤ aS A →  cS dC dI ac ad False s.heap (aN A0) (aS A0) (aN A') (aS A') A H locs → ∀ (ls : Array Slot), lv_has ls 1 [(0, .ref (ad x0))] → W p l e { frames := 1, cells := aN A' - aN A0, slots := aS A' - aS A0, locals := 20 } s m args below meth c H locs cells slots (MQ below (cQv dC dI ac ad False (aN A0) (aS A0) (aN A') (aS A') A') args s (aN A' - aN A0) (aS A' - aS A0) (cF ad)) (F0 m 761 ls []) := by
    intro A hf H locs cells slots hcs hS ls hl
    unfold X6_init_b761 at hf
    refine lv_aload_n E.1 hb dX6_init_761 rfl (lv_at hl 0 rfl) ?_
    refine lv_iconst (v := 3) E.1 hb dX6_init_762 rfl ?_
    obtain ⟨A169, hn9, hw, hf⟩ := nwA_s hf
    obtain ⟨hck, hf⟩ := ck_s hf
    refine c_newa (atype := .char) E hb hS hcs (Or.inr (Or.inr (Or.inr (Or.inl ⟨rfl, rfl⟩)))) q692 hn9 hw hck (rm_up _ _ _ _) dX6_init_763 (fun H cells slots hS hcs => ?_)
    refine lv_dup E.1 hb dX6_init_765 rfl ?_
    refine lv_iconst (v := 0) E.1 hb dX6_init_766 rfl ?_
    refine lv_bipush (v := 109) E.1 hb dX6_init_767 rfl ?_
    obtain ⟨A170, hg, hw, hf⟩ := uI_s hf
    refine d_st E hb hS hg rfl (Or.inr (Or.inr (Or.inl ⟨rfl, rfl, rfl⟩))) hw dX6_init_769 (fun H locs hS => ?_)
    have hcs := rm_w (A2 := A170) hcs (by rw [hw]; exact ⟨rfl, rfl⟩)
    refine lv_dup E.1 hb dX6_init_770 rfl ?_
    refine lv_iconst (v := 1) E.1 hb dX6_init_771 rfl ?_
    refine lv_bipush (v := 97) E.1 hb dX6_init_772 rfl ?_
    obtain ⟨A171, hg, hw, hf⟩ := uI_s hf
    refine d_st E hb hS hg rfl (Or.inr (Or.inr (Or.inl ⟨rfl, rfl, rfl⟩))) hw dX6_init_774 (fun H locs hS => ?_)
    have hcs := rm_w (A2 := A171) hcs (by rw [hw]; exact ⟨rfl, rfl⟩)
    refine lv_dup E.1 hb dX6_init_775 rfl ?_
    refine lv_iconst (v := 2) E.1 hb dX6_init_776 rfl ?_
    refine lv_bipush (v := 120) E.1 hb dX6_init_777 rfl ?_
    obtain ⟨A172, hg, hw, hf⟩ := uI_s hf
    refine d_st E hb hS hg rfl (Or.inr (Or.inr (Or.inl ⟨rfl, rfl, rfl⟩))) hw dX6_init_779 (fun H locs hS => ?_)
    have hcs := rm_w (A2 := A172) hcs (by rw [hw]; exact ⟨rfl, rfl⟩)
    obtain ⟨A173, hk, hw, hf⟩ := pR_s hf
    refine c_pR (k := 38) (f := 2138) (r := (some (aN A))) E hb hS ci_21 hk (hS.1.lt hk rfl) rfl rfl (fun h => h.elim) (Or.inr ⟨hnm, rfl, rfl, q1720⟩) fk_X6_102_X6 (fun _ h => h) (fun q => by cases q <;> exact ⟨rfl, rfl⟩) hw dX6_init_780 (fun H locs hS => ?_)
    have hcs := rm_w (A2 := A173) hcs (by rw [hw]; exact ⟨rfl, rfl⟩)
    refine lv_aload_n E.1 hb dX6_init_783 rfl (lv_at hl 0 rfl) ?_
    refine lv_iconst (v := 4) E.1 hb dX6_init_784 rfl ?_
    obtain ⟨A174, hn9, hw, hf⟩ := nwA_s hf
    obtain ⟨hck, hf⟩ := ck_s hf
    refine c_newa (atype := .int) E hb hS hcs (Or.inl ⟨rfl, rfl⟩) q232 hn9 hw hck (rm_up _ _ _ _) dX6_init_785 (fun H cells slots hS hcs => ?_)
    obtain ⟨A175, hk, hw, hf⟩ := pR_s hf
    refine c_pR (k := 40) (f := 2140) (r := (some (aN A173))) E hb hS ci_21 hk (hS.1.lt hk rfl) rfl rfl (fun h => h.elim) (Or.inr ⟨hnm, rfl, rfl, q1722⟩) fk_X6_105_X6 (fun _ h => h) (fun q => by cases q <;> exact ⟨rfl, rfl⟩) hw dX6_init_787 (fun H locs hS => ?_)
    have hcs := rm_w (A2 := A175) hcs (by rw [hw]; exact ⟨rfl, rfl⟩)
    refine lv_aload_n E.1 hb dX6_init_790 rfl (lv_at hl 0 rfl) ?_
    refine lv_bipush (v := 6) E.1 hb dX6_init_791 rfl ?_
    obtain ⟨A176, hn9, hw, hf⟩ := nwA_s hf
    obtain ⟨hck, hf⟩ := ck_s hf
    refine c_newa (atype := .int) E hb hS hcs (Or.inl ⟨rfl, rfl⟩) q232 hn9 hw hck (rm_up _ _ _ _) dX6_init_793 (fun H cells slots hS hcs => ?_)
    obtain ⟨A177, hk, hw, hf⟩ := pR_s hf
    refine c_pR (k := 41) (f := 2141) (r := (some (aN A175))) E hb hS ci_21 hk (hS.1.lt hk rfl) rfl rfl (fun h => h.elim) (Or.inr ⟨hnm, rfl, rfl, q1723⟩) fk_X6_108_X6 (fun _ h => h) (fun q => by cases q <;> exact ⟨rfl, rfl⟩) hw dX6_init_795 (fun H locs hS => ?_)
    have hcs := rm_w (A2 := A177) hcs (by rw [hw]; exact ⟨rfl, rfl⟩)
    refine lv_aload_n E.1 hb dX6_init_798 rfl (lv_at hl 0 rfl) ?_
    refine lv_bipush (v := 16) E.1 hb dX6_init_799 rfl ?_
    obtain ⟨A178, hn9, hw, hf⟩ := nwA_s hf
    obtain ⟨hck, hf⟩ := ck_s hf
    refine c_newa (atype := .long) E hb hS hcs (Or.inr (Or.inl ⟨rfl, rfl⟩)) q416 hn9 hw hck (rm_up _ _ _ _) dX6_init_801 (fun H cells slots hS hcs => ?_)
    obtain ⟨A179, hk, hw, hf⟩ := pR_s hf
    refine c_pR (k := 42) (f := 2142) (r := (some (aN A177))) E hb hS ci_21 hk (hS.1.lt hk rfl) rfl rfl (fun h => h.elim) (Or.inr ⟨hnm, rfl, rfl, q1724⟩) fk_X6_111_X6 (fun _ h => h) (fun q => by cases q <;> exact ⟨rfl, rfl⟩) hw dX6_init_803 (fun H locs hS => ?_)
    have hcs := rm_w (A2 := A179) hcs (by rw [hw]; exact ⟨rfl, rfl⟩)
    refine lv_aload_n E.1 hb dX6_init_806 rfl (lv_at hl 0 rfl) ?_
    refine lv_bipush (v := 6) E.1 hb dX6_init_807 rfl ?_
    obtain ⟨A180, hn9, hw, hf⟩ := nwA_s hf
    obtain ⟨hck, hf⟩ := ck_s hf
    refine c_newa (atype := .int) E hb hS hcs (Or.inl ⟨rfl, rfl⟩) q232 hn9 hw hck (rm_up _ _ _ _) dX6_init_809 (fun H cells slots hS hcs => ?_)
    obtain ⟨A181, hk, hw, hf⟩ := pR_s hf
    refine c_pR (k := 43) (f := 2143) (r := (some (aN A179))) E hb hS ci_21 hk (hS.1.lt hk rfl) rfl rfl (fun h => h.elim) (Or.inr ⟨hnm, rfl, rfl, q1725⟩) fk_X6_115_X6 (fun _ h => h) (fun q => by cases q <;> exact ⟨rfl, rfl⟩) hw dX6_init_811 (fun H locs hS => ?_)
    have hcs := rm_w (A2 := A181) hcs (by rw [hw]; exact ⟨rfl, rfl⟩)
    exact hB814 A181 hf _ _ _ _ hcs hS _ (lv_sub hl [0] rfl)
  have hB717 : ∀ (A : AH), X6_init_b717 x0 A = some ((), A') → ∀ (H : Heap) (locs : List Loc) (cells slots : Nat), aN A0 + cells ≤ aN A ∧ aS A0 + slots ≤ aS A →  cS dC dI ac ad False s.heap (aN A0) (aS A0) (aN A') (aS A') A H locs → ∀ (ls : Array Slot), lv_has ls 1 [(0, .ref (ad x0))] → W p l e { frames := 1, cells := aN A' - aN A0, slots := aS A' - aS A0, locals := 20 } s m args below meth c H locs cells slots (MQ below (cQv dC dI ac ad False (aN A0) (aS A0) (aN A') (aS A') A') args s (aN A' - aN A0) (aS A' - aS A0) (cF ad)) (F0 m 717 ls []) := by
    intro A hf H locs cells slots hcs hS ls hl
    unfold X6_init_b717 at hf
    refine lv_aload_n E.1 hb dX6_init_717 rfl (lv_at hl 0 rfl) ?_
    refine lv_iconst (v := 3) E.1 hb dX6_init_718 rfl ?_
    obtain ⟨A159, hn9, hw, hf⟩ := nwA_s hf
    obtain ⟨hck, hf⟩ := ck_s hf
    refine c_newa (atype := .char) E hb hS hcs (Or.inr (Or.inr (Or.inr (Or.inl ⟨rfl, rfl⟩)))) q692 hn9 hw hck (rm_up _ _ _ _) dX6_init_719 (fun H cells slots hS hcs => ?_)
    refine lv_dup E.1 hb dX6_init_721 rfl ?_
    refine lv_iconst (v := 0) E.1 hb dX6_init_722 rfl ?_
    refine lv_bipush (v := 97) E.1 hb dX6_init_723 rfl ?_
    obtain ⟨A160, hg, hw, hf⟩ := uI_s hf
    refine d_st E hb hS hg rfl (Or.inr (Or.inr (Or.inl ⟨rfl, rfl, rfl⟩))) hw dX6_init_725 (fun H locs hS => ?_)
    have hcs := rm_w (A2 := A160) hcs (by rw [hw]; exact ⟨rfl, rfl⟩)
    refine lv_dup E.1 hb dX6_init_726 rfl ?_
    refine lv_iconst (v := 1) E.1 hb dX6_init_727 rfl ?_
    refine lv_bipush (v := 108) E.1 hb dX6_init_728 rfl ?_
    obtain ⟨A161, hg, hw, hf⟩ := uI_s hf
    refine d_st E hb hS hg rfl (Or.inr (Or.inr (Or.inl ⟨rfl, rfl, rfl⟩))) hw dX6_init_730 (fun H locs hS => ?_)
    have hcs := rm_w (A2 := A161) hcs (by rw [hw]; exact ⟨rfl, rfl⟩)
    refine lv_dup E.1 hb dX6_init_731 rfl ?_
    refine lv_iconst (v := 2) E.1 hb dX6_init_732 rfl ?_
    refine lv_bipush (v := 108) E.1 hb dX6_init_733 rfl ?_
    obtain ⟨A162, hg, hw, hf⟩ := uI_s hf
    refine d_st E hb hS hg rfl (Or.inr (Or.inr (Or.inl ⟨rfl, rfl, rfl⟩))) hw dX6_init_735 (fun H locs hS => ?_)
    have hcs := rm_w (A2 := A162) hcs (by rw [hw]; exact ⟨rfl, rfl⟩)
    obtain ⟨A163, hk, hw, hf⟩ := pR_s hf
    refine c_pR (k := 36) (f := 2136) (r := (some (aN A))) E hb hS ci_21 hk (hS.1.lt hk rfl) rfl rfl (fun h => h.elim) (Or.inr ⟨hnm, rfl, rfl, q1718⟩) fk_X6_96_X6 (fun _ h => h) (fun q => by cases q <;> exact ⟨rfl, rfl⟩) hw dX6_init_736 (fun H locs hS => ?_)
    have hcs := rm_w (A2 := A163) hcs (by rw [hw]; exact ⟨rfl, rfl⟩)
    refine lv_aload_n E.1 hb dX6_init_739 rfl (lv_at hl 0 rfl) ?_
    refine lv_iconst (v := 3) E.1 hb dX6_init_740 rfl ?_
    obtain ⟨A164, hn9, hw, hf⟩ := nwA_s hf
    obtain ⟨hck, hf⟩ := ck_s hf
    refine c_newa (atype := .char) E hb hS hcs (Or.inr (Or.inr (Or.inr (Or.inl ⟨rfl, rfl⟩)))) q692 hn9 hw hck (rm_up _ _ _ _) dX6_init_741 (fun H cells slots hS hcs => ?_)
    refine lv_dup E.1 hb dX6_init_743 rfl ?_
    refine lv_iconst (v := 0) E.1 hb dX6_init_744 rfl ?_
    refine lv_bipush (v := 109) E.1 hb dX6_init_745 rfl ?_
    obtain ⟨A165, hg, hw, hf⟩ := uI_s hf
    refine d_st E hb hS hg rfl (Or.inr (Or.inr (Or.inl ⟨rfl, rfl, rfl⟩))) hw dX6_init_747 (fun H locs hS => ?_)
    have hcs := rm_w (A2 := A165) hcs (by rw [hw]; exact ⟨rfl, rfl⟩)
    refine lv_dup E.1 hb dX6_init_748 rfl ?_
    refine lv_iconst (v := 1) E.1 hb dX6_init_749 rfl ?_
    refine lv_bipush (v := 105) E.1 hb dX6_init_750 rfl ?_
    obtain ⟨A166, hg, hw, hf⟩ := uI_s hf
    refine d_st E hb hS hg rfl (Or.inr (Or.inr (Or.inl ⟨rfl, rfl, rfl⟩))) hw dX6_init_752 (fun H locs hS => ?_)
    have hcs := rm_w (A2 := A166) hcs (by rw [hw]; exact ⟨rfl, rfl⟩)
    refine lv_dup E.1 hb dX6_init_753 rfl ?_
    refine lv_iconst (v := 2) E.1 hb dX6_init_754 rfl ?_
    refine lv_bipush (v := 110) E.1 hb dX6_init_755 rfl ?_
    obtain ⟨A167, hg, hw, hf⟩ := uI_s hf
    refine d_st E hb hS hg rfl (Or.inr (Or.inr (Or.inl ⟨rfl, rfl, rfl⟩))) hw dX6_init_757 (fun H locs hS => ?_)
    have hcs := rm_w (A2 := A167) hcs (by rw [hw]; exact ⟨rfl, rfl⟩)
    obtain ⟨A168, hk, hw, hf⟩ := pR_s hf
    refine c_pR (k := 37) (f := 2137) (r := (some (aN A163))) E hb hS ci_21 hk (hS.1.lt hk rfl) rfl rfl (fun h => h.elim) (Or.inr ⟨hnm, rfl, rfl, q1719⟩) fk_X6_99_X6 (fun _ h => h) (fun q => by cases q <;> exact ⟨rfl, rfl⟩) hw dX6_init_758 (fun H locs hS => ?_)
    have hcs := rm_w (A2 := A168) hcs (by rw [hw]; exact ⟨rfl, rfl⟩)
    exact hB761 A168 hf _ _ _ _ hcs hS _ (lv_sub hl [0] rfl)
  have hB656 : ∀ (A : AH), X6_init_b656 x0 A = some ((), A') → ∀ (H : Heap) (locs : List Loc) (cells slots : Nat), aN A0 + cells ≤ aN A ∧ aS A0 + slots ≤ aS A →  cS dC dI ac ad False s.heap (aN A0) (aS A0) (aN A') (aS A') A H locs → ∀ (ls : Array Slot), lv_has ls 1 [(0, .ref (ad x0))] → W p l e { frames := 1, cells := aN A' - aN A0, slots := aS A' - aS A0, locals := 20 } s m args below meth c H locs cells slots (MQ below (cQv dC dI ac ad False (aN A0) (aS A0) (aN A') (aS A') A') args s (aN A' - aN A0) (aS A' - aS A0) (cF ad)) (F0 m 656 ls []) := by
    intro A hf H locs cells slots hcs hS ls hl
    unfold X6_init_b656 at hf
    refine lv_aload_n E.1 hb dX6_init_656 rfl (lv_at hl 0 rfl) ?_
    refine lv_iconst (v := 2) E.1 hb dX6_init_657 rfl ?_
    obtain ⟨A145, hn9, hw, hf⟩ := nwA_s hf
    obtain ⟨hck, hf⟩ := ck_s hf
    refine c_newa (atype := .char) E hb hS hcs (Or.inr (Or.inr (Or.inr (Or.inl ⟨rfl, rfl⟩)))) q692 hn9 hw hck (rm_up _ _ _ _) dX6_init_658 (fun H cells slots hS hcs => ?_)
    refine lv_dup E.1 hb dX6_init_660 rfl ?_
    refine lv_iconst (v := 0) E.1 hb dX6_init_661 rfl ?_
    refine lv_bipush (v := 111) E.1 hb dX6_init_662 rfl ?_
    obtain ⟨A146, hg, hw, hf⟩ := uI_s hf
    refine d_st E hb hS hg rfl (Or.inr (Or.inr (Or.inl ⟨rfl, rfl, rfl⟩))) hw dX6_init_664 (fun H locs hS => ?_)
    have hcs := rm_w (A2 := A146) hcs (by rw [hw]; exact ⟨rfl, rfl⟩)
    refine lv_dup E.1 hb dX6_init_665 rfl ?_
    refine lv_iconst (v := 1) E.1 hb dX6_init_666 rfl ?_
    refine lv_bipush (v := 114) E.1 hb dX6_init_667 rfl ?_
    obtain ⟨A147, hg, hw, hf⟩ := uI_s hf
    refine d_st E hb hS hg rfl (Or.inr (Or.inr (Or.inl ⟨rfl, rfl, rfl⟩))) hw dX6_init_669 (fun H locs hS => ?_)
    have hcs := rm_w (A2 := A147) hcs (by rw [hw]; exact ⟨rfl, rfl⟩)
    obtain ⟨A148, hk, hw, hf⟩ := pR_s hf
    refine c_pR (k := 33) (f := 2133) (r := (some (aN A))) E hb hS ci_21 hk (hS.1.lt hk rfl) rfl rfl (fun h => h.elim) (Or.inr ⟨hnm, rfl, rfl, q1715⟩) fk_X6_87_X6 (fun _ h => h) (fun q => by cases q <;> exact ⟨rfl, rfl⟩) hw dX6_init_670 (fun H locs hS => ?_)
    have hcs := rm_w (A2 := A148) hcs (by rw [hw]; exact ⟨rfl, rfl⟩)
    refine lv_aload_n E.1 hb dX6_init_673 rfl (lv_at hl 0 rfl) ?_
    refine lv_iconst (v := 3) E.1 hb dX6_init_674 rfl ?_
    obtain ⟨A149, hn9, hw, hf⟩ := nwA_s hf
    obtain ⟨hck, hf⟩ := ck_s hf
    refine c_newa (atype := .char) E hb hS hcs (Or.inr (Or.inr (Or.inr (Or.inl ⟨rfl, rfl⟩)))) q692 hn9 hw hck (rm_up _ _ _ _) dX6_init_675 (fun H cells slots hS hcs => ?_)
    refine lv_dup E.1 hb dX6_init_677 rfl ?_
    refine lv_iconst (v := 0) E.1 hb dX6_init_678 rfl ?_
    refine lv_bipush (v := 97) E.1 hb dX6_init_679 rfl ?_
    obtain ⟨A150, hg, hw, hf⟩ := uI_s hf
    refine d_st E hb hS hg rfl (Or.inr (Or.inr (Or.inl ⟨rfl, rfl, rfl⟩))) hw dX6_init_681 (fun H locs hS => ?_)
    have hcs := rm_w (A2 := A150) hcs (by rw [hw]; exact ⟨rfl, rfl⟩)
    refine lv_dup E.1 hb dX6_init_682 rfl ?_
    refine lv_iconst (v := 1) E.1 hb dX6_init_683 rfl ?_
    refine lv_bipush (v := 110) E.1 hb dX6_init_684 rfl ?_
    obtain ⟨A151, hg, hw, hf⟩ := uI_s hf
    refine d_st E hb hS hg rfl (Or.inr (Or.inr (Or.inl ⟨rfl, rfl, rfl⟩))) hw dX6_init_686 (fun H locs hS => ?_)
    have hcs := rm_w (A2 := A151) hcs (by rw [hw]; exact ⟨rfl, rfl⟩)
    refine lv_dup E.1 hb dX6_init_687 rfl ?_
    refine lv_iconst (v := 2) E.1 hb dX6_init_688 rfl ?_
    refine lv_bipush (v := 100) E.1 hb dX6_init_689 rfl ?_
    obtain ⟨A152, hg, hw, hf⟩ := uI_s hf
    refine d_st E hb hS hg rfl (Or.inr (Or.inr (Or.inl ⟨rfl, rfl, rfl⟩))) hw dX6_init_691 (fun H locs hS => ?_)
    have hcs := rm_w (A2 := A152) hcs (by rw [hw]; exact ⟨rfl, rfl⟩)
    obtain ⟨A153, hk, hw, hf⟩ := pR_s hf
    refine c_pR (k := 34) (f := 2134) (r := (some (aN A148))) E hb hS ci_21 hk (hS.1.lt hk rfl) rfl rfl (fun h => h.elim) (Or.inr ⟨hnm, rfl, rfl, q1716⟩) fk_X6_90_X6 (fun _ h => h) (fun q => by cases q <;> exact ⟨rfl, rfl⟩) hw dX6_init_692 (fun H locs hS => ?_)
    have hcs := rm_w (A2 := A153) hcs (by rw [hw]; exact ⟨rfl, rfl⟩)
    refine lv_aload_n E.1 hb dX6_init_695 rfl (lv_at hl 0 rfl) ?_
    refine lv_iconst (v := 3) E.1 hb dX6_init_696 rfl ?_
    obtain ⟨A154, hn9, hw, hf⟩ := nwA_s hf
    obtain ⟨hck, hf⟩ := ck_s hf
    refine c_newa (atype := .char) E hb hS hcs (Or.inr (Or.inr (Or.inr (Or.inl ⟨rfl, rfl⟩)))) q692 hn9 hw hck (rm_up _ _ _ _) dX6_init_697 (fun H cells slots hS hcs => ?_)
    refine lv_dup E.1 hb dX6_init_699 rfl ?_
    refine lv_iconst (v := 0) E.1 hb dX6_init_700 rfl ?_
    refine lv_bipush (v := 110) E.1 hb dX6_init_701 rfl ?_
    obtain ⟨A155, hg, hw, hf⟩ := uI_s hf
    refine d_st E hb hS hg rfl (Or.inr (Or.inr (Or.inl ⟨rfl, rfl, rfl⟩))) hw dX6_init_703 (fun H locs hS => ?_)
    have hcs := rm_w (A2 := A155) hcs (by rw [hw]; exact ⟨rfl, rfl⟩)
    refine lv_dup E.1 hb dX6_init_704 rfl ?_
    refine lv_iconst (v := 1) E.1 hb dX6_init_705 rfl ?_
    refine lv_bipush (v := 111) E.1 hb dX6_init_706 rfl ?_
    obtain ⟨A156, hg, hw, hf⟩ := uI_s hf
    refine d_st E hb hS hg rfl (Or.inr (Or.inr (Or.inl ⟨rfl, rfl, rfl⟩))) hw dX6_init_708 (fun H locs hS => ?_)
    have hcs := rm_w (A2 := A156) hcs (by rw [hw]; exact ⟨rfl, rfl⟩)
    refine lv_dup E.1 hb dX6_init_709 rfl ?_
    refine lv_iconst (v := 2) E.1 hb dX6_init_710 rfl ?_
    refine lv_bipush (v := 116) E.1 hb dX6_init_711 rfl ?_
    obtain ⟨A157, hg, hw, hf⟩ := uI_s hf
    refine d_st E hb hS hg rfl (Or.inr (Or.inr (Or.inl ⟨rfl, rfl, rfl⟩))) hw dX6_init_713 (fun H locs hS => ?_)
    have hcs := rm_w (A2 := A157) hcs (by rw [hw]; exact ⟨rfl, rfl⟩)
    obtain ⟨A158, hk, hw, hf⟩ := pR_s hf
    refine c_pR (k := 35) (f := 2135) (r := (some (aN A153))) E hb hS ci_21 hk (hS.1.lt hk rfl) rfl rfl (fun h => h.elim) (Or.inr ⟨hnm, rfl, rfl, q1717⟩) fk_X6_93_X6 (fun _ h => h) (fun q => by cases q <;> exact ⟨rfl, rfl⟩) hw dX6_init_714 (fun H locs hS => ?_)
    have hcs := rm_w (A2 := A158) hcs (by rw [hw]; exact ⟨rfl, rfl⟩)
    exact hB717 A158 hf _ _ _ _ hcs hS _ (lv_sub hl [0] rfl)
  have hB602 : ∀ (A : AH), X6_init_b602 x0 A = some ((), A') → ∀ (H : Heap) (locs : List Loc) (cells slots : Nat), aN A0 + cells ≤ aN A ∧ aS A0 + slots ≤ aS A →  cS dC dI ac ad False s.heap (aN A0) (aS A0) (aN A') (aS A') A H locs → ∀ (ls : Array Slot), lv_has ls 1 [(0, .ref (ad x0))] → W p l e { frames := 1, cells := aN A' - aN A0, slots := aS A' - aS A0, locals := 20 } s m args below meth c H locs cells slots (MQ below (cQv dC dI ac ad False (aN A0) (aS A0) (aN A') (aS A') A') args s (aN A' - aN A0) (aS A' - aS A0) (cF ad)) (F0 m 602 ls []) := by
    intro A hf H locs cells slots hcs hS ls hl
    unfold X6_init_b602 at hf
    refine lv_aload_n E.1 hb dX6_init_602 rfl (lv_at hl 0 rfl) ?_
    refine lv_iconst (v := 3) E.1 hb dX6_init_603 rfl ?_
    obtain ⟨A133, hn9, hw, hf⟩ := nwA_s hf
    obtain ⟨hck, hf⟩ := ck_s hf
    refine c_newa (atype := .char) E hb hS hcs (Or.inr (Or.inr (Or.inr (Or.inl ⟨rfl, rfl⟩)))) q692 hn9 hw hck (rm_up _ _ _ _) dX6_init_604 (fun H cells slots hS hcs => ?_)
    refine lv_dup E.1 hb dX6_init_606 rfl ?_
    refine lv_iconst (v := 0) E.1 hb dX6_init_607 rfl ?_
    refine lv_bipush (v := 109) E.1 hb dX6_init_608 rfl ?_
    obtain ⟨A134, hg, hw, hf⟩ := uI_s hf
    refine d_st E hb hS hg rfl (Or.inr (Or.inr (Or.inl ⟨rfl, rfl, rfl⟩))) hw dX6_init_610 (fun H locs hS => ?_)
    have hcs := rm_w (A2 := A134) hcs (by rw [hw]; exact ⟨rfl, rfl⟩)
    refine lv_dup E.1 hb dX6_init_611 rfl ?_
    refine lv_iconst (v := 1) E.1 hb dX6_init_612 rfl ?_
    refine lv_bipush (v := 101) E.1 hb dX6_init_613 rfl ?_
    obtain ⟨A135, hg, hw, hf⟩ := uI_s hf
    refine d_st E hb hS hg rfl (Or.inr (Or.inr (Or.inl ⟨rfl, rfl, rfl⟩))) hw dX6_init_615 (fun H locs hS => ?_)
    have hcs := rm_w (A2 := A135) hcs (by rw [hw]; exact ⟨rfl, rfl⟩)
    refine lv_dup E.1 hb dX6_init_616 rfl ?_
    refine lv_iconst (v := 2) E.1 hb dX6_init_617 rfl ?_
    refine lv_bipush (v := 116) E.1 hb dX6_init_618 rfl ?_
    obtain ⟨A136, hg, hw, hf⟩ := uI_s hf
    refine d_st E hb hS hg rfl (Or.inr (Or.inr (Or.inl ⟨rfl, rfl, rfl⟩))) hw dX6_init_620 (fun H locs hS => ?_)
    have hcs := rm_w (A2 := A136) hcs (by rw [hw]; exact ⟨rfl, rfl⟩)
    obtain ⟨A137, hk, hw, hf⟩ := pR_s hf
    refine c_pR (k := 31) (f := 2131) (r := (some (aN A))) E hb hS ci_21 hk (hS.1.lt hk rfl) rfl rfl (fun h => h.elim) (Or.inr ⟨hnm, rfl, rfl, q1713⟩) fk_X6_81_X6 (fun _ h => h) (fun q => by cases q <;> exact ⟨rfl, rfl⟩) hw dX6_init_621 (fun H locs hS => ?_)
    have hcs := rm_w (A2 := A137) hcs (by rw [hw]; exact ⟨rfl, rfl⟩)
    refine lv_aload_n E.1 hb dX6_init_624 rfl (lv_at hl 0 rfl) ?_
    refine lv_iconst (v := 5) E.1 hb dX6_init_625 rfl ?_
    obtain ⟨A138, hn9, hw, hf⟩ := nwA_s hf
    obtain ⟨hck, hf⟩ := ck_s hf
    refine c_newa (atype := .char) E hb hS hcs (Or.inr (Or.inr (Or.inr (Or.inl ⟨rfl, rfl⟩)))) q692 hn9 hw hck (rm_up _ _ _ _) dX6_init_626 (fun H cells slots hS hcs => ?_)
    refine lv_dup E.1 hb dX6_init_628 rfl ?_
    refine lv_iconst (v := 0) E.1 hb dX6_init_629 rfl ?_
    refine lv_bipush (v := 109) E.1 hb dX6_init_630 rfl ?_
    obtain ⟨A139, hg, hw, hf⟩ := uI_s hf
    refine d_st E hb hS hg rfl (Or.inr (Or.inr (Or.inl ⟨rfl, rfl, rfl⟩))) hw dX6_init_632 (fun H locs hS => ?_)
    have hcs := rm_w (A2 := A139) hcs (by rw [hw]; exact ⟨rfl, rfl⟩)
    refine lv_dup E.1 hb dX6_init_633 rfl ?_
    refine lv_iconst (v := 1) E.1 hb dX6_init_634 rfl ?_
    refine lv_bipush (v := 101) E.1 hb dX6_init_635 rfl ?_
    obtain ⟨A140, hg, hw, hf⟩ := uI_s hf
    refine d_st E hb hS hg rfl (Or.inr (Or.inr (Or.inl ⟨rfl, rfl, rfl⟩))) hw dX6_init_637 (fun H locs hS => ?_)
    have hcs := rm_w (A2 := A140) hcs (by rw [hw]; exact ⟨rfl, rfl⟩)
    refine lv_dup E.1 hb dX6_init_638 rfl ?_
    refine lv_iconst (v := 2) E.1 hb dX6_init_639 rfl ?_
    refine lv_bipush (v := 101) E.1 hb dX6_init_640 rfl ?_
    obtain ⟨A141, hg, hw, hf⟩ := uI_s hf
    refine d_st E hb hS hg rfl (Or.inr (Or.inr (Or.inl ⟨rfl, rfl, rfl⟩))) hw dX6_init_642 (fun H locs hS => ?_)
    have hcs := rm_w (A2 := A141) hcs (by rw [hw]; exact ⟨rfl, rfl⟩)
    refine lv_dup E.1 hb dX6_init_643 rfl ?_
    refine lv_iconst (v := 3) E.1 hb dX6_init_644 rfl ?_
    refine lv_bipush (v := 116) E.1 hb dX6_init_645 rfl ?_
    obtain ⟨A142, hg, hw, hf⟩ := uI_s hf
    refine d_st E hb hS hg rfl (Or.inr (Or.inr (Or.inl ⟨rfl, rfl, rfl⟩))) hw dX6_init_647 (fun H locs hS => ?_)
    have hcs := rm_w (A2 := A142) hcs (by rw [hw]; exact ⟨rfl, rfl⟩)
    refine lv_dup E.1 hb dX6_init_648 rfl ?_
    refine lv_iconst (v := 4) E.1 hb dX6_init_649 rfl ?_
    refine lv_bipush (v := 115) E.1 hb dX6_init_650 rfl ?_
    obtain ⟨A143, hg, hw, hf⟩ := uI_s hf
    refine d_st E hb hS hg rfl (Or.inr (Or.inr (Or.inl ⟨rfl, rfl, rfl⟩))) hw dX6_init_652 (fun H locs hS => ?_)
    have hcs := rm_w (A2 := A143) hcs (by rw [hw]; exact ⟨rfl, rfl⟩)
    obtain ⟨A144, hk, hw, hf⟩ := pR_s hf
    refine c_pR (k := 32) (f := 2132) (r := (some (aN A137))) E hb hS ci_21 hk (hS.1.lt hk rfl) rfl rfl (fun h => h.elim) (Or.inr ⟨hnm, rfl, rfl, q1714⟩) fk_X6_84_X6 (fun _ h => h) (fun q => by cases q <;> exact ⟨rfl, rfl⟩) hw dX6_init_653 (fun H locs hS => ?_)
    have hcs := rm_w (A2 := A144) hcs (by rw [hw]; exact ⟨rfl, rfl⟩)
    exact hB656 A144 hf _ _ _ _ hcs hS _ (lv_sub hl [0] rfl)
  have hB532 : ∀ (A : AH), X6_init_b532 x0 A = some ((), A') → ∀ (H : Heap) (locs : List Loc) (cells slots : Nat), aN A0 + cells ≤ aN A ∧ aS A0 + slots ≤ aS A →  cS dC dI ac ad False s.heap (aN A0) (aS A0) (aN A') (aS A') A H locs → ∀ (ls : Array Slot), lv_has ls 1 [(0, .ref (ad x0))] → W p l e { frames := 1, cells := aN A' - aN A0, slots := aS A' - aS A0, locals := 20 } s m args below meth c H locs cells slots (MQ below (cQv dC dI ac ad False (aN A0) (aS A0) (aN A') (aS A') A') args s (aN A' - aN A0) (aS A' - aS A0) (cF ad)) (F0 m 532 ls []) := by
    intro A hf H locs cells slots hcs hS ls hl
    unfold X6_init_b532 at hf
    refine lv_aload_n E.1 hb dX6_init_532 rfl (lv_at hl 0 rfl) ?_
    refine lv_iconst (v := 5) E.1 hb dX6_init_533 rfl ?_
    obtain ⟨A118, hn9, hw, hf⟩ := nwA_s hf
    obtain ⟨hck, hf⟩ := ck_s hf
    refine c_newa (atype := .char) E hb hS hcs (Or.inr (Or.inr (Or.inr (Or.inl ⟨rfl, rfl⟩)))) q692 hn9 hw hck (rm_up _ _ _ _) dX6_init_534 (fun H cells slots hS hcs => ?_)
    refine lv_dup E.1 hb dX6_init_536 rfl ?_
    refine lv_iconst (v := 0) E.1 hb dX6_init_537 rfl ?_
    refine lv_bipush (v := 111) E.1 hb dX6_init_538 rfl ?_
    obtain ⟨A119, hg, hw, hf⟩ := uI_s hf
    refine d_st E hb hS hg rfl (Or.inr (Or.inr (Or.inl ⟨rfl, rfl, rfl⟩))) hw dX6_init_540 (fun H locs hS => ?_)
    have hcs := rm_w (A2 := A119) hcs (by rw [hw]; exact ⟨rfl, rfl⟩)
    refine lv_dup E.1 hb dX6_init_541 rfl ?_
    refine lv_iconst (v := 1) E.1 hb dX6_init_542 rfl ?_
    refine lv_bipush (v := 116) E.1 hb dX6_init_543 rfl ?_
    obtain ⟨A120, hg, hw, hf⟩ := uI_s hf
    refine d_st E hb hS hg rfl (Or.inr (Or.inr (Or.inl ⟨rfl, rfl, rfl⟩))) hw dX6_init_545 (fun H locs hS => ?_)
    have hcs := rm_w (A2 := A120) hcs (by rw [hw]; exact ⟨rfl, rfl⟩)
    refine lv_dup E.1 hb dX6_init_546 rfl ?_
    refine lv_iconst (v := 2) E.1 hb dX6_init_547 rfl ?_
    refine lv_bipush (v := 104) E.1 hb dX6_init_548 rfl ?_
    obtain ⟨A121, hg, hw, hf⟩ := uI_s hf
    refine d_st E hb hS hg rfl (Or.inr (Or.inr (Or.inl ⟨rfl, rfl, rfl⟩))) hw dX6_init_550 (fun H locs hS => ?_)
    have hcs := rm_w (A2 := A121) hcs (by rw [hw]; exact ⟨rfl, rfl⟩)
    refine lv_dup E.1 hb dX6_init_551 rfl ?_
    refine lv_iconst (v := 3) E.1 hb dX6_init_552 rfl ?_
    refine lv_bipush (v := 101) E.1 hb dX6_init_553 rfl ?_
    obtain ⟨A122, hg, hw, hf⟩ := uI_s hf
    refine d_st E hb hS hg rfl (Or.inr (Or.inr (Or.inl ⟨rfl, rfl, rfl⟩))) hw dX6_init_555 (fun H locs hS => ?_)
    have hcs := rm_w (A2 := A122) hcs (by rw [hw]; exact ⟨rfl, rfl⟩)
    refine lv_dup E.1 hb dX6_init_556 rfl ?_
    refine lv_iconst (v := 4) E.1 hb dX6_init_557 rfl ?_
    refine lv_bipush (v := 114) E.1 hb dX6_init_558 rfl ?_
    obtain ⟨A123, hg, hw, hf⟩ := uI_s hf
    refine d_st E hb hS hg rfl (Or.inr (Or.inr (Or.inl ⟨rfl, rfl, rfl⟩))) hw dX6_init_560 (fun H locs hS => ?_)
    have hcs := rm_w (A2 := A123) hcs (by rw [hw]; exact ⟨rfl, rfl⟩)
    obtain ⟨A124, hk, hw, hf⟩ := pR_s hf
    refine c_pR (k := 29) (f := 2129) (r := (some (aN A))) E hb hS ci_21 hk (hS.1.lt hk rfl) rfl rfl (fun h => h.elim) (Or.inr ⟨hnm, rfl, rfl, q1711⟩) fk_X6_75_X6 (fun _ h => h) (fun q => by cases q <;> exact ⟨rfl, rfl⟩) hw dX6_init_561 (fun H locs hS => ?_)
    have hcs := rm_w (A2 := A124) hcs (by rw [hw]; exact ⟨rfl, rfl⟩)
    refine lv_aload_n E.1 hb dX6_init_564 rfl (lv_at hl 0 rfl) ?_
    refine lv_bipush (v := 6) E.1 hb dX6_init_565 rfl ?_
    obtain ⟨A125, hn9, hw, hf⟩ := nwA_s hf
    obtain ⟨hck, hf⟩ := ck_s hf
    refine c_newa (atype := .char) E hb hS hcs (Or.inr (Or.inr (Or.inr (Or.inl ⟨rfl, rfl⟩)))) q692 hn9 hw hck (rm_up _ _ _ _) dX6_init_567 (fun H cells slots hS hcs => ?_)
    refine lv_dup E.1 hb dX6_init_569 rfl ?_
    refine lv_iconst (v := 0) E.1 hb dX6_init_570 rfl ?_
    refine lv_bipush (v := 110) E.1 hb dX6_init_571 rfl ?_
    obtain ⟨A126, hg, hw, hf⟩ := uI_s hf
    refine d_st E hb hS hg rfl (Or.inr (Or.inr (Or.inl ⟨rfl, rfl, rfl⟩))) hw dX6_init_573 (fun H locs hS => ?_)
    have hcs := rm_w (A2 := A126) hcs (by rw [hw]; exact ⟨rfl, rfl⟩)
    refine lv_dup E.1 hb dX6_init_574 rfl ?_
    refine lv_iconst (v := 1) E.1 hb dX6_init_575 rfl ?_
    refine lv_bipush (v := 117) E.1 hb dX6_init_576 rfl ?_
    obtain ⟨A127, hg, hw, hf⟩ := uI_s hf
    refine d_st E hb hS hg rfl (Or.inr (Or.inr (Or.inl ⟨rfl, rfl, rfl⟩))) hw dX6_init_578 (fun H locs hS => ?_)
    have hcs := rm_w (A2 := A127) hcs (by rw [hw]; exact ⟨rfl, rfl⟩)
    refine lv_dup E.1 hb dX6_init_579 rfl ?_
    refine lv_iconst (v := 2) E.1 hb dX6_init_580 rfl ?_
    refine lv_bipush (v := 109) E.1 hb dX6_init_581 rfl ?_
    obtain ⟨A128, hg, hw, hf⟩ := uI_s hf
    refine d_st E hb hS hg rfl (Or.inr (Or.inr (Or.inl ⟨rfl, rfl, rfl⟩))) hw dX6_init_583 (fun H locs hS => ?_)
    have hcs := rm_w (A2 := A128) hcs (by rw [hw]; exact ⟨rfl, rfl⟩)
    refine lv_dup E.1 hb dX6_init_584 rfl ?_
    refine lv_iconst (v := 3) E.1 hb dX6_init_585 rfl ?_
    refine lv_bipush (v := 98) E.1 hb dX6_init_586 rfl ?_
    obtain ⟨A129, hg, hw, hf⟩ := uI_s hf
    refine d_st E hb hS hg rfl (Or.inr (Or.inr (Or.inl ⟨rfl, rfl, rfl⟩))) hw dX6_init_588 (fun H locs hS => ?_)
    have hcs := rm_w (A2 := A129) hcs (by rw [hw]; exact ⟨rfl, rfl⟩)
    refine lv_dup E.1 hb dX6_init_589 rfl ?_
    refine lv_iconst (v := 4) E.1 hb dX6_init_590 rfl ?_
    refine lv_bipush (v := 101) E.1 hb dX6_init_591 rfl ?_
    obtain ⟨A130, hg, hw, hf⟩ := uI_s hf
    refine d_st E hb hS hg rfl (Or.inr (Or.inr (Or.inl ⟨rfl, rfl, rfl⟩))) hw dX6_init_593 (fun H locs hS => ?_)
    have hcs := rm_w (A2 := A130) hcs (by rw [hw]; exact ⟨rfl, rfl⟩)
    refine lv_dup E.1 hb dX6_init_594 rfl ?_
    refine lv_iconst (v := 5) E.1 hb dX6_init_595 rfl ?_
    refine lv_bipush (v := 114) E.1 hb dX6_init_596 rfl ?_
    obtain ⟨A131, hg, hw, hf⟩ := uI_s hf
    refine d_st E hb hS hg rfl (Or.inr (Or.inr (Or.inl ⟨rfl, rfl, rfl⟩))) hw dX6_init_598 (fun H locs hS => ?_)
    have hcs := rm_w (A2 := A131) hcs (by rw [hw]; exact ⟨rfl, rfl⟩)
    obtain ⟨A132, hk, hw, hf⟩ := pR_s hf
    refine c_pR (k := 30) (f := 2130) (r := (some (aN A124))) E hb hS ci_21 hk (hS.1.lt hk rfl) rfl rfl (fun h => h.elim) (Or.inr ⟨hnm, rfl, rfl, q1712⟩) fk_X6_78_X6 (fun _ h => h) (fun q => by cases q <;> exact ⟨rfl, rfl⟩) hw dX6_init_599 (fun H locs hS => ?_)
    have hcs := rm_w (A2 := A132) hcs (by rw [hw]; exact ⟨rfl, rfl⟩)
    exact hB602 A132 hf _ _ _ _ hcs hS _ (lv_sub hl [0] rfl)
  have hB473 : ∀ (A : AH), X6_init_b473 x0 A = some ((), A') → ∀ (H : Heap) (locs : List Loc) (cells slots : Nat), aN A0 + cells ≤ aN A ∧ aS A0 + slots ≤ aS A →  cS dC dI ac ad False s.heap (aN A0) (aS A0) (aN A') (aS A') A H locs → ∀ (ls : Array Slot), lv_has ls 1 [(0, .ref (ad x0))] → W p l e { frames := 1, cells := aN A' - aN A0, slots := aS A' - aS A0, locals := 20 } s m args below meth c H locs cells slots (MQ below (cQv dC dI ac ad False (aN A0) (aS A0) (aN A') (aS A') A') args s (aN A' - aN A0) (aS A' - aS A0) (cF ad)) (F0 m 473 ls []) := by
    intro A hf H locs cells slots hcs hS ls hl
    unfold X6_init_b473 at hf
    refine lv_aload_n E.1 hb dX6_init_473 rfl (lv_at hl 0 rfl) ?_
    refine lv_iconst (v := 5) E.1 hb dX6_init_474 rfl ?_
    obtain ⟨A105, hn9, hw, hf⟩ := nwA_s hf
    obtain ⟨hck, hf⟩ := ck_s hf
    refine c_newa (atype := .char) E hb hS hcs (Or.inr (Or.inr (Or.inr (Or.inl ⟨rfl, rfl⟩)))) q692 hn9 hw hck (rm_up _ _ _ _) dX6_init_475 (fun H cells slots hS hcs => ?_)
    refine lv_dup E.1 hb dX6_init_477 rfl ?_
    refine lv_iconst (v := 0) E.1 hb dX6_init_478 rfl ?_
    refine lv_bipush (v := 112) E.1 hb dX6_init_479 rfl ?_
    obtain ⟨A106, hg, hw, hf⟩ := uI_s hf
    refine d_st E hb hS hg rfl (Or.inr (Or.inr (Or.inl ⟨rfl, rfl, rfl⟩))) hw dX6_init_481 (fun H locs hS => ?_)
    have hcs := rm_w (A2 := A106) hcs (by rw [hw]; exact ⟨rfl, rfl⟩)
    refine lv_dup E.1 hb dX6_init_482 rfl ?_
    refine lv_iconst (v := 1) E.1 hb dX6_init_483 rfl ?_
    refine lv_bipush (v := 117) E.1 hb dX6_init_484 rfl ?_
    obtain ⟨A107, hg, hw, hf⟩ := uI_s hf
    refine d_st E hb hS hg rfl (Or.inr (Or.inr (Or.inl ⟨rfl, rfl, rfl⟩))) hw dX6_init_486 (fun H locs hS => ?_)
    have hcs := rm_w (A2 := A107) hcs (by rw [hw]; exact ⟨rfl, rfl⟩)
    refine lv_dup E.1 hb dX6_init_487 rfl ?_
    refine lv_iconst (v := 2) E.1 hb dX6_init_488 rfl ?_
    refine lv_bipush (v := 114) E.1 hb dX6_init_489 rfl ?_
    obtain ⟨A108, hg, hw, hf⟩ := uI_s hf
    refine d_st E hb hS hg rfl (Or.inr (Or.inr (Or.inl ⟨rfl, rfl, rfl⟩))) hw dX6_init_491 (fun H locs hS => ?_)
    have hcs := rm_w (A2 := A108) hcs (by rw [hw]; exact ⟨rfl, rfl⟩)
    refine lv_dup E.1 hb dX6_init_492 rfl ?_
    refine lv_iconst (v := 3) E.1 hb dX6_init_493 rfl ?_
    refine lv_bipush (v := 115) E.1 hb dX6_init_494 rfl ?_
    obtain ⟨A109, hg, hw, hf⟩ := uI_s hf
    refine d_st E hb hS hg rfl (Or.inr (Or.inr (Or.inl ⟨rfl, rfl, rfl⟩))) hw dX6_init_496 (fun H locs hS => ?_)
    have hcs := rm_w (A2 := A109) hcs (by rw [hw]; exact ⟨rfl, rfl⟩)
    refine lv_dup E.1 hb dX6_init_497 rfl ?_
    refine lv_iconst (v := 4) E.1 hb dX6_init_498 rfl ?_
    refine lv_bipush (v := 101) E.1 hb dX6_init_499 rfl ?_
    obtain ⟨A110, hg, hw, hf⟩ := uI_s hf
    refine d_st E hb hS hg rfl (Or.inr (Or.inr (Or.inl ⟨rfl, rfl, rfl⟩))) hw dX6_init_501 (fun H locs hS => ?_)
    have hcs := rm_w (A2 := A110) hcs (by rw [hw]; exact ⟨rfl, rfl⟩)
    obtain ⟨A111, hk, hw, hf⟩ := pR_s hf
    refine c_pR (k := 27) (f := 2127) (r := (some (aN A))) E hb hS ci_21 hk (hS.1.lt hk rfl) rfl rfl (fun h => h.elim) (Or.inr ⟨hnm, rfl, rfl, q1709⟩) fk_X6_69_X6 (fun _ h => h) (fun q => by cases q <;> exact ⟨rfl, rfl⟩) hw dX6_init_502 (fun H locs hS => ?_)
    have hcs := rm_w (A2 := A111) hcs (by rw [hw]; exact ⟨rfl, rfl⟩)
    refine lv_aload_n E.1 hb dX6_init_505 rfl (lv_at hl 0 rfl) ?_
    refine lv_iconst (v := 4) E.1 hb dX6_init_506 rfl ?_
    obtain ⟨A112, hn9, hw, hf⟩ := nwA_s hf
    obtain ⟨hck, hf⟩ := ck_s hf
    refine c_newa (atype := .char) E hb hS hcs (Or.inr (Or.inr (Or.inr (Or.inl ⟨rfl, rfl⟩)))) q692 hn9 hw hck (rm_up _ _ _ _) dX6_init_507 (fun H cells slots hS hcs => ?_)
    refine lv_dup E.1 hb dX6_init_509 rfl ?_
    refine lv_iconst (v := 0) E.1 hb dX6_init_510 rfl ?_
    refine lv_bipush (v := 111) E.1 hb dX6_init_511 rfl ?_
    obtain ⟨A113, hg, hw, hf⟩ := uI_s hf
    refine d_st E hb hS hg rfl (Or.inr (Or.inr (Or.inl ⟨rfl, rfl, rfl⟩))) hw dX6_init_513 (fun H locs hS => ?_)
    have hcs := rm_w (A2 := A113) hcs (by rw [hw]; exact ⟨rfl, rfl⟩)
    refine lv_dup E.1 hb dX6_init_514 rfl ?_
    refine lv_iconst (v := 1) E.1 hb dX6_init_515 rfl ?_
    refine lv_bipush (v := 112) E.1 hb dX6_init_516 rfl ?_
    obtain ⟨A114, hg, hw, hf⟩ := uI_s hf
    refine d_st E hb hS hg rfl (Or.inr (Or.inr (Or.inl ⟨rfl, rfl, rfl⟩))) hw dX6_init_518 (fun H locs hS => ?_)
    have hcs := rm_w (A2 := A114) hcs (by rw [hw]; exact ⟨rfl, rfl⟩)
    refine lv_dup E.1 hb dX6_init_519 rfl ?_
    refine lv_iconst (v := 2) E.1 hb dX6_init_520 rfl ?_
    refine lv_bipush (v := 101) E.1 hb dX6_init_521 rfl ?_
    obtain ⟨A115, hg, hw, hf⟩ := uI_s hf
    refine d_st E hb hS hg rfl (Or.inr (Or.inr (Or.inl ⟨rfl, rfl, rfl⟩))) hw dX6_init_523 (fun H locs hS => ?_)
    have hcs := rm_w (A2 := A115) hcs (by rw [hw]; exact ⟨rfl, rfl⟩)
    refine lv_dup E.1 hb dX6_init_524 rfl ?_
    refine lv_iconst (v := 3) E.1 hb dX6_init_525 rfl ?_
    refine lv_bipush (v := 110) E.1 hb dX6_init_526 rfl ?_
    obtain ⟨A116, hg, hw, hf⟩ := uI_s hf
    refine d_st E hb hS hg rfl (Or.inr (Or.inr (Or.inl ⟨rfl, rfl, rfl⟩))) hw dX6_init_528 (fun H locs hS => ?_)
    have hcs := rm_w (A2 := A116) hcs (by rw [hw]; exact ⟨rfl, rfl⟩)
    obtain ⟨A117, hk, hw, hf⟩ := pR_s hf
    refine c_pR (k := 28) (f := 2128) (r := (some (aN A111))) E hb hS ci_21 hk (hS.1.lt hk rfl) rfl rfl (fun h => h.elim) (Or.inr ⟨hnm, rfl, rfl, q1710⟩) fk_X6_72_X6 (fun _ h => h) (fun q => by cases q <;> exact ⟨rfl, rfl⟩) hw dX6_init_529 (fun H locs hS => ?_)
    have hcs := rm_w (A2 := A117) hcs (by rw [hw]; exact ⟨rfl, rfl⟩)
    exact hB532 A117 hf _ _ _ _ hcs hS _ (lv_sub hl [0] rfl)
  have hB419 : ∀ (A : AH), X6_init_b419 x0 A = some ((), A') → ∀ (H : Heap) (locs : List Loc) (cells slots : Nat), aN A0 + cells ≤ aN A ∧ aS A0 + slots ≤ aS A →  cS dC dI ac ad False s.heap (aN A0) (aS A0) (aN A') (aS A') A H locs → ∀ (ls : Array Slot), lv_has ls 1 [(0, .ref (ad x0))] → W p l e { frames := 1, cells := aN A' - aN A0, slots := aS A' - aS A0, locals := 20 } s m args below meth c H locs cells slots (MQ below (cQv dC dI ac ad False (aN A0) (aS A0) (aN A') (aS A') A') args s (aN A' - aN A0) (aS A' - aS A0) (cF ad)) (F0 m 419 ls []) := by
    intro A hf H locs cells slots hcs hS ls hl
    unfold X6_init_b419 at hf
    refine lv_aload_n E.1 hb dX6_init_419 rfl (lv_at hl 0 rfl) ?_
    refine lv_iconst (v := 4) E.1 hb dX6_init_420 rfl ?_
    obtain ⟨A93, hn9, hw, hf⟩ := nwA_s hf
    obtain ⟨hck, hf⟩ := ck_s hf
    refine c_newa (atype := .char) E hb hS hcs (Or.inr (Or.inr (Or.inr (Or.inl ⟨rfl, rfl⟩)))) q692 hn9 hw hck (rm_up _ _ _ _) dX6_init_421 (fun H cells slots hS hcs => ?_)
    refine lv_dup E.1 hb dX6_init_423 rfl ?_
    refine lv_iconst (v := 0) E.1 hb dX6_init_424 rfl ?_
    refine lv_bipush (v := 108) E.1 hb dX6_init_425 rfl ?_
    obtain ⟨A94, hg, hw, hf⟩ := uI_s hf
    refine d_st E hb hS hg rfl (Or.inr (Or.inr (Or.inl ⟨rfl, rfl, rfl⟩))) hw dX6_init_427 (fun H locs hS => ?_)
    have hcs := rm_w (A2 := A94) hcs (by rw [hw]; exact ⟨rfl, rfl⟩)
    refine lv_dup E.1 hb dX6_init_428 rfl ?_
    refine lv_iconst (v := 1) E.1 hb dX6_init_429 rfl ?_
    refine lv_bipush (v := 101) E.1 hb dX6_init_430 rfl ?_
    obtain ⟨A95, hg, hw, hf⟩ := uI_s hf
    refine d_st E hb hS hg rfl (Or.inr (Or.inr (Or.inl ⟨rfl, rfl, rfl⟩))) hw dX6_init_432 (fun H locs hS => ?_)
    have hcs := rm_w (A2 := A95) hcs (by rw [hw]; exact ⟨rfl, rfl⟩)
    refine lv_dup E.1 hb dX6_init_433 rfl ?_
    refine lv_iconst (v := 2) E.1 hb dX6_init_434 rfl ?_
    refine lv_bipush (v := 97) E.1 hb dX6_init_435 rfl ?_
    obtain ⟨A96, hg, hw, hf⟩ := uI_s hf
    refine d_st E hb hS hg rfl (Or.inr (Or.inr (Or.inl ⟨rfl, rfl, rfl⟩))) hw dX6_init_437 (fun H locs hS => ?_)
    have hcs := rm_w (A2 := A96) hcs (by rw [hw]; exact ⟨rfl, rfl⟩)
    refine lv_dup E.1 hb dX6_init_438 rfl ?_
    refine lv_iconst (v := 3) E.1 hb dX6_init_439 rfl ?_
    refine lv_bipush (v := 102) E.1 hb dX6_init_440 rfl ?_
    obtain ⟨A97, hg, hw, hf⟩ := uI_s hf
    refine d_st E hb hS hg rfl (Or.inr (Or.inr (Or.inl ⟨rfl, rfl, rfl⟩))) hw dX6_init_442 (fun H locs hS => ?_)
    have hcs := rm_w (A2 := A97) hcs (by rw [hw]; exact ⟨rfl, rfl⟩)
    obtain ⟨A98, hk, hw, hf⟩ := pR_s hf
    refine c_pR (k := 25) (f := 2125) (r := (some (aN A))) E hb hS ci_21 hk (hS.1.lt hk rfl) rfl rfl (fun h => h.elim) (Or.inr ⟨hnm, rfl, rfl, q1707⟩) fk_X6_63_X6 (fun _ h => h) (fun q => by cases q <;> exact ⟨rfl, rfl⟩) hw dX6_init_443 (fun H locs hS => ?_)
    have hcs := rm_w (A2 := A98) hcs (by rw [hw]; exact ⟨rfl, rfl⟩)
    refine lv_aload_n E.1 hb dX6_init_446 rfl (lv_at hl 0 rfl) ?_
    refine lv_iconst (v := 4) E.1 hb dX6_init_447 rfl ?_
    obtain ⟨A99, hn9, hw, hf⟩ := nwA_s hf
    obtain ⟨hck, hf⟩ := ck_s hf
    refine c_newa (atype := .char) E hb hS hcs (Or.inr (Or.inr (Or.inr (Or.inl ⟨rfl, rfl⟩)))) q692 hn9 hw hck (rm_up _ _ _ _) dX6_init_448 (fun H cells slots hS hcs => ?_)
    refine lv_dup E.1 hb dX6_init_450 rfl ?_
    refine lv_iconst (v := 0) E.1 hb dX6_init_451 rfl ?_
    refine lv_bipush (v := 99) E.1 hb dX6_init_452 rfl ?_
    obtain ⟨A100, hg, hw, hf⟩ := uI_s hf
    refine d_st E hb hS hg rfl (Or.inr (Or.inr (Or.inl ⟨rfl, rfl, rfl⟩))) hw dX6_init_454 (fun H locs hS => ?_)
    have hcs := rm_w (A2 := A100) hcs (by rw [hw]; exact ⟨rfl, rfl⟩)
    refine lv_dup E.1 hb dX6_init_455 rfl ?_
    refine lv_iconst (v := 1) E.1 hb dX6_init_456 rfl ?_
    refine lv_bipush (v := 101) E.1 hb dX6_init_457 rfl ?_
    obtain ⟨A101, hg, hw, hf⟩ := uI_s hf
    refine d_st E hb hS hg rfl (Or.inr (Or.inr (Or.inl ⟨rfl, rfl, rfl⟩))) hw dX6_init_459 (fun H locs hS => ?_)
    have hcs := rm_w (A2 := A101) hcs (by rw [hw]; exact ⟨rfl, rfl⟩)
    refine lv_dup E.1 hb dX6_init_460 rfl ?_
    refine lv_iconst (v := 2) E.1 hb dX6_init_461 rfl ?_
    refine lv_bipush (v := 108) E.1 hb dX6_init_462 rfl ?_
    obtain ⟨A102, hg, hw, hf⟩ := uI_s hf
    refine d_st E hb hS hg rfl (Or.inr (Or.inr (Or.inl ⟨rfl, rfl, rfl⟩))) hw dX6_init_464 (fun H locs hS => ?_)
    have hcs := rm_w (A2 := A102) hcs (by rw [hw]; exact ⟨rfl, rfl⟩)
    refine lv_dup E.1 hb dX6_init_465 rfl ?_
    refine lv_iconst (v := 3) E.1 hb dX6_init_466 rfl ?_
    refine lv_bipush (v := 108) E.1 hb dX6_init_467 rfl ?_
    obtain ⟨A103, hg, hw, hf⟩ := uI_s hf
    refine d_st E hb hS hg rfl (Or.inr (Or.inr (Or.inl ⟨rfl, rfl, rfl⟩))) hw dX6_init_469 (fun H locs hS => ?_)
    have hcs := rm_w (A2 := A103) hcs (by rw [hw]; exact ⟨rfl, rfl⟩)
    obtain ⟨A104, hk, hw, hf⟩ := pR_s hf
    refine c_pR (k := 26) (f := 2126) (r := (some (aN A98))) E hb hS ci_21 hk (hS.1.lt hk rfl) rfl rfl (fun h => h.elim) (Or.inr ⟨hnm, rfl, rfl, q1708⟩) fk_X6_66_X6 (fun _ h => h) (fun q => by cases q <;> exact ⟨rfl, rfl⟩) hw dX6_init_470 (fun H locs hS => ?_)
    have hcs := rm_w (A2 := A104) hcs (by rw [hw]; exact ⟨rfl, rfl⟩)
    exact hB473 A104 hf _ _ _ _ hcs hS _ (lv_sub hl [0] rfl)
  have hB365 : ∀ (A : AH), X6_init_b365 x0 A = some ((), A') → ∀ (H : Heap) (locs : List Loc) (cells slots : Nat), aN A0 + cells ≤ aN A ∧ aS A0 + slots ≤ aS A →  cS dC dI ac ad False s.heap (aN A0) (aS A0) (aN A') (aS A') A H locs → ∀ (ls : Array Slot), lv_has ls 1 [(0, .ref (ad x0))] → W p l e { frames := 1, cells := aN A' - aN A0, slots := aS A' - aS A0, locals := 20 } s m args below meth c H locs cells slots (MQ below (cQv dC dI ac ad False (aN A0) (aS A0) (aN A') (aS A') A') args s (aN A' - aN A0) (aS A' - aS A0) (cF ad)) (F0 m 365 ls []) := by
    intro A hf H locs cells slots hcs hS ls hl
    unfold X6_init_b365 at hf
    refine lv_aload_n E.1 hb dX6_init_365 rfl (lv_at hl 0 rfl) ?_
    refine lv_iconst (v := 5) E.1 hb dX6_init_366 rfl ?_
    obtain ⟨A81, hn9, hw, hf⟩ := nwA_s hf
    obtain ⟨hck, hf⟩ := ck_s hf
    refine c_newa (atype := .char) E hb hS hcs (Or.inr (Or.inr (Or.inr (Or.inl ⟨rfl, rfl⟩)))) q692 hn9 hw hck (rm_up _ _ _ _) dX6_init_367 (fun H cells slots hS hcs => ?_)
    refine lv_dup E.1 hb dX6_init_369 rfl ?_
    refine lv_iconst (v := 0) E.1 hb dX6_init_370 rfl ?_
    refine lv_bipush (v := 116) E.1 hb dX6_init_371 rfl ?_
    obtain ⟨A82, hg, hw, hf⟩ := uI_s hf
    refine d_st E hb hS hg rfl (Or.inr (Or.inr (Or.inl ⟨rfl, rfl, rfl⟩))) hw dX6_init_373 (fun H locs hS => ?_)
    have hcs := rm_w (A2 := A82) hcs (by rw [hw]; exact ⟨rfl, rfl⟩)
    refine lv_dup E.1 hb dX6_init_374 rfl ?_
    refine lv_iconst (v := 1) E.1 hb dX6_init_375 rfl ?_
    refine lv_bipush (v := 104) E.1 hb dX6_init_376 rfl ?_
    obtain ⟨A83, hg, hw, hf⟩ := uI_s hf
    refine d_st E hb hS hg rfl (Or.inr (Or.inr (Or.inl ⟨rfl, rfl, rfl⟩))) hw dX6_init_378 (fun H locs hS => ?_)
    have hcs := rm_w (A2 := A83) hcs (by rw [hw]; exact ⟨rfl, rfl⟩)
    refine lv_dup E.1 hb dX6_init_379 rfl ?_
    refine lv_iconst (v := 2) E.1 hb dX6_init_380 rfl ?_
    refine lv_bipush (v := 117) E.1 hb dX6_init_381 rfl ?_
    obtain ⟨A84, hg, hw, hf⟩ := uI_s hf
    refine d_st E hb hS hg rfl (Or.inr (Or.inr (Or.inl ⟨rfl, rfl, rfl⟩))) hw dX6_init_383 (fun H locs hS => ?_)
    have hcs := rm_w (A2 := A84) hcs (by rw [hw]; exact ⟨rfl, rfl⟩)
    refine lv_dup E.1 hb dX6_init_384 rfl ?_
    refine lv_iconst (v := 3) E.1 hb dX6_init_385 rfl ?_
    refine lv_bipush (v := 109) E.1 hb dX6_init_386 rfl ?_
    obtain ⟨A85, hg, hw, hf⟩ := uI_s hf
    refine d_st E hb hS hg rfl (Or.inr (Or.inr (Or.inl ⟨rfl, rfl, rfl⟩))) hw dX6_init_388 (fun H locs hS => ?_)
    have hcs := rm_w (A2 := A85) hcs (by rw [hw]; exact ⟨rfl, rfl⟩)
    refine lv_dup E.1 hb dX6_init_389 rfl ?_
    refine lv_iconst (v := 4) E.1 hb dX6_init_390 rfl ?_
    refine lv_bipush (v := 98) E.1 hb dX6_init_391 rfl ?_
    obtain ⟨A86, hg, hw, hf⟩ := uI_s hf
    refine d_st E hb hS hg rfl (Or.inr (Or.inr (Or.inl ⟨rfl, rfl, rfl⟩))) hw dX6_init_393 (fun H locs hS => ?_)
    have hcs := rm_w (A2 := A86) hcs (by rw [hw]; exact ⟨rfl, rfl⟩)
    obtain ⟨A87, hk, hw, hf⟩ := pR_s hf
    refine c_pR (k := 23) (f := 2123) (r := (some (aN A))) E hb hS ci_21 hk (hS.1.lt hk rfl) rfl rfl (fun h => h.elim) (Or.inr ⟨hnm, rfl, rfl, q1705⟩) fk_X6_57_X6 (fun _ h => h) (fun q => by cases q <;> exact ⟨rfl, rfl⟩) hw dX6_init_394 (fun H locs hS => ?_)
    have hcs := rm_w (A2 := A87) hcs (by rw [hw]; exact ⟨rfl, rfl⟩)
    refine lv_aload_n E.1 hb dX6_init_397 rfl (lv_at hl 0 rfl) ?_
    refine lv_iconst (v := 3) E.1 hb dX6_init_398 rfl ?_
    obtain ⟨A88, hn9, hw, hf⟩ := nwA_s hf
    obtain ⟨hck, hf⟩ := ck_s hf
    refine c_newa (atype := .char) E hb hS hcs (Or.inr (Or.inr (Or.inr (Or.inl ⟨rfl, rfl⟩)))) q692 hn9 hw hck (rm_up _ _ _ _) dX6_init_399 (fun H cells slots hS hcs => ?_)
    refine lv_dup E.1 hb dX6_init_401 rfl ?_
    refine lv_iconst (v := 0) E.1 hb dX6_init_402 rfl ?_
    refine lv_bipush (v := 100) E.1 hb dX6_init_403 rfl ?_
    obtain ⟨A89, hg, hw, hf⟩ := uI_s hf
    refine d_st E hb hS hg rfl (Or.inr (Or.inr (Or.inl ⟨rfl, rfl, rfl⟩))) hw dX6_init_405 (fun H locs hS => ?_)
    have hcs := rm_w (A2 := A89) hcs (by rw [hw]; exact ⟨rfl, rfl⟩)
    refine lv_dup E.1 hb dX6_init_406 rfl ?_
    refine lv_iconst (v := 1) E.1 hb dX6_init_407 rfl ?_
    refine lv_bipush (v := 97) E.1 hb dX6_init_408 rfl ?_
    obtain ⟨A90, hg, hw, hf⟩ := uI_s hf
    refine d_st E hb hS hg rfl (Or.inr (Or.inr (Or.inl ⟨rfl, rfl, rfl⟩))) hw dX6_init_410 (fun H locs hS => ?_)
    have hcs := rm_w (A2 := A90) hcs (by rw [hw]; exact ⟨rfl, rfl⟩)
    refine lv_dup E.1 hb dX6_init_411 rfl ?_
    refine lv_iconst (v := 2) E.1 hb dX6_init_412 rfl ?_
    refine lv_bipush (v := 121) E.1 hb dX6_init_413 rfl ?_
    obtain ⟨A91, hg, hw, hf⟩ := uI_s hf
    refine d_st E hb hS hg rfl (Or.inr (Or.inr (Or.inl ⟨rfl, rfl, rfl⟩))) hw dX6_init_415 (fun H locs hS => ?_)
    have hcs := rm_w (A2 := A91) hcs (by rw [hw]; exact ⟨rfl, rfl⟩)
    obtain ⟨A92, hk, hw, hf⟩ := pR_s hf
    refine c_pR (k := 24) (f := 2124) (r := (some (aN A87))) E hb hS ci_21 hk (hS.1.lt hk rfl) rfl rfl (fun h => h.elim) (Or.inr ⟨hnm, rfl, rfl, q1706⟩) fk_X6_60_X6 (fun _ h => h) (fun q => by cases q <;> exact ⟨rfl, rfl⟩) hw dX6_init_416 (fun H locs hS => ?_)
    have hcs := rm_w (A2 := A92) hcs (by rw [hw]; exact ⟨rfl, rfl⟩)
    exact hB419 A92 hf _ _ _ _ hcs hS _ (lv_sub hl [0] rfl)
  have hB306 : ∀ (A : AH), X6_init_b306 x0 A = some ((), A') → ∀ (H : Heap) (locs : List Loc) (cells slots : Nat), aN A0 + cells ≤ aN A ∧ aS A0 + slots ≤ aS A →  cS dC dI ac ad False s.heap (aN A0) (aS A0) (aN A') (aS A') A H locs → ∀ (ls : Array Slot), lv_has ls 1 [(0, .ref (ad x0))] → W p l e { frames := 1, cells := aN A' - aN A0, slots := aS A' - aS A0, locals := 20 } s m args below meth c H locs cells slots (MQ below (cQv dC dI ac ad False (aN A0) (aS A0) (aN A') (aS A') A') args s (aN A' - aN A0) (aS A' - aS A0) (cF ad)) (F0 m 306 ls []) := by
    intro A hf H locs cells slots hcs hS ls hl
    unfold X6_init_b306 at hf
    refine lv_aload_n E.1 hb dX6_init_306 rfl (lv_at hl 0 rfl) ?_
    refine lv_iconst (v := 4) E.1 hb dX6_init_307 rfl ?_
    obtain ⟨A68, hn9, hw, hf⟩ := nwA_s hf
    obtain ⟨hck, hf⟩ := ck_s hf
    refine c_newa (atype := .char) E hb hS hcs (Or.inr (Or.inr (Or.inr (Or.inl ⟨rfl, rfl⟩)))) q692 hn9 hw hck (rm_up _ _ _ _) dX6_init_308 (fun H cells slots hS hcs => ?_)
    refine lv_dup E.1 hb dX6_init_310 rfl ?_
    refine lv_iconst (v := 0) E.1 hb dX6_init_311 rfl ?_
    refine lv_bipush (v := 116) E.1 hb dX6_init_312 rfl ?_
    obtain ⟨A69, hg, hw, hf⟩ := uI_s hf
    refine d_st E hb hS hg rfl (Or.inr (Or.inr (Or.inl ⟨rfl, rfl, rfl⟩))) hw dX6_init_314 (fun H locs hS => ?_)
    have hcs := rm_w (A2 := A69) hcs (by rw [hw]; exact ⟨rfl, rfl⟩)
    refine lv_dup E.1 hb dX6_init_315 rfl ?_
    refine lv_iconst (v := 1) E.1 hb dX6_init_316 rfl ?_
    refine lv_bipush (v := 111) E.1 hb dX6_init_317 rfl ?_
    obtain ⟨A70, hg, hw, hf⟩ := uI_s hf
    refine d_st E hb hS hg rfl (Or.inr (Or.inr (Or.inl ⟨rfl, rfl, rfl⟩))) hw dX6_init_319 (fun H locs hS => ?_)
    have hcs := rm_w (A2 := A70) hcs (by rw [hw]; exact ⟨rfl, rfl⟩)
    refine lv_dup E.1 hb dX6_init_320 rfl ?_
    refine lv_iconst (v := 2) E.1 hb dX6_init_321 rfl ?_
    refine lv_bipush (v := 108) E.1 hb dX6_init_322 rfl ?_
    obtain ⟨A71, hg, hw, hf⟩ := uI_s hf
    refine d_st E hb hS hg rfl (Or.inr (Or.inr (Or.inl ⟨rfl, rfl, rfl⟩))) hw dX6_init_324 (fun H locs hS => ?_)
    have hcs := rm_w (A2 := A71) hcs (by rw [hw]; exact ⟨rfl, rfl⟩)
    refine lv_dup E.1 hb dX6_init_325 rfl ?_
    refine lv_iconst (v := 3) E.1 hb dX6_init_326 rfl ?_
    refine lv_bipush (v := 108) E.1 hb dX6_init_327 rfl ?_
    obtain ⟨A72, hg, hw, hf⟩ := uI_s hf
    refine d_st E hb hS hg rfl (Or.inr (Or.inr (Or.inl ⟨rfl, rfl, rfl⟩))) hw dX6_init_329 (fun H locs hS => ?_)
    have hcs := rm_w (A2 := A72) hcs (by rw [hw]; exact ⟨rfl, rfl⟩)
    obtain ⟨A73, hk, hw, hf⟩ := pR_s hf
    refine c_pR (k := 21) (f := 2121) (r := (some (aN A))) E hb hS ci_21 hk (hS.1.lt hk rfl) rfl rfl (fun h => h.elim) (Or.inr ⟨hnm, rfl, rfl, q1703⟩) fk_X6_51_X6 (fun _ h => h) (fun q => by cases q <;> exact ⟨rfl, rfl⟩) hw dX6_init_330 (fun H locs hS => ?_)
    have hcs := rm_w (A2 := A73) hcs (by rw [hw]; exact ⟨rfl, rfl⟩)
    refine lv_aload_n E.1 hb dX6_init_333 rfl (lv_at hl 0 rfl) ?_
    refine lv_iconst (v := 5) E.1 hb dX6_init_334 rfl ?_
    obtain ⟨A74, hn9, hw, hf⟩ := nwA_s hf
    obtain ⟨hck, hf⟩ := ck_s hf
    refine c_newa (atype := .char) E hb hS hcs (Or.inr (Or.inr (Or.inr (Or.inl ⟨rfl, rfl⟩)))) q692 hn9 hw hck (rm_up _ _ _ _) dX6_init_335 (fun H cells slots hS hcs => ?_)
    refine lv_dup E.1 hb dX6_init_337 rfl ?_
    refine lv_iconst (v := 0) E.1 hb dX6_init_338 rfl ?_
    refine lv_bipush (v := 115) E.1 hb dX6_init_339 rfl ?_
    obtain ⟨A75, hg, hw, hf⟩ := uI_s hf
    refine d_st E hb hS hg rfl (Or.inr (Or.inr (Or.inl ⟨rfl, rfl, rfl⟩))) hw dX6_init_341 (fun H locs hS => ?_)
    have hcs := rm_w (A2 := A75) hcs (by rw [hw]; exact ⟨rfl, rfl⟩)
    refine lv_dup E.1 hb dX6_init_342 rfl ?_
    refine lv_iconst (v := 1) E.1 hb dX6_init_343 rfl ?_
    refine lv_bipush (v := 116) E.1 hb dX6_init_344 rfl ?_
    obtain ⟨A76, hg, hw, hf⟩ := uI_s hf
    refine d_st E hb hS hg rfl (Or.inr (Or.inr (Or.inl ⟨rfl, rfl, rfl⟩))) hw dX6_init_346 (fun H locs hS => ?_)
    have hcs := rm_w (A2 := A76) hcs (by rw [hw]; exact ⟨rfl, rfl⟩)
    refine lv_dup E.1 hb dX6_init_347 rfl ?_
    refine lv_iconst (v := 2) E.1 hb dX6_init_348 rfl ?_
    refine lv_bipush (v := 101) E.1 hb dX6_init_349 rfl ?_
    obtain ⟨A77, hg, hw, hf⟩ := uI_s hf
    refine d_st E hb hS hg rfl (Or.inr (Or.inr (Or.inl ⟨rfl, rfl, rfl⟩))) hw dX6_init_351 (fun H locs hS => ?_)
    have hcs := rm_w (A2 := A77) hcs (by rw [hw]; exact ⟨rfl, rfl⟩)
    refine lv_dup E.1 hb dX6_init_352 rfl ?_
    refine lv_iconst (v := 3) E.1 hb dX6_init_353 rfl ?_
    refine lv_bipush (v := 112) E.1 hb dX6_init_354 rfl ?_
    obtain ⟨A78, hg, hw, hf⟩ := uI_s hf
    refine d_st E hb hS hg rfl (Or.inr (Or.inr (Or.inl ⟨rfl, rfl, rfl⟩))) hw dX6_init_356 (fun H locs hS => ?_)
    have hcs := rm_w (A2 := A78) hcs (by rw [hw]; exact ⟨rfl, rfl⟩)
    refine lv_dup E.1 hb dX6_init_357 rfl ?_
    refine lv_iconst (v := 4) E.1 hb dX6_init_358 rfl ?_
    refine lv_bipush (v := 115) E.1 hb dX6_init_359 rfl ?_
    obtain ⟨A79, hg, hw, hf⟩ := uI_s hf
    refine d_st E hb hS hg rfl (Or.inr (Or.inr (Or.inl ⟨rfl, rfl, rfl⟩))) hw dX6_init_361 (fun H locs hS => ?_)
    have hcs := rm_w (A2 := A79) hcs (by rw [hw]; exact ⟨rfl, rfl⟩)
    obtain ⟨A80, hk, hw, hf⟩ := pR_s hf
    refine c_pR (k := 22) (f := 2122) (r := (some (aN A73))) E hb hS ci_21 hk (hS.1.lt hk rfl) rfl rfl (fun h => h.elim) (Or.inr ⟨hnm, rfl, rfl, q1704⟩) fk_X6_54_X6 (fun _ h => h) (fun q => by cases q <;> exact ⟨rfl, rfl⟩) hw dX6_init_362 (fun H locs hS => ?_)
    have hcs := rm_w (A2 := A80) hcs (by rw [hw]; exact ⟨rfl, rfl⟩)
    exact hB365 A80 hf _ _ _ _ hcs hS _ (lv_sub hl [0] rfl)
  have hB247 : ∀ (A : AH), X6_init_b247 x0 A = some ((), A') → ∀ (H : Heap) (locs : List Loc) (cells slots : Nat), aN A0 + cells ≤ aN A ∧ aS A0 + slots ≤ aS A →  cS dC dI ac ad False s.heap (aN A0) (aS A0) (aN A') (aS A') A H locs → ∀ (ls : Array Slot), lv_has ls 1 [(0, .ref (ad x0))] → W p l e { frames := 1, cells := aN A' - aN A0, slots := aS A' - aS A0, locals := 20 } s m args below meth c H locs cells slots (MQ below (cQv dC dI ac ad False (aN A0) (aS A0) (aN A') (aS A') A') args s (aN A' - aN A0) (aS A' - aS A0) (cF ad)) (F0 m 247 ls []) := by
    intro A hf H locs cells slots hcs hS ls hl
    unfold X6_init_b247 at hf
    refine lv_aload_n E.1 hb dX6_init_247 rfl (lv_at hl 0 rfl) ?_
    refine lv_iconst (v := 5) E.1 hb dX6_init_248 rfl ?_
    obtain ⟨A55, hn9, hw, hf⟩ := nwA_s hf
    obtain ⟨hck, hf⟩ := ck_s hf
    refine c_newa (atype := .char) E hb hS hcs (Or.inr (Or.inr (Or.inr (Or.inl ⟨rfl, rfl⟩)))) q692 hn9 hw hck (rm_up _ _ _ _) dX6_init_249 (fun H cells slots hS hcs => ?_)
    refine lv_dup E.1 hb dX6_init_251 rfl ?_
    refine lv_iconst (v := 0) E.1 hb dX6_init_252 rfl ?_
    refine lv_bipush (v := 111) E.1 hb dX6_init_253 rfl ?_
    obtain ⟨A56, hg, hw, hf⟩ := uI_s hf
    refine d_st E hb hS hg rfl (Or.inr (Or.inr (Or.inl ⟨rfl, rfl, rfl⟩))) hw dX6_init_255 (fun H locs hS => ?_)
    have hcs := rm_w (A2 := A56) hcs (by rw [hw]; exact ⟨rfl, rfl⟩)
    refine lv_dup E.1 hb dX6_init_256 rfl ?_
    refine lv_iconst (v := 1) E.1 hb dX6_init_257 rfl ?_
    refine lv_bipush (v := 112) E.1 hb dX6_init_258 rfl ?_
    obtain ⟨A57, hg, hw, hf⟩ := uI_s hf
    refine d_st E hb hS hg rfl (Or.inr (Or.inr (Or.inl ⟨rfl, rfl, rfl⟩))) hw dX6_init_260 (fun H locs hS => ?_)
    have hcs := rm_w (A2 := A57) hcs (by rw [hw]; exact ⟨rfl, rfl⟩)
    refine lv_dup E.1 hb dX6_init_261 rfl ?_
    refine lv_iconst (v := 2) E.1 hb dX6_init_262 rfl ?_
    refine lv_bipush (v := 101) E.1 hb dX6_init_263 rfl ?_
    obtain ⟨A58, hg, hw, hf⟩ := uI_s hf
    refine d_st E hb hS hg rfl (Or.inr (Or.inr (Or.inl ⟨rfl, rfl, rfl⟩))) hw dX6_init_265 (fun H locs hS => ?_)
    have hcs := rm_w (A2 := A58) hcs (by rw [hw]; exact ⟨rfl, rfl⟩)
    refine lv_dup E.1 hb dX6_init_266 rfl ?_
    refine lv_iconst (v := 3) E.1 hb dX6_init_267 rfl ?_
    refine lv_bipush (v := 110) E.1 hb dX6_init_268 rfl ?_
    obtain ⟨A59, hg, hw, hf⟩ := uI_s hf
    refine d_st E hb hS hg rfl (Or.inr (Or.inr (Or.inl ⟨rfl, rfl, rfl⟩))) hw dX6_init_270 (fun H locs hS => ?_)
    have hcs := rm_w (A2 := A59) hcs (by rw [hw]; exact ⟨rfl, rfl⟩)
    refine lv_dup E.1 hb dX6_init_271 rfl ?_
    refine lv_iconst (v := 4) E.1 hb dX6_init_272 rfl ?_
    refine lv_bipush (v := 115) E.1 hb dX6_init_273 rfl ?_
    obtain ⟨A60, hg, hw, hf⟩ := uI_s hf
    refine d_st E hb hS hg rfl (Or.inr (Or.inr (Or.inl ⟨rfl, rfl, rfl⟩))) hw dX6_init_275 (fun H locs hS => ?_)
    have hcs := rm_w (A2 := A60) hcs (by rw [hw]; exact ⟨rfl, rfl⟩)
    obtain ⟨A61, hk, hw, hf⟩ := pR_s hf
    refine c_pR (k := 19) (f := 2119) (r := (some (aN A))) E hb hS ci_21 hk (hS.1.lt hk rfl) rfl rfl (fun h => h.elim) (Or.inr ⟨hnm, rfl, rfl, q1701⟩) fk_X6_45_X6 (fun _ h => h) (fun q => by cases q <;> exact ⟨rfl, rfl⟩) hw dX6_init_276 (fun H locs hS => ?_)
    have hcs := rm_w (A2 := A61) hcs (by rw [hw]; exact ⟨rfl, rfl⟩)
    refine lv_aload_n E.1 hb dX6_init_279 rfl (lv_at hl 0 rfl) ?_
    refine lv_iconst (v := 4) E.1 hb dX6_init_280 rfl ?_
    obtain ⟨A62, hn9, hw, hf⟩ := nwA_s hf
    obtain ⟨hck, hf⟩ := ck_s hf
    refine c_newa (atype := .char) E hb hS hcs (Or.inr (Or.inr (Or.inr (Or.inl ⟨rfl, rfl⟩)))) q692 hn9 hw hck (rm_up _ _ _ _) dX6_init_281 (fun H cells slots hS hcs => ?_)
    refine lv_dup E.1 hb dX6_init_283 rfl ?_
    refine lv_iconst (v := 0) E.1 hb dX6_init_284 rfl ?_
    refine lv_bipush (v := 99) E.1 hb dX6_init_285 rfl ?_
    obtain ⟨A63, hg, hw, hf⟩ := uI_s hf
    refine d_st E hb hS hg rfl (Or.inr (Or.inr (Or.inl ⟨rfl, rfl, rfl⟩))) hw dX6_init_287 (fun H locs hS => ?_)
    have hcs := rm_w (A2 := A63) hcs (by rw [hw]; exact ⟨rfl, rfl⟩)
    refine lv_dup E.1 hb dX6_init_288 rfl ?_
    refine lv_iconst (v := 1) E.1 hb dX6_init_289 rfl ?_
    refine lv_bipush (v := 111) E.1 hb dX6_init_290 rfl ?_
    obtain ⟨A64, hg, hw, hf⟩ := uI_s hf
    refine d_st E hb hS hg rfl (Or.inr (Or.inr (Or.inl ⟨rfl, rfl, rfl⟩))) hw dX6_init_292 (fun H locs hS => ?_)
    have hcs := rm_w (A2 := A64) hcs (by rw [hw]; exact ⟨rfl, rfl⟩)
    refine lv_dup E.1 hb dX6_init_293 rfl ?_
    refine lv_iconst (v := 2) E.1 hb dX6_init_294 rfl ?_
    refine lv_bipush (v := 114) E.1 hb dX6_init_295 rfl ?_
    obtain ⟨A65, hg, hw, hf⟩ := uI_s hf
    refine d_st E hb hS hg rfl (Or.inr (Or.inr (Or.inl ⟨rfl, rfl, rfl⟩))) hw dX6_init_297 (fun H locs hS => ?_)
    have hcs := rm_w (A2 := A65) hcs (by rw [hw]; exact ⟨rfl, rfl⟩)
    refine lv_dup E.1 hb dX6_init_298 rfl ?_
    refine lv_iconst (v := 3) E.1 hb dX6_init_299 rfl ?_
    refine lv_bipush (v := 110) E.1 hb dX6_init_300 rfl ?_
    obtain ⟨A66, hg, hw, hf⟩ := uI_s hf
    refine d_st E hb hS hg rfl (Or.inr (Or.inr (Or.inl ⟨rfl, rfl, rfl⟩))) hw dX6_init_302 (fun H locs hS => ?_)
    have hcs := rm_w (A2 := A66) hcs (by rw [hw]; exact ⟨rfl, rfl⟩)
    obtain ⟨A67, hk, hw, hf⟩ := pR_s hf
    refine c_pR (k := 20) (f := 2120) (r := (some (aN A61))) E hb hS ci_21 hk (hS.1.lt hk rfl) rfl rfl (fun h => h.elim) (Or.inr ⟨hnm, rfl, rfl, q1702⟩) fk_X6_48_X6 (fun _ h => h) (fun q => by cases q <;> exact ⟨rfl, rfl⟩) hw dX6_init_303 (fun H locs hS => ?_)
    have hcs := rm_w (A2 := A67) hcs (by rw [hw]; exact ⟨rfl, rfl⟩)
    exact hB306 A67 hf _ _ _ _ hcs hS _ (lv_sub hl [0] rfl)
  have hB181 : ∀ (A : AH), X6_init_b181 x0 A = some ((), A') → ∀ (H : Heap) (locs : List Loc) (cells slots : Nat), aN A0 + cells ≤ aN A ∧ aS A0 + slots ≤ aS A →  cS dC dI ac ad False s.heap (aN A0) (aS A0) (aN A') (aS A') A H locs → ∀ (ls : Array Slot), lv_has ls 1 [(0, .ref (ad x0))] → W p l e { frames := 1, cells := aN A' - aN A0, slots := aS A' - aS A0, locals := 20 } s m args below meth c H locs cells slots (MQ below (cQv dC dI ac ad False (aN A0) (aS A0) (aN A') (aS A') A') args s (aN A' - aN A0) (aS A' - aS A0) (cF ad)) (F0 m 181 ls []) := by
    intro A hf H locs cells slots hcs hS ls hl
    unfold X6_init_b181 at hf
    refine lv_aload_n E.1 hb dX6_init_181 rfl (lv_at hl 0 rfl) ?_
    refine lv_iconst (v := 2) E.1 hb dX6_init_182 rfl ?_
    obtain ⟨A40, hn9, hw, hf⟩ := nwA_s hf
    obtain ⟨hck, hf⟩ := ck_s hf
    refine c_newa (atype := .char) E hb hS hcs (Or.inr (Or.inr (Or.inr (Or.inl ⟨rfl, rfl⟩)))) q692 hn9 hw hck (rm_up _ _ _ _) dX6_init_183 (fun H cells slots hS hcs => ?_)
    refine lv_dup E.1 hb dX6_init_185 rfl ?_
    refine lv_iconst (v := 0) E.1 hb dX6_init_186 rfl ?_
    refine lv_bipush (v := 111) E.1 hb dX6_init_187 rfl ?_
    obtain ⟨A41, hg, hw, hf⟩ := uI_s hf
    refine d_st E hb hS hg rfl (Or.inr (Or.inr (Or.inl ⟨rfl, rfl, rfl⟩))) hw dX6_init_189 (fun H locs hS => ?_)
    have hcs := rm_w (A2 := A41) hcs (by rw [hw]; exact ⟨rfl, rfl⟩)
    refine lv_dup E.1 hb dX6_init_190 rfl ?_
    refine lv_iconst (v := 1) E.1 hb dX6_init_191 rfl ?_
    refine lv_bipush (v := 110) E.1 hb dX6_init_192 rfl ?_
    obtain ⟨A42, hg, hw, hf⟩ := uI_s hf
    refine d_st E hb hS hg rfl (Or.inr (Or.inr (Or.inl ⟨rfl, rfl, rfl⟩))) hw dX6_init_194 (fun H locs hS => ?_)
    have hcs := rm_w (A2 := A42) hcs (by rw [hw]; exact ⟨rfl, rfl⟩)
    obtain ⟨A43, hk, hw, hf⟩ := pR_s hf
    refine c_pR (k := 16) (f := 2116) (r := (some (aN A))) E hb hS ci_21 hk (hS.1.lt hk rfl) rfl rfl (fun h => h.elim) (Or.inr ⟨hnm, rfl, rfl, q1698⟩) fk_X6_36_X6 (fun _ h => h) (fun q => by cases q <;> exact ⟨rfl, rfl⟩) hw dX6_init_195 (fun H locs hS => ?_)
    have hcs := rm_w (A2 := A43) hcs (by rw [hw]; exact ⟨rfl, rfl⟩)
    refine lv_aload_n E.1 hb dX6_init_198 rfl (lv_at hl 0 rfl) ?_
    refine lv_iconst (v := 2) E.1 hb dX6_init_199 rfl ?_
    obtain ⟨A44, hn9, hw, hf⟩ := nwA_s hf
    obtain ⟨hck, hf⟩ := ck_s hf
    refine c_newa (atype := .char) E hb hS hcs (Or.inr (Or.inr (Or.inr (Or.inl ⟨rfl, rfl⟩)))) q692 hn9 hw hck (rm_up _ _ _ _) dX6_init_200 (fun H cells slots hS hcs => ?_)
    refine lv_dup E.1 hb dX6_init_202 rfl ?_
    refine lv_iconst (v := 0) E.1 hb dX6_init_203 rfl ?_
    refine lv_bipush (v := 97) E.1 hb dX6_init_204 rfl ?_
    obtain ⟨A45, hg, hw, hf⟩ := uI_s hf
    refine d_st E hb hS hg rfl (Or.inr (Or.inr (Or.inl ⟨rfl, rfl, rfl⟩))) hw dX6_init_206 (fun H locs hS => ?_)
    have hcs := rm_w (A2 := A45) hcs (by rw [hw]; exact ⟨rfl, rfl⟩)
    refine lv_dup E.1 hb dX6_init_207 rfl ?_
    refine lv_iconst (v := 1) E.1 hb dX6_init_208 rfl ?_
    refine lv_bipush (v := 116) E.1 hb dX6_init_209 rfl ?_
    obtain ⟨A46, hg, hw, hf⟩ := uI_s hf
    refine d_st E hb hS hg rfl (Or.inr (Or.inr (Or.inl ⟨rfl, rfl, rfl⟩))) hw dX6_init_211 (fun H locs hS => ?_)
    have hcs := rm_w (A2 := A46) hcs (by rw [hw]; exact ⟨rfl, rfl⟩)
    obtain ⟨A47, hk, hw, hf⟩ := pR_s hf
    refine c_pR (k := 17) (f := 2117) (r := (some (aN A43))) E hb hS ci_21 hk (hS.1.lt hk rfl) rfl rfl (fun h => h.elim) (Or.inr ⟨hnm, rfl, rfl, q1699⟩) fk_X6_39_X6 (fun _ h => h) (fun q => by cases q <;> exact ⟨rfl, rfl⟩) hw dX6_init_212 (fun H locs hS => ?_)
    have hcs := rm_w (A2 := A47) hcs (by rw [hw]; exact ⟨rfl, rfl⟩)
    refine lv_aload_n E.1 hb dX6_init_215 rfl (lv_at hl 0 rfl) ?_
    refine lv_iconst (v := 5) E.1 hb dX6_init_216 rfl ?_
    obtain ⟨A48, hn9, hw, hf⟩ := nwA_s hf
    obtain ⟨hck, hf⟩ := ck_s hf
    refine c_newa (atype := .char) E hb hS hcs (Or.inr (Or.inr (Or.inr (Or.inl ⟨rfl, rfl⟩)))) q692 hn9 hw hck (rm_up _ _ _ _) dX6_init_217 (fun H cells slots hS hcs => ?_)
    refine lv_dup E.1 hb dX6_init_219 rfl ?_
    refine lv_iconst (v := 0) E.1 hb dX6_init_220 rfl ?_
    refine lv_bipush (v := 116) E.1 hb dX6_init_221 rfl ?_
    obtain ⟨A49, hg, hw, hf⟩ := uI_s hf
    refine d_st E hb hS hg rfl (Or.inr (Or.inr (Or.inl ⟨rfl, rfl, rfl⟩))) hw dX6_init_223 (fun H locs hS => ?_)
    have hcs := rm_w (A2 := A49) hcs (by rw [hw]; exact ⟨rfl, rfl⟩)
    refine lv_dup E.1 hb dX6_init_224 rfl ?_
    refine lv_iconst (v := 1) E.1 hb dX6_init_225 rfl ?_
    refine lv_bipush (v := 114) E.1 hb dX6_init_226 rfl ?_
    obtain ⟨A50, hg, hw, hf⟩ := uI_s hf
    refine d_st E hb hS hg rfl (Or.inr (Or.inr (Or.inl ⟨rfl, rfl, rfl⟩))) hw dX6_init_228 (fun H locs hS => ?_)
    have hcs := rm_w (A2 := A50) hcs (by rw [hw]; exact ⟨rfl, rfl⟩)
    refine lv_dup E.1 hb dX6_init_229 rfl ?_
    refine lv_iconst (v := 2) E.1 hb dX6_init_230 rfl ?_
    refine lv_bipush (v := 97) E.1 hb dX6_init_231 rfl ?_
    obtain ⟨A51, hg, hw, hf⟩ := uI_s hf
    refine d_st E hb hS hg rfl (Or.inr (Or.inr (Or.inl ⟨rfl, rfl, rfl⟩))) hw dX6_init_233 (fun H locs hS => ?_)
    have hcs := rm_w (A2 := A51) hcs (by rw [hw]; exact ⟨rfl, rfl⟩)
    refine lv_dup E.1 hb dX6_init_234 rfl ?_
    refine lv_iconst (v := 3) E.1 hb dX6_init_235 rfl ?_
    refine lv_bipush (v := 100) E.1 hb dX6_init_236 rfl ?_
    obtain ⟨A52, hg, hw, hf⟩ := uI_s hf
    refine d_st E hb hS hg rfl (Or.inr (Or.inr (Or.inl ⟨rfl, rfl, rfl⟩))) hw dX6_init_238 (fun H locs hS => ?_)
    have hcs := rm_w (A2 := A52) hcs (by rw [hw]; exact ⟨rfl, rfl⟩)
    refine lv_dup E.1 hb dX6_init_239 rfl ?_
    refine lv_iconst (v := 4) E.1 hb dX6_init_240 rfl ?_
    refine lv_bipush (v := 101) E.1 hb dX6_init_241 rfl ?_
    obtain ⟨A53, hg, hw, hf⟩ := uI_s hf
    refine d_st E hb hS hg rfl (Or.inr (Or.inr (Or.inl ⟨rfl, rfl, rfl⟩))) hw dX6_init_243 (fun H locs hS => ?_)
    have hcs := rm_w (A2 := A53) hcs (by rw [hw]; exact ⟨rfl, rfl⟩)
    obtain ⟨A54, hk, hw, hf⟩ := pR_s hf
    refine c_pR (k := 18) (f := 2118) (r := (some (aN A47))) E hb hS ci_21 hk (hS.1.lt hk rfl) rfl rfl (fun h => h.elim) (Or.inr ⟨hnm, rfl, rfl, q1700⟩) fk_X6_42_X6 (fun _ h => h) (fun q => by cases q <;> exact ⟨rfl, rfl⟩) hw dX6_init_244 (fun H locs hS => ?_)
    have hcs := rm_w (A2 := A54) hcs (by rw [hw]; exact ⟨rfl, rfl⟩)
    exact hB247 A54 hf _ _ _ _ hcs hS _ (lv_sub hl [0] rfl)
  have hB122 : ∀ (A : AH), X6_init_b122 x0 A = some ((), A') → ∀ (H : Heap) (locs : List Loc) (cells slots : Nat), aN A0 + cells ≤ aN A ∧ aS A0 + slots ≤ aS A →  cS dC dI ac ad False s.heap (aN A0) (aS A0) (aN A') (aS A') A H locs → ∀ (ls : Array Slot), lv_has ls 1 [(0, .ref (ad x0))] → W p l e { frames := 1, cells := aN A' - aN A0, slots := aS A' - aS A0, locals := 20 } s m args below meth c H locs cells slots (MQ below (cQv dC dI ac ad False (aN A0) (aS A0) (aN A') (aS A') A') args s (aN A' - aN A0) (aS A' - aS A0) (cF ad)) (F0 m 122 ls []) := by
    intro A hf H locs cells slots hcs hS ls hl
    unfold X6_init_b122 at hf
    refine lv_aload_n E.1 hb dX6_init_122 rfl (lv_at hl 0 rfl) ?_
    refine lv_iconst (v := 4) E.1 hb dX6_init_123 rfl ?_
    obtain ⟨A27, hn9, hw, hf⟩ := nwA_s hf
    obtain ⟨hck, hf⟩ := ck_s hf
    refine c_newa (atype := .char) E hb hS hcs (Or.inr (Or.inr (Or.inr (Or.inl ⟨rfl, rfl⟩)))) q692 hn9 hw hck (rm_up _ _ _ _) dX6_init_124 (fun H cells slots hS hcs => ?_)
    refine lv_dup E.1 hb dX6_init_126 rfl ?_
    refine lv_iconst (v := 0) E.1 hb dX6_init_127 rfl ?_
    refine lv_bipush (v := 119) E.1 hb dX6_init_128 rfl ?_
    obtain ⟨A28, hg, hw, hf⟩ := uI_s hf
    refine d_st E hb hS hg rfl (Or.inr (Or.inr (Or.inl ⟨rfl, rfl, rfl⟩))) hw dX6_init_130 (fun H locs hS => ?_)
    have hcs := rm_w (A2 := A28) hcs (by rw [hw]; exact ⟨rfl, rfl⟩)
    refine lv_dup E.1 hb dX6_init_131 rfl ?_
    refine lv_iconst (v := 1) E.1 hb dX6_init_132 rfl ?_
    refine lv_bipush (v := 111) E.1 hb dX6_init_133 rfl ?_
    obtain ⟨A29, hg, hw, hf⟩ := uI_s hf
    refine d_st E hb hS hg rfl (Or.inr (Or.inr (Or.inl ⟨rfl, rfl, rfl⟩))) hw dX6_init_135 (fun H locs hS => ?_)
    have hcs := rm_w (A2 := A29) hcs (by rw [hw]; exact ⟨rfl, rfl⟩)
    refine lv_dup E.1 hb dX6_init_136 rfl ?_
    refine lv_iconst (v := 2) E.1 hb dX6_init_137 rfl ?_
    refine lv_bipush (v := 114) E.1 hb dX6_init_138 rfl ?_
    obtain ⟨A30, hg, hw, hf⟩ := uI_s hf
    refine d_st E hb hS hg rfl (Or.inr (Or.inr (Or.inl ⟨rfl, rfl, rfl⟩))) hw dX6_init_140 (fun H locs hS => ?_)
    have hcs := rm_w (A2 := A30) hcs (by rw [hw]; exact ⟨rfl, rfl⟩)
    refine lv_dup E.1 hb dX6_init_141 rfl ?_
    refine lv_iconst (v := 3) E.1 hb dX6_init_142 rfl ?_
    refine lv_bipush (v := 109) E.1 hb dX6_init_143 rfl ?_
    obtain ⟨A31, hg, hw, hf⟩ := uI_s hf
    refine d_st E hb hS hg rfl (Or.inr (Or.inr (Or.inl ⟨rfl, rfl, rfl⟩))) hw dX6_init_145 (fun H locs hS => ?_)
    have hcs := rm_w (A2 := A31) hcs (by rw [hw]; exact ⟨rfl, rfl⟩)
    obtain ⟨A32, hk, hw, hf⟩ := pR_s hf
    refine c_pR (k := 14) (f := 2114) (r := (some (aN A))) E hb hS ci_21 hk (hS.1.lt hk rfl) rfl rfl (fun h => h.elim) (Or.inr ⟨hnm, rfl, rfl, q1696⟩) fk_X6_30_X6 (fun _ h => h) (fun q => by cases q <;> exact ⟨rfl, rfl⟩) hw dX6_init_146 (fun H locs hS => ?_)
    have hcs := rm_w (A2 := A32) hcs (by rw [hw]; exact ⟨rfl, rfl⟩)
    refine lv_aload_n E.1 hb dX6_init_149 rfl (lv_at hl 0 rfl) ?_
    refine lv_iconst (v := 5) E.1 hb dX6_init_150 rfl ?_
    obtain ⟨A33, hn9, hw, hf⟩ := nwA_s hf
    obtain ⟨hck, hf⟩ := ck_s hf
    refine c_newa (atype := .char) E hb hS hcs (Or.inr (Or.inr (Or.inr (Or.inl ⟨rfl, rfl⟩)))) q692 hn9 hw hck (rm_up _ _ _ _) dX6_init_151 (fun H cells slots hS hcs => ?_)
    refine lv_dup E.1 hb dX6_init_153 rfl ?_
    refine lv_iconst (v := 0) E.1 hb dX6_init_154 rfl ?_
    refine lv_bipush (v := 98) E.1 hb dX6_init_155 rfl ?_
    obtain ⟨A34, hg, hw, hf⟩ := uI_s hf
    refine d_st E hb hS hg rfl (Or.inr (Or.inr (Or.inl ⟨rfl, rfl, rfl⟩))) hw dX6_init_157 (fun H locs hS => ?_)
    have hcs := rm_w (A2 := A34) hcs (by rw [hw]; exact ⟨rfl, rfl⟩)
    refine lv_dup E.1 hb dX6_init_158 rfl ?_
    refine lv_iconst (v := 1) E.1 hb dX6_init_159 rfl ?_
    refine lv_bipush (v := 101) E.1 hb dX6_init_160 rfl ?_
    obtain ⟨A35, hg, hw, hf⟩ := uI_s hf
    refine d_st E hb hS hg rfl (Or.inr (Or.inr (Or.inl ⟨rfl, rfl, rfl⟩))) hw dX6_init_162 (fun H locs hS => ?_)
    have hcs := rm_w (A2 := A35) hcs (by rw [hw]; exact ⟨rfl, rfl⟩)
    refine lv_dup E.1 hb dX6_init_163 rfl ?_
    refine lv_iconst (v := 2) E.1 hb dX6_init_164 rfl ?_
    refine lv_bipush (v := 105) E.1 hb dX6_init_165 rfl ?_
    obtain ⟨A36, hg, hw, hf⟩ := uI_s hf
    refine d_st E hb hS hg rfl (Or.inr (Or.inr (Or.inl ⟨rfl, rfl, rfl⟩))) hw dX6_init_167 (fun H locs hS => ?_)
    have hcs := rm_w (A2 := A36) hcs (by rw [hw]; exact ⟨rfl, rfl⟩)
    refine lv_dup E.1 hb dX6_init_168 rfl ?_
    refine lv_iconst (v := 3) E.1 hb dX6_init_169 rfl ?_
    refine lv_bipush (v := 110) E.1 hb dX6_init_170 rfl ?_
    obtain ⟨A37, hg, hw, hf⟩ := uI_s hf
    refine d_st E hb hS hg rfl (Or.inr (Or.inr (Or.inl ⟨rfl, rfl, rfl⟩))) hw dX6_init_172 (fun H locs hS => ?_)
    have hcs := rm_w (A2 := A37) hcs (by rw [hw]; exact ⟨rfl, rfl⟩)
    refine lv_dup E.1 hb dX6_init_173 rfl ?_
    refine lv_iconst (v := 4) E.1 hb dX6_init_174 rfl ?_
    refine lv_bipush (v := 103) E.1 hb dX6_init_175 rfl ?_
    obtain ⟨A38, hg, hw, hf⟩ := uI_s hf
    refine d_st E hb hS hg rfl (Or.inr (Or.inr (Or.inl ⟨rfl, rfl, rfl⟩))) hw dX6_init_177 (fun H locs hS => ?_)
    have hcs := rm_w (A2 := A38) hcs (by rw [hw]; exact ⟨rfl, rfl⟩)
    obtain ⟨A39, hk, hw, hf⟩ := pR_s hf
    refine c_pR (k := 15) (f := 2115) (r := (some (aN A32))) E hb hS ci_21 hk (hS.1.lt hk rfl) rfl rfl (fun h => h.elim) (Or.inr ⟨hnm, rfl, rfl, q1697⟩) fk_X6_33_X6 (fun _ h => h) (fun q => by cases q <;> exact ⟨rfl, rfl⟩) hw dX6_init_178 (fun H locs hS => ?_)
    have hcs := rm_w (A2 := A39) hcs (by rw [hw]; exact ⟨rfl, rfl⟩)
    exact hB181 A39 hf _ _ _ _ hcs hS _ (lv_sub hl [0] rfl)
  have hB58 : ∀ (A : AH), X6_init_b58 x0 A = some ((), A') → ∀ (H : Heap) (locs : List Loc) (cells slots : Nat), aN A0 + cells ≤ aN A ∧ aS A0 + slots ≤ aS A →  cS dC dI ac ad False s.heap (aN A0) (aS A0) (aN A') (aS A') A H locs → ∀ (ls : Array Slot), lv_has ls 1 [(0, .ref (ad x0))] → W p l e { frames := 1, cells := aN A' - aN A0, slots := aS A' - aS A0, locals := 20 } s m args below meth c H locs cells slots (MQ below (cQv dC dI ac ad False (aN A0) (aS A0) (aN A') (aS A') A') args s (aN A' - aN A0) (aS A' - aS A0) (cF ad)) (F0 m 58 ls []) := by
    intro A hf H locs cells slots hcs hS ls hl
    unfold X6_init_b58 at hf
    refine lv_aload_n E.1 hb dX6_init_58 rfl (lv_at hl 0 rfl) ?_
    refine lv_iconst (v := 5) E.1 hb dX6_init_59 rfl ?_
    obtain ⟨A13, hn9, hw, hf⟩ := nwA_s hf
    obtain ⟨hck, hf⟩ := ck_s hf
    refine c_newa (atype := .char) E hb hS hcs (Or.inr (Or.inr (Or.inr (Or.inl ⟨rfl, rfl⟩)))) q692 hn9 hw hck (rm_up _ _ _ _) dX6_init_60 (fun H cells slots hS hcs => ?_)
    refine lv_dup E.1 hb dX6_init_62 rfl ?_
    refine lv_iconst (v := 0) E.1 hb dX6_init_63 rfl ?_
    refine lv_bipush (v := 99) E.1 hb dX6_init_64 rfl ?_
    obtain ⟨A14, hg, hw, hf⟩ := uI_s hf
    refine d_st E hb hS hg rfl (Or.inr (Or.inr (Or.inl ⟨rfl, rfl, rfl⟩))) hw dX6_init_66 (fun H locs hS => ?_)
    have hcs := rm_w (A2 := A14) hcs (by rw [hw]; exact ⟨rfl, rfl⟩)
    refine lv_dup E.1 hb dX6_init_67 rfl ?_
    refine lv_iconst (v := 1) E.1 hb dX6_init_68 rfl ?_
    refine lv_bipush (v := 101) E.1 hb dX6_init_69 rfl ?_
    obtain ⟨A15, hg, hw, hf⟩ := uI_s hf
    refine d_st E hb hS hg rfl (Or.inr (Or.inr (Or.inl ⟨rfl, rfl, rfl⟩))) hw dX6_init_71 (fun H locs hS => ?_)
    have hcs := rm_w (A2 := A15) hcs (by rw [hw]; exact ⟨rfl, rfl⟩)
    refine lv_dup E.1 hb dX6_init_72 rfl ?_
    refine lv_iconst (v := 2) E.1 hb dX6_init_73 rfl ?_
    refine lv_bipush (v := 108) E.1 hb dX6_init_74 rfl ?_
    obtain ⟨A16, hg, hw, hf⟩ := uI_s hf
    refine d_st E hb hS hg rfl (Or.inr (Or.inr (Or.inl ⟨rfl, rfl, rfl⟩))) hw dX6_init_76 (fun H locs hS => ?_)
    have hcs := rm_w (A2 := A16) hcs (by rw [hw]; exact ⟨rfl, rfl⟩)
    refine lv_dup E.1 hb dX6_init_77 rfl ?_
    refine lv_iconst (v := 3) E.1 hb dX6_init_78 rfl ?_
    refine lv_bipush (v := 108) E.1 hb dX6_init_79 rfl ?_
    obtain ⟨A17, hg, hw, hf⟩ := uI_s hf
    refine d_st E hb hS hg rfl (Or.inr (Or.inr (Or.inl ⟨rfl, rfl, rfl⟩))) hw dX6_init_81 (fun H locs hS => ?_)
    have hcs := rm_w (A2 := A17) hcs (by rw [hw]; exact ⟨rfl, rfl⟩)
    refine lv_dup E.1 hb dX6_init_82 rfl ?_
    refine lv_iconst (v := 4) E.1 hb dX6_init_83 rfl ?_
    refine lv_bipush (v := 115) E.1 hb dX6_init_84 rfl ?_
    obtain ⟨A18, hg, hw, hf⟩ := uI_s hf
    refine d_st E hb hS hg rfl (Or.inr (Or.inr (Or.inl ⟨rfl, rfl, rfl⟩))) hw dX6_init_86 (fun H locs hS => ?_)
    have hcs := rm_w (A2 := A18) hcs (by rw [hw]; exact ⟨rfl, rfl⟩)
    obtain ⟨A19, hk, hw, hf⟩ := pR_s hf
    refine c_pR (k := 12) (f := 2112) (r := (some (aN A))) E hb hS ci_21 hk (hS.1.lt hk rfl) rfl rfl (fun h => h.elim) (Or.inr ⟨hnm, rfl, rfl, q1694⟩) fk_X6_24_X6 (fun _ h => h) (fun q => by cases q <;> exact ⟨rfl, rfl⟩) hw dX6_init_87 (fun H locs hS => ?_)
    have hcs := rm_w (A2 := A19) hcs (by rw [hw]; exact ⟨rfl, rfl⟩)
    refine lv_aload_n E.1 hb dX6_init_90 rfl (lv_at hl 0 rfl) ?_
    refine lv_iconst (v := 5) E.1 hb dX6_init_91 rfl ?_
    obtain ⟨A20, hn9, hw, hf⟩ := nwA_s hf
    obtain ⟨hck, hf⟩ := ck_s hf
    refine c_newa (atype := .char) E hb hS hcs (Or.inr (Or.inr (Or.inr (Or.inl ⟨rfl, rfl⟩)))) q692 hn9 hw hck (rm_up _ _ _ _) dX6_init_92 (fun H cells slots hS hcs => ?_)
    refine lv_dup E.1 hb dX6_init_94 rfl ?_
    refine lv_iconst (v := 0) E.1 hb dX6_init_95 rfl ?_
    refine lv_bipush (v := 103) E.1 hb dX6_init_96 rfl ?_
    obtain ⟨A21, hg, hw, hf⟩ := uI_s hf
    refine d_st E hb hS hg rfl (Or.inr (Or.inr (Or.inl ⟨rfl, rfl, rfl⟩))) hw dX6_init_98 (fun H locs hS => ?_)
    have hcs := rm_w (A2 := A21) hcs (by rw [hw]; exact ⟨rfl, rfl⟩)
    refine lv_dup E.1 hb dX6_init_99 rfl ?_
    refine lv_iconst (v := 1) E.1 hb dX6_init_100 rfl ?_
    refine lv_bipush (v := 108) E.1 hb dX6_init_101 rfl ?_
    obtain ⟨A22, hg, hw, hf⟩ := uI_s hf
    refine d_st E hb hS hg rfl (Or.inr (Or.inr (Or.inl ⟨rfl, rfl, rfl⟩))) hw dX6_init_103 (fun H locs hS => ?_)
    have hcs := rm_w (A2 := A22) hcs (by rw [hw]; exact ⟨rfl, rfl⟩)
    refine lv_dup E.1 hb dX6_init_104 rfl ?_
    refine lv_iconst (v := 2) E.1 hb dX6_init_105 rfl ?_
    refine lv_bipush (v := 111) E.1 hb dX6_init_106 rfl ?_
    obtain ⟨A23, hg, hw, hf⟩ := uI_s hf
    refine d_st E hb hS hg rfl (Or.inr (Or.inr (Or.inl ⟨rfl, rfl, rfl⟩))) hw dX6_init_108 (fun H locs hS => ?_)
    have hcs := rm_w (A2 := A23) hcs (by rw [hw]; exact ⟨rfl, rfl⟩)
    refine lv_dup E.1 hb dX6_init_109 rfl ?_
    refine lv_iconst (v := 3) E.1 hb dX6_init_110 rfl ?_
    refine lv_bipush (v := 115) E.1 hb dX6_init_111 rfl ?_
    obtain ⟨A24, hg, hw, hf⟩ := uI_s hf
    refine d_st E hb hS hg rfl (Or.inr (Or.inr (Or.inl ⟨rfl, rfl, rfl⟩))) hw dX6_init_113 (fun H locs hS => ?_)
    have hcs := rm_w (A2 := A24) hcs (by rw [hw]; exact ⟨rfl, rfl⟩)
    refine lv_dup E.1 hb dX6_init_114 rfl ?_
    refine lv_iconst (v := 4) E.1 hb dX6_init_115 rfl ?_
    refine lv_bipush (v := 115) E.1 hb dX6_init_116 rfl ?_
    obtain ⟨A25, hg, hw, hf⟩ := uI_s hf
    refine d_st E hb hS hg rfl (Or.inr (Or.inr (Or.inl ⟨rfl, rfl, rfl⟩))) hw dX6_init_118 (fun H locs hS => ?_)
    have hcs := rm_w (A2 := A25) hcs (by rw [hw]; exact ⟨rfl, rfl⟩)
    obtain ⟨A26, hk, hw, hf⟩ := pR_s hf
    refine c_pR (k := 13) (f := 2113) (r := (some (aN A19))) E hb hS ci_21 hk (hS.1.lt hk rfl) rfl rfl (fun h => h.elim) (Or.inr ⟨hnm, rfl, rfl, q1695⟩) fk_X6_27_X6 (fun _ h => h) (fun q => by cases q <;> exact ⟨rfl, rfl⟩) hw dX6_init_119 (fun H locs hS => ?_)
    have hcs := rm_w (A2 := A26) hcs (by rw [hw]; exact ⟨rfl, rfl⟩)
    exact hB122 A26 hf _ _ _ _ hcs hS _ (lv_sub hl [0] rfl)
  refine lv_aload_n E.1 hb dX6_init_0 rfl (lv_at hl 0 rfl) ?_
  refine W.objInit E.1 hb E.2.1 (E.2.2.1 _ q1681) (E.2.2.1 _ q196) (E.2.2.1 _ q197) rfl (by rw [hml]; exact hl.1) rfl dX6_init_1 (Nat.le_of_ble_eq_true rfl) (Nat.le_of_ble_eq_true rfl) ?_
  refine W.eq (g2 := F0 m 4 ls []) rfl ?_
  refine lv_aload_n E.1 hb dX6_init_4 rfl (lv_at hl 0 rfl) ?_
  refine lv_sipush (v := 1600) E.1 hb dX6_init_5 rfl ?_
  obtain ⟨A1, hn9, hw, hf⟩ := nwA_s hf
  obtain ⟨hck, hf⟩ := ck_s hf
  refine c_newa (atype := .int) E hb hS hcs (Or.inl ⟨rfl, rfl⟩) q232 hn9 hw hck (rm_up _ _ _ _) dX6_init_8 (fun H cells slots hS hcs => ?_)
  obtain ⟨A2, hk, hw, hf⟩ := pR_s hf
  refine c_pR (k := 0) (f := 2100) (r := (some (aN A0))) E hb hS ci_21 hk (hS.1.lt hk rfl) rfl rfl (fun h => h.elim) (Or.inr ⟨hnm, rfl, rfl, q1682⟩) fk_X6_7_X6 (fun _ h => h) (fun q => by cases q <;> exact ⟨rfl, rfl⟩) hw dX6_init_10 (fun H locs hS => ?_)
  have hcs := rm_w (A2 := A2) hcs (by rw [hw]; exact ⟨rfl, rfl⟩)
  refine lv_aload_n E.1 hb dX6_init_13 rfl (lv_at hl 0 rfl) ?_
  refine lv_iconst (v := (-1)) E.1 hb dX6_init_14 rfl ?_
  obtain ⟨A3, hk, hw, hf⟩ := pI_s hf
  refine c_pI (k := 8) (f := 2108) E hb hS ci_21 hk (hS.1.lt hk rfl) rfl rfl (Or.inl rfl) fk_X6_13_X6 (fun _ h => h) rfl rfl hw dX6_init_15 (fun H locs hS => ?_)
  have hcs := rm_w (A2 := A3) hcs (by rw [hw]; exact ⟨rfl, rfl⟩)
  refine lv_aload_n E.1 hb dX6_init_18 rfl (lv_at hl 0 rfl) ?_
  refine lv_bipush (v := 6) E.1 hb dX6_init_19 rfl ?_
  obtain ⟨A4, hn9, hw, hf⟩ := nwA_s hf
  obtain ⟨hck, hf⟩ := ck_s hf
  refine c_newa (atype := .int) E hb hS hcs (Or.inl ⟨rfl, rfl⟩) q232 hn9 hw hck (rm_up _ _ _ _) dX6_init_21 (fun H cells slots hS hcs => ?_)
  obtain ⟨A5, hk, hw, hf⟩ := pR_s hf
  refine c_pR (k := 9) (f := 2109) (r := (some (aN A3))) E hb hS ci_21 hk (hS.1.lt hk rfl) rfl rfl (fun h => h.elim) (Or.inr ⟨hnm, rfl, rfl, q1691⟩) fk_X6_17_X6 (fun _ h => h) (fun q => by cases q <;> exact ⟨rfl, rfl⟩) hw dX6_init_23 (fun H locs hS => ?_)
  have hcs := rm_w (A2 := A5) hcs (by rw [hw]; exact ⟨rfl, rfl⟩)
  refine lv_aload_n E.1 hb dX6_init_26 rfl (lv_at hl 0 rfl) ?_
  refine lv_iconst (v := 5) E.1 hb dX6_init_27 rfl ?_
  obtain ⟨A6, hn9, hw, hf⟩ := nwA_s hf
  obtain ⟨hck, hf⟩ := ck_s hf
  refine c_newa (atype := .char) E hb hS hcs (Or.inr (Or.inr (Or.inr (Or.inl ⟨rfl, rfl⟩)))) q692 hn9 hw hck (rm_up _ _ _ _) dX6_init_28 (fun H cells slots hS hcs => ?_)
  refine lv_dup E.1 hb dX6_init_30 rfl ?_
  refine lv_iconst (v := 0) E.1 hb dX6_init_31 rfl ?_
  refine lv_bipush (v := 102) E.1 hb dX6_init_32 rfl ?_
  obtain ⟨A7, hg, hw, hf⟩ := uI_s hf
  refine d_st E hb hS hg rfl (Or.inr (Or.inr (Or.inl ⟨rfl, rfl, rfl⟩))) hw dX6_init_34 (fun H locs hS => ?_)
  have hcs := rm_w (A2 := A7) hcs (by rw [hw]; exact ⟨rfl, rfl⟩)
  refine lv_dup E.1 hb dX6_init_35 rfl ?_
  refine lv_iconst (v := 1) E.1 hb dX6_init_36 rfl ?_
  refine lv_bipush (v := 111) E.1 hb dX6_init_37 rfl ?_
  obtain ⟨A8, hg, hw, hf⟩ := uI_s hf
  refine d_st E hb hS hg rfl (Or.inr (Or.inr (Or.inl ⟨rfl, rfl, rfl⟩))) hw dX6_init_39 (fun H locs hS => ?_)
  have hcs := rm_w (A2 := A8) hcs (by rw [hw]; exact ⟨rfl, rfl⟩)
  refine lv_dup E.1 hb dX6_init_40 rfl ?_
  refine lv_iconst (v := 2) E.1 hb dX6_init_41 rfl ?_
  refine lv_bipush (v := 108) E.1 hb dX6_init_42 rfl ?_
  obtain ⟨A9, hg, hw, hf⟩ := uI_s hf
  refine d_st E hb hS hg rfl (Or.inr (Or.inr (Or.inl ⟨rfl, rfl, rfl⟩))) hw dX6_init_44 (fun H locs hS => ?_)
  have hcs := rm_w (A2 := A9) hcs (by rw [hw]; exact ⟨rfl, rfl⟩)
  refine lv_dup E.1 hb dX6_init_45 rfl ?_
  refine lv_iconst (v := 3) E.1 hb dX6_init_46 rfl ?_
  refine lv_bipush (v := 105) E.1 hb dX6_init_47 rfl ?_
  obtain ⟨A10, hg, hw, hf⟩ := uI_s hf
  refine d_st E hb hS hg rfl (Or.inr (Or.inr (Or.inl ⟨rfl, rfl, rfl⟩))) hw dX6_init_49 (fun H locs hS => ?_)
  have hcs := rm_w (A2 := A10) hcs (by rw [hw]; exact ⟨rfl, rfl⟩)
  refine lv_dup E.1 hb dX6_init_50 rfl ?_
  refine lv_iconst (v := 4) E.1 hb dX6_init_51 rfl ?_
  refine lv_bipush (v := 111) E.1 hb dX6_init_52 rfl ?_
  obtain ⟨A11, hg, hw, hf⟩ := uI_s hf
  refine d_st E hb hS hg rfl (Or.inr (Or.inr (Or.inl ⟨rfl, rfl, rfl⟩))) hw dX6_init_54 (fun H locs hS => ?_)
  have hcs := rm_w (A2 := A11) hcs (by rw [hw]; exact ⟨rfl, rfl⟩)
  obtain ⟨A12, hk, hw, hf⟩ := pR_s hf
  refine c_pR (k := 11) (f := 2111) (r := (some (aN A5))) E hb hS ci_21 hk (hS.1.lt hk rfl) rfl rfl (fun h => h.elim) (Or.inr ⟨hnm, rfl, rfl, q1693⟩) fk_X6_20_X6 (fun _ h => h) (fun q => by cases q <;> exact ⟨rfl, rfl⟩) hw dX6_init_55 (fun H locs hS => ?_)
  have hcs := rm_w (A2 := A12) hcs (by rw [hw]; exact ⟨rfl, rfl⟩)
  exact hB58 A12 hf _ _ _ _ hcs hS _ (lv_sub hl [0] rfl)
