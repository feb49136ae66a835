set_option maxRecDepth 100000
/-! isFree(II)Z: RO -/
noncomputable def M_isFree (N : Nat) (σ : mSt) (x1 : Int32) (x2 : Int32) : Option Int32 :=
  bo (M_isCell σ x1 x2) fun r1 => if r1 = 0 then (some 0) else (bo (M_hasGloss σ x1 x2) fun r2 => if r2 = 0 then (bo (M_standsOn N σ x1 x2) fun r3 => if r3 = (-1) then (some 1) else (some 0)) else (some 0))
theorem gw_isFree : GoodIn lw_all (wsV RX6 561 RX6 yX6_isFree (ws_ yX6_isFree cX6_isFree 3 (some .boolean))) := lw_V q2446 q2448 qs140 q164 q2449
theorem gn_isFree : yX6_isFree.cls = RX6 ∧ yX6_isFree.cls ≠ "java/lang/invoke/MethodHandle" ∧ yX6_isFree.cls ≠ "java/lang/invoke/VarHandle" ∧ (parseMethodDescriptor yX6_isFree.desc).map (fun d => d.parameters.length) = some 2 := by decide +kernel
abbrev rM_isFree : Room := { frames := 2, cells := 0, slots := 0, locals := 47 }
set_option maxHeartbeats 4000000 in
theorem cmf_isFree {l : Launch} {dC : Nat → ClassId} {dI : Nat → Nat → Nat} {ac : Nat → ClassId} {o : Nat} {ad : Nat → Nat} {N : Nat} {σ : mSt} {x1 : Int32} {x2 : Int32} {r : Int32} (hf : M_isFree N σ x1 x2 = some r) : Met l yX6_isFree (ws_ yX6_isFree cX6_isFree 3 (some .boolean)) { frames := 2, cells := 0, slots := 0, locals := 47 } (va_Pc [.ref o, .int x1, .int x2] (mPre dC dI ac o ad σ)) (mQi dC dI ac o ad r σ) 0 0 (mF o ad) := by
  refine m_of (by decide) rfl (Nat.le_of_ble_eq_true rfl) ?_
  intro p e s m args below meth c E hb hr hlk hml hS ls hl
  have hl : lv_has ls 3 [(0, .ref o), (1, .int x1), (2, .int x2)] := hl
  unfold M_isFree at hf
  refine lv_aload_n E.1 hb dX6_isFree_0 rfl (lv_at hl 0 rfl) ?_
  refine lv_iload_n E.1 hb dX6_isFree_1 rfl (lv_at hl 1 rfl) ?_
  refine lv_iload_n E.1 hb dX6_isFree_2 rfl (lv_at hl 2 rfl) ?_
  obtain ⟨r1, h1, hf⟩ := bo_s hf
  refine m_cVi E hb hml hl.1 hS (cmf_isCell h1) gw_isCell gn_isCell rfl rfl (Nat.le_of_ble_eq_true rfl) ⟨Nat.le_of_ble_eq_true rfl, Nat.le_of_ble_eq_true rfl⟩ ⟨Nat.le_refl 0, Nat.le_refl 0⟩ dX6_isFree_3 (fun H locs hS => ?_)
  refine lv_if_eq (tgt := 32) E.1 hb dX6_isFree_6 (by decide) (fun hc => ?_) (fun hc => ?_)
  · have hf := it_s hc hf
    refine lv_iconst (v := 0) E.1 hb dX6_isFree_32 rfl ?_
    exact m_zrR E hb hr hlk hS rfl hf dX6_isFree_33
  · have hf := if_s hc hf
    refine lv_aload_n E.1 hb dX6_isFree_9 rfl (lv_at hl 0 rfl) ?_
    refine lv_iload_n E.1 hb dX6_isFree_10 rfl (lv_at hl 1 rfl) ?_
    refine lv_iload_n E.1 hb dX6_isFree_11 rfl (lv_at hl 2 rfl) ?_
    obtain ⟨r2, h1, hf⟩ := bo_s hf
    refine m_cVi E hb hml hl.1 hS (cmf_hasGloss h1) gw_hasGloss gn_hasGloss rfl rfl (Nat.le_of_ble_eq_true rfl) ⟨Nat.le_of_ble_eq_true rfl, Nat.le_of_ble_eq_true rfl⟩ ⟨Nat.le_refl 0, Nat.le_refl 0⟩ dX6_isFree_12 (fun H locs hS => ?_)
    refine lv_if_ne (tgt := 32) E.1 hb dX6_isFree_15 (by decide) (fun hc => ?_) (fun hc => ?_)
    · have hf := if_s hc hf
      refine lv_iconst (v := 0) E.1 hb dX6_isFree_32 rfl ?_
      exact m_zrR E hb hr hlk hS rfl hf dX6_isFree_33
    · have hf := it_s hc hf
      refine lv_aload_n E.1 hb dX6_isFree_18 rfl (lv_at hl 0 rfl) ?_
      refine lv_iload_n E.1 hb dX6_isFree_19 rfl (lv_at hl 1 rfl) ?_
      refine lv_iload_n E.1 hb dX6_isFree_20 rfl (lv_at hl 2 rfl) ?_
      obtain ⟨r3, h1, hf⟩ := bo_s hf
      refine m_cVi E hb hml hl.1 hS (cmf_standsOn h1) gw_standsOn gn_standsOn rfl rfl (Nat.le_of_ble_eq_true rfl) ⟨Nat.le_of_ble_eq_true rfl, Nat.le_of_ble_eq_true rfl⟩ ⟨Nat.le_refl 0, Nat.le_refl 0⟩ dX6_isFree_21 (fun H locs hS => ?_)
      refine lv_iconst (v := (-1)) E.1 hb dX6_isFree_24 rfl ?_
      refine lv_icmp_ne (tgt := 32) E.1 hb dX6_isFree_25 (by decide) (fun hc => ?_) (fun hc => ?_)
      · have hf := if_s hc hf
        refine lv_iconst (v := 0) E.1 hb dX6_isFree_32 rfl ?_
        exact m_zrR E hb hr hlk hS rfl hf dX6_isFree_33
      · have hf := it_s hc hf
        refine lv_iconst (v := 1) E.1 hb dX6_isFree_28 rfl ?_
        refine lv_goto (tgt := 33) E.1 hb dX6_isFree_29 (by decide) ?_
        exact m_zrR E hb hr hlk hS rfl hf dX6_isFree_33
/-! refuge(II)I: RO -/
noncomputable def M_refuge_b2 (N : Nat) (σ : mSt) (k2 : Int32 → Int32 → Int32 → Option Int32) (x1 : Int32) (x2 : Int32) (x3 : Int32) : Option Int32 :=
  if 8 ≤ x3 then (some (-1)) else (bo (M_isFree N σ x1 (x2 - x3)) fun r1 => if r1 = 0 then (bo (M_isFree N σ x1 (x2 + x3)) fun r2 => if r2 = 0 then (k2 x1 x2 (x3 + 1)) else (some (x2 + x3))) else (some (x2 - x3)))
noncomputable def M_refuge (N : Nat) (σ : mSt) (x1 : Int32) (x2 : Int32) : Option Int32 :=
  rn3 (M_refuge_b2 N σ) N x1 x2 1
theorem gw_refuge : GoodIn lw_all (wsV RX6 564 RX6 yX6_refuge (ws_ yX6_refuge cX6_refuge 4 (some .int))) := lw_V q2442 q2444 qs139 q164 q2445
theorem gn_refuge : yX6_refuge.cls = RX6 ∧ yX6_refuge.cls ≠ "java/lang/invoke/MethodHandle" ∧ yX6_refuge.cls ≠ "java/lang/invoke/VarHandle" ∧ (parseMethodDescriptor yX6_refuge.desc).map (fun d => d.parameters.length) = some 2 := by decide +kernel
abbrev rM_refuge : Room := { frames := 3, cells := 0, slots := 0, locals := 69 }
set_option maxHeartbeats 4000000 in
theorem cmf_refuge {l : Launch} {dC : Nat → ClassId} {dI : Nat → Nat → Nat} {ac : Nat → ClassId} {o : Nat} {ad : Nat → Nat} {N : Nat} {σ : mSt} {x1 : Int32} {x2 : Int32} {r : Int32} (hf : M_refuge N σ x1 x2 = some r) : Met l yX6_refuge (ws_ yX6_refuge cX6_refuge 4 (some .int)) { frames := 3, cells := 0, slots := 0, locals := 69 } (va_Pc [.ref o, .int x1, .int x2] (mPre dC dI ac o ad σ)) (mQi dC dI ac o ad r σ) 0 0 (mF o ad) := by
  refine m_of (by decide) rfl (Nat.le_of_ble_eq_true rfl) ?_
  intro p e s m args below meth c E hb hr hlk hml hS ls hl
  have hl : lv_has ls 4 [(0, .ref o), (1, .int x1), (2, .int x2)] := hl
  have hL2 : ∀ (n : Nat) (x1 : Int32) (x2 : Int32) (x3 : Int32), rn3 (M_refuge_b2 N σ) n x1 x2 x3 = some r → ∀ (H : Heap) (locs : List Loc), mS dC dI ac o ad s.heap σ H locs → ∀ (ls : Array Slot), lv_has ls 4 [(0, .ref o), (1, .int x1), (2, .int x2), (3, .int x3)] → W p l e rM_refuge s m args below meth c H locs 0 0 (MQ below (mQi dC dI ac o ad r σ) args s 0 0 (mF o ad)) (F0 m 2 ls []) := by
    intro  n
    induction n with
    | zero =>
      intro x1 x2 x3 hf
      cases hf
    | succ n ih =>
      intro x1 x2 x3 hf H locs hS ls hl
      have hf : M_refuge_b2 N σ (rn3 (M_refuge_b2 N σ) n) x1 x2 x3 = some r := hf
      have hk2 := ih
      generalize rn3 (M_refuge_b2 N σ) n = k2 at hf hk2
      unfold M_refuge_b2 at hf
      refine lv_iload_n E.1 hb dX6_refuge_2 rfl (lv_at hl 3 rfl) ?_
      refine lv_bipush (v := 8) E.1 hb dX6_refuge_3 rfl ?_
      refine lv_icmp_ge (tgt := 44) E.1 hb dX6_refuge_5 (by decide) (fun hc => ?_) (fun hc => ?_)
      · have hf := it_s hc hf
        refine lv_iconst (v := (-1)) E.1 hb dX6_refuge_44 rfl ?_
        exact m_irR E hb hr hlk hS hf dX6_refuge_45
      · have hf := if_s hc hf
        refine lv_aload_n E.1 hb dX6_refuge_8 rfl (lv_at hl 0 rfl) ?_
        refine lv_iload_n E.1 hb dX6_refuge_9 rfl (lv_at hl 1 rfl) ?_
        refine lv_iload_n E.1 hb dX6_refuge_10 rfl (lv_at hl 2 rfl) ?_
        refine lv_iload_n E.1 hb dX6_refuge_11 rfl (lv_at hl 3 rfl) ?_
        refine lv_isub E.1 hb dX6_refuge_12 ?_
        obtain ⟨r1, h1, hf⟩ := bo_s hf
        refine m_cVi E hb hml hl.1 hS (cmf_isFree h1) gw_isFree gn_isFree rfl rfl (Nat.le_of_ble_eq_true rfl) ⟨Nat.le_of_ble_eq_true rfl, Nat.le_of_ble_eq_true rfl⟩ ⟨Nat.le_refl 0, Nat.le_refl 0⟩ dX6_refuge_13 (fun H locs hS => ?_)
        refine lv_if_eq (tgt := 23) E.1 hb dX6_refuge_16 (by decide) (fun hc => ?_) (fun hc => ?_)
        · have hf := it_s hc hf
          refine lv_aload_n E.1 hb dX6_refuge_23 rfl (lv_at hl 0 rfl) ?_
          refine lv_iload_n E.1 hb dX6_refuge_24 rfl (lv_at hl 1 rfl) ?_
          refine lv_iload_n E.1 hb dX6_refuge_25 rfl (lv_at hl 2 rfl) ?_
          refine lv_iload_n E.1 hb dX6_refuge_26 rfl (lv_at hl 3 rfl) ?_
          refine lv_iadd E.1 hb dX6_refuge_27 ?_
          obtain ⟨r2, h1, hf⟩ := bo_s hf
          refine m_cVi E hb hml hl.1 hS (cmf_isFree h1) gw_isFree gn_isFree rfl rfl (Nat.le_of_ble_eq_true rfl) ⟨Nat.le_of_ble_eq_true rfl, Nat.le_of_ble_eq_true rfl⟩ ⟨Nat.le_refl 0, Nat.le_refl 0⟩ dX6_refuge_28 (fun H locs hS => ?_)
          refine lv_if_eq (tgt := 38) E.1 hb dX6_refuge_31 (by decide) (fun hc => ?_) (fun hc => ?_)
          · have hf := it_s hc hf
            refine lv_iinc (v := (x3 + 1)) (lv' := [(3, .int (x3 + 1)), (0, .ref o), (1, .int x1), (2, .int x2)]) E.1 hb dX6_refuge_38 hl (k := 3) rfl rfl (by decide) rfl (fun ls hl => ?_)
            refine lv_goto (tgt := 2) E.1 hb dX6_refuge_41 (by decide) ?_
            exact hk2 x1 x2 (x3 + 1) hf _ _ hS _ (lv_sub hl [1, 2, 3, 0] rfl)
          · have hf := if_s hc hf
            refine lv_iload_n E.1 hb dX6_refuge_34 rfl (lv_at hl 2 rfl) ?_
            refine lv_iload_n E.1 hb dX6_refuge_35 rfl (lv_at hl 3 rfl) ?_
            refine lv_iadd E.1 hb dX6_refuge_36 ?_
            exact m_irR E hb hr hlk hS hf dX6_refuge_37
        · have hf := if_s hc hf
          refine lv_iload_n E.1 hb dX6_refuge_19 rfl (lv_at hl 2 rfl) ?_
          refine lv_iload_n E.1 hb dX6_refuge_20 rfl (lv_at hl 3 rfl) ?_
          refine lv_isub E.1 hb dX6_refuge_21 ?_
          exact m_irR E hb hr hlk hS hf dX6_refuge_22
  unfold M_refuge at hf
  refine lv_iconst (v := 1) E.1 hb dX6_refuge_0 rfl ?_
  refine lv_istore_n (lv' := [(3, .int 1), (0, .ref o), (1, .int x1), (2, .int x2)]) E.1 hb dX6_refuge_1 rfl hl (by decide) rfl (fun ls hl => ?_)
  exact hL2 N x1 x2 1 hf _ _ hS _ (lv_sub hl [1, 2, 3, 0] rfl)
/-! gloss(II)I: RW -/
noncomputable def M_gloss_b18 (N : Nat) (σ : mSt) : Option (Int32 × mSt) :=
  bd (M_refuses σ 2) fun r2 σ3 => some (r2, σ3)
noncomputable def M_gloss_b47 (N : Nat) (σ : mSt) (x1 : Int32) (x2 : Int32) (x3 : Int32) (y0 : Int32) : Option (Int32 × mSt) :=
  if y0 = (-1) then (bd (M_refuses σ 2) fun r11 σ12 => some (r11, σ12)) else (bd (M_keeps N σ) fun _ σ7 => bo (ld 2 σ7 56 (1 + x1)) fun v8 => bo (stI 2 σ7 56 (1 + x1) (v8 ||| (1 <<< (x2 &&& 31)))) fun σ9 => if x3 = (-1) then (some (y0, σ9)) else (bo (stI 2 σ9 56 ((7 + (4 * x3)) + 1) y0) fun σ10 => some (y0, σ10)))
noncomputable def M_gloss (N : Nat) (σ : mSt) (x1 : Int32) (x2 : Int32) : Option (Int32 × mSt) :=
  bo (M_isCell σ x1 x2) fun r1 => if r1 = 0 then (M_gloss_b18 N σ) else (bo (M_hasGloss σ x1 x2) fun r4 => if r4 = 0 then (bo (M_standsOn N σ x1 x2) fun r5 => if r5 = (-1) then (M_gloss_b47 N σ x1 x2 r5 100) else (bo (M_refuge N σ x1 x2) fun r6 => M_gloss_b47 N σ x1 x2 r5 r6)) else (M_gloss_b18 N σ))
abbrev rM_gloss : Room := { frames := 4, cells := 0, slots := 0, locals := 92 }
set_option maxHeartbeats 4000000 in
theorem cmf_gloss {l : Launch} {dC : Nat → ClassId} {dI : Nat → Nat → Nat} {ac : Nat → ClassId} {o : Nat} {ad : Nat → Nat} {N : Nat} {σ : mSt} {x1 : Int32} {x2 : Int32} {r : Int32} {σ' : mSt} (hf : M_gloss N σ x1 x2 = some (r, σ')) : Met l yX6_gloss (ws_ yX6_gloss cX6_gloss 5 (some .int)) { frames := 4, cells := 0, slots := 0, locals := 92 } (va_Pc [.ref o, .int x1, .int x2] (mPre dC dI ac o ad σ)) (mQi dC dI ac o ad r σ') 0 0 (mF o ad) := by
  refine m_of (by decide) rfl (Nat.le_of_ble_eq_true rfl) ?_
  intro p e s m args below meth c E hb hr hlk hml hS ls hl
  have hl : lv_has ls 5 [(0, .ref o), (1, .int x1), (2, .int x2)] := hl
  have hB18 : ∀ (σ : mSt), M_gloss_b18 N σ = some (r, σ') → ∀ (H : Heap) (locs : List Loc), mS dC dI ac o ad s.heap σ H locs → ∀ (ls : Array Slot), lv_has ls 5 [(0, .ref o)] → W p l e rM_gloss s m args below meth c H locs 0 0 (MQ below (mQi dC dI ac o ad r σ') args s 0 0 (mF o ad)) (F0 m 18 ls []) := by
    intro σ hf H locs hS ls hl
    unfold M_gloss_b18 at hf
    refine lv_aload_n E.1 hb dX6_gloss_18 rfl (lv_at hl 0 rfl) ?_
    refine lv_iconst (v := 2) E.1 hb dX6_gloss_19 rfl ?_
    obtain ⟨r2, σ3, h1, hf⟩ := bd_s hf
    refine m_cVi E hb hml hl.1 hS (cmf_refuses h1) gw_refuses gn_refuses rfl rfl (Nat.le_of_ble_eq_true rfl) ⟨Nat.le_of_ble_eq_true rfl, Nat.le_of_ble_eq_true rfl⟩ ⟨Nat.le_refl 0, Nat.le_refl 0⟩ dX6_gloss_20 (fun H locs hS => ?_)
    exact m_ir E hb hr hlk hS hf dX6_gloss_23
  have hB47 : ∀ (σ : mSt) (x1 : Int32) (x2 : Int32) (x3 : Int32) (y0 : Int32), M_gloss_b47 N σ x1 x2 x3 y0 = some (r, σ') → ∀ (H : Heap) (locs : List Loc), mS dC dI ac o ad s.heap σ H locs → ∀ (ls : Array Slot), lv_has ls 5 [(0, .ref o), (1, .int x1), (2, .int x2), (3, .int x3)] → W p l e rM_gloss s m args below meth c H locs 0 0 (MQ below (mQi dC dI ac o ad r σ') args s 0 0 (mF o ad)) (F0 m 47 ls [.int y0]) := by
    intro σ x1 x2 x3 y0 hf H locs hS ls hl
    unfold M_gloss_b47 at hf
    refine lv_istore (lv' := [(4, .int y0), (0, .ref o), (1, .int x1), (2, .int x2), (3, .int x3)]) E.1 hb dX6_gloss_47 hl (by decide) rfl (fun ls hl => ?_)
    refine lv_iload E.1 hb dX6_gloss_49 (lv_at hl 0 rfl) ?_
    refine lv_iconst (v := (-1)) E.1 hb dX6_gloss_51 rfl ?_
    refine lv_icmp_ne (tgt := 61) E.1 hb dX6_gloss_52 (by decide) (fun hc => ?_) (fun hc => ?_)
    · have hf := if_s hc hf
      refine lv_aload_n E.1 hb dX6_gloss_61 rfl (lv_at hl 1 rfl) ?_
      obtain ⟨_, σ7, h1, hf⟩ := bd_s hf
      refine m_cVv E hb hml hl.1 hS (cmf_keeps h1) gw_keeps gn_keeps rfl rfl (Nat.le_of_ble_eq_true rfl) ⟨Nat.le_of_ble_eq_true rfl, Nat.le_of_ble_eq_true rfl⟩ ⟨Nat.le_refl 0, Nat.le_refl 0⟩ dX6_gloss_62 (fun H locs hS => ?_)
      refine lv_aload_n E.1 hb dX6_gloss_65 rfl (lv_at hl 1 rfl) ?_
      refine m_gA (k := 56) E hb hS 2 rfl (by decide) fl_56 dX6_gloss_66 ?_
      refine lv_iconst (v := 1) E.1 hb dX6_gloss_69 rfl ?_
      refine lv_iload_n E.1 hb dX6_gloss_70 rfl (lv_at hl 2 rfl) ?_
      refine lv_iadd E.1 hb dX6_gloss_71 ?_
      refine lv_dup2_11 E.1 hb dX6_gloss_72 rfl rfl ?_
      obtain ⟨hg, hf⟩ := ld_s hf
      refine m_ild E hb hS hg dX6_gloss_73 ?_
      refine lv_iconst (v := 1) E.1 hb dX6_gloss_74 rfl ?_
      refine lv_iload_n E.1 hb dX6_gloss_75 rfl (lv_at hl 3 rfl) ?_
      refine lv_ishl E.1 hb dX6_gloss_76 ?_
      refine lv_ior E.1 hb dX6_gloss_77 ?_
      obtain ⟨σ9, hg, hw, hf⟩ := st_s hf
      refine m_ist E hb hS hg hw dX6_gloss_78 (fun H locs hS => ?_)
      refine lv_iload_n E.1 hb dX6_gloss_79 rfl (lv_at hl 4 rfl) ?_
      refine lv_iconst (v := (-1)) E.1 hb dX6_gloss_80 rfl ?_
      refine lv_icmp_eq (tgt := 99) E.1 hb dX6_gloss_81 (by decide) (fun hc => ?_) (fun hc => ?_)
      · have hf := it_s hc hf
        refine lv_iload E.1 hb dX6_gloss_99 (lv_at hl 0 rfl) ?_
        exact m_ir E hb hr hlk hS hf dX6_gloss_101
      · have hf := if_s hc hf
        refine lv_aload_n E.1 hb dX6_gloss_84 rfl (lv_at hl 1 rfl) ?_
        refine m_gA (k := 56) E hb hS 2 rfl (by decide) fl_56 dX6_gloss_85 ?_
        refine lv_bipush (v := 7) E.1 hb dX6_gloss_88 rfl ?_
        refine lv_iconst (v := 4) E.1 hb dX6_gloss_90 rfl ?_
        refine lv_iload_n E.1 hb dX6_gloss_91 rfl (lv_at hl 4 rfl) ?_
        refine lv_imul E.1 hb dX6_gloss_92 ?_
        refine lv_iadd E.1 hb dX6_gloss_93 ?_
        refine lv_iconst (v := 1) E.1 hb dX6_gloss_94 rfl ?_
        refine lv_iadd E.1 hb dX6_gloss_95 ?_
        refine lv_iload E.1 hb dX6_gloss_96 (lv_at hl 0 rfl) ?_
        obtain ⟨σ10, hg, hw, hf⟩ := st_s hf
        refine m_ist E hb hS hg hw dX6_gloss_98 (fun H locs hS => ?_)
        refine lv_iload E.1 hb dX6_gloss_99 (lv_at hl 0 rfl) ?_
        exact m_ir E hb hr hlk hS hf dX6_gloss_101
    · have hf := it_s hc hf
      refine lv_aload_n E.1 hb dX6_gloss_55 rfl (lv_at hl 1 rfl) ?_
      refine lv_iconst (v := 2) E.1 hb dX6_gloss_56 rfl ?_
      obtain ⟨r11, σ12, h1, hf⟩ := bd_s hf
      refine m_cVi E hb hml hl.1 hS (cmf_refuses h1) gw_refuses gn_refuses rfl rfl (Nat.le_of_ble_eq_true rfl) ⟨Nat.le_of_ble_eq_true rfl, Nat.le_of_ble_eq_true rfl⟩ ⟨Nat.le_refl 0, Nat.le_refl 0⟩ dX6_gloss_57 (fun H locs hS => ?_)
      exact m_ir E hb hr hlk hS hf dX6_gloss_60
  unfold M_gloss at hf
  refine lv_aload_n E.1 hb dX6_gloss_0 rfl (lv_at hl 0 rfl) ?_
  refine lv_iload_n E.1 hb dX6_gloss_1 rfl (lv_at hl 1 rfl) ?_
  refine lv_iload_n E.1 hb dX6_gloss_2 rfl (lv_at hl 2 rfl) ?_
  obtain ⟨r1, h1, hf⟩ := bo_s hf
  refine m_cVi E hb hml hl.1 hS (cmf_isCell h1) gw_isCell gn_isCell rfl rfl (Nat.le_of_ble_eq_true rfl) ⟨Nat.le_of_ble_eq_true rfl, Nat.le_of_ble_eq_true rfl⟩ ⟨Nat.le_refl 0, Nat.le_refl 0⟩ dX6_gloss_3 (fun H locs hS => ?_)
  refine lv_if_eq (tgt := 18) E.1 hb dX6_gloss_6 (by decide) (fun hc => ?_) (fun hc => ?_)
  · have hf := it_s hc hf
    exact hB18 σ hf _ _ hS _ (lv_sub hl [0] rfl)
  · have hf := if_s hc hf
    refine lv_aload_n E.1 hb dX6_gloss_9 rfl (lv_at hl 0 rfl) ?_
    refine lv_iload_n E.1 hb dX6_gloss_10 rfl (lv_at hl 1 rfl) ?_
    refine lv_iload_n E.1 hb dX6_gloss_11 rfl (lv_at hl 2 rfl) ?_
    obtain ⟨r4, h1, hf⟩ := bo_s hf
    refine m_cVi E hb hml hl.1 hS (cmf_hasGloss h1) gw_hasGloss gn_hasGloss rfl rfl (Nat.le_of_ble_eq_true rfl) ⟨Nat.le_of_ble_eq_true rfl, Nat.le_of_ble_eq_true rfl⟩ ⟨Nat.le_refl 0, Nat.le_refl 0⟩ dX6_gloss_12 (fun H locs hS => ?_)
    refine lv_if_eq (tgt := 24) E.1 hb dX6_gloss_15 (by decide) (fun hc => ?_) (fun hc => ?_)
    · have hf := it_s hc hf
      refine lv_aload_n E.1 hb dX6_gloss_24 rfl (lv_at hl 0 rfl) ?_
      refine lv_iload_n E.1 hb dX6_gloss_25 rfl (lv_at hl 1 rfl) ?_
      refine lv_iload_n E.1 hb dX6_gloss_26 rfl (lv_at hl 2 rfl) ?_
      obtain ⟨r5, h1, hf⟩ := bo_s hf
      refine m_cVi E hb hml hl.1 hS (cmf_standsOn h1) gw_standsOn gn_standsOn rfl rfl (Nat.le_of_ble_eq_true rfl) ⟨Nat.le_of_ble_eq_true rfl, Nat.le_of_ble_eq_true rfl⟩ ⟨Nat.le_refl 0, Nat.le_refl 0⟩ dX6_gloss_27 (fun H locs hS => ?_)
      refine lv_istore_n (lv' := [(3, .int r5), (0, .ref o), (1, .int x1), (2, .int x2)]) E.1 hb dX6_gloss_30 rfl hl (by decide) rfl (fun ls hl => ?_)
      refine lv_iload_n E.1 hb dX6_gloss_31 rfl (lv_at hl 0 rfl) ?_
      refine lv_iconst (v := (-1)) E.1 hb dX6_gloss_32 rfl ?_
      refine lv_icmp_ne (tgt := 41) E.1 hb dX6_gloss_33 (by decide) (fun hc => ?_) (fun hc => ?_)
      · have hf := if_s hc hf
        refine lv_aload_n E.1 hb dX6_gloss_41 rfl (lv_at hl 1 rfl) ?_
        refine lv_iload_n E.1 hb dX6_gloss_42 rfl (lv_at hl 2 rfl) ?_
        refine lv_iload_n E.1 hb dX6_gloss_43 rfl (lv_at hl 3 rfl) ?_
        obtain ⟨r6, h1, hf⟩ := bo_s hf
        refine m_cVi E hb hml hl.1 hS (cmf_refuge h1) gw_refuge gn_refuge rfl rfl (Nat.le_of_ble_eq_true rfl) ⟨Nat.le_of_ble_eq_true rfl, Nat.le_of_ble_eq_true rfl⟩ ⟨Nat.le_refl 0, Nat.le_refl 0⟩ dX6_gloss_44 (fun H locs hS => ?_)
        exact hB47 σ x1 x2 r5 r6 hf _ _ hS _ (lv_sub hl [1, 2, 3, 0] rfl)
      · have hf := it_s hc hf
        refine lv_bipush (v := 100) E.1 hb dX6_gloss_36 rfl ?_
        refine lv_goto (tgt := 47) E.1 hb dX6_gloss_38 (by decide) ?_
        exact hB47 σ x1 x2 r5 100 hf _ _ hS _ (lv_sub hl [1, 2, 3, 0] rfl)
    · have hf := if_s hc hf
      exact hB18 σ hf _ _ hS _ (lv_sub hl [0] rfl)
/-! days(I)I: RW -/
noncomputable def M_days (N : Nat) (σ : mSt) (x1 : Int32) : Option (Int32 × mSt) :=
  bo (M_isAhead σ x1 1 100) fun r1 => if r1 = 0 then (bd (M_refuses σ 3) fun r5 σ6 => some (r5, σ6)) else (bd (M_keeps N σ) fun _ σ2 => lt2 (mUI σ2 62 0 0) fun σ3 => bd (M_daysGo N σ3 x1) fun _ σ4 => some ((σ4.1 62 0), σ4))
abbrev rM_days : Room := { frames := 6, cells := 0, slots := 0, locals := 144 }
set_option maxHeartbeats 4000000 in
theorem cmf_days {l : Launch} {dC : Nat → ClassId} {dI : Nat → Nat → Nat} {ac : Nat → ClassId} {o : Nat} {ad : Nat → Nat} {N : Nat} {σ : mSt} {x1 : Int32} {r : Int32} {σ' : mSt} (hf : M_days N σ x1 = some (r, σ')) : Met l yX6_days (ws_ yX6_days cX6_days 2 (some .int)) { frames := 6, cells := 0, slots := 0, locals := 144 } (va_Pc [.ref o, .int x1] (mPre dC dI ac o ad σ)) (mQi dC dI ac o ad r σ') 0 0 (mF o ad) := by
  refine m_of (by decide) rfl (Nat.le_of_ble_eq_true rfl) ?_
  intro p e s m args below meth c E hb hr hlk hml hS ls hl
  have hl : lv_has ls 2 [(0, .ref o), (1, .int x1)] := hl
  unfold M_days at hf
  refine lv_aload_n E.1 hb dX6_days_0 rfl (lv_at hl 0 rfl) ?_
  refine lv_iload_n E.1 hb dX6_days_1 rfl (lv_at hl 1 rfl) ?_
  refine lv_iconst (v := 1) E.1 hb dX6_days_2 rfl ?_
  refine lv_bipush (v := 100) E.1 hb dX6_days_3 rfl ?_
  obtain ⟨r1, h1, hf⟩ := bo_s hf
  refine m_cVi E hb hml hl.1 hS (cmf_isAhead h1) gw_isAhead gn_isAhead rfl rfl (Nat.le_of_ble_eq_true rfl) ⟨Nat.le_of_ble_eq_true rfl, Nat.le_of_ble_eq_true rfl⟩ ⟨Nat.le_refl 0, Nat.le_refl 0⟩ dX6_days_5 (fun H locs hS => ?_)
  refine lv_if_ne (tgt := 17) E.1 hb dX6_days_8 (by decide) (fun hc => ?_) (fun hc => ?_)
  · have hf := if_s hc hf
    refine lv_aload_n E.1 hb dX6_days_17 rfl (lv_at hl 0 rfl) ?_
    obtain ⟨_, σ2, h1, hf⟩ := bd_s hf
    refine m_cVv E hb hml hl.1 hS (cmf_keeps h1) gw_keeps gn_keeps rfl rfl (Nat.le_of_ble_eq_true rfl) ⟨Nat.le_of_ble_eq_true rfl, Nat.le_of_ble_eq_true rfl⟩ ⟨Nat.le_refl 0, Nat.le_refl 0⟩ dX6_days_18 (fun H locs hS => ?_)
    refine lv_aload_n E.1 hb dX6_days_21 rfl (lv_at hl 0 rfl) ?_
    refine lv_iconst (v := 0) E.1 hb dX6_days_22 rfl ?_
    obtain ⟨σ3, hw, hf⟩ := lt2_s hf
    refine m_pI (k := 62) E hb hS rfl rfl pf_62 fl_62 hw dX6_days_23 (fun H locs hS => ?_)
    refine lv_aload_n E.1 hb dX6_days_26 rfl (lv_at hl 0 rfl) ?_
    refine lv_iload_n E.1 hb dX6_days_27 rfl (lv_at hl 1 rfl) ?_
    obtain ⟨_, σ4, h1, hf⟩ := bd_s hf
    refine m_cVv E hb hml hl.1 hS (cmf_daysGo h1) gw_daysGo gn_daysGo rfl rfl (Nat.le_of_ble_eq_true rfl) ⟨Nat.le_of_ble_eq_true rfl, Nat.le_of_ble_eq_true rfl⟩ ⟨Nat.le_refl 0, Nat.le_refl 0⟩ dX6_days_28 (fun H locs hS => ?_)
    refine lv_aload_n E.1 hb dX6_days_31 rfl (lv_at hl 0 rfl) ?_
    refine m_gI (k := 62) E hb hS rfl fl_62 dX6_days_32 ?_
    exact m_ir E hb hr hlk hS hf dX6_days_35
  · have hf := it_s hc hf
    refine lv_aload_n E.1 hb dX6_days_11 rfl (lv_at hl 0 rfl) ?_
    refine lv_iconst (v := 3) E.1 hb dX6_days_12 rfl ?_
    obtain ⟨r5, σ6, h1, hf⟩ := bd_s hf
    refine m_cVi E hb hml hl.1 hS (cmf_refuses h1) gw_refuses gn_refuses rfl rfl (Nat.le_of_ble_eq_true rfl) ⟨Nat.le_of_ble_eq_true rfl, Nat.le_of_ble_eq_true rfl⟩ ⟨Nat.le_refl 0, Nat.le_refl 0⟩ dX6_days_13 (fun H locs hS => ?_)
    exact m_ir E hb hr hlk hS hf dX6_days_16
/-! seed(I)Z: RW -/
noncomputable def M_seed (σ : mSt) (x1 : Int32) : Option (Int32 × mSt) :=
  if 0 ≤ x1 then (lt2 (mUJ σ 71 0 (Int32.toInt64 x1)) fun σ1 => some (1, σ1)) else (bo (ld 2 σ 9 5) fun v2 => bo (stI 2 σ 9 5 (v2 + 1)) fun σ3 => some (0, σ3))
abbrev rM_seed : Room := { frames := 0, cells := 0, slots := 0, locals := 0 }
set_option maxHeartbeats 4000000 in
theorem cmf_seed {l : Launch} {dC : Nat → ClassId} {dI : Nat → Nat → Nat} {ac : Nat → ClassId} {o : Nat} {ad : Nat → Nat} {σ : mSt} {x1 : Int32} {r : Int32} {σ' : mSt} (hf : M_seed σ x1 = some (r, σ')) : Met l yX6_seed (ws_ yX6_seed cX6_seed 2 (some .boolean)) { frames := 0, cells := 0, slots := 0, locals := 0 } (va_Pc [.ref o, .int x1] (mPre dC dI ac o ad σ)) (mQi dC dI ac o ad r σ') 0 0 (mF o ad) := by
  refine m_of (by decide) rfl (Nat.le_of_ble_eq_true rfl) ?_
  intro p e s m args below meth c E hb hr hlk hml hS ls hl
  have hl : lv_has ls 2 [(0, .ref o), (1, .int x1)] := hl
  unfold M_seed at hf
  refine lv_iload_n E.1 hb dX6_seed_0 rfl (lv_at hl 1 rfl) ?_
  refine lv_if_ge (tgt := 16) E.1 hb dX6_seed_1 (by decide) (fun hc => ?_) (fun hc => ?_)
  · have hf := it_s hc hf
    refine lv_aload_n E.1 hb dX6_seed_16 rfl (lv_at hl 0 rfl) ?_
    refine lv_iload_n E.1 hb dX6_seed_17 rfl (lv_at hl 1 rfl) ?_
    refine lv_i2l E.1 hb dX6_seed_18 rfl ?_
    obtain ⟨σ1, hw, hf⟩ := lt2_s hf
    refine m_pJ (k := 71) E hb hS rfl rfl pf_71 fl_71 hw dX6_seed_19 (fun H locs hS => ?_)
    refine lv_iconst (v := 1) E.1 hb dX6_seed_22 rfl ?_
    exact m_zr E hb hr hlk hS rfl hf dX6_seed_23
  · have hf := if_s hc hf
    refine lv_aload_n E.1 hb dX6_seed_4 rfl (lv_at hl 0 rfl) ?_
    refine m_gA (k := 9) E hb hS 2 rfl (by decide) fl_9 dX6_seed_5 ?_
    refine lv_iconst (v := 5) E.1 hb dX6_seed_8 rfl ?_
    refine lv_dup2_11 E.1 hb dX6_seed_9 rfl rfl ?_
    obtain ⟨hg, hf⟩ := ld_s hf
    refine m_ild E hb hS hg dX6_seed_10 ?_
    refine lv_iconst (v := 1) E.1 hb dX6_seed_11 rfl ?_
    refine lv_iadd E.1 hb dX6_seed_12 ?_
    obtain ⟨σ3, hg, hw, hf⟩ := st_s hf
    refine m_ist E hb hS hg hw dX6_seed_13 (fun H locs hS => ?_)
    refine lv_iconst (v := 0) E.1 hb dX6_seed_14 rfl ?_
    exact m_zr E hb hr hlk hS rfl hf dX6_seed_15
/-! drawOf(I)I: RW -/
noncomputable def M_drawOf (σ : mSt) (x1 : Int32) : Option (Int32 × mSt) :=
  lt2 (mUJ σ 71 0 (((1103515245 * (σ.2 71 0)) + 12345) - ((1103515245 * (σ.2 71 0)) + 12345) / 2147483648 * 2147483648)) fun σ1 => if ¬ (Int32.toInt64 x1) = 0 then (some ((Int64.toInt32 (((σ1.2 71 0) / 64) - ((σ1.2 71 0) / 64) / (Int32.toInt64 x1) * (Int32.toInt64 x1))), σ1)) else none
theorem gw_drawOf : GoodIn lw_all (wsV RX6 575 RX6 yX6_drawOf (ws_ yX6_drawOf cX6_drawOf 2 (some .int))) := lw_V q2462 q2464 qs141 q164 q2465
theorem gn_drawOf : yX6_drawOf.cls = RX6 ∧ yX6_drawOf.cls ≠ "java/lang/invoke/MethodHandle" ∧ yX6_drawOf.cls ≠ "java/lang/invoke/VarHandle" ∧ (parseMethodDescriptor yX6_drawOf.desc).map (fun d => d.parameters.length) = some 1 := by decide +kernel
abbrev rM_drawOf : Room := { frames := 0, cells := 0, slots := 0, locals := 0 }
set_option maxHeartbeats 4000000 in
theorem cmf_drawOf {l : Launch} {dC : Nat → ClassId} {dI : Nat → Nat → Nat} {ac : Nat → ClassId} {o : Nat} {ad : Nat → Nat} {σ : mSt} {x1 : Int32} {r : Int32} {σ' : mSt} (hf : M_drawOf σ x1 = some (r, σ')) : Met l yX6_drawOf (ws_ yX6_drawOf cX6_drawOf 2 (some .int)) { frames := 0, cells := 0, slots := 0, locals := 0 } (va_Pc [.ref o, .int x1] (mPre dC dI ac o ad σ)) (mQi dC dI ac o ad r σ') 0 0 (mF o ad) := by
  refine m_of (by decide) rfl (Nat.le_of_ble_eq_true rfl) ?_
  intro p e s m args below meth c E hb hr hlk hml hS ls hl
  have hl : lv_has ls 2 [(0, .ref o), (1, .int x1)] := hl
  unfold M_drawOf at hf
  refine lv_aload_n E.1 hb dX6_drawOf_0 rfl (lv_at hl 0 rfl) ?_
  refine lv_ldc2 E.1 hb E.2.1 (E.2.2.1 _ q2466) dX6_drawOf_1 ?_
  refine lv_aload_n E.1 hb dX6_drawOf_4 rfl (lv_at hl 0 rfl) ?_
  refine m_gJ (k := 71) E hb hS rfl fl_71 dX6_drawOf_5 ?_
  refine lv_lmul E.1 hb dX6_drawOf_8 ?_
  refine lv_ldc2 E.1 hb E.2.1 (E.2.2.1 _ q2467) dX6_drawOf_9 ?_
  refine lv_ladd E.1 hb dX6_drawOf_12 ?_
  refine lv_ldc2 E.1 hb E.2.1 (E.2.2.1 _ q2468) dX6_drawOf_13 ?_
  refine lv_lrem E.1 hb dX6_drawOf_16 (by decide) ?_
  obtain ⟨σ1, hw, hf⟩ := lt2_s hf
  refine m_pJ (k := 71) E hb hS rfl rfl pf_71 fl_71 hw dX6_drawOf_17 (fun H locs hS => ?_)
  refine lv_aload_n E.1 hb dX6_drawOf_20 rfl (lv_at hl 0 rfl) ?_
  refine m_gJ (k := 71) E hb hS rfl fl_71 dX6_drawOf_21 ?_
  refine lv_ldc2 E.1 hb E.2.1 (E.2.2.1 _ q2469) dX6_drawOf_24 ?_
  refine lv_ldiv E.1 hb dX6_drawOf_27 (by decide) ?_
  refine lv_iload_n E.1 hb dX6_drawOf_28 rfl (lv_at hl 1 rfl) ?_
  refine lv_i2l E.1 hb dX6_drawOf_29 rfl ?_
  obtain ⟨hg, hf⟩ := gu_s hf
  refine lv_lrem E.1 hb dX6_drawOf_30 hg ?_
  refine lv_l2i E.1 hb dX6_drawOf_31 rfl ?_
  exact m_ir E hb hr hlk hS hf dX6_drawOf_32
/-! chance(I)I: RW -/
noncomputable def M_chance_b78 (N : Nat) (k25 : mSt → Int32 → Int32 → Int32 → Option (Int32 × mSt)) (σ : mSt) (x1 : Int32) (x2 : Int32) (x3 : Int32) : Option (Int32 × mSt) :=
  bo (ld 2 σ 56 0) fun v5 => bd (M_openingOn N σ v5) fun r6 σ7 => bd (M_dayBy N σ7 r6) fun _ σ8 => k25 σ8 x1 x2 (x3 + 1)
noncomputable def M_chance_b25 (N : Nat) (k25 : mSt → Int32 → Int32 → Int32 → Option (Int32 × mSt)) (σ : mSt) (x1 : Int32) (x2 : Int32) (x3 : Int32) : Option (Int32 × mSt) :=
  if x1 ≤ x3 then (some (x2, σ)) else (bd (M_drawOf σ 100) fun r3 σ4 => if (σ4.1 48 0) ≤ r3 then (M_chance_b78 N k25 σ4 x1 x2 x3) else (bo (M_beingMany σ4) fun r9 => if r9 ≤ 0 then (M_chance_b78 N k25 σ4 x1 x2 x3) else (bo (M_beingMany σ4) fun r10 => bd (M_drawOf σ4 r10) fun r11 σ12 => bo (M_purseOf σ12 r11) fun r13 => bd (M_purseIs σ12 r11 (Int32.toInt64 (r13 / 2))) fun _ σ14 => M_chance_b78 N k25 σ14 x1 (x2 + 1) x3)))
noncomputable def M_chance (N : Nat) (σ : mSt) (x1 : Int32) : Option (Int32 × mSt) :=
  bo (M_isAhead σ x1 1 100) fun r1 => if r1 = 0 then (bd (M_refuses σ 3) fun r15 σ16 => some (r15, σ16)) else (bd (M_keeps N σ) fun _ σ2 => rn4 (M_chance_b25 N) N σ2 x1 0 0)
abbrev rM_chance : Room := { frames := 5, cells := 0, slots := 0, locals := 122 }
set_option maxHeartbeats 4000000 in
theorem cmf_chance {l : Launch} {dC : Nat → ClassId} {dI : Nat → Nat → Nat} {ac : Nat → ClassId} {o : Nat} {ad : Nat → Nat} {N : Nat} {σ : mSt} {x1 : Int32} {r : Int32} {σ' : mSt} (hf : M_chance N σ x1 = some (r, σ')) : Met l yX6_chance (ws_ yX6_chance cX6_chance 5 (some .int)) { frames := 5, cells := 0, slots := 0, locals := 122 } (va_Pc [.ref o, .int x1] (mPre dC dI ac o ad σ)) (mQi dC dI ac o ad r σ') 0 0 (mF o ad) := by
  refine m_of (by decide) rfl (Nat.le_of_ble_eq_true rfl) ?_
  intro p e s m args below meth c E hb hr hlk hml hS ls hl
  have hl : lv_has ls 5 [(0, .ref o), (1, .int x1)] := hl
  have hB78 : ∀ (k25 : mSt → Int32 → Int32 → Int32 → Option (Int32 × mSt)) (hk25 : ∀ (σ : mSt) (x1 : Int32) (x2 : Int32) (x3 : Int32), k25 σ x1 x2 x3 = some (r, σ') → ∀ (H : Heap) (locs : List Loc), mS dC dI ac o ad s.heap σ H locs → ∀ (ls : Array Slot), lv_has ls 5 [(0, .ref o), (1, .int x1), (2, .int x2), (3, .int x3)] → W p l e rM_chance s m args below meth c H locs 0 0 (MQ below (mQi dC dI ac o ad r σ') args s 0 0 (mF o ad)) (F0 m 25 ls [])) (σ : mSt) (x1 : Int32) (x2 : Int32) (x3 : Int32), M_chance_b78 N k25 σ x1 x2 x3 = some (r, σ') → ∀ (H : Heap) (locs : List Loc), mS dC dI ac o ad s.heap σ H locs → ∀ (ls : Array Slot), lv_has ls 5 [(0, .ref o), (1, .int x1), (2, .int x2), (3, .int x3)] → W p l e rM_chance s m args below meth c H locs 0 0 (MQ below (mQi dC dI ac o ad r σ') args s 0 0 (mF o ad)) (F0 m 78 ls []) := by
    intro k25 hk25 σ x1 x2 x3 hf H locs hS ls hl
    unfold M_chance_b78 at hf
    refine lv_aload_n E.1 hb dX6_chance_78 rfl (lv_at hl 0 rfl) ?_
    refine lv_aload_n E.1 hb dX6_chance_79 rfl (lv_at hl 0 rfl) ?_
    refine lv_aload_n E.1 hb dX6_chance_80 rfl (lv_at hl 0 rfl) ?_
    refine m_gA (k := 56) E hb hS 2 rfl (by decide) fl_56 dX6_chance_81 ?_
    refine lv_iconst (v := 0) E.1 hb dX6_chance_84 rfl ?_
    obtain ⟨hg, hf⟩ := ld_s hf
    refine m_ild E hb hS hg dX6_chance_85 ?_
    obtain ⟨r6, σ7, h1, hf⟩ := bd_s hf
    refine m_cVi E hb hml hl.1 hS (cmf_openingOn h1) gw_openingOn gn_openingOn rfl rfl (Nat.le_of_ble_eq_true rfl) ⟨Nat.le_of_ble_eq_true rfl, Nat.le_of_ble_eq_true rfl⟩ ⟨Nat.le_refl 0, Nat.le_refl 0⟩ dX6_chance_86 (fun H locs hS => ?_)
    obtain ⟨_, σ8, h1, hf⟩ := bd_s hf
    refine m_cVv E hb hml hl.1 hS (cmf_dayBy h1) gw_dayBy gn_dayBy rfl rfl (Nat.le_of_ble_eq_true rfl) ⟨Nat.le_of_ble_eq_true rfl, Nat.le_of_ble_eq_true rfl⟩ ⟨Nat.le_refl 0, Nat.le_refl 0⟩ dX6_chance_89 (fun H locs hS => ?_)
    refine lv_iinc (v := (x3 + 1)) (lv' := [(3, .int (x3 + 1)), (0, .ref o), (1, .int x1), (2, .int x2)]) E.1 hb dX6_chance_92 hl (k := 3) rfl rfl (by decide) rfl (fun ls hl => ?_)
    refine lv_goto (tgt := 25) E.1 hb dX6_chance_95 (by decide) ?_
    exact hk25 σ8 x1 x2 (x3 + 1) hf _ _ hS _ (lv_sub hl [1, 2, 3, 0] rfl)
  have hL25 : ∀ (n : Nat) (σ : mSt) (x1 : Int32) (x2 : Int32) (x3 : Int32), rn4 (M_chance_b25 N) n σ x1 x2 x3 = some (r, σ') → ∀ (H : Heap) (locs : List Loc), mS dC dI ac o ad s.heap σ H locs → ∀ (ls : Array Slot), lv_has ls 5 [(0, .ref o), (1, .int x1), (2, .int x2), (3, .int x3)] → W p l e rM_chance s m args below meth c H locs 0 0 (MQ below (mQi dC dI ac o ad r σ') args s 0 0 (mF o ad)) (F0 m 25 ls []) := by
    intro  n
    induction n with
    | zero =>
      intro σ x1 x2 x3 hf
      cases hf
    | succ n ih =>
      intro σ x1 x2 x3 hf H locs hS ls hl
      have hf : M_chance_b25 N (rn4 (M_chance_b25 N) n) σ x1 x2 x3 = some (r, σ') := hf
      have hk25 := ih
      generalize rn4 (M_chance_b25 N) n = k25 at hf hk25
      unfold M_chance_b25 at hf
      refine lv_iload_n E.1 hb dX6_chance_25 rfl (lv_at hl 3 rfl) ?_
      refine lv_iload_n E.1 hb dX6_chance_26 rfl (lv_at hl 1 rfl) ?_
      refine lv_icmp_ge (tgt := 98) E.1 hb dX6_chance_27 (by decide) (fun hc => ?_) (fun hc => ?_)
      · have hf := it_s hc hf
        refine lv_iload_n E.1 hb dX6_chance_98 rfl (lv_at hl 2 rfl) ?_
        exact m_ir E hb hr hlk hS hf dX6_chance_99
      · have hf := if_s hc hf
        refine lv_aload_n E.1 hb dX6_chance_30 rfl (lv_at hl 0 rfl) ?_
        refine lv_bipush (v := 100) E.1 hb dX6_chance_31 rfl ?_
        obtain ⟨r3, σ4, h1, hf⟩ := bd_s hf
        refine m_cVi E hb hml hl.1 hS (cmf_drawOf h1) gw_drawOf gn_drawOf rfl rfl (Nat.le_of_ble_eq_true rfl) ⟨Nat.le_of_ble_eq_true rfl, Nat.le_of_ble_eq_true rfl⟩ ⟨Nat.le_refl 0, Nat.le_refl 0⟩ dX6_chance_33 (fun H locs hS => ?_)
        refine lv_aload_n E.1 hb dX6_chance_36 rfl (lv_at hl 0 rfl) ?_
        refine m_gI (k := 48) E hb hS rfl fl_48 dX6_chance_37 ?_
        refine lv_icmp_ge (tgt := 78) E.1 hb dX6_chance_40 (by decide) (fun hc => ?_) (fun hc => ?_)
        · have hf := it_s hc hf
          exact hB78 k25 hk25 σ4 x1 x2 x3 hf _ _ hS _ (lv_sub hl [0, 1, 2, 3] rfl)
        · have hf := if_s hc hf
          refine lv_aload_n E.1 hb dX6_chance_43 rfl (lv_at hl 0 rfl) ?_
          obtain ⟨r9, h1, hf⟩ := bo_s hf
          refine m_cVi E hb hml hl.1 hS (cmf_beingMany h1) gw_beingMany gn_beingMany rfl rfl (Nat.le_of_ble_eq_true rfl) ⟨Nat.le_of_ble_eq_true rfl, Nat.le_of_ble_eq_true rfl⟩ ⟨Nat.le_refl 0, Nat.le_refl 0⟩ dX6_chance_44 (fun H locs hS => ?_)
          refine lv_if_le (tgt := 78) E.1 hb dX6_chance_47 (by decide) (fun hc => ?_) (fun hc => ?_)
          · have hf := it_s hc hf
            exact hB78 k25 hk25 σ4 x1 x2 x3 hf _ _ hS _ (lv_sub hl [0, 1, 2, 3] rfl)
          · have hf := if_s hc hf
            refine lv_aload_n E.1 hb dX6_chance_50 rfl (lv_at hl 0 rfl) ?_
            refine lv_aload_n E.1 hb dX6_chance_51 rfl (lv_at hl 0 rfl) ?_
            obtain ⟨r10, h1, hf⟩ := bo_s hf
            refine m_cVi E hb hml hl.1 hS (cmf_beingMany h1) gw_beingMany gn_beingMany rfl rfl (Nat.le_of_ble_eq_true rfl) ⟨Nat.le_of_ble_eq_true rfl, Nat.le_of_ble_eq_true rfl⟩ ⟨Nat.le_refl 0, Nat.le_refl 0⟩ dX6_chance_52 (fun H locs hS => ?_)
            obtain ⟨r11, σ12, h1, hf⟩ := bd_s hf
            refine m_cVi E hb hml hl.1 hS (cmf_drawOf h1) gw_drawOf gn_drawOf rfl rfl (Nat.le_of_ble_eq_true rfl) ⟨Nat.le_of_ble_eq_true rfl, Nat.le_of_ble_eq_true rfl⟩ ⟨Nat.le_refl 0, Nat.le_refl 0⟩ dX6_chance_55 (fun H locs hS => ?_)
            refine lv_istore (lv' := [(4, .int r11), (0, .ref o), (1, .int x1), (2, .int x2), (3, .int x3)]) E.1 hb dX6_chance_58 hl (by decide) rfl (fun ls hl => ?_)
            refine lv_aload_n E.1 hb dX6_chance_60 rfl (lv_at hl 1 rfl) ?_
            refine lv_iload E.1 hb dX6_chance_61 (lv_at hl 0 rfl) ?_
            refine lv_aload_n E.1 hb dX6_chance_63 rfl (lv_at hl 1 rfl) ?_
            refine lv_iload E.1 hb dX6_chance_64 (lv_at hl 0 rfl) ?_
            obtain ⟨r13, h1, hf⟩ := bo_s hf
            refine m_cVi E hb hml hl.1 hS (cmf_purseOf h1) gw_purseOf gn_purseOf rfl rfl (Nat.le_of_ble_eq_true rfl) ⟨Nat.le_of_ble_eq_true rfl, Nat.le_of_ble_eq_true rfl⟩ ⟨Nat.le_refl 0, Nat.le_refl 0⟩ dX6_chance_66 (fun H locs hS => ?_)
            refine lv_iconst (v := 2) E.1 hb dX6_chance_69 rfl ?_
            refine lv_idiv E.1 hb dX6_chance_70 (by decide) ?_
            refine lv_i2l E.1 hb dX6_chance_71 rfl ?_
            obtain ⟨_, σ14, h1, hf⟩ := bd_s hf
            refine m_cVv E hb hml hl.1 hS (cmf_purseIs h1) gw_purseIs gn_purseIs rfl rfl (Nat.le_of_ble_eq_true rfl) ⟨Nat.le_of_ble_eq_true rfl, Nat.le_of_ble_eq_true rfl⟩ ⟨Nat.le_refl 0, Nat.le_refl 0⟩ dX6_chance_72 (fun H locs hS => ?_)
            refine lv_iinc (v := (x2 + 1)) (lv' := [(2, .int (x2 + 1)), (4, .int r11), (0, .ref o), (1, .int x1), (3, .int x3)]) E.1 hb dX6_chance_75 hl (k := 3) rfl rfl (by decide) rfl (fun ls hl => ?_)
            exact hB78 k25 hk25 σ14 x1 (x2 + 1) x3 hf _ _ hS _ (lv_sub hl [2, 3, 0, 4] rfl)
  unfold M_chance at hf
  refine lv_aload_n E.1 hb dX6_chance_0 rfl (lv_at hl 0 rfl) ?_
  refine lv_iload_n E.1 hb dX6_chance_1 rfl (lv_at hl 1 rfl) ?_
  refine lv_iconst (v := 1) E.1 hb dX6_chance_2 rfl ?_
  refine lv_bipush (v := 100) E.1 hb dX6_chance_3 rfl ?_
  obtain ⟨r1, h1, hf⟩ := bo_s hf
  refine m_cVi E hb hml hl.1 hS (cmf_isAhead h1) gw_isAhead gn_isAhead rfl rfl (Nat.le_of_ble_eq_true rfl) ⟨Nat.le_of_ble_eq_true rfl, Nat.le_of_ble_eq_true rfl⟩ ⟨Nat.le_refl 0, Nat.le_refl 0⟩ dX6_chance_5 (fun H locs hS => ?_)
  refine lv_if_ne (tgt := 17) E.1 hb dX6_chance_8 (by decide) (fun hc => ?_) (fun hc => ?_)
  · have hf := if_s hc hf
    refine lv_aload_n E.1 hb dX6_chance_17 rfl (lv_at hl 0 rfl) ?_
    obtain ⟨_, σ2, h1, hf⟩ := bd_s hf
    refine m_cVv E hb hml hl.1 hS (cmf_keeps h1) gw_keeps gn_keeps rfl rfl (Nat.le_of_ble_eq_true rfl) ⟨Nat.le_of_ble_eq_true rfl, Nat.le_of_ble_eq_true rfl⟩ ⟨Nat.le_refl 0, Nat.le_refl 0⟩ dX6_chance_18 (fun H locs hS => ?_)
    refine lv_iconst (v := 0) E.1 hb dX6_chance_21 rfl ?_
    refine lv_istore_n (lv' := [(2, .int 0), (0, .ref o), (1, .int x1)]) E.1 hb dX6_chance_22 rfl hl (by decide) rfl (fun ls hl => ?_)
    refine lv_iconst (v := 0) E.1 hb dX6_chance_23 rfl ?_
    refine lv_istore_n (lv' := [(3, .int 0), (2, .int 0), (0, .ref o), (1, .int x1)]) E.1 hb dX6_chance_24 rfl hl (by decide) rfl (fun ls hl => ?_)
    exact hL25 N σ2 x1 0 0 hf _ _ hS _ (lv_sub hl [2, 3, 1, 0] rfl)
  · have hf := it_s hc hf
    refine lv_aload_n E.1 hb dX6_chance_11 rfl (lv_at hl 0 rfl) ?_
    refine lv_iconst (v := 3) E.1 hb dX6_chance_12 rfl ?_
    obtain ⟨r15, σ16, h1, hf⟩ := bd_s hf
    refine m_cVi E hb hml hl.1 hS (cmf_refuses h1) gw_refuses gn_refuses rfl rfl (Nat.le_of_ble_eq_true rfl) ⟨Nat.le_of_ble_eq_true rfl, Nat.le_of_ble_eq_true rfl⟩ ⟨Nat.le_refl 0, Nat.le_refl 0⟩ dX6_chance_13 (fun H locs hS => ?_)
    exact m_ir E hb hr hlk hS hf dX6_chance_16
/-! qOf(IJI)J: RO -/
noncomputable def M_qOf (σ : mSt) (x1 : Int32) (x2 : Int64) (x4 : Int32) : Option Int64 :=
  bo (M_beingMany σ) fun r1 => bo (M_isIn x2 0 (Int32.toInt64 (r1 - 1))) fun r2 => if r2 = 0 then (some 0) else (if x2 = (Int32.toInt64 x4) then (some 0) else (bo (M_doMeet σ x4 (Int64.toInt32 x2) (σ.1 59 0)) fun r3 => if r3 = 0 then (some 0) else (some 1)))
theorem gw_qOf : GoodIn lw_all (wsV RX6 644 RX6 yX6_qOf (ws_ yX6_qOf cX6_qOf 5 (some .long))) := lw_V q2483 q2485 qs144 q164 q2486
theorem gn_qOf : yX6_qOf.cls = RX6 ∧ yX6_qOf.cls ≠ "java/lang/invoke/MethodHandle" ∧ yX6_qOf.cls ≠ "java/lang/invoke/VarHandle" ∧ (parseMethodDescriptor yX6_qOf.desc).map (fun d => d.parameters.length) = some 3 := by decide +kernel
abbrev rM_qOf : Room := { frames := 3, cells := 0, slots := 0, locals := 68 }
set_option maxHeartbeats 4000000 in
theorem cmf_qOf {l : Launch} {dC : Nat → ClassId} {dI : Nat → Nat → Nat} {ac : Nat → ClassId} {o : Nat} {ad : Nat → Nat} {σ : mSt} {x1 : Int32} {x2 : Int64} {x4 : Int32} {r : Int64} (hf : M_qOf σ x1 x2 x4 = some r) : Met l yX6_qOf (ws_ yX6_qOf cX6_qOf 5 (some .long)) { frames := 3, cells := 0, slots := 0, locals := 68 } (va_Pc [.ref o, .int x1, .long x2, .int x4] (mPre dC dI ac o ad σ)) (mQl dC dI ac o ad r σ) 0 0 (mF o ad) := by
  refine m_of (by decide) rfl (Nat.le_of_ble_eq_true rfl) ?_
  intro p e s m args below meth c E hb hr hlk hml hS ls hl
  have hl : lv_has ls 5 [(0, .ref o), (1, .int x1), (2, .long x2), (4, .int x4)] := hl
  unfold M_qOf at hf
  refine lv_iload_n E.1 hb dX6_qOf_0 rfl (lv_at hl 1 rfl) ?_
  refine lv_lookup (off := 11) (tgt := 12) E.1 hb dX6_qOf_1 rfl rfl (by decide) ?_
  refine lv_lload_n E.1 hb dX6_qOf_12 rfl (lv_at hl 2 rfl) ?_
  refine lv_lconst (v := 0) E.1 hb dX6_qOf_13 rfl ?_
  refine lv_aload_n E.1 hb dX6_qOf_14 rfl (lv_at hl 0 rfl) ?_
  obtain ⟨r1, h1, hf⟩ := bo_s hf
  refine m_cVi E hb hml hl.1 hS (cmf_beingMany h1) gw_beingMany gn_beingMany rfl rfl (Nat.le_of_ble_eq_true rfl) ⟨Nat.le_of_ble_eq_true rfl, Nat.le_of_ble_eq_true rfl⟩ ⟨Nat.le_refl 0, Nat.le_refl 0⟩ dX6_qOf_15 (fun H locs hS => ?_)
  refine lv_iconst (v := 1) E.1 hb dX6_qOf_18 rfl ?_
  refine lv_isub E.1 hb dX6_qOf_19 ?_
  refine lv_i2l E.1 hb dX6_qOf_20 rfl ?_
  obtain ⟨r2, h1, hf⟩ := bo_s hf
  refine m_cSi E hb hml hl.1 hS (cmf_isIn h1) gw_isIn gn_isIn rfl rfl (Nat.le_of_ble_eq_true rfl) ⟨Nat.le_of_ble_eq_true rfl, Nat.le_of_ble_eq_true rfl⟩ ⟨Nat.le_refl 0, Nat.le_refl 0⟩ dX6_qOf_21 (fun H locs hS => ?_)
  refine lv_if_eq (tgt := 54) E.1 hb dX6_qOf_24 (by decide) (fun hc => ?_) (fun hc => ?_)
  · have hf := it_s hc hf
    refine lv_lconst (v := 0) E.1 hb dX6_qOf_54 rfl ?_
    exact m_lrR E hb hr hlk hS hf dX6_qOf_55
  · have hf := if_s hc hf
    refine lv_lload_n E.1 hb dX6_qOf_27 rfl (lv_at hl 2 rfl) ?_
    refine lv_iload E.1 hb dX6_qOf_28 (lv_at hl 3 rfl) ?_
    refine lv_i2l E.1 hb dX6_qOf_30 rfl ?_
    refine lv_lc_eq (tgt := 54) E.1 hb dX6_qOf_31 dX6_qOf_32 (by decide) (fun hc => ?_) (fun hc => ?_)
    · have hf := it_s hc hf
      refine lv_lconst (v := 0) E.1 hb dX6_qOf_54 rfl ?_
      exact m_lrR E hb hr hlk hS hf dX6_qOf_55
    · have hf := if_s hc hf
      refine lv_aload_n E.1 hb dX6_qOf_35 rfl (lv_at hl 0 rfl) ?_
      refine lv_iload E.1 hb dX6_qOf_36 (lv_at hl 3 rfl) ?_
      refine lv_lload_n E.1 hb dX6_qOf_38 rfl (lv_at hl 2 rfl) ?_
      refine lv_l2i E.1 hb dX6_qOf_39 rfl ?_
      refine lv_aload_n E.1 hb dX6_qOf_40 rfl (lv_at hl 0 rfl) ?_
      refine m_gI (k := 59) E hb hS rfl fl_59 dX6_qOf_41 ?_
      obtain ⟨r3, h1, hf⟩ := bo_s hf
      refine m_cVi E hb hml hl.1 hS (cmf_doMeet h1) gw_doMeet gn_doMeet rfl rfl (Nat.le_of_ble_eq_true rfl) ⟨Nat.le_of_ble_eq_true rfl, Nat.le_of_ble_eq_true rfl⟩ ⟨Nat.le_refl 0, Nat.le_refl 0⟩ dX6_qOf_44 (fun H locs hS => ?_)
      refine lv_if_eq (tgt := 54) E.1 hb dX6_qOf_47 (by decide) (fun hc => ?_) (fun hc => ?_)
      · have hf := it_s hc hf
        refine lv_lconst (v := 0) E.1 hb dX6_qOf_54 rfl ?_
        exact m_lrR E hb hr hlk hS hf dX6_qOf_55
      · have hf := if_s hc hf
        refine lv_lconst (v := 1) E.1 hb dX6_qOf_50 rfl ?_
        refine lv_goto (tgt := 55) E.1 hb dX6_qOf_51 (by decide) ?_
        exact m_lrR E hb hr hlk hS hf dX6_qOf_55
/-! qTold(I)J: RW -/
noncomputable def M_qTold_b162 (N : Nat) (k7 : mSt → Int32 → Int32 → Option (Int64 × mSt)) (σ : mSt) (x1 : Int32) (x2 : Int32) : Option (Int64 × mSt) :=
  k7 σ x1 (x2 + 1)
noncomputable def M_qTold_b7 (N : Nat) (k7 : mSt → Int32 → Int32 → Option (Int64 × mSt)) (σ : mSt) (x1 : Int32) (x2 : Int32) : Option (Int64 × mSt) :=
  if (σ.1 95 0) ≤ x2 then (bo (ldL σ 100 0) fun v2 => some (v2, σ)) else (bo (ld 2 σ 94 x2) fun v3 => if v3 < 1000 then (if v3 < 60 then (if v3 < 40 then (if v3 = 13 then (bd (M_qPuts σ 1) fun _ σ7 => M_qTold_b162 N k7 σ7 x1 x2) else (if v3 = 12 then (bo (ldL σ 100 ((σ.1 101 0) - 1)) fun v5 => bo (stL σ 100 ((σ.1 101 0) - 1) (1 - v5)) fun σ6 => M_qTold_b162 N k7 σ6 x1 x2) else (bd (M_qJoins σ v3) fun _ σ4 => M_qTold_b162 N k7 σ4 x1 x2))) else (bo (M_qPartOf σ (v3 - 40) x1) fun r8 => bo (M_qClip r8) fun r9 => bd (M_qPuts σ r9) fun _ σ10 => M_qTold_b162 N k7 σ10 x1 x2)) else (bo (ldL σ 100 ((σ.1 101 0) - 1)) fun v11 => bo (M_qOf σ (v3 - 60) v11 x1) fun r12 => bo (M_qClip r12) fun r13 => bo (stL σ 100 ((σ.1 101 0) - 1) r13) fun σ14 => M_qTold_b162 N k7 σ14 x1 x2)) else (bd (M_qPuts σ (Int32.toInt64 (v3 - 1000))) fun _ σ15 => M_qTold_b162 N k7 σ15 x1 x2))
noncomputable def M_qTold (N : Nat) (σ : mSt) (x1 : Int32) : Option (Int64 × mSt) :=
  lt2 (mUI σ 101 0 0) fun σ1 => rn3 (M_qTold_b7 N) N σ1 x1 0
theorem gw_qTold : GoodIn lw_all (wsV RX6 659 RX6 yX6_qTold (ws_ yX6_qTold cX6_qTold 4 (some .long))) := lw_V q2479 q2481 qs143 q164 q2482
theorem gn_qTold : yX6_qTold.cls = RX6 ∧ yX6_qTold.cls ≠ "java/lang/invoke/MethodHandle" ∧ yX6_qTold.cls ≠ "java/lang/invoke/VarHandle" ∧ (parseMethodDescriptor yX6_qTold.desc).map (fun d => d.parameters.length) = some 1 := by decide +kernel
abbrev rM_qTold : Room := { frames := 4, cells := 0, slots := 0, locals := 92 }
set_option maxHeartbeats 4000000 in
theorem cmf_qTold {l : Launch} {dC : Nat → ClassId} {dI : Nat → Nat → Nat} {ac : Nat → ClassId} {o : Nat} {ad : Nat → Nat} {N : Nat} {σ : mSt} {x1 : Int32} {r : Int64} {σ' : mSt} (hf : M_qTold N σ x1 = some (r, σ')) : Met l yX6_qTold (ws_ yX6_qTold cX6_qTold 4 (some .long)) { frames := 4, cells := 0, slots := 0, locals := 92 } (va_Pc [.ref o, .int x1] (mPre dC dI ac o ad σ)) (mQl dC dI ac o ad r σ') 0 0 (mF o ad) := by
  refine m_of (by decide) rfl (Nat.le_of_ble_eq_true rfl) ?_
  intro p e s m args below meth c E hb hr hlk hml hS ls hl
  have hl : lv_has ls 4 [(0, .ref o), (1, .int x1)] := hl
  have hB162 : ∀ (k7 : mSt → Int32 → Int32 → Option (Int64 × mSt)) (hk7 : ∀ (σ : mSt) (x1 : Int32) (x2 : Int32), k7 σ x1 x2 = some (r, σ') → ∀ (H : Heap) (locs : List Loc), mS dC dI ac o ad s.heap σ H locs → ∀ (ls : Array Slot), lv_has ls 4 [(0, .ref o), (1, .int x1), (2, .int x2)] → W p l e rM_qTold s m args below meth c H locs 0 0 (MQ below (mQl dC dI ac o ad r σ') args s 0 0 (mF o ad)) (F0 m 7 ls [])) (σ : mSt) (x1 : Int32) (x2 : Int32), M_qTold_b162 N k7 σ x1 x2 = some (r, σ') → ∀ (H : Heap) (locs : List Loc), mS dC dI ac o ad s.heap σ H locs → ∀ (ls : Array Slot), lv_has ls 4 [(0, .ref o), (1, .int x1), (2, .int x2)] → W p l e rM_qTold s m args below meth c H locs 0 0 (MQ below (mQl dC dI ac o ad r σ') args s 0 0 (mF o ad)) (F0 m 162 ls []) := by
    intro k7 hk7 σ x1 x2 hf H locs hS ls hl
    unfold M_qTold_b162 at hf
    refine lv_iinc (v := (x2 + 1)) (lv' := [(2, .int (x2 + 1)), (0, .ref o), (1, .int x1)]) E.1 hb dX6_qTold_162 hl (k := 2) rfl rfl (by decide) rfl (fun ls hl => ?_)
    refine lv_goto (tgt := 7) E.1 hb dX6_qTold_165 (by decide) ?_
    exact hk7 σ x1 (x2 + 1) hf _ _ hS _ (lv_sub hl [1, 2, 0] rfl)
  have hL7 : ∀ (n : Nat) (σ : mSt) (x1 : Int32) (x2 : Int32), rn3 (M_qTold_b7 N) n σ x1 x2 = some (r, σ') → ∀ (H : Heap) (locs : List Loc), mS dC dI ac o ad s.heap σ H locs → ∀ (ls : Array Slot), lv_has ls 4 [(0, .ref o), (1, .int x1), (2, .int x2)] → W p l e rM_qTold s m args below meth c H locs 0 0 (MQ below (mQl dC dI ac o ad r σ') args s 0 0 (mF o ad)) (F0 m 7 ls []) := by
    intro  n
    induction n with
    | zero =>
      intro σ x1 x2 hf
      cases hf
    | succ n ih =>
      intro σ x1 x2 hf H locs hS ls hl
      have hf : M_qTold_b7 N (rn3 (M_qTold_b7 N) n) σ x1 x2 = some (r, σ') := hf
      have hk7 := ih
      generalize rn3 (M_qTold_b7 N) n = k7 at hf hk7
      unfold M_qTold_b7 at hf
      refine lv_iload_n E.1 hb dX6_qTold_7 rfl (lv_at hl 2 rfl) ?_
      refine lv_aload_n E.1 hb dX6_qTold_8 rfl (lv_at hl 0 rfl) ?_
      refine m_gI (k := 95) E hb hS rfl fl_95 dX6_qTold_9 ?_
      refine lv_icmp_ge (tgt := 168) E.1 hb dX6_qTold_12 (by decide) (fun hc => ?_) (fun hc => ?_)
      · have hf := it_s hc hf
        refine lv_aload_n E.1 hb dX6_qTold_168 rfl (lv_at hl 0 rfl) ?_
        refine m_gA (k := 100) E hb hS 3 rfl (by decide) fl_100 dX6_qTold_169 ?_
        refine lv_iconst (v := 0) E.1 hb dX6_qTold_172 rfl ?_
        obtain ⟨hg, hf⟩ := ldL_s hf
        refine m_lld E hb hS hg dX6_qTold_173 ?_
        exact m_lr E hb hr hlk hS hf dX6_qTold_174
      · have hf := if_s hc hf
        refine lv_aload_n E.1 hb dX6_qTold_15 rfl (lv_at hl 0 rfl) ?_
        refine m_gA (k := 94) E hb hS 2 rfl (by decide) fl_94 dX6_qTold_16 ?_
        refine lv_iload_n E.1 hb dX6_qTold_19 rfl (lv_at hl 2 rfl) ?_
        obtain ⟨hg, hf⟩ := ld_s hf
        refine m_ild E hb hS hg dX6_qTold_20 ?_
        refine lv_istore_n (lv' := [(3, .int (σ.1 94 x2.toNatClampNeg)), (0, .ref o), (1, .int x1), (2, .int x2)]) E.1 hb dX6_qTold_21 rfl hl (by decide) rfl (fun ls hl => ?_)
        refine lv_iload_n E.1 hb dX6_qTold_22 rfl (lv_at hl 0 rfl) ?_
        refine lv_sipush (v := 1000) E.1 hb dX6_qTold_23 rfl ?_
        refine lv_icmp_lt (tgt := 42) E.1 hb dX6_qTold_26 (by decide) (fun hc => ?_) (fun hc => ?_)
        · have hf := it_s hc hf
          refine lv_iload_n E.1 hb dX6_qTold_42 rfl (lv_at hl 0 rfl) ?_
          refine lv_bipush (v := 60) E.1 hb dX6_qTold_43 rfl ?_
          refine lv_icmp_lt (tgt := 85) E.1 hb dX6_qTold_45 (by decide) (fun hc => ?_) (fun hc => ?_)
          · have hf := it_s hc hf
            refine lv_iload_n E.1 hb dX6_qTold_85 rfl (lv_at hl 0 rfl) ?_
            refine lv_bipush (v := 40) E.1 hb dX6_qTold_86 rfl ?_
            refine lv_icmp_lt (tgt := 110) E.1 hb dX6_qTold_88 (by decide) (fun hc => ?_) (fun hc => ?_)
            · have hf := it_s hc hf
              refine lv_iload_n E.1 hb dX6_qTold_110 rfl (lv_at hl 0 rfl) ?_
              refine lv_bipush (v := 13) E.1 hb dX6_qTold_111 rfl ?_
              refine lv_icmp_ne (tgt := 124) E.1 hb dX6_qTold_113 (by decide) (fun hc => ?_) (fun hc => ?_)
              · have hf := if_s hc hf
                refine lv_iload_n E.1 hb dX6_qTold_124 rfl (lv_at hl 0 rfl) ?_
                refine lv_bipush (v := 12) E.1 hb dX6_qTold_125 rfl ?_
                refine lv_icmp_ne (tgt := 157) E.1 hb dX6_qTold_127 (by decide) (fun hc => ?_) (fun hc => ?_)
                · have hf := if_s hc hf
                  refine lv_aload_n E.1 hb dX6_qTold_157 rfl (lv_at hl 1 rfl) ?_
                  refine lv_iload_n E.1 hb dX6_qTold_158 rfl (lv_at hl 0 rfl) ?_
                  obtain ⟨_, σ4, h1, hf⟩ := bd_s hf
                  refine m_cVv E hb hml hl.1 hS (cmf_qJoins h1) gw_qJoins gn_qJoins rfl rfl (Nat.le_of_ble_eq_true rfl) ⟨Nat.le_of_ble_eq_true rfl, Nat.le_of_ble_eq_true rfl⟩ ⟨Nat.le_refl 0, Nat.le_refl 0⟩ dX6_qTold_159 (fun H locs hS => ?_)
                  exact hB162 k7 hk7 σ4 x1 x2 hf _ _ hS _ (lv_sub hl [1, 2, 3] rfl)
                · have hf := it_s hc hf
                  refine lv_aload_n E.1 hb dX6_qTold_130 rfl (lv_at hl 1 rfl) ?_
                  refine m_gA (k := 100) E hb hS 3 rfl (by decide) fl_100 dX6_qTold_131 ?_
                  refine lv_aload_n E.1 hb dX6_qTold_134 rfl (lv_at hl 1 rfl) ?_
                  refine m_gI (k := 101) E hb hS rfl fl_101 dX6_qTold_135 ?_
                  refine lv_iconst (v := 1) E.1 hb dX6_qTold_138 rfl ?_
                  refine lv_isub E.1 hb dX6_qTold_139 ?_
                  refine lv_lconst (v := 1) E.1 hb dX6_qTold_140 rfl ?_
                  refine lv_aload_n E.1 hb dX6_qTold_141 rfl (lv_at hl 1 rfl) ?_
                  refine m_gA (k := 100) E hb hS 3 rfl (by decide) fl_100 dX6_qTold_142 ?_
                  refine lv_aload_n E.1 hb dX6_qTold_145 rfl (lv_at hl 1 rfl) ?_
                  refine m_gI (k := 101) E hb hS rfl fl_101 dX6_qTold_146 ?_
                  refine lv_iconst (v := 1) E.1 hb dX6_qTold_149 rfl ?_
                  refine lv_isub E.1 hb dX6_qTold_150 ?_
                  obtain ⟨hg, hf⟩ := ldL_s hf
                  refine m_lld E hb hS hg dX6_qTold_151 ?_
                  refine lv_lsub E.1 hb dX6_qTold_152 ?_
                  obtain ⟨σ6, hg, hw, hf⟩ := stL_s hf
                  refine m_lst E hb hS hg hw dX6_qTold_153 (fun H locs hS => ?_)
                  refine lv_goto (tgt := 162) E.1 hb dX6_qTold_154 (by decide) ?_
                  exact hB162 k7 hk7 σ6 x1 x2 hf _ _ hS _ (lv_sub hl [1, 2, 3] rfl)
              · have hf := it_s hc hf
                refine lv_aload_n E.1 hb dX6_qTold_116 rfl (lv_at hl 1 rfl) ?_
                refine lv_lconst (v := 1) E.1 hb dX6_qTold_117 rfl ?_
                obtain ⟨_, σ7, h1, hf⟩ := bd_s hf
                refine m_cVv E hb hml hl.1 hS (cmf_qPuts h1) gw_qPuts gn_qPuts rfl rfl (Nat.le_of_ble_eq_true rfl) ⟨Nat.le_of_ble_eq_true rfl, Nat.le_of_ble_eq_true rfl⟩ ⟨Nat.le_refl 0, Nat.le_refl 0⟩ dX6_qTold_118 (fun H locs hS => ?_)
                refine lv_goto (tgt := 162) E.1 hb dX6_qTold_121 (by decide) ?_
                exact hB162 k7 hk7 σ7 x1 x2 hf _ _ hS _ (lv_sub hl [1, 2, 3] rfl)
            · have hf := if_s hc hf
              refine lv_aload_n E.1 hb dX6_qTold_91 rfl (lv_at hl 1 rfl) ?_
              refine lv_aload_n E.1 hb dX6_qTold_92 rfl (lv_at hl 1 rfl) ?_
              refine lv_iload_n E.1 hb dX6_qTold_93 rfl (lv_at hl 0 rfl) ?_
              refine lv_bipush (v := 40) E.1 hb dX6_qTold_94 rfl ?_
              refine lv_isub E.1 hb dX6_qTold_96 ?_
              refine lv_iload_n E.1 hb dX6_qTold_97 rfl (lv_at hl 2 rfl) ?_
              obtain ⟨r8, h1, hf⟩ := bo_s hf
              refine m_cVl E hb hml hl.1 hS (cmf_qPartOf h1) gw_qPartOf gn_qPartOf rfl rfl (Nat.le_of_ble_eq_true rfl) ⟨Nat.le_of_ble_eq_true rfl, Nat.le_of_ble_eq_true rfl⟩ ⟨Nat.le_refl 0, Nat.le_refl 0⟩ dX6_qTold_98 (fun H locs hS => ?_)
              obtain ⟨r9, h1, hf⟩ := bo_s hf
              refine m_cSl E hb hml hl.1 hS (cmf_qClip h1) gw_qClip gn_qClip rfl rfl (Nat.le_of_ble_eq_true rfl) ⟨Nat.le_of_ble_eq_true rfl, Nat.le_of_ble_eq_true rfl⟩ ⟨Nat.le_refl 0, Nat.le_refl 0⟩ dX6_qTold_101 (fun H locs hS => ?_)
              obtain ⟨_, σ10, h1, hf⟩ := bd_s hf
              refine m_cVv E hb hml hl.1 hS (cmf_qPuts h1) gw_qPuts gn_qPuts rfl rfl (Nat.le_of_ble_eq_true rfl) ⟨Nat.le_of_ble_eq_true rfl, Nat.le_of_ble_eq_true rfl⟩ ⟨Nat.le_refl 0, Nat.le_refl 0⟩ dX6_qTold_104 (fun H locs hS => ?_)
              refine lv_goto (tgt := 162) E.1 hb dX6_qTold_107 (by decide) ?_
              exact hB162 k7 hk7 σ10 x1 x2 hf _ _ hS _ (lv_sub hl [1, 2, 3] rfl)
          · have hf := if_s hc hf
            refine lv_aload_n E.1 hb dX6_qTold_48 rfl (lv_at hl 1 rfl) ?_
            refine m_gA (k := 100) E hb hS 3 rfl (by decide) fl_100 dX6_qTold_49 ?_
            refine lv_aload_n E.1 hb dX6_qTold_52 rfl (lv_at hl 1 rfl) ?_
            refine m_gI (k := 101) E hb hS rfl fl_101 dX6_qTold_53 ?_
            refine lv_iconst (v := 1) E.1 hb dX6_qTold_56 rfl ?_
            refine lv_isub E.1 hb dX6_qTold_57 ?_
            refine lv_aload_n E.1 hb dX6_qTold_58 rfl (lv_at hl 1 rfl) ?_
            refine lv_iload_n E.1 hb dX6_qTold_59 rfl (lv_at hl 0 rfl) ?_
            refine lv_bipush (v := 60) E.1 hb dX6_qTold_60 rfl ?_
            refine lv_isub E.1 hb dX6_qTold_62 ?_
            refine lv_aload_n E.1 hb dX6_qTold_63 rfl (lv_at hl 1 rfl) ?_
            refine m_gA (k := 100) E hb hS 3 rfl (by decide) fl_100 dX6_qTold_64 ?_
            refine lv_aload_n E.1 hb dX6_qTold_67 rfl (lv_at hl 1 rfl) ?_
            refine m_gI (k := 101) E hb hS rfl fl_101 dX6_qTold_68 ?_
            refine lv_iconst (v := 1) E.1 hb dX6_qTold_71 rfl ?_
            refine lv_isub E.1 hb dX6_qTold_72 ?_
            obtain ⟨hg, hf⟩ := ldL_s hf
            refine m_lld E hb hS hg dX6_qTold_73 ?_
            refine lv_iload_n E.1 hb dX6_qTold_74 rfl (lv_at hl 2 rfl) ?_
            obtain ⟨r12, h1, hf⟩ := bo_s hf
            refine m_cVl E hb hml hl.1 hS (cmf_qOf h1) gw_qOf gn_qOf rfl rfl (Nat.le_of_ble_eq_true rfl) ⟨Nat.le_of_ble_eq_true rfl, Nat.le_of_ble_eq_true rfl⟩ ⟨Nat.le_refl 0, Nat.le_refl 0⟩ dX6_qTold_75 (fun H locs hS => ?_)
            obtain ⟨r13, h1, hf⟩ := bo_s hf
            refine m_cSl E hb hml hl.1 hS (cmf_qClip h1) gw_qClip gn_qClip rfl rfl (Nat.le_of_ble_eq_true rfl) ⟨Nat.le_of_ble_eq_true rfl, Nat.le_of_ble_eq_true rfl⟩ ⟨Nat.le_refl 0, Nat.le_refl 0⟩ dX6_qTold_78 (fun H locs hS => ?_)
            obtain ⟨σ14, hg, hw, hf⟩ := stL_s hf
            refine m_lst E hb hS hg hw dX6_qTold_81 (fun H locs hS => ?_)
            refine lv_goto (tgt := 162) E.1 hb dX6_qTold_82 (by decide) ?_
            exact hB162 k7 hk7 σ14 x1 x2 hf _ _ hS _ (lv_sub hl [1, 2, 3] rfl)
        · have hf := if_s hc hf
          refine lv_aload_n E.1 hb dX6_qTold_29 rfl (lv_at hl 1 rfl) ?_
          refine lv_iload_n E.1 hb dX6_qTold_30 rfl (lv_at hl 0 rfl) ?_
          refine lv_sipush (v := 1000) E.1 hb dX6_qTold_31 rfl ?_
          refine lv_isub E.1 hb dX6_qTold_34 ?_
          refine lv_i2l E.1 hb dX6_qTold_35 rfl ?_
          obtain ⟨_, σ15, h1, hf⟩ := bd_s hf
          refine m_cVv E hb hml hl.1 hS (cmf_qPuts h1) gw_qPuts gn_qPuts rfl rfl (Nat.le_of_ble_eq_true rfl) ⟨Nat.le_of_ble_eq_true rfl, Nat.le_of_ble_eq_true rfl⟩ ⟨Nat.le_refl 0, Nat.le_refl 0⟩ dX6_qTold_36 (fun H locs hS => ?_)
          refine lv_goto (tgt := 162) E.1 hb dX6_qTold_39 (by decide) ?_
          exact hB162 k7 hk7 σ15 x1 x2 hf _ _ hS _ (lv_sub hl [1, 2, 3] rfl)
  unfold M_qTold at hf
  refine lv_aload_n E.1 hb dX6_qTold_0 rfl (lv_at hl 0 rfl) ?_
  refine lv_iconst (v := 0) E.1 hb dX6_qTold_1 rfl ?_
  obtain ⟨σ1, hw, hf⟩ := lt2_s hf
  refine m_pI (k := 101) E hb hS rfl rfl pf_101 fl_101 hw dX6_qTold_2 (fun H locs hS => ?_)
  refine lv_iconst (v := 0) E.1 hb dX6_qTold_5 rfl ?_
  refine lv_istore_n (lv' := [(2, .int 0), (0, .ref o), (1, .int x1)]) E.1 hb dX6_qTold_6 rfl hl (by decide) rfl (fun ls hl => ?_)
  exact hL7 N σ1 x1 0 hf _ _ hS _ (lv_sub hl [1, 2, 0] rfl)
/-! qKind()I: RW -/
noncomputable def M_qKind_b76 (N : Nat) (σ : mSt) (y0 : Int32) : Option (Int32 × mSt) :=
  if y0 = 5 then (bd (M_asks N σ 77) fun _ σ11 => some (y0, σ11)) else (some (y0, σ))
noncomputable def M_qKind (N : Nat) (σ : mSt) : Option (Int32 × mSt) :=
  bd (M_takes N σ 72) fun r1 σ2 => if r1 = 0 then (bd (M_takes N σ2 73) fun r3 σ4 => if r3 = 0 then (bd (M_takes N σ4 74) fun r5 σ6 => if r5 = 0 then (bd (M_takes N σ6 75) fun r7 σ8 => if r7 = 0 then (bd (M_takes N σ8 76) fun r9 σ10 => if r9 = 0 then (M_qKind_b76 N σ10 5) else (M_qKind_b76 N σ10 4)) else (M_qKind_b76 N σ8 3)) else (M_qKind_b76 N σ6 2)) else (M_qKind_b76 N σ4 1)) else (M_qKind_b76 N σ2 0)
theorem gw_qKind : GoodIn lw_all (wsV RX6 656 RX6 yX6_qKind (ws_ yX6_qKind cX6_qKind 2 (some .int))) := lw_V q2475 q2477 qs142 q164 q2478
theorem gn_qKind : yX6_qKind.cls = RX6 ∧ yX6_qKind.cls ≠ "java/lang/invoke/MethodHandle" ∧ yX6_qKind.cls ≠ "java/lang/invoke/VarHandle" ∧ (parseMethodDescriptor yX6_qKind.desc).map (fun d => d.parameters.length) = some 0 := by decide +kernel
abbrev rM_qKind : Room := { frames := 4, cells := 0, slots := 0, locals := 85 }
set_option maxHeartbeats 4000000 in
theorem cmf_qKind {l : Launch} {dC : Nat → ClassId} {dI : Nat → Nat → Nat} {ac : Nat → ClassId} {o : Nat} {ad : Nat → Nat} {N : Nat} {σ : mSt} {r : Int32} {σ' : mSt} (hf : M_qKind N σ = some (r, σ')) : Met l yX6_qKind (ws_ yX6_qKind cX6_qKind 2 (some .int)) { frames := 4, cells := 0, slots := 0, locals := 85 } (va_Pc [.ref o] (mPre dC dI ac o ad σ)) (mQi dC dI ac o ad r σ') 0 0 (mF o ad) := by
  refine m_of (by decide) rfl (Nat.le_of_ble_eq_true rfl) ?_
  intro p e s m args below meth c E hb hr hlk hml hS ls hl
  have hl : lv_has ls 2 [(0, .ref o)] := hl
  have hB76 : ∀ (σ : mSt) (y0 : Int32), M_qKind_b76 N σ y0 = some (r, σ') → ∀ (H : Heap) (locs : List Loc), mS dC dI ac o ad s.heap σ H locs → ∀ (ls : Array Slot), lv_has ls 2 [(0, .ref o)] → W p l e rM_qKind s m args below meth c H locs 0 0 (MQ below (mQi dC dI ac o ad r σ') args s 0 0 (mF o ad)) (F0 m 76 ls [.int y0]) := by
    intro σ y0 hf H locs hS ls hl
    unfold M_qKind_b76 at hf
    refine lv_istore_n (lv' := [(1, .int y0), (0, .ref o)]) E.1 hb dX6_qKind_76 rfl hl (by decide) rfl (fun ls hl => ?_)
    refine lv_iload_n E.1 hb dX6_qKind_77 rfl (lv_at hl 0 rfl) ?_
    refine lv_iconst (v := 5) E.1 hb dX6_qKind_78 rfl ?_
    refine lv_icmp_ne (tgt := 90) E.1 hb dX6_qKind_79 (by decide) (fun hc => ?_) (fun hc => ?_)
    · have hf := if_s hc hf
      refine lv_iload_n E.1 hb dX6_qKind_90 rfl (lv_at hl 0 rfl) ?_
      exact m_ir E hb hr hlk hS hf dX6_qKind_91
    · have hf := it_s hc hf
      refine lv_aload_n E.1 hb dX6_qKind_82 rfl (lv_at hl 1 rfl) ?_
      refine lv_aload_n E.1 hb dX6_qKind_83 rfl (lv_at hl 1 rfl) ?_
      refine m_gA (k := 77) E hb hS 4 rfl (by decide) fl_77 dX6_qKind_84 ?_
      obtain ⟨_, σ11, h1, hf⟩ := bd_s hf
      refine m_cVv E hb hml hl.1 hS (cmf_asks h1) gw_asks gn_asks rfl rfl (Nat.le_of_ble_eq_true rfl) ⟨Nat.le_of_ble_eq_true rfl, Nat.le_of_ble_eq_true rfl⟩ ⟨Nat.le_refl 0, Nat.le_refl 0⟩ dX6_qKind_87 (fun H locs hS => ?_)
      refine lv_iload_n E.1 hb dX6_qKind_90 rfl (lv_at hl 0 rfl) ?_
      exact m_ir E hb hr hlk hS hf dX6_qKind_91
  unfold M_qKind at hf
  refine lv_aload_n E.1 hb dX6_qKind_0 rfl (lv_at hl 0 rfl) ?_
  refine lv_aload_n E.1 hb dX6_qKind_1 rfl (lv_at hl 0 rfl) ?_
  refine m_gA (k := 72) E hb hS 4 rfl (by decide) fl_72 dX6_qKind_2 ?_
  obtain ⟨r1, σ2, h1, hf⟩ := bd_s hf
  refine m_cVi E hb hml hl.1 hS (cmf_takes h1) gw_takes gn_takes rfl rfl (Nat.le_of_ble_eq_true rfl) ⟨Nat.le_of_ble_eq_true rfl, Nat.le_of_ble_eq_true rfl⟩ ⟨Nat.le_refl 0, Nat.le_refl 0⟩ dX6_qKind_5 (fun H locs hS => ?_)
  refine lv_if_eq (tgt := 15) E.1 hb dX6_qKind_8 (by decide) (fun hc => ?_) (fun hc => ?_)
  · have hf := it_s hc hf
    refine lv_aload_n E.1 hb dX6_qKind_15 rfl (lv_at hl 0 rfl) ?_
    refine lv_aload_n E.1 hb dX6_qKind_16 rfl (lv_at hl 0 rfl) ?_
    refine m_gA (k := 73) E hb hS 4 rfl (by decide) fl_73 dX6_qKind_17 ?_
    obtain ⟨r3, σ4, h1, hf⟩ := bd_s hf
    refine m_cVi E hb hml hl.1 hS (cmf_takes h1) gw_takes gn_takes rfl rfl (Nat.le_of_ble_eq_true rfl) ⟨Nat.le_of_ble_eq_true rfl, Nat.le_of_ble_eq_true rfl⟩ ⟨Nat.le_refl 0, Nat.le_refl 0⟩ dX6_qKind_20 (fun H locs hS => ?_)
    refine lv_if_eq (tgt := 30) E.1 hb dX6_qKind_23 (by decide) (fun hc => ?_) (fun hc => ?_)
    · have hf := it_s hc hf
      refine lv_aload_n E.1 hb dX6_qKind_30 rfl (lv_at hl 0 rfl) ?_
      refine lv_aload_n E.1 hb dX6_qKind_31 rfl (lv_at hl 0 rfl) ?_
      refine m_gA (k := 74) E hb hS 4 rfl (by decide) fl_74 dX6_qKind_32 ?_
      obtain ⟨r5, σ6, h1, hf⟩ := bd_s hf
      refine m_cVi E hb hml hl.1 hS (cmf_takes h1) gw_takes gn_takes rfl rfl (Nat.le_of_ble_eq_true rfl) ⟨Nat.le_of_ble_eq_true rfl, Nat.le_of_ble_eq_true rfl⟩ ⟨Nat.le_refl 0, Nat.le_refl 0⟩ dX6_qKind_35 (fun H locs hS => ?_)
      refine lv_if_eq (tgt := 45) E.1 hb dX6_qKind_38 (by decide) (fun hc => ?_) (fun hc => ?_)
      · have hf := it_s hc hf
        refine lv_aload_n E.1 hb dX6_qKind_45 rfl (lv_at hl 0 rfl) ?_
        refine lv_aload_n E.1 hb dX6_qKind_46 rfl (lv_at hl 0 rfl) ?_
        refine m_gA (k := 75) E hb hS 4 rfl (by decide) fl_75 dX6_qKind_47 ?_
        obtain ⟨r7, σ8, h1, hf⟩ := bd_s hf
        refine m_cVi E hb hml hl.1 hS (cmf_takes h1) gw_takes gn_takes rfl rfl (Nat.le_of_ble_eq_true rfl) ⟨Nat.le_of_ble_eq_true rfl, Nat.le_of_ble_eq_true rfl⟩ ⟨Nat.le_refl 0, Nat.le_refl 0⟩ dX6_qKind_50 (fun H locs hS => ?_)
        refine lv_if_eq (tgt := 60) E.1 hb dX6_qKind_53 (by decide) (fun hc => ?_) (fun hc => ?_)
        · have hf := it_s hc hf
          refine lv_aload_n E.1 hb dX6_qKind_60 rfl (lv_at hl 0 rfl) ?_
          refine lv_aload_n E.1 hb dX6_qKind_61 rfl (lv_at hl 0 rfl) ?_
          refine m_gA (k := 76) E hb hS 4 rfl (by decide) fl_76 dX6_qKind_62 ?_
          obtain ⟨r9, σ10, h1, hf⟩ := bd_s hf
          refine m_cVi E hb hml hl.1 hS (cmf_takes h1) gw_takes gn_takes rfl rfl (Nat.le_of_ble_eq_true rfl) ⟨Nat.le_of_ble_eq_true rfl, Nat.le_of_ble_eq_true rfl⟩ ⟨Nat.le_refl 0, Nat.le_refl 0⟩ dX6_qKind_65 (fun H locs hS => ?_)
          refine lv_if_eq (tgt := 75) E.1 hb dX6_qKind_68 (by decide) (fun hc => ?_) (fun hc => ?_)
          · have hf := it_s hc hf
            refine lv_iconst (v := 5) E.1 hb dX6_qKind_75 rfl ?_
            exact hB76 σ10 5 hf _ _ hS _ (lv_sub hl [0] rfl)
          · have hf := if_s hc hf
            refine lv_iconst (v := 4) E.1 hb dX6_qKind_71 rfl ?_
            refine lv_goto (tgt := 76) E.1 hb dX6_qKind_72 (by decide) ?_
            exact hB76 σ10 4 hf _ _ hS _ (lv_sub hl [0] rfl)
        · have hf := if_s hc hf
          refine lv_iconst (v := 3) E.1 hb dX6_qKind_56 rfl ?_
          refine lv_goto (tgt := 76) E.1 hb dX6_qKind_57 (by decide) ?_
          exact hB76 σ8 3 hf _ _ hS _ (lv_sub hl [0] rfl)
      · have hf := if_s hc hf
        refine lv_iconst (v := 2) E.1 hb dX6_qKind_41 rfl ?_
        refine lv_goto (tgt := 76) E.1 hb dX6_qKind_42 (by decide) ?_
        exact hB76 σ6 2 hf _ _ hS _ (lv_sub hl [0] rfl)
    · have hf := if_s hc hf
      refine lv_iconst (v := 1) E.1 hb dX6_qKind_26 rfl ?_
      refine lv_goto (tgt := 76) E.1 hb dX6_qKind_27 (by decide) ?_
      exact hB76 σ4 1 hf _ _ hS _ (lv_sub hl [0] rfl)
  · have hf := if_s hc hf
    refine lv_iconst (v := 0) E.1 hb dX6_qKind_11 rfl ?_
    refine lv_goto (tgt := 76) E.1 hb dX6_qKind_12 (by decide) ?_
    exact hB76 σ2 0 hf _ _ hS _ (lv_sub hl [0] rfl)
/-! qTakes(IJI)V: RW -/
noncomputable def M_qTakes_b133 (σ : mSt) : Option (Unit × mSt) :=
  lt2 (mUI σ 103 0 0) fun σ1 => some ((), σ1)
noncomputable def M_qTakes_b128 (σ : mSt) (x2 : Int64) : Option (Unit × mSt) :=
  lt2 (mUJ σ 102 0 x2) fun σ2 => M_qTakes_b133 σ2
noncomputable def M_qTakes_b90 (σ : mSt) (x1 : Int32) (x2 : Int64) : Option (Unit × mSt) :=
  if x1 ≤ 3 then (M_qTakes_b133 σ) else (if (σ.1 103 0) = 0 then (if x1 = 4 then (if x2 ≤ (σ.2 102 0) then (M_qTakes_b133 σ) else (M_qTakes_b128 σ x2)) else (if (σ.2 102 0) ≤ x2 then (M_qTakes_b133 σ) else (M_qTakes_b128 σ x2))) else (M_qTakes_b128 σ x2))
noncomputable def M_qTakes_b75 (σ : mSt) (x1 : Int32) (x2 : Int64) : Option (Unit × mSt) :=
  if x1 = 3 then (lt2 (mUJ σ 102 0 ((σ.2 102 0) + x2)) fun σ3 => M_qTakes_b90 σ3 x1 x2) else (M_qTakes_b90 σ x1 x2)
noncomputable def M_qTakes_b55 (σ : mSt) (x1 : Int32) (x2 : Int64) (x5 : Int32) : Option (Unit × mSt) :=
  if x1 = 2 then (if x5 = 0 then (M_qTakes_b75 σ x1 x2) else (lt2 (mUJ σ 102 0 ((σ.2 102 0) + 1)) fun σ4 => M_qTakes_b75 σ4 x1 x2)) else (M_qTakes_b75 σ x1 x2)
noncomputable def M_qTakes_b48 (σ : mSt) (x1 : Int32) (x2 : Int64) (x4 : Int32) (x5 : Int32) : Option (Unit × mSt) :=
  lt2 (mUJ σ 102 0 (Int32.toInt64 x4)) fun σ5 => M_qTakes_b55 σ5 x1 x2 x5
noncomputable def M_qTakes_b38 (σ : mSt) (x1 : Int32) (x2 : Int64) (x4 : Int32) (x5 : Int32) : Option (Unit × mSt) :=
  if x1 = 1 then (if x5 = 0 then (M_qTakes_b55 σ x1 x2 x5) else (M_qTakes_b48 σ x1 x2 x4 x5)) else (M_qTakes_b55 σ x1 x2 x5)
noncomputable def M_qTakes_b16 (σ : mSt) (x1 : Int32) (x2 : Int64) (x4 : Int32) (y0 : Int32) : Option (Unit × mSt) :=
  if x1 = 0 then (if y0 = 0 then (M_qTakes_b38 σ x1 x2 x4 y0) else (if (σ.2 102 0) = (-1) then (M_qTakes_b48 σ x1 x2 x4 y0) else (M_qTakes_b38 σ x1 x2 x4 y0))) else (M_qTakes_b38 σ x1 x2 x4 y0)
noncomputable def M_qTakes_b15 (σ : mSt) (x1 : Int32) (x2 : Int64) (x4 : Int32) : Option (Unit × mSt) :=
  M_qTakes_b16 σ x1 x2 x4 0
noncomputable def M_qTakes (σ : mSt) (x1 : Int32) (x2 : Int64) (x4 : Int32) : Option (Unit × mSt) :=
  if 3 ≤ x1 then (M_qTakes_b15 σ x1 x2 x4) else (if x2 = 1 then (M_qTakes_b16 σ x1 x2 x4 1) else (M_qTakes_b15 σ x1 x2 x4))
theorem gw_qTakes : GoodIn lw_all (wsV RX6 663 RX6 yX6_qTakes (ws_ yX6_qTakes cX6_qTakes 6 none)) := lw_V q2487 q2489 qs145 q164 q2490
theorem gn_qTakes : yX6_qTakes.cls = RX6 ∧ yX6_qTakes.cls ≠ "java/lang/invoke/MethodHandle" ∧ yX6_qTakes.cls ≠ "java/lang/invoke/VarHandle" ∧ (parseMethodDescriptor yX6_qTakes.desc).map (fun d => d.parameters.length) = some 3 := by decide +kernel
abbrev rM_qTakes : Room := { frames := 0, cells := 0, slots := 0, locals := 0 }
set_option maxHeartbeats 4000000 in
theorem cmf_qTakes {l : Launch} {dC : Nat → ClassId} {dI : Nat → Nat → Nat} {ac : Nat → ClassId} {o : Nat} {ad : Nat → Nat} {σ : mSt} {x1 : Int32} {x2 : Int64} {x4 : Int32} {σ' : mSt} (hf : M_qTakes σ x1 x2 x4 = some ((), σ')) : Met l yX6_qTakes (ws_ yX6_qTakes cX6_qTakes 6 none) { frames := 0, cells := 0, slots := 0, locals := 0 } (va_Pc [.ref o, .int x1, .long x2, .int x4] (mPre dC dI ac o ad σ)) (mQv dC dI ac o ad σ') 0 0 (mF o ad) := by
  refine m_of (by decide) rfl (Nat.le_of_ble_eq_true rfl) ?_
  intro p e s m args below meth c E hb hr hlk hml hS ls hl
  have hl : lv_has ls 6 [(0, .ref o), (1, .int x1), (2, .long x2), (4, .int x4)] := hl
  have hB133 : ∀ (σ : mSt), M_qTakes_b133 σ = some ((), σ') → ∀ (H : Heap) (locs : List Loc), mS dC dI ac o ad s.heap σ H locs → ∀ (ls : Array Slot), lv_has ls 6 [(0, .ref o)] → W p l e rM_qTakes s m args below meth c H locs 0 0 (MQ below (mQv dC dI ac o ad σ') args s 0 0 (mF o ad)) (F0 m 133 ls []) := by
    intro σ hf H locs hS ls hl
    unfold M_qTakes_b133 at hf
    refine lv_aload_n E.1 hb dX6_qTakes_133 rfl (lv_at hl 0 rfl) ?_
    refine lv_iconst (v := 0) E.1 hb dX6_qTakes_134 rfl ?_
    obtain ⟨σ1, hw, hf⟩ := lt2_s hf
    refine m_pZ (k := 103) E hb hS rfl rfl pz_103 fl_103 rfl rfl hw dX6_qTakes_135 (fun H locs hS => ?_)
    exact m_vr E hb hr hlk hS hf dX6_qTakes_138
  have hB128 : ∀ (σ : mSt) (x2 : Int64), M_qTakes_b128 σ x2 = some ((), σ') → ∀ (H : Heap) (locs : List Loc), mS dC dI ac o ad s.heap σ H locs → ∀ (ls : Array Slot), lv_has ls 6 [(0, .ref o), (2, .long x2)] → W p l e rM_qTakes s m args below meth c H locs 0 0 (MQ below (mQv dC dI ac o ad σ') args s 0 0 (mF o ad)) (F0 m 128 ls []) := by
    intro σ x2 hf H locs hS ls hl
    unfold M_qTakes_b128 at hf
    refine lv_aload_n E.1 hb dX6_qTakes_128 rfl (lv_at hl 0 rfl) ?_
    refine lv_lload_n E.1 hb dX6_qTakes_129 rfl (lv_at hl 1 rfl) ?_
    obtain ⟨σ2, hw, hf⟩ := lt2_s hf
    refine m_pJ (k := 102) E hb hS rfl rfl pf_102 fl_102 hw dX6_qTakes_130 (fun H locs hS => ?_)
    exact hB133 σ2 hf _ _ hS _ (lv_sub hl [0] rfl)
  have hB90 : ∀ (σ : mSt) (x1 : Int32) (x2 : Int64), M_qTakes_b90 σ x1 x2 = some ((), σ') → ∀ (H : Heap) (locs : List Loc), mS dC dI ac o ad s.heap σ H locs → ∀ (ls : Array Slot), lv_has ls 6 [(0, .ref o), (1, .int x1), (2, .long x2)] → W p l e rM_qTakes s m args below meth c H locs 0 0 (MQ below (mQv dC dI ac o ad σ') args s 0 0 (mF o ad)) (F0 m 90 ls []) := by
    intro σ x1 x2 hf H locs hS ls hl
    unfold M_qTakes_b90 at hf
    refine lv_iload_n E.1 hb dX6_qTakes_90 rfl (lv_at hl 1 rfl) ?_
    refine lv_iconst (v := 3) E.1 hb dX6_qTakes_91 rfl ?_
    refine lv_icmp_le (tgt := 133) E.1 hb dX6_qTakes_92 (by decide) (fun hc => ?_) (fun hc => ?_)
    · have hf := it_s hc hf
      exact hB133 σ hf _ _ hS _ (lv_sub hl [0] rfl)
    · have hf := if_s hc hf
      refine lv_aload_n E.1 hb dX6_qTakes_95 rfl (lv_at hl 0 rfl) ?_
      refine m_gZ (k := 103) E hb hS rfl fl_103 dX6_qTakes_96 ?_
      refine lv_if_ne (tgt := 128) E.1 hb dX6_qTakes_99 (by decide) (fun hc => ?_) (fun hc => ?_)
      · have hf := if_s hc hf
        exact hB128 σ x2 hf _ _ hS _ (lv_sub hl [0, 2] rfl)
      · have hf := it_s hc hf
        refine lv_iload_n E.1 hb dX6_qTakes_102 rfl (lv_at hl 1 rfl) ?_
        refine lv_iconst (v := 4) E.1 hb dX6_qTakes_103 rfl ?_
        refine lv_icmp_ne (tgt := 119) E.1 hb dX6_qTakes_104 (by decide) (fun hc => ?_) (fun hc => ?_)
        · have hf := if_s hc hf
          refine lv_lload_n E.1 hb dX6_qTakes_119 rfl (lv_at hl 2 rfl) ?_
          refine lv_aload_n E.1 hb dX6_qTakes_120 rfl (lv_at hl 0 rfl) ?_
          refine m_gJ (k := 102) E hb hS rfl fl_102 dX6_qTakes_121 ?_
          refine lv_lc_ge (tgt := 133) E.1 hb dX6_qTakes_124 dX6_qTakes_125 (by decide) (fun hc => ?_) (fun hc => ?_)
          · have hf := it_s hc hf
            exact hB133 σ hf _ _ hS _ (lv_sub hl [0] rfl)
          · have hf := if_s hc hf
            exact hB128 σ x2 hf _ _ hS _ (lv_sub hl [0, 2] rfl)
        · have hf := it_s hc hf
          refine lv_lload_n E.1 hb dX6_qTakes_107 rfl (lv_at hl 2 rfl) ?_
          refine lv_aload_n E.1 hb dX6_qTakes_108 rfl (lv_at hl 0 rfl) ?_
          refine m_gJ (k := 102) E hb hS rfl fl_102 dX6_qTakes_109 ?_
          refine lv_lc_le (tgt := 133) E.1 hb dX6_qTakes_112 dX6_qTakes_113 (by decide) (fun hc => ?_) (fun hc => ?_)
          · have hf := it_s hc hf
            exact hB133 σ hf _ _ hS _ (lv_sub hl [0] rfl)
          · have hf := if_s hc hf
            refine lv_goto (tgt := 128) E.1 hb dX6_qTakes_116 (by decide) ?_
            exact hB128 σ x2 hf _ _ hS _ (lv_sub hl [0, 2] rfl)
  have hB75 : ∀ (σ : mSt) (x1 : Int32) (x2 : Int64), M_qTakes_b75 σ x1 x2 = some ((), σ') → ∀ (H : Heap) (locs : List Loc), mS dC dI ac o ad s.heap σ H locs → ∀ (ls : Array Slot), lv_has ls 6 [(0, .ref o), (1, .int x1), (2, .long x2)] → W p l e rM_qTakes s m args below meth c H locs 0 0 (MQ below (mQv dC dI ac o ad σ') args s 0 0 (mF o ad)) (F0 m 75 ls []) := by
    intro σ x1 x2 hf H locs hS ls hl
    unfold M_qTakes_b75 at hf
    refine lv_iload_n E.1 hb dX6_qTakes_75 rfl (lv_at hl 1 rfl) ?_
    refine lv_iconst (v := 3) E.1 hb dX6_qTakes_76 rfl ?_
    refine lv_icmp_ne (tgt := 90) E.1 hb dX6_qTakes_77 (by decide) (fun hc => ?_) (fun hc => ?_)
    · have hf := if_s hc hf
      exact hB90 σ x1 x2 hf _ _ hS _ (lv_sub hl [0, 1, 2] rfl)
    · have hf := it_s hc hf
      refine lv_aload_n E.1 hb dX6_qTakes_80 rfl (lv_at hl 0 rfl) ?_
      refine lv_dup E.1 hb dX6_qTakes_81 rfl ?_
      refine m_gJ (k := 102) E hb hS rfl fl_102 dX6_qTakes_82 ?_
      refine lv_lload_n E.1 hb dX6_qTakes_85 rfl (lv_at hl 2 rfl) ?_
      refine lv_ladd E.1 hb dX6_qTakes_86 ?_
      obtain ⟨σ3, hw, hf⟩ := lt2_s hf
      refine m_pJ (k := 102) E hb hS rfl rfl pf_102 fl_102 hw dX6_qTakes_87 (fun H locs hS => ?_)
      exact hB90 σ3 x1 x2 hf _ _ hS _ (lv_sub hl [0, 1, 2] rfl)
  have hB55 : ∀ (σ : mSt) (x1 : Int32) (x2 : Int64) (x5 : Int32), M_qTakes_b55 σ x1 x2 x5 = some ((), σ') → ∀ (H : Heap) (locs : List Loc), mS dC dI ac o ad s.heap σ H locs → ∀ (ls : Array Slot), lv_has ls 6 [(0, .ref o), (1, .int x1), (2, .long x2), (5, .int x5)] → W p l e rM_qTakes s m args below meth c H locs 0 0 (MQ below (mQv dC dI ac o ad σ') args s 0 0 (mF o ad)) (F0 m 55 ls []) := by
    intro σ x1 x2 x5 hf H locs hS ls hl
    unfold M_qTakes_b55 at hf
    refine lv_iload_n E.1 hb dX6_qTakes_55 rfl (lv_at hl 1 rfl) ?_
    refine lv_iconst (v := 2) E.1 hb dX6_qTakes_56 rfl ?_
    refine lv_icmp_ne (tgt := 75) E.1 hb dX6_qTakes_57 (by decide) (fun hc => ?_) (fun hc => ?_)
    · have hf := if_s hc hf
      exact hB75 σ x1 x2 hf _ _ hS _ (lv_sub hl [0, 1, 2] rfl)
    · have hf := it_s hc hf
      refine lv_iload E.1 hb dX6_qTakes_60 (lv_at hl 3 rfl) ?_
      refine lv_if_eq (tgt := 75) E.1 hb dX6_qTakes_62 (by decide) (fun hc => ?_) (fun hc => ?_)
      · have hf := it_s hc hf
        exact hB75 σ x1 x2 hf _ _ hS _ (lv_sub hl [0, 1, 2] rfl)
      · have hf := if_s hc hf
        refine lv_aload_n E.1 hb dX6_qTakes_65 rfl (lv_at hl 0 rfl) ?_
        refine lv_dup E.1 hb dX6_qTakes_66 rfl ?_
        refine m_gJ (k := 102) E hb hS rfl fl_102 dX6_qTakes_67 ?_
        refine lv_lconst (v := 1) E.1 hb dX6_qTakes_70 rfl ?_
        refine lv_ladd E.1 hb dX6_qTakes_71 ?_
        obtain ⟨σ4, hw, hf⟩ := lt2_s hf
        refine m_pJ (k := 102) E hb hS rfl rfl pf_102 fl_102 hw dX6_qTakes_72 (fun H locs hS => ?_)
        exact hB75 σ4 x1 x2 hf _ _ hS _ (lv_sub hl [0, 1, 2] rfl)
  have hB48 : ∀ (σ : mSt) (x1 : Int32) (x2 : Int64) (x4 : Int32) (x5 : Int32), M_qTakes_b48 σ x1 x2 x4 x5 = some ((), σ') → ∀ (H : Heap) (locs : List Loc), mS dC dI ac o ad s.heap σ H locs → ∀ (ls : Array Slot), lv_has ls 6 [(0, .ref o), (1, .int x1), (2, .long x2), (4, .int x4), (5, .int x5)] → W p l e rM_qTakes s m args below meth c H locs 0 0 (MQ below (mQv dC dI ac o ad σ') args s 0 0 (mF o ad)) (F0 m 48 ls []) := by
    intro σ x1 x2 x4 x5 hf H locs hS ls hl
    unfold M_qTakes_b48 at hf
    refine lv_aload_n E.1 hb dX6_qTakes_48 rfl (lv_at hl 0 rfl) ?_
    refine lv_iload E.1 hb dX6_qTakes_49 (lv_at hl 3 rfl) ?_
    refine lv_i2l E.1 hb dX6_qTakes_51 rfl ?_
    obtain ⟨σ5, hw, hf⟩ := lt2_s hf
    refine m_pJ (k := 102) E hb hS rfl rfl pf_102 fl_102 hw dX6_qTakes_52 (fun H locs hS => ?_)
    exact hB55 σ5 x1 x2 x5 hf _ _ hS _ (lv_sub hl [0, 1, 2, 4] rfl)
  have hB38 : ∀ (σ : mSt) (x1 : Int32) (x2 : Int64) (x4 : Int32) (x5 : Int32), M_qTakes_b38 σ x1 x2 x4 x5 = some ((), σ') → ∀ (H : Heap) (locs : List Loc), mS dC dI ac o ad s.heap σ H locs → ∀ (ls : Array Slot), lv_has ls 6 [(0, .ref o), (1, .int x1), (2, .long x2), (4, .int x4), (5, .int x5)] → W p l e rM_qTakes s m args below meth c H locs 0 0 (MQ below (mQv dC dI ac o ad σ') args s 0 0 (mF o ad)) (F0 m 38 ls []) := by
    intro σ x1 x2 x4 x5 hf H locs hS ls hl
    unfold M_qTakes_b38 at hf
    refine lv_iload_n E.1 hb dX6_qTakes_38 rfl (lv_at hl 1 rfl) ?_
    refine lv_iconst (v := 1) E.1 hb dX6_qTakes_39 rfl ?_
    refine lv_icmp_ne (tgt := 55) E.1 hb dX6_qTakes_40 (by decide) (fun hc => ?_) (fun hc => ?_)
    · have hf := if_s hc hf
      exact hB55 σ x1 x2 x5 hf _ _ hS _ (lv_sub hl [0, 1, 2, 4] rfl)
    · have hf := it_s hc hf
      refine lv_iload E.1 hb dX6_qTakes_43 (lv_at hl 4 rfl) ?_
      refine lv_if_eq (tgt := 55) E.1 hb dX6_qTakes_45 (by decide) (fun hc => ?_) (fun hc => ?_)
      · have hf := it_s hc hf
        exact hB55 σ x1 x2 x5 hf _ _ hS _ (lv_sub hl [0, 1, 2, 4] rfl)
      · have hf := if_s hc hf
        exact hB48 σ x1 x2 x4 x5 hf _ _ hS _ (lv_sub hl [0, 1, 2, 3, 4] rfl)
  have hB16 : ∀ (σ : mSt) (x1 : Int32) (x2 : Int64) (x4 : Int32) (y0 : Int32), M_qTakes_b16 σ x1 x2 x4 y0 = some ((), σ') → ∀ (H : Heap) (locs : List Loc), mS dC dI ac o ad s.heap σ H locs → ∀ (ls : Array Slot), lv_has ls 6 [(0, .ref o), (1, .int x1), (2, .long x2), (4, .int x4)] → W p l e rM_qTakes s m args below meth c H locs 0 0 (MQ below (mQv dC dI ac o ad σ') args s 0 0 (mF o ad)) (F0 m 16 ls [.int y0]) := by
    intro σ x1 x2 x4 y0 hf H locs hS ls hl
    unfold M_qTakes_b16 at hf
    refine lv_istore (lv' := [(5, .int y0), (0, .ref o), (1, .int x1), (2, .long x2), (4, .int x4)]) E.1 hb dX6_qTakes_16 hl (by decide) rfl (fun ls hl => ?_)
    refine lv_iload_n E.1 hb dX6_qTakes_18 rfl (lv_at hl 2 rfl) ?_
    refine lv_if_ne (tgt := 38) E.1 hb dX6_qTakes_19 (by decide) (fun hc => ?_) (fun hc => ?_)
    · have hf := if_s hc hf
      exact hB38 σ x1 x2 x4 y0 hf _ _ hS _ (lv_sub hl [1, 2, 3, 4, 0] rfl)
    · have hf := it_s hc hf
      refine lv_iload E.1 hb dX6_qTakes_22 (lv_at hl 0 rfl) ?_
      refine lv_if_eq (tgt := 38) E.1 hb dX6_qTakes_24 (by decide) (fun hc => ?_) (fun hc => ?_)
      · have hf := it_s hc hf
        exact hB38 σ x1 x2 x4 y0 hf _ _ hS _ (lv_sub hl [1, 2, 3, 4, 0] rfl)
      · have hf := if_s hc hf
        refine lv_aload_n E.1 hb dX6_qTakes_27 rfl (lv_at hl 1 rfl) ?_
        refine m_gJ (k := 102) E hb hS rfl fl_102 dX6_qTakes_28 ?_
        refine lv_ldc2 E.1 hb E.2.1 (E.2.2.1 _ q2310) dX6_qTakes_31 ?_
        refine lv_lc_eq (tgt := 48) E.1 hb dX6_qTakes_34 dX6_qTakes_35 (by decide) (fun hc => ?_) (fun hc => ?_)
        · have hf := it_s hc hf
          exact hB48 σ x1 x2 x4 y0 hf _ _ hS _ (lv_sub hl [1, 2, 3, 4, 0] rfl)
        · have hf := if_s hc hf
          exact hB38 σ x1 x2 x4 y0 hf _ _ hS _ (lv_sub hl [1, 2, 3, 4, 0] rfl)
  have hB15 : ∀ (σ : mSt) (x1 : Int32) (x2 : Int64) (x4 : Int32), M_qTakes_b15 σ x1 x2 x4 = some ((), σ') → ∀ (H : Heap) (locs : List Loc), mS dC dI ac o ad s.heap σ H locs → ∀ (ls : Array Slot), lv_has ls 6 [(0, .ref o), (1, .int x1), (2, .long x2), (4, .int x4)] → W p l e rM_qTakes s m args below meth c H locs 0 0 (MQ below (mQv dC dI ac o ad σ') args s 0 0 (mF o ad)) (F0 m 15 ls []) := by
    intro σ x1 x2 x4 hf H locs hS ls hl
    unfold M_qTakes_b15 at hf
    refine lv_iconst (v := 0) E.1 hb dX6_qTakes_15 rfl ?_
    exact hB16 σ x1 x2 x4 0 hf _ _ hS _ (lv_sub hl [0, 1, 2, 3] rfl)
  unfold M_qTakes at hf
  refine lv_iload_n E.1 hb dX6_qTakes_0 rfl (lv_at hl 1 rfl) ?_
  refine lv_iconst (v := 3) E.1 hb dX6_qTakes_1 rfl ?_
  refine lv_icmp_ge (tgt := 15) E.1 hb dX6_qTakes_2 (by decide) (fun hc => ?_) (fun hc => ?_)
  · have hf := it_s hc hf
    exact hB15 σ x1 x2 x4 hf _ _ hS _ (lv_sub hl [0, 1, 2, 3] rfl)
  · have hf := if_s hc hf
    refine lv_lload_n E.1 hb dX6_qTakes_5 rfl (lv_at hl 2 rfl) ?_
    refine lv_lconst (v := 1) E.1 hb dX6_qTakes_6 rfl ?_
    refine lv_lc_ne (tgt := 15) E.1 hb dX6_qTakes_7 dX6_qTakes_8 (by decide) (fun hc => ?_) (fun hc => ?_)
    · have hf := if_s hc hf
      exact hB15 σ x1 x2 x4 hf _ _ hS _ (lv_sub hl [0, 1, 2, 3] rfl)
    · have hf := it_s hc hf
      refine lv_iconst (v := 1) E.1 hb dX6_qTakes_11 rfl ?_
      refine lv_goto (tgt := 16) E.1 hb dX6_qTakes_12 (by decide) ?_
      exact hB16 σ x1 x2 x4 1 hf _ _ hS _ (lv_sub hl [0, 1, 2, 3] rfl)
/-! ask()J: RW -/
noncomputable def M_ask_b212 (N : Nat) (k212 : mSt → Int32 → Int32 → Option (Int64 × mSt)) (σ : mSt) (x1 : Int32) (x2 : Int32) : Option (Int64 × mSt) :=
  bo (M_beingMany σ) fun r25 => if r25 ≤ x2 then (some ((σ.2 102 0), σ)) else (bd (M_qTold N σ x2) fun r26 σ27 => bd (M_qTakes σ27 x1 r26 x2) fun _ σ28 => k212 σ28 x1 (x2 + 1))
noncomputable def M_ask_b173 (N : Nat) (σ : mSt) (x1 : Int32) (y0 : Int64) : Option (Int64 × mSt) :=
  lt2 (mUJ σ 102 0 y0) fun σ16 => lt2 (mUI σ16 103 0 1) fun σ17 => bo (ld 2 σ17 56 0) fun v18 => bd (M_openingOn N σ17 v18) fun r19 σ20 => lt2 (mUI σ20 59 0 r19) fun σ21 => bo (ld 2 σ21 56 0) fun v22 => lt2 (mUI σ21 58 0 v22) fun σ23 => lt2 (mUI σ23 55 0 3) fun σ24 => rn3 (M_ask_b212 N) N σ24 x1 0
noncomputable def M_ask_b133 (N : Nat) (σ : mSt) (x1 : Int32) : Option (Int64 × mSt) :=
  lt2 (mUI σ 7 0 (σ.1 5 0)) fun σ14 => lt2 (mUI σ14 8 0 (σ14.1 6 0)) fun σ15 => if (σ15.1 5 0) = 0 then (if 2 ≤ x1 then (M_ask_b173 N σ15 x1 0) else (M_ask_b173 N σ15 x1 (-1))) else (some ((-1000000000000000), σ15))
noncomputable def M_ask_b109 (N : Nat) (σ : mSt) (x1 : Int32) : Option (Int64 × mSt) :=
  if (σ.1 5 0) = 0 then (bd (M_look N σ) fun r29 σ30 => if r29 = (-1) then (M_ask_b133 N σ30 x1) else (bd (M_fail σ30 1 (σ30.1 2 0)) fun _ σ31 => M_ask_b133 N σ31 x1)) else (M_ask_b133 N σ x1)
noncomputable def M_ask_b98 (N : Nat) (σ : mSt) (x1 : Int32) : Option (Int64 × mSt) :=
  if (σ.1 5 0) = 0 then (bd (M_qSums N σ) fun _ σ32 => M_ask_b109 N σ32 x1) else (M_ask_b109 N σ x1)
noncomputable def M_ask (N : Nat) (σ : mSt) : Option (Int64 × mSt) :=
  if (σ.1 54 0) = 0 then (lt2 (mUI σ 1 0 0) fun σ34 => some ((-1000000000000000), σ34)) else (lt2 (mUI σ 3 0 (σ.1 1 0)) fun σ1 => lt2 (mUI σ1 1 0 0) fun σ2 => lt2 (mUI σ2 2 0 0) fun σ3 => lt2 (mUI σ3 4 0 (-1)) fun σ4 => lt2 (mUI σ4 5 0 0) fun σ5 => lt2 (mUI σ5 6 0 (-1)) fun σ6 => lt2 (mUI σ6 55 0 3) fun σ7 => lt2 (mUI σ7 95 0 0) fun σ8 => lt2 (mUI σ8 97 0 0) fun σ9 => lt2 (mUI σ9 98 0 0) fun σ10 => lt2 (mUI σ10 99 0 0) fun σ11 => bd (M_qKind N σ11) fun r12 σ13 => if (σ13.1 5 0) = 0 then (if 3 ≤ r12 then (M_ask_b98 N σ13 r12) else (bd (M_qTest N σ13) fun _ σ33 => M_ask_b109 N σ33 r12)) else (M_ask_b98 N σ13 r12))
abbrev rM_ask : Room := { frames := 9, cells := 0, slots := 0, locals := 196 }
set_option maxHeartbeats 4000000 in
theorem cmf_ask {l : Launch} {dC : Nat → ClassId} {dI : Nat → Nat → Nat} {ac : Nat → ClassId} {o : Nat} {ad : Nat → Nat} {N : Nat} {σ : mSt} {r : Int64} {σ' : mSt} (hf : M_ask N σ = some (r, σ')) : Met l yX6_ask (ws_ yX6_ask cX6_ask 3 (some .long)) { frames := 9, cells := 0, slots := 0, locals := 196 } (va_Pc [.ref o] (mPre dC dI ac o ad σ)) (mQl dC dI ac o ad r σ') 0 0 (mF o ad) := by
  refine m_of (by decide) rfl (Nat.le_of_ble_eq_true rfl) ?_
  intro p e s m args below meth c E hb hr hlk hml hS ls hl
  have hl : lv_has ls 3 [(0, .ref o)] := hl
  have hL212 : ∀ (n : Nat) (σ : mSt) (x1 : Int32) (x2 : Int32), rn3 (M_ask_b212 N) n σ x1 x2 = some (r, σ') → ∀ (H : Heap) (locs : List Loc), mS dC dI ac o ad s.heap σ H locs → ∀ (ls : Array Slot), lv_has ls 3 [(0, .ref o), (1, .int x1), (2, .int x2)] → W p l e rM_ask s m args below meth c H locs 0 0 (MQ below (mQl dC dI ac o ad r σ') args s 0 0 (mF o ad)) (F0 m 212 ls []) := by
    intro  n
    induction n with
    | zero =>
      intro σ x1 x2 hf
      cases hf
    | succ n ih =>
      intro σ x1 x2 hf H locs hS ls hl
      have hf : M_ask_b212 N (rn3 (M_ask_b212 N) n) σ x1 x2 = some (r, σ') := hf
      have hk212 := ih
      generalize rn3 (M_ask_b212 N) n = k212 at hf hk212
      unfold M_ask_b212 at hf
      refine lv_iload_n E.1 hb dX6_ask_212 rfl (lv_at hl 2 rfl) ?_
      refine lv_aload_n E.1 hb dX6_ask_213 rfl (lv_at hl 0 rfl) ?_
      obtain ⟨r25, h1, hf⟩ := bo_s hf
      refine m_cVi E hb hml hl.1 hS (cmf_beingMany h1) gw_beingMany gn_beingMany rfl rfl (Nat.le_of_ble_eq_true rfl) ⟨Nat.le_of_ble_eq_true rfl, Nat.le_of_ble_eq_true rfl⟩ ⟨Nat.le_refl 0, Nat.le_refl 0⟩ dX6_ask_214 (fun H locs hS => ?_)
      refine lv_icmp_ge (tgt := 237) E.1 hb dX6_ask_217 (by decide) (fun hc => ?_) (fun hc => ?_)
      · have hf := it_s hc hf
        refine lv_aload_n E.1 hb dX6_ask_237 rfl (lv_at hl 0 rfl) ?_
        refine m_gJ (k := 102) E hb hS rfl fl_102 dX6_ask_238 ?_
        exact m_lr E hb hr hlk hS hf dX6_ask_241
      · have hf := if_s hc hf
        refine lv_aload_n E.1 hb dX6_ask_220 rfl (lv_at hl 0 rfl) ?_
        refine lv_iload_n E.1 hb dX6_ask_221 rfl (lv_at hl 1 rfl) ?_
        refine lv_aload_n E.1 hb dX6_ask_222 rfl (lv_at hl 0 rfl) ?_
        refine lv_iload_n E.1 hb dX6_ask_223 rfl (lv_at hl 2 rfl) ?_
        obtain ⟨r26, σ27, h1, hf⟩ := bd_s hf
        refine m_cVl E hb hml hl.1 hS (cmf_qTold h1) gw_qTold gn_qTold rfl rfl (Nat.le_of_ble_eq_true rfl) ⟨Nat.le_of_ble_eq_true rfl, Nat.le_of_ble_eq_true rfl⟩ ⟨Nat.le_refl 0, Nat.le_refl 0⟩ dX6_ask_224 (fun H locs hS => ?_)
        refine lv_iload_n E.1 hb dX6_ask_227 rfl (lv_at hl 2 rfl) ?_
        obtain ⟨_, σ28, h1, hf⟩ := bd_s hf
        refine m_cVv E hb hml hl.1 hS (cmf_qTakes h1) gw_qTakes gn_qTakes rfl rfl (Nat.le_of_ble_eq_true rfl) ⟨Nat.le_of_ble_eq_true rfl, Nat.le_of_ble_eq_true rfl⟩ ⟨Nat.le_refl 0, Nat.le_refl 0⟩ dX6_ask_228 (fun H locs hS => ?_)
        refine lv_iinc (v := (x2 + 1)) (lv' := [(2, .int (x2 + 1)), (0, .ref o), (1, .int x1)]) E.1 hb dX6_ask_231 hl (k := 2) rfl rfl (by decide) rfl (fun ls hl => ?_)
        refine lv_goto (tgt := 212) E.1 hb dX6_ask_234 (by decide) ?_
        exact hk212 σ28 x1 (x2 + 1) hf _ _ hS _ (lv_sub hl [1, 2, 0] rfl)
  have hB173 : ∀ (σ : mSt) (x1 : Int32) (y0 : Int64), M_ask_b173 N σ x1 y0 = some (r, σ') → ∀ (H : Heap) (locs : List Loc), mS dC dI ac o ad s.heap σ H locs → ∀ (ls : Array Slot), lv_has ls 3 [(0, .ref o), (1, .int x1)] → W p l e rM_ask s m args below meth c H locs 0 0 (MQ below (mQl dC dI ac o ad r σ') args s 0 0 (mF o ad)) (F0 m 173 ls [.long y0, .ref o]) := by
    intro σ x1 y0 hf H locs hS ls hl
    unfold M_ask_b173 at hf
    obtain ⟨σ16, hw, hf⟩ := lt2_s hf
    refine m_pJ (k := 102) E hb hS rfl rfl pf_102 fl_102 hw dX6_ask_173 (fun H locs hS => ?_)
    refine lv_aload_n E.1 hb dX6_ask_176 rfl (lv_at hl 0 rfl) ?_
    refine lv_iconst (v := 1) E.1 hb dX6_ask_177 rfl ?_
    obtain ⟨σ17, hw, hf⟩ := lt2_s hf
    refine m_pZ (k := 103) E hb hS rfl rfl pz_103 fl_103 rfl rfl hw dX6_ask_178 (fun H locs hS => ?_)
    refine lv_aload_n E.1 hb dX6_ask_181 rfl (lv_at hl 0 rfl) ?_
    refine lv_aload_n E.1 hb dX6_ask_182 rfl (lv_at hl 0 rfl) ?_
    refine lv_aload_n E.1 hb dX6_ask_183 rfl (lv_at hl 0 rfl) ?_
    refine m_gA (k := 56) E hb hS 2 rfl (by decide) fl_56 dX6_ask_184 ?_
    refine lv_iconst (v := 0) E.1 hb dX6_ask_187 rfl ?_
    obtain ⟨hg, hf⟩ := ld_s hf
    refine m_ild E hb hS hg dX6_ask_188 ?_
    obtain ⟨r19, σ20, h1, hf⟩ := bd_s hf
    refine m_cVi E hb hml hl.1 hS (cmf_openingOn h1) gw_openingOn gn_openingOn rfl rfl (Nat.le_of_ble_eq_true rfl) ⟨Nat.le_of_ble_eq_true rfl, Nat.le_of_ble_eq_true rfl⟩ ⟨Nat.le_refl 0, Nat.le_refl 0⟩ dX6_ask_189 (fun H locs hS => ?_)
    obtain ⟨σ21, hw, hf⟩ := lt2_s hf
    refine m_pI (k := 59) E hb hS rfl rfl pf_59 fl_59 hw dX6_ask_192 (fun H locs hS => ?_)
    refine lv_aload_n E.1 hb dX6_ask_195 rfl (lv_at hl 0 rfl) ?_
    refine lv_aload_n E.1 hb dX6_ask_196 rfl (lv_at hl 0 rfl) ?_
    refine m_gA (k := 56) E hb hS 2 rfl (by decide) fl_56 dX6_ask_197 ?_
    refine lv_iconst (v := 0) E.1 hb dX6_ask_200 rfl ?_
    obtain ⟨hg, hf⟩ := ld_s hf
    refine m_ild E hb hS hg dX6_ask_201 ?_
    obtain ⟨σ23, hw, hf⟩ := lt2_s hf
    refine m_pI (k := 58) E hb hS rfl rfl pf_58 fl_58 hw dX6_ask_202 (fun H locs hS => ?_)
    refine lv_aload_n E.1 hb dX6_ask_205 rfl (lv_at hl 0 rfl) ?_
    refine lv_iconst (v := 3) E.1 hb dX6_ask_206 rfl ?_
    obtain ⟨σ24, hw, hf⟩ := lt2_s hf
    refine m_pI (k := 55) E hb hS rfl rfl pf_55 fl_55 hw dX6_ask_207 (fun H locs hS => ?_)
    refine lv_iconst (v := 0) E.1 hb dX6_ask_210 rfl ?_
    refine lv_istore_n (lv' := [(2, .int 0), (0, .ref o), (1, .int x1)]) E.1 hb dX6_ask_211 rfl hl (by decide) rfl (fun ls hl => ?_)
    exact hL212 N σ24 x1 0 hf _ _ hS _ (lv_sub hl [1, 2, 0] rfl)
  have hB133 : ∀ (σ : mSt) (x1 : Int32), M_ask_b133 N σ x1 = some (r, σ') → ∀ (H : Heap) (locs : List Loc), mS dC dI ac o ad s.heap σ H locs → ∀ (ls : Array Slot), lv_has ls 3 [(0, .ref o), (1, .int x1)] → W p l e rM_ask s m args below meth c H locs 0 0 (MQ below (mQl dC dI ac o ad r σ') args s 0 0 (mF o ad)) (F0 m 133 ls []) := by
    intro σ x1 hf H locs hS ls hl
    unfold M_ask_b133 at hf
    refine lv_aload_n E.1 hb dX6_ask_133 rfl (lv_at hl 0 rfl) ?_
    refine lv_aload_n E.1 hb dX6_ask_134 rfl (lv_at hl 0 rfl) ?_
    refine m_gI (k := 5) E hb hS rfl fl_5 dX6_ask_135 ?_
    obtain ⟨σ14, hw, hf⟩ := lt2_s hf
    refine m_pI (k := 7) E hb hS rfl rfl pf_7 fl_7 hw dX6_ask_138 (fun H locs hS => ?_)
    refine lv_aload_n E.1 hb dX6_ask_141 rfl (lv_at hl 0 rfl) ?_
    refine lv_aload_n E.1 hb dX6_ask_142 rfl (lv_at hl 0 rfl) ?_
    refine m_gI (k := 6) E hb hS rfl fl_6 dX6_ask_143 ?_
    obtain ⟨σ15, hw, hf⟩ := lt2_s hf
    refine m_pI (k := 8) E hb hS rfl rfl pf_8 fl_8 hw dX6_ask_146 (fun H locs hS => ?_)
    refine lv_aload_n E.1 hb dX6_ask_149 rfl (lv_at hl 0 rfl) ?_
    refine m_gI (k := 5) E hb hS rfl fl_5 dX6_ask_150 ?_
    refine lv_if_eq (tgt := 160) E.1 hb dX6_ask_153 (by decide) (fun hc => ?_) (fun hc => ?_)
    · have hf := it_s hc hf
      refine lv_aload_n E.1 hb dX6_ask_160 rfl (lv_at hl 0 rfl) ?_
      refine lv_iload_n E.1 hb dX6_ask_161 rfl (lv_at hl 1 rfl) ?_
      refine lv_iconst (v := 2) E.1 hb dX6_ask_162 rfl ?_
      refine lv_icmp_ge (tgt := 172) E.1 hb dX6_ask_163 (by decide) (fun hc => ?_) (fun hc => ?_)
      · have hf := it_s hc hf
        refine lv_lconst (v := 0) E.1 hb dX6_ask_172 rfl ?_
        exact hB173 σ15 x1 0 hf _ _ hS _ (lv_sub hl [0, 1] rfl)
      · have hf := if_s hc hf
        refine lv_ldc2 E.1 hb E.2.1 (E.2.2.1 _ q2310) dX6_ask_166 ?_
        refine lv_goto (tgt := 173) E.1 hb dX6_ask_169 (by decide) ?_
        exact hB173 σ15 x1 (-1) hf _ _ hS _ (lv_sub hl [0, 1] rfl)
    · have hf := if_s hc hf
      refine lv_ldc2 E.1 hb E.2.1 (E.2.2.1 _ q2474) dX6_ask_156 ?_
      exact m_lr E hb hr hlk hS hf dX6_ask_159
  have hB109 : ∀ (σ : mSt) (x1 : Int32), M_ask_b109 N σ x1 = some (r, σ') → ∀ (H : Heap) (locs : List Loc), mS dC dI ac o ad s.heap σ H locs → ∀ (ls : Array Slot), lv_has ls 3 [(0, .ref o), (1, .int x1)] → W p l e rM_ask s m args below meth c H locs 0 0 (MQ below (mQl dC dI ac o ad r σ') args s 0 0 (mF o ad)) (F0 m 109 ls []) := by
    intro σ x1 hf H locs hS ls hl
    unfold M_ask_b109 at hf
    refine lv_aload_n E.1 hb dX6_ask_109 rfl (lv_at hl 0 rfl) ?_
    refine m_gI (k := 5) E hb hS rfl fl_5 dX6_ask_110 ?_
    refine lv_if_ne (tgt := 133) E.1 hb dX6_ask_113 (by decide) (fun hc => ?_) (fun hc => ?_)
    · have hf := if_s hc hf
      exact hB133 σ x1 hf _ _ hS _ (lv_sub hl [0, 1] rfl)
    · have hf := it_s hc hf
      refine lv_aload_n E.1 hb dX6_ask_116 rfl (lv_at hl 0 rfl) ?_
      obtain ⟨r29, σ30, h1, hf⟩ := bd_s hf
      refine m_cVi E hb hml hl.1 hS (cmf_look h1) gw_look gn_look rfl rfl (Nat.le_of_ble_eq_true rfl) ⟨Nat.le_of_ble_eq_true rfl, Nat.le_of_ble_eq_true rfl⟩ ⟨Nat.le_refl 0, Nat.le_refl 0⟩ dX6_ask_117 (fun H locs hS => ?_)
      refine lv_iconst (v := (-1)) E.1 hb dX6_ask_120 rfl ?_
      refine lv_icmp_eq (tgt := 133) E.1 hb dX6_ask_121 (by decide) (fun hc => ?_) (fun hc => ?_)
      · have hf := it_s hc hf
        exact hB133 σ30 x1 hf _ _ hS _ (lv_sub hl [0, 1] rfl)
      · have hf := if_s hc hf
        refine lv_aload_n E.1 hb dX6_ask_124 rfl (lv_at hl 0 rfl) ?_
        refine lv_iconst (v := 1) E.1 hb dX6_ask_125 rfl ?_
        refine lv_aload_n E.1 hb dX6_ask_126 rfl (lv_at hl 0 rfl) ?_
        refine m_gI (k := 2) E hb hS rfl fl_2 dX6_ask_127 ?_
        obtain ⟨_, σ31, h1, hf⟩ := bd_s hf
        refine m_cVv E hb hml hl.1 hS (cmf_fail h1) gw_fail gn_fail rfl rfl (Nat.le_of_ble_eq_true rfl) ⟨Nat.le_of_ble_eq_true rfl, Nat.le_of_ble_eq_true rfl⟩ ⟨Nat.le_refl 0, Nat.le_refl 0⟩ dX6_ask_130 (fun H locs hS => ?_)
        exact hB133 σ31 x1 hf _ _ hS _ (lv_sub hl [0, 1] rfl)
  have hB98 : ∀ (σ : mSt) (x1 : Int32), M_ask_b98 N σ x1 = some (r, σ') → ∀ (H : Heap) (locs : List Loc), mS dC dI ac o ad s.heap σ H locs → ∀ (ls : Array Slot), lv_has ls 3 [(0, .ref o), (1, .int x1)] → W p l e rM_ask s m args below meth c H locs 0 0 (MQ below (mQl dC dI ac o ad r σ') args s 0 0 (mF o ad)) (F0 m 98 ls []) := by
    intro σ x1 hf H locs hS ls hl
    unfold M_ask_b98 at hf
    refine lv_aload_n E.1 hb dX6_ask_98 rfl (lv_at hl 0 rfl) ?_
    refine m_gI (k := 5) E hb hS rfl fl_5 dX6_ask_99 ?_
    refine lv_if_ne (tgt := 109) E.1 hb dX6_ask_102 (by decide) (fun hc => ?_) (fun hc => ?_)
    · have hf := if_s hc hf
      exact hB109 σ x1 hf _ _ hS _ (lv_sub hl [0, 1] rfl)
    · have hf := it_s hc hf
      refine lv_aload_n E.1 hb dX6_ask_105 rfl (lv_at hl 0 rfl) ?_
      obtain ⟨_, σ32, h1, hf⟩ := bd_s hf
      refine m_cVv E hb hml hl.1 hS (cmf_qSums h1) gw_qSums gn_qSums rfl rfl (Nat.le_of_ble_eq_true rfl) ⟨Nat.le_of_ble_eq_true rfl, Nat.le_of_ble_eq_true rfl⟩ ⟨Nat.le_refl 0, Nat.le_refl 0⟩ dX6_ask_106 (fun H locs hS => ?_)
      exact hB109 σ32 x1 hf _ _ hS _ (lv_sub hl [0, 1] rfl)
  unfold M_ask at hf
  refine lv_aload_n E.1 hb dX6_ask_0 rfl (lv_at hl 0 rfl) ?_
  refine m_gZ (k := 54) E hb hS rfl fl_54 dX6_ask_1 ?_
  refine lv_if_ne (tgt := 16) E.1 hb dX6_ask_4 (by decide) (fun hc => ?_) (fun hc => ?_)
  · have hf := if_s hc hf
    refine lv_aload_n E.1 hb dX6_ask_16 rfl (lv_at hl 0 rfl) ?_
    refine lv_aload_n E.1 hb dX6_ask_17 rfl (lv_at hl 0 rfl) ?_
    refine m_gI (k := 1) E hb hS rfl fl_1 dX6_ask_18 ?_
    obtain ⟨σ1, hw, hf⟩ := lt2_s hf
    refine m_pI (k := 3) E hb hS rfl rfl pf_3 fl_3 hw dX6_ask_21 (fun H locs hS => ?_)
    refine lv_aload_n E.1 hb dX6_ask_24 rfl (lv_at hl 0 rfl) ?_
    refine lv_iconst (v := 0) E.1 hb dX6_ask_25 rfl ?_
    obtain ⟨σ2, hw, hf⟩ := lt2_s hf
    refine m_pI (k := 1) E hb hS rfl rfl pf_1 fl_1 hw dX6_ask_26 (fun H locs hS => ?_)
    refine lv_aload_n E.1 hb dX6_ask_29 rfl (lv_at hl 0 rfl) ?_
    refine lv_iconst (v := 0) E.1 hb dX6_ask_30 rfl ?_
    obtain ⟨σ3, hw, hf⟩ := lt2_s hf
    refine m_pI (k := 2) E hb hS rfl rfl pf_2 fl_2 hw dX6_ask_31 (fun H locs hS => ?_)
    refine lv_aload_n E.1 hb dX6_ask_34 rfl (lv_at hl 0 rfl) ?_
    refine lv_iconst (v := (-1)) E.1 hb dX6_ask_35 rfl ?_
    obtain ⟨σ4, hw, hf⟩ := lt2_s hf
    refine m_pI (k := 4) E hb hS rfl rfl pf_4 fl_4 hw dX6_ask_36 (fun H locs hS => ?_)
    refine lv_aload_n E.1 hb dX6_ask_39 rfl (lv_at hl 0 rfl) ?_
    refine lv_iconst (v := 0) E.1 hb dX6_ask_40 rfl ?_
    obtain ⟨σ5, hw, hf⟩ := lt2_s hf
    refine m_pI (k := 5) E hb hS rfl rfl pf_5 fl_5 hw dX6_ask_41 (fun H locs hS => ?_)
    refine lv_aload_n E.1 hb dX6_ask_44 rfl (lv_at hl 0 rfl) ?_
    refine lv_iconst (v := (-1)) E.1 hb dX6_ask_45 rfl ?_
    obtain ⟨σ6, hw, hf⟩ := lt2_s hf
    refine m_pI (k := 6) E hb hS rfl rfl pf_6 fl_6 hw dX6_ask_46 (fun H locs hS => ?_)
    refine lv_aload_n E.1 hb dX6_ask_49 rfl (lv_at hl 0 rfl) ?_
    refine lv_iconst (v := 3) E.1 hb dX6_ask_50 rfl ?_
    obtain ⟨σ7, hw, hf⟩ := lt2_s hf
    refine m_pI (k := 55) E hb hS rfl rfl pf_55 fl_55 hw dX6_ask_51 (fun H locs hS => ?_)
    refine lv_aload_n E.1 hb dX6_ask_54 rfl (lv_at hl 0 rfl) ?_
    refine lv_iconst (v := 0) E.1 hb dX6_ask_55 rfl ?_
    obtain ⟨σ8, hw, hf⟩ := lt2_s hf
    refine m_pI (k := 95) E hb hS rfl rfl pf_95 fl_95 hw dX6_ask_56 (fun H locs hS => ?_)
    refine lv_aload_n E.1 hb dX6_ask_59 rfl (lv_at hl 0 rfl) ?_
    refine lv_iconst (v := 0) E.1 hb dX6_ask_60 rfl ?_
    obtain ⟨σ9, hw, hf⟩ := lt2_s hf
    refine m_pI (k := 97) E hb hS rfl rfl pf_97 fl_97 hw dX6_ask_61 (fun H locs hS => ?_)
    refine lv_aload_n E.1 hb dX6_ask_64 rfl (lv_at hl 0 rfl) ?_
    refine lv_iconst (v := 0) E.1 hb dX6_ask_65 rfl ?_
    obtain ⟨σ10, hw, hf⟩ := lt2_s hf
    refine m_pI (k := 98) E hb hS rfl rfl pf_98 fl_98 hw dX6_ask_66 (fun H locs hS => ?_)
    refine lv_aload_n E.1 hb dX6_ask_69 rfl (lv_at hl 0 rfl) ?_
    refine lv_iconst (v := 0) E.1 hb dX6_ask_70 rfl ?_
    obtain ⟨σ11, hw, hf⟩ := lt2_s hf
    refine m_pI (k := 99) E hb hS rfl rfl pf_99 fl_99 hw dX6_ask_71 (fun H locs hS => ?_)
    refine lv_aload_n E.1 hb dX6_ask_74 rfl (lv_at hl 0 rfl) ?_
    obtain ⟨r12, σ13, h1, hf⟩ := bd_s hf
    refine m_cVi E hb hml hl.1 hS (cmf_qKind h1) gw_qKind gn_qKind rfl rfl (Nat.le_of_ble_eq_true rfl) ⟨Nat.le_of_ble_eq_true rfl, Nat.le_of_ble_eq_true rfl⟩ ⟨Nat.le_refl 0, Nat.le_refl 0⟩ dX6_ask_75 (fun H locs hS => ?_)
    refine lv_istore_n (lv' := [(1, .int r12), (0, .ref o)]) E.1 hb dX6_ask_78 rfl hl (by decide) rfl (fun ls hl => ?_)
    refine lv_aload_n E.1 hb dX6_ask_79 rfl (lv_at hl 1 rfl) ?_
    refine m_gI (k := 5) E hb hS rfl fl_5 dX6_ask_80 ?_
    refine lv_if_ne (tgt := 98) E.1 hb dX6_ask_83 (by decide) (fun hc => ?_) (fun hc => ?_)
    · have hf := if_s hc hf
      exact hB98 σ13 r12 hf _ _ hS _ (lv_sub hl [1, 0] rfl)
    · have hf := it_s hc hf
      refine lv_iload_n E.1 hb dX6_ask_86 rfl (lv_at hl 0 rfl) ?_
      refine lv_iconst (v := 3) E.1 hb dX6_ask_87 rfl ?_
      refine lv_icmp_ge (tgt := 98) E.1 hb dX6_ask_88 (by decide) (fun hc => ?_) (fun hc => ?_)
      · have hf := it_s hc hf
        exact hB98 σ13 r12 hf _ _ hS _ (lv_sub hl [1, 0] rfl)
      · have hf := if_s hc hf
        refine lv_aload_n E.1 hb dX6_ask_91 rfl (lv_at hl 1 rfl) ?_
        obtain ⟨_, σ33, h1, hf⟩ := bd_s hf
        refine m_cVv E hb hml hl.1 hS (cmf_qTest h1) gw_qTest gn_qTest rfl rfl (Nat.le_of_ble_eq_true rfl) ⟨Nat.le_of_ble_eq_true rfl, Nat.le_of_ble_eq_true rfl⟩ ⟨Nat.le_refl 0, Nat.le_refl 0⟩ dX6_ask_92 (fun H locs hS => ?_)
        refine lv_goto (tgt := 109) E.1 hb dX6_ask_95 (by decide) ?_
        exact hB109 σ33 r12 hf _ _ hS _ (lv_sub hl [1, 0] rfl)
  · have hf := it_s hc hf
    refine lv_aload_n E.1 hb dX6_ask_7 rfl (lv_at hl 0 rfl) ?_
    refine lv_iconst (v := 0) E.1 hb dX6_ask_8 rfl ?_
    obtain ⟨σ34, hw, hf⟩ := lt2_s hf
    refine m_pI (k := 1) E hb hS rfl rfl pf_1 fl_1 hw dX6_ask_9 (fun H locs hS => ?_)
    refine lv_ldc2 E.1 hb E.2.1 (E.2.2.1 _ q2474) dX6_ask_12 ?_
    exact m_lr E hb hr hlk hS hf dX6_ask_15
/-! checked([II)I: RO -/
noncomputable def M_checked_b5 (N : Nat) (σ : mSt) (k5 : Nat → Int32 → Int32 → Int32 → Option Int32) (w0 : Nat) (x1 : Int32) (x2 : Int32) (x3 : Int32) : Option Int32 :=
  if x1 ≤ x3 then (some x2) else (bo (ld 2 σ w0 x3) fun v1 => k5 w0 x1 (((3 * x2) + v1) - ((3 * x2) + v1) / 251 * 251) (x3 + 1))
noncomputable def M_checked (N : Nat) (σ : mSt) (w0 : Nat) (x1 : Int32) : Option Int32 :=
  rn4 (M_checked_b5 N σ) N w0 x1 83 0
theorem gw_checked : GoodIn lw_all (va_wsS RX6 676 yX6_checked (ws_ yX6_checked cX6_checked 4 (some .int))) := lw_S q2503 q2504 q164 q2505
theorem gn_checked : yX6_checked.cls ≠ "java/lang/invoke/MethodHandle" ∧ yX6_checked.cls ≠ "java/lang/invoke/VarHandle" ∧ (parseMethodDescriptor yX6_checked.desc).map (fun d => d.parameters.length) = some 2 := by decide +kernel
abbrev rM_checked : Room := { frames := 0, cells := 0, slots := 0, locals := 0 }
set_option maxHeartbeats 4000000 in
theorem cmf_checked {l : Launch} {dC : Nat → ClassId} {dI : Nat → Nat → Nat} {ac : Nat → ClassId} {o : Nat} {ad : Nat → Nat} {N : Nat} {σ : mSt} {w0 : Nat} {x1 : Int32} {r : Int32} (hf : M_checked N σ w0 x1 = some r) : Met l yX6_checked (ws_ yX6_checked cX6_checked 4 (some .int)) { frames := 0, cells := 0, slots := 0, locals := 0 } (va_Pc [.ref (ad w0), .int x1] (mPre dC dI ac o ad σ)) (mQi dC dI ac o ad r σ) 0 0 (mF o ad) := by
  refine m_of (by decide) rfl (Nat.le_of_ble_eq_true rfl) ?_
  intro p e s m args below meth c E hb hr hlk hml hS ls hl
  have hl : lv_has ls 4 [(0, .ref (ad w0)), (1, .int x1)] := hl
  have hL5 : ∀ (n : Nat) (w0 : Nat) (x1 : Int32) (x2 : Int32) (x3 : Int32), rn4 (M_checked_b5 N σ) n w0 x1 x2 x3 = some r → ∀ (H : Heap) (locs : List Loc), mS dC dI ac o ad s.heap σ H locs → ∀ (ls : Array Slot), lv_has ls 4 [(0, .ref (ad w0)), (1, .int x1), (2, .int x2), (3, .int x3)] → W p l e rM_checked s m args below meth c H locs 0 0 (MQ below (mQi dC dI ac o ad r σ) args s 0 0 (mF o ad)) (F0 m 5 ls []) := by
    intro  n
    induction n with
    | zero =>
      intro w0 x1 x2 x3 hf
      cases hf
    | succ n ih =>
      intro w0 x1 x2 x3 hf H locs hS ls hl
      have hf : M_checked_b5 N σ (rn4 (M_checked_b5 N σ) n) w0 x1 x2 x3 = some r := hf
      have hk5 := ih
      generalize rn4 (M_checked_b5 N σ) n = k5 at hf hk5
      unfold M_checked_b5 at hf
      refine lv_iload_n E.1 hb dX6_checked_5 rfl (lv_at hl 3 rfl) ?_
      refine lv_iload_n E.1 hb dX6_checked_6 rfl (lv_at hl 1 rfl) ?_
      refine lv_icmp_ge (tgt := 28) E.1 hb dX6_checked_7 (by decide) (fun hc => ?_) (fun hc => ?_)
      · have hf := it_s hc hf
        refine lv_iload_n E.1 hb dX6_checked_28 rfl (lv_at hl 2 rfl) ?_
        exact m_irR E hb hr hlk hS hf dX6_checked_29
      · have hf := if_s hc hf
        refine lv_iconst (v := 3) E.1 hb dX6_checked_10 rfl ?_
        refine lv_iload_n E.1 hb dX6_checked_11 rfl (lv_at hl 2 rfl) ?_
        refine lv_imul E.1 hb dX6_checked_12 ?_
        refine lv_aload_n E.1 hb dX6_checked_13 rfl (lv_at hl 0 rfl) ?_
        refine lv_iload_n E.1 hb dX6_checked_14 rfl (lv_at hl 3 rfl) ?_
        obtain ⟨hg, hf⟩ := ld_s hf
        refine m_ild E hb hS hg dX6_checked_15 ?_
        refine lv_iadd E.1 hb dX6_checked_16 ?_
        refine lv_sipush (v := 251) E.1 hb dX6_checked_17 rfl ?_
        refine lv_irem E.1 hb dX6_checked_20 (by decide) ?_
        refine lv_istore_n (lv' := [(2, .int (((3 * x2) + (σ.1 w0 x3.toNatClampNeg)) - ((3 * x2) + (σ.1 w0 x3.toNatClampNeg)) / 251 * 251)), (0, .ref (ad w0)), (1, .int x1), (3, .int x3)]) E.1 hb dX6_checked_21 rfl hl (by decide) rfl (fun ls hl => ?_)
        refine lv_iinc (v := (x3 + 1)) (lv' := [(3, .int (x3 + 1)), (2, .int (((3 * x2) + (σ.1 w0 x3.toNatClampNeg)) - ((3 * x2) + (σ.1 w0 x3.toNatClampNeg)) / 251 * 251)), (0, .ref (ad w0)), (1, .int x1)]) E.1 hb dX6_checked_22 hl (k := 3) rfl rfl (by decide) rfl (fun ls hl => ?_)
        refine lv_goto (tgt := 5) E.1 hb dX6_checked_25 (by decide) ?_
        exact hk5 w0 x1 (((3 * x2) + (σ.1 w0 x3.toNatClampNeg)) - ((3 * x2) + (σ.1 w0 x3.toNatClampNeg)) / 251 * 251) (x3 + 1) hf _ _ hS _ (lv_sub hl [2, 3, 1, 0] rfl)
  unfold M_checked at hf
  refine lv_bipush (v := 83) E.1 hb dX6_checked_0 rfl ?_
  refine lv_istore_n (lv' := [(2, .int 83), (0, .ref (ad w0)), (1, .int x1)]) E.1 hb dX6_checked_2 rfl hl (by decide) rfl (fun ls hl => ?_)
  refine lv_iconst (v := 0) E.1 hb dX6_checked_3 rfl ?_
  refine lv_istore_n (lv' := [(3, .int 0), (2, .int 83), (0, .ref (ad w0)), (1, .int x1)]) E.1 hb dX6_checked_4 rfl hl (by decide) rfl (fun ls hl => ?_)
  exact hL5 N w0 x1 83 0 hf _ _ hS _ (lv_sub hl [2, 3, 1, 0] rfl)
/-! writes(I)V: RW -/
noncomputable def M_writes (σ : mSt) (x1 : Int32) : Option (Unit × mSt) :=
  bo (stI 2 σ 104 (σ.1 105 0) x1) fun σ1 => lt2 (mUI σ1 105 0 ((σ1.1 105 0) + 1)) fun σ2 => some ((), σ2)
theorem gw_writes : GoodIn lw_all (wsV RX6 670 RX6 yX6_writes (ws_ yX6_writes cX6_writes 2 none)) := lw_V q2499 q2501 qs147 q164 q2502
theorem gn_writes : yX6_writes.cls = RX6 ∧ yX6_writes.cls ≠ "java/lang/invoke/MethodHandle" ∧ yX6_writes.cls ≠ "java/lang/invoke/VarHandle" ∧ (parseMethodDescriptor yX6_writes.desc).map (fun d => d.parameters.length) = some 1 := by decide +kernel
abbrev rM_writes : Room := { frames := 0, cells := 0, slots := 0, locals := 0 }
set_option maxHeartbeats 4000000 in
theorem cmf_writes {l : Launch} {dC : Nat → ClassId} {dI : Nat → Nat → Nat} {ac : Nat → ClassId} {o : Nat} {ad : Nat → Nat} {σ : mSt} {x1 : Int32} {σ' : mSt} (hf : M_writes σ x1 = some ((), σ')) : Met l yX6_writes (ws_ yX6_writes cX6_writes 2 none) { frames := 0, cells := 0, slots := 0, locals := 0 } (va_Pc [.ref o, .int x1] (mPre dC dI ac o ad σ)) (mQv dC dI ac o ad σ') 0 0 (mF o ad) := by
  refine m_of (by decide) rfl (Nat.le_of_ble_eq_true rfl) ?_
  intro p e s m args below meth c E hb hr hlk hml hS ls hl
  have hl : lv_has ls 2 [(0, .ref o), (1, .int x1)] := hl
  unfold M_writes at hf
  refine lv_aload_n E.1 hb dX6_writes_0 rfl (lv_at hl 0 rfl) ?_
  refine m_gA (k := 104) E hb hS 2 rfl (by decide) fl_104 dX6_writes_1 ?_
  refine lv_aload_n E.1 hb dX6_writes_4 rfl (lv_at hl 0 rfl) ?_
  refine m_gI (k := 105) E hb hS rfl fl_105 dX6_writes_5 ?_
  refine lv_iload_n E.1 hb dX6_writes_8 rfl (lv_at hl 1 rfl) ?_
  obtain ⟨σ1, hg, hw, hf⟩ := st_s hf
  refine m_ist E hb hS hg hw dX6_writes_9 (fun H locs hS => ?_)
  refine lv_aload_n E.1 hb dX6_writes_10 rfl (lv_at hl 0 rfl) ?_
  refine lv_dup E.1 hb dX6_writes_11 rfl ?_
  refine m_gI (k := 105) E hb hS rfl fl_105 dX6_writes_12 ?_
  refine lv_iconst (v := 1) E.1 hb dX6_writes_15 rfl ?_
  refine lv_iadd E.1 hb dX6_writes_16 ?_
  obtain ⟨σ2, hw, hf⟩ := lt2_s hf
  refine m_pI (k := 105) E hb hS rfl rfl pf_105 fl_105 hw dX6_writes_17 (fun H locs hS => ?_)
  exact m_vr E hb hr hlk hS hf dX6_writes_20
/-! writesTwo(I)V: RW -/
noncomputable def M_writesTwo (σ : mSt) (x1 : Int32) : Option (Unit × mSt) :=
  bd (M_writes σ (x1 / 256)) fun _ σ1 => bd (M_writes σ1 (x1 - x1 / 256 * 256)) fun _ σ2 => some ((), σ2)
theorem gw_writesTwo : GoodIn lw_all (wsV RX6 673 RX6 yX6_writesTwo (ws_ yX6_writesTwo cX6_writesTwo 2 none)) := lw_V q2495 q2497 qs146 q164 q2498
theorem gn_writesTwo : yX6_writesTwo.cls = RX6 ∧ yX6_writesTwo.cls ≠ "java/lang/invoke/MethodHandle" ∧ yX6_writesTwo.cls ≠ "java/lang/invoke/VarHandle" ∧ (parseMethodDescriptor yX6_writesTwo.desc).map (fun d => d.parameters.length) = some 1 := by decide +kernel
abbrev rM_writesTwo : Room := { frames := 1, cells := 0, slots := 0, locals := 21 }
set_option maxHeartbeats 4000000 in
theorem cmf_writesTwo {l : Launch} {dC : Nat → ClassId} {dI : Nat → Nat → Nat} {ac : Nat → ClassId} {o : Nat} {ad : Nat → Nat} {σ : mSt} {x1 : Int32} {σ' : mSt} (hf : M_writesTwo σ x1 = some ((), σ')) : Met l yX6_writesTwo (ws_ yX6_writesTwo cX6_writesTwo 2 none) { frames := 1, cells := 0, slots := 0, locals := 21 } (va_Pc [.ref o, .int x1] (mPre dC dI ac o ad σ)) (mQv dC dI ac o ad σ') 0 0 (mF o ad) := by
  refine m_of (by decide) rfl (Nat.le_of_ble_eq_true rfl) ?_
  intro p e s m args below meth c E hb hr hlk hml hS ls hl
  have hl : lv_has ls 2 [(0, .ref o), (1, .int x1)] := hl
  unfold M_writesTwo at hf
  refine lv_aload_n E.1 hb dX6_writesTwo_0 rfl (lv_at hl 0 rfl) ?_
  refine lv_iload_n E.1 hb dX6_writesTwo_1 rfl (lv_at hl 1 rfl) ?_
  refine lv_sipush (v := 256) E.1 hb dX6_writesTwo_2 rfl ?_
  refine lv_idiv E.1 hb dX6_writesTwo_5 (by decide) ?_
  obtain ⟨_, σ1, h1, hf⟩ := bd_s hf
  refine m_cVv E hb hml hl.1 hS (cmf_writes h1) gw_writes gn_writes rfl rfl (Nat.le_of_ble_eq_true rfl) ⟨Nat.le_of_ble_eq_true rfl, Nat.le_of_ble_eq_true rfl⟩ ⟨Nat.le_refl 0, Nat.le_refl 0⟩ dX6_writesTwo_6 (fun H locs hS => ?_)
  refine lv_aload_n E.1 hb dX6_writesTwo_9 rfl (lv_at hl 0 rfl) ?_
  refine lv_iload_n E.1 hb dX6_writesTwo_10 rfl (lv_at hl 1 rfl) ?_
  refine lv_sipush (v := 256) E.1 hb dX6_writesTwo_11 rfl ?_
  refine lv_irem E.1 hb dX6_writesTwo_14 (by decide) ?_
  obtain ⟨_, σ2, h1, hf⟩ := bd_s hf
  refine m_cVv E hb hml hl.1 hS (cmf_writes h1) gw_writes gn_writes rfl rfl (Nat.le_of_ble_eq_true rfl) ⟨Nat.le_of_ble_eq_true rfl, Nat.le_of_ble_eq_true rfl⟩ ⟨Nat.le_refl 0, Nat.le_refl 0⟩ dX6_writesTwo_15 (fun H locs hS => ?_)
  exact m_vr E hb hr hlk hS hf dX6_writesTwo_18
/-! image()I: RW -/
noncomputable def M_image_b45 (N : Nat) (k45 : mSt → Int32 → Option (Int32 × mSt)) (σ : mSt) (x1 : Int32) : Option (Int32 × mSt) :=
  bo (M_beingMany σ) fun r5 => if r5 ≤ x1 then (bo (M_checked N σ 104 (σ.1 105 0)) fun r6 => bd (M_writes σ r6) fun _ σ7 => some ((σ7.1 105 0), σ7)) else (bo (M_leafOf σ x1) fun r8 => bd (M_writes σ r8) fun _ σ9 => bo (M_cellOf σ9 x1) fun r10 => bd (M_writes σ9 r10) fun _ σ11 => bo (M_purseOf σ11 x1) fun r12 => bd (M_writesTwo σ11 r12) fun _ σ13 => bo (ld 2 σ13 56 ((7 + (4 * x1)) + 3)) fun v14 => bd (M_writesTwo σ13 v14) fun _ σ15 => k45 σ15 (x1 + 1))
noncomputable def M_image_b17 (N : Nat) (k17 : mSt → Int32 → Option (Int32 × mSt)) (σ : mSt) (x1 : Int32) : Option (Int32 × mSt) :=
  bo (M_leaves σ) fun r4 => if r4 ≤ x1 then (rn2 (M_image_b45 N) N σ 0) else (bo (ld 2 σ 56 (1 + x1)) fun v16 => bd (M_writes σ v16) fun _ σ17 => k17 σ17 (x1 + 1))
noncomputable def M_image (N : Nat) (σ : mSt) : Option (Int32 × mSt) :=
  lt2 (mUI σ 105 0 0) fun σ1 => bo (ld 2 σ1 56 0) fun v2 => bd (M_writesTwo σ1 v2) fun _ σ3 => rn2 (M_image_b17 N) N σ3 0
abbrev rM_image : Room := { frames := 2, cells := 0, slots := 0, locals := 42 }
set_option maxHeartbeats 4000000 in
theorem cmf_image {l : Launch} {dC : Nat → ClassId} {dI : Nat → Nat → Nat} {ac : Nat → ClassId} {o : Nat} {ad : Nat → Nat} {N : Nat} {σ : mSt} {r : Int32} {σ' : mSt} (hf : M_image N σ = some (r, σ')) : Met l yX6_image (ws_ yX6_image cX6_image 2 (some .int)) { frames := 2, cells := 0, slots := 0, locals := 42 } (va_Pc [.ref o] (mPre dC dI ac o ad σ)) (mQi dC dI ac o ad r σ') 0 0 (mF o ad) := by
  refine m_of (by decide) rfl (Nat.le_of_ble_eq_true rfl) ?_
  intro p e s m args below meth c E hb hr hlk hml hS ls hl
  have hl : lv_has ls 2 [(0, .ref o)] := hl
  have hL45 : ∀ (n : Nat) (σ : mSt) (x1 : Int32), rn2 (M_image_b45 N) n σ x1 = some (r, σ') → ∀ (H : Heap) (locs : List Loc), mS dC dI ac o ad s.heap σ H locs → ∀ (ls : Array Slot), lv_has ls 2 [(0, .ref o), (1, .int x1)] → W p l e rM_image s m args below meth c H locs 0 0 (MQ below (mQi dC dI ac o ad r σ') args s 0 0 (mF o ad)) (F0 m 45 ls []) := by
    intro  n
    induction n with
    | zero =>
      intro σ x1 hf
      cases hf
    | succ n ih =>
      intro σ x1 hf H locs hS ls hl
      have hf : M_image_b45 N (rn2 (M_image_b45 N) n) σ x1 = some (r, σ') := hf
      have hk45 := ih
      generalize rn2 (M_image_b45 N) n = k45 at hf hk45
      unfold M_image_b45 at hf
      refine lv_iload_n E.1 hb dX6_image_45 rfl (lv_at hl 1 rfl) ?_
      refine lv_aload_n E.1 hb dX6_image_46 rfl (lv_at hl 0 rfl) ?_
      obtain ⟨r5, h1, hf⟩ := bo_s hf
      refine m_cVi E hb hml hl.1 hS (cmf_beingMany h1) gw_beingMany gn_beingMany rfl rfl (Nat.le_of_ble_eq_true rfl) ⟨Nat.le_of_ble_eq_true rfl, Nat.le_of_ble_eq_true rfl⟩ ⟨Nat.le_refl 0, Nat.le_refl 0⟩ dX6_image_47 (fun H locs hS => ?_)
      refine lv_icmp_ge (tgt := 103) E.1 hb dX6_image_50 (by decide) (fun hc => ?_) (fun hc => ?_)
      · have hf := it_s hc hf
        refine lv_aload_n E.1 hb dX6_image_103 rfl (lv_at hl 0 rfl) ?_
        refine lv_aload_n E.1 hb dX6_image_104 rfl (lv_at hl 0 rfl) ?_
        refine m_gA (k := 104) E hb hS 2 rfl (by decide) fl_104 dX6_image_105 ?_
        refine lv_aload_n E.1 hb dX6_image_108 rfl (lv_at hl 0 rfl) ?_
        refine m_gI (k := 105) E hb hS rfl fl_105 dX6_image_109 ?_
        obtain ⟨r6, h1, hf⟩ := bo_s hf
        refine m_cSi E hb hml hl.1 hS (cmf_checked h1) gw_checked gn_checked rfl rfl (Nat.le_of_ble_eq_true rfl) ⟨Nat.le_of_ble_eq_true rfl, Nat.le_of_ble_eq_true rfl⟩ ⟨Nat.le_refl 0, Nat.le_refl 0⟩ dX6_image_112 (fun H locs hS => ?_)
        obtain ⟨_, σ7, h1, hf⟩ := bd_s hf
        refine m_cVv E hb hml hl.1 hS (cmf_writes h1) gw_writes gn_writes rfl rfl (Nat.le_of_ble_eq_true rfl) ⟨Nat.le_of_ble_eq_true rfl, Nat.le_of_ble_eq_true rfl⟩ ⟨Nat.le_refl 0, Nat.le_refl 0⟩ dX6_image_115 (fun H locs hS => ?_)
        refine lv_aload_n E.1 hb dX6_image_118 rfl (lv_at hl 0 rfl) ?_
        refine m_gI (k := 105) E hb hS rfl fl_105 dX6_image_119 ?_
        exact m_ir E hb hr hlk hS hf dX6_image_122
      · have hf := if_s hc hf
        refine lv_aload_n E.1 hb dX6_image_53 rfl (lv_at hl 0 rfl) ?_
        refine lv_aload_n E.1 hb dX6_image_54 rfl (lv_at hl 0 rfl) ?_
        refine lv_iload_n E.1 hb dX6_image_55 rfl (lv_at hl 1 rfl) ?_
        obtain ⟨r8, h1, hf⟩ := bo_s hf
        refine m_cVi E hb hml hl.1 hS (cmf_leafOf h1) gw_leafOf gn_leafOf rfl rfl (Nat.le_of_ble_eq_true rfl) ⟨Nat.le_of_ble_eq_true rfl, Nat.le_of_ble_eq_true rfl⟩ ⟨Nat.le_refl 0, Nat.le_refl 0⟩ dX6_image_56 (fun H locs hS => ?_)
        obtain ⟨_, σ9, h1, hf⟩ := bd_s hf
        refine m_cVv E hb hml hl.1 hS (cmf_writes h1) gw_writes gn_writes rfl rfl (Nat.le_of_ble_eq_true rfl) ⟨Nat.le_of_ble_eq_true rfl, Nat.le_of_ble_eq_true rfl⟩ ⟨Nat.le_refl 0, Nat.le_refl 0⟩ dX6_image_59 (fun H locs hS => ?_)
        refine lv_aload_n E.1 hb dX6_image_62 rfl (lv_at hl 0 rfl) ?_
        refine lv_aload_n E.1 hb dX6_image_63 rfl (lv_at hl 0 rfl) ?_
        refine lv_iload_n E.1 hb dX6_image_64 rfl (lv_at hl 1 rfl) ?_
        obtain ⟨r10, h1, hf⟩ := bo_s hf
        refine m_cVi E hb hml hl.1 hS (cmf_cellOf h1) gw_cellOf gn_cellOf rfl rfl (Nat.le_of_ble_eq_true rfl) ⟨Nat.le_of_ble_eq_true rfl, Nat.le_of_ble_eq_true rfl⟩ ⟨Nat.le_refl 0, Nat.le_refl 0⟩ dX6_image_65 (fun H locs hS => ?_)
        obtain ⟨_, σ11, h1, hf⟩ := bd_s hf
        refine m_cVv E hb hml hl.1 hS (cmf_writes h1) gw_writes gn_writes rfl rfl (Nat.le_of_ble_eq_true rfl) ⟨Nat.le_of_ble_eq_true rfl, Nat.le_of_ble_eq_true rfl⟩ ⟨Nat.le_refl 0, Nat.le_refl 0⟩ dX6_image_68 (fun H locs hS => ?_)
        refine lv_aload_n E.1 hb dX6_image_71 rfl (lv_at hl 0 rfl) ?_
        refine lv_aload_n E.1 hb dX6_image_72 rfl (lv_at hl 0 rfl) ?_
        refine lv_iload_n E.1 hb dX6_image_73 rfl (lv_at hl 1 rfl) ?_
        obtain ⟨r12, h1, hf⟩ := bo_s hf
        refine m_cVi E hb hml hl.1 hS (cmf_purseOf h1) gw_purseOf gn_purseOf rfl rfl (Nat.le_of_ble_eq_true rfl) ⟨Nat.le_of_ble_eq_true rfl, Nat.le_of_ble_eq_true rfl⟩ ⟨Nat.le_refl 0, Nat.le_refl 0⟩ dX6_image_74 (fun H locs hS => ?_)
        obtain ⟨_, σ13, h1, hf⟩ := bd_s hf
        refine m_cVv E hb hml hl.1 hS (cmf_writesTwo h1) gw_writesTwo gn_writesTwo rfl rfl (Nat.le_of_ble_eq_true rfl) ⟨Nat.le_of_ble_eq_true rfl, Nat.le_of_ble_eq_true rfl⟩ ⟨Nat.le_refl 0, Nat.le_refl 0⟩ dX6_image_77 (fun H locs hS => ?_)
        refine lv_aload_n E.1 hb dX6_image_80 rfl (lv_at hl 0 rfl) ?_
        refine lv_aload_n E.1 hb dX6_image_81 rfl (lv_at hl 0 rfl) ?_
        refine m_gA (k := 56) E hb hS 2 rfl (by decide) fl_56 dX6_image_82 ?_
        refine lv_bipush (v := 7) E.1 hb dX6_image_85 rfl ?_
        refine lv_iconst (v := 4) E.1 hb dX6_image_87 rfl ?_
        refine lv_iload_n E.1 hb dX6_image_88 rfl (lv_at hl 1 rfl) ?_
        refine lv_imul E.1 hb dX6_image_89 ?_
        refine lv_iadd E.1 hb dX6_image_90 ?_
        refine lv_iconst (v := 3) E.1 hb dX6_image_91 rfl ?_
        refine lv_iadd E.1 hb dX6_image_92 ?_
        obtain ⟨hg, hf⟩ := ld_s hf
        refine m_ild E hb hS hg dX6_image_93 ?_
        obtain ⟨_, σ15, h1, hf⟩ := bd_s hf
        refine m_cVv E hb hml hl.1 hS (cmf_writesTwo h1) gw_writesTwo gn_writesTwo rfl rfl (Nat.le_of_ble_eq_true rfl) ⟨Nat.le_of_ble_eq_true rfl, Nat.le_of_ble_eq_true rfl⟩ ⟨Nat.le_refl 0, Nat.le_refl 0⟩ dX6_image_94 (fun H locs hS => ?_)
        refine lv_iinc (v := (x1 + 1)) (lv' := [(1, .int (x1 + 1)), (0, .ref o)]) E.1 hb dX6_image_97 hl (k := 1) rfl rfl (by decide) rfl (fun ls hl => ?_)
        refine lv_goto (tgt := 45) E.1 hb dX6_image_100 (by decide) ?_
        exact hk45 σ15 (x1 + 1) hf _ _ hS _ (lv_sub hl [1, 0] rfl)
  have hL17 : ∀ (n : Nat) (σ : mSt) (x1 : Int32), rn2 (M_image_b17 N) n σ x1 = some (r, σ') → ∀ (H : Heap) (locs : List Loc), mS dC dI ac o ad s.heap σ H locs → ∀ (ls : Array Slot), lv_has ls 2 [(0, .ref o), (1, .int x1)] → W p l e rM_image s m args below meth c H locs 0 0 (MQ below (mQi dC dI ac o ad r σ') args s 0 0 (mF o ad)) (F0 m 17 ls []) := by
    intro  n
    induction n with
    | zero =>
      intro σ x1 hf
      cases hf
    | succ n ih =>
      intro σ x1 hf H locs hS ls hl
      have hf : M_image_b17 N (rn2 (M_image_b17 N) n) σ x1 = some (r, σ') := hf
      have hk17 := ih
      generalize rn2 (M_image_b17 N) n = k17 at hf hk17
      unfold M_image_b17 at hf
      refine lv_iload_n E.1 hb dX6_image_17 rfl (lv_at hl 1 rfl) ?_
      refine lv_aload_n E.1 hb dX6_image_18 rfl (lv_at hl 0 rfl) ?_
      obtain ⟨r4, h1, hf⟩ := bo_s hf
      refine m_cVi E hb hml hl.1 hS (cmf_leaves h1) gw_leaves gn_leaves rfl rfl (Nat.le_of_ble_eq_true rfl) ⟨Nat.le_of_ble_eq_true rfl, Nat.le_of_ble_eq_true rfl⟩ ⟨Nat.le_refl 0, Nat.le_refl 0⟩ dX6_image_19 (fun H locs hS => ?_)
      refine lv_icmp_ge (tgt := 43) E.1 hb dX6_image_22 (by decide) (fun hc => ?_) (fun hc => ?_)
      · have hf := it_s hc hf
        refine lv_iconst (v := 0) E.1 hb dX6_image_43 rfl ?_
        refine lv_istore_n (lv' := [(1, .int 0), (0, .ref o)]) E.1 hb dX6_image_44 rfl hl (by decide) rfl (fun ls hl => ?_)
        exact hL45 N σ 0 hf _ _ hS _ (lv_sub hl [1, 0] rfl)
      · have hf := if_s hc hf
        refine lv_aload_n E.1 hb dX6_image_25 rfl (lv_at hl 0 rfl) ?_
        refine lv_aload_n E.1 hb dX6_image_26 rfl (lv_at hl 0 rfl) ?_
        refine m_gA (k := 56) E hb hS 2 rfl (by decide) fl_56 dX6_image_27 ?_
        refine lv_iconst (v := 1) E.1 hb dX6_image_30 rfl ?_
        refine lv_iload_n E.1 hb dX6_image_31 rfl (lv_at hl 1 rfl) ?_
        refine lv_iadd E.1 hb dX6_image_32 ?_
        obtain ⟨hg, hf⟩ := ld_s hf
        refine m_ild E hb hS hg dX6_image_33 ?_
        obtain ⟨_, σ17, h1, hf⟩ := bd_s hf
        refine m_cVv E hb hml hl.1 hS (cmf_writes h1) gw_writes gn_writes rfl rfl (Nat.le_of_ble_eq_true rfl) ⟨Nat.le_of_ble_eq_true rfl, Nat.le_of_ble_eq_true rfl⟩ ⟨Nat.le_refl 0, Nat.le_refl 0⟩ dX6_image_34 (fun H locs hS => ?_)
        refine lv_iinc (v := (x1 + 1)) (lv' := [(1, .int (x1 + 1)), (0, .ref o)]) E.1 hb dX6_image_37 hl (k := 1) rfl rfl (by decide) rfl (fun ls hl => ?_)
        refine lv_goto (tgt := 17) E.1 hb dX6_image_40 (by decide) ?_
        exact hk17 σ17 (x1 + 1) hf _ _ hS _ (lv_sub hl [1, 0] rfl)
  unfold M_image at hf
  refine lv_aload_n E.1 hb dX6_image_0 rfl (lv_at hl 0 rfl) ?_
  refine lv_iconst (v := 0) E.1 hb dX6_image_1 rfl ?_
  obtain ⟨σ1, hw, hf⟩ := lt2_s hf
  refine m_pI (k := 105) E hb hS rfl rfl pf_105 fl_105 hw dX6_image_2 (fun H locs hS => ?_)
  refine lv_aload_n E.1 hb dX6_image_5 rfl (lv_at hl 0 rfl) ?_
  refine lv_aload_n E.1 hb dX6_image_6 rfl (lv_at hl 0 rfl) ?_
  refine m_gA (k := 56) E hb hS 2 rfl (by decide) fl_56 dX6_image_7 ?_
  refine lv_iconst (v := 0) E.1 hb dX6_image_10 rfl ?_
  obtain ⟨hg, hf⟩ := ld_s hf
  refine m_ild E hb hS hg dX6_image_11 ?_
  obtain ⟨_, σ3, h1, hf⟩ := bd_s hf
  refine m_cVv E hb hml hl.1 hS (cmf_writesTwo h1) gw_writesTwo gn_writesTwo rfl rfl (Nat.le_of_ble_eq_true rfl) ⟨Nat.le_of_ble_eq_true rfl, Nat.le_of_ble_eq_true rfl⟩ ⟨Nat.le_refl 0, Nat.le_refl 0⟩ dX6_image_12 (fun H locs hS => ?_)
  refine lv_iconst (v := 0) E.1 hb dX6_image_15 rfl ?_
  refine lv_istore_n (lv' := [(1, .int 0), (0, .ref o)]) E.1 hb dX6_image_16 rfl hl (by decide) rfl (fun ls hl => ?_)
  exact hL17 N σ3 0 hf _ _ hS _ (lv_sub hl [1, 0] rfl)
/-! octet(I)I: RO -/
noncomputable def M_octet (σ : mSt) (x1 : Int32) : Option Int32 :=
  if x1 < 0 then (some (-1)) else (if (σ.1 105 0) ≤ x1 then (some (-1)) else (bo (ld 2 σ 104 x1) fun v1 => some v1))
abbrev rM_octet : Room := { frames := 0, cells := 0, slots := 0, locals := 0 }
set_option maxHeartbeats 4000000 in
theorem cmf_octet {l : Launch} {dC : Nat → ClassId} {dI : Nat → Nat → Nat} {ac : Nat → ClassId} {o : Nat} {ad : Nat → Nat} {σ : mSt} {x1 : Int32} {r : Int32} (hf : M_octet σ x1 = some r) : Met l yX6_octet (ws_ yX6_octet cX6_octet 2 (some .int)) { frames := 0, cells := 0, slots := 0, locals := 0 } (va_Pc [.ref o, .int x1] (mPre dC dI ac o ad σ)) (mQi dC dI ac o ad r σ) 0 0 (mF o ad) := by
  refine m_of (by decide) rfl (Nat.le_of_ble_eq_true rfl) ?_
  intro p e s m args below meth c E hb hr hlk hml hS ls hl
  have hl : lv_has ls 2 [(0, .ref o), (1, .int x1)] := hl
  unfold M_octet at hf
  refine lv_iload_n E.1 hb dX6_octet_0 rfl (lv_at hl 1 rfl) ?_
  refine lv_if_lt (tgt := 21) E.1 hb dX6_octet_1 (by decide) (fun hc => ?_) (fun hc => ?_)
  · have hf := it_s hc hf
    refine lv_iconst (v := (-1)) E.1 hb dX6_octet_21 rfl ?_
    exact m_irR E hb hr hlk hS hf dX6_octet_22
  · have hf := if_s hc hf
    refine lv_iload_n E.1 hb dX6_octet_4 rfl (lv_at hl 1 rfl) ?_
    refine lv_aload_n E.1 hb dX6_octet_5 rfl (lv_at hl 0 rfl) ?_
    refine m_gI (k := 105) E hb hS rfl fl_105 dX6_octet_6 ?_
    refine lv_icmp_ge (tgt := 21) E.1 hb dX6_octet_9 (by decide) (fun hc => ?_) (fun hc => ?_)
    · have hf := it_s hc hf
      refine lv_iconst (v := (-1)) E.1 hb dX6_octet_21 rfl ?_
      exact m_irR E hb hr hlk hS hf dX6_octet_22
    · have hf := if_s hc hf
      refine lv_aload_n E.1 hb dX6_octet_12 rfl (lv_at hl 0 rfl) ?_
      refine m_gA (k := 104) E hb hS 2 rfl (by decide) fl_104 dX6_octet_13 ?_
      refine lv_iload_n E.1 hb dX6_octet_16 rfl (lv_at hl 1 rfl) ?_
      obtain ⟨hg, hf⟩ := ld_s hf
      refine m_ild E hb hS hg dX6_octet_17 ?_
      refine lv_goto (tgt := 22) E.1 hb dX6_octet_18 (by decide) ?_
      exact m_irR E hb hr hlk hS hf dX6_octet_22
/-! twoAt(I)I: RO -/
noncomputable def M_twoAt (σ : mSt) (x1 : Int32) : Option Int32 :=
  bo (ld 2 σ 0 x1) fun v1 => bo (ld 2 σ 0 (x1 + 1)) fun v2 => some ((256 * v1) + v2)
theorem gw_twoAt : GoodIn lw_all (wsV RX6 680 RX6 yX6_twoAt (ws_ yX6_twoAt cX6_twoAt 2 (some .int))) := lw_V q2518 q2520 qs149 q164 q2521
theorem gn_twoAt : yX6_twoAt.cls = RX6 ∧ yX6_twoAt.cls ≠ "java/lang/invoke/MethodHandle" ∧ yX6_twoAt.cls ≠ "java/lang/invoke/VarHandle" ∧ (parseMethodDescriptor yX6_twoAt.desc).map (fun d => d.parameters.length) = some 1 := by decide +kernel
abbrev rM_twoAt : Room := { frames := 0, cells := 0, slots := 0, locals := 0 }
set_option maxHeartbeats 4000000 in
theorem cmf_twoAt {l : Launch} {dC : Nat → ClassId} {dI : Nat → Nat → Nat} {ac : Nat → ClassId} {o : Nat} {ad : Nat → Nat} {σ : mSt} {x1 : Int32} {r : Int32} (hf : M_twoAt σ x1 = some r) : Met l yX6_twoAt (ws_ yX6_twoAt cX6_twoAt 2 (some .int)) { frames := 0, cells := 0, slots := 0, locals := 0 } (va_Pc [.ref o, .int x1] (mPre dC dI ac o ad σ)) (mQi dC dI ac o ad r σ) 0 0 (mF o ad) := by
  refine m_of (by decide) rfl (Nat.le_of_ble_eq_true rfl) ?_
  intro p e s m args below meth c E hb hr hlk hml hS ls hl
  have hl : lv_has ls 2 [(0, .ref o), (1, .int x1)] := hl
  unfold M_twoAt at hf
  refine lv_sipush (v := 256) E.1 hb dX6_twoAt_0 rfl ?_
  refine lv_aload_n E.1 hb dX6_twoAt_3 rfl (lv_at hl 0 rfl) ?_
  refine m_gA (k := 0) E hb hS 2 rfl (by decide) fl_0 dX6_twoAt_4 ?_
  refine lv_iload_n E.1 hb dX6_twoAt_7 rfl (lv_at hl 1 rfl) ?_
  obtain ⟨hg, hf⟩ := ld_s hf
  refine m_ild E hb hS hg dX6_twoAt_8 ?_
  refine lv_imul E.1 hb dX6_twoAt_9 ?_
  refine lv_aload_n E.1 hb dX6_twoAt_10 rfl (lv_at hl 0 rfl) ?_
  refine m_gA (k := 0) E hb hS 2 rfl (by decide) fl_0 dX6_twoAt_11 ?_
  refine lv_iload_n E.1 hb dX6_twoAt_14 rfl (lv_at hl 1 rfl) ?_
  refine lv_iconst (v := 1) E.1 hb dX6_twoAt_15 rfl ?_
  refine lv_iadd E.1 hb dX6_twoAt_16 ?_
  obtain ⟨hg, hf⟩ := ld_s hf
  refine m_ild E hb hS hg dX6_twoAt_17 ?_
  refine lv_iadd E.1 hb dX6_twoAt_18 ?_
  exact m_irR E hb hr hlk hS hf dX6_twoAt_19
/-! isBeingTold(II)Z: RO -/
noncomputable def M_isBeingTold_b131 (N : Nat) (σ : mSt) (k87 : Int32 → Int32 → Option Int32) (x3 : Int32) (x4 : Int32) : Option Int32 :=
  k87 x3 (x4 + 6)
noncomputable def M_isBeingTold_b87 (N : Nat) (σ : mSt) (k87 : Int32 → Int32 → Option Int32) (x3 : Int32) (x4 : Int32) : Option Int32 :=
  if x3 ≤ x4 then (some 1) else (bo (ld 2 σ 0 x4) fun v9 => bo (ld 2 σ 0 x3) fun v10 => if v9 = v10 then (bo (ld 2 σ 0 (x4 + 1)) fun v11 => bo (ld 2 σ 0 (x3 + 1)) fun v12 => if v11 = v12 then (some 0) else (M_isBeingTold_b131 N σ k87 x3 x4)) else (M_isBeingTold_b131 N σ k87 x3 x4))
noncomputable def M_isBeingTold (N : Nat) (σ : mSt) (x1 : Int32) (x2 : Int32) : Option Int32 :=
  bo (ld 2 σ 0 (x1 + (6 * x2))) fun v1 => bo (ld 2 σ 0 ((x1 + (6 * x2)) + 1)) fun v2 => bo (M_isCell σ v1 v2) fun r3 => if r3 = 0 then (some 0) else (bo (ld 2 σ 0 (x1 + (6 * x2))) fun v4 => bo (ld 2 σ 0 (2 + v4)) fun v5 => bo (ld 2 σ 0 ((x1 + (6 * x2)) + 1)) fun v6 => if ((v5 >>> (v6 &&& 31)) &&& 1) = 1 then (some 0) else (bo (M_twoAt σ ((x1 + (6 * x2)) + 2)) fun r7 => if 9999 < r7 then (some 0) else (bo (M_twoAt σ ((x1 + (6 * x2)) + 4)) fun r8 => if r8 ≤ 9999 then (rn2 (M_isBeingTold_b87 N σ) N (x1 + (6 * x2)) x1) else (some 0))))
theorem gw_isBeingTold : GoodIn lw_all (wsV RX6 683 RX6 yX6_isBeingTold (ws_ yX6_isBeingTold cX6_isBeingTold 5 (some .boolean))) := lw_V q2522 q2524 qs150 q164 q2525
theorem gn_isBeingTold : yX6_isBeingTold.cls = RX6 ∧ yX6_isBeingTold.cls ≠ "java/lang/invoke/MethodHandle" ∧ yX6_isBeingTold.cls ≠ "java/lang/invoke/VarHandle" ∧ (parseMethodDescriptor yX6_isBeingTold.desc).map (fun d => d.parameters.length) = some 2 := by decide +kernel
abbrev rM_isBeingTold : Room := { frames := 2, cells := 0, slots := 0, locals := 47 }
set_option maxHeartbeats 4000000 in
theorem cmf_isBeingTold {l : Launch} {dC : Nat → ClassId} {dI : Nat → Nat → Nat} {ac : Nat → ClassId} {o : Nat} {ad : Nat → Nat} {N : Nat} {σ : mSt} {x1 : Int32} {x2 : Int32} {r : Int32} (hf : M_isBeingTold N σ x1 x2 = some r) : Met l yX6_isBeingTold (ws_ yX6_isBeingTold cX6_isBeingTold 5 (some .boolean)) { frames := 2, cells := 0, slots := 0, locals := 47 } (va_Pc [.ref o, .int x1, .int x2] (mPre dC dI ac o ad σ)) (mQi dC dI ac o ad r σ) 0 0 (mF o ad) := by
  refine m_of (by decide) rfl (Nat.le_of_ble_eq_true rfl) ?_
  intro p e s m args below meth c E hb hr hlk hml hS ls hl
  have hl : lv_has ls 5 [(0, .ref o), (1, .int x1), (2, .int x2)] := hl
  have hB131 : ∀ (k87 : Int32 → Int32 → Option Int32) (hk87 : ∀ (x3 : Int32) (x4 : Int32), k87 x3 x4 = some r → ∀ (H : Heap) (locs : List Loc), mS dC dI ac o ad s.heap σ H locs → ∀ (ls : Array Slot), lv_has ls 5 [(0, .ref o), (3, .int x3), (4, .int x4)] → W p l e rM_isBeingTold s m args below meth c H locs 0 0 (MQ below (mQi dC dI ac o ad r σ) args s 0 0 (mF o ad)) (F0 m 87 ls [])) (x3 : Int32) (x4 : Int32), M_isBeingTold_b131 N σ k87 x3 x4 = some r → ∀ (H : Heap) (locs : List Loc), mS dC dI ac o ad s.heap σ H locs → ∀ (ls : Array Slot), lv_has ls 5 [(0, .ref o), (3, .int x3), (4, .int x4)] → W p l e rM_isBeingTold s m args below meth c H locs 0 0 (MQ below (mQi dC dI ac o ad r σ) args s 0 0 (mF o ad)) (F0 m 131 ls []) := by
    intro k87 hk87 x3 x4 hf H locs hS ls hl
    unfold M_isBeingTold_b131 at hf
    refine lv_iinc (v := (x4 + 6)) (lv' := [(4, .int (x4 + 6)), (0, .ref o), (3, .int x3)]) E.1 hb dX6_isBeingTold_131 hl (k := 2) rfl rfl (by decide) rfl (fun ls hl => ?_)
    refine lv_goto (tgt := 87) E.1 hb dX6_isBeingTold_134 (by decide) ?_
    exact hk87 x3 (x4 + 6) hf _ _ hS _ (lv_sub hl [1, 2, 0] rfl)
  have hL87 : ∀ (n : Nat) (x3 : Int32) (x4 : Int32), rn2 (M_isBeingTold_b87 N σ) n x3 x4 = some r → ∀ (H : Heap) (locs : List Loc), mS dC dI ac o ad s.heap σ H locs → ∀ (ls : Array Slot), lv_has ls 5 [(0, .ref o), (3, .int x3), (4, .int x4)] → W p l e rM_isBeingTold s m args below meth c H locs 0 0 (MQ below (mQi dC dI ac o ad r σ) args s 0 0 (mF o ad)) (F0 m 87 ls []) := by
    intro  n
    induction n with
    | zero =>
      intro x3 x4 hf
      cases hf
    | succ n ih =>
      intro x3 x4 hf H locs hS ls hl
      have hf : M_isBeingTold_b87 N σ (rn2 (M_isBeingTold_b87 N σ) n) x3 x4 = some r := hf
      have hk87 := ih
      generalize rn2 (M_isBeingTold_b87 N σ) n = k87 at hf hk87
      unfold M_isBeingTold_b87 at hf
      refine lv_iload E.1 hb dX6_isBeingTold_87 (lv_at hl 2 rfl) ?_
      refine lv_iload_n E.1 hb dX6_isBeingTold_89 rfl (lv_at hl 1 rfl) ?_
      refine lv_icmp_ge (tgt := 137) E.1 hb dX6_isBeingTold_90 (by decide) (fun hc => ?_) (fun hc => ?_)
      · have hf := it_s hc hf
        refine lv_iconst (v := 1) E.1 hb dX6_isBeingTold_137 rfl ?_
        exact m_zrR E hb hr hlk hS rfl hf dX6_isBeingTold_138
      · have hf := if_s hc hf
        refine lv_aload_n E.1 hb dX6_isBeingTold_93 rfl (lv_at hl 0 rfl) ?_
        refine m_gA (k := 0) E hb hS 2 rfl (by decide) fl_0 dX6_isBeingTold_94 ?_
        refine lv_iload E.1 hb dX6_isBeingTold_97 (lv_at hl 2 rfl) ?_
        obtain ⟨hg, hf⟩ := ld_s hf
        refine m_ild E hb hS hg dX6_isBeingTold_99 ?_
        refine lv_aload_n E.1 hb dX6_isBeingTold_100 rfl (lv_at hl 0 rfl) ?_
        refine m_gA (k := 0) E hb hS 2 rfl (by decide) fl_0 dX6_isBeingTold_101 ?_
        refine lv_iload_n E.1 hb dX6_isBeingTold_104 rfl (lv_at hl 1 rfl) ?_
        obtain ⟨hg, hf⟩ := ld_s hf
        refine m_ild E hb hS hg dX6_isBeingTold_105 ?_
        refine lv_icmp_ne (tgt := 131) E.1 hb dX6_isBeingTold_106 (by decide) (fun hc => ?_) (fun hc => ?_)
        · have hf := if_s hc hf
          exact hB131 k87 hk87 x3 x4 hf _ _ hS _ (lv_sub hl [0, 1, 2] rfl)
        · have hf := it_s hc hf
          refine lv_aload_n E.1 hb dX6_isBeingTold_109 rfl (lv_at hl 0 rfl) ?_
          refine m_gA (k := 0) E hb hS 2 rfl (by decide) fl_0 dX6_isBeingTold_110 ?_
          refine lv_iload E.1 hb dX6_isBeingTold_113 (lv_at hl 2 rfl) ?_
          refine lv_iconst (v := 1) E.1 hb dX6_isBeingTold_115 rfl ?_
          refine lv_iadd E.1 hb dX6_isBeingTold_116 ?_
          obtain ⟨hg, hf⟩ := ld_s hf
          refine m_ild E hb hS hg dX6_isBeingTold_117 ?_
          refine lv_aload_n E.1 hb dX6_isBeingTold_118 rfl (lv_at hl 0 rfl) ?_
          refine m_gA (k := 0) E hb hS 2 rfl (by decide) fl_0 dX6_isBeingTold_119 ?_
          refine lv_iload_n E.1 hb dX6_isBeingTold_122 rfl (lv_at hl 1 rfl) ?_
          refine lv_iconst (v := 1) E.1 hb dX6_isBeingTold_123 rfl ?_
          refine lv_iadd E.1 hb dX6_isBeingTold_124 ?_
          obtain ⟨hg, hf⟩ := ld_s hf
          refine m_ild E hb hS hg dX6_isBeingTold_125 ?_
          refine lv_icmp_ne (tgt := 131) E.1 hb dX6_isBeingTold_126 (by decide) (fun hc => ?_) (fun hc => ?_)
          · have hf := if_s hc hf
            exact hB131 k87 hk87 x3 x4 hf _ _ hS _ (lv_sub hl [0, 1, 2] rfl)
          · have hf := it_s hc hf
            refine lv_iconst (v := 0) E.1 hb dX6_isBeingTold_129 rfl ?_
            exact m_zrR E hb hr hlk hS rfl hf dX6_isBeingTold_130
  unfold M_isBeingTold at hf
  refine lv_iload_n E.1 hb dX6_isBeingTold_0 rfl (lv_at hl 1 rfl) ?_
  refine lv_bipush (v := 6) E.1 hb dX6_isBeingTold_1 rfl ?_
  refine lv_iload_n E.1 hb dX6_isBeingTold_3 rfl (lv_at hl 2 rfl) ?_
  refine lv_imul E.1 hb dX6_isBeingTold_4 ?_
  refine lv_iadd E.1 hb dX6_isBeingTold_5 ?_
  refine lv_istore_n (lv' := [(3, .int (x1 + (6 * x2))), (0, .ref o), (1, .int x1), (2, .int x2)]) E.1 hb dX6_isBeingTold_6 rfl hl (by decide) rfl (fun ls hl => ?_)
  refine lv_aload_n E.1 hb dX6_isBeingTold_7 rfl (lv_at hl 1 rfl) ?_
  refine lv_aload_n E.1 hb dX6_isBeingTold_8 rfl (lv_at hl 1 rfl) ?_
  refine m_gA (k := 0) E hb hS 2 rfl (by decide) fl_0 dX6_isBeingTold_9 ?_
  refine lv_iload_n E.1 hb dX6_isBeingTold_12 rfl (lv_at hl 0 rfl) ?_
  obtain ⟨hg, hf⟩ := ld_s hf
  refine m_ild E hb hS hg dX6_isBeingTold_13 ?_
  refine lv_aload_n E.1 hb dX6_isBeingTold_14 rfl (lv_at hl 1 rfl) ?_
  refine m_gA (k := 0) E hb hS 2 rfl (by decide) fl_0 dX6_isBeingTold_15 ?_
  refine lv_iload_n E.1 hb dX6_isBeingTold_18 rfl (lv_at hl 0 rfl) ?_
  refine lv_iconst (v := 1) E.1 hb dX6_isBeingTold_19 rfl ?_
  refine lv_iadd E.1 hb dX6_isBeingTold_20 ?_
  obtain ⟨hg, hf⟩ := ld_s hf
  refine m_ild E hb hS hg dX6_isBeingTold_21 ?_
  obtain ⟨r3, h1, hf⟩ := bo_s hf
  refine m_cVi E hb hml hl.1 hS (cmf_isCell h1) gw_isCell gn_isCell rfl rfl (Nat.le_of_ble_eq_true rfl) ⟨Nat.le_of_ble_eq_true rfl, Nat.le_of_ble_eq_true rfl⟩ ⟨Nat.le_refl 0, Nat.le_refl 0⟩ dX6_isBeingTold_22 (fun H locs hS => ?_)
  refine lv_if_eq (tgt := 82) E.1 hb dX6_isBeingTold_25 (by decide) (fun hc => ?_) (fun hc => ?_)
  · have hf := it_s hc hf
    refine lv_iconst (v := 0) E.1 hb dX6_isBeingTold_82 rfl ?_
    exact m_zrR E hb hr hlk hS rfl hf dX6_isBeingTold_83
  · have hf := if_s hc hf
    refine lv_aload_n E.1 hb dX6_isBeingTold_28 rfl (lv_at hl 1 rfl) ?_
    refine m_gA (k := 0) E hb hS 2 rfl (by decide) fl_0 dX6_isBeingTold_29 ?_
    refine lv_iconst (v := 2) E.1 hb dX6_isBeingTold_32 rfl ?_
    refine lv_aload_n E.1 hb dX6_isBeingTold_33 rfl (lv_at hl 1 rfl) ?_
    refine m_gA (k := 0) E hb hS 2 rfl (by decide) fl_0 dX6_isBeingTold_34 ?_
    refine lv_iload_n E.1 hb dX6_isBeingTold_37 rfl (lv_at hl 0 rfl) ?_
    obtain ⟨hg, hf⟩ := ld_s hf
    refine m_ild E hb hS hg dX6_isBeingTold_38 ?_
    refine lv_iadd E.1 hb dX6_isBeingTold_39 ?_
    obtain ⟨hg, hf⟩ := ld_s hf
    refine m_ild E hb hS hg dX6_isBeingTold_40 ?_
    refine lv_aload_n E.1 hb dX6_isBeingTold_41 rfl (lv_at hl 1 rfl) ?_
    refine m_gA (k := 0) E hb hS 2 rfl (by decide) fl_0 dX6_isBeingTold_42 ?_
    refine lv_iload_n E.1 hb dX6_isBeingTold_45 rfl (lv_at hl 0 rfl) ?_
    refine lv_iconst (v := 1) E.1 hb dX6_isBeingTold_46 rfl ?_
    refine lv_iadd E.1 hb dX6_isBeingTold_47 ?_
    obtain ⟨hg, hf⟩ := ld_s hf
    refine m_ild E hb hS hg dX6_isBeingTold_48 ?_
    refine lv_ishr E.1 hb dX6_isBeingTold_49 ?_
    refine lv_iconst (v := 1) E.1 hb dX6_isBeingTold_50 rfl ?_
    refine lv_iand E.1 hb dX6_isBeingTold_51 ?_
    refine lv_iconst (v := 1) E.1 hb dX6_isBeingTold_52 rfl ?_
    refine lv_icmp_eq (tgt := 82) E.1 hb dX6_isBeingTold_53 (by decide) (fun hc => ?_) (fun hc => ?_)
    · have hf := it_s hc hf
      refine lv_iconst (v := 0) E.1 hb dX6_isBeingTold_82 rfl ?_
      exact m_zrR E hb hr hlk hS rfl hf dX6_isBeingTold_83
    · have hf := if_s hc hf
      refine lv_aload_n E.1 hb dX6_isBeingTold_56 rfl (lv_at hl 1 rfl) ?_
      refine lv_iload_n E.1 hb dX6_isBeingTold_57 rfl (lv_at hl 0 rfl) ?_
      refine lv_iconst (v := 2) E.1 hb dX6_isBeingTold_58 rfl ?_
      refine lv_iadd E.1 hb dX6_isBeingTold_59 ?_
      obtain ⟨r7, h1, hf⟩ := bo_s hf
      refine m_cVi E hb hml hl.1 hS (cmf_twoAt h1) gw_twoAt gn_twoAt rfl rfl (Nat.le_of_ble_eq_true rfl) ⟨Nat.le_of_ble_eq_true rfl, Nat.le_of_ble_eq_true rfl⟩ ⟨Nat.le_refl 0, Nat.le_refl 0⟩ dX6_isBeingTold_60 (fun H locs hS => ?_)
      refine lv_sipush (v := 9999) E.1 hb dX6_isBeingTold_63 rfl ?_
      refine lv_icmp_gt (tgt := 82) E.1 hb dX6_isBeingTold_66 (by decide) (fun hc => ?_) (fun hc => ?_)
      · have hf := it_s hc hf
        refine lv_iconst (v := 0) E.1 hb dX6_isBeingTold_82 rfl ?_
        exact m_zrR E hb hr hlk hS rfl hf dX6_isBeingTold_83
      · have hf := if_s hc hf
        refine lv_aload_n E.1 hb dX6_isBeingTold_69 rfl (lv_at hl 1 rfl) ?_
        refine lv_iload_n E.1 hb dX6_isBeingTold_70 rfl (lv_at hl 0 rfl) ?_
        refine lv_iconst (v := 4) E.1 hb dX6_isBeingTold_71 rfl ?_
        refine lv_iadd E.1 hb dX6_isBeingTold_72 ?_
        obtain ⟨r8, h1, hf⟩ := bo_s hf
        refine m_cVi E hb hml hl.1 hS (cmf_twoAt h1) gw_twoAt gn_twoAt rfl rfl (Nat.le_of_ble_eq_true rfl) ⟨Nat.le_of_ble_eq_true rfl, Nat.le_of_ble_eq_true rfl⟩ ⟨Nat.le_refl 0, Nat.le_refl 0⟩ dX6_isBeingTold_73 (fun H locs hS => ?_)
        refine lv_sipush (v := 9999) E.1 hb dX6_isBeingTold_76 rfl ?_
        refine lv_icmp_le (tgt := 84) E.1 hb dX6_isBeingTold_79 (by decide) (fun hc => ?_) (fun hc => ?_)
        · have hf := it_s hc hf
          refine lv_iload_n E.1 hb dX6_isBeingTold_84 rfl (lv_at hl 2 rfl) ?_
          refine lv_istore (lv' := [(4, .int x1), (3, .int (x1 + (6 * x2))), (0, .ref o), (1, .int x1), (2, .int x2)]) E.1 hb dX6_isBeingTold_85 hl (by decide) rfl (fun ls hl => ?_)
          exact hL87 N (x1 + (6 * x2)) x1 hf _ _ hS _ (lv_sub hl [2, 1, 0] rfl)
        · have hf := if_s hc hf
          refine lv_iconst (v := 0) E.1 hb dX6_isBeingTold_82 rfl ?_
          exact m_zrR E hb hr hlk hS rfl hf dX6_isBeingTold_83
/-! isImage(I)Z: RO -/
noncomputable def M_isImage_b97 (N : Nat) (σ : mSt) (k97 : Int32 → Int32 → Option Int32) (x2 : Int32) (x3 : Int32) : Option Int32 :=
  bo (M_beingMany σ) fun r6 => if r6 ≤ x3 then (some 1) else (bo (M_isBeingTold N σ x2 x3) fun r7 => if r7 = 0 then (some 0) else (k97 x2 (x3 + 1)))
noncomputable def M_isImage_b65 (N : Nat) (σ : mSt) (k65 : Int32 → Int32 → Option Int32) (x2 : Int32) (x3 : Int32) : Option Int32 :=
  if x2 ≤ x3 then (rn2 (M_isImage_b97 N σ) N x2 0) else (bo (ld 2 σ 0 x3) fun v8 => bo (ld 2 σ 40 3) fun v9 => if v8 < (1 <<< (v9 &&& 31)) then (k65 x2 (x3 + 1)) else (some 0))
noncomputable def M_isImage (N : Nat) (σ : mSt) (x1 : Int32) : Option Int32 :=
  bo (M_leaves σ) fun r1 => if (σ.1 54 0) = 0 then (some 0) else (bo (M_beingMany σ) fun r2 => if x1 = (((2 + r1) + (6 * r2)) + 1) then (bo (ld 2 σ 0 (x1 - 1)) fun v3 => bo (M_checked N σ 0 (x1 - 1)) fun r4 => if v3 = r4 then (bo (M_twoAt σ 0) fun r5 => if r5 ≤ 999 then (rn2 (M_isImage_b65 N σ) N (2 + r1) 2) else (some 0)) else (some 0)) else (some 0))
theorem gw_isImage : GoodIn lw_all (wsV RX6 686 RX6 yX6_isImage (ws_ yX6_isImage cX6_isImage 4 (some .boolean))) := lw_V q2514 q2516 qs148 q164 q2517
theorem gn_isImage : yX6_isImage.cls = RX6 ∧ yX6_isImage.cls ≠ "java/lang/invoke/MethodHandle" ∧ yX6_isImage.cls ≠ "java/lang/invoke/VarHandle" ∧ (parseMethodDescriptor yX6_isImage.desc).map (fun d => d.parameters.length) = some 1 := by decide +kernel
abbrev rM_isImage : Room := { frames := 3, cells := 0, slots := 0, locals := 71 }
set_option maxHeartbeats 4000000 in
theorem cmf_isImage {l : Launch} {dC : Nat → ClassId} {dI : Nat → Nat → Nat} {ac : Nat → ClassId} {o : Nat} {ad : Nat → Nat} {N : Nat} {σ : mSt} {x1 : Int32} {r : Int32} (hf : M_isImage N σ x1 = some r) : Met l yX6_isImage (ws_ yX6_isImage cX6_isImage 4 (some .boolean)) { frames := 3, cells := 0, slots := 0, locals := 71 } (va_Pc [.ref o, .int x1] (mPre dC dI ac o ad σ)) (mQi dC dI ac o ad r σ) 0 0 (mF o ad) := by
  refine m_of (by decide) rfl (Nat.le_of_ble_eq_true rfl) ?_
  intro p e s m args below meth c E hb hr hlk hml hS ls hl
  have hl : lv_has ls 4 [(0, .ref o), (1, .int x1)] := hl
  have hL97 : ∀ (n : Nat) (x2 : Int32) (x3 : Int32), rn2 (M_isImage_b97 N σ) n x2 x3 = some r → ∀ (H : Heap) (locs : List Loc), mS dC dI ac o ad s.heap σ H locs → ∀ (ls : Array Slot), lv_has ls 4 [(0, .ref o), (2, .int x2), (3, .int x3)] → W p l e rM_isImage s m args below meth c H locs 0 0 (MQ below (mQi dC dI ac o ad r σ) args s 0 0 (mF o ad)) (F0 m 97 ls []) := by
    intro  n
    induction n with
    | zero =>
      intro x2 x3 hf
      cases hf
    | succ n ih =>
      intro x2 x3 hf H locs hS ls hl
      have hf : M_isImage_b97 N σ (rn2 (M_isImage_b97 N σ) n) x2 x3 = some r := hf
      have hk97 := ih
      generalize rn2 (M_isImage_b97 N σ) n = k97 at hf hk97
      unfold M_isImage_b97 at hf
      refine lv_iload_n E.1 hb dX6_isImage_97 rfl (lv_at hl 2 rfl) ?_
      refine lv_aload_n E.1 hb dX6_isImage_98 rfl (lv_at hl 0 rfl) ?_
      obtain ⟨r6, h1, hf⟩ := bo_s hf
      refine m_cVi E hb hml hl.1 hS (cmf_beingMany h1) gw_beingMany gn_beingMany rfl rfl (Nat.le_of_ble_eq_true rfl) ⟨Nat.le_of_ble_eq_true rfl, Nat.le_of_ble_eq_true rfl⟩ ⟨Nat.le_refl 0, Nat.le_refl 0⟩ dX6_isImage_99 (fun H locs hS => ?_)
      refine lv_icmp_ge (tgt := 122) E.1 hb dX6_isImage_102 (by decide) (fun hc => ?_) (fun hc => ?_)
      · have hf := it_s hc hf
        refine lv_iconst (v := 1) E.1 hb dX6_isImage_122 rfl ?_
        exact m_zrR E hb hr hlk hS rfl hf dX6_isImage_123
      · have hf := if_s hc hf
        refine lv_aload_n E.1 hb dX6_isImage_105 rfl (lv_at hl 0 rfl) ?_
        refine lv_iload_n E.1 hb dX6_isImage_106 rfl (lv_at hl 1 rfl) ?_
        refine lv_iload_n E.1 hb dX6_isImage_107 rfl (lv_at hl 2 rfl) ?_
        obtain ⟨r7, h1, hf⟩ := bo_s hf
        refine m_cVi E hb hml hl.1 hS (cmf_isBeingTold h1) gw_isBeingTold gn_isBeingTold rfl rfl (Nat.le_of_ble_eq_true rfl) ⟨Nat.le_of_ble_eq_true rfl, Nat.le_of_ble_eq_true rfl⟩ ⟨Nat.le_refl 0, Nat.le_refl 0⟩ dX6_isImage_108 (fun H locs hS => ?_)
        refine lv_if_ne (tgt := 116) E.1 hb dX6_isImage_111 (by decide) (fun hc => ?_) (fun hc => ?_)
        · have hf := if_s hc hf
          refine lv_iinc (v := (x3 + 1)) (lv' := [(3, .int (x3 + 1)), (0, .ref o), (2, .int x2)]) E.1 hb dX6_isImage_116 hl (k := 2) rfl rfl (by decide) rfl (fun ls hl => ?_)
          refine lv_goto (tgt := 97) E.1 hb dX6_isImage_119 (by decide) ?_
          exact hk97 x2 (x3 + 1) hf _ _ hS _ (lv_sub hl [1, 2, 0] rfl)
        · have hf := it_s hc hf
          refine lv_iconst (v := 0) E.1 hb dX6_isImage_114 rfl ?_
          exact m_zrR E hb hr hlk hS rfl hf dX6_isImage_115
  have hL65 : ∀ (n : Nat) (x2 : Int32) (x3 : Int32), rn2 (M_isImage_b65 N σ) n x2 x3 = some r → ∀ (H : Heap) (locs : List Loc), mS dC dI ac o ad s.heap σ H locs → ∀ (ls : Array Slot), lv_has ls 4 [(0, .ref o), (2, .int x2), (3, .int x3)] → W p l e rM_isImage s m args below meth c H locs 0 0 (MQ below (mQi dC dI ac o ad r σ) args s 0 0 (mF o ad)) (F0 m 65 ls []) := by
    intro  n
    induction n with
    | zero =>
      intro x2 x3 hf
      cases hf
    | succ n ih =>
      intro x2 x3 hf H locs hS ls hl
      have hf : M_isImage_b65 N σ (rn2 (M_isImage_b65 N σ) n) x2 x3 = some r := hf
      have hk65 := ih
      generalize rn2 (M_isImage_b65 N σ) n = k65 at hf hk65
      unfold M_isImage_b65 at hf
      refine lv_iload_n E.1 hb dX6_isImage_65 rfl (lv_at hl 2 rfl) ?_
      refine lv_iload_n E.1 hb dX6_isImage_66 rfl (lv_at hl 1 rfl) ?_
      refine lv_icmp_ge (tgt := 95) E.1 hb dX6_isImage_67 (by decide) (fun hc => ?_) (fun hc => ?_)
      · have hf := it_s hc hf
        refine lv_iconst (v := 0) E.1 hb dX6_isImage_95 rfl ?_
        refine lv_istore_n (lv' := [(3, .int 0), (0, .ref o), (2, .int x2)]) E.1 hb dX6_isImage_96 rfl hl (by decide) rfl (fun ls hl => ?_)
        exact hL97 N x2 0 hf _ _ hS _ (lv_sub hl [1, 2, 0] rfl)
      · have hf := if_s hc hf
        refine lv_aload_n E.1 hb dX6_isImage_70 rfl (lv_at hl 0 rfl) ?_
        refine m_gA (k := 0) E hb hS 2 rfl (by decide) fl_0 dX6_isImage_71 ?_
        refine lv_iload_n E.1 hb dX6_isImage_74 rfl (lv_at hl 2 rfl) ?_
        obtain ⟨hg, hf⟩ := ld_s hf
        refine m_ild E hb hS hg dX6_isImage_75 ?_
        refine lv_iconst (v := 1) E.1 hb dX6_isImage_76 rfl ?_
        refine lv_aload_n E.1 hb dX6_isImage_77 rfl (lv_at hl 0 rfl) ?_
        refine m_gA (k := 40) E hb hS 2 rfl (by decide) fl_40 dX6_isImage_78 ?_
        refine lv_iconst (v := 3) E.1 hb dX6_isImage_81 rfl ?_
        obtain ⟨hg, hf⟩ := ld_s hf
        refine m_ild E hb hS hg dX6_isImage_82 ?_
        refine lv_ishl E.1 hb dX6_isImage_83 ?_
        refine lv_icmp_lt (tgt := 89) E.1 hb dX6_isImage_84 (by decide) (fun hc => ?_) (fun hc => ?_)
        · have hf := it_s hc hf
          refine lv_iinc (v := (x3 + 1)) (lv' := [(3, .int (x3 + 1)), (0, .ref o), (2, .int x2)]) E.1 hb dX6_isImage_89 hl (k := 2) rfl rfl (by decide) rfl (fun ls hl => ?_)
          refine lv_goto (tgt := 65) E.1 hb dX6_isImage_92 (by decide) ?_
          exact hk65 x2 (x3 + 1) hf _ _ hS _ (lv_sub hl [1, 2, 0] rfl)
        · have hf := if_s hc hf
          refine lv_iconst (v := 0) E.1 hb dX6_isImage_87 rfl ?_
          exact m_zrR E hb hr hlk hS rfl hf dX6_isImage_88
  unfold M_isImage at hf
  refine lv_iconst (v := 2) E.1 hb dX6_isImage_0 rfl ?_
  refine lv_aload_n E.1 hb dX6_isImage_1 rfl (lv_at hl 0 rfl) ?_
  obtain ⟨r1, h1, hf⟩ := bo_s hf
  refine m_cVi E hb hml hl.1 hS (cmf_leaves h1) gw_leaves gn_leaves rfl rfl (Nat.le_of_ble_eq_true rfl) ⟨Nat.le_of_ble_eq_true rfl, Nat.le_of_ble_eq_true rfl⟩ ⟨Nat.le_refl 0, Nat.le_refl 0⟩ dX6_isImage_2 (fun H locs hS => ?_)
  refine lv_iadd E.1 hb dX6_isImage_5 ?_
  refine lv_istore_n (lv' := [(2, .int (2 + r1)), (0, .ref o), (1, .int x1)]) E.1 hb dX6_isImage_6 rfl hl (by decide) rfl (fun ls hl => ?_)
  refine lv_aload_n E.1 hb dX6_isImage_7 rfl (lv_at hl 1 rfl) ?_
  refine m_gZ (k := 54) E hb hS rfl fl_54 dX6_isImage_8 ?_
  refine lv_if_eq (tgt := 61) E.1 hb dX6_isImage_11 (by decide) (fun hc => ?_) (fun hc => ?_)
  · have hf := it_s hc hf
    refine lv_iconst (v := 0) E.1 hb dX6_isImage_61 rfl ?_
    exact m_zrR E hb hr hlk hS rfl hf dX6_isImage_62
  · have hf := if_s hc hf
    refine lv_iload_n E.1 hb dX6_isImage_14 rfl (lv_at hl 2 rfl) ?_
    refine lv_iload_n E.1 hb dX6_isImage_15 rfl (lv_at hl 0 rfl) ?_
    refine lv_bipush (v := 6) E.1 hb dX6_isImage_16 rfl ?_
    refine lv_aload_n E.1 hb dX6_isImage_18 rfl (lv_at hl 1 rfl) ?_
    obtain ⟨r2, h1, hf⟩ := bo_s hf
    refine m_cVi E hb hml hl.1 hS (cmf_beingMany h1) gw_beingMany gn_beingMany rfl rfl (Nat.le_of_ble_eq_true rfl) ⟨Nat.le_of_ble_eq_true rfl, Nat.le_of_ble_eq_true rfl⟩ ⟨Nat.le_refl 0, Nat.le_refl 0⟩ dX6_isImage_19 (fun H locs hS => ?_)
    refine lv_imul E.1 hb dX6_isImage_22 ?_
    refine lv_iadd E.1 hb dX6_isImage_23 ?_
    refine lv_iconst (v := 1) E.1 hb dX6_isImage_24 rfl ?_
    refine lv_iadd E.1 hb dX6_isImage_25 ?_
    refine lv_icmp_ne (tgt := 61) E.1 hb dX6_isImage_26 (by decide) (fun hc => ?_) (fun hc => ?_)
    · have hf := if_s hc hf
      refine lv_iconst (v := 0) E.1 hb dX6_isImage_61 rfl ?_
      exact m_zrR E hb hr hlk hS rfl hf dX6_isImage_62
    · have hf := it_s hc hf
      refine lv_aload_n E.1 hb dX6_isImage_29 rfl (lv_at hl 1 rfl) ?_
      refine m_gA (k := 0) E hb hS 2 rfl (by decide) fl_0 dX6_isImage_30 ?_
      refine lv_iload_n E.1 hb dX6_isImage_33 rfl (lv_at hl 2 rfl) ?_
      refine lv_iconst (v := 1) E.1 hb dX6_isImage_34 rfl ?_
      refine lv_isub E.1 hb dX6_isImage_35 ?_
      obtain ⟨hg, hf⟩ := ld_s hf
      refine m_ild E hb hS hg dX6_isImage_36 ?_
      refine lv_aload_n E.1 hb dX6_isImage_37 rfl (lv_at hl 1 rfl) ?_
      refine m_gA (k := 0) E hb hS 2 rfl (by decide) fl_0 dX6_isImage_38 ?_
      refine lv_iload_n E.1 hb dX6_isImage_41 rfl (lv_at hl 2 rfl) ?_
      refine lv_iconst (v := 1) E.1 hb dX6_isImage_42 rfl ?_
      refine lv_isub E.1 hb dX6_isImage_43 ?_
      obtain ⟨r4, h1, hf⟩ := bo_s hf
      refine m_cSi E hb hml hl.1 hS (cmf_checked h1) gw_checked gn_checked rfl rfl (Nat.le_of_ble_eq_true rfl) ⟨Nat.le_of_ble_eq_true rfl, Nat.le_of_ble_eq_true rfl⟩ ⟨Nat.le_refl 0, Nat.le_refl 0⟩ dX6_isImage_44 (fun H locs hS => ?_)
      refine lv_icmp_ne (tgt := 61) E.1 hb dX6_isImage_47 (by decide) (fun hc => ?_) (fun hc => ?_)
      · have hf := if_s hc hf
        refine lv_iconst (v := 0) E.1 hb dX6_isImage_61 rfl ?_
        exact m_zrR E hb hr hlk hS rfl hf dX6_isImage_62
      · have hf := it_s hc hf
        refine lv_aload_n E.1 hb dX6_isImage_50 rfl (lv_at hl 1 rfl) ?_
        refine lv_iconst (v := 0) E.1 hb dX6_isImage_51 rfl ?_
        obtain ⟨r5, h1, hf⟩ := bo_s hf
        refine m_cVi E hb hml hl.1 hS (cmf_twoAt h1) gw_twoAt gn_twoAt rfl rfl (Nat.le_of_ble_eq_true rfl) ⟨Nat.le_of_ble_eq_true rfl, Nat.le_of_ble_eq_true rfl⟩ ⟨Nat.le_refl 0, Nat.le_refl 0⟩ dX6_isImage_52 (fun H locs hS => ?_)
        refine lv_sipush (v := 999) E.1 hb dX6_isImage_55 rfl ?_
        refine lv_icmp_le (tgt := 63) E.1 hb dX6_isImage_58 (by decide) (fun hc => ?_) (fun hc => ?_)
        · have hf := it_s hc hf
          refine lv_iconst (v := 2) E.1 hb dX6_isImage_63 rfl ?_
          refine lv_istore_n (lv' := [(3, .int 2), (2, .int (2 + r1)), (0, .ref o), (1, .int x1)]) E.1 hb dX6_isImage_64 rfl hl (by decide) rfl (fun ls hl => ?_)
          exact hL65 N (2 + r1) 2 hf _ _ hS _ (lv_sub hl [2, 1, 0] rfl)
        · have hf := if_s hc hf
          refine lv_iconst (v := 0) E.1 hb dX6_isImage_61 rfl ?_
          exact m_zrR E hb hr hlk hS rfl hf dX6_isImage_62
/-! on()Z: RW -/
noncomputable def M_on_b75 (N : Nat) (k75 : mSt → Int32 → Option (Int32 × mSt)) (σ : mSt) (x2 : Int32) : Option (Int32 × mSt) :=
  bo (M_beingMany σ) fun r6 => if r6 ≤ x2 then (bo (stI 2 σ 56 39 0) fun σ7 => lt2 (mUI σ7 69 0 0) fun σ8 => some (1, σ8)) else (bo (M_leaves σ) fun r9 => bo (ld 2 σ 0 ((2 + r9) + (6 * x2))) fun v10 => bo (stI 2 σ 56 (7 + (4 * x2)) v10) fun σ11 => bo (ld 2 σ11 0 (((2 + r9) + (6 * x2)) + 1)) fun v12 => bo (stI 2 σ11 56 ((7 + (4 * x2)) + 1) v12) fun σ13 => bo (M_twoAt σ13 (((2 + r9) + (6 * x2)) + 2)) fun r14 => bo (stI 2 σ13 56 ((7 + (4 * x2)) + 2) r14) fun σ15 => bo (M_twoAt σ15 (((2 + r9) + (6 * x2)) + 4)) fun r16 => bo (stI 2 σ15 56 ((7 + (4 * x2)) + 3) r16) fun σ17 => k75 σ17 (x2 + 1))
noncomputable def M_on_b43 (N : Nat) (k43 : mSt → Int32 → Option (Int32 × mSt)) (σ : mSt) (x2 : Int32) : Option (Int32 × mSt) :=
  bo (M_leaves σ) fun r5 => if r5 ≤ x2 then (rn2 (M_on_b75 N) N σ 0) else (bo (ld 2 σ 0 (2 + x2)) fun v18 => bo (stI 2 σ 56 (1 + x2) v18) fun σ19 => k43 σ19 (x2 + 1))
noncomputable def M_on (N : Nat) (σ : mSt) : Option (Int32 × mSt) :=
  lt2 (mUI σ 1 0 0) fun σ1 => bo (M_isImage N σ1 (σ.1 1 0)) fun r2 => if r2 = 0 then (bo (ld 2 σ1 9 5) fun v20 => bo (stI 2 σ1 9 5 (v20 + 1)) fun σ21 => some (0, σ21)) else (bo (M_twoAt σ1 0) fun r3 => bo (stI 2 σ1 56 0 r3) fun σ4 => rn2 (M_on_b43 N) N σ4 0)
abbrev rM_on : Room := { frames := 4, cells := 0, slots := 0, locals := 94 }
set_option maxHeartbeats 4000000 in
theorem cmf_on {l : Launch} {dC : Nat → ClassId} {dI : Nat → Nat → Nat} {ac : Nat → ClassId} {o : Nat} {ad : Nat → Nat} {N : Nat} {σ : mSt} {r : Int32} {σ' : mSt} (hf : M_on N σ = some (r, σ')) : Met l yX6_on (ws_ yX6_on cX6_on 4 (some .boolean)) { frames := 4, cells := 0, slots := 0, locals := 94 } (va_Pc [.ref o] (mPre dC dI ac o ad σ)) (mQi dC dI ac o ad r σ') 0 0 (mF o ad) := by
  refine m_of (by decide) rfl (Nat.le_of_ble_eq_true rfl) ?_
  intro p e s m args below meth c E hb hr hlk hml hS ls hl
  have hl : lv_has ls 4 [(0, .ref o)] := hl
  have hL75 : ∀ (n : Nat) (σ : mSt) (x2 : Int32), rn2 (M_on_b75 N) n σ x2 = some (r, σ') → ∀ (H : Heap) (locs : List Loc), mS dC dI ac o ad s.heap σ H locs → ∀ (ls : Array Slot), lv_has ls 4 [(0, .ref o), (2, .int x2)] → W p l e rM_on s m args below meth c H locs 0 0 (MQ below (mQi dC dI ac o ad r σ') args s 0 0 (mF o ad)) (F0 m 75 ls []) := by
    intro  n
    induction n with
    | zero =>
      intro σ x2 hf
      cases hf
    | succ n ih =>
      intro σ x2 hf H locs hS ls hl
      have hf : M_on_b75 N (rn2 (M_on_b75 N) n) σ x2 = some (r, σ') := hf
      have hk75 := ih
      generalize rn2 (M_on_b75 N) n = k75 at hf hk75
      unfold M_on_b75 at hf
      refine lv_iload_n E.1 hb dX6_on_75 rfl (lv_at hl 1 rfl) ?_
      refine lv_aload_n E.1 hb dX6_on_76 rfl (lv_at hl 0 rfl) ?_
      obtain ⟨r6, h1, hf⟩ := bo_s hf
      refine m_cVi E hb hml hl.1 hS (cmf_beingMany h1) gw_beingMany gn_beingMany rfl rfl (Nat.le_of_ble_eq_true rfl) ⟨Nat.le_of_ble_eq_true rfl, Nat.le_of_ble_eq_true rfl⟩ ⟨Nat.le_refl 0, Nat.le_refl 0⟩ dX6_on_77 (fun H locs hS => ?_)
      refine lv_icmp_ge (tgt := 179) E.1 hb dX6_on_80 (by decide) (fun hc => ?_) (fun hc => ?_)
      · have hf := it_s hc hf
        refine lv_aload_n E.1 hb dX6_on_179 rfl (lv_at hl 0 rfl) ?_
        refine m_gA (k := 56) E hb hS 2 rfl (by decide) fl_56 dX6_on_180 ?_
        refine lv_bipush (v := 39) E.1 hb dX6_on_183 rfl ?_
        refine lv_iconst (v := 0) E.1 hb dX6_on_185 rfl ?_
        obtain ⟨σ7, hg, hw, hf⟩ := st_s hf
        refine m_ist E hb hS hg hw dX6_on_186 (fun H locs hS => ?_)
        refine lv_aload_n E.1 hb dX6_on_187 rfl (lv_at hl 0 rfl) ?_
        refine lv_iconst (v := 0) E.1 hb dX6_on_188 rfl ?_
        obtain ⟨σ8, hw, hf⟩ := lt2_s hf
        refine m_pI (k := 69) E hb hS rfl rfl pf_69 fl_69 hw dX6_on_189 (fun H locs hS => ?_)
        refine lv_iconst (v := 1) E.1 hb dX6_on_192 rfl ?_
        exact m_zr E hb hr hlk hS rfl hf dX6_on_193
      · have hf := if_s hc hf
        refine lv_iconst (v := 2) E.1 hb dX6_on_83 rfl ?_
        refine lv_aload_n E.1 hb dX6_on_84 rfl (lv_at hl 0 rfl) ?_
        obtain ⟨r9, h1, hf⟩ := bo_s hf
        refine m_cVi E hb hml hl.1 hS (cmf_leaves h1) gw_leaves gn_leaves rfl rfl (Nat.le_of_ble_eq_true rfl) ⟨Nat.le_of_ble_eq_true rfl, Nat.le_of_ble_eq_true rfl⟩ ⟨Nat.le_refl 0, Nat.le_refl 0⟩ dX6_on_85 (fun H locs hS => ?_)
        refine lv_iadd E.1 hb dX6_on_88 ?_
        refine lv_bipush (v := 6) E.1 hb dX6_on_89 rfl ?_
        refine lv_iload_n E.1 hb dX6_on_91 rfl (lv_at hl 1 rfl) ?_
        refine lv_imul E.1 hb dX6_on_92 ?_
        refine lv_iadd E.1 hb dX6_on_93 ?_
        refine lv_istore_n (lv' := [(3, .int ((2 + r9) + (6 * x2))), (0, .ref o), (2, .int x2)]) E.1 hb dX6_on_94 rfl hl (by decide) rfl (fun ls hl => ?_)
        refine lv_aload_n E.1 hb dX6_on_95 rfl (lv_at hl 1 rfl) ?_
        refine m_gA (k := 56) E hb hS 2 rfl (by decide) fl_56 dX6_on_96 ?_
        refine lv_bipush (v := 7) E.1 hb dX6_on_99 rfl ?_
        refine lv_iconst (v := 4) E.1 hb dX6_on_101 rfl ?_
        refine lv_iload_n E.1 hb dX6_on_102 rfl (lv_at hl 2 rfl) ?_
        refine lv_imul E.1 hb dX6_on_103 ?_
        refine lv_iadd E.1 hb dX6_on_104 ?_
        refine lv_aload_n E.1 hb dX6_on_105 rfl (lv_at hl 1 rfl) ?_
        refine m_gA (k := 0) E hb hS 2 rfl (by decide) fl_0 dX6_on_106 ?_
        refine lv_iload_n E.1 hb dX6_on_109 rfl (lv_at hl 0 rfl) ?_
        obtain ⟨hg, hf⟩ := ld_s hf
        refine m_ild E hb hS hg dX6_on_110 ?_
        obtain ⟨σ11, hg, hw, hf⟩ := st_s hf
        refine m_ist E hb hS hg hw dX6_on_111 (fun H locs hS => ?_)
        refine lv_aload_n E.1 hb dX6_on_112 rfl (lv_at hl 1 rfl) ?_
        refine m_gA (k := 56) E hb hS 2 rfl (by decide) fl_56 dX6_on_113 ?_
        refine lv_bipush (v := 7) E.1 hb dX6_on_116 rfl ?_
        refine lv_iconst (v := 4) E.1 hb dX6_on_118 rfl ?_
        refine lv_iload_n E.1 hb dX6_on_119 rfl (lv_at hl 2 rfl) ?_
        refine lv_imul E.1 hb dX6_on_120 ?_
        refine lv_iadd E.1 hb dX6_on_121 ?_
        refine lv_iconst (v := 1) E.1 hb dX6_on_122 rfl ?_
        refine lv_iadd E.1 hb dX6_on_123 ?_
        refine lv_aload_n E.1 hb dX6_on_124 rfl (lv_at hl 1 rfl) ?_
        refine m_gA (k := 0) E hb hS 2 rfl (by decide) fl_0 dX6_on_125 ?_
        refine lv_iload_n E.1 hb dX6_on_128 rfl (lv_at hl 0 rfl) ?_
        refine lv_iconst (v := 1) E.1 hb dX6_on_129 rfl ?_
        refine lv_iadd E.1 hb dX6_on_130 ?_
        obtain ⟨hg, hf⟩ := ld_s hf
        refine m_ild E hb hS hg dX6_on_131 ?_
        obtain ⟨σ13, hg, hw, hf⟩ := st_s hf
        refine m_ist E hb hS hg hw dX6_on_132 (fun H locs hS => ?_)
        refine lv_aload_n E.1 hb dX6_on_133 rfl (lv_at hl 1 rfl) ?_
        refine m_gA (k := 56) E hb hS 2 rfl (by decide) fl_56 dX6_on_134 ?_
        refine lv_bipush (v := 7) E.1 hb dX6_on_137 rfl ?_
        refine lv_iconst (v := 4) E.1 hb dX6_on_139 rfl ?_
        refine lv_iload_n E.1 hb dX6_on_140 rfl (lv_at hl 2 rfl) ?_
        refine lv_imul E.1 hb dX6_on_141 ?_
        refine lv_iadd E.1 hb dX6_on_142 ?_
        refine lv_iconst (v := 2) E.1 hb dX6_on_143 rfl ?_
        refine lv_iadd E.1 hb dX6_on_144 ?_
        refine lv_aload_n E.1 hb dX6_on_145 rfl (lv_at hl 1 rfl) ?_
        refine lv_iload_n E.1 hb dX6_on_146 rfl (lv_at hl 0 rfl) ?_
        refine lv_iconst (v := 2) E.1 hb dX6_on_147 rfl ?_
        refine lv_iadd E.1 hb dX6_on_148 ?_
        obtain ⟨r14, h1, hf⟩ := bo_s hf
        refine m_cVi E hb hml hl.1 hS (cmf_twoAt h1) gw_twoAt gn_twoAt rfl rfl (Nat.le_of_ble_eq_true rfl) ⟨Nat.le_of_ble_eq_true rfl, Nat.le_of_ble_eq_true rfl⟩ ⟨Nat.le_refl 0, Nat.le_refl 0⟩ dX6_on_149 (fun H locs hS => ?_)
        obtain ⟨σ15, hg, hw, hf⟩ := st_s hf
        refine m_ist E hb hS hg hw dX6_on_152 (fun H locs hS => ?_)
        refine lv_aload_n E.1 hb dX6_on_153 rfl (lv_at hl 1 rfl) ?_
        refine m_gA (k := 56) E hb hS 2 rfl (by decide) fl_56 dX6_on_154 ?_
        refine lv_bipush (v := 7) E.1 hb dX6_on_157 rfl ?_
        refine lv_iconst (v := 4) E.1 hb dX6_on_159 rfl ?_
        refine lv_iload_n E.1 hb dX6_on_160 rfl (lv_at hl 2 rfl) ?_
        refine lv_imul E.1 hb dX6_on_161 ?_
        refine lv_iadd E.1 hb dX6_on_162 ?_
        refine lv_iconst (v := 3) E.1 hb dX6_on_163 rfl ?_
        refine lv_iadd E.1 hb dX6_on_164 ?_
        refine lv_aload_n E.1 hb dX6_on_165 rfl (lv_at hl 1 rfl) ?_
        refine lv_iload_n E.1 hb dX6_on_166 rfl (lv_at hl 0 rfl) ?_
        refine lv_iconst (v := 4) E.1 hb dX6_on_167 rfl ?_
        refine lv_iadd E.1 hb dX6_on_168 ?_
        obtain ⟨r16, h1, hf⟩ := bo_s hf
        refine m_cVi E hb hml hl.1 hS (cmf_twoAt h1) gw_twoAt gn_twoAt rfl rfl (Nat.le_of_ble_eq_true rfl) ⟨Nat.le_of_ble_eq_true rfl, Nat.le_of_ble_eq_true rfl⟩ ⟨Nat.le_refl 0, Nat.le_refl 0⟩ dX6_on_169 (fun H locs hS => ?_)
        obtain ⟨σ17, hg, hw, hf⟩ := st_s hf
        refine m_ist E hb hS hg hw dX6_on_172 (fun H locs hS => ?_)
        refine lv_iinc (v := (x2 + 1)) (lv' := [(2, .int (x2 + 1)), (3, .int ((2 + r9) + (6 * x2))), (0, .ref o)]) E.1 hb dX6_on_173 hl (k := 2) rfl rfl (by decide) rfl (fun ls hl => ?_)
        refine lv_goto (tgt := 75) E.1 hb dX6_on_176 (by decide) ?_
        exact hk75 σ17 (x2 + 1) hf _ _ hS _ (lv_sub hl [2, 0] rfl)
  have hL43 : ∀ (n : Nat) (σ : mSt) (x2 : Int32), rn2 (M_on_b43 N) n σ x2 = some (r, σ') → ∀ (H : Heap) (locs : List Loc), mS dC dI ac o ad s.heap σ H locs → ∀ (ls : Array Slot), lv_has ls 4 [(0, .ref o), (2, .int x2)] → W p l e rM_on s m args below meth c H locs 0 0 (MQ below (mQi dC dI ac o ad r σ') args s 0 0 (mF o ad)) (F0 m 43 ls []) := by
    intro  n
    induction n with
    | zero =>
      intro σ x2 hf
      cases hf
    | succ n ih =>
      intro σ x2 hf H locs hS ls hl
      have hf : M_on_b43 N (rn2 (M_on_b43 N) n) σ x2 = some (r, σ') := hf
      have hk43 := ih
      generalize rn2 (M_on_b43 N) n = k43 at hf hk43
      unfold M_on_b43 at hf
      refine lv_iload_n E.1 hb dX6_on_43 rfl (lv_at hl 1 rfl) ?_
      refine lv_aload_n E.1 hb dX6_on_44 rfl (lv_at hl 0 rfl) ?_
      obtain ⟨r5, h1, hf⟩ := bo_s hf
      refine m_cVi E hb hml hl.1 hS (cmf_leaves h1) gw_leaves gn_leaves rfl rfl (Nat.le_of_ble_eq_true rfl) ⟨Nat.le_of_ble_eq_true rfl, Nat.le_of_ble_eq_true rfl⟩ ⟨Nat.le_refl 0, Nat.le_refl 0⟩ dX6_on_45 (fun H locs hS => ?_)
      refine lv_icmp_ge (tgt := 73) E.1 hb dX6_on_48 (by decide) (fun hc => ?_) (fun hc => ?_)
      · have hf := it_s hc hf
        refine lv_iconst (v := 0) E.1 hb dX6_on_73 rfl ?_
        refine lv_istore_n (lv' := [(2, .int 0), (0, .ref o)]) E.1 hb dX6_on_74 rfl hl (by decide) rfl (fun ls hl => ?_)
        exact hL75 N σ 0 hf _ _ hS _ (lv_sub hl [1, 0] rfl)
      · have hf := if_s hc hf
        refine lv_aload_n E.1 hb dX6_on_51 rfl (lv_at hl 0 rfl) ?_
        refine m_gA (k := 56) E hb hS 2 rfl (by decide) fl_56 dX6_on_52 ?_
        refine lv_iconst (v := 1) E.1 hb dX6_on_55 rfl ?_
        refine lv_iload_n E.1 hb dX6_on_56 rfl (lv_at hl 1 rfl) ?_
        refine lv_iadd E.1 hb dX6_on_57 ?_
        refine lv_aload_n E.1 hb dX6_on_58 rfl (lv_at hl 0 rfl) ?_
        refine m_gA (k := 0) E hb hS 2 rfl (by decide) fl_0 dX6_on_59 ?_
        refine lv_iconst (v := 2) E.1 hb dX6_on_62 rfl ?_
        refine lv_iload_n E.1 hb dX6_on_63 rfl (lv_at hl 1 rfl) ?_
        refine lv_iadd E.1 hb dX6_on_64 ?_
        obtain ⟨hg, hf⟩ := ld_s hf
        refine m_ild E hb hS hg dX6_on_65 ?_
        obtain ⟨σ19, hg, hw, hf⟩ := st_s hf
        refine m_ist E hb hS hg hw dX6_on_66 (fun H locs hS => ?_)
        refine lv_iinc (v := (x2 + 1)) (lv' := [(2, .int (x2 + 1)), (0, .ref o)]) E.1 hb dX6_on_67 hl (k := 1) rfl rfl (by decide) rfl (fun ls hl => ?_)
        refine lv_goto (tgt := 43) E.1 hb dX6_on_70 (by decide) ?_
        exact hk43 σ19 (x2 + 1) hf _ _ hS _ (lv_sub hl [1, 0] rfl)
  unfold M_on at hf
  refine lv_aload_n E.1 hb dX6_on_0 rfl (lv_at hl 0 rfl) ?_
  refine m_gI (k := 1) E hb hS rfl fl_1 dX6_on_1 ?_
  refine lv_istore_n (lv' := [(1, .int (σ.1 1 0)), (0, .ref o)]) E.1 hb dX6_on_4 rfl hl (by decide) rfl (fun ls hl => ?_)
  refine lv_aload_n E.1 hb dX6_on_5 rfl (lv_at hl 1 rfl) ?_
  refine lv_iconst (v := 0) E.1 hb dX6_on_6 rfl ?_
  obtain ⟨σ1, hw, hf⟩ := lt2_s hf
  refine m_pI (k := 1) E hb hS rfl rfl pf_1 fl_1 hw dX6_on_7 (fun H locs hS => ?_)
  refine lv_aload_n E.1 hb dX6_on_10 rfl (lv_at hl 1 rfl) ?_
  refine lv_iload_n E.1 hb dX6_on_11 rfl (lv_at hl 0 rfl) ?_
  obtain ⟨r2, h1, hf⟩ := bo_s hf
  refine m_cVi E hb hml hl.1 hS (cmf_isImage h1) gw_isImage gn_isImage rfl rfl (Nat.le_of_ble_eq_true rfl) ⟨Nat.le_of_ble_eq_true rfl, Nat.le_of_ble_eq_true rfl⟩ ⟨Nat.le_refl 0, Nat.le_refl 0⟩ dX6_on_12 (fun H locs hS => ?_)
  refine lv_if_ne (tgt := 30) E.1 hb dX6_on_15 (by decide) (fun hc => ?_) (fun hc => ?_)
  · have hf := if_s hc hf
    refine lv_aload_n E.1 hb dX6_on_30 rfl (lv_at hl 1 rfl) ?_
    refine m_gA (k := 56) E hb hS 2 rfl (by decide) fl_56 dX6_on_31 ?_
    refine lv_iconst (v := 0) E.1 hb dX6_on_34 rfl ?_
    refine lv_aload_n E.1 hb dX6_on_35 rfl (lv_at hl 1 rfl) ?_
    refine lv_iconst (v := 0) E.1 hb dX6_on_36 rfl ?_
    obtain ⟨r3, h1, hf⟩ := bo_s hf
    refine m_cVi E hb hml hl.1 hS (cmf_twoAt h1) gw_twoAt gn_twoAt rfl rfl (Nat.le_of_ble_eq_true rfl) ⟨Nat.le_of_ble_eq_true rfl, Nat.le_of_ble_eq_true rfl⟩ ⟨Nat.le_refl 0, Nat.le_refl 0⟩ dX6_on_37 (fun H locs hS => ?_)
    obtain ⟨σ4, hg, hw, hf⟩ := st_s hf
    refine m_ist E hb hS hg hw dX6_on_40 (fun H locs hS => ?_)
    refine lv_iconst (v := 0) E.1 hb dX6_on_41 rfl ?_
    refine lv_istore_n (lv' := [(2, .int 0), (1, .int (σ.1 1 0)), (0, .ref o)]) E.1 hb dX6_on_42 rfl hl (by decide) rfl (fun ls hl => ?_)
    exact hL43 N σ4 0 hf _ _ hS _ (lv_sub hl [2, 0] rfl)
  · have hf := it_s hc hf
    refine lv_aload_n E.1 hb dX6_on_18 rfl (lv_at hl 1 rfl) ?_
    refine m_gA (k := 9) E hb hS 2 rfl (by decide) fl_9 dX6_on_19 ?_
    refine lv_iconst (v := 5) E.1 hb dX6_on_22 rfl ?_
    refine lv_dup2_11 E.1 hb dX6_on_23 rfl rfl ?_
    obtain ⟨hg, hf⟩ := ld_s hf
    refine m_ild E hb hS hg dX6_on_24 ?_
    refine lv_iconst (v := 1) E.1 hb dX6_on_25 rfl ?_
    refine lv_iadd E.1 hb dX6_on_26 ?_
    obtain ⟨σ21, hg, hw, hf⟩ := st_s hf
    refine m_ist E hb hS hg hw dX6_on_27 (fun H locs hS => ?_)
    refine lv_iconst (v := 0) E.1 hb dX6_on_28 rfl ?_
    exact m_zr E hb hr hlk hS rfl hf dX6_on_29
/-! status(I)I: RO -/
noncomputable def M_status (σ : mSt) (x1 : Int32) : Option Int32 :=
  bo (M_isIn (Int32.toInt64 x1) 0 5) fun r1 => if r1 = 0 then (some (-1)) else (bo (ld 2 σ 9 x1) fun v2 => some v2)
abbrev rM_status : Room := { frames := 1, cells := 0, slots := 0, locals := 25 }
set_option maxHeartbeats 4000000 in
theorem cmf_status {l : Launch} {dC : Nat → ClassId} {dI : Nat → Nat → Nat} {ac : Nat → ClassId} {o : Nat} {ad : Nat → Nat} {σ : mSt} {x1 : Int32} {r : Int32} (hf : M_status σ x1 = some r) : Met l yX6_status (ws_ yX6_status cX6_status 2 (some .int)) { frames := 1, cells := 0, slots := 0, locals := 25 } (va_Pc [.ref o, .int x1] (mPre dC dI ac o ad σ)) (mQi dC dI ac o ad r σ) 0 0 (mF o ad) := by
  refine m_of (by decide) rfl (Nat.le_of_ble_eq_true rfl) ?_
  intro p e s m args below meth c E hb hr hlk hml hS ls hl
  have hl : lv_has ls 2 [(0, .ref o), (1, .int x1)] := hl
  unfold M_status at hf
  refine lv_iload_n E.1 hb dX6_status_0 rfl (lv_at hl 1 rfl) ?_
  refine lv_i2l E.1 hb dX6_status_1 rfl ?_
  refine lv_lconst (v := 0) E.1 hb dX6_status_2 rfl ?_
  refine lv_ldc2 E.1 hb E.2.1 (E.2.2.1 _ q2268) dX6_status_3 ?_
  obtain ⟨r1, h1, hf⟩ := bo_s hf
  refine m_cSi E hb hml hl.1 hS (cmf_isIn h1) gw_isIn gn_isIn rfl rfl (Nat.le_of_ble_eq_true rfl) ⟨Nat.le_of_ble_eq_true rfl, Nat.le_of_ble_eq_true rfl⟩ ⟨Nat.le_refl 0, Nat.le_refl 0⟩ dX6_status_6 (fun H locs hS => ?_)
  refine lv_if_eq (tgt := 21) E.1 hb dX6_status_9 (by decide) (fun hc => ?_) (fun hc => ?_)
  · have hf := it_s hc hf
    refine lv_iconst (v := (-1)) E.1 hb dX6_status_21 rfl ?_
    exact m_irR E hb hr hlk hS hf dX6_status_22
  · have hf := if_s hc hf
    refine lv_aload_n E.1 hb dX6_status_12 rfl (lv_at hl 0 rfl) ?_
    refine m_gA (k := 9) E hb hS 2 rfl (by decide) fl_9 dX6_status_13 ?_
    refine lv_iload_n E.1 hb dX6_status_16 rfl (lv_at hl 1 rfl) ?_
    obtain ⟨hg, hf⟩ := ld_s hf
    refine m_ild E hb hS hg dX6_status_17 ?_
    refine lv_goto (tgt := 22) E.1 hb dX6_status_18 (by decide) ?_
    exact m_irR E hb hr hlk hS hf dX6_status_22
