set_option maxRecDepth 100000
/-! qDrops()V: RW -/
noncomputable def M_qDrops (σ : mSt) : Option (Unit × mSt) :=
  lt2 (mUI σ 97 0 ((σ.1 97 0) - 1)) fun σ1 => bo (ld 2 σ1 96 (σ1.1 97 0)) fun v2 => bd (M_qCode σ1 v2) fun _ σ3 => some ((), σ3)
theorem gw_qDrops : GoodIn lw_all (wsV RX6 584 RX6 yX6_qDrops (ws_ yX6_qDrops cX6_qDrops 1 none)) := lw_V q2151 q2153 qs92 q164 q2154
theorem gn_qDrops : yX6_qDrops.cls = RX6 ∧ yX6_qDrops.cls ≠ "java/lang/invoke/MethodHandle" ∧ yX6_qDrops.cls ≠ "java/lang/invoke/VarHandle" ∧ (parseMethodDescriptor yX6_qDrops.desc).map (fun d => d.parameters.length) = some 0 := by decide +kernel
abbrev rM_qDrops : Room := { frames := 1, cells := 0, slots := 0, locals := 21 }
set_option maxHeartbeats 4000000 in
theorem cmf_qDrops {l : Launch} {dC : Nat → ClassId} {dI : Nat → Nat → Nat} {ac : Nat → ClassId} {o : Nat} {ad : Nat → Nat} {σ : mSt} {σ' : mSt} (hf : M_qDrops σ = some ((), σ')) : Met l yX6_qDrops (ws_ yX6_qDrops cX6_qDrops 1 none) { frames := 1, cells := 0, slots := 0, locals := 21 } (va_Pc [.ref o] (mPre dC dI ac o ad σ)) (mQv dC dI ac o ad σ') 0 0 (mF o ad) := by
  refine m_of (by decide) rfl (Nat.le_of_ble_eq_true rfl) ?_
  intro p e s m args below meth c E hb hr hlk hml hS ls hl
  have hl : lv_has ls 1 [(0, .ref o)] := hl
  unfold M_qDrops at hf
  refine lv_aload_n E.1 hb dX6_qDrops_0 rfl (lv_at hl 0 rfl) ?_
  refine lv_dup E.1 hb dX6_qDrops_1 rfl ?_
  refine m_gI (k := 97) E hb hS rfl fl_97 dX6_qDrops_2 ?_
  refine lv_iconst (v := 1) E.1 hb dX6_qDrops_5 rfl ?_
  refine lv_isub E.1 hb dX6_qDrops_6 ?_
  obtain ⟨σ1, hw, hf⟩ := lt2_s hf
  refine m_pI (k := 97) E hb hS rfl rfl pf_97 fl_97 hw dX6_qDrops_7 (fun H locs hS => ?_)
  refine lv_aload_n E.1 hb dX6_qDrops_10 rfl (lv_at hl 0 rfl) ?_
  refine lv_aload_n E.1 hb dX6_qDrops_11 rfl (lv_at hl 0 rfl) ?_
  refine m_gA (k := 96) E hb hS 2 rfl (by decide) fl_96 dX6_qDrops_12 ?_
  refine lv_aload_n E.1 hb dX6_qDrops_15 rfl (lv_at hl 0 rfl) ?_
  refine m_gI (k := 97) E hb hS rfl fl_97 dX6_qDrops_16 ?_
  obtain ⟨hg, hf⟩ := ld_s hf
  refine m_ild E hb hS hg dX6_qDrops_19 ?_
  obtain ⟨_, σ3, h1, hf⟩ := bd_s hf
  refine m_cVv E hb hml hl.1 hS (cmf_qCode h1) gw_qCode gn_qCode rfl rfl (Nat.le_of_ble_eq_true rfl) ⟨Nat.le_of_ble_eq_true rfl, Nat.le_of_ble_eq_true rfl⟩ ⟨Nat.le_refl 0, Nat.le_refl 0⟩ dX6_qDrops_20 (fun H locs hS => ?_)
  exact m_vr E hb hr hlk hS hf dX6_qDrops_23
/-! qEndsPart()V: RW -/
noncomputable def M_qEndsPart_b0 (N : Nat) (k0 : mSt → Option (Unit × mSt)) (σ : mSt) : Option (Unit × mSt) :=
  if (σ.1 5 0) = 0 then (if (σ.1 97 0) ≤ (σ.1 99 0) then (some ((), σ)) else (bo (ld 2 σ 96 ((σ.1 97 0) - 1)) fun v1 => if v1 < 60 then (some ((), σ)) else (lt2 (mUI σ 98 0 ((σ.1 98 0) - 1)) fun σ2 => bd (M_qDrops σ2) fun _ σ3 => k0 σ3))) else (some ((), σ))
noncomputable def M_qEndsPart (N : Nat) (σ : mSt) : Option (Unit × mSt) :=
  rn1 (M_qEndsPart_b0 N) N σ
theorem gw_qEndsPart : GoodIn lw_all (wsV RX6 602 RX6 yX6_qEndsPart (ws_ yX6_qEndsPart cX6_qEndsPart 1 none)) := lw_V q2147 q2149 qs91 q164 q2150
theorem gn_qEndsPart : yX6_qEndsPart.cls = RX6 ∧ yX6_qEndsPart.cls ≠ "java/lang/invoke/MethodHandle" ∧ yX6_qEndsPart.cls ≠ "java/lang/invoke/VarHandle" ∧ (parseMethodDescriptor yX6_qEndsPart.desc).map (fun d => d.parameters.length) = some 0 := by decide +kernel
abbrev rM_qEndsPart : Room := { frames := 2, cells := 0, slots := 0, locals := 41 }
set_option maxHeartbeats 4000000 in
theorem cmf_qEndsPart {l : Launch} {dC : Nat → ClassId} {dI : Nat → Nat → Nat} {ac : Nat → ClassId} {o : Nat} {ad : Nat → Nat} {N : Nat} {σ : mSt} {σ' : mSt} (hf : M_qEndsPart N σ = some ((), σ')) : Met l yX6_qEndsPart (ws_ yX6_qEndsPart cX6_qEndsPart 1 none) { frames := 2, cells := 0, slots := 0, locals := 41 } (va_Pc [.ref o] (mPre dC dI ac o ad σ)) (mQv dC dI ac o ad σ') 0 0 (mF o ad) := by
  refine m_of (by decide) rfl (Nat.le_of_ble_eq_true rfl) ?_
  intro p e s m args below meth c E hb hr hlk hml hS ls hl
  have hl : lv_has ls 1 [(0, .ref o)] := hl
  have hL0 : ∀ (n : Nat) (σ : mSt), rn1 (M_qEndsPart_b0 N) n σ = some ((), σ') → ∀ (H : Heap) (locs : List Loc), mS dC dI ac o ad s.heap σ H locs → ∀ (ls : Array Slot), lv_has ls 1 [(0, .ref o)] → W p l e rM_qEndsPart s m args below meth c H locs 0 0 (MQ below (mQv dC dI ac o ad σ') args s 0 0 (mF o ad)) (F0 m 0 ls []) := by
    intro  n
    induction n with
    | zero =>
      intro σ hf
      cases hf
    | succ n ih =>
      intro σ hf H locs hS ls hl
      have hf : M_qEndsPart_b0 N (rn1 (M_qEndsPart_b0 N) n) σ = some ((), σ') := hf
      have hk0 := ih
      generalize rn1 (M_qEndsPart_b0 N) n = k0 at hf hk0
      unfold M_qEndsPart_b0 at hf
      refine lv_aload_n E.1 hb dX6_qEndsPart_0 rfl (lv_at hl 0 rfl) ?_
      refine m_gI (k := 5) E hb hS rfl fl_5 dX6_qEndsPart_1 ?_
      refine lv_if_ne (tgt := 51) E.1 hb dX6_qEndsPart_4 (by decide) (fun hc => ?_) (fun hc => ?_)
      · have hf := if_s hc hf
        exact m_vr E hb hr hlk hS hf dX6_qEndsPart_51
      · have hf := it_s hc hf
        refine lv_aload_n E.1 hb dX6_qEndsPart_7 rfl (lv_at hl 0 rfl) ?_
        refine m_gI (k := 97) E hb hS rfl fl_97 dX6_qEndsPart_8 ?_
        refine lv_aload_n E.1 hb dX6_qEndsPart_11 rfl (lv_at hl 0 rfl) ?_
        refine m_gI (k := 99) E hb hS rfl fl_99 dX6_qEndsPart_12 ?_
        refine lv_icmp_le (tgt := 51) E.1 hb dX6_qEndsPart_15 (by decide) (fun hc => ?_) (fun hc => ?_)
        · have hf := it_s hc hf
          exact m_vr E hb hr hlk hS hf dX6_qEndsPart_51
        · have hf := if_s hc hf
          refine lv_aload_n E.1 hb dX6_qEndsPart_18 rfl (lv_at hl 0 rfl) ?_
          refine m_gA (k := 96) E hb hS 2 rfl (by decide) fl_96 dX6_qEndsPart_19 ?_
          refine lv_aload_n E.1 hb dX6_qEndsPart_22 rfl (lv_at hl 0 rfl) ?_
          refine m_gI (k := 97) E hb hS rfl fl_97 dX6_qEndsPart_23 ?_
          refine lv_iconst (v := 1) E.1 hb dX6_qEndsPart_26 rfl ?_
          refine lv_isub E.1 hb dX6_qEndsPart_27 ?_
          obtain ⟨hg, hf⟩ := ld_s hf
          refine m_ild E hb hS hg dX6_qEndsPart_28 ?_
          refine lv_bipush (v := 60) E.1 hb dX6_qEndsPart_29 rfl ?_
          refine lv_icmp_lt (tgt := 51) E.1 hb dX6_qEndsPart_31 (by decide) (fun hc => ?_) (fun hc => ?_)
          · have hf := it_s hc hf
            exact m_vr E hb hr hlk hS hf dX6_qEndsPart_51
          · have hf := if_s hc hf
            refine lv_aload_n E.1 hb dX6_qEndsPart_34 rfl (lv_at hl 0 rfl) ?_
            refine lv_dup E.1 hb dX6_qEndsPart_35 rfl ?_
            refine m_gI (k := 98) E hb hS rfl fl_98 dX6_qEndsPart_36 ?_
            refine lv_iconst (v := 1) E.1 hb dX6_qEndsPart_39 rfl ?_
            refine lv_isub E.1 hb dX6_qEndsPart_40 ?_
            obtain ⟨σ2, hw, hf⟩ := lt2_s hf
            refine m_pI (k := 98) E hb hS rfl rfl pf_98 fl_98 hw dX6_qEndsPart_41 (fun H locs hS => ?_)
            refine lv_aload_n E.1 hb dX6_qEndsPart_44 rfl (lv_at hl 0 rfl) ?_
            obtain ⟨_, σ3, h1, hf⟩ := bd_s hf
            refine m_cVv E hb hml hl.1 hS (cmf_qDrops h1) gw_qDrops gn_qDrops rfl rfl (Nat.le_of_ble_eq_true rfl) ⟨Nat.le_of_ble_eq_true rfl, Nat.le_of_ble_eq_true rfl⟩ ⟨Nat.le_refl 0, Nat.le_refl 0⟩ dX6_qEndsPart_45 (fun H locs hS => ?_)
            refine lv_goto (tgt := 0) E.1 hb dX6_qEndsPart_48 (by decide) ?_
            exact hk0 σ3 hf _ _ hS _ (lv_sub hl [0] rfl)
  unfold M_qEndsPart at hf
  exact hL0 N σ hf _ _ hS _ (lv_sub hl [0] rfl)
/-! qPartTold()V: RW -/
noncomputable def M_qPartTold_b237 (N : Nat) (σ : mSt) (y0 : Int32) : Option (Unit × mSt) :=
  bd (M_qCode σ y0) fun _ σ5 => bd (M_qEndsPart N σ5) fun _ σ6 => some ((), σ6)
noncomputable def M_qPartTold_b212 (N : Nat) (σ : mSt) (x2 : Int32) : Option (Unit × mSt) :=
  if x2 = (-1) then (bd (M_number N σ 0 9999) fun r3 σ4 => M_qPartTold_b237 N σ4 (1000 + r3)) else (M_qPartTold_b237 N σ (40 + x2))
noncomputable def M_qPartTold_b186 (N : Nat) (σ : mSt) : Option (Unit × mSt) :=
  if (σ.1 5 0) = 0 then (bd (M_qWordOf N σ 0 9) fun r1 σ2 => if r1 = (-1) then (M_qPartTold_b212 N σ2 r1) else (bd (M_qAsksWord N σ2 r1) fun _ σ7 => M_qPartTold_b212 N σ7 r1)) else (some ((), σ))
noncomputable def M_qPartTold_b183 (N : Nat) (k2 : mSt → Int32 → Option (Unit × mSt)) (σ : mSt) (x1 : Int32) : Option (Unit × mSt) :=
  k2 σ x1
noncomputable def M_qPartTold_b144 (N : Nat) (k2 : mSt → Int32 → Option (Unit × mSt)) (σ : mSt) (x1 : Int32) : Option (Unit × mSt) :=
  bd (M_asksSign N σ 40) fun _ σ18 => M_qPartTold_b183 N k2 σ18 x1
noncomputable def M_qPartTold_b139 (N : Nat) (k2 : mSt → Int32 → Option (Unit × mSt)) (σ : mSt) (x1 : Int32) (x5 : Int32) (y0 : Int32) : Option (Unit × mSt) :=
  bd (M_qOpens σ y0 x5) fun _ σ19 => M_qPartTold_b144 N k2 σ19 x1
noncomputable def M_qPartTold_b118 (N : Nat) (k2 : mSt → Int32 → Option (Unit × mSt)) (σ : mSt) (x1 : Int32) (x4 : Int32) (y0 : Int32) : Option (Unit × mSt) :=
  if y0 = (-1) then (M_qPartTold_b144 N k2 σ x1) else (if x4 = 0 then (M_qPartTold_b139 N k2 σ x1 y0 22) else (M_qPartTold_b139 N k2 σ x1 y0 21))
noncomputable def M_qPartTold_b101 (N : Nat) (k2 : mSt → Int32 → Option (Unit × mSt)) (σ : mSt) (x1 : Int32) (x4 : Int32) : Option (Unit × mSt) :=
  bd (M_look N σ) fun r16 σ17 => if r16 = 40 then (M_qPartTold_b118 N k2 σ17 x1 x4 (σ17.1 2 0)) else (M_qPartTold_b118 N k2 σ17 x1 x4 (-1))
noncomputable def M_qPartTold_b78 (N : Nat) (k2 : mSt → Int32 → Option (Unit × mSt)) (σ : mSt) (x1 : Int32) : Option (Unit × mSt) :=
  bd (M_takes N σ 82) fun r14 σ15 => if r14 = 0 then (bd (M_asks N σ15 83) fun _ σ20 => M_qPartTold_b101 N k2 σ20 x1 r14) else (M_qPartTold_b101 N k2 σ15 x1 r14)
noncomputable def M_qPartTold_b2 (N : Nat) (k2 : mSt → Int32 → Option (Unit × mSt)) (σ : mSt) (x1 : Int32) : Option (Unit × mSt) :=
  if x1 = 0 then (M_qPartTold_b186 N σ) else (if (σ.1 5 0) = 0 then (bd (M_look N σ) fun r8 σ9 => bd (M_qWordOf N σ9 9 10) fun r10 σ11 => if r8 = 40 then (bd (M_qOpens σ11 20 (σ11.1 2 0)) fun _ σ25 => lt2 (mUI σ25 2 0 ((σ25.1 2 0) + 1)) fun σ26 => M_qPartTold_b183 N k2 σ26 x1) else (bd (M_isHere N σ11 82) fun r12 σ13 => if r12 = 0 then (bd (M_isHere N σ13 83) fun r21 σ22 => if r21 = 0 then (if r10 = (-1) then (M_qPartTold_b183 N k2 σ22 0) else (bd (M_qOpens σ22 ((60 + r10) - 9) (σ22.1 2 0)) fun _ σ23 => bd (M_qAsksWord N σ23 r10) fun _ σ24 => M_qPartTold_b183 N k2 σ24 x1)) else (M_qPartTold_b78 N k2 σ22 x1)) else (M_qPartTold_b78 N k2 σ13 x1))) else (M_qPartTold_b186 N σ))
noncomputable def M_qPartTold (N : Nat) (σ : mSt) : Option (Unit × mSt) :=
  rn2 (M_qPartTold_b2 N) N σ 1
theorem gw_qPartTold : GoodIn lw_all (wsV RX6 614 RX6 yX6_qPartTold (ws_ yX6_qPartTold cX6_qPartTold 6 none)) := lw_V q2127 q2129 qs86 q164 q2130
theorem gn_qPartTold : yX6_qPartTold.cls = RX6 ∧ yX6_qPartTold.cls ≠ "java/lang/invoke/MethodHandle" ∧ yX6_qPartTold.cls ≠ "java/lang/invoke/VarHandle" ∧ (parseMethodDescriptor yX6_qPartTold.desc).map (fun d => d.parameters.length) = some 0 := by decide +kernel
abbrev rM_qPartTold : Room := { frames := 5, cells := 0, slots := 0, locals := 106 }
set_option maxHeartbeats 4000000 in
theorem cmf_qPartTold {l : Launch} {dC : Nat → ClassId} {dI : Nat → Nat → Nat} {ac : Nat → ClassId} {o : Nat} {ad : Nat → Nat} {N : Nat} {σ : mSt} {σ' : mSt} (hf : M_qPartTold N σ = some ((), σ')) : Met l yX6_qPartTold (ws_ yX6_qPartTold cX6_qPartTold 6 none) { frames := 5, cells := 0, slots := 0, locals := 106 } (va_Pc [.ref o] (mPre dC dI ac o ad σ)) (mQv dC dI ac o ad σ') 0 0 (mF o ad) := by
  refine m_of (by decide) rfl (Nat.le_of_ble_eq_true rfl) ?_
  intro p e s m args below meth c E hb hr hlk hml hS ls hl
  have hl : lv_has ls 6 [(0, .ref o)] := hl
  have hB237 : ∀ (σ : mSt) (y0 : Int32), M_qPartTold_b237 N σ y0 = some ((), σ') → ∀ (H : Heap) (locs : List Loc), mS dC dI ac o ad s.heap σ H locs → ∀ (ls : Array Slot), lv_has ls 6 [(0, .ref o)] → W p l e rM_qPartTold s m args below meth c H locs 0 0 (MQ below (mQv dC dI ac o ad σ') args s 0 0 (mF o ad)) (F0 m 237 ls [.int y0, .ref o]) := by
    intro σ y0 hf H locs hS ls hl
    unfold M_qPartTold_b237 at hf
    obtain ⟨_, σ5, h1, hf⟩ := bd_s hf
    refine m_cVv E hb hml hl.1 hS (cmf_qCode h1) gw_qCode gn_qCode rfl rfl (Nat.le_of_ble_eq_true rfl) ⟨Nat.le_of_ble_eq_true rfl, Nat.le_of_ble_eq_true rfl⟩ ⟨Nat.le_refl 0, Nat.le_refl 0⟩ dX6_qPartTold_237 (fun H locs hS => ?_)
    refine lv_aload_n E.1 hb dX6_qPartTold_240 rfl (lv_at hl 0 rfl) ?_
    obtain ⟨_, σ6, h1, hf⟩ := bd_s hf
    refine m_cVv E hb hml hl.1 hS (cmf_qEndsPart h1) gw_qEndsPart gn_qEndsPart rfl rfl (Nat.le_of_ble_eq_true rfl) ⟨Nat.le_of_ble_eq_true rfl, Nat.le_of_ble_eq_true rfl⟩ ⟨Nat.le_refl 0, Nat.le_refl 0⟩ dX6_qPartTold_241 (fun H locs hS => ?_)
    exact m_vr E hb hr hlk hS hf dX6_qPartTold_244
  have hB212 : ∀ (σ : mSt) (x2 : Int32), M_qPartTold_b212 N σ x2 = some ((), σ') → ∀ (H : Heap) (locs : List Loc), mS dC dI ac o ad s.heap σ H locs → ∀ (ls : Array Slot), lv_has ls 6 [(0, .ref o), (2, .int x2)] → W p l e rM_qPartTold s m args below meth c H locs 0 0 (MQ below (mQv dC dI ac o ad σ') args s 0 0 (mF o ad)) (F0 m 212 ls []) := by
    intro σ x2 hf H locs hS ls hl
    unfold M_qPartTold_b212 at hf
    refine lv_aload_n E.1 hb dX6_qPartTold_212 rfl (lv_at hl 0 rfl) ?_
    refine lv_iload_n E.1 hb dX6_qPartTold_213 rfl (lv_at hl 1 rfl) ?_
    refine lv_iconst (v := (-1)) E.1 hb dX6_qPartTold_214 rfl ?_
    refine lv_icmp_eq (tgt := 225) E.1 hb dX6_qPartTold_215 (by decide) (fun hc => ?_) (fun hc => ?_)
    · have hf := it_s hc hf
      refine lv_sipush (v := 1000) E.1 hb dX6_qPartTold_225 rfl ?_
      refine lv_aload_n E.1 hb dX6_qPartTold_228 rfl (lv_at hl 0 rfl) ?_
      refine lv_iconst (v := 0) E.1 hb dX6_qPartTold_229 rfl ?_
      refine lv_sipush (v := 9999) E.1 hb dX6_qPartTold_230 rfl ?_
      obtain ⟨r3, σ4, h1, hf⟩ := bd_s hf
      refine m_cVi E hb hml hl.1 hS (cmf_number h1) gw_number gn_number rfl rfl (Nat.le_of_ble_eq_true rfl) ⟨Nat.le_of_ble_eq_true rfl, Nat.le_of_ble_eq_true rfl⟩ ⟨Nat.le_refl 0, Nat.le_refl 0⟩ dX6_qPartTold_233 (fun H locs hS => ?_)
      refine lv_iadd E.1 hb dX6_qPartTold_236 ?_
      exact hB237 σ4 (1000 + r3) hf _ _ hS _ (lv_sub hl [0] rfl)
    · have hf := if_s hc hf
      refine lv_bipush (v := 40) E.1 hb dX6_qPartTold_218 rfl ?_
      refine lv_iload_n E.1 hb dX6_qPartTold_220 rfl (lv_at hl 1 rfl) ?_
      refine lv_iadd E.1 hb dX6_qPartTold_221 ?_
      refine lv_goto (tgt := 237) E.1 hb dX6_qPartTold_222 (by decide) ?_
      exact hB237 σ (40 + x2) hf _ _ hS _ (lv_sub hl [0] rfl)
  have hB186 : ∀ (σ : mSt), M_qPartTold_b186 N σ = some ((), σ') → ∀ (H : Heap) (locs : List Loc), mS dC dI ac o ad s.heap σ H locs → ∀ (ls : Array Slot), lv_has ls 6 [(0, .ref o)] → W p l e rM_qPartTold s m args below meth c H locs 0 0 (MQ below (mQv dC dI ac o ad σ') args s 0 0 (mF o ad)) (F0 m 186 ls []) := by
    intro σ hf H locs hS ls hl
    unfold M_qPartTold_b186 at hf
    refine lv_aload_n E.1 hb dX6_qPartTold_186 rfl (lv_at hl 0 rfl) ?_
    refine m_gI (k := 5) E hb hS rfl fl_5 dX6_qPartTold_187 ?_
    refine lv_if_eq (tgt := 194) E.1 hb dX6_qPartTold_190 (by decide) (fun hc => ?_) (fun hc => ?_)
    · have hf := it_s hc hf
      refine lv_aload_n E.1 hb dX6_qPartTold_194 rfl (lv_at hl 0 rfl) ?_
      refine lv_iconst (v := 0) E.1 hb dX6_qPartTold_195 rfl ?_
      refine lv_bipush (v := 9) E.1 hb dX6_qPartTold_196 rfl ?_
      obtain ⟨r1, σ2, h1, hf⟩ := bd_s hf
      refine m_cVi E hb hml hl.1 hS (cmf_qWordOf h1) gw_qWordOf gn_qWordOf rfl rfl (Nat.le_of_ble_eq_true rfl) ⟨Nat.le_of_ble_eq_true rfl, Nat.le_of_ble_eq_true rfl⟩ ⟨Nat.le_refl 0, Nat.le_refl 0⟩ dX6_qPartTold_198 (fun H locs hS => ?_)
      refine lv_istore_n (lv' := [(2, .int r1), (0, .ref o)]) E.1 hb dX6_qPartTold_201 rfl hl (by decide) rfl (fun ls hl => ?_)
      refine lv_iload_n E.1 hb dX6_qPartTold_202 rfl (lv_at hl 0 rfl) ?_
      refine lv_iconst (v := (-1)) E.1 hb dX6_qPartTold_203 rfl ?_
      refine lv_icmp_eq (tgt := 212) E.1 hb dX6_qPartTold_204 (by decide) (fun hc => ?_) (fun hc => ?_)
      · have hf := it_s hc hf
        exact hB212 σ2 r1 hf _ _ hS _ (lv_sub hl [1, 0] rfl)
      · have hf := if_s hc hf
        refine lv_aload_n E.1 hb dX6_qPartTold_207 rfl (lv_at hl 1 rfl) ?_
        refine lv_iload_n E.1 hb dX6_qPartTold_208 rfl (lv_at hl 0 rfl) ?_
        obtain ⟨_, σ7, h1, hf⟩ := bd_s hf
        refine m_cVv E hb hml hl.1 hS (cmf_qAsksWord h1) gw_qAsksWord gn_qAsksWord rfl rfl (Nat.le_of_ble_eq_true rfl) ⟨Nat.le_of_ble_eq_true rfl, Nat.le_of_ble_eq_true rfl⟩ ⟨Nat.le_refl 0, Nat.le_refl 0⟩ dX6_qPartTold_209 (fun H locs hS => ?_)
        exact hB212 σ7 r1 hf _ _ hS _ (lv_sub hl [1, 0] rfl)
    · have hf := if_s hc hf
      exact m_vr E hb hr hlk hS hf dX6_qPartTold_193
  have hB183 : ∀ (k2 : mSt → Int32 → Option (Unit × mSt)) (hk2 : ∀ (σ : mSt) (x1 : Int32), k2 σ x1 = some ((), σ') → ∀ (H : Heap) (locs : List Loc), mS dC dI ac o ad s.heap σ H locs → ∀ (ls : Array Slot), lv_has ls 6 [(0, .ref o), (1, .int x1)] → W p l e rM_qPartTold s m args below meth c H locs 0 0 (MQ below (mQv dC dI ac o ad σ') args s 0 0 (mF o ad)) (F0 m 2 ls [])) (σ : mSt) (x1 : Int32), M_qPartTold_b183 N k2 σ x1 = some ((), σ') → ∀ (H : Heap) (locs : List Loc), mS dC dI ac o ad s.heap σ H locs → ∀ (ls : Array Slot), lv_has ls 6 [(0, .ref o), (1, .int x1)] → W p l e rM_qPartTold s m args below meth c H locs 0 0 (MQ below (mQv dC dI ac o ad σ') args s 0 0 (mF o ad)) (F0 m 183 ls []) := by
    intro k2 hk2 σ x1 hf H locs hS ls hl
    unfold M_qPartTold_b183 at hf
    refine lv_goto (tgt := 2) E.1 hb dX6_qPartTold_183 (by decide) ?_
    exact hk2 σ x1 hf _ _ hS _ (lv_sub hl [0, 1] rfl)
  have hB144 : ∀ (k2 : mSt → Int32 → Option (Unit × mSt)) (hk2 : ∀ (σ : mSt) (x1 : Int32), k2 σ x1 = some ((), σ') → ∀ (H : Heap) (locs : List Loc), mS dC dI ac o ad s.heap σ H locs → ∀ (ls : Array Slot), lv_has ls 6 [(0, .ref o), (1, .int x1)] → W p l e rM_qPartTold s m args below meth c H locs 0 0 (MQ below (mQv dC dI ac o ad σ') args s 0 0 (mF o ad)) (F0 m 2 ls [])) (σ : mSt) (x1 : Int32), M_qPartTold_b144 N k2 σ x1 = some ((), σ') → ∀ (H : Heap) (locs : List Loc), mS dC dI ac o ad s.heap σ H locs → ∀ (ls : Array Slot), lv_has ls 6 [(0, .ref o), (1, .int x1)] → W p l e rM_qPartTold s m args below meth c H locs 0 0 (MQ below (mQv dC dI ac o ad σ') args s 0 0 (mF o ad)) (F0 m 144 ls []) := by
    intro k2 hk2 σ x1 hf H locs hS ls hl
    unfold M_qPartTold_b144 at hf
    refine lv_aload_n E.1 hb dX6_qPartTold_144 rfl (lv_at hl 0 rfl) ?_
    refine lv_bipush (v := 40) E.1 hb dX6_qPartTold_145 rfl ?_
    obtain ⟨_, σ18, h1, hf⟩ := bd_s hf
    refine m_cVv E hb hml hl.1 hS (cmf_asksSign h1) gw_asksSign gn_asksSign rfl rfl (Nat.le_of_ble_eq_true rfl) ⟨Nat.le_of_ble_eq_true rfl, Nat.le_of_ble_eq_true rfl⟩ ⟨Nat.le_refl 0, Nat.le_refl 0⟩ dX6_qPartTold_147 (fun H locs hS => ?_)
    refine lv_goto (tgt := 183) E.1 hb dX6_qPartTold_150 (by decide) ?_
    exact hB183 k2 hk2 σ18 x1 hf _ _ hS _ (lv_sub hl [0, 1] rfl)
  have hB139 : ∀ (k2 : mSt → Int32 → Option (Unit × mSt)) (hk2 : ∀ (σ : mSt) (x1 : Int32), k2 σ x1 = some ((), σ') → ∀ (H : Heap) (locs : List Loc), mS dC dI ac o ad s.heap σ H locs → ∀ (ls : Array Slot), lv_has ls 6 [(0, .ref o), (1, .int x1)] → W p l e rM_qPartTold s m args below meth c H locs 0 0 (MQ below (mQv dC dI ac o ad σ') args s 0 0 (mF o ad)) (F0 m 2 ls [])) (σ : mSt) (x1 : Int32) (x5 : Int32) (y0 : Int32), M_qPartTold_b139 N k2 σ x1 x5 y0 = some ((), σ') → ∀ (H : Heap) (locs : List Loc), mS dC dI ac o ad s.heap σ H locs → ∀ (ls : Array Slot), lv_has ls 6 [(0, .ref o), (1, .int x1), (5, .int x5)] → W p l e rM_qPartTold s m args below meth c H locs 0 0 (MQ below (mQv dC dI ac o ad σ') args s 0 0 (mF o ad)) (F0 m 139 ls [.int y0, .ref o]) := by
    intro k2 hk2 σ x1 x5 y0 hf H locs hS ls hl
    unfold M_qPartTold_b139 at hf
    refine lv_iload E.1 hb dX6_qPartTold_139 (lv_at hl 2 rfl) ?_
    obtain ⟨_, σ19, h1, hf⟩ := bd_s hf
    refine m_cVv E hb hml hl.1 hS (cmf_qOpens h1) gw_qOpens gn_qOpens rfl rfl (Nat.le_of_ble_eq_true rfl) ⟨Nat.le_of_ble_eq_true rfl, Nat.le_of_ble_eq_true rfl⟩ ⟨Nat.le_refl 0, Nat.le_refl 0⟩ dX6_qPartTold_141 (fun H locs hS => ?_)
    exact hB144 k2 hk2 σ19 x1 hf _ _ hS _ (lv_sub hl [0, 1] rfl)
  have hB118 : ∀ (k2 : mSt → Int32 → Option (Unit × mSt)) (hk2 : ∀ (σ : mSt) (x1 : Int32), k2 σ x1 = some ((), σ') → ∀ (H : Heap) (locs : List Loc), mS dC dI ac o ad s.heap σ H locs → ∀ (ls : Array Slot), lv_has ls 6 [(0, .ref o), (1, .int x1)] → W p l e rM_qPartTold s m args below meth c H locs 0 0 (MQ below (mQv dC dI ac o ad σ') args s 0 0 (mF o ad)) (F0 m 2 ls [])) (σ : mSt) (x1 : Int32) (x4 : Int32) (y0 : Int32), M_qPartTold_b118 N k2 σ x1 x4 y0 = some ((), σ') → ∀ (H : Heap) (locs : List Loc), mS dC dI ac o ad s.heap σ H locs → ∀ (ls : Array Slot), lv_has ls 6 [(0, .ref o), (1, .int x1), (4, .int x4)] → W p l e rM_qPartTold s m args below meth c H locs 0 0 (MQ below (mQv dC dI ac o ad σ') args s 0 0 (mF o ad)) (F0 m 118 ls [.int y0]) := by
    intro k2 hk2 σ x1 x4 y0 hf H locs hS ls hl
    unfold M_qPartTold_b118 at hf
    refine lv_istore (lv' := [(5, .int y0), (0, .ref o), (1, .int x1), (4, .int x4)]) E.1 hb dX6_qPartTold_118 hl (by decide) rfl (fun ls hl => ?_)
    refine lv_iload E.1 hb dX6_qPartTold_120 (lv_at hl 0 rfl) ?_
    refine lv_iconst (v := (-1)) E.1 hb dX6_qPartTold_122 rfl ?_
    refine lv_icmp_eq (tgt := 144) E.1 hb dX6_qPartTold_123 (by decide) (fun hc => ?_) (fun hc => ?_)
    · have hf := it_s hc hf
      exact hB144 k2 hk2 σ x1 hf _ _ hS _ (lv_sub hl [1, 2] rfl)
    · have hf := if_s hc hf
      refine lv_aload_n E.1 hb dX6_qPartTold_126 rfl (lv_at hl 1 rfl) ?_
      refine lv_iload E.1 hb dX6_qPartTold_127 (lv_at hl 3 rfl) ?_
      refine lv_if_eq (tgt := 137) E.1 hb dX6_qPartTold_129 (by decide) (fun hc => ?_) (fun hc => ?_)
      · have hf := it_s hc hf
        refine lv_bipush (v := 22) E.1 hb dX6_qPartTold_137 rfl ?_
        exact hB139 k2 hk2 σ x1 y0 22 hf _ _ hS _ (lv_sub hl [1, 2, 0] rfl)
      · have hf := if_s hc hf
        refine lv_bipush (v := 21) E.1 hb dX6_qPartTold_132 rfl ?_
        refine lv_goto (tgt := 139) E.1 hb dX6_qPartTold_134 (by decide) ?_
        exact hB139 k2 hk2 σ x1 y0 21 hf _ _ hS _ (lv_sub hl [1, 2, 0] rfl)
  have hB101 : ∀ (k2 : mSt → Int32 → Option (Unit × mSt)) (hk2 : ∀ (σ : mSt) (x1 : Int32), k2 σ x1 = some ((), σ') → ∀ (H : Heap) (locs : List Loc), mS dC dI ac o ad s.heap σ H locs → ∀ (ls : Array Slot), lv_has ls 6 [(0, .ref o), (1, .int x1)] → W p l e rM_qPartTold s m args below meth c H locs 0 0 (MQ below (mQv dC dI ac o ad σ') args s 0 0 (mF o ad)) (F0 m 2 ls [])) (σ : mSt) (x1 : Int32) (x4 : Int32), M_qPartTold_b101 N k2 σ x1 x4 = some ((), σ') → ∀ (H : Heap) (locs : List Loc), mS dC dI ac o ad s.heap σ H locs → ∀ (ls : Array Slot), lv_has ls 6 [(0, .ref o), (1, .int x1), (4, .int x4)] → W p l e rM_qPartTold s m args below meth c H locs 0 0 (MQ below (mQv dC dI ac o ad σ') args s 0 0 (mF o ad)) (F0 m 101 ls []) := by
    intro k2 hk2 σ x1 x4 hf H locs hS ls hl
    unfold M_qPartTold_b101 at hf
    refine lv_aload_n E.1 hb dX6_qPartTold_101 rfl (lv_at hl 0 rfl) ?_
    obtain ⟨r16, σ17, h1, hf⟩ := bd_s hf
    refine m_cVi E hb hml hl.1 hS (cmf_look h1) gw_look gn_look rfl rfl (Nat.le_of_ble_eq_true rfl) ⟨Nat.le_of_ble_eq_true rfl, Nat.le_of_ble_eq_true rfl⟩ ⟨Nat.le_refl 0, Nat.le_refl 0⟩ dX6_qPartTold_102 (fun H locs hS => ?_)
    refine lv_bipush (v := 40) E.1 hb dX6_qPartTold_105 rfl ?_
    refine lv_icmp_ne (tgt := 117) E.1 hb dX6_qPartTold_107 (by decide) (fun hc => ?_) (fun hc => ?_)
    · have hf := if_s hc hf
      refine lv_iconst (v := (-1)) E.1 hb dX6_qPartTold_117 rfl ?_
      exact hB118 k2 hk2 σ17 x1 x4 (-1) hf _ _ hS _ (lv_sub hl [0, 1, 2] rfl)
    · have hf := it_s hc hf
      refine lv_aload_n E.1 hb dX6_qPartTold_110 rfl (lv_at hl 0 rfl) ?_
      refine m_gI (k := 2) E hb hS rfl fl_2 dX6_qPartTold_111 ?_
      refine lv_goto (tgt := 118) E.1 hb dX6_qPartTold_114 (by decide) ?_
      exact hB118 k2 hk2 σ17 x1 x4 (σ17.1 2 0) hf _ _ hS _ (lv_sub hl [0, 1, 2] rfl)
  have hB78 : ∀ (k2 : mSt → Int32 → Option (Unit × mSt)) (hk2 : ∀ (σ : mSt) (x1 : Int32), k2 σ x1 = some ((), σ') → ∀ (H : Heap) (locs : List Loc), mS dC dI ac o ad s.heap σ H locs → ∀ (ls : Array Slot), lv_has ls 6 [(0, .ref o), (1, .int x1)] → W p l e rM_qPartTold s m args below meth c H locs 0 0 (MQ below (mQv dC dI ac o ad σ') args s 0 0 (mF o ad)) (F0 m 2 ls [])) (σ : mSt) (x1 : Int32), M_qPartTold_b78 N k2 σ x1 = some ((), σ') → ∀ (H : Heap) (locs : List Loc), mS dC dI ac o ad s.heap σ H locs → ∀ (ls : Array Slot), lv_has ls 6 [(0, .ref o), (1, .int x1)] → W p l e rM_qPartTold s m args below meth c H locs 0 0 (MQ below (mQv dC dI ac o ad σ') args s 0 0 (mF o ad)) (F0 m 78 ls []) := by
    intro k2 hk2 σ x1 hf H locs hS ls hl
    unfold M_qPartTold_b78 at hf
    refine lv_aload_n E.1 hb dX6_qPartTold_78 rfl (lv_at hl 0 rfl) ?_
    refine lv_aload_n E.1 hb dX6_qPartTold_79 rfl (lv_at hl 0 rfl) ?_
    refine m_gA (k := 82) E hb hS 4 rfl (by decide) fl_82 dX6_qPartTold_80 ?_
    obtain ⟨r14, σ15, h1, hf⟩ := bd_s hf
    refine m_cVi E hb hml hl.1 hS (cmf_takes h1) gw_takes gn_takes rfl rfl (Nat.le_of_ble_eq_true rfl) ⟨Nat.le_of_ble_eq_true rfl, Nat.le_of_ble_eq_true rfl⟩ ⟨Nat.le_refl 0, Nat.le_refl 0⟩ dX6_qPartTold_83 (fun H locs hS => ?_)
    refine lv_istore (lv' := [(4, .int r14), (0, .ref o), (1, .int x1)]) E.1 hb dX6_qPartTold_86 hl (by decide) rfl (fun ls hl => ?_)
    refine lv_iload E.1 hb dX6_qPartTold_88 (lv_at hl 0 rfl) ?_
    refine lv_if_ne (tgt := 101) E.1 hb dX6_qPartTold_90 (by decide) (fun hc => ?_) (fun hc => ?_)
    · have hf := if_s hc hf
      exact hB101 k2 hk2 σ15 x1 r14 hf _ _ hS _ (lv_sub hl [1, 2, 0] rfl)
    · have hf := it_s hc hf
      refine lv_aload_n E.1 hb dX6_qPartTold_93 rfl (lv_at hl 1 rfl) ?_
      refine lv_aload_n E.1 hb dX6_qPartTold_94 rfl (lv_at hl 1 rfl) ?_
      refine m_gA (k := 83) E hb hS 4 rfl (by decide) fl_83 dX6_qPartTold_95 ?_
      obtain ⟨_, σ20, h1, hf⟩ := bd_s hf
      refine m_cVv E hb hml hl.1 hS (cmf_asks h1) gw_asks gn_asks rfl rfl (Nat.le_of_ble_eq_true rfl) ⟨Nat.le_of_ble_eq_true rfl, Nat.le_of_ble_eq_true rfl⟩ ⟨Nat.le_refl 0, Nat.le_refl 0⟩ dX6_qPartTold_98 (fun H locs hS => ?_)
      exact hB101 k2 hk2 σ20 x1 r14 hf _ _ hS _ (lv_sub hl [1, 2, 0] rfl)
  have hL2 : ∀ (n : Nat) (σ : mSt) (x1 : Int32), rn2 (M_qPartTold_b2 N) n σ x1 = some ((), σ') → ∀ (H : Heap) (locs : List Loc), mS dC dI ac o ad s.heap σ H locs → ∀ (ls : Array Slot), lv_has ls 6 [(0, .ref o), (1, .int x1)] → W p l e rM_qPartTold s m args below meth c H locs 0 0 (MQ below (mQv dC dI ac o ad σ') args s 0 0 (mF o ad)) (F0 m 2 ls []) := by
    intro  n
    induction n with
    | zero =>
      intro σ x1 hf
      cases hf
    | succ n ih =>
      intro σ x1 hf H locs hS ls hl
      have hf : M_qPartTold_b2 N (rn2 (M_qPartTold_b2 N) n) σ x1 = some ((), σ') := hf
      have hk2 := ih
      generalize rn2 (M_qPartTold_b2 N) n = k2 at hf hk2
      unfold M_qPartTold_b2 at hf
      refine lv_iload_n E.1 hb dX6_qPartTold_2 rfl (lv_at hl 1 rfl) ?_
      refine lv_if_eq (tgt := 186) E.1 hb dX6_qPartTold_3 (by decide) (fun hc => ?_) (fun hc => ?_)
      · have hf := it_s hc hf
        exact hB186 σ hf _ _ hS _ (lv_sub hl [0] rfl)
      · have hf := if_s hc hf
        refine lv_aload_n E.1 hb dX6_qPartTold_6 rfl (lv_at hl 0 rfl) ?_
        refine m_gI (k := 5) E hb hS rfl fl_5 dX6_qPartTold_7 ?_
        refine lv_if_ne (tgt := 186) E.1 hb dX6_qPartTold_10 (by decide) (fun hc => ?_) (fun hc => ?_)
        · have hf := if_s hc hf
          exact hB186 σ hf _ _ hS _ (lv_sub hl [0] rfl)
        · have hf := it_s hc hf
          refine lv_aload_n E.1 hb dX6_qPartTold_13 rfl (lv_at hl 0 rfl) ?_
          obtain ⟨r8, σ9, h1, hf⟩ := bd_s hf
          refine m_cVi E hb hml hl.1 hS (cmf_look h1) gw_look gn_look rfl rfl (Nat.le_of_ble_eq_true rfl) ⟨Nat.le_of_ble_eq_true rfl, Nat.le_of_ble_eq_true rfl⟩ ⟨Nat.le_refl 0, Nat.le_refl 0⟩ dX6_qPartTold_14 (fun H locs hS => ?_)
          refine lv_istore_n (lv' := [(2, .int r8), (0, .ref o), (1, .int x1)]) E.1 hb dX6_qPartTold_17 rfl hl (by decide) rfl (fun ls hl => ?_)
          refine lv_aload_n E.1 hb dX6_qPartTold_18 rfl (lv_at hl 1 rfl) ?_
          refine lv_bipush (v := 9) E.1 hb dX6_qPartTold_19 rfl ?_
          refine lv_bipush (v := 10) E.1 hb dX6_qPartTold_21 rfl ?_
          obtain ⟨r10, σ11, h1, hf⟩ := bd_s hf
          refine m_cVi E hb hml hl.1 hS (cmf_qWordOf h1) gw_qWordOf gn_qWordOf rfl rfl (Nat.le_of_ble_eq_true rfl) ⟨Nat.le_of_ble_eq_true rfl, Nat.le_of_ble_eq_true rfl⟩ ⟨Nat.le_refl 0, Nat.le_refl 0⟩ dX6_qPartTold_23 (fun H locs hS => ?_)
          refine lv_istore_n (lv' := [(3, .int r10), (2, .int r8), (0, .ref o), (1, .int x1)]) E.1 hb dX6_qPartTold_26 rfl hl (by decide) rfl (fun ls hl => ?_)
          refine lv_iload_n E.1 hb dX6_qPartTold_27 rfl (lv_at hl 1 rfl) ?_
          refine lv_bipush (v := 40) E.1 hb dX6_qPartTold_28 rfl ?_
          refine lv_icmp_ne (tgt := 56) E.1 hb dX6_qPartTold_30 (by decide) (fun hc => ?_) (fun hc => ?_)
          · have hf := if_s hc hf
            refine lv_aload_n E.1 hb dX6_qPartTold_56 rfl (lv_at hl 2 rfl) ?_
            refine lv_aload_n E.1 hb dX6_qPartTold_57 rfl (lv_at hl 2 rfl) ?_
            refine m_gA (k := 82) E hb hS 4 rfl (by decide) fl_82 dX6_qPartTold_58 ?_
            obtain ⟨r12, σ13, h1, hf⟩ := bd_s hf
            refine m_cVi E hb hml hl.1 hS (cmf_isHere h1) gw_isHere gn_isHere rfl rfl (Nat.le_of_ble_eq_true rfl) ⟨Nat.le_of_ble_eq_true rfl, Nat.le_of_ble_eq_true rfl⟩ ⟨Nat.le_refl 0, Nat.le_refl 0⟩ dX6_qPartTold_61 (fun H locs hS => ?_)
            refine lv_if_ne (tgt := 78) E.1 hb dX6_qPartTold_64 (by decide) (fun hc => ?_) (fun hc => ?_)
            · have hf := if_s hc hf
              exact hB78 k2 hk2 σ13 x1 hf _ _ hS _ (lv_sub hl [2, 3] rfl)
            · have hf := it_s hc hf
              refine lv_aload_n E.1 hb dX6_qPartTold_67 rfl (lv_at hl 2 rfl) ?_
              refine lv_aload_n E.1 hb dX6_qPartTold_68 rfl (lv_at hl 2 rfl) ?_
              refine m_gA (k := 83) E hb hS 4 rfl (by decide) fl_83 dX6_qPartTold_69 ?_
              obtain ⟨r21, σ22, h1, hf⟩ := bd_s hf
              refine m_cVi E hb hml hl.1 hS (cmf_isHere h1) gw_isHere gn_isHere rfl rfl (Nat.le_of_ble_eq_true rfl) ⟨Nat.le_of_ble_eq_true rfl, Nat.le_of_ble_eq_true rfl⟩ ⟨Nat.le_refl 0, Nat.le_refl 0⟩ dX6_qPartTold_72 (fun H locs hS => ?_)
              refine lv_if_eq (tgt := 153) E.1 hb dX6_qPartTold_75 (by decide) (fun hc => ?_) (fun hc => ?_)
              · have hf := it_s hc hf
                refine lv_iload_n E.1 hb dX6_qPartTold_153 rfl (lv_at hl 0 rfl) ?_
                refine lv_iconst (v := (-1)) E.1 hb dX6_qPartTold_154 rfl ?_
                refine lv_icmp_eq (tgt := 181) E.1 hb dX6_qPartTold_155 (by decide) (fun hc => ?_) (fun hc => ?_)
                · have hf := it_s hc hf
                  refine lv_iconst (v := 0) E.1 hb dX6_qPartTold_181 rfl ?_
                  refine lv_istore_n (lv' := [(1, .int 0), (3, .int r10), (2, .int r8), (0, .ref o)]) E.1 hb dX6_qPartTold_182 rfl hl (by decide) rfl (fun ls hl => ?_)
                  exact hB183 k2 hk2 σ22 0 hf _ _ hS _ (lv_sub hl [3, 0] rfl)
                · have hf := if_s hc hf
                  refine lv_aload_n E.1 hb dX6_qPartTold_158 rfl (lv_at hl 2 rfl) ?_
                  refine lv_bipush (v := 60) E.1 hb dX6_qPartTold_159 rfl ?_
                  refine lv_iload_n E.1 hb dX6_qPartTold_161 rfl (lv_at hl 0 rfl) ?_
                  refine lv_iadd E.1 hb dX6_qPartTold_162 ?_
                  refine lv_bipush (v := 9) E.1 hb dX6_qPartTold_163 rfl ?_
                  refine lv_isub E.1 hb dX6_qPartTold_165 ?_
                  refine lv_aload_n E.1 hb dX6_qPartTold_166 rfl (lv_at hl 2 rfl) ?_
                  refine m_gI (k := 2) E hb hS rfl fl_2 dX6_qPartTold_167 ?_
                  obtain ⟨_, σ23, h1, hf⟩ := bd_s hf
                  refine m_cVv E hb hml hl.1 hS (cmf_qOpens h1) gw_qOpens gn_qOpens rfl rfl (Nat.le_of_ble_eq_true rfl) ⟨Nat.le_of_ble_eq_true rfl, Nat.le_of_ble_eq_true rfl⟩ ⟨Nat.le_refl 0, Nat.le_refl 0⟩ dX6_qPartTold_170 (fun H locs hS => ?_)
                  refine lv_aload_n E.1 hb dX6_qPartTold_173 rfl (lv_at hl 2 rfl) ?_
                  refine lv_iload_n E.1 hb dX6_qPartTold_174 rfl (lv_at hl 0 rfl) ?_
                  obtain ⟨_, σ24, h1, hf⟩ := bd_s hf
                  refine m_cVv E hb hml hl.1 hS (cmf_qAsksWord h1) gw_qAsksWord gn_qAsksWord rfl rfl (Nat.le_of_ble_eq_true rfl) ⟨Nat.le_of_ble_eq_true rfl, Nat.le_of_ble_eq_true rfl⟩ ⟨Nat.le_refl 0, Nat.le_refl 0⟩ dX6_qPartTold_175 (fun H locs hS => ?_)
                  refine lv_goto (tgt := 183) E.1 hb dX6_qPartTold_178 (by decide) ?_
                  exact hB183 k2 hk2 σ24 x1 hf _ _ hS _ (lv_sub hl [2, 3] rfl)
              · have hf := if_s hc hf
                exact hB78 k2 hk2 σ22 x1 hf _ _ hS _ (lv_sub hl [2, 3] rfl)
          · have hf := it_s hc hf
            refine lv_aload_n E.1 hb dX6_qPartTold_33 rfl (lv_at hl 2 rfl) ?_
            refine lv_bipush (v := 20) E.1 hb dX6_qPartTold_34 rfl ?_
            refine lv_aload_n E.1 hb dX6_qPartTold_36 rfl (lv_at hl 2 rfl) ?_
            refine m_gI (k := 2) E hb hS rfl fl_2 dX6_qPartTold_37 ?_
            obtain ⟨_, σ25, h1, hf⟩ := bd_s hf
            refine m_cVv E hb hml hl.1 hS (cmf_qOpens h1) gw_qOpens gn_qOpens rfl rfl (Nat.le_of_ble_eq_true rfl) ⟨Nat.le_of_ble_eq_true rfl, Nat.le_of_ble_eq_true rfl⟩ ⟨Nat.le_refl 0, Nat.le_refl 0⟩ dX6_qPartTold_40 (fun H locs hS => ?_)
            refine lv_aload_n E.1 hb dX6_qPartTold_43 rfl (lv_at hl 2 rfl) ?_
            refine lv_dup E.1 hb dX6_qPartTold_44 rfl ?_
            refine m_gI (k := 2) E hb hS rfl fl_2 dX6_qPartTold_45 ?_
            refine lv_iconst (v := 1) E.1 hb dX6_qPartTold_48 rfl ?_
            refine lv_iadd E.1 hb dX6_qPartTold_49 ?_
            obtain ⟨σ26, hw, hf⟩ := lt2_s hf
            refine m_pI (k := 2) E hb hS rfl rfl pf_2 fl_2 hw dX6_qPartTold_50 (fun H locs hS => ?_)
            refine lv_goto (tgt := 183) E.1 hb dX6_qPartTold_53 (by decide) ?_
            exact hB183 k2 hk2 σ26 x1 hf _ _ hS _ (lv_sub hl [2, 3] rfl)
  unfold M_qPartTold at hf
  refine lv_iconst (v := 1) E.1 hb dX6_qPartTold_0 rfl ?_
  refine lv_istore_n (lv' := [(1, .int 1), (0, .ref o)]) E.1 hb dX6_qPartTold_1 rfl hl (by decide) rfl (fun ls hl => ?_)
  exact hL2 N σ 1 hf _ _ hS _ (lv_sub hl [1, 0] rfl)
/-! qIsBracket(I)Z: P -/
noncomputable def M_qIsBracket (x0 : Int32) : Option Int32 :=
  if x0 < 20 then (some 0) else (if 24 < x0 then (some 0) else (some 1))
theorem gw_qIsBracket : GoodIn lw_all (va_wsS RX6 581 yX6_qIsBracket (ws_ yX6_qIsBracket cX6_qIsBracket 1 (some .boolean))) := lw_S q2163 q2164 q164 q2165
theorem gn_qIsBracket : yX6_qIsBracket.cls ≠ "java/lang/invoke/MethodHandle" ∧ yX6_qIsBracket.cls ≠ "java/lang/invoke/VarHandle" ∧ (parseMethodDescriptor yX6_qIsBracket.desc).map (fun d => d.parameters.length) = some 1 := by decide +kernel
abbrev rM_qIsBracket : Room := { frames := 0, cells := 0, slots := 0, locals := 0 }
set_option maxHeartbeats 4000000 in
theorem cmf_qIsBracket {l : Launch} {dC : Nat → ClassId} {dI : Nat → Nat → Nat} {ac : Nat → ClassId} {o : Nat} {ad : Nat → Nat} {σ : mSt} {x0 : Int32} {r : Int32} (hf : M_qIsBracket x0 = some r) : Met l yX6_qIsBracket (ws_ yX6_qIsBracket cX6_qIsBracket 1 (some .boolean)) { frames := 0, cells := 0, slots := 0, locals := 0 } (va_Pc [.int x0] (mPre dC dI ac o ad σ)) (mQi dC dI ac o ad r σ) 0 0 (mF o ad) := by
  refine m_of (by decide) rfl (Nat.le_of_ble_eq_true rfl) ?_
  intro p e s m args below meth c E hb hr hlk hml hS ls hl
  have hl : lv_has ls 1 [(0, .int x0)] := hl
  unfold M_qIsBracket at hf
  refine lv_iload_n E.1 hb dX6_qIsBracket_0 rfl (lv_at hl 0 rfl) ?_
  refine lv_bipush (v := 20) E.1 hb dX6_qIsBracket_1 rfl ?_
  refine lv_icmp_lt (tgt := 16) E.1 hb dX6_qIsBracket_3 (by decide) (fun hc => ?_) (fun hc => ?_)
  · have hf := it_s hc hf
    refine lv_iconst (v := 0) E.1 hb dX6_qIsBracket_16 rfl ?_
    exact m_zrR E hb hr hlk hS rfl hf dX6_qIsBracket_17
  · have hf := if_s hc hf
    refine lv_iload_n E.1 hb dX6_qIsBracket_6 rfl (lv_at hl 0 rfl) ?_
    refine lv_bipush (v := 24) E.1 hb dX6_qIsBracket_7 rfl ?_
    refine lv_icmp_gt (tgt := 16) E.1 hb dX6_qIsBracket_9 (by decide) (fun hc => ?_) (fun hc => ?_)
    · have hf := it_s hc hf
      refine lv_iconst (v := 0) E.1 hb dX6_qIsBracket_16 rfl ?_
      exact m_zrR E hb hr hlk hS rfl hf dX6_qIsBracket_17
    · have hf := if_s hc hf
      refine lv_iconst (v := 1) E.1 hb dX6_qIsBracket_12 rfl ?_
      refine lv_goto (tgt := 17) E.1 hb dX6_qIsBracket_13 (by decide) ?_
      exact m_zrR E hb hr hlk hS rfl hf dX6_qIsBracket_17
/-! qBracket()I: RO -/
noncomputable def M_qBracket_b33 (N : Nat) (σ : mSt) (x1 : Int32) : Option Int32 :=
  if x1 < (σ.1 99 0) then (some (-1)) else (bo (ld 2 σ 96 x1) fun v1 => some v1)
noncomputable def M_qBracket_b7 (N : Nat) (σ : mSt) (k7 : Int32 → Option Int32) (x1 : Int32) : Option Int32 :=
  if x1 < (σ.1 99 0) then (M_qBracket_b33 N σ x1) else (bo (ld 2 σ 96 x1) fun v2 => bo (M_qIsBracket v2) fun r3 => if r3 = 0 then (k7 (x1 + (-1))) else (M_qBracket_b33 N σ x1))
noncomputable def M_qBracket (N : Nat) (σ : mSt) : Option Int32 :=
  rn1 (M_qBracket_b7 N σ) N ((σ.1 97 0) - 1)
theorem gw_qBracket : GoodIn lw_all (wsV RX6 605 RX6 yX6_qBracket (ws_ yX6_qBracket cX6_qBracket 2 (some .int))) := lw_V q2159 q2161 qs94 q164 q2162
theorem gn_qBracket : yX6_qBracket.cls = RX6 ∧ yX6_qBracket.cls ≠ "java/lang/invoke/MethodHandle" ∧ yX6_qBracket.cls ≠ "java/lang/invoke/VarHandle" ∧ (parseMethodDescriptor yX6_qBracket.desc).map (fun d => d.parameters.length) = some 0 := by decide +kernel
abbrev rM_qBracket : Room := { frames := 1, cells := 0, slots := 0, locals := 20 }
set_option maxHeartbeats 4000000 in
theorem cmf_qBracket {l : Launch} {dC : Nat → ClassId} {dI : Nat → Nat → Nat} {ac : Nat → ClassId} {o : Nat} {ad : Nat → Nat} {N : Nat} {σ : mSt} {r : Int32} (hf : M_qBracket N σ = some r) : Met l yX6_qBracket (ws_ yX6_qBracket cX6_qBracket 2 (some .int)) { frames := 1, cells := 0, slots := 0, locals := 20 } (va_Pc [.ref o] (mPre dC dI ac o ad σ)) (mQi dC dI ac o ad r σ) 0 0 (mF o ad) := by
  refine m_of (by decide) rfl (Nat.le_of_ble_eq_true rfl) ?_
  intro p e s m args below meth c E hb hr hlk hml hS ls hl
  have hl : lv_has ls 2 [(0, .ref o)] := hl
  have hB33 : ∀ (x1 : Int32), M_qBracket_b33 N σ x1 = some r → ∀ (H : Heap) (locs : List Loc), mS dC dI ac o ad s.heap σ H locs → ∀ (ls : Array Slot), lv_has ls 2 [(0, .ref o), (1, .int x1)] → W p l e rM_qBracket s m args below meth c H locs 0 0 (MQ below (mQi dC dI ac o ad r σ) args s 0 0 (mF o ad)) (F0 m 33 ls []) := by
    intro x1 hf H locs hS ls hl
    unfold M_qBracket_b33 at hf
    refine lv_iload_n E.1 hb dX6_qBracket_33 rfl (lv_at hl 1 rfl) ?_
    refine lv_aload_n E.1 hb dX6_qBracket_34 rfl (lv_at hl 0 rfl) ?_
    refine m_gI (k := 99) E hb hS rfl fl_99 dX6_qBracket_35 ?_
    refine lv_icmp_lt (tgt := 50) E.1 hb dX6_qBracket_38 (by decide) (fun hc => ?_) (fun hc => ?_)
    · have hf := it_s hc hf
      refine lv_iconst (v := (-1)) E.1 hb dX6_qBracket_50 rfl ?_
      exact m_irR E hb hr hlk hS hf dX6_qBracket_51
    · have hf := if_s hc hf
      refine lv_aload_n E.1 hb dX6_qBracket_41 rfl (lv_at hl 0 rfl) ?_
      refine m_gA (k := 96) E hb hS 2 rfl (by decide) fl_96 dX6_qBracket_42 ?_
      refine lv_iload_n E.1 hb dX6_qBracket_45 rfl (lv_at hl 1 rfl) ?_
      obtain ⟨hg, hf⟩ := ld_s hf
      refine m_ild E hb hS hg dX6_qBracket_46 ?_
      refine lv_goto (tgt := 51) E.1 hb dX6_qBracket_47 (by decide) ?_
      exact m_irR E hb hr hlk hS hf dX6_qBracket_51
  have hL7 : ∀ (n : Nat) (x1 : Int32), rn1 (M_qBracket_b7 N σ) n x1 = some r → ∀ (H : Heap) (locs : List Loc), mS dC dI ac o ad s.heap σ H locs → ∀ (ls : Array Slot), lv_has ls 2 [(0, .ref o), (1, .int x1)] → W p l e rM_qBracket s m args below meth c H locs 0 0 (MQ below (mQi dC dI ac o ad r σ) args s 0 0 (mF o ad)) (F0 m 7 ls []) := by
    intro  n
    induction n with
    | zero =>
      intro x1 hf
      cases hf
    | succ n ih =>
      intro x1 hf H locs hS ls hl
      have hf : M_qBracket_b7 N σ (rn1 (M_qBracket_b7 N σ) n) x1 = some r := hf
      have hk7 := ih
      generalize rn1 (M_qBracket_b7 N σ) n = k7 at hf hk7
      unfold M_qBracket_b7 at hf
      refine lv_iload_n E.1 hb dX6_qBracket_7 rfl (lv_at hl 1 rfl) ?_
      refine lv_aload_n E.1 hb dX6_qBracket_8 rfl (lv_at hl 0 rfl) ?_
      refine m_gI (k := 99) E hb hS rfl fl_99 dX6_qBracket_9 ?_
      refine lv_icmp_lt (tgt := 33) E.1 hb dX6_qBracket_12 (by decide) (fun hc => ?_) (fun hc => ?_)
      · have hf := it_s hc hf
        exact hB33 x1 hf _ _ hS _ (lv_sub hl [0, 1] rfl)
      · have hf := if_s hc hf
        refine lv_aload_n E.1 hb dX6_qBracket_15 rfl (lv_at hl 0 rfl) ?_
        refine m_gA (k := 96) E hb hS 2 rfl (by decide) fl_96 dX6_qBracket_16 ?_
        refine lv_iload_n E.1 hb dX6_qBracket_19 rfl (lv_at hl 1 rfl) ?_
        obtain ⟨hg, hf⟩ := ld_s hf
        refine m_ild E hb hS hg dX6_qBracket_20 ?_
        obtain ⟨r3, h1, hf⟩ := bo_s hf
        refine m_cSi E hb hml hl.1 hS (cmf_qIsBracket h1) gw_qIsBracket gn_qIsBracket rfl rfl (Nat.le_of_ble_eq_true rfl) ⟨Nat.le_of_ble_eq_true rfl, Nat.le_of_ble_eq_true rfl⟩ ⟨Nat.le_refl 0, Nat.le_refl 0⟩ dX6_qBracket_21 (fun H locs hS => ?_)
        refine lv_if_ne (tgt := 33) E.1 hb dX6_qBracket_24 (by decide) (fun hc => ?_) (fun hc => ?_)
        · have hf := if_s hc hf
          exact hB33 x1 hf _ _ hS _ (lv_sub hl [0, 1] rfl)
        · have hf := it_s hc hf
          refine lv_iinc (v := (x1 + (-1))) (lv' := [(1, .int (x1 + (-1))), (0, .ref o)]) E.1 hb dX6_qBracket_27 hl (k := 1) rfl rfl (by decide) rfl (fun ls hl => ?_)
          refine lv_goto (tgt := 7) E.1 hb dX6_qBracket_30 (by decide) ?_
          exact hk7 (x1 + (-1)) hf _ _ hS _ (lv_sub hl [1, 0] rfl)
  unfold M_qBracket at hf
  refine lv_aload_n E.1 hb dX6_qBracket_0 rfl (lv_at hl 0 rfl) ?_
  refine m_gI (k := 97) E hb hS rfl fl_97 dX6_qBracket_1 ?_
  refine lv_iconst (v := 1) E.1 hb dX6_qBracket_4 rfl ?_
  refine lv_isub E.1 hb dX6_qBracket_5 ?_
  refine lv_istore_n (lv' := [(1, .int ((σ.1 97 0) - 1)), (0, .ref o)]) E.1 hb dX6_qBracket_6 rfl hl (by decide) rfl (fun ls hl => ?_)
  exact hL7 N ((σ.1 97 0) - 1) hf _ _ hS _ (lv_sub hl [1, 0] rfl)
/-! qDropsToBracket()V: RW -/
noncomputable def M_qDropsToBracket_b0 (N : Nat) (k0 : mSt → Option (Unit × mSt)) (σ : mSt) : Option (Unit × mSt) :=
  if (σ.1 97 0) ≤ (σ.1 99 0) then (some ((), σ)) else (bo (ld 2 σ 96 ((σ.1 97 0) - 1)) fun v1 => bo (M_qIsBracket v1) fun r2 => if r2 = 0 then (bd (M_qDrops σ) fun _ σ3 => k0 σ3) else (some ((), σ)))
noncomputable def M_qDropsToBracket (N : Nat) (σ : mSt) : Option (Unit × mSt) :=
  rn1 (M_qDropsToBracket_b0 N) N σ
theorem gw_qDropsToBracket : GoodIn lw_all (wsV RX6 608 RX6 yX6_qDropsToBracket (ws_ yX6_qDropsToBracket cX6_qDropsToBracket 1 none)) := lw_V q2166 q2168 qs95 q164 q2169
theorem gn_qDropsToBracket : yX6_qDropsToBracket.cls = RX6 ∧ yX6_qDropsToBracket.cls ≠ "java/lang/invoke/MethodHandle" ∧ yX6_qDropsToBracket.cls ≠ "java/lang/invoke/VarHandle" ∧ (parseMethodDescriptor yX6_qDropsToBracket.desc).map (fun d => d.parameters.length) = some 0 := by decide +kernel
abbrev rM_qDropsToBracket : Room := { frames := 2, cells := 0, slots := 0, locals := 41 }
set_option maxHeartbeats 4000000 in
theorem cmf_qDropsToBracket {l : Launch} {dC : Nat → ClassId} {dI : Nat → Nat → Nat} {ac : Nat → ClassId} {o : Nat} {ad : Nat → Nat} {N : Nat} {σ : mSt} {σ' : mSt} (hf : M_qDropsToBracket N σ = some ((), σ')) : Met l yX6_qDropsToBracket (ws_ yX6_qDropsToBracket cX6_qDropsToBracket 1 none) { frames := 2, cells := 0, slots := 0, locals := 41 } (va_Pc [.ref o] (mPre dC dI ac o ad σ)) (mQv dC dI ac o ad σ') 0 0 (mF o ad) := by
  refine m_of (by decide) rfl (Nat.le_of_ble_eq_true rfl) ?_
  intro p e s m args below meth c E hb hr hlk hml hS ls hl
  have hl : lv_has ls 1 [(0, .ref o)] := hl
  have hL0 : ∀ (n : Nat) (σ : mSt), rn1 (M_qDropsToBracket_b0 N) n σ = some ((), σ') → ∀ (H : Heap) (locs : List Loc), mS dC dI ac o ad s.heap σ H locs → ∀ (ls : Array Slot), lv_has ls 1 [(0, .ref o)] → W p l e rM_qDropsToBracket s m args below meth c H locs 0 0 (MQ below (mQv dC dI ac o ad σ') args s 0 0 (mF o ad)) (F0 m 0 ls []) := by
    intro  n
    induction n with
    | zero =>
      intro σ hf
      cases hf
    | succ n ih =>
      intro σ hf H locs hS ls hl
      have hf : M_qDropsToBracket_b0 N (rn1 (M_qDropsToBracket_b0 N) n) σ = some ((), σ') := hf
      have hk0 := ih
      generalize rn1 (M_qDropsToBracket_b0 N) n = k0 at hf hk0
      unfold M_qDropsToBracket_b0 at hf
      refine lv_aload_n E.1 hb dX6_qDropsToBracket_0 rfl (lv_at hl 0 rfl) ?_
      refine m_gI (k := 97) E hb hS rfl fl_97 dX6_qDropsToBracket_1 ?_
      refine lv_aload_n E.1 hb dX6_qDropsToBracket_4 rfl (lv_at hl 0 rfl) ?_
      refine m_gI (k := 99) E hb hS rfl fl_99 dX6_qDropsToBracket_5 ?_
      refine lv_icmp_le (tgt := 35) E.1 hb dX6_qDropsToBracket_8 (by decide) (fun hc => ?_) (fun hc => ?_)
      · have hf := it_s hc hf
        exact m_vr E hb hr hlk hS hf dX6_qDropsToBracket_35
      · have hf := if_s hc hf
        refine lv_aload_n E.1 hb dX6_qDropsToBracket_11 rfl (lv_at hl 0 rfl) ?_
        refine m_gA (k := 96) E hb hS 2 rfl (by decide) fl_96 dX6_qDropsToBracket_12 ?_
        refine lv_aload_n E.1 hb dX6_qDropsToBracket_15 rfl (lv_at hl 0 rfl) ?_
        refine m_gI (k := 97) E hb hS rfl fl_97 dX6_qDropsToBracket_16 ?_
        refine lv_iconst (v := 1) E.1 hb dX6_qDropsToBracket_19 rfl ?_
        refine lv_isub E.1 hb dX6_qDropsToBracket_20 ?_
        obtain ⟨hg, hf⟩ := ld_s hf
        refine m_ild E hb hS hg dX6_qDropsToBracket_21 ?_
        obtain ⟨r2, h1, hf⟩ := bo_s hf
        refine m_cSi E hb hml hl.1 hS (cmf_qIsBracket h1) gw_qIsBracket gn_qIsBracket rfl rfl (Nat.le_of_ble_eq_true rfl) ⟨Nat.le_of_ble_eq_true rfl, Nat.le_of_ble_eq_true rfl⟩ ⟨Nat.le_refl 0, Nat.le_refl 0⟩ dX6_qDropsToBracket_22 (fun H locs hS => ?_)
        refine lv_if_ne (tgt := 35) E.1 hb dX6_qDropsToBracket_25 (by decide) (fun hc => ?_) (fun hc => ?_)
        · have hf := if_s hc hf
          exact m_vr E hb hr hlk hS hf dX6_qDropsToBracket_35
        · have hf := it_s hc hf
          refine lv_aload_n E.1 hb dX6_qDropsToBracket_28 rfl (lv_at hl 0 rfl) ?_
          obtain ⟨_, σ3, h1, hf⟩ := bd_s hf
          refine m_cVv E hb hml hl.1 hS (cmf_qDrops h1) gw_qDrops gn_qDrops rfl rfl (Nat.le_of_ble_eq_true rfl) ⟨Nat.le_of_ble_eq_true rfl, Nat.le_of_ble_eq_true rfl⟩ ⟨Nat.le_refl 0, Nat.le_refl 0⟩ dX6_qDropsToBracket_29 (fun H locs hS => ?_)
          refine lv_goto (tgt := 0) E.1 hb dX6_qDropsToBracket_32 (by decide) ?_
          exact hk0 σ3 hf _ _ hS _ (lv_sub hl [0] rfl)
  unfold M_qDropsToBracket at hf
  exact hL0 N σ hf _ _ hS _ (lv_sub hl [0] rfl)
/-! qIsOn(I)Z: RO -/
noncomputable def M_qIsOn (σ : mSt) (x1 : Int32) : Option Int32 :=
  if (σ.1 97 0) ≤ 0 then (some 0) else (bo (ld 2 σ 96 ((σ.1 97 0) - 1)) fun v1 => if v1 = x1 then (some 1) else (some 0))
theorem gw_qIsOn : GoodIn lw_all (wsV RX6 611 RX6 yX6_qIsOn (ws_ yX6_qIsOn cX6_qIsOn 2 (some .boolean))) := lw_V q2170 q2172 qs96 q164 q2173
theorem gn_qIsOn : yX6_qIsOn.cls = RX6 ∧ yX6_qIsOn.cls ≠ "java/lang/invoke/MethodHandle" ∧ yX6_qIsOn.cls ≠ "java/lang/invoke/VarHandle" ∧ (parseMethodDescriptor yX6_qIsOn.desc).map (fun d => d.parameters.length) = some 1 := by decide +kernel
abbrev rM_qIsOn : Room := { frames := 0, cells := 0, slots := 0, locals := 0 }
set_option maxHeartbeats 4000000 in
theorem cmf_qIsOn {l : Launch} {dC : Nat → ClassId} {dI : Nat → Nat → Nat} {ac : Nat → ClassId} {o : Nat} {ad : Nat → Nat} {σ : mSt} {x1 : Int32} {r : Int32} (hf : M_qIsOn σ x1 = some r) : Met l yX6_qIsOn (ws_ yX6_qIsOn cX6_qIsOn 2 (some .boolean)) { frames := 0, cells := 0, slots := 0, locals := 0 } (va_Pc [.ref o, .int x1] (mPre dC dI ac o ad σ)) (mQi dC dI ac o ad r σ) 0 0 (mF o ad) := by
  refine m_of (by decide) rfl (Nat.le_of_ble_eq_true rfl) ?_
  intro p e s m args below meth c E hb hr hlk hml hS ls hl
  have hl : lv_has ls 2 [(0, .ref o), (1, .int x1)] := hl
  unfold M_qIsOn at hf
  refine lv_aload_n E.1 hb dX6_qIsOn_0 rfl (lv_at hl 0 rfl) ?_
  refine m_gI (k := 97) E hb hS rfl fl_97 dX6_qIsOn_1 ?_
  refine lv_if_le (tgt := 26) E.1 hb dX6_qIsOn_4 (by decide) (fun hc => ?_) (fun hc => ?_)
  · have hf := it_s hc hf
    refine lv_iconst (v := 0) E.1 hb dX6_qIsOn_26 rfl ?_
    exact m_zrR E hb hr hlk hS rfl hf dX6_qIsOn_27
  · have hf := if_s hc hf
    refine lv_aload_n E.1 hb dX6_qIsOn_7 rfl (lv_at hl 0 rfl) ?_
    refine m_gA (k := 96) E hb hS 2 rfl (by decide) fl_96 dX6_qIsOn_8 ?_
    refine lv_aload_n E.1 hb dX6_qIsOn_11 rfl (lv_at hl 0 rfl) ?_
    refine m_gI (k := 97) E hb hS rfl fl_97 dX6_qIsOn_12 ?_
    refine lv_iconst (v := 1) E.1 hb dX6_qIsOn_15 rfl ?_
    refine lv_isub E.1 hb dX6_qIsOn_16 ?_
    obtain ⟨hg, hf⟩ := ld_s hf
    refine m_ild E hb hS hg dX6_qIsOn_17 ?_
    refine lv_iload_n E.1 hb dX6_qIsOn_18 rfl (lv_at hl 1 rfl) ?_
    refine lv_icmp_ne (tgt := 26) E.1 hb dX6_qIsOn_19 (by decide) (fun hc => ?_) (fun hc => ?_)
    · have hf := if_s hc hf
      refine lv_iconst (v := 0) E.1 hb dX6_qIsOn_26 rfl ?_
      exact m_zrR E hb hr hlk hS rfl hf dX6_qIsOn_27
    · have hf := it_s hc hf
      refine lv_iconst (v := 1) E.1 hb dX6_qIsOn_22 rfl ?_
      refine lv_goto (tgt := 27) E.1 hb dX6_qIsOn_23 (by decide) ?_
      exact m_zrR E hb hr hlk hS rfl hf dX6_qIsOn_27
/-! qGoesOn()Z: RW -/
noncomputable def M_qGoesOn_b178 (N : Nat) (k162 : mSt → Int32 → Option (Int32 × mSt)) (σ : mSt) (x1 : Int32) : Option (Int32 × mSt) :=
  bd (M_qDrops σ) fun _ σ5 => k162 σ5 x1
noncomputable def M_qGoesOn_b162 (N : Nat) (k162 : mSt → Int32 → Option (Int32 × mSt)) (σ : mSt) (x1 : Int32) : Option (Int32 × mSt) :=
  bo (M_qIsOn σ 3) fun r4 => if r4 = 0 then (bo (M_qIsOn σ 4) fun r6 => if r6 = 0 then (bo (stI 2 σ 96 (σ.1 97 0) x1) fun σ7 => lt2 (mUI σ7 97 0 ((σ7.1 97 0) + 1)) fun σ8 => some (1, σ8)) else (M_qGoesOn_b178 N k162 σ x1)) else (M_qGoesOn_b178 N k162 σ x1)
noncomputable def M_qGoesOn_b161 (N : Nat) (σ : mSt) (y0 : Int32) : Option (Int32 × mSt) :=
  rn2 (M_qGoesOn_b162 N) N σ y0
noncomputable def M_qGoesOn_b140 (N : Nat) (σ : mSt) : Option (Int32 × mSt) :=
  bo (ld 2 σ 0 ((σ.1 2 0) - 1)) fun v3 => if v3 = 42 then (M_qGoesOn_b161 N σ 3) else (M_qGoesOn_b161 N σ 4)
noncomputable def M_qGoesOn_b279 (N : Nat) (k247 : mSt → Int32 → Option (Int32 × mSt)) (σ : mSt) (x1 : Int32) : Option (Int32 × mSt) :=
  bd (M_qDrops σ) fun _ σ15 => k247 σ15 x1
noncomputable def M_qGoesOn_b247 (N : Nat) (k247 : mSt → Int32 → Option (Int32 × mSt)) (σ : mSt) (x1 : Int32) : Option (Int32 × mSt) :=
  bo (M_qIsOn σ 3) fun r14 => if r14 = 0 then (bo (M_qIsOn σ 4) fun r16 => if r16 = 0 then (bo (M_qIsOn σ 1) fun r17 => if r17 = 0 then (bo (M_qIsOn σ 2) fun r18 => if r18 = 0 then (bo (stI 2 σ 96 (σ.1 97 0) x1) fun σ19 => lt2 (mUI σ19 97 0 ((σ19.1 97 0) + 1)) fun σ20 => some (1, σ20)) else (M_qGoesOn_b279 N k247 σ x1)) else (M_qGoesOn_b279 N k247 σ x1)) else (M_qGoesOn_b279 N k247 σ x1)) else (M_qGoesOn_b279 N k247 σ x1)
noncomputable def M_qGoesOn_b246 (N : Nat) (σ : mSt) (y0 : Int32) : Option (Int32 × mSt) :=
  rn2 (M_qGoesOn_b247 N) N σ y0
noncomputable def M_qGoesOn_b225 (N : Nat) (σ : mSt) : Option (Int32 × mSt) :=
  bo (ld 2 σ 0 ((σ.1 2 0) - 1)) fun v13 => if v13 = 43 then (M_qGoesOn_b246 N σ 1) else (M_qGoesOn_b246 N σ 2)
noncomputable def M_qGoesOn_b326 (N : Nat) (σ : mSt) : Option (Int32 × mSt) :=
  bd (M_asksSign N σ 44) fun _ σ24 => if (σ24.1 5 0) = 0 then (bd (M_qDropsToBracket N σ24) fun _ σ25 => bo (ld 2 σ25 96 ((σ25.1 97 0) - 1)) fun v26 => bo (stI 2 σ25 96 ((σ25.1 97 0) - 1) (v26 + 2)) fun σ27 => some (1, σ27)) else (some (0, σ24))
noncomputable def M_qGoesOn_b122 (N : Nat) (σ : mSt) : Option (Int32 × mSt) :=
  bd (M_takesSign N σ 42) fun r1 σ2 => if r1 = 0 then (bd (M_takesSign N σ2 47) fun r9 σ10 => if r9 = 0 then (bd (M_takesSign N σ10 43) fun r11 σ12 => if r11 = 0 then (bd (M_takesSign N σ12 45) fun r21 σ22 => if r21 = 0 then (bo (M_qBracket N σ22) fun r23 => if r23 = 21 then (M_qGoesOn_b326 N σ22) else (bo (M_qBracket N σ22) fun r28 => if r28 = 22 then (M_qGoesOn_b326 N σ22) else (bo (M_qBracket N σ22) fun r29 => if r29 = (-1) then (some (0, σ22)) else (if (σ22.1 5 0) = 0 then (bd (M_fail σ22 1 (σ22.1 2 0)) fun _ σ30 => some (0, σ30)) else (some (0, σ22)))))) else (M_qGoesOn_b225 N σ22)) else (M_qGoesOn_b225 N σ12)) else (M_qGoesOn_b140 N σ10)) else (M_qGoesOn_b140 N σ2)
noncomputable def M_qGoesOn_b115 (N : Nat) (k0 : mSt → Option (Int32 × mSt)) (σ : mSt) : Option (Int32 × mSt) :=
  bd (M_qEndsPart N σ) fun _ σ39 => k0 σ39
noncomputable def M_qGoesOn_b112 (N : Nat) (k0 : mSt → Option (Int32 × mSt)) (σ : mSt) (y0 : Int32) : Option (Int32 × mSt) :=
  bd (M_qCode σ y0) fun _ σ41 => M_qGoesOn_b115 N k0 σ41
noncomputable def M_qGoesOn_b43 (N : Nat) (k0 : mSt → Option (Int32 × mSt)) (σ : mSt) : Option (Int32 × mSt) :=
  lt2 (mUI σ 2 0 ((σ.1 2 0) + 1)) fun σ34 => bd (M_qDropsToBracket N σ34) fun _ σ35 => lt2 (mUI σ35 97 0 ((σ35.1 97 0) - 1)) fun σ36 => lt2 (mUI σ36 98 0 ((σ36.1 98 0) - 1)) fun σ37 => bo (ld 2 σ37 96 (σ37.1 97 0)) fun v38 => if v38 = 20 then (M_qGoesOn_b115 N k0 σ37) else (bo (ld 2 σ37 96 (σ37.1 97 0)) fun v40 => if v40 = 23 then (M_qGoesOn_b112 N k0 σ37 5) else (M_qGoesOn_b112 N k0 σ37 6))
noncomputable def M_qGoesOn_b0 (N : Nat) (k0 : mSt → Option (Int32 × mSt)) (σ : mSt) : Option (Int32 × mSt) :=
  if (σ.1 5 0) = 0 then (bd (M_look N σ) fun r31 σ32 => if r31 = 41 then (bo (M_qBracket N σ32) fun r33 => if r33 = 20 then (M_qGoesOn_b43 N k0 σ32) else (bo (M_qBracket N σ32) fun r42 => if r42 = 23 then (M_qGoesOn_b43 N k0 σ32) else (bo (M_qBracket N σ32) fun r43 => if r43 = 24 then (M_qGoesOn_b43 N k0 σ32) else (M_qGoesOn_b122 N σ32)))) else (M_qGoesOn_b122 N σ32)) else (M_qGoesOn_b122 N σ)
noncomputable def M_qGoesOn (N : Nat) (σ : mSt) : Option (Int32 × mSt) :=
  rn1 (M_qGoesOn_b0 N) N σ
theorem gw_qGoesOn : GoodIn lw_all (wsV RX6 617 RX6 yX6_qGoesOn (ws_ yX6_qGoesOn cX6_qGoesOn 2 (some .boolean))) := lw_V q2155 q2157 qs93 q164 q2158
theorem gn_qGoesOn : yX6_qGoesOn.cls = RX6 ∧ yX6_qGoesOn.cls ≠ "java/lang/invoke/MethodHandle" ∧ yX6_qGoesOn.cls ≠ "java/lang/invoke/VarHandle" ∧ (parseMethodDescriptor yX6_qGoesOn.desc).map (fun d => d.parameters.length) = some 0 := by decide +kernel
abbrev rM_qGoesOn : Room := { frames := 3, cells := 0, slots := 0, locals := 62 }
set_option maxHeartbeats 4000000 in
theorem cmf_qGoesOn {l : Launch} {dC : Nat → ClassId} {dI : Nat → Nat → Nat} {ac : Nat → ClassId} {o : Nat} {ad : Nat → Nat} {N : Nat} {σ : mSt} {r : Int32} {σ' : mSt} (hf : M_qGoesOn N σ = some (r, σ')) : Met l yX6_qGoesOn (ws_ yX6_qGoesOn cX6_qGoesOn 2 (some .boolean)) { frames := 3, cells := 0, slots := 0, locals := 62 } (va_Pc [.ref o] (mPre dC dI ac o ad σ)) (mQi dC dI ac o ad r σ') 0 0 (mF o ad) := by
  refine m_of (by decide) rfl (Nat.le_of_ble_eq_true rfl) ?_
  intro p e s m args below meth c E hb hr hlk hml hS ls hl
  have hl : lv_has ls 2 [(0, .ref o)] := hl
  have hB178 : ∀ (k162 : mSt → Int32 → Option (Int32 × mSt)) (hk162 : ∀ (σ : mSt) (x1 : Int32), k162 σ x1 = some (r, σ') → ∀ (H : Heap) (locs : List Loc), mS dC dI ac o ad s.heap σ H locs → ∀ (ls : Array Slot), lv_has ls 2 [(0, .ref o), (1, .int x1)] → W p l e rM_qGoesOn s m args below meth c H locs 0 0 (MQ below (mQi dC dI ac o ad r σ') args s 0 0 (mF o ad)) (F0 m 162 ls [])) (σ : mSt) (x1 : Int32), M_qGoesOn_b178 N k162 σ x1 = some (r, σ') → ∀ (H : Heap) (locs : List Loc), mS dC dI ac o ad s.heap σ H locs → ∀ (ls : Array Slot), lv_has ls 2 [(0, .ref o), (1, .int x1)] → W p l e rM_qGoesOn s m args below meth c H locs 0 0 (MQ below (mQi dC dI ac o ad r σ') args s 0 0 (mF o ad)) (F0 m 178 ls []) := by
    intro k162 hk162 σ x1 hf H locs hS ls hl
    unfold M_qGoesOn_b178 at hf
    refine lv_aload_n E.1 hb dX6_qGoesOn_178 rfl (lv_at hl 0 rfl) ?_
    obtain ⟨_, σ5, h1, hf⟩ := bd_s hf
    refine m_cVv E hb hml hl.1 hS (cmf_qDrops h1) gw_qDrops gn_qDrops rfl rfl (Nat.le_of_ble_eq_true rfl) ⟨Nat.le_of_ble_eq_true rfl, Nat.le_of_ble_eq_true rfl⟩ ⟨Nat.le_refl 0, Nat.le_refl 0⟩ dX6_qGoesOn_179 (fun H locs hS => ?_)
    refine lv_goto (tgt := 162) E.1 hb dX6_qGoesOn_182 (by decide) ?_
    exact hk162 σ5 x1 hf _ _ hS _ (lv_sub hl [0, 1] rfl)
  have hL162 : ∀ (n : Nat) (σ : mSt) (x1 : Int32), rn2 (M_qGoesOn_b162 N) n σ x1 = some (r, σ') → ∀ (H : Heap) (locs : List Loc), mS dC dI ac o ad s.heap σ H locs → ∀ (ls : Array Slot), lv_has ls 2 [(0, .ref o), (1, .int x1)] → W p l e rM_qGoesOn s m args below meth c H locs 0 0 (MQ below (mQi dC dI ac o ad r σ') args s 0 0 (mF o ad)) (F0 m 162 ls []) := by
    intro  n
    induction n with
    | zero =>
      intro σ x1 hf
      cases hf
    | succ n ih =>
      intro σ x1 hf H locs hS ls hl
      have hf : M_qGoesOn_b162 N (rn2 (M_qGoesOn_b162 N) n) σ x1 = some (r, σ') := hf
      have hk162 := ih
      generalize rn2 (M_qGoesOn_b162 N) n = k162 at hf hk162
      unfold M_qGoesOn_b162 at hf
      refine lv_aload_n E.1 hb dX6_qGoesOn_162 rfl (lv_at hl 0 rfl) ?_
      refine lv_iconst (v := 3) E.1 hb dX6_qGoesOn_163 rfl ?_
      obtain ⟨r4, h1, hf⟩ := bo_s hf
      refine m_cVi E hb hml hl.1 hS (cmf_qIsOn h1) gw_qIsOn gn_qIsOn rfl rfl (Nat.le_of_ble_eq_true rfl) ⟨Nat.le_of_ble_eq_true rfl, Nat.le_of_ble_eq_true rfl⟩ ⟨Nat.le_refl 0, Nat.le_refl 0⟩ dX6_qGoesOn_164 (fun H locs hS => ?_)
      refine lv_if_ne (tgt := 178) E.1 hb dX6_qGoesOn_167 (by decide) (fun hc => ?_) (fun hc => ?_)
      · have hf := if_s hc hf
        exact hB178 k162 hk162 σ x1 hf _ _ hS _ (lv_sub hl [0, 1] rfl)
      · have hf := it_s hc hf
        refine lv_aload_n E.1 hb dX6_qGoesOn_170 rfl (lv_at hl 0 rfl) ?_
        refine lv_iconst (v := 4) E.1 hb dX6_qGoesOn_171 rfl ?_
        obtain ⟨r6, h1, hf⟩ := bo_s hf
        refine m_cVi E hb hml hl.1 hS (cmf_qIsOn h1) gw_qIsOn gn_qIsOn rfl rfl (Nat.le_of_ble_eq_true rfl) ⟨Nat.le_of_ble_eq_true rfl, Nat.le_of_ble_eq_true rfl⟩ ⟨Nat.le_refl 0, Nat.le_refl 0⟩ dX6_qGoesOn_172 (fun H locs hS => ?_)
        refine lv_if_eq (tgt := 185) E.1 hb dX6_qGoesOn_175 (by decide) (fun hc => ?_) (fun hc => ?_)
        · have hf := it_s hc hf
          refine lv_aload_n E.1 hb dX6_qGoesOn_185 rfl (lv_at hl 0 rfl) ?_
          refine m_gA (k := 96) E hb hS 2 rfl (by decide) fl_96 dX6_qGoesOn_186 ?_
          refine lv_aload_n E.1 hb dX6_qGoesOn_189 rfl (lv_at hl 0 rfl) ?_
          refine m_gI (k := 97) E hb hS rfl fl_97 dX6_qGoesOn_190 ?_
          refine lv_iload_n E.1 hb dX6_qGoesOn_193 rfl (lv_at hl 1 rfl) ?_
          obtain ⟨σ7, hg, hw, hf⟩ := st_s hf
          refine m_ist E hb hS hg hw dX6_qGoesOn_194 (fun H locs hS => ?_)
          refine lv_aload_n E.1 hb dX6_qGoesOn_195 rfl (lv_at hl 0 rfl) ?_
          refine lv_dup E.1 hb dX6_qGoesOn_196 rfl ?_
          refine m_gI (k := 97) E hb hS rfl fl_97 dX6_qGoesOn_197 ?_
          refine lv_iconst (v := 1) E.1 hb dX6_qGoesOn_200 rfl ?_
          refine lv_iadd E.1 hb dX6_qGoesOn_201 ?_
          obtain ⟨σ8, hw, hf⟩ := lt2_s hf
          refine m_pI (k := 97) E hb hS rfl rfl pf_97 fl_97 hw dX6_qGoesOn_202 (fun H locs hS => ?_)
          refine lv_iconst (v := 1) E.1 hb dX6_qGoesOn_205 rfl ?_
          exact m_zr E hb hr hlk hS rfl hf dX6_qGoesOn_206
        · have hf := if_s hc hf
          exact hB178 k162 hk162 σ x1 hf _ _ hS _ (lv_sub hl [0, 1] rfl)
  have hB161 : ∀ (σ : mSt) (y0 : Int32), M_qGoesOn_b161 N σ y0 = some (r, σ') → ∀ (H : Heap) (locs : List Loc), mS dC dI ac o ad s.heap σ H locs → ∀ (ls : Array Slot), lv_has ls 2 [(0, .ref o)] → W p l e rM_qGoesOn s m args below meth c H locs 0 0 (MQ below (mQi dC dI ac o ad r σ') args s 0 0 (mF o ad)) (F0 m 161 ls [.int y0]) := by
    intro σ y0 hf H locs hS ls hl
    unfold M_qGoesOn_b161 at hf
    refine lv_istore_n (lv' := [(1, .int y0), (0, .ref o)]) E.1 hb dX6_qGoesOn_161 rfl hl (by decide) rfl (fun ls hl => ?_)
    exact hL162 N σ y0 hf _ _ hS _ (lv_sub hl [1, 0] rfl)
  have hB140 : ∀ (σ : mSt), M_qGoesOn_b140 N σ = some (r, σ') → ∀ (H : Heap) (locs : List Loc), mS dC dI ac o ad s.heap σ H locs → ∀ (ls : Array Slot), lv_has ls 2 [(0, .ref o)] → W p l e rM_qGoesOn s m args below meth c H locs 0 0 (MQ below (mQi dC dI ac o ad r σ') args s 0 0 (mF o ad)) (F0 m 140 ls []) := by
    intro σ hf H locs hS ls hl
    unfold M_qGoesOn_b140 at hf
    refine lv_aload_n E.1 hb dX6_qGoesOn_140 rfl (lv_at hl 0 rfl) ?_
    refine m_gA (k := 0) E hb hS 2 rfl (by decide) fl_0 dX6_qGoesOn_141 ?_
    refine lv_aload_n E.1 hb dX6_qGoesOn_144 rfl (lv_at hl 0 rfl) ?_
    refine m_gI (k := 2) E hb hS rfl fl_2 dX6_qGoesOn_145 ?_
    refine lv_iconst (v := 1) E.1 hb dX6_qGoesOn_148 rfl ?_
    refine lv_isub E.1 hb dX6_qGoesOn_149 ?_
    obtain ⟨hg, hf⟩ := ld_s hf
    refine m_ild E hb hS hg dX6_qGoesOn_150 ?_
    refine lv_bipush (v := 42) E.1 hb dX6_qGoesOn_151 rfl ?_
    refine lv_icmp_ne (tgt := 160) E.1 hb dX6_qGoesOn_153 (by decide) (fun hc => ?_) (fun hc => ?_)
    · have hf := if_s hc hf
      refine lv_iconst (v := 4) E.1 hb dX6_qGoesOn_160 rfl ?_
      exact hB161 σ 4 hf _ _ hS _ (lv_sub hl [0] rfl)
    · have hf := it_s hc hf
      refine lv_iconst (v := 3) E.1 hb dX6_qGoesOn_156 rfl ?_
      refine lv_goto (tgt := 161) E.1 hb dX6_qGoesOn_157 (by decide) ?_
      exact hB161 σ 3 hf _ _ hS _ (lv_sub hl [0] rfl)
  have hB279 : ∀ (k247 : mSt → Int32 → Option (Int32 × mSt)) (hk247 : ∀ (σ : mSt) (x1 : Int32), k247 σ x1 = some (r, σ') → ∀ (H : Heap) (locs : List Loc), mS dC dI ac o ad s.heap σ H locs → ∀ (ls : Array Slot), lv_has ls 2 [(0, .ref o), (1, .int x1)] → W p l e rM_qGoesOn s m args below meth c H locs 0 0 (MQ below (mQi dC dI ac o ad r σ') args s 0 0 (mF o ad)) (F0 m 247 ls [])) (σ : mSt) (x1 : Int32), M_qGoesOn_b279 N k247 σ x1 = some (r, σ') → ∀ (H : Heap) (locs : List Loc), mS dC dI ac o ad s.heap σ H locs → ∀ (ls : Array Slot), lv_has ls 2 [(0, .ref o), (1, .int x1)] → W p l e rM_qGoesOn s m args below meth c H locs 0 0 (MQ below (mQi dC dI ac o ad r σ') args s 0 0 (mF o ad)) (F0 m 279 ls []) := by
    intro k247 hk247 σ x1 hf H locs hS ls hl
    unfold M_qGoesOn_b279 at hf
    refine lv_aload_n E.1 hb dX6_qGoesOn_279 rfl (lv_at hl 0 rfl) ?_
    obtain ⟨_, σ15, h1, hf⟩ := bd_s hf
    refine m_cVv E hb hml hl.1 hS (cmf_qDrops h1) gw_qDrops gn_qDrops rfl rfl (Nat.le_of_ble_eq_true rfl) ⟨Nat.le_of_ble_eq_true rfl, Nat.le_of_ble_eq_true rfl⟩ ⟨Nat.le_refl 0, Nat.le_refl 0⟩ dX6_qGoesOn_280 (fun H locs hS => ?_)
    refine lv_goto (tgt := 247) E.1 hb dX6_qGoesOn_283 (by decide) ?_
    exact hk247 σ15 x1 hf _ _ hS _ (lv_sub hl [0, 1] rfl)
  have hL247 : ∀ (n : Nat) (σ : mSt) (x1 : Int32), rn2 (M_qGoesOn_b247 N) n σ x1 = some (r, σ') → ∀ (H : Heap) (locs : List Loc), mS dC dI ac o ad s.heap σ H locs → ∀ (ls : Array Slot), lv_has ls 2 [(0, .ref o), (1, .int x1)] → W p l e rM_qGoesOn s m args below meth c H locs 0 0 (MQ below (mQi dC dI ac o ad r σ') args s 0 0 (mF o ad)) (F0 m 247 ls []) := by
    intro  n
    induction n with
    | zero =>
      intro σ x1 hf
      cases hf
    | succ n ih =>
      intro σ x1 hf H locs hS ls hl
      have hf : M_qGoesOn_b247 N (rn2 (M_qGoesOn_b247 N) n) σ x1 = some (r, σ') := hf
      have hk247 := ih
      generalize rn2 (M_qGoesOn_b247 N) n = k247 at hf hk247
      unfold M_qGoesOn_b247 at hf
      refine lv_aload_n E.1 hb dX6_qGoesOn_247 rfl (lv_at hl 0 rfl) ?_
      refine lv_iconst (v := 3) E.1 hb dX6_qGoesOn_248 rfl ?_
      obtain ⟨r14, h1, hf⟩ := bo_s hf
      refine m_cVi E hb hml hl.1 hS (cmf_qIsOn h1) gw_qIsOn gn_qIsOn rfl rfl (Nat.le_of_ble_eq_true rfl) ⟨Nat.le_of_ble_eq_true rfl, Nat.le_of_ble_eq_true rfl⟩ ⟨Nat.le_refl 0, Nat.le_refl 0⟩ dX6_qGoesOn_249 (fun H locs hS => ?_)
      refine lv_if_ne (tgt := 279) E.1 hb dX6_qGoesOn_252 (by decide) (fun hc => ?_) (fun hc => ?_)
      · have hf := if_s hc hf
        exact hB279 k247 hk247 σ x1 hf _ _ hS _ (lv_sub hl [0, 1] rfl)
      · have hf := it_s hc hf
        refine lv_aload_n E.1 hb dX6_qGoesOn_255 rfl (lv_at hl 0 rfl) ?_
        refine lv_iconst (v := 4) E.1 hb dX6_qGoesOn_256 rfl ?_
        obtain ⟨r16, h1, hf⟩ := bo_s hf
        refine m_cVi E hb hml hl.1 hS (cmf_qIsOn h1) gw_qIsOn gn_qIsOn rfl rfl (Nat.le_of_ble_eq_true rfl) ⟨Nat.le_of_ble_eq_true rfl, Nat.le_of_ble_eq_true rfl⟩ ⟨Nat.le_refl 0, Nat.le_refl 0⟩ dX6_qGoesOn_257 (fun H locs hS => ?_)
        refine lv_if_ne (tgt := 279) E.1 hb dX6_qGoesOn_260 (by decide) (fun hc => ?_) (fun hc => ?_)
        · have hf := if_s hc hf
          exact hB279 k247 hk247 σ x1 hf _ _ hS _ (lv_sub hl [0, 1] rfl)
        · have hf := it_s hc hf
          refine lv_aload_n E.1 hb dX6_qGoesOn_263 rfl (lv_at hl 0 rfl) ?_
          refine lv_iconst (v := 1) E.1 hb dX6_qGoesOn_264 rfl ?_
          obtain ⟨r17, h1, hf⟩ := bo_s hf
          refine m_cVi E hb hml hl.1 hS (cmf_qIsOn h1) gw_qIsOn gn_qIsOn rfl rfl (Nat.le_of_ble_eq_true rfl) ⟨Nat.le_of_ble_eq_true rfl, Nat.le_of_ble_eq_true rfl⟩ ⟨Nat.le_refl 0, Nat.le_refl 0⟩ dX6_qGoesOn_265 (fun H locs hS => ?_)
          refine lv_if_ne (tgt := 279) E.1 hb dX6_qGoesOn_268 (by decide) (fun hc => ?_) (fun hc => ?_)
          · have hf := if_s hc hf
            exact hB279 k247 hk247 σ x1 hf _ _ hS _ (lv_sub hl [0, 1] rfl)
          · have hf := it_s hc hf
            refine lv_aload_n E.1 hb dX6_qGoesOn_271 rfl (lv_at hl 0 rfl) ?_
            refine lv_iconst (v := 2) E.1 hb dX6_qGoesOn_272 rfl ?_
            obtain ⟨r18, h1, hf⟩ := bo_s hf
            refine m_cVi E hb hml hl.1 hS (cmf_qIsOn h1) gw_qIsOn gn_qIsOn rfl rfl (Nat.le_of_ble_eq_true rfl) ⟨Nat.le_of_ble_eq_true rfl, Nat.le_of_ble_eq_true rfl⟩ ⟨Nat.le_refl 0, Nat.le_refl 0⟩ dX6_qGoesOn_273 (fun H locs hS => ?_)
            refine lv_if_eq (tgt := 286) E.1 hb dX6_qGoesOn_276 (by decide) (fun hc => ?_) (fun hc => ?_)
            · have hf := it_s hc hf
              refine lv_aload_n E.1 hb dX6_qGoesOn_286 rfl (lv_at hl 0 rfl) ?_
              refine m_gA (k := 96) E hb hS 2 rfl (by decide) fl_96 dX6_qGoesOn_287 ?_
              refine lv_aload_n E.1 hb dX6_qGoesOn_290 rfl (lv_at hl 0 rfl) ?_
              refine m_gI (k := 97) E hb hS rfl fl_97 dX6_qGoesOn_291 ?_
              refine lv_iload_n E.1 hb dX6_qGoesOn_294 rfl (lv_at hl 1 rfl) ?_
              obtain ⟨σ19, hg, hw, hf⟩ := st_s hf
              refine m_ist E hb hS hg hw dX6_qGoesOn_295 (fun H locs hS => ?_)
              refine lv_aload_n E.1 hb dX6_qGoesOn_296 rfl (lv_at hl 0 rfl) ?_
              refine lv_dup E.1 hb dX6_qGoesOn_297 rfl ?_
              refine m_gI (k := 97) E hb hS rfl fl_97 dX6_qGoesOn_298 ?_
              refine lv_iconst (v := 1) E.1 hb dX6_qGoesOn_301 rfl ?_
              refine lv_iadd E.1 hb dX6_qGoesOn_302 ?_
              obtain ⟨σ20, hw, hf⟩ := lt2_s hf
              refine m_pI (k := 97) E hb hS rfl rfl pf_97 fl_97 hw dX6_qGoesOn_303 (fun H locs hS => ?_)
              refine lv_iconst (v := 1) E.1 hb dX6_qGoesOn_306 rfl ?_
              exact m_zr E hb hr hlk hS rfl hf dX6_qGoesOn_307
            · have hf := if_s hc hf
              exact hB279 k247 hk247 σ x1 hf _ _ hS _ (lv_sub hl [0, 1] rfl)
  have hB246 : ∀ (σ : mSt) (y0 : Int32), M_qGoesOn_b246 N σ y0 = some (r, σ') → ∀ (H : Heap) (locs : List Loc), mS dC dI ac o ad s.heap σ H locs → ∀ (ls : Array Slot), lv_has ls 2 [(0, .ref o)] → W p l e rM_qGoesOn s m args below meth c H locs 0 0 (MQ below (mQi dC dI ac o ad r σ') args s 0 0 (mF o ad)) (F0 m 246 ls [.int y0]) := by
    intro σ y0 hf H locs hS ls hl
    unfold M_qGoesOn_b246 at hf
    refine lv_istore_n (lv' := [(1, .int y0), (0, .ref o)]) E.1 hb dX6_qGoesOn_246 rfl hl (by decide) rfl (fun ls hl => ?_)
    exact hL247 N σ y0 hf _ _ hS _ (lv_sub hl [1, 0] rfl)
  have hB225 : ∀ (σ : mSt), M_qGoesOn_b225 N σ = some (r, σ') → ∀ (H : Heap) (locs : List Loc), mS dC dI ac o ad s.heap σ H locs → ∀ (ls : Array Slot), lv_has ls 2 [(0, .ref o)] → W p l e rM_qGoesOn s m args below meth c H locs 0 0 (MQ below (mQi dC dI ac o ad r σ') args s 0 0 (mF o ad)) (F0 m 225 ls []) := by
    intro σ hf H locs hS ls hl
    unfold M_qGoesOn_b225 at hf
    refine lv_aload_n E.1 hb dX6_qGoesOn_225 rfl (lv_at hl 0 rfl) ?_
    refine m_gA (k := 0) E hb hS 2 rfl (by decide) fl_0 dX6_qGoesOn_226 ?_
    refine lv_aload_n E.1 hb dX6_qGoesOn_229 rfl (lv_at hl 0 rfl) ?_
    refine m_gI (k := 2) E hb hS rfl fl_2 dX6_qGoesOn_230 ?_
    refine lv_iconst (v := 1) E.1 hb dX6_qGoesOn_233 rfl ?_
    refine lv_isub E.1 hb dX6_qGoesOn_234 ?_
    obtain ⟨hg, hf⟩ := ld_s hf
    refine m_ild E hb hS hg dX6_qGoesOn_235 ?_
    refine lv_bipush (v := 43) E.1 hb dX6_qGoesOn_236 rfl ?_
    refine lv_icmp_ne (tgt := 245) E.1 hb dX6_qGoesOn_238 (by decide) (fun hc => ?_) (fun hc => ?_)
    · have hf := if_s hc hf
      refine lv_iconst (v := 2) E.1 hb dX6_qGoesOn_245 rfl ?_
      exact hB246 σ 2 hf _ _ hS _ (lv_sub hl [0] rfl)
    · have hf := it_s hc hf
      refine lv_iconst (v := 1) E.1 hb dX6_qGoesOn_241 rfl ?_
      refine lv_goto (tgt := 246) E.1 hb dX6_qGoesOn_242 (by decide) ?_
      exact hB246 σ 1 hf _ _ hS _ (lv_sub hl [0] rfl)
  have hB326 : ∀ (σ : mSt), M_qGoesOn_b326 N σ = some (r, σ') → ∀ (H : Heap) (locs : List Loc), mS dC dI ac o ad s.heap σ H locs → ∀ (ls : Array Slot), lv_has ls 2 [(0, .ref o)] → W p l e rM_qGoesOn s m args below meth c H locs 0 0 (MQ below (mQi dC dI ac o ad r σ') args s 0 0 (mF o ad)) (F0 m 326 ls []) := by
    intro σ hf H locs hS ls hl
    unfold M_qGoesOn_b326 at hf
    refine lv_aload_n E.1 hb dX6_qGoesOn_326 rfl (lv_at hl 0 rfl) ?_
    refine lv_bipush (v := 44) E.1 hb dX6_qGoesOn_327 rfl ?_
    obtain ⟨_, σ24, h1, hf⟩ := bd_s hf
    refine m_cVv E hb hml hl.1 hS (cmf_asksSign h1) gw_asksSign gn_asksSign rfl rfl (Nat.le_of_ble_eq_true rfl) ⟨Nat.le_of_ble_eq_true rfl, Nat.le_of_ble_eq_true rfl⟩ ⟨Nat.le_refl 0, Nat.le_refl 0⟩ dX6_qGoesOn_329 (fun H locs hS => ?_)
    refine lv_aload_n E.1 hb dX6_qGoesOn_332 rfl (lv_at hl 0 rfl) ?_
    refine m_gI (k := 5) E hb hS rfl fl_5 dX6_qGoesOn_333 ?_
    refine lv_if_eq (tgt := 341) E.1 hb dX6_qGoesOn_336 (by decide) (fun hc => ?_) (fun hc => ?_)
    · have hf := it_s hc hf
      refine lv_aload_n E.1 hb dX6_qGoesOn_341 rfl (lv_at hl 0 rfl) ?_
      obtain ⟨_, σ25, h1, hf⟩ := bd_s hf
      refine m_cVv E hb hml hl.1 hS (cmf_qDropsToBracket h1) gw_qDropsToBracket gn_qDropsToBracket rfl rfl (Nat.le_of_ble_eq_true rfl) ⟨Nat.le_of_ble_eq_true rfl, Nat.le_of_ble_eq_true rfl⟩ ⟨Nat.le_refl 0, Nat.le_refl 0⟩ dX6_qGoesOn_342 (fun H locs hS => ?_)
      refine lv_aload_n E.1 hb dX6_qGoesOn_345 rfl (lv_at hl 0 rfl) ?_
      refine m_gA (k := 96) E hb hS 2 rfl (by decide) fl_96 dX6_qGoesOn_346 ?_
      refine lv_aload_n E.1 hb dX6_qGoesOn_349 rfl (lv_at hl 0 rfl) ?_
      refine m_gI (k := 97) E hb hS rfl fl_97 dX6_qGoesOn_350 ?_
      refine lv_iconst (v := 1) E.1 hb dX6_qGoesOn_353 rfl ?_
      refine lv_isub E.1 hb dX6_qGoesOn_354 ?_
      refine lv_dup2_11 E.1 hb dX6_qGoesOn_355 rfl rfl ?_
      obtain ⟨hg, hf⟩ := ld_s hf
      refine m_ild E hb hS hg dX6_qGoesOn_356 ?_
      refine lv_iconst (v := 2) E.1 hb dX6_qGoesOn_357 rfl ?_
      refine lv_iadd E.1 hb dX6_qGoesOn_358 ?_
      obtain ⟨σ27, hg, hw, hf⟩ := st_s hf
      refine m_ist E hb hS hg hw dX6_qGoesOn_359 (fun H locs hS => ?_)
      refine lv_iconst (v := 1) E.1 hb dX6_qGoesOn_360 rfl ?_
      exact m_zr E hb hr hlk hS rfl hf dX6_qGoesOn_361
    · have hf := if_s hc hf
      refine lv_iconst (v := 0) E.1 hb dX6_qGoesOn_339 rfl ?_
      exact m_zr E hb hr hlk hS rfl hf dX6_qGoesOn_340
  have hB122 : ∀ (σ : mSt), M_qGoesOn_b122 N σ = some (r, σ') → ∀ (H : Heap) (locs : List Loc), mS dC dI ac o ad s.heap σ H locs → ∀ (ls : Array Slot), lv_has ls 2 [(0, .ref o)] → W p l e rM_qGoesOn s m args below meth c H locs 0 0 (MQ below (mQi dC dI ac o ad r σ') args s 0 0 (mF o ad)) (F0 m 122 ls []) := by
    intro σ hf H locs hS ls hl
    unfold M_qGoesOn_b122 at hf
    refine lv_aload_n E.1 hb dX6_qGoesOn_122 rfl (lv_at hl 0 rfl) ?_
    refine lv_bipush (v := 42) E.1 hb dX6_qGoesOn_123 rfl ?_
    obtain ⟨r1, σ2, h1, hf⟩ := bd_s hf
    refine m_cVi E hb hml hl.1 hS (cmf_takesSign h1) gw_takesSign gn_takesSign rfl rfl (Nat.le_of_ble_eq_true rfl) ⟨Nat.le_of_ble_eq_true rfl, Nat.le_of_ble_eq_true rfl⟩ ⟨Nat.le_refl 0, Nat.le_refl 0⟩ dX6_qGoesOn_125 (fun H locs hS => ?_)
    refine lv_if_ne (tgt := 140) E.1 hb dX6_qGoesOn_128 (by decide) (fun hc => ?_) (fun hc => ?_)
    · have hf := if_s hc hf
      exact hB140 σ2 hf _ _ hS _ (lv_sub hl [0] rfl)
    · have hf := it_s hc hf
      refine lv_aload_n E.1 hb dX6_qGoesOn_131 rfl (lv_at hl 0 rfl) ?_
      refine lv_bipush (v := 47) E.1 hb dX6_qGoesOn_132 rfl ?_
      obtain ⟨r9, σ10, h1, hf⟩ := bd_s hf
      refine m_cVi E hb hml hl.1 hS (cmf_takesSign h1) gw_takesSign gn_takesSign rfl rfl (Nat.le_of_ble_eq_true rfl) ⟨Nat.le_of_ble_eq_true rfl, Nat.le_of_ble_eq_true rfl⟩ ⟨Nat.le_refl 0, Nat.le_refl 0⟩ dX6_qGoesOn_134 (fun H locs hS => ?_)
      refine lv_if_eq (tgt := 207) E.1 hb dX6_qGoesOn_137 (by decide) (fun hc => ?_) (fun hc => ?_)
      · have hf := it_s hc hf
        refine lv_aload_n E.1 hb dX6_qGoesOn_207 rfl (lv_at hl 0 rfl) ?_
        refine lv_bipush (v := 43) E.1 hb dX6_qGoesOn_208 rfl ?_
        obtain ⟨r11, σ12, h1, hf⟩ := bd_s hf
        refine m_cVi E hb hml hl.1 hS (cmf_takesSign h1) gw_takesSign gn_takesSign rfl rfl (Nat.le_of_ble_eq_true rfl) ⟨Nat.le_of_ble_eq_true rfl, Nat.le_of_ble_eq_true rfl⟩ ⟨Nat.le_refl 0, Nat.le_refl 0⟩ dX6_qGoesOn_210 (fun H locs hS => ?_)
        refine lv_if_ne (tgt := 225) E.1 hb dX6_qGoesOn_213 (by decide) (fun hc => ?_) (fun hc => ?_)
        · have hf := if_s hc hf
          exact hB225 σ12 hf _ _ hS _ (lv_sub hl [0] rfl)
        · have hf := it_s hc hf
          refine lv_aload_n E.1 hb dX6_qGoesOn_216 rfl (lv_at hl 0 rfl) ?_
          refine lv_bipush (v := 45) E.1 hb dX6_qGoesOn_217 rfl ?_
          obtain ⟨r21, σ22, h1, hf⟩ := bd_s hf
          refine m_cVi E hb hml hl.1 hS (cmf_takesSign h1) gw_takesSign gn_takesSign rfl rfl (Nat.le_of_ble_eq_true rfl) ⟨Nat.le_of_ble_eq_true rfl, Nat.le_of_ble_eq_true rfl⟩ ⟨Nat.le_refl 0, Nat.le_refl 0⟩ dX6_qGoesOn_219 (fun H locs hS => ?_)
          refine lv_if_eq (tgt := 308) E.1 hb dX6_qGoesOn_222 (by decide) (fun hc => ?_) (fun hc => ?_)
          · have hf := it_s hc hf
            refine lv_aload_n E.1 hb dX6_qGoesOn_308 rfl (lv_at hl 0 rfl) ?_
            obtain ⟨r23, h1, hf⟩ := bo_s hf
            refine m_cVi E hb hml hl.1 hS (cmf_qBracket h1) gw_qBracket gn_qBracket rfl rfl (Nat.le_of_ble_eq_true rfl) ⟨Nat.le_of_ble_eq_true rfl, Nat.le_of_ble_eq_true rfl⟩ ⟨Nat.le_refl 0, Nat.le_refl 0⟩ dX6_qGoesOn_309 (fun H locs hS => ?_)
            refine lv_bipush (v := 21) E.1 hb dX6_qGoesOn_312 rfl ?_
            refine lv_icmp_eq (tgt := 326) E.1 hb dX6_qGoesOn_314 (by decide) (fun hc => ?_) (fun hc => ?_)
            · have hf := it_s hc hf
              exact hB326 σ22 hf _ _ hS _ (lv_sub hl [0] rfl)
            · have hf := if_s hc hf
              refine lv_aload_n E.1 hb dX6_qGoesOn_317 rfl (lv_at hl 0 rfl) ?_
              obtain ⟨r28, h1, hf⟩ := bo_s hf
              refine m_cVi E hb hml hl.1 hS (cmf_qBracket h1) gw_qBracket gn_qBracket rfl rfl (Nat.le_of_ble_eq_true rfl) ⟨Nat.le_of_ble_eq_true rfl, Nat.le_of_ble_eq_true rfl⟩ ⟨Nat.le_refl 0, Nat.le_refl 0⟩ dX6_qGoesOn_318 (fun H locs hS => ?_)
              refine lv_bipush (v := 22) E.1 hb dX6_qGoesOn_321 rfl ?_
              refine lv_icmp_ne (tgt := 362) E.1 hb dX6_qGoesOn_323 (by decide) (fun hc => ?_) (fun hc => ?_)
              · have hf := if_s hc hf
                refine lv_aload_n E.1 hb dX6_qGoesOn_362 rfl (lv_at hl 0 rfl) ?_
                obtain ⟨r29, h1, hf⟩ := bo_s hf
                refine m_cVi E hb hml hl.1 hS (cmf_qBracket h1) gw_qBracket gn_qBracket rfl rfl (Nat.le_of_ble_eq_true rfl) ⟨Nat.le_of_ble_eq_true rfl, Nat.le_of_ble_eq_true rfl⟩ ⟨Nat.le_refl 0, Nat.le_refl 0⟩ dX6_qGoesOn_363 (fun H locs hS => ?_)
                refine lv_iconst (v := (-1)) E.1 hb dX6_qGoesOn_366 rfl ?_
                refine lv_icmp_eq (tgt := 386) E.1 hb dX6_qGoesOn_367 (by decide) (fun hc => ?_) (fun hc => ?_)
                · have hf := it_s hc hf
                  refine lv_iconst (v := 0) E.1 hb dX6_qGoesOn_386 rfl ?_
                  exact m_zr E hb hr hlk hS rfl hf dX6_qGoesOn_387
                · have hf := if_s hc hf
                  refine lv_aload_n E.1 hb dX6_qGoesOn_370 rfl (lv_at hl 0 rfl) ?_
                  refine m_gI (k := 5) E hb hS rfl fl_5 dX6_qGoesOn_371 ?_
                  refine lv_if_ne (tgt := 386) E.1 hb dX6_qGoesOn_374 (by decide) (fun hc => ?_) (fun hc => ?_)
                  · have hf := if_s hc hf
                    refine lv_iconst (v := 0) E.1 hb dX6_qGoesOn_386 rfl ?_
                    exact m_zr E hb hr hlk hS rfl hf dX6_qGoesOn_387
                  · have hf := it_s hc hf
                    refine lv_aload_n E.1 hb dX6_qGoesOn_377 rfl (lv_at hl 0 rfl) ?_
                    refine lv_iconst (v := 1) E.1 hb dX6_qGoesOn_378 rfl ?_
                    refine lv_aload_n E.1 hb dX6_qGoesOn_379 rfl (lv_at hl 0 rfl) ?_
                    refine m_gI (k := 2) E hb hS rfl fl_2 dX6_qGoesOn_380 ?_
                    obtain ⟨_, σ30, h1, hf⟩ := bd_s hf
                    refine m_cVv E hb hml hl.1 hS (cmf_fail h1) gw_fail gn_fail rfl rfl (Nat.le_of_ble_eq_true rfl) ⟨Nat.le_of_ble_eq_true rfl, Nat.le_of_ble_eq_true rfl⟩ ⟨Nat.le_refl 0, Nat.le_refl 0⟩ dX6_qGoesOn_383 (fun H locs hS => ?_)
                    refine lv_iconst (v := 0) E.1 hb dX6_qGoesOn_386 rfl ?_
                    exact m_zr E hb hr hlk hS rfl hf dX6_qGoesOn_387
              · have hf := it_s hc hf
                exact hB326 σ22 hf _ _ hS _ (lv_sub hl [0] rfl)
          · have hf := if_s hc hf
            exact hB225 σ22 hf _ _ hS _ (lv_sub hl [0] rfl)
      · have hf := if_s hc hf
        exact hB140 σ10 hf _ _ hS _ (lv_sub hl [0] rfl)
  have hB115 : ∀ (k0 : mSt → Option (Int32 × mSt)) (hk0 : ∀ (σ : mSt), k0 σ = some (r, σ') → ∀ (H : Heap) (locs : List Loc), mS dC dI ac o ad s.heap σ H locs → ∀ (ls : Array Slot), lv_has ls 2 [(0, .ref o)] → W p l e rM_qGoesOn s m args below meth c H locs 0 0 (MQ below (mQi dC dI ac o ad r σ') args s 0 0 (mF o ad)) (F0 m 0 ls [])) (σ : mSt), M_qGoesOn_b115 N k0 σ = some (r, σ') → ∀ (H : Heap) (locs : List Loc), mS dC dI ac o ad s.heap σ H locs → ∀ (ls : Array Slot), lv_has ls 2 [(0, .ref o)] → W p l e rM_qGoesOn s m args below meth c H locs 0 0 (MQ below (mQi dC dI ac o ad r σ') args s 0 0 (mF o ad)) (F0 m 115 ls []) := by
    intro k0 hk0 σ hf H locs hS ls hl
    unfold M_qGoesOn_b115 at hf
    refine lv_aload_n E.1 hb dX6_qGoesOn_115 rfl (lv_at hl 0 rfl) ?_
    obtain ⟨_, σ39, h1, hf⟩ := bd_s hf
    refine m_cVv E hb hml hl.1 hS (cmf_qEndsPart h1) gw_qEndsPart gn_qEndsPart rfl rfl (Nat.le_of_ble_eq_true rfl) ⟨Nat.le_of_ble_eq_true rfl, Nat.le_of_ble_eq_true rfl⟩ ⟨Nat.le_refl 0, Nat.le_refl 0⟩ dX6_qGoesOn_116 (fun H locs hS => ?_)
    refine lv_goto (tgt := 0) E.1 hb dX6_qGoesOn_119 (by decide) ?_
    exact hk0 σ39 hf _ _ hS _ (lv_sub hl [0] rfl)
  have hB112 : ∀ (k0 : mSt → Option (Int32 × mSt)) (hk0 : ∀ (σ : mSt), k0 σ = some (r, σ') → ∀ (H : Heap) (locs : List Loc), mS dC dI ac o ad s.heap σ H locs → ∀ (ls : Array Slot), lv_has ls 2 [(0, .ref o)] → W p l e rM_qGoesOn s m args below meth c H locs 0 0 (MQ below (mQi dC dI ac o ad r σ') args s 0 0 (mF o ad)) (F0 m 0 ls [])) (σ : mSt) (y0 : Int32), M_qGoesOn_b112 N k0 σ y0 = some (r, σ') → ∀ (H : Heap) (locs : List Loc), mS dC dI ac o ad s.heap σ H locs → ∀ (ls : Array Slot), lv_has ls 2 [(0, .ref o)] → W p l e rM_qGoesOn s m args below meth c H locs 0 0 (MQ below (mQi dC dI ac o ad r σ') args s 0 0 (mF o ad)) (F0 m 112 ls [.int y0, .ref o]) := by
    intro k0 hk0 σ y0 hf H locs hS ls hl
    unfold M_qGoesOn_b112 at hf
    obtain ⟨_, σ41, h1, hf⟩ := bd_s hf
    refine m_cVv E hb hml hl.1 hS (cmf_qCode h1) gw_qCode gn_qCode rfl rfl (Nat.le_of_ble_eq_true rfl) ⟨Nat.le_of_ble_eq_true rfl, Nat.le_of_ble_eq_true rfl⟩ ⟨Nat.le_refl 0, Nat.le_refl 0⟩ dX6_qGoesOn_112 (fun H locs hS => ?_)
    exact hB115 k0 hk0 σ41 hf _ _ hS _ (lv_sub hl [0] rfl)
  have hB43 : ∀ (k0 : mSt → Option (Int32 × mSt)) (hk0 : ∀ (σ : mSt), k0 σ = some (r, σ') → ∀ (H : Heap) (locs : List Loc), mS dC dI ac o ad s.heap σ H locs → ∀ (ls : Array Slot), lv_has ls 2 [(0, .ref o)] → W p l e rM_qGoesOn s m args below meth c H locs 0 0 (MQ below (mQi dC dI ac o ad r σ') args s 0 0 (mF o ad)) (F0 m 0 ls [])) (σ : mSt), M_qGoesOn_b43 N k0 σ = some (r, σ') → ∀ (H : Heap) (locs : List Loc), mS dC dI ac o ad s.heap σ H locs → ∀ (ls : Array Slot), lv_has ls 2 [(0, .ref o)] → W p l e rM_qGoesOn s m args below meth c H locs 0 0 (MQ below (mQi dC dI ac o ad r σ') args s 0 0 (mF o ad)) (F0 m 43 ls []) := by
    intro k0 hk0 σ hf H locs hS ls hl
    unfold M_qGoesOn_b43 at hf
    refine lv_aload_n E.1 hb dX6_qGoesOn_43 rfl (lv_at hl 0 rfl) ?_
    refine lv_dup E.1 hb dX6_qGoesOn_44 rfl ?_
    refine m_gI (k := 2) E hb hS rfl fl_2 dX6_qGoesOn_45 ?_
    refine lv_iconst (v := 1) E.1 hb dX6_qGoesOn_48 rfl ?_
    refine lv_iadd E.1 hb dX6_qGoesOn_49 ?_
    obtain ⟨σ34, hw, hf⟩ := lt2_s hf
    refine m_pI (k := 2) E hb hS rfl rfl pf_2 fl_2 hw dX6_qGoesOn_50 (fun H locs hS => ?_)
    refine lv_aload_n E.1 hb dX6_qGoesOn_53 rfl (lv_at hl 0 rfl) ?_
    obtain ⟨_, σ35, h1, hf⟩ := bd_s hf
    refine m_cVv E hb hml hl.1 hS (cmf_qDropsToBracket h1) gw_qDropsToBracket gn_qDropsToBracket rfl rfl (Nat.le_of_ble_eq_true rfl) ⟨Nat.le_of_ble_eq_true rfl, Nat.le_of_ble_eq_true rfl⟩ ⟨Nat.le_refl 0, Nat.le_refl 0⟩ dX6_qGoesOn_54 (fun H locs hS => ?_)
    refine lv_aload_n E.1 hb dX6_qGoesOn_57 rfl (lv_at hl 0 rfl) ?_
    refine lv_dup E.1 hb dX6_qGoesOn_58 rfl ?_
    refine m_gI (k := 97) E hb hS rfl fl_97 dX6_qGoesOn_59 ?_
    refine lv_iconst (v := 1) E.1 hb dX6_qGoesOn_62 rfl ?_
    refine lv_isub E.1 hb dX6_qGoesOn_63 ?_
    obtain ⟨σ36, hw, hf⟩ := lt2_s hf
    refine m_pI (k := 97) E hb hS rfl rfl pf_97 fl_97 hw dX6_qGoesOn_64 (fun H locs hS => ?_)
    refine lv_aload_n E.1 hb dX6_qGoesOn_67 rfl (lv_at hl 0 rfl) ?_
    refine lv_dup E.1 hb dX6_qGoesOn_68 rfl ?_
    refine m_gI (k := 98) E hb hS rfl fl_98 dX6_qGoesOn_69 ?_
    refine lv_iconst (v := 1) E.1 hb dX6_qGoesOn_72 rfl ?_
    refine lv_isub E.1 hb dX6_qGoesOn_73 ?_
    obtain ⟨σ37, hw, hf⟩ := lt2_s hf
    refine m_pI (k := 98) E hb hS rfl rfl pf_98 fl_98 hw dX6_qGoesOn_74 (fun H locs hS => ?_)
    refine lv_aload_n E.1 hb dX6_qGoesOn_77 rfl (lv_at hl 0 rfl) ?_
    refine m_gA (k := 96) E hb hS 2 rfl (by decide) fl_96 dX6_qGoesOn_78 ?_
    refine lv_aload_n E.1 hb dX6_qGoesOn_81 rfl (lv_at hl 0 rfl) ?_
    refine m_gI (k := 97) E hb hS rfl fl_97 dX6_qGoesOn_82 ?_
    obtain ⟨hg, hf⟩ := ld_s hf
    refine m_ild E hb hS hg dX6_qGoesOn_85 ?_
    refine lv_bipush (v := 20) E.1 hb dX6_qGoesOn_86 rfl ?_
    refine lv_icmp_eq (tgt := 115) E.1 hb dX6_qGoesOn_88 (by decide) (fun hc => ?_) (fun hc => ?_)
    · have hf := it_s hc hf
      exact hB115 k0 hk0 σ37 hf _ _ hS _ (lv_sub hl [0] rfl)
    · have hf := if_s hc hf
      refine lv_aload_n E.1 hb dX6_qGoesOn_91 rfl (lv_at hl 0 rfl) ?_
      refine lv_aload_n E.1 hb dX6_qGoesOn_92 rfl (lv_at hl 0 rfl) ?_
      refine m_gA (k := 96) E hb hS 2 rfl (by decide) fl_96 dX6_qGoesOn_93 ?_
      refine lv_aload_n E.1 hb dX6_qGoesOn_96 rfl (lv_at hl 0 rfl) ?_
      refine m_gI (k := 97) E hb hS rfl fl_97 dX6_qGoesOn_97 ?_
      obtain ⟨hg, hf⟩ := ld_s hf
      refine m_ild E hb hS hg dX6_qGoesOn_100 ?_
      refine lv_bipush (v := 23) E.1 hb dX6_qGoesOn_101 rfl ?_
      refine lv_icmp_ne (tgt := 110) E.1 hb dX6_qGoesOn_103 (by decide) (fun hc => ?_) (fun hc => ?_)
      · have hf := if_s hc hf
        refine lv_bipush (v := 6) E.1 hb dX6_qGoesOn_110 rfl ?_
        exact hB112 k0 hk0 σ37 6 hf _ _ hS _ (lv_sub hl [0] rfl)
      · have hf := it_s hc hf
        refine lv_iconst (v := 5) E.1 hb dX6_qGoesOn_106 rfl ?_
        refine lv_goto (tgt := 112) E.1 hb dX6_qGoesOn_107 (by decide) ?_
        exact hB112 k0 hk0 σ37 5 hf _ _ hS _ (lv_sub hl [0] rfl)
  have hL0 : ∀ (n : Nat) (σ : mSt), rn1 (M_qGoesOn_b0 N) n σ = some (r, σ') → ∀ (H : Heap) (locs : List Loc), mS dC dI ac o ad s.heap σ H locs → ∀ (ls : Array Slot), lv_has ls 2 [(0, .ref o)] → W p l e rM_qGoesOn s m args below meth c H locs 0 0 (MQ below (mQi dC dI ac o ad r σ') args s 0 0 (mF o ad)) (F0 m 0 ls []) := by
    intro  n
    induction n with
    | zero =>
      intro σ hf
      cases hf
    | succ n ih =>
      intro σ hf H locs hS ls hl
      have hf : M_qGoesOn_b0 N (rn1 (M_qGoesOn_b0 N) n) σ = some (r, σ') := hf
      have hk0 := ih
      generalize rn1 (M_qGoesOn_b0 N) n = k0 at hf hk0
      unfold M_qGoesOn_b0 at hf
      refine lv_aload_n E.1 hb dX6_qGoesOn_0 rfl (lv_at hl 0 rfl) ?_
      refine m_gI (k := 5) E hb hS rfl fl_5 dX6_qGoesOn_1 ?_
      refine lv_if_ne (tgt := 122) E.1 hb dX6_qGoesOn_4 (by decide) (fun hc => ?_) (fun hc => ?_)
      · have hf := if_s hc hf
        exact hB122 σ hf _ _ hS _ (lv_sub hl [0] rfl)
      · have hf := it_s hc hf
        refine lv_aload_n E.1 hb dX6_qGoesOn_7 rfl (lv_at hl 0 rfl) ?_
        obtain ⟨r31, σ32, h1, hf⟩ := bd_s hf
        refine m_cVi E hb hml hl.1 hS (cmf_look h1) gw_look gn_look rfl rfl (Nat.le_of_ble_eq_true rfl) ⟨Nat.le_of_ble_eq_true rfl, Nat.le_of_ble_eq_true rfl⟩ ⟨Nat.le_refl 0, Nat.le_refl 0⟩ dX6_qGoesOn_8 (fun H locs hS => ?_)
        refine lv_bipush (v := 41) E.1 hb dX6_qGoesOn_11 rfl ?_
        refine lv_icmp_ne (tgt := 122) E.1 hb dX6_qGoesOn_13 (by decide) (fun hc => ?_) (fun hc => ?_)
        · have hf := if_s hc hf
          exact hB122 σ32 hf _ _ hS _ (lv_sub hl [0] rfl)
        · have hf := it_s hc hf
          refine lv_aload_n E.1 hb dX6_qGoesOn_16 rfl (lv_at hl 0 rfl) ?_
          obtain ⟨r33, h1, hf⟩ := bo_s hf
          refine m_cVi E hb hml hl.1 hS (cmf_qBracket h1) gw_qBracket gn_qBracket rfl rfl (Nat.le_of_ble_eq_true rfl) ⟨Nat.le_of_ble_eq_true rfl, Nat.le_of_ble_eq_true rfl⟩ ⟨Nat.le_refl 0, Nat.le_refl 0⟩ dX6_qGoesOn_17 (fun H locs hS => ?_)
          refine lv_bipush (v := 20) E.1 hb dX6_qGoesOn_20 rfl ?_
          refine lv_icmp_eq (tgt := 43) E.1 hb dX6_qGoesOn_22 (by decide) (fun hc => ?_) (fun hc => ?_)
          · have hf := it_s hc hf
            exact hB43 k0 hk0 σ32 hf _ _ hS _ (lv_sub hl [0] rfl)
          · have hf := if_s hc hf
            refine lv_aload_n E.1 hb dX6_qGoesOn_25 rfl (lv_at hl 0 rfl) ?_
            obtain ⟨r42, h1, hf⟩ := bo_s hf
            refine m_cVi E hb hml hl.1 hS (cmf_qBracket h1) gw_qBracket gn_qBracket rfl rfl (Nat.le_of_ble_eq_true rfl) ⟨Nat.le_of_ble_eq_true rfl, Nat.le_of_ble_eq_true rfl⟩ ⟨Nat.le_refl 0, Nat.le_refl 0⟩ dX6_qGoesOn_26 (fun H locs hS => ?_)
            refine lv_bipush (v := 23) E.1 hb dX6_qGoesOn_29 rfl ?_
            refine lv_icmp_eq (tgt := 43) E.1 hb dX6_qGoesOn_31 (by decide) (fun hc => ?_) (fun hc => ?_)
            · have hf := it_s hc hf
              exact hB43 k0 hk0 σ32 hf _ _ hS _ (lv_sub hl [0] rfl)
            · have hf := if_s hc hf
              refine lv_aload_n E.1 hb dX6_qGoesOn_34 rfl (lv_at hl 0 rfl) ?_
              obtain ⟨r43, h1, hf⟩ := bo_s hf
              refine m_cVi E hb hml hl.1 hS (cmf_qBracket h1) gw_qBracket gn_qBracket rfl rfl (Nat.le_of_ble_eq_true rfl) ⟨Nat.le_of_ble_eq_true rfl, Nat.le_of_ble_eq_true rfl⟩ ⟨Nat.le_refl 0, Nat.le_refl 0⟩ dX6_qGoesOn_35 (fun H locs hS => ?_)
              refine lv_bipush (v := 24) E.1 hb dX6_qGoesOn_38 rfl ?_
              refine lv_icmp_ne (tgt := 122) E.1 hb dX6_qGoesOn_40 (by decide) (fun hc => ?_) (fun hc => ?_)
              · have hf := if_s hc hf
                exact hB122 σ32 hf _ _ hS _ (lv_sub hl [0] rfl)
              · have hf := it_s hc hf
                exact hB43 k0 hk0 σ32 hf _ _ hS _ (lv_sub hl [0] rfl)
  unfold M_qGoesOn at hf
  exact hL0 N σ hf _ _ hS _ (lv_sub hl [0] rfl)
/-! qSums()V: RW -/
noncomputable def M_qSums_b78 (N : Nat) (σ : mSt) (x1 : Int32) : Option (Unit × mSt) :=
  lt2 (mUI σ 99 0 x1) fun σ2 => some ((), σ2)
noncomputable def M_qSums_b53 (N : Nat) (k53 : mSt → Int32 → Option (Unit × mSt)) (σ : mSt) (x1 : Int32) : Option (Unit × mSt) :=
  if (σ.1 5 0) = 0 then (if (σ.1 97 0) ≤ (σ.1 99 0) then (M_qSums_b78 N σ x1) else (bd (M_qDrops σ) fun _ σ3 => k53 σ3 x1)) else (M_qSums_b78 N σ x1)
noncomputable def M_qSums_b49 (N : Nat) (k15 : mSt → Int32 → Int32 → Option (Unit × mSt)) (σ : mSt) (x1 : Int32) (y0 : Int32) : Option (Unit × mSt) :=
  k15 σ x1 y0
noncomputable def M_qSums_b48 (N : Nat) (k15 : mSt → Int32 → Int32 → Option (Unit × mSt)) (σ : mSt) (x1 : Int32) : Option (Unit × mSt) :=
  M_qSums_b49 N k15 σ x1 0
noncomputable def M_qSums_b15 (N : Nat) (k15 : mSt → Int32 → Int32 → Option (Unit × mSt)) (σ : mSt) (x1 : Int32) (x2 : Int32) : Option (Unit × mSt) :=
  if x2 = 0 then (rn2 (M_qSums_b53 N) N σ x1) else (if (σ.1 5 0) = 0 then (bd (M_qPartTold N σ) fun _ σ4 => if (σ4.1 5 0) = 0 then (bd (M_qGoesOn N σ4) fun r5 σ6 => if r5 = 0 then (M_qSums_b48 N k15 σ6 x1) else (M_qSums_b49 N k15 σ6 x1 1)) else (M_qSums_b48 N k15 σ4 x1)) else (rn2 (M_qSums_b53 N) N σ x1))
noncomputable def M_qSums (N : Nat) (σ : mSt) : Option (Unit × mSt) :=
  lt2 (mUI σ 99 0 (σ.1 97 0)) fun σ1 => rn3 (M_qSums_b15 N) N σ1 (σ.1 99 0) 1
theorem gw_qSums : GoodIn lw_all (wsV RX6 353 RX6 yX6_qSums (ws_ yX6_qSums cX6_qSums 3 none)) := lw_V q2123 q2125 qs85 q164 q2126
theorem gn_qSums : yX6_qSums.cls = RX6 ∧ yX6_qSums.cls ≠ "java/lang/invoke/MethodHandle" ∧ yX6_qSums.cls ≠ "java/lang/invoke/VarHandle" ∧ (parseMethodDescriptor yX6_qSums.desc).map (fun d => d.parameters.length) = some 0 := by decide +kernel
abbrev rM_qSums : Room := { frames := 6, cells := 0, slots := 0, locals := 131 }
set_option maxHeartbeats 4000000 in
theorem cmf_qSums {l : Launch} {dC : Nat → ClassId} {dI : Nat → Nat → Nat} {ac : Nat → ClassId} {o : Nat} {ad : Nat → Nat} {N : Nat} {σ : mSt} {σ' : mSt} (hf : M_qSums N σ = some ((), σ')) : Met l yX6_qSums (ws_ yX6_qSums cX6_qSums 3 none) { frames := 6, cells := 0, slots := 0, locals := 131 } (va_Pc [.ref o] (mPre dC dI ac o ad σ)) (mQv dC dI ac o ad σ') 0 0 (mF o ad) := by
  refine m_of (by decide) rfl (Nat.le_of_ble_eq_true rfl) ?_
  intro p e s m args below meth c E hb hr hlk hml hS ls hl
  have hl : lv_has ls 3 [(0, .ref o)] := hl
  have hB78 : ∀ (σ : mSt) (x1 : Int32), M_qSums_b78 N σ x1 = some ((), σ') → ∀ (H : Heap) (locs : List Loc), mS dC dI ac o ad s.heap σ H locs → ∀ (ls : Array Slot), lv_has ls 3 [(0, .ref o), (1, .int x1)] → W p l e rM_qSums s m args below meth c H locs 0 0 (MQ below (mQv dC dI ac o ad σ') args s 0 0 (mF o ad)) (F0 m 78 ls []) := by
    intro σ x1 hf H locs hS ls hl
    unfold M_qSums_b78 at hf
    refine lv_aload_n E.1 hb dX6_qSums_78 rfl (lv_at hl 0 rfl) ?_
    refine lv_iload_n E.1 hb dX6_qSums_79 rfl (lv_at hl 1 rfl) ?_
    obtain ⟨σ2, hw, hf⟩ := lt2_s hf
    refine m_pI (k := 99) E hb hS rfl rfl pf_99 fl_99 hw dX6_qSums_80 (fun H locs hS => ?_)
    exact m_vr E hb hr hlk hS hf dX6_qSums_83
  have hL53 : ∀ (n : Nat) (σ : mSt) (x1 : Int32), rn2 (M_qSums_b53 N) n σ x1 = some ((), σ') → ∀ (H : Heap) (locs : List Loc), mS dC dI ac o ad s.heap σ H locs → ∀ (ls : Array Slot), lv_has ls 3 [(0, .ref o), (1, .int x1)] → W p l e rM_qSums s m args below meth c H locs 0 0 (MQ below (mQv dC dI ac o ad σ') args s 0 0 (mF o ad)) (F0 m 53 ls []) := by
    intro  n
    induction n with
    | zero =>
      intro σ x1 hf
      cases hf
    | succ n ih =>
      intro σ x1 hf H locs hS ls hl
      have hf : M_qSums_b53 N (rn2 (M_qSums_b53 N) n) σ x1 = some ((), σ') := hf
      have hk53 := ih
      generalize rn2 (M_qSums_b53 N) n = k53 at hf hk53
      unfold M_qSums_b53 at hf
      refine lv_aload_n E.1 hb dX6_qSums_53 rfl (lv_at hl 0 rfl) ?_
      refine m_gI (k := 5) E hb hS rfl fl_5 dX6_qSums_54 ?_
      refine lv_if_ne (tgt := 78) E.1 hb dX6_qSums_57 (by decide) (fun hc => ?_) (fun hc => ?_)
      · have hf := if_s hc hf
        exact hB78 σ x1 hf _ _ hS _ (lv_sub hl [0, 1] rfl)
      · have hf := it_s hc hf
        refine lv_aload_n E.1 hb dX6_qSums_60 rfl (lv_at hl 0 rfl) ?_
        refine m_gI (k := 97) E hb hS rfl fl_97 dX6_qSums_61 ?_
        refine lv_aload_n E.1 hb dX6_qSums_64 rfl (lv_at hl 0 rfl) ?_
        refine m_gI (k := 99) E hb hS rfl fl_99 dX6_qSums_65 ?_
        refine lv_icmp_le (tgt := 78) E.1 hb dX6_qSums_68 (by decide) (fun hc => ?_) (fun hc => ?_)
        · have hf := it_s hc hf
          exact hB78 σ x1 hf _ _ hS _ (lv_sub hl [0, 1] rfl)
        · have hf := if_s hc hf
          refine lv_aload_n E.1 hb dX6_qSums_71 rfl (lv_at hl 0 rfl) ?_
          obtain ⟨_, σ3, h1, hf⟩ := bd_s hf
          refine m_cVv E hb hml hl.1 hS (cmf_qDrops h1) gw_qDrops gn_qDrops rfl rfl (Nat.le_of_ble_eq_true rfl) ⟨Nat.le_of_ble_eq_true rfl, Nat.le_of_ble_eq_true rfl⟩ ⟨Nat.le_refl 0, Nat.le_refl 0⟩ dX6_qSums_72 (fun H locs hS => ?_)
          refine lv_goto (tgt := 53) E.1 hb dX6_qSums_75 (by decide) ?_
          exact hk53 σ3 x1 hf _ _ hS _ (lv_sub hl [0, 1] rfl)
  have hB49 : ∀ (k15 : mSt → Int32 → Int32 → Option (Unit × mSt)) (hk15 : ∀ (σ : mSt) (x1 : Int32) (x2 : Int32), k15 σ x1 x2 = some ((), σ') → ∀ (H : Heap) (locs : List Loc), mS dC dI ac o ad s.heap σ H locs → ∀ (ls : Array Slot), lv_has ls 3 [(0, .ref o), (1, .int x1), (2, .int x2)] → W p l e rM_qSums s m args below meth c H locs 0 0 (MQ below (mQv dC dI ac o ad σ') args s 0 0 (mF o ad)) (F0 m 15 ls [])) (σ : mSt) (x1 : Int32) (y0 : Int32), M_qSums_b49 N k15 σ x1 y0 = some ((), σ') → ∀ (H : Heap) (locs : List Loc), mS dC dI ac o ad s.heap σ H locs → ∀ (ls : Array Slot), lv_has ls 3 [(0, .ref o), (1, .int x1)] → W p l e rM_qSums s m args below meth c H locs 0 0 (MQ below (mQv dC dI ac o ad σ') args s 0 0 (mF o ad)) (F0 m 49 ls [.int y0]) := by
    intro k15 hk15 σ x1 y0 hf H locs hS ls hl
    unfold M_qSums_b49 at hf
    refine lv_istore_n (lv' := [(2, .int y0), (0, .ref o), (1, .int x1)]) E.1 hb dX6_qSums_49 rfl hl (by decide) rfl (fun ls hl => ?_)
    refine lv_goto (tgt := 15) E.1 hb dX6_qSums_50 (by decide) ?_
    exact hk15 σ x1 y0 hf _ _ hS _ (lv_sub hl [1, 2, 0] rfl)
  have hB48 : ∀ (k15 : mSt → Int32 → Int32 → Option (Unit × mSt)) (hk15 : ∀ (σ : mSt) (x1 : Int32) (x2 : Int32), k15 σ x1 x2 = some ((), σ') → ∀ (H : Heap) (locs : List Loc), mS dC dI ac o ad s.heap σ H locs → ∀ (ls : Array Slot), lv_has ls 3 [(0, .ref o), (1, .int x1), (2, .int x2)] → W p l e rM_qSums s m args below meth c H locs 0 0 (MQ below (mQv dC dI ac o ad σ') args s 0 0 (mF o ad)) (F0 m 15 ls [])) (σ : mSt) (x1 : Int32), M_qSums_b48 N k15 σ x1 = some ((), σ') → ∀ (H : Heap) (locs : List Loc), mS dC dI ac o ad s.heap σ H locs → ∀ (ls : Array Slot), lv_has ls 3 [(0, .ref o), (1, .int x1)] → W p l e rM_qSums s m args below meth c H locs 0 0 (MQ below (mQv dC dI ac o ad σ') args s 0 0 (mF o ad)) (F0 m 48 ls []) := by
    intro k15 hk15 σ x1 hf H locs hS ls hl
    unfold M_qSums_b48 at hf
    refine lv_iconst (v := 0) E.1 hb dX6_qSums_48 rfl ?_
    exact hB49 k15 hk15 σ x1 0 hf _ _ hS _ (lv_sub hl [0, 1] rfl)
  have hL15 : ∀ (n : Nat) (σ : mSt) (x1 : Int32) (x2 : Int32), rn3 (M_qSums_b15 N) n σ x1 x2 = some ((), σ') → ∀ (H : Heap) (locs : List Loc), mS dC dI ac o ad s.heap σ H locs → ∀ (ls : Array Slot), lv_has ls 3 [(0, .ref o), (1, .int x1), (2, .int x2)] → W p l e rM_qSums s m args below meth c H locs 0 0 (MQ below (mQv dC dI ac o ad σ') args s 0 0 (mF o ad)) (F0 m 15 ls []) := by
    intro  n
    induction n with
    | zero =>
      intro σ x1 x2 hf
      cases hf
    | succ n ih =>
      intro σ x1 x2 hf H locs hS ls hl
      have hf : M_qSums_b15 N (rn3 (M_qSums_b15 N) n) σ x1 x2 = some ((), σ') := hf
      have hk15 := ih
      generalize rn3 (M_qSums_b15 N) n = k15 at hf hk15
      unfold M_qSums_b15 at hf
      refine lv_iload_n E.1 hb dX6_qSums_15 rfl (lv_at hl 2 rfl) ?_
      refine lv_if_eq (tgt := 53) E.1 hb dX6_qSums_16 (by decide) (fun hc => ?_) (fun hc => ?_)
      · have hf := it_s hc hf
        exact hL53 N σ x1 hf _ _ hS _ (lv_sub hl [0, 1] rfl)
      · have hf := if_s hc hf
        refine lv_aload_n E.1 hb dX6_qSums_19 rfl (lv_at hl 0 rfl) ?_
        refine m_gI (k := 5) E hb hS rfl fl_5 dX6_qSums_20 ?_
        refine lv_if_ne (tgt := 53) E.1 hb dX6_qSums_23 (by decide) (fun hc => ?_) (fun hc => ?_)
        · have hf := if_s hc hf
          exact hL53 N σ x1 hf _ _ hS _ (lv_sub hl [0, 1] rfl)
        · have hf := it_s hc hf
          refine lv_aload_n E.1 hb dX6_qSums_26 rfl (lv_at hl 0 rfl) ?_
          obtain ⟨_, σ4, h1, hf⟩ := bd_s hf
          refine m_cVv E hb hml hl.1 hS (cmf_qPartTold h1) gw_qPartTold gn_qPartTold rfl rfl (Nat.le_of_ble_eq_true rfl) ⟨Nat.le_of_ble_eq_true rfl, Nat.le_of_ble_eq_true rfl⟩ ⟨Nat.le_refl 0, Nat.le_refl 0⟩ dX6_qSums_27 (fun H locs hS => ?_)
          refine lv_aload_n E.1 hb dX6_qSums_30 rfl (lv_at hl 0 rfl) ?_
          refine m_gI (k := 5) E hb hS rfl fl_5 dX6_qSums_31 ?_
          refine lv_if_ne (tgt := 48) E.1 hb dX6_qSums_34 (by decide) (fun hc => ?_) (fun hc => ?_)
          · have hf := if_s hc hf
            exact hB48 k15 hk15 σ4 x1 hf _ _ hS _ (lv_sub hl [0, 1] rfl)
          · have hf := it_s hc hf
            refine lv_aload_n E.1 hb dX6_qSums_37 rfl (lv_at hl 0 rfl) ?_
            obtain ⟨r5, σ6, h1, hf⟩ := bd_s hf
            refine m_cVi E hb hml hl.1 hS (cmf_qGoesOn h1) gw_qGoesOn gn_qGoesOn rfl rfl (Nat.le_of_ble_eq_true rfl) ⟨Nat.le_of_ble_eq_true rfl, Nat.le_of_ble_eq_true rfl⟩ ⟨Nat.le_refl 0, Nat.le_refl 0⟩ dX6_qSums_38 (fun H locs hS => ?_)
            refine lv_if_eq (tgt := 48) E.1 hb dX6_qSums_41 (by decide) (fun hc => ?_) (fun hc => ?_)
            · have hf := it_s hc hf
              exact hB48 k15 hk15 σ6 x1 hf _ _ hS _ (lv_sub hl [0, 1] rfl)
            · have hf := if_s hc hf
              refine lv_iconst (v := 1) E.1 hb dX6_qSums_44 rfl ?_
              refine lv_goto (tgt := 49) E.1 hb dX6_qSums_45 (by decide) ?_
              exact hB49 k15 hk15 σ6 x1 1 hf _ _ hS _ (lv_sub hl [0, 1] rfl)
  unfold M_qSums at hf
  refine lv_aload_n E.1 hb dX6_qSums_0 rfl (lv_at hl 0 rfl) ?_
  refine m_gI (k := 99) E hb hS rfl fl_99 dX6_qSums_1 ?_
  refine lv_istore_n (lv' := [(1, .int (σ.1 99 0)), (0, .ref o)]) E.1 hb dX6_qSums_4 rfl hl (by decide) rfl (fun ls hl => ?_)
  refine lv_aload_n E.1 hb dX6_qSums_5 rfl (lv_at hl 1 rfl) ?_
  refine lv_aload_n E.1 hb dX6_qSums_6 rfl (lv_at hl 1 rfl) ?_
  refine m_gI (k := 97) E hb hS rfl fl_97 dX6_qSums_7 ?_
  obtain ⟨σ1, hw, hf⟩ := lt2_s hf
  refine m_pI (k := 99) E hb hS rfl rfl pf_99 fl_99 hw dX6_qSums_10 (fun H locs hS => ?_)
  refine lv_iconst (v := 1) E.1 hb dX6_qSums_13 rfl ?_
  refine lv_istore_n (lv' := [(2, .int 1), (1, .int (σ.1 99 0)), (0, .ref o)]) E.1 hb dX6_qSums_14 rfl hl (by decide) rfl (fun ls hl => ?_)
  exact hL15 N σ1 (σ.1 99 0) 1 hf _ _ hS _ (lv_sub hl [2, 1, 0] rfl)
/-! qFact()V: RW -/
noncomputable def M_qFact_b102 (N : Nat) (σ : mSt) (y0 : Int32) : Option (Unit × mSt) :=
  bd (M_qCode σ y0) fun _ σ8 => some ((), σ8)
noncomputable def M_qFact_b63 (N : Nat) (σ : mSt) (x1 : Int32) : Option (Unit × mSt) :=
  lt2 (mUI σ 2 0 ((σ.1 2 0) + 1)) fun σ6 => bd (M_qSums N σ6) fun _ σ7 => if x1 = 60 then (M_qFact_b102 N σ7 7) else (if x1 = 62 then (M_qFact_b102 N σ7 8) else (M_qFact_b102 N σ7 9))
noncomputable def M_qFact (N : Nat) (σ : mSt) : Option (Unit × mSt) :=
  bd (M_takes N σ 81) fun r1 σ2 => if r1 = 0 then (bd (M_qSums N σ2) fun _ σ3 => if (σ3.1 5 0) = 0 then (bd (M_look N σ3) fun r4 σ5 => if r4 = 60 then (M_qFact_b63 N σ5 r4) else (if r4 = 62 then (M_qFact_b63 N σ5 r4) else (if r4 = 61 then (M_qFact_b63 N σ5 r4) else (bd (M_fail σ5 1 (σ5.1 2 0)) fun _ σ9 => some ((), σ9))))) else (some ((), σ3))) else (bd (M_qCode σ2 13) fun _ σ10 => some ((), σ10))
theorem gw_qFact : GoodIn lw_all (wsV RX6 620 RX6 yX6_qFact (ws_ yX6_qFact cX6_qFact 2 none)) := lw_V q2115 q2117 qs83 q164 q2118
theorem gn_qFact : yX6_qFact.cls = RX6 ∧ yX6_qFact.cls ≠ "java/lang/invoke/MethodHandle" ∧ yX6_qFact.cls ≠ "java/lang/invoke/VarHandle" ∧ (parseMethodDescriptor yX6_qFact.desc).map (fun d => d.parameters.length) = some 0 := by decide +kernel
abbrev rM_qFact : Room := { frames := 7, cells := 0, slots := 0, locals := 153 }
set_option maxHeartbeats 4000000 in
theorem cmf_qFact {l : Launch} {dC : Nat → ClassId} {dI : Nat → Nat → Nat} {ac : Nat → ClassId} {o : Nat} {ad : Nat → Nat} {N : Nat} {σ : mSt} {σ' : mSt} (hf : M_qFact N σ = some ((), σ')) : Met l yX6_qFact (ws_ yX6_qFact cX6_qFact 2 none) { frames := 7, cells := 0, slots := 0, locals := 153 } (va_Pc [.ref o] (mPre dC dI ac o ad σ)) (mQv dC dI ac o ad σ') 0 0 (mF o ad) := by
  refine m_of (by decide) rfl (Nat.le_of_ble_eq_true rfl) ?_
  intro p e s m args below meth c E hb hr hlk hml hS ls hl
  have hl : lv_has ls 2 [(0, .ref o)] := hl
  have hB102 : ∀ (σ : mSt) (y0 : Int32), M_qFact_b102 N σ y0 = some ((), σ') → ∀ (H : Heap) (locs : List Loc), mS dC dI ac o ad s.heap σ H locs → ∀ (ls : Array Slot), lv_has ls 2 [(0, .ref o)] → W p l e rM_qFact s m args below meth c H locs 0 0 (MQ below (mQv dC dI ac o ad σ') args s 0 0 (mF o ad)) (F0 m 102 ls [.int y0, .ref o]) := by
    intro σ y0 hf H locs hS ls hl
    unfold M_qFact_b102 at hf
    obtain ⟨_, σ8, h1, hf⟩ := bd_s hf
    refine m_cVv E hb hml hl.1 hS (cmf_qCode h1) gw_qCode gn_qCode rfl rfl (Nat.le_of_ble_eq_true rfl) ⟨Nat.le_of_ble_eq_true rfl, Nat.le_of_ble_eq_true rfl⟩ ⟨Nat.le_refl 0, Nat.le_refl 0⟩ dX6_qFact_102 (fun H locs hS => ?_)
    exact m_vr E hb hr hlk hS hf dX6_qFact_105
  have hB63 : ∀ (σ : mSt) (x1 : Int32), M_qFact_b63 N σ x1 = some ((), σ') → ∀ (H : Heap) (locs : List Loc), mS dC dI ac o ad s.heap σ H locs → ∀ (ls : Array Slot), lv_has ls 2 [(0, .ref o), (1, .int x1)] → W p l e rM_qFact s m args below meth c H locs 0 0 (MQ below (mQv dC dI ac o ad σ') args s 0 0 (mF o ad)) (F0 m 63 ls []) := by
    intro σ x1 hf H locs hS ls hl
    unfold M_qFact_b63 at hf
    refine lv_aload_n E.1 hb dX6_qFact_63 rfl (lv_at hl 0 rfl) ?_
    refine lv_dup E.1 hb dX6_qFact_64 rfl ?_
    refine m_gI (k := 2) E hb hS rfl fl_2 dX6_qFact_65 ?_
    refine lv_iconst (v := 1) E.1 hb dX6_qFact_68 rfl ?_
    refine lv_iadd E.1 hb dX6_qFact_69 ?_
    obtain ⟨σ6, hw, hf⟩ := lt2_s hf
    refine m_pI (k := 2) E hb hS rfl rfl pf_2 fl_2 hw dX6_qFact_70 (fun H locs hS => ?_)
    refine lv_aload_n E.1 hb dX6_qFact_73 rfl (lv_at hl 0 rfl) ?_
    obtain ⟨_, σ7, h1, hf⟩ := bd_s hf
    refine m_cVv E hb hml hl.1 hS (cmf_qSums h1) gw_qSums gn_qSums rfl rfl (Nat.le_of_ble_eq_true rfl) ⟨Nat.le_of_ble_eq_true rfl, Nat.le_of_ble_eq_true rfl⟩ ⟨Nat.le_refl 0, Nat.le_refl 0⟩ dX6_qFact_74 (fun H locs hS => ?_)
    refine lv_aload_n E.1 hb dX6_qFact_77 rfl (lv_at hl 0 rfl) ?_
    refine lv_iload_n E.1 hb dX6_qFact_78 rfl (lv_at hl 1 rfl) ?_
    refine lv_bipush (v := 60) E.1 hb dX6_qFact_79 rfl ?_
    refine lv_icmp_ne (tgt := 89) E.1 hb dX6_qFact_81 (by decide) (fun hc => ?_) (fun hc => ?_)
    · have hf := if_s hc hf
      refine lv_iload_n E.1 hb dX6_qFact_89 rfl (lv_at hl 1 rfl) ?_
      refine lv_bipush (v := 62) E.1 hb dX6_qFact_90 rfl ?_
      refine lv_icmp_ne (tgt := 100) E.1 hb dX6_qFact_92 (by decide) (fun hc => ?_) (fun hc => ?_)
      · have hf := if_s hc hf
        refine lv_bipush (v := 9) E.1 hb dX6_qFact_100 rfl ?_
        exact hB102 σ7 9 hf _ _ hS _ (lv_sub hl [0] rfl)
      · have hf := it_s hc hf
        refine lv_bipush (v := 8) E.1 hb dX6_qFact_95 rfl ?_
        refine lv_goto (tgt := 102) E.1 hb dX6_qFact_97 (by decide) ?_
        exact hB102 σ7 8 hf _ _ hS _ (lv_sub hl [0] rfl)
    · have hf := it_s hc hf
      refine lv_bipush (v := 7) E.1 hb dX6_qFact_84 rfl ?_
      refine lv_goto (tgt := 102) E.1 hb dX6_qFact_86 (by decide) ?_
      exact hB102 σ7 7 hf _ _ hS _ (lv_sub hl [0] rfl)
  unfold M_qFact at hf
  refine lv_aload_n E.1 hb dX6_qFact_0 rfl (lv_at hl 0 rfl) ?_
  refine lv_aload_n E.1 hb dX6_qFact_1 rfl (lv_at hl 0 rfl) ?_
  refine m_gA (k := 81) E hb hS 4 rfl (by decide) fl_81 dX6_qFact_2 ?_
  obtain ⟨r1, σ2, h1, hf⟩ := bd_s hf
  refine m_cVi E hb hml hl.1 hS (cmf_takes h1) gw_takes gn_takes rfl rfl (Nat.le_of_ble_eq_true rfl) ⟨Nat.le_of_ble_eq_true rfl, Nat.le_of_ble_eq_true rfl⟩ ⟨Nat.le_refl 0, Nat.le_refl 0⟩ dX6_qFact_5 (fun H locs hS => ?_)
  refine lv_if_eq (tgt := 18) E.1 hb dX6_qFact_8 (by decide) (fun hc => ?_) (fun hc => ?_)
  · have hf := it_s hc hf
    refine lv_aload_n E.1 hb dX6_qFact_18 rfl (lv_at hl 0 rfl) ?_
    obtain ⟨_, σ3, h1, hf⟩ := bd_s hf
    refine m_cVv E hb hml hl.1 hS (cmf_qSums h1) gw_qSums gn_qSums rfl rfl (Nat.le_of_ble_eq_true rfl) ⟨Nat.le_of_ble_eq_true rfl, Nat.le_of_ble_eq_true rfl⟩ ⟨Nat.le_refl 0, Nat.le_refl 0⟩ dX6_qFact_19 (fun H locs hS => ?_)
    refine lv_aload_n E.1 hb dX6_qFact_22 rfl (lv_at hl 0 rfl) ?_
    refine m_gI (k := 5) E hb hS rfl fl_5 dX6_qFact_23 ?_
    refine lv_if_eq (tgt := 30) E.1 hb dX6_qFact_26 (by decide) (fun hc => ?_) (fun hc => ?_)
    · have hf := it_s hc hf
      refine lv_aload_n E.1 hb dX6_qFact_30 rfl (lv_at hl 0 rfl) ?_
      obtain ⟨r4, σ5, h1, hf⟩ := bd_s hf
      refine m_cVi E hb hml hl.1 hS (cmf_look h1) gw_look gn_look rfl rfl (Nat.le_of_ble_eq_true rfl) ⟨Nat.le_of_ble_eq_true rfl, Nat.le_of_ble_eq_true rfl⟩ ⟨Nat.le_refl 0, Nat.le_refl 0⟩ dX6_qFact_31 (fun H locs hS => ?_)
      refine lv_istore_n (lv' := [(1, .int r4), (0, .ref o)]) E.1 hb dX6_qFact_34 rfl hl (by decide) rfl (fun ls hl => ?_)
      refine lv_iload_n E.1 hb dX6_qFact_35 rfl (lv_at hl 0 rfl) ?_
      refine lv_bipush (v := 60) E.1 hb dX6_qFact_36 rfl ?_
      refine lv_icmp_eq (tgt := 63) E.1 hb dX6_qFact_38 (by decide) (fun hc => ?_) (fun hc => ?_)
      · have hf := it_s hc hf
        exact hB63 σ5 r4 hf _ _ hS _ (lv_sub hl [1, 0] rfl)
      · have hf := if_s hc hf
        refine lv_iload_n E.1 hb dX6_qFact_41 rfl (lv_at hl 0 rfl) ?_
        refine lv_bipush (v := 62) E.1 hb dX6_qFact_42 rfl ?_
        refine lv_icmp_eq (tgt := 63) E.1 hb dX6_qFact_44 (by decide) (fun hc => ?_) (fun hc => ?_)
        · have hf := it_s hc hf
          exact hB63 σ5 r4 hf _ _ hS _ (lv_sub hl [1, 0] rfl)
        · have hf := if_s hc hf
          refine lv_iload_n E.1 hb dX6_qFact_47 rfl (lv_at hl 0 rfl) ?_
          refine lv_bipush (v := 61) E.1 hb dX6_qFact_48 rfl ?_
          refine lv_icmp_eq (tgt := 63) E.1 hb dX6_qFact_50 (by decide) (fun hc => ?_) (fun hc => ?_)
          · have hf := it_s hc hf
            exact hB63 σ5 r4 hf _ _ hS _ (lv_sub hl [1, 0] rfl)
          · have hf := if_s hc hf
            refine lv_aload_n E.1 hb dX6_qFact_53 rfl (lv_at hl 1 rfl) ?_
            refine lv_iconst (v := 1) E.1 hb dX6_qFact_54 rfl ?_
            refine lv_aload_n E.1 hb dX6_qFact_55 rfl (lv_at hl 1 rfl) ?_
            refine m_gI (k := 2) E hb hS rfl fl_2 dX6_qFact_56 ?_
            obtain ⟨_, σ9, h1, hf⟩ := bd_s hf
            refine m_cVv E hb hml hl.1 hS (cmf_fail h1) gw_fail gn_fail rfl rfl (Nat.le_of_ble_eq_true rfl) ⟨Nat.le_of_ble_eq_true rfl, Nat.le_of_ble_eq_true rfl⟩ ⟨Nat.le_refl 0, Nat.le_refl 0⟩ dX6_qFact_59 (fun H locs hS => ?_)
            exact m_vr E hb hr hlk hS hf dX6_qFact_62
    · have hf := if_s hc hf
      exact m_vr E hb hr hlk hS hf dX6_qFact_29
  · have hf := if_s hc hf
    refine lv_aload_n E.1 hb dX6_qFact_11 rfl (lv_at hl 0 rfl) ?_
    refine lv_bipush (v := 13) E.1 hb dX6_qFact_12 rfl ?_
    obtain ⟨_, σ10, h1, hf⟩ := bd_s hf
    refine m_cVv E hb hml hl.1 hS (cmf_qCode h1) gw_qCode gn_qCode rfl rfl (Nat.le_of_ble_eq_true rfl) ⟨Nat.le_of_ble_eq_true rfl, Nat.le_of_ble_eq_true rfl⟩ ⟨Nat.le_refl 0, Nat.le_refl 0⟩ dX6_qFact_14 (fun H locs hS => ?_)
    exact m_vr E hb hr hlk hS hf dX6_qFact_17
/-! qDropsNots()V: RW -/
noncomputable def M_qDropsNots_b0 (N : Nat) (k0 : mSt → Option (Unit × mSt)) (σ : mSt) : Option (Unit × mSt) :=
  if (σ.1 5 0) = 0 then (bo (M_qIsOn σ 12) fun r1 => if r1 = 0 then (some ((), σ)) else (lt2 (mUI σ 98 0 ((σ.1 98 0) - 1)) fun σ2 => bd (M_qDrops σ2) fun _ σ3 => k0 σ3)) else (some ((), σ))
noncomputable def M_qDropsNots (N : Nat) (σ : mSt) : Option (Unit × mSt) :=
  rn1 (M_qDropsNots_b0 N) N σ
theorem gw_qDropsNots : GoodIn lw_all (wsV RX6 623 RX6 yX6_qDropsNots (ws_ yX6_qDropsNots cX6_qDropsNots 1 none)) := lw_V q2174 q2176 qs97 q164 q2177
theorem gn_qDropsNots : yX6_qDropsNots.cls = RX6 ∧ yX6_qDropsNots.cls ≠ "java/lang/invoke/MethodHandle" ∧ yX6_qDropsNots.cls ≠ "java/lang/invoke/VarHandle" ∧ (parseMethodDescriptor yX6_qDropsNots.desc).map (fun d => d.parameters.length) = some 0 := by decide +kernel
abbrev rM_qDropsNots : Room := { frames := 2, cells := 0, slots := 0, locals := 41 }
set_option maxHeartbeats 4000000 in
theorem cmf_qDropsNots {l : Launch} {dC : Nat → ClassId} {dI : Nat → Nat → Nat} {ac : Nat → ClassId} {o : Nat} {ad : Nat → Nat} {N : Nat} {σ : mSt} {σ' : mSt} (hf : M_qDropsNots N σ = some ((), σ')) : Met l yX6_qDropsNots (ws_ yX6_qDropsNots cX6_qDropsNots 1 none) { frames := 2, cells := 0, slots := 0, locals := 41 } (va_Pc [.ref o] (mPre dC dI ac o ad σ)) (mQv dC dI ac o ad σ') 0 0 (mF o ad) := by
  refine m_of (by decide) rfl (Nat.le_of_ble_eq_true rfl) ?_
  intro p e s m args below meth c E hb hr hlk hml hS ls hl
  have hl : lv_has ls 1 [(0, .ref o)] := hl
  have hL0 : ∀ (n : Nat) (σ : mSt), rn1 (M_qDropsNots_b0 N) n σ = some ((), σ') → ∀ (H : Heap) (locs : List Loc), mS dC dI ac o ad s.heap σ H locs → ∀ (ls : Array Slot), lv_has ls 1 [(0, .ref o)] → W p l e rM_qDropsNots s m args below meth c H locs 0 0 (MQ below (mQv dC dI ac o ad σ') args s 0 0 (mF o ad)) (F0 m 0 ls []) := by
    intro  n
    induction n with
    | zero =>
      intro σ hf
      cases hf
    | succ n ih =>
      intro σ hf H locs hS ls hl
      have hf : M_qDropsNots_b0 N (rn1 (M_qDropsNots_b0 N) n) σ = some ((), σ') := hf
      have hk0 := ih
      generalize rn1 (M_qDropsNots_b0 N) n = k0 at hf hk0
      unfold M_qDropsNots_b0 at hf
      refine lv_aload_n E.1 hb dX6_qDropsNots_0 rfl (lv_at hl 0 rfl) ?_
      refine m_gI (k := 5) E hb hS rfl fl_5 dX6_qDropsNots_1 ?_
      refine lv_if_ne (tgt := 33) E.1 hb dX6_qDropsNots_4 (by decide) (fun hc => ?_) (fun hc => ?_)
      · have hf := if_s hc hf
        exact m_vr E hb hr hlk hS hf dX6_qDropsNots_33
      · have hf := it_s hc hf
        refine lv_aload_n E.1 hb dX6_qDropsNots_7 rfl (lv_at hl 0 rfl) ?_
        refine lv_bipush (v := 12) E.1 hb dX6_qDropsNots_8 rfl ?_
        obtain ⟨r1, h1, hf⟩ := bo_s hf
        refine m_cVi E hb hml hl.1 hS (cmf_qIsOn h1) gw_qIsOn gn_qIsOn rfl rfl (Nat.le_of_ble_eq_true rfl) ⟨Nat.le_of_ble_eq_true rfl, Nat.le_of_ble_eq_true rfl⟩ ⟨Nat.le_refl 0, Nat.le_refl 0⟩ dX6_qDropsNots_10 (fun H locs hS => ?_)
        refine lv_if_eq (tgt := 33) E.1 hb dX6_qDropsNots_13 (by decide) (fun hc => ?_) (fun hc => ?_)
        · have hf := it_s hc hf
          exact m_vr E hb hr hlk hS hf dX6_qDropsNots_33
        · have hf := if_s hc hf
          refine lv_aload_n E.1 hb dX6_qDropsNots_16 rfl (lv_at hl 0 rfl) ?_
          refine lv_dup E.1 hb dX6_qDropsNots_17 rfl ?_
          refine m_gI (k := 98) E hb hS rfl fl_98 dX6_qDropsNots_18 ?_
          refine lv_iconst (v := 1) E.1 hb dX6_qDropsNots_21 rfl ?_
          refine lv_isub E.1 hb dX6_qDropsNots_22 ?_
          obtain ⟨σ2, hw, hf⟩ := lt2_s hf
          refine m_pI (k := 98) E hb hS rfl rfl pf_98 fl_98 hw dX6_qDropsNots_23 (fun H locs hS => ?_)
          refine lv_aload_n E.1 hb dX6_qDropsNots_26 rfl (lv_at hl 0 rfl) ?_
          obtain ⟨_, σ3, h1, hf⟩ := bd_s hf
          refine m_cVv E hb hml hl.1 hS (cmf_qDrops h1) gw_qDrops gn_qDrops rfl rfl (Nat.le_of_ble_eq_true rfl) ⟨Nat.le_of_ble_eq_true rfl, Nat.le_of_ble_eq_true rfl⟩ ⟨Nat.le_refl 0, Nat.le_refl 0⟩ dX6_qDropsNots_27 (fun H locs hS => ?_)
          refine lv_goto (tgt := 0) E.1 hb dX6_qDropsNots_30 (by decide) ?_
          exact hk0 σ3 hf _ _ hS _ (lv_sub hl [0] rfl)
  unfold M_qDropsNots at hf
  exact hL0 N σ hf _ _ hS _ (lv_sub hl [0] rfl)
/-! qHasSquare()Z: RO -/
noncomputable def M_qHasSquare_b2 (N : Nat) (σ : mSt) (k2 : Int32 → Option Int32) (x1 : Int32) : Option Int32 :=
  if (σ.1 97 0) ≤ x1 then (some 0) else (bo (ld 2 σ 96 x1) fun v1 => if v1 = 25 then (some 1) else (k2 (x1 + 1)))
noncomputable def M_qHasSquare (N : Nat) (σ : mSt) : Option Int32 :=
  rn1 (M_qHasSquare_b2 N σ) N 0
theorem gw_qHasSquare : GoodIn lw_all (wsV RX6 629 RX6 yX6_qHasSquare (ws_ yX6_qHasSquare cX6_qHasSquare 2 (some .boolean))) := lw_V q2182 q2184 qs99 q164 q2185
theorem gn_qHasSquare : yX6_qHasSquare.cls = RX6 ∧ yX6_qHasSquare.cls ≠ "java/lang/invoke/MethodHandle" ∧ yX6_qHasSquare.cls ≠ "java/lang/invoke/VarHandle" ∧ (parseMethodDescriptor yX6_qHasSquare.desc).map (fun d => d.parameters.length) = some 0 := by decide +kernel
abbrev rM_qHasSquare : Room := { frames := 0, cells := 0, slots := 0, locals := 0 }
set_option maxHeartbeats 4000000 in
theorem cmf_qHasSquare {l : Launch} {dC : Nat → ClassId} {dI : Nat → Nat → Nat} {ac : Nat → ClassId} {o : Nat} {ad : Nat → Nat} {N : Nat} {σ : mSt} {r : Int32} (hf : M_qHasSquare N σ = some r) : Met l yX6_qHasSquare (ws_ yX6_qHasSquare cX6_qHasSquare 2 (some .boolean)) { frames := 0, cells := 0, slots := 0, locals := 0 } (va_Pc [.ref o] (mPre dC dI ac o ad σ)) (mQi dC dI ac o ad r σ) 0 0 (mF o ad) := by
  refine m_of (by decide) rfl (Nat.le_of_ble_eq_true rfl) ?_
  intro p e s m args below meth c E hb hr hlk hml hS ls hl
  have hl : lv_has ls 2 [(0, .ref o)] := hl
  have hL2 : ∀ (n : Nat) (x1 : Int32), rn1 (M_qHasSquare_b2 N σ) n x1 = some r → ∀ (H : Heap) (locs : List Loc), mS dC dI ac o ad s.heap σ H locs → ∀ (ls : Array Slot), lv_has ls 2 [(0, .ref o), (1, .int x1)] → W p l e rM_qHasSquare s m args below meth c H locs 0 0 (MQ below (mQi dC dI ac o ad r σ) args s 0 0 (mF o ad)) (F0 m 2 ls []) := by
    intro  n
    induction n with
    | zero =>
      intro x1 hf
      cases hf
    | succ n ih =>
      intro x1 hf H locs hS ls hl
      have hf : M_qHasSquare_b2 N σ (rn1 (M_qHasSquare_b2 N σ) n) x1 = some r := hf
      have hk2 := ih
      generalize rn1 (M_qHasSquare_b2 N σ) n = k2 at hf hk2
      unfold M_qHasSquare_b2 at hf
      refine lv_iload_n E.1 hb dX6_qHasSquare_2 rfl (lv_at hl 1 rfl) ?_
      refine lv_aload_n E.1 hb dX6_qHasSquare_3 rfl (lv_at hl 0 rfl) ?_
      refine m_gI (k := 97) E hb hS rfl fl_97 dX6_qHasSquare_4 ?_
      refine lv_icmp_ge (tgt := 29) E.1 hb dX6_qHasSquare_7 (by decide) (fun hc => ?_) (fun hc => ?_)
      · have hf := it_s hc hf
        refine lv_iconst (v := 0) E.1 hb dX6_qHasSquare_29 rfl ?_
        exact m_zrR E hb hr hlk hS rfl hf dX6_qHasSquare_30
      · have hf := if_s hc hf
        refine lv_aload_n E.1 hb dX6_qHasSquare_10 rfl (lv_at hl 0 rfl) ?_
        refine m_gA (k := 96) E hb hS 2 rfl (by decide) fl_96 dX6_qHasSquare_11 ?_
        refine lv_iload_n E.1 hb dX6_qHasSquare_14 rfl (lv_at hl 1 rfl) ?_
        obtain ⟨hg, hf⟩ := ld_s hf
        refine m_ild E hb hS hg dX6_qHasSquare_15 ?_
        refine lv_bipush (v := 25) E.1 hb dX6_qHasSquare_16 rfl ?_
        refine lv_icmp_ne (tgt := 23) E.1 hb dX6_qHasSquare_18 (by decide) (fun hc => ?_) (fun hc => ?_)
        · have hf := if_s hc hf
          refine lv_iinc (v := (x1 + 1)) (lv' := [(1, .int (x1 + 1)), (0, .ref o)]) E.1 hb dX6_qHasSquare_23 hl (k := 1) rfl rfl (by decide) rfl (fun ls hl => ?_)
          refine lv_goto (tgt := 2) E.1 hb dX6_qHasSquare_26 (by decide) ?_
          exact hk2 (x1 + 1) hf _ _ hS _ (lv_sub hl [1, 0] rfl)
        · have hf := it_s hc hf
          refine lv_iconst (v := 1) E.1 hb dX6_qHasSquare_21 rfl ?_
          exact m_zrR E hb hr hlk hS rfl hf dX6_qHasSquare_22
  unfold M_qHasSquare at hf
  refine lv_iconst (v := 0) E.1 hb dX6_qHasSquare_0 rfl ?_
  refine lv_istore_n (lv' := [(1, .int 0), (0, .ref o)]) E.1 hb dX6_qHasSquare_1 rfl hl (by decide) rfl (fun ls hl => ?_)
  exact hL2 N 0 hf _ _ hS _ (lv_sub hl [1, 0] rfl)
/-! qGoesOnTest()Z: RW -/
noncomputable def M_qGoesOnTest_b155 (N : Nat) (k137 : mSt → Option (Int32 × mSt)) (σ : mSt) : Option (Int32 × mSt) :=
  bd (M_qDrops σ) fun _ σ8 => k137 σ8
noncomputable def M_qGoesOnTest_b137 (N : Nat) (k137 : mSt → Option (Int32 × mSt)) (σ : mSt) : Option (Int32 × mSt) :=
  bo (M_qIsOn σ 10) fun r7 => if r7 = 0 then (bo (M_qIsOn σ 11) fun r9 => if r9 = 0 then (bo (stI 2 σ 96 (σ.1 97 0) 11) fun σ10 => lt2 (mUI σ10 97 0 ((σ10.1 97 0) + 1)) fun σ11 => some (1, σ11)) else (M_qGoesOnTest_b155 N k137 σ)) else (M_qGoesOnTest_b155 N k137 σ)
noncomputable def M_qGoesOnTest_b87 (N : Nat) (k87 : mSt → Option (Int32 × mSt)) (σ : mSt) : Option (Int32 × mSt) :=
  bo (M_qIsOn σ 10) fun r12 => if r12 = 0 then (bo (stI 2 σ 96 (σ.1 97 0) 10) fun σ13 => lt2 (mUI σ13 97 0 ((σ13.1 97 0) + 1)) fun σ14 => some (1, σ14)) else (bd (M_qDrops σ) fun _ σ15 => k87 σ15)
noncomputable def M_qGoesOnTest_b76 (N : Nat) (σ : mSt) : Option (Int32 × mSt) :=
  bd (M_takes N σ 79) fun r1 σ2 => if r1 = 0 then (bd (M_takes N σ2 80) fun r3 σ4 => if r3 = 0 then (if (σ4.1 5 0) = 0 then (bo (M_qHasSquare N σ4) fun r5 => if r5 = 0 then (some (0, σ4)) else (bd (M_fail σ4 1 (σ4.1 2 0)) fun _ σ6 => some (0, σ6))) else (some (0, σ4))) else (rn1 (M_qGoesOnTest_b137 N) N σ4)) else (rn1 (M_qGoesOnTest_b87 N) N σ2)
noncomputable def M_qGoesOnTest_b33 (N : Nat) (k0 : mSt → Option (Int32 × mSt)) (k33 : mSt → Option (Int32 × mSt)) (σ : mSt) : Option (Int32 × mSt) :=
  bo (M_qIsOn σ 25) fun r20 => if r20 = 0 then (bd (M_qDrops σ) fun _ σ24 => k33 σ24) else (lt2 (mUI σ 97 0 ((σ.1 97 0) - 1)) fun σ21 => lt2 (mUI σ21 98 0 ((σ21.1 98 0) - 1)) fun σ22 => bd (M_qDropsNots N σ22) fun _ σ23 => k0 σ23)
noncomputable def M_qGoesOnTest_b0 (N : Nat) (k0 : mSt → Option (Int32 × mSt)) (σ : mSt) : Option (Int32 × mSt) :=
  if (σ.1 5 0) = 0 then (bd (M_look N σ) fun r16 σ17 => if r16 = 93 then (bo (M_qHasSquare N σ17) fun r18 => if r18 = 0 then (M_qGoesOnTest_b76 N σ17) else (lt2 (mUI σ17 2 0 ((σ17.1 2 0) + 1)) fun σ19 => rn1 (M_qGoesOnTest_b33 N k0) N σ19)) else (M_qGoesOnTest_b76 N σ17)) else (M_qGoesOnTest_b76 N σ)
noncomputable def M_qGoesOnTest (N : Nat) (σ : mSt) : Option (Int32 × mSt) :=
  rn1 (M_qGoesOnTest_b0 N) N σ
theorem gw_qGoesOnTest : GoodIn lw_all (wsV RX6 626 RX6 yX6_qGoesOnTest (ws_ yX6_qGoesOnTest cX6_qGoesOnTest 1 (some .boolean))) := lw_V q2178 q2180 qs98 q164 q2181
theorem gn_qGoesOnTest : yX6_qGoesOnTest.cls = RX6 ∧ yX6_qGoesOnTest.cls ≠ "java/lang/invoke/MethodHandle" ∧ yX6_qGoesOnTest.cls ≠ "java/lang/invoke/VarHandle" ∧ (parseMethodDescriptor yX6_qGoesOnTest.desc).map (fun d => d.parameters.length) = some 0 := by decide +kernel
abbrev rM_qGoesOnTest : Room := { frames := 3, cells := 0, slots := 0, locals := 64 }
set_option maxHeartbeats 4000000 in
theorem cmf_qGoesOnTest {l : Launch} {dC : Nat → ClassId} {dI : Nat → Nat → Nat} {ac : Nat → ClassId} {o : Nat} {ad : Nat → Nat} {N : Nat} {σ : mSt} {r : Int32} {σ' : mSt} (hf : M_qGoesOnTest N σ = some (r, σ')) : Met l yX6_qGoesOnTest (ws_ yX6_qGoesOnTest cX6_qGoesOnTest 1 (some .boolean)) { frames := 3, cells := 0, slots := 0, locals := 64 } (va_Pc [.ref o] (mPre dC dI ac o ad σ)) (mQi dC dI ac o ad r σ') 0 0 (mF o ad) := by
  refine m_of (by decide) rfl (Nat.le_of_ble_eq_true rfl) ?_
  intro p e s m args below meth c E hb hr hlk hml hS ls hl
  have hl : lv_has ls 1 [(0, .ref o)] := hl
  have hB155 : ∀ (k137 : mSt → Option (Int32 × mSt)) (hk137 : ∀ (σ : mSt), k137 σ = some (r, σ') → ∀ (H : Heap) (locs : List Loc), mS dC dI ac o ad s.heap σ H locs → ∀ (ls : Array Slot), lv_has ls 1 [(0, .ref o)] → W p l e rM_qGoesOnTest s m args below meth c H locs 0 0 (MQ below (mQi dC dI ac o ad r σ') args s 0 0 (mF o ad)) (F0 m 137 ls [])) (σ : mSt), M_qGoesOnTest_b155 N k137 σ = some (r, σ') → ∀ (H : Heap) (locs : List Loc), mS dC dI ac o ad s.heap σ H locs → ∀ (ls : Array Slot), lv_has ls 1 [(0, .ref o)] → W p l e rM_qGoesOnTest s m args below meth c H locs 0 0 (MQ below (mQi dC dI ac o ad r σ') args s 0 0 (mF o ad)) (F0 m 155 ls []) := by
    intro k137 hk137 σ hf H locs hS ls hl
    unfold M_qGoesOnTest_b155 at hf
    refine lv_aload_n E.1 hb dX6_qGoesOnTest_155 rfl (lv_at hl 0 rfl) ?_
    obtain ⟨_, σ8, h1, hf⟩ := bd_s hf
    refine m_cVv E hb hml hl.1 hS (cmf_qDrops h1) gw_qDrops gn_qDrops rfl rfl (Nat.le_of_ble_eq_true rfl) ⟨Nat.le_of_ble_eq_true rfl, Nat.le_of_ble_eq_true rfl⟩ ⟨Nat.le_refl 0, Nat.le_refl 0⟩ dX6_qGoesOnTest_156 (fun H locs hS => ?_)
    refine lv_goto (tgt := 137) E.1 hb dX6_qGoesOnTest_159 (by decide) ?_
    exact hk137 σ8 hf _ _ hS _ (lv_sub hl [0] rfl)
  have hL137 : ∀ (n : Nat) (σ : mSt), rn1 (M_qGoesOnTest_b137 N) n σ = some (r, σ') → ∀ (H : Heap) (locs : List Loc), mS dC dI ac o ad s.heap σ H locs → ∀ (ls : Array Slot), lv_has ls 1 [(0, .ref o)] → W p l e rM_qGoesOnTest s m args below meth c H locs 0 0 (MQ below (mQi dC dI ac o ad r σ') args s 0 0 (mF o ad)) (F0 m 137 ls []) := by
    intro  n
    induction n with
    | zero =>
      intro σ hf
      cases hf
    | succ n ih =>
      intro σ hf H locs hS ls hl
      have hf : M_qGoesOnTest_b137 N (rn1 (M_qGoesOnTest_b137 N) n) σ = some (r, σ') := hf
      have hk137 := ih
      generalize rn1 (M_qGoesOnTest_b137 N) n = k137 at hf hk137
      unfold M_qGoesOnTest_b137 at hf
      refine lv_aload_n E.1 hb dX6_qGoesOnTest_137 rfl (lv_at hl 0 rfl) ?_
      refine lv_bipush (v := 10) E.1 hb dX6_qGoesOnTest_138 rfl ?_
      obtain ⟨r7, h1, hf⟩ := bo_s hf
      refine m_cVi E hb hml hl.1 hS (cmf_qIsOn h1) gw_qIsOn gn_qIsOn rfl rfl (Nat.le_of_ble_eq_true rfl) ⟨Nat.le_of_ble_eq_true rfl, Nat.le_of_ble_eq_true rfl⟩ ⟨Nat.le_refl 0, Nat.le_refl 0⟩ dX6_qGoesOnTest_140 (fun H locs hS => ?_)
      refine lv_if_ne (tgt := 155) E.1 hb dX6_qGoesOnTest_143 (by decide) (fun hc => ?_) (fun hc => ?_)
      · have hf := if_s hc hf
        exact hB155 k137 hk137 σ hf _ _ hS _ (lv_sub hl [0] rfl)
      · have hf := it_s hc hf
        refine lv_aload_n E.1 hb dX6_qGoesOnTest_146 rfl (lv_at hl 0 rfl) ?_
        refine lv_bipush (v := 11) E.1 hb dX6_qGoesOnTest_147 rfl ?_
        obtain ⟨r9, h1, hf⟩ := bo_s hf
        refine m_cVi E hb hml hl.1 hS (cmf_qIsOn h1) gw_qIsOn gn_qIsOn rfl rfl (Nat.le_of_ble_eq_true rfl) ⟨Nat.le_of_ble_eq_true rfl, Nat.le_of_ble_eq_true rfl⟩ ⟨Nat.le_refl 0, Nat.le_refl 0⟩ dX6_qGoesOnTest_149 (fun H locs hS => ?_)
        refine lv_if_eq (tgt := 162) E.1 hb dX6_qGoesOnTest_152 (by decide) (fun hc => ?_) (fun hc => ?_)
        · have hf := it_s hc hf
          refine lv_aload_n E.1 hb dX6_qGoesOnTest_162 rfl (lv_at hl 0 rfl) ?_
          refine m_gA (k := 96) E hb hS 2 rfl (by decide) fl_96 dX6_qGoesOnTest_163 ?_
          refine lv_aload_n E.1 hb dX6_qGoesOnTest_166 rfl (lv_at hl 0 rfl) ?_
          refine m_gI (k := 97) E hb hS rfl fl_97 dX6_qGoesOnTest_167 ?_
          refine lv_bipush (v := 11) E.1 hb dX6_qGoesOnTest_170 rfl ?_
          obtain ⟨σ10, hg, hw, hf⟩ := st_s hf
          refine m_ist E hb hS hg hw dX6_qGoesOnTest_172 (fun H locs hS => ?_)
          refine lv_aload_n E.1 hb dX6_qGoesOnTest_173 rfl (lv_at hl 0 rfl) ?_
          refine lv_dup E.1 hb dX6_qGoesOnTest_174 rfl ?_
          refine m_gI (k := 97) E hb hS rfl fl_97 dX6_qGoesOnTest_175 ?_
          refine lv_iconst (v := 1) E.1 hb dX6_qGoesOnTest_178 rfl ?_
          refine lv_iadd E.1 hb dX6_qGoesOnTest_179 ?_
          obtain ⟨σ11, hw, hf⟩ := lt2_s hf
          refine m_pI (k := 97) E hb hS rfl rfl pf_97 fl_97 hw dX6_qGoesOnTest_180 (fun H locs hS => ?_)
          refine lv_iconst (v := 1) E.1 hb dX6_qGoesOnTest_183 rfl ?_
          exact m_zr E hb hr hlk hS rfl hf dX6_qGoesOnTest_184
        · have hf := if_s hc hf
          exact hB155 k137 hk137 σ hf _ _ hS _ (lv_sub hl [0] rfl)
  have hL87 : ∀ (n : Nat) (σ : mSt), rn1 (M_qGoesOnTest_b87 N) n σ = some (r, σ') → ∀ (H : Heap) (locs : List Loc), mS dC dI ac o ad s.heap σ H locs → ∀ (ls : Array Slot), lv_has ls 1 [(0, .ref o)] → W p l e rM_qGoesOnTest s m args below meth c H locs 0 0 (MQ below (mQi dC dI ac o ad r σ') args s 0 0 (mF o ad)) (F0 m 87 ls []) := by
    intro  n
    induction n with
    | zero =>
      intro σ hf
      cases hf
    | succ n ih =>
      intro σ hf H locs hS ls hl
      have hf : M_qGoesOnTest_b87 N (rn1 (M_qGoesOnTest_b87 N) n) σ = some (r, σ') := hf
      have hk87 := ih
      generalize rn1 (M_qGoesOnTest_b87 N) n = k87 at hf hk87
      unfold M_qGoesOnTest_b87 at hf
      refine lv_aload_n E.1 hb dX6_qGoesOnTest_87 rfl (lv_at hl 0 rfl) ?_
      refine lv_bipush (v := 10) E.1 hb dX6_qGoesOnTest_88 rfl ?_
      obtain ⟨r12, h1, hf⟩ := bo_s hf
      refine m_cVi E hb hml hl.1 hS (cmf_qIsOn h1) gw_qIsOn gn_qIsOn rfl rfl (Nat.le_of_ble_eq_true rfl) ⟨Nat.le_of_ble_eq_true rfl, Nat.le_of_ble_eq_true rfl⟩ ⟨Nat.le_refl 0, Nat.le_refl 0⟩ dX6_qGoesOnTest_90 (fun H locs hS => ?_)
      refine lv_if_eq (tgt := 103) E.1 hb dX6_qGoesOnTest_93 (by decide) (fun hc => ?_) (fun hc => ?_)
      · have hf := it_s hc hf
        refine lv_aload_n E.1 hb dX6_qGoesOnTest_103 rfl (lv_at hl 0 rfl) ?_
        refine m_gA (k := 96) E hb hS 2 rfl (by decide) fl_96 dX6_qGoesOnTest_104 ?_
        refine lv_aload_n E.1 hb dX6_qGoesOnTest_107 rfl (lv_at hl 0 rfl) ?_
        refine m_gI (k := 97) E hb hS rfl fl_97 dX6_qGoesOnTest_108 ?_
        refine lv_bipush (v := 10) E.1 hb dX6_qGoesOnTest_111 rfl ?_
        obtain ⟨σ13, hg, hw, hf⟩ := st_s hf
        refine m_ist E hb hS hg hw dX6_qGoesOnTest_113 (fun H locs hS => ?_)
        refine lv_aload_n E.1 hb dX6_qGoesOnTest_114 rfl (lv_at hl 0 rfl) ?_
        refine lv_dup E.1 hb dX6_qGoesOnTest_115 rfl ?_
        refine m_gI (k := 97) E hb hS rfl fl_97 dX6_qGoesOnTest_116 ?_
        refine lv_iconst (v := 1) E.1 hb dX6_qGoesOnTest_119 rfl ?_
        refine lv_iadd E.1 hb dX6_qGoesOnTest_120 ?_
        obtain ⟨σ14, hw, hf⟩ := lt2_s hf
        refine m_pI (k := 97) E hb hS rfl rfl pf_97 fl_97 hw dX6_qGoesOnTest_121 (fun H locs hS => ?_)
        refine lv_iconst (v := 1) E.1 hb dX6_qGoesOnTest_124 rfl ?_
        exact m_zr E hb hr hlk hS rfl hf dX6_qGoesOnTest_125
      · have hf := if_s hc hf
        refine lv_aload_n E.1 hb dX6_qGoesOnTest_96 rfl (lv_at hl 0 rfl) ?_
        obtain ⟨_, σ15, h1, hf⟩ := bd_s hf
        refine m_cVv E hb hml hl.1 hS (cmf_qDrops h1) gw_qDrops gn_qDrops rfl rfl (Nat.le_of_ble_eq_true rfl) ⟨Nat.le_of_ble_eq_true rfl, Nat.le_of_ble_eq_true rfl⟩ ⟨Nat.le_refl 0, Nat.le_refl 0⟩ dX6_qGoesOnTest_97 (fun H locs hS => ?_)
        refine lv_goto (tgt := 87) E.1 hb dX6_qGoesOnTest_100 (by decide) ?_
        exact hk87 σ15 hf _ _ hS _ (lv_sub hl [0] rfl)
  have hB76 : ∀ (σ : mSt), M_qGoesOnTest_b76 N σ = some (r, σ') → ∀ (H : Heap) (locs : List Loc), mS dC dI ac o ad s.heap σ H locs → ∀ (ls : Array Slot), lv_has ls 1 [(0, .ref o)] → W p l e rM_qGoesOnTest s m args below meth c H locs 0 0 (MQ below (mQi dC dI ac o ad r σ') args s 0 0 (mF o ad)) (F0 m 76 ls []) := by
    intro σ hf H locs hS ls hl
    unfold M_qGoesOnTest_b76 at hf
    refine lv_aload_n E.1 hb dX6_qGoesOnTest_76 rfl (lv_at hl 0 rfl) ?_
    refine lv_aload_n E.1 hb dX6_qGoesOnTest_77 rfl (lv_at hl 0 rfl) ?_
    refine m_gA (k := 79) E hb hS 4 rfl (by decide) fl_79 dX6_qGoesOnTest_78 ?_
    obtain ⟨r1, σ2, h1, hf⟩ := bd_s hf
    refine m_cVi E hb hml hl.1 hS (cmf_takes h1) gw_takes gn_takes rfl rfl (Nat.le_of_ble_eq_true rfl) ⟨Nat.le_of_ble_eq_true rfl, Nat.le_of_ble_eq_true rfl⟩ ⟨Nat.le_refl 0, Nat.le_refl 0⟩ dX6_qGoesOnTest_81 (fun H locs hS => ?_)
    refine lv_if_eq (tgt := 126) E.1 hb dX6_qGoesOnTest_84 (by decide) (fun hc => ?_) (fun hc => ?_)
    · have hf := it_s hc hf
      refine lv_aload_n E.1 hb dX6_qGoesOnTest_126 rfl (lv_at hl 0 rfl) ?_
      refine lv_aload_n E.1 hb dX6_qGoesOnTest_127 rfl (lv_at hl 0 rfl) ?_
      refine m_gA (k := 80) E hb hS 4 rfl (by decide) fl_80 dX6_qGoesOnTest_128 ?_
      obtain ⟨r3, σ4, h1, hf⟩ := bd_s hf
      refine m_cVi E hb hml hl.1 hS (cmf_takes h1) gw_takes gn_takes rfl rfl (Nat.le_of_ble_eq_true rfl) ⟨Nat.le_of_ble_eq_true rfl, Nat.le_of_ble_eq_true rfl⟩ ⟨Nat.le_refl 0, Nat.le_refl 0⟩ dX6_qGoesOnTest_131 (fun H locs hS => ?_)
      refine lv_if_eq (tgt := 185) E.1 hb dX6_qGoesOnTest_134 (by decide) (fun hc => ?_) (fun hc => ?_)
      · have hf := it_s hc hf
        refine lv_aload_n E.1 hb dX6_qGoesOnTest_185 rfl (lv_at hl 0 rfl) ?_
        refine m_gI (k := 5) E hb hS rfl fl_5 dX6_qGoesOnTest_186 ?_
        refine lv_if_ne (tgt := 208) E.1 hb dX6_qGoesOnTest_189 (by decide) (fun hc => ?_) (fun hc => ?_)
        · have hf := if_s hc hf
          refine lv_iconst (v := 0) E.1 hb dX6_qGoesOnTest_208 rfl ?_
          exact m_zr E hb hr hlk hS rfl hf dX6_qGoesOnTest_209
        · have hf := it_s hc hf
          refine lv_aload_n E.1 hb dX6_qGoesOnTest_192 rfl (lv_at hl 0 rfl) ?_
          obtain ⟨r5, h1, hf⟩ := bo_s hf
          refine m_cVi E hb hml hl.1 hS (cmf_qHasSquare h1) gw_qHasSquare gn_qHasSquare rfl rfl (Nat.le_of_ble_eq_true rfl) ⟨Nat.le_of_ble_eq_true rfl, Nat.le_of_ble_eq_true rfl⟩ ⟨Nat.le_refl 0, Nat.le_refl 0⟩ dX6_qGoesOnTest_193 (fun H locs hS => ?_)
          refine lv_if_eq (tgt := 208) E.1 hb dX6_qGoesOnTest_196 (by decide) (fun hc => ?_) (fun hc => ?_)
          · have hf := it_s hc hf
            refine lv_iconst (v := 0) E.1 hb dX6_qGoesOnTest_208 rfl ?_
            exact m_zr E hb hr hlk hS rfl hf dX6_qGoesOnTest_209
          · have hf := if_s hc hf
            refine lv_aload_n E.1 hb dX6_qGoesOnTest_199 rfl (lv_at hl 0 rfl) ?_
            refine lv_iconst (v := 1) E.1 hb dX6_qGoesOnTest_200 rfl ?_
            refine lv_aload_n E.1 hb dX6_qGoesOnTest_201 rfl (lv_at hl 0 rfl) ?_
            refine m_gI (k := 2) E hb hS rfl fl_2 dX6_qGoesOnTest_202 ?_
            obtain ⟨_, σ6, h1, hf⟩ := bd_s hf
            refine m_cVv E hb hml hl.1 hS (cmf_fail h1) gw_fail gn_fail rfl rfl (Nat.le_of_ble_eq_true rfl) ⟨Nat.le_of_ble_eq_true rfl, Nat.le_of_ble_eq_true rfl⟩ ⟨Nat.le_refl 0, Nat.le_refl 0⟩ dX6_qGoesOnTest_205 (fun H locs hS => ?_)
            refine lv_iconst (v := 0) E.1 hb dX6_qGoesOnTest_208 rfl ?_
            exact m_zr E hb hr hlk hS rfl hf dX6_qGoesOnTest_209
      · have hf := if_s hc hf
        exact hL137 N σ4 hf _ _ hS _ (lv_sub hl [0] rfl)
    · have hf := if_s hc hf
      exact hL87 N σ2 hf _ _ hS _ (lv_sub hl [0] rfl)
  have hL33 : ∀ (k0 : mSt → Option (Int32 × mSt)) (hk0 : ∀ (σ : mSt), k0 σ = some (r, σ') → ∀ (H : Heap) (locs : List Loc), mS dC dI ac o ad s.heap σ H locs → ∀ (ls : Array Slot), lv_has ls 1 [(0, .ref o)] → W p l e rM_qGoesOnTest s m args below meth c H locs 0 0 (MQ below (mQi dC dI ac o ad r σ') args s 0 0 (mF o ad)) (F0 m 0 ls [])) (n : Nat) (σ : mSt), rn1 (M_qGoesOnTest_b33 N k0) n σ = some (r, σ') → ∀ (H : Heap) (locs : List Loc), mS dC dI ac o ad s.heap σ H locs → ∀ (ls : Array Slot), lv_has ls 1 [(0, .ref o)] → W p l e rM_qGoesOnTest s m args below meth c H locs 0 0 (MQ below (mQi dC dI ac o ad r σ') args s 0 0 (mF o ad)) (F0 m 33 ls []) := by
    intro k0 hk0 n
    induction n with
    | zero =>
      intro σ hf
      cases hf
    | succ n ih =>
      intro σ hf H locs hS ls hl
      have hf : M_qGoesOnTest_b33 N k0 (rn1 (M_qGoesOnTest_b33 N k0) n) σ = some (r, σ') := hf
      have hk33 := ih
      generalize rn1 (M_qGoesOnTest_b33 N k0) n = k33 at hf hk33
      unfold M_qGoesOnTest_b33 at hf
      refine lv_aload_n E.1 hb dX6_qGoesOnTest_33 rfl (lv_at hl 0 rfl) ?_
      refine lv_bipush (v := 25) E.1 hb dX6_qGoesOnTest_34 rfl ?_
      obtain ⟨r20, h1, hf⟩ := bo_s hf
      refine m_cVi E hb hml hl.1 hS (cmf_qIsOn h1) gw_qIsOn gn_qIsOn rfl rfl (Nat.le_of_ble_eq_true rfl) ⟨Nat.le_of_ble_eq_true rfl, Nat.le_of_ble_eq_true rfl⟩ ⟨Nat.le_refl 0, Nat.le_refl 0⟩ dX6_qGoesOnTest_36 (fun H locs hS => ?_)
      refine lv_if_ne (tgt := 49) E.1 hb dX6_qGoesOnTest_39 (by decide) (fun hc => ?_) (fun hc => ?_)
      · have hf := if_s hc hf
        refine lv_aload_n E.1 hb dX6_qGoesOnTest_49 rfl (lv_at hl 0 rfl) ?_
        refine lv_dup E.1 hb dX6_qGoesOnTest_50 rfl ?_
        refine m_gI (k := 97) E hb hS rfl fl_97 dX6_qGoesOnTest_51 ?_
        refine lv_iconst (v := 1) E.1 hb dX6_qGoesOnTest_54 rfl ?_
        refine lv_isub E.1 hb dX6_qGoesOnTest_55 ?_
        obtain ⟨σ21, hw, hf⟩ := lt2_s hf
        refine m_pI (k := 97) E hb hS rfl rfl pf_97 fl_97 hw dX6_qGoesOnTest_56 (fun H locs hS => ?_)
        refine lv_aload_n E.1 hb dX6_qGoesOnTest_59 rfl (lv_at hl 0 rfl) ?_
        refine lv_dup E.1 hb dX6_qGoesOnTest_60 rfl ?_
        refine m_gI (k := 98) E hb hS rfl fl_98 dX6_qGoesOnTest_61 ?_
        refine lv_iconst (v := 1) E.1 hb dX6_qGoesOnTest_64 rfl ?_
        refine lv_isub E.1 hb dX6_qGoesOnTest_65 ?_
        obtain ⟨σ22, hw, hf⟩ := lt2_s hf
        refine m_pI (k := 98) E hb hS rfl rfl pf_98 fl_98 hw dX6_qGoesOnTest_66 (fun H locs hS => ?_)
        refine lv_aload_n E.1 hb dX6_qGoesOnTest_69 rfl (lv_at hl 0 rfl) ?_
        obtain ⟨_, σ23, h1, hf⟩ := bd_s hf
        refine m_cVv E hb hml hl.1 hS (cmf_qDropsNots h1) gw_qDropsNots gn_qDropsNots rfl rfl (Nat.le_of_ble_eq_true rfl) ⟨Nat.le_of_ble_eq_true rfl, Nat.le_of_ble_eq_true rfl⟩ ⟨Nat.le_refl 0, Nat.le_refl 0⟩ dX6_qGoesOnTest_70 (fun H locs hS => ?_)
        refine lv_goto (tgt := 0) E.1 hb dX6_qGoesOnTest_73 (by decide) ?_
        exact hk0 σ23 hf _ _ hS _ (lv_sub hl [0] rfl)
      · have hf := it_s hc hf
        refine lv_aload_n E.1 hb dX6_qGoesOnTest_42 rfl (lv_at hl 0 rfl) ?_
        obtain ⟨_, σ24, h1, hf⟩ := bd_s hf
        refine m_cVv E hb hml hl.1 hS (cmf_qDrops h1) gw_qDrops gn_qDrops rfl rfl (Nat.le_of_ble_eq_true rfl) ⟨Nat.le_of_ble_eq_true rfl, Nat.le_of_ble_eq_true rfl⟩ ⟨Nat.le_refl 0, Nat.le_refl 0⟩ dX6_qGoesOnTest_43 (fun H locs hS => ?_)
        refine lv_goto (tgt := 33) E.1 hb dX6_qGoesOnTest_46 (by decide) ?_
        exact hk33 σ24 hf _ _ hS _ (lv_sub hl [0] rfl)
  have hL0 : ∀ (n : Nat) (σ : mSt), rn1 (M_qGoesOnTest_b0 N) n σ = some (r, σ') → ∀ (H : Heap) (locs : List Loc), mS dC dI ac o ad s.heap σ H locs → ∀ (ls : Array Slot), lv_has ls 1 [(0, .ref o)] → W p l e rM_qGoesOnTest s m args below meth c H locs 0 0 (MQ below (mQi dC dI ac o ad r σ') args s 0 0 (mF o ad)) (F0 m 0 ls []) := by
    intro  n
    induction n with
    | zero =>
      intro σ hf
      cases hf
    | succ n ih =>
      intro σ hf H locs hS ls hl
      have hf : M_qGoesOnTest_b0 N (rn1 (M_qGoesOnTest_b0 N) n) σ = some (r, σ') := hf
      have hk0 := ih
      generalize rn1 (M_qGoesOnTest_b0 N) n = k0 at hf hk0
      unfold M_qGoesOnTest_b0 at hf
      refine lv_aload_n E.1 hb dX6_qGoesOnTest_0 rfl (lv_at hl 0 rfl) ?_
      refine m_gI (k := 5) E hb hS rfl fl_5 dX6_qGoesOnTest_1 ?_
      refine lv_if_ne (tgt := 76) E.1 hb dX6_qGoesOnTest_4 (by decide) (fun hc => ?_) (fun hc => ?_)
      · have hf := if_s hc hf
        exact hB76 σ hf _ _ hS _ (lv_sub hl [0] rfl)
      · have hf := it_s hc hf
        refine lv_aload_n E.1 hb dX6_qGoesOnTest_7 rfl (lv_at hl 0 rfl) ?_
        obtain ⟨r16, σ17, h1, hf⟩ := bd_s hf
        refine m_cVi E hb hml hl.1 hS (cmf_look h1) gw_look gn_look rfl rfl (Nat.le_of_ble_eq_true rfl) ⟨Nat.le_of_ble_eq_true rfl, Nat.le_of_ble_eq_true rfl⟩ ⟨Nat.le_refl 0, Nat.le_refl 0⟩ dX6_qGoesOnTest_8 (fun H locs hS => ?_)
        refine lv_bipush (v := 93) E.1 hb dX6_qGoesOnTest_11 rfl ?_
        refine lv_icmp_ne (tgt := 76) E.1 hb dX6_qGoesOnTest_13 (by decide) (fun hc => ?_) (fun hc => ?_)
        · have hf := if_s hc hf
          exact hB76 σ17 hf _ _ hS _ (lv_sub hl [0] rfl)
        · have hf := it_s hc hf
          refine lv_aload_n E.1 hb dX6_qGoesOnTest_16 rfl (lv_at hl 0 rfl) ?_
          obtain ⟨r18, h1, hf⟩ := bo_s hf
          refine m_cVi E hb hml hl.1 hS (cmf_qHasSquare h1) gw_qHasSquare gn_qHasSquare rfl rfl (Nat.le_of_ble_eq_true rfl) ⟨Nat.le_of_ble_eq_true rfl, Nat.le_of_ble_eq_true rfl⟩ ⟨Nat.le_refl 0, Nat.le_refl 0⟩ dX6_qGoesOnTest_17 (fun H locs hS => ?_)
          refine lv_if_eq (tgt := 76) E.1 hb dX6_qGoesOnTest_20 (by decide) (fun hc => ?_) (fun hc => ?_)
          · have hf := it_s hc hf
            exact hB76 σ17 hf _ _ hS _ (lv_sub hl [0] rfl)
          · have hf := if_s hc hf
            refine lv_aload_n E.1 hb dX6_qGoesOnTest_23 rfl (lv_at hl 0 rfl) ?_
            refine lv_dup E.1 hb dX6_qGoesOnTest_24 rfl ?_
            refine m_gI (k := 2) E hb hS rfl fl_2 dX6_qGoesOnTest_25 ?_
            refine lv_iconst (v := 1) E.1 hb dX6_qGoesOnTest_28 rfl ?_
            refine lv_iadd E.1 hb dX6_qGoesOnTest_29 ?_
            obtain ⟨σ19, hw, hf⟩ := lt2_s hf
            refine m_pI (k := 2) E hb hS rfl rfl pf_2 fl_2 hw dX6_qGoesOnTest_30 (fun H locs hS => ?_)
            exact hL33 k0 hk0 N σ19 hf _ _ hS _ (lv_sub hl [0] rfl)
  unfold M_qGoesOnTest at hf
  exact hL0 N σ hf _ _ hS _ (lv_sub hl [0] rfl)
/-! qTest()V: RW -/
noncomputable def M_qTest_b110 (N : Nat) (k110 : mSt → Option (Unit × mSt)) (σ : mSt) : Option (Unit × mSt) :=
  if (σ.1 5 0) = 0 then (if (σ.1 97 0) ≤ 0 then (some ((), σ)) else (bd (M_qDrops σ) fun _ σ1 => k110 σ1)) else (some ((), σ))
noncomputable def M_qTest_b106 (N : Nat) (k2 : mSt → Int32 → Option (Unit × mSt)) (σ : mSt) (y0 : Int32) : Option (Unit × mSt) :=
  k2 σ y0
noncomputable def M_qTest_b105 (N : Nat) (k2 : mSt → Int32 → Option (Unit × mSt)) (σ : mSt) : Option (Unit × mSt) :=
  M_qTest_b106 N k2 σ 0
noncomputable def M_qTest_b2 (N : Nat) (k2 : mSt → Int32 → Option (Unit × mSt)) (σ : mSt) (x1 : Int32) : Option (Unit × mSt) :=
  if x1 = 0 then (rn1 (M_qTest_b110 N) N σ) else (if (σ.1 5 0) = 0 then (bd (M_look N σ) fun r2 σ3 => if r2 = 91 then (bd (M_qOpens σ3 25 (σ3.1 2 0)) fun _ σ12 => lt2 (mUI σ12 2 0 ((σ12.1 2 0) + 1)) fun σ13 => k2 σ13 x1) else (bd (M_isHere N σ3 78) fun r4 σ5 => if r4 = 0 then (bd (M_qFact N σ5) fun _ σ6 => bd (M_qDropsNots N σ6) fun _ σ7 => if (σ7.1 5 0) = 0 then (bd (M_qGoesOnTest N σ7) fun r8 σ9 => if r8 = 0 then (M_qTest_b105 N k2 σ9) else (M_qTest_b106 N k2 σ9 1)) else (M_qTest_b105 N k2 σ7)) else (bd (M_qOpens σ5 12 (σ5.1 2 0)) fun _ σ10 => bd (M_asks N σ10 78) fun _ σ11 => k2 σ11 x1))) else (rn1 (M_qTest_b110 N) N σ))
noncomputable def M_qTest (N : Nat) (σ : mSt) : Option (Unit × mSt) :=
  rn2 (M_qTest_b2 N) N σ 1
theorem gw_qTest : GoodIn lw_all (wsV RX6 350 RX6 yX6_qTest (ws_ yX6_qTest cX6_qTest 3 none)) := lw_V q2107 q2109 qs81 q164 q2110
theorem gn_qTest : yX6_qTest.cls = RX6 ∧ yX6_qTest.cls ≠ "java/lang/invoke/MethodHandle" ∧ yX6_qTest.cls ≠ "java/lang/invoke/VarHandle" ∧ (parseMethodDescriptor yX6_qTest.desc).map (fun d => d.parameters.length) = some 0 := by decide +kernel
abbrev rM_qTest : Room := { frames := 8, cells := 0, slots := 0, locals := 174 }
set_option maxHeartbeats 4000000 in
theorem cmf_qTest {l : Launch} {dC : Nat → ClassId} {dI : Nat → Nat → Nat} {ac : Nat → ClassId} {o : Nat} {ad : Nat → Nat} {N : Nat} {σ : mSt} {σ' : mSt} (hf : M_qTest N σ = some ((), σ')) : Met l yX6_qTest (ws_ yX6_qTest cX6_qTest 3 none) { frames := 8, cells := 0, slots := 0, locals := 174 } (va_Pc [.ref o] (mPre dC dI ac o ad σ)) (mQv dC dI ac o ad σ') 0 0 (mF o ad) := by
  refine m_of (by decide) rfl (Nat.le_of_ble_eq_true rfl) ?_
  intro p e s m args below meth c E hb hr hlk hml hS ls hl
  have hl : lv_has ls 3 [(0, .ref o)] := hl
  have hL110 : ∀ (n : Nat) (σ : mSt), rn1 (M_qTest_b110 N) n σ = some ((), σ') → ∀ (H : Heap) (locs : List Loc), mS dC dI ac o ad s.heap σ H locs → ∀ (ls : Array Slot), lv_has ls 3 [(0, .ref o)] → W p l e rM_qTest s m args below meth c H locs 0 0 (MQ below (mQv dC dI ac o ad σ') args s 0 0 (mF o ad)) (F0 m 110 ls []) := by
    intro  n
    induction n with
    | zero =>
      intro σ hf
      cases hf
    | succ n ih =>
      intro σ hf H locs hS ls hl
      have hf : M_qTest_b110 N (rn1 (M_qTest_b110 N) n) σ = some ((), σ') := hf
      have hk110 := ih
      generalize rn1 (M_qTest_b110 N) n = k110 at hf hk110
      unfold M_qTest_b110 at hf
      refine lv_aload_n E.1 hb dX6_qTest_110 rfl (lv_at hl 0 rfl) ?_
      refine m_gI (k := 5) E hb hS rfl fl_5 dX6_qTest_111 ?_
      refine lv_if_ne (tgt := 131) E.1 hb dX6_qTest_114 (by decide) (fun hc => ?_) (fun hc => ?_)
      · have hf := if_s hc hf
        exact m_vr E hb hr hlk hS hf dX6_qTest_131
      · have hf := it_s hc hf
        refine lv_aload_n E.1 hb dX6_qTest_117 rfl (lv_at hl 0 rfl) ?_
        refine m_gI (k := 97) E hb hS rfl fl_97 dX6_qTest_118 ?_
        refine lv_if_le (tgt := 131) E.1 hb dX6_qTest_121 (by decide) (fun hc => ?_) (fun hc => ?_)
        · have hf := it_s hc hf
          exact m_vr E hb hr hlk hS hf dX6_qTest_131
        · have hf := if_s hc hf
          refine lv_aload_n E.1 hb dX6_qTest_124 rfl (lv_at hl 0 rfl) ?_
          obtain ⟨_, σ1, h1, hf⟩ := bd_s hf
          refine m_cVv E hb hml hl.1 hS (cmf_qDrops h1) gw_qDrops gn_qDrops rfl rfl (Nat.le_of_ble_eq_true rfl) ⟨Nat.le_of_ble_eq_true rfl, Nat.le_of_ble_eq_true rfl⟩ ⟨Nat.le_refl 0, Nat.le_refl 0⟩ dX6_qTest_125 (fun H locs hS => ?_)
          refine lv_goto (tgt := 110) E.1 hb dX6_qTest_128 (by decide) ?_
          exact hk110 σ1 hf _ _ hS _ (lv_sub hl [0] rfl)
  have hB106 : ∀ (k2 : mSt → Int32 → Option (Unit × mSt)) (hk2 : ∀ (σ : mSt) (x1 : Int32), k2 σ x1 = some ((), σ') → ∀ (H : Heap) (locs : List Loc), mS dC dI ac o ad s.heap σ H locs → ∀ (ls : Array Slot), lv_has ls 3 [(0, .ref o), (1, .int x1)] → W p l e rM_qTest s m args below meth c H locs 0 0 (MQ below (mQv dC dI ac o ad σ') args s 0 0 (mF o ad)) (F0 m 2 ls [])) (σ : mSt) (y0 : Int32), M_qTest_b106 N k2 σ y0 = some ((), σ') → ∀ (H : Heap) (locs : List Loc), mS dC dI ac o ad s.heap σ H locs → ∀ (ls : Array Slot), lv_has ls 3 [(0, .ref o)] → W p l e rM_qTest s m args below meth c H locs 0 0 (MQ below (mQv dC dI ac o ad σ') args s 0 0 (mF o ad)) (F0 m 106 ls [.int y0]) := by
    intro k2 hk2 σ y0 hf H locs hS ls hl
    unfold M_qTest_b106 at hf
    refine lv_istore_n (lv' := [(1, .int y0), (0, .ref o)]) E.1 hb dX6_qTest_106 rfl hl (by decide) rfl (fun ls hl => ?_)
    refine lv_goto (tgt := 2) E.1 hb dX6_qTest_107 (by decide) ?_
    exact hk2 σ y0 hf _ _ hS _ (lv_sub hl [1, 0] rfl)
  have hB105 : ∀ (k2 : mSt → Int32 → Option (Unit × mSt)) (hk2 : ∀ (σ : mSt) (x1 : Int32), k2 σ x1 = some ((), σ') → ∀ (H : Heap) (locs : List Loc), mS dC dI ac o ad s.heap σ H locs → ∀ (ls : Array Slot), lv_has ls 3 [(0, .ref o), (1, .int x1)] → W p l e rM_qTest s m args below meth c H locs 0 0 (MQ below (mQv dC dI ac o ad σ') args s 0 0 (mF o ad)) (F0 m 2 ls [])) (σ : mSt), M_qTest_b105 N k2 σ = some ((), σ') → ∀ (H : Heap) (locs : List Loc), mS dC dI ac o ad s.heap σ H locs → ∀ (ls : Array Slot), lv_has ls 3 [(0, .ref o)] → W p l e rM_qTest s m args below meth c H locs 0 0 (MQ below (mQv dC dI ac o ad σ') args s 0 0 (mF o ad)) (F0 m 105 ls []) := by
    intro k2 hk2 σ hf H locs hS ls hl
    unfold M_qTest_b105 at hf
    refine lv_iconst (v := 0) E.1 hb dX6_qTest_105 rfl ?_
    exact hB106 k2 hk2 σ 0 hf _ _ hS _ (lv_sub hl [0] rfl)
  have hL2 : ∀ (n : Nat) (σ : mSt) (x1 : Int32), rn2 (M_qTest_b2 N) n σ x1 = some ((), σ') → ∀ (H : Heap) (locs : List Loc), mS dC dI ac o ad s.heap σ H locs → ∀ (ls : Array Slot), lv_has ls 3 [(0, .ref o), (1, .int x1)] → W p l e rM_qTest s m args below meth c H locs 0 0 (MQ below (mQv dC dI ac o ad σ') args s 0 0 (mF o ad)) (F0 m 2 ls []) := by
    intro  n
    induction n with
    | zero =>
      intro σ x1 hf
      cases hf
    | succ n ih =>
      intro σ x1 hf H locs hS ls hl
      have hf : M_qTest_b2 N (rn2 (M_qTest_b2 N) n) σ x1 = some ((), σ') := hf
      have hk2 := ih
      generalize rn2 (M_qTest_b2 N) n = k2 at hf hk2
      unfold M_qTest_b2 at hf
      refine lv_iload_n E.1 hb dX6_qTest_2 rfl (lv_at hl 1 rfl) ?_
      refine lv_if_eq (tgt := 110) E.1 hb dX6_qTest_3 (by decide) (fun hc => ?_) (fun hc => ?_)
      · have hf := it_s hc hf
        exact hL110 N σ hf _ _ hS _ (lv_sub hl [0] rfl)
      · have hf := if_s hc hf
        refine lv_aload_n E.1 hb dX6_qTest_6 rfl (lv_at hl 0 rfl) ?_
        refine m_gI (k := 5) E hb hS rfl fl_5 dX6_qTest_7 ?_
        refine lv_if_ne (tgt := 110) E.1 hb dX6_qTest_10 (by decide) (fun hc => ?_) (fun hc => ?_)
        · have hf := if_s hc hf
          exact hL110 N σ hf _ _ hS _ (lv_sub hl [0] rfl)
        · have hf := it_s hc hf
          refine lv_aload_n E.1 hb dX6_qTest_13 rfl (lv_at hl 0 rfl) ?_
          obtain ⟨r2, σ3, h1, hf⟩ := bd_s hf
          refine m_cVi E hb hml hl.1 hS (cmf_look h1) gw_look gn_look rfl rfl (Nat.le_of_ble_eq_true rfl) ⟨Nat.le_of_ble_eq_true rfl, Nat.le_of_ble_eq_true rfl⟩ ⟨Nat.le_refl 0, Nat.le_refl 0⟩ dX6_qTest_14 (fun H locs hS => ?_)
          refine lv_istore_n (lv' := [(2, .int r2), (0, .ref o), (1, .int x1)]) E.1 hb dX6_qTest_17 rfl hl (by decide) rfl (fun ls hl => ?_)
          refine lv_iload_n E.1 hb dX6_qTest_18 rfl (lv_at hl 0 rfl) ?_
          refine lv_bipush (v := 91) E.1 hb dX6_qTest_19 rfl ?_
          refine lv_icmp_ne (tgt := 47) E.1 hb dX6_qTest_21 (by decide) (fun hc => ?_) (fun hc => ?_)
          · have hf := if_s hc hf
            refine lv_aload_n E.1 hb dX6_qTest_47 rfl (lv_at hl 1 rfl) ?_
            refine lv_aload_n E.1 hb dX6_qTest_48 rfl (lv_at hl 1 rfl) ?_
            refine m_gA (k := 78) E hb hS 4 rfl (by decide) fl_78 dX6_qTest_49 ?_
            obtain ⟨r4, σ5, h1, hf⟩ := bd_s hf
            refine m_cVi E hb hml hl.1 hS (cmf_isHere h1) gw_isHere gn_isHere rfl rfl (Nat.le_of_ble_eq_true rfl) ⟨Nat.le_of_ble_eq_true rfl, Nat.le_of_ble_eq_true rfl⟩ ⟨Nat.le_refl 0, Nat.le_refl 0⟩ dX6_qTest_52 (fun H locs hS => ?_)
            refine lv_if_eq (tgt := 79) E.1 hb dX6_qTest_55 (by decide) (fun hc => ?_) (fun hc => ?_)
            · have hf := it_s hc hf
              refine lv_aload_n E.1 hb dX6_qTest_79 rfl (lv_at hl 1 rfl) ?_
              obtain ⟨_, σ6, h1, hf⟩ := bd_s hf
              refine m_cVv E hb hml hl.1 hS (cmf_qFact h1) gw_qFact gn_qFact rfl rfl (Nat.le_of_ble_eq_true rfl) ⟨Nat.le_of_ble_eq_true rfl, Nat.le_of_ble_eq_true rfl⟩ ⟨Nat.le_refl 0, Nat.le_refl 0⟩ dX6_qTest_80 (fun H locs hS => ?_)
              refine lv_aload_n E.1 hb dX6_qTest_83 rfl (lv_at hl 1 rfl) ?_
              obtain ⟨_, σ7, h1, hf⟩ := bd_s hf
              refine m_cVv E hb hml hl.1 hS (cmf_qDropsNots h1) gw_qDropsNots gn_qDropsNots rfl rfl (Nat.le_of_ble_eq_true rfl) ⟨Nat.le_of_ble_eq_true rfl, Nat.le_of_ble_eq_true rfl⟩ ⟨Nat.le_refl 0, Nat.le_refl 0⟩ dX6_qTest_84 (fun H locs hS => ?_)
              refine lv_aload_n E.1 hb dX6_qTest_87 rfl (lv_at hl 1 rfl) ?_
              refine m_gI (k := 5) E hb hS rfl fl_5 dX6_qTest_88 ?_
              refine lv_if_ne (tgt := 105) E.1 hb dX6_qTest_91 (by decide) (fun hc => ?_) (fun hc => ?_)
              · have hf := if_s hc hf
                exact hB105 k2 hk2 σ7 hf _ _ hS _ (lv_sub hl [1] rfl)
              · have hf := it_s hc hf
                refine lv_aload_n E.1 hb dX6_qTest_94 rfl (lv_at hl 1 rfl) ?_
                obtain ⟨r8, σ9, h1, hf⟩ := bd_s hf
                refine m_cVi E hb hml hl.1 hS (cmf_qGoesOnTest h1) gw_qGoesOnTest gn_qGoesOnTest rfl rfl (Nat.le_of_ble_eq_true rfl) ⟨Nat.le_of_ble_eq_true rfl, Nat.le_of_ble_eq_true rfl⟩ ⟨Nat.le_refl 0, Nat.le_refl 0⟩ dX6_qTest_95 (fun H locs hS => ?_)
                refine lv_if_eq (tgt := 105) E.1 hb dX6_qTest_98 (by decide) (fun hc => ?_) (fun hc => ?_)
                · have hf := it_s hc hf
                  exact hB105 k2 hk2 σ9 hf _ _ hS _ (lv_sub hl [1] rfl)
                · have hf := if_s hc hf
                  refine lv_iconst (v := 1) E.1 hb dX6_qTest_101 rfl ?_
                  refine lv_goto (tgt := 106) E.1 hb dX6_qTest_102 (by decide) ?_
                  exact hB106 k2 hk2 σ9 1 hf _ _ hS _ (lv_sub hl [1] rfl)
            · have hf := if_s hc hf
              refine lv_aload_n E.1 hb dX6_qTest_58 rfl (lv_at hl 1 rfl) ?_
              refine lv_bipush (v := 12) E.1 hb dX6_qTest_59 rfl ?_
              refine lv_aload_n E.1 hb dX6_qTest_61 rfl (lv_at hl 1 rfl) ?_
              refine m_gI (k := 2) E hb hS rfl fl_2 dX6_qTest_62 ?_
              obtain ⟨_, σ10, h1, hf⟩ := bd_s hf
              refine m_cVv E hb hml hl.1 hS (cmf_qOpens h1) gw_qOpens gn_qOpens rfl rfl (Nat.le_of_ble_eq_true rfl) ⟨Nat.le_of_ble_eq_true rfl, Nat.le_of_ble_eq_true rfl⟩ ⟨Nat.le_refl 0, Nat.le_refl 0⟩ dX6_qTest_65 (fun H locs hS => ?_)
              refine lv_aload_n E.1 hb dX6_qTest_68 rfl (lv_at hl 1 rfl) ?_
              refine lv_aload_n E.1 hb dX6_qTest_69 rfl (lv_at hl 1 rfl) ?_
              refine m_gA (k := 78) E hb hS 4 rfl (by decide) fl_78 dX6_qTest_70 ?_
              obtain ⟨_, σ11, h1, hf⟩ := bd_s hf
              refine m_cVv E hb hml hl.1 hS (cmf_asks h1) gw_asks gn_asks rfl rfl (Nat.le_of_ble_eq_true rfl) ⟨Nat.le_of_ble_eq_true rfl, Nat.le_of_ble_eq_true rfl⟩ ⟨Nat.le_refl 0, Nat.le_refl 0⟩ dX6_qTest_73 (fun H locs hS => ?_)
              refine lv_goto (tgt := 2) E.1 hb dX6_qTest_76 (by decide) ?_
              exact hk2 σ11 x1 hf _ _ hS _ (lv_sub hl [1, 2] rfl)
          · have hf := it_s hc hf
            refine lv_aload_n E.1 hb dX6_qTest_24 rfl (lv_at hl 1 rfl) ?_
            refine lv_bipush (v := 25) E.1 hb dX6_qTest_25 rfl ?_
            refine lv_aload_n E.1 hb dX6_qTest_27 rfl (lv_at hl 1 rfl) ?_
            refine m_gI (k := 2) E hb hS rfl fl_2 dX6_qTest_28 ?_
            obtain ⟨_, σ12, h1, hf⟩ := bd_s hf
            refine m_cVv E hb hml hl.1 hS (cmf_qOpens h1) gw_qOpens gn_qOpens rfl rfl (Nat.le_of_ble_eq_true rfl) ⟨Nat.le_of_ble_eq_true rfl, Nat.le_of_ble_eq_true rfl⟩ ⟨Nat.le_refl 0, Nat.le_refl 0⟩ dX6_qTest_31 (fun H locs hS => ?_)
            refine lv_aload_n E.1 hb dX6_qTest_34 rfl (lv_at hl 1 rfl) ?_
            refine lv_dup E.1 hb dX6_qTest_35 rfl ?_
            refine m_gI (k := 2) E hb hS rfl fl_2 dX6_qTest_36 ?_
            refine lv_iconst (v := 1) E.1 hb dX6_qTest_39 rfl ?_
            refine lv_iadd E.1 hb dX6_qTest_40 ?_
            obtain ⟨σ13, hw, hf⟩ := lt2_s hf
            refine m_pI (k := 2) E hb hS rfl rfl pf_2 fl_2 hw dX6_qTest_41 (fun H locs hS => ?_)
            refine lv_goto (tgt := 2) E.1 hb dX6_qTest_44 (by decide) ?_
            exact hk2 σ13 x1 hf _ _ hS _ (lv_sub hl [1, 2] rfl)
  unfold M_qTest at hf
  refine lv_iconst (v := 1) E.1 hb dX6_qTest_0 rfl ?_
  refine lv_istore_n (lv' := [(1, .int 1), (0, .ref o)]) E.1 hb dX6_qTest_1 rfl hl (by decide) rfl (fun ls hl => ?_)
  exact hL2 N σ 1 hf _ _ hS _ (lv_sub hl [1, 0] rfl)
/-! codesTold(II)V: RW -/
noncomputable def M_codesTold_b95 (N : Nat) (k95 : mSt → Int32 → Int32 → Option (Unit × mSt)) (σ : mSt) (x1 : Int32) (x3 : Int32) : Option (Unit × mSt) :=
  if (σ.1 95 0) ≤ x3 then (bo (stI 2 σ 50 x1 (σ.1 52 0)) fun σ9 => some ((), σ9)) else (bo (ld 2 σ 94 x3) fun v10 => bo (stI 2 σ 51 (σ.1 52 0) v10) fun σ11 => lt2 (mUI σ11 52 0 ((σ11.1 52 0) + 1)) fun σ12 => k95 σ12 x1 (x3 + 1))
noncomputable def M_codesTold_b75 (N : Nat) (σ : mSt) (x1 : Int32) : Option (Unit × mSt) :=
  if (σ.1 5 0) = 0 then (bo (stI 2 σ 49 x1 (σ.1 52 0)) fun σ8 => rn3 (M_codesTold_b95 N) N σ8 x1 0) else (some ((), σ))
noncomputable def M_codesTold_b23 (N : Nat) (σ : mSt) (x1 : Int32) : Option (Unit × mSt) :=
  if (σ.1 5 0) = 0 then (bo (M_kindBy x1) fun r1 => lt2 (mUI σ 55 0 r1) fun σ2 => lt2 (mUI σ2 95 0 0) fun σ3 => lt2 (mUI σ3 97 0 0) fun σ4 => lt2 (mUI σ4 98 0 0) fun σ5 => lt2 (mUI σ5 99 0 0) fun σ6 => if x1 = 3 then (bd (M_qTest N σ6) fun _ σ13 => M_codesTold_b75 N σ13 x1) else (bd (M_qSums N σ6) fun _ σ7 => M_codesTold_b75 N σ7 x1)) else (some ((), σ))
noncomputable def M_codesTold (N : Nat) (σ : mSt) (x1 : Int32) (x2 : Int32) : Option (Unit × mSt) :=
  if (σ.1 5 0) = 0 then (bo (ld 2 σ 49 x1) fun v14 => if v14 = (-1) then (M_codesTold_b23 N σ x1) else (bd (M_fail σ 5 x2) fun _ σ15 => M_codesTold_b23 N σ15 x1)) else (M_codesTold_b23 N σ x1)
theorem gw_codesTold : GoodIn lw_all (wsV RX6 371 RX6 yX6_codesTold (ws_ yX6_codesTold cX6_codesTold 4 none)) := lw_V q2100 q2102 qs80 q164 q2103
theorem gn_codesTold : yX6_codesTold.cls = RX6 ∧ yX6_codesTold.cls ≠ "java/lang/invoke/MethodHandle" ∧ yX6_codesTold.cls ≠ "java/lang/invoke/VarHandle" ∧ (parseMethodDescriptor yX6_codesTold.desc).map (fun d => d.parameters.length) = some 2 := by decide +kernel
abbrev rM_codesTold : Room := { frames := 9, cells := 0, slots := 0, locals := 196 }
set_option maxHeartbeats 4000000 in
theorem cmf_codesTold {l : Launch} {dC : Nat → ClassId} {dI : Nat → Nat → Nat} {ac : Nat → ClassId} {o : Nat} {ad : Nat → Nat} {N : Nat} {σ : mSt} {x1 : Int32} {x2 : Int32} {σ' : mSt} (hf : M_codesTold N σ x1 x2 = some ((), σ')) : Met l yX6_codesTold (ws_ yX6_codesTold cX6_codesTold 4 none) { frames := 9, cells := 0, slots := 0, locals := 196 } (va_Pc [.ref o, .int x1, .int x2] (mPre dC dI ac o ad σ)) (mQv dC dI ac o ad σ') 0 0 (mF o ad) := by
  refine m_of (by decide) rfl (Nat.le_of_ble_eq_true rfl) ?_
  intro p e s m args below meth c E hb hr hlk hml hS ls hl
  have hl : lv_has ls 4 [(0, .ref o), (1, .int x1), (2, .int x2)] := hl
  have hL95 : ∀ (n : Nat) (σ : mSt) (x1 : Int32) (x3 : Int32), rn3 (M_codesTold_b95 N) n σ x1 x3 = some ((), σ') → ∀ (H : Heap) (locs : List Loc), mS dC dI ac o ad s.heap σ H locs → ∀ (ls : Array Slot), lv_has ls 4 [(0, .ref o), (1, .int x1), (3, .int x3)] → W p l e rM_codesTold s m args below meth c H locs 0 0 (MQ below (mQv dC dI ac o ad σ') args s 0 0 (mF o ad)) (F0 m 95 ls []) := by
    intro  n
    induction n with
    | zero =>
      intro σ x1 x3 hf
      cases hf
    | succ n ih =>
      intro σ x1 x3 hf H locs hS ls hl
      have hf : M_codesTold_b95 N (rn3 (M_codesTold_b95 N) n) σ x1 x3 = some ((), σ') := hf
      have hk95 := ih
      generalize rn3 (M_codesTold_b95 N) n = k95 at hf hk95
      unfold M_codesTold_b95 at hf
      refine lv_iload_n E.1 hb dX6_codesTold_95 rfl (lv_at hl 2 rfl) ?_
      refine lv_aload_n E.1 hb dX6_codesTold_96 rfl (lv_at hl 0 rfl) ?_
      refine m_gI (k := 95) E hb hS rfl fl_95 dX6_codesTold_97 ?_
      refine lv_icmp_ge (tgt := 134) E.1 hb dX6_codesTold_100 (by decide) (fun hc => ?_) (fun hc => ?_)
      · have hf := it_s hc hf
        refine lv_aload_n E.1 hb dX6_codesTold_134 rfl (lv_at hl 0 rfl) ?_
        refine m_gA (k := 50) E hb hS 2 rfl (by decide) fl_50 dX6_codesTold_135 ?_
        refine lv_iload_n E.1 hb dX6_codesTold_138 rfl (lv_at hl 1 rfl) ?_
        refine lv_aload_n E.1 hb dX6_codesTold_139 rfl (lv_at hl 0 rfl) ?_
        refine m_gI (k := 52) E hb hS rfl fl_52 dX6_codesTold_140 ?_
        obtain ⟨σ9, hg, hw, hf⟩ := st_s hf
        refine m_ist E hb hS hg hw dX6_codesTold_143 (fun H locs hS => ?_)
        exact m_vr E hb hr hlk hS hf dX6_codesTold_144
      · have hf := if_s hc hf
        refine lv_aload_n E.1 hb dX6_codesTold_103 rfl (lv_at hl 0 rfl) ?_
        refine m_gA (k := 51) E hb hS 2 rfl (by decide) fl_51 dX6_codesTold_104 ?_
        refine lv_aload_n E.1 hb dX6_codesTold_107 rfl (lv_at hl 0 rfl) ?_
        refine m_gI (k := 52) E hb hS rfl fl_52 dX6_codesTold_108 ?_
        refine lv_aload_n E.1 hb dX6_codesTold_111 rfl (lv_at hl 0 rfl) ?_
        refine m_gA (k := 94) E hb hS 2 rfl (by decide) fl_94 dX6_codesTold_112 ?_
        refine lv_iload_n E.1 hb dX6_codesTold_115 rfl (lv_at hl 2 rfl) ?_
        obtain ⟨hg, hf⟩ := ld_s hf
        refine m_ild E hb hS hg dX6_codesTold_116 ?_
        obtain ⟨σ11, hg, hw, hf⟩ := st_s hf
        refine m_ist E hb hS hg hw dX6_codesTold_117 (fun H locs hS => ?_)
        refine lv_aload_n E.1 hb dX6_codesTold_118 rfl (lv_at hl 0 rfl) ?_
        refine lv_dup E.1 hb dX6_codesTold_119 rfl ?_
        refine m_gI (k := 52) E hb hS rfl fl_52 dX6_codesTold_120 ?_
        refine lv_iconst (v := 1) E.1 hb dX6_codesTold_123 rfl ?_
        refine lv_iadd E.1 hb dX6_codesTold_124 ?_
        obtain ⟨σ12, hw, hf⟩ := lt2_s hf
        refine m_pI (k := 52) E hb hS rfl rfl pf_52 fl_52 hw dX6_codesTold_125 (fun H locs hS => ?_)
        refine lv_iinc (v := (x3 + 1)) (lv' := [(3, .int (x3 + 1)), (0, .ref o), (1, .int x1)]) E.1 hb dX6_codesTold_128 hl (k := 2) rfl rfl (by decide) rfl (fun ls hl => ?_)
        refine lv_goto (tgt := 95) E.1 hb dX6_codesTold_131 (by decide) ?_
        exact hk95 σ12 x1 (x3 + 1) hf _ _ hS _ (lv_sub hl [1, 2, 0] rfl)
  have hB75 : ∀ (σ : mSt) (x1 : Int32), M_codesTold_b75 N σ x1 = some ((), σ') → ∀ (H : Heap) (locs : List Loc), mS dC dI ac o ad s.heap σ H locs → ∀ (ls : Array Slot), lv_has ls 4 [(0, .ref o), (1, .int x1)] → W p l e rM_codesTold s m args below meth c H locs 0 0 (MQ below (mQv dC dI ac o ad σ') args s 0 0 (mF o ad)) (F0 m 75 ls []) := by
    intro σ x1 hf H locs hS ls hl
    unfold M_codesTold_b75 at hf
    refine lv_aload_n E.1 hb dX6_codesTold_75 rfl (lv_at hl 0 rfl) ?_
    refine m_gI (k := 5) E hb hS rfl fl_5 dX6_codesTold_76 ?_
    refine lv_if_eq (tgt := 83) E.1 hb dX6_codesTold_79 (by decide) (fun hc => ?_) (fun hc => ?_)
    · have hf := it_s hc hf
      refine lv_aload_n E.1 hb dX6_codesTold_83 rfl (lv_at hl 0 rfl) ?_
      refine m_gA (k := 49) E hb hS 2 rfl (by decide) fl_49 dX6_codesTold_84 ?_
      refine lv_iload_n E.1 hb dX6_codesTold_87 rfl (lv_at hl 1 rfl) ?_
      refine lv_aload_n E.1 hb dX6_codesTold_88 rfl (lv_at hl 0 rfl) ?_
      refine m_gI (k := 52) E hb hS rfl fl_52 dX6_codesTold_89 ?_
      obtain ⟨σ8, hg, hw, hf⟩ := st_s hf
      refine m_ist E hb hS hg hw dX6_codesTold_92 (fun H locs hS => ?_)
      refine lv_iconst (v := 0) E.1 hb dX6_codesTold_93 rfl ?_
      refine lv_istore_n (lv' := [(3, .int 0), (0, .ref o), (1, .int x1)]) E.1 hb dX6_codesTold_94 rfl hl (by decide) rfl (fun ls hl => ?_)
      exact hL95 N σ8 x1 0 hf _ _ hS _ (lv_sub hl [1, 2, 0] rfl)
    · have hf := if_s hc hf
      exact m_vr E hb hr hlk hS hf dX6_codesTold_82
  have hB23 : ∀ (σ : mSt) (x1 : Int32), M_codesTold_b23 N σ x1 = some ((), σ') → ∀ (H : Heap) (locs : List Loc), mS dC dI ac o ad s.heap σ H locs → ∀ (ls : Array Slot), lv_has ls 4 [(0, .ref o), (1, .int x1)] → W p l e rM_codesTold s m args below meth c H locs 0 0 (MQ below (mQv dC dI ac o ad σ') args s 0 0 (mF o ad)) (F0 m 23 ls []) := by
    intro σ x1 hf H locs hS ls hl
    unfold M_codesTold_b23 at hf
    refine lv_aload_n E.1 hb dX6_codesTold_23 rfl (lv_at hl 0 rfl) ?_
    refine m_gI (k := 5) E hb hS rfl fl_5 dX6_codesTold_24 ?_
    refine lv_if_eq (tgt := 31) E.1 hb dX6_codesTold_27 (by decide) (fun hc => ?_) (fun hc => ?_)
    · have hf := it_s hc hf
      refine lv_aload_n E.1 hb dX6_codesTold_31 rfl (lv_at hl 0 rfl) ?_
      refine lv_iload_n E.1 hb dX6_codesTold_32 rfl (lv_at hl 1 rfl) ?_
      obtain ⟨r1, h1, hf⟩ := bo_s hf
      refine m_cSi E hb hml hl.1 hS (cmf_kindBy h1) gw_kindBy gn_kindBy rfl rfl (Nat.le_of_ble_eq_true rfl) ⟨Nat.le_of_ble_eq_true rfl, Nat.le_of_ble_eq_true rfl⟩ ⟨Nat.le_refl 0, Nat.le_refl 0⟩ dX6_codesTold_33 (fun H locs hS => ?_)
      obtain ⟨σ2, hw, hf⟩ := lt2_s hf
      refine m_pI (k := 55) E hb hS rfl rfl pf_55 fl_55 hw dX6_codesTold_36 (fun H locs hS => ?_)
      refine lv_aload_n E.1 hb dX6_codesTold_39 rfl (lv_at hl 0 rfl) ?_
      refine lv_iconst (v := 0) E.1 hb dX6_codesTold_40 rfl ?_
      obtain ⟨σ3, hw, hf⟩ := lt2_s hf
      refine m_pI (k := 95) E hb hS rfl rfl pf_95 fl_95 hw dX6_codesTold_41 (fun H locs hS => ?_)
      refine lv_aload_n E.1 hb dX6_codesTold_44 rfl (lv_at hl 0 rfl) ?_
      refine lv_iconst (v := 0) E.1 hb dX6_codesTold_45 rfl ?_
      obtain ⟨σ4, hw, hf⟩ := lt2_s hf
      refine m_pI (k := 97) E hb hS rfl rfl pf_97 fl_97 hw dX6_codesTold_46 (fun H locs hS => ?_)
      refine lv_aload_n E.1 hb dX6_codesTold_49 rfl (lv_at hl 0 rfl) ?_
      refine lv_iconst (v := 0) E.1 hb dX6_codesTold_50 rfl ?_
      obtain ⟨σ5, hw, hf⟩ := lt2_s hf
      refine m_pI (k := 98) E hb hS rfl rfl pf_98 fl_98 hw dX6_codesTold_51 (fun H locs hS => ?_)
      refine lv_aload_n E.1 hb dX6_codesTold_54 rfl (lv_at hl 0 rfl) ?_
      refine lv_iconst (v := 0) E.1 hb dX6_codesTold_55 rfl ?_
      obtain ⟨σ6, hw, hf⟩ := lt2_s hf
      refine m_pI (k := 99) E hb hS rfl rfl pf_99 fl_99 hw dX6_codesTold_56 (fun H locs hS => ?_)
      refine lv_iload_n E.1 hb dX6_codesTold_59 rfl (lv_at hl 1 rfl) ?_
      refine lv_iconst (v := 3) E.1 hb dX6_codesTold_60 rfl ?_
      refine lv_icmp_ne (tgt := 71) E.1 hb dX6_codesTold_61 (by decide) (fun hc => ?_) (fun hc => ?_)
      · have hf := if_s hc hf
        refine lv_aload_n E.1 hb dX6_codesTold_71 rfl (lv_at hl 0 rfl) ?_
        obtain ⟨_, σ7, h1, hf⟩ := bd_s hf
        refine m_cVv E hb hml hl.1 hS (cmf_qSums h1) gw_qSums gn_qSums rfl rfl (Nat.le_of_ble_eq_true rfl) ⟨Nat.le_of_ble_eq_true rfl, Nat.le_of_ble_eq_true rfl⟩ ⟨Nat.le_refl 0, Nat.le_refl 0⟩ dX6_codesTold_72 (fun H locs hS => ?_)
        exact hB75 σ7 x1 hf _ _ hS _ (lv_sub hl [0, 1] rfl)
      · have hf := it_s hc hf
        refine lv_aload_n E.1 hb dX6_codesTold_64 rfl (lv_at hl 0 rfl) ?_
        obtain ⟨_, σ13, h1, hf⟩ := bd_s hf
        refine m_cVv E hb hml hl.1 hS (cmf_qTest h1) gw_qTest gn_qTest rfl rfl (Nat.le_of_ble_eq_true rfl) ⟨Nat.le_of_ble_eq_true rfl, Nat.le_of_ble_eq_true rfl⟩ ⟨Nat.le_refl 0, Nat.le_refl 0⟩ dX6_codesTold_65 (fun H locs hS => ?_)
        refine lv_goto (tgt := 75) E.1 hb dX6_codesTold_68 (by decide) ?_
        exact hB75 σ13 x1 hf _ _ hS _ (lv_sub hl [0, 1] rfl)
    · have hf := if_s hc hf
      exact m_vr E hb hr hlk hS hf dX6_codesTold_30
  unfold M_codesTold at hf
  refine lv_aload_n E.1 hb dX6_codesTold_0 rfl (lv_at hl 0 rfl) ?_
  refine m_gI (k := 5) E hb hS rfl fl_5 dX6_codesTold_1 ?_
  refine lv_if_ne (tgt := 23) E.1 hb dX6_codesTold_4 (by decide) (fun hc => ?_) (fun hc => ?_)
  · have hf := if_s hc hf
    exact hB23 σ x1 hf _ _ hS _ (lv_sub hl [0, 1] rfl)
  · have hf := it_s hc hf
    refine lv_aload_n E.1 hb dX6_codesTold_7 rfl (lv_at hl 0 rfl) ?_
    refine m_gA (k := 49) E hb hS 2 rfl (by decide) fl_49 dX6_codesTold_8 ?_
    refine lv_iload_n E.1 hb dX6_codesTold_11 rfl (lv_at hl 1 rfl) ?_
    obtain ⟨hg, hf⟩ := ld_s hf
    refine m_ild E hb hS hg dX6_codesTold_12 ?_
    refine lv_iconst (v := (-1)) E.1 hb dX6_codesTold_13 rfl ?_
    refine lv_icmp_eq (tgt := 23) E.1 hb dX6_codesTold_14 (by decide) (fun hc => ?_) (fun hc => ?_)
    · have hf := it_s hc hf
      exact hB23 σ x1 hf _ _ hS _ (lv_sub hl [0, 1] rfl)
    · have hf := if_s hc hf
      refine lv_aload_n E.1 hb dX6_codesTold_17 rfl (lv_at hl 0 rfl) ?_
      refine lv_iconst (v := 5) E.1 hb dX6_codesTold_18 rfl ?_
      refine lv_iload_n E.1 hb dX6_codesTold_19 rfl (lv_at hl 2 rfl) ?_
      obtain ⟨_, σ15, h1, hf⟩ := bd_s hf
      refine m_cVv E hb hml hl.1 hS (cmf_fail h1) gw_fail gn_fail rfl rfl (Nat.le_of_ble_eq_true rfl) ⟨Nat.le_of_ble_eq_true rfl, Nat.le_of_ble_eq_true rfl⟩ ⟨Nat.le_refl 0, Nat.le_refl 0⟩ dX6_codesTold_20 (fun H locs hS => ?_)
      exact hB23 σ15 x1 hf _ _ hS _ (lv_sub hl [0, 1] rfl)
/-! statementTold()V: RW -/
noncomputable def M_statementTold_b177 (N : Nat) (σ : mSt) : Option (Unit × mSt) :=
  bd (M_asksSign N σ 59) fun _ σ19 => lt2 (mUI σ19 53 0 ((σ19.1 53 0) + 1)) fun σ20 => some ((), σ20)
noncomputable def M_statementTold (N : Nat) (σ : mSt) : Option (Unit × mSt) :=
  if (σ.1 53 0) = 80 then (bd (M_fail σ 5 (σ.1 2 0)) fun _ σ28 => some ((), σ28)) else (bd (M_takes N σ 13) fun r1 σ2 => if r1 = 0 then (bd (M_takes N σ2 14) fun r3 σ4 => if r3 = 0 then (bd (M_takes N σ4 15) fun r5 σ6 => if r5 = 0 then (bd (M_takes N σ6 19) fun r7 σ8 => if r7 = 0 then (bd (M_takes N σ8 20) fun r9 σ10 => if r9 = 0 then (bd (M_takes N σ10 21) fun r11 σ12 => if r11 = 0 then (bd (M_takes N σ12 22) fun r13 σ14 => if r13 = 0 then (bd (M_asks N σ14 23) fun _ σ15 => bd (M_number N σ15 0 100) fun r16 σ17 => lt2 (mUI σ17 47 0 r16) fun σ18 => M_statementTold_b177 N σ18) else (bd (M_codesTold N σ14 3 (σ.1 2 0)) fun _ σ21 => M_statementTold_b177 N σ21)) else (bd (M_codesTold N σ12 2 (σ.1 2 0)) fun _ σ22 => M_statementTold_b177 N σ22)) else (bd (M_codesTold N σ10 1 (σ.1 2 0)) fun _ σ23 => M_statementTold_b177 N σ23)) else (bd (M_codesTold N σ8 0 (σ.1 2 0)) fun _ σ24 => M_statementTold_b177 N σ24)) else (bd (M_beingTold N σ6 (σ.1 2 0)) fun _ σ25 => M_statementTold_b177 N σ25)) else (bd (M_wormTold N σ4 (σ.1 2 0)) fun _ σ26 => M_statementTold_b177 N σ26)) else (bd (M_glossTold N σ2 (σ.1 2 0)) fun _ σ27 => M_statementTold_b177 N σ27))
theorem gw_statementTold : GoodIn lw_all (wsV RX6 380 RX6 yX6_statementTold (ws_ yX6_statementTold cX6_statementTold 2 none)) := lw_V q2058 q2060 qs70 q164 q2061
theorem gn_statementTold : yX6_statementTold.cls = RX6 ∧ yX6_statementTold.cls ≠ "java/lang/invoke/MethodHandle" ∧ yX6_statementTold.cls ≠ "java/lang/invoke/VarHandle" ∧ (parseMethodDescriptor yX6_statementTold.desc).map (fun d => d.parameters.length) = some 0 := by decide +kernel
abbrev rM_statementTold : Room := { frames := 10, cells := 0, slots := 0, locals := 219 }
set_option maxHeartbeats 4000000 in
theorem cmf_statementTold {l : Launch} {dC : Nat → ClassId} {dI : Nat → Nat → Nat} {ac : Nat → ClassId} {o : Nat} {ad : Nat → Nat} {N : Nat} {σ : mSt} {σ' : mSt} (hf : M_statementTold N σ = some ((), σ')) : Met l yX6_statementTold (ws_ yX6_statementTold cX6_statementTold 2 none) { frames := 10, cells := 0, slots := 0, locals := 219 } (va_Pc [.ref o] (mPre dC dI ac o ad σ)) (mQv dC dI ac o ad σ') 0 0 (mF o ad) := by
  refine m_of (by decide) rfl (Nat.le_of_ble_eq_true rfl) ?_
  intro p e s m args below meth c E hb hr hlk hml hS ls hl
  have hl : lv_has ls 2 [(0, .ref o)] := hl
  have hB177 : ∀ (σ : mSt), M_statementTold_b177 N σ = some ((), σ') → ∀ (H : Heap) (locs : List Loc), mS dC dI ac o ad s.heap σ H locs → ∀ (ls : Array Slot), lv_has ls 2 [(0, .ref o)] → W p l e rM_statementTold s m args below meth c H locs 0 0 (MQ below (mQv dC dI ac o ad σ') args s 0 0 (mF o ad)) (F0 m 177 ls []) := by
    intro σ hf H locs hS ls hl
    unfold M_statementTold_b177 at hf
    refine lv_aload_n E.1 hb dX6_statementTold_177 rfl (lv_at hl 0 rfl) ?_
    refine lv_bipush (v := 59) E.1 hb dX6_statementTold_178 rfl ?_
    obtain ⟨_, σ19, h1, hf⟩ := bd_s hf
    refine m_cVv E hb hml hl.1 hS (cmf_asksSign h1) gw_asksSign gn_asksSign rfl rfl (Nat.le_of_ble_eq_true rfl) ⟨Nat.le_of_ble_eq_true rfl, Nat.le_of_ble_eq_true rfl⟩ ⟨Nat.le_refl 0, Nat.le_refl 0⟩ dX6_statementTold_180 (fun H locs hS => ?_)
    refine lv_aload_n E.1 hb dX6_statementTold_183 rfl (lv_at hl 0 rfl) ?_
    refine lv_dup E.1 hb dX6_statementTold_184 rfl ?_
    refine m_gI (k := 53) E hb hS rfl fl_53 dX6_statementTold_185 ?_
    refine lv_iconst (v := 1) E.1 hb dX6_statementTold_188 rfl ?_
    refine lv_iadd E.1 hb dX6_statementTold_189 ?_
    obtain ⟨σ20, hw, hf⟩ := lt2_s hf
    refine m_pI (k := 53) E hb hS rfl rfl pf_53 fl_53 hw dX6_statementTold_190 (fun H locs hS => ?_)
    exact m_vr E hb hr hlk hS hf dX6_statementTold_193
  unfold M_statementTold at hf
  refine lv_aload_n E.1 hb dX6_statementTold_0 rfl (lv_at hl 0 rfl) ?_
  refine m_gI (k := 2) E hb hS rfl fl_2 dX6_statementTold_1 ?_
  refine lv_istore_n (lv' := [(1, .int (σ.1 2 0)), (0, .ref o)]) E.1 hb dX6_statementTold_4 rfl hl (by decide) rfl (fun ls hl => ?_)
  refine lv_aload_n E.1 hb dX6_statementTold_5 rfl (lv_at hl 1 rfl) ?_
  refine m_gI (k := 53) E hb hS rfl fl_53 dX6_statementTold_6 ?_
  refine lv_bipush (v := 80) E.1 hb dX6_statementTold_9 rfl ?_
  refine lv_icmp_ne (tgt := 21) E.1 hb dX6_statementTold_11 (by decide) (fun hc => ?_) (fun hc => ?_)
  · have hf := if_s hc hf
    refine lv_aload_n E.1 hb dX6_statementTold_21 rfl (lv_at hl 1 rfl) ?_
    refine lv_aload_n E.1 hb dX6_statementTold_22 rfl (lv_at hl 1 rfl) ?_
    refine m_gA (k := 13) E hb hS 4 rfl (by decide) fl_13 dX6_statementTold_23 ?_
    obtain ⟨r1, σ2, h1, hf⟩ := bd_s hf
    refine m_cVi E hb hml hl.1 hS (cmf_takes h1) gw_takes gn_takes rfl rfl (Nat.le_of_ble_eq_true rfl) ⟨Nat.le_of_ble_eq_true rfl, Nat.le_of_ble_eq_true rfl⟩ ⟨Nat.le_refl 0, Nat.le_refl 0⟩ dX6_statementTold_26 (fun H locs hS => ?_)
    refine lv_if_eq (tgt := 40) E.1 hb dX6_statementTold_29 (by decide) (fun hc => ?_) (fun hc => ?_)
    · have hf := it_s hc hf
      refine lv_aload_n E.1 hb dX6_statementTold_40 rfl (lv_at hl 1 rfl) ?_
      refine lv_aload_n E.1 hb dX6_statementTold_41 rfl (lv_at hl 1 rfl) ?_
      refine m_gA (k := 14) E hb hS 4 rfl (by decide) fl_14 dX6_statementTold_42 ?_
      obtain ⟨r3, σ4, h1, hf⟩ := bd_s hf
      refine m_cVi E hb hml hl.1 hS (cmf_takes h1) gw_takes gn_takes rfl rfl (Nat.le_of_ble_eq_true rfl) ⟨Nat.le_of_ble_eq_true rfl, Nat.le_of_ble_eq_true rfl⟩ ⟨Nat.le_refl 0, Nat.le_refl 0⟩ dX6_statementTold_45 (fun H locs hS => ?_)
      refine lv_if_eq (tgt := 59) E.1 hb dX6_statementTold_48 (by decide) (fun hc => ?_) (fun hc => ?_)
      · have hf := it_s hc hf
        refine lv_aload_n E.1 hb dX6_statementTold_59 rfl (lv_at hl 1 rfl) ?_
        refine lv_aload_n E.1 hb dX6_statementTold_60 rfl (lv_at hl 1 rfl) ?_
        refine m_gA (k := 15) E hb hS 4 rfl (by decide) fl_15 dX6_statementTold_61 ?_
        obtain ⟨r5, σ6, h1, hf⟩ := bd_s hf
        refine m_cVi E hb hml hl.1 hS (cmf_takes h1) gw_takes gn_takes rfl rfl (Nat.le_of_ble_eq_true rfl) ⟨Nat.le_of_ble_eq_true rfl, Nat.le_of_ble_eq_true rfl⟩ ⟨Nat.le_refl 0, Nat.le_refl 0⟩ dX6_statementTold_64 (fun H locs hS => ?_)
        refine lv_if_eq (tgt := 78) E.1 hb dX6_statementTold_67 (by decide) (fun hc => ?_) (fun hc => ?_)
        · have hf := it_s hc hf
          refine lv_aload_n E.1 hb dX6_statementTold_78 rfl (lv_at hl 1 rfl) ?_
          refine lv_aload_n E.1 hb dX6_statementTold_79 rfl (lv_at hl 1 rfl) ?_
          refine m_gA (k := 19) E hb hS 4 rfl (by decide) fl_19 dX6_statementTold_80 ?_
          obtain ⟨r7, σ8, h1, hf⟩ := bd_s hf
          refine m_cVi E hb hml hl.1 hS (cmf_takes h1) gw_takes gn_takes rfl rfl (Nat.le_of_ble_eq_true rfl) ⟨Nat.le_of_ble_eq_true rfl, Nat.le_of_ble_eq_true rfl⟩ ⟨Nat.le_refl 0, Nat.le_refl 0⟩ dX6_statementTold_83 (fun H locs hS => ?_)
          refine lv_if_eq (tgt := 98) E.1 hb dX6_statementTold_86 (by decide) (fun hc => ?_) (fun hc => ?_)
          · have hf := it_s hc hf
            refine lv_aload_n E.1 hb dX6_statementTold_98 rfl (lv_at hl 1 rfl) ?_
            refine lv_aload_n E.1 hb dX6_statementTold_99 rfl (lv_at hl 1 rfl) ?_
            refine m_gA (k := 20) E hb hS 4 rfl (by decide) fl_20 dX6_statementTold_100 ?_
            obtain ⟨r9, σ10, h1, hf⟩ := bd_s hf
            refine m_cVi E hb hml hl.1 hS (cmf_takes h1) gw_takes gn_takes rfl rfl (Nat.le_of_ble_eq_true rfl) ⟨Nat.le_of_ble_eq_true rfl, Nat.le_of_ble_eq_true rfl⟩ ⟨Nat.le_refl 0, Nat.le_refl 0⟩ dX6_statementTold_103 (fun H locs hS => ?_)
            refine lv_if_eq (tgt := 118) E.1 hb dX6_statementTold_106 (by decide) (fun hc => ?_) (fun hc => ?_)
            · have hf := it_s hc hf
              refine lv_aload_n E.1 hb dX6_statementTold_118 rfl (lv_at hl 1 rfl) ?_
              refine lv_aload_n E.1 hb dX6_statementTold_119 rfl (lv_at hl 1 rfl) ?_
              refine m_gA (k := 21) E hb hS 4 rfl (by decide) fl_21 dX6_statementTold_120 ?_
              obtain ⟨r11, σ12, h1, hf⟩ := bd_s hf
              refine m_cVi E hb hml hl.1 hS (cmf_takes h1) gw_takes gn_takes rfl rfl (Nat.le_of_ble_eq_true rfl) ⟨Nat.le_of_ble_eq_true rfl, Nat.le_of_ble_eq_true rfl⟩ ⟨Nat.le_refl 0, Nat.le_refl 0⟩ dX6_statementTold_123 (fun H locs hS => ?_)
              refine lv_if_eq (tgt := 138) E.1 hb dX6_statementTold_126 (by decide) (fun hc => ?_) (fun hc => ?_)
              · have hf := it_s hc hf
                refine lv_aload_n E.1 hb dX6_statementTold_138 rfl (lv_at hl 1 rfl) ?_
                refine lv_aload_n E.1 hb dX6_statementTold_139 rfl (lv_at hl 1 rfl) ?_
                refine m_gA (k := 22) E hb hS 4 rfl (by decide) fl_22 dX6_statementTold_140 ?_
                obtain ⟨r13, σ14, h1, hf⟩ := bd_s hf
                refine m_cVi E hb hml hl.1 hS (cmf_takes h1) gw_takes gn_takes rfl rfl (Nat.le_of_ble_eq_true rfl) ⟨Nat.le_of_ble_eq_true rfl, Nat.le_of_ble_eq_true rfl⟩ ⟨Nat.le_refl 0, Nat.le_refl 0⟩ dX6_statementTold_143 (fun H locs hS => ?_)
                refine lv_if_eq (tgt := 158) E.1 hb dX6_statementTold_146 (by decide) (fun hc => ?_) (fun hc => ?_)
                · have hf := it_s hc hf
                  refine lv_aload_n E.1 hb dX6_statementTold_158 rfl (lv_at hl 1 rfl) ?_
                  refine lv_aload_n E.1 hb dX6_statementTold_159 rfl (lv_at hl 1 rfl) ?_
                  refine m_gA (k := 23) E hb hS 4 rfl (by decide) fl_23 dX6_statementTold_160 ?_
                  obtain ⟨_, σ15, h1, hf⟩ := bd_s hf
                  refine m_cVv E hb hml hl.1 hS (cmf_asks h1) gw_asks gn_asks rfl rfl (Nat.le_of_ble_eq_true rfl) ⟨Nat.le_of_ble_eq_true rfl, Nat.le_of_ble_eq_true rfl⟩ ⟨Nat.le_refl 0, Nat.le_refl 0⟩ dX6_statementTold_163 (fun H locs hS => ?_)
                  refine lv_aload_n E.1 hb dX6_statementTold_166 rfl (lv_at hl 1 rfl) ?_
                  refine lv_aload_n E.1 hb dX6_statementTold_167 rfl (lv_at hl 1 rfl) ?_
                  refine lv_iconst (v := 0) E.1 hb dX6_statementTold_168 rfl ?_
                  refine lv_bipush (v := 100) E.1 hb dX6_statementTold_169 rfl ?_
                  obtain ⟨r16, σ17, h1, hf⟩ := bd_s hf
                  refine m_cVi E hb hml hl.1 hS (cmf_number h1) gw_number gn_number rfl rfl (Nat.le_of_ble_eq_true rfl) ⟨Nat.le_of_ble_eq_true rfl, Nat.le_of_ble_eq_true rfl⟩ ⟨Nat.le_refl 0, Nat.le_refl 0⟩ dX6_statementTold_171 (fun H locs hS => ?_)
                  obtain ⟨σ18, hw, hf⟩ := lt2_s hf
                  refine m_pI (k := 47) E hb hS rfl rfl pf_47 fl_47 hw dX6_statementTold_174 (fun H locs hS => ?_)
                  exact hB177 σ18 hf _ _ hS _ (lv_sub hl [1] rfl)
                · have hf := if_s hc hf
                  refine lv_aload_n E.1 hb dX6_statementTold_149 rfl (lv_at hl 1 rfl) ?_
                  refine lv_iconst (v := 3) E.1 hb dX6_statementTold_150 rfl ?_
                  refine lv_iload_n E.1 hb dX6_statementTold_151 rfl (lv_at hl 0 rfl) ?_
                  obtain ⟨_, σ21, h1, hf⟩ := bd_s hf
                  refine m_cVv E hb hml hl.1 hS (cmf_codesTold h1) gw_codesTold gn_codesTold rfl rfl (Nat.le_of_ble_eq_true rfl) ⟨Nat.le_of_ble_eq_true rfl, Nat.le_of_ble_eq_true rfl⟩ ⟨Nat.le_refl 0, Nat.le_refl 0⟩ dX6_statementTold_152 (fun H locs hS => ?_)
                  refine lv_goto (tgt := 177) E.1 hb dX6_statementTold_155 (by decide) ?_
                  exact hB177 σ21 hf _ _ hS _ (lv_sub hl [1] rfl)
              · have hf := if_s hc hf
                refine lv_aload_n E.1 hb dX6_statementTold_129 rfl (lv_at hl 1 rfl) ?_
                refine lv_iconst (v := 2) E.1 hb dX6_statementTold_130 rfl ?_
                refine lv_iload_n E.1 hb dX6_statementTold_131 rfl (lv_at hl 0 rfl) ?_
                obtain ⟨_, σ22, h1, hf⟩ := bd_s hf
                refine m_cVv E hb hml hl.1 hS (cmf_codesTold h1) gw_codesTold gn_codesTold rfl rfl (Nat.le_of_ble_eq_true rfl) ⟨Nat.le_of_ble_eq_true rfl, Nat.le_of_ble_eq_true rfl⟩ ⟨Nat.le_refl 0, Nat.le_refl 0⟩ dX6_statementTold_132 (fun H locs hS => ?_)
                refine lv_goto (tgt := 177) E.1 hb dX6_statementTold_135 (by decide) ?_
                exact hB177 σ22 hf _ _ hS _ (lv_sub hl [1] rfl)
            · have hf := if_s hc hf
              refine lv_aload_n E.1 hb dX6_statementTold_109 rfl (lv_at hl 1 rfl) ?_
              refine lv_iconst (v := 1) E.1 hb dX6_statementTold_110 rfl ?_
              refine lv_iload_n E.1 hb dX6_statementTold_111 rfl (lv_at hl 0 rfl) ?_
              obtain ⟨_, σ23, h1, hf⟩ := bd_s hf
              refine m_cVv E hb hml hl.1 hS (cmf_codesTold h1) gw_codesTold gn_codesTold rfl rfl (Nat.le_of_ble_eq_true rfl) ⟨Nat.le_of_ble_eq_true rfl, Nat.le_of_ble_eq_true rfl⟩ ⟨Nat.le_refl 0, Nat.le_refl 0⟩ dX6_statementTold_112 (fun H locs hS => ?_)
              refine lv_goto (tgt := 177) E.1 hb dX6_statementTold_115 (by decide) ?_
              exact hB177 σ23 hf _ _ hS _ (lv_sub hl [1] rfl)
          · have hf := if_s hc hf
            refine lv_aload_n E.1 hb dX6_statementTold_89 rfl (lv_at hl 1 rfl) ?_
            refine lv_iconst (v := 0) E.1 hb dX6_statementTold_90 rfl ?_
            refine lv_iload_n E.1 hb dX6_statementTold_91 rfl (lv_at hl 0 rfl) ?_
            obtain ⟨_, σ24, h1, hf⟩ := bd_s hf
            refine m_cVv E hb hml hl.1 hS (cmf_codesTold h1) gw_codesTold gn_codesTold rfl rfl (Nat.le_of_ble_eq_true rfl) ⟨Nat.le_of_ble_eq_true rfl, Nat.le_of_ble_eq_true rfl⟩ ⟨Nat.le_refl 0, Nat.le_refl 0⟩ dX6_statementTold_92 (fun H locs hS => ?_)
            refine lv_goto (tgt := 177) E.1 hb dX6_statementTold_95 (by decide) ?_
            exact hB177 σ24 hf _ _ hS _ (lv_sub hl [1] rfl)
        · have hf := if_s hc hf
          refine lv_aload_n E.1 hb dX6_statementTold_70 rfl (lv_at hl 1 rfl) ?_
          refine lv_iload_n E.1 hb dX6_statementTold_71 rfl (lv_at hl 0 rfl) ?_
          obtain ⟨_, σ25, h1, hf⟩ := bd_s hf
          refine m_cVv E hb hml hl.1 hS (cmf_beingTold h1) gw_beingTold gn_beingTold rfl rfl (Nat.le_of_ble_eq_true rfl) ⟨Nat.le_of_ble_eq_true rfl, Nat.le_of_ble_eq_true rfl⟩ ⟨Nat.le_refl 0, Nat.le_refl 0⟩ dX6_statementTold_72 (fun H locs hS => ?_)
          refine lv_goto (tgt := 177) E.1 hb dX6_statementTold_75 (by decide) ?_
          exact hB177 σ25 hf _ _ hS _ (lv_sub hl [1] rfl)
      · have hf := if_s hc hf
        refine lv_aload_n E.1 hb dX6_statementTold_51 rfl (lv_at hl 1 rfl) ?_
        refine lv_iload_n E.1 hb dX6_statementTold_52 rfl (lv_at hl 0 rfl) ?_
        obtain ⟨_, σ26, h1, hf⟩ := bd_s hf
        refine m_cVv E hb hml hl.1 hS (cmf_wormTold h1) gw_wormTold gn_wormTold rfl rfl (Nat.le_of_ble_eq_true rfl) ⟨Nat.le_of_ble_eq_true rfl, Nat.le_of_ble_eq_true rfl⟩ ⟨Nat.le_refl 0, Nat.le_refl 0⟩ dX6_statementTold_53 (fun H locs hS => ?_)
        refine lv_goto (tgt := 177) E.1 hb dX6_statementTold_56 (by decide) ?_
        exact hB177 σ26 hf _ _ hS _ (lv_sub hl [1] rfl)
    · have hf := if_s hc hf
      refine lv_aload_n E.1 hb dX6_statementTold_32 rfl (lv_at hl 1 rfl) ?_
      refine lv_iload_n E.1 hb dX6_statementTold_33 rfl (lv_at hl 0 rfl) ?_
      obtain ⟨_, σ27, h1, hf⟩ := bd_s hf
      refine m_cVv E hb hml hl.1 hS (cmf_glossTold h1) gw_glossTold gn_glossTold rfl rfl (Nat.le_of_ble_eq_true rfl) ⟨Nat.le_of_ble_eq_true rfl, Nat.le_of_ble_eq_true rfl⟩ ⟨Nat.le_refl 0, Nat.le_refl 0⟩ dX6_statementTold_34 (fun H locs hS => ?_)
      refine lv_goto (tgt := 177) E.1 hb dX6_statementTold_37 (by decide) ?_
      exact hB177 σ27 hf _ _ hS _ (lv_sub hl [1] rfl)
  · have hf := it_s hc hf
    refine lv_aload_n E.1 hb dX6_statementTold_14 rfl (lv_at hl 1 rfl) ?_
    refine lv_iconst (v := 5) E.1 hb dX6_statementTold_15 rfl ?_
    refine lv_iload_n E.1 hb dX6_statementTold_16 rfl (lv_at hl 0 rfl) ?_
    obtain ⟨_, σ28, h1, hf⟩ := bd_s hf
    refine m_cVv E hb hml hl.1 hS (cmf_fail h1) gw_fail gn_fail rfl rfl (Nat.le_of_ble_eq_true rfl) ⟨Nat.le_of_ble_eq_true rfl, Nat.le_of_ble_eq_true rfl⟩ ⟨Nat.le_refl 0, Nat.le_refl 0⟩ dX6_statementTold_17 (fun H locs hS => ?_)
    exact m_vr E hb hr hlk hS hf dX6_statementTold_20
/-! stands()V: RW -/
noncomputable def M_stands_b265 (N : Nat) (k265 : mSt → Int32 → Option (Unit × mSt)) (σ : mSt) (x1 : Int32) : Option (Unit × mSt) :=
  bo (ld 2 σ 41 0) fun v3 => if v3 ≤ x1 then (lt2 (mUI σ 69 0 0) fun σ4 => lt2 (mUI σ4 65 0 0) fun σ5 => some ((), σ5)) else (bo (ld 2 σ 45 (2 * x1)) fun v6 => bo (stI 2 σ 56 (7 + (4 * x1)) v6) fun σ7 => bo (ld 2 σ7 45 ((2 * x1) + 1)) fun v8 => bo (stI 2 σ7 56 ((7 + (4 * x1)) + 1) v8) fun σ9 => bo (stI 2 σ9 56 ((7 + (4 * x1)) + 2) 5) fun σ10 => k265 σ10 (x1 + 1))
noncomputable def M_stands_b237 (N : Nat) (k237 : mSt → Int32 → Option (Unit × mSt)) (σ : mSt) (x1 : Int32) : Option (Unit × mSt) :=
  if 6 ≤ x1 then (rn2 (M_stands_b265 N) N σ 0) else (bo (ld 2 σ 43 x1) fun v11 => bo (stI 2 σ 56 (1 + x1) v11) fun σ12 => k237 σ12 (x1 + 1))
noncomputable def M_stands_b215 (N : Nat) (k215 : mSt → Int32 → Option (Unit × mSt)) (σ : mSt) (x1 : Int32) : Option (Unit × mSt) :=
  if 160 ≤ x1 then (rn2 (M_stands_b237 N) N σ 0) else (bo (stI 2 σ 56 x1 0) fun σ13 => k215 σ13 (x1 + 1))
noncomputable def M_stands_b183 (N : Nat) (k183 : mSt → Int32 → Option (Unit × mSt)) (σ : mSt) (x1 : Int32) : Option (Unit × mSt) :=
  if (σ.1 52 0) ≤ x1 then (rn2 (M_stands_b215 N) N σ 0) else (bo (ld 2 σ 51 x1) fun v14 => bo (stI 2 σ 51 (1600 + x1) v14) fun σ15 => k183 σ15 (x1 + 1))
noncomputable def M_stands_b142 (N : Nat) (k142 : mSt → Int32 → Option (Unit × mSt)) (σ : mSt) (x1 : Int32) : Option (Unit × mSt) :=
  if 4 ≤ x1 then (rn2 (M_stands_b183 N) N σ 0) else (bo (ld 2 σ 49 x1) fun v16 => bo (stI 2 σ 49 (4 + x1) v16) fun σ17 => bo (ld 2 σ17 50 x1) fun v18 => bo (stI 2 σ17 50 (4 + x1) v18) fun σ19 => k142 σ19 (x1 + 1))
noncomputable def M_stands_b105 (N : Nat) (k105 : mSt → Int32 → Option (Unit × mSt)) (σ : mSt) (x1 : Int32) : Option (Unit × mSt) :=
  if 36 ≤ x1 then (lt2 (mUI σ 48 0 (σ.1 47 0)) fun σ2 => rn2 (M_stands_b142 N) N σ2 0) else (bo (ld 2 σ 44 x1) fun v20 => bo (stI 2 σ 44 (36 + x1) v20) fun σ21 => k105 σ21 (x1 + 1))
noncomputable def M_stands_b61 (N : Nat) (k61 : mSt → Int32 → Option (Unit × mSt)) (σ : mSt) (x1 : Int32) : Option (Unit × mSt) :=
  if 8 ≤ x1 then (rn2 (M_stands_b105 N) N σ 0) else (bo (ldL σ 42 x1) fun v22 => bo (stL σ 42 (8 + x1) v22) fun σ23 => bo (ld 2 σ23 46 x1) fun v24 => bo (stI 2 σ23 46 (8 + x1) v24) fun σ25 => k61 σ25 (x1 + 1))
noncomputable def M_stands_b34 (N : Nat) (k34 : mSt → Int32 → Option (Unit × mSt)) (σ : mSt) (x1 : Int32) : Option (Unit × mSt) :=
  if 3 ≤ x1 then (rn2 (M_stands_b61 N) N σ 0) else (bo (ld 2 σ 41 x1) fun v26 => bo (stI 2 σ 41 (3 + x1) v26) fun σ27 => k34 σ27 (x1 + 1))
noncomputable def M_stands_b7 (N : Nat) (k7 : mSt → Int32 → Option (Unit × mSt)) (σ : mSt) (x1 : Int32) : Option (Unit × mSt) :=
  if 2 ≤ x1 then (rn2 (M_stands_b34 N) N σ 0) else (bo (ld 2 σ 40 x1) fun v28 => bo (stI 2 σ 40 (2 + x1) v28) fun σ29 => k7 σ29 (x1 + 1))
noncomputable def M_stands (N : Nat) (σ : mSt) : Option (Unit × mSt) :=
  lt2 (mUI σ 54 0 1) fun σ1 => rn2 (M_stands_b7 N) N σ1 0
theorem gw_stands : GoodIn lw_all (wsV RX6 386 RX6 yX6_stands (ws_ yX6_stands cX6_stands 2 none)) := lw_V q2186 q2188 qs100 q164 q2189
theorem gn_stands : yX6_stands.cls = RX6 ∧ yX6_stands.cls ≠ "java/lang/invoke/MethodHandle" ∧ yX6_stands.cls ≠ "java/lang/invoke/VarHandle" ∧ (parseMethodDescriptor yX6_stands.desc).map (fun d => d.parameters.length) = some 0 := by decide +kernel
abbrev rM_stands : Room := { frames := 0, cells := 0, slots := 0, locals := 0 }
set_option maxHeartbeats 4000000 in
theorem cmf_stands {l : Launch} {dC : Nat → ClassId} {dI : Nat → Nat → Nat} {ac : Nat → ClassId} {o : Nat} {ad : Nat → Nat} {N : Nat} {σ : mSt} {σ' : mSt} (hf : M_stands N σ = some ((), σ')) : Met l yX6_stands (ws_ yX6_stands cX6_stands 2 none) { frames := 0, cells := 0, slots := 0, locals := 0 } (va_Pc [.ref o] (mPre dC dI ac o ad σ)) (mQv dC dI ac o ad σ') 0 0 (mF o ad) := by
  refine m_of (by decide) rfl (Nat.le_of_ble_eq_true rfl) ?_
  intro p e s m args below meth c E hb hr hlk hml hS ls hl
  have hl : lv_has ls 2 [(0, .ref o)] := hl
  have hL265 : ∀ (n : Nat) (σ : mSt) (x1 : Int32), rn2 (M_stands_b265 N) n σ x1 = some ((), σ') → ∀ (H : Heap) (locs : List Loc), mS dC dI ac o ad s.heap σ H locs → ∀ (ls : Array Slot), lv_has ls 2 [(0, .ref o), (1, .int x1)] → W p l e rM_stands s m args below meth c H locs 0 0 (MQ below (mQv dC dI ac o ad σ') args s 0 0 (mF o ad)) (F0 m 265 ls []) := by
    intro  n
    induction n with
    | zero =>
      intro σ x1 hf
      cases hf
    | succ n ih =>
      intro σ x1 hf H locs hS ls hl
      have hf : M_stands_b265 N (rn2 (M_stands_b265 N) n) σ x1 = some ((), σ') := hf
      have hk265 := ih
      generalize rn2 (M_stands_b265 N) n = k265 at hf hk265
      unfold M_stands_b265 at hf
      refine lv_iload_n E.1 hb dX6_stands_265 rfl (lv_at hl 1 rfl) ?_
      refine lv_aload_n E.1 hb dX6_stands_266 rfl (lv_at hl 0 rfl) ?_
      refine m_gA (k := 41) E hb hS 2 rfl (by decide) fl_41 dX6_stands_267 ?_
      refine lv_iconst (v := 0) E.1 hb dX6_stands_270 rfl ?_
      obtain ⟨hg, hf⟩ := ld_s hf
      refine m_ild E hb hS hg dX6_stands_271 ?_
      refine lv_icmp_ge (tgt := 337) E.1 hb dX6_stands_272 (by decide) (fun hc => ?_) (fun hc => ?_)
      · have hf := it_s hc hf
        refine lv_aload_n E.1 hb dX6_stands_337 rfl (lv_at hl 0 rfl) ?_
        refine lv_iconst (v := 0) E.1 hb dX6_stands_338 rfl ?_
        obtain ⟨σ4, hw, hf⟩ := lt2_s hf
        refine m_pI (k := 69) E hb hS rfl rfl pf_69 fl_69 hw dX6_stands_339 (fun H locs hS => ?_)
        refine lv_aload_n E.1 hb dX6_stands_342 rfl (lv_at hl 0 rfl) ?_
        refine lv_iconst (v := 0) E.1 hb dX6_stands_343 rfl ?_
        obtain ⟨σ5, hw, hf⟩ := lt2_s hf
        refine m_pI (k := 65) E hb hS rfl rfl pf_65 fl_65 hw dX6_stands_344 (fun H locs hS => ?_)
        exact m_vr E hb hr hlk hS hf dX6_stands_347
      · have hf := if_s hc hf
        refine lv_aload_n E.1 hb dX6_stands_275 rfl (lv_at hl 0 rfl) ?_
        refine m_gA (k := 56) E hb hS 2 rfl (by decide) fl_56 dX6_stands_276 ?_
        refine lv_bipush (v := 7) E.1 hb dX6_stands_279 rfl ?_
        refine lv_iconst (v := 4) E.1 hb dX6_stands_281 rfl ?_
        refine lv_iload_n E.1 hb dX6_stands_282 rfl (lv_at hl 1 rfl) ?_
        refine lv_imul E.1 hb dX6_stands_283 ?_
        refine lv_iadd E.1 hb dX6_stands_284 ?_
        refine lv_aload_n E.1 hb dX6_stands_285 rfl (lv_at hl 0 rfl) ?_
        refine m_gA (k := 45) E hb hS 2 rfl (by decide) fl_45 dX6_stands_286 ?_
        refine lv_iconst (v := 2) E.1 hb dX6_stands_289 rfl ?_
        refine lv_iload_n E.1 hb dX6_stands_290 rfl (lv_at hl 1 rfl) ?_
        refine lv_imul E.1 hb dX6_stands_291 ?_
        obtain ⟨hg, hf⟩ := ld_s hf
        refine m_ild E hb hS hg dX6_stands_292 ?_
        obtain ⟨σ7, hg, hw, hf⟩ := st_s hf
        refine m_ist E hb hS hg hw dX6_stands_293 (fun H locs hS => ?_)
        refine lv_aload_n E.1 hb dX6_stands_294 rfl (lv_at hl 0 rfl) ?_
        refine m_gA (k := 56) E hb hS 2 rfl (by decide) fl_56 dX6_stands_295 ?_
        refine lv_bipush (v := 7) E.1 hb dX6_stands_298 rfl ?_
        refine lv_iconst (v := 4) E.1 hb dX6_stands_300 rfl ?_
        refine lv_iload_n E.1 hb dX6_stands_301 rfl (lv_at hl 1 rfl) ?_
        refine lv_imul E.1 hb dX6_stands_302 ?_
        refine lv_iadd E.1 hb dX6_stands_303 ?_
        refine lv_iconst (v := 1) E.1 hb dX6_stands_304 rfl ?_
        refine lv_iadd E.1 hb dX6_stands_305 ?_
        refine lv_aload_n E.1 hb dX6_stands_306 rfl (lv_at hl 0 rfl) ?_
        refine m_gA (k := 45) E hb hS 2 rfl (by decide) fl_45 dX6_stands_307 ?_
        refine lv_iconst (v := 2) E.1 hb dX6_stands_310 rfl ?_
        refine lv_iload_n E.1 hb dX6_stands_311 rfl (lv_at hl 1 rfl) ?_
        refine lv_imul E.1 hb dX6_stands_312 ?_
        refine lv_iconst (v := 1) E.1 hb dX6_stands_313 rfl ?_
        refine lv_iadd E.1 hb dX6_stands_314 ?_
        obtain ⟨hg, hf⟩ := ld_s hf
        refine m_ild E hb hS hg dX6_stands_315 ?_
        obtain ⟨σ9, hg, hw, hf⟩ := st_s hf
        refine m_ist E hb hS hg hw dX6_stands_316 (fun H locs hS => ?_)
        refine lv_aload_n E.1 hb dX6_stands_317 rfl (lv_at hl 0 rfl) ?_
        refine m_gA (k := 56) E hb hS 2 rfl (by decide) fl_56 dX6_stands_318 ?_
        refine lv_bipush (v := 7) E.1 hb dX6_stands_321 rfl ?_
        refine lv_iconst (v := 4) E.1 hb dX6_stands_323 rfl ?_
        refine lv_iload_n E.1 hb dX6_stands_324 rfl (lv_at hl 1 rfl) ?_
        refine lv_imul E.1 hb dX6_stands_325 ?_
        refine lv_iadd E.1 hb dX6_stands_326 ?_
        refine lv_iconst (v := 2) E.1 hb dX6_stands_327 rfl ?_
        refine lv_iadd E.1 hb dX6_stands_328 ?_
        refine lv_iconst (v := 5) E.1 hb dX6_stands_329 rfl ?_
        obtain ⟨σ10, hg, hw, hf⟩ := st_s hf
        refine m_ist E hb hS hg hw dX6_stands_330 (fun H locs hS => ?_)
        refine lv_iinc (v := (x1 + 1)) (lv' := [(1, .int (x1 + 1)), (0, .ref o)]) E.1 hb dX6_stands_331 hl (k := 1) rfl rfl (by decide) rfl (fun ls hl => ?_)
        refine lv_goto (tgt := 265) E.1 hb dX6_stands_334 (by decide) ?_
        exact hk265 σ10 (x1 + 1) hf _ _ hS _ (lv_sub hl [1, 0] rfl)
  have hL237 : ∀ (n : Nat) (σ : mSt) (x1 : Int32), rn2 (M_stands_b237 N) n σ x1 = some ((), σ') → ∀ (H : Heap) (locs : List Loc), mS dC dI ac o ad s.heap σ H locs → ∀ (ls : Array Slot), lv_has ls 2 [(0, .ref o), (1, .int x1)] → W p l e rM_stands s m args below meth c H locs 0 0 (MQ below (mQv dC dI ac o ad σ') args s 0 0 (mF o ad)) (F0 m 237 ls []) := by
    intro  n
    induction n with
    | zero =>
      intro σ x1 hf
      cases hf
    | succ n ih =>
      intro σ x1 hf H locs hS ls hl
      have hf : M_stands_b237 N (rn2 (M_stands_b237 N) n) σ x1 = some ((), σ') := hf
      have hk237 := ih
      generalize rn2 (M_stands_b237 N) n = k237 at hf hk237
      unfold M_stands_b237 at hf
      refine lv_iload_n E.1 hb dX6_stands_237 rfl (lv_at hl 1 rfl) ?_
      refine lv_bipush (v := 6) E.1 hb dX6_stands_238 rfl ?_
      refine lv_icmp_ge (tgt := 263) E.1 hb dX6_stands_240 (by decide) (fun hc => ?_) (fun hc => ?_)
      · have hf := it_s hc hf
        refine lv_iconst (v := 0) E.1 hb dX6_stands_263 rfl ?_
        refine lv_istore_n (lv' := [(1, .int 0), (0, .ref o)]) E.1 hb dX6_stands_264 rfl hl (by decide) rfl (fun ls hl => ?_)
        exact hL265 N σ 0 hf _ _ hS _ (lv_sub hl [1, 0] rfl)
      · have hf := if_s hc hf
        refine lv_aload_n E.1 hb dX6_stands_243 rfl (lv_at hl 0 rfl) ?_
        refine m_gA (k := 56) E hb hS 2 rfl (by decide) fl_56 dX6_stands_244 ?_
        refine lv_iconst (v := 1) E.1 hb dX6_stands_247 rfl ?_
        refine lv_iload_n E.1 hb dX6_stands_248 rfl (lv_at hl 1 rfl) ?_
        refine lv_iadd E.1 hb dX6_stands_249 ?_
        refine lv_aload_n E.1 hb dX6_stands_250 rfl (lv_at hl 0 rfl) ?_
        refine m_gA (k := 43) E hb hS 2 rfl (by decide) fl_43 dX6_stands_251 ?_
        refine lv_iload_n E.1 hb dX6_stands_254 rfl (lv_at hl 1 rfl) ?_
        obtain ⟨hg, hf⟩ := ld_s hf
        refine m_ild E hb hS hg dX6_stands_255 ?_
        obtain ⟨σ12, hg, hw, hf⟩ := st_s hf
        refine m_ist E hb hS hg hw dX6_stands_256 (fun H locs hS => ?_)
        refine lv_iinc (v := (x1 + 1)) (lv' := [(1, .int (x1 + 1)), (0, .ref o)]) E.1 hb dX6_stands_257 hl (k := 1) rfl rfl (by decide) rfl (fun ls hl => ?_)
        refine lv_goto (tgt := 237) E.1 hb dX6_stands_260 (by decide) ?_
        exact hk237 σ12 (x1 + 1) hf _ _ hS _ (lv_sub hl [1, 0] rfl)
  have hL215 : ∀ (n : Nat) (σ : mSt) (x1 : Int32), rn2 (M_stands_b215 N) n σ x1 = some ((), σ') → ∀ (H : Heap) (locs : List Loc), mS dC dI ac o ad s.heap σ H locs → ∀ (ls : Array Slot), lv_has ls 2 [(0, .ref o), (1, .int x1)] → W p l e rM_stands s m args below meth c H locs 0 0 (MQ below (mQv dC dI ac o ad σ') args s 0 0 (mF o ad)) (F0 m 215 ls []) := by
    intro  n
    induction n with
    | zero =>
      intro σ x1 hf
      cases hf
    | succ n ih =>
      intro σ x1 hf H locs hS ls hl
      have hf : M_stands_b215 N (rn2 (M_stands_b215 N) n) σ x1 = some ((), σ') := hf
      have hk215 := ih
      generalize rn2 (M_stands_b215 N) n = k215 at hf hk215
      unfold M_stands_b215 at hf
      refine lv_iload_n E.1 hb dX6_stands_215 rfl (lv_at hl 1 rfl) ?_
      refine lv_sipush (v := 160) E.1 hb dX6_stands_216 rfl ?_
      refine lv_icmp_ge (tgt := 235) E.1 hb dX6_stands_219 (by decide) (fun hc => ?_) (fun hc => ?_)
      · have hf := it_s hc hf
        refine lv_iconst (v := 0) E.1 hb dX6_stands_235 rfl ?_
        refine lv_istore_n (lv' := [(1, .int 0), (0, .ref o)]) E.1 hb dX6_stands_236 rfl hl (by decide) rfl (fun ls hl => ?_)
        exact hL237 N σ 0 hf _ _ hS _ (lv_sub hl [1, 0] rfl)
      · have hf := if_s hc hf
        refine lv_aload_n E.1 hb dX6_stands_222 rfl (lv_at hl 0 rfl) ?_
        refine m_gA (k := 56) E hb hS 2 rfl (by decide) fl_56 dX6_stands_223 ?_
        refine lv_iload_n E.1 hb dX6_stands_226 rfl (lv_at hl 1 rfl) ?_
        refine lv_iconst (v := 0) E.1 hb dX6_stands_227 rfl ?_
        obtain ⟨σ13, hg, hw, hf⟩ := st_s hf
        refine m_ist E hb hS hg hw dX6_stands_228 (fun H locs hS => ?_)
        refine lv_iinc (v := (x1 + 1)) (lv' := [(1, .int (x1 + 1)), (0, .ref o)]) E.1 hb dX6_stands_229 hl (k := 1) rfl rfl (by decide) rfl (fun ls hl => ?_)
        refine lv_goto (tgt := 215) E.1 hb dX6_stands_232 (by decide) ?_
        exact hk215 σ13 (x1 + 1) hf _ _ hS _ (lv_sub hl [1, 0] rfl)
  have hL183 : ∀ (n : Nat) (σ : mSt) (x1 : Int32), rn2 (M_stands_b183 N) n σ x1 = some ((), σ') → ∀ (H : Heap) (locs : List Loc), mS dC dI ac o ad s.heap σ H locs → ∀ (ls : Array Slot), lv_has ls 2 [(0, .ref o), (1, .int x1)] → W p l e rM_stands s m args below meth c H locs 0 0 (MQ below (mQv dC dI ac o ad σ') args s 0 0 (mF o ad)) (F0 m 183 ls []) := by
    intro  n
    induction n with
    | zero =>
      intro σ x1 hf
      cases hf
    | succ n ih =>
      intro σ x1 hf H locs hS ls hl
      have hf : M_stands_b183 N (rn2 (M_stands_b183 N) n) σ x1 = some ((), σ') := hf
      have hk183 := ih
      generalize rn2 (M_stands_b183 N) n = k183 at hf hk183
      unfold M_stands_b183 at hf
      refine lv_iload_n E.1 hb dX6_stands_183 rfl (lv_at hl 1 rfl) ?_
      refine lv_aload_n E.1 hb dX6_stands_184 rfl (lv_at hl 0 rfl) ?_
      refine m_gI (k := 52) E hb hS rfl fl_52 dX6_stands_185 ?_
      refine lv_icmp_ge (tgt := 213) E.1 hb dX6_stands_188 (by decide) (fun hc => ?_) (fun hc => ?_)
      · have hf := it_s hc hf
        refine lv_iconst (v := 0) E.1 hb dX6_stands_213 rfl ?_
        refine lv_istore_n (lv' := [(1, .int 0), (0, .ref o)]) E.1 hb dX6_stands_214 rfl hl (by decide) rfl (fun ls hl => ?_)
        exact hL215 N σ 0 hf _ _ hS _ (lv_sub hl [1, 0] rfl)
      · have hf := if_s hc hf
        refine lv_aload_n E.1 hb dX6_stands_191 rfl (lv_at hl 0 rfl) ?_
        refine m_gA (k := 51) E hb hS 2 rfl (by decide) fl_51 dX6_stands_192 ?_
        refine lv_sipush (v := 1600) E.1 hb dX6_stands_195 rfl ?_
        refine lv_iload_n E.1 hb dX6_stands_198 rfl (lv_at hl 1 rfl) ?_
        refine lv_iadd E.1 hb dX6_stands_199 ?_
        refine lv_aload_n E.1 hb dX6_stands_200 rfl (lv_at hl 0 rfl) ?_
        refine m_gA (k := 51) E hb hS 2 rfl (by decide) fl_51 dX6_stands_201 ?_
        refine lv_iload_n E.1 hb dX6_stands_204 rfl (lv_at hl 1 rfl) ?_
        obtain ⟨hg, hf⟩ := ld_s hf
        refine m_ild E hb hS hg dX6_stands_205 ?_
        obtain ⟨σ15, hg, hw, hf⟩ := st_s hf
        refine m_ist E hb hS hg hw dX6_stands_206 (fun H locs hS => ?_)
        refine lv_iinc (v := (x1 + 1)) (lv' := [(1, .int (x1 + 1)), (0, .ref o)]) E.1 hb dX6_stands_207 hl (k := 1) rfl rfl (by decide) rfl (fun ls hl => ?_)
        refine lv_goto (tgt := 183) E.1 hb dX6_stands_210 (by decide) ?_
        exact hk183 σ15 (x1 + 1) hf _ _ hS _ (lv_sub hl [1, 0] rfl)
  have hL142 : ∀ (n : Nat) (σ : mSt) (x1 : Int32), rn2 (M_stands_b142 N) n σ x1 = some ((), σ') → ∀ (H : Heap) (locs : List Loc), mS dC dI ac o ad s.heap σ H locs → ∀ (ls : Array Slot), lv_has ls 2 [(0, .ref o), (1, .int x1)] → W p l e rM_stands s m args below meth c H locs 0 0 (MQ below (mQv dC dI ac o ad σ') args s 0 0 (mF o ad)) (F0 m 142 ls []) := by
    intro  n
    induction n with
    | zero =>
      intro σ x1 hf
      cases hf
    | succ n ih =>
      intro σ x1 hf H locs hS ls hl
      have hf : M_stands_b142 N (rn2 (M_stands_b142 N) n) σ x1 = some ((), σ') := hf
      have hk142 := ih
      generalize rn2 (M_stands_b142 N) n = k142 at hf hk142
      unfold M_stands_b142 at hf
      refine lv_iload_n E.1 hb dX6_stands_142 rfl (lv_at hl 1 rfl) ?_
      refine lv_iconst (v := 4) E.1 hb dX6_stands_143 rfl ?_
      refine lv_icmp_ge (tgt := 181) E.1 hb dX6_stands_144 (by decide) (fun hc => ?_) (fun hc => ?_)
      · have hf := it_s hc hf
        refine lv_iconst (v := 0) E.1 hb dX6_stands_181 rfl ?_
        refine lv_istore_n (lv' := [(1, .int 0), (0, .ref o)]) E.1 hb dX6_stands_182 rfl hl (by decide) rfl (fun ls hl => ?_)
        exact hL183 N σ 0 hf _ _ hS _ (lv_sub hl [1, 0] rfl)
      · have hf := if_s hc hf
        refine lv_aload_n E.1 hb dX6_stands_147 rfl (lv_at hl 0 rfl) ?_
        refine m_gA (k := 49) E hb hS 2 rfl (by decide) fl_49 dX6_stands_148 ?_
        refine lv_iconst (v := 4) E.1 hb dX6_stands_151 rfl ?_
        refine lv_iload_n E.1 hb dX6_stands_152 rfl (lv_at hl 1 rfl) ?_
        refine lv_iadd E.1 hb dX6_stands_153 ?_
        refine lv_aload_n E.1 hb dX6_stands_154 rfl (lv_at hl 0 rfl) ?_
        refine m_gA (k := 49) E hb hS 2 rfl (by decide) fl_49 dX6_stands_155 ?_
        refine lv_iload_n E.1 hb dX6_stands_158 rfl (lv_at hl 1 rfl) ?_
        obtain ⟨hg, hf⟩ := ld_s hf
        refine m_ild E hb hS hg dX6_stands_159 ?_
        obtain ⟨σ17, hg, hw, hf⟩ := st_s hf
        refine m_ist E hb hS hg hw dX6_stands_160 (fun H locs hS => ?_)
        refine lv_aload_n E.1 hb dX6_stands_161 rfl (lv_at hl 0 rfl) ?_
        refine m_gA (k := 50) E hb hS 2 rfl (by decide) fl_50 dX6_stands_162 ?_
        refine lv_iconst (v := 4) E.1 hb dX6_stands_165 rfl ?_
        refine lv_iload_n E.1 hb dX6_stands_166 rfl (lv_at hl 1 rfl) ?_
        refine lv_iadd E.1 hb dX6_stands_167 ?_
        refine lv_aload_n E.1 hb dX6_stands_168 rfl (lv_at hl 0 rfl) ?_
        refine m_gA (k := 50) E hb hS 2 rfl (by decide) fl_50 dX6_stands_169 ?_
        refine lv_iload_n E.1 hb dX6_stands_172 rfl (lv_at hl 1 rfl) ?_
        obtain ⟨hg, hf⟩ := ld_s hf
        refine m_ild E hb hS hg dX6_stands_173 ?_
        obtain ⟨σ19, hg, hw, hf⟩ := st_s hf
        refine m_ist E hb hS hg hw dX6_stands_174 (fun H locs hS => ?_)
        refine lv_iinc (v := (x1 + 1)) (lv' := [(1, .int (x1 + 1)), (0, .ref o)]) E.1 hb dX6_stands_175 hl (k := 1) rfl rfl (by decide) rfl (fun ls hl => ?_)
        refine lv_goto (tgt := 142) E.1 hb dX6_stands_178 (by decide) ?_
        exact hk142 σ19 (x1 + 1) hf _ _ hS _ (lv_sub hl [1, 0] rfl)
  have hL105 : ∀ (n : Nat) (σ : mSt) (x1 : Int32), rn2 (M_stands_b105 N) n σ x1 = some ((), σ') → ∀ (H : Heap) (locs : List Loc), mS dC dI ac o ad s.heap σ H locs → ∀ (ls : Array Slot), lv_has ls 2 [(0, .ref o), (1, .int x1)] → W p l e rM_stands s m args below meth c H locs 0 0 (MQ below (mQv dC dI ac o ad σ') args s 0 0 (mF o ad)) (F0 m 105 ls []) := by
    intro  n
    induction n with
    | zero =>
      intro σ x1 hf
      cases hf
    | succ n ih =>
      intro σ x1 hf H locs hS ls hl
      have hf : M_stands_b105 N (rn2 (M_stands_b105 N) n) σ x1 = some ((), σ') := hf
      have hk105 := ih
      generalize rn2 (M_stands_b105 N) n = k105 at hf hk105
      unfold M_stands_b105 at hf
      refine lv_iload_n E.1 hb dX6_stands_105 rfl (lv_at hl 1 rfl) ?_
      refine lv_bipush (v := 36) E.1 hb dX6_stands_106 rfl ?_
      refine lv_icmp_ge (tgt := 132) E.1 hb dX6_stands_108 (by decide) (fun hc => ?_) (fun hc => ?_)
      · have hf := it_s hc hf
        refine lv_aload_n E.1 hb dX6_stands_132 rfl (lv_at hl 0 rfl) ?_
        refine lv_aload_n E.1 hb dX6_stands_133 rfl (lv_at hl 0 rfl) ?_
        refine m_gI (k := 47) E hb hS rfl fl_47 dX6_stands_134 ?_
        obtain ⟨σ2, hw, hf⟩ := lt2_s hf
        refine m_pI (k := 48) E hb hS rfl rfl pf_48 fl_48 hw dX6_stands_137 (fun H locs hS => ?_)
        refine lv_iconst (v := 0) E.1 hb dX6_stands_140 rfl ?_
        refine lv_istore_n (lv' := [(1, .int 0), (0, .ref o)]) E.1 hb dX6_stands_141 rfl hl (by decide) rfl (fun ls hl => ?_)
        exact hL142 N σ2 0 hf _ _ hS _ (lv_sub hl [1, 0] rfl)
      · have hf := if_s hc hf
        refine lv_aload_n E.1 hb dX6_stands_111 rfl (lv_at hl 0 rfl) ?_
        refine m_gA (k := 44) E hb hS 2 rfl (by decide) fl_44 dX6_stands_112 ?_
        refine lv_bipush (v := 36) E.1 hb dX6_stands_115 rfl ?_
        refine lv_iload_n E.1 hb dX6_stands_117 rfl (lv_at hl 1 rfl) ?_
        refine lv_iadd E.1 hb dX6_stands_118 ?_
        refine lv_aload_n E.1 hb dX6_stands_119 rfl (lv_at hl 0 rfl) ?_
        refine m_gA (k := 44) E hb hS 2 rfl (by decide) fl_44 dX6_stands_120 ?_
        refine lv_iload_n E.1 hb dX6_stands_123 rfl (lv_at hl 1 rfl) ?_
        obtain ⟨hg, hf⟩ := ld_s hf
        refine m_ild E hb hS hg dX6_stands_124 ?_
        obtain ⟨σ21, hg, hw, hf⟩ := st_s hf
        refine m_ist E hb hS hg hw dX6_stands_125 (fun H locs hS => ?_)
        refine lv_iinc (v := (x1 + 1)) (lv' := [(1, .int (x1 + 1)), (0, .ref o)]) E.1 hb dX6_stands_126 hl (k := 1) rfl rfl (by decide) rfl (fun ls hl => ?_)
        refine lv_goto (tgt := 105) E.1 hb dX6_stands_129 (by decide) ?_
        exact hk105 σ21 (x1 + 1) hf _ _ hS _ (lv_sub hl [1, 0] rfl)
  have hL61 : ∀ (n : Nat) (σ : mSt) (x1 : Int32), rn2 (M_stands_b61 N) n σ x1 = some ((), σ') → ∀ (H : Heap) (locs : List Loc), mS dC dI ac o ad s.heap σ H locs → ∀ (ls : Array Slot), lv_has ls 2 [(0, .ref o), (1, .int x1)] → W p l e rM_stands s m args below meth c H locs 0 0 (MQ below (mQv dC dI ac o ad σ') args s 0 0 (mF o ad)) (F0 m 61 ls []) := by
    intro  n
    induction n with
    | zero =>
      intro σ x1 hf
      cases hf
    | succ n ih =>
      intro σ x1 hf H locs hS ls hl
      have hf : M_stands_b61 N (rn2 (M_stands_b61 N) n) σ x1 = some ((), σ') := hf
      have hk61 := ih
      generalize rn2 (M_stands_b61 N) n = k61 at hf hk61
      unfold M_stands_b61 at hf
      refine lv_iload_n E.1 hb dX6_stands_61 rfl (lv_at hl 1 rfl) ?_
      refine lv_bipush (v := 8) E.1 hb dX6_stands_62 rfl ?_
      refine lv_icmp_ge (tgt := 103) E.1 hb dX6_stands_64 (by decide) (fun hc => ?_) (fun hc => ?_)
      · have hf := it_s hc hf
        refine lv_iconst (v := 0) E.1 hb dX6_stands_103 rfl ?_
        refine lv_istore_n (lv' := [(1, .int 0), (0, .ref o)]) E.1 hb dX6_stands_104 rfl hl (by decide) rfl (fun ls hl => ?_)
        exact hL105 N σ 0 hf _ _ hS _ (lv_sub hl [1, 0] rfl)
      · have hf := if_s hc hf
        refine lv_aload_n E.1 hb dX6_stands_67 rfl (lv_at hl 0 rfl) ?_
        refine m_gA (k := 42) E hb hS 3 rfl (by decide) fl_42 dX6_stands_68 ?_
        refine lv_bipush (v := 8) E.1 hb dX6_stands_71 rfl ?_
        refine lv_iload_n E.1 hb dX6_stands_73 rfl (lv_at hl 1 rfl) ?_
        refine lv_iadd E.1 hb dX6_stands_74 ?_
        refine lv_aload_n E.1 hb dX6_stands_75 rfl (lv_at hl 0 rfl) ?_
        refine m_gA (k := 42) E hb hS 3 rfl (by decide) fl_42 dX6_stands_76 ?_
        refine lv_iload_n E.1 hb dX6_stands_79 rfl (lv_at hl 1 rfl) ?_
        obtain ⟨hg, hf⟩ := ldL_s hf
        refine m_lld E hb hS hg dX6_stands_80 ?_
        obtain ⟨σ23, hg, hw, hf⟩ := stL_s hf
        refine m_lst E hb hS hg hw dX6_stands_81 (fun H locs hS => ?_)
        refine lv_aload_n E.1 hb dX6_stands_82 rfl (lv_at hl 0 rfl) ?_
        refine m_gA (k := 46) E hb hS 2 rfl (by decide) fl_46 dX6_stands_83 ?_
        refine lv_bipush (v := 8) E.1 hb dX6_stands_86 rfl ?_
        refine lv_iload_n E.1 hb dX6_stands_88 rfl (lv_at hl 1 rfl) ?_
        refine lv_iadd E.1 hb dX6_stands_89 ?_
        refine lv_aload_n E.1 hb dX6_stands_90 rfl (lv_at hl 0 rfl) ?_
        refine m_gA (k := 46) E hb hS 2 rfl (by decide) fl_46 dX6_stands_91 ?_
        refine lv_iload_n E.1 hb dX6_stands_94 rfl (lv_at hl 1 rfl) ?_
        obtain ⟨hg, hf⟩ := ld_s hf
        refine m_ild E hb hS hg dX6_stands_95 ?_
        obtain ⟨σ25, hg, hw, hf⟩ := st_s hf
        refine m_ist E hb hS hg hw dX6_stands_96 (fun H locs hS => ?_)
        refine lv_iinc (v := (x1 + 1)) (lv' := [(1, .int (x1 + 1)), (0, .ref o)]) E.1 hb dX6_stands_97 hl (k := 1) rfl rfl (by decide) rfl (fun ls hl => ?_)
        refine lv_goto (tgt := 61) E.1 hb dX6_stands_100 (by decide) ?_
        exact hk61 σ25 (x1 + 1) hf _ _ hS _ (lv_sub hl [1, 0] rfl)
  have hL34 : ∀ (n : Nat) (σ : mSt) (x1 : Int32), rn2 (M_stands_b34 N) n σ x1 = some ((), σ') → ∀ (H : Heap) (locs : List Loc), mS dC dI ac o ad s.heap σ H locs → ∀ (ls : Array Slot), lv_has ls 2 [(0, .ref o), (1, .int x1)] → W p l e rM_stands s m args below meth c H locs 0 0 (MQ below (mQv dC dI ac o ad σ') args s 0 0 (mF o ad)) (F0 m 34 ls []) := by
    intro  n
    induction n with
    | zero =>
      intro σ x1 hf
      cases hf
    | succ n ih =>
      intro σ x1 hf H locs hS ls hl
      have hf : M_stands_b34 N (rn2 (M_stands_b34 N) n) σ x1 = some ((), σ') := hf
      have hk34 := ih
      generalize rn2 (M_stands_b34 N) n = k34 at hf hk34
      unfold M_stands_b34 at hf
      refine lv_iload_n E.1 hb dX6_stands_34 rfl (lv_at hl 1 rfl) ?_
      refine lv_iconst (v := 3) E.1 hb dX6_stands_35 rfl ?_
      refine lv_icmp_ge (tgt := 59) E.1 hb dX6_stands_36 (by decide) (fun hc => ?_) (fun hc => ?_)
      · have hf := it_s hc hf
        refine lv_iconst (v := 0) E.1 hb dX6_stands_59 rfl ?_
        refine lv_istore_n (lv' := [(1, .int 0), (0, .ref o)]) E.1 hb dX6_stands_60 rfl hl (by decide) rfl (fun ls hl => ?_)
        exact hL61 N σ 0 hf _ _ hS _ (lv_sub hl [1, 0] rfl)
      · have hf := if_s hc hf
        refine lv_aload_n E.1 hb dX6_stands_39 rfl (lv_at hl 0 rfl) ?_
        refine m_gA (k := 41) E hb hS 2 rfl (by decide) fl_41 dX6_stands_40 ?_
        refine lv_iconst (v := 3) E.1 hb dX6_stands_43 rfl ?_
        refine lv_iload_n E.1 hb dX6_stands_44 rfl (lv_at hl 1 rfl) ?_
        refine lv_iadd E.1 hb dX6_stands_45 ?_
        refine lv_aload_n E.1 hb dX6_stands_46 rfl (lv_at hl 0 rfl) ?_
        refine m_gA (k := 41) E hb hS 2 rfl (by decide) fl_41 dX6_stands_47 ?_
        refine lv_iload_n E.1 hb dX6_stands_50 rfl (lv_at hl 1 rfl) ?_
        obtain ⟨hg, hf⟩ := ld_s hf
        refine m_ild E hb hS hg dX6_stands_51 ?_
        obtain ⟨σ27, hg, hw, hf⟩ := st_s hf
        refine m_ist E hb hS hg hw dX6_stands_52 (fun H locs hS => ?_)
        refine lv_iinc (v := (x1 + 1)) (lv' := [(1, .int (x1 + 1)), (0, .ref o)]) E.1 hb dX6_stands_53 hl (k := 1) rfl rfl (by decide) rfl (fun ls hl => ?_)
        refine lv_goto (tgt := 34) E.1 hb dX6_stands_56 (by decide) ?_
        exact hk34 σ27 (x1 + 1) hf _ _ hS _ (lv_sub hl [1, 0] rfl)
  have hL7 : ∀ (n : Nat) (σ : mSt) (x1 : Int32), rn2 (M_stands_b7 N) n σ x1 = some ((), σ') → ∀ (H : Heap) (locs : List Loc), mS dC dI ac o ad s.heap σ H locs → ∀ (ls : Array Slot), lv_has ls 2 [(0, .ref o), (1, .int x1)] → W p l e rM_stands s m args below meth c H locs 0 0 (MQ below (mQv dC dI ac o ad σ') args s 0 0 (mF o ad)) (F0 m 7 ls []) := by
    intro  n
    induction n with
    | zero =>
      intro σ x1 hf
      cases hf
    | succ n ih =>
      intro σ x1 hf H locs hS ls hl
      have hf : M_stands_b7 N (rn2 (M_stands_b7 N) n) σ x1 = some ((), σ') := hf
      have hk7 := ih
      generalize rn2 (M_stands_b7 N) n = k7 at hf hk7
      unfold M_stands_b7 at hf
      refine lv_iload_n E.1 hb dX6_stands_7 rfl (lv_at hl 1 rfl) ?_
      refine lv_iconst (v := 2) E.1 hb dX6_stands_8 rfl ?_
      refine lv_icmp_ge (tgt := 32) E.1 hb dX6_stands_9 (by decide) (fun hc => ?_) (fun hc => ?_)
      · have hf := it_s hc hf
        refine lv_iconst (v := 0) E.1 hb dX6_stands_32 rfl ?_
        refine lv_istore_n (lv' := [(1, .int 0), (0, .ref o)]) E.1 hb dX6_stands_33 rfl hl (by decide) rfl (fun ls hl => ?_)
        exact hL34 N σ 0 hf _ _ hS _ (lv_sub hl [1, 0] rfl)
      · have hf := if_s hc hf
        refine lv_aload_n E.1 hb dX6_stands_12 rfl (lv_at hl 0 rfl) ?_
        refine m_gA (k := 40) E hb hS 2 rfl (by decide) fl_40 dX6_stands_13 ?_
        refine lv_iconst (v := 2) E.1 hb dX6_stands_16 rfl ?_
        refine lv_iload_n E.1 hb dX6_stands_17 rfl (lv_at hl 1 rfl) ?_
        refine lv_iadd E.1 hb dX6_stands_18 ?_
        refine lv_aload_n E.1 hb dX6_stands_19 rfl (lv_at hl 0 rfl) ?_
        refine m_gA (k := 40) E hb hS 2 rfl (by decide) fl_40 dX6_stands_20 ?_
        refine lv_iload_n E.1 hb dX6_stands_23 rfl (lv_at hl 1 rfl) ?_
        obtain ⟨hg, hf⟩ := ld_s hf
        refine m_ild E hb hS hg dX6_stands_24 ?_
        obtain ⟨σ29, hg, hw, hf⟩ := st_s hf
        refine m_ist E hb hS hg hw dX6_stands_25 (fun H locs hS => ?_)
        refine lv_iinc (v := (x1 + 1)) (lv' := [(1, .int (x1 + 1)), (0, .ref o)]) E.1 hb dX6_stands_26 hl (k := 1) rfl rfl (by decide) rfl (fun ls hl => ?_)
        refine lv_goto (tgt := 7) E.1 hb dX6_stands_29 (by decide) ?_
        exact hk7 σ29 (x1 + 1) hf _ _ hS _ (lv_sub hl [1, 0] rfl)
  unfold M_stands at hf
  refine lv_aload_n E.1 hb dX6_stands_0 rfl (lv_at hl 0 rfl) ?_
  refine lv_iconst (v := 1) E.1 hb dX6_stands_1 rfl ?_
  obtain ⟨σ1, hw, hf⟩ := lt2_s hf
  refine m_pZ (k := 54) E hb hS rfl rfl pz_54 fl_54 rfl rfl hw dX6_stands_2 (fun H locs hS => ?_)
  refine lv_iconst (v := 0) E.1 hb dX6_stands_5 rfl ?_
  refine lv_istore_n (lv' := [(1, .int 0), (0, .ref o)]) E.1 hb dX6_stands_6 rfl hl (by decide) rfl (fun ls hl => ?_)
  exact hL7 N σ1 0 hf _ _ hS _ (lv_sub hl [1, 0] rfl)
/-! folio()I: RW -/
noncomputable def M_folio_b135 (N : Nat) (σ : mSt) : Option (Int32 × mSt) :=
  lt2 (mUI σ 7 0 (σ.1 5 0)) fun σ11 => lt2 (mUI σ11 8 0 (σ11.1 6 0)) fun σ12 => if (σ12.1 5 0) = 0 then (bd (M_stands N σ12) fun _ σ13 => some ((σ13.1 53 0), σ13)) else (bo (ld 2 σ12 9 1) fun v14 => bo (stI 2 σ12 9 1 (v14 + 1)) fun σ15 => some ((-1), σ15))
noncomputable def M_folio_b113 (N : Nat) (k113 : mSt → Option (Int32 × mSt)) (σ : mSt) : Option (Int32 × mSt) :=
  if (σ.1 5 0) = 0 then (bd (M_look N σ) fun r16 σ17 => if r16 = (-1) then (M_folio_b135 N σ17) else (bd (M_statementTold N σ17) fun _ σ18 => k113 σ18)) else (M_folio_b135 N σ)
noncomputable def M_folio_b81 (N : Nat) (k81 : mSt → Int32 → Option (Int32 × mSt)) (σ : mSt) (x1 : Int32) : Option (Int32 × mSt) :=
  if 4 ≤ x1 then (lt2 (mUI σ 47 0 0) fun σ8 => bd (M_folioTold N σ8) fun _ σ9 => lt2 (mUI σ9 53 0 1) fun σ10 => rn1 (M_folio_b113 N) N σ10) else (bo (stI 2 σ 49 x1 (-1)) fun σ19 => k81 σ19 (x1 + 1))
noncomputable def M_folio_b60 (N : Nat) (k60 : mSt → Int32 → Option (Int32 × mSt)) (σ : mSt) (x1 : Int32) : Option (Int32 × mSt) :=
  if 6 ≤ x1 then (rn2 (M_folio_b81 N) N σ 0) else (bo (stI 2 σ 43 x1 0) fun σ20 => k60 σ20 (x1 + 1))
noncomputable def M_folio_b40 (N : Nat) (k40 : mSt → Int32 → Option (Int32 × mSt)) (σ : mSt) (x1 : Int32) : Option (Int32 × mSt) :=
  if 3 ≤ x1 then (rn2 (M_folio_b60 N) N σ 0) else (bo (stI 2 σ 41 x1 0) fun σ21 => k40 σ21 (x1 + 1))
noncomputable def M_folio (N : Nat) (σ : mSt) : Option (Int32 × mSt) :=
  lt2 (mUI σ 3 0 (σ.1 1 0)) fun σ1 => lt2 (mUI σ1 1 0 0) fun σ2 => lt2 (mUI σ2 2 0 0) fun σ3 => lt2 (mUI σ3 4 0 (-1)) fun σ4 => lt2 (mUI σ4 5 0 0) fun σ5 => lt2 (mUI σ5 6 0 (-1)) fun σ6 => lt2 (mUI σ6 52 0 0) fun σ7 => rn2 (M_folio_b40 N) N σ7 0
abbrev rM_folio : Room := { frames := 11, cells := 0, slots := 0, locals := 240 }
set_option maxHeartbeats 4000000 in
theorem cmf_folio {l : Launch} {dC : Nat → ClassId} {dI : Nat → Nat → Nat} {ac : Nat → ClassId} {o : Nat} {ad : Nat → Nat} {N : Nat} {σ : mSt} {r : Int32} {σ' : mSt} (hf : M_folio N σ = some (r, σ')) : Met l yX6_folio (ws_ yX6_folio cX6_folio 2 (some .int)) { frames := 11, cells := 0, slots := 0, locals := 240 } (va_Pc [.ref o] (mPre dC dI ac o ad σ)) (mQi dC dI ac o ad r σ') 0 0 (mF o ad) := by
  refine m_of (by decide) rfl (Nat.le_of_ble_eq_true rfl) ?_
  intro p e s m args below meth c E hb hr hlk hml hS ls hl
  have hl : lv_has ls 2 [(0, .ref o)] := hl
  have hB135 : ∀ (σ : mSt), M_folio_b135 N σ = some (r, σ') → ∀ (H : Heap) (locs : List Loc), mS dC dI ac o ad s.heap σ H locs → ∀ (ls : Array Slot), lv_has ls 2 [(0, .ref o)] → W p l e rM_folio s m args below meth c H locs 0 0 (MQ below (mQi dC dI ac o ad r σ') args s 0 0 (mF o ad)) (F0 m 135 ls []) := by
    intro σ hf H locs hS ls hl
    unfold M_folio_b135 at hf
    refine lv_aload_n E.1 hb dX6_folio_135 rfl (lv_at hl 0 rfl) ?_
    refine lv_aload_n E.1 hb dX6_folio_136 rfl (lv_at hl 0 rfl) ?_
    refine m_gI (k := 5) E hb hS rfl fl_5 dX6_folio_137 ?_
    obtain ⟨σ11, hw, hf⟩ := lt2_s hf
    refine m_pI (k := 7) E hb hS rfl rfl pf_7 fl_7 hw dX6_folio_140 (fun H locs hS => ?_)
    refine lv_aload_n E.1 hb dX6_folio_143 rfl (lv_at hl 0 rfl) ?_
    refine lv_aload_n E.1 hb dX6_folio_144 rfl (lv_at hl 0 rfl) ?_
    refine m_gI (k := 6) E hb hS rfl fl_6 dX6_folio_145 ?_
    obtain ⟨σ12, hw, hf⟩ := lt2_s hf
    refine m_pI (k := 8) E hb hS rfl rfl pf_8 fl_8 hw dX6_folio_148 (fun H locs hS => ?_)
    refine lv_aload_n E.1 hb dX6_folio_151 rfl (lv_at hl 0 rfl) ?_
    refine m_gI (k := 5) E hb hS rfl fl_5 dX6_folio_152 ?_
    refine lv_if_eq (tgt := 170) E.1 hb dX6_folio_155 (by decide) (fun hc => ?_) (fun hc => ?_)
    · have hf := it_s hc hf
      refine lv_aload_n E.1 hb dX6_folio_170 rfl (lv_at hl 0 rfl) ?_
      obtain ⟨_, σ13, h1, hf⟩ := bd_s hf
      refine m_cVv E hb hml hl.1 hS (cmf_stands h1) gw_stands gn_stands rfl rfl (Nat.le_of_ble_eq_true rfl) ⟨Nat.le_of_ble_eq_true rfl, Nat.le_of_ble_eq_true rfl⟩ ⟨Nat.le_refl 0, Nat.le_refl 0⟩ dX6_folio_171 (fun H locs hS => ?_)
      refine lv_aload_n E.1 hb dX6_folio_174 rfl (lv_at hl 0 rfl) ?_
      refine m_gI (k := 53) E hb hS rfl fl_53 dX6_folio_175 ?_
      exact m_ir E hb hr hlk hS hf dX6_folio_178
    · have hf := if_s hc hf
      refine lv_aload_n E.1 hb dX6_folio_158 rfl (lv_at hl 0 rfl) ?_
      refine m_gA (k := 9) E hb hS 2 rfl (by decide) fl_9 dX6_folio_159 ?_
      refine lv_iconst (v := 1) E.1 hb dX6_folio_162 rfl ?_
      refine lv_dup2_11 E.1 hb dX6_folio_163 rfl rfl ?_
      obtain ⟨hg, hf⟩ := ld_s hf
      refine m_ild E hb hS hg dX6_folio_164 ?_
      refine lv_iconst (v := 1) E.1 hb dX6_folio_165 rfl ?_
      refine lv_iadd E.1 hb dX6_folio_166 ?_
      obtain ⟨σ15, hg, hw, hf⟩ := st_s hf
      refine m_ist E hb hS hg hw dX6_folio_167 (fun H locs hS => ?_)
      refine lv_iconst (v := (-1)) E.1 hb dX6_folio_168 rfl ?_
      exact m_ir E hb hr hlk hS hf dX6_folio_169
  have hL113 : ∀ (n : Nat) (σ : mSt), rn1 (M_folio_b113 N) n σ = some (r, σ') → ∀ (H : Heap) (locs : List Loc), mS dC dI ac o ad s.heap σ H locs → ∀ (ls : Array Slot), lv_has ls 2 [(0, .ref o)] → W p l e rM_folio s m args below meth c H locs 0 0 (MQ below (mQi dC dI ac o ad r σ') args s 0 0 (mF o ad)) (F0 m 113 ls []) := by
    intro  n
    induction n with
    | zero =>
      intro σ hf
      cases hf
    | succ n ih =>
      intro σ hf H locs hS ls hl
      have hf : M_folio_b113 N (rn1 (M_folio_b113 N) n) σ = some (r, σ') := hf
      have hk113 := ih
      generalize rn1 (M_folio_b113 N) n = k113 at hf hk113
      unfold M_folio_b113 at hf
      refine lv_aload_n E.1 hb dX6_folio_113 rfl (lv_at hl 0 rfl) ?_
      refine m_gI (k := 5) E hb hS rfl fl_5 dX6_folio_114 ?_
      refine lv_if_ne (tgt := 135) E.1 hb dX6_folio_117 (by decide) (fun hc => ?_) (fun hc => ?_)
      · have hf := if_s hc hf
        exact hB135 σ hf _ _ hS _ (lv_sub hl [0] rfl)
      · have hf := it_s hc hf
        refine lv_aload_n E.1 hb dX6_folio_120 rfl (lv_at hl 0 rfl) ?_
        obtain ⟨r16, σ17, h1, hf⟩ := bd_s hf
        refine m_cVi E hb hml hl.1 hS (cmf_look h1) gw_look gn_look rfl rfl (Nat.le_of_ble_eq_true rfl) ⟨Nat.le_of_ble_eq_true rfl, Nat.le_of_ble_eq_true rfl⟩ ⟨Nat.le_refl 0, Nat.le_refl 0⟩ dX6_folio_121 (fun H locs hS => ?_)
        refine lv_iconst (v := (-1)) E.1 hb dX6_folio_124 rfl ?_
        refine lv_icmp_eq (tgt := 135) E.1 hb dX6_folio_125 (by decide) (fun hc => ?_) (fun hc => ?_)
        · have hf := it_s hc hf
          exact hB135 σ17 hf _ _ hS _ (lv_sub hl [0] rfl)
        · have hf := if_s hc hf
          refine lv_aload_n E.1 hb dX6_folio_128 rfl (lv_at hl 0 rfl) ?_
          obtain ⟨_, σ18, h1, hf⟩ := bd_s hf
          refine m_cVv E hb hml hl.1 hS (cmf_statementTold h1) gw_statementTold gn_statementTold rfl rfl (Nat.le_of_ble_eq_true rfl) ⟨Nat.le_of_ble_eq_true rfl, Nat.le_of_ble_eq_true rfl⟩ ⟨Nat.le_refl 0, Nat.le_refl 0⟩ dX6_folio_129 (fun H locs hS => ?_)
          refine lv_goto (tgt := 113) E.1 hb dX6_folio_132 (by decide) ?_
          exact hk113 σ18 hf _ _ hS _ (lv_sub hl [0] rfl)
  have hL81 : ∀ (n : Nat) (σ : mSt) (x1 : Int32), rn2 (M_folio_b81 N) n σ x1 = some (r, σ') → ∀ (H : Heap) (locs : List Loc), mS dC dI ac o ad s.heap σ H locs → ∀ (ls : Array Slot), lv_has ls 2 [(0, .ref o), (1, .int x1)] → W p l e rM_folio s m args below meth c H locs 0 0 (MQ below (mQi dC dI ac o ad r σ') args s 0 0 (mF o ad)) (F0 m 81 ls []) := by
    intro  n
    induction n with
    | zero =>
      intro σ x1 hf
      cases hf
    | succ n ih =>
      intro σ x1 hf H locs hS ls hl
      have hf : M_folio_b81 N (rn2 (M_folio_b81 N) n) σ x1 = some (r, σ') := hf
      have hk81 := ih
      generalize rn2 (M_folio_b81 N) n = k81 at hf hk81
      unfold M_folio_b81 at hf
      refine lv_iload_n E.1 hb dX6_folio_81 rfl (lv_at hl 1 rfl) ?_
      refine lv_iconst (v := 4) E.1 hb dX6_folio_82 rfl ?_
      refine lv_icmp_ge (tgt := 99) E.1 hb dX6_folio_83 (by decide) (fun hc => ?_) (fun hc => ?_)
      · have hf := it_s hc hf
        refine lv_aload_n E.1 hb dX6_folio_99 rfl (lv_at hl 0 rfl) ?_
        refine lv_iconst (v := 0) E.1 hb dX6_folio_100 rfl ?_
        obtain ⟨σ8, hw, hf⟩ := lt2_s hf
        refine m_pI (k := 47) E hb hS rfl rfl pf_47 fl_47 hw dX6_folio_101 (fun H locs hS => ?_)
        refine lv_aload_n E.1 hb dX6_folio_104 rfl (lv_at hl 0 rfl) ?_
        obtain ⟨_, σ9, h1, hf⟩ := bd_s hf
        refine m_cVv E hb hml hl.1 hS (cmf_folioTold h1) gw_folioTold gn_folioTold rfl rfl (Nat.le_of_ble_eq_true rfl) ⟨Nat.le_of_ble_eq_true rfl, Nat.le_of_ble_eq_true rfl⟩ ⟨Nat.le_refl 0, Nat.le_refl 0⟩ dX6_folio_105 (fun H locs hS => ?_)
        refine lv_aload_n E.1 hb dX6_folio_108 rfl (lv_at hl 0 rfl) ?_
        refine lv_iconst (v := 1) E.1 hb dX6_folio_109 rfl ?_
        obtain ⟨σ10, hw, hf⟩ := lt2_s hf
        refine m_pI (k := 53) E hb hS rfl rfl pf_53 fl_53 hw dX6_folio_110 (fun H locs hS => ?_)
        exact hL113 N σ10 hf _ _ hS _ (lv_sub hl [0] rfl)
      · have hf := if_s hc hf
        refine lv_aload_n E.1 hb dX6_folio_86 rfl (lv_at hl 0 rfl) ?_
        refine m_gA (k := 49) E hb hS 2 rfl (by decide) fl_49 dX6_folio_87 ?_
        refine lv_iload_n E.1 hb dX6_folio_90 rfl (lv_at hl 1 rfl) ?_
        refine lv_iconst (v := (-1)) E.1 hb dX6_folio_91 rfl ?_
        obtain ⟨σ19, hg, hw, hf⟩ := st_s hf
        refine m_ist E hb hS hg hw dX6_folio_92 (fun H locs hS => ?_)
        refine lv_iinc (v := (x1 + 1)) (lv' := [(1, .int (x1 + 1)), (0, .ref o)]) E.1 hb dX6_folio_93 hl (k := 1) rfl rfl (by decide) rfl (fun ls hl => ?_)
        refine lv_goto (tgt := 81) E.1 hb dX6_folio_96 (by decide) ?_
        exact hk81 σ19 (x1 + 1) hf _ _ hS _ (lv_sub hl [1, 0] rfl)
  have hL60 : ∀ (n : Nat) (σ : mSt) (x1 : Int32), rn2 (M_folio_b60 N) n σ x1 = some (r, σ') → ∀ (H : Heap) (locs : List Loc), mS dC dI ac o ad s.heap σ H locs → ∀ (ls : Array Slot), lv_has ls 2 [(0, .ref o), (1, .int x1)] → W p l e rM_folio s m args below meth c H locs 0 0 (MQ below (mQi dC dI ac o ad r σ') args s 0 0 (mF o ad)) (F0 m 60 ls []) := by
    intro  n
    induction n with
    | zero =>
      intro σ x1 hf
      cases hf
    | succ n ih =>
      intro σ x1 hf H locs hS ls hl
      have hf : M_folio_b60 N (rn2 (M_folio_b60 N) n) σ x1 = some (r, σ') := hf
      have hk60 := ih
      generalize rn2 (M_folio_b60 N) n = k60 at hf hk60
      unfold M_folio_b60 at hf
      refine lv_iload_n E.1 hb dX6_folio_60 rfl (lv_at hl 1 rfl) ?_
      refine lv_bipush (v := 6) E.1 hb dX6_folio_61 rfl ?_
      refine lv_icmp_ge (tgt := 79) E.1 hb dX6_folio_63 (by decide) (fun hc => ?_) (fun hc => ?_)
      · have hf := it_s hc hf
        refine lv_iconst (v := 0) E.1 hb dX6_folio_79 rfl ?_
        refine lv_istore_n (lv' := [(1, .int 0), (0, .ref o)]) E.1 hb dX6_folio_80 rfl hl (by decide) rfl (fun ls hl => ?_)
        exact hL81 N σ 0 hf _ _ hS _ (lv_sub hl [1, 0] rfl)
      · have hf := if_s hc hf
        refine lv_aload_n E.1 hb dX6_folio_66 rfl (lv_at hl 0 rfl) ?_
        refine m_gA (k := 43) E hb hS 2 rfl (by decide) fl_43 dX6_folio_67 ?_
        refine lv_iload_n E.1 hb dX6_folio_70 rfl (lv_at hl 1 rfl) ?_
        refine lv_iconst (v := 0) E.1 hb dX6_folio_71 rfl ?_
        obtain ⟨σ20, hg, hw, hf⟩ := st_s hf
        refine m_ist E hb hS hg hw dX6_folio_72 (fun H locs hS => ?_)
        refine lv_iinc (v := (x1 + 1)) (lv' := [(1, .int (x1 + 1)), (0, .ref o)]) E.1 hb dX6_folio_73 hl (k := 1) rfl rfl (by decide) rfl (fun ls hl => ?_)
        refine lv_goto (tgt := 60) E.1 hb dX6_folio_76 (by decide) ?_
        exact hk60 σ20 (x1 + 1) hf _ _ hS _ (lv_sub hl [1, 0] rfl)
  have hL40 : ∀ (n : Nat) (σ : mSt) (x1 : Int32), rn2 (M_folio_b40 N) n σ x1 = some (r, σ') → ∀ (H : Heap) (locs : List Loc), mS dC dI ac o ad s.heap σ H locs → ∀ (ls : Array Slot), lv_has ls 2 [(0, .ref o), (1, .int x1)] → W p l e rM_folio s m args below meth c H locs 0 0 (MQ below (mQi dC dI ac o ad r σ') args s 0 0 (mF o ad)) (F0 m 40 ls []) := by
    intro  n
    induction n with
    | zero =>
      intro σ x1 hf
      cases hf
    | succ n ih =>
      intro σ x1 hf H locs hS ls hl
      have hf : M_folio_b40 N (rn2 (M_folio_b40 N) n) σ x1 = some (r, σ') := hf
      have hk40 := ih
      generalize rn2 (M_folio_b40 N) n = k40 at hf hk40
      unfold M_folio_b40 at hf
      refine lv_iload_n E.1 hb dX6_folio_40 rfl (lv_at hl 1 rfl) ?_
      refine lv_iconst (v := 3) E.1 hb dX6_folio_41 rfl ?_
      refine lv_icmp_ge (tgt := 58) E.1 hb dX6_folio_42 (by decide) (fun hc => ?_) (fun hc => ?_)
      · have hf := it_s hc hf
        refine lv_iconst (v := 0) E.1 hb dX6_folio_58 rfl ?_
        refine lv_istore_n (lv' := [(1, .int 0), (0, .ref o)]) E.1 hb dX6_folio_59 rfl hl (by decide) rfl (fun ls hl => ?_)
        exact hL60 N σ 0 hf _ _ hS _ (lv_sub hl [1, 0] rfl)
      · have hf := if_s hc hf
        refine lv_aload_n E.1 hb dX6_folio_45 rfl (lv_at hl 0 rfl) ?_
        refine m_gA (k := 41) E hb hS 2 rfl (by decide) fl_41 dX6_folio_46 ?_
        refine lv_iload_n E.1 hb dX6_folio_49 rfl (lv_at hl 1 rfl) ?_
        refine lv_iconst (v := 0) E.1 hb dX6_folio_50 rfl ?_
        obtain ⟨σ21, hg, hw, hf⟩ := st_s hf
        refine m_ist E hb hS hg hw dX6_folio_51 (fun H locs hS => ?_)
        refine lv_iinc (v := (x1 + 1)) (lv' := [(1, .int (x1 + 1)), (0, .ref o)]) E.1 hb dX6_folio_52 hl (k := 1) rfl rfl (by decide) rfl (fun ls hl => ?_)
        refine lv_goto (tgt := 40) E.1 hb dX6_folio_55 (by decide) ?_
        exact hk40 σ21 (x1 + 1) hf _ _ hS _ (lv_sub hl [1, 0] rfl)
  unfold M_folio at hf
  refine lv_aload_n E.1 hb dX6_folio_0 rfl (lv_at hl 0 rfl) ?_
  refine lv_aload_n E.1 hb dX6_folio_1 rfl (lv_at hl 0 rfl) ?_
  refine m_gI (k := 1) E hb hS rfl fl_1 dX6_folio_2 ?_
  obtain ⟨σ1, hw, hf⟩ := lt2_s hf
  refine m_pI (k := 3) E hb hS rfl rfl pf_3 fl_3 hw dX6_folio_5 (fun H locs hS => ?_)
  refine lv_aload_n E.1 hb dX6_folio_8 rfl (lv_at hl 0 rfl) ?_
  refine lv_iconst (v := 0) E.1 hb dX6_folio_9 rfl ?_
  obtain ⟨σ2, hw, hf⟩ := lt2_s hf
  refine m_pI (k := 1) E hb hS rfl rfl pf_1 fl_1 hw dX6_folio_10 (fun H locs hS => ?_)
  refine lv_aload_n E.1 hb dX6_folio_13 rfl (lv_at hl 0 rfl) ?_
  refine lv_iconst (v := 0) E.1 hb dX6_folio_14 rfl ?_
  obtain ⟨σ3, hw, hf⟩ := lt2_s hf
  refine m_pI (k := 2) E hb hS rfl rfl pf_2 fl_2 hw dX6_folio_15 (fun H locs hS => ?_)
  refine lv_aload_n E.1 hb dX6_folio_18 rfl (lv_at hl 0 rfl) ?_
  refine lv_iconst (v := (-1)) E.1 hb dX6_folio_19 rfl ?_
  obtain ⟨σ4, hw, hf⟩ := lt2_s hf
  refine m_pI (k := 4) E hb hS rfl rfl pf_4 fl_4 hw dX6_folio_20 (fun H locs hS => ?_)
  refine lv_aload_n E.1 hb dX6_folio_23 rfl (lv_at hl 0 rfl) ?_
  refine lv_iconst (v := 0) E.1 hb dX6_folio_24 rfl ?_
  obtain ⟨σ5, hw, hf⟩ := lt2_s hf
  refine m_pI (k := 5) E hb hS rfl rfl pf_5 fl_5 hw dX6_folio_25 (fun H locs hS => ?_)
  refine lv_aload_n E.1 hb dX6_folio_28 rfl (lv_at hl 0 rfl) ?_
  refine lv_iconst (v := (-1)) E.1 hb dX6_folio_29 rfl ?_
  obtain ⟨σ6, hw, hf⟩ := lt2_s hf
  refine m_pI (k := 6) E hb hS rfl rfl pf_6 fl_6 hw dX6_folio_30 (fun H locs hS => ?_)
  refine lv_aload_n E.1 hb dX6_folio_33 rfl (lv_at hl 0 rfl) ?_
  refine lv_iconst (v := 0) E.1 hb dX6_folio_34 rfl ?_
  obtain ⟨σ7, hw, hf⟩ := lt2_s hf
  refine m_pI (k := 52) E hb hS rfl rfl pf_52 fl_52 hw dX6_folio_35 (fun H locs hS => ?_)
  refine lv_iconst (v := 0) E.1 hb dX6_folio_38 rfl ?_
  refine lv_istore_n (lv' := [(1, .int 0), (0, .ref o)]) E.1 hb dX6_folio_39 rfl hl (by decide) rfl (fun ls hl => ?_)
  exact hL40 N σ7 0 hf _ _ hS _ (lv_sub hl [1, 0] rfl)
