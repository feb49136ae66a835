/-! PURE LEVEL: refusing, the tape, seeds -/
set_option maxRecDepth 100000
theorem nn_div {a b : Nat} (ha : a < 2147483648) (hb : b < 2147483648) : nn a / nn b = nn (a / b) := (Int32.ofNat_div ha hb).symm
theorem nn_rem {a b : Nat} (ha : a < 2147483648) (hb : b < 2147483648) : nn a - nn a / nn b * nn b = nn (a % b) := by
  have h := Nat.div_add_mod a b
  rw [Nat.mul_comm] at h
  rw [nn_div ha hb, nn_mul, nn_sub (by omega), show a - a / b * b = a % b by omega]
theorem nl_div {a b : Nat} (ha : a < 9223372036854775808) (hb : b < 9223372036854775808) : nl a / nl b = nl (a / b) := (Int64.ofNat_div ha hb).symm
theorem nl_mul (a b : Nat) : nl a * nl b = nl (a * b) := (Int64.ofNat_mul a b).symm
theorem nl_rem {a b : Nat} (ha : a < 9223372036854775808) (hb : b < 9223372036854775808) : nl a - nl a / nl b * nl b = nl (a % b) := by
  have h := Nat.div_add_mod a b
  rw [Nat.mul_comm] at h
  rw [nl_div ha hb, nl_mul, nl_sub (by omega), show a - a / b * b = a % b by omega]
section ACT
variable {A : AH} {σ : mSt} {fo nb L C W n : Nat} {ρ : Nat → Nat} {u w : Nat} {κ : Nat → Nat} {t m o : Nat}
def P15 (f i : Nat) : Prop := f = 31 ∧ i = 15
def K9 (k : Nat) : Prop := k = 9
theorem refuses_eq (h : IV A σ fo nb L C W n ρ u w κ t m o) {k : Nat} (hk : k < 6) : ∃ A' σ', X0_refuses A (nn k) = some (-1, A') ∧ M_refuses σ (nn k) = some (-1, σ') ∧ (∀ {β : Type} (g : mSt → Option β), (bo (ld 2 σ 9 (nn k)) fun v => bo (stI 2 σ 9 (nn k) (v + 1)) g) = g σ') ∧ IV A' σ' fo nb L C W n ρ u w κ t m o ∧ Ch P15 A A' := by
  have c : Ch P15 A (wI A 31 15 k (σ.1 9 k + 1)) := Ch.wI ⟨rfl, rfl⟩
  have mm : Cm K9 σ (mUI σ 9 k (σ.1 9 k + 1)) := Cm.UI rfl
  have e : ∀ {β : Type} (g : mSt → Option β), (bo (ld 2 σ 9 (nn k)) fun v => bo (stI 2 σ 9 (nn k) (v + 1)) g) = g (mUI σ 9 k (σ.1 9 k + 1)) := by
    intro β g
    rw [ld_nn (by rfl) (by show k < 6; exact hk) (by omega), bo_some, stI_nn (by rfl) (by show k < 6; exact hk) (by omega), bo_some]
  refine ⟨_, _, ?_, ?_, e, IV.mk (h.fr.same (c.sameOn (fun f i hi z => by unfold dyn at hi; unfold P15 at z; omega)) (c.R 0 (by unfold P15; omega)) (mm.sameM (fun k hk z => by unfold Kfo at hk; unfold K9 at z; omega))) (h.ks.ch c) (h.m1.ch c (by unfold P15; omega)) (h.m2.ch c (by unfold P15; omega)) (h.st.ch c (fun g i hg h1 h2 => by unfold P15; omega) (fun j _ => mm.I j (by unfold K9; omega)) h.fr.bn) (by rw [mm.I 0 (by unfold K9; omega)]; exact h.d9) (h.kr.ch c (by unfold P15; omega) (by unfold P15; omega)) (h.kv.ch h.kr c (fun i h1 h2 => by unfold P15; omega) (fun j _ _ => mm.I j (by unfold K9; omega))) (by obtain ⟨n', ρ', k'⟩ := h.kt; exact ⟨n', ρ', k'.ch c (by unfold P15; omega) (by unfold P15; omega)⟩) ((mm.I 0 (by unfold K9; omega)).trans h.th) (h.un.ch c mm h.fr.bn (by unfold P15; omega) (by unfold P15; omega) (fun f i h1 h2 => by unfold P15; omega) (by unfold K9; omega) (by unfold K9; omega) (by unfold K9; omega)) (h.tp.ch c mm (by unfold P15; omega) (by unfold P15; omega) (by unfold K9; omega) (by unfold K9; omega)) (by rw [c.I _ (by unfold P15; omega), mm.I _ (by unfold K9; omega)]; exact h.fk) (by rw [c.I _ (by unfold P15; omega), mm.I _ (by unfold K9; omega)]; exact h.fp) ?_ (h.se.ch c mm (by unfold P15; omega) (by unfold P15; omega) (by unfold P15; omega) (by unfold K9; omega) (by unfold K9; omega)) (by rw [c.J _ (by unfold P15; omega), mm.J _ (by unfold K9; omega)]; exact h.sd) (h.ou.ch c mm (by unfold P15; omega) (by unfold P15; omega) (by unfold K9; omega) (by unfold K9; omega)) (h.hn.ch c (by unfold P15; omega) (by unfold P15; omega) (by unfold P15; omega) (by unfold P15; omega) (by unfold P15; omega)) (h.wd.ch mm (fun q hq z => by unfold isWd at hq; unfold K9 at z; omega)), c⟩
  · unfold X0_refuses
    rw [sI_nn hk (by decide), bo_some, h.rf k hk, tI_nn hk (by decide), bo_some]
  · unfold M_refuses
    exact e (fun σ2 => some (-1, σ2))
  · intro k' hk'
    rw [aI_wI, mI_UI]
    by_cases z : k' = k
    · rw [if_pos ⟨rfl, rfl, z⟩, if_pos ⟨rfl, z⟩]
    · rw [if_neg (fun q => z q.2.2), if_neg (fun q => z q.2)]; exact h.rf k' hk'
def P102 (f i : Nat) : Prop := f = 102 ∧ i = 0
def K1 (k : Nat) : Prop := k = 1
theorem IV.taped (h : IV A σ fo nb L C W n ρ u w κ t m o) {k : Nat} (hk : k ≤ 1600) : IV (wI A 102 0 0 (nn k)) (mUI σ 1 0 (nn k)) fo nb L C W n ρ u w κ k m o := by
  have c : Ch P102 A (wI A 102 0 0 (nn k)) := Ch.wI ⟨rfl, rfl⟩
  have mm : Cm K1 σ (mUI σ 1 0 (nn k)) := Cm.UI rfl
  refine IV.mk (h.fr.same (c.sameOn (fun f i hi z => by unfold dyn at hi; unfold P102 at z; omega)) (c.R 0 (by unfold P102; omega)) (mm.sameM (fun k hk z => by unfold Kfo at hk; unfold K1 at z; omega))) (h.ks.ch c) (h.m1.ch c (by unfold P102; omega)) (h.m2.ch c (by unfold P102; omega)) (h.st.ch c (fun g i hg h1 h2 => by unfold P102; omega) (fun j _ => mm.I j (by unfold K1; omega)) h.fr.bn) (by rw [mm.I 0 (by unfold K1; omega)]; exact h.d9) (h.kr.ch c (by unfold P102; omega) (by unfold P102; omega)) (h.kv.ch h.kr c (fun i h1 h2 => by unfold P102; omega) (fun j _ _ => mm.I j (by unfold K1; omega))) (by obtain ⟨n', ρ', k'⟩ := h.kt; exact ⟨n', ρ', k'.ch c (by unfold P102; omega) (by unfold P102; omega)⟩) ((mm.I 0 (by unfold K1; omega)).trans h.th) (h.un.ch c mm h.fr.bn (by unfold P102; omega) (by unfold P102; omega) (fun f i h1 h2 => by unfold P102; omega) (by unfold K1; omega) (by unfold K1; omega) (by unfold K1; omega)) (IvT.mk ?_ ?_ hk ?_) (by rw [c.I _ (by unfold P102; omega), mm.I _ (by unfold K1; omega)]; exact h.fk) (by rw [c.I _ (by unfold P102; omega), mm.I _ (by unfold K1; omega)]; exact h.fp) (fun k hk => by rw [c.I _ (by unfold P102; omega), mm.I _ (by unfold K1; omega)]; exact h.rf k hk) (h.se.ch c mm (by unfold P102; omega) (by unfold P102; omega) (by unfold P102; omega) (by unfold K1; omega) (by unfold K1; omega)) (by rw [c.J _ (by unfold P102; omega), mm.J _ (by unfold K1; omega)]; exact h.sd) (h.ou.ch c mm (by unfold P102; omega) (by unfold P102; omega) (by unfold K1; omega) (by unfold K1; omega)) (h.hn.ch c (by unfold P102; omega) (by unfold P102; omega) (by unfold P102; omega) (by unfold P102; omega) (by unfold P102; omega)) (h.wd.ch mm (fun q hq z => by unfold isWd at hq; unfold K1 at z; omega))
  · rw [aI_wI, if_pos ⟨rfl, rfl, rfl⟩]
  · rw [mI_UI, if_pos ⟨rfl, rfl⟩]
  · intro j hj
    rw [aI_wI, if_neg (by omega), mI_UI, if_neg (by omega)]; exact h.tp.by_ j hj
theorem end_op (h : IV A σ fo nb L C W n ρ u w κ t m o) (x : Int32) : ∃ r A' σ' t', X0_end A x = some (r, A') ∧ M_end σ x = some (r, σ') ∧ IV A' σ' fo nb L C W n ρ u w κ t' m o ∧ t' ≤ t ∧ A'.1 = A.1 := by
  have tb := h.tp.b
  obtain ⟨A', σ', r1, r2, r3, r4, r5⟩ := refuses_eq h (k := 0) (by decide)
  have r1' : X0_refuses A 0 = some (-1, A') := r1
  have eX : X0_end_b12 x A = some (0, A') := by
    unfold X0_end_b12
    rw [r1', bd_some, if_pos (by decide)]
  have eM : M_end_b12 σ = some (0, σ') := by
    unfold M_end_b12
    exact r3 (fun σ2 => some (0, σ2))
  unfold X0_end M_end
  rw [h.tp.a, h.tp.m]
  by_cases c0 : x < 0
  · rw [if_pos c0, if_pos c0, eX, eM]
    exact ⟨_, _, _, t, rfl, rfl, r4, Nat.le_refl t, r5.1⟩
  rw [if_neg c0, if_neg c0]
  by_cases c1 : x ≤ nn t
  · have e := nn_of (Int32.not_lt.mp c0)
    have hk : x.toNatClampNeg ≤ t := by
      rw [e, nn_le (Int32.toNatClampNeg_lt x) (by omega)] at c1
      exact c1
    rw [if_pos c1, if_pos c1, lt2_eq, lt2_eq]
    refine ⟨1, _, _, x.toNatClampNeg, rfl, rfl, ?_, hk, rfl⟩
    have := h.taped (k := x.toNatClampNeg) (by omega)
    rw [← e] at this
    exact this
  · rw [if_neg c1, if_neg c1, eX, eM]
    exact ⟨_, _, _, t, rfl, rfl, r4, Nat.le_refl t, r5.1⟩
/-! feeding -/
theorem nar_byte (y : Int32) : ∃ v, v < 256 ∧ (y &&& 255) = nn v ∧ vp_nar .byte ((Int32.toInt8 y).toInt32) = sby v := by
  have h1 : (y &&& 255).toBitVec.toNat = y.toBitVec.toNat % 256 := by
    rw [Int32.toBitVec_and, BitVec.toNat_and]
    exact Nat.and_two_pow_sub_one_eq_mod _ 8
  have hv : y.toBitVec.toNat % 256 < 256 := Nat.mod_lt _ (by decide)
  refine ⟨y.toBitVec.toNat % 256, hv, ?_, ?_⟩
  · apply Int32.toBitVec_inj.mp
    apply BitVec.eq_of_toNat_eq
    rw [h1]
    show _ = (BitVec.ofNat 32 (y.toBitVec.toNat % 256)).toNat
    rw [BitVec.toNat_ofNat, show (2 : Nat) ^ 32 = 4294967296 from rfl]
    omega
  · rw [pk_vb]
    apply Int32.toInt_inj.mp
    rw [Int8.toInt_toInt32, Int32.toInt_toInt8]
    have hy : y.toInt = if 2 * y.toBitVec.toNat < 2 ^ 32 then (y.toBitVec.toNat : Int) else (y.toBitVec.toNat : Int) - (2 ^ 32 : Nat) := BitVec.toInt_eq_toNat_cond y.toBitVec
    have hlt := y.toBitVec.isLt
    generalize y.toBitVec.toNat = q at *
    have hq : y.toInt.bmod (2 ^ 8) = if q % 256 < 128 then ((q % 256 : Nat) : Int) else ((q % 256 : Nat) : Int) - 256 := by
      rw [Int.bmod_def]
      split at hy <;> rw [hy] <;> split <;> split <;> omega
    rw [hq]
    unfold sby
    by_cases z : q % 256 < 128
    · rw [if_pos z, if_pos z, nn_toInt (by omega)]
    · rw [if_neg z, if_neg z, Int32.toInt_sub, nn_toInt (by omega), show ((256 : Int32)).toInt = 256 from rfl, Int.bmod_eq_of_le (by omega) (by omega)]
def P8 (f i : Nat) : Prop := (f = 33 ∧ i = 8) ∨ (f = 102 ∧ i = 0)
def K01 (k : Nat) : Prop := k = 0 ∨ k = 1
/-- one byte more on both sides -/
theorem IV.byte (h : IV A σ fo nb L C W n ρ u w κ t m o) (ht : t < 1600) (y : Int32) : IV (wI (wI A 102 0 0 (nn (t + 1))) 33 8 t (vp_nar .byte ((Int32.toInt8 y).toInt32))) (mUI (mUI σ 0 t (y &&& 255)) 1 0 (nn (t + 1))) fo nb L C W n ρ u w κ (t + 1) m o := by
  obtain ⟨v, hv, e1, e2⟩ := nar_byte y
  rw [e1, e2]
  have c : Ch P8 A (wI (wI A 102 0 0 (nn (t + 1))) 33 8 t (sby v)) := (Ch.wI (Or.inr ⟨rfl, rfl⟩)).trans (Ch.wI (Or.inl ⟨rfl, rfl⟩))
  have mm : Cm K01 σ (mUI (mUI σ 0 t (nn v)) 1 0 (nn (t + 1))) := (Cm.UI (Or.inl rfl)).trans (Cm.UI (Or.inr rfl))
  refine IV.mk (h.fr.same (c.sameOn (fun f i hi z => by unfold dyn at hi; unfold P8 at z; omega)) (c.R 0 (by unfold P8; omega)) (mm.sameM (fun k hk z => by unfold Kfo at hk; unfold K01 at z; omega))) (h.ks.ch c) (h.m1.ch c (by unfold P8; omega)) (h.m2.ch c (by unfold P8; omega)) (h.st.ch c (fun g i hg h1 h2 => by unfold P8; omega) (fun j _ => mm.I j (by unfold K01; omega)) h.fr.bn) (by rw [mm.I 0 (by unfold K01; omega)]; exact h.d9) (h.kr.ch c (by unfold P8; omega) (by unfold P8; omega)) (h.kv.ch h.kr c (fun i h1 h2 => by unfold P8; omega) (fun j _ _ => mm.I j (by unfold K01; omega))) (by obtain ⟨n', ρ', k'⟩ := h.kt; exact ⟨n', ρ', k'.ch c (by unfold P8; omega) (by unfold P8; omega)⟩) ((mm.I 0 (by unfold K01; omega)).trans h.th) (h.un.ch c mm h.fr.bn (by unfold P8; omega) (by unfold P8; omega) (fun f i h1 h2 => by unfold P8; omega) (by unfold K01; omega) (by unfold K01; omega) (by unfold K01; omega)) (IvT.mk ?_ ?_ (by omega) ?_) (by rw [c.I _ (by unfold P8; omega), mm.I _ (by unfold K01; omega)]; exact h.fk) (by rw [c.I _ (by unfold P8; omega), mm.I _ (by unfold K01; omega)]; exact h.fp) (fun k hk => by rw [c.I _ (by unfold P8; omega), mm.I _ (by unfold K01; omega)]; exact h.rf k hk) (h.se.ch c mm (by unfold P8; omega) (by unfold P8; omega) (by unfold P8; omega) (by unfold K01; omega) (by unfold K01; omega)) (by rw [c.J _ (by unfold P8; omega), mm.J _ (by unfold K01; omega)]; exact h.sd) (h.ou.ch c mm (by unfold P8; omega) (by unfold P8; omega) (by unfold K01; omega) (by unfold K01; omega)) (h.hn.ch c (by unfold P8; omega) (by unfold P8; omega) (by unfold P8; omega) (by unfold P8; omega) (by unfold P8; omega)) (h.wd.ch mm (fun q hq z => by unfold isWd at hq; unfold K01 at z; omega))
  · rw [aI_wI, if_neg (by omega), aI_wI, if_pos ⟨rfl, rfl, rfl⟩]
  · rw [mI_UI, if_pos ⟨rfl, rfl⟩]
  · intro j hj
    rw [mI_UI, if_neg (by omega), mI_UI, aI_wI, aI_wI]
    by_cases z : j = t
    · rw [if_pos ⟨rfl, z⟩, if_pos ⟨rfl, rfl, z⟩]
      exact ⟨v, hv, rfl, rfl⟩
    · rw [if_neg (fun q => z q.2), if_neg (fun q => z q.2.2), if_neg (by omega)]
      exact h.tp.by_ j hj
theorem put1 {N : Nat} {A : AH} {t : Nat} (ea : aI A 102 0 0 = nn t) (ht : t < 1600) (x : Int32) {s : Int32} (hs : ¬ s < 0) (kk : AH → Int32 → Option (Unit × AH)) : X0_put_b3 N x kk A s = kk (wI (wI A 102 0 0 (nn (t + 1))) 33 8 t (vp_nar .byte ((Int32.toInt8 (x >>> (s &&& 31))).toInt32))) (s + (-8)) := by
  unfold X0_put_b3
  rw [if_neg hs, ea, nn_succ, lt2_eq, tI_nn ht (by decide), bo_some]
theorem fd_ix : ∀ k, k < 20 → ((8 * (3 - (nn k - nn k / 4 * 4))) &&& 31 : Int32) = nn (8 * (3 - k % 4)) := by decide +kernel
theorem feed1 {N : Nat} {σ : mSt} {t : Nat} (em : σ.1 1 0 = nn t) (ht : t < 1600) {k : Nat} (hk : k < 20) (a b c d e : Int32) (kk : mSt → Int32 → Int32 → Int32 → Int32 → Int32 → Int32 → Option (Int32 × mSt)) : M_feed_b28 N kk σ a b c d e (nn k) = kk (mUI (mUI σ 0 t (((if k < 4 then a else if k < 8 then b else if k < 12 then c else if k < 16 then d else e) >>> nn (8 * (3 - k % 4))) &&& 255)) 1 0 (nn (t + 1))) a b c d e (nn (k + 1)) := by
  have key : ∀ y, M_feed_b81 N kk σ a b c d e (nn k) y = kk (mUI (mUI σ 0 t ((y >>> nn (8 * (3 - k % 4))) &&& 255)) 1 0 (nn (t + 1))) a b c d e (nn (k + 1)) := by
    intro y
    unfold M_feed_b81
    rw [em, fd_ix k hk, stI_nn (by rfl) (by show t < 1600; exact ht) (by omega), bo_some, lt2_eq, mI_UI, if_neg (by omega), em, nn_succ, nn_succ]
  have l4 : ∀ q, q < 100 → (nn q ≤ nn k ↔ q ≤ k) := fun q hq => nn_le (by omega) (by omega)
  unfold M_feed_b28
  rw [show (20 : Int32) = nn 20 from rfl, show (16 : Int32) = nn 16 from rfl, show (12 : Int32) = nn 12 from rfl, show (8 : Int32) = nn 8 from rfl, show (4 : Int32) = nn 4 from rfl]
  rw [if_neg (fun q => by have := (l4 20 (by decide)).mp q; omega)]
  by_cases c4 : 4 ≤ k
  · rw [if_pos ((l4 4 (by decide)).mpr c4), if_neg (show ¬ k < 4 by omega)]
    by_cases c8 : 8 ≤ k
    · rw [if_pos ((l4 8 (by decide)).mpr c8), if_neg (show ¬ k < 8 by omega)]
      by_cases c12 : 12 ≤ k
      · rw [if_pos ((l4 12 (by decide)).mpr c12), if_neg (show ¬ k < 12 by omega)]
        by_cases c16 : 16 ≤ k
        · rw [if_pos ((l4 16 (by decide)).mpr c16), if_neg (show ¬ k < 16 by omega), key]
        · rw [if_neg (fun q => c16 ((l4 16 (by decide)).mp q)), if_pos (show k < 16 by omega), key]
      · rw [if_neg (fun q => c12 ((l4 12 (by decide)).mp q)), if_pos (show k < 12 by omega), key]
    · rw [if_neg (fun q => c8 ((l4 8 (by decide)).mp q)), if_pos (show k < 8 by omega), key]
  · rw [if_neg (fun q => c4 ((l4 4 (by decide)).mp q)), if_pos (show k < 4 by omega), key]
/-- four bytes: one word -/
theorem put_eq {N : Nat} (hN : 5000 ≤ N) (h : IV A σ fo nb L C W n ρ u w κ t m o) (ht : t + 4 ≤ 1600) {q : Nat} (hq : q < 5) (a b c d e : Int32) {x : Int32} (hx : x = (if q = 0 then a else if q = 1 then b else if q = 2 then c else if q = 3 then d else e)) : ∃ A' σ', X0_put N A x = some ((), A') ∧ IV A' σ' fo nb L C W n ρ u w κ (t + 4) m o ∧ A'.1 = A.1 ∧ ∀ m2, 4 ≤ m2 → rn7 (M_feed_b28 N) m2 σ a b c d e (nn (4 * q)) = rn7 (M_feed_b28 N) (m2 - 4) σ' a b c d e (nn (4 * q + 4)) := by
  obtain ⟨n4, rfl⟩ : ∃ z, N = z + 5 := ⟨N - 5, by omega⟩
  have h1 := h.byte (by omega) (x >>> nn 24)
  have h2 := h1.byte (by omega) (x >>> nn 16)
  have h3 := h2.byte (by omega) (x >>> nn 8)
  have h4 := h3.byte (by omega) (x >>> nn 0)
  refine ⟨_, _, ?_, h4, rfl, ?_⟩
  · show X0_put_b3 (n4 + 5) x (rn2 (X0_put_b3 (n4 + 5) x) (n4 + 4)) A 24 = _
    rw [put1 h.tp.a (by omega) x (by decide)]
    show X0_put_b3 (n4 + 5) x (rn2 (X0_put_b3 (n4 + 5) x) (n4 + 3)) _ 16 = _
    rw [show ((24 : Int32) &&& 31) = nn 24 from rfl, put1 h1.tp.a (by omega) x (by decide)]
    show X0_put_b3 (n4 + 5) x (rn2 (X0_put_b3 (n4 + 5) x) (n4 + 2)) _ 8 = _
    rw [show ((16 : Int32) &&& 31) = nn 16 from rfl, put1 h2.tp.a (by omega) x (by decide)]
    show X0_put_b3 (n4 + 5) x (rn2 (X0_put_b3 (n4 + 5) x) (n4 + 1)) _ 0 = _
    rw [show ((8 : Int32) &&& 31) = nn 8 from rfl, put1 h3.tp.a (by omega) x (by decide)]
    show X0_put_b3 (n4 + 5) x (rn2 (X0_put_b3 (n4 + 5) x) n4) _ (-8) = _
    rw [show ((0 : Int32) &&& 31) = nn 0 from rfl]
    unfold X0_put_b3
    rw [if_pos (by decide)]
  · intro m2 hm2
    obtain ⟨z, rfl⟩ : ∃ z, m2 = z + 4 := ⟨m2 - 4, by omega⟩
    have sel : ∀ i, i < 4 → (if 4 * q + i < 4 then a else if 4 * q + i < 8 then b else if 4 * q + i < 12 then c else if 4 * q + i < 16 then d else e) = x := by
      intro i hi
      rw [hx]
      have hq' : q = 0 ∨ q = 1 ∨ q = 2 ∨ q = 3 ∨ q = 4 := by omega
      rcases hq' with rfl | rfl | rfl | rfl | rfl
      · rw [if_pos (by omega), if_pos rfl]
      · rw [if_neg (by omega), if_pos (by omega), if_neg (by decide), if_pos rfl]
      · rw [if_neg (by omega), if_neg (by omega), if_pos (by omega), if_neg (by decide), if_neg (by decide), if_pos rfl]
      · rw [if_neg (by omega), if_neg (by omega), if_neg (by omega), if_pos (by omega), if_neg (by decide), if_neg (by decide), if_neg (by decide), if_pos rfl]
      · rw [if_neg (by omega), if_neg (by omega), if_neg (by omega), if_neg (by omega), if_neg (by decide), if_neg (by decide), if_neg (by decide), if_neg (by decide)]
    rw [show z + 4 - 4 = z by omega]
    show M_feed_b28 (n4 + 5) (rn7 (M_feed_b28 (n4 + 5)) (z + 3)) σ a b c d e (nn (4 * q)) = _
    have s0 := sel 0 (by decide)
    have s1 := sel 1 (by decide)
    have s2 := sel 2 (by decide)
    have s3 := sel 3 (by decide)
    rw [Nat.add_zero] at s0
    rw [feed1 h.tp.m (by omega) (by omega), s0, show 8 * (3 - 4 * q % 4) = 24 by omega]
    show M_feed_b28 (n4 + 5) (rn7 (M_feed_b28 (n4 + 5)) (z + 2)) _ a b c d e (nn (4 * q + 1)) = _
    rw [feed1 h1.tp.m (by omega) (by omega), s1, show 8 * (3 - (4 * q + 1) % 4) = 16 by omega]
    show M_feed_b28 (n4 + 5) (rn7 (M_feed_b28 (n4 + 5)) (z + 1)) _ a b c d e (nn (4 * q + 2)) = _
    rw [feed1 h2.tp.m (by omega) (by omega), s2, show 8 * (3 - (4 * q + 2) % 4) = 8 by omega]
    show M_feed_b28 (n4 + 5) (rn7 (M_feed_b28 (n4 + 5)) z) _ a b c d e (nn (4 * q + 3)) = _
    rw [feed1 h3.tp.m (by omega) (by omega), s3, show 8 * (3 - (4 * q + 3) % 4) = 0 by omega]
theorem feed_op {N : Nat} (hN : 5000 ≤ N) (h : IV A σ fo nb L C W n ρ u w κ t m o) (a b c d e : Int32) : ∃ r A' σ' t', X0_feed N A a b c d e = some (r, A') ∧ M_feed N σ a b c d e = some (r, σ') ∧ IV A' σ' fo nb L C W n ρ u w κ t' m o ∧ t' ≤ t + 20 ∧ A'.1 = A.1 := by
  have tb := h.tp.b
  unfold X0_feed M_feed
  rw [h.tp.a, h.tp.m, show (20 : Int32) = nn 20 from rfl, nn_add, show (1600 : Int32) = nn 1600 from rfl]
  by_cases z : t + 20 ≤ 1600
  · rw [if_pos ((nn_le (by omega) (by omega)).mpr z), if_pos ((nn_le (by omega) (by omega)).mpr z)]
    obtain ⟨A1, σ1, p1, p2, p3, p4⟩ := put_eq hN h (by omega) (q := 0) (by decide) a b c d e (x := a) rfl
    obtain ⟨A2, σ2, q1, q2, q3, q4⟩ := put_eq hN p2 (by omega) (q := 1) (by decide) a b c d e (x := b) rfl
    obtain ⟨A3, σ3, r1, r2, r3, r4⟩ := put_eq hN q2 (by omega) (q := 2) (by decide) a b c d e (x := c) rfl
    obtain ⟨A4, σ4, s1, s2, s3, s4⟩ := put_eq hN r2 (by omega) (q := 3) (by decide) a b c d e (x := d) rfl
    obtain ⟨A5, σ5, t1, t2, t3, t4⟩ := put_eq hN s2 (by omega) (q := 4) (by decide) a b c d e (x := e) rfl
    refine ⟨nn (t + 4 + 4 + 4 + 4 + 4), A5, σ5, t + 4 + 4 + 4 + 4 + 4, ?_, ?_, t2, by omega, t3.trans (s3.trans (r3.trans (q3.trans p3)))⟩
    · rw [p1, bd_some, q1, bd_some, r1, bd_some, s1, bd_some, t1, bd_some, t2.tp.a]
    · have e1 : rn7 (M_feed_b28 N) N σ a b c d e 0 = rn7 (M_feed_b28 N) (N - 4) σ1 a b c d e (nn 4) := p4 N (by omega)
      have e2 : rn7 (M_feed_b28 N) (N - 4) σ1 a b c d e (nn 4) = rn7 (M_feed_b28 N) (N - 4 - 4) σ2 a b c d e (nn 8) := q4 _ (by omega)
      have e3 : rn7 (M_feed_b28 N) (N - 4 - 4) σ2 a b c d e (nn 8) = rn7 (M_feed_b28 N) (N - 4 - 4 - 4) σ3 a b c d e (nn 12) := r4 _ (by omega)
      have e4 : rn7 (M_feed_b28 N) (N - 4 - 4 - 4) σ3 a b c d e (nn 12) = rn7 (M_feed_b28 N) (N - 4 - 4 - 4 - 4) σ4 a b c d e (nn 16) := s4 _ (by omega)
      have e5 : rn7 (M_feed_b28 N) (N - 4 - 4 - 4 - 4) σ4 a b c d e (nn 16) = rn7 (M_feed_b28 N) (N - 4 - 4 - 4 - 4 - 4) σ5 a b c d e (nn 20) := t4 _ (by omega)
      rw [e1, e2, e3, e4, e5]
      obtain ⟨y, hy⟩ : ∃ y, N - 4 - 4 - 4 - 4 - 4 = y + 1 := ⟨N - 21, by omega⟩
      rw [hy]
      show M_feed_b28 N _ σ5 a b c d e (nn 20) = _
      unfold M_feed_b28
      rw [if_pos (by decide), t2.tp.m]
  · obtain ⟨A', σ', r1, r2, r3, r4, r5⟩ := refuses_eq h (k := 0) (by decide)
    have r1' : X0_refuses A 0 = some (-1, A') := r1
    rw [if_neg (fun q => z ((nn_le (by omega) (by omega)).mp q)), if_neg (fun q => z ((nn_le (by omega) (by omega)).mp q)), r1', bd_some]
    have r3' := r3 (fun σ4 => some ((-1 : Int32), σ4))
    rw [show (nn 0) = (0 : Int32) from rfl] at r3'
    rw [r3']
    exact ⟨_, _, _, t, rfl, rfl, r4, by omega, r5.1⟩
/-! seeds -/
def P121 (f i : Nat) : Prop := f = 121 ∧ i = 0
def K71 (k : Nat) : Prop := k = 71
theorem IV.seeds (h : IV A σ fo nb L C W n ρ u w κ t m o) {s : Nat} (hs : s < 2147483648) : IV (wJ A 121 0 0 (nl s)) (mUJ σ 71 0 (nl s)) fo nb L C W n ρ u w κ t m o := by
  have c : Ch P121 A (wJ A 121 0 0 (nl s)) := Ch.wJ ⟨rfl, rfl⟩
  have mm : Cm K71 σ (mUJ σ 71 0 (nl s)) := Cm.UJ rfl
  refine IV.mk (h.fr.same (c.sameOn (fun f i hi z => by unfold dyn at hi; unfold P121 at z; omega)) (c.R 0 (by unfold P121; omega)) (mm.sameM (fun k hk z => by unfold Kfo at hk; unfold K71 at z; omega))) (h.ks.ch c) (h.m1.ch c (by unfold P121; omega)) (h.m2.ch c (by unfold P121; omega)) (h.st.ch c (fun g i hg h1 h2 => by unfold P121; omega) (fun j _ => mm.I j (by unfold K71; omega)) h.fr.bn) (by rw [mm.I 0 (by unfold K71; omega)]; exact h.d9) (h.kr.ch c (by unfold P121; omega) (by unfold P121; omega)) (h.kv.ch h.kr c (fun i h1 h2 => by unfold P121; omega) (fun j _ _ => mm.I j (by unfold K71; omega))) (by obtain ⟨n', ρ', k'⟩ := h.kt; exact ⟨n', ρ', k'.ch c (by unfold P121; omega) (by unfold P121; omega)⟩) ((mm.I 0 (by unfold K71; omega)).trans h.th) (h.un.ch c mm h.fr.bn (by unfold P121; omega) (by unfold P121; omega) (fun f i h1 h2 => by unfold P121; omega) (by unfold K71; omega) (by unfold K71; omega) (by unfold K71; omega)) (h.tp.ch c mm (by unfold P121; omega) (by unfold P121; omega) (by unfold K71; omega) (by unfold K71; omega)) (by rw [c.I _ (by unfold P121; omega), mm.I _ (by unfold K71; omega)]; exact h.fk) (by rw [c.I _ (by unfold P121; omega), mm.I _ (by unfold K71; omega)]; exact h.fp) (fun k hk => by rw [c.I _ (by unfold P121; omega), mm.I _ (by unfold K71; omega)]; exact h.rf k hk) (h.se.ch c mm (by unfold P121; omega) (by unfold P121; omega) (by unfold P121; omega) (by unfold K71; omega) (by unfold K71; omega)) ⟨s, hs, ?_, ?_⟩ (h.ou.ch c mm (by unfold P121; omega) (by unfold P121; omega) (by unfold K71; omega) (by unfold K71; omega)) (h.hn.ch c (by unfold P121; omega) (by unfold P121; omega) (by unfold P121; omega) (by unfold P121; omega) (by unfold P121; omega)) (h.wd.ch mm (fun q hq z => by unfold isWd at hq; unfold K71 at z; omega))
  · rw [aJ_wJ, if_pos ⟨rfl, rfl, rfl⟩]
  · rw [mJ_UJ, if_pos ⟨rfl, rfl⟩]
theorem seed_op (h : IV A σ fo nb L C W n ρ u w κ t m o) (x : Int32) : ∃ r A' σ', X0_seed A x = some (r, A') ∧ M_seed σ x = some (r, σ') ∧ IV A' σ' fo nb L C W n ρ u w κ t m o ∧ A'.1 = A.1 := by
  unfold X0_seed M_seed
  by_cases c : 0 ≤ x
  · have e : Int32.toInt64 x = nl x.toNatClampNeg := by
      have := nn_64 (Int32.toNatClampNeg_lt x)
      rw [← nn_of c] at this
      exact this
    rw [if_pos c, if_pos c, lt2_eq, lt2_eq, e]
    exact ⟨1, _, _, rfl, rfl, h.seeds (Int32.toNatClampNeg_lt x), rfl⟩
  · obtain ⟨A', σ', r1, r2, r3, r4, r5⟩ := refuses_eq h (k := 5) (by decide)
    have r1' : X0_refuses A 5 = some (-1, A') := r1
    have r3' := r3 (fun σ3 => some ((0 : Int32), σ3))
    rw [show (nn 5) = (5 : Int32) from rfl] at r3'
    rw [if_neg c, if_neg c, r1', bd_some, if_pos (by decide), r3']
    exact ⟨0, _, _, rfl, rfl, r4, r5.1⟩
theorem draw_eq (h : IV A σ fo nb L C W n ρ u w κ t m o) {k : Nat} (hk : 1 ≤ k) (hk2 : k ≤ 100) : ∃ r A' σ', r < k ∧ X0_draw A (nn k) = some (nn r, A') ∧ M_drawOf σ (nn k) = some (nn r, σ') ∧ IV A' σ' fo nb L C W n ρ u w κ t m o ∧ Ch P121 A A' ∧ Cm K71 σ σ' := by
  obtain ⟨s, hs, e1, e2⟩ := h.sd
  have ex : (1103515245 * nl s + 12345 : Int64) - (1103515245 * nl s + 12345) / 2147483648 * 2147483648 = nl ((1103515245 * s + 12345) % 2147483648) := by
    rw [show (1103515245 : Int64) = nl 1103515245 from rfl, nl_mul, show (12345 : Int64) = nl 12345 from rfl, nl_add, show (2147483648 : Int64) = nl 2147483648 from rfl, nl_rem (by omega) (by decide)]
  have hs' : (1103515245 * s + 12345) % 2147483648 < 2147483648 := Nat.mod_lt _ (by decide)
  generalize (1103515245 * s + 12345) % 2147483648 = s' at ex hs'
  have e64 : Int32.toInt64 (nn k) = nl k := nn_64 (by omega)
  have ne : ¬ nl k = 0 := by
    intro e
    have := congrArg Int64.toInt e
    rw [nl_toInt (by omega), show ((0 : Int64)).toInt = 0 from rfl] at this
    omega
  have er : Int64.toInt32 (nl s' / 64 - nl s' / 64 / nl k * nl k) = nn (s' / 64 % k) := by
    rw [show (64 : Int64) = nl 64 from rfl, nl_div (by omega) (by decide), nl_rem (by omega) (by omega), nl_32]
    have := Nat.mod_lt (s' / 64) (show k > 0 by omega)
    omega
  refine ⟨s' / 64 % k, _, _, Nat.mod_lt _ (by omega), ?_, ?_, h.seeds hs', Ch.wJ ⟨rfl, rfl⟩, Cm.UJ rfl⟩
  · unfold X0_draw
    rw [e1, ex, lt2_eq, e64, if_pos ne, aJ_wJ, if_pos ⟨rfl, rfl, rfl⟩, er]
  · unfold M_drawOf
    rw [e2, ex, lt2_eq, e64, if_pos ne, mJ_UJ, if_pos ⟨rfl, rfl⟩, er]
end ACT
