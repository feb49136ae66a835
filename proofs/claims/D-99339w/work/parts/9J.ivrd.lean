/-! PURE LEVEL: the relation between calls, over a reading -/
set_option maxRecDepth 100000
def Prd (f i : Nat) : Prop := i = 9 ∨ i = 10 ∨ i = 15 ∨ (i = 0 ∧ (f = 102 ∨ f = 103 ∨ f = 104))
def Krd (k j : Nat) : Prop := k = 1 ∨ k = 7 ∨ k = 8 ∨ k = 9 ∨ Kt k j
theorem Krd_no {k j t : Nat} (h1 : kall k = false) (h2 : khalf k = t) (h3 : t ≤ j) (h4 : 10 ≤ k ∨ k = 0) : ¬ Krd k j := by
  rintro (z | z | z | z | z)
  · omega
  · omega
  · omega
  · omega
  · exact Kt_no h1 h2 h3 z
theorem Krd_wd {k j : Nat} (h : isWd k) : ¬ Krd k j := by
  have := h
  unfold isWd at this
  rintro (z | z | z | z | z)
  · omega
  · omega
  · omega
  · omega
  · exact Kt_wd k h j z
theorem Krd_st {k j : Nat} (h : Kst k j) : ¬ Krd k j := by
  have := h
  unfold Kst at this
  rintro (z | z | z | z | z)
  · omega
  · omega
  · omega
  · omega
  · exact Kst_t h z
section
variable {A A' : AH} {σ σ' : mSt} {fo nb L C W n : Nat} {ρ : Nat → Nat} {u w : Nat} {κ : Nat → Nat} {t m o c s : Nat}
theorem IV.rd (h : IV A σ fo nb L C W n ρ u w κ t m o) (e : Ex Prd c s A A') (mm : Cg Krd σ σ') {t' : Nat} (ht : t' ≤ t) (ha : aI A' 102 0 0 = nn t') (hm : σ'.1 1 0 = nn t') (fk : aI A' 103 0 0 = σ'.1 7 0) (fp : aI A' 104 0 0 = σ'.1 8 0) (rf : ∀ k, k < 6 → aI A' 31 15 k = σ'.1 9 k) : IV A' σ' fo nb L C W n ρ u w κ t' m o := by
  have nb8 := h.fr.bn
  have cl := e.cl h.ks
  have n0 : ∀ {k : Nat} (j : Nat), kall k = false → khalf k = 0 → 10 ≤ k → ¬ Krd k j := fun j h1 h2 h3 => Krd_no h1 h2 (Nat.zero_le _) (Or.inl h3)
  have e56 : ∀ j, σ'.1 56 j = σ.1 56 j := fun j => mm.I (n0 j rfl rfl (by decide))
  have hd : ∀ f i, dyn i → ¬ Prd f i := fun f i hi z => by unfold dyn at hi; unfold Prd at z; omega
  have r100 : aR A' 100 0 0 = aR A 100 0 0 := cl.R _ _ _ (by decide) (by unfold Prd; omega)
  refine IV.mk (h.fr.exg e hd r100 mm (fun k j z => Krd_st z)) (h.ks.cl cl) (h.m1.cl cl (by decide) (by unfold Prd; omega)) (h.m2.cl cl (by decide) (by unfold Prd; omega)) (h.st.cl cl (by decide) (fun g i h1 h2 => by unfold Prd; omega) (fun j _ => e56 j) nb8) ?_ (h.kr.cl cl (by decide) (by unfold Prd; omega) (by unfold Prd; omega)) (h.kv.cl h.kr cl (by decide) (fun i h1 h2 => by unfold Prd; omega) (fun j _ _ => e56 j)) ?_ ((mm.I (n0 0 rfl rfl (by decide))).trans h.th) (h.un.cl cl mm nb8 (by unfold Prd; omega) (by unfold Prd; omega) (fun f i h1 h2 => by unfold Prd; omega) (fun j => n0 j rfl rfl (by decide)) (n0 0 rfl rfl (by decide)) (n0 0 rfl rfl (by decide))) (h.tp.cl cl mm (by unfold Prd; omega) (fun j => Krd_no rfl rfl (Nat.zero_le _) (Or.inr rfl)) ht ha hm) fk fp rf (h.se.cl cl mm (by unfold Prd; omega) (by unfold Prd; omega) (by unfold Prd; omega) (n0 0 rfl rfl (by decide)) (fun j => n0 j rfl rfl (by decide))) ?_ (h.ou.cl cl mm (by unfold Prd; omega) (by unfold Prd; omega) (fun j => n0 j rfl rfl (by decide)) (n0 0 rfl rfl (by decide))) (h.hn.cl cl (by unfold Prd; omega) (by unfold Prd; omega) (by unfold Prd; omega) (by unfold Prd; omega) (by unfold Prd; omega)) ?_
  · rw [e56]; exact h.d9
  · obtain ⟨n', ρ', k⟩ := h.kt
    exact ⟨n', ρ', k.cl cl (by decide) (by unfold Prd; omega) (by unfold Prd; omega)⟩
  · rw [cl.J _ _ _ (by decide) (by unfold Prd; omega), mm.J (n0 0 rfl rfl (by decide))]; exact h.sd
  · intro k hk j v hv
    rw [mm.I (Krd_wd hk)]; exact h.wd k hk j v hv
end
