/-! PURE LEVEL: the component's reader, what makes nothing -/
set_option maxRecDepth 100000
def RP (f i : Nat) : Prop := (i = 9 ∧ 301 ≤ f ∧ f ≤ 306) ∨ i = 10
/-- the reader of n bytes B stands at p; o are open, μ may be asked, t is the folio that is told -/
def RD (A : AH) (B : Nat → Nat) (n p o μ : Nat) (t : Option Nat) : Prop :=
  (GN A) ∧
  (aI A 301 9 0 = nn n) ∧
  (aI A 302 9 0 = nn p) ∧
  (aI A 304 9 0 = nn o) ∧
  (aI A 305 9 0 = nn μ) ∧
  (aR A 306 9 0 = t) ∧
  (∀ k, k < n → aI A 33 8 k = sby (B k)) ∧
  (BOK B n) ∧
  (p ≤ n) ∧
  (o ≤ 6)
theorem RD.gn {A : AH} {B : Nat → Nat} {n p o μ : Nat} {t : Option Nat} (h : RD A B n p o μ t) : GN A := h.1
theorem RD.sz {A : AH} {B : Nat → Nat} {n p o μ : Nat} {t : Option Nat} (h : RD A B n p o μ t) : aI A 301 9 0 = nn n := h.2.1
theorem RD.at_ {A : AH} {B : Nat → Nat} {n p o μ : Nat} {t : Option Nat} (h : RD A B n p o μ t) : aI A 302 9 0 = nn p := h.2.2.1
theorem RD.op {A : AH} {B : Nat → Nat} {n p o μ : Nat} {t : Option Nat} (h : RD A B n p o μ t) : aI A 304 9 0 = nn o := h.2.2.2.1
theorem RD.cx {A : AH} {B : Nat → Nat} {n p o μ : Nat} {t : Option Nat} (h : RD A B n p o μ t) : aI A 305 9 0 = nn μ := h.2.2.2.2.1
theorem RD.to_ {A : AH} {B : Nat → Nat} {n p o μ : Nat} {t : Option Nat} (h : RD A B n p o μ t) : aR A 306 9 0 = t := h.2.2.2.2.2.1
theorem RD.tp {A : AH} {B : Nat → Nat} {n p o μ : Nat} {t : Option Nat} (h : RD A B n p o μ t) : ∀ k, k < n → aI A 33 8 k = sby (B k) := h.2.2.2.2.2.2.1
theorem RD.bk {A : AH} {B : Nat → Nat} {n p o μ : Nat} {t : Option Nat} (h : RD A B n p o μ t) : BOK B n := h.2.2.2.2.2.2.2.1
theorem RD.pn {A : AH} {B : Nat → Nat} {n p o μ : Nat} {t : Option Nat} (h : RD A B n p o μ t) : p ≤ n := h.2.2.2.2.2.2.2.2.1
theorem RD.ob {A : AH} {B : Nat → Nat} {n p o μ : Nat} {t : Option Nat} (h : RD A B n p o μ t) : o ≤ 6 := h.2.2.2.2.2.2.2.2.2
theorem RD.mk {A : AH} {B : Nat → Nat} {n p o μ : Nat} {t : Option Nat} (h_gn : GN A) (h_sz : aI A 301 9 0 = nn n) (h_at_ : aI A 302 9 0 = nn p) (h_op : aI A 304 9 0 = nn o) (h_cx : aI A 305 9 0 = nn μ) (h_to_ : aR A 306 9 0 = t) (h_tp : ∀ k, k < n → aI A 33 8 k = sby (B k)) (h_bk : BOK B n) (h_pn : p ≤ n) (h_ob : o ≤ 6) : RD A B n p o μ t := ⟨h_gn, h_sz, h_at_, h_op, h_cx, h_to_, h_tp, h_bk, h_pn, h_ob⟩
/-- it ends well .. -/
def PS (c s : Nat) (A A' : AH) (B : Nat → Nat) (n p o μ : Nat) (t : Option Nat) : Prop :=
  (Ex RP c s A A') ∧
  (RD A' B n p o μ t)
theorem PS.ex {c s : Nat} {A A' : AH} {B : Nat → Nat} {n p o μ : Nat} {t : Option Nat} (h : PS c s A A' B n p o μ t) : Ex RP c s A A' := h.1
theorem PS.rd {c s : Nat} {A A' : AH} {B : Nat → Nat} {n p o μ : Nat} {t : Option Nat} (h : PS c s A A' B n p o μ t) : RD A' B n p o μ t := h.2
theorem PS.mk {c s : Nat} {A A' : AH} {B : Nat → Nat} {n p o μ : Nat} {t : Option Nat} (h_ex : Ex RP c s A A') (h_rd : RD A' B n p o μ t) : PS c s A A' B n p o μ t := ⟨h_ex, h_rd⟩
/-- .. or with the fault e -/
def PF (c s : Nat) (A A' : AH) (e : Nat × Nat) : Prop :=
  (Ex RP c s A A') ∧
  (aI A' 406 10 0 = nn e.1) ∧
  (aI A' 407 10 0 = nn e.2)
theorem PF.ex {c s : Nat} {A A' : AH} {e : Nat × Nat} (h : PF c s A A' e) : Ex RP c s A A' := h.1
theorem PF.k {c s : Nat} {A A' : AH} {e : Nat × Nat} (h : PF c s A A' e) : aI A' 406 10 0 = nn e.1 := h.2.1
theorem PF.pl {c s : Nat} {A A' : AH} {e : Nat × Nat} (h : PF c s A A' e) : aI A' 407 10 0 = nn e.2 := h.2.2
theorem PF.mk {c s : Nat} {A A' : AH} {e : Nat × Nat} (h_ex : Ex RP c s A A') (h_k : aI A' 406 10 0 = nn e.1) (h_pl : aI A' 407 10 0 = nn e.2) : PF c s A A' e := ⟨h_ex, h_k, h_pl⟩
def bv (b : Nat) : Int32 := if b = 256 then -1 else nn b
theorem let_bv : ∀ b, b < 257 → X0_isLetter (bv b) = some (if isLt b = true then 1 else 0) := by decide +kernel
theorem dig_bv : ∀ b, b < 257 → X0_isDigit (bv b) = some (if isDg b = true then 1 else 0) := by decide +kernel
theorem let_t {b : Nat} (hb : b ≤ 256) (h : isLt b = true) : X0_isLetter (bv b) = some 1 := by rw [let_bv b (by omega), if_pos h]
theorem let_f {b : Nat} (hb : b ≤ 256) (h : ¬ isLt b = true) : X0_isLetter (bv b) = some 0 := by rw [let_bv b (by omega), if_neg h]
theorem dig_t {b : Nat} (hb : b ≤ 256) (h : isDg b = true) : X0_isDigit (bv b) = some 1 := by rw [dig_bv b (by omega), if_pos h]
theorem dig_f {b : Nat} (hb : b ≤ 256) (h : ¬ isDg b = true) : X0_isDigit (bv b) = some 0 := by rw [dig_bv b (by omega), if_neg h]
theorem bv_nn {b : Nat} (h : b < 256) : bv b = nn b := if_neg (by omega)
theorem bv_eq {b c : Nat} (h : b ≤ 256) (hc : c < 256) : bv b = nn c ↔ b = c := by
  unfold bv
  split
  · next z =>
    refine ⟨fun e => absurd e.symm (nn_ne1 (by omega)), fun e => by omega⟩
  · next z =>
    exact nn_eq (by omega) (by omega)
theorem bl_f6 : isBl 256 = false := by decide
theorem lt_f6 : isLt 256 = false := by decide
theorem dg_f6 : isDg 256 = false := by decide
section
variable {N : Nat} {A A' : AH} {B : Nat → Nat} {n p o μ : Nat} {t : Option Nat} {c s c' s' : Nat}
theorem GN.k9 (g : GN A) : aK A 9 = 3 := (g.ks 9 (by decide)).1
theorem GN.k8 (g : GN A) : aK A 8 = 33 := (g.ks 8 (by decide)).1
theorem GN.k10 (g : GN A) : aK A 10 = 4 := (g.ks 10 (by decide)).1
theorem RD.ex (r : RD A B n p o μ t) {Q : Nat → Nat → Prop} (e : Ex Q c s A A') (h9 : ∀ f, ¬ Q f 9) (h8 : ∀ f, ¬ Q f 8) : RD A' B n p o μ t := by
  have k9 : aK A 9 ≠ 0 := by rw [r.gn.k9]; decide
  have k8 : aK A 8 ≠ 0 := by rw [r.gn.k8]; decide
  exact RD.mk e.gn ((e.I _ k9 (h9 _)).trans r.sz) ((e.I _ k9 (h9 _)).trans r.at_) ((e.I _ k9 (h9 _)).trans r.op) ((e.I _ k9 (h9 _)).trans r.cx) ((e.R _ k9 (h9 _)).trans r.to_) (fun k hk => (e.I _ k8 (h8 _)).trans (r.tp k hk)) r.bk r.pn r.ob
theorem RD.mv (r : RD A B n p o μ t) {p' : Nat} (h : p' ≤ n) : RD (wI A 302 9 0 (nn p')) B n p' o μ t ∧ Ex RP 0 0 A (wI A 302 9 0 (nn p')) := by
  refine ⟨RD.mk (r.gn.wI (by decide)) ?_ ?_ ?_ ?_ r.to_ (fun k hk => ?_) r.bk h r.ob, Ex.wI r.gn (Or.inl ⟨rfl, by decide, by decide⟩) (by decide)⟩
  · rw [aI_wI, if_neg (by decide)]; exact r.sz
  · rw [aI_wI, if_pos ⟨rfl, rfl, rfl⟩]
  · rw [aI_wI, if_neg (by decide)]; exact r.op
  · rw [aI_wI, if_neg (by decide)]; exact r.cx
  · rw [aI_wI, if_neg (fun z => absurd z.1 (by decide))]; exact r.tp k hk
theorem RD.opn (r : RD A B n p o μ t) {o' : Nat} (h : o' ≤ 6) : RD (wI A 304 9 0 (nn o')) B n p o' μ t ∧ Ex RP 0 0 A (wI A 304 9 0 (nn o')) := by
  refine ⟨RD.mk (r.gn.wI (by decide)) ?_ ?_ ?_ ?_ r.to_ (fun k hk => ?_) r.bk r.pn h, Ex.wI r.gn (Or.inl ⟨rfl, by decide, by decide⟩) (by decide)⟩
  · rw [aI_wI, if_neg (by decide)]; exact r.sz
  · rw [aI_wI, if_neg (by decide)]; exact r.at_
  · rw [aI_wI, if_pos ⟨rfl, rfl, rfl⟩]
  · rw [aI_wI, if_neg (by decide)]; exact r.cx
  · rw [aI_wI, if_neg (fun z => absurd z.1 (by decide))]; exact r.tp k hk
theorem RD.frm (r : RD A B n p o μ t) {v : Int32} : RD (wI A 303 9 0 v) B n p o μ t ∧ Ex RP 0 0 A (wI A 303 9 0 v) ∧ aI (wI A 303 9 0 v) 303 9 0 = v := by
  refine ⟨RD.mk (r.gn.wI (by decide)) ?_ ?_ ?_ ?_ r.to_ (fun k hk => ?_) r.bk r.pn r.ob, Ex.wI r.gn (Or.inl ⟨rfl, by decide, by decide⟩) (by decide), ?_⟩
  · rw [aI_wI, if_neg (by decide)]; exact r.sz
  · rw [aI_wI, if_neg (by decide)]; exact r.at_
  · rw [aI_wI, if_neg (by decide)]; exact r.op
  · rw [aI_wI, if_neg (by decide)]; exact r.cx
  · rw [aI_wI, if_neg (fun z => absurd z.1 (by decide))]; exact r.tp k hk
  · rw [aI_wI, if_pos ⟨rfl, rfl, rfl⟩]
theorem RD.byte (r : RD A B n p o μ t) {k : Nat} (hk : k < 5000) : X2_byteAt A (nn k) = some (bv (B k)) := by
  have hn := r.bk.nb
  unfold X2_byteAt
  rw [if_neg (nn_nneg (by omega)), r.sz]
  by_cases z : n ≤ k
  · rw [if_pos ((nn_le (by omega) (by omega)).mpr z), r.bk.ge k z]; rfl
  · rw [if_neg (fun q => z ((nn_le (by omega) (by omega)).mp q)), sI_nn (by omega) (by decide), bo_some, r.tp k (by omega), sby_and _ (r.bk.lt k (by omega)), bv_nn (r.bk.lt k (by omega))]
theorem RD.hb (r : RD A B n p o μ t) : X2_byteAt A (aI A 302 9 0) = some (bv (B p)) := by
  have hn := r.bk.nb
  have hp := r.pn
  rw [r.at_, r.byte (by omega)]
theorem here_loop : ∀ (f p z : Nat) (A : AH), n - p = f → f < z → RD A B n p o μ t → ∃ A', rn1 (X2_here_b0 N) z A = some (bv (B (sk B n p)), A') ∧ Ex RP 0 0 A A' ∧ RD A' B n (sk B n p) o μ t ∧ aI A' 303 9 0 = aI A 303 9 0 := by
  intro f
  induction f with
  | zero =>
    intro p z A hf hz r
    obtain ⟨z, rfl⟩ : ∃ m, z = m + 1 := ⟨z - 1, by omega⟩
    have e : sk B n p = p := rp_e (by omega)
    have b6 : B p = 256 := r.bk.ge p (by omega)
    refine ⟨A, ?_, Ex.refl r.gn, by rw [e]; exact r, rfl⟩
    show X2_here_b0 N _ A = _
    unfold X2_here_b0
    rw [r.hb, bo_some, b6, if_neg (by decide), bo_some, if_neg (by decide), bo_some, e, b6]
  | succ f ih =>
    intro p z A hf hz r
    obtain ⟨z, rfl⟩ : ∃ m, z = m + 1 := ⟨z - 1, by omega⟩
    have hn := r.bk.nb
    have hl := r.bk.le p
    obtain ⟨r2, x2⟩ := r.mv (p' := p + 1) (by omega)
    show ∃ A', X2_here_b0 N (rn1 (X2_here_b0 N) z) A = _ ∧ _
    by_cases c : isBl (B p) = true
    · have e : sk B n p = sk B n (p + 1) := rp_t (by omega) c
      obtain ⟨A', h1, h2, h3, h4⟩ := ih (p + 1) z _ (by omega) (by omega) r2
      refine ⟨A', ?_, (x2.trans h2), by rw [e]; exact h3, ?_⟩
      · generalize rn1 (X2_here_b0 N) z = kk at h1 ⊢
        have hb : X2_here_b26 N kk A = some (bv (B (sk B n p)), A') := by
          unfold X2_here_b26
          rw [lt2_eq, r.at_, nn_succ, h1, e]
        unfold X2_here_b0
        rw [r.hb, bo_some]
        unfold isBl at c
        by_cases c1 : B p = 32
        · rw [if_pos (show bv (B p) = (32 : Int32) from (bv_eq hl (by decide)).mpr c1)]; exact hb
        · have c2 : B p = 10 := by simpa [c1] using c
          rw [if_neg (fun z : bv (B p) = (32 : Int32) => c1 ((bv_eq hl (by decide)).mp z)), bo_some, if_pos (show bv (B p) = (10 : Int32) from (bv_eq hl (by decide)).mpr c2)]; exact hb
      · rw [h4, aI_wI, if_neg (by decide)]
    · have c' : isBl (B p) = false := by simpa using c
      have e : sk B n p = p := rp_f c'
      refine ⟨A, ?_, Ex.refl r.gn, by rw [e]; exact r, rfl⟩
      generalize rn1 (X2_here_b0 N) z = kk
      unfold X2_here_b0
      unfold isBl at c
      have c1 : B p ≠ 32 := fun z => c (by simp [z])
      have c2 : B p ≠ 10 := fun z => c (by simp [z])
      rw [r.hb, bo_some, if_neg (fun z : bv (B p) = (32 : Int32) => c1 ((bv_eq hl (by decide)).mp z)), bo_some, if_neg (fun z : bv (B p) = (10 : Int32) => c2 ((bv_eq hl (by decide)).mp z)), bo_some, e]
theorem here_eq (hN : 5000 ≤ N) (r : RD A B n p o μ t) : ∃ A', X2_here N A = some (bv (B (sk B n p)), A') ∧ Ex RP 0 0 A A' ∧ RD A' B n (sk B n p) o μ t ∧ aI A' 303 9 0 = aI A 303 9 0 := here_loop (n - p) p N A rfl (by have := r.bk.nb; omega) r
theorem sk_le (r : RD A B n p o μ t) : sk B n p ≤ n := rp_le r.bk bl_f6 r.pn
theorem sk_ge (B : Nat → Nat) (n p : Nat) : p ≤ sk B n p := rp_ge _ _ _ _
theorem sk_nb {B : Nat → Nat} {n p : Nat} (h : BOK B n) : isBl (B (sk B n p)) = false := rp_stop h bl_f6
theorem sk_sk {B : Nat → Nat} {n p : Nat} (h : BOK B n) : sk B n (sk B n p) = sk B n p := rp_f (sk_nb h)
theorem sk_lt {B : Nat → Nat} {n p k : Nat} (h : BOK B n) (hp : p ≤ n) (hk : B (sk B n p) = k) (h6 : k ≠ 256) : sk B n p < n := by
  rcases Nat.lt_or_ge (sk B n p) n with q | q
  · exact q
  · rw [h.ge _ q] at hk; omega
theorem thr {α : Type} (A : AH) (k pl : Int32) : (bd (X2_wrong A k pl) fun r A2 => bo r fun q => if q = 10 then some ((none : Option α), A2) else none) = some (none, wI (wI A 406 10 0 k) 407 10 0 pl) := rfl
theorem PF.thr (g : GN A) (k pl : Nat) : PF 0 0 A (wI (wI A 406 10 0 (nn k)) 407 10 0 (nn pl)) (k, pl) := by
  refine PF.mk ((Ex.wI (P := RP) g (Or.inr rfl) (by decide)).trans (Ex.wI (g.wI (by decide)) (Or.inr rfl) (by decide))) ?_ ?_
  · rw [aI_wI, if_neg (by decide), aI_wI, if_pos ⟨rfl, rfl, rfl⟩]
  · rw [aI_wI, if_pos ⟨rfl, rfl, rfl⟩]
theorem PF.of {C : AH} {e : Nat × Nat} (x : Ex RP c s A A') (h : PF c' s' A' C e) : PF (c + c') (s + s') A C e := PF.mk (x.trans h.ex) h.k h.pl
theorem PF.wk {e : Nat × Nat} (h : PF c s A A' e) (hc : c ≤ c') (hs : s ≤ s') : PF c' s' A A' e := PF.mk (h.ex.wk hc hs) h.k h.pl
theorem parted_eq (r : RD A B n p o μ t) : Bh (X2_parted A) (if ptd B p = true then .error (1, p) else .ok () : Rs Unit) (fun e A' => PF 0 0 A A' e) (fun _ _ A' => A' = A) := by
  have hn := r.bk.nb
  have hp := r.pn
  have h32 : X2_parted_b32 A = some (none, wI (wI A 406 10 0 (nn 1)) 407 10 0 (nn p)) := by
    unfold X2_parted_b32
    rw [thr, r.at_]; rfl
  by_cases c0 : p = 0
  · subst c0
    have hb : X2_byteAt A (aI A 302 9 0 - 1) = some (-1) := by
      rw [r.at_]
      unfold X2_byteAt
      rw [if_pos (by decide)]
    have e : ptd B 0 = false := rfl
    rw [e, if_neg (by decide)]
    refine ⟨(), A, ?_, rfl⟩
    unfold X2_parted
    rw [hb, bo_some, show X0_isLetter (-1) = some 0 by rfl, bo_some, if_pos rfl, bo_some, show X0_isDigit (-1) = some 0 by rfl, bo_some, if_pos rfl]
  · have hl := r.bk.le (p - 1)
    have hb : X2_byteAt A (aI A 302 9 0 - 1) = some (bv (B (p - 1))) := by
      rw [r.at_, show (1 : Int32) = nn 1 from rfl, nn_sub (by omega), r.byte (by omega)]
    have e : ptd B p = (isLt (B (p - 1)) || isDg (B (p - 1))) := by
      unfold ptd
      rw [show decide (1 ≤ p) = true by simp; omega, Bool.true_and]
    rw [e]
    by_cases c1 : isLt (B (p - 1)) = true
    · rw [c1, Bool.true_or, if_pos rfl]
      refine ⟨_, ?_, PF.thr r.gn 1 p⟩
      unfold X2_parted
      rw [hb, bo_some, let_t (by omega) c1, bo_some, if_neg (by decide)]
      exact h32
    · have c1' : isLt (B (p - 1)) = false := by simpa using c1
      rw [c1', Bool.false_or]
      by_cases c2 : isDg (B (p - 1)) = true
      · rw [if_pos c2]
        refine ⟨_, ?_, PF.thr r.gn 1 p⟩
        unfold X2_parted
        rw [hb, bo_some, let_f (by omega) c1, bo_some, if_pos rfl, bo_some, dig_t (by omega) c2, bo_some, if_neg (by decide)]
        exact h32
      · rw [if_neg c2]
        refine ⟨(), A, ?_, rfl⟩
        unfold X2_parted
        rw [hb, bo_some, let_f (by omega) c1, bo_some, if_pos rfl, bo_some, dig_f (by omega) c2, bo_some, if_pos rfl]
theorem must_eq (hN : 5000 ≤ N) (r : RD A B n p o μ t) {c : Nat} (hc : c < 256) : Bh (X2_must N A (nn c)) (sMust B n c p) (fun e A' => PF 0 0 A A' e) (fun p' _ A' => Ex RP 0 0 A A' ∧ RD A' B n p' o μ t) := by
  obtain ⟨A1, h1, x1, r1, f1⟩ := here_eq hN r
  have hl := r.bk.le (sk B n p)
  unfold sMust X2_must
  rw [h1, bd_some]
  by_cases z : B (sk B n p) = c
  · rw [if_pos z, if_pos ((bv_eq hl hc).mpr z), lt2_eq, r1.at_, nn_succ]
    obtain ⟨r2, x2⟩ := r1.mv (p' := sk B n p + 1) (sk_lt r.bk r.pn z (by omega))
    exact ⟨(), _, rfl, x1.trans x2, r2⟩
  · rw [if_neg z, if_neg (fun q => z ((bv_eq hl hc).mp q)), thr, r1.at_]
    exact ⟨_, rfl, PF.of x1 (PF.thr r1.gn 1 _)⟩
theorem takes_eq (hN : 5000 ≤ N) (r : RD A B n p o μ t) {c : Nat} (hc : c < 256) : ∃ A', X2_takes N A (nn c) = some (if B (sk B n p) = c then 1 else 0, A') ∧ Ex RP 0 0 A A' ∧ RD A' B n (if B (sk B n p) = c then sk B n p + 1 else sk B n p) o μ t := by
  obtain ⟨A1, h1, x1, r1, f1⟩ := here_eq hN r
  have hl := r.bk.le (sk B n p)
  unfold X2_takes
  rw [h1, bd_some]
  by_cases z : B (sk B n p) = c
  · rw [if_pos z, if_pos z, if_pos ((bv_eq hl hc).mpr z)]
    obtain ⟨r2, x2⟩ := r1.mv (p' := sk B n p + 1) (sk_lt r.bk r.pn z (by omega))
    refine ⟨_, ?_, x1.trans x2, r2⟩
    unfold X2_takes_b13 X2_takes_b28
    rw [if_neg (by decide), lt2_eq, if_pos (by decide), r1.at_, show (1 : Int32) = nn 1 from rfl, nn_add]
  · rw [if_neg z, if_neg z, if_neg (fun q => z ((bv_eq hl hc).mp q))]
    obtain ⟨r2, x2⟩ := r1.mv (p' := sk B n p) (sk_le r)
    refine ⟨_, ?_, x1.trans x2, r2⟩
    unfold X2_takes_b13 X2_takes_b28
    rw [if_pos rfl, lt2_eq, if_pos (by decide), r1.at_, show (0 : Int32) = nn 0 from rfl, nn_add, Nat.add_zero]
theorem opens_eq (r : RD A B n p o μ t) (pl : Nat) : Bh (X2_opens A (nn pl)) (if o = 6 then .error (4, pl) else .ok () : Rs Unit) (fun e A' => PF 0 0 A A' e) (fun _ _ A' => Ex RP 0 0 A A' ∧ RD A' B n p (o + 1) μ t ∧ aI A' 303 9 0 = aI A 303 9 0) := by
  have ho := r.ob
  unfold X2_opens
  rw [r.op]
  by_cases z : o = 6
  · rw [if_pos z, if_pos (by rw [z]; rfl), thr]
    exact ⟨_, rfl, PF.thr r.gn 4 pl⟩
  · rw [if_neg z, if_neg (fun q => z ((nn_eq (by omega) (by decide)).mp (q.trans (show (6 : Int32) = nn 6 from rfl)))), lt2_eq, nn_succ]
    obtain ⟨r2, x2⟩ := r.opn (o' := o + 1) (by omega)
    exact ⟨(), _, rfl, x2, r2, by rw [aI_wI, if_neg (by decide)]⟩
theorem most_eq (g : GN A) (b : Bool) (pl : Nat) : Bh (X2_most A (if b = true then 1 else 0) (nn pl)) (if b = true then .error (5, pl) else .ok () : Rs Unit) (fun e A' => PF 0 0 A A' e) (fun _ _ A' => A' = A) := by
  unfold X2_most
  cases b with
  | true =>
    exact ⟨_, rfl, PF.thr g 5 pl⟩
  | false =>
    exact ⟨(), A, rfl, rfl⟩
theorem dvl_lt {B : Nat → Nat} {a : Nat} : ∀ k, (∀ i, i < k → isDg (B (a + i)) = true) → dvl B a k < 10 ^ k := by
  intro k
  induction k with
  | zero => intro _; exact Nat.one_pos
  | succ k ih =>
    intro h
    have h1 := ih (fun i hi => h i (by omega))
    have h2 := h k (by omega)
    unfold isDg at h2
    simp at h2
    show 10 * dvl B a k + (B (a + k) - 48) < 10 ^ (k + 1)
    rw [Nat.pow_succ]
    omega
theorem num_loop {l m a : Nat} (hm : m < 100000) (hl : l < 100000) (ha : a ≤ n) (hd : isDg (B a) = true) : ∀ (f k z : Nat) (A : AH), n - (a + k) = f → f < z → k ≤ 4 → (∀ i, i < k → isDg (B (a + i)) = true) → RD A B n (a + k) o μ t → aI A 303 9 0 = nn a →
    Bh (rn2 (X2_number_b34 N (nn l) (nn m)) z A (nn (dvl B a k))) (if a + 4 < rp isDg B n (a + k) then .error (1, a + 4) else if l ≤ dvl B a (rp isDg B n (a + k) - a) ∧ dvl B a (rp isDg B n (a + k) - a) ≤ m then .ok (dvl B a (rp isDg B n (a + k) - a), a, rp isDg B n (a + k)) else .error (2, a) : Rs (Nat × Nat × Nat)) (fun e A' => PF 0 0 A A' e) (fun v r A' => r = nn v.1 ∧ Ex RP 0 0 A A' ∧ RD A' B n v.2.2 o μ t ∧ aI A' 303 9 0 = nn v.2.1) := by
  intro f
  induction f with
  | zero =>
    intro k z A hf hz hk hi r h3
    obtain ⟨z, rfl⟩ : ∃ m, z = m + 1 := ⟨z - 1, by omega⟩
    have hv := dvl_lt k hi
    have hv4 : 10 ^ k ≤ 10 ^ 4 := Nat.pow_le_pow_right (by decide) hk
    have e : rp isDg B n (a + k) = a + k := rp_e (by omega)
    have b6 : B (a + k) = 256 := r.bk.ge _ (by omega)
    have hn := r.bk.nb
    rw [e, if_neg (by omega), show a + k - a = k by omega]
    show Bh (X2_number_b34 N (nn l) (nn m) _ A _) _ _ _
    unfold X2_number_b34
    rw [r.hb, bo_some, dig_f (by omega) (by rw [b6]; decide), bo_some, if_pos rfl]
    unfold X0_is
    by_cases z1 : l ≤ dvl B a k
    · rw [if_neg (fun q => by rw [nn_lt (by omega) (by omega)] at q; omega)]
      by_cases z2 : dvl B a k ≤ m
      · rw [if_neg (fun q => by rw [nn_lt (by omega) (by omega)] at q; omega), bo_some, if_neg (by decide), if_pos ⟨z1, z2⟩]
        exact ⟨_, A, rfl, rfl, Ex.refl r.gn, r, h3⟩
      · rw [if_pos ((nn_lt (by omega) (by omega)).mpr (by omega)), bo_some, if_pos rfl, if_neg (fun q => z2 q.2), thr, h3]
        exact ⟨_, rfl, PF.thr r.gn 2 a⟩
    · rw [if_pos ((nn_lt (by omega) (by omega)).mpr (by omega)), bo_some, if_pos rfl, if_neg (fun q => z1 q.1), thr, h3]
      exact ⟨_, rfl, PF.thr r.gn 2 a⟩
  | succ f ih =>
    intro k z A hf hz hk hi r h3
    obtain ⟨z, rfl⟩ : ∃ m, z = m + 1 := ⟨z - 1, by omega⟩
    have hv := dvl_lt k hi
    have hv4 : 10 ^ k ≤ 10 ^ 4 := Nat.pow_le_pow_right (by decide) hk
    have hn := r.bk.nb
    have hle := r.bk.le (a + k)
    show Bh (X2_number_b34 N (nn l) (nn m) (rn2 (X2_number_b34 N (nn l) (nn m)) z) A _) _ _ _
    by_cases c : isDg (B (a + k)) = true
    · have e : rp isDg B n (a + k) = rp isDg B n (a + k + 1) := rp_t (by omega) c
      have hge := rp_ge isDg B n (a + k + 1)
      by_cases k4 : k = 4
      · rw [if_pos (by omega)]
        generalize rn2 (X2_number_b34 N (nn l) (nn m)) z = kk
        unfold X2_number_b34
        rw [r.hb, bo_some, dig_t (by omega) c, bo_some, if_neg (by decide), r.at_, h3, nn_sub (by omega), show a + k - a = k by omega, k4, if_pos (by rfl), thr]
        exact ⟨_, rfl, PF.thr r.gn 1 (a + 4)⟩
      · obtain ⟨r2, x2⟩ := r.mv (p' := a + (k + 1)) (by omega)
        have hc := c
        unfold isDg at hc
        simp at hc
        have := ih (k + 1) z _ (by omega) (by omega) (by omega) (fun i h => by
          by_cases ei : i = k
          · rw [ei]; exact c
          · exact hi i (by omega)) r2 (by rw [aI_wI, if_neg (by decide)]; exact h3)
        rw [show a + (k + 1) = a + k + 1 by omega] at this
        rw [e]
        generalize rn2 (X2_number_b34 N (nn l) (nn m)) z = kk at this ⊢
        unfold X2_number_b34
        rw [r.hb, bo_some, dig_t (by omega) c, bo_some, if_neg (by decide), r.at_, h3, nn_sub (by omega), show a + k - a = k by omega, if_neg (fun q => k4 ((nn_eq (by omega) (by decide)).mp (q.trans (show (4 : Int32) = nn 4 from rfl)))), bo_some, lt2_eq, nn_succ, bv_nn (by omega), show (10 : Int32) = nn 10 from rfl, nn_mul, nn_add, show (48 : Int32) = nn 48 from rfl, nn_sub (by omega), show 10 * dvl B a k + B (a + k) - 48 = dvl B a (k + 1) by show _ = 10 * dvl B a k + (B (a + k) - 48); omega]
        exact Bh.mono this (fun e A' _ q => PF.of x2 q) (fun y r A' _ q => ⟨q.1, x2.trans q.2.1, q.2.2⟩)
    · have c' : isDg (B (a + k)) = false := by simpa using c
      have e : rp isDg B n (a + k) = a + k := rp_f c'
      rw [e, if_neg (by omega), show a + k - a = k by omega]
      generalize rn2 (X2_number_b34 N (nn l) (nn m)) z = kk
      unfold X2_number_b34
      rw [r.hb, bo_some, dig_f (by omega) c, bo_some, if_pos rfl]
      unfold X0_is
      by_cases z1 : l ≤ dvl B a k
      · rw [if_neg (fun q => by rw [nn_lt (by omega) (by omega)] at q; omega)]
        by_cases z2 : dvl B a k ≤ m
        · rw [if_neg (fun q => by rw [nn_lt (by omega) (by omega)] at q; omega), bo_some, if_neg (by decide), if_pos ⟨z1, z2⟩]
          exact ⟨_, A, rfl, rfl, Ex.refl r.gn, r, h3⟩
        · rw [if_pos ((nn_lt (by omega) (by omega)).mpr (by omega)), bo_some, if_pos rfl, if_neg (fun q => z2 q.2), thr, h3]
          exact ⟨_, rfl, PF.thr r.gn 2 a⟩
      · rw [if_pos ((nn_lt (by omega) (by omega)).mpr (by omega)), bo_some, if_pos rfl, if_neg (fun q => z1 q.1), thr, h3]
        exact ⟨_, rfl, PF.thr r.gn 2 a⟩
theorem number_eq (hN : 5000 ≤ N) (r : RD A B n p o μ t) {l m : Nat} (hm : m < 100000) (hl : l < 100000) : Bh (X2_number N A (nn l) (nn m)) (sNum B n l m p) (fun e A' => PF 0 0 A A' e) (fun v x A' => x = nn v.1 ∧ Ex RP 0 0 A A' ∧ RD A' B n v.2.2 o μ t ∧ aI A' 303 9 0 = nn v.2.1) := by
  obtain ⟨A1, h1, x1, r1, f1⟩ := here_eq hN r
  have hle := r.bk.le (sk B n p)
  have hn := r.bk.nb
  unfold sNum X2_number
  rw [h1, bd_some]
  by_cases c : isDg (B (sk B n p)) = true
  · rw [dig_t (by omega) c, bo_some, if_pos c, if_neg (by decide)]
    have hp := parted_eq r1
    by_cases c2 : ptd B (sk B n p) = true
    · rw [if_pos c2]
      rw [if_pos c2] at hp
      obtain ⟨A2, h2, f2⟩ := hp
      rw [h2]
      exact ⟨A2, rfl, PF.of x1 f2⟩
    · rw [if_neg c2]
      rw [if_neg c2] at hp
      obtain ⟨u, A2, h2, f2⟩ := hp
      subst f2
      rw [h2, bx_some, lt2_eq, r1.at_]
      obtain ⟨r2, x2, e2⟩ := r1.frm (v := nn (sk B n p))
      have := num_loop (N := N) hm hl (sk_le r) c (n - (sk B n p + 0)) 0 N _ rfl (by omega) (by omega) (fun i hi => by omega) r2 e2
      exact Bh.mono this (fun e A' _ q => PF.of x1 (PF.of x2 q)) (fun y r A' _ q => ⟨q.1, x1.trans (x2.trans q.2.1), q.2.2⟩)
  · rw [dig_f (by omega) c, bo_some, if_neg c, if_pos rfl, thr, r1.at_]
    exact ⟨_, rfl, PF.of x1 (PF.thr r1.gn 1 _)⟩
end
