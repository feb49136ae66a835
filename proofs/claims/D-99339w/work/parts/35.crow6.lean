set_option maxRecDepth 100000
theorem va_rf_cat (r : Option Nat) : (va_rf r).category = 1 := by cases r <;> rfl
theorem nr_c {v : Int32} (h : vp_nar .char v = v) : narrow .char (.int v) = .int v := by
  show Value.int (vp_nar .char v) = _
  rw [h]
theorem nr_b {v : Int32} (h : vp_nar .byte v = v) : narrow .byte (.int v) = .int v := by
  show Value.int (vp_nar .byte v) = _
  rw [h]
section C6
variable {p : Program} {l : Launch} {e : Env} {R : Room} {s : State} {m : MethodId} {args : Array Value} {below : List Frame} {meth : Method} {c : Code} {H : Heap} {locs : List Loc} {cells slots : Nat} {Q : State → Prop}
variable {cc : ByteArray} {pc : Nat} {ls : Array Slot} {rest : List Value} {own : String} {dC : Nat → ClassId} {dI : Nat → Nat → Nat} {ac : Nat → ClassId} {ad : Nat → Nat} {b : Prop} {H0 : Heap} {n0 s0 n1 s1 : Nat} {A A' : AH} {mc ms : Nat}
theorem s_aln (E : cE p s m args own dC dI ac ad) (hb : c.code = cc) (hS : cS dC dI ac ad True H0 n0 s0 n1 s1 A H locs) {i t n : Nat} (h1 : i < 1101 ∧ stK i = t ∧ stLn i = n) (ht : 31 ≤ t ∧ t ≤ 40) (hdg : decode cc pc = .ok (.arraylength, 1))
    (kk : W p l e R s m args below meth c H locs cells slots Q (F0 m (pc + 1) ls (.int (Int32.ofNat n) :: rest))) : W p l e R s m args below meth c H locs cells slots Q (F0 m pc ls (.ref (ad i) :: rest)) := by
  refine c_aln E hb hS (sK hS h1.1 h1.2.1) (sN hS h1.1) ht hdg ?_
  rw [sLn hS h1.1 h1.2.2]
  exact kk
theorem c_aldv_n (E : cE p s m args own dC dI ac ad) (hb : c.code = cc) {k : Fin 4} {i : Nat} {r : Option Nat} (hdg : decode cc pc = .ok (.aload_n k, 1)) (hi : (k : Nat) = i) (hl : ls[i]? = some (.val (va_rf r)))
    (kk : W p l e R s m args below meth c H locs cells slots Q (F0 m (pc + 1) ls (va_rf r :: rest))) : W p l e R s m args below meth c H locs cells slots Q (F0 m pc ls rest) := by
  cases r with
  | none => exact lv_aload_nN E.1 hb hdg hi hl kk
  | some x => exact lv_aload_n E.1 hb hdg hi hl kk
theorem c_ar (E : cE p s m args own dC dI ac ad) (hb : c.code = cc) {ty : FieldType} (hr : meth.sig.returnType = some ty) (hty : (∃ n, ty = .object n) ∨ ∃ t, ty = .array t) (hlk : meth.locks = false) (hS : cS dC dI ac ad b s.heap n0 s0 n1 s1 A H locs) (hm : cells ≤ mc ∧ slots ≤ ms) {v r : Option Nat} (hf : some (v, A) = some (r, A')) (hdg : decode cc pc = .ok (.areturn, 1)) :
    W p l e R s m args below meth c H locs cells slots (MQ below (cQq dC dI ac ad b n0 s0 n1 s1 r A') args s mc ms (cF ad)) (F0 m pc ls [va_rf (v.map ad)]) := by
  cases hf
  refine W.widen (k := mc) (n := ms) hm.1 hm.2 ?_
  exact W.aret E.1 hb hr hty (va_rf_or _) (fun t ht hW => ⟨⟨_, (), rfl, rfl, c_end E hS t ht hW⟩, hS.2.1.F ht⟩) hS.2.1.2.2 hdg hlk
end C6
