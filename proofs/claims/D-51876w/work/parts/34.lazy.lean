/-! lazy symbolic execution of the q-machine: what is not yet run is a configuration -/
def z_i (z : Int) : Int32 := Int32.ofInt z
noncomputable def z_if (c : Prop) (a b : q_C) : Option q_R := @ite _ c (Classical.propDecidable c) (q_ev a) (q_ev b)
theorem z_if_t {c : Prop} {a b : q_C} (h : c) : z_if c a b = q_ev a := by unfold z_if; exact if_pos h
theorem z_if_f {c : Prop} {a b : q_C} (h : ¬ c) : z_if c a b = q_ev b := by unfold z_if; exact if_neg h
theorem z_if_true {a b : q_C} : z_if True a b = q_ev a := z_if_t trivial
theorem z_if_false {a b : q_C} : z_if False a b = q_ev b := z_if_f id
/-- a value is read, then pushed -/
noncomputable def z_bv (o : Option Value) (c : q_C) : Option q_R := match o with
  | some v => q_ev (c.1, c.2.1, c.2.2.1, c.2.2.2.1, v :: c.2.2.2.2.1, c.2.2.2.2.2)
  | none => none
theorem z_bv_s {v : Value} {d mu pc : Nat} {ls : q_L} {st : List Value} {h : q_H} : z_bv (some v) (d, mu, pc, ls, st, h) = q_ev (d, mu, pc, ls, v :: st, h) := rfl
noncomputable def z_bi (o : Option Int32) (c : q_C) : Option q_R := match o with
  | some v => q_ev (c.1, c.2.1, c.2.2.1, c.2.2.2.1, .int v :: c.2.2.2.2.1, c.2.2.2.2.2)
  | none => none
theorem z_bi_s {v : Int32} {d mu pc : Nat} {ls : q_L} {st : List Value} {h : q_H} : z_bi (some v) (d, mu, pc, ls, st, h) = q_ev (d, mu, pc, ls, .int v :: st, h) := rfl
/-- a heap is written -/
noncomputable def z_bh (o : Option q_H) (c : q_C) : Option q_R := match o with
  | some h => q_ev (c.1, c.2.1, c.2.2.1, c.2.2.2.1, c.2.2.2.2.1, h)
  | none => none
theorem z_bh_s {h' : q_H} {d mu pc : Nat} {ls : q_L} {st : List Value} {h : q_H} : z_bh (some h') (d, mu, pc, ls, st, h) = q_ev (d, mu, pc, ls, st, h') := rfl
/-- what follows a thrown object -/
noncomputable def z_hx (o : Option (q_R ⊕ q_C)) : Option q_R := match o with
  | none => none
  | some (.inl r) => some r
  | some (.inr c) => q_ev c
/-- a call: o the callee's run; pc the call's place, nx the next one -/
noncomputable def z_cl (o : Option q_R) (d mu pc nx : Nat) (ls : q_L) (st : List Value) : Option q_R := match o with
  | some (.inl v, h) => q_ev (d, mu, nx, ls, v.toList ++ st, h)
  | some (.inr q, h) => z_hx (q_thr d mu pc ls h q)
  | none => none
theorem z_cl_v {v : Value} {h : q_H} {d mu pc nx : Nat} {ls : q_L} {st : List Value} : z_cl (some (.inl (some v), h)) d mu pc nx ls st = q_ev (d, mu, nx, ls, v :: st, h) := rfl
theorem z_cl_n {h : q_H} {d mu pc nx : Nat} {ls : q_L} {st : List Value} : z_cl (some (.inl none, h)) d mu pc nx ls st = q_ev (d, mu, nx, ls, st, h) := rfl
theorem z_cl_x {q : Nat} {h : q_H} {d mu pc nx : Nat} {ls : q_L} {st : List Value} : z_cl (some (.inr q, h)) d mu pc nx ls st = z_hx (q_thr d mu pc ls h q) := rfl
def z_ri (h : q_H) (a : Nat) (i : Int32) : Option Int32 := match q_rdI h a i with
  | some (0, x) => some x
  | _ => none
def z_rb (h : q_H) (a : Nat) (i : Int32) : Option Int32 := match q_rdI h a i with
  | some (1, x) => some x
  | some (2, x) => some x
  | _ => none
section
variable {d mu pc : Nat} {ls : q_L} {st : List Value} {h : q_H} {cn : Nat} {y : MethodName} {code : ByteArray} {L : Nat} {rt : Option FieldType} {hs : List (Nat × Nat × Nat × Nat)} {ins : Instr} {ln : Nat}
theorem z_stp (hm : q_mt mu = some (cn, y, code, L, rt, hs)) (hd : decode code pc = .ok (ins, ln)) (hk : q_lk ins ln = true) : q_ev (d, mu, pc, ls, st, h) = q_evS (q_do (d, mu, pc, ls, st, h) cn y code rt ins) := by
  rw [q_ev_step]
  unfold q_step
  dsimp only
  rw [hm]
  dsimp only
  rw [hd]
  dsimp only
  rw [if_pos hk]
/-- branches -/
theorem z_r_br {b : Bool} {c : Prop} {off : Int} {st0 st' : List Value} {tg nx : Nat} (hb : b = true ↔ c) (ho : q_okt pc off = true) (ht : q_tgt pc off = tg) (hn : pc + 3 = nx) : q_evS (q_br (d, mu, pc, ls, st0, h) b off st') = z_if c (d, mu, tg, ls, st', h) (d, mu, nx, ls, st', h) := by
  subst ht hn
  unfold q_br
  dsimp only
  rw [if_pos ho]
  by_cases hc : c
  · rw [if_pos (hb.mpr hc), z_if_t hc]
    unfold q_jmp
    dsimp only
    rw [if_pos ho]
    rfl
  · rw [if_neg (fun h => hc (hb.mp h)), z_if_f hc]
    rfl
theorem z_r_brN {b : Bool} {c : Prop} {off : Int} {st0 st' : List Value} {tg nx : Nat} (hb : b = true ↔ ¬ c) (ho : q_okt pc off = true) (ht : q_tgt pc off = tg) (hn : pc + 3 = nx) : q_evS (q_br (d, mu, pc, ls, st0, h) b off st') = z_if c (d, mu, nx, ls, st', h) (d, mu, tg, ls, st', h) := by
  by_cases hc : c
  · rw [z_if_t hc, z_r_br (c := ¬ c) hb ho ht hn, z_if_f (fun h => h hc)]
  · rw [z_if_f hc, z_r_br (c := ¬ c) hb ho ht hn, z_if_t hc]
theorem z_dc {c : Prop} [Decidable c] : decide c = true ↔ c := decide_eq_true_iff
theorem z_i0 : z_i 0 = 0 := rfl
theorem z_ge1 {x : Int32} : decide (0 ≤ x) = true ↔ ¬ x < z_i 0 := by rw [decide_eq_true_iff, z_i0]; exact Int32.not_lt.symm
theorem z_le1 {x : Int32} : decide (x ≤ 0) = true ↔ ¬ z_i 0 < x := by rw [decide_eq_true_iff, z_i0]; exact Int32.not_lt.symm
theorem z_ge2 {x y : Int32} : decide (y ≤ x) = true ↔ ¬ x < y := by rw [decide_eq_true_iff]; exact Int32.not_lt.symm
theorem z_ne1 {x : Int32} : decide (¬ x = 0) = true ↔ ¬ x = z_i 0 := by rw [decide_eq_true_iff, z_i0]
theorem z_ne2 {x y : Int32} : decide (¬ x = y) = true ↔ ¬ x = y := by rw [decide_eq_true_iff]
theorem z_neV {x y : Value} : decide (¬ x = y) = true ↔ ¬ x = y := by rw [decide_eq_true_iff]
/-- calls -/
theorem z_r_call {mu' len : Nat} {as rest : List Value} {cn' : Nat} {y' : MethodName} {code' : ByteArray} {L' : Nat} {rt' : Option FieldType} {hs' : List (Nat × Nat × Nat × Nat)} {ent : q_L} (hm' : q_mt mu' = some (cn', y', code', L', rt', hs')) (hc : q_cat rest ≤ 8) (hf : (as.flatMap fun v => if v.category = 2 then [some v, none] else [some v]).length ≤ L') (hp : 0 < mu') (he : q_ent L' as = ent) :
    q_evS (q_call (d + 1) mu pc len ls mu' as rest h) = z_cl (q_ev (d, mu', 0, ent, [], h)) (d + 1) mu pc (pc + len) ls rest := by
  subst he
  unfold q_call
  rw [hm']
  dsimp only
  rw [if_pos ⟨hc, hf, hp⟩]
  show (q_ev (d, mu', 0, q_ent L' as, [], h)).bind _ = _
  cases q_ev (d, mu', 0, q_ent L' as, [], h) with
  | none => rfl
  | some r =>
    obtain ⟨r, h'⟩ := r
    cases r with
    | inl v => rfl
    | inr q =>
      show (match q_thr (d + 1) mu pc ls h' q with | none => none | some (.inl r') => some r' | some (.inr c'') => q_ev c'') = z_hx (q_thr (d + 1) mu pc ls h' q)
      cases q_thr (d + 1) mu pc ls h' q with
      | none => rfl
      | some x => cases x <;> rfl
end
section
variable {d mu pc : Nat} {ls : q_L} {st : List Value} {h : q_H} {cn : Nat} {y : MethodName} {code : ByteArray} {L : Nat} {rt : Option FieldType} {hs : List (Nat × Nat × Nat × Nat)} {ins : Instr} {ln : Nat}
theorem z_jmp {off : Int} {st0 st' : List Value} {tg : Nat} (ho : q_okt pc off = true) (ht : q_tgt pc off = tg) : q_evS (q_jmp (d, mu, pc, ls, st0, h) off st') = q_ev (d, mu, tg, ls, st', h) := by
  subst ht
  unfold q_jmp
  dsimp only
  rw [if_pos ho]
  rfl
theorem z_dc0 {x : Int32} : decide (x = 0) = true ↔ x = z_i 0 := by rw [decide_eq_true_iff, z_i0]
theorem z_dlt {x : Int32} : decide (x < 0) = true ↔ x < z_i 0 := by rw [decide_eq_true_iff, z_i0]
theorem z_dgt {x : Int32} : decide (0 < x) = true ↔ z_i 0 < x := by rw [decide_eq_true_iff, z_i0]
theorem z_pop {as rest : List Value} {n : Nat} (hst : st = as.reverse ++ rest) (hn : as.length = n) : q_pop n st = some (as, rest) := by
  subst hst hn
  unfold q_pop
  have h1 : (as.reverse ++ rest).take as.length = as.reverse := by rw [← List.length_reverse, List.take_left']; rfl
  have h2 : (as.reverse ++ rest).drop as.length = rest := by rw [← List.length_reverse, List.drop_left']; rfl
  rw [if_pos (by rw [List.length_append, List.length_reverse]; omega), h1, h2, List.reverse_reverse]
theorem z_inv0 {i n mu' : Nat} {as rest : List Value} {cn' : Nat} {y' : MethodName} {code' : ByteArray} {L' : Nat} {rt' : Option FieldType} {hs' : List (Nat × Nat × Nat × Nat)} {ent : q_L} (hik : q_ik cn i = some (0, mu', n)) (hst : st = as.reverse ++ rest) (hn : as.length = n) (hm' : q_mt mu' = some (cn', y', code', L', rt', hs')) (hc : q_cat rest ≤ 8) (hf : (as.flatMap fun v => if v.category = 2 then [some v, none] else [some v]).length ≤ L') (hp : 0 < mu') (he : q_ent L' as = ent) :
    q_evS (q_do (d + 1, mu, pc, ls, st, h) cn y code rt (.invokestatic i)) = z_cl (q_ev (d, mu', 0, ent, [], h)) (d + 1) mu pc (pc + 3) ls rest := by
  simp only [q_do, q_inv, hik, ↓reduceIte, z_pop hst hn]
  exact z_r_call hm' hc hf hp he
theorem z_inv1 {i n mu' b : Nat} {as rest : List Value} {cn' : Nat} {y' : MethodName} {code' : ByteArray} {L' : Nat} {rt' : Option FieldType} {hs' : List (Nat × Nat × Nat × Nat)} {ent : q_L} (hk : (q_cls h b).isSome = true) (hik : q_ik cn i = some (1, mu', n)) (hst : st = (.ref b :: as).reverse ++ rest) (hn : as.length = n) (hm' : q_mt mu' = some (cn', y', code', L', rt', hs')) (hc : q_cat rest ≤ 8) (hf : ((.ref b :: as : List Value).flatMap fun v => if v.category = 2 then [some v, none] else [some v]).length ≤ L') (hp : 0 < mu') (he : q_ent L' (.ref b :: as) = ent) :
    q_evS (q_do (d + 1, mu, pc, ls, st, h) cn y code rt (.invokespecial i)) = z_cl (q_ev (d, mu', 0, ent, [], h)) (d + 1) mu pc (pc + 3) ls rest := by
  have hpop := z_pop (n := n + 1) hst (by rw [List.length_cons, hn])
  simp only [q_do, q_inv, hik, ↓reduceIte, hpop, hk]
  exact z_r_call hm' hc hf hp he
theorem z_inv2 {i n mu' b x k : Nat} {as rest : List Value} {cn' : Nat} {y' : MethodName} {code' : ByteArray} {L' : Nat} {rt' : Option FieldType} {hs' : List (Nat × Nat × Nat × Nat)} {ent : q_L} (hk : q_cls h b = some k) (hik : q_ik cn i = some (2, x, n)) (hv : q_vt x k = some mu') (hst : st = (.ref b :: as).reverse ++ rest) (hn : as.length = n) (hm' : q_mt mu' = some (cn', y', code', L', rt', hs')) (hc : q_cat rest ≤ 8) (hf : ((.ref b :: as : List Value).flatMap fun v => if v.category = 2 then [some v, none] else [some v]).length ≤ L') (hp : 0 < mu') (he : q_ent L' (.ref b :: as) = ent) :
    q_evS (q_do (d + 1, mu, pc, ls, st, h) cn y code rt (.invokevirtual i)) = z_cl (q_ev (d, mu', 0, ent, [], h)) (d + 1) mu pc (pc + 3) ls rest := by
  have hpop := z_pop (n := n + 1) hst (by rw [List.length_cons, hn])
  simp only [q_do, q_inv, hik, ↓reduceIte, hpop, hk, hv]
  exact z_r_call hm' hc hf hp he
theorem z_inv7 {cnt i n mu' b x k : Nat} {as rest : List Value} {cn' : Nat} {y' : MethodName} {code' : ByteArray} {L' : Nat} {rt' : Option FieldType} {hs' : List (Nat × Nat × Nat × Nat)} {ent : q_L} (hk : q_cls h b = some k) (hik : q_ik cn i = some (7, x, n)) (hv : q_vt x k = some mu') (hst : st = (.ref b :: as).reverse ++ rest) (hn : as.length = n) (hm' : q_mt mu' = some (cn', y', code', L', rt', hs')) (hc : q_cat rest ≤ 8) (hf : ((.ref b :: as : List Value).flatMap fun v => if v.category = 2 then [some v, none] else [some v]).length ≤ L') (hp : 0 < mu') (he : q_ent L' (.ref b :: as) = ent) :
    q_evS (q_do (d + 1, mu, pc, ls, st, h) cn y code rt (.invokeinterface i cnt)) = z_cl (q_ev (d, mu', 0, ent, [], h)) (d + 1) mu pc (pc + 5) ls rest := by
  have hpop := z_pop (n := n + 1) hst (by rw [List.length_cons, hn])
  simp only [q_do, q_inv, hik, ↓reduceIte, hpop, hk, hv]
  exact z_r_call hm' hc hf hp he
theorem z_gf {a i f : Nat} (hf : q_fk cn i = some f) : q_evS (q_do (d, mu, pc, ls, .ref a :: st, h) cn y code rt (.getfield i)) = z_bv (q_gf h a f) (d, mu, pc + 3, ls, st, h) := by
  unfold q_do
  dsimp only
  rw [hf]
  dsimp only
  cases q_gf h a f <;> rfl
theorem z_pf {a i f : Nat} {v : Value} (hf : q_fk cn i = some f) (hp : q_pm cn y.name f = true) : q_evS (q_do (d, mu, pc, ls, v :: .ref a :: st, h) cn y code rt (.putfield i)) = z_bh (q_pf h a f v) (d, mu, pc + 3, ls, st, h) := by
  unfold q_do
  dsimp only
  rw [hf]
  dsimp only
  rw [if_pos hp]
  cases q_pf h a f v <;> rfl
theorem z_ial {a : Nat} {i : Int32} : q_evS (q_do (d, mu, pc, ls, .int i :: .ref a :: st, h) cn y code rt .iaload) = z_bi (z_ri h a i) (d, mu, pc + 1, ls, st, h) := by
  unfold q_do z_ri
  dsimp only
  split
  · rename_i x hx; rw [hx]; rfl
  · rename_i hx
    split
    · rename_i x hx2; exact absurd hx2 (hx x)
    · rfl
theorem z_bal {a : Nat} {i : Int32} : q_evS (q_do (d, mu, pc, ls, .int i :: .ref a :: st, h) cn y code rt .baload) = z_bi (z_rb h a i) (d, mu, pc + 1, ls, st, h) := by
  unfold q_do z_rb
  dsimp only
  split
  · rename_i x hx; rw [hx]; rfl
  · rename_i x hx; rw [hx]; rfl
  · rename_i hx hx2
    split
    · rename_i x hx3; exact absurd hx3 (hx x)
    · rename_i x hx3; exact absurd hx3 (hx2 x)
    · rfl
theorem z_aal {a : Nat} {i : Int32} : q_evS (q_do (d, mu, pc, ls, .int i :: .ref a :: st, h) cn y code rt .aaload) = z_bv ((q_rdQ h a i).map va_rf) (d, mu, pc + 1, ls, st, h) := by
  unfold q_do
  dsimp only
  cases q_rdQ h a i <;> rfl
theorem z_ias {a : Nat} {i x : Int32} : q_evS (q_do (d, mu, pc, ls, .int x :: .int i :: .ref a :: st, h) cn y code rt .iastore) = z_bh (q_wrI h a i x 0) (d, mu, pc + 1, ls, st, h) := by
  unfold q_do
  dsimp only
  cases q_wrI h a i x 0 <;> rfl
theorem z_bas {a : Nat} {i x : Int32} : q_evS (q_do (d, mu, pc, ls, .int x :: .int i :: .ref a :: st, h) cn y code rt .bastore) = z_bh (q_wrB h a i x) (d, mu, pc + 1, ls, st, h) := by
  unfold q_do
  dsimp only
  cases q_wrB h a i x <;> rfl
theorem z_aas {a : Nat} {i : Int32} {v : Value} : q_evS (q_do (d, mu, pc, ls, v :: .int i :: .ref a :: st, h) cn y code rt .aastore) = z_bh (q_wrQ h a i v) (d, mu, pc + 1, ls, st, h) := by
  unfold q_do
  dsimp only
  cases q_wrQ h a i v <;> rfl
theorem z_alen {a : Nat} : q_evS (q_do (d, mu, pc, ls, .ref a :: st, h) cn y code rt .arraylength) = z_bi ((q_len h a).map Int32.ofNat) (d, mu, pc + 1, ls, st, h) := by
  unfold q_do
  dsimp only
  cases q_len h a <;> rfl
end
/-- what getCause answers -/
def z_gc (h : q_H) (a : Nat) : Option Value := match q_gf h a q_fCause with
  | some (.ref b) => if (h.1 b).isSome = true then some (if b = a then .null else .ref b) else none
  | some .null => some .null
  | _ => none
section
variable {d mu pc : Nat} {ls : q_L} {st : List Value} {h : q_H} {cn : Nat} {y : MethodName} {code : ByteArray} {L : Nat} {rt : Option FieldType} {hs : List (Nat × Nat × Nat × Nat)} {ins : Instr} {ln : Nat}
theorem z_idiv {x z : Int32} (hz : ¬ z = 0) : q_evS (q_do (d, mu, pc, ls, .int z :: .int x :: st, h) cn y code rt .idiv) = q_ev (d, mu, pc + 1, ls, .int (x / z) :: st, h) := by
  unfold q_do; dsimp only; rw [if_neg hz]; rfl
theorem z_irem {x z : Int32} (hz : ¬ z = 0) : q_evS (q_do (d, mu, pc, ls, .int z :: .int x :: st, h) cn y code rt .irem) = q_ev (d, mu, pc + 1, ls, .int (x - x / z * z) :: st, h) := by
  unfold q_do; dsimp only; rw [if_neg hz]; rfl
theorem z_f2d {x : UInt32} (hn : vf_n64 (FP.f2d x)) : q_evS (q_do (d, mu, pc, ls, .float x :: st, h) cn y code rt .f2d) = q_ev (d, mu, pc + 1, ls, .double (FP.f2d x) :: st, h) := by
  unfold q_do; dsimp only; rw [if_pos hn]; rfl
theorem z_fdiv {x z : UInt32} (hn : vf_n32 (FP.fdiv x z)) : q_evS (q_do (d, mu, pc, ls, .float z :: .float x :: st, h) cn y code rt .fdiv) = q_ev (d, mu, pc + 1, ls, .float (FP.fdiv x z) :: st, h) := by
  unfold q_do; dsimp only; rw [if_pos hn]; rfl
theorem z_ddiv {x z : UInt64} (hn : vf_n64 (FP.ddiv x z)) : q_evS (q_do (d, mu, pc, ls, .double z :: .double x :: st, h) cn y code rt .ddiv) = q_ev (d, mu, pc + 1, ls, .double (FP.ddiv x z) :: st, h) := by
  unfold q_do; dsimp only; rw [if_pos hn]; rfl
theorem z_dup {v : Value} (hv : v.category = 1) : q_evS (q_do (d, mu, pc, ls, v :: st, h) cn y code rt .dup) = q_ev (d, mu, pc + 1, ls, v :: v :: st, h) := by
  unfold q_do; dsimp only; rw [if_pos hv]; rfl
theorem z_pop1 {v : Value} (hv : v.category = 1) : q_evS (q_do (d, mu, pc, ls, v :: st, h) cn y code rt .pop) = q_ev (d, mu, pc + 1, ls, st, h) := by
  unfold q_do; dsimp only; rw [if_pos hv]; rfl
theorem z_dupx {v w : Value} (hv : v.category = 1) (hw : w.category = 1) : q_evS (q_do (d, mu, pc, ls, v :: w :: st, h) cn y code rt .dup_x1) = q_ev (d, mu, pc + 1, ls, v :: w :: v :: st, h) := by
  unfold q_do; dsimp only; rw [if_pos ⟨hv, hw⟩]; rfl
theorem z_dup2 {v w : Value} (hv : v.category = 1) (hw : w.category = 1) : q_evS (q_do (d, mu, pc, ls, v :: w :: st, h) cn y code rt .dup2) = q_ev (d, mu, pc + 1, ls, v :: w :: v :: w :: st, h) := by
  unfold q_do; dsimp only; rw [if_pos ⟨hv, hw⟩]; rfl
theorem z_ifn_n {off : Int} {tg nx : Nat} (ho : q_okt pc off = true) (ht : q_tgt pc off = tg) (hn : pc + 3 = nx) : q_evS (q_do (d, mu, pc, ls, .null :: st, h) cn y code rt (.ifnull off)) = q_ev (d, mu, tg, ls, st, h) := by
  unfold q_do; dsimp only; rw [if_pos (show q_kn h .null = true from rfl), z_r_br z_dc ho ht hn, z_if_t rfl]
theorem z_ifn_nn {off : Int} {tg nx : Nat} (ho : q_okt pc off = true) (ht : q_tgt pc off = tg) (hn : pc + 3 = nx) : q_evS (q_do (d, mu, pc, ls, .null :: st, h) cn y code rt (.ifnonnull off)) = q_ev (d, mu, nx, ls, st, h) := by
  unfold q_do; dsimp only; rw [if_pos (show q_kn h .null = true from rfl), z_r_brN z_neV ho ht hn, z_if_t rfl]
theorem z_ifr_n {x : Nat} {off : Int} {tg nx : Nat} (hx : (h.1 x).isSome = true) (ho : q_okt pc off = true) (ht : q_tgt pc off = tg) (hn : pc + 3 = nx) : q_evS (q_do (d, mu, pc, ls, .ref x :: st, h) cn y code rt (.ifnull off)) = q_ev (d, mu, nx, ls, st, h) := by
  unfold q_do; dsimp only; rw [if_pos (show q_kn h (.ref x) = true from hx), z_r_br z_dc ho ht hn, z_if_f (fun h => nomatch h)]
theorem z_ifr_nn {x : Nat} {off : Int} {tg nx : Nat} (hx : (h.1 x).isSome = true) (ho : q_okt pc off = true) (ht : q_tgt pc off = tg) (hn : pc + 3 = nx) : q_evS (q_do (d, mu, pc, ls, .ref x :: st, h) cn y code rt (.ifnonnull off)) = q_ev (d, mu, tg, ls, st, h) := by
  unfold q_do; dsimp only; rw [if_pos (show q_kn h (.ref x) = true from hx), z_r_brN z_neV ho ht hn, z_if_f (fun h => nomatch h)]
theorem z_acmp_eq {v w : Value} {off : Int} {tg nx : Nat} (hv : q_kc h v = true) (hw : q_kc h w = true) (ho : q_okt pc off = true) (ht : q_tgt pc off = tg) (hn : pc + 3 = nx) : q_evS (q_do (d, mu, pc, ls, v :: w :: st, h) cn y code rt (.if_acmp .eq off)) = z_if (w = v) (d, mu, tg, ls, st, h) (d, mu, nx, ls, st, h) := by
  unfold q_do; dsimp only; rw [if_pos ⟨hv, hw⟩, z_r_br z_dc ho ht hn]
theorem z_acmp_ne {v w : Value} {off : Int} {tg nx : Nat} (hv : q_kc h v = true) (hw : q_kc h w = true) (ho : q_okt pc off = true) (ht : q_tgt pc off = tg) (hn : pc + 3 = nx) : q_evS (q_do (d, mu, pc, ls, v :: w :: st, h) cn y code rt (.if_acmp .ne off)) = z_if (w = v) (d, mu, nx, ls, st, h) (d, mu, tg, ls, st, h) := by
  unfold q_do; dsimp only; rw [if_pos ⟨hv, hw⟩, z_r_brN z_neV ho ht hn]
theorem z_lal {a : Nat} {i : Int32} : q_evS (q_do (d, mu, pc, ls, .int i :: .ref a :: st, h) cn y code rt .laload) = z_bv ((q_rdL h a i).map Value.long) (d, mu, pc + 1, ls, st, h) := by
  unfold q_do; dsimp only; cases q_rdL h a i <;> rfl
theorem z_dal {a : Nat} {i : Int32} : q_evS (q_do (d, mu, pc, ls, .int i :: .ref a :: st, h) cn y code rt .daload) = z_bv ((q_rdD h a i).map Value.double) (d, mu, pc + 1, ls, st, h) := by
  unfold q_do; dsimp only; cases q_rdD h a i <;> rfl
theorem z_las {a : Nat} {i : Int32} {x : Int64} : q_evS (q_do (d, mu, pc, ls, .long x :: .int i :: .ref a :: st, h) cn y code rt .lastore) = z_bh (q_wrL h a i x) (d, mu, pc + 1, ls, st, h) := by
  unfold q_do; dsimp only; cases q_wrL h a i x <;> rfl
theorem z_das {a : Nat} {i : Int32} {x : UInt64} : q_evS (q_do (d, mu, pc, ls, .double x :: .int i :: .ref a :: st, h) cn y code rt .dastore) = z_bh (q_wrD h a i x) (d, mu, pc + 1, ls, st, h) := by
  unfold q_do; dsimp only; cases q_wrD h a i x <;> rfl
theorem z_newa {ty : ArrayType} {n : Int32} {t : Nat} {a : vp_A} (h0 : ¬ n < 0) (h1 : ¬ 10000 < n.toNatClampNeg) (hat : q_at ty = some (t, a)) : q_evS (q_do (d, mu, pc, ls, .int n :: st, h) cn y code rt (.newarray ty)) = q_ev (d, mu, pc + 2, ls, .ref h.2.1 :: st, q_new h (true, .inl (t, n.toNatClampNeg, a.2)) n.toNatClampNeg) := by
  unfold q_do; dsimp only; rw [hat]; dsimp only; rw [if_neg (fun q => q.elim h0 h1)]; rfl
theorem z_anew {i : Nat} {n : Int32} {t : Nat} (h0 : ¬ n < 0) (h1 : ¬ 10000 < n.toNatClampNeg) (hat : q_an cn i = some t) : q_evS (q_do (d, mu, pc, ls, .int n :: st, h) cn y code rt (.anewarray i)) = q_ev (d, mu, pc + 3, ls, .ref h.2.1 :: st, q_new h (true, .inl (t, n.toNatClampNeg, .inr (.inr (.inr (.inr fun _ => none))))) n.toNatClampNeg) := by
  unfold q_do; dsimp only; rw [hat]; dsimp only; rw [if_neg (fun q => q.elim h0 h1)]; rfl
theorem z_new {i k : Nat} {fs : List Value} (hk : q_nw cn i = some k) (hf : q_df[k]? = some fs) : q_evS (q_do (d, mu, pc, ls, st, h) cn y code rt (.new i)) = q_ev (d, mu, pc + 3, ls, .ref h.2.1 :: st, q_new h (true, .inr (k, fs)) fs.length) := by
  show q_evS (q_mk (d, mu, pc, ls, st, h) cn code i) = _
  unfold q_mk; dsimp only; rw [hk]; dsimp only; rw [hf]; rfl
theorem z_newx {i k ic : Nat} (hd : 12 ≤ d) (hst : q_cat st ≤ 8) (hk : q_nw cn i = some k) (hf : q_df[k]? = none) (h3 : decode code (pc + 3) = .ok (.dup, 1)) (h4 : decode code (pc + 4) = .ok (.invokespecial ic, 3)) (hj : q_jx cn ic = some k) : q_evS (q_do (d, mu, pc, ls, st, h) cn y code rt (.new i)) = q_ev (d, mu, pc + 7, ls, .ref h.2.1 :: st, q_new h (true, .inr (k, [])) 6) := by
  show q_evS (q_mk (d, mu, pc, ls, st, h) cn code i) = _
  simp only [q_mk, hk, hf, hd, hst, h3, h4, hj, and_self, ↓reduceIte]; rfl
theorem z_cast {i x tid : Nat} (ht : q_tk cn i = some tid) (hx : q_is h x tid = true) : q_evS (q_do (d, mu, pc, ls, .ref x :: st, h) cn y code rt (.checkcast i)) = q_ev (d, mu, pc + 3, ls, .ref x :: st, h) := by
  unfold q_do; dsimp only; rw [ht]; dsimp only; rw [if_pos hx]; rfl
theorem z_inst {i x tid : Nat} (ht : q_tk cn i = some tid) (hx : q_is h x tid = true) : q_evS (q_do (d, mu, pc, ls, .ref x :: st, h) cn y code rt (.instanceof i)) = q_ev (d, mu, pc + 3, ls, .int 1 :: st, h) := by
  unfold q_do; dsimp only; rw [ht]; dsimp only; rw [if_pos hx]; rfl
theorem z_ath {x : Nat} : q_evS (q_do (d, mu, pc, ls, .ref x :: st, h) cn y code rt .athrow) = z_hx (q_thr d mu pc ls h x) := by
  unfold q_do; dsimp only
  cases q_thr d mu pc ls h x with
  | none => rfl
  | some r => cases r <;> rfl
theorem z_iret {x : Int32} {ty : FieldType} (hr : rt = some ty) (hx : narrow ty (.int x) = .int x) : q_evS (q_do (d, mu, pc, ls, [.int x], h) cn y code rt .ireturn) = some (.inl (some (.int x)), h) := by
  subst hr
  unfold q_do; dsimp only; rw [if_pos hx]; rfl
theorem z_jmp0 {s : q_S} {off : Int} {st0 st' : List Value} {tg : Nat} (hs : s = q_jmp (d, mu, pc, ls, st0, h) off st') (ho : q_okt pc off = true) (ht : q_tgt pc off = tg) : q_evS s = q_ev (d, mu, tg, ls, st', h) := by
  subst hs; exact z_jmp ho ht
theorem z_inv3 {i x u v : Nat} (hik : q_ik cn i = some (3, u, v)) (hd : 1 ≤ d) (hst : q_cat st ≤ 8) (hx : (h.1 x).isSome = true) : q_evS (q_do (d, mu, pc, ls, .ref x :: st, h) cn y code rt (.invokespecial i)) = q_ev (d, mu, pc + 3, ls, st, h) := by
  show q_evS (q_inv (d, mu, pc, ls, .ref x :: st, h) cn i 3 1) = _
  simp only [q_inv, hik, ↓reduceIte]
  rw [if_pos ⟨hd, hst, hx⟩]; rfl
theorem z_inv4 {i x w u v : Nat} {sp dp n : Int32} (hik : q_ik cn i = some (4, u, v)) (hd : 4 ≤ d) (hst : q_cat st ≤ 8) : q_evS (q_do (d, mu, pc, ls, .int n :: .int dp :: .ref w :: .int sp :: .ref x :: st, h) cn y code rt (.invokestatic i)) = z_bh (q_cp h x sp w dp n) (d, mu, pc + 3, ls, st, h) := by
  show q_evS (q_inv (d, mu, pc, ls, .int n :: .int dp :: .ref w :: .int sp :: .ref x :: st, h) cn i 3 0) = _
  simp only [q_inv, hik, ↓reduceIte]
  rw [if_pos ⟨hd, hst⟩]
  cases q_cp h x sp w dp n <;> rfl
theorem z_inv5 {i x u v : Nat} (hik : q_ik cn i = some (5, u, v)) (hd : 4 ≤ d) (hst : q_cat st ≤ 8) (hx : q_cls h x = some q_cFmt) (hx2 : 1000 ≤ x) : q_evS (q_do (d, mu, pc, ls, .ref x :: st, h) cn y code rt (.invokevirtual i)) = z_bv (z_gc h x) (d, mu, pc + 3, ls, st, h) := by
  show q_evS (q_inv (d, mu, pc, ls, .ref x :: st, h) cn i 3 2) = _
  simp only [q_inv, hik, ↓reduceIte]
  rw [if_pos ⟨hd, hst, hx, hx2⟩]
  unfold z_gc
  cases hg : q_gf h x q_fCause with
  | none => rfl
  | some vv =>
    cases vv with
    | ref b =>
      dsimp only
      by_cases hb : (h.1 b).isSome = true
      · rw [if_pos hb, if_pos hb]; rfl
      · rw [if_neg hb, if_neg hb]; rfl
    | _ => rfl
theorem z_inv6 {i x n u v : Nat} {f : Nat → Int32} (hik : q_ik cn i = some (6, u, v)) (hd : 4 ≤ d) (hst : q_cat st ≤ 8) (hx : h.1 x = some (true, .inl (1, n, .inl f))) : q_evS (q_do (d, mu, pc, ls, .ref x :: st, h) cn y code rt (.invokevirtual i)) = q_ev (d, mu, pc + 3, ls, .ref h.2.1 :: st, q_new h (true, .inl (1, n, .inl f)) n) := by
  show q_evS (q_inv (d, mu, pc, ls, .ref x :: st, h) cn i 3 2) = _
  simp only [q_inv, hik, ↓reduceIte]
  rw [if_pos ⟨hd, hst⟩, hx]; rfl
end
section
variable {d mu pc : Nat} {ls : q_L} {st : List Value} {h : q_H} {cn : Nat} {y : MethodName} {code : ByteArray} {L : Nat} {rt : Option FieldType} {hs : List (Nat × Nat × Nat × Nat)} {ins : Instr} {ln : Nat} {off : Int} {tg nx : Nat}
theorem z_c1_eq {x : Int32} (ho : q_okt pc off = true) (ht : q_tgt pc off = tg) (hn : pc + 3 = nx) : q_evS (q_do (d, mu, pc, ls, .int x :: st, h) cn y code rt (.ifCond .eq off)) = z_if (x = z_i 0) (d, mu, tg, ls, st, h) (d, mu, nx, ls, st, h) := z_r_br z_dc0 ho ht hn
theorem z_c2_eq {x z : Int32} (ho : q_okt pc off = true) (ht : q_tgt pc off = tg) (hn : pc + 3 = nx) : q_evS (q_do (d, mu, pc, ls, .int z :: .int x :: st, h) cn y code rt (.if_icmp .eq off)) = z_if (x = z) (d, mu, tg, ls, st, h) (d, mu, nx, ls, st, h) := z_r_br z_dc ho ht hn
theorem z_c1_ne {x : Int32} (ho : q_okt pc off = true) (ht : q_tgt pc off = tg) (hn : pc + 3 = nx) : q_evS (q_do (d, mu, pc, ls, .int x :: st, h) cn y code rt (.ifCond .ne off)) = z_if (x = z_i 0) (d, mu, nx, ls, st, h) (d, mu, tg, ls, st, h) := z_r_brN z_ne1 ho ht hn
theorem z_c2_ne {x z : Int32} (ho : q_okt pc off = true) (ht : q_tgt pc off = tg) (hn : pc + 3 = nx) : q_evS (q_do (d, mu, pc, ls, .int z :: .int x :: st, h) cn y code rt (.if_icmp .ne off)) = z_if (x = z) (d, mu, nx, ls, st, h) (d, mu, tg, ls, st, h) := z_r_brN z_ne2 ho ht hn
theorem z_c1_lt {x : Int32} (ho : q_okt pc off = true) (ht : q_tgt pc off = tg) (hn : pc + 3 = nx) : q_evS (q_do (d, mu, pc, ls, .int x :: st, h) cn y code rt (.ifCond .lt off)) = z_if (x < z_i 0) (d, mu, tg, ls, st, h) (d, mu, nx, ls, st, h) := z_r_br z_dlt ho ht hn
theorem z_c2_lt {x z : Int32} (ho : q_okt pc off = true) (ht : q_tgt pc off = tg) (hn : pc + 3 = nx) : q_evS (q_do (d, mu, pc, ls, .int z :: .int x :: st, h) cn y code rt (.if_icmp .lt off)) = z_if (x < z) (d, mu, tg, ls, st, h) (d, mu, nx, ls, st, h) := z_r_br z_dc ho ht hn
theorem z_c1_ge {x : Int32} (ho : q_okt pc off = true) (ht : q_tgt pc off = tg) (hn : pc + 3 = nx) : q_evS (q_do (d, mu, pc, ls, .int x :: st, h) cn y code rt (.ifCond .ge off)) = z_if (x < z_i 0) (d, mu, nx, ls, st, h) (d, mu, tg, ls, st, h) := z_r_brN z_ge1 ho ht hn
theorem z_c2_ge {x z : Int32} (ho : q_okt pc off = true) (ht : q_tgt pc off = tg) (hn : pc + 3 = nx) : q_evS (q_do (d, mu, pc, ls, .int z :: .int x :: st, h) cn y code rt (.if_icmp .ge off)) = z_if (x < z) (d, mu, nx, ls, st, h) (d, mu, tg, ls, st, h) := z_r_brN z_ge2 ho ht hn
theorem z_c1_gt {x : Int32} (ho : q_okt pc off = true) (ht : q_tgt pc off = tg) (hn : pc + 3 = nx) : q_evS (q_do (d, mu, pc, ls, .int x :: st, h) cn y code rt (.ifCond .gt off)) = z_if (z_i 0 < x) (d, mu, tg, ls, st, h) (d, mu, nx, ls, st, h) := z_r_br z_dgt ho ht hn
theorem z_c2_gt {x z : Int32} (ho : q_okt pc off = true) (ht : q_tgt pc off = tg) (hn : pc + 3 = nx) : q_evS (q_do (d, mu, pc, ls, .int z :: .int x :: st, h) cn y code rt (.if_icmp .gt off)) = z_if (z < x) (d, mu, tg, ls, st, h) (d, mu, nx, ls, st, h) := z_r_br z_dc ho ht hn
theorem z_c1_le {x : Int32} (ho : q_okt pc off = true) (ht : q_tgt pc off = tg) (hn : pc + 3 = nx) : q_evS (q_do (d, mu, pc, ls, .int x :: st, h) cn y code rt (.ifCond .le off)) = z_if (z_i 0 < x) (d, mu, nx, ls, st, h) (d, mu, tg, ls, st, h) := z_r_brN z_le1 ho ht hn
theorem z_c2_le {x z : Int32} (ho : q_okt pc off = true) (ht : q_tgt pc off = tg) (hn : pc + 3 = nx) : q_evS (q_do (d, mu, pc, ls, .int z :: .int x :: st, h) cn y code rt (.if_icmp .le off)) = z_if (z < x) (d, mu, nx, ls, st, h) (d, mu, tg, ls, st, h) := z_r_brN z_ge2 ho ht hn
theorem z_gto (ho : q_okt pc off = true) (ht : q_tgt pc off = tg) : q_evS (q_do (d, mu, pc, ls, st, h) cn y code rt (.goto off)) = q_ev (d, mu, tg, ls, st, h) := z_jmp (st0 := st) ho ht
end
theorem z_k_int {x : Int32} : (Value.int x).category = 1 := rfl
theorem z_k_ref {x : Nat} : (Value.ref x).category = 1 := rfl
theorem z_k_nul : Value.null.category = 1 := rfl
theorem z_k_flt {x : UInt32} : (Value.float x).category = 1 := rfl
theorem z_k_lng {x : Int64} : (Value.long x).category = 2 := rfl
theorem z_k_dbl {x : UInt64} : (Value.double x).category = 2 := rfl
section
variable {d mu pc : Nat} {ls : q_L} {st : List Value} {h : q_H} {cn : Nat} {y : MethodName} {code : ByteArray} {rt : Option FieldType} {x : Int32} {dflt lo hi o : Int} {offs : Array Int} {ps : Array (Int × Int)} {tg : Nat}
theorem z_tsw (hl : ¬ (x.toInt < lo ∨ hi < x.toInt)) (ho : offs[(x.toInt - lo).toNat]? = some o) (hk : q_okt pc o = true) (ht : q_tgt pc o = tg) : q_evS (q_do (d, mu, pc, ls, .int x :: st, h) cn y code rt (.tableswitch dflt lo hi offs)) = q_ev (d, mu, tg, ls, st, h) := by
  show q_evS (q_sw (d, mu, pc, ls, .int x :: st, h) x st dflt lo hi offs) = _
  unfold q_sw
  rw [if_neg hl, ho]
  exact z_jmp hk ht
theorem z_tswd (hl : x.toInt < lo ∨ hi < x.toInt) (hk : q_okt pc dflt = true) (ht : q_tgt pc dflt = tg) : q_evS (q_do (d, mu, pc, ls, .int x :: st, h) cn y code rt (.tableswitch dflt lo hi offs)) = q_ev (d, mu, tg, ls, st, h) := by
  show q_evS (q_sw (d, mu, pc, ls, .int x :: st, h) x st dflt lo hi offs) = _
  unfold q_sw
  rw [if_pos hl]
  exact z_jmp hk ht
theorem z_lsw (ha : (ps.toList.zip (ps.toList.drop 1)).all (fun (a, next) => a.1 < next.1) = true) (ho : Op.lookupswitch.offset ps.toList dflt x.toInt = o) (hk : q_okt pc o = true) (ht : q_tgt pc o = tg) : q_evS (q_do (d, mu, pc, ls, .int x :: st, h) cn y code rt (.lookupswitch dflt ps)) = q_ev (d, mu, tg, ls, st, h) := by
  subst ho
  unfold q_do
  dsimp only
  rw [if_pos ha]
  exact z_jmp hk ht
end
