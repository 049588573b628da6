/-! the q-machine: configurations, one step, runs by fuel -/
abbrev q_Ob : Type := Bool × ((Nat × vp_A) ⊕ (Nat × List Value))
abbrev q_H : Type := (Nat → Option q_Ob) × Nat × Nat
abbrev q_O : Type := Option Value ⊕ Nat
abbrev q_R : Type := q_O × q_H
abbrev q_L : Type := List (Option Value)
/-- depth, method, pc, locals, stack, heap -/
abbrev q_C : Type := Nat × Nat × Nat × q_L × List Value × q_H
abbrev q_S : Type := Option (q_R ⊕ (q_C ⊕ (q_C × (q_R → Option (q_R ⊕ q_C)))))
def q_set (h : q_H) (a : Nat) (e : q_Ob) : q_H := (fun b => if b = a then some e else h.1 b, h.2)
def q_new (h : q_H) (e : q_Ob) (n : Nat) : q_H := (fun b => if b = h.2.1 then some e else h.1 b, h.2.1 + 1, h.2.2 + n)
def q_ix (c f : Nat) : Option Nat := (q_cf.getD c []).findIdx? (· == f)
def q_gf (h : q_H) (a f : Nat) : Option Value := match h.1 a with
  | some (_, .inr (c, fs)) => (q_ix c f).bind fun k => fs[k]?
  | _ => none
def q_okv (ty : FieldType) (v : Value) : Bool := match ty, v with
  | .int, .int _ => true
  | .long, .long _ => true
  | .boolean, .int x => decide (x = 0 ∨ x = 1)
  | .byte, .int x => decide (x.toInt8.toInt32 = x)
  | .object _, .ref _ => true
  | .object _, .null => true
  | .array _, .ref _ => true
  | .array _, .null => true
  | _, _ => false
/-- field f may be written by method mu -/
def q_pm (cn : Nat) (nm : String) (f : Nat) : Bool := match q_fd[f]? with
  | some (dc, _, _, fin, _) => !fin || (nm == "<init>" && (match q_own[cn]? with | some o => dc == o | none => false))
  | none => false
def q_pf (h : q_H) (a f : Nat) (v : Value) : Option q_H := match h.1 a with
  | some (true, .inr (c, fs)) => (q_ix c f).bind fun k => match q_fd[f]? with
    | some (_, _, _, _, ty) => if k < fs.length ∧ q_okv ty v = true then some (q_set h a (true, .inr (c, fs.set k v))) else none
    | none => none
  | _ => none
def q_rdI (h : q_H) (a : Nat) (i : Int32) : Option (Nat × Int32) := match h.1 a with
  | some (_, .inl (t, n, .inl f)) => if i < 0 ∨ n ≤ i.toNatClampNeg then none else some (t, f i.toNatClampNeg)
  | _ => none
def q_rdL (h : q_H) (a : Nat) (i : Int32) : Option Int64 := match h.1 a with
  | some (_, .inl (3, n, .inr (.inl f))) => if i < 0 ∨ n ≤ i.toNatClampNeg then none else some (f i.toNatClampNeg)
  | _ => none
def q_rdD (h : q_H) (a : Nat) (i : Int32) : Option UInt64 := match h.1 a with
  | some (_, .inl (4, n, .inr (.inr (.inr (.inl f))))) => if i < 0 ∨ n ≤ i.toNatClampNeg then none else some (f i.toNatClampNeg)
  | _ => none
def q_rdQ (h : q_H) (a : Nat) (i : Int32) : Option (Option Nat) := match h.1 a with
  | some (_, .inl (t, n, .inr (.inr (.inr (.inr f))))) => if i < 0 ∨ n ≤ i.toNatClampNeg ∨ t < 5 then none else some (f i.toNatClampNeg)
  | _ => none
def q_wrI (h : q_H) (a : Nat) (i x : Int32) (t0 : Nat) : Option q_H := match h.1 a with
  | some (true, .inl (t, n, .inl f)) => if i < 0 ∨ n ≤ i.toNatClampNeg ∨ t ≠ t0 then none else some (q_set h a (true, .inl (t, n, .inl (upd f i.toNatClampNeg x))))
  | _ => none
def q_wrB (h : q_H) (a : Nat) (i x : Int32) : Option q_H := match h.1 a with
  | some (_, .inl (1, _, .inl _)) => q_wrI h a i (vp_nar .byte x) 1
  | some (_, .inl (2, _, .inl _)) => q_wrI h a i (vp_nar .boolean x) 2
  | _ => none
def q_wrL (h : q_H) (a : Nat) (i : Int32) (x : Int64) : Option q_H := match h.1 a with
  | some (true, .inl (3, n, .inr (.inl f))) => if i < 0 ∨ n ≤ i.toNatClampNeg then none else some (q_set h a (true, .inl (3, n, .inr (.inl (vp_updL f i.toNatClampNeg x)))))
  | _ => none
def q_wrD (h : q_H) (a : Nat) (i : Int32) (x : UInt64) : Option q_H := match h.1 a with
  | some (true, .inl (4, n, .inr (.inr (.inr (.inl f))))) => if i < 0 ∨ n ≤ i.toNatClampNeg then none else some (q_set h a (true, .inl (4, n, .inr (.inr (.inr (.inl (fun j => if j = i.toNatClampNeg then x else f j)))))))
  | _ => none
/-- the class c may lie in an array of references of kind t -/
def q_sto (t c : Nat) : Bool := match t with
  | 5 => q_co.contains c
  | 6 => c == q_cMark
  | 7 => c == q_cDecl
  | 8 => c == q_cPuz
  | _ => false
def q_wrQ (h : q_H) (a : Nat) (i : Int32) (v : Value) : Option q_H := match h.1 a with
  | some (true, .inl (t, n, .inr (.inr (.inr (.inr f))))) => if i < 0 ∨ n ≤ i.toNatClampNeg ∨ t < 5 then none else
    match v with
    | .null => some (q_set h a (true, .inl (t, n, .inr (.inr (.inr (.inr (va_up f i.toNatClampNeg none)))))))
    | .ref b => match h.1 b with
      | some (_, .inr (c, _)) => if q_sto t c = true then some (q_set h a (true, .inl (t, n, .inr (.inr (.inr (.inr (va_up f i.toNatClampNeg (some b)))))))) else none
      | _ => none
    | _ => none
  | _ => none
def q_len (h : q_H) (a : Nat) : Option Nat := match h.1 a with
  | some (_, .inl (_, n, _)) => some n
  | _ => none
def q_at (ty : ArrayType) : Option (Nat × vp_A) := match ty with
  | .int => some (0, 0, .inl fun _ => 0)
  | .byte => some (1, 0, .inl fun _ => 0)
  | .boolean => some (2, 0, .inl fun _ => 0)
  | .long => some (3, 0, .inr (.inl fun _ => 0))
  | .double => some (4, 0, .inr (.inr (.inr (.inl fun _ => 0))))
  | _ => none
/-- the object's class -/
def q_cls (h : q_H) (a : Nat) : Option Nat := match h.1 a with
  | some (_, .inr (c, _)) => some c
  | _ => none
def q_is (h : q_H) (a tid : Nat) : Bool := match h.1 a with
  | some (_, .inr (c, _)) => q_cs.contains (c, tid)
  | some (true, .inl (t, _, _)) => q_ca.contains (t, tid)
  | some (false, .inl _) => false
  | none => false
/-- the handler of an object of class c thrown at pc: some none: it leaves the method -/
def q_hnd (cn pc c : Nat) : List (Nat × Nat × Nat × Nat) → Option (Option Nat)
  | [] => some none
  | (s, e, hp, ct) :: r => if s ≤ pc ∧ pc < e then
      if ct = 0 then some (some hp) else match q_tk cn ct with
        | none => none
        | some tid => if q_cs.contains (c, tid) = true then some (some hp) else if q_nc.contains (c, tid) = true then q_hnd cn pc c r else none
    else q_hnd cn pc c r
def q_ent (L : Nat) (as : List Value) : q_L :=
  let fl := as.flatMap fun v => if v.category = 2 then [some v, none] else [some v]
  fl ++ List.replicate (L - fl.length) none
def q_cat (st : List Value) : Nat := (st.map fun v => v.category).sum
def q_nx (c : q_C) : q_S := some (.inr (.inl c))
def q_tgt (pc : Nat) (off : Int) : Nat := ((pc : Int) + off).toNat
def q_okt (pc : Nat) (off : Int) : Bool := decide (0 ≤ (pc : Int) + off)
/-- what follows a thrown object -/
def q_thr (d mu pc : Nat) (ls : q_L) (h : q_H) (q : Nat) : Option (q_R ⊕ q_C) := match q_mt mu, h.1 q with
  | some (cn, _, _, _, _, hs), some (true, .inr (c, _)) => match q_hnd cn pc c hs with
    | some (some hp) => some (.inr (d, mu, hp, ls, [.ref q], h))
    | some none => some (.inl (.inr q, h))
    | none => none
  | _, _ => none
def q_call (d mu pc len : Nat) (ls : q_L) (mu' : Nat) (as rest : List Value) (h : q_H) : q_S := match d, q_mt mu' with
  | d' + 1, some (_, _, _, L, _, _) => if q_cat rest ≤ 8 ∧ ((as.flatMap fun v => if v.category = 2 then [some v, none] else [some v]).length ≤ L) ∧ 0 < mu' then
      some (.inr (.inr ((d', mu', 0, q_ent L as, [], h), fun r => match r.1 with
        | .inl v => some (.inr (d' + 1, mu, pc + len, ls, v.toList ++ rest, r.2))
        | .inr q => q_thr (d' + 1) mu pc ls r.2 q)))
    else none
  | _, _ => none
/-- arguments off the stack, the last one on top -/
def q_pop (n : Nat) (st : List Value) : Option (List Value × List Value) := if n ≤ st.length then some ((st.take n).reverse, st.drop n) else none
/-- what is copied may lie there -/
def q_cpok (h : q_H) (t : Nat) (f : Nat → Option Nat) (sp n : Nat) : Prop := ∀ i : Nat, i < n → ∀ b : Nat, f (sp + i) = some b → ∃ (w : Bool) (c : Nat) (fs : List Value), h.1 b = some (w, .inr (c, fs)) ∧ q_sto t c = true
/-- a copy of n places -/
noncomputable def q_cp (h : q_H) (a : Nat) (sp : Int32) (b : Nat) (dp n : Int32) : Option q_H :=
  if sp < 0 ∨ dp < 0 ∨ n < 0 then none else
  match h.1 a, h.1 b with
  | some (_, .inl (t, n0, .inl f)), some (true, .inl (t1, n1, .inl g)) =>
    if t = t1 ∧ sp.toNatClampNeg + n.toNatClampNeg ≤ n0 ∧ dp.toNatClampNeg + n.toNatClampNeg ≤ n1 then
      some (q_set h b (true, .inl (t1, n1, .inl (va_cpy f g sp.toNatClampNeg dp.toNatClampNeg n.toNatClampNeg)))) else none
  | some (_, .inl (t, n0, .inr (.inr (.inr (.inr f))))), some (true, .inl (t1, n1, .inr (.inr (.inr (.inr g))))) =>
    @ite _ ((t = t1 ∧ sp.toNatClampNeg + n.toNatClampNeg ≤ n0 ∧ dp.toNatClampNeg + n.toNatClampNeg ≤ n1) ∧ q_cpok h t f sp.toNatClampNeg n.toNatClampNeg) (Classical.propDecidable _)
      (some (q_set h b (true, .inl (t1, n1, .inr (.inr (.inr (.inr (va_cpy f g sp.toNatClampNeg dp.toNatClampNeg n.toNatClampNeg)))))))) none
  | _, _ => none
/-- how long an instruction is -/
def q_ln : Instr → Nat
  | .aload _ | .iload _ | .lload _ | .dload _ | .fload _ | .istore _ | .astore _ | .lstore _ | .dstore _ | .fstore _ | .bipush _ | .ldc _ | .newarray _ => 2
  | .sipush _ | .ldc_w _ | .ldc2_w _ | .getfield _ | .putfield _ | .getstatic _ | .invokevirtual _ | .invokestatic _ | .invokespecial _ | .new _ | .anewarray _ | .checkcast _ | .instanceof _ | .iinc _ _ => 3
  | .ifCond _ _ | .if_icmp _ _ | .if_acmp _ _ | .ifnull _ | .ifnonnull _ | .goto _ => 3
  | .invokeinterface _ _ => 5
  | _ => 1
def q_lk (ins : Instr) (ln : Nat) : Bool := match ins with
  | .tableswitch _ _ _ _ => true
  | .lookupswitch _ _ => true
  | i => q_ln i == ln
/-- loads -/
def q_ldI (c : q_C) (ln k : Nat) : q_S := match c with
  | (d, mu, pc, ls, st, h) => match ls[k]? with
    | some (some (.int x)) => q_nx (d, mu, pc + ln, ls, .int x :: st, h)
    | _ => none
def q_ldA (c : q_C) (ln k : Nat) : q_S := match c with
  | (d, mu, pc, ls, st, h) => match ls[k]? with
    | some (some (.ref x)) => q_nx (d, mu, pc + ln, ls, .ref x :: st, h)
    | some (some .null) => q_nx (d, mu, pc + ln, ls, .null :: st, h)
    | _ => none
def q_ldF (c : q_C) (ln k : Nat) : q_S := match c with
  | (d, mu, pc, ls, st, h) => match ls[k]? with
    | some (some (.float x)) => q_nx (d, mu, pc + ln, ls, .float x :: st, h)
    | _ => none
def q_ldW (c : q_C) (ln k : Nat) : q_S := match c with
  | (d, mu, pc, ls, st, h) => match ls[k]?, ls[k + 1]? with
    | some (some (.long x)), some none => q_nx (d, mu, pc + ln, ls, .long x :: st, h)
    | _, _ => none
def q_ldD (c : q_C) (ln k : Nat) : q_S := match c with
  | (d, mu, pc, ls, st, h) => match ls[k]?, ls[k + 1]? with
    | some (some (.double x)), some none => q_nx (d, mu, pc + ln, ls, .double x :: st, h)
    | _, _ => none
def q_st1 (c : q_C) (ln k : Nat) : q_S := match c with
  | (d, mu, pc, ls, v :: st, h) => if k < ls.length then q_nx (d, mu, pc + ln, ls.set k (some v), st, h) else none
  | _ => none
def q_stI (c : q_C) (ln k : Nat) : q_S := match c with
  | (_, _, _, _, .int _ :: _, _) => q_st1 c ln k
  | _ => none
def q_stA (c : q_C) (ln k : Nat) : q_S := match c with
  | (_, _, _, _, .ref _ :: _, _) => q_st1 c ln k
  | (_, _, _, _, .null :: _, _) => q_st1 c ln k
  | _ => none
def q_stF (c : q_C) (ln k : Nat) : q_S := match c with
  | (_, _, _, _, .float _ :: _, _) => q_st1 c ln k
  | _ => none
def q_st2 (c : q_C) (ln k : Nat) : q_S := match c with
  | (d, mu, pc, ls, v :: st, h) => if k + 1 < ls.length then q_nx (d, mu, pc + ln, (ls.set k (some v)).set (k + 1) none, st, h) else none
  | _ => none
def q_stW (c : q_C) (ln k : Nat) : q_S := match c with
  | (_, _, _, _, .long _ :: _, _) => q_st2 c ln k
  | _ => none
def q_stD (c : q_C) (ln k : Nat) : q_S := match c with
  | (_, _, _, _, .double _ :: _, _) => q_st2 c ln k
  | _ => none
/-- to a new stack, or heap too -/
def q_pu (c : q_C) (ln : Nat) (st' : List Value) : q_S := match c with
  | (d, mu, pc, ls, _, h) => q_nx (d, mu, pc + ln, ls, st', h)
def q_ph (c : q_C) (ln : Nat) (st' : List Value) (h' : q_H) : q_S := match c with
  | (d, mu, pc, ls, _, _) => q_nx (d, mu, pc + ln, ls, st', h')
def q_jmp (c : q_C) (off : Int) (st' : List Value) : q_S := match c with
  | (d, mu, pc, ls, _, h) => if q_okt pc off = true then q_nx (d, mu, q_tgt pc off, ls, st', h) else none
def q_br (c : q_C) (b : Bool) (off : Int) (st' : List Value) : q_S := match c with
  | (_, _, pc, _, _, _) => if q_okt pc off = true then (if b = true then q_jmp c off st' else q_pu c 3 st') else none
def q_c1 (co : ClassFile.Cond) (x : Int32) : Bool := match co with
  | .eq => decide (x = 0)
  | .ne => decide (¬ x = 0)
  | .lt => decide (x < 0)
  | .ge => decide (0 ≤ x)
  | .gt => decide (0 < x)
  | .le => decide (x ≤ 0)
def q_c2 (co : ClassFile.Cond) (x y : Int32) : Bool := match co with
  | .eq => decide (x = y)
  | .ne => decide (¬ x = y)
  | .lt => decide (x < y)
  | .ge => decide (y ≤ x)
  | .gt => decide (y < x)
  | .le => decide (x ≤ y)
/-- a reference that may be compared: null, or an object that is known -/
def q_kn (h : q_H) (v : Value) : Bool := match v with
  | .null => true
  | .ref a => (h.1 a).isSome
  | _ => false
/-- comparable by ==: null, a new object, a constant of an enum, a literal -/
def q_cmb (a : Nat) : Bool := decide (1000 ≤ a ∨ a ≤ 12 ∨ (100 ≤ a ∧ a < 200 ∧ a % 2 = 0))
def q_kc (h : q_H) (v : Value) : Bool := match v with
  | .null => true
  | .ref a => (h.1 a).isSome && q_cmb a
  | _ => false
def q_ret (c : q_C) (v : Option Value) : q_S := match c with
  | (_, _, _, _, _, h) => some (.inl (.inl v, h))
/-- invocations -/
noncomputable def q_inv (c : q_C) (cn : Nat) (i ln : Nat) (op : Nat) : q_S := match c with
  | (d, mu, pc, ls, st, h) => match q_ik cn i with
    | some (0, mu', n) => if op = 0 then match q_pop n st with
      | some (as, rest) => q_call d mu pc ln ls mu' as rest h
      | none => none else none
    | some (1, mu', n) => if op = 1 then match q_pop (n + 1) st with
      | some (.ref b :: as, rest) => if (q_cls h b).isSome = true then q_call d mu pc ln ls mu' (.ref b :: as) rest h else none
      | _ => none else none
    | some (2, x, n) => if op = 2 then match q_pop (n + 1) st with
      | some (.ref b :: as, rest) => match q_cls h b with
        | some k => match q_vt x k with
          | some mu' => q_call d mu pc ln ls mu' (.ref b :: as) rest h
          | none => none
        | none => none
      | _ => none else none
    | some (7, x, n) => if op = 3 then match q_pop (n + 1) st with
      | some (.ref b :: as, rest) => match q_cls h b with
        | some k => match q_vt x k with
          | some mu' => q_call d mu pc ln ls mu' (.ref b :: as) rest h
          | none => none
        | none => none
      | _ => none else none
    | some (3, _, _) => if op = 1 then match st with
      | .ref a :: r => if 1 ≤ d ∧ q_cat r ≤ 8 ∧ (h.1 a).isSome = true then q_nx (d, mu, pc + ln, ls, r, h) else none
      | _ => none else none
    | some (4, _, _) => if op = 0 then match st with
      | .int n :: .int dp :: .ref b :: .int sp :: .ref a :: r => if 4 ≤ d ∧ q_cat r ≤ 8 then match q_cp h a sp b dp n with
        | some h' => q_nx (d, mu, pc + ln, ls, r, h')
        | none => none else none
      | _ => none else none
    | some (5, _, _) => if op = 2 then match st with
      | .ref a :: r => if 4 ≤ d ∧ q_cat r ≤ 8 ∧ q_cls h a = some q_cFmt ∧ 1000 ≤ a then match q_gf h a q_fCause with
        | some (.ref b) => if (h.1 b).isSome = true then q_nx (d, mu, pc + ln, ls, (if b = a then .null else .ref b) :: r, h) else none
        | some .null => q_nx (d, mu, pc + ln, ls, .null :: r, h)
        | _ => none else none
      | _ => none else none
    | some (6, _, _) => if op = 2 then match st with
      | .ref a :: r => if 4 ≤ d ∧ q_cat r ≤ 8 then match h.1 a with
        | some (true, .inl (1, n, .inl f)) => q_nx (d, mu, pc + ln, ls, .ref h.2.1 :: r, q_new h (true, .inl (1, n, .inl f)) n)
        | _ => none else none
      | _ => none else none
    | _ => none
/-- new -/
def q_mk (c : q_C) (cn : Nat) (code : ByteArray) (i : Nat) : q_S := match c with
  | (d, mu, pc, ls, st, h) => match q_nw cn i with
    | none => none
    | some k => match q_df[k]? with
      | some fs => q_nx (d, mu, pc + 3, ls, .ref h.2.1 :: st, q_new h (true, .inr (k, fs)) fs.length)
      | none => if 12 ≤ d ∧ q_cat st ≤ 8 ∧ decode code (pc + 3) = .ok (.dup, 1) then match decode code (pc + 4) with
        | .ok (.invokespecial ic, 3) => if q_jx cn ic = some k then q_nx (d, mu, pc + 7, ls, .ref h.2.1 :: st, q_new h (true, .inr (k, [])) 6) else none
        | _ => none else none
def q_sw (c : q_C) (x : Int32) (r : List Value) (dflt lo hi : Int) (offs : Array Int) : q_S :=
  if x.toInt < lo ∨ hi < x.toInt then q_jmp c dflt r else match offs[(x.toInt - lo).toNat]? with
    | some o => q_jmp c o r
    | none => none
/-- one instruction; ln its length -/
noncomputable def q_do (c : q_C) (cn : Nat) (y : MethodName) (code : ByteArray) (rt : Option FieldType) (ins : Instr) : q_S := match c with
  | (d, mu, pc, ls, st, h) => match ins with
    | .aload_n k => q_ldA c 1 k
    | .aload k => q_ldA c 2 k
    | .iload_n k => q_ldI c 1 k
    | .iload k => q_ldI c 2 k
    | .lload_n k => q_ldW c 1 k
    | .lload k => q_ldW c 2 k
    | .dload_n k => q_ldD c 1 k
    | .dload k => q_ldD c 2 k
    | .fload_n k => q_ldF c 1 k
    | .fload k => q_ldF c 2 k
    | .istore_n k => q_stI c 1 k
    | .istore k => q_stI c 2 k
    | .astore_n k => q_stA c 1 k
    | .astore k => q_stA c 2 k
    | .lstore_n k => q_stW c 1 k
    | .lstore k => q_stW c 2 k
    | .dstore_n k => q_stD c 1 k
    | .dstore k => q_stD c 2 k
    | .fstore_n k => q_stF c 1 k
    | .fstore k => q_stF c 2 k
    | .iconst n => q_pu c 1 (.int (Int32.ofInt n) :: st)
    | .bipush n => q_pu c 2 (.int (Int8.ofInt n).toInt32 :: st)
    | .sipush n => q_pu c 3 (.int (Int16.ofInt n).toInt32 :: st)
    | .lconst n => q_pu c 1 (.long (Int64.ofNat (n : Nat)) :: st)
    | .fconst n => if n = 0 then q_pu c 1 (.float FP.fconst0 :: st) else none
    | .dconst n => if n = 0 then q_pu c 1 (.double FP.dconst0 :: st) else q_pu c 1 (.double FP.dconst1 :: st)
    | .aconst_null => q_pu c 1 (.null :: st)
    | .ldc i => match q_ck cn i with
      | some v => if v.category = 1 then q_pu c 2 (v :: st) else none
      | none => none
    | .ldc_w i => match q_ck cn i with
      | some v => if v.category = 1 then q_pu c 3 (v :: st) else none
      | none => none
    | .ldc2_w i => match q_ck cn i with
      | some v => if v.category = 2 then q_pu c 3 (v :: st) else none
      | none => none
    | .getstatic i => match q_sk cn i with
      | some v => q_pu c 3 (v :: st)
      | none => none
    | .iadd => match st with | .int b :: .int a :: r => q_pu c 1 (.int (a + b) :: r) | _ => none
    | .isub => match st with | .int b :: .int a :: r => q_pu c 1 (.int (a - b) :: r) | _ => none
    | .imul => match st with | .int b :: .int a :: r => q_pu c 1 (.int (a * b) :: r) | _ => none
    | .iand => match st with | .int b :: .int a :: r => q_pu c 1 (.int (a &&& b) :: r) | _ => none
    | .ior => match st with | .int b :: .int a :: r => q_pu c 1 (.int (a ||| b) :: r) | _ => none
    | .ixor => match st with | .int b :: .int a :: r => q_pu c 1 (.int (a ^^^ b) :: r) | _ => none
    | .idiv => match st with | .int b :: .int a :: r => if b = 0 then none else q_pu c 1 (.int (a / b) :: r) | _ => none
    | .irem => match st with | .int b :: .int a :: r => if b = 0 then none else q_pu c 1 (.int (a - a / b * b) :: r) | _ => none
    | .ishl => match st with | .int b :: .int a :: r => q_pu c 1 (.int (a <<< (b &&& 31)) :: r) | _ => none
    | .ishr => match st with | .int b :: .int a :: r => q_pu c 1 (.int (a >>> (b &&& 31)) :: r) | _ => none
    | .iushr => match st with | .int b :: .int a :: r => q_pu c 1 (.int (a.toUInt32 >>> (b.toUInt32 &&& Int32.toUInt32 31)).toInt32 :: r) | _ => none
    | .ineg => match st with | .int a :: r => q_pu c 1 (.int (-a) :: r) | _ => none
    | .ladd => match st with | .long b :: .long a :: r => q_pu c 1 (.long (a + b) :: r) | _ => none
    | .i2l => match st with | .int a :: r => q_pu c 1 (.long a.toInt64 :: r) | _ => none
    | .l2i => match st with | .long a :: r => q_pu c 1 (.int a.toInt32 :: r) | _ => none
    | .i2b => match st with | .int a :: r => q_pu c 1 (.int a.toInt8.toInt32 :: r) | _ => none
    | .i2c => match st with | .int a :: r => q_pu c 1 (.int (a.toUInt32 % 65536).toInt32 :: r) | _ => none
    | .i2f => match st with | .int a :: r => q_pu c 1 (.float (FP.i2f a) :: r) | _ => none
    | .i2d => match st with | .int a :: r => q_pu c 1 (.double (FP.i2d a) :: r) | _ => none
    | .f2d => match st with | .float a :: r => @ite _ (vf_n64 (FP.f2d a)) (Classical.propDecidable _) (q_pu c 1 (.double (FP.f2d a) :: r)) none | _ => none
    | .fdiv => match st with | .float b :: .float a :: r => @ite _ (vf_n32 (FP.fdiv a b)) (Classical.propDecidable _) (q_pu c 1 (.float (FP.fdiv a b) :: r)) none | _ => none
    | .ddiv => match st with | .double b :: .double a :: r => @ite _ (vf_n64 (FP.ddiv a b)) (Classical.propDecidable _) (q_pu c 1 (.double (FP.ddiv a b) :: r)) none | _ => none
    | .lcmp => match st with | .long b :: .long a :: r => q_pu c 1 (.int (lg_cmp a b) :: r) | _ => none
    | .dcmp op => match st with | .double b :: .double a :: r => q_pu c 1 (.int (Op.cmpValue (FP.dcmp a b) op) :: r) | _ => none
    | .fcmp op => match st with | .float b :: .float a :: r => q_pu c 1 (.int (Op.cmpValue (FP.fcmp a b) op) :: r) | _ => none
    | .dup => match st with | v :: r => if v.category = 1 then q_pu c 1 (v :: v :: r) else none | _ => none
    | .pop => match st with | v :: r => if v.category = 1 then q_pu c 1 r else none | _ => none
    | .dup_x1 => match st with | v :: w :: r => if v.category = 1 ∧ w.category = 1 then q_pu c 1 (v :: w :: v :: r) else none | _ => none
    | .dup2 => match st with | v :: w :: r => if v.category = 1 ∧ w.category = 1 then q_pu c 1 (v :: w :: v :: w :: r) else none | _ => none
    | .iinc k n => match ls[k]? with
      | some (some (.int x)) => if k < ls.length then q_nx (d, mu, pc + 3, ls.set k (some (.int (x + Int32.ofInt n))), st, h) else none
      | _ => none
    | .goto off => q_jmp c off st
    | .ifCond co off => match st with | .int a :: r => q_br c (q_c1 co a) off r | _ => none
    | .if_icmp co off => match st with | .int b :: .int a :: r => q_br c (q_c2 co a b) off r | _ => none
    | .if_acmp co off => match st with
      | v :: w :: r => if q_kc h v = true ∧ q_kc h w = true then q_br c (match co with | .eq => decide (w = v) | .ne => decide (¬ w = v)) off r else none
      | _ => none
    | .ifnull off => match st with | v :: r => if q_kn h v = true then q_br c (decide (v = .null)) off r else none | _ => none
    | .ifnonnull off => match st with | v :: r => if q_kn h v = true then q_br c (decide (¬ v = .null)) off r else none | _ => none
    | .tableswitch dflt lo hi offs => match st with | .int x :: r => q_sw c x r dflt lo hi offs | _ => none
    | .lookupswitch dflt ps => match st with
      | .int x :: r => if (ps.toList.zip (ps.toList.drop 1)).all (fun (a, next) => a.1 < next.1) = true then q_jmp c (Op.lookupswitch.offset ps.toList dflt x.toInt) r else none
      | _ => none
    | .getfield i => match st with
      | .ref a :: r => match q_fk cn i with
        | some f => match q_gf h a f with
          | some v => q_pu c 3 (v :: r)
          | none => none
        | none => none
      | _ => none
    | .putfield i => match st with
      | v :: .ref a :: r => match q_fk cn i with
        | some f => if q_pm cn y.name f = true then match q_pf h a f v with
          | some h' => q_ph c 3 r h'
          | none => none else none
        | none => none
      | _ => none
    | .iaload => match st with
      | .int i :: .ref a :: r => match q_rdI h a i with
        | some (0, x) => q_pu c 1 (.int x :: r)
        | _ => none
      | _ => none
    | .baload => match st with
      | .int i :: .ref a :: r => match q_rdI h a i with
        | some (1, x) => q_pu c 1 (.int x :: r)
        | some (2, x) => q_pu c 1 (.int x :: r)
        | _ => none
      | _ => none
    | .laload => match st with
      | .int i :: .ref a :: r => match q_rdL h a i with
        | some x => q_pu c 1 (.long x :: r)
        | none => none
      | _ => none
    | .daload => match st with
      | .int i :: .ref a :: r => match q_rdD h a i with
        | some x => q_pu c 1 (.double x :: r)
        | none => none
      | _ => none
    | .aaload => match st with
      | .int i :: .ref a :: r => match q_rdQ h a i with
        | some x => q_pu c 1 (va_rf x :: r)
        | none => none
      | _ => none
    | .iastore => match st with
      | .int x :: .int i :: .ref a :: r => match q_wrI h a i x 0 with
        | some h' => q_ph c 1 r h'
        | none => none
      | _ => none
    | .bastore => match st with
      | .int x :: .int i :: .ref a :: r => match q_wrB h a i x with
        | some h' => q_ph c 1 r h'
        | none => none
      | _ => none
    | .lastore => match st with
      | .long x :: .int i :: .ref a :: r => match q_wrL h a i x with
        | some h' => q_ph c 1 r h'
        | none => none
      | _ => none
    | .dastore => match st with
      | .double x :: .int i :: .ref a :: r => match q_wrD h a i x with
        | some h' => q_ph c 1 r h'
        | none => none
      | _ => none
    | .aastore => match st with
      | v :: .int i :: .ref a :: r => match q_wrQ h a i v with
        | some h' => q_ph c 1 r h'
        | none => none
      | _ => none
    | .arraylength => match st with
      | .ref a :: r => match q_len h a with
        | some n => q_pu c 1 (.int (Int32.ofNat n) :: r)
        | none => none
      | _ => none
    | .newarray ty => match st with
      | .int n :: r => match q_at ty with
        | some (t, a) => if n < 0 ∨ 10000 < n.toNatClampNeg then none else q_ph c 2 (.ref h.2.1 :: r) (q_new h (true, .inl (t, n.toNatClampNeg, a.2)) n.toNatClampNeg)
        | none => none
      | _ => none
    | .anewarray i => match st with
      | .int n :: r => match q_an cn i with
        | some t => if n < 0 ∨ 10000 < n.toNatClampNeg then none else q_ph c 3 (.ref h.2.1 :: r) (q_new h (true, .inl (t, n.toNatClampNeg, .inr (.inr (.inr (.inr fun _ => none))))) n.toNatClampNeg)
        | none => none
      | _ => none
    | .new i => q_mk c cn code i
    | .checkcast i => match st with
      | .null :: r => q_pu c 3 (.null :: r)
      | .ref a :: r => match q_tk cn i with
        | some tid => if q_is h a tid = true then q_pu c 3 (.ref a :: r) else none
        | none => none
      | _ => none
    | .instanceof i => match st with
      | .null :: r => q_pu c 3 (.int 0 :: r)
      | .ref a :: r => match q_tk cn i with
        | some tid => if q_is h a tid = true then q_pu c 3 (.int 1 :: r) else none
        | none => none
      | _ => none
    | .invokestatic i => q_inv c cn i 3 0
    | .invokespecial i => q_inv c cn i 3 1
    | .invokevirtual i => q_inv c cn i 3 2
    | .invokeinterface i _ => q_inv c cn i 5 3
    | .athrow => match st with
      | .ref q :: r => match q_thr d mu pc ls h q with
        | some (.inl o) => some (.inl o)
        | some (.inr c') => q_nx c'
        | none => none
      | _ => none
    | .ireturn => match st, rt with
      | [.int x], some ty => if narrow ty (.int x) = .int x then q_ret c (some (.int x)) else none
      | _, _ => none
    | .dreturn => match st, rt with
      | [.double x], some .double => q_ret c (some (.double x))
      | _, _ => none
    | .freturn => match st, rt with
      | [.float x], some .float => q_ret c (some (.float x))
      | _, _ => none
    | .areturn => match st, rt with
      | [v], some (.object _) => if q_okv (.object "") v = true then q_ret c (some v) else none
      | [v], some (.array _) => if q_okv (.object "") v = true then q_ret c (some v) else none
      | _, _ => none
    | .return_ => match st, rt with
      | [], none => q_ret c none
      | _, _ => none
    | _ => none
noncomputable def q_step (c : q_C) : q_S := match q_mt c.2.1 with
  | none => none
  | some (cn, y, code, _, rt, _) => match decode code c.2.2.1 with
    | .error _ => none
    | .ok (ins, ln) => if q_lk ins ln = true then q_do c cn y code rt ins else none
noncomputable def q_run : Nat → q_C → Option q_R
  | 0, _ => none
  | n + 1, c => match q_step c with
    | none => none
    | some (.inl r) => some r
    | some (.inr (.inl c')) => q_run n c'
    | some (.inr (.inr (c', k))) => (q_run n c').bind fun r => match k r with
      | none => none
      | some (.inl r') => some r'
      | some (.inr c'') => q_run n c''
theorem q_run_mono : ∀ (n : Nat) (c : q_C) (r : q_R), q_run n c = some r → q_run (n + 1) c = some r := by
  intro n
  induction n with
  | zero => intro c r h; simp [q_run] at h
  | succ n ih =>
    intro c r h
    rw [q_run] at h ⊢
    split at h
    · exact absurd h (by simp)
    · rename_i he; exact h
    · rename_i c' he; exact ih _ _ h
    · rename_i c' k he
      obtain ⟨r1, h1, h2⟩ := Option.bind_eq_some_iff.mp h
      refine Option.bind_eq_some_iff.mpr ⟨r1, ih _ _ h1, ?_⟩
      split at h2
      · exact absurd h2 (by simp)
      · rename_i hk; exact h2
      · rename_i c'' hk; exact ih _ _ h2
theorem q_run_le {n m : Nat} (hnm : n ≤ m) {c : q_C} {r : q_R} (h : q_run n c = some r) : q_run m c = some r := by
  induction hnm with
  | refl => exact h
  | step _ ih => exact q_run_mono _ _ _ ih
/-- what a configuration comes to, whatever the fuel -/
noncomputable def q_ev (c : q_C) : Option q_R := @dite _ (∃ n r, q_run n c = some r) (Classical.propDecidable _) (fun h => some (Classical.choose (Classical.choose_spec h))) (fun _ => none)
theorem q_ev_iff {c : q_C} {r : q_R} : q_ev c = some r ↔ ∃ n, q_run n c = some r := by
  unfold q_ev
  constructor
  · intro h
    split at h
    · rename_i hh
      exact ⟨_, by rw [← h]; exact Classical.choose_spec (Classical.choose_spec hh)⟩
    · cases h
  · rintro ⟨n, hn⟩
    have hh : ∃ n r, q_run n c = some r := ⟨n, r, hn⟩
    rw [dif_pos hh]
    have h1 := Classical.choose_spec (Classical.choose_spec hh)
    have h2 := q_run_le (Nat.le_max_left n (Classical.choose hh)) hn
    have h3 := q_run_le (Nat.le_max_right n (Classical.choose hh)) h1
    rw [h2] at h3
    exact h3.symm
theorem q_ev_none {c : q_C} : q_ev c = none ↔ ∀ n, q_run n c = none := by
  constructor
  · intro h n
    cases hr : q_run n c with
    | none => rfl
    | some r => rw [q_ev_iff.mpr ⟨n, hr⟩] at h; cases h
  · intro h
    cases hr : q_ev c with
    | none => rfl
    | some r => obtain ⟨n, hn⟩ := q_ev_iff.mp hr; rw [h n] at hn; cases hn
/-- one step of ev -/
noncomputable def q_evS (s : q_S) : Option q_R := match s with
  | none => none
  | some (.inl r) => some r
  | some (.inr (.inl c')) => q_ev c'
  | some (.inr (.inr (c', k))) => (q_ev c').bind fun r => match k r with
    | none => none
    | some (.inl r') => some r'
    | some (.inr c'') => q_ev c''
theorem q_ev_step (c : q_C) : q_ev c = q_evS (q_step c) := by
  have key : ∀ r, q_ev c = some r ↔ q_evS (q_step c) = some r := by
    intro r
    rw [q_ev_iff]
    constructor
    · rintro ⟨n, hn⟩
      cases n with
      | zero => simp [q_run] at hn
      | succ n =>
        rw [q_run] at hn
        unfold q_evS
        split at hn
        · exact absurd hn (by simp)
        · rename_i he; exact hn
        · rename_i c' he; exact q_ev_iff.mpr ⟨n, hn⟩
        · rename_i c' k he
          obtain ⟨r1, h1, h2⟩ := Option.bind_eq_some_iff.mp hn
          refine Option.bind_eq_some_iff.mpr ⟨r1, q_ev_iff.mpr ⟨n, h1⟩, ?_⟩
          split at h2
          · exact absurd h2 (by simp)
          · rename_i hk; exact h2
          · rename_i c'' hk; exact q_ev_iff.mpr ⟨n, h2⟩
    · intro h
      unfold q_evS at h
      split at h
      · exact absurd h (by simp)
      · rename_i he; exact ⟨1, by rw [q_run, he]; exact h⟩
      · rename_i c' he; obtain ⟨n, hn⟩ := q_ev_iff.mp h; exact ⟨n + 1, by rw [q_run, he]; exact hn⟩
      · rename_i c' k he
        obtain ⟨r1, h1, h2⟩ := Option.bind_eq_some_iff.mp h
        obtain ⟨n1, hn1⟩ := q_ev_iff.mp h1
        split at h2
        · exact absurd h2 (by simp)
        · rename_i hk; exact ⟨n1 + 1, by rw [q_run, he]; exact Option.bind_eq_some_iff.mpr ⟨r1, hn1, by rw [hk]; exact h2⟩⟩
        · rename_i c'' hk
          obtain ⟨n2, hn2⟩ := q_ev_iff.mp h2
          refine ⟨max n1 n2 + 1, ?_⟩
          rw [q_run, he]
          exact Option.bind_eq_some_iff.mpr ⟨r1, q_run_le (Nat.le_max_left _ _) hn1, by rw [hk]; exact q_run_le (Nat.le_max_right _ _) hn2⟩
  cases h1 : q_evS (q_step c) with
  | none =>
    cases h2 : q_ev c with
    | none => rfl
    | some r => rw [(key r).mp h2] at h1; cases h1
  | some r => exact (key r).mpr h1
