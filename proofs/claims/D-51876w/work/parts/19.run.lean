/-! the q-machine is sound: one instruction, a run -/
/-- getCause: a synchronized method -/
def q_eI5 : Prop := ∀ (w : q_Wd) (z : q_Fr) (Q : State → Prop) (L n0 s0 d mu pc cn i u v a : Nat) (y : MethodName) (code : ByteArray) (rt : Option FieldType) (hs : List (Nat × Nat × Nat × Nat)) (ls : q_L) (r : List Value) (h : q_H) (x : Value),
  q_X w z d cn y code L rt hs → decode code pc = .ok (.invokevirtual i, 3) → q_ik cn i = some (5, u, v) → 4 ≤ d ∧ q_cat r ≤ 8 ∧ q_cls h a = some q_cFmt ∧ 1000 ≤ a → h.2.1 ≤ n0 + z.1.2.2.2.cells ∧ h.2.2 ≤ s0 + z.1.2.2.2.slots →
  ((∃ b : Nat, q_gf h a q_fCause = some (.ref b) ∧ (h.1 b).isSome = true ∧ x = if b = a then .null else .ref b) ∨ (q_gf h a q_fCause = some .null ∧ x = .null)) →
  q_G w z Q L n0 s0 (d, mu, pc + 3, ls, x :: r, h) → q_G w z Q L n0 s0 (d, mu, pc, ls, .ref a :: r, h)
def q_Ev : Prop := q_laysOk ∧ q_eFL ∧ q_eSL ∧ q_eCK ∧ q_eTK ∧ q_eCS ∧ q_eCA ∧ q_eST ∧ q_eAT ∧ q_eAN ∧ q_eNW ∧ q_eNX ∧ q_eI3 ∧ q_eI4 ∧ q_eI6 ∧ q_eNC ∧ q_eM ∧ q_eI0 ∧ q_eI1 ∧ q_eI2 ∧ q_eI7 ∧ q_eI5
theorem q_Ev.laysOk (hE : q_Ev) : q_laysOk := hE.1
theorem q_Ev.eFL (hE : q_Ev) : q_eFL := hE.2.1
theorem q_Ev.eSL (hE : q_Ev) : q_eSL := hE.2.2.1
theorem q_Ev.eCK (hE : q_Ev) : q_eCK := hE.2.2.2.1
theorem q_Ev.eTK (hE : q_Ev) : q_eTK := hE.2.2.2.2.1
theorem q_Ev.eCS (hE : q_Ev) : q_eCS := hE.2.2.2.2.2.1
theorem q_Ev.eCA (hE : q_Ev) : q_eCA := hE.2.2.2.2.2.2.1
theorem q_Ev.eST (hE : q_Ev) : q_eST := hE.2.2.2.2.2.2.2.1
theorem q_Ev.eAT (hE : q_Ev) : q_eAT := hE.2.2.2.2.2.2.2.2.1
theorem q_Ev.eAN (hE : q_Ev) : q_eAN := hE.2.2.2.2.2.2.2.2.2.1
theorem q_Ev.eNW (hE : q_Ev) : q_eNW := hE.2.2.2.2.2.2.2.2.2.2.1
theorem q_Ev.eNX (hE : q_Ev) : q_eNX := hE.2.2.2.2.2.2.2.2.2.2.2.1
theorem q_Ev.eI3 (hE : q_Ev) : q_eI3 := hE.2.2.2.2.2.2.2.2.2.2.2.2.1
theorem q_Ev.eI4 (hE : q_Ev) : q_eI4 := hE.2.2.2.2.2.2.2.2.2.2.2.2.2.1
theorem q_Ev.eI6 (hE : q_Ev) : q_eI6 := hE.2.2.2.2.2.2.2.2.2.2.2.2.2.2.1
theorem q_Ev.eNC (hE : q_Ev) : q_eNC := hE.2.2.2.2.2.2.2.2.2.2.2.2.2.2.2.1
theorem q_Ev.eM (hE : q_Ev) : q_eM := hE.2.2.2.2.2.2.2.2.2.2.2.2.2.2.2.2.1
theorem q_Ev.eI0 (hE : q_Ev) : q_eI0 := hE.2.2.2.2.2.2.2.2.2.2.2.2.2.2.2.2.2.1
theorem q_Ev.eI1 (hE : q_Ev) : q_eI1 := hE.2.2.2.2.2.2.2.2.2.2.2.2.2.2.2.2.2.2.1
theorem q_Ev.eI2 (hE : q_Ev) : q_eI2 := hE.2.2.2.2.2.2.2.2.2.2.2.2.2.2.2.2.2.2.2.1
theorem q_Ev.eI7 (hE : q_Ev) : q_eI7 := hE.2.2.2.2.2.2.2.2.2.2.2.2.2.2.2.2.2.2.2.2.1
theorem q_Ev.eI5 (hE : q_Ev) : q_eI5 := hE.2.2.2.2.2.2.2.2.2.2.2.2.2.2.2.2.2.2.2.2.2
theorem q_pop_s {n : Nat} {st as rest : List Value} (e : q_pop n st = some (as, rest)) : as.length = n ∧ st = as.reverse ++ rest := by
  unfold q_pop at e
  split at e
  · cases e
    refine ⟨?_, ?_⟩
    · rw [List.length_reverse, List.length_take]; omega
    · rw [List.reverse_reverse, List.take_append_drop]
  · cases e
/-- the frame stays -/
def q_sf (d mu : Nat) (s : q_S) : Prop := match s with
  | some (.inr (.inl c')) => c'.1 = d ∧ c'.2.1 = mu
  | _ => True
theorem q_sf_jmp {d mu pc : Nat} {ls : q_L} {st st' : List Value} {h : q_H} {off : Int} : q_sf d mu (q_jmp (d, mu, pc, ls, st, h) off st') := by
  simp only [q_jmp]
  split
  · exact ⟨rfl, rfl⟩
  · trivial
theorem q_sf_br {d mu pc : Nat} {ls : q_L} {st st' : List Value} {h : q_H} {off : Int} {b : Bool} : q_sf d mu (q_br (d, mu, pc, ls, st, h) b off st') := by
  simp only [q_br]
  split
  · split
    · exact q_sf_jmp
    · exact ⟨rfl, rfl⟩
  · trivial
theorem q_sf_call {d mu pc len mu' : Nat} {ls : q_L} {as rest : List Value} {h : q_H} : q_sf d mu (q_call d mu pc len ls mu' as rest h) := by
  unfold q_call
  split
  · split <;> trivial
  · trivial
theorem q_sf_inv {d mu pc : Nat} {ls : q_L} {st : List Value} {h : q_H} {cn i ln op : Nat} : q_sf d mu (q_inv (d, mu, pc, ls, st, h) cn i ln op) := by
  simp only [q_inv]
  repeat' split
  all_goals first
    | trivial
    | exact q_sf_call
    | exact ⟨rfl, rfl⟩
theorem q_thr_sf {d mu pc q : Nat} {ls : q_L} {h : q_H} {c' : q_C} (e : q_thr d mu pc ls h q = some (.inr c')) : c'.1 = d ∧ c'.2.1 = mu := by
  unfold q_thr at e
  split at e
  · split at e
    · cases e; exact ⟨rfl, rfl⟩
    · cases e
    · cases e
  · cases e
theorem q_sf_do (c : q_C) (cn : Nat) (y : MethodName) (code : ByteArray) (rt : Option FieldType) (ins : Instr) : q_sf c.1 c.2.1 (q_do c cn y code rt ins) := by
  obtain ⟨d, mu, pc, ls, st, h⟩ := c
  show q_sf d mu _
  cases ins
  all_goals simp only [q_do, q_ldI, q_ldA, q_ldF, q_ldW, q_ldD, q_stI, q_stA, q_stF, q_stW, q_stD, q_st1, q_st2, q_pu, q_ph, q_sw, q_ret, q_mk]
  all_goals first | trivial | exact q_sf_inv | exact q_sf_jmp | exact ⟨rfl, rfl⟩ | (repeat' split)
  all_goals first
    | trivial
    | exact ⟨rfl, rfl⟩
    | exact q_sf_jmp
    | exact q_sf_br
    | exact q_thr_sf (by assumption)
    | (rename_i heq hlt; cases heq; exact ⟨rfl, rfl⟩)
theorem q_no_ret {c : q_C} {cn : Nat} {y : MethodName} {code : ByteArray} {rt : Option FieldType} {ins : Instr} {x : q_C ⊕ (q_C × (q_R → Option (q_R ⊕ q_C)))} (hi : ins = .ireturn ∨ ins = .areturn ∨ ins = .dreturn ∨ ins = .freturn ∨ ins = .return_) (e : q_do c cn y code rt ins = some (.inr x)) : False := by
  obtain ⟨d, mu, pc, ls, st, h⟩ := c
  rcases hi with rfl | rfl | rfl | rfl | rfl
  all_goals
    simp only [q_do, q_ret] at e
    repeat' split at e
    all_goals cases e
section
variable {w : q_Wd} {z : q_Fr} {Q : State → Prop} {L n0 s0 mc ms : Nat} {cn : Nat} {y : MethodName} {code : ByteArray} {rt : Option FieldType} {hs : List (Nat × Nat × Nat × Nat)}
variable {d mu pc : Nat} {ls : q_L} {st : List Value} {h : q_H} {c1 : q_C}
/-- invocations without a frame of their own -/
theorem q_s_inv (hE : q_Ev) {ins : Instr} {i ln op : Nat} (X : q_X w z d cn y code L rt hs) (hN : c1.2.2.2.2.2.2.1 ≤ n0 + z.1.2.2.2.cells ∧ c1.2.2.2.2.2.2.2 ≤ s0 + z.1.2.2.2.slots) (hd : decode code pc = .ok (ins, ln))
    (hins : (op = 0 ∧ ins = .invokestatic i ∧ ln = 3) ∨ (op = 1 ∧ ins = .invokespecial i ∧ ln = 3) ∨ (op = 2 ∧ ins = .invokevirtual i ∧ ln = 3) ∨ op = 3) (e : q_inv (d, mu, pc, ls, st, h) cn i ln op = some (.inr (.inl c1))) (k : q_G w z Q L n0 s0 c1) : q_G w z Q L n0 s0 (d, mu, pc, ls, st, h) := by
  have hno : ∀ {mu' : Nat} {as rest : List Value}, q_call d mu pc ln ls mu' as rest h = some (.inr (.inl c1)) → False := by
    intro mu' as rest e
    unfold q_call at e
    split at e
    · split at e
      · cases e
      · cases e
    · cases e
  simp only [q_inv] at e
  split at e
  · repeat' split at e
    all_goals first | cases e | exact (hno e).elim
  · repeat' split at e
    all_goals first | cases e | exact (hno e).elim
  · repeat' split at e
    all_goals first | cases e | exact (hno e).elim
  · repeat' split at e
    all_goals first | cases e | exact (hno e).elim
  · rename_i hik
    split at e
    · rename_i hop
      subst hop
      split at e
      · split at e
        · rename_i hc
          obtain rfl := q_nx_eq e
          rcases hins with ⟨h0, -⟩ | ⟨-, rfl, rfl⟩ | ⟨h0, -⟩ | h0
          · cases h0
          · exact q_s_oinit hE.eI3 X hd hik hc k
          · cases h0
          · cases h0
        · cases e
      · cases e
    · cases e
  · rename_i hik
    split at e
    · rename_i hop
      subst hop
      split at e
      · split at e
        · rename_i hc
          split at e
          · rename_i hcp
            obtain rfl := q_nx_eq e
            rcases hins with ⟨-, rfl, rfl⟩ | ⟨h0, -⟩ | ⟨h0, -⟩ | h0
            · exact q_s_copy hE.laysOk hE.eST hE.eI4 X hd hik hc hcp k
            · cases h0
            · cases h0
            · cases h0
          · cases e
        · cases e
      · cases e
    · cases e
  · rename_i hik
    split at e
    · rename_i hop
      subst hop
      split at e
      · split at e
        · rename_i hc
          split at e
          · rename_i hgf
            split at e
            · rename_i hb
              obtain rfl := q_nx_eq e
              rcases hins with ⟨h0, -⟩ | ⟨h0, -⟩ | ⟨-, rfl, rfl⟩ | h0
              · cases h0
              · cases h0
              · exact hE.eI5 w z Q L n0 s0 d mu pc cn _ _ _ _ y code rt hs ls _ h _ X hd hik hc hN (Or.inl ⟨_, hgf, hb, rfl⟩) k
              · cases h0
            · cases e
          · rename_i hgf
            obtain rfl := q_nx_eq e
            rcases hins with ⟨h0, -⟩ | ⟨h0, -⟩ | ⟨-, rfl, rfl⟩ | h0
            · cases h0
            · cases h0
            · exact hE.eI5 w z Q L n0 s0 d mu pc cn _ _ _ _ y code rt hs ls _ h _ X hd hik hc hN (Or.inr ⟨hgf, rfl⟩) k
            · cases h0
          · cases e
        · cases e
      · cases e
    · cases e
  · rename_i hik
    split at e
    · rename_i hop
      subst hop
      split at e
      · split at e
        · rename_i hc
          split at e
          · rename_i ha
            obtain rfl := q_nx_eq e
            rcases hins with ⟨h0, -⟩ | ⟨h0, -⟩ | ⟨-, rfl, rfl⟩ | h0
            · cases h0
            · cases h0
            · exact q_s_clone (wr := true) hE.eI6 X hN hd hik hc ha k
            · cases h0
          · cases e
        · cases e
      · cases e
    · cases e
  · cases e
/-- one instruction -/
theorem q_s_one (hE : q_Ev) {ins : Instr} {ln : Nat} (X : q_X w z d cn y code L rt hs) (hmu : q_mt mu = some (cn, y, code, L, rt, hs)) (hn0 : z.2.1.heap.size + 1000 = w.1.heap.size + n0) (hN : c1.2.2.2.2.2.2.1 ≤ n0 + z.1.2.2.2.cells ∧ c1.2.2.2.2.2.2.2 ≤ s0 + z.1.2.2.2.slots)
    (hd : decode code pc = .ok (ins, ln)) (hlk : q_lk ins ln = true) (e : q_do (d, mu, pc, ls, st, h) cn y code rt ins = some (.inr (.inl c1))) {r : q_R} (hfin : n0 + mc = r.2.2.1 ∧ s0 + ms = r.2.2.2) (k : q_G w z (q_End w z r mc ms) L n0 s0 c1) : q_G w z (q_End w z r mc ms) L n0 s0 (d, mu, pc, ls, st, h) := by
  cases ins with
  | iadd => obtain rfl : 1 = ln := eq_of_beq hlk; exact q_s_iadd X hd e k
  | isub => obtain rfl : 1 = ln := eq_of_beq hlk; exact q_s_isub X hd e k
  | imul => obtain rfl : 1 = ln := eq_of_beq hlk; exact q_s_imul X hd e k
  | iand => obtain rfl : 1 = ln := eq_of_beq hlk; exact q_s_iand X hd e k
  | ior => obtain rfl : 1 = ln := eq_of_beq hlk; exact q_s_ior X hd e k
  | ixor => obtain rfl : 1 = ln := eq_of_beq hlk; exact q_s_ixor X hd e k
  | ishl => obtain rfl : 1 = ln := eq_of_beq hlk; exact q_s_ishl X hd e k
  | ishr => obtain rfl : 1 = ln := eq_of_beq hlk; exact q_s_ishr X hd e k
  | ineg => obtain rfl : 1 = ln := eq_of_beq hlk; exact q_s_ineg X hd e k
  | ladd => obtain rfl : 1 = ln := eq_of_beq hlk; exact q_s_ladd X hd e k
  | i2f => obtain rfl : 1 = ln := eq_of_beq hlk; exact q_s_i2f X hd e k
  | i2d => obtain rfl : 1 = ln := eq_of_beq hlk; exact q_s_i2d X hd e k
  | lcmp => obtain rfl : 1 = ln := eq_of_beq hlk; exact q_s_lcmp X hd e k
  | dcmp op => obtain rfl : 1 = ln := eq_of_beq hlk; exact q_s_dcmp X hd e k
  | fcmp op => obtain rfl : 1 = ln := eq_of_beq hlk; exact q_s_fcmp X hd e k
  | iushr => obtain rfl : 1 = ln := eq_of_beq hlk; exact q_s_iushr X hd e k
  | i2l => obtain rfl : 1 = ln := eq_of_beq hlk; exact q_s_i2l X hd e k
  | l2i => obtain rfl : 1 = ln := eq_of_beq hlk; exact q_s_l2i X hd e k
  | i2b => obtain rfl : 1 = ln := eq_of_beq hlk; exact q_s_i2b X hd e k
  | i2c => obtain rfl : 1 = ln := eq_of_beq hlk; exact q_s_i2c X hd e k
  | idiv => obtain rfl : 1 = ln := eq_of_beq hlk; exact q_s_idiv X hd e k
  | irem => obtain rfl : 1 = ln := eq_of_beq hlk; exact q_s_irem X hd e k
  | f2d => obtain rfl : 1 = ln := eq_of_beq hlk; exact q_s_f2d X hd e k
  | fdiv => obtain rfl : 1 = ln := eq_of_beq hlk; exact q_s_fdiv X hd e k
  | ddiv => obtain rfl : 1 = ln := eq_of_beq hlk; exact q_s_ddiv X hd e k
  | iconst n => obtain rfl : 1 = ln := eq_of_beq hlk; exact q_s_iconst X hd e k
  | bipush n => obtain rfl : 2 = ln := eq_of_beq hlk; exact q_s_bipush X hd e k
  | sipush n => obtain rfl : 3 = ln := eq_of_beq hlk; exact q_s_sipush X hd e k
  | lconst n => obtain rfl : 1 = ln := eq_of_beq hlk; exact q_s_lconst X hd e k
  | fconst n => obtain rfl : 1 = ln := eq_of_beq hlk; exact q_s_fconst X hd e k
  | dconst n => obtain rfl : 1 = ln := eq_of_beq hlk; exact q_s_dconst X hd e k
  | aconst_null => obtain rfl : 1 = ln := eq_of_beq hlk; exact q_s_aconst_null X hd e k
  | dup => obtain rfl : 1 = ln := eq_of_beq hlk; exact q_s_dup X hd e k
  | pop => obtain rfl : 1 = ln := eq_of_beq hlk; exact q_s_pop X hd e k
  | dup_x1 => obtain rfl : 1 = ln := eq_of_beq hlk; exact q_s_dup_x1 X hd e k
  | dup2 => obtain rfl : 1 = ln := eq_of_beq hlk; exact q_s_dup2 X hd e k
  | iload_n i => obtain rfl : 1 = ln := eq_of_beq hlk; exact q_s_iload_n X hd e k
  | iload i => obtain rfl : 2 = ln := eq_of_beq hlk; exact q_s_iload X hd e k
  | fload_n i => obtain rfl : 1 = ln := eq_of_beq hlk; exact q_s_fload_n X hd e k
  | fload i => obtain rfl : 2 = ln := eq_of_beq hlk; exact q_s_fload X hd e k
  | lload_n i => obtain rfl : 1 = ln := eq_of_beq hlk; exact q_s_lload_n X hd e k
  | lload i => obtain rfl : 2 = ln := eq_of_beq hlk; exact q_s_lload X hd e k
  | dload_n i => obtain rfl : 1 = ln := eq_of_beq hlk; exact q_s_dload_n X hd e k
  | dload i => obtain rfl : 2 = ln := eq_of_beq hlk; exact q_s_dload X hd e k
  | aload_n i => obtain rfl : 1 = ln := eq_of_beq hlk; exact q_s_aload_n X hd e k
  | aload i => obtain rfl : 2 = ln := eq_of_beq hlk; exact q_s_aload X hd e k
  | istore_n i => obtain rfl : 1 = ln := eq_of_beq hlk; exact q_s_istore_n X hd e k
  | istore i => obtain rfl : 2 = ln := eq_of_beq hlk; exact q_s_istore X hd e k
  | fstore_n i => obtain rfl : 1 = ln := eq_of_beq hlk; exact q_s_fstore_n X hd e k
  | fstore i => obtain rfl : 2 = ln := eq_of_beq hlk; exact q_s_fstore X hd e k
  | lstore_n i => obtain rfl : 1 = ln := eq_of_beq hlk; exact q_s_lstore_n X hd e k
  | lstore i => obtain rfl : 2 = ln := eq_of_beq hlk; exact q_s_lstore X hd e k
  | dstore_n i => obtain rfl : 1 = ln := eq_of_beq hlk; exact q_s_dstore_n X hd e k
  | dstore i => obtain rfl : 2 = ln := eq_of_beq hlk; exact q_s_dstore X hd e k
  | astore_n i => obtain rfl : 1 = ln := eq_of_beq hlk; exact q_s_astore_n X hd e k
  | astore i => obtain rfl : 2 = ln := eq_of_beq hlk; exact q_s_astore X hd e k
  | goto off => obtain rfl : 3 = ln := eq_of_beq hlk; exact q_s_goto X hd e k
  | ifCond co off => obtain rfl : 3 = ln := eq_of_beq hlk; exact q_s_ifCond X hd e k
  | if_icmp co off => obtain rfl : 3 = ln := eq_of_beq hlk; exact q_s_if_icmp X hd e k
  | lookupswitch dflt ps => exact q_s_lookupswitch X hd e k
  | tableswitch dflt lo hi offs => exact q_s_tableswitch X hd e k
  | iinc i n => obtain rfl : 3 = ln := eq_of_beq hlk; exact q_s_iinc X hd e k
  | getfield i => obtain rfl : 3 = ln := eq_of_beq hlk; exact q_s_getfield hE.laysOk hE.eFL X hd e k
  | getstatic i => obtain rfl : 3 = ln := eq_of_beq hlk; exact q_s_getstatic hE.eSL X hd e k
  | ldc i => obtain rfl : 2 = ln := eq_of_beq hlk; exact q_s_ldc hE.eCK X hd e k
  | ldc_w i => obtain rfl : 3 = ln := eq_of_beq hlk; exact q_s_ldc_w hE.eCK X hd e k
  | ldc2_w i => obtain rfl : 3 = ln := eq_of_beq hlk; exact q_s_ldc2_w hE.eCK X hd e k
  | checkcast i => obtain rfl : 3 = ln := eq_of_beq hlk; exact q_s_checkcast hE.laysOk hE.eCS hE.eCA hE.eTK X hd e k
  | instanceof i => obtain rfl : 3 = ln := eq_of_beq hlk; exact q_s_instanceof hE.laysOk hE.eCS hE.eCA hE.eTK X hd e k
  | if_acmp co off => obtain rfl : 3 = ln := eq_of_beq hlk; exact q_s_if_acmp X hd e k
  | ifnull off => obtain rfl : 3 = ln := eq_of_beq hlk; exact q_s_ifnull X hd e k
  | ifnonnull off => obtain rfl : 3 = ln := eq_of_beq hlk; exact q_s_ifnonnull X hd e k
  | putfield i => obtain rfl : 3 = ln := eq_of_beq hlk; exact q_s_putfield hE.laysOk hE.eFL X hd e k
  | iaload => obtain rfl : 1 = ln := eq_of_beq hlk; exact q_s_iaload X hd e k
  | baload => obtain rfl : 1 = ln := eq_of_beq hlk; exact q_s_baload X hd e k
  | laload => obtain rfl : 1 = ln := eq_of_beq hlk; exact q_s_laload X hd e k
  | daload => obtain rfl : 1 = ln := eq_of_beq hlk; exact q_s_daload X hd e k
  | aaload => obtain rfl : 1 = ln := eq_of_beq hlk; exact q_s_aaload X hd e k
  | arraylength => obtain rfl : 1 = ln := eq_of_beq hlk; exact q_s_arraylength X hd e k
  | iastore => obtain rfl : 1 = ln := eq_of_beq hlk; exact q_s_iastore X hd e k
  | bastore => obtain rfl : 1 = ln := eq_of_beq hlk; exact q_s_bastore X hd e k
  | lastore => obtain rfl : 1 = ln := eq_of_beq hlk; exact q_s_lastore X hd e k
  | dastore => obtain rfl : 1 = ln := eq_of_beq hlk; exact q_s_dastore X hd e k
  | aastore => obtain rfl : 1 = ln := eq_of_beq hlk; exact q_s_aastore hE.laysOk hE.eST X hd e k
  | new i => obtain rfl : 3 = ln := eq_of_beq hlk; exact q_s_new hE.laysOk hE.eNW hE.eNX X hn0 hN hd e k
  | newarray ty => obtain rfl : 2 = ln := eq_of_beq hlk; exact q_s_newarray hE.eAT X hN hd e k
  | anewarray i => obtain rfl : 3 = ln := eq_of_beq hlk; exact q_s_anewarray hE.eAN X hN hd e k
  | invokestatic i => obtain rfl : 3 = ln := eq_of_beq hlk; exact q_s_inv hE X hN hd (Or.inl ⟨rfl, rfl, rfl⟩) e k
  | invokespecial i => obtain rfl : 3 = ln := eq_of_beq hlk; exact q_s_inv hE X hN hd (Or.inr (Or.inl ⟨rfl, rfl, rfl⟩)) e k
  | invokevirtual i => obtain rfl : 3 = ln := eq_of_beq hlk; exact q_s_inv hE X hN hd (Or.inr (Or.inr (Or.inl ⟨rfl, rfl, rfl⟩))) e k
  | invokeinterface i n => obtain rfl : 5 = ln := eq_of_beq hlk; exact q_s_inv hE X hN hd (Or.inr (Or.inr (Or.inr rfl))) e k
  | athrow =>
    obtain rfl : 1 = ln := eq_of_beq hlk
    simp only [q_do] at e
    split at e
    · split at e
      · cases e
      · rename_i ht
        obtain rfl := q_nx_eq e
        intro H locs cells slots as hC hl hL hc hs'
        obtain ⟨⟨b, ob⟩, hk⟩ : ∃ x, h.1 _ = some x := by
          unfold q_thr at ht
          split at ht
          · rename_i hk; exact ⟨_, hk⟩
          · cases ht
        obtain ⟨q, hq, -⟩ := q_kn_at hC (Option.isSome_iff_exists.mpr ⟨_, hk⟩)
        show q_W z H locs cells slots _ (F0 z.2.2.1 pc as (q_vm (q_F w) (.ref _) :: _))
        rw [q_vm_ref hq]
        exact vx_athrow X.1.1 X.1.2.1 hd (q_thr_s hE.laysOk hE.eCS hE.eTK hE.eNC X hmu ht hfin k rfl hC hl hL hc hs' hq)
      · cases e
    · cases e
  | return_ => exact (q_no_ret (Or.inr (Or.inr (Or.inr (Or.inr rfl)))) e).elim
  | ireturn => exact (q_no_ret (Or.inl rfl) e).elim
  | dreturn => exact (q_no_ret (Or.inr (Or.inr (Or.inl rfl))) e).elim
  | freturn => exact (q_no_ret (Or.inr (Or.inr (Or.inr (Or.inl rfl)))) e).elim
  | areturn => exact (q_no_ret (Or.inr (Or.inl rfl)) e).elim
  | _ => exact nomatch (show (none : q_S) = some _ from e)
end
