/-! the q-machine is sound: instructions without cells (printed by gen/pops.py) -/
set_option maxHeartbeats 400000
section
variable {w : q_Wd} {z : q_Fr} {Q : State → Prop} {L n0 s0 : Nat} {cn : Nat} {y : MethodName} {code : ByteArray} {rt : Option FieldType} {hs : List (Nat × Nat × Nat × Nat)}
variable {d mu pc : Nat} {ls : q_L} {st : List Value} {h : q_H} {c1 : q_C}
theorem q_s_iadd (X : q_X w z d cn y code L rt hs) (hd : decode code pc = .ok (.iadd, 1)) (e : q_do (d, mu, pc, ls, st, h) cn y code rt (.iadd) = some (.inr (.inl c1))) (k : q_G w z Q L n0 s0 c1) : q_G w z Q L n0 s0 (d, mu, pc, ls, st, h) := by
  obtain ⟨⟨hx, hb, hml, -⟩, -⟩ := X
  simp only [q_do] at e
  split at e
  · obtain rfl := q_pu_eq e
    exact q_o1 k fun _ _ _ _ _ q => lv_iadd hx hb hd q
  · cases e
theorem q_s_isub (X : q_X w z d cn y code L rt hs) (hd : decode code pc = .ok (.isub, 1)) (e : q_do (d, mu, pc, ls, st, h) cn y code rt (.isub) = some (.inr (.inl c1))) (k : q_G w z Q L n0 s0 c1) : q_G w z Q L n0 s0 (d, mu, pc, ls, st, h) := by
  obtain ⟨⟨hx, hb, hml, -⟩, -⟩ := X
  simp only [q_do] at e
  split at e
  · obtain rfl := q_pu_eq e
    exact q_o1 k fun _ _ _ _ _ q => lv_isub hx hb hd q
  · cases e
theorem q_s_imul (X : q_X w z d cn y code L rt hs) (hd : decode code pc = .ok (.imul, 1)) (e : q_do (d, mu, pc, ls, st, h) cn y code rt (.imul) = some (.inr (.inl c1))) (k : q_G w z Q L n0 s0 c1) : q_G w z Q L n0 s0 (d, mu, pc, ls, st, h) := by
  obtain ⟨⟨hx, hb, hml, -⟩, -⟩ := X
  simp only [q_do] at e
  split at e
  · obtain rfl := q_pu_eq e
    exact q_o1 k fun _ _ _ _ _ q => lv_imul hx hb hd q
  · cases e
theorem q_s_iand (X : q_X w z d cn y code L rt hs) (hd : decode code pc = .ok (.iand, 1)) (e : q_do (d, mu, pc, ls, st, h) cn y code rt (.iand) = some (.inr (.inl c1))) (k : q_G w z Q L n0 s0 c1) : q_G w z Q L n0 s0 (d, mu, pc, ls, st, h) := by
  obtain ⟨⟨hx, hb, hml, -⟩, -⟩ := X
  simp only [q_do] at e
  split at e
  · obtain rfl := q_pu_eq e
    exact q_o1 k fun _ _ _ _ _ q => lv_iand hx hb hd q
  · cases e
theorem q_s_ior (X : q_X w z d cn y code L rt hs) (hd : decode code pc = .ok (.ior, 1)) (e : q_do (d, mu, pc, ls, st, h) cn y code rt (.ior) = some (.inr (.inl c1))) (k : q_G w z Q L n0 s0 c1) : q_G w z Q L n0 s0 (d, mu, pc, ls, st, h) := by
  obtain ⟨⟨hx, hb, hml, -⟩, -⟩ := X
  simp only [q_do] at e
  split at e
  · obtain rfl := q_pu_eq e
    exact q_o1 k fun _ _ _ _ _ q => lv_ior hx hb hd q
  · cases e
theorem q_s_ixor (X : q_X w z d cn y code L rt hs) (hd : decode code pc = .ok (.ixor, 1)) (e : q_do (d, mu, pc, ls, st, h) cn y code rt (.ixor) = some (.inr (.inl c1))) (k : q_G w z Q L n0 s0 c1) : q_G w z Q L n0 s0 (d, mu, pc, ls, st, h) := by
  obtain ⟨⟨hx, hb, hml, -⟩, -⟩ := X
  simp only [q_do] at e
  split at e
  · obtain rfl := q_pu_eq e
    exact q_o1 k fun _ _ _ _ _ q => lv_ixor hx hb hd q
  · cases e
theorem q_s_ishl (X : q_X w z d cn y code L rt hs) (hd : decode code pc = .ok (.ishl, 1)) (e : q_do (d, mu, pc, ls, st, h) cn y code rt (.ishl) = some (.inr (.inl c1))) (k : q_G w z Q L n0 s0 c1) : q_G w z Q L n0 s0 (d, mu, pc, ls, st, h) := by
  obtain ⟨⟨hx, hb, hml, -⟩, -⟩ := X
  simp only [q_do] at e
  split at e
  · obtain rfl := q_pu_eq e
    exact q_o1 k fun _ _ _ _ _ q => lv_ishl hx hb hd q
  · cases e
theorem q_s_ishr (X : q_X w z d cn y code L rt hs) (hd : decode code pc = .ok (.ishr, 1)) (e : q_do (d, mu, pc, ls, st, h) cn y code rt (.ishr) = some (.inr (.inl c1))) (k : q_G w z Q L n0 s0 c1) : q_G w z Q L n0 s0 (d, mu, pc, ls, st, h) := by
  obtain ⟨⟨hx, hb, hml, -⟩, -⟩ := X
  simp only [q_do] at e
  split at e
  · obtain rfl := q_pu_eq e
    exact q_o1 k fun _ _ _ _ _ q => lv_ishr hx hb hd q
  · cases e
theorem q_s_ineg (X : q_X w z d cn y code L rt hs) (hd : decode code pc = .ok (.ineg, 1)) (e : q_do (d, mu, pc, ls, st, h) cn y code rt (.ineg) = some (.inr (.inl c1))) (k : q_G w z Q L n0 s0 c1) : q_G w z Q L n0 s0 (d, mu, pc, ls, st, h) := by
  obtain ⟨⟨hx, hb, hml, -⟩, -⟩ := X
  simp only [q_do] at e
  split at e
  · obtain rfl := q_pu_eq e
    exact q_o1 k fun _ _ _ _ _ q => lv_ineg hx hb hd q
  · cases e
theorem q_s_ladd (X : q_X w z d cn y code L rt hs) (hd : decode code pc = .ok (.ladd, 1)) (e : q_do (d, mu, pc, ls, st, h) cn y code rt (.ladd) = some (.inr (.inl c1))) (k : q_G w z Q L n0 s0 c1) : q_G w z Q L n0 s0 (d, mu, pc, ls, st, h) := by
  obtain ⟨⟨hx, hb, hml, -⟩, -⟩ := X
  simp only [q_do] at e
  split at e
  · obtain rfl := q_pu_eq e
    exact q_o1 k fun _ _ _ _ _ q => lv_ladd hx hb hd q
  · cases e
theorem q_s_i2f (X : q_X w z d cn y code L rt hs) (hd : decode code pc = .ok (.i2f, 1)) (e : q_do (d, mu, pc, ls, st, h) cn y code rt (.i2f) = some (.inr (.inl c1))) (k : q_G w z Q L n0 s0 c1) : q_G w z Q L n0 s0 (d, mu, pc, ls, st, h) := by
  obtain ⟨⟨hx, hb, hml, -⟩, -⟩ := X
  simp only [q_do] at e
  split at e
  · obtain rfl := q_pu_eq e
    exact q_o1 k fun _ _ _ _ _ q => lv_i2f hx hb hd q
  · cases e
theorem q_s_i2d (X : q_X w z d cn y code L rt hs) (hd : decode code pc = .ok (.i2d, 1)) (e : q_do (d, mu, pc, ls, st, h) cn y code rt (.i2d) = some (.inr (.inl c1))) (k : q_G w z Q L n0 s0 c1) : q_G w z Q L n0 s0 (d, mu, pc, ls, st, h) := by
  obtain ⟨⟨hx, hb, hml, -⟩, -⟩ := X
  simp only [q_do] at e
  split at e
  · obtain rfl := q_pu_eq e
    exact q_o1 k fun _ _ _ _ _ q => lv_i2d hx hb hd q
  · cases e
theorem q_s_lcmp (X : q_X w z d cn y code L rt hs) (hd : decode code pc = .ok (.lcmp, 1)) (e : q_do (d, mu, pc, ls, st, h) cn y code rt (.lcmp) = some (.inr (.inl c1))) (k : q_G w z Q L n0 s0 c1) : q_G w z Q L n0 s0 (d, mu, pc, ls, st, h) := by
  obtain ⟨⟨hx, hb, hml, -⟩, -⟩ := X
  simp only [q_do] at e
  split at e
  · obtain rfl := q_pu_eq e
    exact q_o1 k fun _ _ _ _ _ q => W.lcmp hx hb hd q
  · cases e
theorem q_s_dcmp {op : CmpOp} (X : q_X w z d cn y code L rt hs) (hd : decode code pc = .ok (.dcmp op, 1)) (e : q_do (d, mu, pc, ls, st, h) cn y code rt (.dcmp op) = some (.inr (.inl c1))) (k : q_G w z Q L n0 s0 c1) : q_G w z Q L n0 s0 (d, mu, pc, ls, st, h) := by
  obtain ⟨⟨hx, hb, hml, -⟩, -⟩ := X
  simp only [q_do] at e
  split at e
  · obtain rfl := q_pu_eq e
    exact q_o1 k fun _ _ _ _ _ q => lv_dcmp hx hb hd q
  · cases e
theorem q_s_fcmp {op : CmpOp} (X : q_X w z d cn y code L rt hs) (hd : decode code pc = .ok (.fcmp op, 1)) (e : q_do (d, mu, pc, ls, st, h) cn y code rt (.fcmp op) = some (.inr (.inl c1))) (k : q_G w z Q L n0 s0 c1) : q_G w z Q L n0 s0 (d, mu, pc, ls, st, h) := by
  obtain ⟨⟨hx, hb, hml, -⟩, -⟩ := X
  simp only [q_do] at e
  split at e
  · obtain rfl := q_pu_eq e
    exact q_o1 k fun _ _ _ _ _ q => lv_fcmp hx hb hd q
  · cases e
theorem q_s_iushr (X : q_X w z d cn y code L rt hs) (hd : decode code pc = .ok (.iushr, 1)) (e : q_do (d, mu, pc, ls, st, h) cn y code rt (.iushr) = some (.inr (.inl c1))) (k : q_G w z Q L n0 s0 c1) : q_G w z Q L n0 s0 (d, mu, pc, ls, st, h) := by
  obtain ⟨⟨hx, hb, hml, -⟩, -⟩ := X
  simp only [q_do] at e
  split at e
  · obtain rfl := q_pu_eq e
    exact q_o1 k fun _ _ _ _ _ q => lv_iushr hx hb hd rfl q
  · cases e
theorem q_s_i2l (X : q_X w z d cn y code L rt hs) (hd : decode code pc = .ok (.i2l, 1)) (e : q_do (d, mu, pc, ls, st, h) cn y code rt (.i2l) = some (.inr (.inl c1))) (k : q_G w z Q L n0 s0 c1) : q_G w z Q L n0 s0 (d, mu, pc, ls, st, h) := by
  obtain ⟨⟨hx, hb, hml, -⟩, -⟩ := X
  simp only [q_do] at e
  split at e
  · obtain rfl := q_pu_eq e
    exact q_o1 k fun _ _ _ _ _ q => lv_i2l hx hb hd rfl q
  · cases e
theorem q_s_l2i (X : q_X w z d cn y code L rt hs) (hd : decode code pc = .ok (.l2i, 1)) (e : q_do (d, mu, pc, ls, st, h) cn y code rt (.l2i) = some (.inr (.inl c1))) (k : q_G w z Q L n0 s0 c1) : q_G w z Q L n0 s0 (d, mu, pc, ls, st, h) := by
  obtain ⟨⟨hx, hb, hml, -⟩, -⟩ := X
  simp only [q_do] at e
  split at e
  · obtain rfl := q_pu_eq e
    exact q_o1 k fun _ _ _ _ _ q => lv_l2i hx hb hd rfl q
  · cases e
theorem q_s_i2b (X : q_X w z d cn y code L rt hs) (hd : decode code pc = .ok (.i2b, 1)) (e : q_do (d, mu, pc, ls, st, h) cn y code rt (.i2b) = some (.inr (.inl c1))) (k : q_G w z Q L n0 s0 c1) : q_G w z Q L n0 s0 (d, mu, pc, ls, st, h) := by
  obtain ⟨⟨hx, hb, hml, -⟩, -⟩ := X
  simp only [q_do] at e
  split at e
  · obtain rfl := q_pu_eq e
    exact q_o1 k fun _ _ _ _ _ q => lv_i2b hx hb hd rfl q
  · cases e
theorem q_s_i2c (X : q_X w z d cn y code L rt hs) (hd : decode code pc = .ok (.i2c, 1)) (e : q_do (d, mu, pc, ls, st, h) cn y code rt (.i2c) = some (.inr (.inl c1))) (k : q_G w z Q L n0 s0 c1) : q_G w z Q L n0 s0 (d, mu, pc, ls, st, h) := by
  obtain ⟨⟨hx, hb, hml, -⟩, -⟩ := X
  simp only [q_do] at e
  split at e
  · obtain rfl := q_pu_eq e
    exact q_o1 k fun _ _ _ _ _ q => lv_i2c hx hb hd rfl q
  · cases e
theorem q_s_idiv (X : q_X w z d cn y code L rt hs) (hd : decode code pc = .ok (.idiv, 1)) (e : q_do (d, mu, pc, ls, st, h) cn y code rt (.idiv) = some (.inr (.inl c1))) (k : q_G w z Q L n0 s0 c1) : q_G w z Q L n0 s0 (d, mu, pc, ls, st, h) := by
  obtain ⟨⟨hx, hb, hml, -⟩, -⟩ := X
  simp only [q_do] at e
  split at e
  · split at e
    · cases e
    · rename_i hne
      obtain rfl := q_pu_eq e
      exact q_o1 k fun _ _ _ _ _ q => lv_idiv hx hb hd hne q
  · cases e
theorem q_s_irem (X : q_X w z d cn y code L rt hs) (hd : decode code pc = .ok (.irem, 1)) (e : q_do (d, mu, pc, ls, st, h) cn y code rt (.irem) = some (.inr (.inl c1))) (k : q_G w z Q L n0 s0 c1) : q_G w z Q L n0 s0 (d, mu, pc, ls, st, h) := by
  obtain ⟨⟨hx, hb, hml, -⟩, -⟩ := X
  simp only [q_do] at e
  split at e
  · split at e
    · cases e
    · rename_i hne
      obtain rfl := q_pu_eq e
      exact q_o1 k fun _ _ _ _ _ q => lv_irem hx hb hd hne q
  · cases e
theorem q_s_f2d (X : q_X w z d cn y code L rt hs) (hd : decode code pc = .ok (.f2d, 1)) (e : q_do (d, mu, pc, ls, st, h) cn y code rt (.f2d) = some (.inr (.inl c1))) (k : q_G w z Q L n0 s0 c1) : q_G w z Q L n0 s0 (d, mu, pc, ls, st, h) := by
  obtain ⟨⟨hx, hb, hml, -⟩, -⟩ := X
  simp only [q_do] at e
  split at e
  · split at e
    · rename_i hne
      obtain rfl := q_pu_eq e
      exact q_o1 k fun _ _ _ _ _ q => lv_f2d hx hb hd hne q
    · cases e
  · cases e
theorem q_s_fdiv (X : q_X w z d cn y code L rt hs) (hd : decode code pc = .ok (.fdiv, 1)) (e : q_do (d, mu, pc, ls, st, h) cn y code rt (.fdiv) = some (.inr (.inl c1))) (k : q_G w z Q L n0 s0 c1) : q_G w z Q L n0 s0 (d, mu, pc, ls, st, h) := by
  obtain ⟨⟨hx, hb, hml, -⟩, -⟩ := X
  simp only [q_do] at e
  split at e
  · split at e
    · rename_i hne
      obtain rfl := q_pu_eq e
      exact q_o1 k fun _ _ _ _ _ q => lv_fdiv hx hb hd hne q
    · cases e
  · cases e
theorem q_s_ddiv (X : q_X w z d cn y code L rt hs) (hd : decode code pc = .ok (.ddiv, 1)) (e : q_do (d, mu, pc, ls, st, h) cn y code rt (.ddiv) = some (.inr (.inl c1))) (k : q_G w z Q L n0 s0 c1) : q_G w z Q L n0 s0 (d, mu, pc, ls, st, h) := by
  obtain ⟨⟨hx, hb, hml, -⟩, -⟩ := X
  simp only [q_do] at e
  split at e
  · split at e
    · rename_i hne
      obtain rfl := q_pu_eq e
      exact q_o1 k fun _ _ _ _ _ q => lv_ddiv hx hb hd hne q
    · cases e
  · cases e
theorem q_s_iconst {n : Int} (X : q_X w z d cn y code L rt hs) (hd : decode code pc = .ok (.iconst n, 1)) (e : q_do (d, mu, pc, ls, st, h) cn y code rt (.iconst n) = some (.inr (.inl c1))) (k : q_G w z Q L n0 s0 c1) : q_G w z Q L n0 s0 (d, mu, pc, ls, st, h) := by
  obtain ⟨⟨hx, hb, hml, -⟩, -⟩ := X
  simp only [q_do] at e
  obtain rfl := q_pu_eq e
  exact q_o1 k fun _ _ _ _ _ q => lv_iconst hx hb hd rfl q
theorem q_s_bipush {n : Int} (X : q_X w z d cn y code L rt hs) (hd : decode code pc = .ok (.bipush n, 2)) (e : q_do (d, mu, pc, ls, st, h) cn y code rt (.bipush n) = some (.inr (.inl c1))) (k : q_G w z Q L n0 s0 c1) : q_G w z Q L n0 s0 (d, mu, pc, ls, st, h) := by
  obtain ⟨⟨hx, hb, hml, -⟩, -⟩ := X
  simp only [q_do] at e
  obtain rfl := q_pu_eq e
  exact q_o1 k fun _ _ _ _ _ q => lv_bipush hx hb hd rfl q
theorem q_s_sipush {n : Int} (X : q_X w z d cn y code L rt hs) (hd : decode code pc = .ok (.sipush n, 3)) (e : q_do (d, mu, pc, ls, st, h) cn y code rt (.sipush n) = some (.inr (.inl c1))) (k : q_G w z Q L n0 s0 c1) : q_G w z Q L n0 s0 (d, mu, pc, ls, st, h) := by
  obtain ⟨⟨hx, hb, hml, -⟩, -⟩ := X
  simp only [q_do] at e
  obtain rfl := q_pu_eq e
  exact q_o1 k fun _ _ _ _ _ q => lv_sipush hx hb hd rfl q
theorem q_s_lconst {n : Fin 2} (X : q_X w z d cn y code L rt hs) (hd : decode code pc = .ok (.lconst n, 1)) (e : q_do (d, mu, pc, ls, st, h) cn y code rt (.lconst n) = some (.inr (.inl c1))) (k : q_G w z Q L n0 s0 c1) : q_G w z Q L n0 s0 (d, mu, pc, ls, st, h) := by
  obtain ⟨⟨hx, hb, hml, -⟩, -⟩ := X
  simp only [q_do] at e
  obtain rfl := q_pu_eq e
  exact q_o1 k fun _ _ _ _ _ q => lv_lconst hx hb hd rfl q
theorem q_s_fconst {n : Fin 3} (X : q_X w z d cn y code L rt hs) (hd : decode code pc = .ok (.fconst n, 1)) (e : q_do (d, mu, pc, ls, st, h) cn y code rt (.fconst n) = some (.inr (.inl c1))) (k : q_G w z Q L n0 s0 c1) : q_G w z Q L n0 s0 (d, mu, pc, ls, st, h) := by
  obtain ⟨⟨hx, hb, hml, -⟩, -⟩ := X
  simp only [q_do] at e
  split at e
  · rename_i hn
    subst hn
    obtain rfl := q_pu_eq e
    exact q_o1 k fun _ _ _ _ _ q => lv_fconst0 hx hb hd q
  · cases e
theorem q_s_dconst {n : Fin 2} (X : q_X w z d cn y code L rt hs) (hd : decode code pc = .ok (.dconst n, 1)) (e : q_do (d, mu, pc, ls, st, h) cn y code rt (.dconst n) = some (.inr (.inl c1))) (k : q_G w z Q L n0 s0 c1) : q_G w z Q L n0 s0 (d, mu, pc, ls, st, h) := by
  obtain ⟨⟨hx, hb, hml, -⟩, -⟩ := X
  simp only [q_do] at e
  split at e
  · rename_i hn
    subst hn
    obtain rfl := q_pu_eq e
    exact q_o1 k fun _ _ _ _ _ q => lv_dconst0 hx hb hd q
  · rename_i hn
    obtain rfl : n = 1 := by omega
    obtain rfl := q_pu_eq e
    exact q_o1 k fun _ _ _ _ _ q => lv_dconst1 hx hb hd q
theorem q_s_aconst_null (X : q_X w z d cn y code L rt hs) (hd : decode code pc = .ok (.aconst_null, 1)) (e : q_do (d, mu, pc, ls, st, h) cn y code rt (.aconst_null) = some (.inr (.inl c1))) (k : q_G w z Q L n0 s0 c1) : q_G w z Q L n0 s0 (d, mu, pc, ls, st, h) := by
  obtain ⟨⟨hx, hb, hml, -⟩, -⟩ := X
  simp only [q_do] at e
  obtain rfl := q_pu_eq e
  exact q_o1 k fun _ _ _ _ _ q => lv_null hx hb hd q
theorem q_s_dup (X : q_X w z d cn y code L rt hs) (hd : decode code pc = .ok (.dup, 1)) (e : q_do (d, mu, pc, ls, st, h) cn y code rt (.dup) = some (.inr (.inl c1))) (k : q_G w z Q L n0 s0 c1) : q_G w z Q L n0 s0 (d, mu, pc, ls, st, h) := by
  obtain ⟨⟨hx, hb, hml, -⟩, -⟩ := X
  simp only [q_do] at e
  split at e
  · split at e
    · rename_i hv
      obtain rfl := q_pu_eq e
      exact q_o1 k fun _ _ _ _ _ q => lv_dup hx hb hd (by rw [q_vm_cat]; exact hv) q
    · cases e
  · cases e
theorem q_s_pop (X : q_X w z d cn y code L rt hs) (hd : decode code pc = .ok (.pop, 1)) (e : q_do (d, mu, pc, ls, st, h) cn y code rt (.pop) = some (.inr (.inl c1))) (k : q_G w z Q L n0 s0 c1) : q_G w z Q L n0 s0 (d, mu, pc, ls, st, h) := by
  obtain ⟨⟨hx, hb, hml, -⟩, -⟩ := X
  simp only [q_do] at e
  split at e
  · split at e
    · rename_i hv
      obtain rfl := q_pu_eq e
      exact q_o1 k fun _ _ _ _ _ q => lv_pop hx hb hd (by rw [q_vm_cat]; exact hv) q
    · cases e
  · cases e
theorem q_s_dup_x1 (X : q_X w z d cn y code L rt hs) (hd : decode code pc = .ok (.dup_x1, 1)) (e : q_do (d, mu, pc, ls, st, h) cn y code rt (.dup_x1) = some (.inr (.inl c1))) (k : q_G w z Q L n0 s0 c1) : q_G w z Q L n0 s0 (d, mu, pc, ls, st, h) := by
  obtain ⟨⟨hx, hb, hml, -⟩, -⟩ := X
  simp only [q_do] at e
  split at e
  · split at e
    · rename_i hv
      obtain rfl := q_pu_eq e
      exact q_o1 k fun _ _ _ _ _ q => lv_dup_x1 hx hb hd (by rw [q_vm_cat]; exact hv.1) (by rw [q_vm_cat]; exact hv.2) q
    · cases e
  · cases e
theorem q_s_dup2 (X : q_X w z d cn y code L rt hs) (hd : decode code pc = .ok (.dup2, 1)) (e : q_do (d, mu, pc, ls, st, h) cn y code rt (.dup2) = some (.inr (.inl c1))) (k : q_G w z Q L n0 s0 c1) : q_G w z Q L n0 s0 (d, mu, pc, ls, st, h) := by
  obtain ⟨⟨hx, hb, hml, -⟩, -⟩ := X
  simp only [q_do] at e
  split at e
  · split at e
    · rename_i hv
      obtain rfl := q_pu_eq e
      exact q_o1 k fun _ _ _ _ _ q => lv_dup2_11 hx hb hd (by rw [q_vm_cat]; exact hv.1) (by rw [q_vm_cat]; exact hv.2) q
    · cases e
  · cases e
theorem q_s_iload_n {i : Fin 4} (X : q_X w z d cn y code L rt hs) (hd : decode code pc = .ok (.iload_n i, 1)) (e : q_do (d, mu, pc, ls, st, h) cn y code rt (.iload_n i) = some (.inr (.inl c1))) (k : q_G w z Q L n0 s0 c1) : q_G w z Q L n0 s0 (d, mu, pc, ls, st, h) := by
  obtain ⟨⟨hx, hb, hml, -⟩, -⟩ := X
  simp only [q_do] at e
  simp only [q_ldI] at e
  split at e
  · rename_i x h1
    obtain rfl := q_nx_eq e
    exact q_ld_s k h1 (fun q => by cases q) fun _ _ _ _ _ hv q => lv_iload_n hx hb hd rfl hv q
  · cases e
theorem q_s_iload {i : Nat} (X : q_X w z d cn y code L rt hs) (hd : decode code pc = .ok (.iload i, 2)) (e : q_do (d, mu, pc, ls, st, h) cn y code rt (.iload i) = some (.inr (.inl c1))) (k : q_G w z Q L n0 s0 c1) : q_G w z Q L n0 s0 (d, mu, pc, ls, st, h) := by
  obtain ⟨⟨hx, hb, hml, -⟩, -⟩ := X
  simp only [q_do] at e
  simp only [q_ldI] at e
  split at e
  · rename_i x h1
    obtain rfl := q_nx_eq e
    exact q_ld_s k h1 (fun q => by cases q) fun _ _ _ _ _ hv q => lv_iload hx hb hd hv q
  · cases e
theorem q_s_fload_n {i : Fin 4} (X : q_X w z d cn y code L rt hs) (hd : decode code pc = .ok (.fload_n i, 1)) (e : q_do (d, mu, pc, ls, st, h) cn y code rt (.fload_n i) = some (.inr (.inl c1))) (k : q_G w z Q L n0 s0 c1) : q_G w z Q L n0 s0 (d, mu, pc, ls, st, h) := by
  obtain ⟨⟨hx, hb, hml, -⟩, -⟩ := X
  simp only [q_do] at e
  simp only [q_ldF] at e
  split at e
  · rename_i x h1
    obtain rfl := q_nx_eq e
    exact q_ld_s k h1 (fun q => by cases q) fun _ _ _ _ _ hv q => lv_fload_n hx hb hd rfl hv q
  · cases e
theorem q_s_fload {i : Nat} (X : q_X w z d cn y code L rt hs) (hd : decode code pc = .ok (.fload i, 2)) (e : q_do (d, mu, pc, ls, st, h) cn y code rt (.fload i) = some (.inr (.inl c1))) (k : q_G w z Q L n0 s0 c1) : q_G w z Q L n0 s0 (d, mu, pc, ls, st, h) := by
  obtain ⟨⟨hx, hb, hml, -⟩, -⟩ := X
  simp only [q_do] at e
  simp only [q_ldF] at e
  split at e
  · rename_i x h1
    obtain rfl := q_nx_eq e
    exact q_ld_s k h1 (fun q => by cases q) fun _ _ _ _ _ hv q => lv_fload hx hb hd hv q
  · cases e
theorem q_s_lload_n {i : Fin 4} (X : q_X w z d cn y code L rt hs) (hd : decode code pc = .ok (.lload_n i, 1)) (e : q_do (d, mu, pc, ls, st, h) cn y code rt (.lload_n i) = some (.inr (.inl c1))) (k : q_G w z Q L n0 s0 c1) : q_G w z Q L n0 s0 (d, mu, pc, ls, st, h) := by
  obtain ⟨⟨hx, hb, hml, -⟩, -⟩ := X
  simp only [q_do] at e
  simp only [q_ldW] at e
  split at e
  · rename_i x h1 h2
    obtain rfl := q_nx_eq e
    exact q_ld_s k h1 (fun _ => h2) fun _ _ _ _ _ hv q => lv_lload_n hx hb hd rfl hv q
  · cases e
theorem q_s_lload {i : Nat} (X : q_X w z d cn y code L rt hs) (hd : decode code pc = .ok (.lload i, 2)) (e : q_do (d, mu, pc, ls, st, h) cn y code rt (.lload i) = some (.inr (.inl c1))) (k : q_G w z Q L n0 s0 c1) : q_G w z Q L n0 s0 (d, mu, pc, ls, st, h) := by
  obtain ⟨⟨hx, hb, hml, -⟩, -⟩ := X
  simp only [q_do] at e
  simp only [q_ldW] at e
  split at e
  · rename_i x h1 h2
    obtain rfl := q_nx_eq e
    exact q_ld_s k h1 (fun _ => h2) fun _ _ _ _ _ hv q => lv_lload hx hb hd hv q
  · cases e
theorem q_s_dload_n {i : Fin 4} (X : q_X w z d cn y code L rt hs) (hd : decode code pc = .ok (.dload_n i, 1)) (e : q_do (d, mu, pc, ls, st, h) cn y code rt (.dload_n i) = some (.inr (.inl c1))) (k : q_G w z Q L n0 s0 c1) : q_G w z Q L n0 s0 (d, mu, pc, ls, st, h) := by
  obtain ⟨⟨hx, hb, hml, -⟩, -⟩ := X
  simp only [q_do] at e
  simp only [q_ldD] at e
  split at e
  · rename_i x h1 h2
    obtain rfl := q_nx_eq e
    exact q_ld_s k h1 (fun _ => h2) fun _ _ _ _ _ hv q => lv_dload_n hx hb hd rfl hv q
  · cases e
theorem q_s_dload {i : Nat} (X : q_X w z d cn y code L rt hs) (hd : decode code pc = .ok (.dload i, 2)) (e : q_do (d, mu, pc, ls, st, h) cn y code rt (.dload i) = some (.inr (.inl c1))) (k : q_G w z Q L n0 s0 c1) : q_G w z Q L n0 s0 (d, mu, pc, ls, st, h) := by
  obtain ⟨⟨hx, hb, hml, -⟩, -⟩ := X
  simp only [q_do] at e
  simp only [q_ldD] at e
  split at e
  · rename_i x h1 h2
    obtain rfl := q_nx_eq e
    exact q_ld_s k h1 (fun _ => h2) fun _ _ _ _ _ hv q => lv_dload hx hb hd hv q
  · cases e
theorem q_s_aload_n {i : Fin 4} (X : q_X w z d cn y code L rt hs) (hd : decode code pc = .ok (.aload_n i, 1)) (e : q_do (d, mu, pc, ls, st, h) cn y code rt (.aload_n i) = some (.inr (.inl c1))) (k : q_G w z Q L n0 s0 c1) : q_G w z Q L n0 s0 (d, mu, pc, ls, st, h) := by
  obtain ⟨⟨hx, hb, hml, -⟩, -⟩ := X
  simp only [q_do] at e
  simp only [q_ldA] at e
  split at e
  · rename_i a h1
    obtain rfl := q_nx_eq e
    refine q_ld_s k h1 (fun q => by cases q) fun _ _ _ _ _ hv q => ?_
    have hvm : q_vm (q_F w) (.ref a) = va_rf (q_F w a) := rfl
    rw [hvm] at hv q
    cases hF : q_F w a with
    | none => rw [hF] at hv q; exact lv_aload_nN hx hb hd rfl hv q
    | some r => rw [hF] at hv q; exact lv_aload_n hx hb hd rfl hv q
  · rename_i h1
    obtain rfl := q_nx_eq e
    exact q_ld_s k h1 (fun q => by cases q) fun _ _ _ _ _ hv q => lv_aload_nN hx hb hd rfl hv q
  · cases e
theorem q_s_aload {i : Nat} (X : q_X w z d cn y code L rt hs) (hd : decode code pc = .ok (.aload i, 2)) (e : q_do (d, mu, pc, ls, st, h) cn y code rt (.aload i) = some (.inr (.inl c1))) (k : q_G w z Q L n0 s0 c1) : q_G w z Q L n0 s0 (d, mu, pc, ls, st, h) := by
  obtain ⟨⟨hx, hb, hml, -⟩, -⟩ := X
  simp only [q_do] at e
  simp only [q_ldA] at e
  split at e
  · rename_i a h1
    obtain rfl := q_nx_eq e
    refine q_ld_s k h1 (fun q => by cases q) fun _ _ _ _ _ hv q => ?_
    have hvm : q_vm (q_F w) (.ref a) = va_rf (q_F w a) := rfl
    rw [hvm] at hv q
    cases hF : q_F w a with
    | none => rw [hF] at hv q; exact lv_aloadN hx hb hd hv q
    | some r => rw [hF] at hv q; exact lv_aload hx hb hd hv q
  · rename_i h1
    obtain rfl := q_nx_eq e
    exact q_ld_s k h1 (fun q => by cases q) fun _ _ _ _ _ hv q => lv_aloadN hx hb hd hv q
  · cases e
theorem q_s_istore_n {i : Fin 4} (X : q_X w z d cn y code L rt hs) (hd : decode code pc = .ok (.istore_n i, 1)) (e : q_do (d, mu, pc, ls, st, h) cn y code rt (.istore_n i) = some (.inr (.inl c1))) (k : q_G w z Q L n0 s0 c1) : q_G w z Q L n0 s0 (d, mu, pc, ls, st, h) := by
  obtain ⟨⟨hx, hb, hml, -⟩, -⟩ := X
  simp only [q_do] at e
  simp only [q_stI] at e
  split at e
  · rename_i heq
    cases heq
    exact q_st1_s e k rfl fun _ _ _ _ _ _ _ has hi hlv q => lv_istore_n hx hb hd rfl has hi hlv q
  · cases e
theorem q_s_istore {i : Nat} (X : q_X w z d cn y code L rt hs) (hd : decode code pc = .ok (.istore i, 2)) (e : q_do (d, mu, pc, ls, st, h) cn y code rt (.istore i) = some (.inr (.inl c1))) (k : q_G w z Q L n0 s0 c1) : q_G w z Q L n0 s0 (d, mu, pc, ls, st, h) := by
  obtain ⟨⟨hx, hb, hml, -⟩, -⟩ := X
  simp only [q_do] at e
  simp only [q_stI] at e
  split at e
  · rename_i heq
    cases heq
    exact q_st1_s e k rfl fun _ _ _ _ _ _ _ has hi hlv q => lv_istore hx hb hd has hi hlv q
  · cases e
theorem q_s_fstore_n {i : Fin 4} (X : q_X w z d cn y code L rt hs) (hd : decode code pc = .ok (.fstore_n i, 1)) (e : q_do (d, mu, pc, ls, st, h) cn y code rt (.fstore_n i) = some (.inr (.inl c1))) (k : q_G w z Q L n0 s0 c1) : q_G w z Q L n0 s0 (d, mu, pc, ls, st, h) := by
  obtain ⟨⟨hx, hb, hml, -⟩, -⟩ := X
  simp only [q_do] at e
  simp only [q_stF] at e
  split at e
  · rename_i heq
    cases heq
    exact q_st1_s e k rfl fun _ _ _ _ _ _ _ has hi hlv q => lv_fstore_n hx hb hd rfl has hi hlv q
  · cases e
theorem q_s_fstore {i : Nat} (X : q_X w z d cn y code L rt hs) (hd : decode code pc = .ok (.fstore i, 2)) (e : q_do (d, mu, pc, ls, st, h) cn y code rt (.fstore i) = some (.inr (.inl c1))) (k : q_G w z Q L n0 s0 c1) : q_G w z Q L n0 s0 (d, mu, pc, ls, st, h) := by
  obtain ⟨⟨hx, hb, hml, -⟩, -⟩ := X
  simp only [q_do] at e
  simp only [q_stF] at e
  split at e
  · rename_i heq
    cases heq
    exact q_st1_s e k rfl fun _ _ _ _ _ _ _ has hi hlv q => lv_fstore hx hb hd has hi hlv q
  · cases e
theorem q_s_lstore_n {i : Fin 4} (X : q_X w z d cn y code L rt hs) (hd : decode code pc = .ok (.lstore_n i, 1)) (e : q_do (d, mu, pc, ls, st, h) cn y code rt (.lstore_n i) = some (.inr (.inl c1))) (k : q_G w z Q L n0 s0 c1) : q_G w z Q L n0 s0 (d, mu, pc, ls, st, h) := by
  obtain ⟨⟨hx, hb, hml, -⟩, -⟩ := X
  simp only [q_do] at e
  simp only [q_stW] at e
  split at e
  · rename_i heq
    cases heq
    exact q_st2_s e k rfl fun _ _ _ _ _ _ _ has hi hlv q => lv_lstore_n hx hb hd rfl has hi hlv q
  · cases e
theorem q_s_lstore {i : Nat} (X : q_X w z d cn y code L rt hs) (hd : decode code pc = .ok (.lstore i, 2)) (e : q_do (d, mu, pc, ls, st, h) cn y code rt (.lstore i) = some (.inr (.inl c1))) (k : q_G w z Q L n0 s0 c1) : q_G w z Q L n0 s0 (d, mu, pc, ls, st, h) := by
  obtain ⟨⟨hx, hb, hml, -⟩, -⟩ := X
  simp only [q_do] at e
  simp only [q_stW] at e
  split at e
  · rename_i heq
    cases heq
    exact q_st2_s e k rfl fun _ _ _ _ _ _ _ has hi hlv q => lv_lstore hx hb hd has hi hlv q
  · cases e
theorem q_s_dstore_n {i : Fin 4} (X : q_X w z d cn y code L rt hs) (hd : decode code pc = .ok (.dstore_n i, 1)) (e : q_do (d, mu, pc, ls, st, h) cn y code rt (.dstore_n i) = some (.inr (.inl c1))) (k : q_G w z Q L n0 s0 c1) : q_G w z Q L n0 s0 (d, mu, pc, ls, st, h) := by
  obtain ⟨⟨hx, hb, hml, -⟩, -⟩ := X
  simp only [q_do] at e
  simp only [q_stD] at e
  split at e
  · rename_i heq
    cases heq
    exact q_st2_s e k rfl fun _ _ _ _ _ _ _ has hi hlv q => lv_dstore_n hx hb hd rfl has hi hlv q
  · cases e
theorem q_s_dstore {i : Nat} (X : q_X w z d cn y code L rt hs) (hd : decode code pc = .ok (.dstore i, 2)) (e : q_do (d, mu, pc, ls, st, h) cn y code rt (.dstore i) = some (.inr (.inl c1))) (k : q_G w z Q L n0 s0 c1) : q_G w z Q L n0 s0 (d, mu, pc, ls, st, h) := by
  obtain ⟨⟨hx, hb, hml, -⟩, -⟩ := X
  simp only [q_do] at e
  simp only [q_stD] at e
  split at e
  · rename_i heq
    cases heq
    exact q_st2_s e k rfl fun _ _ _ _ _ _ _ has hi hlv q => lv_dstore hx hb hd has hi hlv q
  · cases e
theorem q_s_astore_n {i : Fin 4} (X : q_X w z d cn y code L rt hs) (hd : decode code pc = .ok (.astore_n i, 1)) (e : q_do (d, mu, pc, ls, st, h) cn y code rt (.astore_n i) = some (.inr (.inl c1))) (k : q_G w z Q L n0 s0 c1) : q_G w z Q L n0 s0 (d, mu, pc, ls, st, h) := by
  obtain ⟨⟨hx, hb, hml, -⟩, -⟩ := X
  simp only [q_do] at e
  simp only [q_stA] at e
  split at e
  · rename_i heq
    cases heq
    refine q_st1_s e k rfl fun _ _ _ _ _ _ _ has hi hlv q => ?_
    revert hlv
    show (_, va_rf (q_F w _)) :: _ = _ → q_W z _ _ _ _ Q (F0 _ _ _ (va_rf (q_F w _) :: _))
    cases q_F w _ with
    | none => intro hlv; exact lv_astore_nN hx hb hd rfl has hi hlv q
    | some r => intro hlv; exact lv_astore_n hx hb hd rfl has hi hlv q
  · rename_i heq
    cases heq
    exact q_st1_s e k rfl fun _ _ _ _ _ _ _ has hi hlv q => lv_astore_nN hx hb hd rfl has hi hlv q
  · cases e
theorem q_s_astore {i : Nat} (X : q_X w z d cn y code L rt hs) (hd : decode code pc = .ok (.astore i, 2)) (e : q_do (d, mu, pc, ls, st, h) cn y code rt (.astore i) = some (.inr (.inl c1))) (k : q_G w z Q L n0 s0 c1) : q_G w z Q L n0 s0 (d, mu, pc, ls, st, h) := by
  obtain ⟨⟨hx, hb, hml, -⟩, -⟩ := X
  simp only [q_do] at e
  simp only [q_stA] at e
  split at e
  · rename_i heq
    cases heq
    refine q_st1_s e k rfl fun _ _ _ _ _ _ _ has hi hlv q => ?_
    revert hlv
    show (_, va_rf (q_F w _)) :: _ = _ → q_W z _ _ _ _ Q (F0 _ _ _ (va_rf (q_F w _) :: _))
    cases q_F w _ with
    | none => intro hlv; exact lv_astoreN hx hb hd has hi hlv q
    | some r => intro hlv; exact lv_astore hx hb hd has hi hlv q
  · rename_i heq
    cases heq
    exact q_st1_s e k rfl fun _ _ _ _ _ _ _ has hi hlv q => lv_astoreN hx hb hd has hi hlv q
  · cases e
theorem q_s_goto {off : Int} (X : q_X w z d cn y code L rt hs) (hd : decode code pc = .ok (.goto off, 3)) (e : q_do (d, mu, pc, ls, st, h) cn y code rt (.goto off) = some (.inr (.inl c1))) (k : q_G w z Q L n0 s0 c1) : q_G w z Q L n0 s0 (d, mu, pc, ls, st, h) := by
  obtain ⟨⟨hx, hb, hml, -⟩, -⟩ := X
  simp only [q_do] at e
  obtain ⟨ht, rfl⟩ := q_jmp_eq e
  exact fun H locs cells slots as hC hl hL hc hs => lv_goto hx hb hd ht (k H locs cells slots as hC hl hL hc hs)
theorem q_s_ifCond {co : ClassFile.Cond} {off : Int} (X : q_X w z d cn y code L rt hs) (hd : decode code pc = .ok (.ifCond co off, 3)) (e : q_do (d, mu, pc, ls, st, h) cn y code rt (.ifCond co off) = some (.inr (.inl c1))) (k : q_G w z Q L n0 s0 c1) : q_G w z Q L n0 s0 (d, mu, pc, ls, st, h) := by
  obtain ⟨⟨hx, hb, hml, -⟩, -⟩ := X
  simp only [q_do] at e
  split at e
  · cases co with
    | eq => exact q_br_c e k (P := _ = 0) (by simp [q_c1]) fun _ _ _ _ _ tgt ht kt kf => lv_if_eq hx hb hd ht kt kf
    | ne => exact q_br_c e k (P := ¬ _ = 0) (by simp [q_c1]) fun _ _ _ _ _ tgt ht kt kf => lv_if_ne hx hb hd ht kt (fun q => kf (fun n => n q))
    | lt => exact q_br_c e k (P := _ < 0) (by simp [q_c1]) fun _ _ _ _ _ tgt ht kt kf => lv_if_lt hx hb hd ht kt kf
    | ge => exact q_br_c e k (P := 0 ≤ _) (by simp [q_c1]) fun _ _ _ _ _ tgt ht kt kf => lv_if_ge hx hb hd ht kt kf
    | gt => exact q_br_c e k (P := 0 < _) (by simp [q_c1]) fun _ _ _ _ _ tgt ht kt kf => lv_if_gt hx hb hd ht kt kf
    | le => exact q_br_c e k (P := _ ≤ 0) (by simp [q_c1]) fun _ _ _ _ _ tgt ht kt kf => lv_if_le hx hb hd ht kt kf
  · cases e
theorem q_s_if_icmp {co : ClassFile.Cond} {off : Int} (X : q_X w z d cn y code L rt hs) (hd : decode code pc = .ok (.if_icmp co off, 3)) (e : q_do (d, mu, pc, ls, st, h) cn y code rt (.if_icmp co off) = some (.inr (.inl c1))) (k : q_G w z Q L n0 s0 c1) : q_G w z Q L n0 s0 (d, mu, pc, ls, st, h) := by
  obtain ⟨⟨hx, hb, hml, -⟩, -⟩ := X
  simp only [q_do] at e
  split at e
  · cases co with
    | eq => exact q_br_c e k (P := _ = _) (by simp [q_c2]) fun _ _ _ _ _ tgt ht kt kf => lv_icmp_eq hx hb hd ht kt kf
    | ne => exact q_br_c e k (P := ¬ _ = _) (by simp [q_c2]) fun _ _ _ _ _ tgt ht kt kf => lv_icmp_ne hx hb hd ht kt (fun q => kf (fun n => n q))
    | lt => exact q_br_c e k (P := _ < _) (by simp [q_c2]) fun _ _ _ _ _ tgt ht kt kf => lv_icmp_lt hx hb hd ht kt kf
    | ge => exact q_br_c e k (P := _ ≤ _) (by simp [q_c2]) fun _ _ _ _ _ tgt ht kt kf => lv_icmp_ge hx hb hd ht kt kf
    | gt => exact q_br_c e k (P := _ < _) (by simp [q_c2]) fun _ _ _ _ _ tgt ht kt kf => lv_icmp_gt hx hb hd ht kt kf
    | le => exact q_br_c e k (P := _ ≤ _) (by simp [q_c2]) fun _ _ _ _ _ tgt ht kt kf => lv_icmp_le hx hb hd ht kt kf
  · cases e
theorem q_s_lookupswitch {dflt : Int} {ps : Array (Int × Int)} {len : Nat} (X : q_X w z d cn y code L rt hs) (hd : decode code pc = .ok (.lookupswitch dflt ps, len)) (e : q_do (d, mu, pc, ls, st, h) cn y code rt (.lookupswitch dflt ps) = some (.inr (.inl c1))) (k : q_G w z Q L n0 s0 c1) : q_G w z Q L n0 s0 (d, mu, pc, ls, st, h) := by
  obtain ⟨⟨hx, hb, hml, -⟩, -⟩ := X
  simp only [q_do] at e
  split at e
  · split at e
    · rename_i hp
      obtain ⟨ht, rfl⟩ := q_jmp_eq e
      exact fun H locs cells slots as hC hl hL hc hs => lv_lookup hx hb hd hp rfl ht (k H locs cells slots as hC hl hL hc hs)
    · cases e
  · cases e
theorem q_s_tableswitch {dflt lo hi : Int} {offs : Array Int} {len : Nat} (X : q_X w z d cn y code L rt hs) (hd : decode code pc = .ok (.tableswitch dflt lo hi offs, len)) (e : q_do (d, mu, pc, ls, st, h) cn y code rt (.tableswitch dflt lo hi offs) = some (.inr (.inl c1))) (k : q_G w z Q L n0 s0 c1) : q_G w z Q L n0 s0 (d, mu, pc, ls, st, h) := by
  obtain ⟨⟨hx, hb, hml, -⟩, -⟩ := X
  simp only [q_do] at e
  split at e
  · simp only [q_sw] at e
    split at e
    · rename_i hr
      obtain ⟨ht, rfl⟩ := q_jmp_eq e
      exact fun H locs cells slots as hC hl hL hc hs => lv_tableOut hx hb hd hr ht (k H locs cells slots as hC hl hL hc hs)
    · rename_i hr
      split at e
      · rename_i ho
        obtain ⟨ht, rfl⟩ := q_jmp_eq e
        exact fun H locs cells slots as hC hl hL hc hs => lv_tableIn hx hb hd (fun q => hr (Or.inl q)) (fun q => hr (Or.inr q)) ho ht (k H locs cells slots as hC hl hL hc hs)
      · cases e
  · cases e
theorem q_s_iinc {i : Nat} {n : Int} (X : q_X w z d cn y code L rt hs) (hd : decode code pc = .ok (.iinc i n, 3)) (e : q_do (d, mu, pc, ls, st, h) cn y code rt (.iinc i n) = some (.inr (.inl c1))) (k : q_G w z Q L n0 s0 c1) : q_G w z Q L n0 s0 (d, mu, pc, ls, st, h) := by
  obtain ⟨⟨hx, hb, hml, -⟩, -⟩ := X
  simp only [q_do] at e
  split at e
  · rename_i x hi
    split at e
    · rename_i hlt
      obtain rfl := q_nx_eq e
      intro H locs cells slots as hC hl hL hc hs
      have hm : (i, Value.int x) ∈ q_lv (q_F w) ls := q_lv_mem.mpr ⟨_, hi, (fun q => by cases q), rfl⟩
      obtain ⟨kk, hkk⟩ := List.getElem?_of_mem hm
      exact lv_iinc hx hb hd hL.has hkk rfl (by rw [← hL.2.1]; exact hlt) rfl fun as' has => k H locs cells slots as' hC hl (q_Lc.of (by rw [List.length_set]; exact hL.2.1) has (q_lv_set1 hlt rfl)) hc hs
    · cases e
  · cases e
end
