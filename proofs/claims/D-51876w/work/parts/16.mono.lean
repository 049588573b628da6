/-! the q-machine: heaps grow -/
def q_ge (h h' : q_H) : Prop := h.2.1 ≤ h'.2.1 ∧ h.2.2 ≤ h'.2.2
theorem q_ge.rf {h : q_H} : q_ge h h := ⟨Nat.le_refl _, Nat.le_refl _⟩
theorem q_ge.tr {h h1 h2 : q_H} (a : q_ge h h1) (b : q_ge h1 h2) : q_ge h h2 := ⟨Nat.le_trans a.1 b.1, Nat.le_trans a.2 b.2⟩
theorem q_ge.eq {h h' : q_H} (e : h'.2 = h.2) : q_ge h h' := by unfold q_ge; rw [e]; exact q_ge.rf
theorem q_ge.new {h : q_H} {e : q_Ob} {n : Nat} : q_ge h (q_new h e n) := ⟨Nat.le_succ _, Nat.le_add_right _ _⟩
theorem q_pf_2 {h h' : q_H} {a f : Nat} {v : Value} (e : q_pf h a f v = some h') : h'.2 = h.2 := by
  unfold q_pf at e
  split at e
  · obtain ⟨k, -, e⟩ := Option.bind_eq_some_iff.mp e
    split at e
    · split at e
      · cases e; rfl
      · cases e
    · cases e
  · cases e
theorem q_wrI_2 {h h' : q_H} {a t : Nat} {i x : Int32} (e : q_wrI h a i x t = some h') : h'.2 = h.2 := by
  unfold q_wrI at e
  split at e
  · split at e
    · cases e
    · cases e; rfl
  · cases e
theorem q_wrB_2 {h h' : q_H} {a : Nat} {i x : Int32} (e : q_wrB h a i x = some h') : h'.2 = h.2 := by
  unfold q_wrB at e
  split at e
  · exact q_wrI_2 e
  · exact q_wrI_2 e
  · cases e
theorem q_wrL_2 {h h' : q_H} {a : Nat} {i : Int32} {x : Int64} (e : q_wrL h a i x = some h') : h'.2 = h.2 := by
  unfold q_wrL at e
  split at e
  · split at e
    · cases e
    · cases e; rfl
  · cases e
theorem q_wrD_2 {h h' : q_H} {a : Nat} {i : Int32} {x : UInt64} (e : q_wrD h a i x = some h') : h'.2 = h.2 := by
  unfold q_wrD at e
  split at e
  · split at e
    · cases e
    · cases e; rfl
  · cases e
theorem q_wrQ_2 {h h' : q_H} {a : Nat} {i : Int32} {v : Value} (e : q_wrQ h a i v = some h') : h'.2 = h.2 := by
  unfold q_wrQ at e
  split at e
  · split at e
    · cases e
    · split at e
      · cases e; rfl
      · split at e
        · split at e
          · cases e; rfl
          · cases e
        · cases e
      · cases e
  · cases e
theorem q_cp_2 {h h' : q_H} {a b : Nat} {sp dp n : Int32} (e : q_cp h a sp b dp n = some h') : h'.2 = h.2 := by
  unfold q_cp at e
  split at e
  · cases e
  · split at e
    · split at e
      · cases e; rfl
      · cases e
    · split at e
      · cases e; rfl
      · cases e
    · cases e
def q_xh (x : q_R ⊕ q_C) : q_H := match x with
  | .inl r => r.2
  | .inr c => c.2.2.2.2.2
theorem q_thr_2 {d mu pc q : Nat} {ls : q_L} {h : q_H} {r : q_R ⊕ q_C} (e : q_thr d mu pc ls h q = some r) : q_xh r = h := by
  unfold q_thr at e
  split at e
  · split at e
    · cases e; rfl
    · cases e; rfl
    · cases e
  · cases e
/-- what a step's heaps are -/
def q_up (h : q_H) (s : q_S) : Prop := match s with
  | none => True
  | some (.inl r) => q_ge h r.2
  | some (.inr (.inl c')) => q_ge h c'.2.2.2.2.2
  | some (.inr (.inr (c', k))) => q_ge h c'.2.2.2.2.2 ∧ ∀ r x, k r = some x → q_ge r.2 (q_xh x)
theorem q_up_call {d mu pc len mu' : Nat} {ls : q_L} {as rest : List Value} {h : q_H} : q_up h (q_call d mu pc len ls mu' as rest h) := by
  unfold q_call
  split
  · split
    · refine ⟨q_ge.rf, fun r x hx => ?_⟩
      dsimp only at hx
      split at hx
      · cases hx; exact q_ge.rf
      · have := q_thr_2 hx
        rw [this]; exact q_ge.rf
    · trivial
  · trivial
theorem q_up_jmp {d mu pc : Nat} {ls : q_L} {st st' : List Value} {h : q_H} {off : Int} : q_up h (q_jmp (d, mu, pc, ls, st, h) off st') := by
  simp only [q_jmp]
  split
  · exact q_ge.rf
  · trivial
theorem q_up_br {d mu pc : Nat} {ls : q_L} {st st' : List Value} {h : q_H} {off : Int} {b : Bool} : q_up h (q_br (d, mu, pc, ls, st, h) b off st') := by
  simp only [q_br]
  split
  · split
    · exact q_up_jmp
    · exact q_ge.rf
  · trivial
theorem q_up_inv {d mu pc : Nat} {ls : q_L} {st : List Value} {h : q_H} {cn i ln op : Nat} : q_up h (q_inv (d, mu, pc, ls, st, h) cn i ln op) := by
  simp only [q_inv]
  repeat' split
  all_goals first
    | trivial
    | exact q_up_call
    | exact q_ge.rf
    | exact q_ge.new
    | exact q_ge.eq (q_cp_2 (by assumption))
theorem q_up_do (c : q_C) (cn : Nat) (y : MethodName) (code : ByteArray) (rt : Option FieldType) (ins : Instr) : q_up c.2.2.2.2.2 (q_do c cn y code rt ins) := by
  obtain ⟨d, mu, pc, ls, st, h⟩ := c
  show q_up h _
  cases ins
  all_goals simp only [q_do, q_ldI, q_ldA, q_ldF, q_ldW, q_ldD, q_stI, q_stA, q_stF, q_stW, q_stD, q_st1, q_st2, q_pu, q_ph, q_sw, q_ret, q_mk]
  all_goals first | trivial | exact q_up_inv | exact q_up_jmp | exact q_ge.rf | (repeat' split)
  all_goals first
    | trivial
    | exact q_ge.rf
    | exact q_up_jmp
    | exact q_up_br
    | exact q_ge.new
    | exact q_ge.eq (q_pf_2 (by assumption))
    | exact q_ge.eq (q_wrI_2 (by assumption))
    | exact q_ge.eq (q_wrB_2 (by assumption))
    | exact q_ge.eq (q_wrL_2 (by assumption))
    | exact q_ge.eq (q_wrD_2 (by assumption))
    | exact q_ge.eq (q_wrQ_2 (by assumption))
    | (have := q_thr_2 (by assumption); exact q_ge.eq (congrArg (fun h : q_H => h.2) this))
    | (rename_i heq hlt; cases heq; exact q_ge.rf)
theorem q_step_up (c : q_C) : q_up c.2.2.2.2.2 (q_step c) := by
  unfold q_step
  split
  · trivial
  · split
    · trivial
    · split
      · exact q_up_do _ _ _ _ _ _
      · trivial
theorem q_run_ge : ∀ (n : Nat) (c : q_C) (r : q_R), q_run n c = some r → q_ge c.2.2.2.2.2 r.2 := by
  intro n
  induction n with
  | zero => intro c r h; simp [q_run] at h
  | succ n ih =>
    intro c r h
    have hu := q_step_up c
    rw [q_run] at h
    split at h
    · exact absurd h (by simp)
    · rename_i he; rw [he] at hu; cases h; exact hu
    · rename_i c' he; rw [he] at hu; exact hu.tr (ih _ _ h)
    · rename_i c' k he
      rw [he] at hu
      obtain ⟨r1, h1, h2⟩ := Option.bind_eq_some_iff.mp h
      have g1 := hu.1.tr (ih _ _ h1)
      split at h2
      · exact absurd h2 (by simp)
      · rename_i hk; cases h2; exact g1.tr (hu.2 _ _ hk)
      · rename_i c'' hk; exact (g1.tr (hu.2 _ _ hk)).tr (ih _ _ h2)
