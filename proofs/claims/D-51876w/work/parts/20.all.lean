/-! the q-machine is sound: returns, calls, a whole run -/
section
variable {w : q_Wd} {z : q_Fr} {Q : State → Prop} {L n0 s0 mc ms : Nat} {cn : Nat} {y : MethodName} {code : ByteArray} {rt : Option FieldType} {hs : List (Nat × Nat × Nat × Nat)}
variable {d mu pc : Nat} {ls : q_L} {st : List Value} {h : q_H} {c1 : q_C}
theorem q_inv_l {c : q_C} {cn i ln op : Nat} {r : q_R} (e : q_inv c cn i ln op = some (.inl r)) : False := by
  obtain ⟨d, mu, pc, ls, st, h⟩ := c
  have hno : ∀ {mu' : Nat} {as rest : List Value}, q_call d mu pc ln ls mu' as rest h = some (.inl r) → False := by
    intro mu' as rest e
    unfold q_call at e
    split at e
    · split at e
      · cases e
      · cases e
    · cases e
  simp only [q_inv, q_nx] at e
  repeat' split at e
  all_goals first | cases e | exact hno e
theorem q_jmp_l {c : q_C} {off : Int} {st' : List Value} {r : q_R} (e : q_jmp c off st' = some (.inl r)) : False := by
  obtain ⟨d, mu, pc, ls, st, h⟩ := c
  simp only [q_jmp, q_nx] at e
  split at e
  · cases e
  · cases e
theorem q_br_l {c : q_C} {b : Bool} {off : Int} {st' : List Value} {r : q_R} (e : q_br c b off st' = some (.inl r)) : False := by
  obtain ⟨d, mu, pc, ls, st, h⟩ := c
  simp only [q_br] at e
  repeat' split at e
  all_goals first | cases e | exact q_jmp_l e
/-- what ends a frame -/
def q_le : Instr → Bool
  | .ireturn | .areturn | .dreturn | .freturn | .return_ | .athrow => true
  | _ => false
theorem q_le_of {c : q_C} {cn : Nat} {y : MethodName} {code : ByteArray} {rt : Option FieldType} {ins : Instr} {r : q_R} (e : q_do c cn y code rt ins = some (.inl r)) : q_le ins = true := by
  obtain ⟨d, mu, pc, ls, st, h⟩ := c
  cases ins
  all_goals first | rfl | skip
  all_goals exfalso
  all_goals simp only [q_do, q_ldI, q_ldA, q_ldF, q_ldW, q_ldD, q_stI, q_stA, q_stF, q_stW, q_stD, q_st1, q_st2, q_pu, q_ph, q_sw, q_ret, q_mk, q_nx] at e
  all_goals first | exact q_inv_l e | exact q_jmp_l e | cases e | (repeat' split at e)
  all_goals first | cases e | exact q_jmp_l e | exact q_br_l e
/-- the end of a frame -/
theorem q_s_end (hE : q_Ev) {ins : Instr} {ln : Nat} {r : q_R} (X : q_X w z d cn y code L rt hs) (hmu : q_mt mu = some (cn, y, code, L, rt, hs)) (hd : decode code pc = .ok (ins, ln)) (hlk : q_lk ins ln = true)
    (e : q_do (d, mu, pc, ls, st, h) cn y code rt ins = some (.inl r)) (hfin : n0 + mc = r.2.2.1 ∧ s0 + ms = r.2.2.2) : q_G w z (q_End w z r mc ms) L n0 s0 (d, mu, pc, ls, st, h) := by
  have hle := q_le_of e
  have hrt := X.1.2.2.2.1
  cases ins with
  | ireturn =>
    obtain rfl : 1 = ln := eq_of_beq hlk
    unfold q_do at e
    dsimp only at e
    cases hrt' : rt with
    | none => rw [hrt'] at e; exfalso; revert e; cases st with
      | nil => exact fun e => nomatch e
      | cons v t => cases v <;> cases t <;> exact fun e => nomatch e
    | some ty =>
      rw [hrt'] at e
      split at e
      · rename_i x ty' hty
        cases hty
        split at e
        · rename_i hn
          cases e
          exact q_s_ireturn X hd hrt' hn hfin
        · cases e
      · cases e
  | dreturn =>
    obtain rfl : 1 = ln := eq_of_beq hlk
    unfold q_do at e
    dsimp only at e
    generalize hrt' : rt = rt' at e
    split at e
    · cases e
      exact q_s_dreturn X hd hrt' hfin
    · cases e
  | freturn =>
    obtain rfl : 1 = ln := eq_of_beq hlk
    unfold q_do at e
    dsimp only at e
    generalize hrt' : rt = rt' at e
    split at e
    · cases e
      exact q_s_freturn X hd hrt' hfin
    · cases e
  | areturn =>
    obtain rfl : 1 = ln := eq_of_beq hlk
    unfold q_do at e
    dsimp only at e
    generalize hrt' : rt = rt' at e
    split at e
    · split at e
      · rename_i hv
        cases e
        exact q_s_areturn X hd hrt' (Or.inl ⟨_, rfl⟩) hv hfin
      · cases e
    · split at e
      · rename_i hv
        cases e
        exact q_s_areturn X hd hrt' (Or.inr ⟨_, rfl⟩) hv hfin
      · cases e
    · cases e
  | return_ =>
    obtain rfl : 1 = ln := eq_of_beq hlk
    unfold q_do at e
    dsimp only at e
    generalize hrt' : rt = rt' at e
    split at e
    · cases e
      exact q_s_return X hd hrt' hfin
    · cases e
  | athrow =>
    obtain rfl : 1 = ln := eq_of_beq hlk
    simp only [q_do] at e
    split at e
    · split at e
      · rename_i ht
        cases e
        intro H locs cells slots as hC hl hL hc hs'
        obtain ⟨⟨b, ob⟩, hk⟩ : ∃ x, h.1 _ = some x := by
          unfold q_thr at ht
          split at ht
          · rename_i hk; exact ⟨_, hk⟩
          · cases ht
        obtain ⟨q, hq, -⟩ := q_kn_at hC (Option.isSome_iff_exists.mpr ⟨_, hk⟩)
        show q_W z H locs cells slots _ (F0 z.2.2.1 pc as (q_vm (q_F w) (.ref _) :: _))
        rw [q_vm_ref hq]
        exact vx_athrow X.1.1 X.1.2.1 hd (q_thr_s hE.laysOk hE.eCS hE.eTK hE.eNC X hmu ht hfin rfl rfl hC hl hL hc hs' hq)
      · cases e
      · cases e
    · cases e
  | _ => exact nomatch hle
end
