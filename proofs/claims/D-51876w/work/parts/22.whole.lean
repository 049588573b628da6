/-! the q-machine is sound: a whole run -/
theorem q_inv_K {d mu pc : Nat} {ls : q_L} {st : List Value} {h : q_H} {cn i ln op : Nat} {c' c'' : q_C} {K : q_R → Option (q_R ⊕ q_C)} {r1 : q_R} (e : q_inv (d, mu, pc, ls, st, h) cn i ln op = some (.inr (.inr (c', K)))) (hx : K r1 = some (.inr c'')) : c''.1 = d ∧ c''.2.1 = mu := by
  have hc : ∀ {mu' : Nat} {as rest : List Value}, q_call d mu pc ln ls mu' as rest h = some (.inr (.inr (c', K))) → c''.1 = d ∧ c''.2.1 = mu := by
    intro mu' as rest e
    obtain ⟨d', e', rfl, -, -, -, -, -, hK⟩ := q_call_s e
    rw [hK] at hx
    split at hx
    · cases hx; exact ⟨rfl, rfl⟩
    · exact q_thr_sf hx
  simp only [q_inv, q_nx] at e
  repeat' split at e
  all_goals first | cases e | exact hc e
theorem q_do_c {c c' : q_C} {cn : Nat} {y : MethodName} {code : ByteArray} {rt : Option FieldType} {ins : Instr} {ln : Nat} {K : q_R → Option (q_R ⊕ q_C)} (hlk : q_lk ins ln = true) (e : q_do c cn y code rt ins = some (.inr (.inr (c', K)))) :
    ∃ i op, ((op = 0 ∧ ins = .invokestatic i ∧ ln = 3) ∨ (op = 1 ∧ ins = .invokespecial i ∧ ln = 3) ∨ (op = 2 ∧ ins = .invokevirtual i ∧ ln = 3) ∨ (op = 3 ∧ (∃ n, ins = .invokeinterface i n) ∧ ln = 5)) ∧ q_inv c cn i ln op = some (.inr (.inr (c', K))) := by
  obtain ⟨d, mu, pc, ls, st, h⟩ := c
  have hjmp : ∀ {d mu pc : Nat} {ls : q_L} {st : List Value} {h : q_H} {off : Int} {st' : List Value}, q_jmp (d, mu, pc, ls, st, h) off st' = some (.inr (.inr (c', K))) → False := by
    intro d mu pc ls st h off st' e
    simp only [q_jmp, q_nx] at e
    split at e <;> cases e
  have hbr : ∀ {d mu pc : Nat} {ls : q_L} {st : List Value} {h : q_H} {b : Bool} {off : Int} {st' : List Value}, q_br (d, mu, pc, ls, st, h) b off st' = some (.inr (.inr (c', K))) → False := by
    intro d mu pc ls st h b off st' e
    simp only [q_br, q_pu, q_nx] at e
    split at e
    · split at e
      · exact hjmp e
      · cases e
    · cases e
  cases ins with
  | invokestatic i => obtain rfl : 3 = ln := eq_of_beq hlk; exact ⟨i, 0, Or.inl ⟨rfl, rfl, rfl⟩, e⟩
  | invokespecial i => obtain rfl : 3 = ln := eq_of_beq hlk; exact ⟨i, 1, Or.inr (Or.inl ⟨rfl, rfl, rfl⟩), e⟩
  | invokevirtual i => obtain rfl : 3 = ln := eq_of_beq hlk; exact ⟨i, 2, Or.inr (Or.inr (Or.inl ⟨rfl, rfl, rfl⟩)), e⟩
  | invokeinterface i n => obtain rfl : 5 = ln := eq_of_beq hlk; exact ⟨i, 3, Or.inr (Or.inr (Or.inr ⟨rfl, ⟨n, rfl⟩, rfl⟩)), e⟩
  | _ =>
    exfalso
    simp only [q_do, q_ldI, q_ldA, q_ldF, q_ldW, q_ldD, q_stI, q_stA, q_stF, q_stW, q_stD, q_st1, q_st2, q_pu, q_ph, q_sw, q_ret, q_mk, q_nx] at e
    first
      | exact hjmp e
      | cases e
      | (repeat' split at e
         all_goals first
           | cases e
           | exact hjmp e
           | exact hbr e)
theorem q_main (hE : q_Ev) {w : q_Wd} (hw : q_WD w) : ∀ (n : Nat) (c : q_C) (r : q_R), q_run n c = some r → ∀ (z : q_Fr) (L n0 s0 mc ms cn : Nat) (y : MethodName) (code : ByteArray) (rt : Option FieldType) (hs : List (Nat × Nat × Nat × Nat)),
    q_X w z c.1 cn y code L rt hs → q_mt c.2.1 = some (cn, y, code, L, rt, hs) → z.2.1.heap.size + 1000 = w.1.heap.size + n0 → n0 + mc = r.2.2.1 ∧ s0 + ms = r.2.2.2 → r.2.2.1 ≤ n0 + z.1.2.2.2.cells ∧ r.2.2.2 ≤ s0 + z.1.2.2.2.slots →
    q_G w z (q_End w z r mc ms) L n0 s0 c := by
  intro n
  induction n with
  | zero => intro c r h; simp [q_run] at h
  | succ n ih =>
    intro c r h z L n0 s0 mc ms cn y code rt hs X hmu hn0 hfin hN
    have hup := q_step_up c
    rw [q_run] at h
    have hst : q_step c = q_step c := rfl
    conv at hst => rhs; unfold q_step
    rw [hmu] at hst
    dsimp only at hst
    obtain ⟨d, mu, pc, ls, st, h0⟩ := c
    dsimp only at X hmu hst hup
    split at hst
    · rw [hst] at h; cases h
    · rename_i ins ln hd
      split at hst
      · rename_i hlk
        rw [hst] at h hup
        split at h
        · cases h
        · rename_i r' he
          cases h
          exact q_s_end hE X hmu hd hlk he hfin
        · rename_i c' he
          have hge := q_run_ge _ _ _ h
          have hsf := q_sf_do (d, mu, pc, ls, st, h0) cn y code rt ins
          rw [he] at hsf
          have hsf1 : c'.1 = d := hsf.1
          have hsf2 : c'.2.1 = mu := hsf.2
          have h1 := hge.1
          have h2 := hge.2
          have h3 := hN.1
          have h4 := hN.2
          exact q_s_one hE X hmu hn0 ⟨by omega, by omega⟩ hd hlk he hfin (ih c' r h z L n0 s0 mc ms cn y code rt hs (by rw [hsf1]; exact X) (by rw [hsf2]; exact hmu) hn0 hfin hN)
        · rename_i c' K he
          rw [he] at hup
          obtain ⟨r1, hr1, h2⟩ := Option.bind_eq_some_iff.mp h
          have hge1 := q_run_ge _ _ _ hr1
          obtain ⟨i, op, hins, hinv⟩ := q_do_c hlk he
          have hx : ∃ x, K r1 = some x ∧ (match x with | .inl r' => some r' | .inr c'' => q_run n c'') = some r := by
            split at h2
            · cases h2
            · rename_i r' hk; exact ⟨_, hk, h2⟩
            · rename_i c'' hk; exact ⟨_, hk, h2⟩
          obtain ⟨x, hx, h3⟩ := hx
          have hge2 : q_ge r1.2 r.2 := by
            have h5 := hup.2 r1 x hx
            cases x with
            | inl r' => cases h3; exact h5
            | inr c'' => exact h5.tr (q_run_ge _ _ _ h3)
          have hgea : q_ge h0 r1.2 := hup.1.tr hge1
          have a1 := hge2.1
          have a2 := hge2.2
          have a3 := hN.1
          have a4 := hN.2
          refine q_s_call hE X hmu hd hins hinv (fun d' mu' as hen => ?_) hgea ⟨by omega, by omega⟩ hfin hx ?_
          · obtain ⟨e', hmt', hpos, hfl, rfl⟩ := hen
            refine q_entry hE hw X.2.2.2.1 (fun z' cn' y' code' L' rt' hs' hl hR hmt'' X' hsz => ?_)
            cases hmt'.symm.trans hmt''
            have b1 := hgea.1
            have b2 := hgea.2
            exact ih _ r1 hr1 z' _ _ _ _ _ cn' y' code' rt' hs' X' hmt'' hsz ⟨by omega, by omega⟩ (by rw [hR]; show _ ≤ _ + (r1.2.2.1 - h0.2.1) ∧ _ ≤ _ + (r1.2.2.2 - h0.2.2); omega)
          · cases x with
            | inl r' => cases h3; exact rfl
            | inr c'' =>
              have hcd : c''.1 = d ∧ c''.2.1 = mu := q_inv_K hinv hx
              exact ih c'' r h3 z L n0 s0 mc ms cn y code rt hs (by rw [hcd.1]; exact X) (by rw [hcd.2]; exact hmu) hn0 hfin hN
      · rw [hst] at h; cases h
