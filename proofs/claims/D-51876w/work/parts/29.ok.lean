/-! all the evidence: the q-machine is sound -/
theorem q_Ev_ok : q_Ev := ⟨q_laysOk_ok, q_eFL_ok, q_eSL_ok, q_eCK_ok, q_eTK_ok, q_eCS_ok, q_eCA_ok, q_eST_ok, q_eAT_ok, q_eAN_ok, q_eNW_ok, q_eNX_ok, q_eI3_ok, q_eI4_ok, q_eI6_ok, q_eNC_ok, q_eM_ok, q_eI0_ok, q_eI1_ok, q_eI2_ok, q_eI7_ok, q_eI5_ok q_laysOk_ok⟩
/-- a run's result, as the contract of the method that it runs -/
theorem q_ct {l : Launch} {w : q_Wd} (hw : q_WD w) (htr : l.stackTraces = false) {d mu : Nat} {as : List Value} {h : q_H} {r : q_R} {cn : Nat} {y : MethodName} {code : ByteArray} {L : Nat} {rt : Option FieldType} {hs : List (Nat × Nat × Nat × Nat)} (_ : q_mt mu = some (cn, y, code, L, rt, hs))
    (hr : q_ev (d, mu, 0, q_ent L as, [], h) = some r) : q_CT l w d mu as h r := by
  obtain ⟨n, hn⟩ := q_ev_iff.mp hr
  have hge : q_ge h r.2 := q_run_ge n _ _ hn
  refine q_entry q_Ev_ok hw htr fun z cn' y' code' L' rt' hs' hl hR hmt X hsz => ?_
  rename_i hmt0
  cases hmt0.symm.trans hmt
  have a1 := hge.1
  have a2 := hge.2
  exact q_main q_Ev_ok hw n _ r hn z _ _ _ _ _ cn y code rt hs X hmt hsz ⟨by omega, by omega⟩ (by rw [hR]; show _ ≤ _ + (r.2.2.1 - h.2.1) ∧ _ ≤ _ + (r.2.2.2 - h.2.2); omega)
