/-! the evidence, as it is asked for -/
theorem q_eFL_ok : q_eFL := fun cn i f own hown h => q_evFL.at hown (q_lkG h)
theorem q_eSL_ok : q_eSL := fun cn i v own hown h => q_evSL.at hown (q_lkG h)
theorem q_eCK_ok : q_eCK := fun cn i v own hown h => q_evCK.at hown (q_lkG h)
theorem q_eTK_ok : q_eTK := fun cn i v own hown h => q_evTK.at hown (q_lkG h)
theorem q_eAN_ok : q_eAN := fun cn i v own hown h => q_evAN.at hown (q_lkG h)
theorem q_eNW_ok : q_eNW := fun cn i v own hown h => q_evNW.at hown (q_lkG h)
theorem q_eCS_ok : q_eCS := fun c tid h => q_evCS.at (List.contains_iff_mem.mp h)
theorem q_eCA_ok : q_eCA := fun t tid h => by
  have h2 := List.contains_iff_mem.mp h
  unfold q_ca at h2
  cases List.mem_singleton.mp h2
  exact ⟨rfl, rfl⟩
/-- java.lang.Math: rows of natives are of floats and doubles alone -/
def q_fds : List String := ["(D)D", "(DD)D", "(DDD)D", "(F)F", "(FF)F", "(FFF)F"]
theorem q_mathRows : (Jvm.natives.all fun r => r.cls != "java/lang/Math" || q_fds.contains r.desc) = true := by decide +kernel
theorem q_mathPlain {x : MethodName} (hc : x.cls = "java/lang/Math") (hd : q_fds.contains x.desc = false) : plainFor x = true := by
  unfold plainFor
  rw [Bool.or_eq_true]; right
  rw [Option.isNone_iff_eq_none, NativeRow.find?, List.find?_eq_none]
  intro r hr h
  have h1 := List.all_eq_true.mp q_mathRows r hr
  simp only [Bool.and_eq_true, beq_iff_eq] at h
  rw [h.1.2, h.2, hc, hd] at h1
  simp at h1
/-- methods: what is checked by looking -/
def q_okM (e : q_Mt) : Bool := (q_own[e.1]? == some e.2.1.cls) && (plainName e.2.1.cls || (e.2.1.cls == "java/lang/Math" && !q_fds.contains e.2.1.desc)) && decide (e.2.2.2.1 ≤ 13) && decide (e.2.1.cls ≠ "java/lang/invoke/MethodHandle") && decide (e.2.1.cls ≠ "java/lang/invoke/VarHandle")
theorem q_okM_all : ((q_ms0.drop 1 :: q_mb.drop 1).all fun l => l.all q_okM) = true := by decide +kernel
theorem q_mt_mem {mu : Nat} {e : q_Mt} (hpos : 0 < mu) (h : q_mt mu = some e) : ∃ l ∈ (q_ms0.drop 1 :: q_mb.drop 1), e ∈ l := by
  unfold q_mt at h
  have hm := List.mem_of_getElem? h
  by_cases h0 : mu / 32 = 0
  · rw [h0] at h
    have h1 : q_ms0[mu % 32]? = some e := h
    refine ⟨_, List.mem_cons_self, ?_⟩
    obtain ⟨k, hk⟩ : ∃ k, mu % 32 = k + 1 := ⟨mu % 32 - 1, by omega⟩
    rw [hk] at h1
    refine List.mem_of_getElem? (i := k) ?_
    rw [List.getElem?_drop, Nat.add_comm]
    exact h1
  · refine ⟨q_mb.getD (mu / 32) [], List.mem_cons_of_mem _ ?_, hm⟩
    obtain ⟨k, hk⟩ : ∃ k, mu / 32 = k + 1 := ⟨mu / 32 - 1, by omega⟩
    rw [hk] at hm ⊢
    rw [List.getD_eq_getElem?_getD] at hm ⊢
    cases hx : q_mb[k + 1]? with
    | none => rw [hx] at hm; cases hm
    | some r =>
      refine List.mem_of_getElem? (i := k) ?_
      rw [List.getElem?_drop, Nat.add_comm]
      exact hx
theorem q_mt_ok {mu : Nat} {e : q_Mt} (hpos : 0 < mu) (h : q_mt mu = some e) : q_own[e.1]? = some e.2.1.cls ∧ plainFor e.2.1 = true ∧ e.2.2.2.1 ≤ 13 ∧ q_nMH e.2.1 ∧ q_pM e := by
  obtain ⟨l, hl, he⟩ := q_mt_mem hpos h
  have h1 := List.all_eq_true.mp (List.all_eq_true.mp q_okM_all l hl) e he
  unfold q_okM at h1
  simp only [Bool.and_eq_true, decide_eq_true_eq, beq_iff_eq] at h1
  refine ⟨h1.1.1.1.1, ?_, h1.1.1.2, ⟨h1.1.2, h1.2⟩, (q_evM.at hl).at he⟩
  have h2 := h1.1.1.1.2
  rw [Bool.or_eq_true] at h2
  rcases h2 with h2 | h2
  · exact plainFor_of_name h2
  · simp only [Bool.and_eq_true, beq_iff_eq, Bool.not_eq_true'] at h2
    exact q_mathPlain h2.1 h2.2
theorem q_eM_ok : q_eM := by
  intro mu cn y code L rt hs hpos h
  obtain ⟨h1, h2, h3, -, h4, h5⟩ := q_mt_ok hpos h
  exact ⟨h1, h2, h3, h4, h5⟩
/-- invocations: what is checked by looking -/
def q_nP (d : String) (n : Nat) : Bool := match parseMethodDescriptor d with
  | some sig => decide (sig.parameters.length = n)
  | none => true
theorem q_nP_s {d : String} {n : Nat} (h : q_nP d n = true) : ∀ sig, parseMethodDescriptor d = some sig → sig.parameters.length = n := by
  intro sig hs
  unfold q_nP at h
  rw [hs] at h
  exact of_decide_eq_true h
def q_okI (q : Nat × Nat × Nat × Nat) : Bool := match q with
  | (_, 0, mu, n) => match q_mt mu with
    | some e => q_nP e.2.1.desc n && decide (0 < mu)
    | none => false
  | (_, 1, mu, n) => match q_mt mu with
    | some e => q_nP e.2.1.desc n && decide (0 < mu)
    | none => false
  | (_, 2, xi, n) => match q_dcl[xi]? with
    | some x => q_nP x.desc n && decide (x.cls ≠ "java/lang/invoke/MethodHandle") && decide (x.cls ≠ "java/lang/invoke/VarHandle")
    | none => false
  | (_, 7, xi, n) => match q_dcl[xi]? with
    | some x => q_nP x.desc n && decide (x.cls ≠ "java/lang/invoke/MethodHandle") && decide (x.cls ≠ "java/lang/invoke/VarHandle")
    | none => false
  | _ => true
theorem q_okI_all : (q_ikT.all fun l => l.all q_okI) = true := by decide +kernel
theorem q_ik_mem {cn i : Nat} {v : Nat × Nat × Nat} (h : q_ik cn i = some v) : q_okI (i, v) = true := by
  have h1 := q_lkG h
  have h2 : q_ikT.getD cn [] ∈ q_ikT := by
    rw [List.getD_eq_getElem?_getD] at h1 ⊢
    cases hx : q_ikT[cn]? with
    | none => rw [hx] at h1; cases h1
    | some r => exact List.mem_of_getElem? hx
  exact List.all_eq_true.mp (List.all_eq_true.mp q_okI_all _ h2) _ h1
theorem q_nar_at {w : q_Wd} (hw : q_WD w) {z : Cond} (h : z ∈ q_nar) : z.before w.2.1 w.1 = true := by
  obtain ⟨p, hp⟩ := q_nar_ok.at h
  exact q_pth_ok p _ _ hp hw.2.2.2.2.2.1
theorem q_eI0_ok : q_eI0 := by
  intro cn i mu n own e hown hik hmt w z c
  have h0 := q_ik_mem hik
  obtain ⟨e', he', h1, h2, h3, h4⟩ : q_pIK own (i, 0, mu, n) := q_evIK.at hown (q_lkG hik)
  cases hmt.symm.trans he'
  simp only [q_okI, hmt, Bool.and_eq_true, decide_eq_true_eq] at h0
  exact q_rs0 c h1 h2 h3 h4 (q_nP_s h0.1) (q_mt_ok h0.2 hmt).2.2.2.1
theorem q_eI1_ok : q_eI1 := by
  intro cn i mu n own e hown hik hmt w z c
  have h0 := q_ik_mem hik
  obtain ⟨e', he', hh⟩ : q_pIK own (i, 1, mu, n) := q_evIK.at hown (q_lkG hik)
  cases hmt.symm.trans he'
  simp only [q_okI, hmt, Bool.and_eq_true, decide_eq_true_eq] at h0
  rcases hh with ⟨bytes, mL, h1, h2, h3, h4⟩ | ⟨h1, h2, h3, h4, h5, h6⟩
  · exact q_rs1i c h1 h2 h3 h4 (q_nP_s h0.1) (q_mt_ok h0.2 hmt).2.2.2.1
  · exact q_rs1s c h1 h2 h3 h4 h5 h6 (q_nP_s h0.1)
theorem q_eI2_ok : q_eI2 := by
  intro cn i x n k mu own C e hown hik hvt hC hmt w z c
  have h0 := q_ik_mem hik
  have hm := q_lkG hvt
  rcases (q_evIK.at hown (q_lkG hik) : q_pIK own (i, 2, x, n)) with hno | ⟨xm, hx, hl, hal⟩
  · rw [hno] at hm; cases hm
  obtain ⟨xm', e', C', hx', he', hC', hd, hi, hs⟩ := hal.at hm
  cases hx.symm.trans hx'
  cases hmt.symm.trans he'
  cases hC.symm.trans hC'
  simp only [q_okI, hx, Bool.and_eq_true, decide_eq_true_eq] at h0
  exact q_rs2 c hl hd hi hs (q_nP_s h0.1.1) ⟨h0.1.2, h0.2⟩
theorem q_eI7_ok : q_eI7 := by
  intro cn i x n k mu count own C e hown hik hvt hC hmt w z c
  have h0 := q_ik_mem hik
  have hm := q_lkG hvt
  rcases (q_evIK.at hown (q_lkG hik) : q_pIK own (i, 7, x, n)) with hno | ⟨xm, hx, hl, hal⟩
  · rw [hno] at hm; cases hm
  obtain ⟨xm', J, e', C', hx', he', hC', hd, hf, hJ, hi, hp, hca, hu, hs⟩ := hal.at hm
  cases hx.symm.trans hx'
  cases hmt.symm.trans he'
  cases hC.symm.trans hC'
  simp only [q_okI, hx, Bool.and_eq_true, decide_eq_true_eq] at h0
  refine q_rs7 c ?_ hd ?_ hJ hi hp hca hu ?_ (q_nP_s h0.1.1) ⟨h0.1.2, h0.2⟩
  · rcases hl with hl | hl
    · exact c.word hl
    · exact word_at c.2.2.2 (Or.inl rfl) (q_nar_at c.2.2.1 hl)
  · rcases hf with hf | hf
    · exact q_ifm (a := w.2.1) c.2.2.2.alike (c.2.2.1.1 _ hf)
    · exact q_ifm c.2.2.2.alike (q_nar_at c.2.2.1 hf)
  · rcases hs with hs | ⟨h1, hs⟩
    · exact Or.inl hs
    · exact Or.inr ⟨h1, q_lid c.2.2.2.alike (q_nar_at c.2.2.1 hs)⟩
