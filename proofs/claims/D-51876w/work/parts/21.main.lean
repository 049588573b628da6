/-! the q-machine is sound: calls, entries, a whole run -/
theorem q_call_s {d mu pc len mu' : Nat} {ls : q_L} {as rest : List Value} {h : q_H} {c' : q_C} {K : q_R → Option (q_R ⊕ q_C)} (e : q_call d mu pc len ls mu' as rest h = some (.inr (.inr (c', K)))) :
    ∃ (d' : Nat) (e' : q_Mt), d = d' + 1 ∧ q_mt mu' = some e' ∧ q_cat rest ≤ 8 ∧ (as.flatMap fun v => if v.category = 2 then [some v, none] else [some v]).length ≤ e'.2.2.2.1 ∧ 0 < mu' ∧ c' = (d', mu', 0, q_ent e'.2.2.2.1 as, [], h) ∧
      ∀ r, K r = (match r.1 with | .inl v => some (.inr (d' + 1, mu, pc + len, ls, v.toList ++ rest, r.2)) | .inr q => q_thr (d' + 1) mu pc ls r.2 q) := by
  unfold q_call at e
  split at e
  · rename_i hmt
    split at e
    · rename_i hc
      cases e
      exact ⟨_, _, rfl, hmt, hc.1, hc.2.1, hc.2.2, rfl, fun r => rfl⟩
    · cases e
  · cases e
theorem q_lk_mem {c m : Nat} : ∀ l : List (Nat × Nat), l.lookup c = some m → (c, m) ∈ l := by
  intro l
  induction l with
  | nil => intro h; cases h
  | cons q t ih =>
    intro h
    obtain ⟨a, b⟩ := q
    rw [List.lookup_cons] at h
    split at h
    · rename_i he
      cases h
      rw [eq_of_beq he]
      exact List.mem_cons_self
    · exact List.mem_cons_of_mem _ (ih h)
theorem q_vt_ok : (q_vtT.all fun r => r.all fun p => decide (p.1 < q_nm.length)) = true := by decide +kernel
theorem q_vt_nm {x c m : Nat} (e : q_vt x c = some m) : ∃ nm, q_nm[c]? = some nm := by
  unfold q_vt at e
  have h1 := q_lk_mem _ e
  have h2 : q_vtT.getD x [] ∈ q_vtT := by
    rw [List.getD_eq_getElem?_getD] at h1 ⊢
    cases hx : q_vtT[x]? with
    | none => rw [hx] at h1; cases h1
    | some r => exact List.mem_of_getElem? hx
  have h3 := of_decide_eq_true (List.all_eq_true.mp (List.all_eq_true.mp q_vt_ok _ h2) _ h1)
  exact ⟨_, List.getElem?_eq_getElem h3⟩
/-- what a callee is entered with -/
def q_en (h : q_H) (c' : q_C) (d' mu' : Nat) (as : List Value) : Prop := ∃ e' : q_Mt, q_mt mu' = some e' ∧ 0 < mu' ∧ (as.flatMap fun v => if v.category = 2 then [some v, none] else [some v]).length ≤ e'.2.2.2.1 ∧ c' = (d', mu', 0, q_ent e'.2.2.2.1 as, [], h)
section
variable {w : q_Wd} {z : q_Fr} {Q : State → Prop} {L n0 s0 mc ms : Nat} {cn : Nat} {y : MethodName} {code : ByteArray} {rt : Option FieldType} {hs : List (Nat × Nat × Nat × Nat)}
variable {d mu pc : Nat} {ls : q_L} {st : List Value} {h : q_H} {c1 : q_C}
theorem q_s_call (hE : q_Ev) {ins : Instr} {i ln op : Nat} {c' : q_C} {K : q_R → Option (q_R ⊕ q_C)} {r1 rf : q_R} {x : q_R ⊕ q_C} (X : q_X w z d cn y code L rt hs) (hmu : q_mt mu = some (cn, y, code, L, rt, hs)) (hd : decode code pc = .ok (ins, ln))
    (hins : (op = 0 ∧ ins = .invokestatic i ∧ ln = 3) ∨ (op = 1 ∧ ins = .invokespecial i ∧ ln = 3) ∨ (op = 2 ∧ ins = .invokevirtual i ∧ ln = 3) ∨ (op = 3 ∧ (∃ n, ins = .invokeinterface i n) ∧ ln = 5)) (e : q_inv (d, mu, pc, ls, st, h) cn i ln op = some (.inr (.inr (c', K))))
    (hct : ∀ (d' mu' : Nat) (as : List Value), q_en h c' d' mu' as → q_CT z.1.2.1 w d' mu' as h r1) (hge : q_ge h r1.2) (hN : r1.2.2.1 ≤ n0 + z.1.2.2.2.cells ∧ r1.2.2.2 ≤ s0 + z.1.2.2.2.slots) (hfin : n0 + mc = rf.2.2.1 ∧ s0 + ms = rf.2.2.2) (hx : K r1 = some x) (k : q_kx w z rf mc ms L n0 s0 x) :
    q_G w z (q_End w z rf mc ms) L n0 s0 (d, mu, pc, ls, st, h) := by
  have hctx : q_Ctx w z y.cls := ⟨X.1.1, X.1.2.2.2.2.2.1, X.2.1, X.2.2.1⟩
  have hown : q_own[cn]? = some y.cls := X.2.2.2.2.2.2.1
  have hnx : ∀ {c : q_C}, q_nx c = some (.inr (.inr (c', K))) → False := fun e => nomatch e
  simp only [q_inv] at e
  split at e
  · rename_i hik
    split at e
    · rename_i hop
      subst hop
      split at e
      · rename_i hpop
        obtain ⟨hlen, hst⟩ := q_pop_s hpop
        obtain ⟨d', e', rfl, hmt, hcat, hfl, hpos, hc', hK⟩ := q_call_s e
        rcases hins with ⟨-, rfl, rfl⟩ | ⟨h0, -⟩ | ⟨h0, -⟩ | ⟨h0, -⟩
        · exact q_callW hE.laysOk hE.eCS hE.eTK hE.eNC hE.eM X hmu hd hmt hpos (hE.eI0 cn i _ _ _ e' hown hik hmt w z hctx) hcat hfl (hct _ _ _ ⟨e', hmt, hpos, hfl, hc'⟩) hge hN hfin (fun H hC => by show (_ : List Value).length = _; rw [List.length_map]; exact hlen) ((hK r1).symm.trans hx) k hst
        · cases h0
        · cases h0
        · cases h0
      · cases e
    · cases e
  · rename_i hik
    split at e
    · rename_i hop
      subst hop
      split at e
      · rename_i hpop
        obtain ⟨hlen, hst⟩ := q_pop_s hpop
        split at e
        · rename_i hsome
          obtain ⟨d', e', rfl, hmt, hcat, hfl, hpos, hc', hK⟩ := q_call_s e
          rcases hins with ⟨h0, -⟩ | ⟨-, rfl, rfl⟩ | ⟨h0, -⟩ | ⟨h0, -⟩
          · cases h0
          · refine q_callW hE.laysOk hE.eCS hE.eTK hE.eNC hE.eM X hmu hd hmt hpos (hE.eI1 cn i _ _ _ e' hown hik hmt w z hctx) hcat hfl (hct _ _ _ ⟨e', hmt, hpos, hfl, hc'⟩) hge hN hfin (fun H hC => ?_) ((hK r1).symm.trans hx) k hst
            obtain ⟨k0, hcls⟩ := Option.isSome_iff_exists.mp hsome
            obtain ⟨bb, fs, hob⟩ : ∃ bb fs, h.1 _ = some (bb, .inr (k0, fs)) := by
              unfold q_cls at hcls
              split at hcls
              · rename_i hob; cases hcls; exact ⟨_, _, hob⟩
              · cases hcls
            obtain ⟨b', cell, nm', hb', hcell, hst', -, hnm', hcl, -⟩ := q_obj X.2.1 hE.laysOk hC X.2.2.1 hob
            obtain ⟨kB, hkB, -⟩ := Vm.findClass_spec hcl
            refine ⟨b', _, by rw [List.map_cons, q_vm_ref hb'], ?_, cell, kB, hcell, hst', hkB, fun C hC' => nomatch hC'⟩
            rw [List.length_map]
            rw [List.length_cons] at hlen
            omega
          · cases h0
          · cases h0
        · cases e
      · cases e
    · cases e
  · rename_i hik
    split at e
    · rename_i hop
      subst hop
      split at e
      · rename_i hpop
        obtain ⟨hlen, hst⟩ := q_pop_s hpop
        split at e
        · rename_i k0 hcls
          split at e
          · rename_i hvt
            obtain ⟨d', e', rfl, hmt, hcat, hfl, hpos, hc', hK⟩ := q_call_s e
            obtain ⟨bb, fs, hob⟩ : ∃ bb fs, h.1 _ = some (bb, .inr (k0, fs)) := by
              unfold q_cls at hcls
              split at hcls
              · rename_i hob; cases hcls; exact ⟨_, _, hob⟩
              · cases hcls
            obtain ⟨nm, hnm⟩ := q_vt_nm hvt
            rcases hins with ⟨h0, -⟩ | ⟨h0, -⟩ | ⟨-, rfl, rfl⟩ | ⟨h0, -⟩
            · cases h0
            · cases h0
            · refine q_callW hE.laysOk hE.eCS hE.eTK hE.eNC hE.eM X hmu hd hmt hpos (hE.eI2 cn i _ _ k0 _ _ nm e' hown hik hvt hnm hmt w z hctx) hcat hfl (hct _ _ _ ⟨e', hmt, hpos, hfl, hc'⟩) hge hN hfin (fun H hC => ?_) ((hK r1).symm.trans hx) k hst
              obtain ⟨b', cell, nm', hb', hcell, hst', -, hnm', hcl, -⟩ := q_obj X.2.1 hE.laysOk hC X.2.2.1 hob
              cases hnm.symm.trans hnm'
              obtain ⟨kB, hkB, -⟩ := Vm.findClass_spec hcl
              refine ⟨b', _, by rw [List.map_cons, q_vm_ref hb'], ?_, cell, kB, hcell, hst', hkB, fun C hC' => ?_⟩
              · rw [List.length_map]
                rw [List.length_cons] at hlen
                omega
              · cases hC'
                exact hcl
            · cases h0
          · cases e
        · cases e
      · cases e
    · cases e
  · rename_i hik
    split at e
    · rename_i hop
      subst hop
      split at e
      · rename_i hpop
        obtain ⟨hlen, hst⟩ := q_pop_s hpop
        split at e
        · rename_i k0 hcls
          split at e
          · rename_i hvt
            obtain ⟨d', e', rfl, hmt, hcat, hfl, hpos, hc', hK⟩ := q_call_s e
            obtain ⟨bb, fs, hob⟩ : ∃ bb fs, h.1 _ = some (bb, .inr (k0, fs)) := by
              unfold q_cls at hcls
              split at hcls
              · rename_i hob; cases hcls; exact ⟨_, _, hob⟩
              · cases hcls
            obtain ⟨nm, hnm⟩ := q_vt_nm hvt
            rcases hins with ⟨h0, -⟩ | ⟨h0, -⟩ | ⟨h0, -⟩ | ⟨-, ⟨cnt, rfl⟩, rfl⟩
            · cases h0
            · cases h0
            · cases h0
            · refine q_callW hE.laysOk hE.eCS hE.eTK hE.eNC hE.eM X hmu hd hmt hpos (hE.eI7 cn i _ _ k0 _ cnt _ nm e' hown hik hvt hnm hmt w z hctx) hcat hfl (hct _ _ _ ⟨e', hmt, hpos, hfl, hc'⟩) hge hN hfin (fun H hC => ?_) ((hK r1).symm.trans hx) k hst
              obtain ⟨b', cell, nm', hb', hcell, hst', -, hnm', hcl, -⟩ := q_obj X.2.1 hE.laysOk hC X.2.2.1 hob
              cases hnm.symm.trans hnm'
              obtain ⟨kB, hkB, -⟩ := Vm.findClass_spec hcl
              refine ⟨b', _, by rw [List.map_cons, q_vm_ref hb'], ?_, cell, kB, hcell, hst', hkB, fun C hC' => ?_⟩
              · rw [List.length_map]
                rw [List.length_cons] at hlen
                omega
              · cases hC'
                exact hcl
          · cases e
        · cases e
      · cases e
    · cases e
  · repeat' split at e
    all_goals first | cases e | exact (hnx e).elim
  · repeat' split at e
    all_goals first | cases e | exact (hnx e).elim
  · repeat' split at e
    all_goals first | cases e | exact (hnx e).elim
  · repeat' split at e
    all_goals first | cases e | exact (hnx e).elim
  · cases e
end
theorem q_ent_args : ∀ (as : List Value) (pre : q_L) (n k : Nat) (v : Value), (∀ j, j < pre.length → pre.length ≤ k → j < k) → pre.length ≤ k → (pre ++ (as.flatMap fun v => if v.category = 2 then [some v, none] else [some v]) ++ List.replicate n none)[k]? = some (some v) → (k, v) ∈ lv_args pre.length as := by
  intro as
  induction as with
  | nil =>
    intro pre n k v _ hk h
    rw [List.flatMap_nil, List.append_nil, List.getElem?_append_right hk] at h
    rw [List.getElem?_replicate] at h
    split at h <;> cases h
  | cons a t ih =>
    intro pre n k v _ hk h
    rw [lv_args]
    rw [List.flatMap_cons] at h
    by_cases hc : a.category = 2
    · rw [if_pos hc] at h ⊢
      by_cases hk0 : k = pre.length
      · subst hk0
        rw [List.append_assoc, List.getElem?_append_right (Nat.le_refl _), Nat.sub_self] at h
        cases h
        exact List.mem_cons_self
      · by_cases hk1 : k = pre.length + 1
        · subst hk1
          rw [List.append_assoc, List.getElem?_append_right (Nat.le_add_right _ 1), Nat.add_sub_cancel_left] at h
          cases h
        · have := ih (pre ++ [some a, none]) n k v (fun _ _ _ => by rw [List.length_append] at *; simp at *; omega) (by rw [List.length_append]; simp; omega) (by rw [← h]; congr 2; simp)
          rw [List.length_append] at this
          exact List.mem_cons_of_mem _ this
    · rw [if_neg hc] at h ⊢
      by_cases hk0 : k = pre.length
      · subst hk0
        rw [List.append_assoc, List.getElem?_append_right (Nat.le_refl _), Nat.sub_self] at h
        cases h
        exact List.mem_cons_self
      · have := ih (pre ++ [some a]) n k v (fun _ _ _ => by rw [List.length_append] at *; simp at *; omega) (by rw [List.length_append]; simp; omega) (by rw [← h]; congr 2; simp)
        rw [List.length_append] at this
        exact List.mem_cons_of_mem _ this
theorem q_args_map (F : Nat → Option Nat) : ∀ (as : List Value) (k n : Nat) (v : Value), (k, v) ∈ lv_args n as → (k, q_vm F v) ∈ lv_args n (as.map (q_vm F)) := by
  intro as
  induction as with
  | nil => intro k n v h; cases h
  | cons a t ih =>
    intro k n v h
    rw [lv_args] at h
    rw [List.map_cons, lv_args, q_vm_cat]
    rcases List.mem_cons.mp h with h | h
    · cases h; exact List.mem_cons_self
    · exact List.mem_cons_of_mem _ (ih _ _ _ h)
theorem q_sl_len (F : Nat → Option Nat) : ∀ as : List Value, (lg_sl (as.map (q_vm F))).length = (as.flatMap fun v => if v.category = 2 then [some v, none] else [some v]).length := by
  intro as
  induction as with
  | nil => rfl
  | cons a t ih =>
    unfold lg_sl at ih ⊢
    rw [List.map_cons, List.flatMap_cons, List.flatMap_cons, List.length_append, List.length_append, ih, q_vm_cat]
    split <;> rfl
theorem q_ent_Lc {F : Nat → Option Nat} {L : Nat} {as : List Value} (h : (as.flatMap fun v => if v.category = 2 then [some v, none] else [some v]).length ≤ L) : q_Lc F L (q_ent L as) ((lg_sl (as.map (q_vm F)) ++ List.replicate (L - (lg_sl (as.map (q_vm F))).length) Slot.unset).toArray) := by
  have h1 := lv_entry (as.map (q_vm F)) (n := L) (by rw [q_sl_len]; exact h)
  refine ⟨h1.1, ?_, h1.2.1, fun k v hk _ => ?_⟩
  · unfold q_ent
    rw [List.length_append, List.length_replicate]; omega
  · have h2 : (k, v) ∈ lv_args 0 as := q_ent_args as [] (L - (as.flatMap fun v => if v.category = 2 then [some v, none] else [some v]).length) k v (fun j hj => by cases hj) (Nat.zero_le _) (by rw [List.nil_append]; exact hk)
    exact h1.2.2 _ (q_args_map F as k 0 v h2)
section
variable {l : Launch} {w : q_Wd} {d mu : Nat} {as : List Value} {h : q_H} {r : q_R}
theorem q_ofB {y : MethodName} {ws : List Cond} {rm : Room} {Pc : Array Value → State → Prop} {Qc : Array Value → State → Outcome → State → Prop} {XC : Addr → String → State → State → Prop} {mc ms : Nat} {free : Addr → Prop} {cc : ByteArray} {maxL : Nat} {ret : Option FieldType}
    (hy : plainFor y = true) (hcode : ∀ (a : Array Value) (s : State) (m : MethodId), (headSpec ws rm).pre.before a s = true → s.methodNamed? y = some m → ∃ (meth : Method) (c : Code), s.vm.method? m = some meth ∧ meth.code = some c ∧ c.code = cc ∧ c.maxLocals = maxL ∧ meth.sig.returnType = ret ∧ meth.locks = false)
    (body : ∀ p e s m args below meth c s₁, BodyLoose p l y (headSpec ws rm) cc maxL ret e s m args below meth c s₁ → c.maxLocals = maxL → Pc args s →
      W p l e (headSpec ws rm).room s m args below meth c s.heap [] 0 0 (q_MQ below Qc XC args s mc ms free) (entryFrame m args maxL)) : q_Met l y ws rm Pc Qc XC mc ms free := by
  refine MetFree.of_bodySF (code := cc) (maxLocals := maxL) (ret := ret) hy ?_ ?_
  · intro args s m h hn
    exact hcode args s m h hn
  · intro p e s m args below meth c s₁ B hml hP _
    have hh0 : s₁.heap = s.heap := by rw [B.state]; rfl
    obtain ⟨t, a1, o, b1, b2, b3⟩ := body p e s m args below meth c s₁ B hml hP s₁ hh0 (Stand.of_body B)
    exact ⟨t, o, a1, b1, b2, b3⟩
theorem q_entry (hE : q_Ev) (hw : q_WD w) (htr : l.stackTraces = false)
    (body : ∀ (z : q_Fr) (cn : Nat) (y : MethodName) (code : ByteArray) (L : Nat) (rt : Option FieldType) (hs : List (Nat × Nat × Nat × Nat)), z.1.2.1 = l → z.1.2.2.2 = q_rm d (r.2.2.1 - h.2.1) (r.2.2.2 - h.2.2) → q_mt mu = some (cn, y, code, L, rt, hs) → q_X w z d cn y code L rt hs → z.2.1.heap.size + 1000 = w.1.heap.size + h.2.1 →
      q_G w z (q_End w z r (r.2.2.1 - h.2.1) (r.2.2.2 - h.2.2)) L h.2.1 h.2.2 (d, mu, 0, q_ent L as, [], h)) : q_CT l w d mu as h r := by
  intro cn y code L rt hs hmt hpos hfl
  obtain ⟨hown, hplain, hL13, hini, hcodes⟩ := hE.eM mu cn y code L rt hs hpos hmt
  have key : ∀ (ws : List Cond), (∀ (args : Array Value) (s : State) (m : MethodId) (meth : Method) (c : Code), (headSpec ws (q_rm d (r.2.2.1 - h.2.1) (r.2.2.2 - h.2.2))).pre.before args s = true → s.methodNamed? y = some m → s.vm.method? m = some meth → meth.code = some c → c.exceptionTable.toList = tableOf hs) →
      ∀ p e s m args below meth c s₁, BodyLoose p l y (headSpec ws (q_rm d (r.2.2.1 - h.2.1) (r.2.2.2 - h.2.2))) code L rt e s m args below meth c s₁ → c.maxLocals = L → q_Pc w as h args s →
      W p l e (headSpec ws (q_rm d (r.2.2.1 - h.2.1) (r.2.2.2 - h.2.2))).room s m args below meth c s.heap [] 0 0 (q_MQ below (q_Qc w r) (q_XC w r) args s (r.2.2.1 - h.2.1) (r.2.2.2 - h.2.2) (q_fr w)) (entryFrame m args L) := by
    intro ws hws p e s m args below meth c s₁ B hml hP
    obtain ⟨rfl, hC, hW⟩ := hP
    have hX : q_X w ((p, l, e, (headSpec ws (q_rm d (r.2.2.1 - h.2.1) (r.2.2.2 - h.2.2))).room), s, m, (as.map (q_vm (q_F w))).toArray, below, meth, c) d cn y code L rt hs :=
      ⟨⟨B.exec, B.bytes, hml, B.returns, B.notSynchronized, findClass_of_methodNamed B.named, (name_of_methodNamed B.named B.method).1⟩, hw, hW, htr, Nat.le_refl _, Nat.le_refl _, hown, hws _ _ _ _ _ B.pre B.named B.method (Stand.of_body B).code, by have h1 := hC.1; have h2 := hC.2.1; show _ ≤ s.heap.size; omega, hC.2.2.1⟩
    have k := body _ cn y code L rt hs rfl rfl hmt hX hC.1 s.heap [] 0 0 _ hC (fun q hq => nomatch hq) (q_ent_Lc (F := q_F w) hfl) rfl rfl
    rw [lg_entry_eq]
    exact k
  rcases hcodes with ⟨hnil, hcode⟩ | ⟨hnil, hcode⟩
  · refine ⟨_, Or.inl ⟨hnil, rfl⟩, q_ofB (cc := code) (maxL := L) (ret := rt) hplain (fun args s m hh hn => ?_) (key _ fun args s m meth c hh hn h1 h2 => ?_)⟩
    · obtain ⟨meth, c, h1, h2, h3, h4, h5, h6, -, -⟩ := Cond.code_spec hn (atoms_spec (ws := [Cond.code y code L rt]) hh _ List.mem_cons_self)
      exact ⟨meth, c, h1, h2, h3, h4, h5, h6⟩
    · obtain ⟨meth9, c9, h1', h2', -, -, -, -, h7, -⟩ := Cond.code_spec hn (atoms_spec (ws := [Cond.code y code L rt]) hh _ List.mem_cons_self)
      cases Option.some.inj (h1.symm.trans h1')
      cases Option.some.inj (h2.symm.trans h2')
      rw [Array.isEmpty_iff.mp h7, hnil]
      rfl
  · refine ⟨_, Or.inr ⟨hnil, rfl⟩, q_ofB (cc := code) (maxL := L) (ret := rt) hplain (fun args s m hh hn => ?_) (key _ fun args s m meth c hh hn h1 h2 => ?_)⟩
    · obtain ⟨m9, meth, c, hn9, h1, h2, h3, h4, -, h5, h6, -⟩ := Cond.codeWith_spec (atoms_spec (ws := [Cond.codeWith y code L rt hs]) hh _ List.mem_cons_self)
      cases hn.symm.trans hn9
      exact ⟨meth, c, h1, h2, h3, h4, h5, h6⟩
    · obtain ⟨m9, meth9, c9, hn9, h1', h2', -, -, h6, -⟩ := Cond.codeWith_spec (atoms_spec (ws := [Cond.codeWith y code L rt hs]) hh _ List.mem_cons_self)
      cases Option.some.inj (hn.symm.trans hn9)
      cases Option.some.inj (h1.symm.trans h1')
      cases Option.some.inj (h2.symm.trans h2')
      rw [← h6, table_eq]
end
