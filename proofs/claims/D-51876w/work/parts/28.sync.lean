/-! getCause is sound -/
abbrev q_gf0 (m : MethodId) (r pc : Nat) (st : List Value) : JFrame := { method := m, pc := pc, locals := #[.val (.ref r)], stack := st, locked := some r, monitorRoom := 1 }
section
variable {p : Program} {l : Launch} {e : Env} {R : Room} {s : State} {m : MethodId} {args : Array Value} {below : List Frame} {meth : Method} {c : Code} {T : State} {r : Addr} {cell : Cell}
theorem q_gcEnd (X : Stand p l e R (s.setCell r (cell.withEntry s.cur)) m args below meth c T [] 0 0) (hT : T.heap = (s.setCell r (cell.withEntry s.cur)).heap) (hs : s.heap[r]? = some cell) (hent : cell.enterable s.cur) (hlocks : meth.locks = true) (hexec : p.tables.exec = Jvm.exec) (hb : c.code = prog_54_method_8_code) (hr : meth.sig.returnType = some (.object "java/lang/Throwable")) {v : Value} (hv : v = .null ∨ ∃ a, v = .ref a)
    {Qc : Array Value → State → Outcome → State → Prop} {XC : Addr → String → State → State → Prop} {free : Addr → Prop} (hq : ∀ t : State, t.heap = s.heap → s.WarmedH t.vm → Qc args s (.returned (some v)) t) :
    ∃ s₂ o, Steps p.tables e below (T.setTop (q_gf0 m r 16 [v])) s₂ ∧ s₂.status = .running ∧ Ended s₂ below o ∧ q_Q_ Qc XC 0 0 free args s o s₂ := by
  obtain ⟨fs, cellT, hcT, hret, hrun, hended, hW, hsame⟩ := X.leaveSync hs hent hlocks (v := some v) (fun h => by rw [hr] at h; cases h)
  have hlt : r < s.heap.size := (Array.getElem?_eq_some_iff.mp hs).1
  have hcc : cellT = cell.withEntry s.cur := by
    have h1 : (s.heap.setIfInBounds r (cell.withEntry s.cur))[r]? = some cellT := by rw [← hcT, hT]; rfl
    simpa [hlt] using h1.symm
  have hheap : ((T.setCell r cellT.left).setFrames fs).heap = s.heap := by
    show T.heap.setIfInBounds r cellT.left = s.heap
    rw [hT, hcc, Cell.left_withEntry' hent]
    show (s.heap.setIfInBounds r _).setIfInBounds r cell = s.heap
    rw [Array.setIfInBounds_setIfInBounds]
    have h2 : (s.setCell r cell).heap = s.heap := by rw [State.setCell_same hs]
    exact h2
  have hmeth' : T.vm.method? m = some meth := X.method'
  refine ⟨_, .returned (some v), ?_, hrun, hended, Or.inl ⟨hq _ hheap hW, [], ⟨⟨_, rfl⟩, hW, hsame⟩, fun q hq => nomatch hq⟩⟩
  rcases hv with rfl | ⟨a, rfl⟩ <;>
    (jvm_step X.here [X.here.top, hexec, hb, q_gcd16, hmeth', hr]
     (try refine ⟨rfl, ?_⟩); (try refine ⟨rfl, ?_⟩)
     first | (intro acts; rw [hret _ acts rfl rfl rfl]) | rw [hret _ _ rfl rfl rfl]
     exact Steps.refl _)
/-- the walk -/
theorem q_gcWalk (X : Stand p l e R s m args below meth c T [] 0 0) (hexec : p.tables.exec = Jvm.exec) (hb : c.code = prog_54_method_8_code) (hown : s.vm.findClass "java/lang/Throwable" = some m.cls) (hlink : (Cond.fieldLink "java/lang/Throwable" 7 "java/lang/Throwable" "cause" "Ljava/lang/Throwable;").before args s = true)
    {cf i : Nat} {k : Class} {f : Field} (hi : s.fieldFound? "java/lang/Throwable" "cause" "Ljava/lang/Throwable;" = some (cf, k, i, f)) (hst : f.isStatic = false) (hcell : T.heap[r]? = some cell) (hknown : cell.vm ≠ .unknown) {rv : Option Nat} (hslot : cell.slots[f.slot]? = some (va_rf rv)) :
    ∃ T' : State, Stand p l e R s m args below meth c T' [] 0 0 ∧ T'.heap = T.heap ∧ ∀ U, Steps p.tables e below (T'.setTop (q_gf0 m r 16 [if rv = some r then .null else va_rf rv])) U → Steps p.tables e below (T.setTop (q_gf0 m r 0 [])) U := by
  obtain ⟨vm1, X1, st1⟩ := X.getfield hexec hown hlink hi hst hcell hknown hslot (g := q_gf0 m r 1 [.ref r]) rfl rfl (by rw [hb]; exact q_gcd1)
  have h0 : ∀ U, Steps p.tables e below ((T.setVm vm1).setTop (q_gf0 m r 5 [.ref r, va_rf rv])) U → Steps p.tables e below (T.setTop (q_gf0 m r 0 [])) U := by
    intro U hU
    jvm_step X.here [X.here.top, hexec, hb, q_gcd0, Value.isRef]
    refine st1 _ ?_
    show Steps p.tables e below ((T.setVm vm1).setTop (q_gf0 m r 4 [va_rf rv])) U
    jvm_step X1.here [X.here.top, X1.here.top, hexec, hb, q_gcd4, Value.isRef]
    exact hU
  by_cases hr : rv = some r
  · subst hr
    refine ⟨T.setVm vm1, X1, rfl, fun U hU => h0 U ?_⟩
    rw [if_pos rfl] at hU
    jvm_step X1.here [X.here.top, X1.here.top, hexec, hb, q_gcd5, va_rf, Value.asRef?, Op.if_acmp.holds]
    jvm_step X1.here [X.here.top, X1.here.top, hexec, hb, q_gcd8]
    jvm_step X1.here [X.here.top, X1.here.top, hexec, hb, q_gcd9]
    exact hU
  · obtain ⟨vm2, X2, st2⟩ := X1.getfield hexec hown hlink hi hst hcell hknown hslot (g := q_gf0 m r 13 [.ref r]) rfl rfl (by rw [hb]; exact q_gcd13)
    refine ⟨(T.setVm vm1).setVm vm2, X2, rfl, fun U hU => h0 U ?_⟩
    rw [if_neg hr] at hU
    have hgo : Steps p.tables e below ((T.setVm vm1).setTop (q_gf0 m r 12 [])) U := by
      jvm_step X1.here [X.here.top, X1.here.top, hexec, hb, q_gcd12, Value.isRef]
      exact st2 _ hU
    cases rv with
    | none =>
      jvm_step X1.here [X.here.top, X1.here.top, hexec, hb, q_gcd5, va_rf, Value.asRef?, Op.if_acmp.holds]
      exact hgo
    | some b =>
      have hbr : ¬ b = r := fun h => hr (by rw [h])
      jvm_step X1.here [X.here.top, X1.here.top, hexec, hb, q_gcd5, va_rf, Value.asRef?, Op.if_acmp.holds, hbr]
      exact hgo
end
theorem q_F_inj {w : q_Wd} {h : q_H} {H : Heap} (hC : q_Cor w h H) {a b : Nat} (ha : 1000 ≤ a) (hb : (h.1 b).isSome = true) : (q_F w b = some (w.1.heap.size + (a - 1000))) ↔ b = a := by
  obtain ⟨rb, hrb, h1, h2⟩ := q_kn_at hC hb
  constructor
  · intro e
    rw [hrb] at e
    have e2 : rb = w.1.heap.size + (a - 1000) := Option.some.inj e
    rcases Nat.lt_or_ge b 1000 with hlt | hge
    · have := (h2 hlt).1; omega
    · have := h1 hge; omega
  · rintro rfl
    exact q_F_new w ha
theorem q_gcMet {l : Launch} {w : q_Wd} (hw : q_WD w) (hlo : q_laysOk) {h : q_H} {a : Nat} {x : Value} (hcls : q_cls h a = some q_cFmt) (hge : 1000 ≤ a)
    (hx : (∃ b : Nat, q_gf h a q_fCause = some (.ref b) ∧ (h.1 b).isSome = true ∧ x = if b = a then .null else .ref b) ∨ (q_gf h a q_fCause = some .null ∧ x = .null)) :
    q_Met l q_gcN [Cond.codeSync q_gcN prog_54_method_8_code 1 (some (.object "java/lang/Throwable")), Cond.instanceMethod q_gcN] (q_rm 1 0 0) (q_Pc w [.ref a] h) (q_Qc w (.inl (some x), h)) (q_XC w (.inl (some x), h)) 0 0 (q_fr w) := by
  obtain ⟨bb, fs, hob⟩ : ∃ bb fs, h.1 a = some (bb, .inr (q_cFmt, fs)) := by
    unfold q_cls at hcls
    split at hcls
    · rename_i hob; cases hcls; exact ⟨_, _, hob⟩
    · cases hcls
  refine q_ofSync (code := prog_54_method_8_code) (maxL := 1) (ret := some (.object "java/lang/Throwable")) (plainFor_of_name (by decide +kernel)) List.mem_cons_self (List.mem_cons_of_mem _ List.mem_cons_self) ?_ ?_
  · rintro args s ⟨rfl, hC, hW⟩
    have hbt : bb = true := by
      cases bb with
      | true => rfl
      | false => have := ((hC.2.2.2 a false _ hob).2 rfl).1; omega
    subst hbt
    obtain ⟨-, -, cell, hcell, -, -, -, hmon⟩ := (hC.2.2.2 a true _ hob).1 rfl
    exact ⟨_, cell, by rw [List.map_cons, q_vm_ref (q_F_new w hge)]; rfl, hcell, (hmon rfl).1, (hmon rfl).2⟩
  · rintro p e s m args below meth c r cell s₁ hexec hb hret hlocks hnamed hcell hent harg ⟨rfl, hC, hW⟩ hheap X
    obtain ⟨r0, cell0, nm, hF, hcell0, hst0, hun, hnm, hclass, hfld⟩ := q_obj hw hlo hC hW hob
    have hr : r0 = w.1.heap.size + (a - 1000) := Option.some.inj (hF.symm.trans (q_F_new w hge))
    have hra : r = r0 := by
      rw [List.map_cons, q_vm_ref hF] at harg
      have h9 : (some (Value.ref r0) : Option Value) = some (.ref r) := harg
      cases h9; rfl
    subst hra
    cases hcell0.symm.trans hcell
    have hlt : r < s.heap.size := (Array.getElem?_eq_some_iff.mp hcell).1
    have hcell1 : s₁.heap[r]? = some (cell.withEntry s.cur) := by
      rw [hheap]
      show (s.heap.setIfInBounds r _)[r]? = _
      simp [hlt]
    have hlink : (Cond.fieldLink "java/lang/Throwable" 7 "java/lang/Throwable" "cause" "Ljava/lang/Throwable;").before ([Value.ref a].map (q_vm (q_F w))).toArray (s.setCell r (cell.withEntry s.cur)) = true := hw.word (s := s.setCell r (cell.withEntry s.cur)) hW q_w308 _
    have hframe : entryFrameSync m ([Value.ref a].map (q_vm (q_F w))).toArray 1 r = q_gf0 m r 0 [] := by
      rw [List.map_cons, q_vm_ref hF]; rfl
    rw [hframe]
    obtain ⟨kk, hix, vc, hvc, hvx⟩ : ∃ kk, (q_cf.getD q_cFmt [])[kk]? = some q_fCause ∧ ∃ vc, fs[kk]? = some vc ∧ q_gf h a q_fCause = some vc := by
      have hgf : ∃ vc, q_gf h a q_fCause = some vc := by
        rcases hx with ⟨b, h1, -⟩ | ⟨h1, -⟩
        · exact ⟨_, h1⟩
        · exact ⟨_, h1⟩
      obtain ⟨vc, hvc⟩ := hgf
      obtain ⟨b2, c2, k2, fs2, ha2, hi2, hf2⟩ := q_gf_at hvc
      cases hob.symm.trans ha2
      exact ⟨k2, q_ix_at hi2, vc, hf2, hvc⟩
    obtain ⟨cf, kc, fi, fld, v2, hi, hsta, hv2, hslot⟩ := hfld kk q_fCause "java/lang/Throwable" "cause" "Ljava/lang/Throwable;" _ _ hix rfl
    cases hvc.symm.trans hv2
    obtain ⟨rv, hrv, hres⟩ : ∃ rv : Option Nat, q_vm (q_F w) vc = va_rf rv ∧ (if rv = some r then Value.null else va_rf rv) = q_vm (q_F w) x := by
      rcases hx with ⟨b, h1, h2, rfl⟩ | ⟨h1, rfl⟩
      · cases hvx.symm.trans h1
        refine ⟨q_F w b, rfl, ?_⟩
        have hin := q_F_inj hC hge h2
        rw [← hr] at hin
        by_cases hba : b = a
        · rw [if_pos (hin.mpr hba), if_pos hba]; rfl
        · rw [if_neg (fun h => hba (hin.mp h)), if_neg hba]; rfl
      · cases hvx.symm.trans h1
        exact ⟨none, rfl, rfl⟩
    have hvr : (if rv = some r then Value.null else va_rf rv) = .null ∨ ∃ q, (if rv = some r then Value.null else va_rf rv) = .ref q := by
      by_cases h9 : rv = some r
      · rw [if_pos h9]; exact Or.inl rfl
      · rw [if_neg h9]
        cases rv with
        | none => exact Or.inl rfl
        | some q => exact Or.inr ⟨q, rfl⟩
    -- the end of the walk decides the state
    have hend : ∀ T' : State, Stand p l e (headSpec [Cond.codeSync q_gcN prog_54_method_8_code 1 (some (.object "java/lang/Throwable")), Cond.instanceMethod q_gcN] (q_rm 1 0 0)).room (s.setCell r (cell.withEntry s.cur)) m ([Value.ref a].map (q_vm (q_F w))).toArray below meth c T' [] 0 0 → T'.heap = s₁.heap →
        ∃ s₂ o, Steps p.tables e below (T'.setTop (q_gf0 m r 16 [if rv = some r then Value.null else va_rf rv])) s₂ ∧ s₂.status = .running ∧ Ended s₂ below o ∧ q_Q_ (q_Qc w (.inl (some x), h)) (q_XC w (.inl (some x), h)) 0 0 (q_fr w) ([Value.ref a].map (q_vm (q_F w))).toArray s o s₂ :=
      fun T' X' hT' => q_gcEnd X' (hT'.trans hheap) hcell hent hlocks hexec hb hret hvr (fun t ht hWt => ⟨⟨_, rfl, by rw [hres]; rfl⟩, by show q_Cor w h t.heap; rw [ht]; exact hC⟩)
    obtain ⟨T', X', hT', hstep⟩ := q_gcWalk X hexec hb (findClass_of_methodNamed hnamed) hlink hi hsta hcell1 hun (rv := rv) (by rw [← hrv]; exact hslot)
    obtain ⟨s₂, o, b1, b2⟩ := hend T' X' hT'
    exact ⟨s₂, o, hstep _ b1, b2⟩
theorem q_eI5_ok (hlo : q_laysOk) : q_eI5 := by
  intro w z Q L n0 s0 d mu pc cn i u v a y code rt hs ls r h x X hd hik hc hN hx k
  obtain ⟨d', rfl⟩ : ∃ d', d = d' + 1 := ⟨d - 1, by omega⟩
  have hctx : q_Ctx w z y.cls := ⟨X.1.1, X.1.2.2.2.2.2.1, X.2.1, X.2.2.1⟩
  have hown : q_own[cn]? = some y.cls := X.2.2.2.2.2.2.1
  have hl : Cond.methodLink y.cls i q_gcX ∈ lw_all := (q_evIK.at hown (q_lkG hik) : q_pIK y.cls (i, 5, u, v))
  have hR := q_rsGC hctx hl
  have hW := X.2.2.1
  have hfr : d' + 1 ≤ z.1.2.2.2.frames := X.2.2.2.2.1
  have hlo2 : 32 * (d' + 1) ≤ z.1.2.2.2.locals := X.2.2.2.2.2.1
  have hM := q_gcMet (l := z.1.2.1) X.2.1 hlo hc.2.2.1 hc.2.2.2 hx
  intro H locs cells slots as0 hC hl0 hL hc0 hs'
  have hmcat : 2 * (F0 z.2.2.1 pc as0 (r.map (q_vm (q_F w)))).monitorRoom + ((r.map (q_vm (q_F w))).map fun v => v.category).sum ≤ 8 := by
    rw [q_cat_vm]; show 2 * 0 + _ ≤ _; omega
  have hK : vx_Back z.1.2.1 z.1.2.2.2 z.1.1 z.1.2.2.1 z.2.2.2.2.1 z.2.1 z.2.2.2.1 q_gcN 3 8 (PreOf z.1.2.2.2 0 0 (q_Pc w [.ref a] h)) (PostOf (q_Qc w (.inl (some x), h)) 0 0 (q_fr w)) (q_Post (q_XC w (.inl (some x), h)) 0 0 (q_fr w)) := by
    refine q_backS (bytes := prog_54_method_8_code) (maxL := 1) (ret := some (.object "java/lang/Throwable")) hM q_Pc_blind rfl rfl (by show 1 + 1 ≤ _; omega) (by show 8 + (1 + 11) + 32 * 1 ≤ _; omega) (fun zz hz a' U hWU => ?_) List.mem_cons_self (fun a' U hWU => X.2.1.word (hW.trans hWU) q_gcI a')
    rcases List.mem_cons.mp hz with rfl | hz
    · exact X.2.1.word (hW.trans hWU) q_gc4 a'
    · rw [List.mem_singleton.mp hz]; exact X.2.1.word (hW.trans hWU) q_gc3 a'
  intro T hT XS
  obtain ⟨bb, fs, hob⟩ : ∃ bb fs, h.1 a = some (bb, .inr (q_cFmt, fs)) := by
    have hcls := hc.2.2.1
    unfold q_cls at hcls
    split at hcls
    · rename_i hob; cases hcls; exact ⟨_, _, hob⟩
    · cases hcls
  obtain ⟨ra, cell, nm, hF, hcell, hst, hun, hnm, hclass, -⟩ := q_obj X.2.1 hlo hC X.2.2.1 hob
  obtain rfl : "CaptainClaims$FormatException" = nm := Option.some.inj (Eq.trans rfl hnm)
  obtain ⟨kB, hkB, -⟩ := Vm.findClass_spec hclass
  obtain ⟨mk, vm₁, hwm, X₁, hnamed, hstep⟩ := hR T locs cells slots XS (F0 z.2.2.1 pc as0 ((Value.ref a :: r).map (q_vm (q_F w)))) ([Value.ref a].map (q_vm (q_F w))) (r.map (q_vm (q_F w))) rfl (hL.1.trans X.1.2.2.1.symm)
    rfl (by rw [X.1.2.1]; exact hd) ⟨ra, [], by rw [List.map_cons, q_vm_ref hF]; rfl, rfl, cell, kB, by rw [hT]; exact hcell, hst, hkB, fun C hC' => by cases hC'; exact hclass⟩
  have hc' : n0 + cells = h.2.1 := hc0
  have hs2 : s0 + slots = h.2.2 := hs'
  have hpre : PreOf z.1.2.2.2 0 0 (q_Pc w [.ref a] h) ⟨T.setVm vm₁, locs, cells, slots⟩ ([Value.ref a].map (q_vm (q_F w))).toArray :=
    ⟨by show cells + 0 ≤ _; have := hN.1; omega, by show slots + 0 ≤ _; have := hN.2; omega, rfl, by show q_Cor w h T.heap; rw [hT]; exact hC, hW.trans hwm⟩
  rcases hK z.2.2.1 z.2.2.2.2.2.1 z.2.2.2.2.2.2 ⟨T.setVm vm₁, locs, cells, slots⟩ (F0 z.2.2.1 pc as0 (r.map (q_vm (q_F w)))) (.invokevirtual i) mk ([Value.ref a].map (q_vm (q_F w))).toArray X₁ rfl (hL.1.trans X.1.2.2.1.symm) (by rw [X.1.2.1]; exact hd) hmcat hnamed hpre with ⟨v, B, X', ⟨g', mk', t, Ls, e1, e2, ⟨⟨v', hr1, hv'⟩, hC'⟩, h1, hLs, h2, h3⟩, hsteps⟩ | ⟨q, B, X', ⟨g', mk', t, Ls, E, ce, e1, e2, ⟨a2, c2, fs2, hr1, -⟩, -⟩, -⟩
  · cases hr1
    have hvv : v = some (q_vm (q_F w) x) := by cases hv'; rfl
    subst hvv
    have h2' : B.cells = cells + 0 := h2
    have h3' : B.slots = slots + 0 := h3
    obtain ⟨t1, a1, b1⟩ := k B.U.heap B.locs B.cells B.slots as0 (by rw [e1]; exact hC') (fun q hq => by
      rw [h1, List.mem_append] at hq
      rcases hq with hq | hq
      · exact hl0 q hq
      · exact hLs q hq) hL (by show n0 + B.cells = h.2.1; omega) (by show s0 + B.slots = h.2.2; omega) B.U rfl X'
    refine ⟨t1, hstep _ fun acts => ?_, b1⟩
    rw [doInvoke_state]
    refine hsteps.trans ?_
    exact a1
  · cases hr1
