/-! a synchronized method: Throwable.getCause (follows Meets.of_body_sync, Stand.of_body_sync of the library) -/
section Payer
variable {l : Launch} {R : Room} {p : Program} {e : Env} {below : List Frame} {s : State} {sargs : Array Value} {y : MethodName} {len W9 : Nat}
theorem q_backS {ws : List Cond} {rm : Room} {Pc : Array Value → State → Prop} {Qc : Array Value → State → Outcome → State → Prop} {XC : Addr → String → State → State → Prop} {mc ms : Nat} {free : Addr → Prop} {bytes : ByteArray} {maxL : Nat} {ret : Option FieldType}
    (hM : q_Met l y ws rm Pc Qc XC mc ms free) (hblind : FrameBlind Pc) (hrc : rm.cells = mc) (hrs : rm.slots = ms)
    (hframes : rm.frames + 1 ≤ R.frames) (hlocals : W9 + (maxL + 11) + rm.locals ≤ R.locals)
    (hws : ∀ w ∈ ws, ∀ a' U, s.WarmedH U.vm → w.before a' U = true) (hcode : Cond.codeSync y bytes maxL ret ∈ ws) (hinit : ∀ a' U, s.WarmedH U.vm → (Cond.initialized y.cls).before a' U = true) :
    vx_Back l R p e below s sargs y len W9 (PreOf R mc ms Pc) (PostOf Qc mc ms free) (q_Post XC mc ms free) := by
  intro m meth c A g ig mk a X hg hsize hdg hW hn hp
  have h1 : (headSpec ws rm).pre.before a A.U = true := atoms_intro fun w hw => hws w hw _ _ X.warmed
  have h2 : (Cond.codeSync y bytes maxL ret).before a A.U = true := hws _ hcode _ _ X.warmed
  have h3 : (Cond.initialized y.cls).before a A.U = true := hinit _ _ X.warmed
  have h4 : A.cells + (headSpec ws rm).room.cells ≤ R.cells := by rw [show (headSpec ws rm).room.cells = mc from hrc]; exact hp.1
  have h5 : A.slots + (headSpec ws rm).room.slots ≤ R.slots := by rw [show (headSpec ws rm).room.slots = ms from hrs]; exact hp.2.1
  have hPc : Pc a (A.U.calling g mk a) := hblind _ _ _ _ hp.2.2
  obtain ⟨U, Ls, c0, s0⟩ := A
  dsimp only [Pt.U, Pt.locs, Pt.cells, Pt.slots] at h1 h2 h3 h4 h5 X hn hPc ⊢
  obtain ⟨methY, cY, hmY, hcY, -, hlY, -, -, -, -⟩ := Cond.codeSync_spec hn h2
  obtain ⟨kY, hkY, -⟩ := className_of_methodNamed hn
  have hinitY : kY.init = .initialized := Cond.initialized_spec (findClass_of_methodNamed hn) hkY h3
  have h : At U g.method c below := by rw [hg]; exact X.here
  have hlocals9 : W9 + (maxL + 11) + (headSpec ws rm).room.locals ≤ R.locals := hlocals
  have happ : (headSpec ws rm).appliesLoose y e.platform (U.calling g mk a) = true :=
    Spec.appliesLoose_calling (g := g) h hdg hn hkY hinitY
      (X.room_calling (g := g) (R' := (headSpec ws rm).room) hsize hmY hcY hframes (by rw [hlY]; omega) h4 h5) h1
  obtain ⟨mid, hmid⟩ := h.above
  have hfr : (U.setTop g).frames = (.java g :: mid) ++ below := by rw [State.frames_setTop' g h.top, hmid]; rfl
  obtain ⟨o, s₂, hsteps, -, hend, hq⟩ := Steps.callFree hM p X.admits X.cas X.clock (acts := []) hfr happ hPc trivial
  have hq' : q_Q_ Qc XC mc ms free a (U.calling g mk a) o s₂ := hq
  rw [State.frames_setTop' g h.top] at hend
  obtain ⟨g₀, hg0⟩ := Option.isSome_iff_exists.mp h.top
  obtain ⟨r, hr⟩ := State.topJava?_eq_some.mp hg0
  have hr' : (({ U with heap := s₂.heap, slotsUsed := s₂.slotsUsed } : State).setVm s₂.vm).frames = .java g₀ :: r := hr
  rcases hq' with ⟨hqc, L, hfe, hL⟩ | ⟨q, rfl, E, ce, L, hx, hce, hcv, hcl, hW₂, hsm, hL⟩
  · obtain ⟨⟨v, rfl⟩, hW₂, e2, q2, q3, q4, q5, q6⟩ := id hfe
    have e3 : s₂ = ({ (U.calling g mk a).setFrames s₂.frames with heap := s₂.heap, slotsUsed := s₂.slotsUsed } : State).setVm s₂.vm := by
      have : s₂ = ({ s₂ with vm := (U.calling g mk a).vm } : State).setVm s₂.vm := rfl
      rw [e2] at this
      exact this
    obtain ⟨c₂, i₂, len₂, hc₂, hd₂, hf₂⟩ := hend
    have hW' : U.WarmedH s₂.vm := hW₂
    have hcc : c₂ = c := by
      have h1 : s₂.code? g.method = U.code? g.method := by
        rw [State.code?_eq, State.code?_eq, hW'.alike.method?]
      exact Option.some.inj (hc₂.symm.trans (h1.trans h.code))
    subst hcc
    have hlen : len₂ = len := by rw [hdg] at hd₂; cases hd₂; rfl
    subst hlen
    have hs₂ : s₂ = (({ U with heap := s₂.heap, slotsUsed := s₂.slotsUsed } : State).setVm s₂.vm).setTop { g with pc := g.pc + len₂, stack := v.toList ++ g.stack } := by
      refine e3.trans ?_
      rw [hf₂, State.calling_eq h.top, State.setFrames_setFrames, State.setTop_of_frames _ hr', hr]
      rfl
    have hsame : U.sameButNew ({ U with heap := s₂.heap, slotsUsed := s₂.slotsUsed } : State) L mc ms := by
      refine ⟨?_, q2, q3, q4, q5, q6⟩
      obtain ⟨t, ht, -⟩ := State.frames_cons hr
      show ({ U with heap := s₂.heap, slotsUsed := s₂.slotsUsed } : State) = { U.setFrames U.frames with heap := s₂.heap, slotsUsed := s₂.slotsUsed }
      rw [State.setFrames_self ht]
    subst hg
    refine Or.inl ⟨v, ⟨(({ U with heap := s₂.heap, slotsUsed := s₂.slotsUsed } : State).setVm s₂.vm), Ls ++ L, c0 + mc, s0 + ms⟩,
      ⟨X.admits, X.cas, X.clock, X.frames, X.room, X.hears, X.method, X.code, (X.here.setHeapUsed s₂.heap s₂.slotsUsed).setVm hW'.alike, X.tail, State.WarmedH.trans X.warmed hW', X.limits, X.bytes, X.same.trans (hsame.setVm s.vm)⟩,
      ⟨g, mk, s₂, L, rfl, rfl, hqc, rfl, hL, rfl, rfl⟩, ?_⟩
    show Steps p.tables e below _ ((({ U with heap := s₂.heap, slotsUsed := s₂.slotsUsed } : State).setVm s₂.vm).setTop { g with pc := g.pc + len₂, stack := v.toList ++ g.stack })
    rw [← hs₂]
    exact hsteps
  · obtain ⟨e2, q2, q3, q4, q5, q6⟩ := id hsm
    have e3 : s₂ = ({ (U.calling g mk a).setFrames s₂.frames with heap := s₂.heap, slotsUsed := s₂.slotsUsed } : State).setVm s₂.vm := by
      have : s₂ = ({ s₂ with vm := (U.calling g mk a).vm } : State).setVm s₂.vm := rfl
      rw [e2] at this
      exact this
    have hf₂ : s₂.frames = .throwing q :: .java g :: U.frames.tail := hend
    have hW' : U.WarmedH s₂.vm := hW₂
    have hs₂ : s₂ = ((({ U with heap := s₂.heap, slotsUsed := s₂.slotsUsed } : State).setVm s₂.vm).setTop g).pushFrame (.throwing q) := by
      refine e3.trans ?_
      rw [hf₂, State.calling_eq h.top, State.setFrames_setFrames, State.pushFrame, State.frames_setTop _ hr', State.setTop_of_frames _ hr', State.setFrames_setFrames, hr]
      rfl
    have hsame : U.sameButNew ({ U with heap := s₂.heap, slotsUsed := s₂.slotsUsed } : State) L mc ms := by
      refine ⟨?_, q2, q3, q4, q5, q6⟩
      obtain ⟨t, ht, -⟩ := State.frames_cons hr
      show ({ U with heap := s₂.heap, slotsUsed := s₂.slotsUsed } : State) = { U.setFrames U.frames with heap := s₂.heap, slotsUsed := s₂.slotsUsed }
      rw [State.setFrames_self ht]
    subst hg
    refine Or.inr ⟨q, ⟨(({ U with heap := s₂.heap, slotsUsed := s₂.slotsUsed } : State).setVm s₂.vm), Ls ++ L, c0 + mc, s0 + ms⟩,
      ⟨X.admits, X.cas, X.clock, X.frames, X.room, X.hears, X.method, X.code, (X.here.setHeapUsed s₂.heap s₂.slotsUsed).setVm hW'.alike, X.tail, State.WarmedH.trans X.warmed hW', X.limits, X.bytes, X.same.trans (hsame.setVm s.vm)⟩,
      ⟨g, mk, s₂, L, E, ce, rfl, rfl, hx, hce, hcv, hcl, rfl, hL, rfl, rfl⟩, ?_⟩
    show Steps p.tables e below _ (((({ U with heap := s₂.heap, slotsUsed := s₂.slotsUsed } : State).setVm s₂.vm).setTop g).pushFrame (.throwing q))
    rw [← hs₂]
    exact hsteps
end Payer
section
variable {l : Launch} {R : Room} {p : Program} {e : Env} {below : List Frame} {s : State} {sargs : Array Value} {y : MethodName} {len W9 : Nat}
end
theorem q_ofSync {l : Launch} {y : MethodName} {ws : List Cond} {rm : Room} {Pc : Array Value → State → Prop} {Qc : Array Value → State → Outcome → State → Prop} {XC : Addr → String → State → State → Prop} {mc ms : Nat} {free : Addr → Prop} {code : ByteArray} {maxL : Nat} {ret : Option FieldType}
    (hy : plainFor y = true) (hw : Cond.codeSync y code maxL ret ∈ ws) (hi : Cond.instanceMethod y ∈ ws)
    (hrecv : ∀ args s, Pc args s → ∃ a cell, args[0]? = some (.ref a) ∧ s.heap[a]? = some cell ∧ cell.monitor.owner = none ∧ cell.monitor.count = 0)
    (body : ∀ p e s m args below meth c a cell s₁, p.tables.exec = Jvm.exec → c.code = code → meth.sig.returnType = ret → meth.locks = true → s.methodNamed? y = some m → s.heap[a]? = some cell → cell.enterable s.cur → args[0]? = some (.ref a) → Pc args s → s₁.heap = (s.setCell a (cell.withEntry s.cur)).heap →
      Stand p l e (headSpec ws rm).room (s.setCell a (cell.withEntry s.cur)) m args below meth c s₁ [] 0 0 →
      ∃ s₂ o, Steps p.tables e below (s₁.setTop (entryFrameSync m args maxL a)) s₂ ∧ s₂.status = .running ∧ Ended s₂ below o ∧ q_Q_ Qc XC mc ms free args s o s₂) : q_Met l y ws rm Pc Qc XC mc ms free := by
  intro p e ha hc hk s m args below hf happ hP _
  obtain ⟨hrun, hable, halone, hname, hhears, hinit, hroom, hpre⟩ := (Spec.appliesLoose_iff hf).mp happ
  obtain ⟨meth, c, hmeth, hcode, hbytes, hlocals, hret, hlocks, -, -⟩ := Cond.codeSync_spec hname (atoms_spec (ws := ws) hpre _ hw)
  obtain ⟨m9, meth9, hn9, hm9, hst, -⟩ := Cond.instanceMethod_spec (atoms_spec (ws := ws) hpre _ hi)
  cases hname.symm.trans hn9
  cases hmeth.symm.trans hm9
  obtain ⟨a, cell, harg, hcell, hfree, hcount⟩ := hrecv args s hP
  have hcur := State.cur_lt_of_frames hf
  have hf1 : ((s.setCell a (cell.withEntry s.cur)).setFrames (.java (entryFrameSync m args maxL a) :: below)).frames = .java (entryFrameSync m args maxL a) :: below :=
    State.frames_setFrames (s := s.setCell a (cell.withEntry s.cur)) _ hcur
  have ht1 := State.topJava?_of_frames hf1
  have hplain : ((s.setCell a (cell.withEntry s.cur)).setFrames (.java (entryFrameSync m args maxL a) :: below)).plainMethod m := State.plainMethod.of_named (s := s) hy hname hmeth
  have hAt : At ((s.setCell a (cell.withEntry s.cur)).setFrames (.java (entryFrameSync m args maxL a) :: below)) m c below :=
    ⟨by rw [ht1]; rfl, ⟨[], by rw [hf1]; rfl⟩, hrun, by simpa using hable, by simpa using halone,
      by rw [State.code?_eq]; simp [State.setFrames, State.setCell, hmeth, hcode], hplain⟩
  have hstand : Stand p l e (headSpec ws rm).room (s.setCell a (cell.withEntry s.cur)) m args below meth c ((s.setCell a (cell.withEntry s.cur)).setFrames (.java (entryFrameSync m args maxL a) :: below)) [] 0 0 := by
    obtain ⟨t, ht, -⟩ := State.frames_cons hf
    refine ⟨ha, hc, hk, hf, by rw [State.hasRoom_setCell (x := cell.withEntry s.cur) hcell rfl]; exact hroom, hhears, hmeth, hcode, hAt, by rw [hf1]; rfl, State.WarmedH.refl (s.setCell a (cell.withEntry s.cur)), by rw [State.stackLimits_setFrames], by rw [State.stackBytes_setFrames], ?_⟩
    exact (State.sameButNew.refl (s.setCell a (cell.withEntry s.cur)) (x := t) ht).setFrames (.java (entryFrameSync m args maxL a) :: below) hcur
  obtain ⟨s₂, o, hs, hr, he, hp⟩ := body p e s m args below meth c a cell ((s.setCell a (cell.withEntry s.cur)).setFrames (.java (entryFrameSync m args maxL a) :: below)) (by cases p <;> rfl) hbytes hret hlocks hname hcell (Or.inl ⟨hfree, hcount⟩) harg hP rfl hstand
  have hstep : (stepThread p.tables e s).1 =
      ((s.setCell a (cell.withEntry s.cur)).setFrames (.java (entryFrameSync m args maxL a) :: below)).setTop (entryFrameSync m args maxL a) := by
    have hfull : e.platform.stackFull (s.setFrames below).me (s.setFrames below).frames (c.maxLocals + 2) = false := by
      obtain ⟨-, h1, -, h2⟩ := State.hasRoom_stack hroom
      rw [hf, List.length_cons] at h1
      rw [State.localsInUse_invoking hf hmeth hcode] at h2
      have hw := stackUse_le_stackWeight below
      rw [State.frames_setFrames _ hcur]
      simp only [vmFrameWords] at h2
      exact Platform.stackFull_eq_false (by rw [State.stackLimits_setFrames]; omega) (by rw [State.stackLimits_setFrames]; omega)
    rw [stepThread_invoking hf, (doInvoke_java_sync (s := s.setFrames below) (e := e) (meth := meth) (code := c) (a := a) (cell := cell) hmeth hcode hlocks hst harg hcell (Or.inl hfree) hfull).1,
      State.setTop_self ht1, hlocals]
    show (((s.setFrames below).setCell a (cell.withEntry s.cur)).setFrames (.java (entryFrameSync m args maxL a) :: ((s.setFrames below).setCell a (cell.withEntry s.cur)).frames)) = _
    rw [show ((s.setFrames below).setCell a (cell.withEntry s.cur)).frames = below from State.frames_setFrames _ hcur, State.setCell_setFrames, State.setFrames_setFrames]
  obtain ⟨n, hn, hw⟩ := Steps.head (tb := p.tables) (e := e) ⟨hrun, hable, halone⟩ ⟨[.invoking m args], hf, by simp, by simp⟩ (hstep ▸ hs)
  exact ⟨n, o, hw, hn ▸ hr, hn ▸ he, hn ▸ hp⟩
def q_gcN : MethodName := ⟨"java/lang/Throwable", "getCause", "()Ljava/lang/Throwable;"⟩
def q_gcX : MethodName := ⟨"CaptainClaims$FormatException", "getCause", "()Ljava/lang/Throwable;"⟩
theorem q_gc0 : Cond.sameMethod "CaptainClaims$FormatException" "java/lang/Throwable" "getCause" "()Ljava/lang/Throwable;" ∈ lw_all := lw_g (lw_at lw_m6 124 rfl) rfl
theorem q_gc1 : Cond.declares q_gcN ∈ lw_tbl := lw_at lw_m6 125 rfl
theorem q_gc2 : Cond.selects "CaptainClaims$FormatException" q_gcX q_gcN ∈ lw_all := lw_g (lw_at lw_m6 126 rfl) rfl
theorem q_gc3 : Cond.instanceMethod q_gcN ∈ lw_all := lw_g (lw_at lw_m6 127 rfl) rfl
theorem q_gc4 : Cond.codeSync q_gcN prog_54_method_8_code 1 (some (.object "java/lang/Throwable")) ∈ lw_all := lw_g (lw_at lw_m6 128 rfl) rfl
theorem q_gcI : Cond.initialized "java/lang/Throwable" ∈ lw_all := lw_g (lw_at lw_m1 5 rfl) rfl
theorem q_gcd0 : decode prog_54_method_8_code 0 = .ok (.aload_n 0, 1) := by decide +kernel
theorem q_gcd1 : decode prog_54_method_8_code 1 = .ok (.getfield 7, 3) := by decide +kernel
theorem q_gcd4 : decode prog_54_method_8_code 4 = .ok (.aload_n 0, 1) := by decide +kernel
theorem q_gcd5 : decode prog_54_method_8_code 5 = .ok (.if_acmp .ne 7, 3) := by decide +kernel
theorem q_gcd8 : decode prog_54_method_8_code 8 = .ok (.aconst_null, 1) := by decide +kernel
theorem q_gcd9 : decode prog_54_method_8_code 9 = .ok (.goto 7, 3) := by decide +kernel
theorem q_gcd12 : decode prog_54_method_8_code 12 = .ok (.aload_n 0, 1) := by decide +kernel
theorem q_gcd13 : decode prog_54_method_8_code 13 = .ok (.getfield 7, 3) := by decide +kernel
theorem q_gcd16 : decode prog_54_method_8_code 16 = .ok (.areturn, 1) := by decide +kernel
theorem q_rsGC {w : q_Wd} {z : q_Fr} {own : String} {i : Nat} (c : q_Ctx w z own) (hl : Cond.methodLink own i q_gcX ∈ lw_all) : q_Rs z (.invokevirtual i) 3 q_gcN (some (some "CaptainClaims$FormatException")) 0 := by
  intro T locs cells slots XS g As rest hg hsize hstack hdg hrc
  obtain ⟨b, tl, rfl, hlen, cellB, kB, hcell, hobj, hkB, hcls⟩ := hrc
  have hcls := hcls _ rfl
  have hst2 : g.stack = tl.reverse ++ .ref b :: rest := by rw [hstack, List.reverse_cons, List.append_assoc]; rfl
  obtain ⟨r0, r, hn, hrm, hstR, hsigR⟩ := Cond.declares_spec (c.face q_gc1 rfl rfl)
  obtain ⟨cn, ck, r1, hcn, hck, hni, hf, hn1⟩ := Cond.sameMethod_found (c.word q_gc0)
  cases hn.symm.trans hn1
  obtain ⟨mk, methM, hnamed, hmethM, -, habM⟩ := Cond.instanceMethod_spec (c.word q_gc3)
  obtain ⟨c2, r2, m2, q1, q2, q3, q4, kP, hkP, hkPi⟩ := Cond.selects_spec (c.word q_gc2)
  cases hcls.symm.trans q1
  cases hf.symm.trans q2
  cases hnamed.symm.trans q3
  have hselP : selectMethod z.1.2.2.1.platform z.2.1.vm cellB.cls r0 = .method mk := by rw [Launch.admits_selectMethod XS.admits]; exact q4
  obtain ⟨vm₁, X₁, hstep₁⟩ := XS.invokevirtualUp c.1 c.2.1 (x := q_gcX) (owner := "java/lang/Throwable") (c.word hl) (c.word q_gc0) (by decide) hn hrm hstR (a := b) (cell := cellB) hcell
    (fun z h => by rw [h] at hobj; cases hobj) hselP hmethM habM hkP hkPi (g := g) hg (argsL := tl) (rest := rest) (hlen.trans (q_nP_s (n := 0) (by decide +kernel) _ hsigR).symm) hst2 hdg
  exact ⟨mk, vm₁, X₁.warmed, X₁, X₁.named hnamed, hstep₁⟩
