/-! which method a call runs: from words of the tables -/
theorem q_face {w : q_Wd} (h : ∀ z ∈ lw_tbl, z.before w.2.1 w.1 = true) {s : State} (hW : w.1.WarmedH s.vm) {z : Cond} (hz : z ∈ lw_tbl) (hf : z.faceAtom = true) (ht : z.onTables = true) (args : Array Value) : z.before args s = true :=
  va_tabs ht (rfl : (w.1.setVm s.vm).vm = s.vm) (Cond.faceAtom_setVm hW.alike z hf (h z hz))
theorem q_ifm {a a' : Array Value} {s U : State} (hal : s.vm.Alike U.vm) {ref owner name desc : String} (h : (Cond.interfaceMethod ref owner name desc).before a s = true) : (Cond.interfaceMethod ref owner name desc).before a' U = true := by
  have h1 : (Cond.interfaceMethod ref owner name desc).before a' (s.setVm U.vm) = (Cond.interfaceMethod ref owner name desc).before a s := by
    simp only [Cond.before, Cond.holds, Cond.value, State.vm_setVm, hal.findClass, State.methodFound?_setVm hal, State.methodNamed?_setVm hal, arm_isInterface_setVm hal]
  have h2 : (Cond.interfaceMethod ref owner name desc).before a' U = (Cond.interfaceMethod ref owner name desc).before a' (s.setVm U.vm) := rfl
  rw [h2, h1]; exact h
theorem q_lid {a a' : Array Value} {s U : State} (hal : s.vm.Alike U.vm) {C : String} {x y : MethodName} (h : (Cond.landsInDefault C x y).before a s = true) : (Cond.landsInDefault C x y).before a' U = true := by
  have h1 : (Cond.landsInDefault C x y).before a' (s.setVm U.vm) = true := (Cond.landsInDefault_setVm hal (State.methodFound?_setVm hal _ _ _)).trans h
  exact h1
def q_nMH (x : MethodName) : Prop := x.cls ≠ "java/lang/invoke/MethodHandle" ∧ x.cls ≠ "java/lang/invoke/VarHandle"
def q_cde (e : q_Mt) : Prop := (e.2.2.2.2.2 = [] ∧ Cond.code e.2.1 e.2.2.1 e.2.2.2.1 e.2.2.2.2.1 ∈ lw_all) ∨ (e.2.2.2.2.2 ≠ [] ∧ Cond.codeWith e.2.1 e.2.2.1 e.2.2.2.1 e.2.2.2.2.1 e.2.2.2.2.2 ∈ lw_all)
section
variable {w : q_Wd} {z : q_Fr} {own : String} {e : q_Mt} {i n : Nat}
theorem q_Ctx.word (c : q_Ctx w z own) {x : Cond} (hx : x ∈ lw_all) : x.before z.2.2.2.1 z.2.1 = true := c.2.2.1.word c.2.2.2 hx _
theorem q_Ctx.face (c : q_Ctx w z own) {x : Cond} (hz : x ∈ lw_tbl) (hf : x.faceAtom = true) (ht : x.onTables = true) : x.before z.2.2.2.1 z.2.1 = true := q_face c.2.2.1.1 c.2.2.2 hz hf ht _
theorem q_Ctx.nam (c : q_Ctx w z own) (hc : q_cde e) : ∃ (mk : MethodId) (meth : Method), z.2.1.methodNamed? e.2.1 = some mk ∧ z.2.1.vm.method? mk = some meth ∧ parseMethodDescriptor e.2.1.desc = some meth.sig := by
  rcases hc with ⟨-, hc⟩ | ⟨-, hc⟩
  · obtain ⟨mk, hn⟩ := Cond.code_named (c.word hc)
    obtain ⟨meth, cc, h1, -, -, -, -, -, -, h2⟩ := Cond.code_spec hn (c.word hc)
    exact ⟨mk, meth, hn, h1, h2⟩
  · obtain ⟨mk, meth, cc, hn, h1, -, -, -, -, -, -, h2⟩ := Cond.codeWith_spec (c.word hc)
    exact ⟨mk, meth, hn, h1, h2⟩
theorem q_Stnam {T : State} {locs : List Loc} {cells slots : Nat} {p : Program} {l : Launch} {e : Env} {R : Room} {s : State} {m : MethodId} {args : Array Value} {below : List Frame} {meth : Method} {c : Code} (X : Stand p l e R s m args below meth c T locs cells slots) : s.WarmedH T.vm := X.warmed
theorem q_rs0 (c : q_Ctx w z own) (hl : Cond.methodLink own i e.2.1 ∈ lw_all ∨ ∃ host : String, Cond.methodLinkNest own i e.2.1 host ∈ lw_tbl) (hst : Cond.static e.2.1 ∈ lw_all) (hini : Cond.initialized e.2.1.cls ∈ lw_all) (hc : q_cde e) (hn : ∀ sig, parseMethodDescriptor e.2.1.desc = some sig → sig.parameters.length = n) (hy : q_nMH e.2.1) : q_Rs z (.invokestatic i) 3 e.2.1 none n := by
  intro T locs cells slots XS g As rest hg hsize hstack hdg hrc
  obtain ⟨mk, meth, hnam, hmeth, hsig⟩ := c.nam hc
  have hstatic : meth.isStatic = true := Cond.static_spec hnam hmeth (c.word hst)
  obtain ⟨kP, hkP, -⟩ := className_of_methodNamed hnam
  have hinitP : kP.init = .initialized := Cond.initialized_spec (findClass_of_methodNamed hnam) hkP (c.word hini)
  have hlen : As.length = meth.sig.parameters.length := Eq.trans hrc (hn _ hsig).symm
  rcases hl with hl | ⟨host, hl⟩
  · obtain ⟨vm₁, X₁, hstep⟩ := XS.invokestatic c.1 c.2.1 (c.word hl) hnam hmeth hstatic hkP hinitP hy (g := g) hg (argsL := As) (rest := rest) hlen hstack hdg
    exact ⟨mk, vm₁, X₁.warmed, X₁, X₁.named hnam, hstep⟩
  · have hl2 : (Cond.methodLinkNest own i e.2.1 host).before z.2.2.2.1 z.2.1 = true := va_Nw.use rfl (va_Nw.warmM c.2.2.2 (va_Nw.of rfl (c.2.2.1.1 _ hl)))
    obtain ⟨vm₁, X₁, hstep⟩ := XS.invokestaticNest c.1 c.2.1 hl2 hnam hmeth hstatic hkP hinitP hy (g := g) hg (argsL := As) (rest := rest) hlen hstack hdg
    exact ⟨mk, vm₁, X₁.warmed, X₁, X₁.named hnam, hstep⟩
theorem q_rs1i (c : q_Ctx w z own) {bytes : ByteArray} {mL : Nat} (hl : Cond.methodLink own i e.2.1 ∈ lw_all ∨ ∃ host : String, Cond.methodLinkNest own i e.2.1 host ∈ lw_tbl) (hi : Cond.instanceMethod e.2.1 ∈ lw_all) (hc : Cond.code e.2.1 bytes mL none ∈ lw_all) (hnm : e.2.1.name = "<init>") (hn : ∀ sig, parseMethodDescriptor e.2.1.desc = some sig → sig.parameters.length = n) (hy : q_nMH e.2.1) : q_Rs z (.invokespecial i) 3 e.2.1 (some none) n := by
  intro T locs cells slots XS g As rest hg hsize hstack hdg hrc
  obtain ⟨b, tl, rfl, hlen, -⟩ := hrc
  have hpl : z.1.2.2.1.platform.magicAccessors = ({} : Platform).magicAccessors := by rw [XS.admits.platform]
  have hst2 : g.stack = tl.reverse ++ .ref b :: rest := by rw [hstack, List.reverse_cons, List.append_assoc]; rfl
  rcases hl with hl | ⟨host, hl⟩
  · obtain ⟨mk, methM, cM, kP, vm₁, hnamed, hmethM, hcodeM, -, hlocalsM, -, hkP, -, hW₁, hstep₁⟩ := Steps.initColdArgs (e := z.1.2.2.1) XS.here c.1 XS.warmed hpl c.2.1 hnm hy (c.word hl) (c.word hi) (c.word hc) (f := g) hg (fun sig h => hlen.trans (hn sig h).symm) hst2 hdg
    have X₁ := XS.noted hW₁
    exact ⟨mk, vm₁, X₁.warmed, X₁, X₁.named hnamed, hstep₁⟩
  · have hl2 : (Cond.methodLinkNest own i e.2.1 host).before z.2.2.2.1 z.2.1 = true := va_Nw.use rfl (va_Nw.warmM c.2.2.2 (va_Nw.of rfl (c.2.2.1.1 _ hl)))
    obtain ⟨mk, methM, cM, kP, vm₁, hnamed, hmethM, hcodeM, -, hlocalsM, -, hkP, -, hW₁, hstep₁⟩ := Steps.initColdArgsNest (e := z.1.2.2.1) XS.here c.1 XS.warmed hpl c.2.1 hnm hy hl2 (c.word hi) (c.word hc) (f := g) hg (fun sig h => hlen.trans (hn sig h).symm) hst2 hdg
    have X₁ := XS.noted hW₁
    exact ⟨mk, vm₁, X₁.warmed, X₁, X₁.named hnamed, hstep₁⟩
theorem q_rs1s (c : q_Ctx w z own) (hl : Cond.methodLink own i e.2.1 ∈ lw_all) (hi : Cond.instanceMethod e.2.1 ∈ lw_all) (hc : q_cde e) (hsa : Cond.sameMethod e.2.1.cls e.2.1.cls e.2.1.name e.2.1.desc ∈ lw_all) (hsu : Cond.superclass own e.2.1.cls ∈ lw_all) (hnm : e.2.1.name ≠ "<init>") (hn : ∀ sig, parseMethodDescriptor e.2.1.desc = some sig → sig.parameters.length = n) : q_Rs z (.invokespecial i) 3 e.2.1 (some none) n := by
  intro T locs cells slots XS g As rest hg hsize hstack hdg hrc
  obtain ⟨b, tl, rfl, hlen, cellB, kB, hcell, hobj, hkB, -⟩ := hrc
  have hst2 : g.stack = tl.reverse ++ .ref b :: rest := by rw [hstack, List.reverse_cons, List.append_assoc]; rfl
  obtain ⟨mk, methM, hnamed, hmethM, hstM, habM⟩ := Cond.instanceMethod_spec (c.word hi)
  obtain ⟨mk', meth', hn', hm', hsigM⟩ := c.nam hc
  cases hn'.symm.trans hnamed
  cases hm'.symm.trans hmethM
  obtain ⟨ps, dk, kp, hps, hdk, hkp, hsuper, -, -, hnid⟩ := Cond.superclass_spec c.2.1 (c.word hsu)
  have hn2 : z.2.1.methodNamed? ⟨e.2.1.cls, e.2.1.name, e.2.1.desc⟩ = some mk := hnamed
  have hpm : ps = mk.cls := Option.some.inj (hps.symm.trans (findClass_of_methodNamed hnamed))
  have hsub : z.2.1.vm.isSubclass ps mk.cls = true := by rw [hpm]; simp [Vm.isSubclass, Vm.isSubclassAux]
  obtain ⟨vm₁, X₁, hstep₁⟩ := XS.invokespecialUp c.1 c.2.1 (c.word hl) (c.word hsa) hn2 hmethM hstM habM hnm hdk hnid hps hsuper hsub (a := b) (cell := cellB) hcell
    (fun z h => by rw [h] at hobj; cases hobj) hkB (g := g) hg (argsL := tl) (rest := rest) (hlen.trans (hn _ hsigM).symm) hst2 hdg
  exact ⟨mk, vm₁, X₁.warmed, X₁, X₁.named hnamed, fun target h => hstep₁ target (h [])⟩
/-- a virtual call: x named, y run -/
theorem q_rs2 (c : q_Ctx w z own) {x : MethodName} {C : String} (hl : Cond.methodLink own i x ∈ lw_all) (hd : Cond.declares x ∈ lw_tbl ∨ ∃ e' : q_Mt, e'.2.1 = x ∧ q_cde e' ∧ Cond.instanceMethod x ∈ lw_all) (hi : Cond.instanceMethod e.2.1 ∈ lw_all)
    (hs : (Cond.selects C x e.2.1 ∈ lw_all ∧ (x = e.2.1 ∨ Cond.sameMethod x.cls x.cls x.name x.desc ∈ lw_all)) ∨ (x = e.2.1 ∧ Cond.privateMethod x ∈ lw_tbl ∧ ∃ n d : String, Cond.sameMethod x.cls x.cls n d ∈ lw_all)) (hn : ∀ sig, parseMethodDescriptor x.desc = some sig → sig.parameters.length = n) (hy : q_nMH x) : q_Rs z (.invokevirtual i) 3 e.2.1 (some (some C)) n := by
  intro T locs cells slots XS g As rest hg hsize hstack hdg hrc
  obtain ⟨b, tl, rfl, hlen, cellB, kB, hcell, hobj, hkB, hcls⟩ := hrc
  have hcls := hcls C rfl
  have hst2 : g.stack = tl.reverse ++ .ref b :: rest := by rw [hstack, List.reverse_cons, List.append_assoc]; rfl
  obtain ⟨r0, r, hnx, hrm, hstR, hsigR⟩ : va_Decl z.2.1 x := by
    rcases hd with hd | ⟨e', rfl, hc', hi'⟩
    · obtain ⟨m, meth, h1, h2, h3, h4⟩ := Cond.declares_spec (c.face hd rfl rfl)
      exact ⟨m, meth, h1, h2, h3, h4⟩
    · obtain ⟨mk, methM, hnamed, hmethM, hstM, habM⟩ := Cond.instanceMethod_spec (c.word hi')
      obtain ⟨mk', meth', hn', hm', hsigM⟩ := c.nam hc'
      cases hn'.symm.trans hnamed
      cases hm'.symm.trans hmethM
      exact ⟨mk, methM, hnamed, hmethM, hstM, hsigM⟩
  obtain ⟨mk, methM, hnamed, hmethM, hstM, habM⟩ := Cond.instanceMethod_spec (c.word hi)
  have hfound := State.methodFound?_of_named hnx hy
  obtain ⟨hselP, kr, hkr, hni, km, hkm, hnim⟩ : selectMethod z.1.2.2.1.platform z.2.1.vm cellB.cls r0 = .method mk ∧ ∃ kr : Class, z.2.1.vm.classes[r0.cls]? = some kr ∧ kr.isInterface = false ∧ ∃ km : Class, z.2.1.vm.classes[mk.cls]? = some km ∧ km.isInterface = false := by
    rcases hs with ⟨hsel, hsame⟩ | ⟨rfl, hpriv, n', d', hsame⟩
    · obtain ⟨c2, r2, m2, q1, q2, q3, q4, kP, hkP, hkPi⟩ := Cond.selects_spec (c.word hsel)
      cases hcls.symm.trans q1
      cases hfound.symm.trans q2
      cases hnamed.symm.trans q3
      refine ⟨by rw [Launch.admits_selectMethod XS.admits]; exact q4, ?_⟩
      rcases hsame with rfl | hsame
      · cases hnx.symm.trans hnamed
        exact ⟨kP, hkP, hkPi, kP, hkP, hkPi⟩
      · obtain ⟨cn, ck, r1, hcn, hck, hni, -, hn1⟩ := Cond.sameMethod_found (c.word hsame)
        have hcc : r0.cls = cn := Option.some.inj ((findClass_of_methodNamed hnx).symm.trans hcn)
        exact ⟨ck, by rw [hcc]; exact hck, hni, kP, hkP, hkPi⟩
    · cases hnx.symm.trans hnamed
      cases hrm.symm.trans hmethM
      obtain ⟨cn, ck, r1, hcn, hck, hni, -, hn1⟩ := Cond.sameMethod_found (c.word hsame)
      have hcc : r0.cls = cn := Option.some.inj ((findClass_of_methodNamed hnx).symm.trans hcn)
      exact ⟨selectMethod_private hrm (Cond.privateMethod_at (c.face hpriv rfl rfl) r0 r hnx hrm), ck, by rw [hcc]; exact hck, hni, ck, by rw [hcc]; exact hck, hni⟩
  obtain ⟨vm₁, X₁, hstep₁⟩ := XS.invokevirtual c.1 c.2.1 (c.word hl) hnx hrm hstR hkr hni hy (a := b) (cell := cellB) hcell
    (fun z h => by rw [h] at hobj; cases hobj) hselP hmethM habM hkm hnim (g := g) hg (argsL := tl) (rest := rest) (hlen.trans (hn _ hsigR).symm) hst2 hdg
  exact ⟨mk, vm₁, X₁.warmed, X₁, X₁.named hnamed, hstep₁⟩
/-- an interface's call: x named, J declares it, y run -/
theorem q_rs7 (c : q_Ctx w z own) {x : MethodName} {J C : String} {count : Nat} (hl : (Cond.methodLink own i x).before z.2.2.2.1 z.2.1 = true) (hd : Cond.declares ⟨J, x.name, x.desc⟩ ∈ lw_tbl) (hf : (Cond.interfaceMethod x.cls J x.name x.desc).before z.2.2.2.1 z.2.1 = true)
    (hJ : x.cls = J ∨ (x.cls ≠ J ∧ Cond.publicMethod ⟨J, x.name, x.desc⟩ ∈ lw_tbl ∧ q_nMH ⟨J, x.name, x.desc⟩)) (hi : Cond.instanceMethod e.2.1 ∈ lw_all) (hp : Cond.publicMethod e.2.1 ∈ lw_tbl) (hcast : Cond.castable C x.cls ∈ lw_tbl) (hu : Cond.unhidden C x.name x.desc ∈ lw_tbl)
    (hs : Cond.selects C ⟨J, x.name, x.desc⟩ e.2.1 ∈ lw_all ∨ (x.cls = J ∧ (Cond.landsInDefault C x e.2.1).before z.2.2.2.1 z.2.1 = true)) (hn : ∀ sig, parseMethodDescriptor x.desc = some sig → sig.parameters.length = n) (hy : q_nMH x) : q_Rs z (.invokeinterface i count) 5 e.2.1 (some (some C)) n := by
  intro T locs cells slots XS g As rest hg hsize hstack hdg hrc
  obtain ⟨b, tl, rfl, hlen, cellB, kB, hcell, hobj, hkB, hcls⟩ := hrc
  have hcls := hcls C rfl
  have hst2 : g.stack = tl.reverse ++ .ref b :: rest := by rw [hstack, List.reverse_cons, List.append_assoc]; rfl
  have hd2 := c.face hd rfl rfl
  obtain ⟨r0, r, hnx, hrm, hstR, hsigR⟩ := Cond.declares_spec hd2
  obtain ⟨hnameR, hdescR⟩ := name_of_methodNamed hnx hrm
  obtain ⟨cL, kL, r1, hcL, hkL, hiL, hfoundL, hn1⟩ := Cond.interfaceMethod_spec hf
  cases hnx.symm.trans hn1
  obtain ⟨mk, methM, hnamed, hmethM, -, habM⟩ := Cond.instanceMethod_spec (c.word hi)
  have hpubM : hasFlag methM.accessFlags Acc.public_ = true := Cond.publicMethod_spec hnamed hmethM (c.face hp rfl rfl)
  have hway : ((cellB.cls :: z.2.1.vm.superclasses cellB.cls).any fun k => (declaredIn z.2.1.vm r.name r.desc k).any fun (_, z) => z.isPrivate || z.isStatic) = false := by
    rw [hnameR, hdescR]; exact Cond.unhidden_spec hcls (c.face hu rfl rfl)
  obtain ⟨c3, t3, w1, w2, w3⟩ := Cond.castable_spec (c.face hcast rfl rfl)
  cases hcls.symm.trans w1
  cases hcL.symm.trans w2
  have hselP : selectMethod z.1.2.2.1.platform z.2.1.vm cellB.cls r0 = .method mk := by
    rw [Launch.admits_selectMethod XS.admits]
    rcases hs with hsel | ⟨hxJ, hsel⟩
    · obtain ⟨c2, r2, m2, q1, q2, q3, q4, -⟩ := Cond.selects_spec (c.word hsel)
      cases hcls.symm.trans q1
      cases hnamed.symm.trans q3
      have hfJ : z.2.1.methodFound? J x.name x.desc = some r0 := by
        rcases hJ with rfl | ⟨-, -, hJn⟩
        · exact hfoundL
        · exact State.methodFound?_of_named hnx hJn
      cases hfJ.symm.trans q2
      exact q4
    · subst hxJ
      obtain ⟨c2, r2, m2, rm, q1, q2, q3, q5, q4, -, q6, -⟩ := Cond.landsInDefault_spec hsel
      cases hcls.symm.trans q1
      cases hfoundL.symm.trans q2
      cases hnamed.symm.trans q3
      exact q4
  rcases hJ with rfl | ⟨hxo, hpubJ, -⟩
  · have hr0cls : r0.cls = cL := Option.some.inj ((findClass_of_methodNamed hnx).symm.trans hcL)
    obtain ⟨vm₁, X₁, hstep₁⟩ := XS.invokeinterface c.1 c.2.1 hl hnx hrm hstR (by rw [hr0cls]; exact hkL) hiL hy (a := b) (cell := cellB) (kcell := kB) hcell
      (fun z h => by rw [h] at hobj; cases hobj) hkB (by rw [hr0cls]; exact w3) hselP hmethM hway hpubM habM (g := g) hg (argsL := tl) (rest := rest) (hlen.trans (hn _ hsigR).symm) hst2 hdg
    exact ⟨mk, vm₁, X₁.warmed, X₁, X₁.named hnamed, hstep₁⟩
  · obtain ⟨vm₁, X₁, hstep₁⟩ := XS.invokeinterfaceUp c.1 (J := J) c.2.1 hl hf hd2 (c.face hpubJ rfl rfl) hxo hy (a := b) (cell := cellB) (kcell := kB) hcL hcell
      (fun z h => by rw [h] at hobj; cases hobj) hkB w3 hnx hrm hselP hmethM hway hpubM habM (g := g) hg (argsL := tl) (rest := rest) (hlen.trans (hn _ hsigR).symm) hst2 hdg
    exact ⟨mk, vm₁, X₁.warmed, X₁, X₁.named hnamed, hstep₁⟩
end
