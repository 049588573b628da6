/-! the q-machine is sound: calls, the induction -/
/-- the call's arguments: how many, and the receiver's class -/
def q_rcP (z : q_Fr) (H : Heap) (As : List Value) (n : Nat) (rc : Option (Option String)) : Prop := match rc with
  | none => As.length = n
  | some oc => ∃ (b : Addr) (tl : List Value), As = .ref b :: tl ∧ tl.length = n ∧ ∃ (cell : Cell) (kB : Class), H[b]? = some cell ∧ cell.vm.isStatics = false ∧ z.2.1.vm.classes[cell.cls]? = some kB ∧ ∀ C : String, oc = some C → z.2.1.vm.findClass C = some cell.cls
/-- which method a call runs: from the caller's frame to the callee's start -/
def q_Rs (z : q_Fr) (ins : Instr) (len : Nat) (y : MethodName) (rc : Option (Option String)) (n : Nat) : Prop :=
  ∀ (T : State) (locs : List Loc) (cells slots : Nat), Stand z.1.1 z.1.2.1 z.1.2.2.1 z.1.2.2.2 z.2.1 z.2.2.1 z.2.2.2.1 z.2.2.2.2.1 z.2.2.2.2.2.1 z.2.2.2.2.2.2 T locs cells slots →
  ∀ (g : JFrame) (As rest : List Value), g.method = z.2.2.1 → g.locals.size = z.2.2.2.2.2.2.maxLocals → g.stack = As.reverse ++ rest → decode z.2.2.2.2.2.2.code g.pc = .ok (ins, len) →
    q_rcP z T.heap As n rc →
    ∃ (mk : MethodId) (vm₁ : Vm), z.2.1.WarmedH vm₁ ∧ Stand z.1.1 z.1.2.1 z.1.2.2.1 z.1.2.2.2 z.2.1 z.2.2.1 z.2.2.2.1 z.2.2.2.2.1 z.2.2.2.2.2.1 z.2.2.2.2.2.2 (T.setVm vm₁) locs cells slots ∧ (T.setVm vm₁).methodNamed? y = some mk ∧
      ∀ target, (∀ acts, Steps z.1.1.tables z.1.2.2.1 z.2.2.2.2.1 (doInvoke z.1.2.2.1 ((T.setVm vm₁).setTop { g with stack := rest }) acts mk As.toArray).1 target) → Steps z.1.1.tables z.1.2.2.1 z.2.2.2.2.1 (T.setTop g) target
def q_Ctx (w : q_Wd) (z : q_Fr) (own : String) : Prop := z.1.1.tables.exec = Jvm.exec ∧ z.2.1.vm.findClass own = some z.2.2.1.cls ∧ q_WD w ∧ w.1.WarmedH z.2.1.vm
def q_eI0 : Prop := ∀ (cn i mu n : Nat) (own : String) (e : q_Mt), q_own[cn]? = some own → q_ik cn i = some (0, mu, n) → q_mt mu = some e → ∀ (w : q_Wd) (z : q_Fr), q_Ctx w z own → q_Rs z (.invokestatic i) 3 e.2.1 none n
def q_eI1 : Prop := ∀ (cn i mu n : Nat) (own : String) (e : q_Mt), q_own[cn]? = some own → q_ik cn i = some (1, mu, n) → q_mt mu = some e → ∀ (w : q_Wd) (z : q_Fr), q_Ctx w z own → q_Rs z (.invokespecial i) 3 e.2.1 (some none) n
def q_eI2 : Prop := ∀ (cn i x n c mu : Nat) (own C : String) (e : q_Mt), q_own[cn]? = some own → q_ik cn i = some (2, x, n) → q_vt x c = some mu → q_nm[c]? = some C → q_mt mu = some e → ∀ (w : q_Wd) (z : q_Fr), q_Ctx w z own → q_Rs z (.invokevirtual i) 3 e.2.1 (some (some C)) n
def q_eI7 : Prop := ∀ (cn i x n c mu count : Nat) (own C : String) (e : q_Mt), q_own[cn]? = some own → q_ik cn i = some (7, x, n) → q_vt x c = some mu → q_nm[c]? = some C → q_mt mu = some e → ∀ (w : q_Wd) (z : q_Fr), q_Ctx w z own → q_Rs z (.invokeinterface i count) 5 e.2.1 (some (some C)) n
/-- a contract of the method mu at depth d, for one run -/
def q_Pc (w : q_Wd) (as : List Value) (h : q_H) : Array Value → State → Prop := fun v U => v = (as.map (q_vm (q_F w))).toArray ∧ q_Cor w h U.heap ∧ w.1.WarmedH U.vm
def q_rm (d mc ms : Nat) : Room := { frames := d, cells := mc, slots := ms, locals := 32 * d }
def q_ws (y : MethodName) (code : ByteArray) (L : Nat) (rt : Option FieldType) (hs : List (Nat × Nat × Nat × Nat)) : List Cond := if hs = [] then [Cond.code y code L rt] else [Cond.codeWith y code L rt hs]
def q_CT (l : Launch) (w : q_Wd) (d mu : Nat) (as : List Value) (h : q_H) (r : q_R) : Prop := ∀ (cn : Nat) (y : MethodName) (code : ByteArray) (L : Nat) (rt : Option FieldType) (hs : List (Nat × Nat × Nat × Nat)), q_mt mu = some (cn, y, code, L, rt, hs) → 0 < mu → (as.flatMap fun v => if v.category = 2 then [some v, none] else [some v]).length ≤ L →
  ∃ ws : List Cond, ((hs = [] ∧ ws = [Cond.code y code L rt]) ∨ (hs ≠ [] ∧ ws = [Cond.codeWith y code L rt hs])) ∧ q_Met l y ws (q_rm d (r.2.2.1 - h.2.1) (r.2.2.2 - h.2.2)) (q_Pc w as h) (q_Qc w r) (q_XC w r) (r.2.2.1 - h.2.1) (r.2.2.2 - h.2.2) (q_fr w)
section
variable {w : q_Wd} {z : q_Fr} {Q : State → Prop} {L n0 s0 mc ms : Nat} {cn : Nat} {y : MethodName} {code : ByteArray} {rt : Option FieldType} {hs : List (Nat × Nat × Nat × Nat)}
variable {d mu pc : Nat} {ls : q_L} {st : List Value} {h : q_H} {c1 : q_C}
theorem q_Pc_blind {as : List Value} : FrameBlind (q_Pc w as h) := fun _ _ _ _ hp => ⟨hp.1, hp.2.1, hp.2.2⟩
theorem q_callW (hlo : q_laysOk) (hcs : q_eCS) (htk : q_eTK) (hnc : q_eNC) (hM0 : q_eM) (X : q_X w z (d + 1) cn y code L rt hs) (hmu : q_mt mu = some (cn, y, code, L, rt, hs)) {ins : Instr} {len mu' n : Nat} {e' : q_Mt} {rc : Option (Option String)} {as rest : List Value} {r1 rf : q_R} {x : q_R ⊕ q_C}
    (hd : decode code pc = .ok (ins, len)) (he' : q_mt mu' = some e') (hpos : 0 < mu') (hR : q_Rs z ins len e'.2.1 rc n) (hcat : q_cat rest ≤ 8) (hflat : (as.flatMap fun v => if v.category = 2 then [some v, none] else [some v]).length ≤ e'.2.2.2.1) (hct : q_CT z.1.2.1 w d mu' as h r1)
    (hge : q_ge h r1.2) (hN : r1.2.2.1 ≤ n0 + z.1.2.2.2.cells ∧ r1.2.2.2 ≤ s0 + z.1.2.2.2.slots) (hfin : n0 + mc = rf.2.2.1 ∧ s0 + ms = rf.2.2.2)
    (hrc : ∀ H : Heap, q_Cor w h H → q_rcP z H (as.map (q_vm (q_F w))) n rc)
    (hx : (match r1.1 with | .inl v => some (.inr (d + 1, mu, pc + len, ls, v.toList ++ rest, r1.2)) | .inr q => q_thr (d + 1) mu pc ls r1.2 q) = some x)
    (k : q_kx w z rf mc ms L n0 s0 x) (hst : st = as.reverse ++ rest) : q_G w z (q_End w z rf mc ms) L n0 s0 (d + 1, mu, pc, ls, st, h) := by
  subst hst
  intro H locs cells slots as0 hC hl hL hc hs'
  have hc' : n0 + cells = h.2.1 := hc
  have hs2 : s0 + slots = h.2.2 := hs'
  obtain ⟨cn', y', code', L', rt', hs''⟩ := e'
  obtain ⟨hown', hplain, hL13, hini, hcodes⟩ := hM0 mu' cn' y' code' L' rt' hs'' hpos he'
  obtain ⟨ws, hws, hM⟩ := hct cn' y' code' L' rt' hs'' he' hpos hflat
  have hW := X.2.2.1
  have hfr : d + 1 ≤ z.1.2.2.2.frames := X.2.2.2.2.1
  have hlo2 : 32 * (d + 1) ≤ z.1.2.2.2.locals := X.2.2.2.2.2.1
  have hge1 := hge.1
  have hge2 := hge.2
  have hN1 := hN.1
  have hN2 := hN.2
  have hmcat : 2 * (F0 z.2.2.1 pc as0 (rest.map (q_vm (q_F w)))).monitorRoom + ((rest.map (q_vm (q_F w))).map fun v => v.category).sum ≤ 8 := by
    rw [q_cat_vm]; show 2 * 0 + _ ≤ _; omega
  have hK : vx_Back z.1.2.1 z.1.2.2.2 z.1.1 z.1.2.2.1 z.2.2.2.2.1 z.2.1 z.2.2.2.1 y' len 8 (PreOf z.1.2.2.2 (r1.2.2.1 - h.2.1) (r1.2.2.2 - h.2.2) (q_Pc w as h)) (PostOf (q_Qc w r1) (r1.2.2.1 - h.2.1) (r1.2.2.2 - h.2.2) (q_fr w)) (q_Post (q_XC w r1) (r1.2.2.1 - h.2.1) (r1.2.2.2 - h.2.2) (q_fr w)) := by
    have hini2 : ∀ a' U, z.2.1.WarmedH U.vm → (Cond.initialized y'.cls).before a' U = true := fun a' U hWU => X.2.1.word (hW.trans hWU) hini a'
    rcases hcodes with ⟨hnil, hcode⟩ | ⟨hnil, hcode⟩
    · rcases hws with ⟨-, rfl⟩ | ⟨hnn, -⟩
      · refine q_back (bytes := code') (maxL := L') (ret := rt') hM q_Pc_blind rfl rfl (by show d + 1 ≤ _; exact hfr) (by show 8 + (L' + 11) + 32 * d ≤ _; omega) (fun zz hz a' U hWU => ?_) List.mem_cons_self hini2
        rw [List.mem_singleton.mp hz]
        exact X.2.1.word (hW.trans hWU) hcode a'
      · exact absurd hnil hnn
    · rcases hws with ⟨hnn, -⟩ | ⟨-, rfl⟩
      · exact absurd hnn hnil
      · refine q_backW (bytes := code') (maxL := L') (ret := rt') (hh := hs'') hM q_Pc_blind rfl rfl (by show d + 1 ≤ _; exact hfr) (by show 8 + (L' + 11) + 32 * d ≤ _; omega) (fun zz hz a' U hWU => ?_) List.mem_cons_self hini2
        rw [List.mem_singleton.mp hz]
        exact X.2.1.word (hW.trans hWU) hcode a'
  intro T hT XS
  have hrc2 : q_rcP z T.heap (as.map (q_vm (q_F w))) n rc := by rw [hT]; exact hrc H hC
  obtain ⟨mk, vm₁, hwm, X₁, hnamed, hstep⟩ := hR T locs cells slots XS (F0 z.2.2.1 pc as0 ((as.reverse ++ rest).map (q_vm (q_F w)))) (as.map (q_vm (q_F w))) (rest.map (q_vm (q_F w))) rfl (hL.1.trans X.1.2.2.1.symm)
    (by show (as.reverse ++ rest).map (q_vm (q_F w)) = _; rw [List.map_append, List.map_reverse]) (by rw [X.1.2.1]; exact hd) hrc2
  have hpre : PreOf z.1.2.2.2 (r1.2.2.1 - h.2.1) (r1.2.2.2 - h.2.2) (q_Pc w as h) ⟨T.setVm vm₁, locs, cells, slots⟩ (as.map (q_vm (q_F w))).toArray :=
    ⟨by show cells + _ ≤ _; omega, by show slots + _ ≤ _; omega, rfl, by show q_Cor w h T.heap; rw [hT]; exact hC, hW.trans hwm⟩
  rcases hK z.2.2.1 z.2.2.2.2.2.1 z.2.2.2.2.2.2 ⟨T.setVm vm₁, locs, cells, slots⟩ (F0 z.2.2.1 pc as0 (rest.map (q_vm (q_F w)))) ins mk (as.map (q_vm (q_F w))).toArray X₁ rfl (hL.1.trans X.1.2.2.1.symm) (by rw [X.1.2.1]; exact hd) hmcat hnamed hpre with ⟨v, B, X', ⟨g', mk', t, Ls, e1, e2, ⟨⟨v', hr1, hv'⟩, hC'⟩, h1, hLs, h2, h3⟩, hsteps⟩ | ⟨q, B, X', ⟨g', mk', t, Ls, E, ce, e1, e2, ⟨a, c, fs, hr1, hcell, hE, hq, hC'⟩, hce, hcv, hcl, h1, hLs, h2, h3⟩, hsteps⟩
  · rw [hr1] at hx
    cases hx
    have hvv : v = v'.map (q_vm (q_F w)) := by cases hv'; rfl
    subst hvv
    have h2' : B.cells = cells + (r1.2.2.1 - h.2.1) := h2
    have h3' : B.slots = slots + (r1.2.2.2 - h.2.2) := h3
    obtain ⟨t1, a1, b1⟩ := k B.U.heap B.locs B.cells B.slots as0 (by rw [e1]; exact hC') (fun q hq => by
      rw [h1, List.mem_append] at hq
      rcases hq with hq | hq
      · exact hl q hq
      · exact hLs q hq) hL (by show n0 + B.cells = r1.2.2.1; omega) (by show s0 + B.slots = r1.2.2.2; omega) B.U rfl X'
    refine ⟨t1, hstep _ fun acts => ?_, b1⟩
    rw [doInvoke_state]
    refine hsteps.trans ?_
    have hstk : (v'.map (q_vm (q_F w))).toList ++ rest.map (q_vm (q_F w)) = (v'.toList ++ rest).map (q_vm (q_F w)) := by cases v' <;> rfl
    show Steps _ _ _ (B.U.setTop (F0 z.2.2.1 (pc + len) as0 ((v'.map (q_vm (q_F w))).toList ++ rest.map (q_vm (q_F w))))) t1
    rw [hstk]
    exact a1
  · rw [hr1] at hx
    have h2' : B.cells = cells + (r1.2.2.1 - h.2.1) := h2
    have h3' : B.slots = slots + (r1.2.2.2 - h.2.2) := h3
    obtain ⟨t1, a1, b1⟩ := q_thr_s hlo hcs htk hnc X hmu hx hfin k (H := B.U.heap) (locs := B.locs) (cells := B.cells) (slots := B.slots) (as := as0) (g := F0 z.2.2.1 pc as0 (rest.map (q_vm (q_F w)))) rfl (by rw [e1]; exact hC') (fun q hq => by
      rw [h1, List.mem_append] at hq
      rcases hq with hq | hq
      · exact hl q hq
      · exact hLs q hq) hL (by omega) (by omega) hq B.U rfl X'
    refine ⟨t1, hstep _ fun acts => ?_, b1⟩
    rw [doInvoke_state]
    exact hsteps.trans a1
end
