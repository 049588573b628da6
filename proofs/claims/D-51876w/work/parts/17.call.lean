/-! the q-machine is sound: handlers, ends, calls -/
def q_eNC : Prop := ∀ (w : q_Wd), q_WD w → ∀ c tid : Nat, q_nc.contains (c, tid) = true → ∃ E T : String, q_nm[c]? = some E ∧ q_tn[tid]? = some T ∧ va_Nc E T w.1
def q_eM : Prop := ∀ (mu cn : Nat) (y : MethodName) (code : ByteArray) (L : Nat) (rt : Option FieldType) (hs : List (Nat × Nat × Nat × Nat)), 0 < mu → q_mt mu = some (cn, y, code, L, rt, hs) →
  q_own[cn]? = some y.cls ∧ plainFor y = true ∧ L ≤ 13 ∧ Cond.initialized y.cls ∈ lw_all ∧ ((hs = [] ∧ Cond.code y code L rt ∈ lw_all) ∨ (hs ≠ [] ∧ Cond.codeWith y code L rt hs ∈ lw_all))
/-- what a run comes to, in the machine's words -/
def q_Qc (w : q_Wd) (r : q_R) : Array Value → State → Outcome → State → Prop := fun _ _ oc t => (∃ v : Option Value, r.1 = .inl v ∧ oc = .returned (v.map (q_vm (q_F w)))) ∧ q_Cor w r.2 t.heap
def q_XC (w : q_Wd) (r : q_R) : Addr → String → State → State → Prop := fun q E _ t => ∃ (a c : Nat) (fs : List Value), r.1 = .inr a ∧ r.2.1 a = some (true, .inr (c, fs)) ∧ q_nm[c]? = some E ∧ q_F w a = some q ∧ q_Cor w r.2 t.heap
def q_MQ (below : List Frame) (Qc : Array Value → State → Outcome → State → Prop) (XC : Addr → String → State → State → Prop) (a : Array Value) (s : State) (mc ms : Nat) (free : Addr → Prop) : State → Prop := fun t =>
  ∃ o, t.status = .running ∧ Ended t below o ∧ q_Q_ Qc XC mc ms free a s o t
def q_fr (w : q_Wd) : Addr → Prop := fun q => w.1.heap.size ≤ q
/-- the end that a frame owes -/
def q_End (w : q_Wd) (z : q_Fr) (r : q_R) (mc ms : Nat) : State → Prop := q_MQ z.2.2.2.2.1 (q_Qc w r) (q_XC w r) z.2.2.2.1 z.2.1 mc ms (q_fr w)
def q_kx (w : q_Wd) (z : q_Fr) (rf : q_R) (mc ms L n0 s0 : Nat) (x : q_R ⊕ q_C) : Prop := match x with
  | .inl r => r = rf
  | .inr c' => q_G w z (q_End w z rf mc ms) L n0 s0 c'
section
variable {w : q_Wd} {z : q_Fr} {Q : State → Prop} {L n0 s0 mc ms : Nat} {cn : Nat} {y : MethodName} {code : ByteArray} {rt : Option FieldType} {hs : List (Nat × Nat × Nat × Nat)}
variable {d mu pc : Nat} {ls : q_L} {st : List Value} {h : q_H} {c1 : q_C}
theorem q_retK {p : Program} {l : Launch} {e : Env} {R : Room} {s : State} {m : MethodId} {args : Array Value} {below : List Frame} {meth : Method} {c : Code} {H : Heap} {locs : List Loc} {cells slots : Nat} {Qc : Array Value → State → Outcome → State → Prop} {XC : Addr → String → State → State → Prop} {free : Addr → Prop} {g : JFrame} {mc ms : Nat} (k : W p l e R s m args below meth c H locs cells slots (MQ below Qc args s mc ms free) g) :
    W p l e R s m args below meth c H locs cells slots (q_MQ below Qc XC args s mc ms free) g := by
  intro T hT X
  obtain ⟨t, a1, o, b1, b2, b3, b4⟩ := k T hT X
  exact ⟨t, a1, o, b1, b2, Or.inl ⟨b3, b4⟩⟩
theorem q_s_ireturn {x : Int32} {ty : FieldType} (X : q_X w z d cn y code L rt hs) (hd : decode code pc = .ok (.ireturn, 1)) (hr : rt = some ty) (hn : narrow ty (.int x) = .int x) (hm : n0 + mc = h.2.1 ∧ s0 + ms = h.2.2) :
    q_G w z (q_End w z (.inl (some (.int x)), h) mc ms) L n0 s0 (d, mu, pc, ls, [.int x], h) := by
  obtain ⟨⟨hx, hb, hml, hret, hlocks, -⟩, -⟩ := X
  intro H locs cells slots as hC hl hL hc hs'
  have hc' : n0 + cells = h.2.1 := hc
  have hs2 : s0 + slots = h.2.2 := hs'
  obtain rfl : cells = mc := by omega
  obtain rfl : slots = ms := by omega
  exact q_retK (W.zret (v := x) hx hb (hret.trans hr) hn (fun t ht hW => ⟨⟨_, rfl, rfl⟩, by rw [ht]; exact hC⟩) hl hd)
theorem q_s_dreturn {x : UInt64} (X : q_X w z d cn y code L rt hs) (hd : decode code pc = .ok (.dreturn, 1)) (hr : rt = some .double) (hm : n0 + mc = h.2.1 ∧ s0 + ms = h.2.2) :
    q_G w z (q_End w z (.inl (some (.double x)), h) mc ms) L n0 s0 (d, mu, pc, ls, [.double x], h) := by
  obtain ⟨⟨hx, hb, hml, hret, hlocks, -⟩, -⟩ := X
  intro H locs cells slots as hC hl hL hc hs'
  have hc' : n0 + cells = h.2.1 := hc
  have hs2 : s0 + slots = h.2.2 := hs'
  obtain rfl : cells = mc := by omega
  obtain rfl : slots = ms := by omega
  exact q_retK (W.dret (v := x) hx hb (hret.trans hr) (fun t ht hW => ⟨⟨_, rfl, rfl⟩, by rw [ht]; exact hC⟩) hl hd)
theorem q_s_freturn {x : UInt32} (X : q_X w z d cn y code L rt hs) (hd : decode code pc = .ok (.freturn, 1)) (hr : rt = some .float) (hm : n0 + mc = h.2.1 ∧ s0 + ms = h.2.2) :
    q_G w z (q_End w z (.inl (some (.float x)), h) mc ms) L n0 s0 (d, mu, pc, ls, [.float x], h) := by
  obtain ⟨⟨hx, hb, hml, hret, hlocks, -⟩, -⟩ := X
  intro H locs cells slots as hC hl hL hc hs'
  have hc' : n0 + cells = h.2.1 := hc
  have hs2 : s0 + slots = h.2.2 := hs'
  obtain rfl : cells = mc := by omega
  obtain rfl : slots = ms := by omega
  exact q_retK (W.fret (v := x) hx hb (hret.trans hr) (fun t ht hW => ⟨⟨_, rfl, rfl⟩, by rw [ht]; exact hC⟩) hl hd)
theorem q_s_return (X : q_X w z d cn y code L rt hs) (hd : decode code pc = .ok (.return_, 1)) (hr : rt = none) (hm : n0 + mc = h.2.1 ∧ s0 + ms = h.2.2) :
    q_G w z (q_End w z (.inl none, h) mc ms) L n0 s0 (d, mu, pc, ls, [], h) := by
  obtain ⟨⟨hx, hb, hml, hret, hlocks, -⟩, -⟩ := X
  intro H locs cells slots as hC hl hL hc hs'
  have hc' : n0 + cells = h.2.1 := hc
  have hs2 : s0 + slots = h.2.2 := hs'
  obtain rfl : cells = mc := by omega
  obtain rfl : slots = ms := by omega
  exact q_retK (W.vret hx hb (hret.trans hr) (fun t ht hW => ⟨⟨_, rfl, rfl⟩, by rw [ht]; exact hC⟩) hl hd)
theorem q_s_areturn {v : Value} {ty : FieldType} (X : q_X w z d cn y code L rt hs) (hd : decode code pc = .ok (.areturn, 1)) (hr : rt = some ty) (hty : (∃ n, ty = .object n) ∨ ∃ t, ty = .array t) (hv : q_okv (.object "") v = true) (hm : n0 + mc = h.2.1 ∧ s0 + ms = h.2.2) :
    q_G w z (q_End w z (.inl (some v), h) mc ms) L n0 s0 (d, mu, pc, ls, [v], h) := by
  obtain ⟨⟨hx, hb, hml, hret, hlocks, -⟩, -⟩ := X
  intro H locs cells slots as hC hl hL hc hs'
  have hc' : n0 + cells = h.2.1 := hc
  have hs2 : s0 + slots = h.2.2 := hs'
  obtain rfl : cells = mc := by omega
  obtain rfl : slots = ms := by omega
  have hvr : q_vm (q_F w) v = .null ∨ ∃ a, q_vm (q_F w) v = .ref a := by
    cases v with
    | null => exact Or.inl rfl
    | ref a =>
      show va_rf (q_F w a) = _ ∨ ∃ b, va_rf (q_F w a) = .ref b
      cases q_F w a with
      | none => exact Or.inl rfl
      | some r => exact Or.inr ⟨r, rfl⟩
    | _ => simp [q_okv] at hv
  exact q_retK (W.aret (v := q_vm (q_F w) v) hx hb (hret.trans hr) hty hvr (fun t ht hW => ⟨⟨_, rfl, rfl⟩, by rw [ht]; exact hC⟩) hl hd)
/-- an object is thrown: it's caught here, or it leaves -/
abbrev q_VW (z : q_Fr) (H : Heap) (locs : List Loc) (cells slots : Nat) (Q : State → Prop) (g : JFrame) (q : Addr) : Prop := vx_W z.1.1 z.1.2.1 z.1.2.2.1 z.1.2.2.2 z.2.1 z.2.2.1 z.2.2.2.1 z.2.2.2.2.1 z.2.2.2.2.2.1 z.2.2.2.2.2.2 H locs cells slots Q g q
theorem q_hnd_s (hlo : q_laysOk) (hcs : q_eCS) (htk : q_eTK) (hnc : q_eNC) (X : q_X w z d cn y code L rt hs) {c pc : Nat} {E : String} (hE : q_nm[c]? = some E) {ec : ClassId} (hec : z.2.1.vm.findClass E = some ec) {e : Env} (hpl : e.platform.magicAccessors = ({} : Platform).magicAccessors) :
    ∀ (suf pre : List (Nat × Nat × Nat × Nat)) (r : Option Nat), hs = pre ++ suf → (∀ x ∈ tableOf pre, RowPassed e.platform z.2.1 z.2.2.1.cls pc ec x) → q_hnd cn pc c suf = some r →
      match r with
      | none => ∀ x ∈ tableOf hs, RowPassed e.platform z.2.1 z.2.2.1.cls pc ec x
      | some hp => ∃ (pre' : List ExceptionTableEntry) (x : ExceptionTableEntry) (rest : List ExceptionTableEntry), tableOf hs = pre' ++ x :: rest ∧ (∀ v ∈ pre', RowPassed e.platform z.2.1 z.2.2.1.cls pc ec v) ∧ covers x pc = true ∧ RowCatches e.platform z.2.1 z.2.2.1.cls ec x ∧ x.handlerPc = hp := by
  have hts := X.tsAll
  obtain ⟨⟨hx, hb, hml, -, -, hown, -⟩, hw, hW, htr, hfr, hlo2, hcn, -⟩ := X
  intro suf
  induction suf with
  | nil =>
    intro pre r hh hp he
    cases he
    rw [hh, List.append_nil]
    exact hp
  | cons q suf ih =>
    obtain ⟨sp, ep, hp0, ct⟩ := q
    intro pre r hh hp he
    have hnext : RowPassed e.platform z.2.1 z.2.2.1.cls pc ec ⟨sp, ep, hp0, ct⟩ → q_hnd cn pc c suf = some r → _ := fun hrow he2 => ih (pre ++ [(sp, ep, hp0, ct)]) r (by rw [hh, List.append_assoc]; rfl) (fun x hx2 => by
      unfold tableOf at hx2
      rw [List.map_append, List.mem_append] at hx2
      rcases hx2 with hx2 | hx2
      · exact hp x hx2
      · rw [List.map_cons, List.map_nil, List.mem_singleton] at hx2
        rw [hx2]; exact hrow) he2
    have hsplit : tableOf hs = tableOf pre ++ ⟨sp, ep, hp0, ct⟩ :: tableOf suf := by
      rw [hh]; unfold tableOf; rw [List.map_append, List.map_cons]
    rw [q_hnd] at he
    split at he
    · rename_i hcov
      have hcv : covers ⟨sp, ep, hp0, ct⟩ pc = true := by
        show (decide (sp ≤ pc) && decide (pc < ep)) = true
        simp [hcov]
      split at he
      · rename_i h0
        cases he
        exact ⟨_, _, _, hsplit, hp, hcv, Or.inl h0, rfl⟩
      · rename_i h0
        split at he
        · cases he
        · rename_i tid htid
          obtain ⟨T, hT, hlink⟩ := htk cn ct tid _ hcn htid
          obtain ⟨c5, hc5, hcl5⟩ := Cond.classLink_spec hown (hts _ hlink) e.platform hpl
          split at he
          · rename_i hin
            cases he
            obtain ⟨C', T', hC', hT', hk⟩ := hcs c tid hin
            cases hE.symm.trans hC'
            cases hT.symm.trans hT'
            refine ⟨_, _, _, hsplit, hp, hcv, Or.inr ⟨h0, c5, hcl5, ?_⟩, rfl⟩
            rcases hk with hk | rfl
            · obtain ⟨c3, c4, hc3, hc4, hasg⟩ := Cond.castable_spec (va_Nw.use (A := #[]) rfl (q_castL hw hW hk))
              cases hec.symm.trans hc3
              cases hc5.symm.trans hc4
              exact hasg
            · cases hec.symm.trans hc5
              exact va_asg _ _
          · split at he
            · rename_i hno
              obtain ⟨E', T', hE', hT', hn⟩ := hnc w hw c tid hno
              cases hE.symm.trans hE'
              cases hT.symm.trans hT'
              obtain ⟨a8, b8, g1, g2, g3⟩ := va_Nc.moved (U := z.2.1) hW.alike hn
              cases hec.symm.trans g1
              cases hc5.symm.trans g2
              exact hnext (Or.inr ⟨h0, c5, hcl5, g3⟩) he
            · cases he
    · rename_i hcov
      have hcv : covers ⟨sp, ep, hp0, ct⟩ pc = false := by
        show (decide (sp ≤ pc) && decide (pc < ep)) = false
        rcases Nat.lt_or_ge pc sp with q | q
        · simp; omega
        · rcases Nat.lt_or_ge pc ep with q2 | q2
          · exact absurd ⟨q, q2⟩ hcov
          · simp; omega
      exact hnext (Or.inl hcv) he
theorem q_thr_s (hlo : q_laysOk) (hcs : q_eCS) (htk : q_eTK) (hnc : q_eNC) (X : q_X w z d cn y code L rt hs) (hmu : q_mt mu = some (cn, y, code, L, rt, hs)) {a : Nat} {x : q_R ⊕ q_C} (ht : q_thr d mu pc ls h a = some x) {rf : q_R} (hN : n0 + mc = rf.2.2.1 ∧ s0 + ms = rf.2.2.2)
    (k : q_kx w z rf mc ms L n0 s0 x) {H : Heap} {locs : List Loc} {cells slots : Nat} {as : Array Slot} {g : JFrame} {r0 : List Value} {q : Nat} (hg : g = F0 z.2.2.1 pc as r0) (hC : q_Cor w h H) (hl : ∀ q ∈ locs, w.1.heap.size ≤ q.base) (hL : q_Lc (q_F w) L ls as) (hc : n0 + cells = h.2.1) (hs' : s0 + slots = h.2.2) (hq : q_F w a = some q) :
    q_VW z H locs cells slots (q_End w z rf mc ms) g q := by
  subst hg
  unfold q_thr at ht
  rw [hmu] at ht
  split at ht
  · rename_i x1 x2 cn' hs2 c fs heq ha
    cases heq
    obtain ⟨r0', cell, nm, hF, hcell, hst, hun, hnm, hcls, -⟩ := q_obj X.2.1 hlo hC X.2.2.1 ha
    have hrq : r0' = q := Option.some.inj (hF.symm.trans hq)
    subst hrq
    obtain ⟨hx0, hx2, hsg⟩ := (hC.2.2.2 a true _ ha).1 rfl
    obtain ⟨cell2, hcell2, hvm2, -⟩ := hsg
    have hF2 := q_F_new w hx0
    have hq' : r0' = w.1.heap.size + (a - 1000) := Option.some.inj (hF.symm.trans hF2)
    rw [← hq'] at hcell2
    have hce : cell = cell2 := Option.some.inj (hcell.symm.trans hcell2)
    rw [← hce] at hvm2
    clear hcell2 hce hq' hF2
    obtain ⟨kC, hkC, -⟩ := Vm.findClass_spec hcls
    intro T hT XS
    have hpl : z.1.2.2.1.platform.magicAccessors = ({} : Platform).magicAccessors := by rw [XS.admits.platform]
    have hcellT : T.heap[r0']? = some cell := by rw [hT]; exact hcell
    split at ht
    · rename_i hp hhnd
      cases ht
      obtain ⟨pre', x, rest, h1, h2, h3, h4, h5⟩ := q_hnd_s hlo hcs htk hnc X hnm hcls hpl _ [] _ rfl (fun x hx9 => nomatch hx9) hhnd
      obtain ⟨vm', X', st'⟩ := XS.thenCaughtThrough r0' (g := F0 z.2.2.1 pc as r0) rfl (Steps.refl _) hcellT hst ⟨kC, hkC⟩ pre' x rest (X.2.2.2.2.2.2.2.1.trans h1) h2 h3 h4
      have k2 := k H locs cells slots as hC hl hL hc hs'
      have k3 : q_W z H locs cells slots _ (F0 z.2.2.1 hp as [q_vm (q_F w) (.ref a)]) := k2
      rw [q_vm_ref hF] at k3
      obtain ⟨t, a1, b1⟩ := k3 (T.setVm vm') hT X'
      refine ⟨t, st'.trans ?_, b1⟩
      rw [h5]
      exact a1
    · rename_i hhnd
      cases ht
      have hk : (Sum.inr a, h) = rf := k
      subst hk
      have h2 := q_hnd_s hlo hcs htk hnc X hnm hcls hpl _ [] _ rfl (fun x hx9 => nomatch hx9) hhnd
      obtain ⟨vm', hW', X', st'⟩ := XS.outThrough X.1.2.2.2.2.1 r0' (g := F0 z.2.2.1 pc as r0) rfl rfl rfl hcellT hst ⟨kC, hkC⟩ (by rw [X.2.2.2.2.2.2.2.1]; exact h2)
      obtain ⟨g₀, hfr⟩ := X'.frames_eq
      have hcell9 : ((T.setVm vm').setFrames (.throwing r0' :: z.2.2.2.2.1)).heap[r0']? = some cell := hcellT
      have hend : Ended ((T.setVm vm').setFrames (.throwing r0' :: z.2.2.2.2.1)) z.2.2.2.2.1 (.threw r0') := State.frames_setFrames _ (State.cur_lt_of_frames hfr)
      have hN1 : n0 + mc = h.2.1 := hN.1
      have hN2 : s0 + ms = h.2.2 := hN.2
      refine ⟨(T.setVm vm').setFrames (.throwing r0' :: z.2.2.2.2.1), ?_, .threw r0', X'.here.running, hend, Or.inr ⟨_, rfl, nm, cell, locs, ⟨a, c, fs, rfl, ha, hnm, hF, ?_⟩, hcell9, hvm2, hcls, (X'.ends _).1, (X'.ends _).2.mono (by omega) (by omega), hl⟩⟩
      · rw [XS.pushThrowing_eq]
        exact st'
      · show q_Cor w h T.heap
        rw [hT]; exact hC
    · cases ht
  · cases ht
end
