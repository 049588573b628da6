/-! the q-machine is sound: new cells, natives, ends -/
def q_eNW : Prop := ∀ (cn i c : Nat) (own : String), q_own[cn]? = some own → q_nw cn i = some c → ∃ C : String, q_nm[c]? = some C ∧ Cond.classLink own i C ∈ lw_all ∧ Cond.initialized C ∈ lw_all ∧ ∀ fs : List Value, q_df[c]? = some fs → ∃ r : vw_C, q_cl[c]? = some r ∧ Cond.instantiable C r.2.2 ∈ lw_all
def q_moves (z : Cond) : Prop := goodWord z = true ∨ (∃ x, z = .declares x) ∨ ∃ C T, z = .castable C T
def q_eNX : Prop := ∀ (cn i ic c : Nat) (own : String), q_own[cn]? = some own → q_nw cn i = some c → q_df[c]? = none → q_jx cn ic = some c → ∃ (C : String) (T : u_T) (names : List String), q_nm[c]? = some C ∧ q_cl[c]? = some (C, T, 0) ∧ Bundle.fit C = true ∧ (∀ n ∈ names, Bundle.fit n = true) ∧ names.length ≤ 3 ∧
  Cond.classLink own i C ∈ lw_all ∧ Cond.initialized C ∈ lw_all ∧ (∀ z ∈ vx_at0 own ic C names, z ∈ lw_tbl ∧ q_moves z) ∧ ∀ z ∈ Cond.classLink own i C :: Cond.initialized C :: vx_at0 own ic C names, vx_ot z = true
theorem q_WD.moves {w : q_Wd} (h : q_WD w) {s : State} (hW : w.1.WarmedH s.vm) {z : Cond} (hz : z ∈ lw_tbl) (hm : q_moves z) (args : Array Value) : z.before args s = true := by
  rcases hm with hg | ⟨x, rfl⟩ | ⟨C, T, rfl⟩
  · exact word_at hW (good_of_word hg) (h.1 z hz)
  · exact va_Nw.use rfl (va_Nw.warmD hW (va_Nw.of rfl (h.1 _ hz)))
  · exact va_Nw.use rfl (va_Nw.warmC hW (va_Nw.of rfl (h.1 _ hz)))
def q_nref (v : Value) : Bool := match v with
  | .ref _ => false
  | _ => true
theorem q_dfOk : ∀ c : Nat, c < 26 → (match q_df[c]?, q_cl[c]? with | some fs, some r => decide (fs.length = r.2.2) && decide (fs.length = (q_cf.getD c []).length) && (List.range r.2.2).all (fun k => decide (defaultValue ((q_tys.getD c (fun _ => .int)) k) = fs.getD k .null) && q_nref (fs.getD k .null)) | _, _ => false) = true := by decide +kernel
theorem q_df_at {c : Nat} {fs : List Value} {r : vw_C} (h : q_df[c]? = some fs) (hr : q_cl[c]? = some r) : fs.length = r.2.2 ∧ fs.length = (q_cf.getD c []).length ∧ ∀ k, k < r.2.2 → defaultValue ((q_tys.getD c (fun _ => .int)) k) = fs.getD k .null ∧ q_nref (fs.getD k .null) = true := by
  have hlt : c < 26 := (List.getElem?_eq_some_iff.mp h).1
  have h2 := q_dfOk c hlt
  rw [h, hr] at h2
  simp only [Bool.and_eq_true, List.all_eq_true, List.mem_range, decide_eq_true_eq] at h2
  exact ⟨h2.1.1, h2.1.2, h2.2⟩
theorem q_vm_nref {F : Nat → Option Nat} {v : Value} (h : q_nref v = true) : q_vm F v = v := by
  cases v <;> first | rfl | simp [q_nref] at h
section
variable {p : Program} {l : Launch} {e : Env} {R : Room} {s : State} {m : MethodId} {args : Array Value} {below : List Frame} {meth : Method} {c : Code} {H : Heap} {locs : List Loc} {cells slots : Nat} {Q : State → Prop}
variable {ls : Array Slot} {rest : List Value}
/-- 'new E()' (follows vx_make0 of kit/laws, with the new cell's place) -/
theorem q_make0 {cc : ByteArray} {pc : Nat} (hexec : p.tables.exec = Jvm.exec) (hb : c.code = cc) (hl : l.stackTraces = false) {own cls : String} {names : List String} {ik ic : Nat} {A : Nat → Prop}
    (hown : s.vm.findClass own = some m.cls) (hcls : Bundle.fit cls = true) (hnames : ∀ n ∈ names, Bundle.fit n = true)
    (hk : (Cond.classLink own ik cls).before args s = true) (hini : (Cond.initialized cls).before args s = true) (hat : ∀ w ∈ vx_at0 own ic cls names, w.before args s = true)
    (hgood : ∀ w ∈ Cond.classLink own ik cls :: Cond.initialized cls :: vx_at0 own ic cls names, vx_ot w = true)
    (hU : vx_Zq Bundle.tN "UNASSIGNED_STACK" Bundle.steD A s s.heap) (hN : vx_Zq Bundle.tN "SUPPRESSED_SENTINEL" Bundle.listD A s s.heap) (hS : va_S A s.heap H locs) (hsize : ls.size = c.maxLocals)
    (d0 : decode cc pc = .ok (.new ik, 3)) (d3 : decode cc (pc + 3) = .ok (.dup, 1)) (d4 : decode cc (pc + 4) = .ok (.invokespecial ic, 3))
        (hRframes : names.length + 3 < R.frames) (hRlocals : (rest.map fun v => v.category).sum + (13 * (names.length + 1) + 42) ≤ R.locals) (hRcells : cells + 1 ≤ R.cells) (hRslots : slots + 6 ≤ R.slots)
    (kk : ∀ (H1 : Heap) (ce : Cell), H1[H.size]? = some ce → ce.vm = .none → s.vm.findClass cls = some ce.cls → H1.size = H.size + 1 → (∀ q : Nat, q < H.size → H1[q]? = H[q]?) → W p l e R s m args below meth c H1 locs (cells + 1) (slots + 6) Q (F0 m (pc + 7) ls (.ref H.size :: rest))) :
    W p l e R s m args below meth c H locs cells slots Q (F0 m pc ls rest) := by
  intro T hT X
  subst hT
  have htr : e.platform.stackTraces = false := (show e.platform.stackTraces = l.stackTraces by rw [X.admits.platform]).trans hl
  have Y := vx_rebase X (R' := { frames := R.frames, locals := R.locals, cells := 1, slots := 6 }) (Nat.le_refl _) (Nat.le_refl _) hRcells hRslots
  obtain ⟨s', hA'⟩ : ∃ z, z = (T.setVm s.vm).setFrames (.invoking m args :: below) := ⟨_, rfl⟩
  rw [← hA'] at Y
  have hvm : s'.vm = s.vm := by rw [hA']; rfl
  have hhp : s'.heap = T.heap := by rw [hA']; rfl
  have hW0 : s.WarmedH s'.vm := by rw [hvm]; exact State.WarmedH.refl s
  have hat' : ∀ w ∈ vx_at0 own ic cls names, w.before args s' = true := fun w hw => vx_ot_at hW0 hvm.symm (hgood w (List.mem_cons_of_mem _ (List.mem_cons_of_mem _ hw))) (hat w hw)
  have hk' : (Cond.classLink own ik cls).before args s' = true := vx_ot_at hW0 hvm.symm (hgood _ List.mem_cons_self) hk
  have hini' : (Cond.initialized cls).before args s' = true := vx_ot_at hW0 hvm.symm (hgood _ (List.mem_cons_of_mem _ List.mem_cons_self)) hini
  have hU' : vx_Zq Bundle.tN "UNASSIGNED_STACK" Bundle.steD A s' s'.heap := by rw [hhp]; exact vx_Zq.moved hW0.alike (hU.kept hS.2.1)
  have hN' : vx_Zq Bundle.tN "SUPPRESSED_SENTINEL" Bundle.listD A s' s'.heap := by rw [hhp]; exact vx_Zq.moved hW0.alike (hN.kept hS.2.1)
  have h : ∀ w ∈ Bundle.ownAtoms0 own ic cls names, w.before args s' = true := vx_own hat' (vx_isRefq hU'.1) (vx_isRefq hN'.1) hU'.2.word hN'.2.word
  have hown' : s'.vm.findClass own = some m.cls := by rw [hvm]; exact hown
  have hins : (Cond.instantiable cls 6).before args s' = true := h _ (by simp [Bundle.ownAtoms0])
  obtain ⟨vm₁, cX, kX, hfX, hkX, -, -, X₁, st1⟩ := Y.newCold hexec (own := own) (C := cls) (index := ik) (n := 6) hown' hk' hins hini'
    (g := F0 m pc ls rest) rfl (by rw [hb]; exact d0) (Nat.le_refl _) (Nat.le_refl _)
  generalize hT1 : (T.setVm vm₁).pushCell { cls := cX, slots := kX.instanceTypes.map defaultValue, vm := .none } = T1 at X₁ st1
  have hcat : (Value.ref T.heap.size).category = 1 := rfl
  have hcellA : T1.heap[T.heap.size]? = some (freshCell cX kX) := by rw [← hT1]; exact State.heap_pushCell_size _ _
  have d3' : decode c.code (pc + 3) = .ok (.dup, 1) := by rw [hb]; exact d3
  obtain ⟨V, ce, L, Z, hL, hlt, hcl9, hvm9, st⟩ := vx_ctorMade0 X₁ hexec htr (own := own) (cls := cls) (names := names) (ic := ic) hown' hcls hnames h (fun x hx => nomatch hx) hfX hkX hcellA (by rw [hhp]; exact Nat.le_refl _)
    (g := { method := m, pc := pc + 4, locals := ls, stack := .ref T.heap.size :: .ref T.heap.size :: rest, locked := none }) rfl hsize (rest := rest) rfl
    (by rw [hb]; exact d4) hRframes (by simp only [List.map_cons, List.sum_cons, hcat]; omega)
  have Z0 := Stand.forget (locs := []) Z (fun y hy => by rw [hL y hy, hhp]; exact Nat.le_refl _)
  obtain ⟨f1, f2⟩ := vx_frame Z0.same
  rw [hhp] at f1 f2
  have hcid : s.vm.findClass cls = some ce.cls := by
    rw [hcl9]
    rw [hvm] at hfX
    exact hfX
  have hh : (V.setCell T.heap.size ce).heap[T.heap.size]? = some ce := heapAt_setCell_self (s := V) ce hlt
  subst hA'
  have X5 := vx_back9 X Y Z0
  have X6 : Stand p l e R s m args below meth c (V.setCell T.heap.size ce) locs (cells + 1) (slots + 6) := { X5 with same := X5.same.mono (by omega) (by omega) }
  have hsz2 : (V.setCell T.heap.size ce).heap.size = T.heap.size + 1 := by
    have g1 : (V.setCell T.heap.size ce).heap.size ≤ T.heap.size + 1 := by
      have := Z0.same.2.2.1
      rw [hhp] at this
      exact this
    have g2 : T.heap.size < (V.setCell T.heap.size ce).heap.size := by rw [size_setCell]; exact hlt
    omega
  obtain ⟨t, a1, b1⟩ := kk (V.setCell T.heap.size ce).heap ce hh hvm9 hcid hsz2 (fun q h1 => f2 q h1 (fun z hz => nomatch hz)) _ rfl X6
  refine ⟨t, st1 _ ?_, b1⟩
  show Steps p.tables e below (T1.setTop { method := m, pc := pc + 3, locals := ls, stack := .ref T.heap.size :: rest, locked := none }) _
  jvm_step X₁.here [X₁.here.top, hexec, d3', Value.category]
  exact st _ a1
end
section
variable {w : q_Wd} {z : q_Fr} {Q : State → Prop} {L n0 s0 : Nat} {cn : Nat} {y : MethodName} {code : ByteArray} {rt : Option FieldType} {hs : List (Nat × Nat × Nat × Nat)}
variable {d mu pc : Nat} {ls : q_L} {st : List Value} {h : q_H} {c1 : q_C}
theorem q_cat_vm (F : Nat → Option Nat) (st : List Value) : ((st.map (q_vm F)).map fun v => v.category).sum = q_cat st := by
  unfold q_cat
  rw [List.map_map]
  congr 1
  exact List.map_congr_left fun v _ => q_vm_cat F v
theorem q_s_new (hlo : q_laysOk) (hnw : q_eNW) (hnx : q_eNX) {i : Nat} (X : q_X w z d cn y code L rt hs) (hn0 : z.2.1.heap.size + 1000 = w.1.heap.size + n0) (hN : c1.2.2.2.2.2.2.1 ≤ n0 + z.1.2.2.2.cells ∧ c1.2.2.2.2.2.2.2 ≤ s0 + z.1.2.2.2.slots) (hd : decode code pc = .ok (.new i, 3)) (e : q_do (d, mu, pc, ls, st, h) cn y code rt (.new i) = some (.inr (.inl c1))) (k : q_G w z Q L n0 s0 c1) : q_G w z Q L n0 s0 (d, mu, pc, ls, st, h) := by
  have hts := X.tsAll
  obtain ⟨⟨hx, hb, hml, -, -, hown, -⟩, hw, hW, htr, hfr, hlo2, hcn, -, hbase, hold⟩ := X
  simp only [q_do, q_mk] at e
  split at e
  · cases e
  · rename_i c hc0
    split at e
    · rename_i fs hfs
      obtain rfl := q_nx_eq e
      intro H locs cells slots as hC hl hL hc hs'
      obtain ⟨C, hC1, hlink, hini, hins⟩ := hnw cn i c _ hcn hc0
      obtain ⟨r, hr, hin1⟩ := hins fs hfs
      have hCr : C = r.1 := Option.some.inj (hC1.symm.trans (q_nm_of hr))
      subst hCr
      obtain ⟨g1, g2, g3⟩ := q_df_at hfs hr
      have hK := (va_K.moved hW.alike hw.2.1).1 c r hr
      have hsz := hC.size
      have hc' : n0 + cells = h.2.1 := hc
      have hs2 : s0 + slots = h.2.2 := hs'
      have hN1 : h.2.1 + 1 ≤ n0 + z.1.2.2.2.cells := hN.1
      have hN2 : h.2.2 + fs.length ≤ s0 + z.1.2.2.2.slots := hN.2
      refine W.newcK hx hb hown (hts _ hlink) (hts _ hin1) (hts _ hini) rfl hd (by omega) (by rw [← g1]; omega) hK.2.1 rfl fun H' kC hkC e1 z1 o1 => ?_
      have hin := hlo c r hr
      obtain ⟨htyA, -⟩ := q_ty_at hr
      obtain ⟨cell, hcell, hcl, hvm, hsl⟩ := u_born (o := H.size) (H := H') _ hts hin hK hkC e1 htyA
      have k2 := k H' locs (cells + 1) (slots + r.2.2) as (hC.new (n := fs.length) (ob1 := .inr (c, fs)) ⟨cell, by rw [← hsz]; exact hcell, hvm, ⟨r, hr, hcl, fun j hj => by rw [hsl j hj, q_vm_nref (g3 j hj).2, ← (g3 j hj).1]⟩, g2, fun _ => by cases Option.some.inj (e1.symm.trans hcell); exact ⟨rfl, rfl⟩⟩ z1 o1) hl hL (by show n0 + (cells + 1) = h.2.1 + 1; omega) (by show s0 + (slots + r.2.2) = h.2.2 + fs.length; omega)
      have hvmE : q_vm (q_F w) (.ref h.2.1) = .ref H.size := by rw [q_vm_ref (q_F_new w hC.2.1), hsz]
      have k3 : q_W z H' locs (cells + 1) (slots + r.2.2) Q (F0 z.2.2.1 (pc + 3) as (q_vm (q_F w) (.ref h.2.1) :: st.map (q_vm (q_F w)))) := k2
      rw [hvmE] at k3
      exact k3
    · rename_i hdf
      split at e
      · rename_i hcond
        split at e
        · rename_i ic hic
          split at e
          · rename_i hjx
            obtain rfl := q_nx_eq e
            intro H locs cells slots as hC hl hL hc hs'
            obtain ⟨C, T, names, hnm, hcl, hfit, hnf, hnl, hlink, hini, hat, hot⟩ := hnx cn i ic c _ hcn hc0 hdf hjx
            have hsz := hC.size
            have hc' : n0 + cells = h.2.1 := hc
            have hs2 : s0 + slots = h.2.2 := hs'
            have hN1 : h.2.1 + 1 ≤ n0 + z.1.2.2.2.cells := hN.1
            have hN2 : h.2.2 + 6 ≤ s0 + z.1.2.2.2.slots := hN.2
            have hcat := hcond.2.1
            have hd12 := hcond.1
            have hc2 := hC.1
            have hS : va_S (fun a => w.1.heap.size ≤ a) z.2.1.heap H locs := ⟨by omega, fun q h1 h2 => by rw [hC.2.2.1 q (by omega), hold q (by omega)], hl⟩
            have hq : ∀ a : Nat, a < w.1.heap.size → ¬ (w.1.heap.size ≤ a) → z.2.1.heap[a]? = w.1.heap[a]? := fun a h1 _ => hold a h1
            have hcat2 : q_cat (d, mu, pc, ls, st, h).2.2.2.2.1 ≤ 8 := hcat
            refine q_make0 (A := fun a => w.1.heap.size ≤ a) hx hb htr hown hfit hnf (hts _ hlink) (hts _ hini) (fun zz hz => hw.moves hW (hat zz hz).1 (hat zz hz).2 _) hot (vx_Zq.moved hW.alike (hw.2.2.2.2.2.2.1.kept hq)) (vx_Zq.moved hW.alike (hw.2.2.2.2.2.2.2.kept hq)) hS (by rw [hL.1]; exact hml.symm) hd hcond.2.2 hic (by omega) (by rw [q_cat_vm]; omega) (by omega) (by omega) ?_
            intro H1 ce e1 e2 e3 e4 e5
            have hK := (va_K.moved hW.alike hw.2.1).1 c _ hcl
            have hlen : (q_cf.getD c []).length = 0 := by
              have h3 := q_tabF_ok c (q_cl_lt hcl)
              unfold q_tabF at h3
              rw [hcl] at h3
              simp only [Bool.and_eq_true, Bool.or_eq_true, beq_iff_eq, List.isEmpty_iff] at h3
              rcases h3.1 with q | q
              · exact q.symm
              · rw [q]; rfl
            have k2 := k H1 locs (cells + 1) (slots + 6) as (hC.new (n := 6) (ob1 := .inr (c, [])) ⟨ce, by rw [← hsz]; exact e1, e2, ⟨_, hcl, Option.some.inj (e3.symm.trans hK.2.1), fun j hj => absurd hj (Nat.not_lt_zero j)⟩, by rw [hlen]; rfl, fun hcF => by subst hcF; exact nomatch hdf⟩ e4 e5) hl hL (by show n0 + (cells + 1) = h.2.1 + 1; omega) (by show s0 + (slots + 6) = h.2.2 + 6; omega)
            have hvmE : q_vm (q_F w) (.ref h.2.1) = .ref H.size := by rw [q_vm_ref (q_F_new w hC.2.1), hsz]
            have k3 : q_W z H1 locs (cells + 1) (slots + 6) Q (F0 z.2.2.1 (pc + 7) as (q_vm (q_F w) (.ref h.2.1) :: st.map (q_vm (q_F w)))) := k2
            rw [hvmE] at k3
            exact k3
          · cases e
        · cases e
      · cases e
end
