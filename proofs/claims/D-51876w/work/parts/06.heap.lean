/-! the q-machine and the machine: cells -/
def q_WD (w : q_Wd) : Prop :=
  (∀ z ∈ lw_tbl, z.before w.2.1 w.1 = true) ∧ va_K w.2.2.2.1 q_cl (q_wty w) w.1 ∧
  (∀ z ∈ q_stl, va_Z z.1 z.2.1 z.2.2.1 (q_vm (q_F w) z.2.2.2) (fun a => w.1.heap.size ≤ a) w.1 w.1.heap) ∧
  (∀ z ∈ q_ltl, ∃ r, w.2.2.1 z.2.2.2 = some r ∧ vk_R z.1 z.2.1 z.2.2.1 r w.1) ∧
  (∀ a b r : Nat, q_cmb a = true → q_cmb b = true → w.2.2.1 a = some r → w.2.2.1 b = some r → a < 1000 → b < 1000 → a = b) ∧
  (Jvm.Cond.and given_1 narrow_1).before w.2.1 w.1 = true ∧
  vx_Zq Bundle.tN "UNASSIGNED_STACK" Bundle.steD (fun a => w.1.heap.size ≤ a) w.1 w.1.heap ∧ vx_Zq Bundle.tN "SUPPRESSED_SENTINEL" Bundle.listD (fun a => w.1.heap.size ≤ a) w.1 w.1.heap
theorem q_WD.word {w : q_Wd} (h : q_WD w) {s : State} (hW : w.1.WarmedH s.vm) {z : Cond} (hz : z ∈ lw_all) (args : Array Value) : z.before args s = true :=
  word_at hW (good_of_word (List.mem_filter.mp hz).2) (h.1 z (lw_all_tbl hz))
theorem q_nm_cl : ∀ c : Nat, c < 29 → (q_cl[c]?).map (·.1) = q_nm[c]? := by decide +kernel
theorem q_cl_lt {c : Nat} {r : vw_C} (h : q_cl[c]? = some r) : c < 29 := (List.getElem?_eq_some_iff.mp h).1
theorem q_nm_of {c : Nat} {r : vw_C} (h : q_cl[c]? = some r) : q_nm[c]? = some r.1 := by
  rw [← q_nm_cl c (q_cl_lt h), h]; rfl
/-- the tables of fields agree -/
def q_tabF (c : Nat) : Bool := match q_cl[c]? with
  | some r => (r.2.2 == (q_cf.getD c []).length || (q_cf.getD c []).isEmpty) && (List.range (q_cf.getD c []).length).all fun k => match (q_cf.getD c [])[k]? with
    | some f => match q_fd[f]? with
      | some (dc, n, dd, fin, ty) => decide (r.2.1 k = (dc, n, dd, fin)) && decide (k < r.2.2) && decide (parseFieldDescriptor dd = some ty) && decide ((q_tys.getD c (fun _ => .int)) k = ty)
      | none => false
    | none => false
  | none => false
theorem q_tabF_ok : ∀ c : Nat, c < 29 → q_tabF c = true := by decide +kernel
theorem q_tab_at {c k f : Nat} {r : vw_C} {dc n dd : String} {fin : Bool} {ty : FieldType} (hc : q_cl[c]? = some r) (hk : (q_cf.getD c [])[k]? = some f) (hf : q_fd[f]? = some (dc, n, dd, fin, ty)) :
    r.2.1 k = (dc, n, dd, fin) ∧ k < r.2.2 ∧ parseFieldDescriptor dd = some ty ∧ (q_tys.getD c (fun _ => .int)) k = ty := by
  have h := q_tabF_ok c (q_cl_lt hc)
  unfold q_tabF at h
  rw [hc] at h
  dsimp only at h
  rw [Bool.and_eq_true] at h
  have h2 := List.all_eq_true.mp h.2 k (List.mem_range.mpr (List.getElem?_eq_some_iff.mp hk).1)
  rw [hk] at h2
  dsimp only at h2
  rw [hf] at h2
  dsimp only at h2
  simp only [Bool.and_eq_true, decide_eq_true_eq] at h2
  exact ⟨h2.1.1.1, h2.1.1.2, h2.1.2, h2.2⟩
/-- every class's fields are laid out by words of the tables -/
def q_laysOk : Prop := ∀ (c : Nat) (r : vw_C), q_cl[c]? = some r → ∀ z ∈ u_ws r.1 r.2.1 r.2.2, z ∈ lw_all
theorem q_F_new (w : q_Wd) {a : Nat} (h : 1000 ≤ a) : q_F w a = some (w.1.heap.size + (a - 1000)) := if_neg (by omega)
theorem q_F_old (w : q_Wd) {a : Nat} (h : a < 1000) : q_F w a = w.2.2.1 a := if_pos h
/-- an object that is known -/
theorem q_obj {w : q_Wd} (hw : q_WD w) (hlo : q_laysOk) {h : q_H} {H : Heap} (hC : q_Cor w h H) {s : State} (hW : w.1.WarmedH s.vm) {a : Nat} {b : Bool} {c : Nat} {fs : List Value} (ha : h.1 a = some (b, .inr (c, fs))) :
    ∃ (r : Nat) (cell : Cell) (nm : String), q_F w a = some r ∧ H[r]? = some cell ∧ cell.vm.isStatics = false ∧ cell.vm ≠ .unknown ∧ q_nm[c]? = some nm ∧ s.vm.findClass nm = some cell.cls ∧
      ∀ (k f : Nat) (dc n dd : String) (fin : Bool) (ty : FieldType), (q_cf.getD c [])[k]? = some f → q_fd[f]? = some (dc, n, dd, fin, ty) →
        ∃ (cf : ClassId) (kk : Class) (i : Nat) (fld : Field) (v : Value), s.fieldFound? dc n dd = some (cf, kk, i, fld) ∧ fld.isStatic = false ∧ fs[k]? = some v ∧ cell.slots[fld.slot]? = some (q_vm (q_F w) v) := by
  obtain ⟨h1, h2⟩ := hC.2.2.2 a b _ ha
  have hfound : ∀ x : String, s.vm.findClass x = w.1.vm.findClass x := fun x => hW.alike.findClass x _
  cases b with
  | true =>
    obtain ⟨ha1, ha2, cell, hcell, hvm, ⟨r, hr, hcl, hsl⟩, hlen, -⟩ := h1 rfl
    have hKn := hw.2.1.1 c r hr
    obtain ⟨hS, hfc, kC, hkC, hkind⟩ := hKn
    refine ⟨_, cell, r.1, q_F_new w ha1, hcell, by rw [hvm]; rfl, (by rw [hvm]; exact fun q => by cases q), q_nm_of hr, by rw [hfound, hfc, hcl], ?_⟩
    intro k f dc n dd fin ty hk hf
    obtain ⟨hT, hkN, -, -⟩ := q_tab_at hr hk hf
    obtain ⟨cf, kk, i, fld, hi, hsl2⟩ := hS k hkN
    obtain ⟨hst, -, -⟩ := u_facts hfc hkC (u_lays (fun z hz => hw.1 z (lw_all_tbl hz)) (hlo c r hr) hkN) hi
    have hklt : k < fs.length := by rw [hlen]; exact (List.getElem?_eq_some_iff.mp hk).1
    rw [hT] at hi
    obtain ⟨k', hk', he⟩ := State.fieldFound?_setVm hW.alike hi
    have h9 : s.fieldFound? dc n dd = (w.1.setVm s.vm).fieldFound? dc n dd := rfl
    refine ⟨cf, k', i, fld, fs[k], by rw [h9]; exact hk', hst, List.getElem?_eq_getElem hklt, ?_⟩
    rw [hsl2, hsl k hkN, List.getD_eq_getElem?_getD, List.getElem?_eq_getElem hklt]
    rfl
  | false =>
    obtain ⟨ha1, r, cell, hr, hcell, hst, hun, ⟨nm, hnm, hcls⟩, hfld⟩ := h2 rfl
    have hlt : r < w.1.heap.size := (Array.getElem?_eq_some_iff.mp hcell).1
    refine ⟨r, cell, nm, by rw [q_F_old w ha1]; exact hr, by rw [hC.2.2.1 r hlt]; exact hcell, hst, hun, hnm, by rw [hfound]; exact hcls, ?_⟩
    intro k f dc n dd fin ty hk hf
    obtain ⟨cf, kk, i, fld, v, hi, hs1, hs2, hs3⟩ := hfld k f dc n dd fin ty hk hf
    obtain ⟨k', hk', he⟩ := State.fieldFound?_setVm hW.alike hi
    exact ⟨cf, k', i, fld, v, hk', hs1, hs2, hs3⟩
/-- an array that is known -/
theorem q_arr {w : q_Wd} (hw : q_WD w) {h : q_H} {H : Heap} (hC : q_Cor w h H) {s : State} (hW : w.1.WarmedH s.vm) {a : Nat} {b : Bool} {t : Nat} {x : vp_A} (ha : h.1 a = some (b, .inl (t, x))) :
    ∃ (r : Nat) (cell : Cell), q_F w a = some r ∧ H[r]? = some cell ∧ s.isArrayOf cell (q_tag.getD t .int) ∧ cell.vm ≠ .unknown ∧ cell.vm.isStatics = false ∧ x.1 ≤ cell.slots.size ∧ cell.slots.size.toInt32 = Int32.ofNat x.1 ∧
      (∀ j, j < x.1 → cell.slots[j]? = some (q_el (q_F w) x j)) ∧ q_kd t x := by
  obtain ⟨h1, h2⟩ := hC.2.2.2 a b _ ha
  cases b with
  | true =>
    obtain ⟨ha1, ha2, cell, hcell, hvm, rfl, hkd, ht⟩ := h1 rfl
    have hty : (q_wty w)[t]? = some (w.2.2.2.2 t, q_tag.getD t .int) := by
      unfold q_wty
      rw [List.getElem?_map, List.getElem?_range ht]
      rfl
    have hA := arrOfT_moved (E := s) hW.alike (hw.2.1.2 t _ hty).1
    exact ⟨_, _, q_F_new w ha1, hcell, hA _ _, (by rw [hvm]; exact fun q => by cases q), (by rw [hvm]; rfl), Nat.le_of_eq (arrV_size _ _ _).symm, (by rw [arrV_size] <;> rfl), fun j hj => arrV_read _ _ hj, hkd⟩
  | false =>
    obtain ⟨ha1, r, cell, hr, hcell, hst, hun, hof, hle, hsz, hel, hkd⟩ := h2 rfl
    have hlt : r < w.1.heap.size := (Array.getElem?_eq_some_iff.mp hcell).1
    exact ⟨r, cell, by rw [q_F_old w ha1]; exact hr, by rw [hC.2.2.1 r hlt]; exact hcell, State.isArrayOf_alike hW.alike hof, hun, hst, hle, hsz, hel, hkd⟩
/-- a new cell is changed -/
theorem q_Cor.set {w : q_Wd} {h : q_H} {H H1 : Heap} (hC : q_Cor w h H) {a : Nat} {ob ob1 : (Nat × vp_A) ⊕ (Nat × List Value)} (ha : h.1 a = some (true, ob)) (h1 : q_sg w a ob1 H1) (hz : H1.size = H.size)
    (oq : ∀ q : Nat, q ≠ w.1.heap.size + (a - 1000) → H1[q]? = H[q]?) : q_Cor w (q_set h a (true, ob1)) H1 := by
  obtain ⟨c1, c2, c3, c4⟩ := hC
  obtain ⟨ha1, ha2, -⟩ := (c4 a true ob ha).1 rfl
  refine ⟨by rw [hz]; exact c1, c2, fun q hq => by rw [oq q (by omega)]; exact c3 q hq, fun a' b ob' ha' => ?_⟩
  have ha'' : (if a' = a then some (true, ob1) else h.1 a') = some (b, ob') := ha'
  by_cases e : a' = a
  · subst e
    rw [if_pos rfl] at ha''
    cases ha''
    exact ⟨fun _ => ⟨ha1, ha2, h1⟩, fun hf => by cases hf⟩
  · rw [if_neg e] at ha''
    obtain ⟨k1, k2⟩ := c4 a' b ob' ha''
    refine ⟨fun hb => ?_, k2⟩
    obtain ⟨g1, g2, cell, g3, g4⟩ := k1 hb
    exact ⟨g1, g2, cell, by rw [oq _ (by omega)]; exact g3, g4⟩
/-- a cell is made -/
theorem q_Cor.new {w : q_Wd} {h : q_H} {H H1 : Heap} (hC : q_Cor w h H) {ob1 : (Nat × vp_A) ⊕ (Nat × List Value)} {n : Nat} (h1 : q_sg w h.2.1 ob1 H1) (hz : H1.size = H.size + 1)
    (oq : ∀ q : Nat, q < H.size → H1[q]? = H[q]?) : q_Cor w (q_new h (true, ob1) n) H1 := by
  obtain ⟨c1, c2, c3, c4⟩ := hC
  refine ⟨?_, ?_, fun q hq => by rw [oq q (by omega)]; exact c3 q hq, fun a' b ob' ha' => ?_⟩
  · show H1.size + 1000 = w.1.heap.size + (h.2.1 + 1)
    omega
  · show 1000 ≤ h.2.1 + 1
    omega
  have ha'' : (if a' = h.2.1 then some (true, ob1) else h.1 a') = some (b, ob') := ha'
  by_cases e : a' = h.2.1
  · subst e
    rw [if_pos rfl] at ha''
    cases ha''
    exact ⟨fun _ => ⟨c2, Nat.lt_succ_self _, h1⟩, fun hf => by cases hf⟩
  · rw [if_neg e] at ha''
    obtain ⟨k1, k2⟩ := c4 a' b ob' ha''
    refine ⟨fun hb => ?_, k2⟩
    obtain ⟨g1, g2, cell, g3, g4⟩ := k1 hb
    exact ⟨g1, Nat.lt_succ_of_lt g2, cell, by rw [oq _ (by omega)]; exact g3, g4⟩
theorem q_Cor.size {w : q_Wd} {h : q_H} {H : Heap} (hC : q_Cor w h H) : H.size = w.1.heap.size + (h.2.1 - 1000) := by
  have := hC.1
  have := hC.2.1
  omega
