/-! the q-machine and the machine: worlds, the relation of heaps and locals -/
/-- the law's start: its state, its arguments, where the constants lie, numbers of classes, array classes -/
abbrev q_Wd : Type := State × Array Value × (Nat → Option Nat) × va_G × (Nat → ClassId)
def q_F (w : q_Wd) (a : Nat) : Option Nat := if a < 1000 then w.2.2.1 a else some (w.1.heap.size + (a - 1000))
def q_vm (F : Nat → Option Nat) (v : Value) : Value := match v with
  | .ref a => va_rf (F a)
  | x => x
def q_wty (w : q_Wd) : List (ClassId × FieldType) := (List.range 9).map fun t => (w.2.2.2.2 t, q_tag.getD t .int)
def q_el (F : Nat → Option Nat) (x : vp_A) (j : Nat) : Value := match x.2 with
  | .inl f => .int (f j)
  | .inr (.inl f) => .long (f j)
  | .inr (.inr (.inl f)) => .float (f j)
  | .inr (.inr (.inr (.inl f))) => .double (f j)
  | .inr (.inr (.inr (.inr f))) => va_rf ((f j).bind F)
/-- an array's kind and what lies in it agree -/
def q_kd (t : Nat) (x : vp_A) : Prop := match x.2 with
  | .inl f => t < 3 ∧ ∀ i, i < x.1 → fits (q_tag.getD t .int) (.int (f i)) = true
  | .inr (.inl _) => t = 3
  | .inr (.inr (.inl _)) => False
  | .inr (.inr (.inr (.inl _))) => t = 4
  | .inr (.inr (.inr (.inr _))) => 5 ≤ t ∧ t < 10
/-- what is known of an old cell -/
def q_wk (w : q_Wd) (a : Nat) (ob : (Nat × vp_A) ⊕ (Nat × List Value)) : Prop := ∃ (r : Nat) (cell : Cell), w.2.2.1 a = some r ∧ w.1.heap[r]? = some cell ∧ cell.vm.isStatics = false ∧ cell.vm ≠ .unknown ∧ match ob with
  | .inr (c, fs) => (∃ nm : String, q_nm[c]? = some nm ∧ w.1.vm.findClass nm = some cell.cls) ∧ ∀ (k f : Nat) (dc n dd : String) (fin : Bool) (ty : FieldType), (q_cf.getD c [])[k]? = some f → q_fd[f]? = some (dc, n, dd, fin, ty) →
      ∃ (cf : ClassId) (kk : Class) (i : Nat) (fld : Field) (v : Value), w.1.fieldFound? dc n dd = some (cf, kk, i, fld) ∧ fld.isStatic = false ∧ fs[k]? = some v ∧ cell.slots[fld.slot]? = some (q_vm (q_F w) v)
  | .inl (t, x) => w.1.isArrayOf cell (q_tag.getD t .int) ∧ x.1 ≤ cell.slots.size ∧ cell.slots.size.toInt32 = Int32.ofNat x.1 ∧ (∀ j, j < x.1 → cell.slots[j]? = some (q_el (q_F w) x j)) ∧ q_kd t x
/-- a new cell -/
def q_sg (w : q_Wd) (a : Nat) (ob : (Nat × vp_A) ⊕ (Nat × List Value)) (H : Heap) : Prop := ∃ cell : Cell, H[w.1.heap.size + (a - 1000)]? = some cell ∧ cell.vm = .none ∧ match ob with
  | .inr (c, fs) => (∃ r : vw_C, q_cl[c]? = some r ∧ cell.cls = w.2.2.2.1.1 c ∧ ∀ k, k < r.2.2 → cell.slots[w.2.2.2.1.2 c k]? = some (q_vm (q_F w) (fs.getD k .null))) ∧ fs.length = (q_cf.getD c []).length ∧ (c = q_cFmt → cell.monitor.owner = none ∧ cell.monitor.count = 0)
  | .inl (t, x) => cell = arrV (w.2.2.2.2 t) x.1 (q_el (q_F w) x) ∧ q_kd t x ∧ t < 9
def q_Cor (w : q_Wd) (h : q_H) (H : Heap) : Prop := H.size + 1000 = w.1.heap.size + h.2.1 ∧ 1000 ≤ h.2.1 ∧ (∀ q : Nat, q < w.1.heap.size → H[q]? = w.1.heap[q]?) ∧
  ∀ (a : Nat) (b : Bool) (ob : (Nat × vp_A) ⊕ (Nat × List Value)), h.1 a = some (b, ob) → (b = true → 1000 ≤ a ∧ a < h.2.1 ∧ q_sg w a ob H) ∧ (b = false → a < 1000 ∧ q_wk w a ob)
/-- the locals -/
def q_Lc (F : Nat → Option Nat) (L : Nat) (ls : q_L) (as : Array Slot) : Prop := as.size = L ∧ ls.length = L ∧ lv_wf as ∧ ∀ (k : Nat) (v : Value), ls[k]? = some (some v) → (v.category = 2 → ls[k + 1]? = some none) → as[k]? = some (.val (q_vm F v))
theorem q_vm_cat (F : Nat → Option Nat) (v : Value) : (q_vm F v).category = v.category := by
  cases v with
  | ref a => unfold q_vm va_rf; dsimp only; cases F a <;> rfl
  | _ => rfl
theorem q_Lc.val {F : Nat → Option Nat} {L : Nat} {ls : q_L} {as : Array Slot} (h : q_Lc F L ls as) {k : Nat} {v : Value} (hk : ls[k]? = some (some v)) (hc : v.category = 1) : as[k]? = some (.val (q_vm F v)) := h.2.2.2 k v hk (fun q => by omega)
theorem q_Lc.val2 {F : Nat → Option Nat} {L : Nat} {ls : q_L} {as : Array Slot} (h : q_Lc F L ls as) {k : Nat} {v : Value} (hk : ls[k]? = some (some v)) (hk2 : ls[k + 1]? = some none) : as[k]? = some (.val (q_vm F v)) := h.2.2.2 k v hk (fun _ => hk2)
/-- what the locals hold, as the kit lists it -/
def q_lv (F : Nat → Option Nat) (ls : q_L) : List (Nat × Value) := (List.range ls.length).filterMap fun k => match ls[k]? with
  | some (some v) => if v.category = 2 ∧ ls[k + 1]? ≠ some none then none else some (k, q_vm F v)
  | _ => none
theorem q_lv_mem {F : Nat → Option Nat} {ls : q_L} {q : Nat × Value} : q ∈ q_lv F ls ↔ ∃ v, ls[q.1]? = some (some v) ∧ (v.category = 2 → ls[q.1 + 1]? = some none) ∧ q.2 = q_vm F v := by
  unfold q_lv
  rw [List.mem_filterMap]
  constructor
  · rintro ⟨k, hk, h⟩
    split at h
    · rename_i v hv
      split at h
      · cases h
      · rename_i hn
        cases h
        exact ⟨v, hv, fun hc => Classical.byContradiction fun hne => hn ⟨hc, hne⟩, rfl⟩
    · cases h
  · rintro ⟨v, hv, hc, he⟩
    refine ⟨q.1, List.mem_range.mpr ?_, ?_⟩
    · exact (List.getElem?_eq_some_iff.mp hv).1
    · rw [hv]
      dsimp only
      rw [if_neg (fun hn => hn.2 (hc hn.1)), ← he]
theorem q_Lc.has {F : Nat → Option Nat} {L : Nat} {ls : q_L} {as : Array Slot} (h : q_Lc F L ls as) : lv_has as L (q_lv F ls) :=
  ⟨h.1, h.2.2.1, fun q hq => by
    obtain ⟨v, h1, h2, h3⟩ := q_lv_mem.mp hq
    rw [h3]
    exact h.2.2.2 q.1 v h1 h2⟩
theorem q_Lc.of {F : Nat → Option Nat} {L : Nat} {ls : q_L} {as : Array Slot} {l : List (Nat × Value)} (hl : ls.length = L) (h : lv_has as L l) (hm : ∀ q ∈ q_lv F ls, q ∈ l) : q_Lc F L ls as :=
  ⟨h.1, hl, h.2.1, fun k v hk hc => h.2.2 (k, q_vm F v) (hm _ (q_lv_mem.mpr ⟨v, hk, hc, rfl⟩))⟩
theorem q_lv_set1 {F : Nat → Option Nat} {ls : q_L} {i : Nat} {v : Value} (hi : i < ls.length) (hc : v.category = 1) : ∀ q ∈ q_lv F (ls.set i (some v)), q ∈ (i, q_vm F v) :: (q_lv F ls).filter (fun q => !(q.1 == i) && !(q.1 + 1 == i && q.2.category == 2)) := by
  intro q hq
  obtain ⟨x, h1, h2, h3⟩ := q_lv_mem.mp hq
  by_cases hqi : q.1 = i
  · rw [hqi, List.getElem?_set_self hi] at h1
    cases h1
    have hq' : q = (i, q_vm F v) := Prod.ext hqi h3
    rw [hq']
    exact List.mem_cons_self
  · rw [List.getElem?_set_ne (Ne.symm hqi)] at h1
    refine List.mem_cons_of_mem _ (List.mem_filter.mpr ⟨?_, ?_⟩)
    · refine q_lv_mem.mpr ⟨x, h1, fun hx => ?_, h3⟩
      have h4 := h2 hx
      by_cases hn : q.1 + 1 = i
      · rw [hn, List.getElem?_set_self hi] at h4
        cases h4
      · rwa [List.getElem?_set_ne (Ne.symm hn)] at h4
    · have h5 : ¬ (q.1 + 1 = i ∧ q.2.category = 2) := by
        rintro ⟨hn, h6⟩
        rw [h3, q_vm_cat] at h6
        have h4 := h2 h6
        rw [hn, List.getElem?_set_self hi] at h4
        cases h4
      simp only [Bool.and_eq_true, Bool.not_eq_true', beq_eq_false_iff_ne, Bool.and_eq_false_iff]
      refine ⟨hqi, ?_⟩
      by_cases hn : q.1 + 1 = i
      · exact Or.inr fun h6 => h5 ⟨hn, h6⟩
      · exact Or.inl hn
theorem q_lv_set2 {F : Nat → Option Nat} {ls : q_L} {i : Nat} {v : Value} (hi : i + 1 < ls.length) (hc : v.category = 2) : ∀ q ∈ q_lv F ((ls.set i (some v)).set (i + 1) none), q ∈ (i, q_vm F v) :: (q_lv F ls).filter (fun q => !(q.1 == i) && (!(q.1 == i + 1) && !(q.1 + 1 == i && q.2.category == 2))) := by
  intro q hq
  obtain ⟨x, h1, h2, h3⟩ := q_lv_mem.mp hq
  have hlen : (ls.set i (some v)).length = ls.length := List.length_set
  have hq1 : q.1 ≠ i + 1 := by
    intro e
    rw [e, List.getElem?_set_self (by rw [hlen]; exact hi)] at h1
    cases h1
  rw [List.getElem?_set_ne (Ne.symm hq1)] at h1
  by_cases hqi : q.1 = i
  · rw [hqi, List.getElem?_set_self (by omega)] at h1
    cases h1
    have hq' : q = (i, q_vm F v) := Prod.ext hqi h3
    rw [hq']
    exact List.mem_cons_self
  · rw [List.getElem?_set_ne (Ne.symm hqi)] at h1
    have h5 : x.category = 2 → q.1 + 1 ≠ i ∧ ls[q.1 + 1]? = some none := by
      intro hx
      have h4 := h2 hx
      rw [List.getElem?_set_ne (by omega)] at h4
      by_cases hn : q.1 + 1 = i
      · rw [hn, List.getElem?_set_self (by omega)] at h4
        cases h4
      · rw [List.getElem?_set_ne (Ne.symm hn)] at h4
        exact ⟨hn, h4⟩
    refine List.mem_cons_of_mem _ (List.mem_filter.mpr ⟨q_lv_mem.mpr ⟨x, h1, fun hx => (h5 hx).2, h3⟩, ?_⟩)
    simp only [Bool.and_eq_true, Bool.not_eq_true', beq_eq_false_iff_ne, Bool.and_eq_false_iff]
    refine ⟨hqi, hq1, ?_⟩
    by_cases hn : q.1 + 1 = i
    · refine Or.inr fun h6 => ?_
      rw [h3, q_vm_cat] at h6
      exact (h5 h6).1 hn
    · exact Or.inl hn
