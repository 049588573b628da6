/-! the q-machine and the machine: a frame, what is to be shown of a configuration; instructions without cells -/
abbrev q_Fr : Type := (Program × Launch × Env × Room) × State × MethodId × Array Value × List Frame × Method × Code
abbrev q_W (z : q_Fr) (H : Heap) (locs : List Loc) (cells slots : Nat) (Q : State → Prop) (g : JFrame) : Prop := W z.1.1 z.1.2.1 z.1.2.2.1 z.1.2.2.2 z.2.1 z.2.2.1 z.2.2.2.1 z.2.2.2.2.1 z.2.2.2.2.2.1 z.2.2.2.2.2.2 H locs cells slots Q g
/-- a frame z of method y at depth d -/
def q_X (w : q_Wd) (z : q_Fr) (d cn : Nat) (y : MethodName) (code : ByteArray) (L : Nat) (rt : Option FieldType) (hs : List (Nat × Nat × Nat × Nat)) : Prop :=
  (z.1.1.tables.exec = Jvm.exec ∧ z.2.2.2.2.2.2.code = code ∧ z.2.2.2.2.2.2.maxLocals = L ∧ z.2.2.2.2.2.1.sig.returnType = rt ∧ z.2.2.2.2.2.1.locks = false ∧ z.2.1.vm.findClass y.cls = some z.2.2.1.cls ∧ z.2.2.2.2.2.1.name = y.name) ∧
  (q_WD w ∧ w.1.WarmedH z.2.1.vm ∧ z.1.2.1.stackTraces = false ∧ d ≤ z.1.2.2.2.frames ∧ 32 * d ≤ z.1.2.2.2.locals ∧ q_own[cn]? = some y.cls ∧ z.2.2.2.2.2.2.exceptionTable.toList = tableOf hs ∧ w.1.heap.size ≤ z.2.1.heap.size ∧ ∀ q : Nat, q < w.1.heap.size → z.2.1.heap[q]? = w.1.heap[q]?)
def q_G (w : q_Wd) (z : q_Fr) (Q : State → Prop) (L n0 s0 : Nat) (c : q_C) : Prop :=
  ∀ (H : Heap) (locs : List Loc) (cells slots : Nat) (as : Array Slot), q_Cor w c.2.2.2.2.2 H → (∀ q ∈ locs, w.1.heap.size ≤ q.base) → q_Lc (q_F w) L c.2.2.2.1 as → n0 + cells = c.2.2.2.2.2.2.1 → s0 + slots = c.2.2.2.2.2.2.2 →
    q_W z H locs cells slots Q (F0 z.2.2.1 c.2.2.1 as (c.2.2.2.2.1.map (q_vm (q_F w))))
section
variable {w : q_Wd} {z : q_Fr} {Q : State → Prop} {L n0 s0 : Nat} {cn : Nat} {y : MethodName} {code : ByteArray} {rt : Option FieldType} {hs : List (Nat × Nat × Nat × Nat)}
variable {d mu pc : Nat} {ls : q_L} {st : List Value} {h : q_H}
theorem q_o1 {ln : Nat} {st' : List Value} (k : q_G w z Q L n0 s0 (d, mu, pc + ln, ls, st', h))
    (row : ∀ (H : Heap) (locs : List Loc) (cells slots : Nat) (as : Array Slot), q_W z H locs cells slots Q (F0 z.2.2.1 (pc + ln) as (st'.map (q_vm (q_F w)))) → q_W z H locs cells slots Q (F0 z.2.2.1 pc as (st.map (q_vm (q_F w))))) : q_G w z Q L n0 s0 (d, mu, pc, ls, st, h) :=
  fun H locs cells slots as hC hl hL hc hs => row H locs cells slots as (k H locs cells slots as hC hl hL hc hs)
theorem q_pu_eq {c' : q_C} {ln : Nat} {st' : List Value} (e : q_pu (d, mu, pc, ls, st, h) ln st' = some (.inr (.inl c'))) : c' = (d, mu, pc + ln, ls, st', h) := by
  simp only [q_pu, q_nx, Option.some.injEq, Sum.inr.injEq, Sum.inl.injEq] at e
  exact e.symm
theorem q_jmp_eq {c' : q_C} {off : Int} {st' : List Value} (e : q_jmp (d, mu, pc, ls, st, h) off st' = some (.inr (.inl c'))) : (pc : Int) + off = (q_tgt pc off : Int) ∧ c' = (d, mu, q_tgt pc off, ls, st', h) := by
  simp only [q_jmp] at e
  split at e
  · rename_i hok
    simp only [q_nx, Option.some.injEq, Sum.inr.injEq, Sum.inl.injEq] at e
    refine ⟨?_, e.symm⟩
    have h1 : 0 ≤ (pc : Int) + off := by simpa [q_okt] using hok
    unfold q_tgt
    omega
  · cases e
theorem q_br_c {c' : q_C} {b : Bool} {off : Int} {st' : List Value} (e : q_br (d, mu, pc, ls, st, h) b off st' = some (.inr (.inl c'))) (k : q_G w z Q L n0 s0 c') {P : Prop} (hP : b = true ↔ P)
    (row : ∀ (H : Heap) (locs : List Loc) (cells slots : Nat) (as : Array Slot) (tgt : Nat), (pc : Int) + off = (tgt : Int) → (P → q_W z H locs cells slots Q (F0 z.2.2.1 tgt as (st'.map (q_vm (q_F w))))) → (¬ P → q_W z H locs cells slots Q (F0 z.2.2.1 (pc + 3) as (st'.map (q_vm (q_F w))))) → q_W z H locs cells slots Q (F0 z.2.2.1 pc as (st.map (q_vm (q_F w))))) : q_G w z Q L n0 s0 (d, mu, pc, ls, st, h) := by
  intro H locs cells slots as hC hl hL hc hs
  simp only [q_br] at e
  split at e
  · rename_i hok
    have ht : (pc : Int) + off = (q_tgt pc off : Int) := by
      have h1 : 0 ≤ (pc : Int) + off := by simpa [q_okt] using hok
      unfold q_tgt
      omega
    split at e
    · rename_i hb
      obtain ⟨-, rfl⟩ := q_jmp_eq e
      exact row H locs cells slots as _ ht (fun _ => k H locs cells slots as hC hl hL hc hs) (fun hn => absurd (hP.mp hb) hn)
    · rename_i hb
      obtain rfl := q_pu_eq e
      exact row H locs cells slots as _ ht (fun q => absurd (hP.mpr q) hb) (fun _ => k H locs cells slots as hC hl hL hc hs)
  · cases e
/-- a store into one place -/
theorem q_st1_s {c' : q_C} {ln i : Nat} {v : Value} {r : List Value} (e : q_st1 (d, mu, pc, ls, v :: r, h) ln i = some (.inr (.inl c'))) (k : q_G w z Q L n0 s0 c') (hcat : v.category = 1)
    (row : ∀ (H : Heap) (locs : List Loc) (cells slots : Nat) (as : Array Slot) (lv lv' : List (Nat × Value)), lv_has as L lv → i < L → (i, q_vm (q_F w) v) :: lv.filter (fun q => !(q.1 == i) && !(q.1 + 1 == i && q.2.category == 2)) = lv' →
      (∀ as' : Array Slot, lv_has as' L lv' → q_W z H locs cells slots Q (F0 z.2.2.1 (pc + ln) as' (r.map (q_vm (q_F w))))) → q_W z H locs cells slots Q (F0 z.2.2.1 pc as ((v :: r).map (q_vm (q_F w))))) : q_G w z Q L n0 s0 (d, mu, pc, ls, v :: r, h) := by
  intro H locs cells slots as hC hl hL hc hs
  simp only [q_st1] at e
  split at e
  · rename_i hi
    simp only [q_nx, Option.some.injEq, Sum.inr.injEq, Sum.inl.injEq] at e
    subst e
    refine row H locs cells slots as _ _ hL.has (by rw [← hL.2.1]; exact hi) rfl fun as' has => ?_
    exact k H locs cells slots as' hC hl (q_Lc.of (by rw [List.length_set]; exact hL.2.1) has (q_lv_set1 hi hcat)) hc hs
  · cases e
theorem q_st2_s {c' : q_C} {ln i : Nat} {v : Value} {r : List Value} (e : q_st2 (d, mu, pc, ls, v :: r, h) ln i = some (.inr (.inl c'))) (k : q_G w z Q L n0 s0 c') (hcat : v.category = 2)
    (row : ∀ (H : Heap) (locs : List Loc) (cells slots : Nat) (as : Array Slot) (lv lv' : List (Nat × Value)), lv_has as L lv → i + 1 < L → (i, q_vm (q_F w) v) :: lv.filter (fun q => !(q.1 == i) && (!(q.1 == i + 1) && !(q.1 + 1 == i && q.2.category == 2))) = lv' →
      (∀ as' : Array Slot, lv_has as' L lv' → q_W z H locs cells slots Q (F0 z.2.2.1 (pc + ln) as' (r.map (q_vm (q_F w))))) → q_W z H locs cells slots Q (F0 z.2.2.1 pc as ((v :: r).map (q_vm (q_F w))))) : q_G w z Q L n0 s0 (d, mu, pc, ls, v :: r, h) := by
  intro H locs cells slots as hC hl hL hc hs
  simp only [q_st2] at e
  split at e
  · rename_i hi
    simp only [q_nx, Option.some.injEq, Sum.inr.injEq, Sum.inl.injEq] at e
    subst e
    refine row H locs cells slots as _ _ hL.has (by rw [← hL.2.1]; exact hi) rfl fun as' has => ?_
    exact k H locs cells slots as' hC hl (q_Lc.of (by rw [List.length_set, List.length_set]; exact hL.2.1) has (q_lv_set2 hi hcat)) hc hs
  · cases e
/-- a load -/
theorem q_ld_s {ln i : Nat} {v : Value} (k : q_G w z Q L n0 s0 (d, mu, pc + ln, ls, v :: st, h)) (hi : ls[i]? = some (some v)) (h2 : v.category = 2 → ls[i + 1]? = some none)
    (row : ∀ (H : Heap) (locs : List Loc) (cells slots : Nat) (as : Array Slot), as[i]? = some (.val (q_vm (q_F w) v)) → q_W z H locs cells slots Q (F0 z.2.2.1 (pc + ln) as (q_vm (q_F w) v :: st.map (q_vm (q_F w)))) → q_W z H locs cells slots Q (F0 z.2.2.1 pc as (st.map (q_vm (q_F w))))) : q_G w z Q L n0 s0 (d, mu, pc, ls, st, h) :=
  fun H locs cells slots as hC hl hL hc hs => row H locs cells slots as (hL.2.2.2 i v hi h2) (k H locs cells slots as hC hl hL hc hs)
theorem q_nx_eq {c c' : q_C} (e : q_nx c = some (.inr (.inl c'))) : c' = c := by
  simp only [q_nx, Option.some.injEq, Sum.inr.injEq, Sum.inl.injEq] at e
  exact e.symm
end
