/-! the q-machine is sound: arrays made, copied, cloned; Object's constructor -/
section
variable {p : Program} {l : Launch} {e : Env} {R : Room} {s : State} {m : MethodId} {args : Array Value} {below : List Frame} {meth : Method} {c : Code} {H : Heap} {locs : List Loc} {cells slots : Nat} {Q : State → Prop}
variable {cc : ByteArray} {pc : Nat} {ls : Array Slot} {rest : List Value}
theorem q_nn {x : Int32} (hz : ¬ x < 0) : x.toInt = (x.toNatClampNeg : Int) := by
  have hz0 : (0 : Int) ≤ x.toInt := by
    have := Int32.not_lt.mp hz
    simpa using Int32.le_iff_toInt_le.mp this
  show x.toInt = ((x.toInt.toNat : Nat) : Int)
  omega
/-- System.arraycopy (follows va_copyi, va_copyq) -/
theorem q_Wcopy (hexec : p.tables.exec = Jvm.exec) (hb : c.code = cc) (hml : c.maxLocals = ls.size) {own : String} {index : Nat} (hown : s.vm.findClass own = some m.cls) (hlink : (Cond.methodLink own index arraycopyName).before args s = true) (hnat : (Cond.native arraycopyName).before args s = true) (hstat : (Cond.static arraycopyName).before args s = true) (hini : (Cond.initialized "java/lang/System").before args s = true)
    {a0 a1 : Nat} {cs cd : Cell} {ty : FieldType} (hs : H[a0]? = some cs) (hd : H[a1]? = some cd) (hsst : cs.vm.isStatics = false) (hdst : cd.vm.isStatics = false) (hsun : cs.vm ≠ .unknown) (hdun : cd.vm ≠ .unknown) (hof0 : s.isArrayOf cs ty) (hof1 : s.isArrayOf cd ty)
    {sp dp n : Int32} (h1 : ¬ sp < 0) (h2 : ¬ dp < 0) (h3 : ¬ n < 0) (h4 : sp.toNatClampNeg + n.toNatClampNeg ≤ cs.slots.size) (h5 : dp.toNatClampNeg + n.toNatClampNeg ≤ cd.slots.size)
    (hfit : ∀ i, i < n.toNatClampNeg → fits ty (cs.slots.getD (sp.toNatClampNeg + i) .null) = true)
    (htk : ∀ i, i < n.toNatClampNeg → ∀ y : Nat, cs.slots.getD (sp.toNatClampNeg + i) .null = .ref y → ∃ cellV : Cell, H[y]? = some cellV ∧ cellV.vm.isStatics = false ∧ (∃ k, s.vm.classes[cellV.cls]? = some k) ∧ ∀ (kd : Class) (comp : ClassId), s.vm.classes[cd.cls]? = some kd → kd.kind = .array comp ty → (∃ k, s.vm.classes[comp]? = some k) ∧ s.vm.assignable cellV.cls comp = true)
    (hframes : 1 ≤ R.frames) (hlocals : (rest.map fun v => v.category).sum + (nativeFrameWords "java/lang/System" "arraycopy" 5 + 11) ≤ R.locals) (hdg : decode cc pc = .ok (.invokestatic index, 3))
    (kk : ∀ (H1 : Heap) (locs1 : List Loc), H1[a1]? = some (cd.storeRun dp.toNatClampNeg (cs.stretch sp.toNatClampNeg n.toNatClampNeg)) → H1.size = H.size → (∀ q, q ≠ a1 → H1[q]? = H[q]?) → (∀ q ∈ locs1, q ∈ locs ∨ q.base = a1) → W p l e R s m args below meth c H1 locs1 cells slots Q (F0 m (pc + 3) ls rest)) :
    W p l e R s m args below meth c H locs cells slots Q (F0 m pc ls (.int n :: .int dp :: .ref a1 :: .int sp :: .ref a0 :: rest)) := by
  intro T hT X
  obtain ⟨hv0, k0, hk0, cm0, hkk0⟩ := hof0
  obtain ⟨hv1, k1, hk1, cm1, hkk1⟩ := hof1
  obtain ⟨vm', X', step⟩ := X.arraycopy hexec hown hlink hnat hstat hini (src := a0) (dst := a1) (cs := cs) (cd := cd) (srcPos := sp) (destPos := dp) (n := n) (by rw [hT]; exact hs) (by rw [hT]; exact hd)
    (fun _ h => by rw [h] at hsst; cases hsst) (fun _ h => by rw [h] at hdst; cases hdst) hsun hdun hk0 hk1 hkk0 hkk1 (by cases refKind ty <;> simp) h1 h2 h3
    (by rw [q_nn h1, q_nn h3]; omega) (by rw [q_nn h2, q_nn h3]; omega)
    (fun vm₁ hal i hi => by
      refine ⟨hfit i hi, ?_⟩
      cases hy : cs.slots.getD (sp.toNatClampNeg + i) .null with
      | ref y =>
        obtain ⟨cellV, g1, g2, ⟨kC, hkC⟩, g3⟩ := htk i hi y hy
        obtain ⟨⟨kE, hkE⟩, hasg⟩ := g3 k1 cm1 hk1 hkk1
        obtain ⟨kC', hkC', -⟩ := hal.2.2 _ _ hkC
        obtain ⟨kE', hkE', -⟩ := hal.2.2 _ _ hkE
        refine ⟨cellV, (show T.heap[y]? = some cellV by rw [hT]; exact g1), (fun q h => by rw [h] at g2; cases g2), ⟨kC', hkC'⟩, ⟨kE', hkE'⟩, ?_⟩
        show vm₁.assignable _ _ = true
        rw [hal.assignable]
        exact hasg
      | _ => trivial)
    (g := F0 m pc ls (.int n :: .int dp :: .ref a1 :: .int sp :: .ref a0 :: rest)) rfl (by rw [hml]) (rest := rest) rfl (by rw [hb]; exact hdg) hframes (by show 2 * 0 + _ + _ ≤ _; omega)
  have hl : a1 < H.size := (Array.getElem?_eq_some_iff.mp hd).1
  have hheap : ((T.setVm vm').setCell a1 (copied cs cd sp dp n)).heap = H.setIfInBounds a1 (copied cs cd sp dp n) := by rw [← hT]; rfl
  obtain ⟨t, b1, b2⟩ := kk _ _ (show (H.setIfInBounds a1 (copied cs cd sp dp n))[a1]? = some _ by rw [Array.getElem?_setIfInBounds, if_pos rfl, if_pos hl]) (by simp) (fun q hq => by simp [Array.getElem?_setIfInBounds, Ne.symm hq]) (fun q hq => by
    rcases List.mem_append.mp hq with h | h
    · exact Or.inl h
    · obtain ⟨z, -, hz⟩ := List.mem_map.mp h
      exact Or.inr (by rw [← hz])) _ hheap X'
  exact ⟨t, step t b1, b2⟩
/-- an array's clone (follows va_clone) -/
theorem q_Wclone (hexec : p.tables.exec = Jvm.exec) (hb : c.code = cc) (hml : c.maxLocals = ls.size) {own ad : String} {index : Nat} (hown : s.vm.findClass own = some m.cls)
    (hlink : (Cond.methodLink own index ⟨ad, "clone", "()Ljava/lang/Object;"⟩).before args s = true) (hsame : (Cond.sameMethod ad "java/lang/Object" "clone" "()Ljava/lang/Object;").before args s = true)
    (hnat : (Cond.native ⟨"java/lang/Object", "clone", "()Ljava/lang/Object;"⟩).before args s = true) (hinst : (Cond.instanceMethod ⟨"java/lang/Object", "clone", "()Ljava/lang/Object;"⟩).before args s = true)
    (hsel : (Cond.selects ad ⟨ad, "clone", "()Ljava/lang/Object;"⟩ ⟨"java/lang/Object", "clone", "()Ljava/lang/Object;"⟩).before args s = true) (hcl : va_Nw (.castable ad "java/lang/Cloneable") s)
    {a : Nat} {cA : ClassId} {n : Nat} {f : Nat → Value} {ty : FieldType} (ha : H[a]? = some (arrV cA n f)) (ht : ArrOfT s cA ty) (hnm : s.vm.findClass ad = some cA) (hfit : ∀ i, i < n → fits ty (f i) = true)
    (hframes : 1 ≤ R.frames) (hlocals : (rest.map fun v => v.category).sum + 14 ≤ R.locals) (hcells : cells + 1 ≤ R.cells) (hslots : slots + n ≤ R.slots) (hdg : decode cc pc = .ok (.invokevirtual index, 3))
    (kk : ∀ H1 : Heap, H1[H.size]? = some (arrV cA n f) → H1.size = H.size + 1 → (∀ q : Nat, q < H.size → H1[q]? = H[q]?) → W p l e R s m args below meth c H1 locs (cells + 1) (slots + n) Q (F0 m (pc + 3) ls (.ref H.size :: rest))) :
    W p l e R s m args below meth c H locs cells slots Q (F0 m pc ls (.ref a :: rest)) := by
  have hsz : (arrV cA n f).slots.size = n := arrV_size _ _ _
  obtain ⟨c0, t0', f1, f2, f3⟩ := Cond.castable_spec (va_Nw.use (A := args) rfl hcl)
  cases hnm.symm.trans f1
  intro T hT X
  have hcellT : T.heap[a]? = some (arrV cA n f) := by rw [hT]; exact ha
  obtain ⟨-, kA, hkA, comp, hkind⟩ := State.isArrayOf_alike X.warmed.alike (ht 0 (fun _ => .null))
  obtain ⟨-, kS, hkS, compS, hkindS⟩ := ht 0 (fun _ => .null)
  obtain ⟨vm', X', st⟩ := X.cloneArray hexec hown hlink hsame hnat hinst hsel (a := a) (cell := arrV cA n f) hcellT (fun k h => by cases h) (fun h => by cases h) hnm f2 f3
    (fun i v hv => by
      have hk' : T.vm.classes[cA]? = some kA := hkA
      simpa [State.fitsSlot, State.slotType?, arrV, hk', hkind] using va_fit hfit i v hv)
    (g := F0 m pc ls (.ref a :: rest)) rfl (by rw [hml]) rfl (by rw [hb]; exact hdg) hframes (by show 2 * 0 + _ + 14 ≤ _; omega) hcells (by rw [hsz]; exact hslots) (hloader := Vm.clonesLoader_of_array hkS hkindS)
  rw [hsz] at X'
  obtain ⟨t, b1, b2⟩ := kk (H.push (arrV cA n f)) (by rw [Array.getElem?_push_size]) (by rw [Array.size_push]) (fun q hq => by rw [Array.getElem?_push, if_neg (Nat.ne_of_lt hq)]) ((T.setVm vm').pushCell (arrV cA n f)) (by rw [← hT]; rfl) X'
  refine ⟨t, st t ?_, b2⟩
  rw [hT]
  exact b1
end
