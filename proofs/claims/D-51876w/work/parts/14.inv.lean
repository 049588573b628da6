/-! the q-machine is sound: natives, new arrays, ends -/
def q_eI3 : Prop := ∀ (cn i a b : Nat) (own : String), q_own[cn]? = some own → q_ik cn i = some (3, a, b) → Cond.methodLink own i Lib.objectInit ∈ lw_all ∧ Cond.instanceMethod Lib.objectInit ∈ lw_all ∧ Cond.code Lib.objectInit ⟨#[0xb1]⟩ 1 none ∈ lw_all
def q_eI4 : Prop := ∀ (cn i a b : Nat) (own : String), q_own[cn]? = some own → q_ik cn i = some (4, a, b) → Cond.methodLink own i arraycopyName ∈ lw_all ∧ Cond.native arraycopyName ∈ lw_all ∧ Cond.static arraycopyName ∈ lw_all ∧ Cond.initialized "java/lang/System" ∈ lw_all
def q_eI6 : Prop := ∀ (cn i a b : Nat) (own : String), q_own[cn]? = some own → q_ik cn i = some (6, a, b) → Cond.methodLink own i ⟨"[B", "clone", "()Ljava/lang/Object;"⟩ ∈ lw_all ∧ Cond.sameMethod "[B" "java/lang/Object" "clone" "()Ljava/lang/Object;" ∈ lw_all ∧ Cond.native ⟨"java/lang/Object", "clone", "()Ljava/lang/Object;"⟩ ∈ lw_all ∧
  Cond.instanceMethod ⟨"java/lang/Object", "clone", "()Ljava/lang/Object;"⟩ ∈ lw_all ∧ Cond.selects "[B" ⟨"[B", "clone", "()Ljava/lang/Object;"⟩ ⟨"java/lang/Object", "clone", "()Ljava/lang/Object;"⟩ ∈ lw_all ∧ Cond.castable "[B" "java/lang/Cloneable" ∈ lw_tbl
section
variable {w : q_Wd} {z : q_Fr} {Q : State → Prop} {L n0 s0 : Nat} {cn : Nat} {y : MethodName} {code : ByteArray} {rt : Option FieldType} {hs : List (Nat × Nat × Nat × Nat)}
variable {d mu pc : Nat} {ls : q_L} {st : List Value} {h : q_H} {c1 : q_C}
theorem q_wty_K {w : q_Wd} (hw : q_WD w) {s : State} (hW : w.1.WarmedH s.vm) {t : Nat} (ht : t < 9) : ArrOfT s (w.2.2.2.2 t) (q_tag.getD t .int) ∧ va_RA s (w.2.2.2.2 t) (q_tag.getD t .int) := (va_K.moved hW.alike hw.2.1).2 t _ (q_wty_at w ht)
/-- a primitive array's class is found by its name -/
theorem q_prim_cls {s : State} {t : Nat} {cA cB : ClassId} (h : va_RA s cA (q_tag.getD t .int)) (h2 : s.vm.findClass ("[" ++ (q_tag.getD t .int).toString) = some cB) (ht : t < 10) : cB = cA := by
  have key : s.vm.findClass ("[" ++ (q_tag.getD t .int).toString) = some cA := by
    revert h
    cases hty : q_tag.getD t .int with
    | object C => intro h; obtain ⟨_, _, _, _, _, h4⟩ := h; exact h4
    | _ => intro h; exact h
  exact Option.some.inj (h2.symm.trans key)
theorem q_s_newarray (hat : q_eAT) {ty : ArrayType} (X : q_X w z d cn y code L rt hs) (hN : c1.2.2.2.2.2.2.1 ≤ n0 + z.1.2.2.2.cells ∧ c1.2.2.2.2.2.2.2 ≤ s0 + z.1.2.2.2.slots) (hd : decode code pc = .ok (.newarray ty, 2)) (e : q_do (d, mu, pc, ls, st, h) cn y code rt (.newarray ty) = some (.inr (.inl c1))) (k : q_G w z Q L n0 s0 c1) : q_G w z Q L n0 s0 (d, mu, pc, ls, st, h) := by
  have hts := X.tsAll
  obtain ⟨⟨hx, hb, hml, -, -, hown, -⟩, hw, hW, -⟩ := X
  simp only [q_do] at e
  split at e
  · rename_i n r
    split at e
    · rename_i t a hta
      split at e
      · cases e
      · rename_i hn
        simp only [q_ph] at e
        obtain rfl := q_nx_eq e
        intro H locs cells slots as hC hl hL hc hs'
        obtain ⟨hw1, htag⟩ := hat ty t a hta
        have hsz := hC.size
        have hc' : n0 + cells = h.2.1 := hc
        have hs2 : s0 + slots = h.2.2 := hs'
        have hN1 : h.2.1 + 1 ≤ n0 + z.1.2.2.2.cells := hN.1
        have hN2 : h.2.2 + n.toNatClampNeg ≤ s0 + z.1.2.2.2.slots := hN.2
        have hcb : componentBytes (newarray.typeOf ty) ≤ 8 := by cases ty <;> decide
        have hsmall : n.toNatClampNeg ≤ 10000 := Nat.le_of_not_lt fun q => hn (Or.inr q)
        have ht9 : t < 9 := by
          revert hta
          cases ty <;> intro hta <;> cases hta <;> decide
        have ht : t < 10 := by
          revert hta
          cases ty <;> intro hta <;> cases hta <;> decide
        refine va_newaK hx hb (hts _ hw1) rfl hd rfl (fun q => hn (Or.inl q)) rfl (Nat.le_trans (Nat.mul_le_mul hsmall hcb) (by decide)) (by omega) (by omega) rfl fun H' cA e1 z1 o1 hAr hNm => ?_
        have hcA : cA = w.2.2.2.2 t := q_prim_cls (q_wty_K hw hW ht9).2 (by rw [htag]; exact hNm) ht
        subst hcA
        have hsg : q_sg w h.2.1 (.inl (t, n.toNatClampNeg, a.2)) H' := by
          refine ⟨_, by rw [← hsz]; exact e1, rfl, ?_, ?_, ht9⟩
          · congr 1
            revert hta htag
            cases ty <;> intro hta htag <;> cases hta <;> rfl
          · revert hta htag
            cases ty <;> intro hta htag <;> cases hta <;> first | exact ⟨by decide, fun i _ => rfl⟩ | rfl
        have k2 := k H' locs (cells + 1) (slots + n.toNatClampNeg) as (hC.new (n := n.toNatClampNeg) hsg z1 o1) hl hL (by show n0 + (cells + 1) = h.2.1 + 1; omega) (by show s0 + (slots + n.toNatClampNeg) = h.2.2 + n.toNatClampNeg; omega)
        have hvmE : q_vm (q_F w) (.ref h.2.1) = .ref H.size := by rw [q_vm_ref (q_F_new w hC.2.1), hsz]
        have k3 : q_W z H' locs (cells + 1) (slots + n.toNatClampNeg) Q (F0 z.2.2.1 (pc + 2) as (q_vm (q_F w) (.ref h.2.1) :: r.map (q_vm (q_F w)))) := k2
        rw [hvmE] at k3
        exact k3
    · cases e
  · cases e
theorem q_s_anewarray (han : q_eAN) {i : Nat} (X : q_X w z d cn y code L rt hs) (hN : c1.2.2.2.2.2.2.1 ≤ n0 + z.1.2.2.2.cells ∧ c1.2.2.2.2.2.2.2 ≤ s0 + z.1.2.2.2.slots) (hd : decode code pc = .ok (.anewarray i, 3)) (e : q_do (d, mu, pc, ls, st, h) cn y code rt (.anewarray i) = some (.inr (.inl c1))) (k : q_G w z Q L n0 s0 c1) : q_G w z Q L n0 s0 (d, mu, pc, ls, st, h) := by
  have hts := X.tsAll
  obtain ⟨⟨hx, hb, hml, -, -, hown, -⟩, hw, hW, -, -, -, hcn, -⟩ := X
  simp only [q_do] at e
  split at e
  · rename_i n r
    split at e
    · rename_i t hta
      split at e
      · cases e
      · rename_i hn
        simp only [q_ph] at e
        obtain rfl := q_nx_eq e
        intro H locs cells slots as hC hl hL hc hs'
        obtain ⟨C, hlink, hover, htag, ht5, ht9⟩ := han cn i t _ hcn hta
        have ht10 : t < 10 := by omega
        have hsz := hC.size
        have hc' : n0 + cells = h.2.1 := hc
        have hs2 : s0 + slots = h.2.2 := hs'
        have hN1 : h.2.1 + 1 ≤ n0 + z.1.2.2.2.cells := hN.1
        have hN2 : h.2.2 + n.toNatClampNeg ≤ s0 + z.1.2.2.2.slots := hN.2
        have hsmall : n.toNatClampNeg ≤ 10000 := Nat.le_of_not_lt fun q => hn (Or.inr q)
        have htg : q_tag.getD t .int = .object C := by rw [List.getD_eq_getElem?_getD, htag]; rfl
        have hAO := va_AO.use (A := z.2.2.2.1) (va_AO.moved (U := z.2.1) hW.alike (va_AO.of (A := w.2.1) (hw.1 _ hover)))
        refine W.anew hx hb hown (hts _ hlink) hAO rfl hd rfl (fun q => hn (Or.inl q)) (Nat.le_trans (Nat.mul_le_mul_right 4 hsmall) (by decide)) (by omega) (by omega) fun cA kA comp g1 g2 g3 g4 => ?_
        have hcA : cA = w.2.2.2.2 t := q_prim_cls (q_wty_K hw hW ht9).2 (by rw [htg]; exact g1) ht10
        subst hcA
        generalize hH1 : H.push ({ cls := w.2.2.2.2 t, slots := Array.replicate n.toNatClampNeg .null, vm := .none } : Cell) = H1
        have z1 : H1.size = H.size + 1 := by rw [← hH1, Array.size_push]
        have e1 : H1[H.size]? = some (arrV (w.2.2.2.2 t) n.toNatClampNeg (fun _ => .null)) := by rw [← hH1, Array.getElem?_push_size, arrV_new]
        have o1 : ∀ q : Nat, q < H.size → H1[q]? = H[q]? := fun q hq => by rw [← hH1, Array.getElem?_push, if_neg (Nat.ne_of_lt hq)]
        have hsg : q_sg w h.2.1 (.inl (t, n.toNatClampNeg, .inr (.inr (.inr (.inr fun _ => none))))) H1 := ⟨_, by rw [← hsz]; exact e1, rfl, rfl, ⟨ht5, ht10⟩, ht9⟩
        have k2 := k H1 locs (cells + 1) (slots + n.toNatClampNeg) as (hC.new (n := n.toNatClampNeg) hsg z1 o1) hl hL (by show n0 + (cells + 1) = h.2.1 + 1; omega) (by show s0 + (slots + n.toNatClampNeg) = h.2.2 + n.toNatClampNeg; omega)
        have hvmE : q_vm (q_F w) (.ref h.2.1) = .ref H.size := by rw [q_vm_ref (q_F_new w hC.2.1), hsz]
        have k3 : q_W z H1 locs (cells + 1) (slots + n.toNatClampNeg) Q (F0 z.2.2.1 (pc + 3) as (q_vm (q_F w) (.ref h.2.1) :: r.map (q_vm (q_F w)))) := k2
        rw [hvmE] at k3
        exact k3
    · cases e
  · cases e
/-- Object's constructor -/
theorem q_s_oinit (hi3 : q_eI3) {i a : Nat} {u v : Nat} {r : List Value} (X : q_X w z d cn y code L rt hs) (hd : decode code pc = .ok (.invokespecial i, 3)) (hik : q_ik cn i = some (3, u, v)) (hc : 1 ≤ d ∧ q_cat r ≤ 8 ∧ (h.1 a).isSome = true) (k : q_G w z Q L n0 s0 (d, mu, pc + 3, ls, r, h)) : q_G w z Q L n0 s0 (d, mu, pc, ls, .ref a :: r, h) := by
  have hts := X.tsAll
  obtain ⟨⟨hx, hb, hml, -, -, hown, -⟩, hw, hW, htr, hfr, hlo2, hcn, -⟩ := X
  intro H locs cells slots as hC hl hL hc0 hs'
  obtain ⟨g1, g2, g3⟩ := hi3 cn i u v _ hcn hik
  obtain ⟨r0, hF, -⟩ := q_kn_at hC hc.2.2
  show q_W z H locs cells slots Q (F0 _ pc as (q_vm (q_F w) (.ref a) :: r.map (q_vm (q_F w))))
  rw [q_vm_ref hF]
  refine W.objInit hx hb hown (hts _ g1) (hts _ g2) (hts _ g3) rfl (by rw [hml]; exact hL.1) rfl hd (by omega) ?_ (W.eq (g2 := F0 z.2.2.1 (pc + 3) as (r.map (q_vm (q_F w)))) rfl (k H locs cells slots as hC hl hL hc0 hs'))
  have h1 := q_cat_vm (q_F w) r
  have h2 := hc.2.1
  show 2 * 0 + _ + 12 ≤ _
  omega
theorem q_getD_of {cell : Cell} {i : Nat} {v : Value} (h : cell.slots[i]? = some v) : cell.slots.getD i .null = v := by
  rw [Array.getD_eq_getD_getElem?, h]; rfl
/-- System.arraycopy -/
theorem q_s_copy (hlo : q_laysOk) (hst : q_eST) (hi4 : q_eI4) {i a b : Nat} {u v : Nat} {sp dp n : Int32} {r : List Value} {h' : q_H} (X : q_X w z d cn y code L rt hs) (hd : decode code pc = .ok (.invokestatic i, 3)) (hik : q_ik cn i = some (4, u, v)) (hc : 4 ≤ d ∧ q_cat r ≤ 8) (hcp : q_cp h a sp b dp n = some h') (k : q_G w z Q L n0 s0 (d, mu, pc + 3, ls, r, h')) :
    q_G w z Q L n0 s0 (d, mu, pc, ls, .int n :: .int dp :: .ref b :: .int sp :: .ref a :: r, h) := by
  have hts := X.tsAll
  obtain ⟨⟨hx, hb, hml, -, -, hown, -⟩, hw, hW, htr, hfr, hlo2, hcn, -⟩ := X
  intro H locs cells slots as hC hl hL hc0 hs'
  obtain ⟨g1, g2, g3, g4⟩ := hi4 cn i u v _ hcn hik
  have hcat := q_cat_vm (q_F w) r
  have hnw : nativeFrameWords "java/lang/System" "arraycopy" 5 + 11 ≤ 64 := by decide +kernel
  have hc1 := hc.1
  have hc2 := hc.2
  unfold q_cp at hcp
  split at hcp
  · cases hcp
  · rename_i hneg
    have h1 : ¬ sp < 0 := fun q => hneg (Or.inl q)
    have h2 : ¬ dp < 0 := fun q => hneg (Or.inr (Or.inl q))
    have h3 : ¬ n < 0 := fun q => hneg (Or.inr (Or.inr q))
    split at hcp
    · rename_i w0 t n0' f t1 n1 g ha hb1
      split at hcp
      · rename_i hcond
        obtain ⟨rfl, h4, h5⟩ := hcond
        cases hcp
        obtain ⟨ra, ca, hFa, hca, hofa, huna, hsta, hlea, hsza, hela, hkda⟩ := q_arr hw hC hW ha
        obtain ⟨hb2, hb3, hsg⟩ := (hC.2.2.2 b true _ hb1).1 rfl
        obtain ⟨cb, hcb, hvmb, rfl, hkdb, ht9b⟩ := id hsg
        have hofb := (q_wty_K hw hW ht9b).1 n1 (q_el (q_F w) (n1, .inl g))
        show q_W z H locs cells slots Q (F0 _ pc as (.int n :: .int dp :: q_vm (q_F w) (.ref b) :: .int sp :: q_vm (q_F w) (.ref a) :: r.map (q_vm (q_F w))))
        rw [q_vm_ref hFa, q_vm_ref (q_F_new w hb2)]
        refine q_Wcopy hx hb (by rw [hml]; exact hL.1.symm) hown (hts _ g1) (hts _ g2) (hts _ g3) (hts _ g4) hca hcb hsta rfl huna (fun q => by cases q) hofa hofb h1 h2 h3 (Nat.le_trans h4 hlea) (by rw [arrV_size]; exact h5) (fun i' hi' => ?_) (fun i' hi' yy hyy => ?_) (by omega) (by omega) hd fun H1 locs1 e1 e2 e3 e4 => ?_
        · rw [q_getD_of (hela _ (show sp.toNatClampNeg + i' < n0' by omega))]
          exact hkda.2 _ (show sp.toNatClampNeg + i' < n0' by omega)
        · rw [q_getD_of (hela _ (show sp.toNatClampNeg + i' < n0' by omega))] at hyy
          cases hyy
        · refine k H1 locs1 cells slots as (hC.set hb1 ?_ e2 e3) (fun q hq => (e4 q hq).elim (hl q) fun g => by rw [g]; exact Nat.le_add_right _ _) hL hc0 hs'
          refine ⟨_, e1.trans (congrArg some (va_copiedX (fun x => .int x) ca (w.2.2.2.2 t) f g (n0 := n0') (n1 := n1) hela h4)), rfl, rfl, ⟨hkdb.1, fun j hj => ?_⟩, ht9b⟩
          · show fits _ (.int (va_cpy f g sp.toNatClampNeg dp.toNatClampNeg n.toNatClampNeg j)) = true
            unfold va_cpy
            split
            · rename_i hj2
              exact hkda.2 _ (show _ < n0' by omega)
            · exact hkdb.2 j hj
      · cases hcp
    · rename_i w0 t n0' f t1 n1 g ha hb1
      split at hcp
      · rename_i hcond
        obtain ⟨⟨rfl, h4, h5⟩, hok⟩ := hcond
        cases hcp
        obtain ⟨ra, ca, hFa, hca, hofa, huna, hsta, hlea, hsza, hela, hkda⟩ := q_arr hw hC hW ha
        obtain ⟨hb2, hb3, hsg⟩ := (hC.2.2.2 b true _ hb1).1 rfl
        obtain ⟨cb, hcb, hvmb, rfl, hkdb, ht9b⟩ := id hsg
        have hK := q_wty_K hw hW ht9b
        have hofb := hK.1 n1 (q_el (q_F w) (n1, .inr (.inr (.inr (.inr g)))))
        show q_W z H locs cells slots Q (F0 _ pc as (.int n :: .int dp :: q_vm (q_F w) (.ref b) :: .int sp :: q_vm (q_F w) (.ref a) :: r.map (q_vm (q_F w))))
        rw [q_vm_ref hFa, q_vm_ref (q_F_new w hb2)]
        refine q_Wcopy hx hb (by rw [hml]; exact hL.1.symm) hown (hts _ g1) (hts _ g2) (hts _ g3) (hts _ g4) hca hcb hsta rfl huna (fun q => by cases q) hofa hofb h1 h2 h3 (Nat.le_trans h4 hlea) (by rw [arrV_size]; exact h5) (fun i' hi' => ?_) (fun i' hi' yy hyy => ?_) (by omega) (by omega) hd fun H1 locs1 e1 e2 e3 e4 => ?_
        · rw [q_getD_of (hela _ (show sp.toNatClampNeg + i' < n0' by omega))]
          have hob : ∃ C, q_tag.getD t .int = .object C := by
            have : ∀ t, t < 10 → 5 ≤ t → (match q_tag.getD t .int with | .object _ => true | _ => false) = true := by decide +kernel
            have h9 := this t hkdb.2 hkdb.1
            split at h9
            · exact ⟨_, by assumption⟩
            · cases h9
          obtain ⟨C, hC9⟩ := hob
          rw [hC9]
          show fits (.object C) (va_rf ((f (sp.toNatClampNeg + i')).bind (q_F w))) = true
          cases ((f (sp.toNatClampNeg + i')).bind (q_F w)) <;> rfl
        · rw [q_getD_of (hela _ (show sp.toNatClampNeg + i' < n0' by omega))] at hyy
          have hyy' : va_rf ((f (sp.toNatClampNeg + i')).bind (q_F w)) = .ref yy := hyy
          cases hfi : f (sp.toNatClampNeg + i') with
          | none => rw [hfi] at hyy'; cases hyy'
          | some b0 =>
            rw [hfi] at hyy'
            obtain ⟨wb, cb0, fs0, hb0, hsto⟩ := hok i' hi' b0 hfi
            obtain ⟨C, E, hCn, hE, hcast⟩ := hst t cb0 hsto
            obtain ⟨rb, cellV, nm, hFb, hcellV, hstV, hunV, hnm, hclsV, -⟩ := q_obj hw hlo hC hW hb0
            cases hnm.symm.trans hCn
            have hyb : yy = rb := by
              have h9 : va_rf (q_F w b0) = .ref yy := hyy'
              rw [hFb] at h9
              exact (Value.ref.inj h9).symm
            subst hyb
            obtain ⟨kC, hkC, -⟩ := Vm.findClass_spec hclsV
            refine ⟨cellV, hcellV, hstV, ⟨kC, hkC⟩, fun kd comp hkd hkk => ?_⟩
            have hEd : q_tag.getD t .int = .object E := by rw [List.getD_eq_getElem?_getD, hE]; rfl
            have hRA := hK.2
            rw [hEd] at hRA hkk
            obtain ⟨kA, comp', k1, k2, k3, -⟩ := hRA
            cases hkd.symm.trans k1
            cases hkk.symm.trans k2
            obtain ⟨kE, hkE, -⟩ := Vm.findClass_spec k3
            refine ⟨⟨kE, hkE⟩, ?_⟩
            rcases hcast with hcast | rfl
            · exact vb_asgC (q_castL hw hW hcast) comp _ k3 hclsV
            · exact vb_asgS comp _ k3 hclsV
        · refine k H1 locs1 cells slots as (hC.set hb1 ?_ e2 e3) (fun q hq => (e4 q hq).elim (hl q) fun g => by rw [g]; exact Nat.le_add_right _ _) hL hc0 hs'
          exact ⟨_, e1.trans (congrArg some (va_copiedX (fun x => va_rf (Option.bind x (q_F w))) ca (w.2.2.2.2 t) f g (n0 := n0') (n1 := n1) hela h4)), rfl, rfl, hkdb, ht9b⟩
      · cases hcp
    · cases hcp
/-- a copy of an array of bytes -/
theorem q_s_clone (hi6 : q_eI6) {i a n : Nat} {u v : Nat} {wr : Bool} {f : Nat → Int32} {r : List Value} (X : q_X w z d cn y code L rt hs) (hN : h.2.1 + 1 ≤ n0 + z.1.2.2.2.cells ∧ h.2.2 + n ≤ s0 + z.1.2.2.2.slots) (hd : decode code pc = .ok (.invokevirtual i, 3)) (hik : q_ik cn i = some (6, u, v)) (hc : 4 ≤ d ∧ q_cat r ≤ 8) (ha : h.1 a = some (true, .inl (1, n, .inl f)))
    (k : q_G w z Q L n0 s0 (d, mu, pc + 3, ls, .ref h.2.1 :: r, q_new h (true, .inl (1, n, .inl f)) n)) : q_G w z Q L n0 s0 (d, mu, pc, ls, .ref a :: r, h) := by
  have hts := X.tsAll
  obtain ⟨⟨hx, hb, hml, -, -, hown, -⟩, hw, hW, htr, hfr, hlo2, hcn, -⟩ := X
  intro H locs cells slots as hC hl hL hc0 hs'
  obtain ⟨g1, g2, g3, g4, g5, g6⟩ := hi6 cn i u v _ hcn hik
  have hcat := q_cat_vm (q_F w) r
  have hc1 := hc.1
  have hc2 := hc.2
  have hsz := hC.size
  have hc' : n0 + cells = h.2.1 := hc0
  have hs2 : s0 + slots = h.2.2 := hs'
  obtain ⟨ha2, ha3, hsg⟩ := (hC.2.2.2 a true _ ha).1 rfl
  obtain ⟨ca, hca, hvma, rfl, hkda, ht9a⟩ := id hsg
  have hK := q_wty_K hw hW (show 1 < 9 by decide)
  show q_W z H locs cells slots Q (F0 _ pc as (q_vm (q_F w) (.ref a) :: r.map (q_vm (q_F w))))
  rw [q_vm_ref (q_F_new w ha2)]
  refine q_Wclone hx hb (by rw [hml]; exact hL.1.symm) hown (hts _ g1) (hts _ g2) (hts _ g3) (hts _ g4) (hts _ g5) (q_castL hw hW g6) hca hK.1 (va_nm_byte hK.2) (fun j hj => hkda.2 j hj) (by omega) (by omega) (by omega) (by omega) hd fun H1 e1 z1 o1 => ?_
  have k2 := k H1 locs (cells + 1) (slots + n) as (hC.new (n := n) (ob1 := .inl (1, n, .inl f)) ⟨_, by rw [← hsz]; exact e1, rfl, rfl, hkda, ht9a⟩ z1 o1) hl hL (by show n0 + (cells + 1) = h.2.1 + 1; omega) (by show s0 + (slots + n) = h.2.2 + n; omega)
  have hvmE : q_vm (q_F w) (.ref h.2.1) = .ref H.size := by rw [q_vm_ref (q_F_new w hC.2.1), hsz]
  have k3 : q_W z H1 locs (cells + 1) (slots + n) Q (F0 z.2.2.1 (pc + 3) as (q_vm (q_F w) (.ref h.2.1) :: r.map (q_vm (q_F w)))) := k2
  rw [hvmE] at k3
  exact k3
end
