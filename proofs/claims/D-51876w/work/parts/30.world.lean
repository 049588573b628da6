/-! the world at the law's start: old objects by their terms -/
def q_tmO (T : Nat → Option Term) (a0 : Array Value) (s : State) (a : Nat) : Option Nat := match T a with
  | some t => match t.eval a0 s none [] s with
    | some (.ref r) => some r
    | _ => none
  | none => none
section
variable {a0 : Array Value} {s : State} {T : Nat → Option Term} {a r : Nat} {t : Term}
theorem q_tmO_at (hT : T a = some t) (he : t.eval a0 s none [] s = some (.ref r)) : q_tmO T a0 s a = some r := by
  unfold q_tmO; rw [hT]; dsimp only; rw [he]
theorem q_eqI {A : Term} {v : Int32} (h : (Cond.eq A (.int v)).before a0 s = true) : A.eval a0 s none [] s = some (.int v) := by
  simp only [Cond.before, Cond.holds, Cond.value, Term.eval] at h
  cases hA : A.eval a0 s none [] s with
  | none => rw [hA] at h; simp at h
  | some x =>
    rw [hA] at h
    cases x <;> simp at h
    rw [h]
theorem q_fldv {dc n dd : String} {v : Value} (ht : t.eval a0 s none [] s = some (.ref r)) (h : (Term.field t dc n dd).eval a0 s none [] s = some v) :
    ∃ (cf : ClassId) (kk : Class) (i : Nat) (fld : Field) (cell : Cell), s.fieldFound? dc n dd = some (cf, kk, i, fld) ∧ fld.isStatic = false ∧ s.heap[r]? = some cell ∧ cell.vm ≠ .unknown ∧ cell.vm.isStatics = false ∧ cell.slots[fld.slot]? = some v := by
  cases hi : s.fieldFound? dc n dd with
  | none =>
    simp only [Term.eval, ht, State.fieldOf?, State.fieldNamed?, hi] at h
    simp at h
  | some x =>
    obtain ⟨cf, kk, i, fld⟩ := x
    obtain ⟨h1, cell, h2, h3, h4, -, h5⟩ := Term.field_spec hi ht h
    exact ⟨cf, kk, i, fld, cell, rfl, h1, h2, h3, h4, h5⟩
variable {w : q_Wd}
/-- an old object: its class by 'exactly', its fields by their terms; one field's term shows that it's known -/
theorem q_wkO (hw1 : w.1 = s) (hwo : w.2.2.1 = q_tmO T a0 s) (hT : T a = some t) {C : String} {c : Nat} {fs : List Value} (hex : (Cond.exactly t C).before a0 s = true) (hnm : q_nm[c]? = some C) {dc0 n0 dd0 : String} {v0 : Value} (hk : (Term.field t dc0 n0 dd0).eval a0 s none [] s = some v0)
    (hf : ∀ (k f : Nat) (dc n dd : String) (fin : Bool) (ty : FieldType), (q_cf.getD c [])[k]? = some f → q_fd[f]? = some (dc, n, dd, fin, ty) → ∃ v, fs[k]? = some v ∧ (Term.field t dc n dd).eval a0 s none [] s = some (q_vm (q_F w) v)) : q_wk w a (.inr (c, fs)) := by
  subst hw1
  obtain ⟨r, cc, cell, k, he, hcls, hcell, hkk, hst, hcc, -⟩ := Cond.exactly_spec hex
  obtain ⟨cf, kk, i, fld, cell2, -, -, hcell2, hun, -, -⟩ := q_fldv he hk
  cases hcell.symm.trans hcell2
  refine ⟨r, cell, by rw [hwo]; exact q_tmO_at hT he, hcell, hst, hun, ⟨C, hnm, by rw [hcc]; exact hcls⟩, ?_⟩
  intro k f dc n dd fin ty h1 h2
  obtain ⟨v, h3, h4⟩ := hf k f dc n dd fin ty h1 h2
  obtain ⟨cf, kk, i, fld, cell3, g1, g2, g3, -, -, g4⟩ := q_fldv he h4
  cases hcell.symm.trans g3
  exact ⟨cf, kk, i, fld, v, g1, g2, h3, g4⟩
/-- an old array of ints, bytes or booleans -/
theorem q_wkA (hw1 : w.1 = s) (hwo : w.2.2.1 = q_tmO T a0 s) (hT : T a = some t) {ti : Nat} {ty : FieldType} {n : Nat} {f : Nat → Int32} (hn : n < 2 ^ 31) (hty : q_tag[ti]? = some ty) (hti : ti < 3) (hfit : ∀ i, i < n → fits ty (.int (f i)) = true) (har : (Cond.arrayOf t ty).before a0 s = true)
    (hlen : (Term.length t).eval a0 s none [] s = some (.int (Int32.ofNat n))) (hel : ∀ j, j < n → (Term.elem t (.int (Int32.ofNat j))).eval a0 s none [] s = some (.int (f j))) (hsz : ∀ (r : Nat) (cell : Cell), t.eval a0 s none [] s = some (.ref r) → s.heap[r]? = some cell → n ≤ cell.slots.size) : q_wk w a (.inl (ti, n, .inl f)) := by
  subst hw1
  obtain ⟨r, cell, he, hat, hv⟩ := Term.length_spec hlen
  obtain ⟨hcell, hkn, -, -⟩ := State.arrayAt?_spec hat
  obtain ⟨hof, -⟩ := Cond.arrayOf_spec har he hcell
  have htd : q_tag.getD ti .int = ty := by rw [List.getD_eq_getElem?_getD, hty]; rfl
  have hst : cell.vm.isStatics = false := by
    cases hs : cell.vm.isStatics with
    | false => rfl
    | true =>
      cases hvm : cell.vm with
      | statics k => exact absurd hvm (hof.1 k)
      | _ => rw [hvm] at hs; cases hs
  refine ⟨r, cell, by rw [hwo]; exact q_tmO_at hT he, hcell, hst, hkn, by rw [htd]; exact hof, hsz r cell he hcell, (Value.int.inj hv).symm, ?_, hti, fun i hi => by rw [htd]; exact hfit i hi⟩
  intro j hj
  obtain ⟨r2, j2, cell2, h1, h2, h3, h4, h5⟩ := Term.elem_spec (hel j hj)
  cases he.symm.trans h1
  cases hat.symm.trans h3
  cases h2
  have hjn : (Int32.ofNat j).toNatClampNeg = j := Int32.toNatClampNeg_ofNat_of_lt (by omega)
  rw [hjn] at h5
  exact h5
end
