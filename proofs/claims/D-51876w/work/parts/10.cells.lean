/-! the q-machine is sound: writes to fields, arrays, new cells -/
theorem q_tyOk : ∀ c : Nat, c < 29 → (match q_cl[c]? with | some r => (List.range r.2.2).all (fun k => decide (parseFieldDescriptor (r.2.1 k).2.2.1 = some ((q_tys.getD c (fun _ => .int)) k))) && (List.range r.2.2).all (fun a => (List.range r.2.2).all fun b => decide (a = b) || decide ((r.2.1 a).2.1 ≠ (r.2.1 b).2.1)) | none => false) = true := by decide +kernel
theorem q_ty_at {c : Nat} {r : vw_C} (hc : q_cl[c]? = some r) : (∀ k, k < r.2.2 → parseFieldDescriptor (r.2.1 k).2.2.1 = some ((q_tys.getD c (fun _ => .int)) k)) ∧ ∀ a, a < r.2.2 → ∀ b, b < r.2.2 → a ≠ b → (r.2.1 a).2.1 ≠ (r.2.1 b).2.1 := by
  have h := q_tyOk c (q_cl_lt hc)
  rw [hc] at h
  simp only [Bool.and_eq_true, List.all_eq_true, List.mem_range, decide_eq_true_eq, Bool.or_eq_true] at h
  exact ⟨h.1, fun a ha b hb hne => (h.2 a ha b hb).resolve_left hne⟩
theorem q_okv_vm {F : Nat → Option Nat} {ty : FieldType} {v : Value} (h : q_okv ty v = true) : narrow ty (q_vm F v) = q_vm F v ∧ fits ty (q_vm F v) = true := by
  unfold q_okv at h
  split at h
  · exact ⟨rfl, rfl⟩
  · exact ⟨rfl, rfl⟩
  · rcases of_decide_eq_true h with rfl | rfl
    · exact ⟨by show Value.int ((0 : Int32) &&& 1) = Value.int 0; decide, by show fits .boolean (.int 0) = true; decide⟩
    · exact ⟨by show Value.int ((1 : Int32) &&& 1) = Value.int 1; decide, by show fits .boolean (.int 1) = true; decide⟩
  · rename_i x
    have hx := of_decide_eq_true h
    refine ⟨by show Value.int x.toInt8.toInt32 = Value.int x; rw [hx], ?_⟩
    show fits .byte (.int x) = true
    rw [← hx]
    exact pk_fb x
  · rename_i n a
    unfold q_vm; dsimp only
    cases F a <;> exact ⟨rfl, rfl⟩
  · exact ⟨rfl, rfl⟩
  · rename_i n a
    unfold q_vm; dsimp only
    cases F a <;> exact ⟨rfl, rfl⟩
  · exact ⟨rfl, rfl⟩
  · cases h
/-- an array's store -/
theorem q_sg_arr {w : q_Wd} {a t : Nat} {x x' : vp_A} {H H1 : Heap} {j : Nat} {v : Value} (hs : q_sg w a (.inl (t, x)) H) (hn : x'.1 = x.1) (hel : ∀ i, q_el (q_F w) x' i = updV (q_el (q_F w) x) j v i) (hkd : q_kd t x')
    (e : ∀ cell, H[w.1.heap.size + (a - 1000)]? = some cell → H1[w.1.heap.size + (a - 1000)]? = some (cell.setSlot j v)) : q_sg w a (.inl (t, x')) H1 := by
  obtain ⟨cell, hcell, hvm, rfl, -, ht9⟩ := hs
  refine ⟨_, e _ hcell, rfl, ?_, hkd, ht9⟩
  rw [arrV_store, hn]
  congr 1
  exact funext fun i => (hel i).symm
section
variable {w : q_Wd} {z : q_Fr} {Q : State → Prop} {L n0 s0 : Nat} {cn : Nat} {y : MethodName} {code : ByteArray} {rt : Option FieldType} {hs : List (Nat × Nat × Nat × Nat)}
variable {d mu pc : Nat} {ls : q_L} {st : List Value} {h : q_H} {c1 : q_C}
theorem q_locs {locs : List Loc} {b : Nat} (hl : ∀ q ∈ locs, w.1.heap.size ≤ q.base) {k : Nat} : ∀ q ∈ locs ++ [(⟨w.1.heap.size + b, k⟩ : Loc)], w.1.heap.size ≤ q.base := by
  intro q hq
  rcases List.mem_append.mp hq with h1 | h1
  · exact hl q h1
  · rw [List.mem_singleton.mp h1]
    exact Nat.le_add_right _ _
theorem q_s_putfield (hlo : q_laysOk) (hfl : q_eFL) {i : Nat} (X : q_X w z d cn y code L rt hs) (hd : decode code pc = .ok (.putfield i, 3)) (e : q_do (d, mu, pc, ls, st, h) cn y code rt (.putfield i) = some (.inr (.inl c1))) (k : q_G w z Q L n0 s0 c1) : q_G w z Q L n0 s0 (d, mu, pc, ls, st, h) := by
  have hts := X.tsAll
  obtain ⟨⟨hx, hb, hml, -, -, hown, hname⟩, hw, hW, -, -, -, hcn, -, hbase⟩ := X
  simp only [q_do] at e
  split at e
  · rename_i v a r
    split at e
    · rename_i f hf
      split at e
      · rename_i hpm
        split at e
        · rename_i h' hpf
          simp only [q_ph] at e
          obtain rfl := q_nx_eq e
          intro H locs cells slots as hC hl hL hc hs'
          obtain ⟨ref, dc, n, dd, fin, ty, hfd, hlk, hsame⟩ := hfl cn i f _ hcn hf
          unfold q_pf at hpf
          split at hpf
          · rename_i c fs ha
            obtain ⟨kk, hix, hpf⟩ := Option.bind_eq_some_iff.mp hpf
            rw [hfd] at hpf
            dsimp only at hpf
            split at hpf
            · rename_i hcond
              obtain ⟨hklt, hokv⟩ := hcond
              cases hpf
              obtain ⟨ha1, ha2, hsg⟩ := (hC.2.2.2 a true _ ha).1 rfl
              obtain ⟨cell, hcell, hvm, ⟨r0, hr0, hcl, hsl⟩, hlen, hmon⟩ := id hsg
              have hK := va_K.moved hW.alike hw.2.1
              obtain ⟨hS, hfc, kC, hkC, hkind⟩ := hK.1 c r0 hr0
              obtain ⟨hT, hkN, hpar, hty⟩ := q_tab_at hr0 (q_ix_at hix) hfd
              obtain ⟨htyA, hnmA⟩ := q_ty_at hr0
              have hin := hlo c r0 hr0
              have hap := va_apart (own := y.cls) (C := r0.1) (T := r0.2.1) (N := r0.2.2) hts hin _ htyA hnmA hK hr0
              obtain ⟨cf, kf, fi, fld, hi, hslt⟩ := hS kk hkN
              have hsta := (u_facts hfc hkC (u_lays hts hin hkN) hi).1
              have hi2 : z.2.1.fieldFound? ref n dd = some (cf, kf, fi, fld) := by
                rw [hT] at hi
                rcases hsame with rfl | hsame
                · exact hi
                · exact u_same (hts _ hsame) _ hi
              obtain ⟨hnar, hfit⟩ := q_okv_vm (F := q_F w) hokv
              have hpar' : parseFieldDescriptor (r0.2.1 kk).2.2.1 = some ty := by rw [hT]; exact hpar
              have hF : q_F w a = some (w.1.heap.size + (a - 1000)) := q_F_new w ha1
              have hvmE : ((v :: Value.ref a :: r).map (q_vm (q_F w))) = q_vm (q_F w) v :: .ref (w.1.heap.size + (a - 1000)) :: r.map (q_vm (q_F w)) := by
                show _ :: va_rf (q_F w a) :: _ = _
                rw [hF]; rfl
              show q_W z H locs cells slots Q (F0 _ pc as ((v :: Value.ref a :: r).map (q_vm (q_F w))))
              rw [hvmE]
              have hlt : fld.slot < cell.slots.size := by rw [hslt]; exact k2_hasslot (hsl kk hkN)
              have fin1 : ∀ H' : Heap, H'[w.1.heap.size + (a - 1000)]? = some (cell.setSlot fld.slot (q_vm (q_F w) v)) → H'.size = H.size → (∀ q, q ≠ w.1.heap.size + (a - 1000) → H'[q]? = H[q]?) → q_W z H' (locs ++ [⟨w.1.heap.size + (a - 1000), fld.slot⟩]) cells slots Q (F0 z.2.2.1 (pc + 3) as (r.map (q_vm (q_F w)))) := by
                intro H' e1 e2 e3
                refine k H' _ cells slots as (hC.set ha ?_ e2 e3) (q_locs hl) hL hc hs'
                rw [hslt] at e1
                refine ⟨_, e1, hvm, ⟨r0, hr0, hcl, fun j hj => ?_⟩, by rw [List.length_set]; exact hlen, hmon⟩
                rw [t_set (V := fun j => q_vm (q_F w) (fs.getD j .null)) hsl hap hkN _ j hj]
                unfold updV
                by_cases hjk : j = kk
                · subst hjk
                  rw [if_pos rfl, List.getD_eq_getElem?_getD, List.getElem?_set_self hklt]
                  rfl
                · rw [if_neg hjk]
                  show some (q_vm (q_F w) (fs.getD j .null)) = _
                  rw [List.getD_eq_getElem?_getD, List.getD_eq_getElem?_getD, List.getElem?_set_ne (Ne.symm hjk)]
              have hlay := hts _ (hin _ (u_in_lay hkN))
              unfold u_lay at hlay
              rw [hT] at hlay hi
              dsimp only at hlay hi
              unfold q_pm at hpm
              rw [hfd] at hpm
              dsimp only at hpm
              cases fin with
              | false =>
                rw [if_neg (by decide)] at hlay
                have h6 := u_store hfc hkC hkind hlay hi hpar hnar hfit
                rcases hlk with hlk | ⟨host, hlk, hnest⟩
                · exact W.putK hx hb (f := fld) ⟨hown, hts _ hlk, ⟨_, _, _, hi2⟩, hsta⟩ (by rw [hcl]; exact h6) hcell hvm hlt rfl rfl hd fin1
                · exact va_WputK hx hb (f := fld) hown (q_fieldL hw hW hlk _) hi2 hsta (by rw [hcl]; exact h6) hcell hvm hlt rfl rfl hd fin1
              | true =>
                rw [if_pos rfl] at hlay
                rw [hcn] at hpm
                simp only [Bool.not_true, Bool.false_or, Bool.and_eq_true, beq_iff_eq] at hpm
                obtain ⟨hinit, hdc⟩ := hpm
                have hcf : z.2.2.1.cls = cf := by
                  obtain ⟨_, _, c', _, _, _, -, -, hf', -, -, -, hown2, -⟩ := Cond.laysFinal_spec hlay
                  have e1 : c' = cf := by have := hi.symm.trans hf'; simp at this; exact this.1.symm
                  rw [hdc] at hown2
                  rw [← e1]; exact Option.some.inj (hown.symm.trans hown2)
                have h6 := u_fits hfc hkC hkind (Or.inr hlay) hi hpar hnar hfit
                rcases hlk with hlk | ⟨host, hlk, hnest⟩
                · exact W.putFinK hx hb hown (hts _ hlk) hi2 hsta hcf (hname.trans hinit) (by rw [hcl]; exact h6) hcell hvm hlt rfl rfl hd fin1
                · exact absurd hdc hnest
            · cases hpf
          · cases hpf
        · cases e
      · cases e
    · cases e
  · cases e
end
