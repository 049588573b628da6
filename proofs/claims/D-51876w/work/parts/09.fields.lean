/-! the q-machine is sound: fields, constants, references; what the tables must say -/
def q_eFL : Prop := ∀ (cn i f : Nat) (own : String), q_own[cn]? = some own → q_fk cn i = some f → ∃ (ref dc n dd : String) (fin : Bool) (ty : FieldType), q_fd[f]? = some (dc, n, dd, fin, ty) ∧ (Cond.fieldLink own i ref n dd ∈ lw_all ∨ ∃ host : String, Cond.fieldLinkNest own i ref n dd host ∈ lw_tbl ∧ dc ≠ own) ∧ (ref = dc ∨ Cond.sameField ref dc n dd ∈ lw_all)
def q_eSL : Prop := ∀ (cn i : Nat) (v : Value) (own : String), q_own[cn]? = some own → q_sk cn i = some v → ∃ C n dd : String, (C, n, dd, v) ∈ q_stl ∧ (Cond.fieldLink own i C n dd ∈ lw_all ∨ ∃ host : String, Cond.fieldLinkNest own i C n dd host ∈ lw_tbl)
def q_eCK : Prop := ∀ (cn i : Nat) (v : Value) (own : String), q_own[cn]? = some own → q_ck cn i = some v → (∃ k : Int32, v = .int k ∧ Cond.constant own i k ∈ lw_all) ∨ (∃ k : Int64, v = .long k ∧ Cond.constantLong own i k ∈ lw_all) ∨ ∃ (tx : String) (a : Nat), v = .ref a ∧ a < 1000 ∧ (own, i, tx, a) ∈ q_ltl
def q_eTK : Prop := ∀ (cn i tid : Nat) (own : String), q_own[cn]? = some own → q_tk cn i = some tid → ∃ T : String, q_tn[tid]? = some T ∧ Cond.classLink own i T ∈ lw_all
/-- a class and a type that it may be cast to -/
def q_eCS : Prop := ∀ c tid : Nat, q_cs.contains (c, tid) = true → ∃ C T : String, q_nm[c]? = some C ∧ q_tn[tid]? = some T ∧ (Cond.castable C T ∈ lw_tbl ∨ C = T)
def q_eCA : Prop := ∀ t tid : Nat, q_ca.contains (t, tid) = true → t = 1 ∧ q_tn[tid]? = some "[B"
theorem q_ix_at {c f k : Nat} (h : q_ix c f = some k) : (q_cf.getD c [])[k]? = some f := by
  unfold q_ix at h
  obtain ⟨hk, h1, -⟩ := List.findIdx?_eq_some_iff_getElem.mp h
  rw [List.getElem?_eq_getElem hk]
  have h2 : (q_cf.getD c [])[k] = f := by simpa using h1
  rw [h2]
theorem q_fieldL {w : q_Wd} (hw : q_WD w) {s : State} (hW : w.1.WarmedH s.vm) {own ref n dd host : String} {i : Nat} (h : Cond.fieldLinkNest own i ref n dd host ∈ lw_tbl) (args : Array Value) : (Cond.fieldLinkNest own i ref n dd host).before args s = true :=
  va_Nw.use rfl (va_Nw.warmF hW (va_Nw.of rfl (hw.1 _ h)))
theorem q_castL {w : q_Wd} (hw : q_WD w) {s : State} (hW : w.1.WarmedH s.vm) {C T : String} (h : Cond.castable C T ∈ lw_tbl) : va_Nw (.castable C T) s :=
  va_Nw.warmC hW (va_Nw.of rfl (hw.1 _ h))
section
variable {w : q_Wd} {z : q_Fr} {Q : State → Prop} {L n0 s0 : Nat} {cn : Nat} {y : MethodName} {code : ByteArray} {rt : Option FieldType} {hs : List (Nat × Nat × Nat × Nat)}
variable {d mu pc : Nat} {ls : q_L} {st : List Value} {h : q_H} {c1 : q_C}
theorem q_X.tsAll (X : q_X w z d cn y code L rt hs) : ∀ wd ∈ lw_all, wd.before z.2.2.2.1 z.2.1 = true := fun wd hd => X.2.1.word X.2.2.1 hd _
theorem q_gf_at {a f : Nat} {v : Value} (e : q_gf h a f = some v) : ∃ (b : Bool) (c k : Nat) (fs : List Value), h.1 a = some (b, .inr (c, fs)) ∧ q_ix c f = some k ∧ fs[k]? = some v := by
  unfold q_gf at e
  split at e
  · rename_i b c fs ha
    obtain ⟨k, h1, h2⟩ := Option.bind_eq_some_iff.mp e
    exact ⟨b, c, k, fs, ha, h1, h2⟩
  · cases e
theorem q_s_getfield (hlo : q_laysOk) (hfl : q_eFL) {i : Nat} (X : q_X w z d cn y code L rt hs) (hd : decode code pc = .ok (.getfield i, 3)) (e : q_do (d, mu, pc, ls, st, h) cn y code rt (.getfield i) = some (.inr (.inl c1))) (k : q_G w z Q L n0 s0 c1) : q_G w z Q L n0 s0 (d, mu, pc, ls, st, h) := by
  have hts := X.tsAll
  obtain ⟨⟨hx, hb, hml, -, -, hown, -⟩, hw, hW, -, -, -, hcn, -⟩ := X
  simp only [q_do] at e
  split at e
  · rename_i a r
    split at e
    · rename_i f hf
      split at e
      · rename_i v hv
        obtain rfl := q_pu_eq e
        intro H locs cells slots as hC hl hL hc hs'
        obtain ⟨b, c, kk, fs, ha, hix, hfs⟩ := q_gf_at hv
        obtain ⟨r0, cell, nm, hF, hcell, hst, hun, hnm, hcls, hfld⟩ := q_obj hw hlo hC hW ha
        obtain ⟨ref, dc, n, dd, fin, ty, hfd, hlk, hsame⟩ := hfl cn i f _ hcn hf
        obtain ⟨cf, kc, fi, fld, v2, hi, hsta, hv2, hslot⟩ := hfld kk f dc n dd fin ty (q_ix_at hix) hfd
        rw [hfs] at hv2
        cases hv2
        have hi2 : z.2.1.fieldFound? ref n dd = some (cf, kc, fi, fld) := by
          rcases hsame with rfl | hsame
          · exact hi
          · exact u_same (hts _ hsame) _ hi
        have hvm : ((Value.ref a :: r).map (q_vm (q_F w))) = .ref r0 :: r.map (q_vm (q_F w)) := by
          show va_rf (q_F w a) :: _ = _
          rw [hF]; rfl
        show q_W z H locs cells slots Q (F0 _ pc as ((Value.ref a :: r).map (q_vm (q_F w))))
        rw [hvm]
        rcases hlk with hlk | ⟨host, hlk, -⟩
        · exact W.getf hx hb hown (hts _ hlk) hi2 hsta hcell hun hslot rfl rfl hd (k H locs cells slots as hC hl hL hc hs')
        · exact va_Wgetf hx hb hown (q_fieldL hw hW hlk _) hi2 hsta hcell hun hslot rfl rfl hd (k H locs cells slots as hC hl hL hc hs')
      · cases e
    · cases e
  · cases e
theorem q_s_getstatic (hsl : q_eSL) {i : Nat} (X : q_X w z d cn y code L rt hs) (hd : decode code pc = .ok (.getstatic i, 3)) (e : q_do (d, mu, pc, ls, st, h) cn y code rt (.getstatic i) = some (.inr (.inl c1))) (k : q_G w z Q L n0 s0 c1) : q_G w z Q L n0 s0 (d, mu, pc, ls, st, h) := by
  have hts := X.tsAll
  obtain ⟨⟨hx, hb, hml, -, -, hown, -⟩, hw, hW, -, -, -, hcn, -, hbase⟩ := X
  simp only [q_do] at e
  split at e
  · rename_i v hv
    obtain rfl := q_pu_eq e
    intro H locs cells slots as hC hl hL hc hs'
    obtain ⟨C, n, dd, hmem, hlk⟩ := hsl cn i v _ hcn hv
    obtain ⟨cf, kf, fi, f, a, cell, h1, h2, h3, h4, h5, h6, h7, h8⟩ := va_Z.moved hW.alike (hw.2.2.1 _ hmem)
    have hlt : a < w.1.heap.size := (Array.getElem?_eq_some_iff.mp h5).1
    have hcell : H[a]? = some cell := by rw [hC.2.2.1 a hlt]; exact h5
    rcases hlk with hlk | ⟨host, hlk⟩
    · exact W.gets hx hb hown (hts _ hlk) h1 h2 h3 h4 hcell (fun q => by rw [q] at h6; cases h6) h7 rfl hd (k H locs cells slots as hC hl hL hc hs')
    · exact va_WgetsN hx hb hown (q_fieldL hw hW hlk _) h1 h2 h3 h4 hcell (fun q => by rw [q] at h6; cases h6) h7 rfl hd (k H locs cells slots as hC hl hL hc hs')
  · cases e
theorem q_s_ldc (hck : q_eCK) {i : Nat} (X : q_X w z d cn y code L rt hs) (hd : decode code pc = .ok (.ldc i, 2)) (e : q_do (d, mu, pc, ls, st, h) cn y code rt (.ldc i) = some (.inr (.inl c1))) (k : q_G w z Q L n0 s0 c1) : q_G w z Q L n0 s0 (d, mu, pc, ls, st, h) := by
  have hts := X.tsAll
  obtain ⟨⟨hx, hb, hml, -, -, hown, -⟩, hw, hW, -, -, -, hcn, -, hbase⟩ := X
  simp only [q_do] at e
  split at e
  · rename_i v hv
    split at e
    · rename_i hcat
      obtain rfl := q_pu_eq e
      intro H locs cells slots as hC hl hL hc hs'
      rcases hck cn i v _ hcn hv with ⟨x, rfl, hw1⟩ | ⟨x, rfl, hw1⟩ | ⟨tx, a, rfl, ha, hmem⟩
      · exact lv_ldc hx hb hown (hts _ hw1) hd (k H locs cells slots as hC hl hL hc hs')
      · cases hcat
      · obtain ⟨r, hr, hR⟩ := hw.2.2.2.1 _ hmem
        have k' := k H locs cells slots as hC hl hL hc hs'
        have hvm : ((Value.ref a :: st).map (q_vm (q_F w))) = .ref r :: st.map (q_vm (q_F w)) := by
          show va_rf (q_F w a) :: _ = _
          rw [q_F_old w ha, hr]; rfl
        have k2 : q_W z H locs cells slots Q (F0 _ (pc + 2) as ((Value.ref a :: st).map (q_vm (q_F w)))) := k'
        rw [hvm] at k2
        exact va_ldcS hx hb hown (vk_R.warm hW hR) hd k2
    · cases e
  · cases e
theorem q_ldcwS {p : Program} {l : Launch} {e : Env} {R : Room} {s : State} {m : MethodId} {args : Array Value} {below : List Frame} {meth : Method} {c : Code} {T : State} {locs : List Loc} {cells slots : Nat}
    (X : Stand p l e R s m args below meth c T locs cells slots) (hexec : p.tables.exec = Jvm.exec) {own text : String} {index : Nat} {a : Addr} (hown : s.vm.findClass own = some m.cls)
    (hconst : (Cond.stringRef own index text).before args s = true) (hev : (Term.string own index).eval args s none [] s = some (.ref a)) {g : JFrame} (hg : g.method = m) (hdg : decode c.code g.pc = .ok (.ldc_w index, 3)) :
    ∀ target, Steps p.tables e below (T.setTop { g with pc := g.pc + 3, stack := .ref a :: g.stack }) target → Steps p.tables e below (T.setTop g) target := by
  obtain ⟨k, cf, i, a', hk, hcf, hcp, -, hr, hev'⟩ := Cond.stringRef_spec hown hconst
  cases hev.symm.trans hev'
  obtain ⟨k', hk', he⟩ := X.warmed.alike.2.2 _ _ hk
  have hr' : k'.resolved[index]? = some (some (.string a)) := by
    rcases X.warmed.entry hk hk' index with h | ⟨h, -⟩
    · rw [h]; exact hr
    · rw [hr] at h; cases h
  intro target hrest
  subst hg
  jvm_step X.here [hexec, hdg, ldc_w.wp_string (s := T) (f := g) X.here.top hk' (by rw [he]; exact hcf) hcp hr']
  exact hrest
theorem q_s_ldc_w (hck : q_eCK) {i : Nat} (X : q_X w z d cn y code L rt hs) (hd : decode code pc = .ok (.ldc_w i, 3)) (e : q_do (d, mu, pc, ls, st, h) cn y code rt (.ldc_w i) = some (.inr (.inl c1))) (k : q_G w z Q L n0 s0 c1) : q_G w z Q L n0 s0 (d, mu, pc, ls, st, h) := by
  have hts := X.tsAll
  obtain ⟨⟨hx, hb, hml, -, -, hown, -⟩, hw, hW, -, -, -, hcn, -, hbase⟩ := X
  simp only [q_do] at e
  split at e
  · rename_i v hv
    split at e
    · rename_i hcat
      obtain rfl := q_pu_eq e
      intro H locs cells slots as hC hl hL hc hs'
      rcases hck cn i v _ hcn hv with ⟨x, rfl, hw1⟩ | ⟨x, rfl, hw1⟩ | ⟨tx, a, rfl, ha, hmem⟩
      · exact lv_ldcw hx hb hown (hts _ hw1) hd (k H locs cells slots as hC hl hL hc hs')
      · cases hcat
      · obtain ⟨r, hr, hR⟩ := hw.2.2.2.1 _ hmem
        have k2 : q_W z H locs cells slots Q (F0 _ (pc + 3) as ((Value.ref a :: st).map (q_vm (q_F w)))) := k H locs cells slots as hC hl hL hc hs'
        have hvm : ((Value.ref a :: st).map (q_vm (q_F w))) = .ref r :: st.map (q_vm (q_F w)) := by
          show va_rf (q_F w a) :: _ = _
          rw [q_F_old w ha, hr]; rfl
        rw [hvm] at k2
        intro T hT X'
        obtain ⟨t, a1, b1⟩ := k2 T hT X'
        obtain ⟨hR1, hR2⟩ := vk_R.warm hW hR
        exact ⟨t, q_ldcwS X' hx hown (g := F0 _ pc as _) hR1 hR2 rfl (by rw [hb]; exact hd) t a1, b1⟩
    · cases e
  · cases e
theorem q_s_ldc2_w (hck : q_eCK) {i : Nat} (X : q_X w z d cn y code L rt hs) (hd : decode code pc = .ok (.ldc2_w i, 3)) (e : q_do (d, mu, pc, ls, st, h) cn y code rt (.ldc2_w i) = some (.inr (.inl c1))) (k : q_G w z Q L n0 s0 c1) : q_G w z Q L n0 s0 (d, mu, pc, ls, st, h) := by
  have hts := X.tsAll
  obtain ⟨⟨hx, hb, hml, -, -, hown, -⟩, hw, hW, -, -, -, hcn, -, hbase⟩ := X
  simp only [q_do] at e
  split at e
  · rename_i v hv
    split at e
    · rename_i hcat
      obtain rfl := q_pu_eq e
      intro H locs cells slots as hC hl hL hc hs'
      rcases hck cn i v _ hcn hv with ⟨x, rfl, hw1⟩ | ⟨x, rfl, hw1⟩ | ⟨tx, a, rfl, ha, hmem⟩
      · cases hcat
      · exact lv_ldc2 hx hb hown (hts _ hw1) hd (k H locs cells slots as hC hl hL hc hs')
      · cases hcat
    · cases e
  · cases e
theorem q_is_at (hlo : q_laysOk) (hcs : q_eCS) (hca : q_eCA) (hw : q_WD w) {s : State} (hW : w.1.WarmedH s.vm) {H : Heap} (hC : q_Cor w h H) {a tid : Nat} (hi : q_is h a tid = true) :
    ∃ (r : Nat) (cell : Cell) (T : String) (t : ClassId), q_F w a = some r ∧ H[r]? = some cell ∧ cell.vm.isStatics = false ∧ q_tn[tid]? = some T ∧ s.vm.findClass T = some t ∧ s.vm.assignable cell.cls t = true := by
  unfold q_is at hi
  split at hi
  · rename_i b c fs ha
    obtain ⟨r0, cell, nm, hF, hcell, hst, hun, hnm, hcls, -⟩ := q_obj hw hlo hC hW ha
    obtain ⟨C, T, hC1, hT1, hk⟩ := hcs c tid hi
    cases hnm.symm.trans hC1
    rcases hk with hk | rfl
    · obtain ⟨c0, t0, f1, f2, f3⟩ := Cond.castable_spec (va_Nw.use (A := #[]) rfl (q_castL hw hW hk))
      cases hcls.symm.trans f1
      exact ⟨r0, cell, T, t0, hF, hcell, hst, hT1, f2, f3⟩
    · exact ⟨r0, cell, _, cell.cls, hF, hcell, hst, hT1, hcls, va_asg _ _⟩
  · rename_i t n x ha
    obtain ⟨rfl, hT1⟩ := hca t tid hi
    obtain ⟨h1, -⟩ := hC.2.2.2 a true _ ha
    obtain ⟨ha1, ha2, cell, hcell, hvm, rfl, hkd⟩ := h1 rfl
    have hRA := ((va_K.moved hW.alike hw.2.1).2 1 _ (show (q_wty w)[1]? = some (w.2.2.2.2 1, .byte) from rfl)).2
    exact ⟨_, _, "[B", _, q_F_new w ha1, hcell, rfl, hT1, hRA, va_asg _ _⟩
  · cases hi
  · cases hi
theorem q_s_checkcast (hlo : q_laysOk) (hcs : q_eCS) (hca : q_eCA) (htk : q_eTK) {i : Nat} (X : q_X w z d cn y code L rt hs) (hd : decode code pc = .ok (.checkcast i, 3)) (e : q_do (d, mu, pc, ls, st, h) cn y code rt (.checkcast i) = some (.inr (.inl c1))) (k : q_G w z Q L n0 s0 c1) : q_G w z Q L n0 s0 (d, mu, pc, ls, st, h) := by
  have hts := X.tsAll
  obtain ⟨⟨hx, hb, hml, -, -, hown, -⟩, hw, hW, -, -, -, hcn, -, hbase⟩ := X
  simp only [q_do] at e
  split at e
  · obtain rfl := q_pu_eq e
    exact q_o1 k fun _ _ _ _ _ q => lv_castN hx hb hd q
  · rename_i a r
    split at e
    · rename_i tid htid
      split at e
      · rename_i his
        obtain rfl := q_pu_eq e
        intro H locs cells slots as hC hl hL hc hs'
        obtain ⟨r0, cell, T, t0, hF, hcell, hst, hT1, f2, f3⟩ := q_is_at hlo hcs hca hw hW hC his
        obtain ⟨T', hT', hlink⟩ := htk cn i tid _ hcn htid
        cases hT1.symm.trans hT'
        have hvm : ((Value.ref a :: r).map (q_vm (q_F w))) = .ref r0 :: r.map (q_vm (q_F w)) := by
          show va_rf (q_F w a) :: _ = _
          rw [hF]; rfl
        have k2 : q_W z H locs cells slots Q (F0 _ (pc + 3) as ((Value.ref a :: r).map (q_vm (q_F w)))) := k H locs cells slots as hC hl hL hc hs'
        show q_W z H locs cells slots Q (F0 _ pc as ((Value.ref a :: r).map (q_vm (q_F w))))
        rw [hvm] at k2 ⊢
        intro T0 hT0 X'
        obtain ⟨vm', X'', st'⟩ := X'.checkcastYes hx hown (hts _ hlink) (by rw [hT0]; exact hcell) hst f2 f3 (g := F0 _ pc as _) rfl rfl (by rw [hb]; exact hd)
        obtain ⟨t, a1, b1⟩ := k2 (T0.setVm vm') hT0 X''
        exact ⟨t, st' t a1, b1⟩
      · cases e
    · cases e
  · cases e
theorem q_s_instanceof (hlo : q_laysOk) (hcs : q_eCS) (hca : q_eCA) (htk : q_eTK) {i : Nat} (X : q_X w z d cn y code L rt hs) (hd : decode code pc = .ok (.instanceof i, 3)) (e : q_do (d, mu, pc, ls, st, h) cn y code rt (.instanceof i) = some (.inr (.inl c1))) (k : q_G w z Q L n0 s0 c1) : q_G w z Q L n0 s0 (d, mu, pc, ls, st, h) := by
  have hts := X.tsAll
  obtain ⟨⟨hx, hb, hml, -, -, hown, -⟩, hw, hW, -, -, -, hcn, -, hbase⟩ := X
  simp only [q_do] at e
  split at e
  · obtain rfl := q_pu_eq e
    exact q_o1 k fun _ _ _ _ _ q => lv_instN hx hb hd q
  · rename_i a r
    split at e
    · rename_i tid htid
      split at e
      · rename_i his
        obtain rfl := q_pu_eq e
        intro H locs cells slots as hC hl hL hc hs'
        obtain ⟨r0, cell, T, t0, hF, hcell, hst, hT1, f2, f3⟩ := q_is_at hlo hcs hca hw hW hC his
        obtain ⟨T', hT', hlink⟩ := htk cn i tid _ hcn htid
        cases hT1.symm.trans hT'
        have hvm : ((Value.ref a :: r).map (q_vm (q_F w))) = .ref r0 :: r.map (q_vm (q_F w)) := by
          show va_rf (q_F w a) :: _ = _
          rw [hF]; rfl
        have k2 : q_W z H locs cells slots Q (F0 _ (pc + 3) as ((Value.int 1 :: r).map (q_vm (q_F w)))) := k H locs cells slots as hC hl hL hc hs'
        show q_W z H locs cells slots Q (F0 _ pc as ((Value.ref a :: r).map (q_vm (q_F w))))
        rw [hvm]
        intro T0 hT0 X'
        obtain ⟨vm', X'', st'⟩ := X'.instanceofYes hx hown (hts _ hlink) (by rw [hT0]; exact hcell) hst f2 f3 (g := F0 _ pc as _) rfl rfl (by rw [hb]; exact hd)
        obtain ⟨t, a1, b1⟩ := k2 (T0.setVm vm') hT0 X''
        exact ⟨t, st' t a1, b1⟩
      · cases e
    · cases e
  · cases e
/-- a known reference is one -/
theorem q_kn_at {H : Heap} (hC : q_Cor w h H) {a : Nat} (hk : (h.1 a).isSome = true) : ∃ r : Nat, q_F w a = some r ∧ (1000 ≤ a → r = w.1.heap.size + (a - 1000)) ∧ (a < 1000 → r < w.1.heap.size ∧ w.2.2.1 a = some r) := by
  obtain ⟨⟨b, ob⟩, ha⟩ := Option.isSome_iff_exists.mp hk
  obtain ⟨k1, k2⟩ := hC.2.2.2 a b ob ha
  cases b with
  | true =>
    obtain ⟨g1, g2, -⟩ := k1 rfl
    exact ⟨_, q_F_new w g1, fun _ => rfl, fun q => by omega⟩
  | false =>
    obtain ⟨g1, r, cell, hr, hcell, -⟩ := k2 rfl
    exact ⟨r, by rw [q_F_old w g1]; exact hr, fun q => by omega, fun _ => ⟨(Array.getElem?_eq_some_iff.mp hcell).1, hr⟩⟩
theorem q_kc_inj {H : Heap} (hw : q_WD w) (hC : q_Cor w h H) {v v' : Value} (h1 : q_kc h v = true) (h2 : q_kc h v' = true) : (∃ ra rb : Option Nat, q_vm (q_F w) v = va_rf ra ∧ q_vm (q_F w) v' = va_rf rb ∧ (ra = rb ↔ v = v')) := by
  have key : ∀ x : Value, q_kc h x = true → x = .null ∨ ∃ a r : Nat, x = .ref a ∧ q_F w a = some r ∧ q_cmb a = true ∧ (1000 ≤ a → r = w.1.heap.size + (a - 1000)) ∧ (a < 1000 → r < w.1.heap.size ∧ w.2.2.1 a = some r) := by
    intro x hx
    cases x with
    | null => exact Or.inl rfl
    | ref a =>
      simp only [q_kc, Bool.and_eq_true] at hx
      obtain ⟨r, g1, g2, g3⟩ := q_kn_at hC hx.1
      exact Or.inr ⟨a, r, rfl, g1, hx.2, g2, g3⟩
    | _ => simp [q_kc] at hx
  rcases key v h1 with rfl | ⟨a, r, rfl, e1, e2, e3, e4⟩ <;> rcases key v' h2 with rfl | ⟨a', r', rfl, g1, g2, g3, g4⟩
  · exact ⟨none, none, rfl, rfl, by simp⟩
  · exact ⟨none, some r', rfl, by show va_rf (q_F w a') = _; rw [g1], by simp⟩
  · exact ⟨some r, none, by show va_rf (q_F w a) = _; rw [e1], rfl, by simp⟩
  · refine ⟨some r, some r', by show va_rf (q_F w a) = _; rw [e1], by show va_rf (q_F w a') = _; rw [g1], ?_⟩
    have hiff : r = r' ↔ a = a' := by
      constructor
      · intro hr
        by_cases c1 : a < 1000 <;> by_cases c2 : a' < 1000
        · exact hw.2.2.2.2.1 a a' r e2 g2 (e4 c1).2 (by rw [hr]; exact (g4 c2).2) c1 c2
        · have := (e4 c1).1; have := g3 (by omega); omega
        · have := (g4 c2).1; have := e3 (by omega); omega
        · have := e3 (by omega); have := g3 (by omega); omega
      · rintro rfl
        exact Option.some.inj (e1.symm.trans g1)
    simp [hiff]
theorem q_s_if_acmp {co : ACond} {off : Int} (X : q_X w z d cn y code L rt hs) (hd : decode code pc = .ok (.if_acmp co off, 3)) (e : q_do (d, mu, pc, ls, st, h) cn y code rt (.if_acmp co off) = some (.inr (.inl c1))) (k : q_G w z Q L n0 s0 c1) : q_G w z Q L n0 s0 (d, mu, pc, ls, st, h) := by
  obtain ⟨⟨hx, hb, hml, -⟩, hw, -⟩ := X
  simp only [q_do] at e
  split at e
  · rename_i v v' r
    split at e
    · rename_i hk
      intro H locs cells slots as hC hl hL hc hs'
      obtain ⟨ra, rb, f1, f2, f3⟩ := q_kc_inj hw hC hk.1 hk.2
      cases co with
      | eq =>
        refine q_br_c e k (P := v' = v) (by simp) (fun _ _ _ _ _ tgt ht kt kf => ?_) H locs cells slots as hC hl hL hc hs'
        show q_W z _ _ _ _ Q (F0 _ pc _ (q_vm (q_F w) v :: q_vm (q_F w) v' :: _))
        rw [f1, f2]
        exact lv_acmp_eq hx hb hd ht (fun q => kt (f3.mp q.symm).symm) (fun q => kf (fun n => q (f3.mpr n.symm).symm))
      | ne =>
        refine q_br_c e k (P := ¬ v' = v) (by simp) (fun _ _ _ _ _ tgt ht kt kf => ?_) H locs cells slots as hC hl hL hc hs'
        show q_W z _ _ _ _ Q (F0 _ pc _ (q_vm (q_F w) v :: q_vm (q_F w) v' :: _))
        rw [f1, f2]
        exact lv_acmp_ne hx hb hd ht (fun q => kt (fun n => q (f3.mpr n.symm).symm)) (fun q => kf (fun n => n (f3.mp q.symm).symm))
    · cases e
  · cases e
theorem q_kn_cases {H : Heap} (hC : q_Cor w h H) {v : Value} (hk : q_kn h v = true) : v = .null ∨ ∃ a r : Nat, v = .ref a ∧ q_vm (q_F w) v = .ref r := by
  cases v with
  | null => exact Or.inl rfl
  | ref a =>
    obtain ⟨r, g1, -⟩ := q_kn_at hC (show (h.1 a).isSome = true from hk)
    exact Or.inr ⟨a, r, rfl, by show va_rf (q_F w a) = _; rw [g1]; rfl⟩
  | _ => simp [q_kn] at hk
theorem q_s_ifnull {off : Int} (X : q_X w z d cn y code L rt hs) (hd : decode code pc = .ok (.ifnull off, 3)) (e : q_do (d, mu, pc, ls, st, h) cn y code rt (.ifnull off) = some (.inr (.inl c1))) (k : q_G w z Q L n0 s0 c1) : q_G w z Q L n0 s0 (d, mu, pc, ls, st, h) := by
  obtain ⟨⟨hx, hb, hml, -⟩, hw, -⟩ := X
  simp only [q_do] at e
  split at e
  · rename_i v r
    split at e
    · rename_i hk
      intro H locs cells slots as hC hl hL hc hs'
      rcases q_kn_cases hC hk with rfl | ⟨a, r0, rfl, hv⟩
      · exact q_br_c e k (P := True) (by simp) (fun _ _ _ _ _ tgt ht kt kf => lv_ifnullN hx hb hd ht (kt trivial)) H locs cells slots as hC hl hL hc hs'
      · refine q_br_c e k (P := False) (by simp) (fun _ _ _ _ _ tgt ht kt kf => ?_) H locs cells slots as hC hl hL hc hs'
        show q_W z _ _ _ _ Q (F0 _ pc _ (q_vm (q_F w) (.ref a) :: _))
        rw [hv]
        exact lv_ifnull hx hb hd (kf fun q => q)
    · cases e
  · cases e
theorem q_s_ifnonnull {off : Int} (X : q_X w z d cn y code L rt hs) (hd : decode code pc = .ok (.ifnonnull off, 3)) (e : q_do (d, mu, pc, ls, st, h) cn y code rt (.ifnonnull off) = some (.inr (.inl c1))) (k : q_G w z Q L n0 s0 c1) : q_G w z Q L n0 s0 (d, mu, pc, ls, st, h) := by
  obtain ⟨⟨hx, hb, hml, -⟩, hw, -⟩ := X
  simp only [q_do] at e
  split at e
  · rename_i v r
    split at e
    · rename_i hk
      intro H locs cells slots as hC hl hL hc hs'
      rcases q_kn_cases hC hk with rfl | ⟨a, r0, rfl, hv⟩
      · exact q_br_c e k (P := False) (by simp) (fun _ _ _ _ _ tgt ht kt kf => lv_ifnonnullN hx hb hd (kf fun q => q)) H locs cells slots as hC hl hL hc hs'
      · refine q_br_c e k (P := True) (by simp) (fun _ _ _ _ _ tgt ht kt kf => ?_) H locs cells slots as hC hl hL hc hs'
        show q_W z _ _ _ _ Q (F0 _ pc _ (q_vm (q_F w) (.ref a) :: _))
        rw [hv]
        exact lv_ifnonnull hx hb hd ht (kt trivial)
    · cases e
  · cases e
end
