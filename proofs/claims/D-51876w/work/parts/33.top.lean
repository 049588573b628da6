/-! from the q-machine's run of the law to the claim (lw_P .. i_vc began as the skeleton's end) -/
/-- the heap at the start: the script's L ints xs at 999, the constants, the Integer cache -/
def q_old (L : Nat) (xs : Nat → Int32) (a : Nat) : Option q_Ob :=
  if a = 999 then some (false, .inl (0, L, .inl xs)) else if a = 23 then some (false, .inl (9, 256, .inr (.inr (.inr (.inr fun k => if k < 256 then some (500 + k) else none))))) else
  if a = 22 then some (false, .inl (5, 0, .inr (.inr (.inr (.inr fun _ => none))))) else if 500 ≤ a ∧ a < 756 then some (false, .inr (22, [.int (Int32.ofNat (a - 500) - 128)])) else q_oldT.lookup a
def q_h0 (L : Nat) (xs : Nat → Int32) : q_H := (q_old L xs, 1000, 0)
theorem q_cachN : q_in (.eq (.length q_tmC) (.int (Int32.ofNat 256))) := ⟨[true, false, false, true, true, false, false, true, true, true, false, false], rfl⟩
theorem q_cachA : q_in (.arrayOf q_tmC (.object "java/lang/Integer")) := ⟨[true, false, false, true, true, false, false, true, true, false, true, true], rfl⟩
theorem q_cachE : q_in (.all q_tmC (.and (.exactly (.elem q_tmC (.index 0)) "java/lang/Integer") (.eq (.field (.elem q_tmC (.index 0)) "java/lang/Integer" "value" "I") (.sub (.index 0) (.int 128))))) := ⟨[true, false, false, true, true, false, false, true, true, true, false, true], rfl⟩
theorem q_emptA : q_in (.arrayOf (.static "java/util/ArrayList" "EMPTY_ELEMENTDATA" "[Ljava/lang/Object;") (.object "java/lang/Object")) := ⟨[true, false, false, true, false, false, true, true, true, false, false], rfl⟩
theorem q_emptN : q_in (.eq (.length (.static "java/util/ArrayList" "EMPTY_ELEMENTDATA" "[Ljava/lang/Object;")) (.int 0)) := ⟨[true, false, false, true, false, false, true, true, true, false, true, true], rfl⟩
/-- an old array of objects -/
theorem q_wkQ {a0 : Array Value} {s : State} {T : Nat → Option Term} {w : q_Wd} {a : Nat} {t : Term} (hw1 : w.1 = s) (hwo : w.2.2.1 = q_tmO T a0 s) (hT : T a = some t) {ti : Nat} {C : String} {n : Nat} {f : Nat → Option Nat} (hn : n < 2 ^ 31) (hty : q_tag[ti]? = some (.object C)) (hti : 5 ≤ ti ∧ ti < 10) (har : (Cond.arrayOf t (.object C)).before a0 s = true)
    (hlen : (Term.length t).eval a0 s none [] s = some (.int (Int32.ofNat n))) (hel : ∀ j, j < n → (Term.elem t (.int (Int32.ofNat j))).eval a0 s none [] s = some (va_rf ((f j).bind (q_F w)))) (hfit : 0 < n ∨ n = 0) : q_wk w a (.inl (ti, n, .inr (.inr (.inr (.inr f))))) := by
  subst hw1
  obtain ⟨r, cell, he, hat, hv⟩ := Term.length_spec hlen
  obtain ⟨hcell, hkn, -, -⟩ := State.arrayAt?_spec hat
  obtain ⟨hof, -⟩ := Cond.arrayOf_spec har he hcell
  have htd : q_tag.getD ti .int = .object C := by rw [List.getD_eq_getElem?_getD, hty]; rfl
  have hst : cell.vm.isStatics = false := by
    cases hs : cell.vm.isStatics with
    | false => rfl
    | true =>
      cases hvm : cell.vm with
      | statics k => exact absurd hvm (hof.1 k)
      | _ => rw [hvm] at hs; cases hs
  refine ⟨r, cell, by rw [hwo]; exact q_tmO_at hT he, hcell, hst, hkn, by rw [htd]; exact hof, ?_, (Value.int.inj hv).symm, ?_, hti⟩
  · rcases Nat.eq_zero_or_pos n with h0 | h0
    · show n ≤ _; omega
    · obtain ⟨r2, j2, cell2, g1, g2, g3, g4, g5⟩ := Term.elem_spec (hel (n - 1) (by omega))
      cases he.symm.trans g1
      cases hat.symm.trans g3
      cases g2
      have hjn : (Int32.ofNat (n - 1)).toNatClampNeg = n - 1 := Int32.toNatClampNeg_ofNat_of_lt (by omega)
      rw [hjn] at g4
      show n ≤ _
      omega
  · intro j hj
    obtain ⟨r2, j2, cell2, h1, h2, h3, h4, h5⟩ := Term.elem_spec (hel j hj)
    cases he.symm.trans h1
    cases hat.symm.trans h3
    cases h2
    have hjn : (Int32.ofNat j).toNatClampNeg = j := Int32.toNatClampNeg_ofNat_of_lt (by omega)
    rw [hjn] at h5
    exact h5
/-- the world at the start -/
theorem q_world {b L : Nat} {xs : Nat → Int32} {s : State} (hL : L ≤ 144) (hts : ∀ z ∈ lw_tbl, z.before #[Value.ref b] s = true) (hX : va_X b L xs s s.heap) (hn : (Cond.and given_1 narrow_1).before #[Value.ref b] s = true) :
    ∃ w : q_Wd, w.1 = s ∧ q_WD w ∧ q_Cor w (q_h0 L xs) s.heap ∧ q_F w 999 = some b := by
  have hA : ∀ a : Nat, a < s.heap.size → ¬ (fun a => s.heap.size ≤ a) a := fun a h => Nat.not_le.mpr h
  let D : va_G := (fun c => (Classical.choose (q_clA hts c)).1, fun c => (Classical.choose (q_clA hts c)).2)
  let dA : Nat → ClassId := fun t => Classical.choose (q_arA hts t)
  let w : q_Wd := (s, #[Value.ref b], q_tmO q_tm #[Value.ref b] s, D, dA)
  have hF : q_F w 999 = some b := by
    show q_tmO q_tm #[Value.ref b] s 999 = some b
    exact q_tmO_at (t := .arg 0) rfl rfl
  have hwd : q_WD w := by
    refine ⟨hts, ⟨fun c r hr => Classical.choose_spec (q_clA hts c) r hr, fun k q hq => ?_⟩, fun z hz => (q_st_ok hn hts (w := w) rfl rfl).at hz, fun z hz => (q_lt_ok hn hts (w := w) rfl rfl).at hz, fun a b r h1 h2 h3 h4 h5 h6 => q_inj hn h1 h2 h3 h4 h5 h6, hn, ?_, ?_⟩
    · have hk : k < 9 := by
        have := (List.getElem?_eq_some_iff.mp hq).1
        unfold q_wty at this
        rw [List.length_map, List.length_range] at this
        exact this
      have hq2 := q_wty_at w hk
      cases hq.symm.trans hq2
      exact Classical.choose_spec (q_arA hts k) hk
    · exact vx_Zqof (hts _ q_w288) (hts _ (lw_all_tbl q_w117)) (q_in_at hn ⟨[true, false, false, false, false, false, false, false, false, false, true, true], rfl⟩) hA
    · exact vx_Zqof (hts _ q_w290) (hts _ (lw_all_tbl q_w117)) (q_in_at hn ⟨[true, false, false, false, false, false, false, false, false, true, false], rfl⟩) hA
  refine ⟨w, rfl, hwd, ⟨rfl, Nat.le_refl _, fun q _ => rfl, fun a bb ob ha => ?_⟩, hF⟩
  obtain ⟨ad, had, hev⟩ := vb_Cof (args := #[Value.ref b]) (s := s) (A := fun a => s.heap.size ≤ a) (st := q_tmC) rfl (q_in_int hn q_cachN) (q_in_at hn q_cachE) hA
  have ha : q_old L xs a = some (bb, ob) := ha
  have key : bb = false ∧ a < 1000 ∧ q_wk w a ob := by
    unfold q_old at ha
    split at ha
    · rename_i h999
      subst h999
      cases ha
      refine ⟨rfl, by decide, ?_⟩
      obtain ⟨scr, g1, g2, g3, g4, g5⟩ := hX
      have hst : scr.vm.isStatics = false := by
        cases hs : scr.vm.isStatics with
        | false => rfl
        | true =>
          cases hvm : scr.vm with
          | statics k => exact absurd hvm (g2.1 k)
          | _ => rw [hvm] at hs; cases hs
      exact ⟨b, scr, hF, g1, hst, g3, g2, Nat.le_of_eq g4.symm, by rw [g4], g5, by decide, fun i _ => rfl⟩
    · split at ha
      · rename_i h23
        subst h23
        cases ha
        refine ⟨rfl, by decide, q_wkQ (C := "java/lang/Integer") rfl rfl (t := q_tmC) rfl (by decide) rfl (by decide) (q_in_at hn q_cachA) (q_in_int hn q_cachN) (fun j hj => ?_) (Or.inl (by decide))⟩
        rw [hev j hj, if_pos hj]
        have : q_F w (500 + j) = some (ad j) := by
          rw [q_F_old w (by omega)]
          refine q_tmO_at (t := .elem q_tmC (.int (Int32.ofNat j))) ?_ (hev j hj)
          unfold q_tm
          rw [if_pos (by omega), Nat.add_sub_cancel_left]
        show _ = some (va_rf (q_F w (500 + j)))
        rw [this]; rfl
      · split at ha
        · rename_i h22
          subst h22
          cases ha
          exact ⟨rfl, by decide, q_wkQ (C := "java/lang/Object") rfl rfl (t := .static "java/util/ArrayList" "EMPTY_ELEMENTDATA" "[Ljava/lang/Object;") rfl (by decide) rfl (by decide) (q_in_at hn q_emptA) (q_in_int hn q_emptN) (fun j hj => absurd hj (Nat.not_lt_zero j)) (Or.inr rfl)⟩
        · split at ha
          · rename_i h500
            cases ha
            refine ⟨rfl, by omega, ?_⟩
            obtain ⟨k, hk, rfl⟩ : ∃ k, k < 256 ∧ a = 500 + k := ⟨a - 500, by omega, by omega⟩
            rw [Nat.add_sub_cancel_left]
            obtain ⟨cell, e1, e2, e3, -⟩ := had.1 k hk
            obtain ⟨cf, kk, i, f, cell2, f1, f2, f3, f4, f5, -⟩ := had.2 k hk
            cases e1.symm.trans f3
            refine ⟨ad k, cell, q_tmO_at (t := .elem q_tmC (.int (Int32.ofNat k))) ?_ (hev k hk), e1, e2, f4, ⟨_, rfl, e3⟩, ?_⟩
            · unfold q_tm
              rw [if_pos (by omega), Nat.add_sub_cancel_left]
            · intro k' f' dc n dd fin ty hk' hf'
              have hk0 : k' < 1 := (List.getElem?_eq_some_iff.mp hk').1
              obtain rfl : k' = 0 := by omega
              cases hk'; cases hf'
              exact ⟨cf, kk, i, f, _, f1, f2, rfl, f5⟩
          · exact (q_old_ok hn (w := w) rfl rfl).at (q_lkG ha)
  obtain ⟨rfl, h2, h3⟩ := key
  exact ⟨(fun h => nomatch h), fun _ => ⟨h2, h3⟩⟩
/-- what is to be shown of the program in plain Lean -/
def q_law : Prop := ∀ (L : Nat) (xs : Nat → Int32), L ≤ 144 → ∃ h' : q_H, q_ev (3000, 0, 0, q_ent 9 [.ref 999], [], q_h0 L xs) = some (.inl (some (.int 1)), h') ∧ h'.2.1 ≤ 1000 + 1200144 ∧ h'.2.2 ≤ 5495098
def R_law : String := "CaptainClaimsLaw"
def lw_P (b : Addr) (xs : List Int32) (args : Array Value) (s : State) : Prop := args = #[.ref b] ∧ s.IntsAt b xs ∧ xs.length ≤ 144 ∧ (Jvm.Cond.and given_1 narrow_1).before args s = true
def lw_Q (_ : Array Value) (s : State) (o : Outcome) (t : State) : Prop := o = .returned (some (.int 1)) ∧ Framed s o t [] 1200144 5495098
theorem q_traces {l : Launch} (hflags : l.flags = flags0) : l.stackTraces = false := by
  simp [Launch.stackTraces, hflags, flags0]
set_option maxHeartbeats 4000000 in
theorem lw_walk (hlaw : q_law) (l : Launch) (hflags : l.flags = flags0) (b : Addr) (xs : List Int32) : MetFree l x (headSpec (Jvm.Cond.code x code maxLocals ret :: tables_1) room_1) (lw_P b xs) (fun _ _ _ _ _ => True) lw_Q := by
  refine MetFree.of_bodyS (code := code) (maxLocals := maxLocals) (ret := ret) (by decide) ?_ ?_
  · intro args s m h hn
    obtain ⟨meth, c, h1, h2, h3, h4, h5, h6, -, -⟩ := Cond.code_spec hn (atoms_spec (ws := Jvm.Cond.code x code maxLocals ret :: tables_1) h _ List.mem_cons_self)
    exact ⟨meth, c, h1, h2, h3, h4, h5, h6⟩
  · intro p e s m args below meth c s₁ B hml0 hP _
    obtain ⟨rfl, hx, hbd, hgv⟩ := hP
    obtain ⟨scr, harrAt, hlist, hof, hsmall⟩ := hx
    obtain ⟨hcb, hkn, -, -⟩ := State.arrayAt?_spec harrAt
    have hts0 : ∀ c ∈ (Jvm.Cond.code x code maxLocals ret :: tables_1), c.before #[Value.ref b] s = true := atoms_spec (ws := Jvm.Cond.code x code maxLocals ret :: tables_1) B.pre
    have hts : ∀ w ∈ lw_tbl, w.before #[Value.ref b] s = true := k2_hts_sels lw_privs (fun w hw => hts0 w (List.mem_cons_of_mem _ hw)) lw_privs_ok
    have X₀ : Stand p l e room_1 s m #[Value.ref b] below meth c s₁ [] 0 0 := Stand.of_body B
    have hh0 : s₁.heap = s.heap := by rw [B.state]; rfl
    have hsz : scr.slots.size = xs.length := by rw [← Array.length_toList, hlist, List.length_map]
    have hval : ∀ j : Nat, j < xs.length → scr.slots[j]? = some (.int (xs.getD j 0)) := fun j hj => by
      rw [← Array.getElem?_toList, hlist]
      simp [hj]
    have hX : va_X b xs.length (fun j => xs.getD j 0) s s.heap := ⟨scr, hcb, hof, hkn, hsz, hval⟩
    obtain ⟨w, hw1, hWD, hC, hF⟩ := q_world hbd hts hX hgv
    obtain ⟨h', hev, hc1, hc2⟩ := hlaw xs.length (fun j => xs.getD j 0) hbd
    have hlocs := B.notSynchronized
    have htab : c.exceptionTable.toList = tableOf [] := by
      obtain ⟨meth9, c9, h1', h2', -, -, -, -, h7, -⟩ := Cond.code_spec B.named (hts0 _ List.mem_cons_self)
      cases Option.some.inj (h1'.symm.trans B.method)
      cases Option.some.inj (h2'.symm.trans X₀.code)
      rw [Array.isEmpty_iff.mp h7]
      rfl
    have hsz0 : w.1.heap.size = s.heap.size := by rw [hw1]
    let z : q_Fr := ((p, l, e, room_1), s, m, #[Value.ref b], below, meth, c)
    have hXz : q_X w z 3000 0 x code maxLocals ret [] := ⟨⟨B.exec, B.bytes, hml0, B.returns, B.notSynchronized, findClass_of_methodNamed B.named, (name_of_methodNamed B.named B.method).1⟩, hWD, by rw [hw1]; exact State.WarmedH.refl s, q_traces hflags, (by show 3000 ≤ room_1.frames; decide), (by show 32 * 3000 ≤ room_1.locals; decide), rfl, htab, by rw [hw1]; exact Nat.le_refl _, fun q _ => by rw [hw1]⟩
    obtain ⟨n, hrun⟩ := q_ev_iff.mp hev
    have hge := q_run_ge n _ _ hrun
    have hge1 : 1000 ≤ h'.2.1 := hge.1
    have e1 : z.1.2.2.2.cells = 1200144 := rfl
    have e2 : z.1.2.2.2.slots = 5495098 := rfl
    have hG := q_main q_Ev_ok hWD n _ _ hrun z maxLocals 1000 0 (h'.2.1 - 1000) h'.2.2 0 x code ret [] hXz (show q_mt 0 = some q_m0 from rfl) (by show s.heap.size + 1000 = _; rw [hsz0]) ⟨by show 1000 + _ = h'.2.1; omega, Nat.zero_add _⟩ ⟨by rw [e1]; exact hc1, by rw [e2, Nat.zero_add]; exact hc2⟩
    have hWk : q_W z s.heap [] 0 0 (q_End w z (.inl (some (.int 1)), h') (h'.2.1 - 1000) h'.2.2) (F0 m 0 ((lg_sl ([.ref 999].map (q_vm (q_F w))) ++ List.replicate (9 - (lg_sl ([.ref 999].map (q_vm (q_F w)))).length) Slot.unset).toArray) []) := hG s.heap [] 0 0 _ hC (fun q hq => nomatch hq) (q_ent_Lc (F := q_F w) (L := 9) (as := [.ref 999]) (by decide)) rfl rfl
    have hargs : [Value.ref 999].map (q_vm (q_F w)) = [.ref b] := by rw [List.map_cons, q_vm_ref hF]; rfl
    rw [hargs] at hWk
    have hent : entryFrame m #[Value.ref b] maxLocals = F0 m 0 ((lg_sl [Value.ref b] ++ List.replicate (9 - (lg_sl [Value.ref b]).length) Slot.unset).toArray) [] := lg_entry_eq m [.ref b] 9
    obtain ⟨t, a1, o, b1, b2, b3⟩ := hWk s₁ hh0 X₀
    rcases b3 with ⟨⟨⟨v, hv, ho⟩, -⟩, L, ⟨-, hW, hsame⟩, hfree⟩ | ⟨q, -, E, ce, L, ⟨a, c', fs, hr, -⟩, -⟩
    · cases hv
      have ho : o = .returned (some (.int 1)) := ho
      subst ho
      refine ⟨t, _, by rw [hent]; exact a1, b1, b2, rfl, ⟨_, rfl⟩, hW, ?_⟩
      refine hsame.weaken (fun y hy hlt => ?_) (by omega) hc2
      have := hfree y hy
      have h9 : w.1.heap.size ≤ y.base := this
      rw [hsz0] at h9
      exact absurd hlt (Nat.not_lt.mpr h9)
    · cases hr
theorem lw_pre_spec {args : Array Value} {s : State} (h : (Jvm.Cond.and given_1 narrow_1).before args s = true) (hr : rest_1_c.before args s = true) : ∃ (b : Addr) (xs : List Int32), lw_P b xs args s := by
  have hs := flat_of_before _ h
  have hq := flat_of_before _ hr
  have hc : (Cond.count 1).before args s = true := hs _ (by decide +kernel)
  have harr : (Cond.arrayOf (.arg 0) .int).before args s = true := hs _ (by decide +kernel)
  have hle : (Cond.le (.length (.arg 0)) (.int 144)).before args s = true := hs _ (by decide +kernel)
  have hlen : (Cond.isInt (.length (.arg 0))).before args s = true := hq _ (by decide +kernel)
  have hall : (Cond.all (.arg 0) (.isInt (.elem (.arg 0) (.index 0)))).before args s = true := hq _ (by decide +kernel)
  obtain ⟨b, xs, hb, hx⟩ := State.ints_of_pre rfl harr hlen hall
  have hsm : xs.length < 2 ^ 31 := hx.choose_spec.2.2.2
  have hev : (Term.length (.arg 0)).eval args s none [] s = some (.int xs.length.toInt32) := hx.length_eval hb
  have hv := Cond.le_ints hev (show (Term.int 144).eval args s none [] s = some (.int 144) from rfl)
  have hd : xs.length.toInt32 ≤ 144 := by
    simpa [Cond.before, Cond.holds, hv] using hle
  have hN : xs.length ≤ 144 := (Int32.ofNat_le_ofNat hsm (by decide)).mp (show Int32.ofNat xs.length ≤ Int32.ofNat 144 from hd)
  exact ⟨b, xs, Cond.one_arg hc (show args[0]? = some (.ref b) from hb), hx, hN, h⟩
theorem lw_comes (hlaw : q_law) (l : Launch) (hflags : l.flags = flags0) : Comes l x (Jvm.Cond.code x code maxLocals ret :: tables_1) room_1 (fun tb e args s => Calls_1 tb e args s ∧ rest_1 tb e args s ∧ Pre_1 tb e args s)
    (fun _ _ args s o t => lw_Q args s o t) := by
  intro p e ha hc hk s m args below hf hfit hheap happ hpre
  obtain ⟨b, xs, hP⟩ := lw_pre_spec hpre.2.2 hpre.2.1
  obtain ⟨k, o, h1, h2, h3, hQ⟩ := lw_walk hlaw l hflags b xs p e ha hc hk s m args below hf ((Spec.applies_iff_loose hf).mp happ).1 hP trivial
  exact ⟨k, o, h1, h2, h3, hQ⟩
theorem lw_frame {s t : State} {o : Outcome} {args : Array Value} (h : Framed s o t [] 1200144 5495098) :
    Framed s o t (fieldLocs frame_1_writes args s ++ arrayLocs frame_1_arrays args s ++ staticLocs frame_1_statics s) 1200144 5495098 := h
theorem lw_limb (hlaw : q_law) (L : Cond) (hL : ∀ (args : Array Value) (s t : State), L.after args s (.returned (some (.int 1))) t = true) :
    ArmFor flags0 classFile x code maxLocals ret World_1 tables_1 room_1 Calls_1 rest_1 Pre_1
      (fun tb e a s o t => postC L tb e a s o t ∧ Framed s o t (fieldLocs frame_1_writes a s ++ arrayLocs frame_1_arrays a s ++ staticLocs frame_1_statics s) 1200144 5495098) := by
  intro l hflags _ _ p e ha hc hk s m args below hf hfit hheap happ hpre
  obtain ⟨k, o, h1, h2, h3, rfl, hF⟩ := lw_comes hlaw l hflags p e ha hc hk s m args below hf hfit hheap happ hpre
  exact ⟨k, _, h1, h2, h3, hL args s _, lw_frame hF⟩
