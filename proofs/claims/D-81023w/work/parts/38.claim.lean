/-! LAYER 2j: the claim out of a relation that the calls keep (printed by gen/mk38.py; its end began as kit/laws/SKELETON.whole) -/
theorem st_Z1 {n d : String} {s : State} {args : Array Value} (h1 : (Cond.laysStatic "java/lang/Throwable" n d).before args s = true) (h2 : (Cond.isRef (.static "java/lang/Throwable" n d)).before args s = true) : hx_Z1 n d (lawA s) s s.heap := by
  obtain ⟨c, k, i, f, a, cell, e1, e2, e3, e4, e5, e6, e7, e8, e9⟩ := Cond.laysStatic_spec h1
  obtain ⟨v, hv, hr⟩ := Cond.isRef_spec h2
  obtain ⟨-, a', cell', g1, g2, -, g3⟩ := Term.static_spec e2 hv
  cases e4.symm.trans g1
  cases e5.symm.trans g2
  refine ⟨c, k, i, f, a, cell, v, e1, e2, e3, e4, e5, e6, e7, e8, e9, g3, hr, fun q => ?_⟩
  have := (Array.getElem?_eq_some_iff.mp e5).1
  unfold lawA at q
  omega
theorem st_arr {ty : FieldType} {s : State} {args : Array Value} (h : (Cond.arrayClass ty).before args s = true) (hp : ∀ C, ty ≠ .object C) : ∃ cA, ArrOfT s cA ty ∧ va_RA s cA ty := by
  obtain ⟨c, k, comp, h1, h2, h3⟩ := Cond.arrayClass_spec h
  refine ⟨c, fun n z => ⟨fun k h => (by cases h), k, h2, comp, h3⟩, ?_⟩
  cases ty <;> first | exact h1 | exact absurd rfl (hp _)
theorem st_aro {C : String} {s : State} {args : Array Value} (h : (Cond.arrayOver (.object C)).before args s = true) : ∃ cA, ArrOfT s cA (.object C) ∧ va_RA s cA (.object C) := by
  obtain ⟨comp, c, k, h1, h2, h3, h4, h5⟩ := Cond.arrayOver_spec h
  exact ⟨c, fun n z => ⟨fun k h => (by cases h), k, h3, comp, h4⟩, k, comp, h3, h4, h1, h5⟩
set_option maxHeartbeats 2000000 in
set_option maxRecDepth 100000 in
theorem whole_start {Rel : hH → Prop} (hR : LawRel Rel) (h0 : Rel hInit) {p : Program} {e : Env} {s : State} {m : MethodId} {below : List Frame} {meth : Method} {c : Code} (l : Launch) (hfl : l.flags = flags0) {b L : Nat} {xs : Nat → Int32} (hL : L ≤ 256) (C0 : lw_At p s m meth c b L xs) (hcw : (Jvm.Cond.code x code maxLocals ret).before #[Value.ref b] s = true) (hnm : s.methodNamed? x = some m) (hmt : s.vm.method? m = some meth) (hcd : meth.code = some c) : W p l e room_1 s m #[Value.ref b] below meth c s.heap [] 0 0 (lw_Z below #[Value.ref b] s) (entryFrame m ([Value.ref b] : List Value).toArray 4) := by
  obtain ⟨hx, hb, hr, hml, hown, hts0, hX, hbl, hlk, hgv⟩ := C0
  have hts : ∀ w ∈ lw_all, w.before #[Value.ref b] s = true := fun w h => hts0 w (lw_all_tbl h)
  have hD : ∀ k : Nat, ∃ q : ClassId × (Nat → Nat), k < 12 → u_Kn s (hRn k) (hTT k) (hnf k) q.1 q.2 := by
    intro k
    by_cases hk : k < 12
    · obtain ⟨cC, iS, h⟩ := u_known hts (hin_at k hk) (hts _ (hins_at k hk))
      exact ⟨(cC, iS), fun _ => h⟩
    · exact ⟨(0, fun _ => 0), fun q => absurd q hk⟩
  obtain ⟨a_int, A_int⟩ := st_arr (ty := .int) (hts _ (lw_g (lw_at lw_m1 135 rfl) rfl)) (fun _ h => by cases h)
  obtain ⟨a_boolean, A_boolean⟩ := st_arr (ty := .boolean) (hts _ (lw_g (lw_at lw_m2 71 rfl) rfl)) (fun _ h => by cases h)
  obtain ⟨a_byte, A_byte⟩ := st_arr (ty := .byte) (hts _ (lw_g (lw_at lw_m1 42 rfl) rfl)) (fun _ h => by cases h)
  obtain ⟨a_long, A_long⟩ := st_arr (ty := .long) (hts _ (lw_g (lw_at lw_m1 134 rfl) rfl)) (fun _ h => by cases h)
  have ho := hts0 _ (lw_at lw_m3 62 rfl)
  have hg := hts0 _ (lw_at lw_m3 64 rfl)
  obtain ⟨a_o, A_o⟩ := st_aro ho
  obtain ⟨a_g, A_g⟩ := st_aro hg
  let D : va_G := (fun k => (hD k).choose.1, fun k => (hD k).choose.2)
  let dA : Nat → ClassId := fun t => match t with
    | 100 => a_int
    | 101 => a_boolean
    | 102 => a_byte
    | 103 => a_long
    | 104 => a_o
    | _ => a_g
  have hK : hx_K D dA s := by
    refine ⟨⟨fun k q hq => ?_, fun k q hq => ?_⟩, fun w hw => ?_, fun w hw => ?_, va_Nw.of rfl (hts0 _ (lw_at lw_m5 145 rfl)), fun y hy => ?_, va_AO.of ho, va_AO.of hg⟩
    · have hk : k < 12 := (List.getElem?_eq_some_iff.mp hq).1
      have e1 := (hcl_at k hk).symm.trans hq
      cases e1
      exact (hD k).choose_spec hk
    · have hk : k < 6 := (List.getElem?_eq_some_iff.mp hq).1
      match k, hk, hq with
      | 0, _, hq => cases hq; exact A_int
      | 1, _, hq => cases hq; exact A_boolean
      | 2, _, hq => cases hq; exact A_byte
      | 3, _, hq => cases hq; exact A_long
      | 4, _, hq => cases hq; exact A_o
      | 5, _, hq => cases hq; exact A_g
    · have h1 := hts0 w (hfnA_mem w hw)
      obtain ⟨k, hk, hw2⟩ := List.mem_flatMap.mp hw
      obtain ⟨q, hq, rfl⟩ := List.mem_map.mp hw2
      exact va_Nw.of rfl h1
    · have h1 := hts0 w (hmn_mem w hw)
      have h3 : ∀ w ∈ hmnAll, w.onTables = true := by decide +kernel
      exact va_Nw.of (h3 w hw) h1
    · have h3 : ∀ y ∈ hx_dc, Cond.declares y ∈ lw_tbl := by
        unfold hx_dc
        simp only [List.forall_mem_cons, List.not_mem_nil, false_implies, implies_true, and_true]
        exact ⟨lw_at lw_m5 146 rfl, lw_at lw_m5 148 rfl, lw_at lw_m5 150 rfl⟩
      exact va_Nw.of rfl (hts0 _ (h3 y hy))
  have hZ : hx_Z (lawA s) s s.heap := by
    have hgs := flat_of_before _ hgv
    exact ⟨st_Z1 (hts0 _ (lw_at lw_m5 170 rfl)) (hgs _ (by decide +kernel)), st_Z1 (hts0 _ (lw_at lw_m5 172 rfl)) (hgs _ (by decide +kernel))⟩
  obtain ⟨meth', c', g1, g2, g3, g4, g5, g6, g7, -⟩ := Cond.code_spec hnm hcw
  cases hmt.symm.trans g1
  cases hcd.symm.trans g2
  have cx : hx_GC S1 M_law p l e s m meth c b L xs D dA := by
    refine ⟨⟨hx, hb, hr, hml, hown, hts, hlk, hK, rfl, ⟨by decide, by decide⟩, fun q hq => hq, fun q cell hq hc => ?_, (name_of_methodNamed hnm hmt).1, ?_, hfl, hZ⟩, hX, hbl⟩
    · have h2 := (Array.getElem?_eq_some_iff.mp hc).1
      have hq : s.heap.size ≤ q := hq
      exact absurd h2 (by omega)
    · show c.exceptionTable.toList = []
      simpa using g7
  have hW0 : hW S1 (fun _ => b) dA 0 hZero = [] := rfl
  have K := law_from hR h0 hL p l e s m below meth c b D dA cx (fun _ => b) s.heap [] _ 0 0 rfl (by
      have hlv := lv_entry [Value.ref b] (n := 4) (le_b rfl)
      exact hlv) (fun k q hq => by rw [hW0] at hq; cases hq) ⟨fun i j y z hy _ _ => (by rw [hW0] at hy; cases hy), fun k q hq => (by rw [hW0] at hq; cases hq)⟩ va_S.rf (by decide) (by decide)
  have e1 := lg_entry_eq m [Value.ref b] 4
  rw [e1]
  exact K

set_option maxHeartbeats 4000000 in
theorem lw_walk {Rel : hH → Prop} (hR : LawRel Rel) (h0 : Rel hInit) (l : Launch) (hfl : l.flags = flags0) (b : Addr) (xs : List Int32) : MetFree l x (headSpec (Jvm.Cond.code x code maxLocals ret :: tables_1) room_1) (lw_P b xs) (fun _ _ _ _ _ => True) lw_Q := by
  refine MetFree.of_bodyS (code := code) (maxLocals := maxLocals) (ret := ret) (by decide) ?_ ?_
  · intro args s m h hn
    obtain ⟨meth, c, h1, h2, h3, h4, h5, h6, -, -⟩ := Cond.code_spec hn (atoms_spec (ws := Jvm.Cond.code x code maxLocals ret :: tables_1) h _ List.mem_cons_self)
    exact ⟨meth, c, h1, h2, h3, h4, h5, h6⟩
  · intro p e s m args below meth c s₁ B hml0 hP _
    obtain ⟨rfl, hx, hbd, hgv⟩ := hP
    obtain ⟨scr, harrAt, hlist, hof, hsmall⟩ := hx
    obtain ⟨hcb, hkn, -, -⟩ := State.arrayAt?_spec harrAt
    have hown : s.vm.findClass R_law = some m.cls := findClass_of_methodNamed B.named
    have hts0 : ∀ c ∈ (Jvm.Cond.code x code maxLocals ret :: tables_1), c.before #[Value.ref b] s = true := atoms_spec (ws := Jvm.Cond.code x code maxLocals ret :: tables_1) B.pre
    have hts : ∀ w ∈ lw_tbl, w.before #[Value.ref b] s = true := k2_hts_sels lw_privs (fun w hw => hts0 w (List.mem_cons_of_mem _ hw)) lw_privs_ok
    have hml : c.maxLocals = 4 := B.maxLocals_eq (hts0 _ List.mem_cons_self)
    have X₀ : Stand p l e room_1 s m #[Value.ref b] below meth c s₁ [] 0 0 := Stand.of_body B
    have hh0 : s₁.heap = s.heap := by rw [B.state]; rfl
    have hsz : scr.slots.size = xs.length := by rw [← Array.length_toList, hlist, List.length_map]
    have hval : ∀ j : Nat, j < xs.length → scr.slots[j]? = some (.int (xs.getD j 0)) := fun j hj => by
      rw [← Array.getElem?_toList, hlist]
      simp [hj]
    have hbl : b < s.heap.size := (Array.getElem?_eq_some_iff.mp hcb).1
    have hX : va_X b xs.length (fun j => xs.getD j 0) s s.heap := ⟨scr, hcb, hof, hkn, hsz, hval⟩
    have K : W p l e room_1 s m #[Value.ref b] below meth c s₁.heap [] 0 0 (lw_Z below #[Value.ref b] s) (entryFrame m ([Value.ref b] : List Value).toArray 4) := by
      rw [hh0]
      exact whole_start hR h0 l hfl hbd ⟨B.exec, B.bytes, B.returns, hml, hown, hts, hX, hbl, B.notSynchronized, hgv⟩ (hts0 _ List.mem_cons_self) B.named B.method X₀.code
    obtain ⟨t, a1, o, b1, b2, b3⟩ := K s₁ rfl X₀
    exact ⟨t, o, a1, b1, b2, b3⟩
theorem lw_pre_spec {args : Array Value} {s : State} (h : (Jvm.Cond.and given_1 narrow_1).before args s = true) (hr : rest_1_c.before args s = true) : ∃ (b : Addr) (xs : List Int32), lw_P b xs args s := by
  have hs := flat_of_before _ h
  have hq := flat_of_before _ hr
  have hc : (Cond.count 1).before args s = true := hs _ (by decide +kernel)
  have harr : (Cond.arrayOf (.arg 0) .int).before args s = true := hs _ (by decide +kernel)
  have hle : (Cond.le (.length (.arg 0)) (.int 256)).before args s = true := hs _ (by decide +kernel)
  have hlen : (Cond.isInt (.length (.arg 0))).before args s = true := hq _ (by decide +kernel)
  have hall : (Cond.all (.arg 0) (.isInt (.elem (.arg 0) (.index 0)))).before args s = true := hq _ (by decide +kernel)
  obtain ⟨b, xs, hb, hx⟩ := State.ints_of_pre rfl harr hlen hall
  have hsm : xs.length < 2 ^ 31 := hx.choose_spec.2.2.2
  have hev : (Term.length (.arg 0)).eval args s none [] s = some (.int xs.length.toInt32) := hx.length_eval hb
  have hv := Cond.le_ints hev (show (Term.int 256).eval args s none [] s = some (.int 256) from rfl)
  have hd : xs.length.toInt32 ≤ 256 := by
    simpa [Cond.before, Cond.holds, hv] using hle
  have hN : xs.length ≤ 256 := (Int32.ofNat_le_ofNat hsm (by decide)).mp (show Int32.ofNat xs.length ≤ Int32.ofNat 256 from hd)
  exact ⟨b, xs, Cond.one_arg hc (show args[0]? = some (.ref b) from hb), hx, hN, h⟩
theorem lw_comes {Rel : hH → Prop} (hR : LawRel Rel) (h0 : Rel hInit) (l : Launch) (hfl : l.flags = flags0) : Comes l x (Jvm.Cond.code x code maxLocals ret :: tables_1) room_1 (fun tb e args s => Calls_1 tb e args s ∧ rest_1 tb e args s ∧ Pre_1 tb e args s)
    (fun _ _ args s o t => lw_Q args s o t) := by
  intro p e ha hc hk s m args below hf hfit hheap happ hpre
  obtain ⟨b, xs, hP⟩ := lw_pre_spec hpre.2.2 hpre.2.1
  obtain ⟨k, o, h1, h2, h3, hQ⟩   := lw_walk hR h0 l hfl b xs p e ha hc hk s m args below hf ((Spec.applies_iff_loose hf).mp happ).1 hP trivial
  exact ⟨k, o, h1, h2, h3, hQ⟩
theorem lw_frame {s t : State} {o : Outcome} {args : Array Value} (h : Framed s o t [] 608192 7228521) :
    Framed s o t (fieldLocs frame_1_writes args s ++ arrayLocs frame_1_arrays args s ++ staticLocs frame_1_statics s) 608192 7228521 := h
theorem lw_limb {Rel : hH → Prop} (hR : LawRel Rel) (h0 : Rel hInit) (L : Cond) (hL : ∀ (args : Array Value) (s t : State), L.after args s (.returned (some (.int 1))) t = true) :
    ArmFor flags0 classFile x code maxLocals ret World_1 tables_1 room_1 Calls_1 rest_1 Pre_1
      (fun tb e a s o t => postC L tb e a s o t ∧ Framed s o t (fieldLocs frame_1_writes a s ++ arrayLocs frame_1_arrays a s ++ staticLocs frame_1_statics s) 608192 7228521) := by
  intro l hfl _ _ p e ha hc hk s m args below hf hfit hheap happ hpre
  obtain ⟨k, o, h1, h2, h3, rfl, hF⟩ := lw_comes hR h0 l hfl p e ha hc hk s m args below hf hfit hheap happ hpre
  exact ⟨k, _, h1, h2, h3, hL args s _, lw_frame hF⟩
theorem claim_of {Rel : hH → Prop} (hR : LawRel Rel) (h0 : Rel hInit) : Claimed_1_1 ∧ Claimed_1_2 := ⟨lw_limb hR h0 limb_1_1 (fun args s t => by simp [limb_1_1, Cond.after, Cond.holds, Cond.value]), lw_limb hR h0 limb_1_2 (fun args s t => Cond.after_iff.mpr (by
  first | (rw [show limb_1_2 = Cond.eq .result (.int 1) from rfl, Cond.eq_ints (x := 1) (y := 1) rfl rfl]; simp; done) | (simp [limb_1_2, Cond.value, Term.eval]; done)))⟩

