/-! LAYER 1j: an exception that a method of two handles itself (the catch's class resolved there, cold or warm) -/
section CA
variable {e : Env} {s : State} {f : JFrame} {a : Addr}
theorem hx_goL {Q : Handler → Jvm.Pre} {E : Jvm.CtlPost} {d : Bool} {acts : List Action} {x : ExceptionTableEntry} {c : ClassId} {cell : Cell} (hx : covers x f.pc = true) (h0 : x.catchType ≠ 0) (hl : s.vm.ClassLinks e.platform f.method.cls x.catchType c) (hcell : s.heap[a]? = some cell) (hobj : ∀ k, cell.vm ≠ .statics k)
    (hk : ∃ k, s.vm.classes[cell.cls]? = some k) (hc : ∃ k, s.vm.classes[c]? = some k) (hfit : s.vm.assignable cell.cls c = true) :
    Sem.wp (findHandler.go f a [x]) Q E e d acts s ↔ Q (.found x.handlerPc) d acts (s.setVm (s.vm.noted f.method.cls x.catchType (.cls c))) := by
  simp only [covers] at hx
  obtain ⟨k1, k2⟩ := (resolveClass_links e.toSetting hl).op (op := VmOp.resolveClass f.method.cls x.catchType) rfl
  have hal := (Vm.Alike.refl s.vm).noted f.method.cls x.catchType (.cls c)
  obtain ⟨c1, hc1⟩ := hk
  obtain ⟨c2, hc2⟩ := hc
  obtain ⟨d1, hd1, -⟩ := hal.2.2 _ _ hc1
  obtain ⟨d2, hd2, -⟩ := hal.2.2 _ _ hc2
  have hf : (s.vm.noted f.method.cls x.catchType (.cls c)).assignable cell.cls c = true := by rw [hal.assignable]; exact hfit
  simp [findHandler.go, hx, h0, k1, k2, hcell, hobj, hd1, hd2, hf, VmOp.dirties, VmOp.acts]
theorem hx_stepC {r : List Frame} {pc : Nat} {vm' : Vm} (hfind : ∀ (Q : Handler → Jvm.Pre) (E : Jvm.CtlPost) (d : Bool) (acts : List Action), Sem.wp (findHandler f a) Q E e d acts s ↔ Q (.found pc) d acts (s.setVm vm')) :
    (stepThrowing e s a (.java f :: r)).Is ((s.setVm vm').setFrames (.java { f with pc := pc, stack := [.ref a] } :: r)) [] := by
  simp only [stepThrowing, searchFrame, vmDo]
  generalize hr : Sem.go _ e false [] s = res
  obtain ⟨as, rfl, ha⟩ := Sem.eq_ok_of hr (a := Handler.found pc) (s' := s.setVm vm') (acts' := []) (by simp [hfind _ _ _ _])
  exact ⟨rfl, ha⟩
theorem hx_sf (u : State) (vm' : Vm) (F G : List Frame) : ((u.setFrames F).setVm vm').setFrames G = (u.setVm vm').setFrames G := by
  show ((u.setVm vm').setFrames F).setFrames G = _
  rw [State.setFrames_setFrames]
theorem hx_caughtS {tb : Tables} {target : State} {g : JFrame} {c : Code} {below : List Frame} (h : At s g.method c below) {pc : Nat} {vm' : Vm}
    (hfind : ∀ (Q : Handler → Jvm.Pre) (E : Jvm.CtlPost) (d : Bool) (acts : List Action), Sem.wp (findHandler g a) Q E e d acts ((s.setTop g).pushFrame (.throwing a)) ↔ Q (.found pc) d acts (((s.setTop g).pushFrame (.throwing a)).setVm vm')) (hrest : Steps tb e below ((s.setVm vm').setTop { g with pc := pc, stack := [.ref a] }) target) :
    Steps tb e below ((s.setTop g).pushFrame (.throwing a)) target := by
  obtain ⟨k1, k2⟩ := h.throwing a
  refine Steps.head k1 k2 ?_
  rw [stepThread_throwing (frames_entered h.top _), (hx_stepC hfind).1]
  obtain ⟨g₀, hg⟩ := Option.isSome_iff_exists.mp h.top
  obtain ⟨r, hr⟩ := State.topJava?_eq_some.mp hg
  have hr' : (s.setVm vm').frames = .java g₀ :: r := hr
  rw [State.setTop_of_frames _ hr'] at hrest
  rw [hr, List.tail_cons, State.pushFrame, hx_sf, State.setTop_of_frames _ hr, hx_sf]
  exact hrest
theorem hx_caught {p : Program} {l : Launch} {R : Room} {m : MethodId} {args : Array Value} {below : List Frame} {meth : Method} {c : Code} {T : State} {locs : List Loc} {cells slots : Nat} (X : Stand p l e R s m args below meth c T locs cells slots) (a : Addr) {g : JFrame} (hg : g.method = m) {own name : String} (hown : s.vm.findClass own = some m.cls) (x : ExceptionTableEntry) (hsplit : c.exceptionTable.toList = [x]) (hx : covers x g.pc = true) (h0 : x.catchType ≠ 0)
    (hlink : (Cond.classLink own x.catchType name).before args s = true) {cT : ClassId} {cell : Cell} (hcT : s.vm.findClass name = some cT) (hcell : T.heap[a]? = some cell) (hobj : cell.vm.isStatics = false) (hfit : s.vm.assignable cell.cls cT = true) :
    ∃ vm', Stand p l e R s m args below meth c (T.setVm vm') locs cells slots ∧ ∀ target, Steps p.tables e below ((T.setVm vm').setTop { g with pc := x.handlerPc, stack := [.ref a] }) target → Steps p.tables e below ((T.setTop g).pushFrame (.throwing a)) target := by
  subst hg
  obtain ⟨c', hc', hcl⟩ := Cond.classLink_spec hown hlink e.platform (by rw [X.admits.platform])
  cases hcT.symm.trans hc'
  obtain ⟨dk, _, _, kt, hd, _, _, _, _, hkt, _, hopen⟩ := hcl.here
  have hal := X.warmed.alike
  obtain ⟨kt', hkt', -⟩ := hal.2.2 _ _ hkt
  have hfit' : T.vm.assignable cell.cls cT = true := by rw [hal.assignable]; exact hfit
  refine ⟨T.vm.noted g.method.cls x.catchType (.cls cT), X.noted (X.warmed.noted hd hopen (State.rightAt_cls hcl)), fun target hrest => hx_caughtS X.here (fun Q E d acts => ?_) hrest⟩
  rw [Jvm.W.findHandler_eq (s := (T.setTop g).pushFrame (.throwing a)) (meth := meth) (code := c) X.method' X.code, hsplit]
  exact hx_goL (s := (T.setTop g).pushFrame (.throwing a)) hx h0 (X.warmed.classLinks hcl) hcell (VmData.ne_statics_of hobj) (Vm.classAt_of_assignable hfit' ⟨kt', hkt'⟩) ⟨kt', hkt'⟩ hfit'
end CA
section CB
variable {S : hS} {M : hM} {d pc N : Nat} {L : List (Nat × Value)} {h : hH}
set_option maxHeartbeats 1000000 in
/-- a virtual callee throws, and the caller's handler, which stores the exception away, goes on -/
theorem hv_cVH (hm : hx_mok M = true) (i j : Nat) {idx : Nat} (hi : M.2.2.2.2.2.2.2[i]? = some (pc, .invokevirtual idx, 3)) {M2 : hM} (hlk : Cond.methodLink (hRn M.1) idx M2.2.1 ∈ lw_all) (hy : hx_ymV M2) {d2 : Nat} (hd : d2 + 1 ≤ d) (hmx : M2.2.2.2.1 ≤ 45) {as rest st : List Value} {z : Nat} (hta : S.2.1 z = M2.1) (hzN : z ≤ N) (hst : st = as.reverse ++ .ref z :: rest) (hn : (parseMethodDescriptor M2.2.1.desc).map (fun q => q.parameters.length) = some as.length) {h1 : hH} {kc ks : Nat}
    (hC : ∀ l : Launch, l.flags = flags0 → hx_C l S M2 d2 N (.ref z :: as) h (none, N, h1, kc, ks)) (hw : (rest.map (fun v => v.category)).sum ≤ 8) {b e2 hp ct : Nat} (hhM : M.2.2.2.2.2.1 = [(b, e2, hp, ct)]) (hcov : b ≤ pc ∧ pc < e2) (hct : ct ≠ 0) (hcl1 : Cond.classLink (hRn M.1) ct hISE ∈ lw_all) {k : Fin 4} (hj : M.2.2.2.2.2.2.2[j]? = some (hp, .astore_n k, 1)) (hkn : k.val < M.2.2.2.1) {r' : hR}
    (kk : hx_V S M d (hp + 1) (L.filter (hx_p1 k.val)) [] N h1 r') : hx_V S M d pc L st N h (r'.1, r'.2.1, r'.2.2.1, kc + r'.2.2.2.1, ks + r'.2.2.2.2) := by
  intro p l e R s m args below meth c D dA A N0 ad0 cx ad H locs ls cells slots hz hN hl hP hD hS hc1 hc2
  intro T hT X
  subst hst
  have hc1 : cells + (kc + r'.2.2.2.1) ≤ R.cells := hc1
  have hc2 : slots + (ks + r'.2.2.2.2) ≤ R.slots := hc2
  obtain ⟨x, ce, T', Lx, X', hP', hD', hS', hce, hcs, hcc, hxs, hgo⟩ := hx_thrV cx hl.1 hP hD hS hm i hi hlk hy hd hmx hta hzN hn hC hw (by omega) (by omega) hT X
  obtain ⟨hx, hb, hr, hml, hown, hts, hlkk, hK, ht0, hroom, hA, hst, hnm, htab, hfl, hZ⟩ := id cx
  obtain ⟨c3, cT, hc3, hcT, hasg⟩ := Cond.castable_spec (va_Nw.use (A := args) rfl hK.2.2.2.1)
  cases hcc.symm.trans hc3
  obtain ⟨vm', X2, hgo2⟩ := hx_caught X' x (g := F0 m pc ls (rest.map (cV ad))) rfl hown ⟨b, e2, hp, ct⟩ (by rw [htab, hhM]; rfl) (by simp only [covers, Bool.and_eq_true, decide_eq_true_eq]; exact hcov) hct (hts _ hcl1) hcT hce hcs hasg
  have hK1 := lv_astore_n (p := p) (l := l) (e := e) (R := R) (s := s) (m := m) (args := args) (below := below) (meth := meth) (c := c) (H := T'.heap) (locs := locs ++ Lx) (cells := cells + kc) (slots := slots + ks) (Q := hx_Q below S D dA A N0 ad0 r' s R.cells R.slots) (pc := hp) (x := x) (rest := []) hx hb (hx_ct hm j hj) rfl hl hkn rfl (fun ls1 hl1 => kk p l e R s m args below meth c D dA A N0 ad0 cx ad T'.heap (locs ++ Lx) ls1 (cells + kc) (slots + ks) hz hN ?_ hP' hD' hS' (by omega) (by omega))
  · obtain ⟨t, a1, b1⟩ := hK1 (T'.setVm vm') rfl X2
    exact ⟨t, hgo _ (hgo2 _ a1), b1⟩
  · refine ⟨hl1.1, hl1.2.1, fun q hq => hl1.2.2 q (List.mem_cons_of_mem _ ?_)⟩
    have e1 := hL_p1 ad L k.val
    rw [← e1] at hq
    exact hq
end CB
