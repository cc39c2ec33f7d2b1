/-! LAYER 1i: a call that throws: out of the caller, or into its handler -/
section TH
variable {S : hS} {M : hM} {d pc N : Nat} {L : List (Nat × Value)} {h : hH}
set_option maxHeartbeats 2000000 in
/-- the run up to the exception that a virtual callee throws -/
theorem hx_thrV {p : Program} {l : Launch} {e : Env} {R : Room} {s : State} {m : MethodId} {args : Array Value} {below : List Frame} {meth : Method} {c : Code} {D : va_G} {dA : Nat → ClassId} {A : Nat → Prop} (cx : hx_Cx S M d D dA A p l e R s m args meth c) {ad : Nat → Nat} {H : Heap} {locs : List Loc} {ls : Array Slot} {cells slots : Nat} (hl : ls.size = M.2.2.2.1) (hP : va_P D hcl (hW S ad dA N h) H) (hD : va_D A (hW S ad dA N h)) (hS : va_S A s.heap H locs)
    (hm : hx_mok M = true) (i : Nat) {idx : Nat} (hi : M.2.2.2.2.2.2.2[i]? = some (pc, .invokevirtual idx, 3)) {M2 : hM} (hlk : Cond.methodLink (hRn M.1) idx M2.2.1 ∈ lw_all) (hy : hx_ymV M2) {d2 : Nat} (hd : d2 + 1 ≤ d) (hmx : M2.2.2.2.1 ≤ 45) {as rest : List Value} {z : Nat} (hta : S.2.1 z = M2.1) (hzN : z ≤ N) (hn : (parseMethodDescriptor M2.2.1.desc).map (fun q => q.parameters.length) = some as.length) {h1 : hH} {kc ks : Nat}
    (hC : ∀ l : Launch, l.flags = flags0 → hx_C l S M2 d2 N (.ref z :: as) h (none, N, h1, kc, ks)) (hw : (rest.map (fun v => v.category)).sum ≤ 8) (hc1 : cells + kc ≤ R.cells) (hc2 : slots + ks ≤ R.slots) {T : State} (hT : T.heap = H) (X : Stand p l e R s m args below meth c T locs cells slots) :
    ∃ (x : Addr) (ce : Cell) (T' : State) (Lx : List Loc), Stand p l e R s m args below meth c T' (locs ++ Lx) (cells + kc) (slots + ks) ∧ va_P D hcl (hW S ad dA N h1) T'.heap ∧ va_D A (hW S ad dA N h1) ∧ va_S A s.heap T'.heap (locs ++ Lx) ∧ T'.heap[x]? = some ce ∧ ce.vm.isStatics = false ∧ s.vm.findClass hISE = some ce.cls ∧ s.heap.size ≤ x ∧
      ∀ target, Steps p.tables e below ((T'.setTop (F0 m pc ls (rest.map (cV ad)))).pushFrame (.throwing x)) target → Steps p.tables e below (T.setTop (F0 m pc ls ((as.reverse ++ .ref z :: rest).map (cV ad)))) target := by
  obtain ⟨hx, hb, hr, hml, hown, hts, hlkk, hK, ht0, hroom, hA, hst, hnm, htab, hfl, hZ⟩ := id cx
  obtain ⟨hcw, hin, hsel, hini, hcls, hlt, hmh, hvh⟩ := hy
  have hz0 : z ≠ 0 := fun q => by rw [q, ht0] at hta; omega
  have hcl2 : hcl[M2.1]? = some (M2.2.1.cls, hTT M2.1, hnf M2.1) := by rw [hcls]; exact hcl_at M2.1 hlt
  obtain ⟨cellB, hcB, hoB, hclB⟩ := va_recv (H := H) hK.1 hP hcl2 (hW_obj hz0 hzN hta (by omega))
  obtain ⟨mk, methM, hnamed, hmethM, hstM, habM⟩ := Cond.instanceMethod_spec (hts _ hin)
  obtain ⟨methM', cM, hmethM', hcodeM, hcM, hmlM, hretM, hlkM, htabM, hsigM⟩ := hx_cw_spec hnamed (hts _ hcw)
  cases hmethM.symm.trans hmethM'
  obtain ⟨c2, r2, m2, q1, q2, q3, q4, kP, hkP, hkPi⟩ := Cond.selects_spec (hts _ hsel)
  cases hclB.symm.trans q1
  cases (State.methodFound?_of_named hnamed ⟨hmh, hvh⟩).symm.trans q2
  cases hnamed.symm.trans q3
  have hselP : selectMethod e.platform s.vm cellB.cls mk = .method mk := by rw [Launch.admits_selectMethod X.admits]; exact q4
  have hlen : (as.map (cV ad)).length = methM.sig.parameters.length := by
    rw [hsigM] at hn
    rw [List.length_map]
    exact (Option.some.inj hn).symm
  have hstack : (F0 m pc ls ((as.reverse ++ .ref z :: rest).map (cV ad))).stack = (as.map (cV ad)).reverse ++ .ref (ad z) :: rest.map (cV ad) := by
    show (as.reverse ++ .ref z :: rest).map (cV ad) = _
    rw [List.map_append, List.map_reverse, List.map_cons]
    exact congrArg (fun q => (as.map (cV ad)).reverse ++ q :: rest.map (cV ad)) (cR_pos hz0)
  have hdg : decode c.code pc = .ok (.invokevirtual idx, 3) := by rw [hb]; exact hx_ct hm i hi
  obtain ⟨vm₁, X₁, hstep₁⟩ := X.invokevirtual hx hown (hts _ hlk) hnamed hmethM hstM hkP hkPi ⟨hmh, hvh⟩ (a := ad z) (cell := cellB) (by rw [hT]; exact hcB)
    (fun z h => by rw [h] at hoB; cases hoB) hselP hmethM habM hkP hkPi (g := F0 m pc ls ((as.reverse ++ .ref z :: rest).map (cV ad))) rfl (argsL := as.map (cV ad)) (rest := rest.map (cV ad)) hlen hstack hdg
  have hMet := hC l hfl D dA ad H.size
  have hWU : s.WarmedH (T.setVm vm₁).vm := X₁.warmed
  have hnU : (T.setVm vm₁).methodNamed? M2.2.1 = some mk := X₁.named hnamed
  obtain ⟨kY, hkY, -⟩ := className_of_methodNamed hnU
  have hinitY : kY.init = .initialized := Cond.initialized_spec (args := args) (findClass_of_methodNamed hnU) hkY (word_at hWU (lw_self _ hini).2 (hts _ hini))
  have hmU : (T.setVm vm₁).vm.method? mk = some methM := by rw [hWU.alike.method?]; exact hmethM
  have hpre : (headSpec (hx_cw M2 :: lw_all) (hx_rm_ d2 kc ks)).pre.before (Value.ref (ad z) :: as.map (cV ad)).toArray (T.setVm vm₁) = true := by
    refine atoms_intro fun w hw => ?_
    have hg := hx_good hcw w hw
    exact word_at hWU hg.2 (hts _ hg.1)
  have hrs : (rest.map (cV ad)).map (fun v => v.category) = rest.map (fun v => v.category) := by
    rw [List.map_map]
    exact List.map_congr_left fun v _ => cV_cat ad v
  have happ := Spec.appliesLoose_calling (g := F0 m pc ls (rest.map (cV ad))) (S := headSpec (hx_cw M2 :: lw_all) (hx_rm_ d2 kc ks)) (e := e) X₁.here hdg hnU hkY hinitY
    (X₁.room_calling (g := F0 m pc ls (rest.map (cV ad))) (R' := hx_rm_ d2 kc ks) (args' := (Value.ref (ad z) :: as.map (cV ad)).toArray) (by rw [hml]; exact hl) hmU hcodeM (Nat.le_trans hd hroom.1) (by
      show 2 * 0 + (((rest.map (cV ad)).map fun v => v.category)).sum + (cM.maxLocals + 11) + 64 * d2 ≤ R.locals
      rw [hrs, hmlM]
      have := hroom.2
      omega) hc1 hc2) hpre
  obtain ⟨mid, hmid⟩ := X₁.here.above
  have hfr : ((T.setVm vm₁).setTop (F0 m pc ls (rest.map (cV ad)))).frames = (.java (F0 m pc ls (rest.map (cV ad))) :: mid) ++ below := by rw [State.frames_setTop' _ X₁.here.top, hmid]; rfl
  have e2 : (Value.ref z :: as).map (cV ad) = Value.ref (ad z) :: as.map (cV ad) := by
    rw [List.map_cons]
    exact congrArg (fun q => q :: as.map (cV ad)) (cR_pos hz0)
  have hstart := hx_start cx hP hD hS (.ref z :: as)
  rw [e2] at hstart
  obtain ⟨o, s₂, hsteps, hrun, hend, hq⟩ := Steps.callFree hMet p X.admits X.cas X.clock (acts := []) hfr happ (hx_blind _ _ (F0 m pc ls (rest.map (cV ad))) mk (hstart (T.setVm vm₁) hT hWU)) trivial
  obtain ⟨⟨⟨ad', hz', hP', hD', x, ce, ho, hce, hcs, hcc, hxs⟩, hF⟩, Lx, hW2, hsame, hLx⟩ := hq
  subst ho
  have had : ad' = ad := hz'.2 rfl
  subst had
  rw [State.frames_setTop' _ X₁.here.top, X₁.tail] at hend
  obtain ⟨T', X', hWT, hsameT, ht⟩ := X₁.outOfThrown (g := F0 m pc ls (rest.map (cV ad'))) rfl hend hW2 hsame
  have hh : s₂.heap = T'.heap := by rw [ht]; exact Stand.throwing_heap _ _ _
  have hfree : ∀ q, va_A (hW S ad' dA N h) H.size q → A q := fun q hq => by
    rcases hq with ⟨kq, e, hq⟩ | hq
    · exact hD.2 kq (q, e) hq
    · exact hA q (Nat.le_trans hS.1 hq)
  obtain ⟨hz, hk⟩ := hF
  have h0 : (((T.setVm vm₁).setTop (F0 m pc ls (rest.map (cV ad')))).pushFrame (.invoking mk (Value.ref (ad' z) :: as.map (cV ad')).toArray)).heap = H := hT
  rw [h0, hh] at hz
  rw [h0, hh] at hk
  rw [hh] at hP' hce
  have hxs : H.size ≤ x := by rw [← h0]; exact hxs
  refine ⟨x, ce, T', Lx, X', hP', hD'.weaken (fun _ q _ hq => hfree q.1 hq), ⟨Nat.le_trans hS.1 hz, fun q h1 h2 => ?_, fun q hq => ?_⟩, hce, hcs, ?_, Nat.le_trans hS.1 hxs, fun target htg => ?_⟩
  · rw [hk q (Nat.lt_of_lt_of_le h1 hS.1) (fun z => h2 (hfree q z))]
    exact hS.2.1 q h1 h2
  · rcases List.mem_append.mp hq with h | h
    · exact hS.2.2 q h
    · exact hfree _ (hLx q h)
  · rw [← hWU.alike.findClass]; exact hcc
  · refine hstep₁ _ fun acts => ?_
    rw [doInvoke_state]
    rw [ht] at hsteps
    rw [doInvoke_state] at hsteps
    exact hsteps.trans htg
set_option maxHeartbeats 1000000 in
/-- a virtual callee throws, and so does the caller -/
theorem hv_cVT (hm : hx_mok M = true) (i : Nat) {idx : Nat} (hi : M.2.2.2.2.2.2.2[i]? = some (pc, .invokevirtual idx, 3)) {M2 : hM} (hlk : Cond.methodLink (hRn M.1) idx M2.2.1 ∈ lw_all) (hy : hx_ymV M2) {d2 : Nat} (hd : d2 + 1 ≤ d) (hmx : M2.2.2.2.1 ≤ 45) {as rest st : List Value} {z : Nat} (hta : S.2.1 z = M2.1) (hzN : z ≤ N) (hst : st = as.reverse ++ .ref z :: rest) (hn : (parseMethodDescriptor M2.2.1.desc).map (fun q => q.parameters.length) = some as.length) {h1 : hH} {kc ks : Nat}
    (hC : ∀ l : Launch, l.flags = flags0 → hx_C l S M2 d2 N (.ref z :: as) h (none, N, h1, kc, ks)) (hw : (rest.map (fun v => v.category)).sum ≤ 8) (hhM : M.2.2.2.2.2.1 = []) : hx_V S M d pc L st N h (none, N, h1, kc, ks) := by
  intro p l e R s m args below meth c D dA A N0 ad0 cx ad H locs ls cells slots hz hN hl hP hD hS hc1 hc2
  intro T hT X
  subst hst
  have hlkk : meth.locks = false := cx.2.2.2.2.2.2.1
  obtain ⟨x, ce, T', Lx, X', hP', hD', hS', hce, hcs, hcc, hxs, hgo⟩ := hx_thrV cx hl.1 hP hD hS hm i hi hlk hy hd hmx hta hzN hn hC hw hc1 hc2 hT X
  obtain ⟨l1, l2, l3, l4, l5⟩ := X'.leaveThrown x (g := F0 m pc ls (rest.map (cV ad))) rfl rfl rfl (hx_noH hhM cx.2.2.2.2.2.2.2.2.2.2.2.2.2.1 _) hlkk
  refine ⟨_, hgo _ l1, .threw x, l2, l3, ⟨⟨ad, hz, hP', hD', x, ce, rfl, hce, hcs, hcc, hxs⟩, hS'.F rfl⟩, locs ++ Lx, l4, l5.weaken (fun y hy _ => hy) hc1 hc2, hS'.2.2⟩
end TH
