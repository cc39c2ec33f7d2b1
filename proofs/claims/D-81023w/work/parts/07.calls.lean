/-! LAYER 1e: contracts, entries, calls -/
def hx_cw (M : hM) : Cond := match M.2.2.2.2.2.1 with
  | [] => .code M.2.1 M.2.2.1 M.2.2.2.1 M.2.2.2.2.1
  | q :: hh => .codeWith M.2.1 M.2.2.1 M.2.2.2.1 M.2.2.2.2.1 (q :: hh)
def hx_rm_ (d kc ks : Nat) : Room := { frames := d, cells := kc, slots := ks, locals := 64 * d }
def hx_Pc (S : hS) (D : va_G) (dA : Nat → ClassId) (ad : Nat → Nat) (N : Nat) (as : List Value) (h : hH) (sz : Nat) : Array Value → State → Prop :=
  va_Pc (as.map (cV ad)) (fun U => U.heap.size = sz ∧ va_P D hcl (hW S ad dA N h) U.heap ∧ va_D (fun _ => True) (hW S ad dA N h) ∧ hx_K D dA U ∧ hx_Z (va_A (hW S ad dA N h) sz) U U.heap)
/-- a method's contract at one choice of arguments, heap and result -/
def hx_C (l : Launch) (S : hS) (M : hM) (d N : Nat) (as : List Value) (h : hH) (r : hR) : Prop :=
  ∀ (D : va_G) (dA : Nat → ClassId) (ad : Nat → Nat) (sz : Nat), MetFree l M.2.1 (headSpec (hx_cw M :: lw_all) (hx_rm_ d r.2.2.2.1 r.2.2.2.2)) (hx_Pc S D dA ad N as h sz) (fun _ _ _ _ _ => True)
    (fun _ st o t => hx_end S D dA (va_A (hW S ad dA N h) sz) N ad r st o t ∧ hx_fin st t (va_A (hW S ad dA N h) sz) r.2.2.2.1 r.2.2.2.2)
theorem hx_args (ad : Nat → Nat) : ∀ (as : List Value) (i : Nat), lv_args i (as.map (cV ad)) = hL ad (lv_args i as)
  | [], i => rfl
  | v :: as, i => by
    show (i, cV ad v) :: lv_args (if (cV ad v).category = 2 then i + 2 else i + 1) (as.map (cV ad)) = (i, cV ad v) :: hL ad (lv_args (if v.category = 2 then i + 2 else i + 1) as)
    rw [cV_cat, hx_args ad as]
def hx_wd (as : List Value) : Nat := (as.map (fun v => v.category)).sum
theorem hx_sl (ad : Nat → Nat) : ∀ as : List Value, (∀ v ∈ as, v.category = 1 ∨ v.category = 2) → (lg_sl (as.map (cV ad))).length = hx_wd as
  | [], _ => rfl
  | v :: as, h => by
    have ih := hx_sl ad as (fun w hw => h w (List.mem_cons_of_mem _ hw))
    unfold lg_sl at ih ⊢
    rw [List.map_cons, List.flatMap_cons, List.length_append, ih]
    unfold hx_wd
    rw [List.map_cons, List.sum_cons, cV_cat]
    rcases h v List.mem_cons_self with e | e <;> rw [e] <;> rfl
theorem hx_cat (v : Value) : v.category = 1 ∨ v.category = 2 := by cases v <;> first | exact Or.inl rfl | exact Or.inr rfl
theorem hx_K.moved {D : va_G} {dA : Nat → ClassId} {s U : State} (hW : s.WarmedH U.vm) (h : hx_K D dA s) : hx_K D dA U := by
  refine ⟨va_K.moved hW.alike h.1, fun w hw => ?_, fun w hw => ?_, va_Nw.warmC hW h.2.2.2.1, fun x hx => va_Nw.warmD hW (h.2.2.2.2.1 x hx), va_AO.moved hW.alike h.2.2.2.2.2.1, va_AO.moved hW.alike h.2.2.2.2.2.2⟩
  · have h1 := h.2.1 w hw
    obtain ⟨c, hc, hw2⟩ := List.mem_flatMap.mp hw
    obtain ⟨e, he, rfl⟩ := List.mem_map.mp hw2
    exact va_Nw.warmF hW h1
  · have h1 := h.2.2.1 w hw
    have h2 : ∃ a i x b, w = Cond.methodLinkNest a i x b := by
      have h3 : ∀ w ∈ hmnAll, ∃ a i x b, w = Cond.methodLinkNest a i x b := by
        unfold hmnAll
        simp only [List.forall_mem_cons, List.not_mem_nil, false_implies, implies_true, and_true]
        exact ⟨⟨_, _, _, _, rfl⟩, ⟨_, _, _, _, rfl⟩, ⟨_, _, _, _, rfl⟩, ⟨_, _, _, _, rfl⟩, ⟨_, _, _, _, rfl⟩, ⟨_, _, _, _, rfl⟩, ⟨_, _, _, _, rfl⟩, ⟨_, _, _, _, rfl⟩, ⟨_, _, _, _, rfl⟩, ⟨_, _, _, _, rfl⟩, ⟨_, _, _, _, rfl⟩, ⟨_, _, _, _, rfl⟩, ⟨_, _, _, _, rfl⟩, ⟨_, _, _, _, rfl⟩, ⟨_, _, _, _, rfl⟩, ⟨_, _, _, _, rfl⟩, ⟨_, _, _, _, rfl⟩, ⟨_, _, _, _, rfl⟩, ⟨_, _, _, _, rfl⟩⟩
      exact h3 w hw
    obtain ⟨a, i, x, b, rfl⟩ := h2
    exact va_Nw.warmM hW h1
theorem hx_Z1.moved {n d : String} {A : Nat → Prop} {u U : State} {H : Heap} (hvm : u.vm.Alike U.vm) (h : hx_Z1 n d A u H) : hx_Z1 n d A U H := by
  obtain ⟨c, k, i, f, a, cell, v, h1, h2, h3, h4, h5, h6, h7, h8, h9, h10⟩ := h
  obtain ⟨k', hi', he⟩ := State.fieldFound?_setVm hvm h2
  exact ⟨c, k', i, f, a, cell, v, by rw [hvm.findClass]; exact h1, hi', h3, by rw [he]; exact h4, h5, h6, h7, h8, by rw [he]; exact h9, h10⟩
theorem hx_Z1.kept {n d : String} {A : Nat → Prop} {U : State} {H H1 : Heap} (h : hx_Z1 n d A U H) (hq : ∀ a : Nat, a < H.size → ¬ A a → H1[a]? = H[a]?) : hx_Z1 n d A U H1 := by
  obtain ⟨c, k, i, f, a, cell, v, h1, h2, h3, h4, h5, h6, h7, h8, h9, h10, h11, h12⟩ := h
  exact ⟨c, k, i, f, a, cell, v, h1, h2, h3, h4, by rw [hq a (Array.getElem?_eq_some_iff.mp h5).1 h12]; exact h5, h6, h7, h8, h9, h10, h11, h12⟩
theorem hx_Z1.narrow {n d : String} {A B : Nat → Prop} {U : State} {H : Heap} (h : hx_Z1 n d A U H) (hAB : ∀ q, B q → A q) : hx_Z1 n d B U H := by
  obtain ⟨c, k, i, f, a, cell, v, h1, h2, h3, h4, h5, h6, h7, h8, h9, h10, h11, h12⟩ := h
  exact ⟨c, k, i, f, a, cell, v, h1, h2, h3, h4, h5, h6, h7, h8, h9, h10, h11, fun z => h12 (hAB a z)⟩
theorem hx_Z.moved {A : Nat → Prop} {u U : State} {H : Heap} (hvm : u.vm.Alike U.vm) (h : hx_Z A u H) : hx_Z A U H := ⟨h.1.moved hvm, h.2.moved hvm⟩
theorem hx_Z.kept {A : Nat → Prop} {U : State} {H H1 : Heap} (h : hx_Z A U H) (hq : ∀ a : Nat, a < H.size → ¬ A a → H1[a]? = H[a]?) : hx_Z A U H1 := ⟨h.1.kept hq, h.2.kept hq⟩
theorem hx_Z.narrow {A B : Nat → Prop} {U : State} {H : Heap} (h : hx_Z A U H) (hAB : ∀ q, B q → A q) : hx_Z B U H := ⟨h.1.narrow hAB, h.2.narrow hAB⟩
theorem hx_cw_spec {M : hM} {args : Array Value} {s : State} {m : MethodId} (hn : s.methodNamed? M.2.1 = some m) (h : (hx_cw M).before args s = true) : ∃ meth c, s.vm.method? m = some meth ∧ meth.code = some c ∧ c.code = M.2.2.1 ∧ c.maxLocals = M.2.2.2.1 ∧ meth.sig.returnType = M.2.2.2.2.1 ∧ meth.locks = false ∧ c.exceptionTable.toList = tableOf M.2.2.2.2.2.1 ∧ parseMethodDescriptor M.2.1.desc = some meth.sig := by
  unfold hx_cw at h
  split at h
  · rename_i e
    obtain ⟨meth, c, h1, h2, h3, h4, h5, h6, h7, h8⟩ := Cond.code_spec hn h
    refine ⟨meth, c, h1, h2, h3, h4, h5, h6, ?_, h8⟩
    rw [e]
    show c.exceptionTable.toList = []
    simpa using h7
  · rename_i q hh e
    obtain ⟨m', meth, c, h0, h1, h2, h3, h4, h5, h6, h7, h8⟩ := Cond.codeWith_spec h
    cases hn.symm.trans h0
    refine ⟨meth, c, h1, h2, h3, h4, h6, h7, ?_, h8⟩
    rw [e, ← h5, table_eq]
theorem hx_vmnone {D : va_G} {S : hS} {ad : Nat → Nat} {dA : Nat → ClassId} {N : Nat} {h : hH} {H : Heap} (hP : va_P D hcl (hW S ad dA N h) H) {sz q : Nat} {cell : Cell} (hsz : H.size ≤ sz) (hq : va_A (hW S ad dA N h) sz q) (hc : H[q]? = some cell) : cell.vm.isStatics = false := by
  rcases hq with ⟨k, e, hk⟩ | hq
  · have h1 := hP k (q, e) hk
    cases e with
    | inl a =>
      have h2 : H[q]? = some (vp_cell a.1 a.2) := h1
      rw [h2] at hc
      cases hc
      obtain ⟨a1, a2, a3⟩ := a
      unfold vp_cell
      rcases a3 with f | f | f | f | f <;> rfl
    | inr ob =>
      obtain ⟨r, h2, cell', h3, h4⟩ := h1
      have h3 : H[q]? = some cell' := h3
      rw [h3] at hc
      cases hc
      rw [h4.2.1]
      rfl
  · have := (Array.getElem?_eq_some_iff.mp hc).1
    omega
theorem hx_notrace {l : Launch} {e : Env} (hl : l.flags = flags0) (ha : l.admits e) : e.platform.stackTraces = false := by
  rw [ha.platform]
  show l.stackTraces = false
  unfold Launch.stackTraces
  rw [hl]
  decide +kernel
set_option maxHeartbeats 1000000 in
/-- a contract out of the run from the method's entry -/
theorem hx_C.of {l : Launch} (hl : l.flags = flags0) {S : hS} {M : hM} {d N : Nat} {as : List Value} {h : hH} {r : hR} (hy : plainFor M.2.1 = true) (hcls : M.2.1.cls = hRn M.1) (hS0 : S.2.1 0 = 999) (hw : hx_wd as ≤ M.2.2.2.1) (hV : hx_V S M d 0 (lv_args 0 as) [] N h r) : hx_C l S M d N as h r := by
  intro D dA ad sz
  refine MetFree.of_bodySF (code := M.2.2.1) (maxLocals := M.2.2.2.1) (ret := M.2.2.2.2.1) hy ?_ ?_
  · intro args s m hpre hn
    obtain ⟨meth, c, h1, h2, h3, h4, h5, h6, -, -⟩ := hx_cw_spec hn (atoms_spec (ws := hx_cw M :: lw_all) hpre _ List.mem_cons_self)
    exact ⟨meth, c, h1, h2, h3, h4, h5, h6⟩
  · intro p e s m args below meth c s₁ B hml hP _
    obtain ⟨rfl, hsz, hP, hD0, hK, hZ⟩ := hP
    have hts0 := atoms_spec (ws := hx_cw M :: lw_all) B.pre
    have hts : ∀ w ∈ lw_all, w.before _ s = true := fun w hw => hts0 w (List.mem_cons_of_mem _ hw)
    obtain ⟨meth', c', h1, h2, h3, h4, h5, h6, h7, h8⟩ := hx_cw_spec B.named (hts0 _ List.mem_cons_self)
    cases B.method.symm.trans h1
    have X₀ : Stand p l e (headSpec (hx_cw M :: lw_all) (hx_rm_ d r.2.2.2.1 r.2.2.2.2)).room s m _ below meth c s₁ [] 0 0 := Stand.of_body B
    cases X₀.code.symm.trans h2
    have hh0 : s₁.heap = s.heap := by rw [B.state]; rfl
    have hown : s.vm.findClass (hRn M.1) = some m.cls := by rw [← hcls]; exact findClass_of_methodNamed B.named
    subst hsz
    have hlv := lv_entry (as.map (cV ad)) (n := M.2.2.2.1) (by rw [hx_sl ad as (fun v _ => hx_cat v)]; exact hw)
    rw [hx_args] at hlv
    have K := hV p l e (headSpec (hx_cw M :: lw_all) (hx_rm_ d r.2.2.2.1 r.2.2.2.2)).room s m (as.map (cV ad)).toArray below meth c D dA (va_A (hW S ad dA N h) s.heap.size) N ad
      ⟨B.exec, h3, h5, h4, hown, hts, h6, hK, hS0, ⟨Nat.le_refl _, Nat.le_refl _⟩, fun q hq => Or.inr hq, fun q cell hq hc => hx_vmnone hP (Nat.le_refl _) hq hc, (name_of_methodNamed B.named B.method).1, h7, hl, hZ⟩
      ad s.heap [] _ 0 0 ⟨fun _ _ => rfl, fun _ => rfl⟩ (Nat.le_refl _) hlv hP hD0.self va_S.rf (by rw [Nat.zero_add]; exact Nat.le_refl r.2.2.2.1) (by rw [Nat.zero_add]; exact Nat.le_refl r.2.2.2.2)
    have e1 := lg_entry_eq m (as.map (cV ad)) M.2.2.2.1
    obtain ⟨t, a1, oc, b1, b2, b3, b4⟩ := K s₁ hh0 X₀
    refine ⟨t, oc, ?_, b1, b2, b3, b4⟩
    rw [e1]
    exact a1

/-- what is known of a callee: its word, that it is an instance method that its class selects, or a static one; its class initialised -/
def hx_ymV (M : hM) : Prop := hx_cw M ∈ lw_all ∧ Cond.instanceMethod M.2.1 ∈ lw_all ∧ Cond.selects M.2.1.cls M.2.1 M.2.1 ∈ lw_all ∧ Cond.initialized M.2.1.cls ∈ lw_all ∧ (M.2.1.cls = hRn M.1 ∧ M.1 < 12 ∧ M.2.1.cls ≠ "java/lang/invoke/MethodHandle" ∧ M.2.1.cls ≠ "java/lang/invoke/VarHandle")
def hx_ymS (M : hM) : Prop := hx_cw M ∈ lw_all ∧ Cond.static M.2.1 ∈ lw_all ∧ Cond.initialized M.2.1.cls ∈ lw_all ∧ (M.2.1.cls ≠ "java/lang/invoke/MethodHandle" ∧ M.2.1.cls ≠ "java/lang/invoke/VarHandle")
def hx_ymI (M : hM) : Prop := hx_cw M ∈ lw_all ∧ Cond.instanceMethod M.2.1 ∈ lw_all ∧ Cond.initialized M.2.1.cls ∈ lw_all ∧ M.2.1.name = "<init>" ∧ (M.2.1.cls ≠ "java/lang/invoke/MethodHandle" ∧ M.2.1.cls ≠ "java/lang/invoke/VarHandle")
/-- a contract with an answer, in the kit's form (methods without handlers) -/
theorem hx_C.met {l : Launch} {S : hS} {M : hM} {d N : Nat} {as : List Value} {h : hH} {v : Option Value} {N1 : Nat} {h1 : hH} {kc ks : Nat} (hC : hx_C l S M d N as h (some v, N1, h1, kc, ks)) (D : va_G) (dA : Nat → ClassId) (ad : Nat → Nat) (sz : Nat) :
    Met l M.2.1 (hx_cw M :: lw_all) (hx_rm_ d kc ks) (hx_Pc S D dA ad N as h sz) (fun _ st o t => hx_end S D dA (va_A (hW S ad dA N h) sz) N ad (some v, N1, h1, kc, ks) st o t) kc ks (va_A (hW S ad dA N h) sz) := by
  intro p e ha hc hk s m args below hf happ hP hK
  obtain ⟨n, oc, h1, h2, h3, h4, L, h5, h6, h7⟩ := hC D dA ad sz p e ha hc hk s m args below hf happ hP hK
  obtain ⟨⟨ad', -, -, -, ho⟩, -⟩ := id h4
  exact ⟨n, oc, h1, h2, h3, h4, L, ⟨⟨_, ho⟩, h5, h6⟩, h7⟩
theorem hx_blind {S : hS} {D : va_G} {dA : Nat → ClassId} {ad : Nat → Nat} {N : Nat} {as : List Value} {h : hH} {sz : Nat} : FrameBlind (hx_Pc S D dA ad N as h sz) := by
  intro a U g mk q
  obtain ⟨q0, q1, qP, qD, qK, qZ⟩ := q
  have hW : U.WarmedH (U.calling g mk a).vm := State.WarmedH.refl U
  exact ⟨q0, q1, qP, qD, hx_K.moved hW qK, hx_Z.moved (Vm.Alike.refl U.vm) qZ⟩
section CL
variable {S : hS} {M : hM} {d pc N : Nat} {L : List (Nat × Value)} {h : hH} {r : hR}
/-- behind a call that comes back -/
theorem hx_after {p : Program} {l : Launch} {e : Env} {R : Room} {s : State} {m : MethodId} {args : Array Value} {below : List Frame} {meth : Method} {c : Code} {D : va_G} {dA : Nat → ClassId} {A : Nat → Prop} {N0 N1 : Nat} {ad0 ad : Nat → Nat} (cx : hx_Cx S M d D dA A p l e R s m args meth c) {H : Heap} {locs : List Loc} {ls : Array Slot} {cells slots : Nat} (hz0 : hx_ad N0 ad0 N ad) (hN : N0 ≤ N)
    (hl : ∀ ad' : Nat → Nat, hx_ad N ad N1 ad' → lv_has ls M.2.2.2.1 (hL ad' L)) (hP : va_P D hcl (hW S ad dA N h) H) (hD : va_D A (hW S ad dA N h)) (hS : va_S A s.heap H locs) {v : Option Value} {h1 : hH} {kc ks : Nat} (hN1 : N ≤ N1) {rest : List Value} (hrest : ∀ ad' : Nat → Nat, hx_ad N ad N1 ad' → rest.map (cV ad') = rest.map (cV ad)) {st0 : List Value}
    (hr : va_Run p l e R s m args below meth c H locs cells slots kc ks (F0 m pc ls st0) (rest.map (cV ad)) (fun st o t => hx_end S D dA (va_A (hW S ad dA N h) H.size) N ad (some v, N1, h1, kc, ks) st o t) (va_A (hW S ad dA N h) H.size))
    (hc1 : cells + (kc + r.2.2.2.1) ≤ R.cells) (hc2 : slots + (ks + r.2.2.2.2) ≤ R.slots)
    (k : hx_V S M d (pc + 3) L (v.toList ++ rest) N1 h1 r) : W p l e R s m args below meth c H locs cells slots (hx_Q below S D dA A N0 ad0 r s R.cells R.slots) (F0 m pc ls st0) := by
  intro T hT X
  obtain ⟨v1, st₀, t, T', Lx, h0, X', hLx, e1, e2, ⟨⟨ad', hz', hP', hD', hv⟩, hz, hk⟩, st⟩ := hr T hT X
  have hz' : hx_ad N ad N1 ad' := hz'
  injection hv with hv
  subst hv
  have hA := cx.2.2.2.2.2.2.2.2.2.2.1
  have hfree : ∀ q, va_A (hW S ad dA N h) H.size q → A q := fun q hq => by
    rcases hq with ⟨kq, e, hq⟩ | hq
    · exact hD.2 kq (q, e) hq
    · exact hA q (Nat.le_trans hS.1 hq)
  rw [h0] at hz hk
  have hS' : va_S A s.heap T'.heap (locs ++ Lx) := by
    refine ⟨Nat.le_trans hS.1 (by rw [e1]; exact hz), fun q h1 h2 => ?_, fun q hq => ?_⟩
    · rw [e1, hk q (Nat.lt_of_lt_of_le h1 hS.1) (fun z => h2 (hfree q z))]
      exact hS.2.1 q h1 h2
    · rcases List.mem_append.mp hq with h | h
      · exact hS.2.2 q h
      · exact hfree _ (hLx q h)
  have hKK := k p l e R s m args below meth c D dA A N0 ad0 cx ad' T'.heap (locs ++ Lx) ls (cells + kc) (slots + ks) ⟨fun z q => by rw [hz'.1 z (Nat.le_trans q hN)]; exact hz0.1 z q, fun q => (hz'.2 (by omega)).trans (hz0.2 (by omega))⟩ (Nat.le_trans hN hN1) (hl ad' hz') (by rw [e1]; exact hP') (hD'.weaken (fun _ q _ hq => hfree q.1 hq)) hS' (by rw [Nat.add_assoc]; exact hc1) (by rw [Nat.add_assoc]; exact hc2)
  obtain ⟨t2, a1, b1⟩ := hKK T' rfl X'
  refine ⟨t2, st t2 ?_, b1⟩
  have e3 : (v.toList ++ rest).map (cV ad') = (v.map (cV ad')).toList ++ rest.map (cV ad) := by
    rw [List.map_append, hrest ad' hz']
    cases v <;> rfl
  rw [e3] at a1
  exact a1
/-- values that name ids up to N alone are read alike behind -/
def hx_le (N : Nat) (v : Value) : Prop := match v with
  | .ref z => z ≤ N
  | _ => True
theorem hx_le_cV {ad ad' : Nat → Nat} {N : Nat} (h : ∀ z, z ≤ N → ad' z = ad z) {v : Value} (hv : hx_le N v) : cV ad' v = cV ad v := by
  cases v <;> try rfl
  show cR ad' _ = cR ad _
  unfold cR
  rw [h _ hv]
theorem hx_le_map {ad ad' : Nat → Nat} {N : Nat} (h : ∀ z, z ≤ N → ad' z = ad z) {st : List Value} (hs : ∀ v ∈ st, hx_le N v) : st.map (cV ad') = st.map (cV ad) := List.map_congr_left fun v hv => hx_le_cV h (hs v hv)
theorem hx_le_L {ad ad' : Nat → Nat} {N : Nat} (h : ∀ z, z ≤ N → ad' z = ad z) {L : List (Nat × Value)} (hs : ∀ q ∈ L, hx_le N q.2) : hL ad' L = hL ad L := List.map_congr_left fun q hq => by rw [hx_le_cV h (hs q hq)]
/-- the callee's start at the call -/
theorem hx_start {p : Program} {l : Launch} {e : Env} {R : Room} {s : State} {m : MethodId} {args : Array Value} {meth : Method} {c : Code} {D : va_G} {dA : Nat → ClassId} {A : Nat → Prop} {ad : Nat → Nat} (cx : hx_Cx S M d D dA A p l e R s m args meth c) {H : Heap} {locs : List Loc} (hP : va_P D hcl (hW S ad dA N h) H) (hD : va_D A (hW S ad dA N h)) (hS : va_S A s.heap H locs) (as : List Value) :
    ∀ U : State, U.heap = H → s.WarmedH U.vm → hx_Pc S D dA ad N as h H.size ((as.map (cV ad)).toArray) U := by
  intro U hU hWm
  have hA := cx.2.2.2.2.2.2.2.2.2.2.1
  have hZ := cx.2.2.2.2.2.2.2.2.2.2.2.2.2.2.2
  have hfree : ∀ q, va_A (hW S ad dA N h) H.size q → A q := fun q hq => by
    rcases hq with ⟨kq, e, hq⟩ | hq
    · exact hD.2 kq (q, e) hq
    · exact hA q (Nat.le_trans hS.1 hq)
  refine ⟨rfl, by rw [hU], by rw [hU]; exact hP, hD.weaken (fun _ _ _ _ => trivial), hx_K.moved hWm cx.2.2.2.2.2.2.2.1, ?_⟩
  rw [hU]
  exact hx_Z.moved hWm.alike ((hx_Z.kept hZ (fun a h1 h2 => hS.2.1 a h1 h2)).narrow hfree)
theorem hx_cw_code {M2 : hM} (h : M2.2.2.2.2.2.1 = []) : hx_cw M2 = .code M2.2.1 M2.2.2.1 M2.2.2.2.1 M2.2.2.2.2.1 := by unfold hx_cw; rw [h]
theorem hx_good {M2 : hM} (h : hx_cw M2 ∈ lw_all) : GoodIn lw_all (hx_cw M2 :: lw_all) := by
  intro w hw
  rcases List.mem_cons.mp hw with e | e
  · rw [e]; exact lw_self _ h
  · exact lw_self _ e
theorem hv_cV (hm : hx_mok M = true) (i : Nat) {idx : Nat} (hi : M.2.2.2.2.2.2.2[i]? = some (pc, .invokevirtual idx, 3)) {M2 : hM} (hlk : Cond.methodLink (hRn M.1) idx M2.2.1 ∈ lw_all) (hy : hx_ymV M2) (hh : M2.2.2.2.2.2.1 = []) {d2 : Nat} (hd : d2 + 1 ≤ d) (hmx : M2.2.2.2.1 ≤ 45) {as rest st : List Value} {z : Nat} (hta : S.2.1 z = M2.1) (hzN : z ≤ N) (hst : st = as.reverse ++ .ref z :: rest) (hn : (parseMethodDescriptor M2.2.1.desc).map (fun q => q.parameters.length) = some as.length) {v : Option Value} {N1 : Nat} {h1 : hH} {kc ks : Nat} (hN1 : N ≤ N1)
    (hC : ∀ l : Launch, l.flags = flags0 → hx_C l S M2 d2 N (.ref z :: as) h (some v, N1, h1, kc, ks)) (hw : (rest.map (fun v => v.category)).sum ≤ 8) (hr1 : N1 = N ∨ ((∀ v ∈ rest, hx_le N v) ∧ ∀ q ∈ L, hx_le N q.2)) {r' : hR} (hr : r = (r'.1, r'.2.1, r'.2.2.1, kc + r'.2.2.2.1, ks + r'.2.2.2.2))
    (k : hx_V S M d (pc + 3) L (v.toList ++ rest) N1 h1 r') : hx_V S M d pc L st N h r := by
  intro p l e R s m args below meth c D dA A N0 ad0 cx ad H locs ls cells slots hz hN hl hP hD hS hc1 hc2
  obtain ⟨hcw, hin, hsel, hini, hcls, hlt, hmh, hvh⟩ := hy
  have hz0 : z ≠ 0 := fun q => by
    rw [q, cx.2.2.2.2.2.2.2.2.1] at hta
    omega
  have hMet := (hC l cx.2.2.2.2.2.2.2.2.2.2.2.2.2.2.1).met D dA ad H.size
  have e1 := hx_cw_code hh
  rw [e1] at hMet hcw
  have hts := cx.2.2.2.2.2.1
  have hroom := cx.2.2.2.2.2.2.2.2.2.1
  have e2 : (Value.ref z :: as).map (cV ad) = Value.ref (ad z) :: as.map (cV ad) := by
    rw [List.map_cons]
    exact congrArg (fun q => q :: as.map (cV ad)) (cR_pos hz0)
  have hK := cx.2.2.2.2.2.2.2.1
  have hstart := hx_start cx hP hD hS (.ref z :: as)
  rw [e2] at hstart
  subst hst
  subst hr
  have hcl2 : hcl[M2.1]? = some (M2.2.1.cls, hTT M2.1, hnf M2.1) := by rw [hcls]; exact hcl_at M2.1 hlt
  refine hx_after (r := r') cx hz hN ?_ hP hD hS hN1 ?_ (va_runV (b := ad z) (As := as.map (cV ad)) ⟨cx.1, cx.2.1, cx.2.2.2.1, cx.2.2.2.2.1, hts⟩ hMet (cwV as.length hts (lw_V hlk hin hsel hini hcw) rfl rfl rfl ⟨rfl, hmh, hvh, hn⟩ ⟨Nat.le_trans hd hroom.1, ?_⟩) ⟨hx_blind, va_recv hK.1 hP hcl2 (hW_obj hz0 hzN hta (by omega)), hstart⟩ rfl (List.length_map _) hl.1 ?_ (lv_room ?_) (hx_ct hm i hi) ⟨?_, ?_⟩) hc1 hc2 k
  · intro ad' h'
    rcases hr1 with e | e
    · rw [h'.2 e]; exact hl
    · rw [hx_le_L h'.1 e.2]; exact hl
  · intro ad' h'
    rcases hr1 with e | e
    · rw [h'.2 e]
    · exact hx_le_map h'.1 e.1
  · show 8 + (M2.2.2.2.1 + 11) + 64 * d2 ≤ R.locals
    have := hroom.2
    omega
  · show (as.reverse ++ .ref z :: rest).map (cV ad) = (as.map (cV ad)).reverse ++ .ref (ad z) :: rest.map (cV ad)
    rw [List.map_append, List.map_reverse, List.map_cons]
    exact congrArg (fun q => (as.map (cV ad)).reverse ++ q :: rest.map (cV ad)) (cR_pos hz0)
  · rw [List.map_map]
    have e3 : ((fun v => v.category) ∘ cV ad) = (fun v => v.category) := funext fun v => cV_cat ad v
    rw [e3]
    exact hw
  · have := hc1
    dsimp only at this
    omega
  · have := hc2
    dsimp only at this
    omega
end CL

