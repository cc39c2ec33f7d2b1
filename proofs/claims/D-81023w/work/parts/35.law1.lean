/-! LAYER 2g: the law: rows over the machine with its script -/
section WL
variable {S : hS} {M : hM} {d pc N : Nat} {h : hH}
set_option maxHeartbeats 2000000 in
/-- a virtual call that comes back, over any end -/
theorem hx_wcV {p : Program} {l : Launch} {e : Env} {R : Room} {s : State} {m : MethodId} {args : Array Value} {below : List Frame} {meth : Method} {c : Code} {D : va_G} {dA : Nat → ClassId} {A : Nat → Prop} (cx : hx_Cx S M d D dA A p l e R s m args meth c) {ad : Nat → Nat} {H : Heap} {locs : List Loc} {ls : Array Slot} {cells slots : Nat} (hls : ls.size = M.2.2.2.1) (hP : va_P D hcl (hW S ad dA N h) H) (hD : va_D A (hW S ad dA N h)) (hS : va_S A s.heap H locs)
    (hm : hx_mok M = true) (i : Nat) {idx : Nat} (hi : M.2.2.2.2.2.2.2[i]? = some (pc, .invokevirtual idx, 3)) {M2 : hM} (hlk : Cond.methodLink (hRn M.1) idx M2.2.1 ∈ lw_all) (hy : hx_ymV M2) {d2 : Nat} (hd : d2 + 1 ≤ d) (hmx : M2.2.2.2.1 ≤ 45) {as rest : List Value} {z : Nat} (hta : S.2.1 z = M2.1) (hzN : z ≤ N) (hn : (parseMethodDescriptor M2.2.1.desc).map (fun q => q.parameters.length) = some as.length) {v : Option Value} {h1 : hH} {kc ks : Nat}
    (hC : ∀ l : Launch, l.flags = flags0 → hx_C l S M2 d2 N (.ref z :: as) h (some v, N, h1, kc, ks)) (hw : (rest.map (fun v => v.category)).sum ≤ 8) (hc1 : cells + kc ≤ R.cells) (hc2 : slots + ks ≤ R.slots) {Q : State → Prop}
    (k : ∀ (H1 : Heap) (locs1 : List Loc), va_P D hcl (hW S ad dA N h1) H1 → va_D A (hW S ad dA N h1) → va_S A s.heap H1 locs1 → W p l e R s m args below meth c H1 locs1 (cells + kc) (slots + ks) Q (F0 m (pc + 3) ls ((v.toList ++ rest).map (cV ad)))) : W p l e R s m args below meth c H locs cells slots Q (F0 m pc ls ((as.reverse ++ .ref z :: rest).map (cV ad))) := by
  intro T hT X
  obtain ⟨hx, hb, hr, hml, hown, hts, hlkk, hK, ht0, hroom, hA, hst, hnm, htab, hfl, hZ⟩ := id cx
  obtain ⟨hcw, hin, hsel, hini, hcls, hlt, hmh, hvh⟩ := hy
  have hz0 : z ≠ 0 := fun q => by rw [q, ht0] at hta; omega
  have hcl2 : hcl[M2.1]? = some (M2.2.1.cls, hTT M2.1, hnf M2.1) := by rw [hcls]; exact hcl_at M2.1 hlt
  obtain ⟨cellB, hcB, hoB, hclB⟩ := va_recv (H := H) hK.1 hP hcl2 (hW_obj hz0 hzN hta (by omega))
  obtain ⟨mk, methM, hnamed, hmethM, hstM, habM⟩ := Cond.instanceMethod_spec (hts _ hin)
  obtain ⟨methM', cM, hmethM', hcodeM, hcM, hmlM, hretM, hlkM, htabM, hsigM⟩ := hx_cw_spec hnamed (hts _ hcw)
  cases hmethM.symm.trans hmethM'
  obtain ⟨c2, r2, m2, q1, q2, q3, q4, kP, hkP, hkPi⟩ := Cond.selects_spec (hts _ hsel)
  cases hclB.symm.trans q1
  cases (State.methodFound?_of_named hnamed ⟨hmh, hvh⟩).symm.trans q2
  cases hnamed.symm.trans q3
  have hselP : selectMethod e.platform s.vm cellB.cls mk = .method mk := by rw [Launch.admits_selectMethod X.admits]; exact q4
  have hlen : (as.map (cV ad)).length = methM.sig.parameters.length := by
    rw [hsigM] at hn
    rw [List.length_map]
    exact (Option.some.inj hn).symm
  have hstack : (F0 m pc ls ((as.reverse ++ .ref z :: rest).map (cV ad))).stack = (as.map (cV ad)).reverse ++ .ref (ad z) :: rest.map (cV ad) := by
    show (as.reverse ++ .ref z :: rest).map (cV ad) = _
    rw [List.map_append, List.map_reverse, List.map_cons]
    exact congrArg (fun q => (as.map (cV ad)).reverse ++ q :: rest.map (cV ad)) (cR_pos hz0)
  have hdg : decode c.code pc = .ok (.invokevirtual idx, 3) := by rw [hb]; exact hx_ct hm i hi
  obtain ⟨vm₁, X₁, hstep₁⟩ := X.invokevirtual hx hown (hts _ hlk) hnamed hmethM hstM hkP hkPi ⟨hmh, hvh⟩ (a := ad z) (cell := cellB) (by rw [hT]; exact hcB)
    (fun z h => by rw [h] at hoB; cases hoB) hselP hmethM habM hkP hkPi (g := F0 m pc ls ((as.reverse ++ .ref z :: rest).map (cV ad))) rfl (argsL := as.map (cV ad)) (rest := rest.map (cV ad)) hlen hstack hdg
  have hMet := hC l hfl D dA ad H.size
  have hWU : s.WarmedH (T.setVm vm₁).vm := X₁.warmed
  have hnU : (T.setVm vm₁).methodNamed? M2.2.1 = some mk := X₁.named hnamed
  obtain ⟨kY, hkY, -⟩ := className_of_methodNamed hnU
  have hinitY : kY.init = .initialized := Cond.initialized_spec (args := args) (findClass_of_methodNamed hnU) hkY (word_at hWU (lw_self _ hini).2 (hts _ hini))
  have hmU : (T.setVm vm₁).vm.method? mk = some methM := by rw [hWU.alike.method?]; exact hmethM
  have hpre : (headSpec (hx_cw M2 :: lw_all) (hx_rm_ d2 kc ks)).pre.before (Value.ref (ad z) :: as.map (cV ad)).toArray (T.setVm vm₁) = true := by
    refine atoms_intro fun w hw => ?_
    have hg := hx_good hcw w hw
    exact word_at hWU hg.2 (hts _ hg.1)
  have hrs : (rest.map (cV ad)).map (fun v => v.category) = rest.map (fun v => v.category) := by
    rw [List.map_map]
    exact List.map_congr_left fun v _ => cV_cat ad v
  have happ := Spec.appliesLoose_calling (g := F0 m pc ls (rest.map (cV ad))) (S := headSpec (hx_cw M2 :: lw_all) (hx_rm_ d2 kc ks)) (e := e) X₁.here hdg hnU hkY hinitY
    (X₁.room_calling (g := F0 m pc ls (rest.map (cV ad))) (R' := hx_rm_ d2 kc ks) (args' := (Value.ref (ad z) :: as.map (cV ad)).toArray) (by rw [hml]; exact hls) hmU hcodeM (Nat.le_trans hd hroom.1) (by
      show 2 * 0 + (((rest.map (cV ad)).map fun v => v.category)).sum + (cM.maxLocals + 11) + 64 * d2 ≤ R.locals
      rw [hrs, hmlM]
      have := hroom.2
      omega) hc1 hc2) hpre
  obtain ⟨mid, hmid⟩ := X₁.here.above
  have hfr : ((T.setVm vm₁).setTop (F0 m pc ls (rest.map (cV ad)))).frames = (.java (F0 m pc ls (rest.map (cV ad))) :: mid) ++ below := by rw [State.frames_setTop' _ X₁.here.top, hmid]; rfl
  have e2 : (Value.ref z :: as).map (cV ad) = Value.ref (ad z) :: as.map (cV ad) := by
    rw [List.map_cons]
    exact congrArg (fun q => q :: as.map (cV ad)) (cR_pos hz0)
  have hstart := hx_start cx hP hD hS (.ref z :: as)
  rw [e2] at hstart
  obtain ⟨o, s₂, hsteps, hrun, hend, hq⟩ := Steps.callFree hMet p X.admits X.cas X.clock (acts := []) hfr happ (hx_blind _ _ (F0 m pc ls (rest.map (cV ad))) mk (hstart (T.setVm vm₁) hT hWU)) trivial
  obtain ⟨⟨⟨ad', hz', hP', hD', ho⟩, hF⟩, Lx, hW2, hsame, hLx⟩ := hq
  have ho : o = .returned (v.map (cV ad')) := ho
  subst ho
  have had : ad' = ad := hz'.2 rfl
  subst had
  rw [State.frames_setTop' _ X₁.here.top, X₁.tail] at hend
  obtain ⟨T', X', hWT, hsameT, ht⟩ := X₁.outOf (g := F0 m pc ls (rest.map (cV ad'))) rfl hdg hend hW2 hsame
  have hh : s₂.heap = T'.heap := by rw [ht]; simp [State.setTop, State.modifyTopJava, State.setFrames]
  have hfree : ∀ q, va_A (hW S ad' dA N h) H.size q → A q := fun q hq => by
    rcases hq with ⟨kq, e, hq⟩ | hq
    · exact hD.2 kq (q, e) hq
    · exact hA q (Nat.le_trans hS.1 hq)
  obtain ⟨hzz1, hk⟩ := hF
  have h0 : (((T.setVm vm₁).setTop (F0 m pc ls (rest.map (cV ad')))).pushFrame (.invoking mk (Value.ref (ad' z) :: as.map (cV ad')).toArray)).heap = H := hT
  rw [h0, hh] at hzz1
  rw [h0, hh] at hk
  rw [hh] at hP'
  have hS' : va_S A s.heap T'.heap (locs ++ Lx) := by
    refine ⟨Nat.le_trans hS.1 hzz1, fun q h1 h2 => ?_, fun q hq => ?_⟩
    · rw [hk q (Nat.lt_of_lt_of_le h1 hS.1) (fun z => h2 (hfree q z))]
      exact hS.2.1 q h1 h2
    · rcases List.mem_append.mp hq with h | h
      · exact hS.2.2 q h
      · exact hfree _ (hLx q h)
  obtain ⟨t2, a1, b1⟩ := k T'.heap (locs ++ Lx) hP' (hD'.weaken (fun _ q _ hq => hfree q.1 hq)) hS' T' rfl X'
  refine ⟨t2, hstep₁ _ fun acts => ?_, b1⟩
  rw [doInvoke_state]
  rw [ht, doInvoke_state] at hsteps
  refine hsteps.trans ?_
  have e3 : (v.toList ++ rest).map (cV ad') = (v.map (cV ad')).toList ++ rest.map (cV ad') := by
    rw [List.map_append]
    cases v <;> rfl
  rw [e3] at a1
  exact a1
end WL
def lawA (s : State) : Nat → Prop := fun q => s.heap.size ≤ q
def hx_GC (S : hS) (M : hM) (p : Program) (l : Launch) (e : Env) (s : State) (m : MethodId) (meth : Method) (c : Code) (b Ls : Nat) (xs : Nat → Int32) (D : va_G) (dA : Nat → ClassId) : Prop := hx_Cx S M 40 D dA (lawA s) p l e room_1 s m #[Value.ref b] meth c ∧ va_X b Ls xs s s.heap ∧ b < s.heap.size
/-- the law from a place on: it comes to its end with true; kc cells and ks slots are still made at most -/
def hx_G (S : hS) (M : hM) (Ls : Nat) (xs : Nat → Int32) (pc : Nat) (L : List (Nat × Value)) (st : List Value) (N : Nat) (h : hH) (kc ks : Nat) : Prop :=
  ∀ (p : Program) (l : Launch) (e : Env) (s : State) (m : MethodId) (below : List Frame) (meth : Method) (c : Code) (b : Nat) (D : va_G) (dA : Nat → ClassId), hx_GC S M p l e s m meth c b Ls xs D dA → ∀ (ad : Nat → Nat) (H : Heap) (locs : List Loc) (ls : Array Slot) (cells slots : Nat), ad 252 = b → lv_has ls M.2.2.2.1 (hL ad L) → va_P D hcl (hW S ad dA N h) H → va_D (lawA s) (hW S ad dA N h) → va_S (lawA s) s.heap H locs → cells + kc ≤ 608192 → slots + ks ≤ 7228521 →
    W p l e room_1 s m #[Value.ref b] below meth c H locs cells slots (lw_Z below #[Value.ref b] s) (F0 m pc ls (st.map (cV ad)))
section GG
variable {S : hS} {M : hM} {Ls pc N kc ks : Nat} {xs : Nat → Int32} {L : List (Nat × Value)} {st : List Value} {h : hH}
theorem hg_b (hm : hx_mok M = true) (i : Nat) {B : List hI} (hB : M.2.2.2.2.2.2.1[i]? = some (pc, B)) {L' : List (Nat × Value)} {st' : List Value} {h' : hH} {C : Option Prop} (ev : hx_ev S N B L st h none = some (L', st', h', C)) (hC : hx_hold C) {pc' : Nat} (hpc : pc + hx_sz B = pc') (k : hx_G S M Ls xs pc' L' st' N h' kc ks) : hx_G S M Ls xs pc L st N h kc ks := by
  intro p l e s m below meth c b D dA cx ad H locs ls cells slots hab hl hP hD hS hc1 hc2
  have hm0 := hm
  simp only [hx_mok, Bool.and_eq_true] at hm0
  have hsg := List.all_eq_true.mp hm0.1 _ (List.mem_of_getElem? hB)
  obtain ⟨hx, hb, hr, hml, hown, hts, hlk, hK, ht0, hd, hA, hst, hnm⟩ := id cx.1
  refine hx_evs hx hb hown hts hK ht0 ev hC hsg hl hP hD hS (fun ls1 H1 locs1 q1 q2 q3 q4 => ?_)
  rw [hpc]
  exact k p l e s m below meth c b D dA cx ad H1 locs1 ls1 cells slots hab q1 q2 q3 q4 hc1 hc2
theorem hg_sld (hm : hx_mok M = true) (i : Nat) (hi : M.2.2.2.2.2.2.2[i]? = some (pc, .iaload, 1)) {j : Int32} (hj : vp_in j Ls) (k : hx_G S M Ls xs (pc + 1) L (.int (xs j.toNatClampNeg) :: st) N h kc ks) : hx_G S M Ls xs pc L (.int j :: .ref 252 :: st) N h kc ks := by
  intro p l e s m below meth c b D dA cx ad H locs ls cells slots hab hl hP hD hS hc1 hc2
  rw [List.map_cons, List.map_cons, show cV ad (.ref 252) = .ref b from by show cR ad 252 = _; rw [cR_pos (by decide), hab]]
  exact va_sld cx.1.1 cx.1.2.1 cx.2.1 cx.2.2 (fun q => by have := cx.2.2; unfold lawA at q; omega) hS hj (hx_ct hm i hi) (k p l e s m below meth c b D dA cx ad H locs ls cells slots hab hl hP hD hS hc1 hc2)
theorem hg_slen (hm : hx_mok M = true) (i : Nat) (hi : M.2.2.2.2.2.2.2[i]? = some (pc, .arraylength, 1)) (k : hx_G S M Ls xs (pc + 1) L (.int (Int32.ofNat Ls) :: st) N h kc ks) : hx_G S M Ls xs pc L (.ref 252 :: st) N h kc ks := by
  intro p l e s m below meth c b D dA cx ad H locs ls cells slots hab hl hP hD hS hc1 hc2
  rw [List.map_cons, show cV ad (.ref 252) = .ref b from by show cR ad 252 = _; rw [cR_pos (by decide), hab]]
  exact va_slen cx.1.1 cx.1.2.1 cx.2.1 cx.2.2 (fun q => by have := cx.2.2; unfold lawA at q; omega) hS (hx_ct hm i hi) (k p l e s m below meth c b D dA cx ad H locs ls cells slots hab hl hP hD hS hc1 hc2)
theorem hg_ldc2 (hm : hx_mok M = true) (i : Nat) {ix : Nat} (hi : M.2.2.2.2.2.2.2[i]? = some (pc, .ldc2_w ix, 3)) {v : Int64} (hv : Cond.constantLong (hRn M.1) ix v ∈ lw_all) (k : hx_G S M Ls xs (pc + 3) L (.long v :: st) N h kc ks) : hx_G S M Ls xs pc L st N h kc ks := by
  intro p l e s m below meth c b D dA cx ad H locs ls cells slots hab hl hP hD hS hc1 hc2
  exact lv_ldc2 cx.1.1 cx.1.2.1 cx.1.2.2.2.2.1 (cx.1.2.2.2.2.2.1 _ hv) (hx_ct hm i hi) (k p l e s m below meth c b D dA cx ad H locs ls cells slots hab hl hP hD hS hc1 hc2)
theorem hg_gt (hm : hx_mok M = true) (i : Nat) {off : Int} (hi : M.2.2.2.2.2.2.2[i]? = some (pc, .if_icmp .gt off, 3)) {tgt : Nat} (ht : (pc : Int) + off = (tgt : Int)) {x y : Int32} (kt : y < x → hx_G S M Ls xs tgt L st N h kc ks) (kf : ¬ y < x → hx_G S M Ls xs (pc + 3) L st N h kc ks) : hx_G S M Ls xs pc L (.int y :: .int x :: st) N h kc ks := by
  intro p l e s m below meth c b D dA cx ad H locs ls cells slots hab hl hP hD hS hc1 hc2
  exact lv_icmp_gt cx.1.1 cx.1.2.1 (hx_ct hm i hi) ht (fun q => kt q p l e s m below meth c b D dA cx ad H locs ls cells slots hab hl hP hD hS hc1 hc2) (fun q => kf q p l e s m below meth c b D dA cx ad H locs ls cells slots hab hl hP hD hS hc1 hc2)
/-- two answers that are the same -/
theorem hg_eq (hm : hx_mok M = true) (i : Nat) {off : Int} (hi : M.2.2.2.2.2.2.2[i]? = some (pc, .if_icmp .eq off, 3)) {tgt : Nat} (ht : (pc : Int) + off = (tgt : Int)) {x : Int32} (kt : hx_G S M Ls xs tgt L st N h kc ks) : hx_G S M Ls xs pc L (.int x :: .int x :: st) N h kc ks := by
  intro p l e s m below meth c b D dA cx ad H locs ls cells slots hab hl hP hD hS hc1 hc2
  exact lv_icmp_eq cx.1.1 cx.1.2.1 (hx_ct hm i hi) ht (fun q => kt p l e s m below meth c b D dA cx ad H locs ls cells slots hab hl hP hD hS hc1 hc2) (fun q => absurd rfl q)
theorem hg_eq0 (hm : hx_mok M = true) (i : Nat) {off : Int} (hi : M.2.2.2.2.2.2.2[i]? = some (pc, .ifCond .eq off, 3)) {tgt : Nat} (ht : (pc : Int) + off = (tgt : Int)) {x : Int64} (kt : hx_G S M Ls xs tgt L st N h kc ks) : hx_G S M Ls xs pc L (.int (lg_cmp x x) :: st) N h kc ks := by
  intro p l e s m below meth c b D dA cx ad H locs ls cells slots hab hl hP hD hS hc1 hc2
  exact lv_if_eq cx.1.1 cx.1.2.1 (hx_ct hm i hi) ht (fun q => kt p l e s m below meth c b D dA cx ad H locs ls cells slots hab hl hP hD hS hc1 hc2) (fun q => absurd ((lg_cmp_eq x x).mpr rfl) q)
theorem hg_goto (hm : hx_mok M = true) (i : Nat) {off : Int} (hi : M.2.2.2.2.2.2.2[i]? = some (pc, .goto off, 3)) {tgt : Nat} (ht : (pc : Int) + off = (tgt : Int)) (k : hx_G S M Ls xs tgt L st N h kc ks) : hx_G S M Ls xs pc L st N h kc ks := by
  intro p l e s m below meth c b D dA cx ad H locs ls cells slots hab hl hP hD hS hc1 hc2
  exact lv_goto cx.1.1 cx.1.2.1 (hx_ct hm i hi) ht (k p l e s m below meth c b D dA cx ad H locs ls cells slots hab hl hP hD hS hc1 hc2)
theorem hg_tin (hm : hx_mok M = true) (i : Nat) {dflt lo hi : Int} {offs : Array Int} {len : Nat} (hi0 : M.2.2.2.2.2.2.2[i]? = some (pc, .tableswitch dflt lo hi offs, len)) {x : Int32} (k : Nat) {off : Int} {tgt : Nat} (hx : x.toInt = lo + k) (hh : ¬ hi < lo + k) (ho : offs[k]? = some off) (ht : (pc : Int) + off = (tgt : Int)) (kk : hx_G S M Ls xs tgt L st N h kc ks) : hx_G S M Ls xs pc L (.int x :: st) N h kc ks := by
  intro p l e s m below meth c b D dA cx ad H locs ls cells slots hab hl hP hD hS hc1 hc2
  exact lv_tableIn cx.1.1 cx.1.2.1 (hx_ct hm i hi0) (by omega) (by rw [hx]; exact hh) (by rw [hx, show (lo + (k : Int) - lo).toNat = k by omega]; exact ho) ht (kk p l e s m below meth c b D dA cx ad H locs ls cells slots hab hl hP hD hS hc1 hc2)
theorem hg_tout (hm : hx_mok M = true) (i : Nat) {dflt lo hi : Int} {offs : Array Int} {len : Nat} (hi0 : M.2.2.2.2.2.2.2[i]? = some (pc, .tableswitch dflt lo hi offs, len)) {x : Int32} {tgt : Nat} (hx : x.toInt < lo ∨ hi < x.toInt) (ht : (pc : Int) + dflt = (tgt : Int)) (kk : hx_G S M Ls xs tgt L st N h kc ks) : hx_G S M Ls xs pc L (.int x :: st) N h kc ks := by
  intro p l e s m below meth c b D dA cx ad H locs ls cells slots hab hl hP hD hS hc1 hc2
  exact lv_tableOut cx.1.1 cx.1.2.1 (hx_ct hm i hi0) hx ht (kk p l e s m below meth c b D dA cx ad H locs ls cells slots hab hl hP hD hS hc1 hc2)
theorem hg_ret (hm : hx_mok M = true) (i : Nat) (hi : M.2.2.2.2.2.2.2[i]? = some (pc, .ireturn, 1)) (hMc : M.2.2.1 = code) (hMr : M.2.2.2.2.1 = ret) : hx_G S M Ls xs pc L [.int 1] N h kc ks := by
  intro p l e s m below meth c b D dA cx ad H locs ls cells slots hab hl hP hD hS hc1 hc2
  have hdg := hx_ct hm i hi
  rw [hMc] at hdg
  exact va_forget hS.2.2 (W.widen (by omega) (by omega) (lw_ret cx.1.1 (cx.1.2.1.trans hMc) (cx.1.2.2.1.trans hMr) cx.1.2.2.2.2.2.2.1 hdg))
theorem hg_cV (hm : hx_mok M = true) (i : Nat) {idx : Nat} (hi : M.2.2.2.2.2.2.2[i]? = some (pc, .invokevirtual idx, 3)) {M2 : hM} (hlk : Cond.methodLink (hRn M.1) idx M2.2.1 ∈ lw_all) (hy : hx_okW M2) {d2 : Nat} (hd : d2 + 1 ≤ 40) {as rest : List Value} {z : Nat} (hz : S.2.1 z = M2.1 ∧ z ≤ N) (hn : (parseMethodDescriptor M2.2.1.desc).map (fun q => q.parameters.length) = some as.length) (hS0 : S.2.1 0 = 999) (hw0 : hx_wd (.ref z :: as) ≤ M2.2.2.2.1) {v : Option Value} {h1 : hH} {k1 k2 : Nat} (hV : hx_V S M2 d2 0 (lv_args 0 (.ref z :: as)) [] N h (some v, N, h1, k1, k2)) (hw : (rest.map (fun v => v.category)).sum ≤ 8) (k : hx_G S M Ls xs (pc + 3) L (v.toList ++ rest) N h1 kc ks) : hx_G S M Ls xs pc L (as.reverse ++ .ref z :: rest) N h (k1 + kc) (k2 + ks) := by
  intro p l e s m below meth c b D dA cx ad H locs ls cells slots hab hl hP hD hS hc1 hc2
  exact hx_wcV cx.1 hl.1 hP hD hS hm i hi hlk hy.1 hd hy.2.1 hz.1 hz.2 hn (hy.C hS0 hw0 hV) hw (by show cells + k1 ≤ 608192; omega) (by show slots + k2 ≤ 7228521; omega) (fun H1 locs1 q1 q2 q3 => k p l e s m below meth c b D dA cx ad H1 locs1 ls (cells + k1) (slots + k2) hab hl q1 q2 q3 (by omega) (by omega))
theorem hg_mono {kc' ks' : Nat} (h1 : kc ≤ kc') (h2 : ks ≤ ks') (k : hx_G S M Ls xs pc L st N h kc ks) : hx_G S M Ls xs pc L st N h kc' ks' := by
  intro p l e s m below meth c b D dA cx ad H locs ls cells slots hab hl hP hD hS hc1 hc2
  exact k p l e s m below meth c b D dA cx ad H locs ls cells slots hab hl hP hD hS (by omega) (by omega)
end GG
