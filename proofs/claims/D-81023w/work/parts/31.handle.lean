/-! LAYER 2c: methods that catch; what they cost -/
section HH
variable {S : hS} {M : hM} {d pc N : Nat} {L : List (Nat × Value)} {h : hH}
set_option maxHeartbeats 2000000 in
/-- a virtual callee (with handlers or without) comes back -/
theorem hv_cVR (hm : hx_mok M = true) (i : Nat) {idx : Nat} (hi : M.2.2.2.2.2.2.2[i]? = some (pc, .invokevirtual idx, 3)) {M2 : hM} (hlk : Cond.methodLink (hRn M.1) idx M2.2.1 ∈ lw_all) (hy : hx_ymV M2) {d2 : Nat} (hd : d2 + 1 ≤ d) (hmx : M2.2.2.2.1 ≤ 45) {as rest : List Value} {z : Nat} (hta : S.2.1 z = M2.1) (hzN : z ≤ N) (hn : (parseMethodDescriptor M2.2.1.desc).map (fun q => q.parameters.length) = some as.length) {v : Option Value} {h1 : hH} {kc ks : Nat}
    (hC : ∀ l : Launch, l.flags = flags0 → hx_C l S M2 d2 N (.ref z :: as) h (some v, N, h1, kc, ks)) (hw : (rest.map (fun v => v.category)).sum ≤ 8) {r : hR} (k : hx_V S M d (pc + 3) L (v.toList ++ rest) N h1 r) : hx_V S M d pc L (as.reverse ++ .ref z :: rest) N h (r.1, r.2.1, r.2.2.1, kc + r.2.2.2.1, ks + r.2.2.2.2) := by
  intro p l e R s m args below meth c D dA A N0 ad0 cx ad H locs ls cells slots hz hN hl hP hD hS hc1 hc2
  intro T hT X
  have hc1 : cells + (kc + r.2.2.2.1) ≤ R.cells := hc1
  have hc2 : slots + (ks + r.2.2.2.2) ≤ R.slots := hc2
  obtain ⟨hx, hb, hr, hml, hown, hts, hlkk, hK, ht0, hroom, hA, hst, hnm, htab, hfl, hZ⟩ := id cx
  obtain ⟨hcw, hin, hsel, hini, hcls, hlt, hmh, hvh⟩ := hy
  have hz0 : z ≠ 0 := fun q => by rw [q, ht0] at hta; omega
  have hcl2 : hcl[M2.1]? = some (M2.2.1.cls, hTT M2.1, hnf M2.1) := by rw [hcls]; exact hcl_at M2.1 hlt
  obtain ⟨cellB, hcB, hoB, hclB⟩ := va_recv (H := H) hK.1 hP hcl2 (hW_obj hz0 hzN hta (by omega))
  obtain ⟨mk, methM, hnamed, hmethM, hstM, habM⟩ := Cond.instanceMethod_spec (hts _ hin)
  obtain ⟨methM', cM, hmethM', hcodeM, hcM, hmlM, hretM, hlkM, htabM, hsigM⟩ := hx_cw_spec hnamed (hts _ hcw)
  cases hmethM.symm.trans hmethM'
  obtain ⟨c2, r2, m2, q1, q2, q3, q4, kP, hkP, hkPi⟩ := Cond.selects_spec (hts _ hsel)
  cases hclB.symm.trans q1
  cases (State.methodFound?_of_named hnamed ⟨hmh, hvh⟩).symm.trans q2
  cases hnamed.symm.trans q3
  have hselP : selectMethod e.platform s.vm cellB.cls mk = .method mk := by rw [Launch.admits_selectMethod X.admits]; exact q4
  have hlen : (as.map (cV ad)).length = methM.sig.parameters.length := by
    rw [hsigM] at hn
    rw [List.length_map]
    exact (Option.some.inj hn).symm
  have hstack : (F0 m pc ls ((as.reverse ++ .ref z :: rest).map (cV ad))).stack = (as.map (cV ad)).reverse ++ .ref (ad z) :: rest.map (cV ad) := by
    show (as.reverse ++ .ref z :: rest).map (cV ad) = _
    rw [List.map_append, List.map_reverse, List.map_cons]
    exact congrArg (fun q => (as.map (cV ad)).reverse ++ q :: rest.map (cV ad)) (cR_pos hz0)
  have hdg : decode c.code pc = .ok (.invokevirtual idx, 3) := by rw [hb]; exact hx_ct hm i hi
  obtain ⟨vm₁, X₁, hstep₁⟩ := X.invokevirtual hx hown (hts _ hlk) hnamed hmethM hstM hkP hkPi ⟨hmh, hvh⟩ (a := ad z) (cell := cellB) (by rw [hT]; exact hcB)
    (fun z h => by rw [h] at hoB; cases hoB) hselP hmethM habM hkP hkPi (g := F0 m pc ls ((as.reverse ++ .ref z :: rest).map (cV ad))) rfl (argsL := as.map (cV ad)) (rest := rest.map (cV ad)) hlen hstack hdg
  have hMet := hC l hfl D dA ad H.size
  have hWU : s.WarmedH (T.setVm vm₁).vm := X₁.warmed
  have hnU : (T.setVm vm₁).methodNamed? M2.2.1 = some mk := X₁.named hnamed
  obtain ⟨kY, hkY, -⟩ := className_of_methodNamed hnU
  have hinitY : kY.init = .initialized := Cond.initialized_spec (args := args) (findClass_of_methodNamed hnU) hkY (word_at hWU (lw_self _ hini).2 (hts _ hini))
  have hmU : (T.setVm vm₁).vm.method? mk = some methM := by rw [hWU.alike.method?]; exact hmethM
  have hpre : (headSpec (hx_cw M2 :: lw_all) (hx_rm_ d2 kc ks)).pre.before (Value.ref (ad z) :: as.map (cV ad)).toArray (T.setVm vm₁) = true := by
    refine atoms_intro fun w hw => ?_
    have hg := hx_good hcw w hw
    exact word_at hWU hg.2 (hts _ hg.1)
  have hrs : (rest.map (cV ad)).map (fun v => v.category) = rest.map (fun v => v.category) := by
    rw [List.map_map]
    exact List.map_congr_left fun v _ => cV_cat ad v
  have happ := Spec.appliesLoose_calling (g := F0 m pc ls (rest.map (cV ad))) (S := headSpec (hx_cw M2 :: lw_all) (hx_rm_ d2 kc ks)) (e := e) X₁.here hdg hnU hkY hinitY
    (X₁.room_calling (g := F0 m pc ls (rest.map (cV ad))) (R' := hx_rm_ d2 kc ks) (args' := (Value.ref (ad z) :: as.map (cV ad)).toArray) (by rw [hml]; exact hl.1) hmU hcodeM (Nat.le_trans hd hroom.1) (by
      show 2 * 0 + (((rest.map (cV ad)).map fun v => v.category)).sum + (cM.maxLocals + 11) + 64 * d2 ≤ R.locals
      rw [hrs, hmlM]
      have := hroom.2
      omega) (by show cells + kc ≤ R.cells; omega) (by show slots + ks ≤ R.slots; omega)) hpre
  obtain ⟨mid, hmid⟩ := X₁.here.above
  have hfr : ((T.setVm vm₁).setTop (F0 m pc ls (rest.map (cV ad)))).frames = (.java (F0 m pc ls (rest.map (cV ad))) :: mid) ++ below := by rw [State.frames_setTop' _ X₁.here.top, hmid]; rfl
  have e2 : (Value.ref z :: as).map (cV ad) = Value.ref (ad z) :: as.map (cV ad) := by
    rw [List.map_cons]
    exact congrArg (fun q => q :: as.map (cV ad)) (cR_pos hz0)
  have hstart := hx_start cx hP hD hS (.ref z :: as)
  rw [e2] at hstart
  obtain ⟨o, s₂, hsteps, hrun, hend, hq⟩ := Steps.callFree hMet p X.admits X.cas X.clock (acts := []) hfr happ (hx_blind _ _ (F0 m pc ls (rest.map (cV ad))) mk (hstart (T.setVm vm₁) hT hWU)) trivial
  obtain ⟨⟨⟨ad', hz', hP', hD', ho⟩, hF⟩, Lx, hW2, hsame, hLx⟩ := hq
  have ho : o = .returned (v.map (cV ad')) := ho
  subst ho
  have had : ad' = ad := hz'.2 rfl
  subst had
  rw [State.frames_setTop' _ X₁.here.top, X₁.tail] at hend
  obtain ⟨T', X', hWT, hsameT, ht⟩ := X₁.outOf (g := F0 m pc ls (rest.map (cV ad'))) rfl hdg hend hW2 hsame
  have hh : s₂.heap = T'.heap := by rw [ht]; simp [State.setTop, State.modifyTopJava, State.setFrames]
  have hfree : ∀ q, va_A (hW S ad' dA N h) H.size q → A q := fun q hq => by
    rcases hq with ⟨kq, e, hq⟩ | hq
    · exact hD.2 kq (q, e) hq
    · exact hA q (Nat.le_trans hS.1 hq)
  obtain ⟨hz1, hk⟩ := hF
  have h0 : (((T.setVm vm₁).setTop (F0 m pc ls (rest.map (cV ad')))).pushFrame (.invoking mk (Value.ref (ad' z) :: as.map (cV ad')).toArray)).heap = H := hT
  rw [h0, hh] at hz1
  rw [h0, hh] at hk
  rw [hh] at hP'
  have hS' : va_S A s.heap T'.heap (locs ++ Lx) := by
    refine ⟨Nat.le_trans hS.1 hz1, fun q h1 h2 => ?_, fun q hq => ?_⟩
    · rw [hk q (Nat.lt_of_lt_of_le h1 hS.1) (fun z => h2 (hfree q z))]
      exact hS.2.1 q h1 h2
    · rcases List.mem_append.mp hq with h | h
      · exact hS.2.2 q h
      · exact hfree _ (hLx q h)
  obtain ⟨t2, a1, b1⟩ := k p l e R s m args below meth c D dA A N0 ad0 cx ad' T'.heap (locs ++ Lx) ls (cells + kc) (slots + ks) hz hN hl hP' (hD'.weaken (fun _ q _ hq => hfree q.1 hq)) hS' (by omega) (by omega) T' rfl X'
  refine ⟨t2, hstep₁ _ fun acts => ?_, b1⟩
  rw [doInvoke_state]
  rw [ht, doInvoke_state] at hsteps
  refine hsteps.trans ?_
  have e3 : (v.toList ++ rest).map (cV ad') = (v.map (cV ad')).toList ++ rest.map (cV ad') := by
    rw [List.map_append]
    cases v <;> rfl
  rw [e3] at a1
  exact a1
end HH
def bH {A Y : Type} (o : Option (hH ⊕ (A × hH))) (kt : hH → Option Y) (kn : A → hH → Option (Y × Nat)) : Option (Y × Nat) := match o with
  | none => none
  | some (.inl h) => (match kt h with
    | none => none
    | some y => some (y, 1))
  | some (.inr q) => kn q.1 q.2
def bN {A Y : Type} (o : Option ((A × hH) × Nat)) (k : A → hH → Option Y) : Option (Y × Nat) := match o with
  | none => none
  | some q => (match k q.1.1 q.1.2 with
    | none => none
    | some y => some (y, q.2))
/-- a result behind which n exceptions were made -/
def hx_Sh {Y : Type} (Ψ : Y → hR → Prop) (q : Y × Nat) (r : hR) : Prop := ∃ r', Ψ q.1 r' ∧ r = (r'.1, r'.2.1, r'.2.2.1, q.2 + r'.2.2.2.1, 6 * q.2 + r'.2.2.2.2)
theorem sh0 {Y : Type} {Ψ : Y → hR → Prop} {x : Y} {Q : hR → Prop} (h : ∀ r, Ψ x r → Q r) : ∀ r, hx_Sh Ψ (x, 0) r → Q r := by
  rintro r ⟨r', h1, h2⟩
  have e : r = r' := by
    rw [h2]
    simp
  rw [e]
  exact h r' h1
def hx_kN {A : Type} (S : hS) (M2 : hM) (d2 N : Nat) (as : List Value) (h : hH) (f : Option ((A × hH) × Nat)) (cv : A → Option Value) : Prop := hx_P S M2 d2 0 (lv_args 0 as) [] N h f (hx_Sh (hx_Rc cv N))
def hx_okW (M : hM) : Prop := hx_ymV M ∧ M.2.2.2.1 ≤ 45 ∧ plainFor M.2.1 = true
theorem hx_okW.C {S : hS} {N : Nat} {h : hH} {M2 : hM} (hy : hx_okW M2) (hS0 : S.2.1 0 = 999) {d2 : Nat} {as : List Value} (hw : hx_wd as ≤ M2.2.2.2.1) {r : hR} (hV : hx_V S M2 d2 0 (lv_args 0 as) [] N h r) : ∀ l : Launch, l.flags = flags0 → hx_C l S M2 d2 N as h r := fun l hl => hx_C.of hl hy.2.2 hy.1.2.2.2.2.1 hS0 hw hV
theorem hx_okV.W {M : hM} (h : hx_okV M) : hx_okW M := ⟨h.1, h.2.2.1, h.2.2.2⟩
def thN {A B : Type} (c : Nat) (o : Option ((A ⊕ B) × Nat)) : Option ((A × Nat) ⊕ (B × Nat)) := match o with
  | none => none
  | some (.inl s, n) => some (.inl (s, c + n))
  | some (.inr e, n) => some (.inr (e, c + n))
/-- a loop, with the exceptions counted -/
noncomputable def whN {A B : Type} (f : A → Option ((A ⊕ B) × Nat)) (s : A) : Option (B × Nat) := wh (fun (q : A × Nat) => thN q.2 (f q.1)) (s, 0)
section HC
variable {S : hS} {M : hM} {d pc N : Nat} {L : List (Nat × Value)} {st : List Value} {h : hH} {Y : Type} {Ψ : Y → hR → Prop}
/-- a call that may throw, in a method that catches -/
theorem hp_cVH (hm : hx_mok M = true) {B : List hI} (hB : hx_at M pc B) {as rest : List Value} {z : Nat} {C : Option Prop} (ev : hx_ev S N B L st h none = some (L, as.reverse ++ .ref z :: rest, h, C)) (hC : hx_hold C) {pc' : Nat} (hpc : pc + hx_sz B = pc') (i : Nat) {idx : Nat} (hi : M.2.2.2.2.2.2.2[i]? = some (pc', .invokevirtual idx, 3)) {M2 : hM} (hlk : Cond.methodLink (hRn M.1) idx M2.2.1 ∈ lw_all) (hy : hx_okV M2) (hS0 : S.2.1 0 = 999) {d2 : Nat} (hcc : hx_cc M2 d2 d as rest) (hw : hx_wd (.ref z :: as) ≤ M2.2.2.2.1) (hz : S.2.1 z = M2.1 ∧ z ≤ N) {b e2 hp ct : Nat} (hhM : M.2.2.2.2.2.1 = [(b, e2, hp, ct)]) (hcov : b ≤ pc' ∧ pc' < e2) (hct : ct ≠ 0) (hcl1 : Cond.classLink (hRn M.1) ct hISE ∈ lw_all) {q : Fin 4} (j : Nat) (hj : M.2.2.2.2.2.2.2[j]? = some (hp, .astore_n q, 1)) (hkn : q.val < M.2.2.2.1)
    {A : Type} {f : Option (hH ⊕ (A × hH))} {cv : A → Option Value} (hk : hx_kT S M2 d2 N (.ref z :: as) h f cv) {kt : hH → Option Y} {kn : A → hH → Option (Y × Nat)} (k1 : ∀ h1, hx_P S M d (hp + 1) (L.filter (hx_p1 q.val)) [] N h1 (kt h1) Ψ) (kk : ∀ a h1, hx_P S M d (pc' + 3) L ((cv a).toList ++ rest) N h1 (kn a h1) (hx_Sh Ψ)) : hx_P S M d pc L st N h (bH f kt kn) (hx_Sh Ψ) := by
  intro x hx r hr
  match f, hk, hx with
  | some (.inl g), hk, hx =>
    cases hkt : kt g with
    | none =>
      simp only [bH, hkt] at hx
      cases hx
    | some y =>
      simp only [bH, hkt] at hx
      cases hx
      obtain ⟨r', h1, h2⟩ := hr
      subst h2
      exact hv_p hm hB ev hC hpc (hv_cVH hm i j hi hlk hy.1 hcc.1 hy.2.2.1 hz.1 hz.2 rfl hcc.2.1 (hy.C hS0 hw (hk _ rfl _ rfl)) hcc.2.2 hhM hcov hct hcl1 hj hkn (k1 g y hkt r' h1))
  | some (.inr a), hk, hx => exact hv_p hm hB ev hC hpc (hv_cV hm i hi hlk hy.1 hy.2.1 hcc.1 hy.2.2.1 hz.1 hz.2 rfl hcc.2.1 (Nat.le_refl N) (hy.C hS0 hw (hk _ rfl _ rfl)) hcc.2.2 (Or.inl rfl) (hR_0 r) (kk a.1 a.2 x hx r hr))
/-- a call of a method that may have caught, all that follows without cost -/
theorem hp_cVN (hm : hx_mok M = true) {B : List hI} (hB : hx_at M pc B) {as rest : List Value} {z : Nat} {C : Option Prop} (ev : hx_ev S N B L st h none = some (L, as.reverse ++ .ref z :: rest, h, C)) (hC : hx_hold C) {pc' : Nat} (hpc : pc + hx_sz B = pc') (i : Nat) {idx : Nat} (hi : M.2.2.2.2.2.2.2[i]? = some (pc', .invokevirtual idx, 3)) {M2 : hM} (hlk : Cond.methodLink (hRn M.1) idx M2.2.1 ∈ lw_all) (hy : hx_okW M2) (hS0 : S.2.1 0 = 999) {d2 : Nat} (hcc : hx_cc M2 d2 d as rest) (hw : hx_wd (.ref z :: as) ≤ M2.2.2.2.1) (hz : S.2.1 z = M2.1 ∧ z ≤ N)
    {A : Type} {f : Option ((A × hH) × Nat)} {cv : A → Option Value} (hk : hx_kN S M2 d2 N (.ref z :: as) h f cv) {k : A → hH → Option Y} (kk : ∀ a h1, hx_P S M d (pc' + 3) L ((cv a).toList ++ rest) N h1 (k a h1) Ψ) : hx_P S M d pc L st N h (bN f k) (hx_Sh Ψ) := by
  intro x hx r hr
  cases f with
  | none => cases hx
  | some q =>
    cases hkt : k q.1.1 q.1.2 with
    | none =>
      simp only [bN, hkt] at hx
      cases hx
    | some y =>
      simp only [bN, hkt] at hx
      cases hx
      obtain ⟨r', h1, h2⟩ := hr
      subst h2
      exact hv_p hm hB ev hC hpc (hv_cVR hm i hi hlk hy.1 hcc.1 hy.2.1 hz.1 hz.2 hcc.2.1 (hy.C hS0 hw (hk q rfl _ ⟨_, rfl, rfl⟩)) hcc.2.2 (kk q.1.1 q.1.2 y hkt r' h1))
theorem hp_whN {A B : Type} {f : A → Option ((A ⊕ B) × Nat)} (Ls : A → List (Nat × Value)) (sl : List Value) (hs : A → hH) {Ψ : B → hR → Prop} (body : ∀ s, hx_P S M d pc (Ls s) sl N (hs s) (f s) (hx_Sh (hx_S (fun t r => hx_V S M d pc (Ls t) sl N (hs t) r) Ψ))) (s : A) : hx_P S M d pc (Ls s) sl N (hs s) (whN f s) (hx_Sh Ψ) := by
  intro e he r hr
  obtain ⟨n, hn⟩ := wh_some.mp he
  clear he
  have key : ∀ (n : Nat) (s : A) (c : Nat) (e : B × Nat), whn (fun (q : A × Nat) => thN q.2 (f q.1)) n (s, c) = some e → c ≤ e.2 ∧ ∀ r', Ψ e.1 r' → hx_V S M d pc (Ls s) sl N (hs s) (r'.1, r'.2.1, r'.2.2.1, (e.2 - c) + r'.2.2.2.1, 6 * (e.2 - c) + r'.2.2.2.2) := by
    intro n
    induction n with
    | zero => intro s c e h; cases h
    | succ n ih =>
      intro s c e h
      unfold whn at h
      have hb := body s
      generalize hq : f s = q at hb
      rcases q with _ | ⟨s1 | e1, k⟩
      · simp only [hq, thN] at h
        cases h
      · simp only [hq, thN] at h
        obtain ⟨h1, h2⟩ := ih s1 (c + k) e h
        refine ⟨by omega, fun r' hr' => ?_⟩
        refine hb _ rfl _ ⟨_, h2 r' hr', ?_⟩
        simp only [Prod.mk.injEq, true_and]
        omega
      · simp only [hq, thN] at h
        cases h
        refine ⟨by simp, fun r' hr' => ?_⟩
        refine hb _ rfl _ ⟨r', hr', ?_⟩
        simp only [Prod.mk.injEq, true_and]
        omega
  obtain ⟨r', h1, h2⟩ := hr
  obtain ⟨-, h3⟩ := key n s 0 e hn
  rw [h2]
  exact h3 r' h1
end HC
