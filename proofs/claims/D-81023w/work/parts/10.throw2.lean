/-! LAYER 1h: a throw, and calls that throw -/
theorem hx_noH {c : Code} {M : hM} (hh : M.2.2.2.2.2.1 = []) (h : c.exceptionTable.toList = tableOf M.2.2.2.2.2.1) (pc : Nat) : ∀ x ∈ c.exceptionTable.toList, covers x pc = false := by
  rw [h, hh]
  intro x hx
  cases hx
/-- the world and the frame behind a piece of the run that has only made new cells -/
theorem hx_keep {D : va_G} {S : hS} {dA : Nat → ClassId} {A : Nat → Prop} {ad : Nat → Nat} {N : Nat} {h : hH} {H H1 : Heap} {H0 : Heap} {locs : List Loc} (hP : va_P D hcl (hW S ad dA N h) H) (hS : va_S A H0 H locs) (hk : ∀ (a : Nat) (cell : Cell), H[a]? = some cell → H1[a]? = some cell) (hsz : H.size ≤ H1.size) : va_P D hcl (hW S ad dA N h) H1 ∧ va_S A H0 H1 locs := by
  have hk2 : ∀ a, a < H.size → H1[a]? = H[a]? := fun a ha => by
    obtain ⟨cell, hc⟩ : ∃ cell, H[a]? = some cell := ⟨H[a], by simp [ha]⟩
    rw [hc]; exact hk a cell hc
  refine ⟨hP.kept (fun k q hq => hk2 q.1 (hP k q hq).lt), Nat.le_trans hS.1 hsz, fun q h1 h2 => ?_, hS.2.2⟩
  rw [hk2 q (Nat.lt_of_lt_of_le h1 hS.1)]
  exact hS.2.1 q h1 h2
theorem hx_unframe {T t : State} {fs : List Frame} {L : List Loc} {k n : Nat} (h : (T.setFrames fs).sameButNew t L k n) : T.sameButNew t L k n := by
  obtain ⟨h1, h2⟩ := h
  refine ⟨?_, h2⟩
  rw [State.setFrames_setFrames] at h1
  exact h1
set_option maxHeartbeats 2000000 in
theorem hv_thr {S : hS} {M : hM} {d pc N : Nat} {L : List (Nat × Value)} {h : hH} (hm : hx_mok M = true) (i1 i2 i3 i4 : Nat) {ix ic : Nat} (h1 : M.2.2.2.2.2.2.2[i1]? = some (pc, .new ix, 3)) (h2 : M.2.2.2.2.2.2.2[i2]? = some (pc + 3, .dup, 1)) (h3 : M.2.2.2.2.2.2.2[i3]? = some (pc + 3 + 1, .invokespecial ic, 3)) (h4 : M.2.2.2.2.2.2.2[i4]? = some (pc + 3 + 1 + 3, .athrow, 1))
    (hall : (hx_oa (hRn M.1) ic).all hx_okw = true) (hcl1 : Cond.classLink (hRn M.1) ix hISE ∈ lw_all) (hins : Cond.instantiable hISE 6 ∈ lw_all) (hini : Cond.initialized hISE ∈ lw_all) (hd : 6 ≤ d) (hh : M.2.2.2.2.2.1 = []) : hx_V S M d pc L [] N h (none, N, h, 1, 6) := by
  intro p l e R s m args below meth c D dA A N0 ad0 cx ad H locs ls cells slots hz hN hl hP hD hS hc1 hc2
  obtain ⟨hx, hb, hr, hml, hown, hts, hlk, hK, ht0, hroom, hA, hst, hnm, htab, hfl, hZ⟩ := id cx
  intro T hT X
  have X' := hx_rebase (R' := { frames := R.frames, cells := 1, slots := 6, locals := R.locals }) X (Nat.le_refl _) (Nat.le_refl _) hc1 hc2
  generalize hs' : T.setFrames (.invoking m args :: below) = s' at X'
  have evm : s'.vm = T.vm := by rw [← hs']; rfl
  have ehp : s'.heap = H := by rw [← hs', ← hT]; rfl
  have hW : s.WarmedH s'.vm := by rw [evm]; exact X.warmed
  have hts' : ∀ w ∈ lw_all, w.before args s' = true := fun w hw => word_at hW (lw_self w hw).2 (hts w hw)
  have hown' : s'.vm.findClass (hRn M.1) = some m.cls := by rw [evm, X.warmed.alike.findClass]; exact hown
  have hZ' : hx_Z A s' s'.heap := by
    rw [ehp]
    exact hx_Z.moved hW.alike (hx_Z.kept hZ (fun a h1 h2 => hS.2.1 a h1 h2))
  have hat := hx_atoms hall hts hW (hx_K.moved hW hK) hZ'
  have K : W p l e { frames := R.frames, cells := 1, slots := 6, locals := R.locals } s' m args below meth c H [] 0 0 (fun t => ∃ (x : Addr) (ce : Cell), t.status = .running ∧ Ended t below (.threw x) ∧ s'.WarmedH t.vm ∧ s'.sameButNew ({ t with vm := s'.vm } : State) [] 1 6 ∧ t.heap[x]? = some ce ∧ ce.vm.isStatics = false ∧ s'.vm.findClass hISE = some ce.cls ∧ s'.heap.size ≤ x) (F0 m pc ls []) := by
    refine W.newc (n := 6) hx hb hown' (hts' _ hcl1) (hts' _ hins) (hts' _ hini) rfl (hx_ct hm i1 h1) (Nat.le_refl 1) (Nat.le_refl 6) (fun cC kC hf hk hkind hsz => ?_)
    refine lv_dup hx hb (hx_ct hm i2 h2) rfl ?_
    intro T1 hT1 X1
    obtain ⟨U, hst1, hrun, hend, hWU, hsame, ce, hce, oc⟩ := X1.ctorThrow0 hx (hx_notrace hfl X.admits) (own := hRn M.1) (cls := hISE) (names := hx_up) (ic := ic) hown' (by decide +kernel) (by decide +kernel) hat (fun y hy => by cases hy) hf hk (a := H.size) (by rw [hT1]; exact Array.getElem?_push_size) (by rw [ehp]; exact Nat.le_refl _) (g := F0 m (pc + 3 + 1) ls [.ref H.size, .ref H.size]) rfl (by rw [hml]; exact hl.1) rfl rfl (rest := []) rfl (by rw [hb]; exact hx_ct hm i3 h3) (by rw [hb]; exact hx_ct hm i4 h4) (hx_noH hh htab _) (by show 2 + 3 < R.frames; omega) (by show 0 + (1 + 0) + (13 * (2 + 1) + 41) ≤ R.locals; omega) hlk
    exact ⟨U, hst1, H.size, ce, hrun, hend, hWU, hsame, hce, by rw [oc.vm]; rfl, oc.cls, by rw [ehp]; exact Nat.le_refl _⟩
  obtain ⟨t, a1, x, ce, b1, b2, b3, b4, b5, b6, b7, b8⟩ := K T hT X'
  refine ⟨t, a1, .threw x, b1, b2, ?_, ?_⟩
  · have hk : ∀ (a : Nat) (cell : Cell), H[a]? = some cell → t.heap[a]? = some cell := fun a cell hc => hx_same b4 (by rw [ehp]; exact hc)
    have hsz : H.size ≤ t.heap.size := by have := b4.2.1; rw [ehp] at this; exact this
    obtain ⟨k1, k2⟩ := hx_keep hP hS hk hsz
    refine ⟨⟨ad, hz, k1, hD, x, ce, rfl, b5, b6, ?_, ?_⟩, k2.F rfl⟩
    · rw [← hW.alike.findClass]; exact b7
    · rw [ehp] at b8; exact Nat.le_trans hS.1 b8
  · have hTs : T.sameButNew ({ t with vm := T.vm } : State) [] 1 6 := by
      rw [evm] at b4
      rw [← hs'] at b4
      exact hx_unframe b4
    have hWt : s.WarmedH t.vm := State.WarmedH.trans X.warmed (by rw [← hs'] at b3; exact b3)
    refine ⟨locs, hWt, ?_, fun q hq => hS.2.2 q hq⟩
    have h5 := X.same.trans (hTs.setVm s.vm)
    rw [List.append_nil] at h5
    exact h5.weaken (fun y hy _ => hy) hc1 hc2

