/-! LAYER 1g: exceptions -/
/-- a walk stands as well over the state that it has come to, with the room that is left -/
theorem hx_rebase {p : Program} {l : Launch} {e : Env} {R R' : Room} {s : State} {m : MethodId} {args : Array Value} {below : List Frame} {meth : Method} {c : Code} {T : State} {locs : List Loc} {cells slots : Nat} (X : Stand p l e R s m args below meth c T locs cells slots) (hf : R'.frames ≤ R.frames) (hl : R'.locals ≤ R.locals) (hc : cells + R'.cells ≤ R.cells) (hs : slots + R'.slots ≤ R.slots) : Stand p l e R' (T.setFrames (.invoking m args :: below)) m args below meth c T [] 0 0 := by
  obtain ⟨g₀, hfr⟩ := X.frames_eq
  obtain ⟨t, ht, -⟩ := State.frames_cons hfr
  have hcur : T.cur < T.threads.size := State.cur_lt_of_frames hfr
  have hF : (T.setFrames (.invoking m args :: below)).frames = .invoking m args :: below := State.frames_setFrames _ hcur
  have hcur' : (T.setFrames (.invoking m args :: below)).cur < (T.setFrames (.invoking m args :: below)).threads.size := State.cur_lt_of_frames hF
  obtain ⟨t', ht', -⟩ := State.frames_cons hF
  have eT : (T.setFrames (.invoking m args :: below)).setFrames T.frames = T := by
    rw [State.setFrames_setFrames]
    exact State.setFrames_self ht
  have hsame := (State.sameButNew.refl (T.setFrames (.invoking m args :: below)) ht').setFrames T.frames hcur'
  rw [eT] at hsame
  refine ⟨X.admits, X.cas, X.clock, hF, ?_, ?_, X.method', X.code, X.here, X.tail, State.WarmedH.refl _, by rw [State.stackLimits_setFrames], by rw [State.stackBytes_setFrames], hsame⟩
  · have hr := X.room
    simp only [State.hasRoom, Bool.and_eq_true, decide_eq_true_eq] at hr ⊢
    have e1 := State.localsInUse_invoking X.frames X.method X.code
    have e2 := State.localsInUse_invoking hF (show (T.setFrames (.invoking m args :: below)).vm.method? m = some meth from X.method') X.code
    rw [e1, X.frames] at hr
    rw [e2, hF, State.stackLimits_setFrames, State.stackBytes_setFrames, X.limits, X.bytes]
    have h1 := X.heapSize
    have h2 := X.used
    have h3 : (T.setFrames (.invoking m args :: below)).slotsTrue = true := X.book
    have h4 : (T.setFrames (.invoking m args :: below)).heap = T.heap := rfl
    have h5 : (T.setFrames (.invoking m args :: below)).slotsUsed = T.slotsUsed := rfl
    rw [h4, h5]
    simp only [List.length_cons] at hr ⊢
    refine ⟨⟨⟨⟨?_, ?_, ?_, ?_, ?_, hr.1.1.1.2.2.2.2.2⟩, ?_⟩, ?_⟩, h3⟩ <;> omega
  · have hh := X.hears
    unfold State.hears at hh ⊢
    split
    · rename_i g r
      simp only [State.code?_eq] at hh ⊢
      have e1 : (T.setFrames (.invoking m args :: .java g :: r)).vm.method? g.method = s.vm.method? g.method := X.warmed.alike.method? _
      rw [e1]
      exact hh
    · rfl
    · rfl
    · have e1 : (T.setFrames (.invoking m args :: below)).vm.method? m = s.vm.method? m := X.warmed.alike.method? _
      simp only [e1]
      split at hh
      · simp_all
      · simp_all
      · simp_all
      · exact hh

/-- a heap that is the same but for new cells -/
theorem hx_same {s t : State} {k n : Nat} (h : s.sameButNew t [] k n) {a : Nat} {cell : Cell} (hc : s.heap[a]? = some cell) : t.heap[a]? = some cell := by
  obtain ⟨c', h1, h2, h3, h4⟩ := h.2.2.2.2.2 a cell hc
  have e : c'.slots = cell.slots := by
    apply Array.ext_getElem?
    intro j
    exact h4 j (by simp)
  rw [h1, h2, e]
def hISE : String := "java/lang/IllegalStateException"
def hx_up : List String := ["java/lang/RuntimeException", "java/lang/Exception"]
def hx_oa (own : String) (ic : Nat) : List Cond := Jvm.Bundle.ownAtoms0 own ic hISE hx_up
def hx_w1 : Cond := .isRef (.static "java/lang/Throwable" "UNASSIGNED_STACK" "[Ljava/lang/StackTraceElement;")
def hx_w2 : Cond := .isRef (.static "java/lang/Throwable" "SUPPRESSED_SENTINEL" "Ljava/util/List;")
def hx_w3 : Cond := .laysStatic "java/lang/Throwable" "UNASSIGNED_STACK" "[Ljava/lang/StackTraceElement;"
def hx_w4 : Cond := .laysStatic "java/lang/Throwable" "SUPPRESSED_SENTINEL" "Ljava/util/List;"
def hx_okw (w : Cond) : Bool := (decide (w ∈ tables_1) && goodWord w) || (decide (w = .castable hISE hISE) || (decide (w ∈ hx_dc.map Cond.declares) || (decide (w = hx_w1) || (decide (w = hx_w2) || (decide (w = hx_w3) || decide (w = hx_w4))))))
theorem hx_oa4 : (hx_oa "HintHouse$Machine" 83).all hx_okw = true := by decide +kernel
theorem hx_oa8 : (hx_oa "HintHouse$Maker" 86).all hx_okw = true := by decide +kernel
theorem hx_isRef {n d : String} {A : Nat → Prop} {U : State} {args : Array Value} (h : hx_Z1 n d A U U.heap) : (Cond.isRef (.static "java/lang/Throwable" n d)).before args U = true := by
  obtain ⟨c, k, i, f, a, cell, v, h1, h2, h3, h4, h5, h6, h7, h8, h9, h10, h11, h12⟩ := h
  have e : (Term.static "java/lang/Throwable" n d).eval args U none [] U = some v := by
    simp [Term.eval, State.fieldNamed?, h2, h3, h4, h5, h6, h10]
  simp only [Cond.before, Cond.holds, Cond.value, e]
  cases v <;> simp_all [Value.isRef]
theorem hx_laysS {n d : String} {A : Nat → Prop} {U : State} {args : Array Value} (h : hx_Z1 n d A U U.heap) : (Cond.laysStatic "java/lang/Throwable" n d).before args U = true := by
  obtain ⟨c, k, i, f, a, cell, v, h1, h2, h3, h4, h5, h6, h7, h8, h9, h10, h11, h12⟩ := h
  simp [Cond.before, Cond.holds, Cond.value, h1, h2, h3, h4, h5, h6, h7, h8, h9]
theorem hx_atoms {own : String} {ic : Nat} (hall : (hx_oa own ic).all hx_okw = true) {D : va_G} {dA : Nat → ClassId} {A : Nat → Prop} {s U : State} {args : Array Value} (hts : ∀ w ∈ lw_all, w.before args s = true) (hW : s.WarmedH U.vm) (hK : hx_K D dA U) (hZ : hx_Z A U U.heap) : ∀ w ∈ hx_oa own ic, w.before args U = true := by
  intro w hw
  have h := List.all_eq_true.mp hall w hw
  simp only [hx_okw, Bool.or_eq_true, Bool.and_eq_true, decide_eq_true_eq] at h
  rcases h with h | h | h | h | h | h | h
  · have h1 : w ∈ lw_all := lw_g (show w ∈ k2_sels lw_privs ++ tables_1 from List.mem_append_right _ h.1) h.2
    exact word_at hW (good_of_word h.2) (hts w h1)
  · rw [h]
    exact va_Nw.use rfl hK.2.2.2.1
  · obtain ⟨x, hx, rfl⟩ := List.mem_map.mp h
    exact va_Nw.use rfl (hK.2.2.2.2.1 x hx)
  · rw [h]; exact hx_isRef hZ.1
  · rw [h]; exact hx_isRef hZ.2
  · rw [h]; exact hx_laysS hZ.1
  · rw [h]; exact hx_laysS hZ.2

