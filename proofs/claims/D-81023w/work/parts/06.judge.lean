/-! LAYER 1d: the judgement V of a method's run from a place on, and its rows -/
/-- a method: its class's number, name, code, locals, answer, handlers, its straight pieces, its other instructions -/
abbrev hM : Type := Nat × MethodName × ByteArray × Nat × Option FieldType × List (Nat × Nat × Nat × Nat) × List (Nat × List hI) × List (Nat × Instr × Nat)
/-- a result: outcome (none: thrown; some none: void), how many ids, heap, cells and slots still to be made -/
abbrev hR : Type := Option (Option Value) × Nat × hH × Nat × Nat
def hx_sg (own nL : Nat) (code : ByteArray) : Nat → List hI → Bool
  | _, [] => true
  | pc, i :: B => decide (decode code pc = .ok (i.1, i.2.1)) && (hx_okb own nL i && hx_sg own nL code (pc + i.2.1) B)
def hx_mok (M : hM) : Bool := M.2.2.2.2.2.2.1.all (fun q => hx_sg M.1 M.2.2.2.1 M.2.2.1 q.1 q.2) && M.2.2.2.2.2.2.2.all (fun q => decide (decode M.2.2.1 q.1 = .ok (q.2.1, q.2.2)))
def hx_sz : List hI → Nat
  | [] => 0
  | i :: B => i.2.1 + hx_sz B
def hx_and : Option Prop → Option Prop → Option Prop
  | C, none => C
  | none, some c => some c
  | some C, some c => some (C ∧ c)
def hx_ev (S : hS) (N : Nat) : List hI → List (Nat × Value) → List Value → hH → Option Prop → Option hX
  | [], L, st, h, C => some (L, st, h, C)
  | i :: B, L, st, h, C => match hx_stp S N i L st h with
    | none => none
    | some (L', st', h', c) => hx_ev S N B L' st' h' (hx_and C c)
theorem hx_and_hold {C c : Option Prop} (h : hx_hold (hx_and C c)) : hx_hold C ∧ hx_hold c := by
  cases c with
  | none => exact ⟨h, trivial⟩
  | some c =>
    cases C with
    | none => exact ⟨trivial, h⟩
    | some C => exact h
theorem hx_ev_hold {S : hS} {N : Nat} : ∀ {B : List hI} {L L' : List (Nat × Value)} {st st' : List Value} {h h' : hH} {C C' : Option Prop}, hx_ev S N B L st h C = some (L', st', h', C') → hx_hold C' → hx_hold C
  | [], L, L', st, st', h, h', C, C', e, hc => by cases e; exact hc
  | i :: B, L, L', st, st', h, h', C, C', e, hc => by
    unfold hx_ev at e
    split at e
    · cases e
    · exact (hx_and_hold (hx_ev_hold e hc)).1
section ST
variable {p : Program} {l : Launch} {e : Env} {R : Room} {s : State} {m : MethodId} {args : Array Value} {below : List Frame} {meth : Method} {c : Code} {cells slots : Nat} {Q : State → Prop} {cc : ByteArray} {nL N own : Nat} {D : va_G} {dA : Nat → ClassId} {A : Nat → Prop} {ad : Nat → Nat} {S : hS} {H0 : Heap}
theorem hx_evs (hx : p.tables.exec = Jvm.exec) (hb : c.code = cc) (hown : s.vm.findClass (hRn own) = some m.cls) (hts : ∀ w ∈ lw_all, w.before args s = true) (hK : hx_K D dA s) (ht0 : S.2.1 0 = 999) :
    ∀ {B : List hI} {pc : Nat} {L L' : List (Nat × Value)} {st st' : List Value} {h h' : hH} {C C' : Option Prop} {ls : Array Slot} {H : Heap} {locs : List Loc}, hx_ev S N B L st h C = some (L', st', h', C') → hx_hold C' → hx_sg own nL cc pc B = true →
      lv_has ls nL (hL ad L) → va_P D hcl (hW S ad dA N h) H → va_D A (hW S ad dA N h) → va_S A H0 H locs →
      (∀ (ls1 : Array Slot) (H1 : Heap) (locs1 : List Loc), lv_has ls1 nL (hL ad L') → va_P D hcl (hW S ad dA N h') H1 → va_D A (hW S ad dA N h') → va_S A H0 H1 locs1 → W p l e R s m args below meth c H1 locs1 cells slots Q (F0 m (pc + hx_sz B) ls1 (st'.map (cV ad)))) →
      W p l e R s m args below meth c H locs cells slots Q (F0 m pc ls (st.map (cV ad)))
  | [], pc, L, L', st, st', h, h', C, C', ls, H, locs, ev, hc, hsg, hl, hP, hD, hS, kk => by
    cases ev
    exact kk ls H locs hl hP hD hS
  | i :: B, pc, L, L', st, st', h, h', C, C', ls, H, locs, ev, hc, hsg, hl, hP, hD, hS, kk => by
    unfold hx_ev at ev
    split at ev
    · cases ev
    · rename_i L1 st1 h1 c1 hs1
      simp only [hx_sg, Bool.and_eq_true, decide_eq_true_eq] at hsg
      have hc1 := (hx_and_hold (hx_ev_hold ev hc)).2
      refine hx_step hx hb hown hts hK ht0 hs1 hc1 hsg.2.1 hsg.1 hl hP hD hS (fun ls1 H1 locs1 k1 k2 k3 k4 => ?_)
      refine hx_evs hx hb hown hts hK ht0 ev hc hsg.2.2 k1 k2 k3 k4 (fun ls2 H2 locs2 q1 q2 q3 q4 => ?_)
      rw [Nat.add_assoc]
      exact kk ls2 H2 locs2 q1 q2 q3 q4
end ST
/-- the exception that the system throws -/
def hx_ise (st : State) (x : Addr) (cell : Cell) (t : State) : Prop := t.heap[x]? = some cell ∧ cell.vm.isStatics = false ∧ st.vm.findClass "java/lang/IllegalStateException" = some cell.cls ∧ st.heap.size ≤ x
def hx_out (ad : Nat → Nat) (v : Option (Option Value)) (st : State) (o : Outcome) (t : State) : Prop := match v with
  | some v => o = .returned (v.map (cV ad))
  | none => ∃ (x : Addr) (cell : Cell), o = .threw x ∧ hx_ise st x cell t
/-- addresses grow: old ids keep theirs; without new ids nothing changes -/
def hx_ad (N0 : Nat) (ad0 : Nat → Nat) (N : Nat) (ad : Nat → Nat) : Prop := (∀ z, z ≤ N0 → ad z = ad0 z) ∧ (N = N0 → ad = ad0)
def hx_end (S : hS) (D : va_G) (dA : Nat → ClassId) (A : Nat → Prop) (N0 : Nat) (ad0 : Nat → Nat) (r : hR) (st : State) (o : Outcome) (t : State) : Prop :=
  (∃ ad : Nat → Nat, hx_ad N0 ad0 r.2.1 ad ∧ va_P D hcl (hW S ad dA r.2.1 r.2.2.1) t.heap ∧ va_D A (hW S ad dA r.2.1 r.2.2.1) ∧ hx_out ad r.1 st o t) ∧ va_F A st t
def hx_fin (st t : State) (A : Nat → Prop) (kc ks : Nat) : Prop := ∃ L : List Loc, st.WarmedH t.vm ∧ st.sameButNew ({ t with vm := st.vm } : State) L kc ks ∧ ∀ q ∈ L, A q.base
def hx_Q (below : List Frame) (S : hS) (D : va_G) (dA : Nat → ClassId) (A : Nat → Prop) (N0 : Nat) (ad0 : Nat → Nat) (r : hR) (s : State) (kc ks : Nat) : State → Prop := fun t =>
  ∃ o, t.status = .running ∧ Ended t below o ∧ hx_end S D dA A N0 ad0 r s o t ∧ hx_fin s t A kc ks
/-- what stays all through a method's run -/
def hx_Cx (S : hS) (M : hM) (d : Nat) (D : va_G) (dA : Nat → ClassId) (A : Nat → Prop) (p : Program) (l : Launch) (e : Env) (R : Room) (s : State) (m : MethodId) (args : Array Value) (meth : Method) (c : Code) : Prop :=
  p.tables.exec = Jvm.exec ∧ c.code = M.2.2.1 ∧ meth.sig.returnType = M.2.2.2.2.1 ∧ c.maxLocals = M.2.2.2.1 ∧ s.vm.findClass (hRn M.1) = some m.cls ∧ (∀ w ∈ lw_all, w.before args s = true) ∧ meth.locks = false ∧ hx_K D dA s ∧ S.2.1 0 = 999 ∧ (d ≤ R.frames ∧ 64 * d ≤ R.locals) ∧ (∀ q, s.heap.size ≤ q → A q) ∧ (∀ (q : Nat) (cell : Cell), A q → s.heap[q]? = some cell → cell.vm.isStatics = false) ∧ meth.name = M.2.1.name ∧ c.exceptionTable.toList = tableOf M.2.2.2.2.2.1 ∧ l.flags = flags0 ∧ hx_Z A s s.heap
def hx_V (S : hS) (M : hM) (d pc : Nat) (L : List (Nat × Value)) (st : List Value) (N : Nat) (h : hH) (r : hR) : Prop :=
  ∀ (p : Program) (l : Launch) (e : Env) (R : Room) (s : State) (m : MethodId) (args : Array Value) (below : List Frame) (meth : Method) (c : Code) (D : va_G) (dA : Nat → ClassId) (A : Nat → Prop) (N0 : Nat) (ad0 : Nat → Nat), hx_Cx S M d D dA A p l e R s m args meth c →
  ∀ (ad : Nat → Nat) (H : Heap) (locs : List Loc) (ls : Array Slot) (cells slots : Nat), hx_ad N0 ad0 N ad → N0 ≤ N → lv_has ls M.2.2.2.1 (hL ad L) → va_P D hcl (hW S ad dA N h) H → va_D A (hW S ad dA N h) → va_S A s.heap H locs → cells + r.2.2.2.1 ≤ R.cells → slots + r.2.2.2.2 ≤ R.slots →
  W p l e R s m args below meth c H locs cells slots (hx_Q below S D dA A N0 ad0 r s R.cells R.slots) (F0 m pc ls (st.map (cV ad)))
theorem hL_pick (ad : Nat → Nat) (L : List (Nat × Value)) : ∀ ks : List Nat, lv_pick (hL ad L) ks = hL ad (lv_pick L ks)
  | [] => rfl
  | k :: ks => by
    have ih := hL_pick ad L ks
    unfold lv_pick hL at ih ⊢
    rw [List.filterMap_cons, List.filterMap_cons, List.getElem?_map]
    cases L[k]? with
    | none => exact ih
    | some q => exact congrArg (List.cons _) ih
theorem cR_or (ad : Nat → Nat) (z : Nat) : cR ad z = .null ∨ ∃ a, cR ad z = .ref a := by
  unfold cR
  split
  · exact Or.inl rfl
  · exact Or.inr ⟨_, rfl⟩
theorem hx_Wm {p : Program} {l : Launch} {e : Env} {R : Room} {s : State} {m : MethodId} {args : Array Value} {below : List Frame} {meth : Method} {c : Code} {H : Heap} {locs : List Loc} {cells slots : Nat} {Q Q' : State → Prop} {g : JFrame} (h : ∀ t, Q t → Q' t) (k : W p l e R s m args below meth c H locs cells slots Q g) : W p l e R s m args below meth c H locs cells slots Q' g := fun T hT X => by
  obtain ⟨t, a, b⟩ := k T hT X
  exact ⟨t, a, h t b⟩
section V
variable {S : hS} {M : hM} {d pc N : Nat} {L : List (Nat × Value)} {st : List Value} {h : hH} {r : hR}
/-- straight code -/
theorem hv_b (hm : hx_mok M = true) (i : Nat) {B : List hI} (hB : M.2.2.2.2.2.2.1[i]? = some (pc, B)) {L' : List (Nat × Value)} {st' : List Value} {h' : hH} {C : Option Prop} (ev : hx_ev S N B L st h none = some (L', st', h', C)) (hC : hx_hold C) {pc' : Nat} (hpc : pc + hx_sz B = pc') (k : hx_V S M d pc' L' st' N h' r) : hx_V S M d pc L st N h r := by
  intro p l e R s m args below meth c D dA A N0 ad0 cx ad H locs ls cells slots hz hN hl hP hD hS hc1 hc2
  simp only [hx_mok, Bool.and_eq_true] at hm
  have hsg := List.all_eq_true.mp hm.1 _ (List.mem_of_getElem? hB)
  obtain ⟨hx, hb, hr, hml, hown, hts, hlk, hK, ht0, hd, hA, hst, hnm⟩ := id cx
  refine hx_evs hx hb hown hts hK ht0 ev hC hsg hl hP hD hS (fun ls1 H1 locs1 q1 q2 q3 q4 => ?_)
  rw [hpc]
  exact k p l e R s m args below meth c D dA A N0 ad0 cx ad H1 locs1 ls1 cells slots hz hN q1 q2 q3 q4 hc1 hc2
/-- fewer locals are looked at -/
theorem hv_s (ks : List Nat) {L' : List (Nat × Value)} (hL' : lv_pick L ks = L') (k : hx_V S M d pc L' st N h r) : hx_V S M d pc L st N h r := by
  intro p l e R s m args below meth c D dA A N0 ad0 cx ad H locs ls cells slots hz hN hl hP hD hS hc1 hc2
  refine k p l e R s m args below meth c D dA A N0 ad0 cx ad H locs ls cells slots hz hN (lv_sub hl ks ?_) hP hD hS hc1 hc2
  subst hL'
  exact hL_pick ad L ks
theorem hx_ct (hm : hx_mok M = true) (i : Nat) {ins : Instr} {len : Nat} (hi : M.2.2.2.2.2.2.2[i]? = some (pc, ins, len)) : decode M.2.2.1 pc = .ok (ins, len) := by
  simp only [hx_mok, Bool.and_eq_true] at hm
  have h := List.all_eq_true.mp hm.2 _ (List.mem_of_getElem? hi)
  exact of_decide_eq_true h
theorem hv_goto (hm : hx_mok M = true) (i : Nat) {off : Int} (hi : M.2.2.2.2.2.2.2[i]? = some (pc, .goto off, 3)) {tgt : Nat} (ht : (pc : Int) + off = (tgt : Int)) (k : hx_V S M d tgt L st N h r) : hx_V S M d pc L st N h r := by
  intro p l e R s m args below meth c D dA A N0 ad0 cx ad H locs ls cells slots hz hN hl hP hD hS hc1 hc2
  exact lv_goto cx.1 cx.2.1 (hx_ct hm i hi) ht (k p l e R s m args below meth c D dA A N0 ad0 cx ad H locs ls cells slots hz hN hl hP hD hS hc1 hc2)

theorem hv_if_eq (hm : hx_mok M = true) (i : Nat) {off : Int} (hi : M.2.2.2.2.2.2.2[i]? = some (pc, .ifCond .eq off, 3)) {tgt : Nat} (ht : (pc : Int) + off = (tgt : Int)) {x : Int32} {P : Prop} (hp : (x = 0) ↔ P) (kt : P → hx_V S M d tgt L st N h r) (kf : ¬ P → hx_V S M d (pc + 3) L st N h r) : hx_V S M d pc L (.int x :: st) N h r := by
  intro p l e R s m args below meth c D dA A N0 ad0 cx ad H locs ls cells slots hz hN hl hP hD hS hc1 hc2
  exact lv_if_eq cx.1 cx.2.1 (hx_ct hm i hi) ht (fun q => kt (hp.mp q) p l e R s m args below meth c D dA A N0 ad0 cx ad H locs ls cells slots hz hN hl hP hD hS hc1 hc2) (fun q => kf (fun z => q (hp.mpr z)) p l e R s m args below meth c D dA A N0 ad0 cx ad H locs ls cells slots hz hN hl hP hD hS hc1 hc2)
theorem hv_if_ne (hm : hx_mok M = true) (i : Nat) {off : Int} (hi : M.2.2.2.2.2.2.2[i]? = some (pc, .ifCond .ne off, 3)) {tgt : Nat} (ht : (pc : Int) + off = (tgt : Int)) {x : Int32} {P : Prop} (hp : (x = 0) ↔ P) (kt : ¬ P → hx_V S M d tgt L st N h r) (kf : P → hx_V S M d (pc + 3) L st N h r) : hx_V S M d pc L (.int x :: st) N h r := by
  intro p l e R s m args below meth c D dA A N0 ad0 cx ad H locs ls cells slots hz hN hl hP hD hS hc1 hc2
  exact lv_if_ne cx.1 cx.2.1 (hx_ct hm i hi) ht (fun q => kt (fun z => q (hp.mpr z)) p l e R s m args below meth c D dA A N0 ad0 cx ad H locs ls cells slots hz hN hl hP hD hS hc1 hc2) (fun q => kf (hp.mp q) p l e R s m args below meth c D dA A N0 ad0 cx ad H locs ls cells slots hz hN hl hP hD hS hc1 hc2)
theorem hv_if_lt (hm : hx_mok M = true) (i : Nat) {off : Int} (hi : M.2.2.2.2.2.2.2[i]? = some (pc, .ifCond .lt off, 3)) {tgt : Nat} (ht : (pc : Int) + off = (tgt : Int)) {x : Int32} {P : Prop} (hp : (x < 0) ↔ P) (kt : P → hx_V S M d tgt L st N h r) (kf : ¬ P → hx_V S M d (pc + 3) L st N h r) : hx_V S M d pc L (.int x :: st) N h r := by
  intro p l e R s m args below meth c D dA A N0 ad0 cx ad H locs ls cells slots hz hN hl hP hD hS hc1 hc2
  exact lv_if_lt cx.1 cx.2.1 (hx_ct hm i hi) ht (fun q => kt (hp.mp q) p l e R s m args below meth c D dA A N0 ad0 cx ad H locs ls cells slots hz hN hl hP hD hS hc1 hc2) (fun q => kf (fun z => q (hp.mpr z)) p l e R s m args below meth c D dA A N0 ad0 cx ad H locs ls cells slots hz hN hl hP hD hS hc1 hc2)
theorem hv_if_ge (hm : hx_mok M = true) (i : Nat) {off : Int} (hi : M.2.2.2.2.2.2.2[i]? = some (pc, .ifCond .ge off, 3)) {tgt : Nat} (ht : (pc : Int) + off = (tgt : Int)) {x : Int32} {P : Prop} (hp : (0 ≤ x) ↔ P) (kt : P → hx_V S M d tgt L st N h r) (kf : ¬ P → hx_V S M d (pc + 3) L st N h r) : hx_V S M d pc L (.int x :: st) N h r := by
  intro p l e R s m args below meth c D dA A N0 ad0 cx ad H locs ls cells slots hz hN hl hP hD hS hc1 hc2
  exact lv_if_ge cx.1 cx.2.1 (hx_ct hm i hi) ht (fun q => kt (hp.mp q) p l e R s m args below meth c D dA A N0 ad0 cx ad H locs ls cells slots hz hN hl hP hD hS hc1 hc2) (fun q => kf (fun z => q (hp.mpr z)) p l e R s m args below meth c D dA A N0 ad0 cx ad H locs ls cells slots hz hN hl hP hD hS hc1 hc2)
theorem hv_if_gt (hm : hx_mok M = true) (i : Nat) {off : Int} (hi : M.2.2.2.2.2.2.2[i]? = some (pc, .ifCond .gt off, 3)) {tgt : Nat} (ht : (pc : Int) + off = (tgt : Int)) {x : Int32} {P : Prop} (hp : (0 < x) ↔ P) (kt : P → hx_V S M d tgt L st N h r) (kf : ¬ P → hx_V S M d (pc + 3) L st N h r) : hx_V S M d pc L (.int x :: st) N h r := by
  intro p l e R s m args below meth c D dA A N0 ad0 cx ad H locs ls cells slots hz hN hl hP hD hS hc1 hc2
  exact lv_if_gt cx.1 cx.2.1 (hx_ct hm i hi) ht (fun q => kt (hp.mp q) p l e R s m args below meth c D dA A N0 ad0 cx ad H locs ls cells slots hz hN hl hP hD hS hc1 hc2) (fun q => kf (fun z => q (hp.mpr z)) p l e R s m args below meth c D dA A N0 ad0 cx ad H locs ls cells slots hz hN hl hP hD hS hc1 hc2)
theorem hv_if_le (hm : hx_mok M = true) (i : Nat) {off : Int} (hi : M.2.2.2.2.2.2.2[i]? = some (pc, .ifCond .le off, 3)) {tgt : Nat} (ht : (pc : Int) + off = (tgt : Int)) {x : Int32} {P : Prop} (hp : (x ≤ 0) ↔ P) (kt : P → hx_V S M d tgt L st N h r) (kf : ¬ P → hx_V S M d (pc + 3) L st N h r) : hx_V S M d pc L (.int x :: st) N h r := by
  intro p l e R s m args below meth c D dA A N0 ad0 cx ad H locs ls cells slots hz hN hl hP hD hS hc1 hc2
  exact lv_if_le cx.1 cx.2.1 (hx_ct hm i hi) ht (fun q => kt (hp.mp q) p l e R s m args below meth c D dA A N0 ad0 cx ad H locs ls cells slots hz hN hl hP hD hS hc1 hc2) (fun q => kf (fun z => q (hp.mpr z)) p l e R s m args below meth c D dA A N0 ad0 cx ad H locs ls cells slots hz hN hl hP hD hS hc1 hc2)
theorem hv_ic_eq (hm : hx_mok M = true) (i : Nat) {off : Int} (hi : M.2.2.2.2.2.2.2[i]? = some (pc, .if_icmp .eq off, 3)) {tgt : Nat} (ht : (pc : Int) + off = (tgt : Int)) {x y : Int32} (kt : x = y → hx_V S M d tgt L st N h r) (kf : ¬ x = y → hx_V S M d (pc + 3) L st N h r) : hx_V S M d pc L (.int y :: .int x :: st) N h r := by
  intro p l e R s m args below meth c D dA A N0 ad0 cx ad H locs ls cells slots hz hN hl hP hD hS hc1 hc2
  exact lv_icmp_eq cx.1 cx.2.1 (hx_ct hm i hi) ht (fun q => kt q p l e R s m args below meth c D dA A N0 ad0 cx ad H locs ls cells slots hz hN hl hP hD hS hc1 hc2) (fun q => kf q p l e R s m args below meth c D dA A N0 ad0 cx ad H locs ls cells slots hz hN hl hP hD hS hc1 hc2)
theorem hv_ic_ne (hm : hx_mok M = true) (i : Nat) {off : Int} (hi : M.2.2.2.2.2.2.2[i]? = some (pc, .if_icmp .ne off, 3)) {tgt : Nat} (ht : (pc : Int) + off = (tgt : Int)) {x y : Int32} (kt : ¬ x = y → hx_V S M d tgt L st N h r) (kf : x = y → hx_V S M d (pc + 3) L st N h r) : hx_V S M d pc L (.int y :: .int x :: st) N h r := by
  intro p l e R s m args below meth c D dA A N0 ad0 cx ad H locs ls cells slots hz hN hl hP hD hS hc1 hc2
  exact lv_icmp_ne cx.1 cx.2.1 (hx_ct hm i hi) ht (fun q => kt q p l e R s m args below meth c D dA A N0 ad0 cx ad H locs ls cells slots hz hN hl hP hD hS hc1 hc2) (fun q => kf q p l e R s m args below meth c D dA A N0 ad0 cx ad H locs ls cells slots hz hN hl hP hD hS hc1 hc2)
theorem hv_ic_lt (hm : hx_mok M = true) (i : Nat) {off : Int} (hi : M.2.2.2.2.2.2.2[i]? = some (pc, .if_icmp .lt off, 3)) {tgt : Nat} (ht : (pc : Int) + off = (tgt : Int)) {x y : Int32} (kt : x < y → hx_V S M d tgt L st N h r) (kf : ¬ x < y → hx_V S M d (pc + 3) L st N h r) : hx_V S M d pc L (.int y :: .int x :: st) N h r := by
  intro p l e R s m args below meth c D dA A N0 ad0 cx ad H locs ls cells slots hz hN hl hP hD hS hc1 hc2
  exact lv_icmp_lt cx.1 cx.2.1 (hx_ct hm i hi) ht (fun q => kt q p l e R s m args below meth c D dA A N0 ad0 cx ad H locs ls cells slots hz hN hl hP hD hS hc1 hc2) (fun q => kf q p l e R s m args below meth c D dA A N0 ad0 cx ad H locs ls cells slots hz hN hl hP hD hS hc1 hc2)
theorem hv_ic_ge (hm : hx_mok M = true) (i : Nat) {off : Int} (hi : M.2.2.2.2.2.2.2[i]? = some (pc, .if_icmp .ge off, 3)) {tgt : Nat} (ht : (pc : Int) + off = (tgt : Int)) {x y : Int32} (kt : y ≤ x → hx_V S M d tgt L st N h r) (kf : ¬ y ≤ x → hx_V S M d (pc + 3) L st N h r) : hx_V S M d pc L (.int y :: .int x :: st) N h r := by
  intro p l e R s m args below meth c D dA A N0 ad0 cx ad H locs ls cells slots hz hN hl hP hD hS hc1 hc2
  exact lv_icmp_ge cx.1 cx.2.1 (hx_ct hm i hi) ht (fun q => kt q p l e R s m args below meth c D dA A N0 ad0 cx ad H locs ls cells slots hz hN hl hP hD hS hc1 hc2) (fun q => kf q p l e R s m args below meth c D dA A N0 ad0 cx ad H locs ls cells slots hz hN hl hP hD hS hc1 hc2)
theorem hv_ic_gt (hm : hx_mok M = true) (i : Nat) {off : Int} (hi : M.2.2.2.2.2.2.2[i]? = some (pc, .if_icmp .gt off, 3)) {tgt : Nat} (ht : (pc : Int) + off = (tgt : Int)) {x y : Int32} (kt : y < x → hx_V S M d tgt L st N h r) (kf : ¬ y < x → hx_V S M d (pc + 3) L st N h r) : hx_V S M d pc L (.int y :: .int x :: st) N h r := by
  intro p l e R s m args below meth c D dA A N0 ad0 cx ad H locs ls cells slots hz hN hl hP hD hS hc1 hc2
  exact lv_icmp_gt cx.1 cx.2.1 (hx_ct hm i hi) ht (fun q => kt q p l e R s m args below meth c D dA A N0 ad0 cx ad H locs ls cells slots hz hN hl hP hD hS hc1 hc2) (fun q => kf q p l e R s m args below meth c D dA A N0 ad0 cx ad H locs ls cells slots hz hN hl hP hD hS hc1 hc2)
theorem hv_ic_le (hm : hx_mok M = true) (i : Nat) {off : Int} (hi : M.2.2.2.2.2.2.2[i]? = some (pc, .if_icmp .le off, 3)) {tgt : Nat} (ht : (pc : Int) + off = (tgt : Int)) {x y : Int32} (kt : x ≤ y → hx_V S M d tgt L st N h r) (kf : ¬ x ≤ y → hx_V S M d (pc + 3) L st N h r) : hx_V S M d pc L (.int y :: .int x :: st) N h r := by
  intro p l e R s m args below meth c D dA A N0 ad0 cx ad H locs ls cells slots hz hN hl hP hD hS hc1 hc2
  exact lv_icmp_le cx.1 cx.2.1 (hx_ct hm i hi) ht (fun q => kt q p l e R s m args below meth c D dA A N0 ad0 cx ad H locs ls cells slots hz hN hl hP hD hS hc1 hc2) (fun q => kf q p l e R s m args below meth c D dA A N0 ad0 cx ad H locs ls cells slots hz hN hl hP hD hS hc1 hc2)
theorem hv_null (hm : hx_mok M = true) (i : Nat) {off : Int} (hi : M.2.2.2.2.2.2.2[i]? = some (pc, .ifnull off, 3)) {tgt : Nat} (ht : (pc : Int) + off = (tgt : Int)) {z : Nat} (kt : z = 0 → hx_V S M d tgt L st N h r) (kf : ¬ z = 0 → hx_V S M d (pc + 3) L st N h r) : hx_V S M d pc L (.ref z :: st) N h r := by
  intro p l e R s m args below meth c D dA A N0 ad0 cx ad H locs ls cells slots hz hN hl hP hD hS hc1 hc2
  by_cases h0 : z = 0
  · subst h0
    exact lv_ifnullN cx.1 cx.2.1 (hx_ct hm i hi) ht (kt rfl p l e R s m args below meth c D dA A N0 ad0 cx ad H locs ls cells slots hz hN hl hP hD hS hc1 hc2)
  · rw [List.map_cons, show cV ad (.ref z) = .ref (ad z) from cR_pos h0]
    exact lv_ifnull cx.1 cx.2.1 (hx_ct hm i hi) (kf h0 p l e R s m args below meth c D dA A N0 ad0 cx ad H locs ls cells slots hz hN hl hP hD hS hc1 hc2)
theorem hv_nonnull (hm : hx_mok M = true) (i : Nat) {off : Int} (hi : M.2.2.2.2.2.2.2[i]? = some (pc, .ifnonnull off, 3)) {tgt : Nat} (ht : (pc : Int) + off = (tgt : Int)) {z : Nat} (kt : ¬ z = 0 → hx_V S M d tgt L st N h r) (kf : z = 0 → hx_V S M d (pc + 3) L st N h r) : hx_V S M d pc L (.ref z :: st) N h r := by
  intro p l e R s m args below meth c D dA A N0 ad0 cx ad H locs ls cells slots hz hN hl hP hD hS hc1 hc2
  by_cases h0 : z = 0
  · subst h0
    exact lv_ifnonnullN cx.1 cx.2.1 (hx_ct hm i hi) (kf rfl p l e R s m args below meth c D dA A N0 ad0 cx ad H locs ls cells slots hz hN hl hP hD hS hc1 hc2)
  · rw [List.map_cons, show cV ad (.ref z) = .ref (ad z) from cR_pos h0]
    exact lv_ifnonnull cx.1 cx.2.1 (hx_ct hm i hi) ht (kt h0 p l e R s m args below meth c D dA A N0 ad0 cx ad H locs ls cells slots hz hN hl hP hD hS hc1 hc2)
theorem hW_inj {S : hS} {ad : Nat → Nat} {dA : Nat → ClassId} {N : Nat} {h : hH} {A : Nat → Prop} (hD : va_D A (hW S ad dA N h)) {x y : Nat} (hx0 : x ≠ 0) (hx : x ≤ N) (hy0 : y ≠ 0) (hy : y ≤ N) (e : ad x = ad y) : x = y := by
  have := hD.1 (x - 1) (y - 1) _ _ (hW_at hx0 hx) (hW_at hy0 hy) e
  omega
theorem hop_inj {S : hS} {ad : Nat → Nat} {dA : Nat → ClassId} {N : Nat} {h : hH} {A : Nat → Prop} (hD : va_D A (hW S ad dA N h)) {x y : Nat} (hx : x ≤ N) (hy : y ≤ N) : hop ad x = hop ad y ↔ x = y := by
  unfold hop
  by_cases h0 : x = 0
  · by_cases h1 : y = 0
    · rw [if_pos h0, if_pos h1]; exact ⟨fun _ => by omega, fun _ => rfl⟩
    · rw [if_pos h0, if_neg h1]; exact ⟨fun q => by simp at q, fun q => by omega⟩
  · by_cases h1 : y = 0
    · rw [if_neg h0, if_pos h1]; exact ⟨fun q => by simp at q, fun q => by omega⟩
    · rw [if_neg h0, if_neg h1]
      exact ⟨fun q => hW_inj hD h0 hx h1 hy (Option.some.inj q), fun q => by rw [q]⟩
theorem hv_aeq (hm : hx_mok M = true) (i : Nat) {off : Int} (hi : M.2.2.2.2.2.2.2[i]? = some (pc, .if_acmp .eq off, 3)) {tgt : Nat} (ht : (pc : Int) + off = (tgt : Int)) {x y : Nat} (hxN : x ≤ N) (hyN : y ≤ N) (kt : x = y → hx_V S M d tgt L st N h r) (kf : ¬ x = y → hx_V S M d (pc + 3) L st N h r) : hx_V S M d pc L (.ref y :: .ref x :: st) N h r := by
  intro p l e R s m args below meth c D dA A N0 ad0 cx ad H locs ls cells slots hz hN hl hP hD hS hc1 hc2
  rw [List.map_cons, List.map_cons, show cV ad (.ref x) = va_rf (hop ad x) from (hop_rf ad x).symm, show cV ad (.ref y) = va_rf (hop ad y) from (hop_rf ad y).symm]
  exact lv_acmp_eq cx.1 cx.2.1 (hx_ct hm i hi) ht (fun q => kt ((hop_inj hD hxN hyN).mp q) p l e R s m args below meth c D dA A N0 ad0 cx ad H locs ls cells slots hz hN hl hP hD hS hc1 hc2) (fun q => kf (fun z => q ((hop_inj hD hxN hyN).mpr z)) p l e R s m args below meth c D dA A N0 ad0 cx ad H locs ls cells slots hz hN hl hP hD hS hc1 hc2)
theorem hv_ane (hm : hx_mok M = true) (i : Nat) {off : Int} (hi : M.2.2.2.2.2.2.2[i]? = some (pc, .if_acmp .ne off, 3)) {tgt : Nat} (ht : (pc : Int) + off = (tgt : Int)) {x y : Nat} (hxN : x ≤ N) (hyN : y ≤ N) (kt : ¬ x = y → hx_V S M d tgt L st N h r) (kf : x = y → hx_V S M d (pc + 3) L st N h r) : hx_V S M d pc L (.ref y :: .ref x :: st) N h r := by
  intro p l e R s m args below meth c D dA A N0 ad0 cx ad H locs ls cells slots hz hN hl hP hD hS hc1 hc2
  rw [List.map_cons, List.map_cons, show cV ad (.ref x) = va_rf (hop ad x) from (hop_rf ad x).symm, show cV ad (.ref y) = va_rf (hop ad y) from (hop_rf ad y).symm]
  exact lv_acmp_ne cx.1 cx.2.1 (hx_ct hm i hi) ht (fun q => kt (fun z => q ((hop_inj hD hxN hyN).mpr z)) p l e R s m args below meth c D dA A N0 ad0 cx ad H locs ls cells slots hz hN hl hP hD hS hc1 hc2) (fun q => kf ((hop_inj hD hxN hyN).mp q) p l e R s m args below meth c D dA A N0 ad0 cx ad H locs ls cells slots hz hN hl hP hD hS hc1 hc2)
theorem hv_tin (hm : hx_mok M = true) (i : Nat) {dflt lo hi : Int} {offs : Array Int} {len : Nat} (hi0 : M.2.2.2.2.2.2.2[i]? = some (pc, .tableswitch dflt lo hi offs, len)) {x : Int32} (k : Nat) {off : Int} {tgt : Nat} (hx : x.toInt = lo + k) (hh : ¬ hi < lo + k) (ho : offs[k]? = some off) (ht : (pc : Int) + off = (tgt : Int)) (kk : hx_V S M d tgt L st N h r) : hx_V S M d pc L (.int x :: st) N h r := by
  intro p l e R s m args below meth c D dA A N0 ad0 cx ad H locs ls cells slots hz hN hl hP hD hS hc1 hc2
  exact lv_tableIn cx.1 cx.2.1 (hx_ct hm i hi0) (by omega) (by rw [hx]; exact hh) (by rw [hx, show (lo + (k : Int) - lo).toNat = k by omega]; exact ho) ht (kk p l e R s m args below meth c D dA A N0 ad0 cx ad H locs ls cells slots hz hN hl hP hD hS hc1 hc2)
theorem hv_tout (hm : hx_mok M = true) (i : Nat) {dflt lo hi : Int} {offs : Array Int} {len : Nat} (hi0 : M.2.2.2.2.2.2.2[i]? = some (pc, .tableswitch dflt lo hi offs, len)) {x : Int32} {tgt : Nat} (hx : x.toInt < lo ∨ hi < x.toInt) (ht : (pc : Int) + dflt = (tgt : Int)) (kk : hx_V S M d tgt L st N h r) : hx_V S M d pc L (.int x :: st) N h r := by
  intro p l e R s m args below meth c D dA A N0 ad0 cx ad H locs ls cells slots hz hN hl hP hD hS hc1 hc2
  exact lv_tableOut cx.1 cx.2.1 (hx_ct hm i hi0) hx ht (kk p l e R s m args below meth c D dA A N0 ad0 cx ad H locs ls cells slots hz hN hl hP hD hS hc1 hc2)
theorem hv_lsw (hm : hx_mok M = true) (i : Nat) {dflt : Int} {ps : Array (Int × Int)} {len : Nat} (hi0 : M.2.2.2.2.2.2.2[i]? = some (pc, .lookupswitch dflt ps, len)) (hp : (ps.toList.zip (ps.toList.drop 1)).all (fun (a, next) => a.1 < next.1) = true) {x : Int32} {off : Int} {tgt : Nat} (ho : Op.lookupswitch.offset ps.toList dflt x.toInt = off) (ht : (pc : Int) + off = (tgt : Int)) (kk : hx_V S M d tgt L st N h r) : hx_V S M d pc L (.int x :: st) N h r := by
  intro p l e R s m args below meth c D dA A N0 ad0 cx ad H locs ls cells slots hz hN hl hP hD hS hc1 hc2
  exact lv_lookup cx.1 cx.2.1 (hx_ct hm i hi0) hp ho ht (kk p l e R s m args below meth c D dA A N0 ad0 cx ad H locs ls cells slots hz hN hl hP hD hS hc1 hc2)
theorem hx_retQ {below : List Frame} {D : va_G} {dA : Nat → ClassId} {A : Nat → Prop} {N0 : Nat} {ad0 : Nat → Nat} {s : State} {args : Array Value} {kc ks : Nat} (t : State) (q : MQ below (fun _ st o t => hx_end S D dA A N0 ad0 r st o t) args s kc ks A t) : hx_Q below S D dA A N0 ad0 r s kc ks t := by
  obtain ⟨o, h1, h2, h3, Ls, h4, h5⟩ := q
  exact ⟨o, h1, h2, h3, Ls, h4.2.1, h4.2.2, h5⟩
theorem hv_iret (hm : hx_mok M = true) (i : Nat) (hi : M.2.2.2.2.2.2.2[i]? = some (pc, .ireturn, 1)) {x : Int32} {ty : FieldType} (hty : M.2.2.2.2.1 = some ty) (hn : narrow ty (.int x) = .int x) : hx_V S M d pc L [.int x] N h (some (some (.int x)), N, h, 0, 0) := by
  intro p l e R s m args below meth c D dA A N0 ad0 cx ad H locs ls cells slots hz hN hl hP hD hS hc1 hc2
  have hlk : meth.locks = false := cx.2.2.2.2.2.2.1
  refine W.widen (k := R.cells) (n := R.slots) hc1 hc2 (hx_Wm (hx_retQ (args := args)) (W.zret cx.1 cx.2.1 (cx.2.2.1.trans hty) hn (fun t ht hW => ⟨⟨ad, hz, by rw [ht]; exact hP, hD, rfl⟩, hS.F ht⟩) hS.2.2 (hx_ct hm i hi) hlk))
theorem hv_lret (hm : hx_mok M = true) (i : Nat) (hi : M.2.2.2.2.2.2.2[i]? = some (pc, .lreturn, 1)) {x : Int64} (hty : M.2.2.2.2.1 = some .long) : hx_V S M d pc L [.long x] N h (some (some (.long x)), N, h, 0, 0) := by
  intro p l e R s m args below meth c D dA A N0 ad0 cx ad H locs ls cells slots hz hN hl hP hD hS hc1 hc2
  have hlk : meth.locks = false := cx.2.2.2.2.2.2.1
  refine W.widen (k := R.cells) (n := R.slots) hc1 hc2 (hx_Wm (hx_retQ (args := args)) (W.lret cx.1 cx.2.1 (cx.2.2.1.trans hty) (fun t ht hW => ⟨⟨ad, hz, by rw [ht]; exact hP, hD, rfl⟩, hS.F ht⟩) hS.2.2 (hx_ct hm i hi) hlk))
theorem hv_aret (hm : hx_mok M = true) (i : Nat) (hi : M.2.2.2.2.2.2.2[i]? = some (pc, .areturn, 1)) {z : Nat} {nm : String} (hty : M.2.2.2.2.1 = some (.object nm)) : hx_V S M d pc L [.ref z] N h (some (some (.ref z)), N, h, 0, 0) := by
  intro p l e R s m args below meth c D dA A N0 ad0 cx ad H locs ls cells slots hz hN hl hP hD hS hc1 hc2
  have hlk : meth.locks = false := cx.2.2.2.2.2.2.1
  refine W.widen (k := R.cells) (n := R.slots) hc1 hc2 (hx_Wm (hx_retQ (args := args)) (W.aret cx.1 cx.2.1 (cx.2.2.1.trans hty) (Or.inl ⟨_, rfl⟩) (cR_or ad z) (fun t ht hW => ⟨⟨ad, hz, by rw [ht]; exact hP, hD, rfl⟩, hS.F ht⟩) hS.2.2 (hx_ct hm i hi) hlk))
theorem hv_ret (hm : hx_mok M = true) (i : Nat) (hi : M.2.2.2.2.2.2.2[i]? = some (pc, .return_, 1)) (hty : M.2.2.2.2.1 = none) : hx_V S M d pc L [] N h (some none, N, h, 0, 0) := by
  intro p l e R s m args below meth c D dA A N0 ad0 cx ad H locs ls cells slots hz hN hl hP hD hS hc1 hc2
  have hlk : meth.locks = false := cx.2.2.2.2.2.2.1
  refine W.widen (k := R.cells) (n := R.slots) hc1 hc2 (hx_Wm (hx_retQ (args := args)) (W.vret cx.1 cx.2.1 (cx.2.2.1.trans hty) (fun t ht hW => ⟨⟨ad, hz, by rw [ht]; exact hP, hD, rfl⟩, hS.F ht⟩) hS.2.2 (hx_ct hm i hi) hlk))
end V
