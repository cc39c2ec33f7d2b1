/-! LAYER 2e: constructors: rows for new objects and arrays, and for the references that stay -/
def okB (N : Nat) (h : hH) : Prop := (∀ o k, rdP h o k ≤ N) ∧ ∀ o, N < o → ∀ k, rdI h o k = 0 ∧ rdL h o k = 0 ∧ rdP h o k = 0
theorem okB.mono {N N' : Nat} {h : hH} (hb : okB N h) (hn : N ≤ N') : okB N' h := ⟨fun o k => Nat.le_trans (hb.1 o k) hn, fun o ho k => hb.2 o (by omega) k⟩
theorem okB.wrP {N o k v : Nat} {h : hH} (hb : okB N h) (ho : o ≤ N) (hv : v ≤ N) : okB N (wrP h o k v) := by
  refine ⟨fun a b => ?_, fun a ha b => ?_⟩
  · show up2 h.2.2 o k v a b ≤ N
    unfold up2
    split
    · exact hv
    · exact hb.1 a b
  · have h1 := hb.2 a ha b
    refine ⟨h1.1, h1.2.1, ?_⟩
    show up2 h.2.2 o k v a b = 0
    rw [up2_o (by omega)]
    exact h1.2.2
theorem okB.wrI {N o k : Nat} {v : Int32} {h : hH} (hb : okB N h) (ho : o ≤ N) : okB N (wrI h o k v) := by
  refine ⟨hb.1, fun a ha b => ?_⟩
  have h1 := hb.2 a ha b
  refine ⟨?_, h1.2⟩
  show up2 h.1 o k v a b = 0
  rw [up2_o (by omega)]
  exact h1.1
/-- a new id's address -/
def hx_nad (ad : Nat → Nat) (N q : Nat) : Nat → Nat := fun z => if z = N + 1 then q else ad z
theorem hx_nad_le {ad : Nat → Nat} {N q z : Nat} (h : z ≤ N) : hx_nad ad N q z = ad z := if_neg (by omega)
theorem cR_nad {ad : Nat → Nat} {N q z : Nat} (h : z ≤ N) : cR (hx_nad ad N q) z = cR ad z := by
  unfold cR
  rw [hx_nad_le h]
theorem hop_nad {ad : Nat → Nat} {N q z : Nat} (h : z ≤ N) : hop (hx_nad ad N q) z = hop ad z := by
  unfold hop
  rw [hx_nad_le h]
theorem hE_nad {S : hS} (hS1 : S.1 = true) {ad : Nat → Nat} {dA : Nat → ClassId} {N q : Nat} {h : hH} (hb : okB N h) (z : Nat) : hE S (hx_nad ad N q) dA h z = hE S ad dA h z := by
  have e1 : ∀ o k, hfr S h o k = rdP h o k := fun o k => by unfold hfr; rw [hS1]
  have e2 : ∀ c k, hfv S (hx_nad ad N q) h z c k = hfv S ad h z c k := fun c k => by
    unfold hfv
    rw [e1]
    split <;> first | rfl | exact cR_nad (hb.1 _ _)
  have e3 : ∀ c, hfl S (hx_nad ad N q) h z c = hfl S ad h z c := fun c => by
    unfold hfl
    exact List.map_congr_left fun k _ => e2 c k
  have e4 : har S (hx_nad ad N q) h z = har S ad h z := by
    unfold har
    have : (fun j => hop (hx_nad ad N q) (hfr S h z j)) = (fun j => hop ad (hfr S h z j)) := by
      funext j
      rw [e1]
      exact hop_nad (hb.1 _ _)
    rw [this]
  unfold hE
  rw [e3, e4]
theorem hW_grow {S : hS} (hS1 : S.1 = true) {ad : Nat → Nat} {dA : Nat → ClassId} {N q : Nat} {h : hH} (hb : okB N h) {e : va_E} (he : hE S (hx_nad ad N q) dA h (N + 1) = e) : hW S ad dA N h ++ [(q, e)] = hW S (hx_nad ad N q) dA (N + 1) h := by
  unfold hW
  rw [List.range_succ, List.map_append, List.map_cons, List.map_nil, he]
  have e1 : (List.range N).map (fun j => (ad (j + 1), hE S ad dA h (j + 1))) = (List.range N).map (fun j => (hx_nad ad N q (j + 1), hE S (hx_nad ad N q) dA h (j + 1))) := by
    refine List.map_congr_left fun j hj => ?_
    have hj : j < N := List.mem_range.mp hj
    rw [hE_nad hS1 hb, hx_nad_le (by omega)]
  rw [e1]
  simp [hx_nad]
theorem hx_leL {N : Nat} {L : List (Nat × Value)} {ad : Nat → Nat} {q : Nat} (h : ∀ x ∈ L, hx_le N x.2) : hL (hx_nad ad N q) L = hL ad L := hx_le_L (fun z hz => hx_nad_le hz) h
theorem hx_leS {N : Nat} {st : List Value} {ad : Nat → Nat} {q : Nat} (h : ∀ x ∈ st, hx_le N x) : st.map (cV (hx_nad ad N q)) = st.map (cV ad) := hx_le_map (fun z hz => hx_nad_le hz) h
theorem hx_adN {N0 N q : Nat} {ad0 ad : Nat → Nat} (hz : hx_ad N0 ad0 N ad) (hN : N0 ≤ N) : hx_ad N0 ad0 (N + 1) (hx_nad ad N q) := ⟨fun z h => (hx_nad_le (by omega)).trans (hz.1 z h), fun h => by omega⟩
/-- names of ids up to N alone -/
def leB (N : Nat) (L : List (Nat × Value)) (st : List Value) : Bool := L.all (fun q => match q.2 with | .ref z => Nat.ble z N | _ => true) && st.all (fun v => match v with | .ref z => Nat.ble z N | _ => true)
theorem leB_L {N : Nat} {L : List (Nat × Value)} {st : List Value} (h : leB N L st = true) : (∀ q ∈ L, hx_le N q.2) ∧ ∀ v ∈ st, hx_le N v := by
  unfold leB at h
  rw [Bool.and_eq_true] at h
  refine ⟨fun q hq => ?_, fun v hv => ?_⟩
  · have h1 := List.all_eq_true.mp h.1 q hq
    obtain ⟨i, v⟩ := q
    cases v <;> first | trivial | exact Nat.le_of_ble_eq_true h1
  · have h1 := List.all_eq_true.mp h.2 v hv
    cases v <;> first | trivial | exact Nat.le_of_ble_eq_true h1
section BD
variable {S : hS} {M : hM} {d pc N : Nat} {L : List (Nat × Value)} {st : List Value} {h : hH}
def hx_t0 : Nat → Nat := fun t => t - 100
theorem hx_Ty_at (dA : Nat → ClassId) : (hx_Ty dA)[0]? = some (dA 100, .int) ∧ (hx_Ty dA)[1]? = some (dA 101, .boolean) ∧ (hx_Ty dA)[2]? = some (dA 102, .byte) ∧ (hx_Ty dA)[3]? = some (dA 103, .long) ∧ (hx_Ty dA)[4]? = some (dA 104, .object "HintHouse$Outline") ∧ (hx_Ty dA)[5]? = some (dA 105, .object "HintHouse$Glyph") := ⟨rfl, rfl, rfl, rfl, rfl, rfl⟩
set_option maxHeartbeats 1000000 in
theorem hv_newa (hm : hx_mok M = true) (i : Nat) {aty : ArrayType} (hi : M.2.2.2.2.2.2.2[i]? = some (pc, .newarray aty, 2)) (t : Nat) (hat : (aty = .int ∧ t = 100) ∨ (aty = .boolean ∧ t = 101) ∨ (aty = .byte ∧ t = 102) ∨ (aty = .long ∧ t = 103)) (harr : Cond.arrayClass (newarray.typeOf aty) ∈ lw_all) {n : Int32} {L0 : Nat} (hn : ¬ n < 0) (hL0 : n.toNatClampNeg = L0) (hby : L0 ≤ 20000) (hS1 : S.1 = true) (htg : S.2.1 (N + 1) = t) (hln : S.2.2.1 (N + 1) = L0) (hb : okB N h) (hle : leB N L st = true) {r : hR}
    (k : hx_V S M d (pc + 2) L (.ref (N + 1) :: st) (N + 1) h r) : hx_V S M d pc L (.int n :: st) N h (r.1, r.2.1, r.2.2.1, 1 + r.2.2.2.1, L0 + r.2.2.2.2) := by
  intro p l e R s m args below meth c D dA A N0 ad0 cx ad H locs ls cells slots hz hN hl hP hD hS hc1 hc2
  have hc1 : cells + (1 + r.2.2.2.1) ≤ R.cells := hc1
  have hc2 : slots + (L0 + r.2.2.2.2) ≤ R.slots := hc2
  obtain ⟨hx, hb0, hr, hml, hown, hts, hlkk, hK, ht0, hroom, hA, hst, hnm, htab, hflg, hZ⟩ := id cx
  obtain ⟨hleL, hleS⟩ := leB_L hle
  have hz1 : ∀ j, rdI h (N + 1) j = 0 := fun j => (hb.2 (N + 1) (by omega) j).1
  have hz2 : ∀ j, rdL h (N + 1) j = 0 := fun j => (hb.2 (N + 1) (by omega) j).2.1
  have key : ∀ (ty : FieldType) (a0 : vp_A) (k0 : Nat), newarray.typeOf aty = ty → (hx_Ty dA)[k0]? = some (dA t, ty) → (∀ cA : ClassId, vp_cell cA a0 = arrV cA L0 (fun _ => defaultValue ty)) → componentBytes ty ≤ 8 → (∀ cA, va_RA s cA ty → s.vm.findClass ("[" ++ ty.toString) = some cA) → (∀ q, hE S (hx_nad ad N q) dA h (N + 1) = .inl (dA t, a0)) → W p l e R s m args below meth c H locs cells slots (hx_Q below S D dA A N0 ad0 (r.1, r.2.1, r.2.2.1, 1 + r.2.2.2.1, L0 + r.2.2.2.2) s R.cells R.slots) (F0 m pc ls (.int n :: st.map (cV ad))) := by
    intro ty a0 k0 hty hk0 ha hcb hRA hE0
    refine va_newa hx hb0 (hts _ harr) hty hK.1 hP hD hS hA ha hn hL0 (Nat.le_trans (Nat.mul_le_mul hby hcb) (by decide)) (by omega) (by omega) (hx_ct hm i hi) (fun q cA H1 k1 k2 k3 k4 => ?_)
    have e1 : cA = dA t := by
      have f1 := hRA _ (k1.2 6 (cA, ty) rfl).2
      have f2 := hRA _ (hK.1.2 k0 _ hk0).2
      exact Option.some.inj (f1.symm.trans f2)
    subst e1
    have eW := hW_grow hS1 hb (hE0 q) (dA := dA)
    rw [eW] at k2 k3
    have K := k p l e R s m args below meth c D dA A N0 ad0 cx (hx_nad ad N q) H1 locs ls (cells + 1) (slots + L0) (hx_adN hz hN) (by omega) (by rw [hx_leL hleL]; exact hl) k2 k3 k4 (by omega) (by omega)
    rw [List.map_cons, hx_leS hleS, show cV (hx_nad ad N q) (.ref (N + 1)) = .ref q by show cR _ _ = _; unfold cR hx_nad; simp] at K
    exact K
  rcases hat with ⟨rfl, rfl⟩ | ⟨rfl, rfl⟩ | ⟨rfl, rfl⟩ | ⟨rfl, rfl⟩
  · refine key .int (L0, .inl (fun _ => 0)) 0 rfl rfl (fun cA => rfl) (by decide) (fun cA q => q) (fun q => ?_)
    unfold hE har
    rw [htg, if_neg (by decide), if_neg (by decide), if_pos (by decide), hln, funext hz1]
  · refine key .boolean (L0, .inl (fun _ => 0)) 1 rfl rfl (fun cA => rfl) (by decide) (fun cA q => q) (fun q => ?_)
    unfold hE har
    rw [htg, if_neg (by decide), if_neg (by decide), if_pos (by decide), hln, funext hz1]
  · refine key .byte (L0, .inl (fun _ => 0)) 2 rfl rfl (fun cA => rfl) (by decide) (fun cA q => q) (fun q => ?_)
    unfold hE har
    rw [htg, if_neg (by decide), if_neg (by decide), if_pos (by decide), hln, funext hz1]
  · refine key .long (L0, .inr (.inl (fun _ => 0))) 3 rfl rfl (fun cA => rfl) (by decide) (fun cA q => q) (fun q => ?_)
    unfold hE har
    rw [htg, if_neg (by decide), if_pos rfl, hln, funext hz2]
set_option maxHeartbeats 1000000 in
theorem hv_newq (hm : hx_mok M = true) (i : Nat) {ix : Nat} (hi : M.2.2.2.2.2.2.2[i]? = some (pc, .anewarray ix, 3)) (t : Nat) {C : String} (hat : (C = "HintHouse$Outline" ∧ t = 104) ∨ (C = "HintHouse$Glyph" ∧ t = 105)) (hcl1 : Cond.classLink (hRn M.1) ix C ∈ lw_all) {n : Int32} {L0 : Nat} (hn : ¬ n < 0) (hL0 : n.toNatClampNeg = L0) (hby : L0 ≤ 20000) (hS1 : S.1 = true) (htg : S.2.1 (N + 1) = t) (hln : S.2.2.1 (N + 1) = L0) (hb : okB N h) (hle : leB N L st = true) {r : hR}
    (k : hx_V S M d (pc + 3) L (.ref (N + 1) :: st) (N + 1) h r) : hx_V S M d pc L (.int n :: st) N h (r.1, r.2.1, r.2.2.1, 1 + r.2.2.2.1, L0 + r.2.2.2.2) := by
  intro p l e R s m args below meth c D dA A N0 ad0 cx ad H locs ls cells slots hz hN hl hP hD hS hc1 hc2
  have hc1 : cells + (1 + r.2.2.2.1) ≤ R.cells := hc1
  have hc2 : slots + (L0 + r.2.2.2.2) ≤ R.slots := hc2
  obtain ⟨hx, hb0, hr, hml, hown, hts, hlkk, hK, ht0, hroom, hA, hst, hnm, htab, hflg, hZ⟩ := id cx
  obtain ⟨hleL, hleS⟩ := leB_L hle
  have hz3 : ∀ j, hfr S h (N + 1) j = 0 := fun j => by unfold hfr; rw [hS1]; exact (hb.2 (N + 1) (by omega) j).2.2
  have key : ∀ (k0 : Nat), (hx_Ty dA)[k0]? = some (dA t, .object C) → va_AO C s → 103 < t → W p l e R s m args below meth c H locs cells slots (hx_Q below S D dA A N0 ad0 (r.1, r.2.1, r.2.2.1, 1 + r.2.2.2.1, L0 + r.2.2.2.2) s R.cells R.slots) (F0 m pc ls (.int n :: st.map (cV ad))) := by
    intro k0 hk0 hao ht
    refine va_newq hx hb0 hown (hts _ hcl1) hao hK.1 hP hD hS hA hn hL0 (by omega) (by omega) (by omega) (hx_ct hm i hi) (fun q cA H1 k1 k2 k3 k4 => ?_)
    have e1 : cA = dA t := by
      obtain ⟨_, _, _, _, _, f1⟩ := (k1.2 6 (cA, .object C) rfl).2
      obtain ⟨_, _, _, _, _, f2⟩ := (hK.1.2 k0 _ hk0).2
      exact Option.some.inj (f1.symm.trans f2)
    subst e1
    have hE0 : hE S (hx_nad ad N q) dA h (N + 1) = .inl (dA t, L0, .inr (.inr (.inr (.inr (fun _ => none))))) := by
      unfold hE har
      rw [htg, if_neg (by omega), if_neg (by omega), if_neg (by omega), hln]
      have : (fun j => hop (hx_nad ad N q) (hfr S h (N + 1) j)) = fun _ => none := by
        funext j
        rw [hz3]
        rfl
      rw [this]
    have eW := hW_grow hS1 hb hE0
    rw [eW] at k2 k3
    have K := k p l e R s m args below meth c D dA A N0 ad0 cx (hx_nad ad N q) H1 locs ls (cells + 1) (slots + L0) (hx_adN hz hN) (by omega) (by rw [hx_leL hleL]; exact hl) k2 k3 k4 (by omega) (by omega)
    rw [List.map_cons, hx_leS hleS, show cV (hx_nad ad N q) (.ref (N + 1)) = .ref q by show cR _ _ = _; unfold cR hx_nad; simp] at K
    exact K
  rcases hat with ⟨rfl, rfl⟩ | ⟨rfl, rfl⟩
  · exact key 4 rfl hK.2.2.2.2.2.1 (by decide)
  · exact key 5 rfl hK.2.2.2.2.2.2 (by decide)
theorem hx_dv (c k : Nat) (hc : c < 12) (hk0 : k < hnf c) : defaultValue (hTyT c k) = (match hk c k with | 0 => .int 0 | 1 => .int 0 | 2 => .long 0 | _ => .null) := by
  have h := hkOk_at hc hk0
  have hk5 : hk c k = 0 ∨ hk c k = 1 ∨ hk c k = 2 ∨ hk c k = 3 ∨ hk c k = 4 := by
    have hall : (List.range 12).all (fun c => (List.range (hnf c)).all (fun k => decide (hk c k ≤ 4))) = true := by decide +kernel
    have h1 := List.all_eq_true.mp (List.all_eq_true.mp hall c (List.mem_range.mpr hc)) k (List.mem_range.mpr hk0)
    simp only [decide_eq_true_eq] at h1
    omega
  have href : ∀ ty : FieldType, ty.isReference = true → defaultValue ty = .null := by
    intro ty hr
    cases ty <;> first | rfl | cases hr
  rcases hk5 with e | e | e | e | e <;> rw [e]
  · rw [(hkOk_0 hc hk0 e).1]; rfl
  · rw [(hkOk_1 hc hk0 e).1]; rfl
  · rw [(hkOk_2 hc hk0 e).1]; rfl
  · exact href _ (hkOk_3 hc hk0 e).1
  · exact href _ (hkOk_4 hc hk0 e)
set_option maxHeartbeats 1000000 in
theorem hv_newo (hm : hx_mok M = true) (i : Nat) {ix : Nat} (hi : M.2.2.2.2.2.2.2[i]? = some (pc, .new ix, 3)) (a : Nat) (ha : a < 12) (hcl1 : Cond.classLink (hRn M.1) ix (hRn a) ∈ lw_all) (hins : Cond.instantiable (hRn a) (hnf a) ∈ lw_all) (hini : Cond.initialized (hRn a) ∈ lw_all) (hS1 : S.1 = true) (htg : S.2.1 (N + 1) = a) (hb : okB N h) (hle : leB N L st = true) {r : hR}
    (k : hx_V S M d (pc + 3) L (.ref (N + 1) :: st) (N + 1) h r) : hx_V S M d pc L st N h (r.1, r.2.1, r.2.2.1, 1 + r.2.2.2.1, hnf a + r.2.2.2.2) := by
  intro p l e R s m args below meth c D dA A N0 ad0 cx ad H locs ls cells slots hz hN hl hP hD hS hc1 hc2
  have hc1 : cells + (1 + r.2.2.2.1) ≤ R.cells := hc1
  have hc2 : slots + (hnf a + r.2.2.2.2) ≤ R.slots := hc2
  obtain ⟨hx, hb0, hr, hml, hown, hts, hlkk, hK, ht0, hroom, hA, hst, hnm, htab, hflg, hZ⟩ := id cx
  obtain ⟨hleL, hleS⟩ := leB_L hle
  have hz0 := hb.2 (N + 1) (by omega)
  have hv0 : ∀ (q k : Nat), k < hnf a → defaultValue (hTyT a k) = hfv S (hx_nad ad N q) h (N + 1) a k := by
    intro q k hk0
    rw [hx_dv a k ha hk0]
    unfold hfv
    have e1 : hfr S h (N + 1) k = 0 := by unfold hfr; rw [hS1]; exact (hz0 k).2.2
    rw [(hz0 k).1, (hz0 k).2.1, (hz0 k).2.2, e1]
    generalize hk a k = n
    match n with
    | 0 => rfl
    | 1 => rfl
    | 2 => rfl
    | 3 => rfl
    | _ + 4 => rfl
  refine va_new hx hb0 hts (hin_at a ha) (hTyT a) (hty_at a ha) hown (hts _ hcl1) (hts _ hins) (hts _ hini) hK.1 hP hD hS hA (hcl_at a ha) (fs := hfl S (hx_nad ad N H.size) h (N + 1) a) (fun j hj => ?_) (by omega) (by omega) (hx_ct hm i hi) (fun q H1 k2 k3 k4 => ?_)
  · rw [hv0 H.size j hj]
    unfold vp_V
    rw [List.getD_eq_getElem?_getD, hfl_at hj]
    rfl
  · have hE0 : hE S (hx_nad ad N q) dA h (N + 1) = .inr (a, hfl S (hx_nad ad N H.size) h (N + 1) a) := by
      have e1 : hfl S (hx_nad ad N q) h (N + 1) a = hfl S (hx_nad ad N H.size) h (N + 1) a := by
        unfold hfl
        refine List.map_congr_left fun k hk0 => ?_
        rw [← hv0 q k (List.mem_range.mp hk0), ← hv0 H.size k (List.mem_range.mp hk0)]
      unfold hE
      rw [htg, if_pos (by omega), e1]
    have eW := hW_grow hS1 hb hE0
    rw [eW] at k2 k3
    have K := k p l e R s m args below meth c D dA A N0 ad0 cx (hx_nad ad N q) H1 locs ls (cells + 1) (slots + hnf a) (hx_adN hz hN) (by omega) (by rw [hx_leL hleL]; exact hl) k2 k3 k4 (by omega) (by omega)
    rw [List.map_cons, hx_leS hleS, show cV (hx_nad ad N q) (.ref (N + 1)) = .ref q by show cR _ _ = _; unfold cR hx_nad; simp] at K
    exact K
set_option maxHeartbeats 1000000 in
/-- a reference that stays is laid -/
theorem hv_putR (hm : hx_mok M = true) (i : Nat) {ix : Nat} (hi : M.2.2.2.2.2.2.2[i]? = some (pc, .putfield ix, 3)) {b x z : Nat} (ha : M.1 < 12) (hb : b < hnf M.1) (hkd : hk M.1 b = 4) (hlk : (ix, M.1, b) ∈ hflT.getD M.1 []) (hnm0 : M.2.1.name = "<init>") (hS1 : S.1 = true) (hz0 : z ≠ 0) (hzN : z ≤ N) (htg : S.2.1 z = M.1) {r : hR} (k : hx_V S M d (pc + 3) L st N (wrP h z b x) r) : hx_V S M d pc L (.ref x :: .ref z :: st) N h r := by
  intro p l e R s m args below meth c D dA A N0 ad0 cx ad H locs ls cells slots hz hN hl hP hD hS hc1 hc2
  obtain ⟨hx, hb0, hr, hml, hown, hts, hlkk, hK, ht0, hroom, hA, hst, hnm, htab, hflg, hZ⟩ := id cx
  have hsame : ∀ q, s.fieldFound? (hTT M.1 b).1 (hTT M.1 b).2.1 (hTT M.1 b).2.2.1 = some q → s.fieldFound? (hRn M.1) (hTT M.1 b).2.1 (hTT M.1 b).2.2.1 = some q := fun q hq => by rw [← hkOk_own ha hb]; exact hq
  obtain ⟨hnn, hff⟩ := hx_fitsR (hkOk_4 ha hb hkd) ad x
  rw [List.map_cons, List.map_cons, show cV ad (.ref z) = .ref (ad z) from cR_pos hz0, show cV ad (.ref x) = cR ad x from rfl]
  have kk : ∀ (H1 : Heap) (locs1 : List Loc), va_P D hcl ((hW S ad dA N h).set (z - 1) (ad z, .inr (M.1, (hfl S ad h z M.1).set b (cR ad x)))) H1 → va_D A ((hW S ad dA N h).set (z - 1) (ad z, .inr (M.1, (hfl S ad h z M.1).set b (cR ad x)))) → va_S A s.heap H1 locs1 → W p l e R s m args below meth c H1 locs1 cells slots (hx_Q below S D dA A N0 ad0 r s R.cells R.slots) (F0 m (pc + 3) ls (st.map (cV ad))) := by
    intro H1 locs1 q1 q2 q3
    rw [hW_putP hz0 hzN htg (by omega) hb (Or.inr ⟨hkd, hS1⟩)] at q1 q2
    exact k p l e R s m args below meth c D dA A N0 ad0 cx ad H1 locs1 ls cells slots hz hN hl q1 q2 q3 hc1 hc2
  by_cases hfin : (hTT M.1 b).2.2.2 = true
  · exact va_putF hx hb0 hts (hin_at M.1 ha) (hTyT M.1) (hty_at M.1 ha) (hnm_at M.1 ha) hown hK.1 hP hD hS (z - 1) (hW_obj hz0 hzN htg (by omega)) (hcl_at M.1 ha) b hb (hts _ (hfl_mem M.1 ha _ hlk)) hsame hfin (hnm.trans hnm0) (hkOk_own ha hb) (hty_at M.1 ha b hb) hnn hff (by rw [hfl_len]; exact hb) (hx_ct hm i hi) kk
  · exact va_put hx hb0 hts (hin_at M.1 ha) (hTyT M.1) (hty_at M.1 ha) (hnm_at M.1 ha) hown hK.1 hP hD hS (z - 1) (hW_obj hz0 hzN htg (by omega)) (hcl_at M.1 ha) b hb (hts _ (hfl_mem M.1 ha _ hlk)) hsame (by simpa using hfin) (hty_at M.1 ha b hb) hnn hff (by rw [hfl_len]; exact hb) (hx_ct hm i hi) kk
set_option maxHeartbeats 1000000 in
theorem hv_aast (hm : hx_mok M = true) (i : Nat) (hi : M.2.2.2.2.2.2.2[i]? = some (pc, .aastore, 1)) (t : Nat) {x z cx0 : Nat} (hat : (cx0 = 9 ∧ t = 104) ∨ (cx0 = 3 ∧ t = 105)) {j : Int32} (hj : vp_in j (S.2.2.1 z)) (hS1 : S.1 = true) (hz0 : z ≠ 0) (hzN : z ≤ N) (htg : S.2.1 z = t) (hx0 : x ≠ 0) (hxN : x ≤ N) (htx : S.2.1 x = cx0) {r : hR} (k : hx_V S M d (pc + 1) L st N (wrP h z j.toNatClampNeg x) r) : hx_V S M d pc L (.ref x :: .int j :: .ref z :: st) N h r := by
  intro p l e R s m args below meth c D dA A N0 ad0 cx ad H locs ls cells slots hz hN hl hP hD hS hc1 hc2
  obtain ⟨hx, hb0, hr, hml, hown, hts, hlkk, hK, ht0, hroom, hA, hst, hnm, htab, hflg, hZ⟩ := id cx
  rw [List.map_cons, List.map_cons, List.map_cons, show cV ad (.ref z) = .ref (ad z) from cR_pos hz0, show cV ad (.ref x) = .ref (ad x) from cR_pos hx0]
  have key : ∀ (k0 : Nat), (hx_Ty dA)[k0]? = some (dA t, .object (hRn cx0)) → cx0 < 12 → 103 < t → W p l e R s m args below meth c H locs cells slots (hx_Q below S D dA A N0 ad0 r s R.cells R.slots) (F0 m pc ls (.ref (ad x) :: .int j :: .ref (ad z) :: st.map (cV ad))) := by
    intro k0 hk0 hc12 ht
    refine va_astq (r := (hRn cx0, hTT cx0, hnf cx0)) hx hb0 hK.1 hP hD hS (z - 1) k0 (x - 1) cx0 (hW_arrP hz0 hzN htg (by omega)) hk0 (hW_obj hx0 hxN htx (by omega)) (hcl_at cx0 hc12) hj (hx_ct hm i hi) (fun H1 locs1 q1 q2 q3 => ?_)
    rw [hW_setP hz0 hzN htg (by omega) hx0 hS1] at q1 q2
    exact k p l e R s m args below meth c D dA A N0 ad0 cx ad H1 locs1 ls cells slots hz hN hl q1 q2 q3 hc1 hc2
  rcases hat with ⟨rfl, rfl⟩ | ⟨rfl, rfl⟩
  · exact key 4 rfl (by decide) (by decide)
  · exact key 5 rfl (by decide) (by decide)
end BD
