/-! LAYER 1f: the other calls -/
section CL
variable {S : hS} {M : hM} {d pc N : Nat} {L : List (Nat × Value)} {h : hH} {r : hR}
theorem hv_cS (hm : hx_mok M = true) (i : Nat) {idx : Nat} (hi : M.2.2.2.2.2.2.2[i]? = some (pc, .invokestatic idx, 3)) {M2 : hM} (hlk : Cond.methodLink (hRn M.1) idx M2.2.1 ∈ lw_all) (hy : hx_ymS M2) (hh : M2.2.2.2.2.2.1 = []) {d2 : Nat} (hd : d2 + 1 ≤ d) (hmx : M2.2.2.2.1 ≤ 45) {as rest st : List Value} (hst : st = as.reverse ++ rest) (hn : (parseMethodDescriptor M2.2.1.desc).map (fun q => q.parameters.length) = some as.length) {v : Option Value} {N1 : Nat} {h1 : hH} {kc ks : Nat} (hN1 : N ≤ N1)
    (hC : ∀ l : Launch, l.flags = flags0 → hx_C l S M2 d2 N as h (some v, N1, h1, kc, ks)) (hw : (rest.map (fun v => v.category)).sum ≤ 8) (hr1 : N1 = N ∨ ((∀ v ∈ rest, hx_le N v) ∧ ∀ q ∈ L, hx_le N q.2)) {r' : hR} (hr : r = (r'.1, r'.2.1, r'.2.2.1, kc + r'.2.2.2.1, ks + r'.2.2.2.2))
    (k : hx_V S M d (pc + 3) L (v.toList ++ rest) N1 h1 r') : hx_V S M d pc L st N h r := by
  intro p l e R s m args below meth c D dA A N0 ad0 cx ad H locs ls cells slots hz hN hl hP hD hS hc1 hc2
  obtain ⟨hcw, hstt, hini, hmh, hvh⟩ := hy
  have hMet := (hC l cx.2.2.2.2.2.2.2.2.2.2.2.2.2.2.1).met D dA ad H.size
  have e1 := hx_cw_code hh
  rw [e1] at hMet hcw
  have hts := cx.2.2.2.2.2.1
  have hroom := cx.2.2.2.2.2.2.2.2.2.1
  have hstart := hx_start cx hP hD hS as
  subst hst
  subst hr
  refine hx_after (r := r') cx hz hN ?_ hP hD hS hN1 ?_ (va_runS (As := as.map (cV ad)) ⟨cx.1, cx.2.1, cx.2.2.2.1, cx.2.2.2.2.1, hts⟩ hMet (va_cwS as.length hts (lw_S hlk hstt hini hcw) rfl rfl rfl ⟨hmh, hvh, hn⟩ ⟨Nat.le_trans hd hroom.1, ?_⟩) ⟨hx_blind, hstart⟩ rfl (List.length_map _) hl.1 ?_ (lv_room ?_) (hx_ct hm i hi) ⟨?_, ?_⟩) hc1 hc2 k
  · intro ad' h'
    rcases hr1 with e | e
    · rw [h'.2 e]; exact hl
    · rw [hx_le_L h'.1 e.2]; exact hl
  · intro ad' h'
    rcases hr1 with e | e
    · rw [h'.2 e]
    · exact hx_le_map h'.1 e.1
  · show 8 + (M2.2.2.2.1 + 11) + 64 * d2 ≤ R.locals
    have := hroom.2
    omega
  · show (as.reverse ++ rest).map (cV ad) = (as.map (cV ad)).reverse ++ rest.map (cV ad)
    rw [List.map_append, List.map_reverse]
  · rw [List.map_map]
    have e3 : ((fun v => v.category) ∘ cV ad) = (fun v => v.category) := funext fun v => cV_cat ad v
    rw [e3]
    exact hw
  · have := hc1
    dsimp only at this
    omega
  · have := hc2
    dsimp only at this
    omega
theorem hv_cSN (hm : hx_mok M = true) (i : Nat) {idx : Nat} (hi : M.2.2.2.2.2.2.2[i]? = some (pc, .invokestatic idx, 3)) {M2 : hM} (hlk : Cond.methodLinkNest (hRn M.1) idx M2.2.1 "HintHouse" ∈ hmnAll) (hy : hx_ymS M2) (hh : M2.2.2.2.2.2.1 = []) {d2 : Nat} (hd : d2 + 1 ≤ d) (hmx : M2.2.2.2.1 ≤ 45) {as rest st : List Value} (hst : st = as.reverse ++ rest) (hn : (parseMethodDescriptor M2.2.1.desc).map (fun q => q.parameters.length) = some as.length) {v : Option Value} {N1 : Nat} {h1 : hH} {kc ks : Nat} (hN1 : N ≤ N1)
    (hC : ∀ l : Launch, l.flags = flags0 → hx_C l S M2 d2 N as h (some v, N1, h1, kc, ks)) (hw : (rest.map (fun v => v.category)).sum ≤ 8) (hr1 : N1 = N ∨ ((∀ v ∈ rest, hx_le N v) ∧ ∀ q ∈ L, hx_le N q.2)) {r' : hR} (hr : r = (r'.1, r'.2.1, r'.2.2.1, kc + r'.2.2.2.1, ks + r'.2.2.2.2))
    (k : hx_V S M d (pc + 3) L (v.toList ++ rest) N1 h1 r') : hx_V S M d pc L st N h r := by
  intro p l e R s m args below meth c D dA A N0 ad0 cx ad H locs ls cells slots hz hN hl hP hD hS hc1 hc2
  obtain ⟨hcw, hstt, hini, hmh, hvh⟩ := hy
  have hMet := (hC l cx.2.2.2.2.2.2.2.2.2.2.2.2.2.2.1).met D dA ad H.size
  have e1 := hx_cw_code hh
  have hgd := hx_good hcw
  rw [e1] at hMet hcw hgd
  have hts := cx.2.2.2.2.2.1
  have hroom := cx.2.2.2.2.2.2.2.2.2.1
  have hK := cx.2.2.2.2.2.2.2.1
  have hstart := hx_start cx hP hD hS as
  subst hst
  subst hr
  refine hx_after (r := r') cx hz hN ?_ hP hD hS hN1 ?_ (va_runSN (As := as.map (cV ad)) ⟨cx.1, cx.2.1, cx.2.2.2.1, cx.2.2.2.2.1, hts⟩ hMet ⟨va_cnB as.length hts hgd rfl rfl rfl (hK.2.2.1 _ hlk) (hts _ hini) ⟨hmh, hvh, hn⟩ ⟨Nat.le_trans hd hroom.1, ?_⟩, hts _ hstt, trivial⟩ ⟨hx_blind, hstart⟩ rfl (List.length_map _) hl.1 ?_ (lv_room ?_) (hx_ct hm i hi) ⟨?_, ?_⟩) hc1 hc2 k
  · intro ad' h'
    rcases hr1 with e | e
    · rw [h'.2 e]; exact hl
    · rw [hx_le_L h'.1 e.2]; exact hl
  · intro ad' h'
    rcases hr1 with e | e
    · rw [h'.2 e]
    · exact hx_le_map h'.1 e.1
  · show 8 + (M2.2.2.2.1 + 11) + 64 * d2 ≤ R.locals
    have := hroom.2
    omega
  · show (as.reverse ++ rest).map (cV ad) = (as.map (cV ad)).reverse ++ rest.map (cV ad)
    rw [List.map_append, List.map_reverse]
  · rw [List.map_map]
    have e3 : ((fun v => v.category) ∘ cV ad) = (fun v => v.category) := funext fun v => cV_cat ad v
    rw [e3]
    exact hw
  · have := hc1
    dsimp only at this
    omega
  · have := hc2
    dsimp only at this
    omega
/-- a constructor's call: its own class's link or a nest mate's -/
theorem hv_cI (hm : hx_mok M = true) (i : Nat) {idx : Nat} (hi : M.2.2.2.2.2.2.2[i]? = some (pc, .invokespecial idx, 3)) {M2 : hM} (hlk : Cond.methodLink (hRn M.1) idx M2.2.1 ∈ lw_all ∨ Cond.methodLinkNest (hRn M.1) idx M2.2.1 "HintHouse" ∈ hmnAll) (hy : hx_ymI M2) (hh : M2.2.2.2.2.2.1 = []) (hrt : M2.2.2.2.2.1 = none) {d2 : Nat} (hd : d2 + 1 ≤ d) (hmx : M2.2.2.2.1 ≤ 45) {as rest st : List Value} {z : Nat} (hz0 : z ≠ 0) (hst : st = as.reverse ++ .ref z :: rest) (hn : (parseMethodDescriptor M2.2.1.desc).map (fun q => q.parameters.length) = some as.length) {v : Option Value} {N1 : Nat} {h1 : hH} {kc ks : Nat} (hN1 : N ≤ N1)
    (hC : ∀ l : Launch, l.flags = flags0 → hx_C l S M2 d2 N (.ref z :: as) h (some v, N1, h1, kc, ks)) (hw : (rest.map (fun v => v.category)).sum ≤ 8) (hr1 : N1 = N ∨ ((∀ v ∈ rest, hx_le N v) ∧ ∀ q ∈ L, hx_le N q.2)) {r' : hR} (hr : r = (r'.1, r'.2.1, r'.2.2.1, kc + r'.2.2.2.1, ks + r'.2.2.2.2))
    (k : hx_V S M d (pc + 3) L (v.toList ++ rest) N1 h1 r') : hx_V S M d pc L st N h r := by
  intro p l e R s m args below meth c D dA A N0 ad0 cx ad H locs ls cells slots hz hN hl hP hD hS hc1 hc2
  obtain ⟨hcw, hin, hini, hyi, hmh, hvh⟩ := hy
  have hMet := (hC l cx.2.2.2.2.2.2.2.2.2.2.2.2.2.2.1).met D dA ad H.size
  have e1 := hx_cw_code hh
  have hgd := hx_good hcw
  rw [e1, hrt] at hMet hcw hgd
  have hts := cx.2.2.2.2.2.1
  have hroom := cx.2.2.2.2.2.2.2.2.2.1
  have hK := cx.2.2.2.2.2.2.2.1
  have e2 : (Value.ref z :: as).map (cV ad) = Value.ref (ad z) :: as.map (cV ad) := by
    rw [List.map_cons]
    exact congrArg (fun q => q :: as.map (cV ad)) (cR_pos hz0)
  have hstart := hx_start cx hP hD hS (.ref z :: as)
  rw [e2] at hstart
  subst hst
  subst hr
  rcases hlk with hlk | hlk
  · refine hx_after (r := r') cx hz hN ?_ hP hD hS hN1 ?_ (va_runI (b := ad z) (As := as.map (cV ad)) ⟨cx.1, cx.2.1, cx.2.2.2.1, cx.2.2.2.2.1, hts⟩ hMet (cwI as.length hts hgd rfl rfl rfl (hts _ hini) (hts _ hlk) (hts _ hin) hyi ⟨hmh, hvh, hn⟩ ⟨Nat.le_trans hd hroom.1, ?_⟩) ⟨hx_blind, hstart⟩ rfl (List.length_map _) hl.1 ?_ (lv_room ?_) (hx_ct hm i hi) ⟨?_, ?_⟩) hc1 hc2 k
    · intro ad' h'
      rcases hr1 with e | e
      · rw [h'.2 e]; exact hl
      · rw [hx_le_L h'.1 e.2]; exact hl
    · intro ad' h'
      rcases hr1 with e | e
      · rw [h'.2 e]
      · exact hx_le_map h'.1 e.1
    · show 8 + (M2.2.2.2.1 + 11) + 64 * d2 ≤ R.locals
      have := hroom.2
      omega
    · show (as.reverse ++ .ref z :: rest).map (cV ad) = (as.map (cV ad)).reverse ++ .ref (ad z) :: rest.map (cV ad)
      rw [List.map_append, List.map_reverse, List.map_cons]
      exact congrArg (fun q => (as.map (cV ad)).reverse ++ q :: rest.map (cV ad)) (cR_pos hz0)
    · rw [List.map_map]
      have e3 : ((fun v => v.category) ∘ cV ad) = (fun v => v.category) := funext fun v => cV_cat ad v
      rw [e3]
      exact hw
    · have := hc1
      dsimp only at this
      omega
    · have := hc2
      dsimp only at this
      omega
  · refine hx_after (r := r') cx hz hN ?_ hP hD hS hN1 ?_ (va_runIN (b := ad z) (As := as.map (cV ad)) ⟨cx.1, cx.2.1, cx.2.2.2.1, cx.2.2.2.2.1, hts⟩ hMet ⟨va_cnB as.length hts hgd rfl rfl rfl (hK.2.2.1 _ hlk) (hts _ hini) ⟨hmh, hvh, hn⟩ ⟨Nat.le_trans hd hroom.1, ?_⟩, hyi, hts _ hin⟩ ⟨hx_blind, hstart⟩ rfl (List.length_map _) hl.1 ?_ (lv_room ?_) (hx_ct hm i hi) ⟨?_, ?_⟩) hc1 hc2 k
    · intro ad' h'
      rcases hr1 with e | e
      · rw [h'.2 e]; exact hl
      · rw [hx_le_L h'.1 e.2]; exact hl
    · intro ad' h'
      rcases hr1 with e | e
      · rw [h'.2 e]
      · exact hx_le_map h'.1 e.1
    · show 8 + (M2.2.2.2.1 + 11) + 64 * d2 ≤ R.locals
      have := hroom.2
      omega
    · show (as.reverse ++ .ref z :: rest).map (cV ad) = (as.map (cV ad)).reverse ++ .ref (ad z) :: rest.map (cV ad)
      rw [List.map_append, List.map_reverse, List.map_cons]
      exact congrArg (fun q => (as.map (cV ad)).reverse ++ q :: rest.map (cV ad)) (cR_pos hz0)
    · rw [List.map_map]
      have e3 : ((fun v => v.category) ∘ cV ad) = (fun v => v.category) := funext fun v => cV_cat ad v
      rw [e3]
      exact hw
    · have := hc1
      dsimp only at this
      omega
    · have := hc2
      dsimp only at this
      omega
/-- Object's constructor -/
theorem hv_cO (hm : hx_mok M = true) (i : Nat) {idx : Nat} (hi : M.2.2.2.2.2.2.2[i]? = some (pc, .invokespecial idx, 3)) (hlk : Cond.methodLink (hRn M.1) idx Lib.objectInit ∈ lw_all) (ho1 : Cond.instanceMethod Lib.objectInit ∈ lw_all) (ho2 : Cond.code Lib.objectInit ⟨#[0xb1]⟩ 1 none ∈ lw_all) (hd : 1 ≤ d) {z : Nat} (hz0 : z ≠ 0) (k : hx_V S M d (pc + 3) L [] N h r) : hx_V S M d pc L [.ref z] N h r := by
  intro p l e R s m args below meth c D dA A N0 ad0 cx ad H locs ls cells slots hz hN hl hP hD hS hc1 hc2
  have hts := cx.2.2.2.2.2.1
  have hroom := cx.2.2.2.2.2.2.2.2.2.1
  have e1 : [Value.ref z].map (cV ad) = [Value.ref (ad z)] := congrArg (fun q => [q]) (cR_pos hz0)
  rw [e1]
  refine W.objInit cx.1 cx.2.1 cx.2.2.2.2.1 (hts _ hlk) (hts _ ho1) (hts _ ho2) rfl (by rw [cx.2.2.2.1]; exact hl.1) rfl (hx_ct hm i hi) (Nat.le_trans hd hroom.1) ?_ ?_
  · show 0 + 0 + 12 ≤ R.locals
    have := hroom.2
    omega
  · exact W.eq (g2 := F0 m (pc + 3) ls []) rfl (k p l e R s m args below meth c D dA A N0 ad0 cx ad H locs ls cells slots hz hN hl hP hD hS hc1 hc2)
end CL
