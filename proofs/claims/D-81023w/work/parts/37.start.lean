/-! LAYER 2i: the law's start (printed by gen/mk37.py) -/
section ST
theorem hx_afterW {S : hS} {M : hM} {d pc N : Nat} {h : hH} {p : Program} {l : Launch} {e : Env} {R : Room} {s : State} {m : MethodId} {args : Array Value} {below : List Frame} {meth : Method} {c : Code} {D : va_G} {dA : Nat → ClassId} {A : Nat → Prop} (cx : hx_Cx S M d D dA A p l e R s m args meth c) {ad : Nat → Nat} {H : Heap} {locs : List Loc} {ls : Array Slot} {cells slots N1 : Nat}
    (hD : va_D A (hW S ad dA N h)) (hS : va_S A s.heap H locs) {v : Option Value} {h1 : hH} {kc ks : Nat} {rest : List Value} {st0 : List Value}
    (hr : va_Run p l e R s m args below meth c H locs cells slots kc ks (F0 m pc ls st0) rest (fun st o t => hx_end S D dA (va_A (hW S ad dA N h) H.size) N ad (some v, N1, h1, kc, ks) st o t) (va_A (hW S ad dA N h) H.size)) {Q : State → Prop}
    (k : ∀ (ad' : Nat → Nat) (H1 : Heap) (locs1 : List Loc), hx_ad N ad N1 ad' → va_P D hcl (hW S ad' dA N1 h1) H1 → va_D A (hW S ad' dA N1 h1) → va_S A s.heap H1 locs1 → W p l e R s m args below meth c H1 locs1 (cells + kc) (slots + ks) Q (F0 m (pc + 3) ls ((v.map (cV ad')).toList ++ rest))) : W p l e R s m args below meth c H locs cells slots Q (F0 m pc ls st0) := by
  intro T hT X
  obtain ⟨v1, st₀, t, T', Lx, h0, X', hLx, e1, e2, ⟨⟨ad', hz', hP', hD', hv⟩, hz, hk⟩, st⟩ := hr T hT X
  have hz' : hx_ad N ad N1 ad' := hz'
  injection hv with hv
  subst hv
  have hA := cx.2.2.2.2.2.2.2.2.2.2.1
  have hfree : ∀ q, va_A (hW S ad dA N h) H.size q → A q := fun q hq => by
    rcases hq with ⟨kq, e, hq⟩ | hq
    · exact hD.2 kq (q, e) hq
    · exact hA q (Nat.le_trans hS.1 hq)
  rw [h0] at hz hk
  have hS' : va_S A s.heap T'.heap (locs ++ Lx) := by
    refine ⟨Nat.le_trans hS.1 (by rw [e1]; exact hz), fun q h1 h2 => ?_, fun q hq => ?_⟩
    · rw [e1, hk q (Nat.lt_of_lt_of_le h1 hS.1) (fun z => h2 (hfree q z))]
      exact hS.2.1 q h1 h2
    · rcases List.mem_append.mp hq with h | h
      · exact hS.2.2 q h
      · exact hfree _ (hLx q h)
  obtain ⟨t2, a1, b1⟩ := k ad' T'.heap (locs ++ Lx) hz' (by rw [e1]; exact hP') (hD'.weaken (fun _ q _ hq => hfree q.1 hq)) hS' T' rfl X'
  exact ⟨t2, st t2 a1, b1⟩
theorem hE_cg {S : hS} (hS1 : S.1 = true) {ad ad' : Nat → Nat} {dA : Nat → ClassId} {N : Nat} {h : hH} (hb : okB N h) (hc : ∀ z, z ≤ N → ad' z = ad z) (z : Nat) : hE S ad' dA h z = hE S ad dA h z := by
  have e0 : ∀ z, z ≤ N → cR ad' z = cR ad z := fun z hz => by unfold cR; rw [hc z hz]
  have e0' : ∀ z, z ≤ N → hop ad' z = hop ad z := fun z hz => by unfold hop; rw [hc z hz]
  have e1 : ∀ o k, hfr S h o k = rdP h o k := fun o k => by unfold hfr; rw [hS1]
  have e2 : ∀ c k, hfv S ad' h z c k = hfv S ad h z c k := fun c k => by
    unfold hfv
    rw [e1]
    split <;> first | rfl | exact e0 _ (hb.1 _ _)
  have e3 : ∀ c, hfl S ad' h z c = hfl S ad h z c := fun c => by
    unfold hfl
    exact List.map_congr_left fun k _ => e2 c k
  have e4 : har S ad' h z = har S ad h z := by
    unfold har
    have : (fun j => hop ad' (hfr S h z j)) = (fun j => hop ad (hfr S h z j)) := by
      funext j
      rw [e1]
      exact e0' _ (hb.1 _ _)
    rw [this]
  unfold hE
  rw [e3, e4]
theorem hW_cg {S : hS} (hS1 : S.1 = true) {ad ad' : Nat → Nat} {dA : Nat → ClassId} {N : Nat} {h : hH} (hb : okB N h) (hc : ∀ z, z ≤ N → ad' z = ad z) : hW S ad' dA N h = hW S ad dA N h := by
  unfold hW
  refine List.map_congr_left fun j hj => ?_
  have hj : j < N := List.mem_range.mp hj
  rw [hE_cg hS1 hb hc, hc (j + 1) (by omega)]
section GB
variable {S : hS} {M : hM} {Ls pc N kc ks : Nat} {xs : Nat → Int32} {L : List (Nat × Value)} {st : List Value} {h : hH}
set_option maxHeartbeats 1000000 in
theorem hg_newo (hm : hx_mok M = true) (i : Nat) {ix : Nat} (hi : M.2.2.2.2.2.2.2[i]? = some (pc, .new ix, 3)) (a : Nat) (ha : a < 12) (hcl1 : Cond.classLink (hRn M.1) ix (hRn a) ∈ lw_all) (hins : Cond.instantiable (hRn a) (hnf a) ∈ lw_all) (hini : Cond.initialized (hRn a) ∈ lw_all) (hS1 : S.1 = true) (htg : S.2.1 (N + 1) = a) (hb : okB N h) (hN : N + 1 ≤ 251) (hleL : ∀ q ∈ L, q.2 = .ref 252 ∨ hx_le N q.2) (hleS : ∀ v ∈ st, hx_le N v)
    (k : hx_G S M Ls xs (pc + 3) L (.ref (N + 1) :: st) (N + 1) h kc ks) : hx_G S M Ls xs pc L st N h (1 + kc) (hnf a + ks) := by
  intro p l e s m below meth c b D dA cx ad H locs ls cells slots hab hl hP hD hS hc1 hc2
  obtain ⟨hx, hb0, hr, hml, hown, hts, hlkk, hK, ht0, hroom, hA, hst, hnm, htab, hflg, hZ⟩ := id cx.1
  have hz0 := hb.2 (N + 1) (by omega)
  have hv0 : ∀ (q k : Nat), k < hnf a → defaultValue (hTyT a k) = hfv S (hx_nad ad N q) h (N + 1) a k := by
    intro q k hk0
    rw [hx_dv a k ha hk0]
    unfold hfv
    have e1 : hfr S h (N + 1) k = 0 := by unfold hfr; rw [hS1]; exact (hz0 k).2.2
    rw [(hz0 k).1, (hz0 k).2.1, (hz0 k).2.2, e1]
    generalize hk a k = n
    match n with
    | 0 => rfl
    | 1 => rfl
    | 2 => rfl
    | 3 => rfl
    | _ + 4 => rfl
  refine va_new hx hb0 hts (hin_at a ha) (hTyT a) (hty_at a ha) hown (hts _ hcl1) (hts _ hins) (hts _ hini) hK.1 hP hD hS hA (hcl_at a ha) (fs := hfl S (hx_nad ad N H.size) h (N + 1) a) (fun j hj => ?_) (by show cells + 1 ≤ 608192; omega) (by show slots + hnf a ≤ 7228521; omega) (hx_ct hm i hi) (fun q H1 k2 k3 k4 => ?_)
  · rw [hv0 H.size j hj]
    unfold vp_V
    rw [List.getD_eq_getElem?_getD, hfl_at hj]
    rfl
  · have hE0 : hE S (hx_nad ad N q) dA h (N + 1) = .inr (a, hfl S (hx_nad ad N H.size) h (N + 1) a) := by
      have e1 : hfl S (hx_nad ad N q) h (N + 1) a = hfl S (hx_nad ad N H.size) h (N + 1) a := by
        unfold hfl
        refine List.map_congr_left fun k hk0 => ?_
        rw [← hv0 q k (List.mem_range.mp hk0), ← hv0 H.size k (List.mem_range.mp hk0)]
      unfold hE
      rw [htg, if_pos (by omega), e1]
    have eW := hW_grow hS1 hb hE0
    rw [eW] at k2 k3
    have e252 : hx_nad ad N q 252 = ad 252 := if_neg (by omega)
    have eL : hL (hx_nad ad N q) L = hL ad L := List.map_congr_left fun x hx0 => by
      rcases hleL x hx0 with e1 | e1
      · rw [e1]
        show (x.1, cR (hx_nad ad N q) 252) = (x.1, cR ad 252)
        unfold cR
        rw [e252]
      · rw [hx_le_cV (fun z hz => hx_nad_le hz) e1]
    have K := k p l e s m below meth c b D dA cx (hx_nad ad N q) H1 locs ls (cells + 1) (slots + hnf a) (e252.trans hab) (by rw [eL]; exact hl) k2 k3 k4 (by omega) (by omega)
    rw [List.map_cons, hx_leS hleS, show cV (hx_nad ad N q) (.ref (N + 1)) = .ref q by show cR _ _ = _; unfold cR hx_nad; simp] at K
    exact K
set_option maxHeartbeats 1000000 in
theorem hg_cI (hm : hx_mok M = true) (i : Nat) {idx : Nat} (hi : M.2.2.2.2.2.2.2[i]? = some (pc, .invokespecial idx, 3)) {M2 : hM} (hlk : Cond.methodLink (hRn M.1) idx M2.2.1 ∈ lw_all) (hy : hx_ymI M2) (hpf : plainFor M2.2.1 = true) (hcls : M2.2.1.cls = hRn M2.1) (hh : M2.2.2.2.2.2.1 = []) (hrt : M2.2.2.2.2.1 = none) {d2 : Nat} (hd : d2 + 1 ≤ 40) (hmx : M2.2.2.2.1 ≤ 45) (hwd : hx_wd [.ref N] ≤ M2.2.2.2.1) (hN0 : N ≠ 0) (hn : (parseMethodDescriptor M2.2.1.desc).map (fun q => q.parameters.length) = some 0) {N1 : Nat} {h1 : hH} {k1 k2 : Nat} (hNN : N ≤ N1) (hN1 : N1 ≤ 251) (hS1 : S.1 = true) (hS0 : S.2.1 0 = 999) (hb1 : okB N1 h1)
    (hV : hx_V S M2 d2 0 [(0, .ref N)] [] N h (some none, N1, h1, k1, k2)) (hleL : ∀ q ∈ L, q.2 = .ref 252 ∨ hx_le N q.2) (k : hx_G S M Ls xs (pc + 3) L [.ref N] N1 h1 kc ks) : hx_G S M Ls xs pc L [.ref N, .ref N] N h (k1 + kc) (k2 + ks) := by
  intro p l e s m below meth c b D dA cx ad H locs ls cells slots hab hl hP hD hS hc1 hc2
  obtain ⟨hx, hb0, hr, hml, hown, hts, hlkk, hK, ht0, hroom, hA, hst, hnm, htab, hflg, hZ⟩ := id cx.1
  obtain ⟨hcw, hin, hini, hyi, hmh, hvh⟩ := hy
  have hC : hx_C l S M2 d2 N [.ref N] h (some none, N1, h1, k1, k2) := hx_C.of hflg hpf hcls hS0 hwd hV
  have hMet := hC.met D dA ad H.size
  have e1 := hx_cw_code hh
  have hgd := hx_good hcw
  rw [e1, hrt] at hMet hcw hgd
  have hstart := hx_start cx.1 hP hD hS [.ref N]
  have eN : [Value.ref N].map (cV ad) = [Value.ref (ad N)] := congrArg (fun q => [q]) (cR_pos hN0)
  rw [eN] at hstart
  have eNN : [Value.ref N, Value.ref N].map (cV ad) = [Value.ref (ad N), Value.ref (ad N)] := by
    rw [List.map_cons, eN]
    exact congrArg (fun q => q :: [Value.ref (ad N)]) (cR_pos hN0)
  rw [eNN]
  have hc1' : cells + k1 ≤ room_1.cells := by show cells + k1 ≤ 608192; omega
  have hc2' : slots + k2 ≤ room_1.slots := by show slots + k2 ≤ 7228521; omega
  refine hx_afterW cx.1 hD hS (rest := [Value.ref (ad N)]) (va_runI (b := ad N) (As := []) ⟨hx, hb0, hml, hown, hts⟩ hMet (cwI 0 hts hgd rfl rfl rfl (hts _ hini) (hts _ hlk) (hts _ hin) hyi ⟨hmh, hvh, hn⟩ ⟨Nat.le_trans hd hroom.1, ?_⟩) ⟨hx_blind, hstart⟩ rfl rfl hl.1 rfl (lv_room (le_b rfl)) (hx_ct hm i hi) ⟨hc1', hc2'⟩) (fun ad' H1 locs1 q0 q1 q2 q3 => ?_)
  · show 8 + (M2.2.2.2.1 + 11) + 64 * d2 ≤ room_1.locals
    have := hroom.2
    omega
  · let ad2 : Nat → Nat := fun z => if z = 252 then b else ad' z
    have hcc : ∀ z, z ≤ N1 → ad2 z = ad' z := fun z hz => if_neg (by omega)
    have eW := hW_cg (dA := dA) hS1 hb1 hcc
    have eL : hL ad2 L = hL ad L := List.map_congr_left fun x hx0 => by
      rcases hleL x hx0 with e1 | e1
      · rw [e1]
        show (x.1, cR ad2 252) = (x.1, cR ad 252)
        unfold cR
        rw [hab]
        rfl
      · rw [hx_le_cV (fun z hz => (hcc z (by omega)).trans (q0.1 z hz)) e1]
    have K := k p l e s m below meth c b D dA cx ad2 H1 locs1 ls (cells + k1) (slots + k2) rfl (by rw [eL]; exact hl) (by rw [eW]; exact q1) (by rw [eW]; exact q2) q3 (by omega) (by omega)
    have e3 : [Value.ref N].map (cV ad2) = [Value.ref (ad N)] := by
      show [cR ad2 N] = _
      rw [cR_pos hN0, hcc N hNN, q0.1 N (Nat.le_refl N)]
    rw [e3] at K
    exact K
end GB
end ST
/-- the constructors laid every reference that stays -/
theorem hInit_rf : (List.range 252).all (fun z => Nat.ble 100 (S0.2.1 z) || (List.range (hnf (S0.2.1 z))).all (fun k => !(hk (S0.2.1 z) k == 4) || (rdP hInit z k == rf z k))) = true := by decide +kernel
set_option maxRecDepth 100000 in
theorem hInit_68 (j : Nat) : rdP hInit 68 j = rf 68 j := by
  match j with
  | 0 => rfl
  | 1 => rfl
  | 2 => rfl
  | 3 => rfl
  | 4 => rfl
  | 5 => rfl
  | _ + 6 => rfl
set_option maxRecDepth 100000 in
theorem hInit_69 (j : Nat) : rdP hInit 69 j = rf 69 j := by
  match j with
  | 0 => rfl
  | 1 => rfl
  | 2 => rfl
  | 3 => rfl
  | 4 => rfl
  | 5 => rfl
  | _ + 6 => rfl
theorem hk_le4 {c k : Nat} (hk0 : k < hnf c) : hk c k ≤ 4 := by
  by_cases hc : c < 12
  · have hall : (List.range 12).all (fun c => (List.range (hnf c)).all (fun k => decide (hk c k ≤ 4))) = true := by decide +kernel
    have h1 := List.all_eq_true.mp (List.all_eq_true.mp hall c (List.mem_range.mpr hc)) k (List.mem_range.mpr hk0)
    simpa using h1
  · have : hnf c = 0 := by
      unfold hnf
      have h12 : hkT.length = 12 := rfl
      rw [List.getD_eq_getElem?_getD, List.getElem?_eq_none (by omega)]
      rfl
    omega
theorem hInit_E {ad : Nat → Nat} {dA : Nat → ClassId} {z : Nat} (hz0 : z ≠ 0) (hz : z ≤ 251) : hE S1 ad dA hInit z = hE S0 ad dA hInit z := by
  have h1 := List.all_eq_true.mp hInit_rf z (List.mem_range.mpr (by omega))
  simp only [Bool.or_eq_true] at h1
  have ht : S1.2.1 z = S0.2.1 z := rfl
  have hl : S1.2.2.1 z = S0.2.2.1 z := rfl
  by_cases hc : S0.2.1 z < 100
  · have h2 : (List.range (hnf (S0.2.1 z))).all (fun k => !(hk (S0.2.1 z) k == 4) || (rdP hInit z k == rf z k)) = true := by
      rcases h1 with h1 | h1
      · have := Nat.le_of_ble_eq_true h1
        omega
      · exact h1
    unfold hE
    rw [ht, if_pos hc, if_pos hc]
    have e : hfl S1 ad hInit z (S0.2.1 z) = hfl S0 ad hInit z (S0.2.1 z) := by
      unfold hfl
      refine List.map_congr_left fun k hk0 => ?_
      have h3 := List.all_eq_true.mp h2 k hk0
      simp only [Bool.or_eq_true, Bool.not_eq_true', beq_eq_false_iff_ne, beq_iff_eq] at h3
      unfold hfv
      by_cases h4 : hk (S0.2.1 z) k = 4
      · rcases h3 with h3 | h3
        · exact absurd h4 h3
        · rw [h4]
          show cR ad (rdP hInit z k) = cR ad (rf z k)
          rw [h3]
      · have hk5 := hk_le4 (List.mem_range.mp hk0)
        generalize hk (S0.2.1 z) k = n at h4 hk5
        match n, h4, hk5 with
        | 0, _, _ => rfl
        | 1, _, _ => rfl
        | 2, _, _ => rfl
        | 3, _, _ => rfl
        | n + 5, _, h5 => omega
    rw [e]
  · unfold hE
    rw [ht, if_neg hc, if_neg hc]
    have e : har S1 ad hInit z = har S0 ad hInit z := by
      unfold har
      rw [ht]
      by_cases h5 : S0.2.1 z = 103
      · rw [if_pos h5, if_pos h5]
      · rw [if_neg h5, if_neg h5]
        by_cases h6 : S0.2.1 z < 103
        · rw [if_pos h6, if_pos h6]
        · rw [if_neg h6, if_neg h6]
          have hz2 : z = 68 ∨ z = 69 := by
            have hall : (List.range 252).all (fun z => Nat.ble (S0.2.1 z) 103 || (z == 68 || (z == 69 || z == 0))) = true := by decide +kernel
            have h7 := List.all_eq_true.mp hall z (List.mem_range.mpr (by omega))
            simp only [Bool.or_eq_true, beq_iff_eq] at h7
            rcases h7 with h7 | h7 | h7 | h7
            · have := Nat.le_of_ble_eq_true h7
              omega
            · exact Or.inl h7
            · exact Or.inr h7
            · exact absurd h7 hz0
          rcases hz2 with rfl | rfl
          · have : (fun j => hop ad (hfr S1 hInit 68 j)) = (fun j => hop ad (hfr S0 hInit 68 j)) := funext fun j => congrArg (hop ad) (hInit_68 j)
            rw [this]
          · have : (fun j => hop ad (hfr S1 hInit 69 j)) = (fun j => hop ad (hfr S0 hInit 69 j)) := funext fun j => congrArg (hop ad) (hInit_69 j)
            rw [this]
    rw [e, hl]
set_option maxRecDepth 100000 in
theorem hins_at : ∀ c, c < 12 → Cond.instantiable (hRn c) (hnf c) ∈ lw_all := by
  intro c hc
  match c, hc with
  | 0, _ => exact lw_g (lw_at lw_m1 19 rfl) rfl
  | 1, _ => exact lw_g (lw_at lw_m1 27 rfl) rfl
  | 2, _ => exact lw_g (lw_at lw_m1 44 rfl) rfl
  | 3, _ => exact lw_g (lw_at lw_m1 52 rfl) rfl
  | 4, _ => exact lw_g (lw_at lw_m2 18 rfl) rfl
  | 5, _ => exact lw_g (lw_at lw_m2 24 rfl) rfl
  | 6, _ => exact lw_g (lw_at lw_m2 30 rfl) rfl
  | 7, _ => exact lw_g (lw_at lw_m2 73 rfl) rfl
  | 8, _ => exact lw_g (lw_at lw_m3 54 rfl) rfl
  | 9, _ => exact lw_g (lw_at lw_m3 65 rfl) rfl
  | 10, _ => exact lw_g (lw_at lw_m3 150 rfl) rfl
  | 11, _ => exact lw_g (lw_at lw_m7 214 rfl) rfl
theorem hg_conv {M : hM} {Ls : Nat} {xs : Nat → Int32} {pc kc ks : Nat} {L : List (Nat × Value)} {st : List Value} (k : hx_G S0 M Ls xs pc L st 251 hInit kc ks) : hx_G S1 M Ls xs pc L st 251 hInit kc ks := by
  intro p l e s m below meth c b D dA cx ad H locs ls cells slots hab hl hP hD hS hc1 hc2
  have eW : hW S1 ad dA 251 hInit = hW S0 ad dA 251 hInit := by
    unfold hW
    refine List.map_congr_left fun j hj => ?_
    have hj : j < 251 := List.mem_range.mp hj
    rw [hInit_E (by omega) (by omega)]
  rw [eW] at hP hD
  exact k p l e s m below meth c b D dA cx ad H locs ls cells slots hab hl hP hD hS hc1 hc2
theorem okB_a : okB 0 hZero := ⟨fun _ _ => Nat.zero_le _, fun _ _ _ => ⟨rfl, rfl, rfl⟩⟩
set_option maxRecDepth 100000 in
theorem law_from {Rel : hH → Prop} (hR : LawRel Rel) (h0 : Rel hInit) {Ls : Nat} {xs : Nat → Int32} (hL : Ls ≤ 256) : hx_G S1 M_law Ls xs 0 [(0, .ref 252)] [] 0 hZero 400 200000 := by
  have hm := mlaw
  have q0 : ∀ q ∈ ([(0, .ref 252)] : List (Nat × Value)), q.2 = .ref 252 ∨ hx_le 0 q.2 := fun q hq => by rw [List.mem_singleton.mp hq]; exact Or.inl rfl
  have q1 : ∀ q ∈ ([(0, .ref 252)] : List (Nat × Value)), q.2 = .ref 252 ∨ hx_le 1 q.2 := fun q hq => by rw [List.mem_singleton.mp hq]; exact Or.inl rfl
  have q191 : ∀ q ∈ ([(1, .ref 1), (0, .ref 252)] : List (Nat × Value)), q.2 = .ref 252 ∨ hx_le 191 q.2 := fun q hq => by
    rcases List.mem_cons.mp hq with e | e
    · rw [e]; exact Or.inr (show 1 ≤ 191 by decide)
    · rw [List.mem_singleton.mp e]; exact Or.inl rfl
  have q192 : ∀ q ∈ ([(1, .ref 1), (0, .ref 252)] : List (Nat × Value)), q.2 = .ref 252 ∨ hx_le 192 q.2 := fun q hq => by
    rcases List.mem_cons.mp hq with e | e
    · rw [e]; exact Or.inr (show 1 ≤ 192 by decide)
    · rw [List.mem_singleton.mp e]; exact Or.inl rfl
  have B1 : okB 191 (c_1 hZero) := b_1 okB_0
  have B2 : okB 251 hInit := b_192 (B1.mono (le_b rfl))
  refine hg_mono (kc := 1 + (190 + (1 + (59 + 64)))) (ks := hnf 0 + (50227 + (hnf 11 + (47469 + 6 * 64)))) (by decide) (by decide) ?_
  refine hg_newo hm 117 rfl 0 (by decide) (lw_g (lw_at lw_m1 18 rfl) rfl) (lw_g (lw_at lw_m1 19 rfl) rfl) (lw_g (lw_at lw_m1 1 rfl) rfl) rfl rfl okB_a (le_b rfl) q0 (fun _ h => absurd h List.not_mem_nil) ?_
  refine hg_b hm 67 rfl (L' := [(0, .ref 252)]) (st' := [.ref 1, .ref 1]) (h' := hZero) rfl (by exact trivial) (pc' := 4) rfl ?_
  refine hg_cI (M2 := M_HH_init) (d2 := 8) hm 118 rfl (lw_g (lw_at lw_m1 20 rfl) rfl) y_HH_init (plainFor_of_name (by decide)) rfl rfl rfl (le_b rfl) (le_b rfl) (le_b rfl) (by decide) pd_HH_init (N1 := 191) (le_b rfl) (le_b rfl) rfl rfl B1 (v_HH_init_1 hZero okB_0) q1 ?_
  refine hg_b hm 68 rfl (L' := [(1, .ref 1), (0, .ref 252)]) (st' := []) (h' := c_1 hZero) rfl (by exact trivial) (pc' := 8) rfl ?_
  refine hg_newo hm 119 rfl 11 (by decide) (lw_g (lw_at lw_m7 213 rfl) rfl) (lw_g (lw_at lw_m7 214 rfl) rfl) (lw_g (lw_at lw_m1 12 rfl) rfl) rfl rfl B1 (le_b rfl) q191 (fun _ h => absurd h List.not_mem_nil) ?_
  refine hg_b hm 69 rfl (L' := [(1, .ref 1), (0, .ref 252)]) (st' := [.ref 192, .ref 192]) (h' := c_1 hZero) rfl (by exact trivial) (pc' := 12) rfl ?_
  refine hg_cI (M2 := M_Mo_init) (d2 := 2) hm 120 rfl (lw_g (lw_at lw_m7 215 rfl) rfl) y_Mo_init (plainFor_of_name (by decide)) rfl rfl rfl (le_b rfl) (le_b rfl) (le_b rfl) (by decide) pd_Mo_init (N1 := 251) (le_b rfl) (le_b rfl) rfl rfl B2 (v_Mo_init_192 (c_1 hZero) (B1.mono (le_b rfl))) q192 ?_
  refine hg_conv ?_
  refine hg_b hm 70 rfl (L' := [(3, .int (Int32.ofNat (4 * 0))), (2, .ref 192), (1, .ref 1), (0, .ref 252)]) (st' := []) (h' := hInit) rfl (by exact trivial) (pc' := 18) rfl ?_
  exact law_loop hR hL 64 0 hInit h0 (by omega) (by decide)
