/-! LAYER 3D: codes 54, 55 -/
theorem Fr_wr {z : Nat} {n : Int32} (hz : isZ z n) {j k : Nat} (hj : j < 6) {v : Int32} {h g : hH} (f : Fr h g) : Fr h (wrI g (rf z j) k v) := by
  have e : rf z j < 41 ∧ rf z j ≠ 34 ∧ rf z j ≠ 26 := by
    have hj' : j = 0 ∨ j = 1 ∨ j = 2 ∨ j = 3 ∨ j = 4 ∨ j = 5 := by omega
    rcases hz with ⟨rfl, _⟩ | ⟨rfl, _⟩ <;> rcases hj' with rfl | rfl | rfl | rfl | rfl | rfl <;> decide
  exact ⟨fun o i ho => (rdI_o (by omega)).trans (f.1 o i ho), fun o i => f.2.1 o i, (rdI_o (by omega)).trans f.2.2.1, (rdI_o (by omega)).trans f.2.2.2⟩
theorem T4_and {x y t : Int32} (h : T4 x y t) : x &&& 1 = x ∧ y &&& 1 = y := by
  rcases h with ⟨rfl, rfl, rfl⟩ | ⟨rfl, rfl, rfl⟩ | ⟨rfl, rfl, rfl⟩ | ⟨rfl, rfl, rfl⟩ <;> decide
/-- a call at the end, on the component's side alone -/
theorem E_T' {P : hH → hH → Prop} {o : Option (hH ⊕ (Unit × hH))} {p : Option (Unit × hH)} (h : OK2 o p (Tr P)) : OK2 (bT o fun _ h1 => some (.inr ((), h1))) p (Tr P) := by
  obtain ⟨x, y, e, e', r⟩ := h
  rw [e, e']
  rcases x with g | g
  · exact OK2_of rfl rfl r
  · exact OK2_of rfl rfl r
/-- a zone's points are shifted -/
theorem L_shz {P : hH → hH → Prop} {hc hm : hH} (h : Rm P hc hm) {z : Nat} {v n r M s : Int32} (hz : isZ z v) (hn : n = 0 ∨ n = 1) (hr : PT hc (zz n) r) (hM : 0 ≤ M ∧ M ≤ rdI hc z 6) (hs : s = if n = v then r else -1) (d : Int64) : OK2 (
    bJT (P := hH) (
      whT (A := (Int32 × hH)) (B := hH) (fun p18 =>
        if M ≤ p18.1 then (
          some (.inr (.inr p18.2))
        ) else (
          bJT (P := hH) (
            if p18.1 = s then (
              some (.inr p18.2)
            ) else (
              gd (vp_in p18.1 (zr z)) <|
              gd (vp_in p18.1 (zr z)) <|
              bS (f_Ma_move z p18.1 d p18.2) fun _ h3 =>
              gd (vp_in p18.1 (zr z)) <|
              gd (vp_in p18.1 (zr z)) <|
              some (.inr (wrI (wrI h3 (rf z 4) (Int32.toNatClampNeg p18.1) ((rdI p18.2 (rf z 4) (Int32.toNatClampNeg p18.1)) &&& 1)) (rf z 5) (Int32.toNatClampNeg p18.1) ((rdI p18.2 (rf z 5) (Int32.toNatClampNeg p18.1)) &&& 1)))
            )
          ) fun p20 =>
          some (.inr (.inl (p18.1 + (1 : Int32), p20)))
        )
      ) ((0 : Int32), hc)
    ) fun p19 =>
    some (.inr ((), p19)))
   (bP (A := hH) (
      wh (A := (Int32 × hH)) (B := hH) (fun p20 =>
        if (((102 : Int32) * v) + M) ≤ p20.1 then (
          some (.inr p20.2)
        ) else (
          bP (A := hH) (
            if p20.1 = 102 * n + r then (
              some p20.2
            ) else (
              bS (f_Mo_shiftBy p20.1 d (0 : Int32) p20.2) fun _ h4 =>
              some h4
            )
          ) fun p22 =>
          some (.inl (p20.1 + (1 : Int32), p22))
        )
      ) (102 * v, hm)
    ) fun p21 =>
    some ((), p21)) (Tr P) := by
  have glM := h.r_glM
  have twM := h.r_twM
  have hv : v = 0 ∨ v = 1 := by rcases hz with ⟨_, e⟩ | ⟨_, e⟩; exact Or.inl e; exact Or.inr e
  have hr1 : 0 ≤ r ∧ r < 102 := by
    have rr := hr
    unfold PT at rr
    refine ⟨rr.1, ?_⟩
    rcases hn with rfl | rfl
    · have : rdI hc (zz 0) 6 = rdI hc 26 6 := rfl
      grind
    · have : rdI hc (zz 1) 6 = rdI hc 34 6 := rfl
      grind
  have hm1 : rdI hc z 6 ≤ 102 := by
    rcases hz with ⟨rfl, _⟩ | ⟨rfl, _⟩
    · grind
    · exact glM.2
  refine E_some (OK2_whT (A := Int32 × hH) (A' := Int32 × hH) (B := hH) (B' := hH) (Φ := fun y z => TT (fun g => Rf P g z) (fun g => Rm P g z) y) (fun s t => t.1 = 102 * v + s.1 ∧ Rm P s.2 t.2 ∧ Fr hc s.2 ∧ 0 ≤ s.1 ∧ s.1 ≤ M) (fun s => M.toNatClampNeg - s.1.toNatClampNeg) ?_ (s := (0, hc)) (t := (102 * v, hm)) ⟨by show 102 * v = 102 * v + 0; grind, h, Fr_rfl, by show (0 : Int32) ≤ 0; decide, hM.1⟩)
  rintro ⟨i, g⟩ ⟨j, m⟩ ⟨h1, k, fr, h5, h6⟩
  dsimp only at h1 k fr h5 h6
  subst h1
  dsimp only
  by_cases q : M ≤ i
  · have q' : 102 * v + M ≤ 102 * v + i := by rcases hv with rfl | rfl <;> grind
    rw [if_pos q, if_pos q']
    exact OK2_of rfl rfl k
  · have q' : ¬ (102 * v + M ≤ 102 * v + i) := by rcases hv with rfl | rfl <;> grind
    rw [if_neg q, if_neg q']
    have eg : rdI g z 6 = rdI hc z 6 := by
      rcases hz with ⟨rfl, _⟩ | ⟨rfl, _⟩
      · exact fr.2.2.2
      · exact fr.2.2.1
    have pt : PT g z i := ⟨h5, by rw [eg]; grind⟩
    have sk := skip_iff hn hr1.1 hr1.2 h5 (show i < 102 by grind) hv
    rw [← hs] at sk
    have ii : (i + 1).toNatClampNeg = i.toNatClampNeg + 1 := xI_succ (m := 102) h5 (by grind) (by decide)
    have i2 := (xI_lt h5 hM.1).mpr (Int32.not_le.mp q)
    have mu : M.toNatClampNeg - (i + 1).toNatClampNeg < M.toNatClampNeg - i.toNatClampNeg := by omega
    by_cases y : i = s
    · rw [if_pos y, if_pos (sk.mpr y)]
      exact OK2_of rfl rfl ⟨⟨by show 102 * v + i + 1 = 102 * v + (i + 1); grind, k, fr, by show 0 ≤ i + 1; grind, by show i + 1 ≤ M; grind⟩, mu⟩
    · have t4 := T4_and (k.zt hz pt)
      have vc := k.vpC hz pt
      rw [if_neg y, if_neg (fun w => y (sk.mp w)), f_Ma_move_eq hz vc, f_Mo_shiftBy_eq (k.vpM hz pt), t4.1, t4.2]
      simp only [gd_pos vc, bS_some, bJT_inr, bP_some, reduceIte]
      exact OK2_of rfl rfl ⟨⟨by show 102 * v + i + 1 = 102 * v + (i + 1); grind, k.shift hz pt d, Fr_wr hz (by decide) (Fr_wr hz (by decide) (Fr_move hz fr)), by show 0 ≤ i + 1; grind, by show i + 1 ≤ M; grind⟩, mu⟩
/-- the glyph's points -/
theorem Rm.pts {P : hH → hH → Prop} {hc hm : hH} (h : Rm P hc hm) : ∃ M : Int32, (if (rdP hc 22 3) = 0 then some (Sum.inr (0 : Int32)) else (gd (isA 9 (rdP hc 22 3)) <| some (Sum.inr (rdI hc (rdP hc 22 3) 3)))) = (some (Sum.inr M) : Option (hH ⊕ Int32)) ∧ (if (rdI hm 192 53) = 0 then some (0 : Int32) else (gd (vp_in ((rdI hm 192 53) - (1 : Int32)) 20) <| some ((rdI hm 218 (Int32.toNatClampNeg ((rdI hm 192 53) - (1 : Int32)))) + (1 : Int32)))) = some M ∧ 0 ≤ M ∧ M ≤ rdI hc 34 6 ∧ ((rdP hc 22 3 = 0 ∧ M = 0) ∨ (isOut (rdP hc 22 3) ∧ M = rdI hc (rdP hc 22 3) 3)) := by
  rcases h.ol with ⟨a, b, c⟩ | o
  · exact ⟨0, by rw [if_pos a], by rw [if_pos b], by decide, by rw [c]; decide, Or.inl ⟨a, rfl⟩⟩
  · have oi := out_ids o.1
    obtain ⟨en1, en2, en3, en4, en5, en6, en7, en8⟩ := o.2.2.1
    refine ⟨rdI hc (rdP hc 22 3) 3, by rw [if_neg oi.2.1, gd_pos oi.1], ?_, en3, by rw [o.2.2.2.2.1]; grind, Or.inr ⟨o.1, rfl⟩⟩
    rw [o.2.1]
    by_cases w : rdI hc (rdP hc 22 3) 5 = 0
    · rw [if_pos w, en5.mp w]
    · have w1 : 0 < rdI hc (rdP hc 22 3) 5 := by grind
      have e8 := en8 w1
      have vl : (rdI hc (rdP hc 22 3) 5 - 1).toNatClampNeg < (rdI hc (rdP hc 22 3) 5).toNatClampNeg := (xI_lt (by grind) en1).mpr (by grind)
      have e9 : (rdI hc (rdP hc 22 3) 5 - 1).toNatClampNeg = (rdI hc (rdP hc 22 3) 5).toNatClampNeg - 1 := by
        have x := xI_succ (x := rdI hc (rdP hc 22 3) 5 - 1) (m := 20) (by grind) (by grind) (by decide)
        rw [show rdI hc (rdP hc 22 3) 5 - 1 + 1 = rdI hc (rdP hc 22 3) 5 by grind] at x
        omega
      dsimp only at e8
      rw [if_neg w, gd_pos (vp_lt (n := 20) (m := 20) (by grind) (by grind) rfl), o.2.2.2.1 _ vl, e9, e8]
      congr 1
      grind
theorem L_zone {P : hH → hH → Prop} {hc hm : hH} (k : Rm P hc hm) {x n r v D : Int32} (hn : n = 0 ∨ n = 1) (hr : PT hc (zz n) r) (er : f_Ma_reference x hc = some (.inr (D.toInt64, hc))) (ez : f_Ma_referenceZone x hc = some (zz n)) (ep : (if x = 0 then rdI hc 54 2 else rdI hc 54 1) = r) : OK2 (f_Ma_shiftZone x v hc) (
    bP (f_Mo_isZone v hm) fun a14 =>
    if a14 = 0 then (
      bS (f_Mo_fail (5 : Int32) hm) fun _ h5 =>
      some ((), h5)
    ) else (
      bP (A := Int32) (
        if v = 0 then (
          some (rdI hm 192 14)
        ) else (
          if (rdI hm 192 53) = 0 then (
            some (0 : Int32)
          ) else (
            gd (vp_in ((rdI hm 192 53) - (1 : Int32)) 20) <|
            some ((rdI hm 218 (Int32.toNatClampNeg ((rdI hm 192 53) - (1 : Int32)))) + (1 : Int32))
          )
        )
      ) fun p15 =>
      bP (A := hH) (
        wh (A := (Int32 × hH)) (B := hH) (fun p20 =>
          if (((102 : Int32) * v) + p15) ≤ p20.1 then (
            some (.inr p20.2)
          ) else (
            bP (A := hH) (
              if p20.1 = 102 * n + r then (
                some p20.2
              ) else (
                bS (f_Mo_shiftBy p20.1 (Int32.toInt64 D) (0 : Int32) p20.2) fun _ h4 =>
                some h4
              )
            ) fun p22 =>
            some (.inl (p20.1 + (1 : Int32), p22))
          )
        ) (102 * v, hm)
      ) fun p21 =>
      some ((), p21)
    )) (Tr P) := by
  obtain ⟨M, pc, pm, M0, M1, _⟩ := k.pts
  have i26 : isA 6 26 := isA_zz (n := 0) (Or.inl rfl)
  have i34 : isA 6 34 := isA_zz (n := 1) (Or.inr rfl)
  have iz := isZone_eq k v
  rw [zone_dec] at iz
  have zd : (if v = (1 : Int32) then (1 : Int32) else (if v = 0 then (if (rdI hc 4 9) = (2 : Int32) then (1 : Int32) else (0 : Int32)) else (0 : Int32))) = (if (v = 1 ∨ (v = 0 ∧ rdI hc 4 9 = 2)) then 1 else 0) := zone_dec
  unfold f_Ma_shiftZone
  simp only [iz, zd]
  by_cases g : v = 1 ∨ (v = 0 ∧ rdI hc 4 9 = 2)
  · rw [if_pos g]
    have e26 : (if zz n = 26 then r else -1) = (if n = 0 then r else -1) := by rcases hn with rfl | rfl <;> rfl
    have e34 : (if zz n = 34 then r else -1) = (if n = 1 then r else -1) := by rcases hn with rfl | rfl <;> rfl
    rcases g with rfl | ⟨rfl, _⟩
    · have fin := L_shz k (Or.inr ⟨rfl, rfl⟩) hn hr (M := M) ⟨M0, M1⟩ rfl D.toInt64
      simp +decide only [f_Ma_want_1, pc, pm, er, ez, ep, e34, gd_pos (And.intro i34 (isA_zz hn)), lz, bP_some, bS_some, bT_inl, bT_inr, bJT_inl, bJT_inr, bE_inl, bE_inr, bET_t, bET_inl, bET_inr, cO_t, cO_f, cS_t, cS_f, bE_bS, bE_bP, bE_gd, bET_bT, bET_bS, bET_bP, bET_gd, bJT_bT, bJT_bS, bJT_bP, bJT_gd, bJT_bJT, bP_bS, bP_bP, bP_gd, bT_bT, bT_bS, bT_bP, bT_gd, bS_bS, bS_bP, bS_gd, reduceIte]
      exact fin
    · have fin := L_shz k (Or.inl ⟨rfl, rfl⟩) hn hr (M := rdI hc 26 6) ⟨k.r_twM.1, Int32.le_refl _⟩ rfl D.toInt64
      simp +decide only [f_Ma_want_1, er, ez, ep, e26, gd_pos i26, gd_pos (And.intro i26 (isA_zz hn)), k.s_twM, lz, bP_some, bS_some, bT_inl, bT_inr, bJT_inl, bJT_inr, bE_inl, bE_inr, bET_t, bET_inl, bET_inr, cO_t, cO_f, cS_t, cS_f, bE_bS, bE_bP, bE_gd, bET_bT, bET_bS, bET_bP, bET_gd, bJT_bT, bJT_bS, bJT_bP, bJT_gd, bJT_bJT, bP_bS, bP_bP, bP_gd, bT_bT, bT_bS, bT_bP, bT_gd, bS_bS, bS_bP, bS_gd, reduceIte]
      exact fin
  · rw [if_neg g]
    simp +decide only [f_Ma_want_0, f_Mo_fail_eq k.fail, lz, bP_some, bS_some, bT_inl, bT_inr, bJT_inl, bJT_inr, bE_inl, bE_inr, bET_t, bET_inl, bET_inr, cO_t, cO_f, cS_t, cS_f, bE_bS, bE_bP, bE_gd, bET_bT, bET_bS, bET_bP, bET_gd, bJT_bT, bJT_bS, bJT_bP, bJT_gd, bJT_bJT, bP_bS, bP_bP, bP_gd, bT_bT, bT_bS, bT_bP, bT_gd, bS_bS, bS_bP, bS_gd, reduceIte]
    exact OK2_of rfl rfl (Tr_f (k.fails (by decide)))
theorem L_zoneF {P : hH → hH → Prop} {hc hm : hH} (k : Rm P hc hm) {x v : Int32} (er : f_Ma_reference x hc = some (.inl (failC 5 hc))) : f_Ma_shiftZone x v hc = some (.inl (failC 5 hc)) := by
  obtain ⟨M, pc, pm, M0, M1, _⟩ := k.pts
  have i26 : isA 6 26 := isA_zz (n := 0) (Or.inl rfl)
  have zd : (if v = (1 : Int32) then (1 : Int32) else (if v = 0 then (if (rdI hc 4 9) = (2 : Int32) then (1 : Int32) else (0 : Int32)) else (0 : Int32))) = (if (v = 1 ∨ (v = 0 ∧ rdI hc 4 9 = 2)) then 1 else 0) := zone_dec
  unfold f_Ma_shiftZone
  simp only [zd]
  by_cases g : v = 1 ∨ (v = 0 ∧ rdI hc 4 9 = 2)
  · rw [if_pos g]
    rcases g with rfl | ⟨rfl, _⟩
    · simp +decide only [f_Ma_want_1, pc, er, lz, bP_some, bS_some, bT_inl, bT_inr, bJT_inl, bJT_inr, bE_inl, bE_inr, bET_t, bET_inl, bET_inr, cO_t, cO_f, cS_t, cS_f, bE_bS, bE_bP, bE_gd, bET_bT, bET_bS, bET_bP, bET_gd, bJT_bT, bJT_bS, bJT_bP, bJT_gd, bJT_bJT, bP_bS, bP_bP, bP_gd, bT_bT, bT_bS, bT_bP, bT_gd, bS_bS, bS_bP, bS_gd, reduceIte]
    · simp +decide only [f_Ma_want_1, er, gd_pos i26, lz, bP_some, bS_some, bT_inl, bT_inr, bJT_inl, bJT_inr, bE_inl, bE_inr, bET_t, bET_inl, bET_inr, cO_t, cO_f, cS_t, cS_f, bE_bS, bE_bP, bE_gd, bET_bT, bET_bS, bET_bP, bET_gd, bJT_bT, bJT_bS, bJT_bP, bJT_gd, bJT_bJT, bP_bS, bP_bP, bP_gd, bT_bT, bT_bS, bT_bP, bT_gd, bS_bS, bS_bP, bS_gd, reduceIte]
  · rw [if_neg g]
    simp +decide only [f_Ma_want_0, lz, bP_some, bS_some, bT_inl, bT_inr, bJT_inl, bJT_inr, bE_inl, bE_inr, bET_t, bET_inl, bET_inr, cO_t, cO_f, cS_t, cS_f, bE_bS, bE_bP, bE_gd, bET_bT, bET_bS, bET_bP, bET_gd, bJT_bT, bJT_bS, bJT_bP, bJT_gd, bJT_bJT, bP_bS, bP_bP, bP_gd, bT_bT, bT_bS, bT_bP, bT_gd, bS_bS, bS_bP, bS_gd, reduceIte]
theorem L_54 {P : hH → hH → Prop} {hc hm : hH} (h : Rm P hc hm) {c : Int32} (hcc : c = 54 ∨ c = 55) : OK2 (f_Ma_shifting c hc) (f_Mo_likeReference c hm) (Tr P) := by
  by_cases q : 1 ≤ rdI hc 22 15
  · have k := h.pop q
    have c0 : rdI hc 55 0 = rdI (popC hc) 55 0 := g1_o (by decide)
    have c1 : rdI hc 55 1 = rdI (popC hc) 55 1 := g1_o (by decide)
    have s1 : rdI hc 54 1 = rdI (popC hc) 54 1 := g1_o (by decide)
    have s2 : rdI hc 54 2 = rdI (popC hc) 54 2 := g1_o (by decide)
    rcases hcc with rfl | rfl
    · have z1 := zz_isZ h.r_zp1
      by_cases p : PT hc (zz (rdI hc 55 1)) (rdI hc 54 2)
      · have p' : PT (popC hc) (zz (rdI (popC hc) 55 1)) (rdI (popC hc) 54 2) := by rw [← c1, ← s2]; exact PT_pop.mpr p
        have er := ref0_T k p'
        rw [← c1, ← s2, rfV_pop z1] at er
        have ez : f_Ma_referenceZone 0 (popC hc) = some (zz (rdI hc 55 1)) := by
          unfold f_Ma_referenceZone
          simp +decide only [f_Ma_zone_1, ← c1, lz, bP_some, bS_some, bT_inl, bT_inr, bJT_inl, bJT_inr, bE_inl, bE_inr, bET_t, bET_inl, bET_inr, cO_t, cO_f, cS_t, cS_f, bE_bS, bE_bP, bE_gd, bET_bT, bET_bS, bET_bP, bET_gd, bJT_bT, bJT_bS, bJT_bP, bJT_gd, bJT_bJT, bP_bS, bP_bP, bP_gd, bT_bT, bT_bS, bT_bP, bT_gd, bS_bS, bS_bP, bS_gd, reduceIte]
        have fin := L_zone k (x := 0) (v := tpC hc) h.r_zp1 (PT_pop.mpr p) er ez (by rw [if_pos rfl, s2])
        unfold f_Ma_shifting f_Mo_likeReference
        simp +decide only [need_T q, has_T h q, f_Ma_pop_eq q h.top256, f_Mo_pop_eq h q, h.s_zp1, h.s_rp2, f_Mo_pointOf_T h z1 p, h.fail, gd_pos (h.vpM z1 p), h.refM z1 p, lz, bP_some, bS_some, bT_inl, bT_inr, bJT_inl, bJT_inr, bE_inl, bE_inr, bET_t, bET_inl, bET_inr, cO_t, cO_f, cS_t, cS_f, bE_bS, bE_bP, bE_gd, bET_bT, bET_bS, bET_bP, bET_gd, bJT_bT, bJT_bS, bJT_bP, bJT_gd, bJT_bJT, bP_bS, bP_bP, bP_gd, bT_bT, bT_bS, bT_bP, bT_gd, bS_bS, bS_bP, bS_gd, reduceIte]
        exact E_T' fin
      · have p' : ¬ PT (popC hc) (zz (rdI (popC hc) 55 1)) (rdI (popC hc) 54 2) := by rw [← c1, ← s2]; exact fun w => p (PT_pop.mp w)
        unfold f_Ma_shifting f_Mo_likeReference
        simp +decide only [need_T q, has_T h q, f_Ma_pop_eq q h.top256, L_zoneF k (ref0_F k p'), h.s_zp1, h.s_rp2, f_Mo_pointOf_F h z1 p, failM_F, lz, bP_some, bS_some, bT_inl, bT_inr, bJT_inl, bJT_inr, bE_inl, bE_inr, bET_t, bET_inl, bET_inr, cO_t, cO_f, cS_t, cS_f, bE_bS, bE_bP, bE_gd, bET_bT, bET_bS, bET_bP, bET_gd, bJT_bT, bJT_bS, bJT_bP, bJT_gd, bJT_bJT, bP_bS, bP_bP, bP_gd, bT_bT, bT_bS, bT_bP, bT_gd, bS_bS, bS_bP, bS_gd, reduceIte]
        exact OK2_of rfl rfl (Tr_f (h.fails_u q (by decide)))
    · have z1 := zz_isZ h.r_zp0
      by_cases p : PT hc (zz (rdI hc 55 0)) (rdI hc 54 1)
      · have p' : PT (popC hc) (zz (rdI (popC hc) 55 0)) (rdI (popC hc) 54 1) := by rw [← c0, ← s1]; exact PT_pop.mpr p
        have er := ref1_T k p'
        rw [← c0, ← s1, rfV_pop z1] at er
        have ez : f_Ma_referenceZone 1 (popC hc) = some (zz (rdI hc 55 0)) := by
          unfold f_Ma_referenceZone
          simp +decide only [f_Ma_zone_0, ← c0, lz, bP_some, bS_some, bT_inl, bT_inr, bJT_inl, bJT_inr, bE_inl, bE_inr, bET_t, bET_inl, bET_inr, cO_t, cO_f, cS_t, cS_f, bE_bS, bE_bP, bE_gd, bET_bT, bET_bS, bET_bP, bET_gd, bJT_bT, bJT_bS, bJT_bP, bJT_gd, bJT_bJT, bP_bS, bP_bP, bP_gd, bT_bT, bT_bS, bT_bP, bT_gd, bS_bS, bS_bP, bS_gd, reduceIte]
        have fin := L_zone k (x := 1) (v := tpC hc) h.r_zp0 (PT_pop.mpr p) er ez (by rw [if_neg (by decide), s1])
        unfold f_Ma_shifting f_Mo_likeReference
        simp +decide only [need_T q, has_T h q, f_Ma_pop_eq q h.top256, f_Mo_pop_eq h q, h.s_zp0, h.s_rp1, f_Mo_pointOf_T h z1 p, h.fail, gd_pos (h.vpM z1 p), h.refM z1 p, lz, bP_some, bS_some, bT_inl, bT_inr, bJT_inl, bJT_inr, bE_inl, bE_inr, bET_t, bET_inl, bET_inr, cO_t, cO_f, cS_t, cS_f, bE_bS, bE_bP, bE_gd, bET_bT, bET_bS, bET_bP, bET_gd, bJT_bT, bJT_bS, bJT_bP, bJT_gd, bJT_bJT, bP_bS, bP_bP, bP_gd, bT_bT, bT_bS, bT_bP, bT_gd, bS_bS, bS_bP, bS_gd, reduceIte]
        exact E_T' fin
      · have p' : ¬ PT (popC hc) (zz (rdI (popC hc) 55 0)) (rdI (popC hc) 54 1) := by rw [← c0, ← s1]; exact fun w => p (PT_pop.mp w)
        unfold f_Ma_shifting f_Mo_likeReference
        simp +decide only [need_T q, has_T h q, f_Ma_pop_eq q h.top256, L_zoneF k (ref1_F k p'), h.s_zp0, h.s_rp1, f_Mo_pointOf_F h z1 p, failM_F, lz, bP_some, bS_some, bT_inl, bT_inr, bJT_inl, bJT_inr, bE_inl, bE_inr, bET_t, bET_inl, bET_inr, cO_t, cO_f, cS_t, cS_f, bE_bS, bE_bP, bE_gd, bET_bT, bET_bS, bET_bP, bET_gd, bJT_bT, bJT_bS, bJT_bP, bJT_gd, bJT_bJT, bP_bS, bP_bP, bP_gd, bT_bT, bT_bS, bT_bP, bT_gd, bS_bS, bS_bP, bS_gd, reduceIte]
        exact OK2_of rfl rfl (Tr_f (h.fails_u q (by decide)))
  · have q' := le_of_not q
    rcases hcc with rfl | rfl <;> unfold f_Ma_shifting f_Mo_likeReference <;> simp +decide only [need_F q', has_F h q', lz, bP_some, bS_some, bT_inl, bT_inr, bJT_inl, bJT_inr, bE_inl, bE_inr, bET_t, bET_inl, bET_inr, cO_t, cO_f, cS_t, cS_f, bE_bS, bE_bP, bE_gd, bET_bT, bET_bS, bET_bP, bET_gd, bJT_bT, bJT_bS, bJT_bP, bJT_gd, bJT_bJT, bP_bS, bP_bP, bP_gd, bT_bT, bT_bS, bT_bP, bT_gd, bS_bS, bS_bP, bS_gd, reduceIte] <;> exact OK2_of rfl rfl (Tr_f (h.fails (by decide)))
theorem op_54 {P : hH → hH → Prop} {hc hm : hH} (h : Rm P hc hm) {c : Int32} (hcc : c = 54 ∨ c = 55) : OK2 (f_Ma_low c hc) (f_Mo_middle c hm) (Tr P) := by
  have g := L_54 h hcc
  rcases hcc with rfl | rfl <;> unfold f_Ma_low f_Ma_moving f_Mo_middle <;> simp +decide only [lz, bP_some, bS_some, bT_inl, bT_inr, bJT_inl, bJT_inr, bE_inl, bE_inr, bET_t, bET_inl, bET_inr, cO_t, cO_f, cS_t, cS_f, bE_bS, bE_bP, bE_gd, bET_bT, bET_bS, bET_bP, bET_gd, bJT_bT, bJT_bS, bJT_bP, bJT_gd, bJT_bJT, bP_bS, bP_bP, bP_gd, bT_bT, bT_bS, bT_bP, bT_gd, bS_bS, bS_bP, bS_gd, reduceIte] <;> exact E_T (hc := hc) (hm := hm) g
