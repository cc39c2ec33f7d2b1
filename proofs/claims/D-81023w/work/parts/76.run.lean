/-! LAYER 3L: a program runs -/
theorem Rm.conv {P Q : hH → hH → Prop} {hc hm : hH} (h : Rm Q hc hm) (cl : Pcl P) (o : P hc hm) : Rm P hc hm := ⟨⟨cl, o, h.1.2.2⟩, h.2⟩
theorem Rf.conv {P Q : hH → hH → Prop} {hc hm : hH} (h : Rf Q hc hm) (cl : Pcl P) (o : P hc hm) : Rf P hc hm := ⟨cl, o, h.2.2⟩
/-- P, and so many steps -/
def PN (P : hH → hH → Prop) (N : Int32) (hc hm : hH) : Prop := P hc hm ∧ rdI hc 22 5 = N
theorem PN_cl {P : hH → hH → Prop} {N : Int32} (h : Pcl P) : Pcl (PN P N) := by
  refine ⟨?_, ?_, ?_⟩
  · intro hc hm o k v ho q
    refine ⟨h.1 _ _ _ _ _ ho q.1, ?_⟩
    have e : ¬ (22 = o ∧ 5 = k) := by
      rintro ⟨rfl, rfl⟩
      exact absurd ho (by decide)
    rw [rdI_wrI, if_neg e]
    exact q.2
  · intro hc hm o k v ho q
    exact ⟨h.2.1 _ _ _ _ _ ho q.1, q.2⟩
  · intro hc hm k v o q
    refine ⟨h.2.2 _ _ _ _ o q.1, ?_⟩
    have oi := out_ids o
    rw [rdI_o (by omega)]
    exact q.2
/-- P may count steps -/
def P5 (P : hH → hH → Prop) : Prop := ∀ hc hm v, P hc hm → P (wrI hc 22 5 v) hm
theorem L_step {P : hH → hH → Prop} {hc hm : hH} (p5 : P5 P) (h : Rm P hc (wrI hm 192 61 (rdI hc 22 12))) (hpc : rdI hc 22 11 < szC hc) : OK2 (f_Ma_step hc) (
    lz (wrI hm 192 61 (rdI hm 192 93)) fun h8 =>
    if (rdI h8 192 58) = (20000 : Int32) then (
      bS (f_Mo_fail (10 : Int32) h8) fun _ h12 =>
      some (Sum.inr (Sum.inr ((), h12)))
    ) else (
      lz (wrI h8 192 58 ((rdI h8 192 58) + (1 : Int32))) fun h9 =>
      bP (f_Mo_codeByte (rdI h9 192 93) h9) fun a4 =>
      lz (wrI h9 192 93 ((rdI h9 192 93) + (1 : Int32))) fun h10 =>
      bS (f_Mo_perform a4 h10) fun _ h11 =>
      some (Sum.inl h11)
    )) (fun (y : hH ⊕ (Unit × hH)) (z : hH ⊕ (hH ⊕ (Unit × hH))) => match y, z with
      | .inl g, .inl m => Rf P g m
      | .inl g, .inr (.inr q) => Rf P g q.2
      | .inr q, .inl m => Rm P q.2 m ∧ rdI q.2 22 5 = rdI hc 22 5 + 1
      | _, _ => False) := by
  have rs := h.r_steps
  have rp := h.r_pc
  have sb := h.pb.szB
  change 0 ≤ rdI hc 22 11 ∧ rdI hc 22 11 ≤ szC hc at rp
  have e93 : rdI hm 192 93 = rdI hc 22 11 := by have := h.s_pc; rw [← this]; simp only [rdI_wrI, rdP_wrI, rdL_wrI, Nat.reduceEqDiff, false_and, and_false, true_and, and_true, eq_self, reduceIte, ite_self]
  have e58 : rdI hm 192 58 = rdI hc 22 5 := by have := h.s_steps; rw [← this]; simp only [rdI_wrI, rdP_wrI, rdL_wrI, Nat.reduceEqDiff, false_and, and_false, true_and, and_true, eq_self, reduceIte, ite_self]
  have a1 : Rm P (wrI hc 22 12 (rdI hc 22 11)) (wrI hm 192 61 (rdI hc 22 11)) := by
    have q := h.set_at (rdI hc 22 11)
    rw [wrI_wrI] at q
    exact q
  have c5 : ∀ v, rdI (wrI hc 22 12 v) 22 5 = rdI hc 22 5 := fun v => by simp only [rdI_wrI, rdP_wrI, rdL_wrI, Nat.reduceEqDiff, false_and, and_false, true_and, and_true, eq_self, reduceIte, ite_self]
  have m58 : ∀ v, rdI (wrI hm 192 61 v) 192 58 = rdI hc 22 5 := fun v => by simp only [rdI_wrI, rdP_wrI, rdL_wrI, Nat.reduceEqDiff, false_and, and_false, true_and, and_true, eq_self, reduceIte, ite_self]; exact e58
  by_cases q : 20000 ≤ rdI hc 22 5
  · have q2 : rdI hc 22 5 = 20000 := by grind
    unfold f_Ma_step
    simp +decide only [e93, c5, m58, if_pos q, f_Ma_want_0, if_pos q2, f_Mo_fail_eq a1.fail, lz, bP_some, bS_some, bT_inl, bT_inr, bJT_inl, bJT_inr, bE_inl, bE_inr, bET_t, bET_inl, bET_inr, cO_t, cO_f, cS_t, cS_f, bE_bS, bE_bP, bE_gd, bET_bT, bET_bS, bET_bP, bET_gd, bJT_bT, bJT_bS, bJT_bP, bJT_gd, bJT_bJT, bP_bS, bP_bP, bP_gd, bT_bT, bT_bS, bT_bP, bT_gd, bS_bS, bS_bP, bS_gd, reduceIte]
    exact OK2_of rfl rfl (a1.fails (by decide))
  · have q2 : ¬ rdI hc 22 5 = 20000 := by grind
    have a2 := a1.set_steps (v := rdI hc 22 5 + 1) (by constructor <;> grind) (p5 _ _ _ a1.out)
    have a2' : Rm (PN P (rdI hc 22 5 + 1)) _ _ := a2.conv (PN_cl a2.cl) ⟨a2.out, by simp only [rdI_wrI, rdP_wrI, rdL_wrI, Nat.reduceEqDiff, false_and, and_false, true_and, and_true, eq_self, reduceIte, ite_self]⟩
    have d11 : rdI (wrI (wrI hc 22 12 (rdI hc 22 11)) 22 5 (rdI hc 22 5 + 1)) 22 11 = rdI hc 22 11 := by simp only [rdI_wrI, rdP_wrI, rdL_wrI, Nat.reduceEqDiff, false_and, and_false, true_and, and_true, eq_self, reduceIte, ite_self]
    have dsz : szC (wrI (wrI hc 22 12 (rdI hc 22 11)) 22 5 (rdI hc 22 5 + 1)) = szC hc := by unfold szC; simp only [rdI_wrI, rdP_wrI, rdL_wrI, Nat.reduceEqDiff, false_and, and_false, true_and, and_true, eq_self, reduceIte, ite_self]
    have pb := a2'.pb
    have d93 : rdI (wrI (wrI hm 192 61 (rdI hc 22 11)) 192 58 (rdI hc 22 5 + 1)) 192 93 = rdI hc 22 11 := by simp only [rdI_wrI, rdP_wrI, rdL_wrI, Nat.reduceEqDiff, false_and, and_false, true_and, and_true, eq_self, reduceIte, ite_self]; exact e93
    have bt := byteAt_T pb (k := rdI hc 22 11) rp.1 (by rw [dsz]; exact hpc)
    have cb := codeByte_T pb (k := rdI hc 22 11) rp.1 (by rw [dsz]; exact hpc)
    have a3 := a2'.set_pc (v := rdI hc 22 11 + 1) ⟨by grind, by change _ ≤ szC (wrI (wrI hc 22 12 (rdI hc 22 11)) 22 5 (rdI hc 22 5 + 1)); rw [dsz]; grind⟩
    have cr := and255 (rdI (wrI (wrI hc 22 12 (rdI hc 22 11)) 22 5 (rdI hc 22 5 + 1)) 6 (bgC (wrI (wrI hc 22 12 (rdI hc 22 11)) 22 5 (rdI hc 22 5 + 1)) + rdI hc 22 11).toNatClampNeg)
    change 0 ≤ cbV (rdI hc 22 11) (wrI (wrI hc 22 12 (rdI hc 22 11)) 22 5 (rdI hc 22 5 + 1)) ∧ cbV (rdI hc 22 11) (wrI (wrI hc 22 12 (rdI hc 22 11)) 22 5 (rdI hc 22 5 + 1)) ≤ 255 at cr
    obtain ⟨y, z, ey, ez, r⟩ := L_code a3 cr.1 cr.2
    have ec : f_Ma_step hc = some y := by
      rw [← ey]
      unfold f_Ma_step
      simp +decide only [c5, if_neg q, f_Ma_want_1, d11, bt, lz, bP_some, bS_some, bT_inl, bT_inr, bJT_inl, bJT_inr, bE_inl, bE_inr, bET_t, bET_inl, bET_inr, cO_t, cO_f, cS_t, cS_f, bE_bS, bE_bP, bE_gd, bET_bT, bET_bS, bET_bP, bET_gd, bJT_bT, bJT_bS, bJT_bP, bJT_gd, bJT_bJT, bP_bS, bP_bP, bP_gd, bT_bT, bT_bS, bT_bP, bT_gd, bS_bS, bS_bP, bS_gd, reduceIte]
      rfl
    rw [ec]
    simp +decide only [e93, m58, if_neg q2, d93, cb, ez, lz, bP_some, bS_some, bT_inl, bT_inr, bJT_inl, bJT_inr, bE_inl, bE_inr, bET_t, bET_inl, bET_inr, cO_t, cO_f, cS_t, cS_f, bE_bS, bE_bP, bE_gd, bET_bT, bET_bS, bET_bP, bET_gd, bJT_bT, bJT_bS, bJT_bP, bJT_gd, bJT_bJT, bP_bS, bP_bP, bP_gd, bT_bT, bT_bS, bT_bP, bT_gd, bS_bS, bS_bP, bS_gd, reduceIte]
    rcases y with g | g
    · refine OK2_of rfl rfl ?_
      have r' : Rf (PN P (rdI hc 22 5 + 1)) g z.2 := r
      exact r'.conv a1.cl r'.out.1
    · refine OK2_of rfl rfl ?_
      have r' : Rm (PN P (rdI hc 22 5 + 1)) g.2 z.2 := r
      exact ⟨r'.conv a1.cl r'.out.1, r'.out.2⟩
/-- the loop of a program -/
theorem L_prog {P : hH → hH → Prop} {hc hm : hH} (p5 : P5 P) (h : Rm P hc (wrI hm 192 61 (rdI hc 22 12))) (h0 : rdI hc 22 16 = 0) : OK2 (
    bJT (P := hH) (
      whT (A := (Int32 × hH)) (B := hH) (fun p3 =>
        if p3.1 = 0 then (
          some (.inr (.inr p3.2))
        ) else (
          gd (vp_in (rdI p3.2 22 7) 3) <|
          if (rdI p3.2 22 11) = (rdI p3.2 42 (Int32.toNatClampNeg (rdI p3.2 22 7))) then (
            lz (A := Int32) (if (rdI p3.2 22 16) = 0 then (1 : Int32) else (0 : Int32)) fun p6 =>
            bT (f_Ma_want p6 (4 : Int32) p3.2) fun _ h19 =>
            some (.inr (.inl ((0 : Int32), h19)))
          ) else (
            bT (f_Ma_step p3.2) fun _ h18 =>
            some (.inr (.inl (p3.1, h18)))
          )
        )
      ) ((1 : Int32), hc)
    ) fun p4 =>
    lz (wrI p4 22 12 (-1 : Int32)) fun h20 =>
    some (.inr ((), h20)))
   (bE (P := hH) (X := (Unit × hH)) (
      wh (A := hH) (B := (hH ⊕ (Unit × hH))) (fun p1 =>
        if (rdI p1 192 59) = 0 then (
          gd (vp_in (rdI p1 192 92) 3) <|
          if (rdI p1 192 93) < (rdI p1 221 (Int32.toNatClampNeg (rdI p1 192 92))) then (
            lz (wrI p1 192 61 (rdI p1 192 93)) fun h8 =>
            if (rdI h8 192 58) = (20000 : Int32) then (
              bS (f_Mo_fail (10 : Int32) h8) fun _ h12 =>
              some (.inr (.inr ((), h12)))
            ) else (
              lz (wrI h8 192 58 ((rdI h8 192 58) + (1 : Int32))) fun h9 =>
              bP (f_Mo_codeByte (rdI h9 192 93) h9) fun a4 =>
              lz (wrI h9 192 93 ((rdI h9 192 93) + (1 : Int32))) fun h10 =>
              bS (f_Mo_perform a4 h10) fun _ h11 =>
              some (.inl h11)
            )
          ) else (
            if (rdI p1 192 99) ≤ 0 then (
              some (.inr (.inr ((), p1)))
            ) else (
              bS (f_Mo_fail (4 : Int32) p1) fun _ h13 =>
              some (.inr (.inr ((), h13)))
            )
          )
        ) else (
          some (.inr (.inl p1))
        )
      ) hm
    ) fun p2 =>
    some ((), p2)) (fun y z => TT (fun g => Rf P g z.2) (fun q => Rm P q.2 (wrI z.2 192 61 (-1))) y) := by
  have key : OK2 (whT (A := (Int32 × hH)) (B := hH) (fun p3 =>
        if p3.1 = 0 then (
          some (.inr (.inr p3.2))
        ) else (
          gd (vp_in (rdI p3.2 22 7) 3) <|
          if (rdI p3.2 22 11) = (rdI p3.2 42 (Int32.toNatClampNeg (rdI p3.2 22 7))) then (
            lz (A := Int32) (if (rdI p3.2 22 16) = 0 then (1 : Int32) else (0 : Int32)) fun p6 =>
            bT (f_Ma_want p6 (4 : Int32) p3.2) fun _ h19 =>
            some (.inr (.inl ((0 : Int32), h19)))
          ) else (
            bT (f_Ma_step p3.2) fun _ h18 =>
            some (.inr (.inl (p3.1, h18)))
          )
        )
      ) ((1 : Int32), hc)) (wh (A := hH) (B := (hH ⊕ (Unit × hH))) (fun p1 =>
        if (rdI p1 192 59) = 0 then (
          gd (vp_in (rdI p1 192 92) 3) <|
          if (rdI p1 192 93) < (rdI p1 221 (Int32.toNatClampNeg (rdI p1 192 92))) then (
            lz (wrI p1 192 61 (rdI p1 192 93)) fun h8 =>
            if (rdI h8 192 58) = (20000 : Int32) then (
              bS (f_Mo_fail (10 : Int32) h8) fun _ h12 =>
              some (.inr (.inr ((), h12)))
            ) else (
              lz (wrI h8 192 58 ((rdI h8 192 58) + (1 : Int32))) fun h9 =>
              bP (f_Mo_codeByte (rdI h9 192 93) h9) fun a4 =>
              lz (wrI h9 192 93 ((rdI h9 192 93) + (1 : Int32))) fun h10 =>
              bS (f_Mo_perform a4 h10) fun _ h11 =>
              some (.inl h11)
            )
          ) else (
            if (rdI p1 192 99) ≤ 0 then (
              some (.inr (.inr ((), p1)))
            ) else (
              bS (f_Mo_fail (4 : Int32) p1) fun _ h13 =>
              some (.inr (.inr ((), h13)))
            )
          )
        ) else (
          some (.inr (.inl p1))
        )
      ) hm) (fun y z => TT (fun g => Rf P g (z.elim id (fun q => q.2))) (fun g => Rm P g (wrI (z.elim id (fun q => q.2)) 192 61 (rdI g 22 12))) y) := by
    refine OK2_whT (A := Int32 × hH) (A' := hH) (B := hH) (B' := hH ⊕ (Unit × hH)) (fun s t => s.1 = 1 ∧ Rm P s.2 (wrI t 192 61 (rdI s.2 22 12)) ∧ (rdI s.2 22 16 = 0 ∨ rdI t 192 61 = rdI s.2 22 12)) (fun s => 20000 - (rdI s.2 22 5).toNatClampNeg) ?_ (s := (1, hc)) (t := hm) ⟨rfl, h, Or.inl h0⟩
    rintro ⟨i, g⟩ m ⟨h1, k, hat⟩
    dsimp only at h1 k hat
    subst h1
    dsimp only
    have kf : rdI m 192 59 = 0 := by have := k.fail; rw [← this]; simp only [rdI_wrI, rdP_wrI, rdL_wrI, Nat.reduceEqDiff, false_and, and_false, true_and, and_true, eq_self, reduceIte, ite_self]
    have pk : PB g m := by
      have q := k.pb
      unfold PB PO BY at q ⊢
      simp only [rdI_wrI, Nat.reduceEqDiff, false_and, and_false, true_and, and_true, eq_self, reduceIte, ite_self] at q
      exact q
    have hp := PO_vp pk.po
    have e92 := pk.s_prog
    have e221 : rdI m 221 (rdI g 22 7).toNatClampNeg = szC g := pk.po.2.2.1
    have e93 : rdI m 192 93 = rdI g 22 11 := by have := k.s_pc; rw [← this]; simp only [rdI_wrI, rdP_wrI, rdL_wrI, Nat.reduceEqDiff, false_and, and_false, true_and, and_true, eq_self, reduceIte, ite_self]
    have e99 : rdI m 192 99 = rdI g 22 16 := by have := k.s_calls; rw [← this]; simp only [rdI_wrI, rdP_wrI, rdL_wrI, Nat.reduceEqDiff, false_and, and_false, true_and, and_true, eq_self, reduceIte, ite_self]
    have rp := k.r_pc
    change 0 ≤ rdI g 22 11 ∧ rdI g 22 11 ≤ szC g at rp
    have rs := k.r_steps
    have rc := k.r_calls
    rw [if_neg (show ¬ (1 : Int32) = 0 by decide), if_pos kf, e92, gd_pos hp, gd_pos hp, e93, e221]
    change OK2 (if rdI g 22 11 = szC g then _ else _) _ _
    by_cases z : rdI g 22 11 = szC g
    · rw [if_pos z, if_neg (show ¬ rdI g 22 11 < szC g by grind), e99]
      by_cases c0 : rdI g 22 16 = 0
      · rw [if_pos (show rdI g 22 16 ≤ 0 by grind)]
        simp only [lz, if_pos c0, f_Ma_want_1, bT_inr]
        refine OK2_of rfl rfl ?_
        show OK (whT _ (0, g)) _
        refine ⟨.inr g, ?_, k⟩
        unfold whT
        rw [wh_eq]
        simp only [reduceIte, thS]
      · rw [if_neg (show ¬ rdI g 22 16 ≤ 0 by grind)]
        have ea : rdI m 192 61 = rdI g 22 12 := hat.resolve_left c0
        have km : Rm P g m := by rw [wrI_id ea.symm] at k; exact k
        simp only [lz, if_neg c0, f_Ma_want_0, bT_inl, f_Mo_fail_eq kf, bS_some]
        exact OK2_of rfl rfl (km.fails (by decide))
    · have lt : rdI g 22 11 < szC g := by grind
      rw [if_neg z, if_pos lt]
      obtain ⟨y, w, ey, ew, r⟩ := L_step p5 k lt
      rw [e93] at ew
      rw [ey, ew]
      rcases y with g' | g' <;> rcases w with m' | m' | m'
      · refine OK2_of rfl rfl ?_
        have r' : Rf P g' m' := r
        have ps := r'.pos
        show OK (wh _ m') _
        rw [wh_eq, if_neg (show ¬ rdI m' 192 59 = 0 by grind)]
        exact OK_some r'
      · exact absurd r id
      · exact OK2_of rfl rfl r
      · refine OK2_of rfl rfl ⟨⟨rfl, ?_, Or.inr r.1.s_at⟩, ?_⟩
        · show Rm P g'.2 (wrI m' 192 61 (rdI g'.2 22 12))
          rw [wrI_id r.1.s_at.symm]
          exact r.1
        · show 20000 - (rdI g'.2 22 5).toNatClampNeg < 20000 - (rdI g 22 5).toNatClampNeg
          have r5 := r.2
          have rs' := r.1.r_steps
          have x1 : (rdI g 22 5 + 1).toNatClampNeg = (rdI g 22 5).toNatClampNeg + 1 := xI_succ (m := 20000) rs.1 rs.2 (by decide)
          have x2 := xI_le (n := 20000) rs'.2 rfl
          rw [r5] at x2 ⊢
          omega
      · exact absurd r id
      · exact absurd r id
  obtain ⟨y, z, ey, ez, r⟩ := key
  rw [ey, ez]
  rcases y with g | g <;> rcases z with m | m
  · exact OK2_of rfl rfl r
  · exact OK2_of rfl rfl r
  · refine OK2_of rfl rfl ?_
    have r' : Rm P g (wrI m 192 61 (rdI g 22 12)) := r
    have q := r'.set_at (-1)
    rw [wrI_wrI] at q
    exact q
  · refine OK2_of rfl rfl ?_
    have r' : Rm P g (wrI m.2 192 61 (rdI g 22 12)) := r
    have q := r'.set_at (-1)
    rw [wrI_wrI] at q
    exact q
