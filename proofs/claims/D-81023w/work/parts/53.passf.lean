/-! LAYER 3o: passing over a function -/
theorem PB_pc {hc hm : hH} {p : Int32} (h : PB hc hm) : PB (wrI hc 22 11 p) hm := by
  obtain ⟨a, b, c⟩ := h
  simp only [PB, PO, BY] at a b c ⊢
  simp only [rdI_wrI, rdP_wrI, rdL_wrI, Nat.reduceEqDiff, false_and, and_false, true_and, and_true, eq_self, reduceIte, ite_self]
  exact ⟨a, b, c⟩
theorem L_passFn {hc hm : hH} (h : PB hc hm) (hf : rdI hm 192 59 = 0) (hs : rdI hm 192 93 = rdI hc 22 11) (hpc : 0 ≤ rdI hc 22 11 ∧ rdI hc 22 11 ≤ szC hc) : ∃ p, 0 ≤ p ∧ p ≤ szC hc ∧ ((f_Ma_passFunction hc = some (.inr ((), wrI hc 22 11 p)) ∧ f_Mo_pass (rdI hm 192 93) 45 45 0 hm = some (p, hm)) ∨ (f_Ma_passFunction hc = some (.inl (failC 4 (wrI hc 22 11 p))) ∧ f_Mo_pass (rdI hm 192 93) 45 45 0 hm = some (-1, failM 4 hm))) := by
  have hb := h.szB
  have hp := PO_vp h.po
  have sz : rdI hm 221 (rdI hc 22 7).toNatClampNeg = szC hc := h.po.2.2.1
  have idp : wrI hc 22 11 (rdI hc 22 11) = hc := by
    unfold wrI up2 rdI
    refine Prod.ext ?_ rfl
    funext a b
    dsimp only
    by_cases q : a = 22 ∧ b = 11
    · rw [if_pos q, q.1, q.2]
    · rw [if_neg q]
  have key : OK2 (f_Ma_passFunction hc) (f_Mo_pass (rdI hm 192 93) 45 45 0 hm) (fun y z => ∃ p, 0 ≤ p ∧ p ≤ szC hc ∧ ((y = .inr ((), wrI hc 22 11 p) ∧ z = (p, hm)) ∨ (y = .inl (failC 4 (wrI hc 22 11 p)) ∧ z = (-1, failM 4 hm)))) := by
    unfold f_Ma_passFunction f_Mo_pass
    obtain ⟨y, z, e1, e2, w⟩ := OK2_whT (f := fun p1 : Int32 × hH =>
        if p1.1 = (45 : Int32) then (
          some (.inr (.inr p1.2))
        ) else (
          bT (f_Ma_byteAt (rdI p1.2 22 11) p1.2) fun a3 h1 =>
          bT (f_Ma_lengthAt (rdI h1 22 11) h1) fun a4 h2 =>
          lz (wrI h2 22 11 ((rdI h1 22 11) + a4)) fun h3 =>
          some (.inr (.inl (a3, h3)))
        ))
        (g := fun p1 : Int32 × Int32 =>
        gd (vp_in (rdI hm 192 92) 3) <|
        if (rdI hm 221 (Int32.toNatClampNeg (rdI hm 192 92))) ≤ p1.1 then (
          some (.inr (.inl ()))
        ) else (
          bP (f_Mo_codeByte p1.1 hm) fun a4 =>
          bP (f_Mo_codeLength p1.1 hm) fun a5 =>
          gd (vp_in (rdI hm 192 92) 3) <|
          if (p1.1 + a5) ≤ (rdI hm 221 (Int32.toNatClampNeg (rdI hm 192 92))) then (
            lz (A := Int32) (p1.1 + a5) fun v7 =>
            bE (P := Unit) (X := ((Int32 × Int32) ⊕ (Unit ⊕ (Int32 × hH)))) (
              if p1.2 = 0 then (
                if a4 = 45 then (
                  some (.inr (.inr (.inr (v7, hm))))
                ) else (
                  if a4 = 45 then (
                    some (.inr (.inr (.inr (v7, hm))))
                  ) else (
                    some (.inl ())
                  )
                )
              ) else (
                some (.inl ())
              )
            ) fun p8 =>
            bP (A := Int32) (
              if (¬ ((0 : Int32) = 0) ∧ a4 = (88 : Int32)) then (
                lz (A := Int32) (p1.2 + (1 : Int32)) fun v18 =>
                some v18
              ) else (
                if (¬ ((0 : Int32) = 0) ∧ a4 = (89 : Int32)) then (
                  lz (A := Int32) (p1.2 + (-1 : Int32)) fun v24 =>
                  some v24
                ) else (
                  some p1.2
                )
              )
            ) fun p12 =>
            some (.inl (v7, p12))
          ) else (
            bS (f_Mo_fail (4 : Int32) hm) fun _ h1 =>
            some (.inr (.inr ((-1 : Int32), h1)))
          )
        ))
        (Φ := fun y z => ∃ p, 0 ≤ p ∧ p ≤ szC hc ∧ ((y = .inr (wrI hc 22 11 p) ∧ z = .inr (p, hm)) ∨ (y = .inl (failC 4 (wrI hc 22 11 p)) ∧ (z = .inl () ∨ z = .inr (-1, failM 4 hm)))))
        (fun s t => ¬ s.1 = 45 ∧ t.2 = 0 ∧ s.2 = wrI hc 22 11 t.1 ∧ 0 ≤ t.1 ∧ t.1 ≤ szC hc) (fun s => (szC hc).toNatClampNeg - (rdI s.2 22 11).toNatClampNeg) (by
          rintro ⟨d, g⟩ ⟨p, d'⟩ ⟨h1, h3, h4, h5, h6⟩
          dsimp only at h1 h3 h4 h5 h6
          subst h3 h4
          have k : PB (wrI hc 22 11 p) hm := PB_pc h
          have kp : rdI (wrI hc 22 11 p) 22 11 = p := by simp only [rdI_wrI, rdP_wrI, rdL_wrI, Nat.reduceEqDiff, false_and, and_false, true_and, and_true, eq_self, reduceIte, ite_self]
          dsimp only
          rw [if_neg h1, h.s_prog, gd_pos hp, sz, kp]
          by_cases q : szC hc ≤ p
          · rw [if_pos q, byteAt_F k (by rw [szC_pc]; exact q)]
            exact OK2_of rfl rfl ⟨p, h5, h6, Or.inr ⟨rfl, Or.inl rfl⟩⟩
          · have q' := Int32.not_le.mp q
            rw [if_neg q, byteAt_T k h5 (by rw [szC_pc]; exact q'), codeByte_T h h5 q', cbV_pc]
            obtain ⟨n, e1, n1, n2, en⟩ := L_len k h5 (by rw [szC_pc]; exact q')
            rw [szC_pc] at en
            rw [e1]
            simp only [bT_inr, bP_some, gd_pos hp, kp]
            rcases en with ⟨a1, a2⟩ | ⟨a1, a2⟩
            · rw [if_pos a1, a2]
              simp only [bT_inr, lz, wrI_wrI]
              generalize cbV p hc = c
              have l1 : (szC hc).toNatClampNeg - (p + n).toNatClampNeg < (szC hc).toNatClampNeg - p.toNatClampNeg := by
                have := (xI_lt (x := p) (y := p + n) h5 (by grind)).mpr (by grind)
                have := (xI_lt (x := p) (y := szC hc) h5 hb.1).mpr q'
                omega
              have l2 : rdI (wrI hc 22 11 (p + n)) 22 11 = p + n := by simp only [rdI_wrI, rdP_wrI, rdL_wrI, Nat.reduceEqDiff, false_and, and_false, true_and, and_true, eq_self, reduceIte, ite_self]
              by_cases c1 : c = 45
              · subst c1
                simp +decide only [lz, bP_some, bS_some, bT_inl, bT_inr, bJT_inl, bJT_inr, bE_inl, bE_inr, bET_t, bET_inl, bET_inr, cO_t, cO_f, cS_t, cS_f, bE_bS, bE_bP, bE_gd, bET_bT, bET_bS, bET_bP, bET_gd, bJT_bT, bJT_bS, bJT_bP, bJT_gd, bJT_bJT, bP_bS, bP_bP, bP_gd, bT_bT, bT_bS, bT_bP, bT_gd, bS_bS, bS_bP, bS_gd, reduceIte]
                refine OK2_of rfl rfl ?_
                dsimp only
                unfold whT
                rw [wh_eq]
                exact OK_some ⟨p + n, by grind, a1, Or.inl ⟨rfl, rfl⟩⟩
              · simp +decide only [c1, lz, bP_some, bS_some, bT_inl, bT_inr, bJT_inl, bJT_inr, bE_inl, bE_inr, bET_t, bET_inl, bET_inr, cO_t, cO_f, cS_t, cS_f, bE_bS, bE_bP, bE_gd, bET_bT, bET_bS, bET_bP, bET_gd, bJT_bT, bJT_bS, bJT_bP, bJT_gd, bJT_bJT, bP_bS, bP_bP, bP_gd, bT_bT, bT_bS, bT_bP, bT_gd, bS_bS, bS_bP, bS_gd, reduceIte]
                refine OK2_of rfl rfl ⟨⟨c1, rfl, rfl, by grind, a1⟩, ?_⟩
                show (szC hc).toNatClampNeg - (rdI (wrI hc 22 11 (p + n)) 22 11).toNatClampNeg < (szC hc).toNatClampNeg - (rdI (wrI hc 22 11 p) 22 11).toNatClampNeg
                rw [l2, kp]
                exact l1
            · rw [if_neg (Int32.not_le.mpr a1), a2, f_Mo_fail_eq hf]
              exact OK2_of rfl rfl ⟨p, h5, h6, Or.inr ⟨rfl, Or.inr rfl⟩⟩) (s := ((0 : Int32), hc)) (t := (rdI hm 192 93, (0 : Int32))) ⟨show ¬ (0 : Int32) = 45 by decide, rfl, by rw [hs, idp], by rw [hs]; exact hpc.1, by rw [hs]; exact hpc.2⟩
    rw [e1, e2]
    obtain ⟨p, p0, p1, w | ⟨w1, w2⟩⟩ := w
    · obtain ⟨rfl, rfl⟩ := w
      exact OK2_of rfl rfl ⟨p, p0, p1, Or.inl ⟨rfl, rfl⟩⟩
    · subst w1
      rcases w2 with rfl | rfl
      · simp only [bE_inl, f_Mo_fail_eq hf, bS_some]
        exact OK2_of rfl rfl ⟨p, p0, p1, Or.inr ⟨rfl, rfl⟩⟩
      · exact OK2_of rfl rfl ⟨p, p0, p1, Or.inr ⟨rfl, rfl⟩⟩
  obtain ⟨y, z, e1, e2, p, p0, p1, w⟩ := key
  refine ⟨p, p0, p1, ?_⟩
  rw [e1, e2]
  rcases w with ⟨rfl, rfl⟩ | ⟨rfl, rfl⟩
  · exact Or.inl ⟨rfl, rfl⟩
  · exact Or.inr ⟨rfl, rfl⟩
