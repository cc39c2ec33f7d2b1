/-! LAYER 3m: passing over codes -/
theorem wr93 {c v w : Int32} {h : hH} : wrI (failM c (wrI h 192 93 v)) 192 93 w = wrI (failM c h) 192 93 w := by
  unfold failM
  simp only [rdI_wrI, rdP_wrI, rdL_wrI, Nat.reduceEqDiff, false_and, and_false, true_and, and_true, eq_self, reduceIte, ite_self]
  rw [wrI_comm (o := 192) (k := 93) (o' := 192) (k' := 59) (by decide), wrI_comm (o := 192) (k := 93) (o' := 192) (k' := 60) (by decide), wrI_wrI]
theorem szC_pc {h : hH} {v : Int32} : szC (wrI h 22 11 v) = szC h := by unfold szC; simp only [rdI_wrI, rdP_wrI, rdL_wrI, Nat.reduceEqDiff, false_and, and_false, true_and, and_true, eq_self, reduceIte, ite_self]
theorem cbV_pc {h : hH} {v k : Int32} : cbV k (wrI h 22 11 v) = cbV k h := by unfold cbV bgC; simp only [rdI_wrI, rdP_wrI, rdL_wrI, Nat.reduceEqDiff, false_and, and_false, true_and, and_true, eq_self, reduceIte, ite_self]
/-- after a pass: the model's place is written -/
def Tp (P : hH → hH → Prop) (y : hH ⊕ (Unit × hH)) (z : Int32 × hH) : Prop := TT (fun g => Rf P g (wrI z.2 192 93 z.1)) (fun q => Rm P q.2 (wrI z.2 192 93 z.1)) y
theorem L_passIf {P : hH → hH → Prop} {hc hm : hH} (h : Rm P hc hm) {e one : Int32} (he : (e = 0 ∧ one = 89) ∨ (e = 1 ∧ one = 27)) : OK2 (f_Ma_passIf e hc) (f_Mo_pass (rdI hm 192 93) one 89 1 hm) (Tp P) := by
  have hb := h.pb.szB
  have hp := PO_vp h.po
  have sz : rdI hm 221 (rdI hc 22 7).toNatClampNeg = szC hc := h.po.2.2.1
  have hpc := h.r_pc
  change 0 ≤ rdI hc 22 11 ∧ rdI hc 22 11 ≤ szC hc at hpc
  have sf : ∀ p : Int32, 0 ≤ p → p ≤ szC hc → Rf P (failC 4 (wrI hc 22 11 p)) (wrI (failM 4 hm) 192 93 (-1)) := by
    intro p p0 p1
    have k := (h.set_pc (v := p) ⟨p0, p1⟩).fails (c := 4) (by decide)
    have k2 := k.mw (o := 192) (k := 93) (-1) rfl (by decide)
    rw [wr93] at k2
    exact k2
  have idp : wrI hc 22 11 (rdI hc 22 11) = hc := by
    unfold wrI up2 rdI
    refine Prod.ext ?_ rfl
    funext a b
    dsimp only
    by_cases q : a = 22 ∧ b = 11
    · rw [if_pos q, q.1, q.2]
    · rw [if_neg q]
  unfold f_Ma_passIf f_Mo_pass
  have key : OK2 (whT (A := (Int32 × hH)) (B := hH) (fun p1 =>
        if p1.1 ≤ 0 then (
          some (.inr (.inr p1.2))
        ) else (
          bT (f_Ma_byteAt (rdI p1.2 22 11) p1.2) fun a3 h1 =>
          bT (f_Ma_lengthAt (rdI h1 22 11) h1) fun a4 h2 =>
          lz (wrI h2 22 11 ((rdI h1 22 11) + a4)) fun h3 =>
          lz (A := Int32) (if a3 = (88 : Int32) then (1 : Int32) else (if a3 = (89 : Int32) then (-1 : Int32) else (0 : Int32))) fun p5 =>
          lz (A := Int32) (p1.1 + p5) fun v8 =>
          lz (A := Int32) (if e = 0 then v8 else (if a3 = (27 : Int32) then (if v8 = (1 : Int32) then (0 : Int32) else v8) else v8)) fun p9 =>
          some (.inr (.inl (p9, h3)))
        )
    ) ((1 : Int32), hc)) (wh (A := (Int32 × Int32)) (B := (Unit ⊕ (Int32 × hH))) (fun p1 =>
        gd (vp_in (rdI hm 192 92) 3) <|
        if (rdI hm 221 (Int32.toNatClampNeg (rdI hm 192 92))) ≤ p1.1 then (
          some (.inr (.inl ()))
        ) else (
          bP (f_Mo_codeByte p1.1 hm) fun a4 =>
          bP (f_Mo_codeLength p1.1 hm) fun a5 =>
          gd (vp_in (rdI hm 192 92) 3) <|
          if (p1.1 + a5) ≤ (rdI hm 221 (Int32.toNatClampNeg (rdI hm 192 92))) then (
            lz (A := Int32) (p1.1 + a5) fun v7 =>
            bE (P := Unit) (X := ((Int32 × Int32) ⊕ (Unit ⊕ (Int32 × hH)))) (
              if p1.2 = 0 then (
                if a4 = one then (
                  some (.inr (.inr (.inr (v7, hm))))
                ) else (
                  if a4 = 89 then (
                    some (.inr (.inr (.inr (v7, hm))))
                  ) else (
                    some (.inl ())
                  )
                )
              ) else (
                some (.inl ())
              )
            ) fun p8 =>
            bP (A := Int32) (
              if (¬ ((1 : Int32) = 0) ∧ a4 = (88 : Int32)) then (
                lz (A := Int32) (p1.2 + (1 : Int32)) fun v18 =>
                some v18
              ) else (
                if (¬ ((1 : Int32) = 0) ∧ a4 = (89 : Int32)) then (
                  lz (A := Int32) (p1.2 + (-1 : Int32)) fun v24 =>
                  some v24
                ) else (
                  some p1.2
                )
              )
            ) fun p12 =>
            some (.inl (v7, p12))
          ) else (
            bS (f_Mo_fail (4 : Int32) hm) fun _ h1 =>
            some (.inr (.inr ((-1 : Int32), h1)))
          )
        )
    ) (rdI hm 192 93, (0 : Int32))) (fun y z => match z with
      | .inl _ => TT (fun g => Rf P g (wrI (failM 4 hm) 192 93 (-1))) (fun _ => False) y
      | .inr q => TT (fun g => Rf P g (wrI q.2 192 93 q.1)) (fun g => Rm P g (wrI q.2 192 93 q.1)) y) := by
    refine OK2_whT (fun s t => 1 ≤ s.1 ∧ s.1 ≤ t.1 + 1 ∧ t.2 = s.1 - 1 ∧ s.2 = wrI hc 22 11 t.1 ∧ 0 ≤ t.1 ∧ t.1 ≤ szC hc) (fun s => (szC hc).toNatClampNeg - (rdI s.2 22 11).toNatClampNeg) ?_ ⟨show (1 : Int32) ≤ 1 by decide, by rw [h.s_pc]; grind, show (0 : Int32) = 1 - 1 by decide, by rw [h.s_pc, idp], by rw [h.s_pc]; exact hpc.1, by rw [h.s_pc]; exact hpc.2⟩
    rintro ⟨d, g⟩ ⟨p, d'⟩ ⟨h1, h2, h3, h4, h5, h6⟩
    dsimp only at h1 h2 h3 h4 h5 h6
    subst h3 h4
    have k := h.set_pc (v := p) ⟨h5, h6⟩
    have kp : rdI (wrI hc 22 11 p) 22 11 = p := by simp only [rdI_wrI, rdP_wrI, rdL_wrI, Nat.reduceEqDiff, false_and, and_false, true_and, and_true, eq_self, reduceIte, ite_self]
    dsimp only
    rw [if_neg (show ¬ d ≤ 0 by grind), h.s_prog, gd_pos hp, sz, kp]
    by_cases q : szC hc ≤ p
    · rw [if_pos q, byteAt_F k.pb (by rw [szC_pc]; exact q)]
      exact OK2_of rfl rfl (sf p h5 h6)
    · have q' := Int32.not_le.mp q
      rw [if_neg q, byteAt_T k.pb h5 (by rw [szC_pc]; exact q'), codeByte_T h.pb h5 q', cbV_pc]
      obtain ⟨n, e1, n1, n2, en⟩ := L_len h.pb h5 q'
      have en' : (p + n ≤ szC hc ∧ f_Ma_lengthAt p (wrI hc 22 11 p) = some (.inr (n, wrI hc 22 11 p))) ∨ (szC hc < p + n ∧ f_Ma_lengthAt p (wrI hc 22 11 p) = some (.inl (failC 4 (wrI hc 22 11 p)))) := by
        obtain ⟨m, f1, m1, m2, fm⟩ := L_len k.pb h5 (by rw [szC_pc]; exact q')
        have em : f_Mo_codeLength p (wrI hm 192 93 p) = f_Mo_codeLength p hm := by
          unfold f_Mo_codeLength f_Mo_codeByte f_Mo_u1
          simp only [rdI_wrI, rdP_wrI, rdL_wrI, Nat.reduceEqDiff, false_and, and_false, true_and, and_true, eq_self, reduceIte, ite_self]
        rw [em, e1] at f1
        cases f1
        rw [szC_pc] at fm
        exact fm
      rw [e1]
      simp only [bT_inr, bP_some, gd_pos hp, kp]
      rcases en' with ⟨a1, a2⟩ | ⟨a1, a2⟩
      · rw [if_pos a1, a2]
        simp only [bT_inr, lz, wrI_wrI]
        generalize cbV p hc = c
        have k3 := h.set_pc (v := p + n) ⟨by grind, a1⟩
        have l1 : (szC hc).toNatClampNeg - (p + n).toNatClampNeg < (szC hc).toNatClampNeg - p.toNatClampNeg := by
          have := (xI_lt (x := p) (y := p + n) h5 (by grind)).mpr (by grind)
          have := (xI_lt (x := p) (y := szC hc) h5 hb.1).mpr q'
          omega
        have l2 : rdI (wrI hc 22 11 (p + n)) 22 11 = p + n := by simp only [rdI_wrI, rdP_wrI, rdL_wrI, Nat.reduceEqDiff, false_and, and_false, true_and, and_true, eq_self, reduceIte, ite_self]
        -- the end of the pass
        have done : OK (whT (A := (Int32 × hH)) (B := hH) (fun p1 =>
            if p1.1 ≤ 0 then (
              some (.inr (.inr p1.2))
            ) else (
              bT (f_Ma_byteAt (rdI p1.2 22 11) p1.2) fun a3 h1 =>
              bT (f_Ma_lengthAt (rdI h1 22 11) h1) fun a4 h2 =>
              some (.inr (.inl (if e = 0 then p1.1 + (if a3 = (88 : Int32) then (1 : Int32) else (if a3 = (89 : Int32) then (-1 : Int32) else (0 : Int32))) else (if a3 = (27 : Int32) then (if p1.1 + (if a3 = (88 : Int32) then (1 : Int32) else (if a3 = (89 : Int32) then (-1 : Int32) else (0 : Int32))) = (1 : Int32) then (0 : Int32) else p1.1 + (if a3 = (88 : Int32) then (1 : Int32) else (if a3 = (89 : Int32) then (-1 : Int32) else (0 : Int32)))) else p1.1 + (if a3 = (88 : Int32) then (1 : Int32) else (if a3 = (89 : Int32) then (-1 : Int32) else (0 : Int32)))), wrI h2 22 11 ((rdI h1 22 11) + a4))))
            )) (0, wrI hc 22 11 (p + n))) (fun b => TT (fun g => Rf P g (wrI hm 192 93 (p + n))) (fun g => Rm P g (wrI hm 192 93 (p + n))) b) := by
          unfold whT
          rw [wh_eq]
          exact OK_some k3
        have fin : ∀ d2 d3 : Int32, 1 ≤ d2 → d2 ≤ p + n + 1 → d3 = d2 - 1 → (1 ≤ d2 ∧ d2 ≤ p + n + 1 ∧ d3 = d2 - 1 ∧ wrI hc 22 11 (p + n) = wrI hc 22 11 (p + n) ∧ 0 ≤ p + n ∧ p + n ≤ szC hc) ∧ (szC hc).toNatClampNeg - (rdI (wrI hc 22 11 (p + n)) 22 11).toNatClampNeg < (szC hc).toNatClampNeg - (rdI (wrI hc 22 11 p) 22 11).toNatClampNeg := by
          intro d2 d3 b1 b2 b3
          rw [l2, kp]
          exact ⟨⟨b1, b2, b3, rfl, by grind, a1⟩, l1⟩
        by_cases c1 : c = 88
        · subst c1
          have hd' : ¬ (88 : Int32) = one := by rcases he with ⟨_, rfl⟩ | ⟨_, rfl⟩ <;> decide
          simp +decide only [hd', ite_self, lz, bP_some, bS_some, bT_inl, bT_inr, bJT_inl, bJT_inr, bE_inl, bE_inr, bET_t, bET_inl, bET_inr, cO_t, cO_f, cS_t, cS_f, bE_bS, bE_bP, bE_gd, bET_bT, bET_bS, bET_bP, bET_gd, bJT_bT, bJT_bS, bJT_bP, bJT_gd, bJT_bJT, bP_bS, bP_bP, bP_gd, bT_bT, bT_bS, bT_bP, bT_gd, bS_bS, bS_bP, bS_gd, reduceIte]
          exact OK2_of rfl rfl (fin _ _ (by grind) (by grind) (by grind))
        · by_cases c2 : c = 89
          · subst c2
            by_cases z : d - 1 = 0
            · have zd : d + -1 = 0 := by grind
              simp +decide only [z, zd, ite_self, lz, bP_some, bS_some, bT_inl, bT_inr, bJT_inl, bJT_inr, bE_inl, bE_inr, bET_t, bET_inl, bET_inr, cO_t, cO_f, cS_t, cS_f, bE_bS, bE_bP, bE_gd, bET_bT, bET_bS, bET_bP, bET_gd, bJT_bT, bJT_bS, bJT_bP, bJT_gd, bJT_bJT, bP_bS, bP_bP, bP_gd, bT_bT, bT_bS, bT_bP, bT_gd, bS_bS, bS_bP, bS_gd, reduceIte]
              exact OK2_of rfl rfl done
            · simp +decide only [z, ite_self, lz, bP_some, bS_some, bT_inl, bT_inr, bJT_inl, bJT_inr, bE_inl, bE_inr, bET_t, bET_inl, bET_inr, cO_t, cO_f, cS_t, cS_f, bE_bS, bE_bP, bE_gd, bET_bT, bET_bS, bET_bP, bET_gd, bJT_bT, bJT_bS, bJT_bP, bJT_gd, bJT_bJT, bP_bS, bP_bP, bP_gd, bT_bT, bT_bS, bT_bP, bT_gd, bS_bS, bS_bP, bS_gd, reduceIte]
              exact OK2_of rfl rfl (fin _ _ (by grind) (by grind) (by grind))
          · rcases he with ⟨rfl, rfl⟩ | ⟨rfl, rfl⟩
            · simp +decide only [c1, c2, ite_self, lz, bP_some, bS_some, bT_inl, bT_inr, bJT_inl, bJT_inr, bE_inl, bE_inr, bET_t, bET_inl, bET_inr, cO_t, cO_f, cS_t, cS_f, bE_bS, bE_bP, bE_gd, bET_bT, bET_bS, bET_bP, bET_gd, bJT_bT, bJT_bS, bJT_bP, bJT_gd, bJT_bJT, bP_bS, bP_bP, bP_gd, bT_bT, bT_bS, bT_bP, bT_gd, bS_bS, bS_bP, bS_gd, reduceIte]
              exact OK2_of rfl rfl (fin _ _ (by grind) (by grind) (by grind))
            · by_cases c3 : c = 27
              · subst c3
                by_cases z : d - 1 = 0
                · have zd : d + 0 = 1 := by grind
                  simp +decide only [z, zd, ite_self, lz, bP_some, bS_some, bT_inl, bT_inr, bJT_inl, bJT_inr, bE_inl, bE_inr, bET_t, bET_inl, bET_inr, cO_t, cO_f, cS_t, cS_f, bE_bS, bE_bP, bE_gd, bET_bT, bET_bS, bET_bP, bET_gd, bJT_bT, bJT_bS, bJT_bP, bJT_gd, bJT_bJT, bP_bS, bP_bP, bP_gd, bT_bT, bT_bS, bT_bP, bT_gd, bS_bS, bS_bP, bS_gd, reduceIte]
                  exact OK2_of rfl rfl done
                · have zd : ¬ d + 0 = 1 := by grind
                  simp +decide only [z, zd, ite_self, lz, bP_some, bS_some, bT_inl, bT_inr, bJT_inl, bJT_inr, bE_inl, bE_inr, bET_t, bET_inl, bET_inr, cO_t, cO_f, cS_t, cS_f, bE_bS, bE_bP, bE_gd, bET_bT, bET_bS, bET_bP, bET_gd, bJT_bT, bJT_bS, bJT_bP, bJT_gd, bJT_bJT, bP_bS, bP_bP, bP_gd, bT_bT, bT_bS, bT_bP, bT_gd, bS_bS, bS_bP, bS_gd, reduceIte]
                  exact OK2_of rfl rfl (fin _ _ (by grind) (by grind) (by grind))
              · simp +decide only [c1, c2, c3, ite_self, lz, bP_some, bS_some, bT_inl, bT_inr, bJT_inl, bJT_inr, bE_inl, bE_inr, bET_t, bET_inl, bET_inr, cO_t, cO_f, cS_t, cS_f, bE_bS, bE_bP, bE_gd, bET_bT, bET_bS, bET_bP, bET_gd, bJT_bT, bJT_bS, bJT_bP, bJT_gd, bJT_bJT, bP_bS, bP_bP, bP_gd, bT_bT, bT_bS, bT_bP, bT_gd, bS_bS, bS_bP, bS_gd, reduceIte]
                exact OK2_of rfl rfl (fin _ _ (by grind) (by grind) (by grind))
      · rw [if_neg (Int32.not_le.mpr a1), a2, f_Mo_fail_eq h.fail]
        exact OK2_of rfl rfl (sf p h5 h6)
  obtain ⟨y, z, e1, e2, w⟩ := key
  rw [e1, e2]
  rcases z with u | u
  · rcases y with g | g
    · simp only [bE_inl, f_Mo_fail_eq h.fail, bS_some]
      exact OK2_of rfl rfl w
    · exact absurd w id
  · rcases y with g | g
    · exact OK2_of rfl rfl w
    · exact OK2_of rfl rfl w
