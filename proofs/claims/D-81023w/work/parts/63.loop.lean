/-! LAYER 3y: loops over points of the stack: codes 50, 51, 56, 60 -/
/-- one round of a loop -/
def LpS (P J : hH → hH → Prop) (i : Int32) (g : hH) (y : hH ⊕ ((Int32 × hH) ⊕ hH)) (z : (Int32 × hH) ⊕ hH) : Prop := match y, z with
  | .inl g', .inl t => Rf P g' t.2
  | .inr (.inl s), .inl t => s.1 = i + 1 ∧ t.1 = i + 1 ∧ Rm P s.2 t.2 ∧ J s.2 t.2 ∧ rdI s.2 22 38 = rdI g 22 38 ∧ rdI s.2 22 15 = rdI g 22 15 - 1
  | _, _ => False
theorem L_loop {P : hH → hH → Prop} {hc hm : hH} (J : hH → hH → Prop) {f : Int32 × hH → Option (hH ⊕ ((Int32 × hH) ⊕ hH))} {gM : Int32 × hH → Option ((Int32 × hH) ⊕ hH)} (h : Rm P hc hm) (ht : rdI hc 22 38 ≤ rdI hc 22 15) (hj : J hc hm)
    (hend : ∀ g m, Rm P g m → rdI g 22 38 = rdI hc 22 38 → f (rdI hc 22 38, g) = some (.inr (.inr g)) ∧ gM (rdI hc 22 38, m) = some (.inr m))
    (hfail : ∀ i m, ¬ rdI m 192 59 = 0 → gM (i, m) = some (.inr m))
    (hstep : ∀ i g m, Rm P g m → J g m → rdI g 22 38 = rdI hc 22 38 → 1 ≤ rdI g 22 15 → 0 ≤ i → i < rdI hc 22 38 → OK2 (f (i, g)) (gM (i, m)) (LpS P J i g)) :
    OK2 (bJT (whT f (0, hc)) (fun p => some (.inr ((), wrI p 22 38 1)))) (bP (wh gM (0, hm)) (fun p => some ((), wrI p 192 75 1))) (Tr P) := by
  have hN := h.r_loop
  have h256 := h.top256
  generalize hNN : rdI hc 22 38 = N at *
  refine OK2_bJTP (OK2_mono (OK2_whT (A := Int32 × hH) (A' := Int32 × hH) (B := hH) (B' := hH) (Φ := fun y z => TT (fun g => Rf P g z) (fun g => Rm P g z) y) (fun s t => s.1 = t.1 ∧ Rm P s.2 t.2 ∧ J s.2 t.2 ∧ rdI s.2 22 38 = N ∧ 0 ≤ s.1 ∧ s.1 ≤ N ∧ N - s.1 ≤ rdI s.2 22 15 ∧ rdI s.2 22 15 ≤ 256) (fun s => N.toNatClampNeg - s.1.toNatClampNeg) ?_ (s := (0, hc)) (t := (0, hm)) ⟨rfl, h, hj, hNN, by show (0 : Int32) ≤ 0; decide, by show 0 ≤ N; grind, by show N - 0 ≤ rdI hc 22 15; grind, h256⟩) ?_)
  · rintro ⟨i, g⟩ ⟨j, m⟩ ⟨h1, h2, h3, h4, h5, h6, h7, h8⟩
    dsimp only at h1 h2 h3 h4 h5 h6 h7 h8
    subst h1
    by_cases z : i = N
    · obtain ⟨a, b⟩ := hend g m h2 h4
      rw [z]
      exact OK2_of a b h2
    · obtain ⟨y, w, e, e', q⟩ := hstep i g m h2 h3 h4 (by grind) h5 (by grind)
      refine ⟨y, w, e, e', ?_⟩
      rcases y with g' | s | b <;> rcases w with t | c
      · obtain ⟨tj, tm⟩ := t
        have q1 : Rf P g' tm := q
        have q2 := q1.pos
        show OK (wh gM (tj, tm)) _
        rw [wh_eq, hfail tj tm (by grind)]
        exact OK_some q1
      · exact absurd q id
      · obtain ⟨q1, q2, q3, q4, q5, q6⟩ := q
        refine ⟨⟨q1.trans q2.symm, q3, q4, q5.trans h4, ?_, ?_, ?_, ?_⟩, ?_⟩
        · rw [q1]; grind
        · rw [q1]; grind
        · rw [q1, q6]; grind
        · rw [q6]; grind
        · have e1 : (i + 1).toNatClampNeg = i.toNatClampNeg + 1 := xI_succ (m := 65535) h5 (by grind) (by decide)
          have e2 := (xI_lt h5 (show (0 : Int32) ≤ N by grind)).mpr (show i < N by grind)
          show N.toNatClampNeg - s.1.toNatClampNeg < N.toNatClampNeg - i.toNatClampNeg
          rw [q1]
          omega
      · exact absurd q id
      · exact absurd q id
      · exact absurd q id
  · intro y z hy
    rcases y with g | g
    · exact OK_some (Tr_f (Rf.mw hy _ rfl (by decide)))
    · exact OK2_of rfl rfl (Tr_m (Rm.set_loop hy (by decide)))
noncomputable def rfV (z : Nat) (p : Int32) (h : hH) : Int32 := al (rdI h (rf z 2) p.toNatClampNeg - rdI h (rf z 0) p.toNatClampNeg) (rdI h (rf z 3) p.toNatClampNeg - rdI h (rf z 1) p.toNatClampNeg) (rdI h 22 30) (rdI h 22 31)
theorem ref0_T {P : hH → hH → Prop} {hc hm : hH} (h : Rm P hc hm) (hp : PT hc (zz (rdI hc 55 1)) (rdI hc 54 2)) : f_Ma_reference 0 hc = some (.inr ((rfV (zz (rdI hc 55 1)) (rdI hc 54 2) hc).toInt64, hc)) := by
  have z1 := zz_isZ h.r_zp1
  unfold f_Ma_reference f_Ma_referenceZone rfV
  simp +decide only [f_Ma_zone_1, gd_pos (isA_zz h.r_zp1), f_Ma_point_T (h.many0 z1) hp, gd_pos (h.vpC z1 hp), f_Ma_along_eq, lz, bP_some, bS_some, bT_inl, bT_inr, bJT_inl, bJT_inr, bE_inl, bE_inr, bET_t, bET_inl, bET_inr, cO_t, cO_f, cS_t, cS_f, bE_bS, bE_bP, bE_gd, bET_bT, bET_bS, bET_bP, bET_gd, bJT_bT, bJT_bS, bJT_bP, bJT_gd, bJT_bJT, bP_bS, bP_bP, bP_gd, bT_bT, bT_bS, bT_bP, bT_gd, bS_bS, bS_bP, bS_gd, reduceIte]
theorem ref0_F {P : hH → hH → Prop} {hc hm : hH} (h : Rm P hc hm) (hp : ¬ PT hc (zz (rdI hc 55 1)) (rdI hc 54 2)) : f_Ma_reference 0 hc = some (.inl (failC 5 hc)) := by
  have z1 := zz_isZ h.r_zp1
  unfold f_Ma_reference f_Ma_referenceZone
  simp +decide only [f_Ma_zone_1, gd_pos (isA_zz h.r_zp1), f_Ma_point_F (h.many0 z1) hp, lz, bP_some, bS_some, bT_inl, bT_inr, bJT_inl, bJT_inr, bE_inl, bE_inr, bET_t, bET_inl, bET_inr, cO_t, cO_f, cS_t, cS_f, bE_bS, bE_bP, bE_gd, bET_bT, bET_bS, bET_bP, bET_gd, bJT_bT, bJT_bS, bJT_bP, bJT_gd, bJT_bJT, bP_bS, bP_bP, bP_gd, bT_bT, bT_bS, bT_bP, bT_gd, bS_bS, bS_bP, bS_gd, reduceIte]
theorem ref1_T {P : hH → hH → Prop} {hc hm : hH} (h : Rm P hc hm) (hp : PT hc (zz (rdI hc 55 0)) (rdI hc 54 1)) : f_Ma_reference 1 hc = some (.inr ((rfV (zz (rdI hc 55 0)) (rdI hc 54 1) hc).toInt64, hc)) := by
  have z1 := zz_isZ h.r_zp0
  unfold f_Ma_reference f_Ma_referenceZone rfV
  simp +decide only [f_Ma_zone_0, gd_pos (isA_zz h.r_zp0), f_Ma_point_T (h.many0 z1) hp, gd_pos (h.vpC z1 hp), f_Ma_along_eq, lz, bP_some, bS_some, bT_inl, bT_inr, bJT_inl, bJT_inr, bE_inl, bE_inr, bET_t, bET_inl, bET_inr, cO_t, cO_f, cS_t, cS_f, bE_bS, bE_bP, bE_gd, bET_bT, bET_bS, bET_bP, bET_gd, bJT_bT, bJT_bS, bJT_bP, bJT_gd, bJT_bJT, bP_bS, bP_bP, bP_gd, bT_bT, bT_bS, bT_bP, bT_gd, bS_bS, bS_bP, bS_gd, reduceIte]
theorem ref1_F {P : hH → hH → Prop} {hc hm : hH} (h : Rm P hc hm) (hp : ¬ PT hc (zz (rdI hc 55 0)) (rdI hc 54 1)) : f_Ma_reference 1 hc = some (.inl (failC 5 hc)) := by
  have z1 := zz_isZ h.r_zp0
  unfold f_Ma_reference f_Ma_referenceZone
  simp +decide only [f_Ma_zone_0, gd_pos (isA_zz h.r_zp0), f_Ma_point_F (h.many0 z1) hp, lz, bP_some, bS_some, bT_inl, bT_inr, bJT_inl, bJT_inr, bE_inl, bE_inr, bET_t, bET_inl, bET_inr, cO_t, cO_f, cS_t, cS_f, bE_bS, bE_bP, bE_gd, bET_bT, bET_bS, bET_bP, bET_gd, bJT_bT, bJT_bS, bJT_bP, bJT_gd, bJT_bJT, bP_bS, bP_bP, bP_gd, bT_bT, bT_bS, bT_bP, bT_gd, bS_bS, bS_bP, bS_gd, reduceIte]
theorem Rm.refM {P : hH → hH → Prop} {hc hm : hH} (h : Rm P hc hm) {z : Nat} {n p : Int32} (hz : isZ z n) (hp : PT hc z p) : f_Mo_by (rdI hm 214 (102 * n + p).toNatClampNeg - rdI hm 212 (102 * n + p).toNatClampNeg) (rdI hm 215 (102 * n + p).toNatClampNeg - rdI hm 213 (102 * n + p).toNatClampNeg) (rdI hm 192 65) (rdI hm 192 66) = some (rfV z p hc) := by
  rw [f_Mo_by_eq, h.zx hz hp, h.zox hz hp, h.zy hz hp, h.zoy hz hp, h.s_px, h.s_py]
  rfl
/-- the loop of codes 50, 51 -/
theorem L_shp {P : hH → hH → Prop} {hc hm : hH} (h : Rm P hc hm) (ht : rdI hc 22 38 ≤ rdI hc 22 15) (d : Int64) : OK2 (bJT (P := hH) (
    whT (A := (Int32 × hH)) (B := hH) (fun p40 =>
        if (rdI p40.2 22 38) ≤ p40.1 then (
          some (.inr (.inr p40.2))
        ) else (
          bP (f_Ma_zone (2 : Int32) p40.2) fun a42 =>
          bP (f_Ma_zone (2 : Int32) p40.2) fun a43 =>
          bS (f_Ma_pop p40.2) fun a44 h22 =>
          gd (isA 6 a43) <|
          bT (f_Ma_point a43 a44 h22) fun a46 h23 =>
          gd (isA 6 a42) <|
          bS (f_Ma_move a42 a46 d h23) fun _ h24 =>
          some (.inr (.inl (p40.1 + (1 : Int32), h24)))
        )
    ) ((0 : Int32), hc)
  ) fun p41 => some (.inr ((), wrI p41 22 38 1)))
   (bP (A := hH) (
          wh (A := (Int32 × hH)) (B := hH) (fun p50 =>
              if (¬ (rdI hc 22 38 ≤ p50.1) ∧ (rdI p50.2 192 59) = 0) then (
                bS (f_Mo_pop p50.2) fun a57 h8 =>
                bS (f_Mo_pointOf (rdI p50.2 192 74) a57 h8) fun a58 h9 =>
                bP (A := hH) (
                  if (rdI h9 192 59) = 0 then (
                    bS (f_Mo_move a58 d h9) fun _ h10 =>
                    some h10
                  ) else (
                    some h9
                  )
                ) fun p59 =>
                some (.inl (p50.1 + (1 : Int32), p59))
              ) else (
                some (.inr p50.2)
              )
          ) ((0 : Int32), hm)
        ) fun p51 => some ((), wrI p51 192 75 1)) (Tr P) := by
  refine L_loop (fun _ _ => True) h ht trivial ?_ ?_ ?_
  · intro g m k e
    dsimp only
    rw [if_pos (by rw [e]; exact Int32.le_refl _), if_neg (fun w => w.1 (Int32.le_refl _))]
    exact ⟨rfl, rfl⟩
  · intro i m w
    dsimp only
    rw [if_neg (fun v => w v.2)]
  · intro i g m k _ e q i0 i1
    have k1 := k.pop q
    have z2 := zz_isZ k1.r_zp2
    have c2 : rdI g 55 2 = rdI (popC g) 55 2 := g1_o (by decide)
    have m2 : rdI m 192 74 = rdI (popC g) 55 2 := k.s_zp2.trans c2
    dsimp only
    rw [if_neg (show ¬ rdI g 22 38 ≤ i by grind), if_pos (show ¬ rdI hc 22 38 ≤ i ∧ rdI m 192 59 = 0 from ⟨by grind, k.fail⟩)]
    by_cases p : PT (popC g) (zz (rdI (popC g) 55 2)) (tpC g)
    · simp +decide only [f_Ma_pop_eq q k.top256, f_Mo_pop_eq k q, f_Ma_zone_2, c2, m2, gd_pos (isA_zz k1.r_zp2), f_Ma_point_T (k1.many0 z2) p, f_Mo_pointOf_T k1 z2 p, k1.fail, f_Ma_move_eq z2 (k1.vpC z2 p), f_Mo_move_eq (k1.vpM z2 p), lz, bP_some, bS_some, bT_inl, bT_inr, bJT_inl, bJT_inr, bE_inl, bE_inr, bET_t, bET_inl, bET_inr, cO_t, cO_f, cS_t, cS_f, bE_bS, bE_bP, bE_gd, bET_bT, bET_bS, bET_bP, bET_gd, bJT_bT, bJT_bS, bJT_bP, bJT_gd, bJT_bJT, bP_bS, bP_bP, bP_gd, bT_bT, bT_bS, bT_bP, bT_gd, bS_bS, bS_bP, bS_gd, reduceIte]
      refine OK2_of rfl rfl ⟨rfl, rfl, k1.move z2 p _, trivial, ?_, ?_⟩
      · show rdI (moveC _ _ _ _) 22 38 = _
        rw [moveC_o z2 (by omega)]
        exact popC_o (by decide)
      · show rdI (moveC _ _ _ _) 22 15 = _
        rw [moveC_o z2 (by omega)]
        exact popC_top
    · simp +decide only [f_Ma_pop_eq q k.top256, f_Mo_pop_eq k q, f_Ma_zone_2, c2, m2, gd_pos (isA_zz k1.r_zp2), f_Ma_point_F (k1.many0 z2) p, f_Mo_pointOf_F k1 z2 p, failM_F, lz, bP_some, bS_some, bT_inl, bT_inr, bJT_inl, bJT_inr, bE_inl, bE_inr, bET_t, bET_inl, bET_inr, cO_t, cO_f, cS_t, cS_f, bE_bS, bE_bP, bE_gd, bET_bT, bET_bS, bET_bP, bET_gd, bJT_bT, bJT_bS, bJT_bP, bJT_gd, bJT_bJT, bP_bS, bP_bP, bP_gd, bT_bT, bT_bS, bT_bP, bT_gd, bS_bS, bS_bP, bS_gd, reduceIte]
      exact OK2_of rfl rfl (k1.fails (by decide))
theorem L_50 {P : hH → hH → Prop} {hc hm : hH} (h : Rm P hc hm) {c : Int32} (hcc : c = 50 ∨ c = 51) : OK2 (f_Ma_shifting c hc) (f_Mo_likeReference c hm) (Tr P) := by
  by_cases q : rdI hc 22 38 ≤ rdI hc 22 15
  · rcases hcc with rfl | rfl
    · have z1 := zz_isZ h.r_zp1
      by_cases p : PT hc (zz (rdI hc 55 1)) (rdI hc 54 2)
      · unfold f_Ma_shifting f_Mo_likeReference
        simp +decide only [h.s_loop, need_T q, has_T h q, ref0_T h p, h.s_zp1, h.s_rp2, f_Mo_pointOf_T h z1 p, h.fail, gd_pos (h.vpM z1 p), h.refM z1 p, bET_bJT, lz, bP_some, bS_some, bT_inl, bT_inr, bJT_inl, bJT_inr, bE_inl, bE_inr, bET_t, bET_inl, bET_inr, cO_t, cO_f, cS_t, cS_f, bE_bS, bE_bP, bE_gd, bET_bT, bET_bS, bET_bP, bET_gd, bJT_bT, bJT_bS, bJT_bP, bJT_gd, bJT_bJT, bP_bS, bP_bP, bP_gd, bT_bT, bT_bS, bT_bP, bT_gd, bS_bS, bS_bP, bS_gd, reduceIte]
        exact L_shp h q _
      · unfold f_Ma_shifting f_Mo_likeReference
        simp +decide only [h.s_loop, need_T q, has_T h q, ref0_F h p, h.s_zp1, h.s_rp2, f_Mo_pointOf_F h z1 p, failM_F, bET_bJT, lz, bP_some, bS_some, bT_inl, bT_inr, bJT_inl, bJT_inr, bE_inl, bE_inr, bET_t, bET_inl, bET_inr, cO_t, cO_f, cS_t, cS_f, bE_bS, bE_bP, bE_gd, bET_bT, bET_bS, bET_bP, bET_gd, bJT_bT, bJT_bS, bJT_bP, bJT_gd, bJT_bJT, bP_bS, bP_bP, bP_gd, bT_bT, bT_bS, bT_bP, bT_gd, bS_bS, bS_bP, bS_gd, reduceIte]
        exact OK2_of rfl rfl (Tr_f (h.fails (by decide)))
    · have z1 := zz_isZ h.r_zp0
      by_cases p : PT hc (zz (rdI hc 55 0)) (rdI hc 54 1)
      · unfold f_Ma_shifting f_Mo_likeReference
        simp +decide only [h.s_loop, need_T q, has_T h q, ref1_T h p, h.s_zp0, h.s_rp1, f_Mo_pointOf_T h z1 p, h.fail, gd_pos (h.vpM z1 p), h.refM z1 p, bET_bJT, lz, bP_some, bS_some, bT_inl, bT_inr, bJT_inl, bJT_inr, bE_inl, bE_inr, bET_t, bET_inl, bET_inr, cO_t, cO_f, cS_t, cS_f, bE_bS, bE_bP, bE_gd, bET_bT, bET_bS, bET_bP, bET_gd, bJT_bT, bJT_bS, bJT_bP, bJT_gd, bJT_bJT, bP_bS, bP_bP, bP_gd, bT_bT, bT_bS, bT_bP, bT_gd, bS_bS, bS_bP, bS_gd, reduceIte]
        exact L_shp h q _
      · unfold f_Ma_shifting f_Mo_likeReference
        simp +decide only [h.s_loop, need_T q, has_T h q, ref1_F h p, h.s_zp0, h.s_rp1, f_Mo_pointOf_F h z1 p, failM_F, bET_bJT, lz, bP_some, bS_some, bT_inl, bT_inr, bJT_inl, bJT_inr, bE_inl, bE_inr, bET_t, bET_inl, bET_inr, cO_t, cO_f, cS_t, cS_f, bE_bS, bE_bP, bE_gd, bET_bT, bET_bS, bET_bP, bET_gd, bJT_bT, bJT_bS, bJT_bP, bJT_gd, bJT_bJT, bP_bS, bP_bP, bP_gd, bT_bT, bT_bS, bT_bP, bT_gd, bS_bS, bS_bP, bS_gd, reduceIte]
        exact OK2_of rfl rfl (Tr_f (h.fails (by decide)))
  · have q' := le_of_not q
    rcases hcc with rfl | rfl <;> unfold f_Ma_shifting f_Mo_likeReference <;> simp +decide only [h.s_loop, need_F q', has_F h q', lz, bP_some, bS_some, bT_inl, bT_inr, bJT_inl, bJT_inr, bE_inl, bE_inr, bET_t, bET_inl, bET_inr, cO_t, cO_f, cS_t, cS_f, bE_bS, bE_bP, bE_gd, bET_bT, bET_bS, bET_bP, bET_gd, bJT_bT, bJT_bS, bJT_bP, bJT_gd, bJT_bJT, bP_bS, bP_bP, bP_gd, bT_bT, bT_bS, bT_bP, bT_gd, bS_bS, bS_bP, bS_gd, reduceIte] <;> exact OK2_of rfl rfl (Tr_f (h.fails (by decide)))
theorem op_50 {P : hH → hH → Prop} {hc hm : hH} (h : Rm P hc hm) {c : Int32} (hcc : c = 50 ∨ c = 51) : OK2 (f_Ma_low c hc) (f_Mo_middle c hm) (Tr P) := by
  have g := L_50 h hcc
  rcases hcc with rfl | rfl <;> unfold f_Ma_low f_Ma_moving f_Mo_middle <;> simp +decide only [lz, bP_some, bS_some, bT_inl, bT_inr, bJT_inl, bJT_inr, bE_inl, bE_inr, bET_t, bET_inl, bET_inr, cO_t, cO_f, cS_t, cS_f, bE_bS, bE_bP, bE_gd, bET_bT, bET_bS, bET_bP, bET_gd, bJT_bT, bJT_bS, bJT_bP, bJT_gd, bJT_bJT, bP_bS, bP_bP, bP_gd, bT_bT, bT_bS, bT_bP, bT_gd, bS_bS, bS_bP, bS_gd, reduceIte] <;> exact E_T (hc := hc) (hm := hm) g
theorem touchC_o {z : Nat} {n p : Int32} (hz : isZ z n) {h : hH} {o k : Nat} (ho : o = 22 ∨ o = 54 ∨ o = 55) : rdI (touchC z p h) o k = rdI h o k := by
  unfold touchC
  rw [rz hz (j := 5) (by decide) (by omega), rz hz (j := 4) (by decide) (by omega)]
theorem L_56 {P : hH → hH → Prop} {hc hm : hH} (h : Rm P hc hm) : OK2 (f_Ma_shifting 56 hc) (f_Mo_loops 56 hm) (Tr P) := by
  have rl := h.r_loop
  have t := h.top256
  by_cases q : rdI hc 22 38 + 1 ≤ rdI hc 22 15
  · have q0 : rdI hc 22 38 ≤ rdI hc 22 15 := by grind
    have q1 : 1 ≤ rdI hc 22 15 := by grind
    have q2 : ¬ rdI hc 22 15 ≤ rdI hc 22 38 := by grind
    have k := h.pop q1
    have el : rdI (popC hc) 22 38 = rdI hc 22 38 := popC_o (by decide)
    have qk : rdI (popC hc) 22 38 ≤ rdI (popC hc) 22 15 := by rw [el, popC_top]; grind
    unfold f_Ma_shifting f_Ma_shiftBy f_Mo_loops
    simp +decide only [h.s_loop, need_T q0, has_T h q, if_neg q2, f_Ma_want_1, f_Ma_pop_eq q1 h.top256, f_Mo_pop_eq h q1, bET_bJT, bT_bJT, lz, bP_some, bS_some, bT_inl, bT_inr, bJT_inl, bJT_inr, bE_inl, bE_inr, bET_t, bET_inl, bET_inr, cO_t, cO_f, cS_t, cS_f, bE_bS, bE_bP, bE_gd, bET_bT, bET_bS, bET_bP, bET_gd, bJT_bT, bJT_bS, bJT_bP, bJT_gd, bJT_bJT, bP_bS, bP_bP, bP_gd, bT_bT, bT_bS, bT_bP, bT_gd, bS_bS, bS_bP, bS_gd, reduceIte]
    generalize tpC hc = d
    refine L_loop (fun _ _ => True) k qk trivial ?_ ?_ ?_
    · intro g m k2 e
      dsimp only
      rw [if_pos (by rw [e]; exact Int32.le_refl _), if_neg (fun w => w.1 (by rw [k2.s_loop, e]; exact Int32.le_refl _))]
      exact ⟨rfl, rfl⟩
    · intro i m w
      dsimp only
      rw [if_neg (fun v => w v.2)]
    · intro i g m k _ e q i0 i1
      have k1 := k.pop q
      have z2 := zz_isZ k1.r_zp2
      have c2 : rdI g 55 2 = rdI (popC g) 55 2 := g1_o (by decide)
      have m2 : rdI m 192 74 = rdI (popC g) 55 2 := k.s_zp2.trans c2
      dsimp only
      rw [if_neg (show ¬ rdI g 22 38 ≤ i by grind), if_pos (show ¬ rdI m 192 75 ≤ i ∧ rdI m 192 59 = 0 from ⟨by rw [k.s_loop]; grind, k.fail⟩)]
      by_cases p : PT (popC g) (zz (rdI (popC g) 55 2)) (tpC g)
      · have o1 : ∀ (h : hH) (k : Nat) (v : Int32), rdI (wrI h 214 k v) 192 64 = rdI h 192 64 := fun h k v => rdI_o (by decide)
        have o2 : ∀ (h : hH) (k i : Nat) (v : Int32), rdI (wrI h 214 k v) 215 i = rdI h 215 i := fun h k i v => rdI_o (by decide)
        simp +decide only [f_Ma_pop_eq q k.top256, f_Mo_pop_eq k q, f_Ma_zone_2, c2, m2, gd_pos (isA_zz k1.r_zp2), f_Ma_point_T (k1.many0 z2) p, f_Mo_pointOf_T k1 z2 p, k1.fail, gd_pos (And.intro (isA_zz k1.r_zp2) (k1.vpC z2 p)), gd_pos (k1.vpC z2 p), gd_pos (k1.vpM z2 p), over_one, mover_one, rz z2 (j := 2) (by decide) (o := 22) (by decide), rz23 z2, o1, o2, k1.zx z2 p, k1.zy z2 p, k1.s_fx, k1.s_fy, f_Ma_touch_eq z2 (k1.vpC z2 p), f_Mo_touch_eq (k1.vpM z2 p), lz, bP_some, bS_some, bT_inl, bT_inr, bJT_inl, bJT_inr, bE_inl, bE_inr, bET_t, bET_inl, bET_inr, cO_t, cO_f, cS_t, cS_f, bE_bS, bE_bP, bE_gd, bET_bT, bET_bS, bET_bP, bET_gd, bJT_bT, bJT_bS, bJT_bP, bJT_gd, bJT_bJT, bP_bS, bP_bP, bP_gd, bT_bT, bT_bS, bT_bP, bT_gd, bS_bS, bS_bP, bS_gd, reduceIte]
        have e2 : ∀ j, rf (zz (rdI (popC g) 55 2)) j ≠ 26 ∧ rf (zz (rdI (popC g) 55 2)) j ≠ 34 → ∀ x : Nat, ¬ (rf (zz (rdI (popC g) 55 2)) j = 26 ∧ x = 6) ∧ ¬ (rf (zz (rdI (popC g) 55 2)) j = 34 ∧ x = 6) := fun j e2 x => ⟨fun q => e2.1 q.1, fun q => e2.2 q.1⟩
        have f2 : (rf (zz (rdI (popC g) 55 2)) 2 ≠ 26 ∧ rf (zz (rdI (popC g) 55 2)) 2 ≠ 34) ∧ (rf (zz (rdI (popC g) 55 2)) 3 ≠ 26 ∧ rf (zz (rdI (popC g) 55 2)) 3 ≠ 34) := by
          rcases rf_z z2 with w | w <;> rw [w.1, w.2] <;> decide
        have K1 := fun x => k1.set_zx z2 p x
        have p1 := fun x => PT_wr (v := x) z2 (e2 2 f2.1 (tpC g).toNatClampNeg) p
        have K2 := fun x y => (K1 x).set_zy z2 (p1 x) y
        have p2 := fun x y => PT_wr (v := y) z2 (e2 3 f2.2 (tpC g).toNatClampNeg) (p1 x)
        refine OK2_of rfl rfl ⟨rfl, rfl, (K2 _ _).touch z2 (p2 _ _), trivial, ?_, ?_⟩
        · show rdI (touchC _ _ _) 22 38 = _
          rw [touchC_o z2 (by omega), rz z2 (by decide) (by omega), rz z2 (by decide) (by omega)]
          exact popC_o (by decide)
        · show rdI (touchC _ _ _) 22 15 = _
          rw [touchC_o z2 (by omega), rz z2 (by decide) (by omega), rz z2 (by decide) (by omega)]
          exact popC_top
      · simp +decide only [f_Ma_pop_eq q k.top256, f_Mo_pop_eq k q, f_Ma_zone_2, c2, m2, gd_pos (isA_zz k1.r_zp2), f_Ma_point_F (k1.many0 z2) p, f_Mo_pointOf_F k1 z2 p, failM_F, lz, bP_some, bS_some, bT_inl, bT_inr, bJT_inl, bJT_inr, bE_inl, bE_inr, bET_t, bET_inl, bET_inr, cO_t, cO_f, cS_t, cS_f, bE_bS, bE_bP, bE_gd, bET_bT, bET_bS, bET_bP, bET_gd, bJT_bT, bJT_bS, bJT_bP, bJT_gd, bJT_bJT, bP_bS, bP_bP, bP_gd, bT_bT, bT_bS, bT_bP, bT_gd, bS_bS, bS_bP, bS_gd, reduceIte]
        exact OK2_of rfl rfl (k1.fails (by decide))
  · have q' := le_of_not q
    by_cases q0 : rdI hc 22 38 ≤ rdI hc 22 15
    · have q2 : rdI hc 22 15 ≤ rdI hc 22 38 := by grind
      unfold f_Ma_shifting f_Mo_loops
      simp +decide only [h.s_loop, need_T q0, if_pos q2, f_Ma_want_0, has_F h q', lz, bP_some, bS_some, bT_inl, bT_inr, bJT_inl, bJT_inr, bE_inl, bE_inr, bET_t, bET_inl, bET_inr, cO_t, cO_f, cS_t, cS_f, bE_bS, bE_bP, bE_gd, bET_bT, bET_bS, bET_bP, bET_gd, bJT_bT, bJT_bS, bJT_bP, bJT_gd, bJT_bJT, bP_bS, bP_bP, bP_gd, bT_bT, bT_bS, bT_bP, bT_gd, bS_bS, bS_bP, bS_gd, reduceIte]
      exact OK2_of rfl rfl (Tr_f (h.fails (by decide)))
    · have q2 := le_of_not q0
      unfold f_Ma_shifting f_Mo_loops
      simp +decide only [h.s_loop, need_F q2, has_F h q', lz, bP_some, bS_some, bT_inl, bT_inr, bJT_inl, bJT_inr, bE_inl, bE_inr, bET_t, bET_inl, bET_inr, cO_t, cO_f, cS_t, cS_f, bE_bS, bE_bP, bE_gd, bET_bT, bET_bS, bET_bP, bET_gd, bJT_bT, bJT_bS, bJT_bP, bJT_gd, bJT_bJT, bP_bS, bP_bP, bP_gd, bT_bT, bT_bS, bT_bP, bT_gd, bS_bS, bS_bP, bS_gd, reduceIte]
      exact OK2_of rfl rfl (Tr_f (h.fails (by decide)))
theorem L_60 {P : hH → hH → Prop} {hc hm : hH} (h : Rm P hc hm) : OK2 (f_Ma_shifting 60 hc) (f_Mo_loops 60 hm) (Tr P) := by
  have rl := h.r_loop
  have t := h.top256
  by_cases q : rdI hc 22 38 ≤ rdI hc 22 15
  · have z0 := zz_isZ h.r_zp0
    by_cases p0 : PT hc (zz (rdI hc 55 0)) (rdI hc 54 0)
    · unfold f_Ma_shifting f_Mo_loops
      simp +decide only [h.s_loop, need_T q, has_T h q, f_Ma_zone_0, gd_pos (isA_zz h.r_zp0), f_Ma_point_T (h.many0 z0) p0, bET_bJT, bT_bJT, lz, bP_some, bS_some, bT_inl, bT_inr, bJT_inl, bJT_inr, bE_inl, bE_inr, bET_t, bET_inl, bET_inr, cO_t, cO_f, cS_t, cS_f, bE_bS, bE_bP, bE_gd, bET_bT, bET_bS, bET_bP, bET_gd, bJT_bT, bJT_bS, bJT_bP, bJT_gd, bJT_bJT, bP_bS, bP_bP, bP_gd, bT_bT, bT_bS, bT_bP, bT_gd, bS_bS, bS_bP, bS_gd, reduceIte]
      generalize hr : rdI hc 54 0 = r at p0
      generalize hn : rdI hc 55 0 = n at p0 z0
      refine L_loop (fun g _ => rdI g 55 0 = n ∧ rdI g 54 0 = r ∧ PT g (zz n) r) h q ⟨hn, hr, p0⟩ ?_ ?_ ?_
      · intro g m k2 e
        dsimp only
        rw [if_pos (by rw [e]; exact Int32.le_refl _), if_neg (fun w => w.1 (by rw [k2.s_loop, e]; exact Int32.le_refl _))]
        exact ⟨rfl, rfl⟩
      · intro i m w
        dsimp only
        rw [if_neg (fun v => w v.2)]
      · rintro i g m k ⟨j1, j2, j3⟩ e q i0 i1
        have k1 := k.pop q
        have z1 := zz_isZ k1.r_zp1
        have c1 : rdI g 55 1 = rdI (popC g) 55 1 := g1_o (by decide)
        have m1 : rdI m 192 73 = rdI (popC g) 55 1 := k.s_zp1.trans c1
        have c0 : rdI (popC g) 55 0 = n := (g1_o (by decide)).symm.trans j1
        have r0 : rdI (popC g) 54 0 = r := (g1_o (by decide)).symm.trans j2
        have n0 : rdI (popM m) 192 72 = n := k1.s_zp0.trans c0
        have s0 : rdI (popM m) 192 69 = r := k1.s_rp0.trans r0
        have j4 : PT (popC g) (zz n) r := PT_pop.mpr j3
        have ia : isA 6 (zz n) := c0 ▸ isA_zz k1.r_zp0
        dsimp only
        rw [if_neg (show ¬ rdI g 22 38 ≤ i by grind), if_pos (show ¬ rdI m 192 75 ≤ i ∧ rdI m 192 59 = 0 from ⟨by rw [k.s_loop]; grind, k.fail⟩)]
        by_cases p : PT (popC g) (zz (rdI (popC g) 55 1)) (tpC g)
        · simp +decide only [f_Ma_pop_eq q k.top256, f_Mo_pop_eq k q, f_Ma_zone_1, f_Ma_zone_0, c1, m1, c0, n0, s0, gd_pos (isA_zz k1.r_zp1), f_Ma_point_T (k1.many0 z1) p, f_Mo_pointOf_T k1 z1 p, f_Mo_pointOf_T k1 z0 j4, k1.fail, gd_pos (And.intro (isA_zz k1.r_zp1) ia), k1.distC z1 p z0 j4, k1.distM z1 p z0 j4, f_Ma_move_eq z1 (k1.vpC z1 p), f_Mo_move_eq (k1.vpM z1 p), lz, bP_some, bS_some, bT_inl, bT_inr, bJT_inl, bJT_inr, bE_inl, bE_inr, bET_t, bET_inl, bET_inr, cO_t, cO_f, cS_t, cS_f, bE_bS, bE_bP, bE_gd, bET_bT, bET_bS, bET_bP, bET_gd, bJT_bT, bJT_bS, bJT_bP, bJT_gd, bJT_bJT, bP_bS, bP_bP, bP_gd, bT_bT, bT_bS, bT_bP, bT_gd, bS_bS, bS_bP, bS_gd, reduceIte]
          refine OK2_of rfl rfl ⟨rfl, rfl, k1.move z1 p _, ⟨?_, ?_, (PT_move z1 z0).mpr j4⟩, ?_, ?_⟩
          · show rdI (moveC _ _ _ _) 55 0 = _
            rw [moveC_o z1 (by omega)]
            exact c0
          · show rdI (moveC _ _ _ _) 54 0 = _
            rw [moveC_o z1 (by omega)]
            exact r0
          · show rdI (moveC _ _ _ _) 22 38 = _
            rw [moveC_o z1 (by omega)]
            exact popC_o (by decide)
          · show rdI (moveC _ _ _ _) 22 15 = _
            rw [moveC_o z1 (by omega)]
            exact popC_top
        · simp +decide only [f_Ma_pop_eq q k.top256, f_Mo_pop_eq k q, f_Ma_zone_1, c1, m1, gd_pos (isA_zz k1.r_zp1), f_Ma_point_F (k1.many0 z1) p, f_Mo_pointOf_F k1 z1 p, failM_F, lz, bP_some, bS_some, bT_inl, bT_inr, bJT_inl, bJT_inr, bE_inl, bE_inr, bET_t, bET_inl, bET_inr, cO_t, cO_f, cS_t, cS_f, bE_bS, bE_bP, bE_gd, bET_bT, bET_bS, bET_bP, bET_gd, bJT_bT, bJT_bS, bJT_bP, bJT_gd, bJT_bJT, bP_bS, bP_bP, bP_gd, bT_bT, bT_bS, bT_bP, bT_gd, bS_bS, bS_bP, bS_gd, reduceIte]
          exact OK2_of rfl rfl (k1.fails (by decide))
    · have q1 : 1 ≤ rdI hc 22 15 := by grind
      have k := h.pop q1
      have z1 := zz_isZ k.r_zp1
      have m1 : rdI hm 192 73 = rdI (popC hc) 55 1 := h.s_zp1.trans (g1_o (by decide))
      have n0 : rdI (popM hm) 192 72 = rdI hc 55 0 := k.s_zp0.trans (g1_o (by decide)).symm
      have s0 : rdI (popM hm) 192 69 = rdI hc 54 0 := k.s_rp0.trans (g1_o (by decide)).symm
      unfold f_Ma_shifting f_Mo_loops
      simp +decide only [h.s_loop, need_T q, has_T h q, f_Ma_zone_0, gd_pos (isA_zz h.r_zp0), f_Ma_point_F (h.many0 z0) p0, lz, bP_some, bS_some, bT_inl, bT_inr, bJT_inl, bJT_inr, bE_inl, bE_inr, bET_t, bET_inl, bET_inr, cO_t, cO_f, cS_t, cS_f, bE_bS, bE_bP, bE_gd, bET_bT, bET_bS, bET_bP, bET_gd, bJT_bT, bJT_bS, bJT_bP, bJT_gd, bJT_bJT, bP_bS, bP_bP, bP_gd, bT_bT, bT_bS, bT_bP, bT_gd, bS_bS, bS_bP, bS_gd, reduceIte]
      rw [wh_eq]
      dsimp only
      rw [if_pos (show ¬ rdI hm 192 75 ≤ 0 ∧ rdI hm 192 59 = 0 from ⟨by rw [h.s_loop]; grind, h.fail⟩)]
      by_cases p : PT (popC hc) (zz (rdI (popC hc) 55 1)) (tpC hc)
      · simp +decide only [f_Mo_pop_eq h q1, m1, n0, s0, f_Mo_pointOf_T k z1 p, k.fail, f_Mo_pointOf_F k z0 (fun w => p0 (PT_pop.mp w)), failM_F, lz, bP_some, bS_some, bT_inl, bT_inr, bJT_inl, bJT_inr, bE_inl, bE_inr, bET_t, bET_inl, bET_inr, cO_t, cO_f, cS_t, cS_f, bE_bS, bE_bP, bE_gd, bET_bT, bET_bS, bET_bP, bET_gd, bJT_bT, bJT_bS, bJT_bP, bJT_gd, bJT_bJT, bP_bS, bP_bP, bP_gd, bT_bT, bT_bS, bT_bP, bT_gd, bS_bS, bS_bP, bS_gd, reduceIte]
        rw [wh_eq]
        simp +decide only [failM_F, and_false, lz, bP_some, bS_some, bT_inl, bT_inr, bJT_inl, bJT_inr, bE_inl, bE_inr, bET_t, bET_inl, bET_inr, cO_t, cO_f, cS_t, cS_f, bE_bS, bE_bP, bE_gd, bET_bT, bET_bS, bET_bP, bET_gd, bJT_bT, bJT_bS, bJT_bP, bJT_gd, bJT_bJT, bP_bS, bP_bP, bP_gd, bT_bT, bT_bS, bT_bP, bT_gd, bS_bS, bS_bP, bS_gd, reduceIte]
        exact OK2_of rfl rfl (Tr_f ((h.fails1 (by decide)).mw _ rfl (by decide)))
      · simp +decide only [f_Mo_pop_eq h q1, m1, f_Mo_pointOf_F k z1 p, failM_F, lz, bP_some, bS_some, bT_inl, bT_inr, bJT_inl, bJT_inr, bE_inl, bE_inr, bET_t, bET_inl, bET_inr, cO_t, cO_f, cS_t, cS_f, bE_bS, bE_bP, bE_gd, bET_bT, bET_bS, bET_bP, bET_gd, bJT_bT, bJT_bS, bJT_bP, bJT_gd, bJT_bJT, bP_bS, bP_bP, bP_gd, bT_bT, bT_bS, bT_bP, bT_gd, bS_bS, bS_bP, bS_gd, reduceIte]
        rw [wh_eq]
        simp +decide only [failM_F, and_false, lz, bP_some, bS_some, bT_inl, bT_inr, bJT_inl, bJT_inr, bE_inl, bE_inr, bET_t, bET_inl, bET_inr, cO_t, cO_f, cS_t, cS_f, bE_bS, bE_bP, bE_gd, bET_bT, bET_bS, bET_bP, bET_gd, bJT_bT, bJT_bS, bJT_bP, bJT_gd, bJT_bJT, bP_bS, bP_bP, bP_gd, bT_bT, bT_bS, bT_bP, bT_gd, bS_bS, bS_bP, bS_gd, reduceIte]
        exact OK2_of rfl rfl (Tr_f ((h.fails1 (by decide)).mw _ rfl (by decide)))
  · have q' := le_of_not q
    unfold f_Ma_shifting f_Mo_loops
    simp +decide only [h.s_loop, need_F q', has_F h q', lz, bP_some, bS_some, bT_inl, bT_inr, bJT_inl, bJT_inr, bE_inl, bE_inr, bET_t, bET_inl, bET_inr, cO_t, cO_f, cS_t, cS_f, bE_bS, bE_bP, bE_gd, bET_bT, bET_bS, bET_bP, bET_gd, bJT_bT, bJT_bS, bJT_bP, bJT_gd, bJT_bJT, bP_bS, bP_bP, bP_gd, bT_bT, bT_bS, bT_bP, bT_gd, bS_bS, bS_bP, bS_gd, reduceIte]
    exact OK2_of rfl rfl (Tr_f (h.fails (by decide)))
theorem op_56 {P : hH → hH → Prop} {hc hm : hH} (h : Rm P hc hm) {c : Int32} (hcc : c = 56 ∨ c = 60) : OK2 (f_Ma_low c hc) (f_Mo_middle c hm) (Tr P) := by
  rcases hcc with rfl | rfl <;> unfold f_Ma_low f_Ma_moving f_Mo_middle <;> simp +decide only [lz, bP_some, bS_some, bT_inl, bT_inr, bJT_inl, bJT_inr, bE_inl, bE_inr, bET_t, bET_inl, bET_inr, cO_t, cO_f, cS_t, cS_f, bE_bS, bE_bP, bE_gd, bET_bT, bET_bS, bET_bP, bET_gd, bJT_bT, bJT_bS, bJT_bP, bJT_gd, bJT_bJT, bP_bS, bP_bP, bP_gd, bT_bT, bT_bS, bT_bP, bT_gd, bS_bS, bS_bP, bS_gd, reduceIte]
  · exact E_T (hc := hc) (hm := hm) (L_56 h)
  · exact E_T (hc := hc) (hm := hm) (L_60 h)
theorem op_40 {P : hH → hH → Prop} {hc hm : hH} (h : Rm P hc hm) : OK2 (f_Ma_low 40 hc) (f_Mo_stacks 40 hm) (Tr P) := by
  unfold f_Ma_low f_Ma_moving f_Ma_shifting f_Mo_stacks
  simp +decide only [lz, bP_some, bS_some, bT_inl, bT_inr, bJT_inl, bJT_inr, bE_inl, bE_inr, bET_t, bET_inl, bET_inr, cO_t, cO_f, cS_t, cS_f, bE_bS, bE_bP, bE_gd, bET_bT, bET_bS, bET_bP, bET_gd, bJT_bT, bJT_bS, bJT_bP, bJT_gd, bJT_bJT, bP_bS, bP_bP, bP_gd, bT_bT, bT_bS, bT_bP, bT_gd, bS_bS, bS_bP, bS_gd, reduceIte]
  exact E_T (hc := hc) (hm := hm) (L_unknown h (by decide) (by decide))
