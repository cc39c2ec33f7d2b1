/-! LAYER 3H: codes 192 to 255 -/
noncomputable def sgV (v : Int64) (h : hH) : Int64 := (f_Ma_single v h).getD 0
theorem Rm.sing {P : hH → hH → Prop} {hc hm : hH} (h : Rm P hc hm) {v : Int64} (hv : v.toInt.natAbs ≤ 2 ^ 31) : ∃ r, f_Ma_single v hc = some r ∧ f_Mo_singled v hm = some r ∧ r.toInt.natAbs ≤ 2 ^ 31 := by
  unfold f_Ma_single f_Mo_singled
  simp only [f_JM_abs_eq, f_Mo_sizeOf_eq, bP_some, h.s_single, h.s_scut]
  have a1 := i64_abs (x := (rdI hc 33 1).toInt64) (by have := toL_31 (rdI hc 33 1); omega)
  have l1 := toL_31 (rdI hc 33 1)
  generalize (if 0 ≤ (rdI hc 33 1).toInt64 then (rdI hc 33 1).toInt64 else -(rdI hc 33 1).toInt64) = s at a1 ⊢
  have s1 : s.toInt.natAbs ≤ 2 ^ 31 := by omega
  have s2 : (-s).toInt.natAbs ≤ 2 ^ 31 := by rw [i64_neg (by omega)]; omega
  generalize (if 0 ≤ (if 0 ≤ v then v else -v) - s then (if 0 ≤ v then v else -v) - s else -((if 0 ≤ v then v else -v) - s)) = t
  by_cases w : t < (rdI hc 33 2).toInt64
  · rw [if_pos w, if_neg (Int64.not_le.mpr w)]
    by_cases u : 0 ≤ v
    · rw [if_pos u]; exact ⟨_, rfl, rfl, s1⟩
    · rw [if_neg u]; exact ⟨_, rfl, rfl, s2⟩
  · rw [if_neg w, if_pos (Int64.not_lt.mp w)]
    exact ⟨_, rfl, rfl, hv⟩
theorem Rm.singC {P : hH → hH → Prop} {hc hm : hH} (h : Rm P hc hm) (x : Int32) : f_Ma_single x.toInt64 hc = some (sgV x.toInt64 hc) := by
  obtain ⟨r, e, _⟩ := h.sing (toL_31 x)
  unfold sgV
  rw [e]
  rfl
theorem Rm.singM {P : hH → hH → Prop} {hc hm : hH} (h : Rm P hc hm) (x : Int32) : f_Mo_singled x.toInt64 hm = some (sgV x.toInt64 hc) := by
  obtain ⟨r, e, e', _⟩ := h.sing (toL_31 x)
  unfold sgV
  rw [e, e']
  rfl
theorem Rm.sing_b {P : hH → hH → Prop} {hc hm : hH} (h : Rm P hc hm) (x : Int32) : (sgV x.toInt64 hc).toInt.natAbs ≤ 2 ^ 31 := by
  obtain ⟨r, e, _, b⟩ := h.sing (toL_31 x)
  unfold sgV
  rw [e]
  exact b
theorem min_alt {x y : Int64} : (if y < x then y else x) = (if x ≤ y then x else y) := by
  by_cases w : x ≤ y
  · rw [if_pos w, if_neg (Int64.not_lt.mpr w)]
  · rw [if_neg w, if_pos (Int64.not_le.mp w)]
theorem max_alt {x y : Int64} : (if x < y then y else x) = (if y ≤ x then x else y) := by
  by_cases w : y ≤ x
  · rw [if_pos w, if_neg (Int64.not_lt.mpr w)]
  · rw [if_neg w, if_pos (Int64.not_le.mp w)]
/-- a value that both sides find, and go on with -/
theorem OK2_pure {A X Y : Type} {o : Option (hH ⊕ A)} {p : Option A} {K : A → Option (hH ⊕ X)} {L : A → Option Y} {Φ : hH ⊕ X → Y → Prop} (I : A → Prop) (h : ∃ a, o = some (.inr a) ∧ p = some a ∧ I a) (k : ∀ a, I a → OK2 (K a) (L a) Φ) : OK2 (bJT o K) (bP p L) Φ := by
  obtain ⟨a, e, e', i⟩ := h
  rw [e, e']
  exact k a i
theorem L_settle {P : hH → hH → Prop} {hc hm : hH} (h : Rm P hc hm) {z w : Nat} {n m p r : Int32} (hz : isZ z n) (hp : PT hc z p) (hw : isZ w m) (hr : PT hc w r) (c : Int32) (d E : Int64) : OK2 (
    bJT (P := Int64) (
      if (c &&& (8 : Int32)) = 0 then (
        some (.inr E)
      ) else (
        bJT (P := Int64) (
          if d < (0 : Int64) then (
            bP (f_JM_min E (-(Int32.toInt64 (rdI hc 33 3)))) fun a42 =>
            some (.inr a42)
          ) else (
            bP (f_JM_max E (Int32.toInt64 (rdI hc 33 3))) fun a43 =>
            some (.inr a43)
          )
        ) fun p41 =>
        some (.inr p41)
      )
    ) fun p40 =>
    bP (f_Ma_distance z p w r hc) fun a46 =>
    bS (f_Ma_move z p (p40 - (Int32.toInt64 a46)) hc) fun _ h8 =>
    lz (wrI h8 54 1 (rdI h8 54 0)) fun h9 =>
    lz (wrI h9 54 2 p) fun h10 =>
    lz (A := Int32) (if (c &&& (16 : Int32)) = 0 then (rdI h10 54 0) else p) fun p47 =>
    lz (wrI h10 54 0 p47) fun h11 =>
    some (.inr ((), h11)))
   (bP (f_Mo_atLeast c d E hm) fun a10 =>
    bS (f_Mo_settle c (102 * n + p) p (102 * m + r) a10 hm) fun _ h5 =>
    some ((), h5)) (Tr P) := by
  refine OK2_pure (fun _ => True) ?_ ?_
  · unfold f_Mo_atLeast
    rw [h.s_least]
    simp only [f_JM_min_eq, f_JM_max_eq, min_alt, max_alt]
    by_cases b8 : c &&& 8 = 0
    · rw [if_pos b8, if_pos b8]; exact ⟨_, rfl, rfl, trivial⟩
    · rw [if_neg b8, if_neg b8]
      by_cases d0 : d < 0
      · simp only [if_pos d0, bP_some, bJT_inr]
        by_cases u : E ≤ -(rdI hc 33 3).toInt64
        · rw [if_pos u, if_pos u]; exact ⟨_, rfl, rfl, trivial⟩
        · rw [if_neg u, if_neg u]; exact ⟨_, rfl, rfl, trivial⟩
      · simp only [if_neg d0, bP_some, bJT_inr]
        by_cases u : (rdI hc 33 3).toInt64 ≤ E
        · rw [if_pos u, if_pos u]; exact ⟨_, rfl, rfl, trivial⟩
        · rw [if_neg u, if_neg u]; exact ⟨_, rfl, rfl, trivial⟩
  · intro a _
    unfold f_Mo_settle
    simp only [h.distC hz hp hw hr, h.distM hz hp hw hr, f_Ma_move_eq hz (h.vpC hz hp), f_Mo_move_eq (h.vpM hz hp), lz, bP_some, bS_some, bT_inl, bT_inr, bJT_inl, bJT_inr, bE_inl, bE_inr, bET_t, bET_inl, bET_inr, cO_t, cO_f, cS_t, cS_f, bE_bS, bE_bP, bE_gd, bET_bT, bET_bS, bET_bP, bET_gd, bJT_bT, bJT_bS, bJT_bP, bJT_gd, bJT_bJT, bP_bS, bP_bP, bP_gd, bT_bT, bT_bS, bT_bP, bT_gd, bS_bS, bS_bP, bS_gd, reduceIte]
    have km := h.move hz hp (a - (dsV z p w r hc).toInt64)
    by_cases b : c &&& 16 = 0
    · simp only [if_pos b, r54, r69]
      exact OK2_of rfl rfl (Tr_m (km.rps p))
    · simp only [if_neg b]
      exact OK2_of rfl rfl (Tr_m (km.rpt p))
theorem nat_lo {v : Int64} (h : v.toInt.natAbs ≤ 2 ^ 31) : -(2 ^ 62) ≤ v.toInt := by omega
theorem op_192 {P : hH → hH → Prop} {hc hm : hH} (h : Rm P hc hm) {c : Int32} (hcl : c < 224) : OK2 (f_Ma_relative c hc) (f_Mo_relative c hm) (Tr P) := by
  unfold f_Ma_relative f_Mo_relative
  by_cases q : 1 ≤ rdI hc 22 15
  · have k := h.pop q
    have z0 := zz_isZ k.r_zp0
    have z1 := zz_isZ k.r_zp1
    have c1 : rdI hc 55 1 = rdI (popC hc) 55 1 := g1_o (by decide)
    by_cases p1 : PT (popC hc) (zz (rdI (popC hc) 55 1)) (tpC hc)
    · by_cases p0 : PT (popC hc) (zz (rdI (popC hc) 55 0)) (rdI (popC hc) 54 0)
      · simp +decide only [if_pos hcl, need_T q, has_T h q, f_Ma_pop_eq q h.top256, f_Mo_pop_eq h q, f_Ma_zone_0, f_Ma_zone_1, c1, gd_pos (isA_zz k.r_zp0), gd_pos (isA_zz k.r_zp1), f_Ma_point_T (k.many0 z1) p1, f_Ma_point_T (k.many0 z0) p0, k.s_zp0, k.s_zp1, k.s_rp0, f_Mo_pointOf_T k z1 p1, f_Mo_pointOf_T k z0 p0, k.fail, k.oldC z1 p1 z0 p0, k.oldM z1 p1 z0 p0, k.singC, k.singM, lz, bP_some, bS_some, bT_inl, bT_inr, bJT_inl, bJT_inr, bE_inl, bE_inr, bET_t, bET_inl, bET_inr, cO_t, cO_f, cS_t, cS_f, bE_bS, bE_bP, bE_gd, bET_bT, bET_bS, bET_bP, bET_gd, bJT_bT, bJT_bS, bJT_bP, bJT_gd, bJT_bJT, bP_bS, bP_bP, bP_gd, bT_bT, bT_bS, bT_bP, bT_gd, bS_bS, bS_bP, bS_gd, reduceIte]
        have sb := k.sing_b (odV (zz (rdI (popC hc) 55 1)) (tpC hc) (zz (rdI (popC hc) 55 0)) (rdI (popC hc) 54 0) (popC hc))
        generalize sgV (odV (zz (rdI (popC hc) 55 1)) (tpC hc) (zz (rdI (popC hc) 55 0)) (rdI (popC hc) 54 0) (popC hc)).toInt64 (popC hc) = s at sb ⊢
        refine OK2_pure (fun _ => True) ?_ ?_
        · rw [k.roundC (nat_lo sb), k.roundM (nat_lo sb)]
          by_cases b4 : c &&& 4 = 0
          · rw [if_pos b4, if_pos b4]; exact ⟨_, rfl, rfl, trivial⟩
          · rw [if_neg b4, if_neg b4]; exact ⟨_, rfl, rfl, trivial⟩
        · intro E _
          exact L_settle k z1 p1 z0 p0 c s E
      · simp +decide only [if_pos hcl, need_T q, has_T h q, f_Ma_pop_eq q h.top256, f_Mo_pop_eq h q, f_Ma_zone_0, f_Ma_zone_1, c1, gd_pos (isA_zz k.r_zp0), gd_pos (isA_zz k.r_zp1), f_Ma_point_T (k.many0 z1) p1, f_Ma_point_F (k.many0 z0) p0, k.s_zp0, k.s_zp1, k.s_rp0, f_Mo_pointOf_T k z1 p1, f_Mo_pointOf_F k z0 p0, failM_F, lz, bP_some, bS_some, bT_inl, bT_inr, bJT_inl, bJT_inr, bE_inl, bE_inr, bET_t, bET_inl, bET_inr, cO_t, cO_f, cS_t, cS_f, bE_bS, bE_bP, bE_gd, bET_bT, bET_bS, bET_bP, bET_gd, bJT_bT, bJT_bS, bJT_bP, bJT_gd, bJT_bJT, bP_bS, bP_bP, bP_gd, bT_bT, bT_bS, bT_bP, bT_gd, bS_bS, bS_bP, bS_gd, reduceIte]
        exact OK2_of rfl rfl (Tr_f (k.fails (by decide)))
    · obtain ⟨u, eu⟩ := f_Mo_pointOf_X (hm := failM 5 (popM hm)) (n := rdI (failM 5 (popM hm)) 192 72) (p := rdI (failM 5 (popM hm)) 192 69) (by rw [failM_F]; decide)
      simp +decide only [if_pos hcl, need_T q, has_T h q, f_Ma_pop_eq q h.top256, f_Mo_pop_eq h q, f_Ma_zone_0, f_Ma_zone_1, c1, gd_pos (isA_zz k.r_zp1), f_Ma_point_F (k.many0 z1) p1, k.s_zp1, f_Mo_pointOf_F k z1 p1, eu, failM_F, lz, bP_some, bS_some, bT_inl, bT_inr, bJT_inl, bJT_inr, bE_inl, bE_inr, bET_t, bET_inl, bET_inr, cO_t, cO_f, cS_t, cS_f, bE_bS, bE_bP, bE_gd, bET_bT, bET_bS, bET_bP, bET_gd, bJT_bT, bJT_bS, bJT_bP, bJT_gd, bJT_bJT, bP_bS, bP_bP, bP_gd, bT_bT, bT_bS, bT_bP, bT_gd, bS_bS, bS_bP, bS_gd, reduceIte]
      exact OK2_of rfl rfl (Tr_f (k.fails (by decide)))
  · have q' := le_of_not q
    simp +decide only [if_pos hcl, need_F q', has_F h q', lz, bP_some, bS_some, bT_inl, bT_inr, bJT_inl, bJT_inr, bE_inl, bE_inr, bET_t, bET_inl, bET_inr, cO_t, cO_f, cS_t, cS_f, bE_bS, bE_bP, bE_gd, bET_bT, bET_bS, bET_bP, bET_gd, bJT_bT, bJT_bS, bJT_bP, bJT_gd, bJT_bJT, bP_bS, bP_bP, bP_gd, bT_bT, bT_bS, bT_bP, bT_gd, bS_bS, bS_bP, bS_gd, reduceIte]
    exact OK2_of rfl rfl (Tr_f (h.fails (by decide)))
/-- the tail of an indirect code -/
theorem L_itail {P : hH → hH → Prop} {hc hm : hH} (h : Rm P hc hm) {z w : Nat} {n m p r : Int32} (hz : isZ z n) (hp : PT hc z p) (hw : isZ w m) (hr : PT hc w r) (c : Int32) {e : Int64} (he : e.toInt.natAbs ≤ 2 ^ 31) : OK2 (
    bP (f_Ma_oldDistance z p w r hc) fun a20 =>
    lz (A := Int64) (Int32.toInt64 a20) fun v21 =>
    bJT (P := (Int64 × Int64)) (
      if (rdI hc 33 4) = 0 then (
        some (.inr (e, v21))
      ) else (
        lz (A := Int32) (if (0 : Int64) ≤ v21 then (0 : Int32) else (1 : Int32)) fun p23 =>
        lz (A := Int32) (if (0 : Int64) ≤ e then (0 : Int32) else (1 : Int32)) fun p25 =>
        if p23 = p25 then (
          some (.inr (e, v21))
        ) else (
          lz (A := Int64) (-e) fun v27 =>
          some (.inr (v27, v21))
        )
      )
    ) fun p22 =>
    bJT (P := Int64) (
      if (c &&& (4 : Int32)) = 0 then (
        some (.inr p22.1)
      ) else (
        bJT (P := Int64) (
          if (rdI hc 55 0) = (rdI hc 55 1) then (
            bP (f_JM_abs (p22.1 - p22.2)) fun a34 =>
            if a34 ≤ (Int32.toInt64 (rdI hc 33 0)) then (
              some (.inr p22.1)
            ) else (
              some (.inr p22.2)
            )
          ) else (
            some (.inr p22.1)
          )
        ) fun p33 =>
        bP (f_Ma_rounded 2 p33 hc) fun a38 =>
        some (.inr a38)
      )
    ) fun p32 =>
    bJT (P := Int64) (
      if (c &&& (8 : Int32)) = 0 then (
        some (.inr p32)
      ) else (
        bJT (P := Int64) (
          if p22.2 < (0 : Int64) then (
            bP (f_JM_min p32 (-(Int32.toInt64 (rdI hc 33 3)))) fun a42 =>
            some (.inr a42)
          ) else (
            bP (f_JM_max p32 (Int32.toInt64 (rdI hc 33 3))) fun a43 =>
            some (.inr a43)
          )
        ) fun p41 =>
        some (.inr p41)
      )
    ) fun p40 =>
    bP (f_Ma_distance z p w r hc) fun a46 =>
    bS (f_Ma_move z p (p40 - (Int32.toInt64 a46)) hc) fun _ h8 =>
    lz (wrI h8 54 1 (rdI h8 54 0)) fun h9 =>
    lz (wrI h9 54 2 p) fun h10 =>
    lz (A := Int32) (if (c &&& (16 : Int32)) = 0 then (rdI h10 54 0) else p) fun p47 =>
    lz (wrI h10 54 0 p47) fun h11 =>
    some (.inr ((), h11)))
   (bP (f_Mo_originally (102 * n + p) (102 * m + r) hm) fun a15 =>
    lz (A := Int64) (Int32.toInt64 a15) fun v16 =>
    bP (A := Int64) (
      if (rdI hm 192 84) = 0 then (
        some e
      ) else (
        lz (A := Int32) (if (0 : Int64) ≤ v16 then (0 : Int32) else (1 : Int32)) fun p18 =>
        lz (A := Int32) (if (0 : Int64) ≤ e then (0 : Int32) else (1 : Int32)) fun p20 =>
        if p18 = p20 then (
          some e
        ) else (
          lz (A := Int64) (-e) fun v22 =>
          some v22
        )
      )
    ) fun p17 =>
    bP (A := Int64) (
      if (c &&& (4 : Int32)) = 0 then (
        some p17
      ) else (
        bP (A := Int64) (
          if (rdI hm 192 72) = (rdI hm 192 73) then (
            bP (f_Mo_sizeOf (p17 - v16)) fun a27 =>
            if a27 ≤ (Int32.toInt64 (rdI hm 192 80)) then (
              some p17
            ) else (
              some v16
            )
          ) else (
            some p17
          )
        ) fun p26 =>
        bP (f_Mo_rounded p26 hm) fun a30 =>
        some a30
      )
    ) fun p25 =>
    bP (f_Mo_atLeast c v16 p25 hm) fun a32 =>
    bS (f_Mo_settle c (102 * n + p) p (102 * m + r) a32 hm) fun _ h8 =>
    some ((), h8)) (Tr P) := by
  rw [h.oldC hz hp hw hr, h.oldM hz hp hw hr]
  simp only [bP_some]
  generalize hd : odV z p w r hc = d0
  have db := toL_31 d0
  simp only [lz]
  generalize d0.toInt64 = d at db ⊢
  have step1 : ∃ e' : Int64, (if (rdI hc 33 4) = 0 then some (Sum.inr (e, d)) else if (if (0 : Int64) ≤ d then (0 : Int32) else (1 : Int32)) = (if (0 : Int64) ≤ e then (0 : Int32) else (1 : Int32)) then some (Sum.inr (e, d)) else some (Sum.inr (-e, d))) = (some (Sum.inr (e', d)) : Option (hH ⊕ (Int64 × Int64))) ∧ (if (rdI hm 192 84) = 0 then some e else if (if (0 : Int64) ≤ d then (0 : Int32) else (1 : Int32)) = (if (0 : Int64) ≤ e then (0 : Int32) else (1 : Int32)) then some e else some (-e)) = some e' ∧ e'.toInt.natAbs ≤ 2 ^ 31 := by
    rw [h.s_flip]
    by_cases a : rdI hc 33 4 = 0
    · rw [if_pos a, if_pos a]; exact ⟨e, rfl, rfl, he⟩
    · rw [if_neg a, if_neg a]
      by_cases b : (if (0 : Int64) ≤ d then (0 : Int32) else (1 : Int32)) = (if (0 : Int64) ≤ e then (0 : Int32) else (1 : Int32))
      · rw [if_pos b, if_pos b]; exact ⟨e, rfl, rfl, he⟩
      · rw [if_neg b, if_neg b]
        exact ⟨-e, rfl, rfl, by rw [i64_neg (by omega)]; omega⟩
  obtain ⟨e', s1, s2, be⟩ := step1
  rw [s1, s2]
  simp only [bJT_inr, bP_some]
  refine OK2_pure (fun _ => True) ?_ ?_
  · by_cases b4 : c &&& 4 = 0
    · rw [if_pos b4, if_pos b4]; exact ⟨_, rfl, rfl, trivial⟩
    · rw [if_neg b4, if_neg b4, h.s_zp0, h.s_zp1, h.s_cut, f_JM_abs_eq, f_Mo_sizeOf_eq]
      simp only [bP_some]
      by_cases zz' : rdI hc 55 0 = rdI hc 55 1
      · rw [if_pos zz', if_pos zz']
        by_cases u : (if 0 ≤ e' - d then e' - d else -(e' - d)) ≤ (rdI hc 33 0).toInt64
        · rw [if_pos u, if_pos u]
          simp only [bP_some, bJT_inr, h.roundC (nat_lo be), h.roundM (nat_lo be)]
          exact ⟨_, rfl, rfl, trivial⟩
        · rw [if_neg u, if_neg u]
          simp only [bP_some, bJT_inr, h.roundC (nat_lo db), h.roundM (nat_lo db)]
          exact ⟨_, rfl, rfl, trivial⟩
      · rw [if_neg zz', if_neg zz']
        simp only [bP_some, bJT_inr, h.roundC (nat_lo be), h.roundM (nat_lo be)]
        exact ⟨_, rfl, rfl, trivial⟩
  · intro E _
    exact L_settle h hz hp hw hr c d E
theorem op_224 {P : hH → hH → Prop} {hc hm : hH} (h : Rm P hc hm) {c : Int32} (hcl : 224 ≤ c) : OK2 (f_Ma_relative c hc) (f_Mo_indirect c hm) (Tr P) := by
  have hcn : ¬ c < 224 := Int32.not_lt.mpr hcl
  unfold f_Ma_relative f_Mo_indirect f_Ma_give
  by_cases q : 2 ≤ rdI hc 22 15
  · obtain ⟨q1, k, q2, k2⟩ := h.two q
    have z0 := zz_isZ k2.r_zp0
    have z1 := zz_isZ k2.r_zp1
    have c1 : rdI (popC hc) 55 1 = rdI (popC (popC hc)) 55 1 := g1_o (by decide)
    by_cases p1 : PT (popC (popC hc)) (zz (rdI (popC (popC hc)) 55 1)) (tpC (popC hc))
    · by_cases p0 : PT (popC (popC hc)) (zz (rdI (popC (popC hc)) 55 0)) (rdI (popC (popC hc)) 54 0)
      · by_cases w : 0 ≤ tpC hc ∧ tpC hc < rdI (popC (popC hc)) 23 1
        · have sb := k2.sing_b (rdI (popC (popC hc)) 24 (tpC hc).toNatClampNeg)
          by_cases b : rdI (popC (popC hc)) 55 1 = 0
          · have K : ∀ X Y, Rm P (putC (zz (rdI (popC (popC hc)) 55 1)) (tpC (popC hc)) X Y (popC (popC hc))) (putM (102 * rdI (popC (popC hc)) 55 1 + tpC (popC hc)) X Y (popM (popM hm))) := fun X Y => k2.put z1 p1 X Y
            simp +decide only [if_neg hcn, need_T q, has_T h q, f_Ma_pop_eq q1 h.top256, f_Mo_pop_eq h q1, f_Ma_pop_eq q2 k.top256, f_Mo_pop_eq k q2, f_Ma_zone_0, f_Ma_zone_1, c1, gd_pos (isA_zz k2.r_zp0), gd_pos (isA_zz k2.r_zp1), f_Ma_point_T (k2.many0 z1) p1, f_Ma_point_T (k2.many0 z0) p0, within_0 k2.r_cvtM.1, if_pos w, f_Ma_want_1, gd_pos (vp256 k2 w), k2.singC, k2.singM, k2.s_zp0, k2.s_zp1, k2.s_rp0, f_Mo_pointOf_T k2 z1 p1, f_Mo_pointOf_T k2 z0 p0, cvtOf_T k2 w, k2.fail, zz26, if_pos b, over_one, mover_one, gd_pos (k2.vpC z0 p0), gd_pos (k2.vpM z0 p0), k2.zox z0 p0, k2.zoy z0 p0, k2.s_fx, k2.s_fy, f_Zo_place_eq (k2.vpC z1 p1), f_Mo_put_eq (k2.vpM z1 p1), lz, bP_some, bS_some, bT_inl, bT_inr, bJT_inl, bJT_inr, bE_inl, bE_inr, bET_t, bET_inl, bET_inr, cO_t, cO_f, cS_t, cS_f, bE_bS, bE_bP, bE_gd, bET_bT, bET_bS, bET_bP, bET_gd, bJT_bT, bJT_bS, bJT_bP, bJT_gd, bJT_bJT, bP_bS, bP_bP, bP_gd, bT_bT, bT_bS, bT_bP, bT_gd, bS_bS, bS_bP, bS_gd, reduceIte]
            exact L_itail (K _ _) z1 ((PT_put z1 z1).mpr p1) z0 ((PT_put z1 z0).mpr p0) c sb
          · simp +decide only [if_neg hcn, need_T q, has_T h q, f_Ma_pop_eq q1 h.top256, f_Mo_pop_eq h q1, f_Ma_pop_eq q2 k.top256, f_Mo_pop_eq k q2, f_Ma_zone_0, f_Ma_zone_1, c1, gd_pos (isA_zz k2.r_zp0), gd_pos (isA_zz k2.r_zp1), f_Ma_point_T (k2.many0 z1) p1, f_Ma_point_T (k2.many0 z0) p0, within_0 k2.r_cvtM.1, if_pos w, f_Ma_want_1, gd_pos (vp256 k2 w), k2.singC, k2.singM, k2.s_zp0, k2.s_zp1, k2.s_rp0, f_Mo_pointOf_T k2 z1 p1, f_Mo_pointOf_T k2 z0 p0, cvtOf_T k2 w, k2.fail, zz26, if_neg b, lz, bP_some, bS_some, bT_inl, bT_inr, bJT_inl, bJT_inr, bE_inl, bE_inr, bET_t, bET_inl, bET_inr, cO_t, cO_f, cS_t, cS_f, bE_bS, bE_bP, bE_gd, bET_bT, bET_bS, bET_bP, bET_gd, bJT_bT, bJT_bS, bJT_bP, bJT_gd, bJT_bJT, bP_bS, bP_bP, bP_gd, bT_bT, bT_bS, bT_bP, bT_gd, bS_bS, bS_bP, bS_gd, reduceIte]
            have fin := L_itail k2 z1 p1 z0 p0 c sb
            rw [k2.s_zp0, k2.s_zp1] at fin
            exact fin
        · simp +decide only [if_neg hcn, need_T q, has_T h q, f_Ma_pop_eq q1 h.top256, f_Mo_pop_eq h q1, f_Ma_pop_eq q2 k.top256, f_Mo_pop_eq k q2, f_Ma_zone_0, f_Ma_zone_1, c1, gd_pos (isA_zz k2.r_zp0), gd_pos (isA_zz k2.r_zp1), f_Ma_point_T (k2.many0 z1) p1, f_Ma_point_T (k2.many0 z0) p0, within_0 k2.r_cvtM.1, if_neg w, f_Ma_want_0, k2.s_zp0, k2.s_zp1, k2.s_rp0, f_Mo_pointOf_T k2 z1 p1, f_Mo_pointOf_T k2 z0 p0, cvtOf_F k2 w, failM_F, lz, bP_some, bS_some, bT_inl, bT_inr, bJT_inl, bJT_inr, bE_inl, bE_inr, bET_t, bET_inl, bET_inr, cO_t, cO_f, cS_t, cS_f, bE_bS, bE_bP, bE_gd, bET_bT, bET_bS, bET_bP, bET_gd, bJT_bT, bJT_bS, bJT_bP, bJT_gd, bJT_bJT, bP_bS, bP_bP, bP_gd, bT_bT, bT_bS, bT_bP, bT_gd, bS_bS, bS_bP, bS_gd, reduceIte]
          exact OK2_of rfl rfl (Tr_f (k2.fails (by decide)))
      · obtain ⟨u, eu⟩ := cvtOf_X k2 (n := tpC hc) (c := 5) (by decide)
        simp +decide only [if_neg hcn, need_T q, has_T h q, f_Ma_pop_eq q1 h.top256, f_Mo_pop_eq h q1, f_Ma_pop_eq q2 k.top256, f_Mo_pop_eq k q2, f_Ma_zone_0, f_Ma_zone_1, c1, gd_pos (isA_zz k2.r_zp0), gd_pos (isA_zz k2.r_zp1), f_Ma_point_T (k2.many0 z1) p1, f_Ma_point_F (k2.many0 z0) p0, k2.s_zp0, k2.s_zp1, k2.s_rp0, f_Mo_pointOf_T k2 z1 p1, f_Mo_pointOf_F k2 z0 p0, eu, failM_F, lz, bP_some, bS_some, bT_inl, bT_inr, bJT_inl, bJT_inr, bE_inl, bE_inr, bET_t, bET_inl, bET_inr, cO_t, cO_f, cS_t, cS_f, bE_bS, bE_bP, bE_gd, bET_bT, bET_bS, bET_bP, bET_gd, bJT_bT, bJT_bS, bJT_bP, bJT_gd, bJT_bJT, bP_bS, bP_bP, bP_gd, bT_bT, bT_bS, bT_bP, bT_gd, bS_bS, bS_bP, bS_gd, reduceIte]
        exact OK2_of rfl rfl (Tr_f (k2.fails (by decide)))
    · obtain ⟨v, ev⟩ := f_Mo_pointOf_X (hm := failM 5 (popM (popM hm))) (n := rdI (failM 5 (popM (popM hm))) 192 72) (p := rdI (failM 5 (popM (popM hm))) 192 69) (by rw [failM_F]; decide)
      obtain ⟨u, eu⟩ := cvtOf_X k2 (n := tpC hc) (c := 5) (by decide)
      simp +decide only [if_neg hcn, need_T q, has_T h q, f_Ma_pop_eq q1 h.top256, f_Mo_pop_eq h q1, f_Ma_pop_eq q2 k.top256, f_Mo_pop_eq k q2, f_Ma_zone_0, f_Ma_zone_1, c1, gd_pos (isA_zz k2.r_zp1), f_Ma_point_F (k2.many0 z1) p1, k2.s_zp1, f_Mo_pointOf_F k2 z1 p1, ev, eu, failM_F, lz, bP_some, bS_some, bT_inl, bT_inr, bJT_inl, bJT_inr, bE_inl, bE_inr, bET_t, bET_inl, bET_inr, cO_t, cO_f, cS_t, cS_f, bE_bS, bE_bP, bE_gd, bET_bT, bET_bS, bET_bP, bET_gd, bJT_bT, bJT_bS, bJT_bP, bJT_gd, bJT_bJT, bP_bS, bP_bP, bP_gd, bT_bT, bT_bS, bT_bP, bT_gd, bS_bS, bS_bP, bS_gd, reduceIte]
      exact OK2_of rfl rfl (Tr_f (k2.fails (by decide)))
  · have q' := le_of_not q
    simp +decide only [if_neg hcn, need_F q', has_F h q', lz, bP_some, bS_some, bT_inl, bT_inr, bJT_inl, bJT_inr, bE_inl, bE_inr, bET_t, bET_inl, bET_inr, cO_t, cO_f, cS_t, cS_f, bE_bS, bE_bP, bE_gd, bET_bT, bET_bS, bET_bP, bET_gd, bJT_bT, bJT_bS, bJT_bP, bJT_gd, bJT_bJT, bP_bS, bP_bP, bP_gd, bT_bT, bT_bS, bT_bP, bT_gd, bS_bS, bS_bP, bS_gd, reduceIte]
    exact OK2_of rfl rfl (Tr_f (h.fails (by decide)))
