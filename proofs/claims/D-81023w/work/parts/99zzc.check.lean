/-! LAYER 3CK: the check of a font as a whole -/
noncomputable def fnC (h5 : hH) : Option (Int32 × hH) :=
  bP (f_Fo_find (1668112752 : Int64) h5) fun a10 =>
  if a10 < 0 then (
    some ((5 : Int32), h5)
  ) else (
    bP (f_Fo_find (1735162214 : Int64) h5) fun a11 =>
    if a11 < 0 then (
      some ((5 : Int32), h5)
    ) else (
      bP (f_Fo_find (1751474532 : Int64) h5) fun a12 =>
      if a12 < 0 then (
        some ((5 : Int32), h5)
      ) else (
        bP (f_Fo_find (1751672161 : Int64) h5) fun a13 =>
        if a13 < 0 then (
          some ((5 : Int32), h5)
        ) else (
          bP (f_Fo_find (1752003704 : Int64) h5) fun a14 =>
          if a14 < 0 then (
            some ((5 : Int32), h5)
          ) else (
            bP (f_Fo_find (1819239265 : Int64) h5) fun a15 =>
            if a15 < 0 then (
              some ((5 : Int32), h5)
            ) else (
              bP (f_Fo_find (1835104368 : Int64) h5) fun a16 =>
              if 0 ≤ a16 then (
                bS (f_Fo_isHead h5) fun a17 h6 =>
                if a17 = 0 then (
                  some ((6 : Int32), h6)
                ) else (
                  bS (f_Fo_isMaxp h6) fun a18 h7 =>
                  if a18 = 0 then (
                    some ((7 : Int32), h7)
                  ) else (
                    bS (f_Fo_metricsAndGlyphs h7) fun a19 h8 =>
                    some (a19, h8)
                  )
                )
              ) else (
                some ((5 : Int32), h5)
              )
            )
          )
        )
      )
    )
  )
noncomputable def fnM (h1 : hH) : Option (Int32 × hH) :=
  bP (f_Mo_tableOf (1668112752 : Int32) h1) fun a45 =>
  if a45 < 0 then (
    some ((5 : Int32), h1)
  ) else (
    bP (f_Mo_tableOf (1735162214 : Int32) h1) fun a46 =>
    if a46 < 0 then (
      some ((5 : Int32), h1)
    ) else (
      bP (f_Mo_tableOf (1751474532 : Int32) h1) fun a47 =>
      if a47 < 0 then (
        some ((5 : Int32), h1)
      ) else (
        bP (f_Mo_tableOf (1751672161 : Int32) h1) fun a48 =>
        if a48 < 0 then (
          some ((5 : Int32), h1)
        ) else (
          bP (f_Mo_tableOf (1752003704 : Int32) h1) fun a49 =>
          if a49 < 0 then (
            some ((5 : Int32), h1)
          ) else (
            bP (f_Mo_tableOf (1819239265 : Int32) h1) fun a50 =>
            if a50 < 0 then (
              some ((5 : Int32), h1)
            ) else (
              bP (f_Mo_tableOf (1835104368 : Int32) h1) fun a51 =>
              if 0 ≤ a51 then (
                bS (f_Mo_head h1) fun a52 h2 =>
                if a52 = 0 then (
                  some ((6 : Int32), h2)
                ) else (
                  bS (f_Mo_maxp h2) fun a53 h3 =>
                  if a53 = 0 then (
                    some ((7 : Int32), h3)
                  ) else metM h3
                )
              ) else (
                some ((5 : Int32), h1)
              )
            )
          )
        )
      )
    )
  )
theorem Fo_load_eq0 {h : hH} : f_Fo_load h = lz (wrI h 4 23 (0 : Int32)) fun h1 =>
  lz (wrI h1 4 26 (0 : Int32)) fun h2 =>
  lz (wrI h2 4 28 (0 : Int32)) fun h3 =>
  lz (wrI h3 4 30 (0 : Int32)) fun h4 =>
  bS (f_Fo_isDirectory h4) fun a1 h5 =>
  if a1 = 0 then (
    some ((1 : Int32), h5)
  ) else (
    bE (P := Unit) (X := (Int32 × hH)) (wh (A := Int32) (B := (Unit ⊕ (Int32 × hH))) (srC h5) (1 : Int32)) fun p3 =>
    bP (f_Fo_arePlaced h5) fun a8 =>
    if a8 = 0 then (
      some ((3 : Int32), h5)
    ) else (
      bP (f_Fo_areSums h5) fun a9 =>
      if a9 = 0 then (
        some ((4 : Int32), h5)
      ) else fnC h5
    )
  ) := rfl
theorem check_eq0 {h : hH} : f_Mo_check h = bS (f_Mo_directory h) fun a1 h1 =>
  if a1 = 0 then (
    some ((1 : Int32), h1)
  ) else (
    bE (P := Unit) (X := (Int32 × hH)) (wh (A := Int32) (B := (Unit ⊕ (Int32 × hH))) (srM h1) (1 : Int32)) fun p3 =>
    bE (P := Unit) (X := (Int32 × hH)) (wh (A := Int32) (B := (Unit ⊕ (Int32 × hH))) (plM h1) (0 : Int32)) fun p9 =>
    bE (P := Unit) (X := (Int32 × hH)) (wh (A := Int32) (B := (Unit ⊕ (Int32 × hH))) (smsM h1) (0 : Int32)) fun p34 =>
    fnM h1
  ) := rfl
theorem L_fn {B : Nat → Int32} {s n : Int32} {c m : hH} (cb : CB B s c) (mB : MB B s m) (s0 : 0 ≤ s) (s1 : s ≤ 12000) (br : ∀ k, k < s.toNatClampNeg → -128 ≤ B k ∧ B k ≤ 127) (T : ∀ t : Int32, 0 ≤ t → ∃ b l i, TB s c m t b l i) (d : DR B s n c m) (c23 : rdI c 4 23 = 0) : ∃ a c' m', fnC c = some (a, c') ∧ fnM m = some (a, m') ∧ FCl c c' ∧ FMl m m' ∧ ((1 ≤ a ∧ a ≤ 14) ∨ (a = 0 ∧ LD c' m')) := by
  have n10 : ¬ (1 : Int32) = 0 := by decide
  have five : ∃ (a : Int32) (c' m' : hH), (some ((5 : Int32), c) : Option (Int32 × hH)) = some (a, c') ∧ (some ((5 : Int32), m) : Option (Int32 × hH)) = some (a, m') ∧ FCl c c' ∧ FMl m m' ∧ ((1 ≤ a ∧ a ≤ 14) ∨ (a = 0 ∧ LD c' m')) := ⟨5, c, m, rfl, rfl, FCl_rfl, FMl_rfl, Or.inl (by decide)⟩
  obtain ⟨_, _, i1, t1, _⟩ := T 1668112752 (by decide)
  obtain ⟨_, _, i2, t2, _⟩ := T 1735162214 (by decide)
  obtain ⟨hb, hl, i3, th⟩ := T 1751474532 (by decide)
  obtain ⟨_, _, i4, t4, _⟩ := T 1751672161 (by decide)
  obtain ⟨_, _, i5, t5, _⟩ := T 1752003704 (by decide)
  obtain ⟨_, _, i6, t6, _⟩ := T 1819239265 (by decide)
  obtain ⟨xb, xl, i7, tx⟩ := T 1835104368 (by decide)
  have e1 : f_Fo_find 1668112752 c = some i1 := t1.1
  have e2 : f_Fo_find 1735162214 c = some i2 := t2.1
  have e3 : f_Fo_find 1751474532 c = some i3 := th.1.1
  have e4 : f_Fo_find 1751672161 c = some i4 := t4.1
  have e5 : f_Fo_find 1752003704 c = some i5 := t5.1
  have e6 : f_Fo_find 1819239265 c = some i6 := t6.1
  have e7 : f_Fo_find 1835104368 c = some i7 := tx.1.1
  unfold fnC fnM
  rw [e1, t1.2, bP_some, bP_some]
  by_cases q : i1 < 0
  · rw [if_pos q, if_pos q]; exact five
  rw [if_neg q, if_neg q, e2, t2.2, bP_some, bP_some]
  by_cases q : i2 < 0
  · rw [if_pos q, if_pos q]; exact five
  rw [if_neg q, if_neg q, e3, th.1.2, bP_some, bP_some]
  by_cases q : i3 < 0
  · rw [if_pos q, if_pos q]; exact five
  rw [if_neg q, if_neg q, e4, t4.2, bP_some, bP_some]
  by_cases q : i4 < 0
  · rw [if_pos q, if_pos q]; exact five
  rw [if_neg q, if_neg q, e5, t5.2, bP_some, bP_some]
  by_cases q : i5 < 0
  · rw [if_pos q, if_pos q]; exact five
  rw [if_neg q, if_neg q, e6, t6.2, bP_some, bP_some]
  by_cases q : i6 < 0
  · rw [if_pos q, if_pos q]; exact five
  rw [if_neg q, if_neg q, e7, tx.1.2, bP_some, bP_some]
  by_cases q : ¬ 0 ≤ i7
  · rw [if_neg q, if_neg q]; exact five
  have q7 : 0 ≤ i7 := Decidable.not_not.mp q
  rw [if_pos q7, if_pos q7]
  obtain ⟨a, c1, m1, h1, h2, f1, f2, hh⟩ := L_head cb mB s0 s1 d th
  rw [h1, h2, bS_some, bS_some]
  rcases hh with a0 | ⟨a1, k6, k7, _⟩
  · rw [if_pos a0, if_pos a0]
    exact ⟨6, _, _, rfl, rfl, FCl_4 f1, FMl_4 f2 (by decide), Or.inl (by decide)⟩
  have na : ¬ a = 0 := by rw [a1]; exact n10
  rw [if_neg na, if_neg na]
  have x1 := FXc_4 f1
  have y1 := FYm_4 f2
  obtain ⟨a', c2, m2, h3, h4, f3, f4, hh⟩ := L_maxp (n := n) (CB_x x1 cb) (MB_x y1 (by decide) mB) s0 s1 (TB_x x1 (by decide) y1 (by decide) tx)
  rw [h3, h4, bS_some, bS_some]
  have o2 : FCl c c2 := FCl_t (FCl_4 f1) (FCl_4 f3)
  have p2 : FMl m m2 := FMl_t (FMl_4 f2 (by decide)) (FMl_4 f4 (by decide))
  rcases hh with a0 | ⟨a1, k8, k9, k10, k11, k12, k13, k14, k15⟩
  · rw [if_pos a0, if_pos a0]
    exact ⟨7, _, _, rfl, rfl, o2, p2, Or.inl (by decide)⟩
  have na' : ¬ a' = 0 := by rw [a1]; exact n10
  rw [if_neg na', if_neg na']
  have x2 : FXc [6, 7, 8, 9, 10, 11, 12, 13, 14, 15] c c2 := FXc_tr x1 (FXc_4 f3) (by decide) (by decide)
  have y2 : FYm [10, 11, 12, 13, 14, 15, 16, 17, 18, 19] m m2 := FYm_tr y1 (FYm_4 f4) (by decide) (by decide)
  have hd : HDs c2 m2 := by
    unfold HDs
    rw [f3.1 4 6 (by decide), f3.1 4 7 (by decide), f4.1 192 10 (by decide), f4.1 192 11 (by decide)]
    exact ⟨k6, k7, k8, k9, k10, k11, k12, k13, k14, k15⟩
  obtain ⟨b, c3, m3, h5, h6, f5, f6, hh⟩ := L_metrics (CB_x x2 cb) (MB_x y2 (by decide) mB) s0 s1 br (fun t t0 => by
    obtain ⟨b, l, i, h⟩ := T t t0
    exact ⟨b, l, i, TB_x x2 (by decide) y2 (by decide) h⟩) (DR_x x2 (by decide) y2 (by decide) d) hd ((x2.1 23 (by decide)).trans c23)
  rw [h5, h6]
  exact ⟨b, _, _, rfl, rfl, FCl_t o2 f5, FMl_t p2 f6, hh⟩
theorem L_check {B : Nat → Int32} {s : Int32} {c m : hH} (cb : CB B s c) (mB : MB B s m) (s0 : 0 ≤ s) (s1 : s ≤ 12000) (br : ∀ k, k < s.toNatClampNeg → -128 ≤ B k ∧ B k ≤ 127) : ∃ a c' m', f_Fo_load c = some (a, c') ∧ f_Mo_check m = some (a, m') ∧ FCl c c' ∧ FMl m m' ∧ ((1 ≤ a ∧ a ≤ 14) ∨ (a = 0 ∧ LD c' m')) := by
  have n10 : ¬ (1 : Int32) = 0 := by decide
  rw [Fo_load_eq0, check_eq0]
  simp only [lz_eq]
  have f0 : FC4 [23, 26, 28, 30] c (wrI (wrI (wrI (wrI c 4 23 0) 4 26 0) 4 28 0) 4 30 0) := FC4_w (FC4_w (FC4_w (FC4_w FC4_rfl (by decide)) (by decide)) (by decide)) (by decide)
  have c23 : rdI (wrI (wrI (wrI (wrI c 4 23 0) 4 26 0) 4 28 0) 4 30 0) 4 23 = 0 := by simp only [rdI_wrI, rdP_wrI, rdL_wrI, Nat.reduceEqDiff, false_and, and_false, true_and, and_true, eq_self, reduceIte, ite_self]
  generalize wrI (wrI (wrI (wrI c 4 23 0) 4 26 0) 4 28 0) 4 30 0 = C at f0 c23
  obtain ⟨a, c1, m1, e1, e2, f1, f2, hh⟩ := L_dir (CB_4 f0 cb) mB s0 s1
  rw [e1, e2, bS_some, bS_some]
  have o1 : FCl c c1 := FCl_t (FCl_4 f0) (FCl_D f1)
  have p1 : FMl m m1 := FMl_E f2
  rcases hh with a0 | ⟨a1, n, d⟩
  · rw [if_pos a0, if_pos a0]
    exact ⟨1, _, _, rfl, rfl, o1, p1, Or.inl (by decide)⟩
  have na : ¬ a = 0 := by rw [a1]; exact n10
  rw [if_neg na, if_neg na]
  have cb1 : CB B s c1 := CB_e (CB_4 f0 cb) (f1.1 5 1 (by omega)) (fun k => f1.1 6 k (by omega))
  have mB1 : MB B s m1 := MB_e mB (f2.1 192 3 (by omega) (by omega)) (fun k => f2.1 194 k (by omega) (by omega))
  rcases L_sorted d with ⟨w1, w2⟩ | ⟨w1, w2⟩
  · rw [w1, w2, bE_inl, bE_inl]
    rcases L_placed cb1 mB1 d with ⟨w3, w4, pl⟩ | ⟨w3, w4⟩
    · rw [w3, w4, bP_some, bE_inl, if_neg n10]
      rcases L_sums cb1 mB1 s0 s1 d pl with ⟨w5, w6⟩ | ⟨w5, w6⟩
      · rw [w5, w6, bP_some, bE_inl, if_neg n10]
        obtain ⟨b, c', m', h1, h2, h3, h4, h5⟩ := L_fn cb1 mB1 s0 s1 br (fun t t0 => L_tab s0 s1 d pl t t0) d ((f1.1 4 23 (by omega)).trans c23)
        exact ⟨b, c', m', h1, h2, FCl_t o1 h3, FMl_t p1 h4, h5⟩
      · rw [w5, w6, bP_some, if_pos rfl]
        exact ⟨4, _, _, rfl, rfl, o1, p1, Or.inl (by decide)⟩
    · rw [w3, w4, bP_some, if_pos rfl]
      exact ⟨3, _, _, rfl, rfl, o1, p1, Or.inl (by decide)⟩
  · rw [w1, w2]
    exact ⟨2, _, _, rfl, rfl, o1, p1, Or.inl (by decide)⟩
