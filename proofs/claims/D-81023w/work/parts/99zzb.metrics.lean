/-! LAYER 3CJ: metrics and the rest; the font that is loaded -/
/-- what head and maxp leave -/
def HDs (c m : hH) : Prop := (rdI m 192 10 = rdI c 4 6 ∧ 16 ≤ rdI c 4 6 ∧ rdI c 4 6 ≤ 16384) ∧ (rdI m 192 11 = rdI c 4 7) ∧ (rdI m 192 12 = rdI c 4 8 ∧ 1 ≤ rdI c 4 8 ∧ rdI c 4 8 ≤ 200) ∧ rdI m 192 13 = rdI c 4 9 ∧ (rdI m 192 14 = rdI c 4 10 ∧ 0 ≤ rdI c 4 10 ∧ rdI c 4 10 ≤ 64) ∧ (rdI m 192 15 = rdI c 4 11 ∧ 0 ≤ rdI c 4 11 ∧ rdI c 4 11 ≤ 64) ∧ (rdI m 192 16 = rdI c 4 12 ∧ 0 ≤ rdI c 4 12 ∧ rdI c 4 12 ≤ 64) ∧ (rdI m 192 17 = rdI c 4 13 ∧ 0 ≤ rdI c 4 13 ∧ rdI c 4 13 ≤ 16) ∧ (rdI m 192 18 = rdI c 4 14 ∧ 0 ≤ rdI c 4 14 ∧ rdI c 4 14 ≤ 256) ∧ (rdI m 192 19 = rdI c 4 15 ∧ 0 ≤ rdI c 4 15 ∧ rdI c 4 15 ≤ 4)
noncomputable def metM (h3 : hH) : Option (Int32 × hH) :=
  bP (f_Mo_beginOf (1751672161 : Int32) h3) fun a54 =>
  bP (f_Mo_u2 (a54 + (34 : Int32)) h3) fun a55 =>
  lz (wrI h3 192 20 a55) fun h4 =>
  bP (f_Mo_lengthOf (1751672161 : Int32) h4) fun a56 =>
  if a56 = (36 : Int32) then (
    bP (f_Mo_in (Int32.toInt64 (rdI h4 192 20)) (1 : Int64) (Int32.toInt64 (rdI h4 192 12))) fun a57 =>
    if a57 = 0 then (
      some ((8 : Int32), h4)
    ) else (
      bP (f_Mo_lengthOf (1752003704 : Int32) h4) fun a58 =>
      if (((4 : Int32) * (rdI h4 192 20)) + ((2 : Int32) * ((rdI h4 192 12) - (rdI h4 192 20)))) ≤ a58 then (
        bS (f_Mo_checkGlyphs h4) fun a59 h5 =>
        some (a59, h5)
      ) else (
        some ((9 : Int32), h4)
      )
    )
  ) else (
    some ((8 : Int32), h4)
  )
theorem mAG_eq0 {h : hH} : f_Fo_metricsAndGlyphs h = bP (f_Fo_lengthOf (1751672161 : Int64) h) fun a1 =>
  bP (A := Int32) (
    if a1 = (36 : Int32) then (
      bP (f_Fo_beginOf (1751672161 : Int64) h) fun a3 =>
      bP (f_By_u2 5 (a3 + (34 : Int32)) h) fun a4 =>
      some a4
    ) else (
      some (0 : Int32)
    )
  ) fun p2 =>
  lz (wrI h 4 16 p2) fun h1 =>
  bP (f_HH_within (Int32.toInt64 (rdI h1 4 16)) (1 : Int64) (Int32.toInt64 (rdI h1 4 8))) fun a6 =>
  if a6 = 0 then (
    some ((8 : Int32), h1)
  ) else (
    bP (f_Fo_beginOf (1752003704 : Int64) h1) fun a7 =>
    lz (wrI h1 4 17 a7) fun h2 =>
    bP (f_Fo_lengthOf (1752003704 : Int64) h2) fun a8 =>
    if (((4 : Int32) * (rdI h2 4 16)) + ((2 : Int32) * ((rdI h2 4 8) - (rdI h2 4 16)))) ≤ a8 then (
      bS (f_Fo_isLoca h2) fun a9 h3 =>
      if a9 = 0 then (
        some ((10 : Int32), h3)
      ) else tlC h3
    ) else (
      some ((9 : Int32), h2)
    )
  ) := rfl
theorem FI_mk {B : Nat → Int32} {s n : Int32} {c m : hH} (d : DR B s n c m) (h1 : rdI m 192 20 = rdI c 4 16) (h2 : rdI m 192 11 = rdI c 4 7) (h3 : rdI m 192 22 = rdI c 4 21) (h4 : rdI m 192 24 = rdI c 4 23) (h5 : rdI m 192 23 = rdI c 4 22) : FI c m := by
  obtain ⟨⟨d1, d2⟩, ⟨n1, n2, _⟩, dc, dm⟩ := d
  refine ⟨⟨h1, h2, h3, h4, h5⟩, ⟨by rw [d2, d1], by rw [d1]; exact n1, by rw [d1]; exact n2⟩, fun i hi => ?_⟩
  rw [d1] at hi
  obtain ⟨c1, c2, c3, c4⟩ := dc i hi
  obtain ⟨m1, m2, m3, m4⟩ := dm i hi
  obtain ⟨u0, u1⟩ := u4B_r B (12 + 16 * i)
  rw [c1, c2, c3, c4, m1, m2, m3, m4, mk64, mv64 u0 u1]
  exact ⟨rfl, rfl, rfl, rfl⟩
theorem DR_x {B : Nat → Int32} {s n : Int32} {ks ls : List Nat} {c g m p : hH} (f : FXc ks c g) (h1 : 1 ∉ ks) (f' : FYm ls m p) (h5 : 5 ∉ ls) (d : DR B s n c m) : DR B s n g p := by
  obtain ⟨⟨d1, d2⟩, d3, dc, dm⟩ := d
  refine ⟨⟨(f.1 1 h1).trans d1, (f'.1 5 (by decide) h5).trans d2⟩, d3, fun i hi => ?_, fun i hi => ?_⟩
  · rw [f.2.2.2, f.2.2.2, f.2.2.2, f.2.2.2]
    exact dc i hi
  · rw [f'.2.2.1, f'.2.2.2, f'.2.2.2, f'.2.2.2]
    exact dm i hi
theorem HDs_x {ks ls : List Nat} {c g m p : hH} (f : FXc ks c g) (h : ∀ x ∈ ks, 16 ≤ x) (f' : FYm ls m p) (h' : ∀ x ∈ ls, 20 ≤ x) (hd : HDs c m) : HDs g p := by
  have F : ∀ k, k < 16 → rdI g 4 k = rdI c 4 k := fun k hk => f.1 k (fun w => by have := h k w; omega)
  have G : ∀ k, k < 20 → rdI p 192 k = rdI m 192 k := fun k hk => f'.1 k (by omega) (fun w => by have := h' k w; omega)
  unfold HDs
  rw [F 6 (by decide), F 7 (by decide), F 8 (by decide), F 9 (by decide), F 10 (by decide), F 11 (by decide), F 12 (by decide), F 13 (by decide), F 14 (by decide), F 15 (by decide), G 10 (by decide), G 11 (by decide), G 12 (by decide), G 13 (by decide), G 14 (by decide), G 15 (by decide), G 16 (by decide), G 17 (by decide), G 18 (by decide), G 19 (by decide)]
  exact hd
theorem L_metrics {B : Nat → Int32} {s n : Int32} {c m : hH} (cb : CB B s c) (mB : MB B s m) (s0 : 0 ≤ s) (s1 : s ≤ 12000) (br : ∀ k, k < s.toNatClampNeg → -128 ≤ B k ∧ B k ≤ 127) (T : ∀ t : Int32, 0 ≤ t → ∃ b l i, TB s c m t b l i) (d : DR B s n c m) (hd : HDs c m) (c23 : rdI c 4 23 = 0) : ∃ a c' m', f_Fo_metricsAndGlyphs c = some (a, c') ∧ metM m = some (a, m') ∧ FCl c c' ∧ FMl m m' ∧ ((1 ≤ a ∧ a ≤ 14) ∨ (a = 0 ∧ LD c' m')) := by
  have n10 : ¬ (1 : Int32) = 0 := by decide
  obtain ⟨hb, hl, hi, th⟩ := T 1751672161 (by decide)
  obtain ⟨xb, xl, xi, tx⟩ := T 1752003704 (by decide)
  obtain ⟨lb, ll, il, tl⟩ := T 1819239265 (by decide)
  obtain ⟨gb, gn, ig, tg⟩ := T 1735162214 (by decide)
  obtain ⟨b1, l1, i1, t1⟩ := T 1668112752 (by decide)
  obtain ⟨b2, l2, i2, t2⟩ := T 1801810542 (by decide)
  obtain ⟨b3, l3, i3, t3⟩ := T 1668707360 (by decide)
  obtain ⟨b4, l4, i4, t4⟩ := T 1718642541 (by decide)
  obtain ⟨b5, l5, i5, t5⟩ := T 1886545264 (by decide)
  have hd0 := hd
  obtain ⟨_, e11, ⟨e12, g1, g2⟩, _, _, _, _, _, _, k19, k0⟩ := hd0
  obtain ⟨_, ⟨th1, th2, th3, th4⟩, ⟨hb0, hb1⟩, ⟨hl0, hl1⟩, hbl, _, _⟩ := th
  have th1' : f_Fo_beginOf 1751672161 c = some hb := th1
  have th2' : f_Fo_lengthOf 1751672161 c = some hl := th2
  rw [mAG_eq0]
  unfold metM
  rw [th2', bP_some, th3, bP_some]
  obtain ⟨w, ew⟩ := mT2 (p := hb + 34) mB s1
  rw [ew, bP_some, lz_eq]
  have fm1 : FM4 [20] m (wrI m 192 20 w) := FM4_w FM4_rfl (by decide)
  have m20 : rdI (wrI m 192 20 w) 192 20 = w := by rw [rdI_wrI, if_pos ⟨rfl, rfl⟩]
  have m12 : rdI (wrI m 192 20 w) 192 12 = rdI c 4 8 := by simp only [rdI_wrI, rdP_wrI, rdL_wrI, Nat.reduceEqDiff, false_and, and_false, true_and, and_true, eq_self, reduceIte, ite_self]; exact e12
  generalize wrI m 192 20 w = M at fm1 m20 m12
  have y1 := FYm_4 fm1
  rw [(tabM_x y1 (by decide) _).2.2, th4, bP_some, m20, m12]
  by_cases q1 : ¬ hl = 36
  · rw [if_neg q1, if_neg q1, bP_some, lz_eq]
    have z : rdI (wrI c 4 16 0) 4 16 = 0 := by rw [rdI_wrI, if_pos ⟨rfl, rfl⟩]
    rw [z, f_HH_within_eq, if_neg (fun u => absurd u.1 (by decide)), bP_some, if_pos rfl]
    exact ⟨8, _, _, rfl, rfl, FCl_4 (ks := [16]) (FC4_w FC4_rfl (by decide)), FMl_4 fm1 (by decide), Or.inl (by decide)⟩
  have q36 : hl = 36 := Decidable.not_not.mp q1
  have ec := cU2 (p := hb + 34) cb s0 s1 (by grind) (by grind)
  have em := mU2 (p := hb + 34) mB s0 s1 (by grind) (by grind)
  rw [ew] at em
  have eww := Option.some.inj em
  rw [if_pos q36, if_pos q36, th1', bP_some, ec, ← eww, bP_some, bP_some, lz_eq]
  have fc1 : FC4 [16, 17] c (wrI c 4 16 w) := FC4_w FC4_rfl (by decide)
  have c16 : rdI (wrI c 4 16 w) 4 16 = w := by rw [rdI_wrI, if_pos ⟨rfl, rfl⟩]
  have c8 : rdI (wrI c 4 16 w) 4 8 = rdI c 4 8 := by simp only [rdI_wrI, rdP_wrI, rdL_wrI, Nat.reduceEqDiff, false_and, and_false, true_and, and_true, eq_self, reduceIte, ite_self]
  generalize wrI c 4 16 w = C1 at fc1 c16 c8
  have wi1 : f_HH_within w.toInt64 1 (rdI c 4 8).toInt64 = some (if 1 ≤ w ∧ w ≤ rdI c 4 8 then 1 else 0) := wi_lit (a := 1)
  rw [c16, c8, ← wi_in, wi1, bP_some, bP_some]
  by_cases q2 : ¬ (1 ≤ w ∧ w ≤ rdI c 4 8)
  · rw [if_neg q2, if_pos rfl, if_pos rfl]
    exact ⟨8, _, _, rfl, rfl, FCl_4 fc1, FMl_4 fm1 (by decide), Or.inl (by decide)⟩
  have w12 : 1 ≤ w ∧ w ≤ rdI c 4 8 := Decidable.not_not.mp q2
  rw [if_pos w12, if_neg n10, if_neg n10]
  obtain ⟨w1, w2⟩ := w12
  have tx0 := tx
  obtain ⟨_, ⟨tx1, tx2, tx3, tx4⟩, ⟨xb0, xb1⟩, ⟨xl0, xl1⟩, xbl, _, _⟩ := tx
  have tx1' : f_Fo_beginOf 1752003704 c = some xb := tx1
  have tx2' : f_Fo_lengthOf 1752003704 c = some xl := tx2
  rw [(tabC_x (FXc_4 fc1) (by decide) _).2.1, tx1', bP_some, lz_eq]
  have fc2 : FC4 [16, 17] c (wrI C1 4 17 xb) := FC4_w fc1 (by decide)
  have d17 : rdI (wrI C1 4 17 xb) 4 17 = xb := by rw [rdI_wrI, if_pos ⟨rfl, rfl⟩]
  have d16 : rdI (wrI C1 4 17 xb) 4 16 = w := by simp only [rdI_wrI, rdP_wrI, rdL_wrI, Nat.reduceEqDiff, false_and, and_false, true_and, and_true, eq_self, reduceIte, ite_self]; exact c16
  have d8 : rdI (wrI C1 4 17 xb) 4 8 = rdI c 4 8 := by simp only [rdI_wrI, rdP_wrI, rdL_wrI, Nat.reduceEqDiff, false_and, and_false, true_and, and_true, eq_self, reduceIte, ite_self]; exact c8
  generalize wrI C1 4 17 xb = C2 at fc2 d16 d17 d8
  have x2 := FXc_4 fc2
  rw [(tabC_x x2 (by decide) _).2.2, tx2', bP_some, (tabM_x y1 (by decide) _).2.2, tx4, bP_some, d16, d8]
  by_cases q3 : ¬ (4 * w + 2 * (rdI c 4 8 - w) ≤ xl)
  · rw [if_neg q3, if_neg q3]
    exact ⟨9, _, _, rfl, rfl, FCl_4 fc2, FMl_4 fm1 (by decide), Or.inl (by decide)⟩
  have hx : 4 * w + 2 * (rdI c 4 8 - w) ≤ xl := Decidable.not_not.mp q3
  rw [if_pos hx, if_pos hx, checkGlyphs_eq0]
  obtain ⟨a9, C3, el, fl, hl9⟩ := L_isLoca (K := tlM M) (f := rdI c 4 7) (gl := rdI c 4 8) (CB_x x2 cb) (MB_x y1 (by decide) mB) s0 s1 (TB_x x2 (by decide) y1 (by decide) tl) (TB_x x2 (by decide) y1 (by decide) tg) (x2.1 7 (by decide)) ((y1.1 11 (by decide) (by decide)).trans e11) d8 m12 ⟨g1, g2⟩
  rw [el, bS_some]
  have o3 : FCl c C3 := FCl_t (FCl_4 fc2) (FCl_4 fl)
  rcases hl9 with ⟨a0, ek⟩ | ⟨a1, ek, k18, k19', lg, hll⟩
  · rw [if_pos a0, ek]
    exact ⟨10, _, _, rfl, rfl, o3, FMl_4 fm1 (by decide), Or.inl (by decide)⟩
  have na : ¬ a9 = 0 := by rw [a1]; exact n10
  rw [if_neg na, ek]
  have x3 : FXc [16, 17, 18, 19] c C3 := FXc_tr x2 (FXc_4 fl) (by decide) (by decide)
  obtain ⟨_, ⟨_, _, tl3, _⟩, ⟨lb0, lb1⟩, ⟨_, ll1⟩, lbl, _, _⟩ := tl
  obtain ⟨_, ⟨_, _, tg3, _⟩, ⟨gb0, gb1⟩, ⟨gn0, gn1⟩, gbl, _, _⟩ := tg
  have gpx : ∀ {g p : hH}, FXc [20, 21, 22, 23, 24, 25, 26, 27, 28, 29, 30] C3 g → FYm [21, 22, 23, 24, 25] M p → GP B s (rdI c 4 7) lb ll gb gn (rdI c 4 8) g p := fun {g p} u v => by
    have u' : FXc [16, 17, 18, 19, 20, 21, 22, 23, 24, 25, 26, 27, 28, 29, 30] c g := FXc_tr x3 u (by decide) (by decide)
    have v' : FYm [20, 21, 22, 23, 24, 25] m p := FYm_tr y1 v (by decide) (by decide)
    refine ⟨⟨CB_x u' cb, MB_x v' (by decide) mB, s0, s1, br⟩, ⟨u'.1 7 (by decide), (v'.1 11 (by decide) (by decide)).trans e11, (u.1 18 (by decide)).trans k18, (u.1 19 (by decide)).trans k19', u'.1 8 (by decide), (v'.1 12 (by decide) (by decide)).trans e12⟩, ⟨(tabM_x v' (by decide) _).2.1.trans tl3, (tabM_x v' (by decide) _).2.1.trans tg3⟩, ⟨lb0, lb1, ll1, lbl⟩, ⟨gb0, gb1, gn0, gn1, gbl⟩, ⟨g1, g2⟩, hll, lg⟩
  have r3 : FXc [20, 21, 22, 23, 24, 25, 26, 27, 28, 29, 30] C3 C3 := ⟨fun _ _ => rfl, fun _ => rfl, fun _ => rfl, fun _ _ => rfl⟩
  have rM : FYm [21, 22, 23, 24, 25] M M := ⟨fun _ _ _ => rfl, fun _ => rfl, fun _ => rfl, fun _ _ => rfl⟩
  have hd3 := HDs_x x3 (by decide) y1 (by decide) hd
  have f15 : rdI C3 4 15 = rdI c 4 15 := x3.1 15 (by decide)
  have g19 : rdI M 192 19 = rdI m 192 19 := y1.1 19 (by decide) (by decide)
  have tb := fun {t b l i : Int32} (h : TB s c m t b l i) => TB_x x3 (by decide) y1 (by decide) h
  obtain ⟨a, c', m', ea, eb, oc, om, h⟩ := L_tl (gpx r3 rM) (by rw [f15, g19]; exact k19) (by rw [f15]; exact k0) ((x3.1 23 (by decide)).trans c23) (tb t1) (tb t2) (tb t3) (tb t4) (tb t5)
  rw [ea, eb]
  have oC : FCl c c' := FCl_t o3 oc
  have oM : FMl m m' := FMl_t (FMl_4 fm1 (by decide)) om
  rcases h with h | ⟨a0, x, y, mp, kr, pg, gh⟩
  · exact ⟨a, _, _, rfl, rfl, oC, oM, Or.inl h⟩
  refine ⟨a, _, _, rfl, rfl, oC, oM, Or.inr ⟨a0, ?_⟩⟩
  have X : FXc [16, 17, 18, 19, 20, 21, 22, 23, 24, 25, 26, 27, 28, 29, 30] c c' := FXc_tr x3 x (by decide) (by decide)
  have Y : FYm [20, 21, 22, 23, 24, 25] m m' := FYm_tr y1 y (by decide) (by decide)
  have cb' := CB_x X cb
  have mB' := MB_x Y (by decide) mB
  have gp' := gpx x y
  have gp3 := gpx r3 y
  have gp0 := gpx r3 rM
  have hd' := HDs_x X (by decide) Y (by decide) hd
  have c8' : rdI c' 4 8 = rdI c 4 8 := X.1 8 (by decide)
  have c16' : rdI c' 4 16 = w := by
    rw [x.1 16 (by decide), (FXc_4 fl).1 16 (by decide)]
    exact d16
  have c17' : rdI c' 4 17 = xb := by
    rw [x.1 17 (by decide), (FXc_4 fl).1 17 (by decide)]
    exact d17
  have m20' : rdI m' 192 20 = w := (y.1 20 (by decide) (by decide)).trans m20
  have mp0 := mp
  obtain ⟨_, _, _, mp22, mp23, _⟩ := mp0
  have kr24 := kr.1
  refine ⟨?_, ⟨GP_FG gp', fun g g0 g1' => ⟨?_, ?_⟩⟩, ⟨fun z z0 z1 => ?_, fun p q p0 p1 q0 q1 => ?_⟩, ?_⟩
  · obtain ⟨k6, _, _, k9, k10, k11, k12, k13, k14, _⟩ := hd'
    obtain ⟨p1, p2, p3, p4⟩ := pg
    have e5 : rdI c' 5 1 = s := cb'.1
    rw [← e5] at p2
    exact ⟨GP_BY gp', k6, k9, k10, k11, k12, k13, k14, p1, p2, p3, p4⟩
  · rw [c8'] at g1'
    exact L_met cb' mB' s0 s1 c16' m20' c17' ((tabM_x Y (by decide) _).2.1.trans tx3) xb0 xb1 xl1 xbl w1 w2 g2 hx g0 g1'
  · rw [c8', ← x3.1 8 (by decide)] at g1'
    exact GH_two (GP_BY gp0) (GP_FG gp0) (GP_BY gp3) (GP_FG gp3) 5 g g0 g1' (gh g g0 g1')
  · rw [c8']
    exact L_glyphAt cb' mB' s0 s1 mp c8' ((Y.1 12 (by decide) (by decide)).trans e12) ⟨g1, g2⟩ z0 z1
  · rw [c8'] at p1 q1
    exact L_kernv cb' mB' s0 s1 kr ⟨_, (tabM_x Y (by decide) _).2.1.trans t2.2.1.2.2.1⟩ ⟨p0, by grind⟩ ⟨q0, by grind⟩
  · exact FI_mk (DR_x X (by decide) Y (by decide) d) (by rw [m20', c16']) hd'.2.1 mp22 kr24 mp23
