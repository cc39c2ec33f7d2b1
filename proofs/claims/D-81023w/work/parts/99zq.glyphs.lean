/-! LAYER 3BY: the font's glyphs: places, metrics, order -/
theorem LG_le {B : Nat → Int32} {f lb gl gn : Int32} (h : LG B f lb gl gn) (g1 : gl ≤ 200) : ∀ (k : Nat) (p : Int32), 0 ≤ p → p ≤ gl → gl.toNatClampNeg - p.toNatClampNeg = k → LV B f lb p ≤ LV B f lb gl := by
  intro k
  induction k with
  | zero =>
    intro p p0 p1 e
    have : p = gl := by
      by_cases w : p = gl
      · exact w
      · have := (xI_lt p0 (Int32.le_trans p0 p1)).mpr (show p < gl by grind)
        omega
    rw [this]
    exact Int64.le_refl _
  | succ k ih =>
    intro p p0 p1 e
    have lt : p < gl := by
      by_cases w : p = gl
      · rw [w] at e; omega
      · grind
    have pp : (p + 1).toNatClampNeg = p.toNatClampNeg + 1 := xI_succ (m := 20000) p0 (by grind) (by decide)
    exact Int64.le_trans (h.1 p p0 lt) (ih (p + 1) (by grind) (by grind) (by omega))
/-- all that the places of glyphs rest on -/
def GP (B : Nat → Int32) (s f lb ll gb gn gl : Int32) (c m : hH) : Prop := (CB B s c ∧ MB B s m ∧ 0 ≤ s ∧ s ≤ 12000 ∧ ∀ k, k < s.toNatClampNeg → -128 ≤ B k ∧ B k ≤ 127) ∧ (rdI c 4 7 = f ∧ rdI m 192 11 = f ∧ rdI c 4 18 = lb ∧ rdI c 4 19 = gb ∧ rdI c 4 8 = gl ∧ rdI m 192 12 = gl) ∧ (f_Mo_beginOf 1819239265 m = some lb ∧ f_Mo_beginOf 1735162214 m = some gb) ∧ (0 ≤ lb ∧ lb ≤ 12000 ∧ ll ≤ 12000 ∧ lb + ll ≤ s) ∧ (0 ≤ gb ∧ gb ≤ 12000 ∧ 0 ≤ gn ∧ gn ≤ 12000 ∧ gb + gn ≤ s) ∧ (1 ≤ gl ∧ gl ≤ 200) ∧ (gl + 1) * (if f = 0 then 2 else 4) ≤ ll ∧ LG B f lb gl gn
theorem GP_BY {B : Nat → Int32} {s f lb ll gb gn gl : Int32} {c m : hH} (h : GP B s f lb ll gb gn gl c m) : BY c m := by
  obtain ⟨⟨cb, mb, s0, s1, _⟩, _⟩ := h
  refine ⟨?_, ?_, ?_, ?_⟩
  · rw [mb.1, cb.1]
  · rw [cb.1]; exact s0
  · rw [cb.1]; exact s1
  · intro i hi
    rw [cb.1] at hi
    rw [mb.2 i hi, cb.2 i]
theorem GP_FG {B : Nat → Int32} {s f lb ll gb gn gl : Int32} {c m : hH} (h : GP B s f lb ll gb gn gl c m) : FG c m := by
  obtain ⟨⟨cb, mb, s0, s1, br⟩, ⟨e7, e11, e18, e19, e8, e12⟩, ⟨tl, tg⟩, ⟨l0, l1, l2, l3⟩, ⟨g0, g1, g2, g3, g4⟩, gr, hl, lg⟩ := h
  refine ⟨?_, ?_, fun g p0 p1 => ?_⟩
  · intro i hi
    rw [cb.1] at hi
    rw [cb.2]
    exact br i hi
  · rw [e12, e8]; exact ⟨rfl, gr⟩
  · rw [e8] at p1
    have L := fun p p0 p1 => L_loca (p := p) cb mb s0 s1 e7 e11 e18 tl ⟨l0, l1⟩ l2 l3 gr hl p0 p1
    have La := L g p0 (by grind)
    have Lb := L (g + 1) (by grind) (by grind)
    refine ⟨_, _, La.1, Lb.1, ⟨gb, _, _, tg, La.2, Lb.2, by rw [e19], by rw [e19]⟩, ?_⟩
    rw [e19, cb.1]
    have m1 := lg.1 g p0 p1
    have m2 := LG_le lg gr.2 _ (g + 1) (by grind) (by grind) rfl
    have i1 := Int64.le_iff_toInt_le.mp m1
    have i2 := Int64.le_iff_toInt_le.mp m2
    have i3 := Int64.le_iff_toInt_le.mp lg.2
    rw [Int32.toInt_toInt64] at i3
    have r1 := LV_r B f lb g
    have r2 := LV_r B f lb (g + 1)
    have z0 : (0 : Int32).toInt = 0 := rfl
    have z12 : (12000 : Int32).toInt = 12000 := rfl
    have j0 := Int32.le_iff_toInt_le.mp g0
    have j1 := Int32.le_iff_toInt_le.mp g1
    have j3 := Int32.le_iff_toInt_le.mp g3
    have j4 := Int32.le_iff_toInt_le.mp g4
    have j2 := Int32.le_iff_toInt_le.mp g2
    rw [z0] at j0 j2
    rw [z12] at j1 j3
    have e1 := i64_32 (x := LV B f lb g) r1.1 (by omega)
    have e2 := i64_32 (x := LV B f lb (g + 1)) r2.1 (by omega)
    have a1 := i32_add (x := gb) (y := (LV B f lb g).toInt32) (by rw [e1]; omega) (by rw [e1]; omega)
    have a2 := i32_add (x := gb) (y := (LV B f lb (g + 1)).toInt32) (by rw [e2]; omega) (by rw [e2]; omega)
    have a3 := i32_add (x := gb) (y := gn) (by omega) (by omega)
    refine ⟨Int32.le_iff_toInt_le.mpr ?_, Int32.le_iff_toInt_le.mpr ?_, Int32.le_iff_toInt_le.mpr ?_⟩
    · rw [z0, a1, e1]; omega
    · rw [a1, a2, e1, e2]; omega
    · rw [a2, e2]
      rw [a3] at j4
      omega
theorem ar_hm {hb hl s n gl g : Int32} (b0 : 0 ≤ hb) (b1 : hb ≤ 12000) (l1 : hl ≤ 12000) (bl : hb + hl ≤ s) (s1 : s ≤ 12000) (n0 : 1 ≤ n) (n1 : n ≤ gl) (gl1 : gl ≤ 200) (hh : 4 * n + 2 * (gl - n) ≤ hl) (g0 : 0 ≤ g) (g1 : g < gl) : (n ≤ g → 0 ≤ hb + 4 * n + 2 * (g - n) ∧ hb + 4 * n + 2 * (g - n) ≤ s - 2) ∧ (g < n → 0 ≤ hb + 4 * g + 2 ∧ hb + 4 * g + 2 ≤ s - 2 ∧ 0 ≤ hb + 4 * g ∧ hb + 4 * g ≤ s - 2) ∧ (0 ≤ hb + 4 * (n - 1) ∧ hb + 4 * (n - 1) ≤ s - 2) := by
  refine ⟨fun w => ⟨?_, ?_⟩, fun w => ⟨?_, ?_, ?_, ?_⟩, ?_, ?_⟩ <;> grind
theorem L_met {B : Nat → Int32} {s hb hl n gl g : Int32} {c m : hH} (cb : CB B s c) (mb : MB B s m) (s0 : 0 ≤ s) (s1 : s ≤ 12000) (e16 : rdI c 4 16 = n) (e20 : rdI m 192 20 = n) (e17 : rdI c 4 17 = hb) (tM : f_Mo_beginOf 1752003704 m = some hb) (b0 : 0 ≤ hb) (b1 : hb ≤ 12000) (l1 : hl ≤ 12000) (bl : hb + hl ≤ s) (n0 : 1 ≤ n) (n1 : n ≤ gl) (gl1 : gl ≤ 200) (hh : 4 * n + 2 * (gl - n) ≤ hl) (g0 : 0 ≤ g) (g1 : g < gl) : FNm c m g := by
  obtain ⟨r1, r2, r3⟩ := ar_hm b0 b1 l1 bl s1 n0 n1 gl1 hh g0 g1
  have sr : ∀ p, -32768 ≤ s2B B p ∧ s2B B p ≤ 32767 := fun p => s16_r _
  refine ⟨?_, ?_⟩
  · unfold f_Fo_bearing f_Mo_bearingOf
    rw [e16, e17, e20, tM, bP_some]
    by_cases q : n ≤ g
    · obtain ⟨a1, a2⟩ := r1 q
      rw [if_pos q, if_pos q, cS2 cb s0 s1 a1 a2, mS2 mb s0 s1 a1 a2]
      exact ⟨_, rfl, rfl, sr _⟩
    · obtain ⟨a1, a2, _⟩ := r2 (Int32.not_le.mp q)
      rw [if_neg q, if_neg q, cS2 cb s0 s1 a1 a2, mS2 mb s0 s1 a1 a2]
      exact ⟨_, rfl, rfl, sr _⟩
  · unfold f_Fo_advance f_Mo_advanceOf
    rw [e16, e17, e20, f_JM_min_2_eq, bP_some, lz_eq, tM, bP_some]
    by_cases q : n ≤ g
    · rw [if_pos (show n - 1 < g by grind), if_pos q, cU2 cb s0 s1 r3.1 r3.2, mU2 mb s0 s1 r3.1 r3.2]
      exact ⟨_, rfl, rfl⟩
    · obtain ⟨_, _, a1, a2⟩ := r2 (Int32.not_le.mp q)
      rw [if_neg (show ¬ n - 1 < g by grind), if_neg q, cU2 cb s0 s1 a1 a2, mU2 mb s0 s1 a1 a2]
      exact ⟨_, rfl, rfl⟩
/-- what the reading of glyphs leaves: the component's glyph 11 and row 21, the model's readers -/
def FrR (c g : hH) : Prop := (∀ o k, o < 11 ∨ 21 < o → rdI g o k = rdI c o k) ∧ (∀ o k, rdL g o k = rdL c o k) ∧ (∀ o k, ¬ (o = 11 ∧ k = 15) → rdP g o k = rdP c o k)
def FrS (m g : hH) : Prop := (∀ o k, ¬ (199 ≤ o ∧ o ≤ 209) → ¬ (o = 192 ∧ 26 ≤ k ∧ k ≤ 32) → rdI g o k = rdI m o k) ∧ (∀ o k, rdP g o k = rdP m o k) ∧ (∀ o k, rdL g o k = rdL m o k)
theorem FrR_rfl {c : hH} : FrR c c := ⟨fun _ _ _ => rfl, fun _ _ => rfl, fun _ _ _ => rfl⟩
theorem FrS_rfl {m : hH} : FrS m m := ⟨fun _ _ _ _ => rfl, fun _ _ => rfl, fun _ _ => rfl⟩
theorem FrR_t {c g h : hH} (f : FrR c g) (f' : FrR g h) : FrR c h := ⟨fun o k w => (f'.1 o k w).trans (f.1 o k w), fun o k => (f'.2.1 o k).trans (f.2.1 o k), fun o k w => (f'.2.2 o k w).trans (f.2.2 o k w)⟩
theorem FrS_t {c g h : hH} (f : FrS c g) (f' : FrS g h) : FrS c h := ⟨fun o k w1 w2 => (f'.1 o k w1 w2).trans (f.1 o k w1 w2), fun o k => (f'.2.1 o k).trans (f.2.1 o k), fun o k => (f'.2.2 o k).trans (f.2.2 o k)⟩
theorem FrR_G {c g : hH} (f : FrG 11 (wrP c 11 15 5) g) : FrR c g := ⟨fun o k w => (f.1 o k (by omega)).trans rdI_wrP, fun o k => f.2.2 o k, fun o k w => by rw [f.2.1, rdP_wrP, if_neg w]⟩
theorem FrS_N {m g : hH} (f : FrN m g) : FrS m g := ⟨fun o k w1 w2 => f.1 o k (by omega) w2, f.2.1, f.2.2⟩
theorem CT_R {c g : hH} (f : FrR c g) : CT c g := ⟨fun k => f.1 4 k (by omega), fun k => f.1 5 k (by omega), fun k => f.1 6 k (by omega)⟩
theorem MT_S {m g : hH} (f : FrS m g) : MT m g := ⟨fun k w => f.1 192 k (by omega) (by omega), fun k => f.1 194 k (by omega) (by omega), fun k => f.1 195 k (by omega) (by omega), f.2.2⟩
theorem FrR_21 {c g : hH} {k : Nat} {v : Int32} (f : FrR c g) : FrR c (wrI g 21 k v) := ⟨fun o' k' w => (rdI_o (by omega)).trans (f.1 o' k' w), f.2.1, f.2.2⟩
theorem FrS_w {c g : hH} {o k : Nat} {v : Int32} (f : FrS c g) (ho : o = 208 ∨ o = 209) : FrS c (wrI g o k v) := ⟨fun o' k' w1 w2 => (rdI_o (by omega)).trans (f.1 o' k' w1 w2), f.2.1, f.2.2⟩
/-- a glyph read at 11, beside a heap of the model, and beside the one at the start -/
theorem rd11 {c0 m0 c m : hH} {g : Int32} (fb : BY c0 m0) (fg : FG c0 m0) (fc : FrR c0 c) (fm : FrS m0 m) (g0 : 0 ≤ g) (g1 : g < rdI c0 4 8) : ∃ a h1 m1 mg, f_Fo_read g 11 c = some (a, h1) ∧ f_Mo_isGlyph g m = some (a, m1) ∧ f_Mo_isGlyph g m0 = some (a, mg) ∧ FrR c0 h1 ∧ FrS m0 m1 ∧ (∀ k, rdI h1 21 k = rdI c 21 k) ∧ FrN m m1 ∧ (a = 0 ∨ (a = 1 ∧ (0 ≤ rdI h1 11 9 ∧ rdI h1 11 9 ≤ 8) ∧ rdI m1 192 30 = rdI h1 11 9 ∧ rdI mg 192 30 = rdI h1 11 9 ∧ (rdI m1 192 28 = -1 ↔ 1 ≤ rdI h1 11 9) ∧ ∀ j, j < (rdI h1 11 9).toNatClampNeg → rdI m1 204 j = rdI h1 17 j ∧ rdI mg 204 j = rdI h1 17 j ∧ 0 ≤ rdI h1 17 j ∧ rdI h1 17 j < rdI c0 4 8)) := by
  have hz : isGl 11 := Or.inl rfl
  have ct := CT_R fc
  have mt := MT_S fm
  have fbc : BY c m := BY_tr ct mt fb
  have fgc : FG c m := FG_tr ct mt fg
  have fbc0 : BY c m0 := BY_tr ct MT_rfl fb
  have fgc0 : FG c m0 := FG_tr ct MT_rfl fg
  have e48 : rdI c 4 8 = rdI c0 4 8 := ct.1 8
  obtain ⟨la, lb, l0⟩ := fg.2.2 g g0 g1
  have l1 : FNl c m g la lb := FNl_tr ct mt l0
  have l2 : FNl c m0 g la lb := FNl_tr ct MT_rfl l0
  obtain ⟨⟨a, h1⟩, ey⟩ := rd_ex hz fbc fgc l1
  obtain ⟨m1, e1, f1, f2, q1⟩ := rd_at hz fbc fgc l1 ey
  obtain ⟨mg, e2, _, _, q2⟩ := rd_at hz fbc0 fgc0 l2 ey
  dsimp only at e1 e2 f2 q1 q2
  have a01 : a = 0 ∨ a = 1 := by
    rcases q1 with q | ⟨q, _⟩
    · exact Or.inl q
    · exact Or.inr q
  refine ⟨a, h1, m1, mg, ?_, e1, e2, FrR_t fc (FrR_G f2), FrS_t fm (FrS_N f1), fun k => (f2.1 21 k (by omega)).trans rdI_wrP, f1, ?_⟩
  · unfold f_Fo_read
    rw [l1.1, bP_some, l1.2.1, bP_some, ey, bS_some, gd_pos a01]
  · rcases q1 with q | ⟨q, gl1, _⟩
    · exact Or.inl q
    · rcases q2 with q' | ⟨_, gl2, _⟩
      · rw [q] at q'; exact absurd q' (by decide)
      obtain ⟨p1, r1⟩ := GL_parts gl1
      obtain ⟨p2, r2⟩ := GL_parts gl2
      refine Or.inr ⟨q, ?_, p1, p2, ?_, fun j hj => ?_⟩
      · rcases gl1.2.2 with ⟨_, _, w, _⟩ | ⟨w, _⟩
        · exact ⟨Int32.le_trans (by decide) w.1, w.2⟩
        · rw [w]; decide
      · rw [gl1.1.1]
        rcases gl1.2.2 with ⟨w1, _, w, _⟩ | ⟨w, gs⟩
        · exact ⟨fun _ => w.1, fun _ => w1⟩
        · constructor
          · intro u
            have := gs.1.1
            rw [u] at this
            exact absurd this (by decide)
          · intro u
            rw [w] at u
            exact absurd u (by decide)
      · obtain ⟨s1, s2, s3⟩ := r1 j hj
        obtain ⟨t1, _⟩ := r2 j hj
        rw [e48] at s3
        exact ⟨s1, t1, s2, s3⟩
/-- loops over the glyphs, on both sides -/
noncomputable def glA (p1 : Int32 × hH) : Option ((Int32 × hH) ⊕ (hH ⊕ (Int32 × hH))) :=
  if (rdI p1.2 4 8) ≤ p1.1 then (
    some (.inr (.inl p1.2))
  ) else (
    bS (f_Fo_read p1.1 11 p1.2) fun a3 h1 =>
    if a3 = 0 then (
      some (.inr (.inr ((0 : Int32), h1)))
    ) else (
      lz (A := Int32) (if (rdI h1 11 9) = 0 then (0 : Int32) else (-1 : Int32)) fun p4 =>
      gd (vp_in p1.1 200) <|
      lz (wrI h1 21 (Int32.toNatClampNeg p1.1) p4) fun h2 =>
      lz (A := Int32) (p1.1 + (1 : Int32)) fun v7 =>
      some (.inl (v7, h2))
    )
  )
noncomputable def glM (p13 : Int32 × hH) : Option ((Int32 × hH) ⊕ (hH ⊕ (Int32 × hH))) :=
  if (rdI p13.2 192 12) ≤ p13.1 then (
    some (.inr (.inl p13.2))
  ) else (
    bS (f_Mo_isGlyph p13.1 p13.2) fun a15 h1 =>
    if a15 = 0 then (
      some (.inr (.inr ((11 : Int32), h1)))
    ) else (
      lz (A := Int32) (p13.1 + (1 : Int32)) fun v16 =>
      some (.inl (v16, h1))
    )
  )
/-- glyphs in order, up to a place; the first column of heights -/
def GV (m0 c : hH) (p : Nat) : Prop := ∀ g : Int32, 0 ≤ g → g.toNatClampNeg < p → ∃ mg, f_Mo_isGlyph g m0 = some (1, mg) ∧ rdI c 21 g.toNatClampNeg = if rdI mg 192 30 = 0 then 0 else -1
theorem L_gl {c0 m0 : hH} (fb : BY c0 m0) (fg : FG c0 m0) : ∀ (k : Nat) (i : Int32) (c m : hH), 0 ≤ i → i ≤ rdI c0 4 8 → (rdI c0 4 8).toNatClampNeg - i.toNatClampNeg = k → FrR c0 c → FrS m0 m → GV m0 c i.toNatClampNeg → (∃ c' m', wh glA (i, c) = some (.inl c') ∧ wh glM (i, m) = some (.inl m') ∧ FrR c0 c' ∧ FrS m0 m' ∧ GV m0 c' (rdI c0 4 8).toNatClampNeg) ∨ (∃ c' m', wh glA (i, c) = some (.inr (0, c')) ∧ wh glM (i, m) = some (.inr (11, m')) ∧ FrR c0 c' ∧ FrS m0 m') := by
  obtain ⟨_, ⟨g12, g1, g2⟩, _⟩ := fg
  have n10 : ¬ (1 : Int32) = 0 := by decide
  intro k
  induction k with
  | zero =>
    intro i c m i0 i1 e fc fm gv
    have ei : i = rdI c0 4 8 := by
      by_cases w : i = rdI c0 4 8
      · exact w
      · have := (xI_lt (y := rdI c0 4 8) i0 (by grind)).mpr (by grind)
        omega
    have le : rdI c0 4 8 ≤ i := by rw [ei]; exact Int32.le_refl _
    refine Or.inl ⟨c, m, ?_, ?_, fc, fm, by rw [← ei]; exact gv⟩
    · rw [wh_eq]
      unfold glA
      dsimp only
      rw [fc.1 4 8 (by omega), if_pos le]
    · rw [wh_eq]
      unfold glM
      dsimp only
      rw [fm.1 192 12 (by omega) (by omega), g12, if_pos le]
  | succ k ih =>
    intro i c m i0 i1 e fc fm gv
    have lt : i < rdI c0 4 8 := by
      by_cases w : i = rdI c0 4 8
      · rw [← w] at e; omega
      · grind
    have ii : (i + 1).toNatClampNeg = i.toNatClampNeg + 1 := xI_succ (m := 20000) i0 (by grind) (by decide)
    have v : vp_in i 200 := vp_lt (n := 200) (m := 200) i0 (by grind) rfl
    obtain ⟨a, h1, m1, mg, e1, e2, e3, f1, f2, r21, _, q⟩ := rd11 fb ⟨by assumption, ⟨g12, g1, g2⟩, by assumption⟩ fc fm i0 lt
    rcases q with q | ⟨q, p9, p30, pg, _⟩
    · subst q
      refine Or.inr ⟨h1, m1, ?_, ?_, f1, f2⟩
      · rw [wh_eq]
        unfold glA
        dsimp only
        rw [fc.1 4 8 (by omega), if_neg (Int32.not_le.mpr lt), e1, bS_some, if_pos rfl]
      · rw [wh_eq]
        unfold glM
        dsimp only
        rw [fm.1 192 12 (by omega) (by omega), g12, if_neg (Int32.not_le.mpr lt), e2, bS_some, if_pos rfl]
    · subst q
      have w1 : wh glA (i, c) = wh glA (i + 1, wrI h1 21 i.toNatClampNeg (if rdI h1 11 9 = 0 then 0 else -1)) := by
        rw [wh_eq]
        have : glA (i, c) = some (.inl (i + 1, wrI h1 21 i.toNatClampNeg (if rdI h1 11 9 = 0 then 0 else -1))) := by
          unfold glA
          dsimp only
          rw [fc.1 4 8 (by omega), if_neg (Int32.not_le.mpr lt), e1, bS_some, if_neg n10, lz_eq, gd_pos v, lz_eq, lz_eq]
        rw [this]
      have w2 : wh glM (i, m) = wh glM (i + 1, m1) := by
        rw [wh_eq]
        have : glM (i, m) = some (.inl (i + 1, m1)) := by
          unfold glM
          dsimp only
          rw [fm.1 192 12 (by omega) (by omega), g12, if_neg (Int32.not_le.mpr lt), e2, bS_some, if_neg n10, lz_eq]
        rw [this]
      rw [w1, w2]
      refine ih (i + 1) _ m1 (by grind) (by grind) (by omega) (FrR_21 f1) f2 ?_
      intro g g0' g1'
      rw [ii] at g1'
      by_cases w : g.toNatClampNeg = i.toNatClampNeg
      · have eg : g = i := xI_inj g0' i0 w
        refine ⟨mg, by rw [eg]; exact e3, ?_⟩
        rw [w, rdI_wrI, if_pos ⟨rfl, rfl⟩, pg]
      · obtain ⟨mg', q1, q2⟩ := gv g g0' (by omega)
        refine ⟨mg', q1, ?_⟩
        rw [rdI_wrI, if_neg (fun u => w u.2), r21]
        exact q2
