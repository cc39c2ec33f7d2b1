/-! LAYER 3BO: more small laws -/
theorem L_held {hc hm : hH} {x y : Int32} (r : RR hc hm) : ∃ a, f_HH_held x y hc = some a ∧ f_Mo_held x y hm = some a := by
  obtain ⟨_, rl, rs, _⟩ := r
  have n10 : ¬ (1 : Int32) = 0 := by decide
  unfold f_HH_held f_Mo_held
  rcases rs with ⟨s1, s2, _⟩ | ⟨s1, s2, sz⟩
  · rw [if_pos s1, if_pos s2]
    exact ⟨_, rfl, rfl⟩
  rcases rl with ⟨_, _, l3⟩ | ⟨_, _, fs, _⟩
  · exact absurd l3 s1
  obtain ⟨_, _, _, ft, fst, _, _, _, fc, _⟩ := fs
  obtain ⟨⟨k1, k2, k3⟩, z1, z2, z3, _⟩ := sz
  have w0 : f_Mo_in y.toInt64 0 (rdI hc 4 26 - 1).toInt64 = some (if 0 ≤ y ∧ y < rdI hc 4 26 then 1 else 0) := within_0 fc.2.1
  have w1 : f_Mo_in y.toInt64 0 (rdI hc 4 11 - 1).toInt64 = some (if 0 ≤ y ∧ y < rdI hc 4 11 then 1 else 0) := within_0 fst.2.1
  have w2 : f_Mo_in y.toInt64 0 (rdI hc 4 10 - 1).toInt64 = some (if 0 ≤ y ∧ y < rdI hc 4 10 then 1 else 0) := within_0 ft.2.1
  have w5 : f_Mo_in x.toInt64 2 5 = some (if 2 ≤ x ∧ x ≤ 5 then 1 else 0) := in_lit (a := 2) (b := 5)
  rw [if_neg s1, if_neg s2, fc.1, fst.1, ft.1, k1, k2, k3, w0, w1, w2, w5]
  simp only [bP_some]
  by_cases y0 : 0 ≤ y
  · rw [if_pos y0]
    by_cases x0 : x = 0
    · have xx : x = 0 ∨ x = 1 := Or.inl x0
      simp only [if_pos x0, if_pos xx, lz]
      by_cases q : y < rdI hc 4 26
      · have v : vp_in y 256 := vp_lt (n := 256) (m := 256) y0 (by grind) rfl
        have qq : 0 ≤ y ∧ y < rdI hc 4 26 := ⟨y0, q⟩
        simp only [if_pos q, if_pos qq, if_neg n10, gd_pos v, z1 _ ((xI_lt y0 fc.2.1).mpr q)]
        exact ⟨_, rfl, rfl⟩
      · have qq : ¬ (0 ≤ y ∧ y < rdI hc 4 26) := fun w => q w.2
        simp only [if_neg q, if_neg qq, if_pos (rfl : (0 : Int32) = 0)]
        exact ⟨_, rfl, rfl⟩
    · by_cases x1 : x = 1
      · have xx : x = 0 ∨ x = 1 := Or.inr x1
        simp only [if_neg x0, if_pos x1, if_pos xx, lz]
        by_cases q : y < rdI hc 4 11
        · have v : vp_in y 64 := vp_lt (n := 64) (m := 64) y0 (by grind) rfl
          have qq : 0 ≤ y ∧ y < rdI hc 4 11 := ⟨y0, q⟩
          simp only [if_pos q, if_pos qq, if_neg n10, gd_pos v, z2 _ ((xI_lt y0 fst.2.1).mpr q)]
          exact ⟨_, rfl, rfl⟩
        · have qq : ¬ (0 ≤ y ∧ y < rdI hc 4 11) := fun w => q w.2
          simp only [if_neg q, if_neg qq, if_pos (rfl : (0 : Int32) = 0)]
          exact ⟨_, rfl, rfl⟩
      · have nx : ¬ (x = 0 ∨ x = 1) := fun w => w.elim x0 x1
        simp only [if_neg nx, if_neg x0, if_neg x1]
        by_cases q : y < rdI hc 4 10
        · have y64 : y < 64 := by grind
          have v : vp_in y 64 := vp_lt (n := 64) (m := 64) y0 y64 rfl
          have zz := z3 _ ((xI_lt y0 ft.2.1).mpr q)
          have qq : 0 ≤ y ∧ y < rdI hc 4 10 := ⟨y0, q⟩
          simp only [if_pos q, if_pos qq, if_neg n10, gd_pos v]
          obtain ⟨i0, i1, i2, i3⟩ := x4 y0 y64
          obtain ⟨u0, u1, u2, u3⟩ := vq4 y0 y64
          by_cases x2 : x = 2
          · have xx : 2 ≤ x ∧ x ≤ 5 := by rw [x2]; decide
            simp only [if_pos x2, if_pos xx, if_neg n10]
            rw [x2, show 4 * y + 2 - 2 = 4 * y by grind, gd_pos u0, i0, zz.1]
            exact ⟨_, rfl, rfl⟩
          by_cases x3 : x = 3
          · have xx : 2 ≤ x ∧ x ≤ 5 := by rw [x3]; decide
            simp only [if_neg x2, if_pos x3, if_pos xx, if_neg n10]
            rw [x3, show 4 * y + 3 - 2 = 4 * y + 1 by grind, gd_pos u1, i1, zz.2.1]
            exact ⟨_, rfl, rfl⟩
          by_cases x4' : x = 4
          · have xx : 2 ≤ x ∧ x ≤ 5 := by rw [x4']; decide
            simp only [if_neg x2, if_neg x3, if_pos x4', if_pos xx, if_neg n10]
            rw [x4', show 4 * y + 4 - 2 = 4 * y + 2 by grind, gd_pos u2, i2, zz.2.2.1]
            exact ⟨_, rfl, rfl⟩
          by_cases x5 : x = 5
          · have xx : 2 ≤ x ∧ x ≤ 5 := by rw [x5]; decide
            simp only [if_neg x2, if_neg x3, if_neg x4', if_pos x5, if_pos xx, if_neg n10]
            rw [x5, show 4 * y + 5 - 2 = 4 * y + 3 by grind, gd_pos u3, i3, zz.2.2.2.1]
            exact ⟨_, rfl, rfl⟩
          have nn : ¬ (2 ≤ x ∧ x ≤ 5) := by grind
          simp only [if_neg x2, if_neg x3, if_neg x4', if_neg x5, if_neg nn, if_pos (rfl : (0 : Int32) = 0)]
          exact ⟨_, rfl, rfl⟩
        · have qq : ¬ (0 ≤ y ∧ y < rdI hc 4 10) := fun w => q w.2
          simp only [if_neg q, if_neg qq, reduceIte, ite_self]
          exact ⟨_, rfl, rfl⟩
  · have q1 : ¬ (0 ≤ y ∧ y < rdI hc 4 26) := fun w => y0 w.1
    have q2 : ¬ (0 ≤ y ∧ y < rdI hc 4 11) := fun w => y0 w.1
    have q3 : ¬ (0 ≤ y ∧ y < rdI hc 4 10) := fun w => y0 w.1
    simp only [if_neg y0, if_neg q1, if_neg q2, if_neg q3, reduceIte, ite_self]
    exact ⟨_, rfl, rfl⟩
theorem L_canvas {hc hm : hH} {x y : Int32} : ∃ a g m, f_HH_canvas x y hc = some (a, g) ∧ f_Mo_canvas x y hm = some (a, m) ∧ ((g = hc ∧ m = hm) ∨ (g = flI (wrI (wrI hc 1 14 x) 1 15 y) 190 16384 (fun _ => 0) ∧ m = flI (wrI (wrI hm 192 141 x) 192 142 y) 250 16384 (fun _ => 0) ∧ (1 ≤ x ∧ x ≤ 128) ∧ (1 ≤ y ∧ y ≤ 128))) := by
  have n10 : ¬ (1 : Int32) = 0 := by decide
  have e : (0 : Int32) &&& 1 = 0 := by decide
  have o16 : Int32.ofNat 16384 = (16384 : Int32) := rfl
  have wx : ∀ x : Int32, f_HH_within x.toInt64 1 128 = some (if 1 ≤ x ∧ x ≤ 128 then 1 else 0) := fun x => wi_lit (a := 1) (b := 128)
  unfold f_HH_canvas f_Mo_canvas
  rw [← wi_in, ← wi_in, wx, wx]
  simp only [bP_some]
  by_cases q : 1 ≤ x ∧ x ≤ 128
  · rw [if_pos q, if_neg n10, if_neg n10]
    by_cases p : 1 ≤ y ∧ y ≤ 128
    · rw [if_pos p, if_neg n10, if_neg n10, lz_eq, lz_eq, lz_eq, lz_eq]
      rw [wh_fill (n := 16384) (by decide) (r := flI (wrI (wrI hc 1 14 x) 1 15 y) 190 16384 (fun _ => 0)) (fun i => flI (wrI (wrI hc 1 14 x) 1 15 y) 190 i (fun _ => 0)) flI_0 (by dsimp only; rw [o16, if_pos (by decide)]; rfl) (by
        intro i i0 i1
        have v : vp_in i 16384 := vp_lt (n := 16384) (m := 16384) i0 i1 rfl
        dsimp only
        rw [o16, if_neg (Int32.not_le.mpr i1), gd_pos v, e, lz_eq, lz_eq, flI_s' rfl])]
      rw [wh_fill (n := 16384) (by decide) (r := flI (wrI (wrI hm 192 141 x) 192 142 y) 250 16384 (fun _ => 0)) (fun i => flI (wrI (wrI hm 192 141 x) 192 142 y) 250 i (fun _ => 0)) flI_0 (by dsimp only; rw [if_pos (by decide)]; rfl) (by
        intro i i0 i1
        have v : vp_in i 16384 := vp_lt (n := 16384) (m := 16384) i0 i1 rfl
        dsimp only
        rw [if_neg (Int32.not_le.mpr i1), gd_pos v, e, lz_eq, lz_eq, flI_s' rfl])]
      exact ⟨_, _, _, rfl, rfl, Or.inr ⟨rfl, rfl, q, p⟩⟩
    · rw [if_neg p, if_pos rfl, if_pos rfl]
      exact ⟨_, _, _, rfl, rfl, Or.inl ⟨rfl, rfl⟩⟩
  · rw [if_neg q, if_pos rfl, if_pos rfl]
    exact ⟨_, _, _, rfl, rfl, Or.inl ⟨rfl, rfl⟩⟩
/-- the contour of a point -/
noncomputable def ctL (e : Nat → Int32) (x : Int32) (p1 : Int32) : Option (Int32 ⊕ Int32) :=
  gd (vp_in p1 20) <|
  if x ≤ (e (Int32.toNatClampNeg p1)) then (
    some (.inr p1)
  ) else (
    lz (A := Int32) (p1 + (1 : Int32)) fun v4 =>
    some (.inl v4)
  )
theorem ct_eq {e e' : Nat → Int32} {c n x : Int32} (en : EN e c n) (he : ∀ i, i < c.toNatClampNeg → e' i = e i) (x0 : 0 ≤ x) (x1 : x < n) : ∃ r, wh (ctL e x) 0 = some r ∧ wh (ctL e' x) 0 = some r := by
  obtain ⟨h1, h2, h3, h4, h5, h6, h7, h8⟩ := en
  have cp : 0 < c := by
    by_cases w : c = 0
    · have := h5.mp w; grind
    · grind
  have cp' := (xI_lt (x := 0) (y := c) (by decide) h1).mpr cp
  have z0 : (0 : Int32).toNatClampNeg = 0 := rfl
  have key : ∀ (m : Nat) (i : Int32), 0 ≤ i → i < c → c.toNatClampNeg - i.toNatClampNeg = m → ∃ r, wh (ctL e x) i = some r ∧ wh (ctL e' x) i = some r := by
    intro m
    induction m with
    | zero =>
      intro i i0 i1 q
      have := (xI_lt i0 h1).mpr i1
      omega
    | succ m ih =>
      intro i i0 i1 q
      have v : vp_in i 20 := vp_lt (n := 20) (m := 20) i0 (by grind) rfl
      have i1' := (xI_lt i0 h1).mpr i1
      have ii : (i + 1).toNatClampNeg = i.toNatClampNeg + 1 := xI_succ (m := 20000) i0 (by grind) (by decide)
      by_cases w : x ≤ e i.toNatClampNeg
      · refine ⟨i, ?_, ?_⟩
        · rw [wh_eq]
          unfold ctL
          rw [gd_pos v, if_pos w]
        · rw [wh_eq]
          unfold ctL
          rw [gd_pos v, he _ i1', if_pos w]
      · have nl : i + 1 < c := by
          by_cases u : i + 1 = c
          · have e8 := h8 cp
            rw [← u, ii] at e8
            rw [show i.toNatClampNeg + 1 - 1 = i.toNatClampNeg by omega] at e8
            rw [e8] at w
            grind
          · grind
        obtain ⟨r, r1, r2⟩ := ih (i + 1) (by grind) nl (by omega)
        refine ⟨r, ?_, ?_⟩
        · rw [wh_eq]
          have : ctL e x i = some (.inl (i + 1)) := by
            unfold ctL
            rw [gd_pos v, if_neg w, lz_eq]
          rw [this]
          exact r1
        · rw [wh_eq]
          have : ctL e' x i = some (.inl (i + 1)) := by
            unfold ctL
            rw [gd_pos v, he _ i1', if_neg w, lz_eq]
          rw [this]
          exact r2
  exact key _ 0 (by decide) cp rfl
theorem L_point {hc hm : hH} {x y : Int32} (r : RR hc hm) : ∃ a, f_HH_point x y hc = some a ∧ f_Mo_point x y hm = some a := by
  obtain ⟨_, _, _, _, rm, _⟩ := r
  have iA : isA 9 70 := (od_rf (d := 0) (by decide)).2.2.2.2.1
  have n10 : ¬ (1 : Int32) = 0 := by decide
  have n70 : ¬ (70 : Nat) = 0 := by decide
  unfold f_HH_point f_Mo_point
  rcases rm with ⟨m1, m2⟩ | ⟨m1, m2, mo⟩
  · rw [if_pos m1, if_pos m2]
    exact ⟨_, rfl, rfl⟩
  obtain ⟨⟨o1, o2⟩, o3, o4, o5, _⟩ := mo
  have w : f_HH_within x.toInt64 0 (rdI hc 70 3 - 1).toInt64 = some (if 0 ≤ x ∧ x < rdI hc 70 3 then 1 else 0) := within_0 o3.2.2.1
  rw [m1, m2, if_neg n70, if_neg n10, gd_pos iA, o1, ← wi_in, w, bP_some, bP_some]
  by_cases q : 0 ≤ x ∧ x < rdI hc 70 3
  · have v : vp_in x 100 := vp_lt (n := 100) (m := 100) q.1 (by have := o3.2.2.2.1; grind) rfl
    obtain ⟨c, c1, c2⟩ := ct_eq (e' := fun c => rdI hm 246 c) o3 (fun i hi => o5 i hi) q.1 q.2
    obtain ⟨p1, p2, p3, p4⟩ := o4 x.toNatClampNeg ((xI_lt q.1 o3.2.2.1).mpr q.2)
    have eC : f_Ou_contourOf 70 x hc = some c := by
      unfold f_Ou_contourOf
      rw [rf70.2.2.2.1]
      change bP (wh (ctL (fun c => rdI hc 74 c) x) 0) _ = _
      rw [c1]
      rfl
    rw [if_pos q, if_neg n10, if_neg n10]
    change ∃ a, _ ∧ bP (wh (ctL (fun c => rdI hm 246 c) x) 0) _ = some a
    rw [c2, bP_some, gd_pos v, gd_pos v, gd_pos v, gd_pos v, gd_pos v, gd_pos v, rf70.1, rf70.2.1, rf70.2.2.1, eC, p1, p2, p3, bP_some]
    by_cases y0 : y = 0
    · simp only [if_pos y0]; exact ⟨_, rfl, rfl⟩
    simp only [if_neg y0]
    by_cases y1 : y = 1
    · simp only [if_pos y1]; exact ⟨_, rfl, rfl⟩
    simp only [if_neg y1]
    by_cases y2 : y = 2
    · simp only [if_pos y2]
      split
      · exact ⟨_, rfl, rfl⟩
      · exact ⟨_, rfl, rfl⟩
    simp only [if_neg y2]
    by_cases y3 : y = 3
    · simp only [if_pos y3]; exact ⟨_, rfl, rfl⟩
    simp only [if_neg y3]
    exact ⟨_, rfl, rfl⟩
  · rw [if_neg q, if_pos rfl, if_pos rfl]
    exact ⟨_, rfl, rfl⟩
theorem isG_eq {hc : hH} {x : Int32} (h : 0 ≤ rdI hc 4 8) : f_HH_isGlyph x hc = some (if 0 ≤ x ∧ x < rdI hc 4 8 then 1 else 0) := by
  unfold f_HH_isGlyph
  have w : f_HH_within x.toInt64 0 (rdI hc 4 8 - 1).toInt64 = some (if 0 ≤ x ∧ x < rdI hc 4 8 then 1 else 0) := within_0 h
  rw [w, bP_some, gd_pos (by split; exact Or.inr rfl; exact Or.inl rfl)]
theorem L_glyphOf {hc hm : hH} {x : Int32} (r : RR hc hm) : ∃ a, f_HH_glyphOf x hc = some a ∧ f_Mo_glyphOf x hm = some a := by
  obtain ⟨_, rl, _⟩ := r
  have n10 : ¬ (1 : Int32) = 0 := by decide
  have w : f_HH_within x.toInt64 0 1114111 = some (if 0 ≤ x ∧ x ≤ 1114111 then 1 else 0) := wi_lit (a := 0) (b := 1114111)
  unfold f_HH_glyphOf f_Mo_glyphOf
  rcases rl with ⟨l1, l2, _⟩ | ⟨l1, l2, _, _, km, _⟩
  · rw [if_pos l1, if_pos l2]
    exact ⟨_, rfl, rfl⟩
  · rw [if_neg l1, if_neg l2, ← wi_in, w, bP_some, bP_some]
    by_cases q : 0 ≤ x ∧ x ≤ 1114111
    · obtain ⟨v, v1, v2, _⟩ := km.1 x q.1 q.2
      rw [if_pos q, if_neg n10, if_neg n10, v1, v2]
      exact ⟨_, rfl, rfl⟩
    · rw [if_neg q, if_pos rfl, if_pos rfl]
      exact ⟨_, rfl, rfl⟩
theorem L_kern {hc hm : hH} {x y : Int32} (r : RR hc hm) : ∃ a, f_HH_kern x y hc = some a ∧ f_Mo_kern x y hm = some a := by
  obtain ⟨_, rl, _⟩ := r
  have n10 : ¬ (1 : Int32) = 0 := by decide
  unfold f_HH_kern f_Mo_kern
  rcases rl with ⟨l1, l2, _⟩ | ⟨l1, l2, _, fn, km, _⟩
  · rw [if_pos l1, if_pos l2]
    exact ⟨_, rfl, rfl⟩
  · obtain ⟨g1, g2, g3⟩ := fn.1.2.1
    have g0 : 0 ≤ rdI hc 4 8 := by grind
    have w : ∀ x : Int32, f_Mo_in x.toInt64 0 (rdI hc 4 8 - 1).toInt64 = some (if 0 ≤ x ∧ x < rdI hc 4 8 then 1 else 0) := fun x => within_0 g0
    rw [if_neg l1, if_neg l2, isG_eq g0, isG_eq g0, g1, w, w]
    simp only [bP_some]
    by_cases q : 0 ≤ x ∧ x < rdI hc 4 8
    · rw [if_pos q, if_neg n10, if_neg n10]
      by_cases p : 0 ≤ y ∧ y < rdI hc 4 8
      · obtain ⟨v, v1, v2⟩ := km.2 x y q.1 q.2 p.1 p.2
        rw [if_pos p, if_neg n10, if_neg n10, v1, v2]
        exact ⟨_, rfl, rfl⟩
      · rw [if_neg p, if_pos rfl, if_pos rfl]
        exact ⟨_, rfl, rfl⟩
    · rw [if_neg q, if_pos rfl, if_pos rfl]
      exact ⟨_, rfl, rfl⟩
