/-! LAYER 3BN: the relation of the two heaps, and the small laws -/
theorem wi_lit {x a b : Int32} : f_HH_within x.toInt64 a.toInt64 b.toInt64 = some (if a ≤ x ∧ x ≤ b then 1 else 0) := by
  rw [f_HH_within_eq]
  simp only [toL_le]
theorem in_lit {x a b : Int32} : f_Mo_in x.toInt64 a.toInt64 b.toInt64 = some (if a ≤ x ∧ x ≤ b then 1 else 0) := wi_lit
/-- the raw bytes -/
def RW (hc hm : hH) : Prop := rdI hm 192 1 = rdI hc 2 1 ∧ (0 ≤ rdI hc 2 1 ∧ rdI hc 2 1 ≤ 12000) ∧ ∀ i, i < (rdI hc 2 1).toNatClampNeg → rdI hm 193 i = rdI hc 3 i
/-- the map and the kerning -/
def KM (hc hm : hH) : Prop := (∀ x, 0 ≤ x → x ≤ 1114111 → ∃ v, f_Fo_glyphOf x hc = some v ∧ f_Mo_glyphAt x hm = some v ∧ 0 ≤ v ∧ v < rdI hc 4 8) ∧ (∀ a b, 0 ≤ a → a < rdI hc 4 8 → 0 ≤ b → b < rdI hc 4 8 → ∃ v, f_Fo_kern a b hc = some v ∧ f_Mo_kernOf a b hm = some v)
/-- what a font tells -/
def FI (hc hm : hH) : Prop := (rdI hm 192 20 = rdI hc 4 16 ∧ rdI hm 192 11 = rdI hc 4 7 ∧ rdI hm 192 22 = rdI hc 4 21 ∧ rdI hm 192 24 = rdI hc 4 23 ∧ rdI hm 192 23 = rdI hc 4 22) ∧ (rdI hm 192 5 = rdI hc 4 1 ∧ 1 ≤ rdI hc 4 1 ∧ rdI hc 4 1 ≤ 16) ∧ ∀ i, i < (rdI hc 4 1).toNatClampNeg → rdL hc 7 i = (rdI hm 195 i).toInt64 &&& 4294967295 ∧ rdL hm 196 i = rdL hc 8 i ∧ rdL hm 197 i = rdL hc 9 i ∧ rdL hm 198 i = rdL hc 10 i
/-- a font that is loaded -/
def LD (hc hm : hH) : Prop := FS hc hm ∧ FN hc hm ∧ KM hc hm ∧ FI hc hm
def RL (hc hm : hH) : Prop := (rdI hc 1 2 = 0 ∧ rdI hm 192 4 = 0 ∧ rdI hc 1 6 = 0) ∨ (rdI hc 1 2 ≠ 0 ∧ rdI hm 192 4 ≠ 0 ∧ LD hc hm)
def RS (hc hm : hH) : Prop := (rdI hc 1 6 = 0 ∧ rdI hm 192 107 = 0 ∧ rdP hc 1 7 = 0) ∨ (rdI hc 1 6 ≠ 0 ∧ rdI hm 192 107 ≠ 0 ∧ SZ hc hm)
def RM (hc hm : hH) : Prop := (rdP hc 1 7 = 0 ∧ rdI hm 192 108 = 0) ∨ (rdP hc 1 7 = 70 ∧ rdI hm 192 108 = 1 ∧ MO hc hm)
/-- the canvas -/
def RV (hc hm : hH) : Prop := rdI hm 192 141 = rdI hc 1 14 ∧ rdI hm 192 142 = rdI hc 1 15 ∧ (0 ≤ rdI hc 1 14 ∧ rdI hc 1 14 ≤ 128) ∧ (0 ≤ rdI hc 1 15 ∧ rdI hc 1 15 ≤ 128) ∧ ∀ i, i < 16384 → rdI hm 250 i = rdI hc 190 i
/-- the text -/
def RT (hc hm : hH) : Prop := rdI hm 192 144 = rdI hc 1 18 ∧ (0 ≤ rdI hc 1 18 ∧ rdI hc 1 18 ≤ 100) ∧ ∀ i, i < (rdI hc 1 18).toNatClampNeg → rdI hm 251 i = rdI hc 191 i ∧ 0 ≤ rdI hc 191 i ∧ rdI hc 191 i ≤ 1114111
def RH (hc hm : hH) : Prop := rdI hm 192 57 = rdI hc 22 6 ∧ 0 ≤ rdI hc 22 6 ∧ rdI hc 22 6 ≤ 256
/-- both houses -/
def RR (hc hm : hH) : Prop := RW hc hm ∧ RL hc hm ∧ RS hc hm ∧ rdI hm 192 62 = rdI hc 1 6 ∧ RM hc hm ∧ TD hc hm ∧ RH hc hm ∧ RV hc hm ∧ RT hc hm
theorem L_font {hc hm : hH} {x : Int32} (r : RR hc hm) : ∃ a, f_HH_font x hc = some a ∧ f_Mo_font x hm = some a := by
  obtain ⟨_, rl, _⟩ := r
  unfold f_HH_font f_Mo_font
  rcases rl with ⟨l1, l2, _⟩ | ⟨l1, l2, fs, fn, _, fi⟩
  · rw [if_pos l1, if_pos l2]
    exact ⟨_, rfl, rfl⟩
  · have w : f_HH_within x.toInt64 0 9 = some (if 0 ≤ x ∧ x ≤ 9 then 1 else 0) := wi_lit (a := 0) (b := 9)
    obtain ⟨⟨f1, f2, f3, f4, f5⟩, ⟨f6, _, _⟩, _⟩ := fi
    rw [if_neg l1, if_neg l2, w, bP_some, fs.2.1.1, fn.1.2.1.1, f1, f2, f6, f3, f4, fs.2.2.2.2.2.2.2.2.1.1, f5, fs.1.1]
    unfold f_Fo_what
    by_cases x0 : x = 0
    · subst x0
      simp +decide only [reduceIte, bP_some]
      exact ⟨_, rfl, rfl⟩
    by_cases x1 : x = 1
    · subst x1
      simp +decide only [reduceIte, bP_some]
      exact ⟨_, rfl, rfl⟩
    by_cases x2 : x = 2
    · subst x2
      simp +decide only [reduceIte, bP_some]
      exact ⟨_, rfl, rfl⟩
    by_cases x3 : x = 3
    · subst x3
      simp +decide only [reduceIte, bP_some]
      exact ⟨_, rfl, rfl⟩
    by_cases x4 : x = 4
    · subst x4
      simp +decide only [reduceIte, bP_some]
      exact ⟨_, rfl, rfl⟩
    by_cases x5 : x = 5
    · subst x5
      simp +decide only [reduceIte, bP_some]
      exact ⟨_, rfl, rfl⟩
    by_cases x6 : x = 6
    · subst x6
      simp +decide only [reduceIte, bP_some]
      exact ⟨_, rfl, rfl⟩
    by_cases x7 : x = 7
    · subst x7
      simp +decide only [reduceIte, bP_some]
      exact ⟨_, rfl, rfl⟩
    by_cases x8 : x = 8
    · subst x8
      simp +decide only [reduceIte, bP_some]
      exact ⟨_, rfl, rfl⟩
    by_cases x9 : x = 9
    · subst x9
      simp +decide only [reduceIte, bP_some]
      exact ⟨_, rfl, rfl⟩
    have nx : ¬ (0 ≤ x ∧ x ≤ 9) := by grind
    rw [if_neg nx, if_pos rfl, if_neg x0, if_neg x1, if_neg x2, if_neg x3, if_neg x4, if_neg x5, if_neg x6, if_neg x7, if_neg x8, if_neg x9]
    exact ⟨_, rfl, rfl⟩
theorem L_table {hc hm : hH} {x y : Int32} (r : RR hc hm) : ∃ a, f_HH_table x y hc = some a ∧ f_Mo_table x y hm = some a := by
  obtain ⟨_, rl, _⟩ := r
  unfold f_HH_table f_Mo_table
  rcases rl with ⟨l1, l2, _⟩ | ⟨l1, l2, _, _, _, fi⟩
  · rw [if_pos l1, if_pos l2]
    exact ⟨_, rfl, rfl⟩
  · obtain ⟨_, ⟨f6, f7, f8⟩, ft⟩ := fi
    have w : f_HH_within x.toInt64 0 (rdI hc 4 1 - 1).toInt64 = some (if 0 ≤ x ∧ x < rdI hc 4 1 then 1 else 0) := within_0 (by grind)
    rw [if_neg l1, if_neg l2, f6, ← wi_in, w, bP_some, bP_some]
    by_cases q : 0 ≤ x ∧ x < rdI hc 4 1
    · have v : vp_in x 16 := vp_lt (n := 16) (m := 16) q.1 (by grind) rfl
      have n10 : ¬ (1 : Int32) = 0 := by decide
      obtain ⟨t1, t2, t3, t4⟩ := ft x.toNatClampNeg ((xI_lt q.1 (by grind)).mpr q.2)
      rw [if_pos q, if_neg n10, if_neg n10, gd_pos v, gd_pos v, gd_pos v, gd_pos v, gd_pos v, gd_pos v, gd_pos v, gd_pos v, t1, t2, t3, t4]
      by_cases y0 : y = 0
      · simp only [if_pos y0]; exact ⟨_, rfl, rfl⟩
      simp only [if_neg y0]
      by_cases y1 : y = 1
      · simp only [if_pos y1]; exact ⟨_, rfl, rfl⟩
      simp only [if_neg y1]
      by_cases y2 : y = 2
      · simp only [if_pos y2]; exact ⟨_, rfl, rfl⟩
      simp only [if_neg y2]
      by_cases y3 : y = 3
      · simp only [if_pos y3]; exact ⟨_, rfl, rfl⟩
      simp only [if_neg y3]
      exact ⟨_, rfl, rfl⟩
    · rw [if_neg q, if_pos rfl, if_pos rfl]
      exact ⟨_, rfl, rfl⟩
theorem L_told {hc hm : hH} {x : Int32} (r : RR hc hm) : ∃ a, f_HH_told x hc = some a ∧ f_Mo_told x hm = some a := by
  obtain ⟨_, _, rs, e62, rm, ⟨t1, t2, t3, t4⟩, ⟨rh, _⟩, _⟩ := r
  have iA : isA 9 70 := (od_rf (d := 0) (by decide)).2.2.2.2.1
  have n10 : ¬ (1 : Int32) = 0 := by decide
  unfold f_HH_told f_Mo_told
  rw [t1, t2, t3, t4, e62, rh]
  by_cases x0 : x = 0
  · simp only [if_pos x0]
    exact ⟨_, rfl, rfl⟩
  simp only [if_neg x0]
  by_cases x1 : x = 1
  · simp only [if_pos x1]
    exact ⟨_, rfl, rfl⟩
  simp only [if_neg x1]
  by_cases x2 : x = 2
  · simp only [if_pos x2]
    exact ⟨_, rfl, rfl⟩
  simp only [if_neg x2]
  by_cases x3 : x = 3
  · simp only [if_pos x3]
    exact ⟨_, rfl, rfl⟩
  simp only [if_neg x3]
  by_cases x4 : x = 4
  · simp only [if_pos x4]
    rcases rm with ⟨m1, m2⟩ | ⟨m1, m2, mo⟩
    · rw [if_pos m1, if_pos m2]; exact ⟨_, rfl, rfl⟩
    · rw [if_neg (by rw [m1]; decide), m2, if_neg n10, mo.2.2.2.2.2.1]; exact ⟨_, rfl, rfl⟩
  simp only [if_neg x4]
  by_cases x5 : x = 5
  · simp only [if_pos x5]
    rcases rm with ⟨m1, m2⟩ | ⟨m1, m2, mo⟩
    · rw [if_pos m1, if_pos m2]; exact ⟨_, rfl, rfl⟩
    · rw [m1, if_neg (by decide), gd_pos iA, m2, if_neg n10, mo.1.2]; exact ⟨_, rfl, rfl⟩
  simp only [if_neg x5]
  by_cases x6 : x = 6
  · simp only [if_pos x6]
    exact ⟨_, rfl, rfl⟩
  simp only [if_neg x6]
  by_cases x7 : x = 7
  · simp only [if_pos x7]
    rcases rs with ⟨s1, s2, _⟩ | ⟨s1, s2, sz⟩
    · rw [if_pos s1, if_pos s2]; exact ⟨_, rfl, rfl⟩
    · rw [if_neg s1, if_neg s2]
      rcases rm with ⟨m1, m2⟩ | ⟨m1, m2, mo⟩
      · rw [if_pos m1, if_pos m2, sz.2.2.2.2.1 7 (by decide)]; exact ⟨_, rfl, rfl⟩
      · rw [if_neg (by rw [m1]; decide), m2, if_neg n10, mo.2.2.2.2.2.2.1.1]; exact ⟨_, rfl, rfl⟩
  simp only [if_neg x7]
  by_cases x8 : x = 8
  · simp only [if_pos x8]
    rcases rs with ⟨s1, s2, _⟩ | ⟨s1, s2, sz⟩
    · rw [if_pos s1, if_pos s2]; exact ⟨_, rfl, rfl⟩
    · rw [if_neg s1, if_neg s2]
      rcases rm with ⟨m1, m2⟩ | ⟨m1, m2, mo⟩
      · rw [if_pos m1, if_pos m2, sz.2.2.2.2.1 8 (by decide)]; exact ⟨_, rfl, rfl⟩
      · rw [if_neg (by rw [m1]; decide), m2, if_neg n10, mo.2.2.2.2.2.2.1.2]; exact ⟨_, rfl, rfl⟩
  simp only [if_neg x8]
  by_cases x9 : x = 9
  · simp only [if_pos x9]
    exact ⟨_, rfl, rfl⟩
  simp only [if_neg x9]
  exact ⟨_, rfl, rfl⟩
theorem L_wipe {hc hm : hH} (r : RR hc hm) : ∃ a g m, f_HH_wipe hc = some (a, g) ∧ f_Mo_wipe hm = some (a, m) ∧ g = wrI hc 2 1 0 ∧ m = wrI hm 192 1 0 := by
  refine ⟨rdI hc 2 1, _, _, rfl, ?_, rfl, rfl⟩
  show some (rdI hm 192 1, wrI hm 192 1 0) = _
  rw [r.1.1]
theorem L_pixel {hc hm : hH} {x y : Int32} (r : RR hc hm) : ∃ a, f_HH_pixel x y hc = some a ∧ f_Mo_pixel x y hm = some a := by
  obtain ⟨_, _, _, _, _, _, _, ⟨v1, v2, v3, v4, v5⟩, _⟩ := r
  have n10 : ¬ (1 : Int32) = 0 := by decide
  have wx : f_HH_within x.toInt64 0 (rdI hc 1 14 - 1).toInt64 = some (if 0 ≤ x ∧ x < rdI hc 1 14 then 1 else 0) := within_0 v3.1
  have wy : f_HH_within y.toInt64 0 (rdI hc 1 15 - 1).toInt64 = some (if 0 ≤ y ∧ y < rdI hc 1 15 then 1 else 0) := within_0 v4.1
  unfold f_HH_pixel f_Mo_pixel
  rw [v1, v2, ← wi_in, ← wi_in, wx, wy]
  simp only [bP_some]
  by_cases q : 0 ≤ x ∧ x < rdI hc 1 14
  · rw [if_pos q, if_neg n10, if_neg n10]
    by_cases p : 0 ≤ y ∧ y < rdI hc 1 15
    · have l0 : 0 ≤ 128 * y + x := by grind
      have l1 : 128 * y + x < 16384 := by grind
      have v : vp_in (128 * y + x) 16384 := vp_lt (n := 16384) (m := 16384) l0 l1 rfl
      have e : (16384 : Int32).toNatClampNeg = 16384 := rfl
      have l2 := (xI_lt (y := 16384) l0 (by decide)).mpr l1
      rw [if_pos p, if_neg n10, if_neg n10, gd_pos v, gd_pos v, v5 _ (by omega)]
      split
      · exact ⟨_, rfl, rfl⟩
      · exact ⟨_, rfl, rfl⟩
    · rw [if_neg p, if_pos rfl, if_pos rfl]
      exact ⟨_, rfl, rfl⟩
  · rw [if_neg q, if_pos rfl, if_pos rfl]
    exact ⟨_, rfl, rfl⟩
theorem L_type {hc hm : hH} {x : Int32} (r : RR hc hm) : ∃ a g m, f_HH_type x hc = some (a, g) ∧ f_Mo_type x hm = some (a, m) ∧ ((g = hc ∧ m = hm) ∨ (g = wrI (wrI hc 191 (rdI hc 1 18).toNatClampNeg x) 1 18 (rdI hc 1 18 + 1) ∧ m = wrI (wrI hm 251 (rdI hc 1 18).toNatClampNeg x) 192 144 (rdI hc 1 18 + 1) ∧ rdI hc 1 18 ≠ 100 ∧ 0 ≤ x ∧ x ≤ 1114111)) := by
  obtain ⟨_, _, _, _, _, _, _, _, ⟨t1, t2, t3⟩⟩ := r
  have n10 : ¬ (1 : Int32) = 0 := by decide
  have w : f_HH_within x.toInt64 0 1114111 = some (if 0 ≤ x ∧ x ≤ 1114111 then 1 else 0) := wi_lit (a := 0) (b := 1114111)
  unfold f_HH_type f_Mo_type
  rw [← wi_in, w, bP_some, bP_some, t1]
  by_cases q : 0 ≤ x ∧ x ≤ 1114111
  · rw [if_pos q, if_neg n10, if_neg n10]
    by_cases p : rdI hc 1 18 = 100
    · rw [if_pos p, if_pos p]
      exact ⟨_, _, _, rfl, rfl, Or.inl ⟨rfl, rfl⟩⟩
    · have v : vp_in (rdI hc 1 18) 100 := vp_lt (n := 100) (m := 100) t2.1 (by grind) rfl
      have r1 : rdI (wrI hc 191 (rdI hc 1 18).toNatClampNeg x) 1 18 = rdI hc 1 18 := rdI_o (by decide)
      have r2 : rdI (wrI hm 251 (rdI hc 1 18).toNatClampNeg x) 192 144 = rdI hc 1 18 := (rdI_o (by decide)).trans t1
      rw [if_neg p, if_neg p, gd_pos v, gd_pos v, lz_eq, r1, lz_eq, lz_eq, r2, lz_eq, rdI_wrI, if_pos ⟨rfl, rfl⟩, rdI_wrI, if_pos ⟨rfl, rfl⟩]
      exact ⟨_, _, _, rfl, rfl, Or.inr ⟨rfl, rfl, p, q⟩⟩
  · rw [if_neg q, if_pos rfl, if_pos rfl]
    exact ⟨_, _, _, rfl, rfl, Or.inl ⟨rfl, rfl⟩⟩
