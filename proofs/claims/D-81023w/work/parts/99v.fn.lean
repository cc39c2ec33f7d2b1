/-! LAYER 3BD: the font as the making wants it -/
/-- the model's cells of the font are as they were -/
def MT (h g : hH) : Prop := (∀ k, k ≤ 25 → rdI g 192 k = rdI h 192 k) ∧ (∀ k, rdI g 194 k = rdI h 194 k) ∧ (∀ k, rdI g 195 k = rdI h 195 k) ∧ (∀ o k, rdL g o k = rdL h o k)
def CT (h g : hH) : Prop := (∀ k, rdI g 4 k = rdI h 4 k) ∧ (∀ k, rdI g 5 k = rdI h 5 k) ∧ (∀ k, rdI g 6 k = rdI h 6 k)
theorem MT_u1 {h g : hH} (f : MT h g) (p : Int32) : f_Mo_u1 p g = f_Mo_u1 p h := by
  unfold f_Mo_u1
  rw [f.1 3 (by decide), f.2.1]
theorem MT_u2 {h g : hH} (f : MT h g) (p : Int32) : f_Mo_u2 p g = f_Mo_u2 p h := by
  unfold f_Mo_u2
  rw [MT_u1 f, MT_u1 f]
theorem MT_u4 {h g : hH} (f : MT h g) (p : Int32) : f_Mo_u4 p g = f_Mo_u4 p h := by
  unfold f_Mo_u4
  rw [MT_u2 f, MT_u2 f]
theorem MT_s2 {h g : hH} (f : MT h g) (p : Int32) : f_Mo_s2 p g = f_Mo_s2 p h := by
  unfold f_Mo_s2
  rw [MT_u2 f]
theorem MT_begin {h g : hH} (f : MT h g) (t : Int32) : f_Mo_beginOf t g = f_Mo_beginOf t h := beginOf_loc (f.1 5 (by decide)) f.2.2.1 (fun k => f.2.2.2 197 k)
theorem MT_loca {h g : hH} (f : MT h g) (i : Int32) : f_Mo_loca i g = f_Mo_loca i h := by
  unfold f_Mo_loca
  rw [MT_begin f, f.1 11 (by decide)]
  simp only [MT_u2 f, MT_u4 f]
theorem MT_GB {h g : hH} {i a b : Int32} (f : MT h g) (k : GB h i a b) : GB g i a b := by
  obtain ⟨B, a', b', k1, k2, k3, k4, k5⟩ := k
  exact ⟨B, a', b', by rw [MT_begin f]; exact k1, by rw [MT_loca f]; exact k2, by rw [MT_loca f]; exact k3, k4, k5⟩
theorem MT_bearing {h g : hH} (f : MT h g) (i : Int32) : f_Mo_bearingOf i g = f_Mo_bearingOf i h := by
  unfold f_Mo_bearingOf
  rw [MT_begin f, f.1 20 (by decide)]
  simp only [MT_s2 f]
theorem MT_advance {h g : hH} (f : MT h g) (i : Int32) : f_Mo_advanceOf i g = f_Mo_advanceOf i h := by
  unfold f_Mo_advanceOf
  rw [f.1 20 (by decide), MT_begin f]
  simp only [MT_u2 f]
theorem MT_rfl {h : hH} : MT h h := ⟨fun _ _ => rfl, fun _ => rfl, fun _ => rfl, fun _ _ => rfl⟩
theorem MT_t {h g g' : hH} (f : MT h g) (f' : MT g g') : MT h g' := ⟨fun k w => (f'.1 k w).trans (f.1 k w), fun k => (f'.2.1 k).trans (f.2.1 k), fun k => (f'.2.2.1 k).trans (f.2.2.1 k), fun o k => (f'.2.2.2 o k).trans (f.2.2.2 o k)⟩
theorem CT_t {h g g' : hH} (f : CT h g) (f' : CT g g') : CT h g' := ⟨fun k => (f'.1 k).trans (f.1 k), fun k => (f'.2.1 k).trans (f.2.1 k), fun k => (f'.2.2 k).trans (f.2.2 k)⟩
theorem MT_N {h g : hH} (f : FrN h g) : MT h g := ⟨fun k w => f.1 192 k (by omega) (by omega), fun k => f.1 194 k (by omega) (by omega), fun k => f.1 195 k (by omega) (by omega), f.2.2⟩
theorem MT_M {d : Nat} {h g : hH} (f : FrM d h g) : MT h g := ⟨fun k w => f.1 192 k ⟨by unfold mW; simp; omega, by omega⟩, fun k => f.1 194 k ⟨rfl, by omega⟩, fun k => f.1 195 k ⟨rfl, by omega⟩, f.2.1⟩
theorem CT_C {d : Nat} {h g : hH} (f : FrC d h g) : CT h g := ⟨fun k => f.1 4 k (Or.inl (by decide)), fun k => f.1 5 k (Or.inl (by decide)), fun k => f.1 6 k (Or.inl (by decide))⟩
theorem CT_u1 {h g : hH} (f : CT h g) (p : Int32) : f_By_u1 5 p g = f_By_u1 5 p h := by
  unfold f_By_u1
  rw [show rf 5 0 = 6 from rfl, f.2.2]
theorem CT_u2 {h g : hH} (f : CT h g) (p : Int32) : f_By_u2 5 p g = f_By_u2 5 p h := by
  unfold f_By_u2
  rw [CT_u1 f, CT_u1 f]
theorem CT_u4 {h g : hH} (f : CT h g) (p : Int32) : f_By_u4 5 p g = f_By_u4 5 p h := by
  unfold f_By_u4
  rw [CT_u2 f, CT_u2 f]
theorem CT_s2 {h g : hH} (f : CT h g) (p : Int32) : f_By_s2 5 p g = f_By_s2 5 p h := by
  unfold f_By_s2
  rw [CT_u2 f]
theorem CT_loca {h g : hH} (f : CT h g) (i : Int32) : f_Fo_locaOf i g = f_Fo_locaOf i h := by
  unfold f_Fo_locaOf
  rw [f.1 7, f.1 18]
  simp only [CT_u2 f, CT_u4 f]
theorem CT_bearing {h g : hH} (f : CT h g) (i : Int32) : f_Fo_bearing i g = f_Fo_bearing i h := by
  unfold f_Fo_bearing
  rw [f.1 16, f.1 17]
  simp only [CT_s2 f]
theorem CT_advance {h g : hH} (f : CT h g) (i : Int32) : f_Fo_advance i g = f_Fo_advance i h := by
  unfold f_Fo_advance
  rw [f.1 16, f.1 17]
  simp only [CT_u2 f]
theorem CT_size {h g : hH} (f : CT h g) (i : Int32) : f_Fo_sizeOf i g = f_Fo_sizeOf i h := by
  unfold f_Fo_sizeOf
  rw [CT_loca f, CT_loca f]
theorem BY_tr {c0 m0 c1 m1 : hH} (ct : CT c0 c1) (mt : MT m0 m1) (h : BY c0 m0) : BY c1 m1 := by
  refine ⟨?_, ?_, ?_, ?_⟩
  · rw [mt.1 3 (by decide), ct.2.1]; exact h.1
  · rw [ct.2.1]; exact h.2.1
  · rw [ct.2.1]; exact h.2.2.1
  · intro i hi
    rw [ct.2.1] at hi
    rw [mt.2.1, ct.2.2]
    exact h.2.2.2 i hi
theorem BR_tr {c0 c1 : hH} (ct : CT c0 c1) (h : BR c0) : BR c1 := by
  intro i hi
  rw [ct.2.1] at hi
  rw [ct.2.2]
  exact h i hi
/-- where a glyph lies -/
def FNl (hc hm : hH) (g : Int32) (la lb : Int64) : Prop := f_Fo_locaOf g hc = some la ∧ f_Fo_locaOf (g + 1) hc = some lb ∧ GB hm g (rdI hc 4 19 + la.toInt32) (rdI hc 4 19 + lb.toInt32) ∧ 0 ≤ rdI hc 4 19 + la.toInt32 ∧ rdI hc 4 19 + la.toInt32 ≤ rdI hc 4 19 + lb.toInt32 ∧ rdI hc 4 19 + lb.toInt32 ≤ rdI hc 5 1
/-- its metrics -/
def FNm (hc hm : hH) (g : Int32) : Prop := (∃ v, f_Fo_bearing g hc = some v ∧ f_Mo_bearingOf g hm = some v ∧ -32768 ≤ v ∧ v ≤ 32767) ∧ (∃ v, f_Fo_advance g hc = some v ∧ f_Mo_advanceOf g hm = some v)
/-- a glyph that is in order, of at most this height -/
def GH (hm : hH) : Nat → Int32 → Prop
  | 0 => fun g => ∃ m, f_Mo_isGlyph g hm = some (1, m) ∧ rdI m 192 30 ≤ 0
  | n + 1 => fun g => ∃ m, f_Mo_isGlyph g hm = some (1, m) ∧ ∀ j, j < (rdI m 192 30).toNatClampNeg → GH hm n (rdI m 204 j)
def FG (hc hm : hH) : Prop := BR hc ∧ (rdI hm 192 12 = rdI hc 4 8 ∧ 1 ≤ rdI hc 4 8 ∧ rdI hc 4 8 ≤ 200) ∧ ∀ g, 0 ≤ g → g < rdI hc 4 8 → ∃ la lb, FNl hc hm g la lb
def FN (hc hm : hH) : Prop := FG hc hm ∧ ∀ g, 0 ≤ g → g < rdI hc 4 8 → FNm hc hm g ∧ GH hm 5 g
theorem FNl_tr {c0 m0 c1 m1 : hH} {g : Int32} {la lb : Int64} (ct : CT c0 c1) (mt : MT m0 m1) (h : FNl c0 m0 g la lb) : FNl c1 m1 g la lb := by
  obtain ⟨a1, a2, a3, a4, a5, a6⟩ := h
  unfold FNl
  rw [CT_loca ct, CT_loca ct, ct.1, ct.2.1]
  exact ⟨a1, a2, MT_GB mt a3, a4, a5, a6⟩
theorem FNm_tr {c0 m0 c1 m1 : hH} {g : Int32} (ct : CT c0 c1) (mt : MT m0 m1) (h : FNm c0 m0 g) : FNm c1 m1 g := by
  unfold FNm
  rw [CT_bearing ct, CT_advance ct, MT_bearing mt, MT_advance mt]
  exact h
theorem FG_tr {c0 m0 c1 m1 : hH} (ct : CT c0 c1) (mt : MT m0 m1) (h : FG c0 m0) : FG c1 m1 := by
  obtain ⟨h1, h2, h3⟩ := h
  refine ⟨BR_tr ct h1, ?_, fun g g0 g1 => ?_⟩
  · rw [ct.1, mt.1 12 (by decide)]; exact h2
  · rw [ct.1] at g1
    obtain ⟨la, lb, q⟩ := h3 g g0 g1
    exact ⟨la, lb, FNl_tr ct mt q⟩
/-- a glyph read at a known heap of the component, beside any heap of the model -/
theorem rd_at {z : Nat} {hc hm : hH} {g : Int32} {la lb : Int64} {y : Int32 × hH} (hz : isGl z) (hb : BY hc hm) (fg : FG hc hm) (l : FNl hc hm g la lb) (ex : f_Gl_read z 5 (rdI hc 4 19 + la.toInt32) (rdI hc 4 19 + lb.toInt32) (rdI hc 4 8) hc = some y) : ∃ m, f_Mo_isGlyph g hm = some (y.1, m) ∧ FrN hm m ∧ FrG z (wrP hc z 15 5) y.2 ∧ (y.1 = 0 ∨ (y.1 = 1 ∧ GL z (rdI hc 4 8) (rdI hc 4 19 + lb.toInt32) y.2 m ∧ rdI y.2 z 1 = lfN hc (rdI hc 4 19 + la.toInt32) (rdI hc 4 19 + lb.toInt32) ∧ rdI m 192 26 = rdI hc 4 19 + la.toInt32 ∧ rdI m 192 27 = rdI hc 4 19 + lb.toInt32)) := by
  obtain ⟨_, _, a3, a4, a5, a6⟩ := l
  obtain ⟨y', w, ey, ew, r1, r2, r3, r4⟩ := L_read hz hb fg.1 fg.2.1.1 a3 a4 a5 a6
  have e : y = y' := Option.some.inj (ex.symm.trans ey)
  subst e
  refine ⟨w.2, ?_, r3, r2, r4⟩
  rw [ew, ← r1]
theorem rd_ex {z : Nat} {hc hm : hH} {g : Int32} {la lb : Int64} (hz : isGl z) (hb : BY hc hm) (fg : FG hc hm) (l : FNl hc hm g la lb) : ∃ y, f_Gl_read z 5 (rdI hc 4 19 + la.toInt32) (rdI hc 4 19 + lb.toInt32) (rdI hc 4 8) hc = some y := by
  obtain ⟨_, _, a3, a4, a5, a6⟩ := l
  obtain ⟨y', w, ey, ew, r⟩ := L_read hz hb fg.1 fg.2.1.1 a3 a4 a5 a6
  exact ⟨y', ey⟩
theorem GL_parts {z : Nat} {gl en : Int32} {y m : hH} (h : GL z gl en y m) : rdI m 192 30 = rdI y z 9 ∧ ∀ j, j < (rdI y z 9).toNatClampNeg → rdI m 204 j = rdI y (z + 6) j ∧ 0 ≤ rdI y (z + 6) j ∧ rdI y (z + 6) j < gl := by
  obtain ⟨⟨_, _, e⟩, _, h⟩ := h
  refine ⟨e, fun j hj => ?_⟩
  rcases h with ⟨_, _, _, pa, _⟩ | ⟨k, _⟩
  · obtain ⟨_, b, c, _⟩ := pa j hj
    exact ⟨b, c⟩
  · rw [k] at hj
    exact absurd hj (Nat.not_lt_zero _)
theorem rd_same {c0 m0 m1 a : hH} {g : Int32} (hb : BY c0 m0) (fg : FG c0 m0) (mt : MT m0 m1) (g0 : 0 ≤ g) (g1 : g < rdI c0 4 8) (e : f_Mo_isGlyph g m0 = some (1, a)) : ∃ b, f_Mo_isGlyph g m1 = some (1, b) ∧ rdI b 192 30 = rdI a 192 30 ∧ ∀ j, j < (rdI a 192 30).toNatClampNeg → rdI b 204 j = rdI a 204 j ∧ 0 ≤ rdI a 204 j ∧ rdI a 204 j < rdI c0 4 8 := by
  have ct : CT c0 c0 := ⟨fun _ => rfl, fun _ => rfl, fun _ => rfl⟩
  have hz : isGl 11 := Or.inl rfl
  obtain ⟨la, lb, l⟩ := fg.2.2 g g0 g1
  obtain ⟨y, ey⟩ := rd_ex hz hb fg l
  obtain ⟨u, e0, _, _, q0⟩ := rd_at hz hb fg l ey
  obtain ⟨v, e1, _, _, q1⟩ := rd_at hz (BY_tr ct mt hb) (FG_tr ct mt fg) (FNl_tr ct mt l) ey
  rw [e] at e0
  have e2 := Option.some.inj e0
  have y1 : y.1 = 1 := (congrArg Prod.fst e2).symm
  have ua : u = a := (congrArg Prod.snd e2).symm
  subst ua
  rcases q0 with q | ⟨_, q0, _⟩
  · rw [y1] at q; exact absurd q (by decide)
  rcases q1 with q | ⟨_, q1, _⟩
  · rw [y1] at q; exact absurd q (by decide)
  obtain ⟨p0, r0⟩ := GL_parts q0
  obtain ⟨p1, r1⟩ := GL_parts q1
  rw [y1] at e1
  refine ⟨v, e1, p1.trans p0.symm, fun j hj => ?_⟩
  rw [p0] at hj
  obtain ⟨s1, s2⟩ := r0 j hj
  obtain ⟨t1, _⟩ := r1 j hj
  rw [s1, t1]
  exact ⟨rfl, s2⟩
theorem GH_tr {c0 m0 m1 : hH} (hb : BY c0 m0) (fg : FG c0 m0) (mt : MT m0 m1) : ∀ (n : Nat) (g : Int32), 0 ≤ g → g < rdI c0 4 8 → GH m0 n g → GH m1 n g := by
  intro n
  induction n with
  | zero =>
    intro g g0 g1 h
    obtain ⟨a, e, q⟩ := h
    obtain ⟨b, e', p, _⟩ := rd_same hb fg mt g0 g1 e
    exact ⟨b, e', by rw [p]; exact q⟩
  | succ n ih =>
    intro g g0 g1 h
    obtain ⟨a, e, q⟩ := h
    obtain ⟨b, e', p, r⟩ := rd_same hb fg mt g0 g1 e
    refine ⟨b, e', fun j hj => ?_⟩
    rw [p] at hj
    obtain ⟨r1, r2, r3⟩ := r j hj
    rw [r1]
    exact ih _ r2 r3 (q j hj)
theorem FN_tr {c0 m0 c1 m1 : hH} (ct : CT c0 c1) (mt : MT m0 m1) (hb : BY c0 m0) (h : FN c0 m0) : FN c1 m1 := by
  refine ⟨FG_tr ct mt h.1, fun g g0 g1 => ?_⟩
  rw [ct.1] at g1
  obtain ⟨h1, h2⟩ := h.2 g g0 g1
  exact ⟨FNm_tr ct mt h1, GH_tr hb h.1 mt 5 g g0 g1 h2⟩
/-- a glyph that is in order has a header, or none -/
theorem Gl_hd {z : Nat} {hc y : hH} {gl a b : Int32} (ex : f_Gl_read z 5 a b gl hc = some (1, y)) : a = b ∨ 10 ≤ b - a := by
  rw [Gl_read_eq, lz_eq] at ex
  by_cases q : a = b
  · exact Or.inl q
  · right
    rw [if_neg q] at ex
    have N16 : rdI (g0C hc z a b) z 16 = a := by unfold g0C; simp only [rdI_wrI, rdP_wrI, rdL_wrI, Nat.reduceEqDiff, false_and, and_false, true_and, and_true, eq_self, reduceIte, ite_self]
    have N17 : rdI (g0C hc z a b) z 17 = b := by unfold g0C; simp only [rdI_wrI, rdP_wrI, rdL_wrI, Nat.reduceEqDiff, false_and, and_false, true_and, and_true, eq_self, reduceIte, ite_self]
    rw [N16, N17] at ex
    by_cases w : 10 ≤ b - a
    · exact w
    · rw [if_neg w] at ex
      have e : (0 : Int32) = 1 := congrArg Prod.fst (Option.some.inj ex)
      exact absurd e (by decide)
