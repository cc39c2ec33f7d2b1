/-! LAYER 3CL: a loaded font in other heaps -/
def MT4 (h g : hH) : Prop := (∀ k, k ≤ 25 → (k ≠ 4 ∧ k ≠ 1) → rdI g 192 k = rdI h 192 k) ∧ (∀ k, rdI g 194 k = rdI h 194 k) ∧ (∀ k, rdI g 195 k = rdI h 195 k) ∧ (∀ o k, 192 ≤ o → rdL g o k = rdL h o k)
def CT4 (h g : hH) : Prop := CT h g ∧ (∀ o k, o < 182 → rdL g o k = rdL h o k)
theorem M4_u1 {h g : hH} (f : MT4 h g) (p : Int32) : f_Mo_u1 p g = f_Mo_u1 p h := by
  unfold f_Mo_u1
  rw [f.1 3 (by decide) (by decide), f.2.1]
theorem M4_u2 {h g : hH} (f : MT4 h g) (p : Int32) : f_Mo_u2 p g = f_Mo_u2 p h := by
  unfold f_Mo_u2
  rw [M4_u1 f, M4_u1 f]
theorem M4_u4 {h g : hH} (f : MT4 h g) (p : Int32) : f_Mo_u4 p g = f_Mo_u4 p h := by
  unfold f_Mo_u4
  rw [M4_u2 f, M4_u2 f]
theorem M4_s2 {h g : hH} (f : MT4 h g) (p : Int32) : f_Mo_s2 p g = f_Mo_s2 p h := by
  unfold f_Mo_s2
  rw [M4_u2 f]
theorem M4_begin {h g : hH} (f : MT4 h g) (t : Int32) : f_Mo_beginOf t g = f_Mo_beginOf t h := beginOf_loc (f.1 5 (by decide) (by decide)) f.2.2.1 (fun k => f.2.2.2 197 k (by decide))
theorem M4_loca {h g : hH} (f : MT4 h g) (i : Int32) : f_Mo_loca i g = f_Mo_loca i h := by
  unfold f_Mo_loca
  rw [M4_begin f, f.1 11 (by decide) (by decide)]
  simp only [M4_u2 f, M4_u4 f]
theorem M4_GB {h g : hH} {i a b : Int32} (f : MT4 h g) (k : GB h i a b) : GB g i a b := by
  obtain ⟨B, a', b', k1, k2, k3, k4, k5⟩ := k
  exact ⟨B, a', b', by rw [M4_begin f]; exact k1, by rw [M4_loca f]; exact k2, by rw [M4_loca f]; exact k3, k4, k5⟩
theorem M4_bearing {h g : hH} (f : MT4 h g) (i : Int32) : f_Mo_bearingOf i g = f_Mo_bearingOf i h := by
  unfold f_Mo_bearingOf
  rw [M4_begin f, f.1 20 (by decide) (by decide)]
  simp only [M4_s2 f]
theorem M4_advance {h g : hH} (f : MT4 h g) (i : Int32) : f_Mo_advanceOf i g = f_Mo_advanceOf i h := by
  unfold f_Mo_advanceOf
  rw [f.1 20 (by decide) (by decide), M4_begin f]
  simp only [M4_u2 f]
theorem M4_glyphAt {h g : hH} (f : MT4 h g) (i : Int32) : f_Mo_glyphAt i g = f_Mo_glyphAt i h := by
  unfold f_Mo_glyphAt f_Mo_mapped
  simp only [f.1 12 (by decide) (by decide), f.1 21 (by decide) (by decide), f.1 22 (by decide) (by decide), f.1 23 (by decide) (by decide), M4_u1 f, M4_u2 f, M4_u4 f]
theorem M4_kern {h g : hH} (f : MT4 h g) (i j : Int32) : f_Mo_kernOf i j g = f_Mo_kernOf i j h := by
  unfold f_Mo_kernOf
  simp only [f.1 24 (by decide) (by decide), M4_u2 f, M4_s2 f, M4_begin f]
theorem C4_glyphOf {h g : hH} (f : CT h g) (i : Int32) : f_Fo_glyphOf i g = f_Fo_glyphOf i h := by
  unfold f_Fo_glyphOf f_Fo_plain f_Fo_segment f_Fo_group f_Fo_endOf f_Fo_beginOfSegment f_Fo_offsetOf f_Fo_deltaOf
  simp only [f.1, CT_u1 f, CT_u2 f, CT_u4 f]
theorem C4_kern {h g : hH} (f : CT h g) (i j : Int32) : f_Fo_kern i j g = f_Fo_kern i j h := by
  unfold f_Fo_kern
  simp only [f.1, CT_u4 f, CT_s2 f]
theorem BY_4 {c0 m0 c1 m1 : hH} (ct : CT c0 c1) (mt : MT4 m0 m1) (h : BY c0 m0) : BY c1 m1 := by
  refine ⟨?_, ?_, ?_, ?_⟩
  · rw [mt.1 3 (by decide) (by decide), ct.2.1]; exact h.1
  · rw [ct.2.1]; exact h.2.1
  · rw [ct.2.1]; exact h.2.2.1
  · intro i hi
    rw [ct.2.1] at hi
    rw [mt.2.1, ct.2.2]
    exact h.2.2.2 i hi
theorem FG_4 {c0 m0 c1 m1 : hH} (ct : CT c0 c1) (mt : MT4 m0 m1) (h : FG c0 m0) : FG c1 m1 := by
  obtain ⟨h1, h2, h3⟩ := h
  refine ⟨BR_tr ct h1, ?_, fun g g0 g1 => ?_⟩
  · rw [ct.1, mt.1 12 (by decide) (by decide)]; exact h2
  · rw [ct.1] at g1
    obtain ⟨la, lb, a1, a2, a3, a4, a5, a6⟩ := h3 g g0 g1
    refine ⟨la, lb, ?_⟩
    unfold FNl
    rw [CT_loca ct, CT_loca ct, ct.1, ct.2.1]
    exact ⟨a1, a2, M4_GB mt a3, a4, a5, a6⟩
theorem FN_4 {c0 m0 c1 m1 : hH} (ct : CT c0 c1) (mt : MT4 m0 m1) (hb : BY c0 m0) (h : FN c0 m0) : FN c1 m1 := by
  refine ⟨FG_4 ct mt h.1, fun g g0 g1 => ?_⟩
  rw [ct.1] at g1
  obtain ⟨h1, h2⟩ := h.2 g g0 g1
  have c0' : CT c0 c0 := ⟨fun _ => rfl, fun _ => rfl, fun _ => rfl⟩
  refine ⟨?_, GH_two hb h.1 (BY_4 c0' mt hb) (FG_4 c0' mt h.1) 5 g g0 g1 h2⟩
  unfold FNm
  rw [CT_bearing ct, CT_advance ct, M4_bearing mt, M4_advance mt]
  exact h1
theorem FS_4 {hc hm g m : hH} (ct : CT hc g) (mt : MT4 hm m) (h : FS hc hm) : FS g m := by
  obtain ⟨fb, fu, fz, ft, fst, ff, fo, fk, fc, fv, p1, p2⟩ := h
  have m5 := mt.1 5 (by decide) (by decide)
  have l197 := fun k => mt.2.2.2 197 k (by decide)
  have l198 := fun k => mt.2.2.2 198 k (by decide)
  have mk := mt.1
  have c4 := ct.1
  have c5 := ct.2.1
  refine ⟨BY_4 ct mt fb, ?_, ?_, ?_, ?_, ?_, ?_, ?_, ?_, ?_, PG_tr c4 (c5 1) m5 mt.2.2.1 l197 l198 p1, PG_tr c4 (c5 1) m5 mt.2.2.1 l197 l198 p2⟩
  · rw [mk 10 (by decide) (by decide), c4]; exact fu
  · rw [mk 13 (by decide) (by decide), c4]; exact fz
  · rw [mk 14 (by decide) (by decide), c4]; exact ft
  · rw [mk 15 (by decide) (by decide), c4]; exact fst
  · rw [mk 16 (by decide) (by decide), c4]; exact ff
  · rw [mk 17 (by decide) (by decide), c4]; exact fo
  · rw [mk 18 (by decide) (by decide), c4]; exact fk
  · rw [mk 25 (by decide) (by decide), c4]; exact fc
  · rw [beginOf_loc m5 mt.2.2.1 l197, c4, c4, c5]; exact fv
theorem KM_4 {c0 m0 c1 m1 : hH} (ct : CT c0 c1) (mt : MT4 m0 m1) (h : KM c0 m0) : KM c1 m1 := by
  refine ⟨fun x x0 x1 => ?_, fun a b a0 a1 b0 b1 => ?_⟩
  · rw [C4_glyphOf ct, M4_glyphAt mt, ct.1]
    exact h.1 x x0 x1
  · rw [ct.1] at a1 b1
    rw [C4_kern ct, M4_kern mt]
    exact h.2 a b a0 a1 b0 b1
theorem FI_4 {c0 m0 c1 m1 : hH} (ct : CT4 c0 c1) (mt : MT4 m0 m1) (h : FI c0 m0) : FI c1 m1 := by
  obtain ⟨ct, cl⟩ := ct
  unfold FI
  rw [mt.1 20 (by decide) (by decide), mt.1 11 (by decide) (by decide), mt.1 22 (by decide) (by decide), mt.1 24 (by decide) (by decide), mt.1 23 (by decide) (by decide), mt.1 5 (by decide) (by decide), ct.1, ct.1, ct.1, ct.1, ct.1, ct.1]
  refine ⟨h.1, h.2.1, fun i hi => ?_⟩
  rw [cl 7 i (by decide), cl 8 i (by decide), cl 9 i (by decide), cl 10 i (by decide), mt.2.2.1, mt.2.2.2 196 i (by decide), mt.2.2.2 197 i (by decide), mt.2.2.2 198 i (by decide)]
  exact h.2.2 i hi
theorem LD_4 {c0 m0 c1 m1 : hH} (ct : CT4 c0 c1) (mt : MT4 m0 m1) (h : LD c0 m0) : LD c1 m1 := ⟨FS_4 ct.1 mt h.1, FN_4 ct.1 mt h.1.1 h.2.1, KM_4 ct.1 mt h.2.2.1, FI_4 ct mt h.2.2.2⟩
