/-! LAYER 3e: points of zones -/
theorem Rm.push {P : hH → hH → Prop} {hc hm : hH} (h : Rm P hc hm) (h1 : rdI hc 22 15 < rdI hc 4 14) (v : Int32) : Rm P (pushC v hc) (pushM v hm) := by
  have a := h.r_top
  have b := h.r_stk
  have c := h.r_high
  unfold pushC pushM
  have k := h.set_stk (rdI hc 22 15).toNatClampNeg v
  have e : (if rdI hm 192 56 + 1 ≤ rdI hm 192 57 then rdI hm 192 57 else rdI hm 192 56 + 1) = (if rdI hc 22 6 < rdI hc 22 15 + 1 then rdI hc 22 15 + 1 else rdI hc 22 6) := by
    rw [h.s_top, h.s_high]
    by_cases q : rdI hc 22 6 < rdI hc 22 15 + 1
    · rw [if_pos q, if_neg (Int32.not_le.mpr q)]
    · rw [if_neg q, if_pos (Int32.not_lt.mp q)]
  rw [e, h.s_top]
  refine k.set_push ?_ ?_ ?_ ?_
  · simp only [rdI_wrI, rdP_wrI, rdL_wrI, Nat.reduceEqDiff, false_and, and_false, true_and, and_true, eq_self, reduceIte, ite_self]
  · simp only [rdI_wrI, rdP_wrI, rdL_wrI, Nat.reduceEqDiff, false_and, and_false, true_and, and_true, eq_self, reduceIte, ite_self]; exact h1
  · split <;> constructor <;> grind
  · simp only [rdI_wrI, rdP_wrI, rdL_wrI, Nat.reduceEqDiff, false_and, and_false, true_and, and_true, eq_self, reduceIte, ite_self]
def isZ (z : Nat) (n : Int32) : Prop := (z = 26 ∧ n = 0) ∨ (z = 34 ∧ n = 1)
def zz (n : Int32) : Nat := if n = 0 then 26 else 34
theorem zz_isZ {n : Int32} (h : n = 0 ∨ n = 1) : isZ (zz n) n := by
  rcases h with rfl | rfl
  · exact Or.inl ⟨rfl, rfl⟩
  · exact Or.inr ⟨rfl, rfl⟩
/-- a point of a zone -/
def PT (h : hH) (z : Nat) (p : Int32) : Prop := 0 ≤ p ∧ p < rdI h z 6
theorem f_Ma_zone_0 (h : hH) : f_Ma_zone 0 h = some (zz (rdI h 55 0)) := by
  unfold f_Ma_zone zz
  rw [gd_pos (vp_lt (n := 3) (m := 3) (by decide) (by decide) rfl)]
  show (if rdI h 55 0 = 0 then some 26 else some 34) = _
  split <;> rfl
theorem f_Ma_zone_1 (h : hH) : f_Ma_zone 1 h = some (zz (rdI h 55 1)) := by
  unfold f_Ma_zone zz
  rw [gd_pos (vp_lt (n := 3) (m := 3) (by decide) (by decide) rfl)]
  show (if rdI h 55 1 = 0 then some 26 else some 34) = _
  split <;> rfl
theorem f_Ma_zone_2 (h : hH) : f_Ma_zone 2 h = some (zz (rdI h 55 2)) := by
  unfold f_Ma_zone zz
  rw [gd_pos (vp_lt (n := 3) (m := 3) (by decide) (by decide) rfl)]
  show (if rdI h 55 2 = 0 then some 26 else some 34) = _
  split <;> rfl
theorem Rm.manyZ {P : hH → hH → Prop} {hc hm : hH} (h : Rm P hc hm) {z : Nat} {n : Int32} (hz : isZ z n) : (if n = 0 then rdI hm 192 14 else rdI hm 192 52) = rdI hc z 6 := by
  rcases hz with ⟨rfl, rfl⟩ | ⟨rfl, rfl⟩
  · exact h.s_twM
  · exact h.s_glM
theorem w32 {x y : Int32} (z : Int32) : (x.toInt64 ≤ (y - 1).toInt64) ↔ x ≤ y - 1 := by
  rw [Int64.le_iff_toInt_le, Int32.le_iff_toInt_le, Int32.toInt_toInt64, Int32.toInt_toInt64]
theorem w0 {x : Int32} : ((0 : Int64) ≤ x.toInt64) ↔ 0 ≤ x := by
  rw [Int64.le_iff_toInt_le, Int32.le_iff_toInt_le, Int32.toInt_toInt64]
  rfl
theorem within_0 {p y : Int32} (hy : 0 ≤ y) : f_HH_within p.toInt64 0 (y - 1).toInt64 = some (if 0 ≤ p ∧ p < y then 1 else 0) := by
  rw [f_HH_within_eq]
  have : (0 ≤ p ∧ p ≤ y - 1) ↔ (0 ≤ p ∧ p < y) := by
    constructor <;> intro q <;> constructor <;> grind
  simp only [w0, w32 0, this]
theorem f_Ma_point_T {z : Nat} {p : Int32} {h : hH} (hy : 0 ≤ rdI h z 6) (hp : PT h z p) : f_Ma_point z p h = some (.inr (p, h)) := by
  unfold f_Ma_point
  unfold PT at hp
  rw [within_0 hy, if_pos hp]
  rfl
theorem f_Ma_point_F {z : Nat} {p : Int32} {h : hH} (hy : 0 ≤ rdI h z 6) (hp : ¬ PT h z p) : f_Ma_point z p h = some (.inl (failC 5 h)) := by
  unfold f_Ma_point
  unfold PT at hp
  rw [within_0 hy, if_neg hp]
  rfl
theorem Rm.many0 {P : hH → hH → Prop} {hc hm : hH} (h : Rm P hc hm) {z : Nat} {n : Int32} (hz : isZ z n) : 0 ≤ rdI hc z 6 := by
  rcases hz with ⟨rfl, rfl⟩ | ⟨rfl, rfl⟩
  · exact h.r_twM.1
  · exact h.r_glM.1
theorem f_Mo_pointOf_T {P : hH → hH → Prop} {hc hm : hH} (h : Rm P hc hm) {z : Nat} {n : Int32} (hz : isZ z n) {p : Int32} (hp : PT hc z p) : f_Mo_pointOf n p hm = some (102 * n + p, hm) := by
  unfold f_Mo_pointOf
  simp only [lz]
  rw [h.manyZ hz, if_neg]
  rintro (q | q)
  · exact Int32.not_lt.mpr hp.1 q
  · exact q hp.2
theorem f_Mo_pointOf_F {P : hH → hH → Prop} {hc hm : hH} (h : Rm P hc hm) {z : Nat} {n : Int32} (hz : isZ z n) {p : Int32} (hp : ¬ PT hc z p) : f_Mo_pointOf n p hm = some (-1, failM 5 hm) := by
  unfold f_Mo_pointOf
  simp only [lz]
  rw [h.manyZ hz, if_pos, f_Mo_fail_eq h.fail]
  · rfl
  · by_cases q : p < 0
    · exact Or.inl q
    · exact Or.inr (fun w => hp ⟨Int32.not_lt.mp q, w⟩)
theorem f_Mo_pointOf_X {hm : hH} {n p : Int32} (h2 : ¬ rdI hm 192 59 = 0) : ∃ q, f_Mo_pointOf n p hm = some (q, hm) := by
  unfold f_Mo_pointOf
  simp only [lz]
  by_cases q : (p < 0 ∨ ¬ p < if n = 0 then rdI hm 192 14 else rdI hm 192 52)
  · rw [if_pos q, f_Mo_fail_F h2]
    exact ⟨_, rfl⟩
  · rw [if_neg q]
    exact ⟨_, rfl⟩
theorem Rm.vpC {P : hH → hH → Prop} {hc hm : hH} (h : Rm P hc hm) {z : Nat} {n : Int32} (hz : isZ z n) {p : Int32} (hp : PT hc z p) : vp_in p (zr z) := by
  unfold PT at hp
  rcases hz with ⟨rfl, rfl⟩ | ⟨rfl, rfl⟩
  · have := h.r_twM
    exact vp_lt (n := 64) (m := 64) hp.1 (by grind) rfl
  · have := h.r_glM
    exact vp_lt (n := 102) (m := 102) hp.1 (by grind) rfl
theorem Rm.vpM {P : hH → hH → Prop} {hc hm : hH} (h : Rm P hc hm) {z : Nat} {n : Int32} (hz : isZ z n) {p : Int32} (hp : PT hc z p) : vp_in (102 * n + p) 204 := by
  unfold PT at hp
  rcases hz with ⟨rfl, rfl⟩ | ⟨rfl, rfl⟩
  · have := h.r_twM
    exact vp_lt (n := 204) (m := 204) (by grind) (by grind) rfl
  · have := h.r_glM
    exact vp_lt (n := 204) (m := 204) (by grind) (by grind) rfl
theorem mi_0 {p : Int32} : (102 * (0 : Int32) + p) = p := by grind
theorem mi_1 {p : Int32} (h0 : 0 ≤ p) (h1 : p ≤ 102) : (102 * (1 : Int32) + p).toNatClampNeg = 102 + p.toNatClampNeg := by
  have e : 102 * (1 : Int32) = 102 := by decide
  rw [e, xI_add (m := 102) (by decide) (by decide) h0 h1 (by decide)]
  rfl
theorem Rm.zox {P : hH → hH → Prop} {hc hm : hH} (h : Rm P hc hm) {z : Nat} {n : Int32} (hz : isZ z n) {p : Int32} (hp : PT hc z p) : rdI hm 212 (102 * n + p).toNatClampNeg = rdI hc (rf z 0) p.toNatClampNeg := by
  unfold PT at hp
  rcases hz with ⟨rfl, rfl⟩ | ⟨rfl, rfl⟩
  · rw [mi_0]
    exact h.z_tw_ox _ ((xI_lt hp.1 h.r_twM.1).mpr hp.2)
  · rw [mi_1 hp.1 (by have := h.r_glM; grind)]
    exact h.z_gl_ox _ ((xI_lt hp.1 h.r_glM.1).mpr hp.2)
theorem Rm.zoy {P : hH → hH → Prop} {hc hm : hH} (h : Rm P hc hm) {z : Nat} {n : Int32} (hz : isZ z n) {p : Int32} (hp : PT hc z p) : rdI hm 213 (102 * n + p).toNatClampNeg = rdI hc (rf z 1) p.toNatClampNeg := by
  unfold PT at hp
  rcases hz with ⟨rfl, rfl⟩ | ⟨rfl, rfl⟩
  · rw [mi_0]
    exact h.z_tw_oy _ ((xI_lt hp.1 h.r_twM.1).mpr hp.2)
  · rw [mi_1 hp.1 (by have := h.r_glM; grind)]
    exact h.z_gl_oy _ ((xI_lt hp.1 h.r_glM.1).mpr hp.2)
theorem Rm.zx {P : hH → hH → Prop} {hc hm : hH} (h : Rm P hc hm) {z : Nat} {n : Int32} (hz : isZ z n) {p : Int32} (hp : PT hc z p) : rdI hm 214 (102 * n + p).toNatClampNeg = rdI hc (rf z 2) p.toNatClampNeg := by
  unfold PT at hp
  rcases hz with ⟨rfl, rfl⟩ | ⟨rfl, rfl⟩
  · rw [mi_0]
    exact h.z_tw_x _ ((xI_lt hp.1 h.r_twM.1).mpr hp.2)
  · rw [mi_1 hp.1 (by have := h.r_glM; grind)]
    exact h.z_gl_x _ ((xI_lt hp.1 h.r_glM.1).mpr hp.2)
theorem Rm.zy {P : hH → hH → Prop} {hc hm : hH} (h : Rm P hc hm) {z : Nat} {n : Int32} (hz : isZ z n) {p : Int32} (hp : PT hc z p) : rdI hm 215 (102 * n + p).toNatClampNeg = rdI hc (rf z 3) p.toNatClampNeg := by
  unfold PT at hp
  rcases hz with ⟨rfl, rfl⟩ | ⟨rfl, rfl⟩
  · rw [mi_0]
    exact h.z_tw_y _ ((xI_lt hp.1 h.r_twM.1).mpr hp.2)
  · rw [mi_1 hp.1 (by have := h.r_glM; grind)]
    exact h.z_gl_y _ ((xI_lt hp.1 h.r_glM.1).mpr hp.2)
theorem Rm.zt {P : hH → hH → Prop} {hc hm : hH} (h : Rm P hc hm) {z : Nat} {n : Int32} (hz : isZ z n) {p : Int32} (hp : PT hc z p) : T4 (rdI hc (rf z 4) p.toNatClampNeg) (rdI hc (rf z 5) p.toNatClampNeg) (rdI hm 216 (102 * n + p).toNatClampNeg) := by
  unfold PT at hp
  rcases hz with ⟨rfl, rfl⟩ | ⟨rfl, rfl⟩
  · rw [mi_0]
    exact h.z_tw_t _ ((xI_lt hp.1 h.r_twM.1).mpr hp.2)
  · rw [mi_1 hp.1 (by have := h.r_glM; grind)]
    exact h.z_gl_t _ ((xI_lt hp.1 h.r_glM.1).mpr hp.2)
theorem Rm.set_zox {P : hH → hH → Prop} {hc hm : hH} (h : Rm P hc hm) {z : Nat} {n : Int32} (hz : isZ z n) {p : Int32} (hp : PT hc z p) (v : Int32) : Rm P (wrI hc (rf z 0) p.toNatClampNeg v) (wrI hm 212 (102 * n + p).toNatClampNeg v) := by
  unfold PT at hp
  rcases hz with ⟨rfl, rfl⟩ | ⟨rfl, rfl⟩
  · rw [mi_0]
    refine h.set_tw_ox ?_ v
    have a := (xI_lt hp.1 h.r_twM.1).mpr hp.2
    have b := xI_le (n := 64) h.r_twM.2 rfl
    omega
  · rw [mi_1 hp.1 (by have := h.r_glM; grind)]
    exact h.set_gl_ox _ v
theorem Rm.set_zoy {P : hH → hH → Prop} {hc hm : hH} (h : Rm P hc hm) {z : Nat} {n : Int32} (hz : isZ z n) {p : Int32} (hp : PT hc z p) (v : Int32) : Rm P (wrI hc (rf z 1) p.toNatClampNeg v) (wrI hm 213 (102 * n + p).toNatClampNeg v) := by
  unfold PT at hp
  rcases hz with ⟨rfl, rfl⟩ | ⟨rfl, rfl⟩
  · rw [mi_0]
    refine h.set_tw_oy ?_ v
    have a := (xI_lt hp.1 h.r_twM.1).mpr hp.2
    have b := xI_le (n := 64) h.r_twM.2 rfl
    omega
  · rw [mi_1 hp.1 (by have := h.r_glM; grind)]
    exact h.set_gl_oy _ v
theorem Rm.set_zx {P : hH → hH → Prop} {hc hm : hH} (h : Rm P hc hm) {z : Nat} {n : Int32} (hz : isZ z n) {p : Int32} (hp : PT hc z p) (v : Int32) : Rm P (wrI hc (rf z 2) p.toNatClampNeg v) (wrI hm 214 (102 * n + p).toNatClampNeg v) := by
  unfold PT at hp
  rcases hz with ⟨rfl, rfl⟩ | ⟨rfl, rfl⟩
  · rw [mi_0]
    refine h.set_tw_x ?_ v
    have a := (xI_lt hp.1 h.r_twM.1).mpr hp.2
    have b := xI_le (n := 64) h.r_twM.2 rfl
    omega
  · rw [mi_1 hp.1 (by have := h.r_glM; grind)]
    exact h.set_gl_x _ v
theorem Rm.set_zy {P : hH → hH → Prop} {hc hm : hH} (h : Rm P hc hm) {z : Nat} {n : Int32} (hz : isZ z n) {p : Int32} (hp : PT hc z p) (v : Int32) : Rm P (wrI hc (rf z 3) p.toNatClampNeg v) (wrI hm 215 (102 * n + p).toNatClampNeg v) := by
  unfold PT at hp
  rcases hz with ⟨rfl, rfl⟩ | ⟨rfl, rfl⟩
  · rw [mi_0]
    refine h.set_tw_y ?_ v
    have a := (xI_lt hp.1 h.r_twM.1).mpr hp.2
    have b := xI_le (n := 64) h.r_twM.2 rfl
    omega
  · rw [mi_1 hp.1 (by have := h.r_glM; grind)]
    exact h.set_gl_y _ v
theorem Rm.set_zt {P : hH → hH → Prop} {hc hm : hH} (h : Rm P hc hm) {z : Nat} {n : Int32} (hz : isZ z n) {p : Int32} (hp : PT hc z p) {x y t : Int32} (ht : T4 x y t) : Rm P (wrI (wrI hc (rf z 4) p.toNatClampNeg x) (rf z 5) p.toNatClampNeg y) (wrI hm 216 (102 * n + p).toNatClampNeg t) := by
  unfold PT at hp
  rcases hz with ⟨rfl, rfl⟩ | ⟨rfl, rfl⟩
  · rw [mi_0]
    refine h.set_tw_t ?_ ht
    have a := (xI_lt hp.1 h.r_twM.1).mpr hp.2
    have b := xI_le (n := 64) h.r_twM.2 rfl
    omega
  · rw [mi_1 hp.1 (by have := h.r_glM; grind)]
    exact h.set_gl_t _ ht
