/-! LAYER 3f: distances, moves -/
noncomputable def plV (z : Nat) (p : Int32) (h : hH) : Int32 := al (rdI h (rf z 2) p.toNatClampNeg) (rdI h (rf z 3) p.toNatClampNeg) (rdI h 22 30) (rdI h 22 31)
noncomputable def dsV (z : Nat) (p : Int32) (w : Nat) (q : Int32) (h : hH) : Int32 := al (rdI h (rf z 2) p.toNatClampNeg - rdI h (rf w 2) q.toNatClampNeg) (rdI h (rf z 3) p.toNatClampNeg - rdI h (rf w 3) q.toNatClampNeg) (rdI h 22 30) (rdI h 22 31)
noncomputable def odV (z : Nat) (p : Int32) (w : Nat) (q : Int32) (h : hH) : Int32 := al (rdI h (rf z 0) p.toNatClampNeg - rdI h (rf w 0) q.toNatClampNeg) (rdI h (rf z 1) p.toNatClampNeg - rdI h (rf w 1) q.toNatClampNeg) (rdI h 22 32) (rdI h 22 33)
theorem Rm.placeC {P : hH → hH → Prop} {hc hm : hH} (h : Rm P hc hm) {z : Nat} {n p : Int32} (hz : isZ z n) (hp : PT hc z p) : f_Ma_place z p hc = some (plV z p hc) := by
  unfold f_Ma_place plV
  rw [gd_pos (h.vpC hz hp), f_Ma_along_eq]
  rfl
theorem Rm.placeM {P : hH → hH → Prop} {hc hm : hH} (h : Rm P hc hm) {z : Nat} {n p : Int32} (hz : isZ z n) (hp : PT hc z p) : f_Mo_longOf (102 * n + p) hm = some (plV z p hc) := by
  unfold f_Mo_longOf plV
  rw [gd_pos (h.vpM hz hp), f_Mo_by_eq, h.zx hz hp, h.zy hz hp, h.s_px, h.s_py]
  rfl
theorem Rm.distC {P : hH → hH → Prop} {hc hm : hH} (h : Rm P hc hm) {z w : Nat} {n m p q : Int32} (hz : isZ z n) (hp : PT hc z p) (hw : isZ w m) (hq : PT hc w q) : f_Ma_distance z p w q hc = some (dsV z p w q hc) := by
  unfold f_Ma_distance dsV
  rw [gd_pos ⟨h.vpC hz hp, h.vpC hw hq⟩, f_Ma_along_eq]
  rfl
theorem Rm.distM {P : hH → hH → Prop} {hc hm : hH} (h : Rm P hc hm) {z w : Nat} {n m p q : Int32} (hz : isZ z n) (hp : PT hc z p) (hw : isZ w m) (hq : PT hc w q) : f_Mo_between (102 * n + p) (102 * m + q) hm = some (dsV z p w q hc) := by
  unfold f_Mo_between dsV
  rw [gd_pos ⟨h.vpM hz hp, h.vpM hw hq⟩, f_Mo_by_eq, h.zx hz hp, h.zy hz hp, h.zx hw hq, h.zy hw hq, h.s_px, h.s_py]
  rfl
theorem Rm.oldC {P : hH → hH → Prop} {hc hm : hH} (h : Rm P hc hm) {z w : Nat} {n m p q : Int32} (hz : isZ z n) (hp : PT hc z p) (hw : isZ w m) (hq : PT hc w q) : f_Ma_oldDistance z p w q hc = some (odV z p w q hc) := by
  unfold f_Ma_oldDistance odV
  rw [gd_pos ⟨h.vpC hz hp, h.vpC hw hq⟩, f_Ma_along_eq]
  rfl
theorem Rm.oldM {P : hH → hH → Prop} {hc hm : hH} (h : Rm P hc hm) {z w : Nat} {n m p q : Int32} (hz : isZ z n) (hp : PT hc z p) (hw : isZ w m) (hq : PT hc w q) : f_Mo_originally (102 * n + p) (102 * m + q) hm = some (odV z p w q hc) := by
  unfold f_Mo_originally odV
  rw [gd_pos ⟨h.vpM hz hp, h.vpM hw hq⟩, f_Mo_by_eq, h.zox hz hp, h.zoy hz hp, h.zox hw hq, h.zoy hw hq, h.s_dx, h.s_dy]
  rfl
/-! the divisor of a move -/
theorem ov_cases (a b : Int64) : ov a b = 0 ∨ ov a b = a / b ∨ ov a b = a / b + 1 ∨ ov a b = a / b - 1 := by
  unfold ov f_HH_over
  by_cases hb : b = 0
  · left
    unfold gd
    rw [if_neg (fun q => q hb)]
    rfl
  · right
    simp only [gd_pos hb, lz, f_JM_abs_eq, bP]
    repeat (first | exact Or.inl rfl | exact Or.inr (Or.inl rfl) | exact Or.inr (Or.inr rfl) | split)
theorem ov_one_small (a : Int64) : (ov a 16384).toInt.natAbs ≤ 2 ^ 50 := by
  have e : (a / 16384).toInt.natAbs ≤ 2 ^ 49 := by
    rw [Int64.toInt_div]
    have r := i64_rng a
    have e2 : (16384 : Int64).toInt = 16384 := rfl
    have e4 : (a.toInt.tdiv 16384).natAbs = a.toInt.natAbs / 16384 := Int.natAbs_tdiv a.toInt 16384
    rw [e2, i64_bm] <;> omega
  have o : (1 : Int64).toInt = 1 := rfl
  have z : (0 : Int64).toInt = 0 := rfl
  rcases ov_cases a 16384 with h | h | h | h <;> rw [h]
  · rw [z]; omega
  · omega
  · rw [i64_add (by rw [o]; omega) (by rw [o]; omega), o]; omega
  · rw [i64_sub (by rw [o]; omega) (by rw [o]; omega), o]; omega
noncomputable def qv (fx fy px py : Int32) : Int64 := if (1024 : Int64) ≤ (if 0 ≤ ov (fx.toInt64 * px.toInt64 + fy.toInt64 * py.toInt64) 16384 then ov (fx.toInt64 * px.toInt64 + fy.toInt64 * py.toInt64) 16384 else -ov (fx.toInt64 * px.toInt64 + fy.toInt64 * py.toInt64) 16384) then ov (fx.toInt64 * px.toInt64 + fy.toInt64 * py.toInt64) 16384 else 16384
theorem qv_ne (fx fy px py : Int32) : ¬ qv fx fy px py = 0 := by
  unfold qv
  generalize ov (fx.toInt64 * px.toInt64 + fy.toInt64 * py.toInt64) 16384 = a
  by_cases h : (1024 : Int64) ≤ (if 0 ≤ a then a else -a)
  · rw [if_pos h]
    intro q
    subst q
    exact absurd h (by decide)
  · rw [if_neg h]
    decide
theorem qv_small (fx fy px py : Int32) : (qv fx fy px py).toInt.natAbs ≤ 2 ^ 62 := by
  unfold qv
  have := ov_one_small (fx.toInt64 * px.toInt64 + fy.toInt64 * py.toInt64)
  generalize ov (fx.toInt64 * px.toInt64 + fy.toInt64 * py.toInt64) 16384 = a at this ⊢
  by_cases h : (1024 : Int64) ≤ (if 0 ≤ a then a else -a)
  · rw [if_pos h]; omega
  · rw [if_neg h]; decide
/-! touching, moving -/
def bt (x : Int32) : Int32 := if x = 0 then 0 else 1
def touchC (z : Nat) (p : Int32) (h : hH) : hH := wrI (wrI h (rf z 4) p.toNatClampNeg ((rdI h (rf z 4) p.toNatClampNeg ||| bt (rdI h 22 28)) &&& 1)) (rf z 5) p.toNatClampNeg ((rdI h (rf z 5) p.toNatClampNeg ||| bt (rdI h 22 29)) &&& 1)
def touchM (j : Int32) (h : hH) : hH := wrI h 216 j.toNatClampNeg ((rdI h 216 j.toNatClampNeg ||| bt (rdI h 192 63)) ||| (if rdI h 192 64 = 0 then 0 else 2))
noncomputable def moveC (z : Nat) (p : Int32) (d : Int64) (h : hH) : hH :=
  touchC z p (wrI (wrI h (rf z 2) p.toNatClampNeg ((rdI h (rf z 2) p.toNatClampNeg).toInt64 + ov (d * (rdI h 22 28).toInt64) (qv (rdI h 22 28) (rdI h 22 29) (rdI h 22 30) (rdI h 22 31))).toInt32) (rf z 3) p.toNatClampNeg ((rdI h (rf z 3) p.toNatClampNeg).toInt64 + ov (d * (rdI h 22 29).toInt64) (qv (rdI h 22 28) (rdI h 22 29) (rdI h 22 30) (rdI h 22 31))).toInt32)
noncomputable def shiftM (j : Int32) (d : Int64) (h : hH) : hH :=
  wrI (wrI h 214 j.toNatClampNeg ((rdI h 214 j.toNatClampNeg).toInt64 + ov (d * (rdI h 192 63).toInt64) (qv (rdI h 192 63) (rdI h 192 64) (rdI h 192 65) (rdI h 192 66))).toInt32) 215 j.toNatClampNeg ((rdI h 215 j.toNatClampNeg).toInt64 + ov (d * (rdI h 192 64).toInt64) (qv (rdI h 192 63) (rdI h 192 64) (rdI h 192 65) (rdI h 192 66))).toInt32
noncomputable def moveM (j : Int32) (d : Int64) (h : hH) : hH := touchM j (shiftM j d h)
theorem f_Ma_touch_eq {z : Nat} {n p : Int32} (hz : isZ z n) {h : hH} (hv : vp_in p (zr z)) : f_Ma_touch z p h = some ((), touchC z p h) := by
  unfold f_Ma_touch touchC bt
  simp only [gd_pos hv, lz]
  rcases hz with ⟨rfl, rfl⟩ | ⟨rfl, rfl⟩
  · simp only [show rf 26 4 = 31 from rfl, show rf 26 5 = 32 from rfl, rdI_wrI, rdP_wrI, rdL_wrI, Nat.reduceEqDiff, false_and, and_false, true_and, and_true, eq_self, reduceIte, ite_self]
  · simp only [show rf 34 4 = 39 from rfl, show rf 34 5 = 40 from rfl, rdI_wrI, rdP_wrI, rdL_wrI, Nat.reduceEqDiff, false_and, and_false, true_and, and_true, eq_self, reduceIte, ite_self]
theorem f_Mo_touch_eq {j : Int32} {h : hH} (hv : vp_in j 204) : f_Mo_touch j h = some ((), touchM j h) := by
  unfold f_Mo_touch touchM bt
  simp only [gd_pos hv, lz]
theorem f_Ma_move_eq {z : Nat} {n p : Int32} (hz : isZ z n) {d : Int64} {h : hH} (hv : vp_in p (zr z)) : f_Ma_move z p d h = some ((), moveC z p d h) := by
  unfold f_Ma_move
  simp only [over_one, f_JM_abs_eq, bP_some, lz, gd_pos hv]
  change bP (f_HH_over _ (qv (rdI h 22 28) (rdI h 22 29) (rdI h 22 30) (rdI h 22 31))) _ = _
  rw [f_HH_over_eq (qv_ne _ _ _ _)]
  simp only [bP_some]
  change bP (f_HH_over _ (qv (rdI h 22 28) (rdI h 22 29) (rdI h 22 30) (rdI h 22 31))) _ = _
  rw [f_HH_over_eq (qv_ne _ _ _ _)]
  simp only [bP_some]
  rw [f_Ma_touch_eq hz hv]
  unfold moveC
  rcases hz with ⟨rfl, rfl⟩ | ⟨rfl, rfl⟩
  · simp only [show rf 26 2 = 29 from rfl, show rf 26 3 = 30 from rfl, rdI_wrI, rdP_wrI, rdL_wrI, Nat.reduceEqDiff, false_and, and_false, true_and, and_true, eq_self, reduceIte, ite_self, bS_some]
  · simp only [show rf 34 2 = 37 from rfl, show rf 34 3 = 38 from rfl, rdI_wrI, rdP_wrI, rdL_wrI, Nat.reduceEqDiff, false_and, and_false, true_and, and_true, eq_self, reduceIte, ite_self, bS_some]
theorem f_Mo_shiftBy_eq {j t : Int32} {d : Int64} {h : hH} (hv : vp_in j 204) : f_Mo_shiftBy j d t h = some ((), if t = 0 then shiftM j d h else moveM j d h) := by
  unfold f_Mo_shiftBy
  simp only [mover_one, f_Mo_sizeOf_eq, bP_some, lz, gd_pos hv]
  change bP (f_Mo_nearest _ (qv (rdI h 192 63) (rdI h 192 64) (rdI h 192 65) (rdI h 192 66))) _ = _
  rw [f_Mo_nearest_eq (qv_ne _ _ _ _) (qv_small _ _ _ _)]
  simp only [bP_some]
  change bP (f_Mo_nearest _ (qv (rdI h 192 63) (rdI h 192 64) (rdI h 192 65) (rdI h 192 66))) _ = _
  rw [f_Mo_nearest_eq (qv_ne _ _ _ _) (qv_small _ _ _ _)]
  simp only [bP_some, f_Mo_touch_eq hv, bS_some]
  unfold moveM shiftM
  simp only [rdI_wrI, rdP_wrI, rdL_wrI, Nat.reduceEqDiff, false_and, and_false, true_and, and_true, eq_self, reduceIte, ite_self]
  split <;> rfl
theorem f_Mo_move_eq {j : Int32} {d : Int64} {h : hH} (hv : vp_in j 204) : f_Mo_move j d h = some ((), moveM j d h) := by
  unfold f_Mo_move
  rw [f_Mo_shiftBy_eq hv]
  rfl
theorem T4_touch {x y t a b : Int32} (h : T4 x y t) : T4 ((x ||| bt a) &&& 1) ((y ||| bt b) &&& 1) ((t ||| bt a) ||| (if b = 0 then 0 else 2)) := by
  unfold bt
  by_cases ha : a = 0 <;> by_cases hb : b = 0 <;> simp only [ha, hb, reduceIte] <;> rcases h with ⟨rfl, rfl, rfl⟩ | ⟨rfl, rfl, rfl⟩ | ⟨rfl, rfl, rfl⟩ | ⟨rfl, rfl, rfl⟩ <;> unfold T4 <;> decide
theorem Rm.touch {P : hH → hH → Prop} {hc hm : hH} (h : Rm P hc hm) {z : Nat} {n p : Int32} (hz : isZ z n) (hp : PT hc z p) : Rm P (touchC z p hc) (touchM (102 * n + p) hm) := by
  unfold touchC touchM
  rw [h.s_fx, h.s_fy]
  exact h.set_zt hz hp (T4_touch (h.zt hz hp))
theorem PT_wr {hc : hH} {z o k : Nat} {n p v : Int32} (hz : isZ z n) (ho : ¬ (o = 26 ∧ k = 6) ∧ ¬ (o = 34 ∧ k = 6)) (hp : PT hc z p) : PT (wrI hc o k v) z p := by
  unfold PT at *
  rcases hz with ⟨rfl, rfl⟩ | ⟨rfl, rfl⟩
  · rw [rdI_wrI, if_neg (fun q => ho.1 ⟨q.1.symm, q.2.symm⟩)]; exact hp
  · rw [rdI_wrI, if_neg (fun q => ho.2 ⟨q.1.symm, q.2.symm⟩)]; exact hp
theorem rf_z {z : Nat} {n : Int32} (hz : isZ z n) : (rf z 2 = 29 ∧ rf z 3 = 30) ∨ (rf z 2 = 37 ∧ rf z 3 = 38) := by
  rcases hz with ⟨rfl, rfl⟩ | ⟨rfl, rfl⟩
  · exact Or.inl ⟨rfl, rfl⟩
  · exact Or.inr ⟨rfl, rfl⟩
theorem Rm.move {P : hH → hH → Prop} {hc hm : hH} (h : Rm P hc hm) {z : Nat} {n p : Int32} (hz : isZ z n) (hp : PT hc z p) (d : Int64) : Rm P (moveC z p d hc) (moveM (102 * n + p) d hm) := by
  unfold moveC moveM shiftM
  rw [h.zx hz hp, h.zy hz hp, h.s_fx, h.s_fy, h.s_px, h.s_py]
  refine Rm.touch ?_ hz ?_
  · refine (h.set_zx hz hp _).set_zy hz ?_ _
    exact PT_wr hz (by rcases rf_z hz with q | q <;> rw [q.1] <;> omega) hp
  · refine PT_wr hz ?_ (PT_wr hz ?_ hp) <;> rcases rf_z hz with q | q <;> omega
theorem Rm.shift {P : hH → hH → Prop} {hc hm : hH} (h : Rm P hc hm) {z : Nat} {n p : Int32} (hz : isZ z n) (hp : PT hc z p) (d : Int64) : Rm P (wrI (wrI (moveC z p d hc) (rf z 4) p.toNatClampNeg (rdI hc (rf z 4) p.toNatClampNeg)) (rf z 5) p.toNatClampNeg (rdI hc (rf z 5) p.toNatClampNeg)) (shiftM (102 * n + p) d hm) := by
  have k : Rm P (wrI (wrI hc (rf z 2) p.toNatClampNeg ((rdI hc (rf z 2) p.toNatClampNeg).toInt64 + ov (d * (rdI hc 22 28).toInt64) (qv (rdI hc 22 28) (rdI hc 22 29) (rdI hc 22 30) (rdI hc 22 31))).toInt32) (rf z 3) p.toNatClampNeg ((rdI hc (rf z 3) p.toNatClampNeg).toInt64 + ov (d * (rdI hc 22 29).toInt64) (qv (rdI hc 22 28) (rdI hc 22 29) (rdI hc 22 30) (rdI hc 22 31))).toInt32) (shiftM (102 * n + p) d hm) := by
    unfold shiftM
    rw [h.zx hz hp, h.zy hz hp, h.s_fx, h.s_fy, h.s_px, h.s_py]
    refine (h.set_zx hz hp _).set_zy hz ?_ _
    exact PT_wr hz (by rcases rf_z hz with q | q <;> rw [q.1] <;> omega) hp
  have e : ∀ g : hH, rdI g (rf z 4) p.toNatClampNeg = rdI hc (rf z 4) p.toNatClampNeg → rdI g (rf z 5) p.toNatClampNeg = rdI hc (rf z 5) p.toNatClampNeg → wrI (wrI (touchC z p g) (rf z 4) p.toNatClampNeg (rdI hc (rf z 4) p.toNatClampNeg)) (rf z 5) p.toNatClampNeg (rdI hc (rf z 5) p.toNatClampNeg) = g := by
    intro g e1 e2
    unfold touchC wrI up2
    refine Prod.ext ?_ rfl
    funext a b
    dsimp only
    rw [← e1, ← e2]
    unfold rdI
    by_cases q : a = rf z 5 ∧ b = p.toNatClampNeg
    · rw [if_pos q, q.1, q.2]
    · rw [if_neg q]
      by_cases q' : a = rf z 4 ∧ b = p.toNatClampNeg
      · rw [if_pos q', q'.1, q'.2]
      · rw [if_neg q', if_neg q, if_neg q']
  unfold moveC
  rw [e]
  · exact k
  · rcases hz with ⟨rfl, rfl⟩ | ⟨rfl, rfl⟩ <;> rfl
  · rcases hz with ⟨rfl, rfl⟩ | ⟨rfl, rfl⟩ <;> rfl
/-- what a move leaves as it was -/
theorem moveC_o {z : Nat} {n p : Int32} (hz : isZ z n) {d : Int64} {h : hH} {o k : Nat} (ho : o < 29 ∨ 40 < o ∨ (32 < o ∧ o < 37)) : rdI (moveC z p d h) o k = rdI h o k := by
  unfold moveC touchC
  rcases hz with ⟨rfl, rfl⟩ | ⟨rfl, rfl⟩
  · rw [rdI_o (by show o ≠ 32; omega), rdI_o (by show o ≠ 31; omega), rdI_o (by show o ≠ 30; omega), rdI_o (by show o ≠ 29; omega)]
  · rw [rdI_o (by show o ≠ 40; omega), rdI_o (by show o ≠ 39; omega), rdI_o (by show o ≠ 38; omega), rdI_o (by show o ≠ 37; omega)]
theorem moveC_p {z : Nat} {p : Int32} {d : Int64} {h : hH} {o k : Nat} : rdP (moveC z p d h) o k = rdP h o k := rfl
theorem PT_move {z w : Nat} {n m p q : Int32} (hz : isZ z n) (hw : isZ w m) {d : Int64} {h : hH} : PT (moveC z p d h) w q ↔ PT h w q := by
  unfold PT
  rw [moveC_o hz (by rcases hw with ⟨rfl, rfl⟩ | ⟨rfl, rfl⟩ <;> omega)]
/-! a new place of a point -/
def putC (z : Nat) (p x y : Int32) (h : hH) : hH := wrI (wrI (wrI (wrI h (rf z 0) p.toNatClampNeg x) (rf z 1) p.toNatClampNeg y) (rf z 2) p.toNatClampNeg x) (rf z 3) p.toNatClampNeg y
def putM (j x y : Int32) (h : hH) : hH := wrI (wrI (wrI (wrI h 212 j.toNatClampNeg x) 213 j.toNatClampNeg y) 214 j.toNatClampNeg x) 215 j.toNatClampNeg y
theorem f_Zo_place_eq {z : Nat} {p x y : Int32} {h : hH} (hv : vp_in p (zr z)) : f_Zo_place z p x y h = some ((), putC z p x y h) := by
  unfold f_Zo_place putC
  simp only [gd_pos hv, lz]
theorem f_Mo_put_eq {j : Int32} {x y : Int64} {h : hH} (hv : vp_in j 204) : f_Mo_put j x y h = some ((), putM j x.toInt32 y.toInt32 h) := by
  have e1 : ∀ (g : hH) (k : Nat) (a b : Int32), rdI (wrI (wrI g 212 k a) 213 k b) 212 k = a := by
    intro g k a b
    rw [rdI_o (by decide)]
    exact if_pos ⟨rfl, rfl⟩
  have e2 : ∀ (g : hH) (k : Nat) (a b c : Int32), rdI (wrI (wrI (wrI g 212 k a) 213 k b) 214 k c) 213 k = b := by
    intro g k a b c
    rw [rdI_o (by decide)]
    exact if_pos ⟨rfl, rfl⟩
  unfold f_Mo_put putM
  simp only [gd_pos hv, lz, e1, e2]
theorem Rm.put {P : hH → hH → Prop} {hc hm : hH} (h : Rm P hc hm) {z : Nat} {n p : Int32} (hz : isZ z n) (hp : PT hc z p) (x y : Int32) : Rm P (putC z p x y hc) (putM (102 * n + p) x y hm) := by
  unfold putC putM
  have e : ∀ j, rf z j ≠ 26 ∧ rf z j ≠ 34 → ¬ (rf z j = 26 ∧ p.toNatClampNeg = 6) ∧ ¬ (rf z j = 34 ∧ p.toNatClampNeg = 6) := fun j e2 => ⟨fun q => e2.1 q.1, fun q => e2.2 q.1⟩
  have e0 : rf z 0 ≠ 26 ∧ rf z 0 ≠ 34 := by
    rcases hz with ⟨rfl, rfl⟩ | ⟨rfl, rfl⟩
    · show 27 ≠ 26 ∧ 27 ≠ 34; decide
    · show 35 ≠ 26 ∧ 35 ≠ 34; decide
  have e1 : rf z 1 ≠ 26 ∧ rf z 1 ≠ 34 := by
    rcases hz with ⟨rfl, rfl⟩ | ⟨rfl, rfl⟩
    · show 28 ≠ 26 ∧ 28 ≠ 34; decide
    · show 36 ≠ 26 ∧ 36 ≠ 34; decide
  have e2 : rf z 2 ≠ 26 ∧ rf z 2 ≠ 34 := by
    rcases hz with ⟨rfl, rfl⟩ | ⟨rfl, rfl⟩
    · show 29 ≠ 26 ∧ 29 ≠ 34; decide
    · show 37 ≠ 26 ∧ 37 ≠ 34; decide
  have p1 := PT_wr (v := x) hz (e 0 e0) hp
  have p2 := PT_wr (v := y) hz (e 1 e1) p1
  have p3 := PT_wr (v := x) hz (e 2 e2) p2
  exact (((h.set_zox hz hp x).set_zoy hz p1 y).set_zx hz p2 x).set_zy hz p3 y
theorem putC_o {z : Nat} {n p x y : Int32} (hz : isZ z n) {h : hH} {o k : Nat} (ho : o < 27 ∨ 38 < o ∨ (30 < o ∧ o < 35)) : rdI (putC z p x y h) o k = rdI h o k := by
  unfold putC
  rcases hz with ⟨rfl, rfl⟩ | ⟨rfl, rfl⟩
  · rw [rdI_o (by show o ≠ 30; omega), rdI_o (by show o ≠ 29; omega), rdI_o (by show o ≠ 28; omega), rdI_o (by show o ≠ 27; omega)]
  · rw [rdI_o (by show o ≠ 38; omega), rdI_o (by show o ≠ 37; omega), rdI_o (by show o ≠ 36; omega), rdI_o (by show o ≠ 35; omega)]
theorem PT_put {z w : Nat} {n m p q x y : Int32} (hz : isZ z n) (hw : isZ w m) {h : hH} : PT (putC z p x y h) w q ↔ PT h w q := by
  unfold PT
  rw [putC_o hz (by rcases hw with ⟨rfl, rfl⟩ | ⟨rfl, rfl⟩ <;> omega)]
