/-! LAYER 3z: code 57 -/
theorem ov_mul {t c : Int64} (ht : ¬ t = 0) (h1 : t.toInt.natAbs ≤ 2 ^ 31) (h2 : c.toInt.natAbs ≤ 2 ^ 31) : ov (t * c) t = c := by
  have t0 : t.toInt ≠ 0 := fun q => ht (Int64.toInt_inj.mp (by rw [q]; rfl))
  have hb : (t.toInt * c.toInt).natAbs ≤ 2 ^ 62 := by
    rw [Int.natAbs_mul]
    exact Nat.le_trans (Nat.mul_le_mul h1 h2) (by decide)
  have hm : (t * c).toInt = t.toInt * c.toInt := i64_mul (by omega) (by omega)
  have hd : t * c / t = c := by
    apply Int64.toInt_inj.mp
    rw [Int64.toInt_div, hm, Int.mul_tdiv_cancel_left _ t0, i64_bm (by omega) (by omega)]
  have hr : hx_rL (t * c) t = 0 := by
    unfold hx_rL
    rw [hd, Int64.mul_comm]
    exact Int64.sub_self _
  have e : (2 : Int64) * (if (0 : Int64) ≤ 0 then 0 else -0) = 0 := by decide
  have ha := i64_abs (x := t) (by omega)
  unfold ov f_HH_over
  simp only [gd_pos ht, lz, f_JM_abs_eq, bP_some, hr, hd, e]
  rw [if_neg]
  · rfl
  · intro w
    rw [Int64.le_iff_toInt_le, ha] at w
    have e0 : (0 : Int64).toInt = 0 := rfl
    omega
theorem ov_zero {q : Int64} (hq : ¬ q = 0) (h1 : q.toInt.natAbs ≤ 2 ^ 62) : ov 0 q = 0 := by
  have t0 : q.toInt ≠ 0 := fun w => hq (Int64.toInt_inj.mp (by rw [w]; rfl))
  have e0 : (0 : Int64).toInt = 0 := rfl
  have hd : (0 : Int64) / q = 0 := by
    apply Int64.toInt_inj.mp
    rw [Int64.toInt_div, e0, Int.zero_tdiv]
    rfl
  have hr : hx_rL 0 q = 0 := by
    unfold hx_rL
    rw [hd, Int64.zero_mul]
    exact Int64.sub_self _
  have e : (2 : Int64) * (if (0 : Int64) ≤ 0 then 0 else -0) = 0 := by decide
  have ha := i64_abs (x := q) (by omega)
  unfold ov f_HH_over
  simp only [gd_pos hq, lz, f_JM_abs_eq, bP_some, hr, hd, e]
  rw [if_neg]
  · rfl
  · intro w
    rw [Int64.le_iff_toInt_le, ha] at w
    omega
theorem al_00 (u v : Int32) : al 0 0 u v = 0 := by
  unfold al
  have e : Int32.toInt64 0 * u.toInt64 + Int32.toInt64 0 * v.toInt64 = 0 := by
    rw [show Int32.toInt64 0 = 0 from rfl, Int64.zero_mul, Int64.zero_mul]
    rfl
  rw [e, ov_zero (by decide) (by decide)]
  rfl
theorem moveC_0 {z : Nat} {n p : Int32} (hz : isZ z n) {h : hH} : moveC z p 0 h = touchC z p h := by
  unfold moveC
  rw [Int64.zero_mul, Int64.zero_mul, ov_zero (qv_ne _ _ _ _) (qv_small _ _ _ _), Int64.add_zero, Int64.add_zero, Int32.toInt32_toInt64, Int32.toInt32_toInt64]
  rw [wrI_id (h := h) (o := rf z 2) rfl, wrI_id rfl]
/-- what else a move leaves -/
theorem moveC_x {z w : Nat} {n m p q : Int32} (hz : isZ z n) (hw : isZ w m) {d : Int64} {h : hH} {j : Nat} (hj : j = 2 ∨ j = 3) (hne : ¬ (z = w ∧ p.toNatClampNeg = q.toNatClampNeg)) : rdI (moveC z p d h) (rf w j) q.toNatClampNeg = rdI h (rf w j) q.toNatClampNeg := by
  have key : ∀ i, i = 2 ∨ i = 3 ∨ i = 4 ∨ i = 5 → rf w j = rf z i → z = w := by
    intro i hi e
    revert e
    rcases hz with ⟨rfl, rfl⟩ | ⟨rfl, rfl⟩ <;> rcases hw with ⟨rfl, rfl⟩ | ⟨rfl, rfl⟩ <;> rcases hj with rfl | rfl <;> rcases hi with rfl | rfl | rfl | rfl <;> decide
  unfold moveC touchC
  rw [rdI_wrI, if_neg (fun q => hne ⟨key 5 (by decide) q.1, q.2.symm⟩), rdI_wrI, if_neg (fun q => hne ⟨key 4 (by decide) q.1, q.2.symm⟩), rdI_wrI, if_neg (fun q => hne ⟨key 3 (by decide) q.1, q.2.symm⟩), rdI_wrI, if_neg (fun q => hne ⟨key 2 (by decide) q.1, q.2.symm⟩)]
theorem touchC_x {z w : Nat} {n m p : Int32} (hz : isZ z n) (hw : isZ w m) {h : hH} {i j : Nat} (hj : j = 2 ∨ j = 3) : rdI (touchC z p h) (rf w j) i = rdI h (rf w j) i := by
  have key : ∀ i, i = 4 ∨ i = 5 → rf w j ≠ rf z i := by
    intro i hi
    rcases hz with ⟨rfl, rfl⟩ | ⟨rfl, rfl⟩ <;> rcases hw with ⟨rfl, rfl⟩ | ⟨rfl, rfl⟩ <;> rcases hj with rfl | rfl <;> rcases hi with rfl | rfl <;> decide
  unfold touchC
  rw [rdI_o (key 5 (by decide)), rdI_o (key 4 (by decide))]
theorem odV_move {z w v : Nat} {n m l p q r : Int32} (hz : isZ z n) (hw : isZ w m) (hv : isZ v l) {d : Int64} {h : hH} : odV w q v r (moveC z p d h) = odV w q v r h := by
  have e : ∀ (w : Nat) (m : Int32), isZ w m → ∀ (j i : Nat), j = 0 ∨ j = 1 → rdI (moveC z p d h) (rf w j) i = rdI h (rf w j) i := by
    intro w m hw j i hj
    refine moveC_o hz ?_
    rcases hw with ⟨rfl, rfl⟩ | ⟨rfl, rfl⟩ <;> rcases hj with rfl | rfl <;> simp only [show rf 26 0 = 27 from rfl, show rf 26 1 = 28 from rfl, show rf 34 0 = 35 from rfl, show rf 34 1 = 36 from rfl] <;> omega
  unfold odV
  rw [e w m hw 0 _ (Or.inl rfl), e w m hw 1 _ (Or.inr rfl), e v l hv 0 _ (Or.inl rfl), e v l hv 1 _ (Or.inr rfl), moveC_o hz (by omega), moveC_o hz (by omega)]
theorem dsV_move {z w v : Nat} {n m l p q r : Int32} (hz : isZ z n) (hw : isZ w m) (hv : isZ v l) {d : Int64} {h : hH} (hne : d = 0 ∨ (¬ (z = w ∧ p.toNatClampNeg = q.toNatClampNeg) ∧ ¬ (z = v ∧ p.toNatClampNeg = r.toNatClampNeg))) : dsV w q v r (moveC z p d h) = dsV w q v r h := by
  unfold dsV
  rcases hne with rfl | ⟨h1, h2⟩
  · rw [moveC_o hz (o := 22) (by omega), moveC_o hz (o := 22) (by omega), moveC_0 hz, touchC_x hz hw (Or.inl rfl), touchC_x hz hw (Or.inr rfl), touchC_x hz hv (Or.inl rfl), touchC_x hz hv (Or.inr rfl)]
  · rw [moveC_o hz (o := 22) (by omega), moveC_o hz (o := 22) (by omega), moveC_x hz hw (Or.inl rfl) h1, moveC_x hz hw (Or.inr rfl) h1, moveC_x hz hv (Or.inl rfl) h2, moveC_x hz hv (Or.inr rfl) h2]
theorem dsV_self {z : Nat} {p : Int32} {h : hH} : dsV z p z p h = 0 := by
  unfold dsV
  rw [Int32.sub_self, Int32.sub_self]
  exact al_00 _ _
theorem odV_self {z : Nat} {p : Int32} {h : hH} : odV z p z p h = 0 := by
  unfold odV
  rw [Int32.sub_self, Int32.sub_self]
  exact al_00 _ _
theorem toL_31 (x : Int32) : x.toInt64.toInt.natAbs ≤ 2 ^ 31 := by
  rw [Int32.toInt_toInt64]
  have := i32_rng x
  omega
theorem toL_0 {x : Int32} : x.toInt64 = 0 ↔ x = 0 := by
  constructor
  · intro q
    apply Int32.toInt_inj.mp
    rw [← Int32.toInt_toInt64, q]
    rfl
  · intro q; rw [q]; rfl
/-- a point between two: where it is to go -/
noncomputable def ipV (o t c : Int32) : Int64 := if t = 0 then o.toInt64 else ov (o.toInt64 * c.toInt64) t.toInt64
theorem inB_T {P : hH → hH → Prop} {hc hm : hH} (h : Rm P hc hm) {z : Nat} {n p : Int32} (hz : isZ z n) (hp : PT hc z p) (pa : PT hc (zz (rdI hc 55 0)) (rdI hc 54 1)) (pb : PT hc (zz (rdI hc 55 1)) (rdI hc 54 2)) : f_Mo_inBetween (102 * n + p) hm = some ((), moveM (102 * n + p) (ipV (odV z p (zz (rdI hc 55 0)) (rdI hc 54 1) hc) (odV (zz (rdI hc 55 1)) (rdI hc 54 2) (zz (rdI hc 55 0)) (rdI hc 54 1) hc) (dsV (zz (rdI hc 55 1)) (rdI hc 54 2) (zz (rdI hc 55 0)) (rdI hc 54 1) hc) - (dsV z p (zz (rdI hc 55 0)) (rdI hc 54 1) hc).toInt64) hm) := by
  have z0 := zz_isZ h.r_zp0
  have z1 := zz_isZ h.r_zp1
  unfold f_Mo_inBetween ipV
  simp +decide only [h.s_zp0, h.s_zp1, h.s_rp1, h.s_rp2, f_Mo_pointOf_T h z0 pa, f_Mo_pointOf_T h z1 pb, h.fail, h.oldM hz hp z0 pa, h.oldM z1 pb z0 pa, h.distM z1 pb z0 pa, h.distM hz hp z0 pa, f_Mo_move_eq (h.vpM hz hp), lz, bP_some, bS_some, bT_inl, bT_inr, bJT_inl, bJT_inr, bE_inl, bE_inr, bET_t, bET_inl, bET_inr, cO_t, cO_f, cS_t, cS_f, bE_bS, bE_bP, bE_gd, bET_bT, bET_bS, bET_bP, bET_gd, bJT_bT, bJT_bS, bJT_bP, bJT_gd, bJT_bJT, bP_bS, bP_bP, bP_gd, bT_bT, bT_bS, bT_bP, bT_gd, bS_bS, bS_bP, bS_gd, reduceIte]
  by_cases w : odV (zz (rdI hc 55 1)) (rdI hc 54 2) (zz (rdI hc 55 0)) (rdI hc 54 1) hc = 0
  · simp only [if_pos w, bP_some]
  · simp only [if_neg w, f_Mo_nearest_eq (fun q => w (toL_0.mp q)) (toL_small _), bP_some]
theorem inB_F {P : hH → hH → Prop} {hc hm : hH} (h : Rm P hc hm) {x : Int32} (hp : ¬ (PT hc (zz (rdI hc 55 0)) (rdI hc 54 1) ∧ PT hc (zz (rdI hc 55 1)) (rdI hc 54 2))) : f_Mo_inBetween x hm = some ((), failM 5 hm) := by
  have z0 := zz_isZ h.r_zp0
  have z1 := zz_isZ h.r_zp1
  unfold f_Mo_inBetween
  by_cases pa : PT hc (zz (rdI hc 55 0)) (rdI hc 54 1)
  · have pb := fun w => hp ⟨pa, w⟩
    simp +decide only [h.s_zp0, h.s_zp1, h.s_rp1, h.s_rp2, f_Mo_pointOf_T h z0 pa, f_Mo_pointOf_F h z1 pb, failM_F, lz, bP_some, bS_some, bT_inl, bT_inr, bJT_inl, bJT_inr, bE_inl, bE_inr, bET_t, bET_inl, bET_inr, cO_t, cO_f, cS_t, cS_f, bE_bS, bE_bP, bE_gd, bET_bT, bET_bS, bET_bP, bET_gd, bJT_bT, bJT_bS, bJT_bP, bJT_gd, bJT_bJT, bP_bS, bP_bP, bP_gd, bT_bT, bT_bS, bT_bP, bT_gd, bS_bS, bS_bP, bS_gd, reduceIte]
  · obtain ⟨u, eu⟩ := f_Mo_pointOf_X (hm := failM 5 hm) (n := rdI (failM 5 hm) 192 73) (p := rdI (failM 5 hm) 192 71) (by rw [failM_F]; decide)
    simp +decide only [h.s_zp0, h.s_rp1, f_Mo_pointOf_F h z0 pa, eu, failM_F, lz, bP_some, bS_some, bT_inl, bT_inr, bJT_inl, bJT_inr, bE_inl, bE_inr, bET_t, bET_inl, bET_inr, cO_t, cO_f, cS_t, cS_f, bE_bS, bE_bP, bE_gd, bET_bT, bET_bS, bET_bP, bET_gd, bJT_bT, bJT_bS, bJT_bP, bJT_gd, bJT_bJT, bP_bS, bP_bP, bP_gd, bT_bT, bT_bS, bT_bP, bT_gd, bS_bS, bS_bP, bS_gd, reduceIte]
theorem isZ_u {z w : Nat} {n m : Int32} (hz : isZ z n) (hw : isZ w m) : z = w ↔ n = m := by
  rcases hz with ⟨rfl, rfl⟩ | ⟨rfl, rfl⟩ <;> rcases hw with ⟨rfl, rfl⟩ | ⟨rfl, rfl⟩ <;> decide
def J57 (n0 n1 a b T C : Int32) (g _m : hH) : Prop := rdI g 55 0 = n0 ∧ rdI g 55 1 = n1 ∧ rdI g 54 1 = a ∧ rdI g 54 2 = b ∧ PT g (zz n0) a ∧ PT g (zz n1) b ∧ odV (zz n1) b (zz n0) a g = T ∧ (¬ T = 0 → dsV (zz n1) b (zz n0) a g = C)
theorem dsV_pop {z w : Nat} {n m p q : Int32} (hz : isZ z n) (hw : isZ w m) {h : hH} : dsV z p w q (popC h) = dsV z p w q h := by
  unfold dsV
  have e : ∀ (w : Nat) (m : Int32), isZ w m → ∀ (j i : Nat), j = 2 ∨ j = 3 → rdI (popC h) (rf w j) i = rdI h (rf w j) i := by
    intro w m hw j i hj
    refine popC_o ?_
    rcases hw with ⟨rfl, rfl⟩ | ⟨rfl, rfl⟩ <;> rcases hj with rfl | rfl <;> simp only [show rf 26 2 = 29 from rfl, show rf 26 3 = 30 from rfl, show rf 34 2 = 37 from rfl, show rf 34 3 = 38 from rfl] <;> omega
  rw [e z n hz 2 _ (Or.inl rfl), e z n hz 3 _ (Or.inr rfl), e w m hw 2 _ (Or.inl rfl), e w m hw 3 _ (Or.inr rfl), popC_o (by decide), popC_o (by decide)]
theorem odV_pop {z w : Nat} {n m p q : Int32} (hz : isZ z n) (hw : isZ w m) {h : hH} : odV z p w q (popC h) = odV z p w q h := by
  unfold odV
  have e : ∀ (w : Nat) (m : Int32), isZ w m → ∀ (j i : Nat), j = 0 ∨ j = 1 → rdI (popC h) (rf w j) i = rdI h (rf w j) i := by
    intro w m hw j i hj
    refine popC_o ?_
    rcases hw with ⟨rfl, rfl⟩ | ⟨rfl, rfl⟩ <;> rcases hj with rfl | rfl <;> simp only [show rf 26 0 = 27 from rfl, show rf 26 1 = 28 from rfl, show rf 34 0 = 35 from rfl, show rf 34 1 = 36 from rfl] <;> omega
  rw [e z n hz 0 _ (Or.inl rfl), e z n hz 1 _ (Or.inr rfl), e w m hw 0 _ (Or.inl rfl), e w m hw 1 _ (Or.inr rfl), popC_o (by decide), popC_o (by decide)]
theorem J57_step {z0 z1 z2 : Nat} {n0 n1 n2 a b p T C : Int32} (h0 : isZ z0 n0) (h1 : isZ z1 n1) (h2 : isZ z2 n2) {g : hH} (pa : PT g z0 a) (pb : PT g z1 b) (pp : PT g z2 p) (ht : odV z1 b z0 a g = T) (hT : ¬ T = 0) (hc : dsV z1 b z0 a g = C) : dsV z1 b z0 a (moveC z2 p (ipV (odV z2 p z0 a g) T C - (dsV z2 p z0 a g).toInt64) g) = C := by
  by_cases e1 : z2 = z1 ∧ p.toNatClampNeg = b.toNatClampNeg
  · obtain ⟨rfl, e⟩ := e1
    have e' : p = b := xI_inj pp.1 pb.1 e
    subst e'
    rw [ht, hc]
    have : ipV T T C - C.toInt64 = 0 := by
      unfold ipV
      rw [if_neg hT, ov_mul (fun q => hT (toL_0.mp q)) (toL_31 _) (toL_31 _)]
      exact Int64.sub_self _
    rw [this, dsV_move h2 h1 h0 (Or.inl rfl)]
    exact hc
  · by_cases e2 : z2 = z0 ∧ p.toNatClampNeg = a.toNatClampNeg
    · obtain ⟨rfl, e⟩ := e2
      have e' : p = a := xI_inj pp.1 pa.1 e
      subst e'
      rw [odV_self, dsV_self]
      have : ipV 0 T C - Int32.toInt64 0 = 0 := by
        unfold ipV
        rw [if_neg hT, show Int32.toInt64 0 = 0 from rfl, Int64.zero_mul, ov_zero (fun q => hT (toL_0.mp q)) (toL_small _)]
        rfl
      rw [this, dsV_move h2 h1 h0 (Or.inl rfl)]
      exact hc
    · rw [dsV_move h2 h1 h0 (Or.inr ⟨e1, e2⟩)]
      exact hc
theorem L_57 {P : hH → hH → Prop} {hc hm : hH} (h : Rm P hc hm) : OK2 (f_Ma_shifting 57 hc) (f_Mo_loops 57 hm) (Tr P) := by
  have rl := h.r_loop
  have t := h.top256
  by_cases q : rdI hc 22 38 ≤ rdI hc 22 15
  · have z0 := zz_isZ h.r_zp0
    have z1 := zz_isZ h.r_zp1
    by_cases pab : PT hc (zz (rdI hc 55 0)) (rdI hc 54 1) ∧ PT hc (zz (rdI hc 55 1)) (rdI hc 54 2)
    · obtain ⟨pa, pb⟩ := pab
      unfold f_Ma_shifting f_Ma_interpolate f_Mo_loops
      simp +decide only [h.s_loop, need_T q, has_T h q, f_Ma_zone_0, f_Ma_zone_1, gd_pos (isA_zz h.r_zp0), gd_pos (isA_zz h.r_zp1), f_Ma_point_T (h.many0 z0) pa, f_Ma_point_T (h.many0 z1) pb, h.oldC z1 pb z0 pa, h.distC z1 pb z0 pa, bET_bJT, bT_bJT, lz, bP_some, bS_some, bT_inl, bT_inr, bJT_inl, bJT_inr, bE_inl, bE_inr, bET_t, bET_inl, bET_inr, cO_t, cO_f, cS_t, cS_f, bE_bS, bE_bP, bE_gd, bET_bT, bET_bS, bET_bP, bET_gd, bJT_bT, bJT_bS, bJT_bP, bJT_gd, bJT_bJT, bP_bS, bP_bP, bP_gd, bT_bT, bT_bS, bT_bP, bT_gd, bS_bS, bS_bP, bS_gd, reduceIte]
      generalize ha : rdI hc 54 1 = a at pa ⊢
      generalize hb : rdI hc 54 2 = b at pb ⊢
      generalize hn0 : rdI hc 55 0 = n0 at pa z0 ⊢
      generalize hn1 : rdI hc 55 1 = n1 at pb z1 ⊢
      generalize hT : odV (zz n1) b (zz n0) a hc = T
      generalize hC : dsV (zz n1) b (zz n0) a hc = C
      refine L_loop (J57 n0 n1 a b T C) h q ⟨hn0, hn1, ha, hb, pa, pb, hT, fun _ => hC⟩ ?_ ?_ ?_
      · intro g m k2 e
        dsimp only
        rw [if_pos (by rw [e]; exact Int32.le_refl _), if_neg (fun w => w.1 (by rw [k2.s_loop, e]; exact Int32.le_refl _))]
        exact ⟨rfl, rfl⟩
      · intro i m w
        dsimp only
        rw [if_neg (fun v => w v.2)]
      · rintro i g m k ⟨j1, j2, j3, j4, j5, j6, j7, j8⟩ e q i0 i1
        have k1 := k.pop q
        have z2 := zz_isZ k1.r_zp2
        have c2 : rdI g 55 2 = rdI (popC g) 55 2 := g1_o (by decide)
        have m2 : rdI m 192 74 = rdI (popC g) 55 2 := k.s_zp2.trans c2
        have d1 : rdI (popC g) 55 0 = n0 := (g1_o (by decide)).symm.trans j1
        have d2 : rdI (popC g) 55 1 = n1 := (g1_o (by decide)).symm.trans j2
        have d3 : rdI (popC g) 54 1 = a := (g1_o (by decide)).symm.trans j3
        have d4 : rdI (popC g) 54 2 = b := (g1_o (by decide)).symm.trans j4
        have d5 : PT (popC g) (zz n0) a := PT_pop.mpr j5
        have d6 : PT (popC g) (zz n1) b := PT_pop.mpr j6
        have d7 : odV (zz n1) b (zz n0) a (popC g) = T := (odV_pop z1 z0).trans j7
        have d8 : ¬ T = 0 → dsV (zz n1) b (zz n0) a (popC g) = C := fun w => (dsV_pop z1 z0).trans (j8 w)
        dsimp only
        rw [if_neg (show ¬ rdI g 22 38 ≤ i by grind), if_pos (show ¬ rdI m 192 75 ≤ i ∧ rdI m 192 59 = 0 from ⟨by rw [k.s_loop]; grind, k.fail⟩)]
        by_cases p : PT (popC g) (zz (rdI (popC g) 55 2)) (tpC g)
        · have ib := inB_T k1 z2 p (by rw [d1, d3]; exact d5) (by rw [d2, d4]; exact d6)
          rw [d1, d2, d3, d4, d7] at ib
          have ib' : f_Mo_inBetween (102 * rdI (popC g) 55 2 + tpC g) (popM m) = some ((), moveM (102 * rdI (popC g) 55 2 + tpC g) (ipV (odV (zz (rdI (popC g) 55 2)) (tpC g) (zz n0) a (popC g)) T C - (dsV (zz (rdI (popC g) 55 2)) (tpC g) (zz n0) a (popC g)).toInt64) (popM m)) := by
            rw [ib]
            by_cases w : T = 0
            · have : ∀ o c c' : Int32, ipV o T c = ipV o T c' := by intro o c c'; unfold ipV; rw [if_pos w, if_pos w]
              rw [this _ C]
            · rw [d8 w]
          have fin : ∀ d, d = ipV (odV (zz (rdI (popC g) 55 2)) (tpC g) (zz n0) a (popC g)) T C - (dsV (zz (rdI (popC g) 55 2)) (tpC g) (zz n0) a (popC g)).toInt64 → OK2 (some (Sum.inr (Sum.inl (i + 1, moveC (zz (rdI (popC g) 55 2)) (tpC g) d (popC g))))) (some (Sum.inl (i + 1, moveM (102 * rdI (popC g) 55 2 + tpC g) d (popM m)))) (LpS P (J57 n0 n1 a b T C) i g) := by
            intro d hd
            refine OK2_of rfl rfl ⟨rfl, rfl, k1.move z2 p _, ⟨?_, ?_, ?_, ?_, (PT_move z2 z0).mpr d5, (PT_move z2 z1).mpr d6, ?_, ?_⟩, ?_, ?_⟩
            · show rdI (moveC _ _ _ _) 55 0 = _
              rw [moveC_o z2 (by omega)]; exact d1
            · show rdI (moveC _ _ _ _) 55 1 = _
              rw [moveC_o z2 (by omega)]; exact d2
            · show rdI (moveC _ _ _ _) 54 1 = _
              rw [moveC_o z2 (by omega)]; exact d3
            · show rdI (moveC _ _ _ _) 54 2 = _
              rw [moveC_o z2 (by omega)]; exact d4
            · show odV _ _ _ _ (moveC _ _ _ _) = _
              rw [odV_move z2 z1 z0]; exact d7
            · intro w
              show dsV _ _ _ _ (moveC _ _ _ _) = _
              rw [hd]
              exact J57_step z0 z1 z2 d5 d6 p d7 w (d8 w)
            · show rdI (moveC _ _ _ _) 22 38 = _
              rw [moveC_o z2 (by omega)]
              exact popC_o (by decide)
            · show rdI (moveC _ _ _ _) 22 15 = _
              rw [moveC_o z2 (by omega)]
              exact popC_top
          by_cases w : T = 0
          · have w' : T.toInt64 = 0 := toL_0.mpr w
            simp +decide only [f_Ma_pop_eq q k.top256, f_Mo_pop_eq k q, f_Ma_zone_2, c2, m2, gd_pos (isA_zz k1.r_zp2), f_Ma_point_T (k1.many0 z2) p, f_Mo_pointOf_T k1 z2 p, k1.fail, k1.oldC z2 p z0 d5, k1.distC z2 p z0 d5, if_pos w', ib', f_Ma_move_eq z2 (k1.vpC z2 p), lz, bP_some, bS_some, bT_inl, bT_inr, bJT_inl, bJT_inr, bE_inl, bE_inr, bET_t, bET_inl, bET_inr, cO_t, cO_f, cS_t, cS_f, bE_bS, bE_bP, bE_gd, bET_bT, bET_bS, bET_bP, bET_gd, bJT_bT, bJT_bS, bJT_bP, bJT_gd, bJT_bJT, bP_bS, bP_bP, bP_gd, bT_bT, bT_bS, bT_bP, bT_gd, bS_bS, bS_bP, bS_gd, reduceIte]
            have e3 : ∀ o, ipV o T C = o.toInt64 := fun o => by unfold ipV; rw [if_pos w]
            rw [e3]
            exact fin _ (by rw [e3])
          · have w' : ¬ T.toInt64 = 0 := fun q => w (toL_0.mp q)
            simp +decide only [f_Ma_pop_eq q k.top256, f_Mo_pop_eq k q, f_Ma_zone_2, c2, m2, gd_pos (isA_zz k1.r_zp2), f_Ma_point_T (k1.many0 z2) p, f_Mo_pointOf_T k1 z2 p, k1.fail, k1.oldC z2 p z0 d5, k1.distC z2 p z0 d5, if_neg w', f_HH_over_eq w', ib', f_Ma_move_eq z2 (k1.vpC z2 p), lz, bP_some, bS_some, bT_inl, bT_inr, bJT_inl, bJT_inr, bE_inl, bE_inr, bET_t, bET_inl, bET_inr, cO_t, cO_f, cS_t, cS_f, bE_bS, bE_bP, bE_gd, bET_bT, bET_bS, bET_bP, bET_gd, bJT_bT, bJT_bS, bJT_bP, bJT_gd, bJT_bJT, bP_bS, bP_bP, bP_gd, bT_bT, bT_bS, bT_bP, bT_gd, bS_bS, bS_bP, bS_gd, reduceIte]
            have e3 : ∀ o, ipV o T C = ov (o.toInt64 * C.toInt64) T.toInt64 := fun o => by unfold ipV; rw [if_neg w]
            rw [e3]
            exact fin _ (by rw [e3])
        · simp +decide only [f_Ma_pop_eq q k.top256, f_Mo_pop_eq k q, f_Ma_zone_2, c2, m2, gd_pos (isA_zz k1.r_zp2), f_Ma_point_F (k1.many0 z2) p, f_Mo_pointOf_F k1 z2 p, failM_F, lz, bP_some, bS_some, bT_inl, bT_inr, bJT_inl, bJT_inr, bE_inl, bE_inr, bET_t, bET_inl, bET_inr, cO_t, cO_f, cS_t, cS_f, bE_bS, bE_bP, bE_gd, bET_bT, bET_bS, bET_bP, bET_gd, bJT_bT, bJT_bS, bJT_bP, bJT_gd, bJT_bJT, bP_bS, bP_bP, bP_gd, bT_bT, bT_bS, bT_bP, bT_gd, bS_bS, bS_bP, bS_gd, reduceIte]
          exact OK2_of rfl rfl (k1.fails (by decide))
    · have q1 : 1 ≤ rdI hc 22 15 := by grind
      have k := h.pop q1
      have z2 := zz_isZ k.r_zp2
      have m2 : rdI hm 192 74 = rdI (popC hc) 55 2 := h.s_zp2.trans (g1_o (by decide))
      have fc : f_Ma_interpolate hc = some (.inl (failC 5 hc)) := by
        unfold f_Ma_interpolate
        by_cases pa : PT hc (zz (rdI hc 55 0)) (rdI hc 54 1)
        · simp +decide only [f_Ma_zone_0, f_Ma_zone_1, gd_pos (isA_zz h.r_zp0), gd_pos (isA_zz h.r_zp1), f_Ma_point_T (h.many0 z0) pa, f_Ma_point_F (h.many0 z1) (fun w => pab ⟨pa, w⟩), lz, bP_some, bS_some, bT_inl, bT_inr, bJT_inl, bJT_inr, bE_inl, bE_inr, bET_t, bET_inl, bET_inr, cO_t, cO_f, cS_t, cS_f, bE_bS, bE_bP, bE_gd, bET_bT, bET_bS, bET_bP, bET_gd, bJT_bT, bJT_bS, bJT_bP, bJT_gd, bJT_bJT, bP_bS, bP_bP, bP_gd, bT_bT, bT_bS, bT_bP, bT_gd, bS_bS, bS_bP, bS_gd, reduceIte]
        · simp +decide only [f_Ma_zone_0, f_Ma_zone_1, gd_pos (isA_zz h.r_zp0), f_Ma_point_F (h.many0 z0) pa, lz, bP_some, bS_some, bT_inl, bT_inr, bJT_inl, bJT_inr, bE_inl, bE_inr, bET_t, bET_inl, bET_inr, cO_t, cO_f, cS_t, cS_f, bE_bS, bE_bP, bE_gd, bET_bT, bET_bS, bET_bP, bET_gd, bJT_bT, bJT_bS, bJT_bP, bJT_gd, bJT_bJT, bP_bS, bP_bP, bP_gd, bT_bT, bT_bS, bT_bP, bT_gd, bS_bS, bS_bP, bS_gd, reduceIte]
      have pk : ¬ (PT (popC hc) (zz (rdI (popC hc) 55 0)) (rdI (popC hc) 54 1) ∧ PT (popC hc) (zz (rdI (popC hc) 55 1)) (rdI (popC hc) 54 2)) := by
        rw [← g1_o (by decide), ← g1_o (by decide), ← g1_o (by decide), ← g1_o (by decide)]
        exact fun w => pab ⟨PT_pop.mp w.1, PT_pop.mp w.2⟩
      unfold f_Ma_shifting f_Mo_loops
      simp +decide only [h.s_loop, need_T q, has_T h q, fc, lz, bP_some, bS_some, bT_inl, bT_inr, bJT_inl, bJT_inr, bE_inl, bE_inr, bET_t, bET_inl, bET_inr, cO_t, cO_f, cS_t, cS_f, bE_bS, bE_bP, bE_gd, bET_bT, bET_bS, bET_bP, bET_gd, bJT_bT, bJT_bS, bJT_bP, bJT_gd, bJT_bJT, bP_bS, bP_bP, bP_gd, bT_bT, bT_bS, bT_bP, bT_gd, bS_bS, bS_bP, bS_gd, reduceIte]
      rw [wh_eq]
      dsimp only
      rw [if_pos (show ¬ rdI hm 192 75 ≤ 0 ∧ rdI hm 192 59 = 0 from ⟨by rw [h.s_loop]; grind, h.fail⟩)]
      by_cases p : PT (popC hc) (zz (rdI (popC hc) 55 2)) (tpC hc)
      · simp +decide only [f_Mo_pop_eq h q1, m2, f_Mo_pointOf_T k z2 p, k.fail, inB_F k pk, lz, bP_some, bS_some, bT_inl, bT_inr, bJT_inl, bJT_inr, bE_inl, bE_inr, bET_t, bET_inl, bET_inr, cO_t, cO_f, cS_t, cS_f, bE_bS, bE_bP, bE_gd, bET_bT, bET_bS, bET_bP, bET_gd, bJT_bT, bJT_bS, bJT_bP, bJT_gd, bJT_bJT, bP_bS, bP_bP, bP_gd, bT_bT, bT_bS, bT_bP, bT_gd, bS_bS, bS_bP, bS_gd, reduceIte]
        rw [wh_eq]
        simp +decide only [failM_F, and_false, lz, bP_some, bS_some, bT_inl, bT_inr, bJT_inl, bJT_inr, bE_inl, bE_inr, bET_t, bET_inl, bET_inr, cO_t, cO_f, cS_t, cS_f, bE_bS, bE_bP, bE_gd, bET_bT, bET_bS, bET_bP, bET_gd, bJT_bT, bJT_bS, bJT_bP, bJT_gd, bJT_bJT, bP_bS, bP_bP, bP_gd, bT_bT, bT_bS, bT_bP, bT_gd, bS_bS, bS_bP, bS_gd, reduceIte]
        exact OK2_of rfl rfl (Tr_f ((h.fails1 (by decide)).mw _ rfl (by decide)))
      · simp +decide only [f_Mo_pop_eq h q1, m2, f_Mo_pointOf_F k z2 p, failM_F, lz, bP_some, bS_some, bT_inl, bT_inr, bJT_inl, bJT_inr, bE_inl, bE_inr, bET_t, bET_inl, bET_inr, cO_t, cO_f, cS_t, cS_f, bE_bS, bE_bP, bE_gd, bET_bT, bET_bS, bET_bP, bET_gd, bJT_bT, bJT_bS, bJT_bP, bJT_gd, bJT_bJT, bP_bS, bP_bP, bP_gd, bT_bT, bT_bS, bT_bP, bT_gd, bS_bS, bS_bP, bS_gd, reduceIte]
        rw [wh_eq]
        simp +decide only [failM_F, and_false, lz, bP_some, bS_some, bT_inl, bT_inr, bJT_inl, bJT_inr, bE_inl, bE_inr, bET_t, bET_inl, bET_inr, cO_t, cO_f, cS_t, cS_f, bE_bS, bE_bP, bE_gd, bET_bT, bET_bS, bET_bP, bET_gd, bJT_bT, bJT_bS, bJT_bP, bJT_gd, bJT_bJT, bP_bS, bP_bP, bP_gd, bT_bT, bT_bS, bT_bP, bT_gd, bS_bS, bS_bP, bS_gd, reduceIte]
        exact OK2_of rfl rfl (Tr_f ((h.fails1 (by decide)).mw _ rfl (by decide)))
  · have q' := le_of_not q
    unfold f_Ma_shifting f_Mo_loops
    simp +decide only [h.s_loop, need_F q', has_F h q', lz, bP_some, bS_some, bT_inl, bT_inr, bJT_inl, bJT_inr, bE_inl, bE_inr, bET_t, bET_inl, bET_inr, cO_t, cO_f, cS_t, cS_f, bE_bS, bE_bP, bE_gd, bET_bT, bET_bS, bET_bP, bET_gd, bJT_bT, bJT_bS, bJT_bP, bJT_gd, bJT_bJT, bP_bS, bP_bP, bP_gd, bT_bT, bT_bS, bT_bP, bT_gd, bS_bS, bS_bP, bS_gd, reduceIte]
    exact OK2_of rfl rfl (Tr_f (h.fails (by decide)))
theorem op_57 {P : hH → hH → Prop} {hc hm : hH} (h : Rm P hc hm) : OK2 (f_Ma_low 57 hc) (f_Mo_middle 57 hm) (Tr P) := by
  unfold f_Ma_low f_Ma_moving f_Mo_middle
  simp +decide only [lz, bP_some, bS_some, bT_inl, bT_inr, bJT_inl, bJT_inr, bE_inl, bE_inr, bET_t, bET_inl, bET_inr, cO_t, cO_f, cS_t, cS_f, bE_bS, bE_bP, bE_gd, bET_bT, bET_bS, bET_bP, bET_gd, bJT_bT, bJT_bS, bJT_bP, bJT_gd, bJT_bJT, bP_bS, bP_bP, bP_gd, bT_bT, bT_bS, bT_bP, bT_gd, bS_bS, bS_bP, bS_gd, reduceIte]
  exact E_T (hc := hc) (hm := hm) (L_57 h)
