/-! LAYER 3A: deltas (codes 93, 113 to 117) -/
theorem OK2_bJTl {A X Y : Type} {o : Option (hH ⊕ A)} {p : Option Y} {k : A → Option (hH ⊕ X)} {Φ : hH ⊕ X → Y → Prop} (h : OK2 o p (fun a b => TT (fun h => Φ (.inl h) b) (fun q => OK (k q) (fun x => Φ x b)) a)) : OK2 (bJT o k) p Φ := by
  obtain ⟨x, y, e, e', h⟩ := h
  rw [e, e']
  cases x with
  | inl g => exact ⟨_, _, rfl, rfl, h⟩
  | inr q =>
    obtain ⟨z, e, hz⟩ := h
    exact ⟨z, _, e, rfl, hz⟩
theorem and15 (x : Int32) : 0 ≤ x &&& 15 ∧ x &&& 15 ≤ 15 := by
  have e : (x &&& 15).toInt = ((x.toBitVec.toNat &&& 15 : Nat) : Int) := by
    have h1 : (x &&& 15).toBitVec.toNat = x.toBitVec.toNat &&& 15 := by
      rw [Int32.toBitVec_and, BitVec.toNat_and]
      rfl
    have h2 : x.toBitVec.toNat &&& 15 ≤ 15 := Nat.and_le_right
    show (x &&& 15).toBitVec.toInt = _
    rw [BitVec.toInt_eq_toNat_of_lt (by rw [h1]; omega), h1]
  have h2 : x.toBitVec.toNat &&& 15 ≤ 15 := Nat.and_le_right
  have e0 : (0 : Int32).toInt = 0 := rfl
  have e1 : (15 : Int32).toInt = 15 := rfl
  rw [Int32.le_iff_toInt_le, Int32.le_iff_toInt_le, e, e0, e1]
  omega
theorem told_eq {b e x p : Int32} (he : 0 ≤ e ∧ e ≤ 15) (hx : x = 0 ∨ x = 16 ∨ x = 32) (hp : 4 ≤ p ∧ p ≤ 48) : (b.toInt64 + e.toInt64 + x.toInt64 = p.toInt64) ↔ (p = b + e + x) := by
  have i0 : (0 : Int32).toInt = 0 := rfl
  have i15 : (15 : Int32).toInt = 15 := rfl
  have i4 : (4 : Int32).toInt = 4 := rfl
  have i48 : (48 : Int32).toInt = 48 := rfl
  have x1 : 0 ≤ x.toInt ∧ x.toInt ≤ 32 := by rcases hx with rfl | rfl | rfl <;> decide
  have e1 := Int32.le_iff_toInt_le.mp he.1
  have e2 := Int32.le_iff_toInt_le.mp he.2
  have p1 := Int32.le_iff_toInt_le.mp hp.1
  have p2 := Int32.le_iff_toInt_le.mp hp.2
  rw [i0] at e1
  rw [i15] at e2
  rw [i4] at p1
  rw [i48] at p2
  have s1 : (p - e).toInt = p.toInt - e.toInt := i32_sub (by omega) (by omega)
  have s2 : (p - e - x).toInt = p.toInt - e.toInt - x.toInt := by rw [i32_sub (by omega) (by omega), s1]
  have rb := i32_rng b
  have a1 : (b.toInt64 + e.toInt64).toInt = b.toInt + e.toInt := by
    rw [i64_add (by rw [Int32.toInt_toInt64, Int32.toInt_toInt64]; omega) (by rw [Int32.toInt_toInt64, Int32.toInt_toInt64]; omega), Int32.toInt_toInt64, Int32.toInt_toInt64]
  have a2 : (b.toInt64 + e.toInt64 + x.toInt64).toInt = b.toInt + e.toInt + x.toInt := by
    rw [i64_add (by rw [a1, Int32.toInt_toInt64]; omega) (by rw [a1, Int32.toInt_toInt64]; omega), a1, Int32.toInt_toInt64]
  constructor
  · intro q
    have q1 := congrArg Int64.toInt q
    rw [a2, Int32.toInt_toInt64] at q1
    have q2 : b = p - e - x := Int32.toInt_inj.mp (by rw [s2]; omega)
    rw [q2]
    grind
  · intro q
    have q2 : b = p - e - x := by rw [q]; grind
    apply Int64.toInt_inj.mp
    rw [a2, Int32.toInt_toInt64, q2, s2]
    omega
theorem dl_eq {w s : Int32} (hw : 0 ≤ w ∧ w ≤ 15) (hs : 0 ≤ s ∧ s ≤ 6) : (Int32.toInt64 (if w - 8 < 0 then w - 8 else w - 8 + 1)) <<< ((Int32.toInt64 (6 - s)) &&& 63) = (Int32.toInt64 (w - (if w < 8 then 8 else 7))) * ((1 : Int64) <<< ((Int32.toInt64 (6 - s)) &&& 63)) := by
  have hw' : w = 0 ∨ w = 1 ∨ w = 2 ∨ w = 3 ∨ w = 4 ∨ w = 5 ∨ w = 6 ∨ w = 7 ∨ w = 8 ∨ w = 9 ∨ w = 10 ∨ w = 11 ∨ w = 12 ∨ w = 13 ∨ w = 14 ∨ w = 15 := by grind
  have hs' : s = 0 ∨ s = 1 ∨ s = 2 ∨ s = 3 ∨ s = 4 ∨ s = 5 ∨ s = 6 := by grind
  rcases hw' with rfl | rfl | rfl | rfl | rfl | rfl | rfl | rfl | rfl | rfl | rfl | rfl | rfl | rfl | rfl | rfl <;> rcases hs' with rfl | rfl | rfl | rfl | rfl | rfl | rfl <;> decide
theorem twice {n t : Int32} (hn : 0 ≤ n) (ht : 0 ≤ t ∧ t ≤ 256) : (t.toInt64 < 2 * n.toInt64) ↔ (128 < n ∨ ¬ 2 * n ≤ t) := by
  have i0 : (0 : Int32).toInt = 0 := rfl
  have i2 : (2 : Int32).toInt = 2 := rfl
  have l2 : (2 : Int64).toInt = 2 := rfl
  have i128 : (128 : Int32).toInt = 128 := rfl
  have i256 : (256 : Int32).toInt = 256 := rfl
  have n1 := Int32.le_iff_toInt_le.mp hn
  have t1 := Int32.le_iff_toInt_le.mp ht.1
  have t2 := Int32.le_iff_toInt_le.mp ht.2
  rw [i0] at n1 t1
  rw [i256] at t2
  have rn := i32_rng n
  have e : (2 * n.toInt64).toInt = 2 * n.toInt := by
    rw [i64_mul (by rw [l2, Int32.toInt_toInt64]; omega) (by rw [l2, Int32.toInt_toInt64]; omega), l2, Int32.toInt_toInt64]
  rw [Int64.lt_iff_toInt_lt, e, Int32.toInt_toInt64, Int32.lt_iff_toInt_lt, i128]
  by_cases w : n.toInt ≤ 128
  · have e2 : (2 * n).toInt = 2 * n.toInt := by rw [i32_mul (by rw [i2]; omega) (by rw [i2]; omega), i2]
    rw [Int32.le_iff_toInt_le, e2]
    omega
  · omega
theorem L_deltas {P : hH → hH → Prop} {hc hm : hH} (h : Rm P hc hm) {x1 x2 y2 : Int32} (hx : x1 = 0 ∨ x1 = 16 ∨ x1 = 32) (h2 : (x2 = 0 ∧ y2 = 1) ∨ (x2 = 1 ∧ y2 = 0)) : OK2 (f_Ma_deltas x1 x2 hc) (f_Mo_deltas x1 y2 hm) (Tr P) := by
  unfold f_Ma_deltas f_Mo_deltas
  by_cases q : 1 ≤ rdI hc 22 15
  · have k := h.pop q
    simp +decide only [need_T q, has_T h q, f_Ma_pop_eq q h.top256, f_Mo_pop_eq h q, lz, bP_some, bS_some, bT_inl, bT_inr, bJT_inl, bJT_inr, bE_inl, bE_inr, bET_t, bET_inl, bET_inr, cO_t, cO_f, cS_t, cS_f, bE_bS, bE_bP, bE_gd, bET_bT, bET_bS, bET_bP, bET_gd, bJT_bT, bJT_bS, bJT_bP, bJT_gd, bJT_bJT, bP_bS, bP_bP, bP_gd, bT_bT, bT_bS, bT_bP, bT_gd, bS_bS, bS_bP, bS_gd, reduceIte]
    generalize tpC hc = n
    by_cases n0 : n < 0
    · simp +decide only [if_pos n0, if_neg (Int32.not_le.mpr n0), f_Ma_want_0, f_Mo_fail_eq k.fail, lz, bP_some, bS_some, bT_inl, bT_inr, bJT_inl, bJT_inr, bE_inl, bE_inr, bET_t, bET_inl, bET_inr, cO_t, cO_f, cS_t, cS_f, bE_bS, bE_bP, bE_gd, bET_bT, bET_bS, bET_bP, bET_gd, bJT_bT, bJT_bS, bJT_bP, bJT_gd, bJT_bJT, bP_bS, bP_bP, bP_gd, bT_bT, bT_bS, bT_bP, bT_gd, bS_bS, bS_bP, bS_gd, reduceIte]
      exact OK2_of rfl rfl (Tr_f (k.fails (by decide)))
    · have n1 := Int32.not_lt.mp n0
      have tw := twice n1 ⟨k.r_top.1, k.top256⟩
      by_cases w : (rdI (popC hc) 22 15).toInt64 < 2 * n.toInt64
      · have w' := tw.mp w
        simp +decide only [if_neg n0, if_pos n1, f_Ma_want_1, if_pos w, k.s_top, if_pos w', f_Ma_want_0, f_Mo_fail_eq k.fail, lz, bP_some, bS_some, bT_inl, bT_inr, bJT_inl, bJT_inr, bE_inl, bE_inr, bET_t, bET_inl, bET_inr, cO_t, cO_f, cS_t, cS_f, bE_bS, bE_bP, bE_gd, bET_bT, bET_bS, bET_bP, bET_gd, bJT_bT, bJT_bS, bJT_bP, bJT_gd, bJT_bJT, bP_bS, bP_bP, bP_gd, bT_bT, bT_bS, bT_bP, bT_gd, bS_bS, bS_bP, bS_gd, reduceIte]
        exact OK2_of rfl rfl (Tr_f (k.fails (by decide)))
      · have w' : ¬ (128 < n ∨ ¬ 2 * n ≤ rdI (popC hc) 22 15) := fun z => w (tw.mpr z)
        have t0 := k.top256
        simp +decide only [if_neg n0, if_pos n1, f_Ma_want_1, if_neg w, k.s_top, if_neg w', lz, bP_some, bS_some, bT_inl, bT_inr, bJT_inl, bJT_inr, bE_inl, bE_inr, bET_t, bET_inl, bET_inr, cO_t, cO_f, cS_t, cS_f, bE_bS, bE_bP, bE_gd, bET_bT, bET_bS, bET_bP, bET_gd, bJT_bT, bJT_bS, bJT_bP, bJT_gd, bJT_bJT, bP_bS, bP_bP, bP_gd, bT_bT, bT_bS, bT_bP, bT_gd, bS_bS, bS_bP, bS_gd, reduceIte]
        refine OK2_bJTl (OK2_mono (OK2_whT (A := Int32 × hH) (A' := Int32 × hH) (B := hH) (B' := Unit × hH) (Φ := fun y z => TT (fun g => Rf P g z.2) (fun g => Rm P g z.2) y) (fun s t => s.1 = t.1 ∧ Rm P s.2 t.2 ∧ 0 ≤ s.1 ∧ s.1 ≤ n ∧ 2 * (n - s.1) ≤ rdI s.2 22 15) (fun s => n.toNatClampNeg - s.1.toNatClampNeg) ?_ (s := (0, (popC hc))) (t := (0, (popM hm))) ⟨rfl, k, by show (0 : Int32) ≤ 0; decide, n1, by show 2 * (n - 0) ≤ rdI (popC hc) 22 15; grind⟩) ?_)
        · rintro ⟨i, g⟩ ⟨j, m⟩ ⟨h1, h2', h3, h4, h5⟩
          dsimp only at h1 h2' h3 h4 h5
          subst h1
          dsimp only
          by_cases z : n ≤ i
          · rw [if_pos z, if_pos z]
            exact OK2_of rfl rfl h2'
          · have tg := h2'.top256
            have q2 : 2 ≤ rdI g 22 15 := by grind
            obtain ⟨r1, k1, r2, k2⟩ := h2'.two q2
            have ii : (i + 1).toNatClampNeg = i.toNatClampNeg + 1 := xI_succ (m := 256) h3 (by grind) (by decide)
            have i2 := (xI_lt h3 n1).mpr (show i < n by grind)
            have mu : n.toNatClampNeg - (i + 1).toNatClampNeg < n.toNatClampNeg - i.toNatClampNeg := by omega
            have tp : rdI (popC (popC g)) 22 15 = rdI g 22 15 - 2 := by rw [popC_top, popC_top]; grind
            have go : ∀ g' m', Rm P g' m' → rdI g' 22 15 = rdI g 22 15 - 2 → (((i + 1, g').1 = (i + 1, m').1 ∧ Rm P (i + 1, g').2 (i + 1, m').2 ∧ 0 ≤ (i + 1, g').1 ∧ (i + 1, g').1 ≤ n ∧ 2 * (n - (i + 1, g').1) ≤ rdI (i + 1, g').2 22 15) ∧ n.toNatClampNeg - (i + 1, g').1.toNatClampNeg < n.toNatClampNeg - (i, g).1.toNatClampNeg) := by
              intro g' m' r e
              refine ⟨⟨rfl, r, ?_, ?_, ?_⟩, mu⟩
              · show 0 ≤ i + 1; grind
              · show i + 1 ≤ n; grind
              · show 2 * (n - (i + 1)) ≤ rdI g' 22 15; rw [e]; grind
            rw [if_neg z, if_neg z, if_pos h2'.fail]
            have to := told_eq (b := rdI (popC (popC g)) 33 5) (and15 (tpC (popC g) >>> ((4 : Int32) &&& 31))) hx k2.r_ppem
            have de := dl_eq (and15 (tpC (popC g))) k2.r_shift
            by_cases told : rdI (popC (popC g)) 22 4 = rdI (popC (popC g)) 33 5 + ((tpC (popC g) >>> ((4 : Int32) &&& 31)) &&& 15) + x1
            · have z0 := zz_isZ k2.r_zp0
              have told' := to.mpr told
              rcases h2 with ⟨rfl, rfl⟩ | ⟨rfl, rfl⟩
              · by_cases p : PT (popC (popC g)) (zz (rdI (popC (popC g)) 55 0)) (tpC g)
                · simp +decide only [f_Ma_pop_eq r1 h2'.top256, f_Mo_pop_eq h2' r1, f_Ma_pop_eq r2 k1.top256, f_Mo_pop_eq k1 r2, and_false, if_pos told', k2.s_ppem, k2.s_base, k2.s_shift, if_pos told, f_Ma_zone_0, gd_pos (isA_zz k2.r_zp0), f_Ma_point_T (k2.many0 z0) p, k2.s_zp0, f_Mo_pointOf_T k2 z0 p, k2.fail, f_Ma_move_eq z0 (k2.vpC z0 p), f_Mo_move_eq (k2.vpM z0 p), de, lz, bP_some, bS_some, bT_inl, bT_inr, bJT_inl, bJT_inr, bE_inl, bE_inr, bET_t, bET_inl, bET_inr, cO_t, cO_f, cS_t, cS_f, bE_bS, bE_bP, bE_gd, bET_bT, bET_bS, bET_bP, bET_gd, bJT_bT, bJT_bS, bJT_bP, bJT_gd, bJT_bJT, bP_bS, bP_bP, bP_gd, bT_bT, bT_bS, bT_bP, bT_gd, bS_bS, bS_bP, bS_gd, reduceIte]
                  exact OK2_of rfl rfl (go _ _ (k2.move z0 p _) (by rw [moveC_o z0 (by omega)]; exact tp))
                · simp +decide only [f_Ma_pop_eq r1 h2'.top256, f_Mo_pop_eq h2' r1, f_Ma_pop_eq r2 k1.top256, f_Mo_pop_eq k1 r2, and_false, if_pos told', k2.s_ppem, k2.s_base, if_pos told, f_Ma_zone_0, gd_pos (isA_zz k2.r_zp0), f_Ma_point_F (k2.many0 z0) p, k2.s_zp0, f_Mo_pointOf_F k2 z0 p, failM_F, lz, bP_some, bS_some, bT_inl, bT_inr, bJT_inl, bJT_inr, bE_inl, bE_inr, bET_t, bET_inl, bET_inr, cO_t, cO_f, cS_t, cS_f, bE_bS, bE_bP, bE_gd, bET_bT, bET_bS, bET_bP, bET_gd, bJT_bT, bJT_bS, bJT_bP, bJT_gd, bJT_bJT, bP_bS, bP_bP, bP_gd, bT_bT, bT_bS, bT_bP, bT_gd, bS_bS, bS_bP, bS_gd, reduceIte]
                  refine OK2_of rfl rfl ?_
                  show OK (wh _ (i + 1, failM 5 (popM (popM m)))) _
                  rw [wh_eq]
                  simp +decide only [failM_F, ite_self, lz, bP_some, bS_some, bT_inl, bT_inr, bJT_inl, bJT_inr, bE_inl, bE_inr, bET_t, bET_inl, bET_inr, cO_t, cO_f, cS_t, cS_f, bE_bS, bE_bP, bE_gd, bET_bT, bET_bS, bET_bP, bET_gd, bJT_bT, bJT_bS, bJT_bP, bJT_gd, bJT_bJT, bP_bS, bP_bP, bP_gd, bT_bT, bT_bS, bT_bP, bT_gd, bS_bS, bS_bP, bS_gd, reduceIte]
                  exact OK_some (k2.fails (by decide))
              · by_cases p : 0 ≤ tpC g ∧ tpC g < rdI (popC (popC g)) 23 1
                · simp +decide only [f_Ma_pop_eq r1 h2'.top256, f_Mo_pop_eq h2' r1, f_Ma_pop_eq r2 k1.top256, f_Mo_pop_eq k1 r2, and_true, if_pos told', k2.s_ppem, k2.s_base, k2.s_shift, if_pos told, within_0 k2.r_cvtM.1, if_pos p, f_Ma_want_1, gd_pos (vp256 k2 p), cvtOf_T k2 p, k2.fail, de, lz, bP_some, bS_some, bT_inl, bT_inr, bJT_inl, bJT_inr, bE_inl, bE_inr, bET_t, bET_inl, bET_inr, cO_t, cO_f, cS_t, cS_f, bE_bS, bE_bP, bE_gd, bET_bT, bET_bS, bET_bP, bET_gd, bJT_bT, bJT_bS, bJT_bP, bJT_gd, bJT_bJT, bP_bS, bP_bP, bP_gd, bT_bT, bT_bS, bT_bP, bT_gd, bS_bS, bS_bP, bS_gd, reduceIte]
                  exact OK2_of rfl rfl (go _ _ (k2.set_cvt _ _) (by rw [rdI_o (by decide)]; exact tp))
                · simp +decide only [f_Ma_pop_eq r1 h2'.top256, f_Mo_pop_eq h2' r1, f_Ma_pop_eq r2 k1.top256, f_Mo_pop_eq k1 r2, and_true, if_pos told', k2.s_ppem, k2.s_base, if_pos told, within_0 k2.r_cvtM.1, if_neg p, f_Ma_want_0, cvtOf_F k2 p, failM_F, lz, bP_some, bS_some, bT_inl, bT_inr, bJT_inl, bJT_inr, bE_inl, bE_inr, bET_t, bET_inl, bET_inr, cO_t, cO_f, cS_t, cS_f, bE_bS, bE_bP, bE_gd, bET_bT, bET_bS, bET_bP, bET_gd, bJT_bT, bJT_bS, bJT_bP, bJT_gd, bJT_bJT, bP_bS, bP_bP, bP_gd, bT_bT, bT_bS, bT_bP, bT_gd, bS_bS, bS_bP, bS_gd, reduceIte]
                  refine OK2_of rfl rfl ?_
                  show OK (wh _ (i + 1, failM 6 (popM (popM m)))) _
                  rw [wh_eq]
                  simp +decide only [failM_F, ite_self, lz, bP_some, bS_some, bT_inl, bT_inr, bJT_inl, bJT_inr, bE_inl, bE_inr, bET_t, bET_inl, bET_inr, cO_t, cO_f, cS_t, cS_f, bE_bS, bE_bP, bE_gd, bET_bT, bET_bS, bET_bP, bET_gd, bJT_bT, bJT_bS, bJT_bP, bJT_gd, bJT_bJT, bP_bS, bP_bP, bP_gd, bT_bT, bT_bS, bT_bP, bT_gd, bS_bS, bS_bP, bS_gd, reduceIte]
                  exact OK_some (k2.fails (by decide))
            · have told' := fun z => told (to.mp z)
              simp +decide only [f_Ma_pop_eq r1 h2'.top256, f_Mo_pop_eq h2' r1, f_Ma_pop_eq r2 k1.top256, f_Mo_pop_eq k1 r2, if_neg told', if_neg (fun z => told' (And.left z)), k2.s_ppem, k2.s_base, if_neg told, lz, bP_some, bS_some, bT_inl, bT_inr, bJT_inl, bJT_inr, bE_inl, bE_inr, bET_t, bET_inl, bET_inr, cO_t, cO_f, cS_t, cS_f, bE_bS, bE_bP, bE_gd, bET_bT, bET_bS, bET_bP, bET_gd, bJT_bT, bJT_bS, bJT_bP, bJT_gd, bJT_bJT, bP_bS, bP_bP, bP_gd, bT_bT, bT_bS, bT_bP, bT_gd, bS_bS, bS_bP, bS_gd, reduceIte]
              exact OK2_of rfl rfl (go _ _ k2 tp)
        · intro y z hy
          rcases y with g | g
          · exact hy
          · exact OK_some hy
  · have q' := le_of_not q
    simp +decide only [need_F q', has_F h q', lz, bP_some, bS_some, bT_inl, bT_inr, bJT_inl, bJT_inr, bE_inl, bE_inr, bET_t, bET_inl, bET_inr, cO_t, cO_f, cS_t, cS_f, bE_bS, bE_bP, bE_gd, bET_bT, bET_bS, bET_bP, bET_gd, bJT_bT, bJT_bS, bJT_bP, bJT_gd, bJT_bJT, bP_bS, bP_bP, bP_gd, bT_bT, bT_bS, bT_bP, bT_gd, bS_bS, bS_bP, bS_gd, reduceIte]
    exact OK2_of rfl rfl (Tr_f (h.fails (by decide)))
theorem op_93 {P : hH → hH → Prop} {hc hm : hH} (h : Rm P hc hm) : OK2 (f_Ma_middle 93 hc) (f_Mo_middle 93 hm) (Tr P) := by
  unfold f_Ma_middle f_Mo_middle f_Mo_tests
  simp +decide only [lz, bP_some, bS_some, bT_inl, bT_inr, bJT_inl, bJT_inr, bE_inl, bE_inr, bET_t, bET_inl, bET_inr, cO_t, cO_f, cS_t, cS_f, bE_bS, bE_bP, bE_gd, bET_bT, bET_bS, bET_bP, bET_gd, bJT_bT, bJT_bS, bJT_bP, bJT_gd, bJT_bJT, bP_bS, bP_bP, bP_gd, bT_bT, bT_bS, bT_bP, bT_gd, bS_bS, bS_bP, bS_gd, reduceIte]
  exact E_T (hc := hc) (hm := hm) (L_deltas h (Or.inl rfl) (Or.inl ⟨rfl, rfl⟩))
theorem op_113 {P : hH → hH → Prop} {hc hm : hH} (h : Rm P hc hm) {c : Int32} (hcc : c = 113 ∨ c = 114 ∨ c = 115 ∨ c = 116 ∨ c = 117) : OK2 (f_Ma_upper c hc) (f_Mo_high c hm) (Tr P) := by
  have e1 : (16 : Int32) * (113 - 112) = 16 := by decide
  have e2 : (16 : Int32) * (114 - 112) = 32 := by decide
  have e3 : (16 : Int32) * (115 - 115) = 0 := by decide
  have e4 : (16 : Int32) * (116 - 115) = 16 := by decide
  have e5 : (16 : Int32) * (117 - 115) = 32 := by decide
  rcases hcc with rfl | rfl | rfl | rfl | rfl <;> unfold f_Ma_upper f_Ma_last f_Mo_high <;> simp +decide only [e1, e2, e3, e4, e5, lz, bP_some, bS_some, bT_inl, bT_inr, bJT_inl, bJT_inr, bE_inl, bE_inr, bET_t, bET_inl, bET_inr, cO_t, cO_f, cS_t, cS_f, bE_bS, bE_bP, bE_gd, bET_bT, bET_bS, bET_bP, bET_gd, bJT_bT, bJT_bS, bJT_bP, bJT_gd, bJT_bJT, bP_bS, bP_bP, bP_gd, bT_bT, bT_bS, bT_bP, bT_gd, bS_bS, bS_bP, bS_gd, reduceIte]
  · exact E_T (hc := hc) (hm := hm) (L_deltas h (Or.inr (Or.inl rfl)) (Or.inl ⟨rfl, rfl⟩))
  · exact E_T (hc := hc) (hm := hm) (L_deltas h (Or.inr (Or.inr rfl)) (Or.inl ⟨rfl, rfl⟩))
  · exact E_T (hc := hc) (hm := hm) (L_deltas h (Or.inl rfl) (Or.inr ⟨rfl, rfl⟩))
  · exact E_T (hc := hc) (hm := hm) (L_deltas h (Or.inr (Or.inl rfl)) (Or.inr ⟨rfl, rfl⟩))
  · exact E_T (hc := hc) (hm := hm) (L_deltas h (Or.inr (Or.inr rfl)) (Or.inr ⟨rfl, rfl⟩))
