/-! LAYER 3C: codes 52 to 55 -/
theorem out_ids {o : Nat} (h : isOut o) : isA 9 o ∧ o ≠ 0 ∧ 55 < o ∧ 55 < rf o 4 ∧ 55 < rf o 2 ∧ rf o 4 ≠ rf o 2 ∧ o ≠ rf o 2 ∧ o ≠ rf o 4 := by
  rcases h with rfl | rfl | rfl | rfl | rfl | rfl <;> exact ⟨⟨rfl, le_b rfl⟩, by decide, by decide, by decide, by decide, by decide, by decide, by decide⟩
theorem Rm.fails_u {P : hH → hH → Prop} {hc hm : hH} (h : Rm P hc hm) (q : 1 ≤ rdI hc 22 15) {c : Int32} (hc0 : 0 < c ∧ c ≤ 100) : Rf P (failC c (popC hc)) (failM c hm) := by
  have r := ((h.pop q).fails hc0).mw (o := 192) (k := 56) (rdI hm 192 56) rfl (by decide)
  rw [← popM_failM] at r
  unfold popM at r
  rw [wrI_wrI, wrI_id (by unfold failM; simp only [rdI_wrI, rdP_wrI, rdL_wrI, Nat.reduceEqDiff, false_and, and_false, true_and, and_true, eq_self, reduceIte, ite_self])] at r
  exact r
theorem Rm.chk {P : hH → hH → Prop} {hc hm : hH} (h : Rm P hc hm) (v : Int32) : (if (rdP hc 22 3) = 0 then some (Sum.inr (0 : Int32)) else (gd (isA 9 (rdP hc 22 3)) <| bP (f_HH_within (Int32.toInt64 v) (0 : Int64) (Int32.toInt64 ((rdI hc (rdP hc 22 3) 5) - (1 : Int32)))) fun a5 => if a5 = 0 then some (Sum.inr (0 : Int32)) else some (Sum.inr (1 : Int32)))) = (some (Sum.inr (if 0 ≤ v ∧ v < rdI hm 192 53 then 1 else 0)) : Option (hH ⊕ Int32)) := by
  rcases h.ol with ⟨a, b, c⟩ | o
  · rw [if_pos a, b, if_neg (by grind)]
  · have oi := out_ids o.1
    rw [if_neg oi.2.1, gd_pos oi.1, within_0 o.2.2.1.1, o.2.1]
    by_cases w : 0 ≤ v ∧ v < rdI hc (rdP hc 22 3) 5
    · simp +decide only [if_pos w, bP_some, reduceIte]
    · simp +decide only [if_neg w, bP_some, reduceIte]
theorem mi1 (i : Int32) : 102 * (1 : Int32) + i = 102 + i := by grind
theorem isZ34 : isZ 34 1 := Or.inr ⟨rfl, rfl⟩
theorem E_some {o : Option (hH ⊕ hH)} {p : Option hH} {P : hH → hH → Prop} (h : OK2 o p (fun y z => TT (fun g => Rf P g z) (fun g => Rm P g z) y)) : OK2 (bJT o fun p17 => some (Sum.inr ((), p17))) (bP p fun p43 => some ((), p43)) (Tr P) := by
  refine OK2_bJTP (OK2_mono h ?_)
  intro y z hy
  rcases y with g | g
  · exact OK_some hy
  · exact OK2_of rfl rfl hy
theorem skip_iff {n r i : Int32} (hn : n = 0 ∨ n = 1) (hr : 0 ≤ r) (hr2 : r < 102) (hi : 0 ≤ i) (hi2 : i < 102) {v : Int32} (hv : v = 0 ∨ v = 1) : (102 * v + i = 102 * n + r) ↔ (i = if n = v then r else -1) := by
  rcases hn with rfl | rfl <;> rcases hv with rfl | rfl <;> simp +decide only [reduceIte] <;> constructor <;> intro q <;> grind
/-- what shifts leave as it was -/
def Fr (h g : hH) : Prop := (∀ o k, 55 < o → rdI g o k = rdI h o k) ∧ (∀ o k, rdP g o k = rdP h o k) ∧ rdI g 34 6 = rdI h 34 6 ∧ rdI g 26 6 = rdI h 26 6
theorem Fr_rfl {h : hH} : Fr h h := ⟨fun _ _ _ => rfl, fun _ _ => rfl, rfl, rfl⟩
theorem Fr_move {z : Nat} {n p : Int32} (hz : isZ z n) {d : Int64} {h g : hH} (f : Fr h g) : Fr h (moveC z p d g) :=
  ⟨fun o k ho => (moveC_o hz (by omega)).trans (f.1 o k ho), fun o k => f.2.1 o k, (moveC_o hz (by omega)).trans f.2.2.1, (moveC_o hz (by omega)).trans f.2.2.2⟩
theorem rfV_pop {z : Nat} {n p : Int32} (hz : isZ z n) {h : hH} : rfV z p (popC h) = rfV z p h := by
  unfold rfV
  have e : ∀ (j i : Nat), j < 4 → rdI (popC h) (rf z j) i = rdI h (rf z j) i := by
    intro j i hj
    refine popC_o ?_
    have hj' : j = 0 ∨ j = 1 ∨ j = 2 ∨ j = 3 := by omega
    rcases hz with ⟨rfl, rfl⟩ | ⟨rfl, rfl⟩ <;> rcases hj' with rfl | rfl | rfl | rfl <;> simp only [show rf 26 0 = 27 from rfl, show rf 26 1 = 28 from rfl, show rf 26 2 = 29 from rfl, show rf 26 3 = 30 from rfl, show rf 34 0 = 35 from rfl, show rf 34 1 = 36 from rfl, show rf 34 2 = 37 from rfl, show rf 34 3 = 38 from rfl] <;> omega
  rw [e 0 _ (by decide), e 1 _ (by decide), e 2 _ (by decide), e 3 _ (by decide), popC_o (by decide), popC_o (by decide)]
/-- a contour's points are shifted -/
theorem L_shc {P : hH → hH → Prop} {hc hm : hH} (h : Rm P hc hm) {v n r : Int32} (hv : 0 ≤ v ∧ v < rdI hm 192 53) (hn : n = 0 ∨ n = 1) (hr : PT hc (zz n) r) (d : Int64) : OK2 (
    bP (f_Ou_beginOf (rdP hc 22 3) v hc) fun a15 =>
    bJT (P := hH) (
      whT (A := (Int32 × hH)) (B := hH) (fun p16 =>
        gd (isA 9 (rdP p16.2 22 3) ∧ vp_in v 20) <|
        if (rdI p16.2 (rf (rdP p16.2 22 3) 4) (Int32.toNatClampNeg v)) < p16.1 then (
          some (.inr (.inr p16.2))
        ) else (
          bJT (P := hH) (
            if p16.1 = (if n = 1 then r else -1) then (
              some (.inr p16.2)
            ) else (
              bS (f_Ma_move 34 p16.1 d p16.2) fun _ h4 =>
              some (.inr h4)
            )
          ) fun p19 =>
          some (.inr (.inl (p16.1 + (1 : Int32), p19)))
        )
      ) (a15, hc)
    ) fun p17 =>
    some (.inr ((), p17)))
   (bP (A := Int32) (
      if v = 0 then (
        some (0 : Int32)
      ) else (
        gd (vp_in (v - (1 : Int32)) 20) <|
        some ((rdI hm 218 (Int32.toNatClampNeg (v - (1 : Int32)))) + (1 : Int32))
      )
    ) fun p39 =>
    bP (A := hH) (
      wh (A := (Int32 × hH)) (B := hH) (fun p42 =>
        gd (vp_in v 20) <|
        if (rdI p42.2 218 (Int32.toNatClampNeg v)) < p42.1 then (
          some (.inr p42.2)
        ) else (
          bP (A := hH) (
            if ((102 : Int32) + p42.1) = 102 * n + r then (
              some p42.2
            ) else (
              bS (f_Mo_move ((102 : Int32) + p42.1) d p42.2) fun _ h7 =>
              some h7
            )
          ) fun p45 =>
          some (.inl (p42.1 + (1 : Int32), p45))
        )
      ) (p39, hm)
    ) fun p43 =>
    some ((), p43)) (Tr P) := by
  rcases h.ol with ⟨a, b, c⟩ | o
  · rw [b] at hv; grind
  have oi := out_ids o.1
  obtain ⟨en1, en2, en3, en4, en5, en6, en7, en8⟩ := o.2.2.1
  have hv2 : v < rdI hc (rdP hc 22 3) 5 := by rw [← o.2.1]; exact hv.2
  have vv : vp_in v 20 := vp_lt (n := 20) (m := 20) hv.1 (by grind) rfl
  have vl : v.toNatClampNeg < (rdI hc (rdP hc 22 3) 5).toNatClampNeg := (xI_lt hv.1 en1).mpr hv2
  have e6 := en6 _ vl
  have glM := h.r_glM
  have twM := h.r_twM
  have hr1 : 0 ≤ r ∧ r < 102 := by
    have rr := hr
    unfold PT at rr
    refine ⟨rr.1, ?_⟩
    rcases hn with rfl | rfl
    · have : rdI hc (zz 0) 6 = rdI hc 26 6 := rfl
      grind
    · have : rdI hc (zz 1) 6 = rdI hc 34 6 := rfl
      grind
  have loop : ∀ b, 0 ≤ b → OK2 (whT (A := (Int32 × hH)) (B := hH) (fun p16 =>
        gd (isA 9 (rdP p16.2 22 3) ∧ vp_in v 20) <|
        if (rdI p16.2 (rf (rdP p16.2 22 3) 4) (Int32.toNatClampNeg v)) < p16.1 then (
          some (.inr (.inr p16.2))
        ) else (
          bJT (P := hH) (
            if p16.1 = (if n = 1 then r else -1) then (
              some (.inr p16.2)
            ) else (
              bS (f_Ma_move 34 p16.1 d p16.2) fun _ h4 =>
              some (.inr h4)
            )
          ) fun p19 =>
          some (.inr (.inl (p16.1 + (1 : Int32), p19)))
        )
      ) (b, hc)) (wh (A := (Int32 × hH)) (B := hH) (fun p42 =>
        gd (vp_in v 20) <|
        if (rdI p42.2 218 (Int32.toNatClampNeg v)) < p42.1 then (
          some (.inr p42.2)
        ) else (
          bP (A := hH) (
            if ((102 : Int32) + p42.1) = 102 * n + r then (
              some p42.2
            ) else (
              bS (f_Mo_move ((102 : Int32) + p42.1) d p42.2) fun _ h7 =>
              some h7
            )
          ) fun p45 =>
          some (.inl (p42.1 + (1 : Int32), p45))
        )
      ) (b, hm)) (fun y z => TT (fun g => Rf P g z) (fun g => Rm P g z) y) := by
    intro b b0
    refine OK2_whT (A := Int32 × hH) (A' := Int32 × hH) (B := hH) (B' := hH) (fun s t => s.1 = t.1 ∧ Rm P s.2 t.2 ∧ Fr hc s.2 ∧ 0 ≤ s.1) (fun s => (rdI hc (rf (rdP hc 22 3) 4) v.toNatClampNeg).toNatClampNeg + 1 - s.1.toNatClampNeg) ?_ (s := (b, hc)) (t := (b, hm)) ⟨rfl, h, Fr_rfl, b0⟩
    rintro ⟨i, g⟩ ⟨j, m⟩ ⟨h1, k, fr, h5⟩
    dsimp only at h1 k fr h5
    subst h1
    dsimp only
    have hP : rdP g 22 3 = rdP hc 22 3 := fr.2.1 _ _
    rcases k.ol with ⟨a', _, _⟩ | o'
    · rw [hP] at a'; exact absurd a' oi.2.1
    rw [hP] at o'
    have eC : rdI g (rf (rdP hc 22 3) 4) v.toNatClampNeg = rdI hc (rf (rdP hc 22 3) 4) v.toNatClampNeg := fr.1 _ _ oi.2.2.2.1
    have em : rdI m 218 v.toNatClampNeg = rdI hc (rf (rdP hc 22 3) 4) v.toNatClampNeg := by
      rw [o'.2.2.2.1 _ (by rw [fr.1 _ _ oi.2.2.1]; exact vl)]
      exact eC
    have mg : rdI g 34 6 = rdI hc (rdP hc 22 3) 3 + 2 := fr.2.2.1.trans o.2.2.2.2.1
    rw [hP, gd_pos ⟨oi.1, vv⟩, gd_pos vv, eC, em]
    by_cases z : rdI hc (rf (rdP hc 22 3) 4) v.toNatClampNeg < i
    · rw [if_pos z, if_pos z]
      exact OK2_of rfl rfl k
    · rw [if_neg z, if_neg z]
      have pt : PT g 34 i := ⟨h5, by rw [mg]; grind⟩
      have i102 : i < 102 := by grind
      have sk := skip_iff hn hr1.1 hr1.2 h5 i102 (v := 1) (Or.inr rfl)
      rw [mi1] at sk
      have ii : (i + 1).toNatClampNeg = i.toNatClampNeg + 1 := xI_succ (m := 102) h5 (by grind) (by decide)
      have i2 : i.toNatClampNeg ≤ (rdI hc (rf (rdP hc 22 3) 4) v.toNatClampNeg).toNatClampNeg := xI_mono (Int32.not_lt.mp z)
      have mu : (rdI hc (rf (rdP hc 22 3) 4) v.toNatClampNeg).toNatClampNeg + 1 - (i + 1).toNatClampNeg < (rdI hc (rf (rdP hc 22 3) 4) v.toNatClampNeg).toNatClampNeg + 1 - i.toNatClampNeg := by omega
      by_cases y : i = if n = 1 then r else -1
      · rw [if_pos y, if_pos (sk.mpr y)]
        exact OK2_of rfl rfl ⟨⟨rfl, k, fr, by show 0 ≤ i + 1; grind⟩, mu⟩
      · have vm := k.vpM isZ34 pt
        have km := k.move isZ34 pt d
        rw [mi1] at vm km
        rw [if_neg y, if_neg (fun w => y (sk.mp w)), f_Ma_move_eq isZ34 (k.vpC isZ34 pt), f_Mo_move_eq vm]
        exact OK2_of rfl rfl ⟨⟨rfl, km, Fr_move isZ34 fr, by show 0 ≤ i + 1; grind⟩, mu⟩
  by_cases v0 : v = 0
  · subst v0
    unfold f_Ou_beginOf
    simp only [reduceIte, bP_some]
    exact E_some (loop 0 (by decide))
  · have v1 : vp_in (v - 1) 20 := vp_lt (n := 20) (m := 20) (by grind) (by grind) rfl
    have vl1 : (v - 1).toNatClampNeg < (rdI hc (rdP hc 22 3) 5).toNatClampNeg := (xI_lt (by grind) en1).mpr (by grind)
    have e7 := en6 _ vl1
    unfold f_Ou_beginOf
    simp only [if_neg v0, gd_pos v1, o.2.2.2.1 _ vl1, bP_some]
    refine E_some (loop _ ?_)
    dsimp only at e7
    grind
theorem L_52 {P : hH → hH → Prop} {hc hm : hH} (h : Rm P hc hm) {c : Int32} (hcc : c = 52 ∨ c = 53) : OK2 (f_Ma_shifting c hc) (f_Mo_likeReference c hm) (Tr P) := by
  by_cases q : 1 ≤ rdI hc 22 15
  · have k := h.pop q
    have c0 : rdI hc 55 0 = rdI (popC hc) 55 0 := g1_o (by decide)
    have c1 : rdI hc 55 1 = rdI (popC hc) 55 1 := g1_o (by decide)
    have s1 : rdI hc 54 1 = rdI (popC hc) 54 1 := g1_o (by decide)
    have s2 : rdI hc 54 2 = rdI (popC hc) 54 2 := g1_o (by decide)
    have z34 : ∀ n : Int32, (zz n = 34) ↔ (n = 1 ∨ ¬ n = 0) := by
      intro n
      unfold zz
      by_cases w : n = 0
      · subst w; decide
      · rw [if_neg w]; exact ⟨fun _ => Or.inr w, fun _ => rfl⟩
    by_cases g : rdI (popC hc) 55 2 = 1 ∧ (0 ≤ tpC hc ∧ tpC hc < rdI (popM hm) 192 53)
    · obtain ⟨g1, g2⟩ := g
      have g3 : ¬ (tpC hc < 0 ∨ ¬ tpC hc < rdI (popM hm) 192 53) := by grind
      rcases k.ol with ⟨_, b, _⟩ | o
      · rw [b] at g2; grind
      have oi := out_ids o.1
      have chk2 := k.chk (tpC hc)
      rw [gd_pos oi.1] at chk2
      rcases hcc with rfl | rfl
      · have z1 := zz_isZ h.r_zp1
        have z1' := zz_isZ k.r_zp1
        by_cases p : PT hc (zz (rdI hc 55 1)) (rdI hc 54 2)
        · have p' : PT (popC hc) (zz (rdI (popC hc) 55 1)) (rdI (popC hc) 54 2) := by rw [← c1, ← s2]; exact PT_pop.mpr p
          have ev : rfV (zz (rdI (popC hc) 55 1)) (rdI (popC hc) 54 2) (popC hc) = rfV (zz (rdI hc 55 1)) (rdI hc 54 2) hc := by rw [← c1, ← s2]; exact rfV_pop z1
          have fin := L_shc k g2 (by rw [c1]; exact k.r_zp1) (show PT (popC hc) (zz (rdI hc 55 1)) (rdI hc 54 2) from PT_pop.mpr p) (rfV (zz (rdI hc 55 1)) (rdI hc 54 2) hc).toInt64
          have ez : (if zz (rdI (popC hc) 55 1) = 34 then rdI (popC hc) 54 2 else -1) = (if rdI hc 55 1 = 1 then rdI hc 54 2 else -1) := by
            rw [← c1, ← s2]
            rcases h.r_zp1 with e | e <;> rw [e] <;> rfl
          unfold f_Ma_shifting f_Ma_shiftContour f_Ma_referenceZone f_Mo_likeReference
          simp +decide only [need_T q, has_T h q, f_Ma_pop_eq q h.top256, f_Mo_pop_eq h q, if_pos g1, f_Ma_want_1, chk2, if_pos g2, ref0_T k p', ev, f_Ma_zone_1, gd_pos (isA_zz k.r_zp1), ez, gd_pos oi.1, h.s_zp1, h.s_rp2, f_Mo_pointOf_T h z1 p, h.fail, gd_pos (h.vpM z1 p), h.refM z1 p, k.s_zp2, if_neg g3, bET_bJT, bT_bJT, lz, bP_some, bS_some, bT_inl, bT_inr, bJT_inl, bJT_inr, bE_inl, bE_inr, bET_t, bET_inl, bET_inr, cO_t, cO_f, cS_t, cS_f, bE_bS, bE_bP, bE_gd, bET_bT, bET_bS, bET_bP, bET_gd, bJT_bT, bJT_bS, bJT_bP, bJT_gd, bJT_bJT, bP_bS, bP_bP, bP_gd, bT_bT, bT_bS, bT_bP, bT_gd, bS_bS, bS_bP, bS_gd, reduceIte]
          exact fin
        · have p' : ¬ PT (popC hc) (zz (rdI (popC hc) 55 1)) (rdI (popC hc) 54 2) := by rw [← c1, ← s2]; exact fun w => p (PT_pop.mp w)
          unfold f_Ma_shifting f_Ma_shiftContour f_Mo_likeReference
          simp +decide only [need_T q, has_T h q, f_Ma_pop_eq q h.top256, if_pos g1, f_Ma_want_1, k.chk, if_pos g2, ref0_F k p', h.s_zp1, h.s_rp2, f_Mo_pointOf_F h z1 p, failM_F, bET_bJT, bT_bJT, lz, bP_some, bS_some, bT_inl, bT_inr, bJT_inl, bJT_inr, bE_inl, bE_inr, bET_t, bET_inl, bET_inr, cO_t, cO_f, cS_t, cS_f, bE_bS, bE_bP, bE_gd, bET_bT, bET_bS, bET_bP, bET_gd, bJT_bT, bJT_bS, bJT_bP, bJT_gd, bJT_bJT, bP_bS, bP_bP, bP_gd, bT_bT, bT_bS, bT_bP, bT_gd, bS_bS, bS_bP, bS_gd, reduceIte]
          exact OK2_of rfl rfl (Tr_f (h.fails_u q (by decide)))
      · have z1 := zz_isZ h.r_zp0
        have z1' := zz_isZ k.r_zp0
        by_cases p : PT hc (zz (rdI hc 55 0)) (rdI hc 54 1)
        · have p' : PT (popC hc) (zz (rdI (popC hc) 55 0)) (rdI (popC hc) 54 1) := by rw [← c0, ← s1]; exact PT_pop.mpr p
          have ev : rfV (zz (rdI (popC hc) 55 0)) (rdI (popC hc) 54 1) (popC hc) = rfV (zz (rdI hc 55 0)) (rdI hc 54 1) hc := by rw [← c0, ← s1]; exact rfV_pop z1
          have fin := L_shc k g2 (by rw [c0]; exact k.r_zp0) (show PT (popC hc) (zz (rdI hc 55 0)) (rdI hc 54 1) from PT_pop.mpr p) (rfV (zz (rdI hc 55 0)) (rdI hc 54 1) hc).toInt64
          have ez : (if zz (rdI (popC hc) 55 0) = 34 then rdI (popC hc) 54 1 else -1) = (if rdI hc 55 0 = 1 then rdI hc 54 1 else -1) := by
            rw [← c0, ← s1]
            rcases h.r_zp0 with e | e <;> rw [e] <;> rfl
          unfold f_Ma_shifting f_Ma_shiftContour f_Ma_referenceZone f_Mo_likeReference
          simp +decide only [need_T q, has_T h q, f_Ma_pop_eq q h.top256, f_Mo_pop_eq h q, if_pos g1, f_Ma_want_1, chk2, if_pos g2, ref1_T k p', ev, f_Ma_zone_0, gd_pos (isA_zz k.r_zp0), ez, gd_pos oi.1, h.s_zp0, h.s_rp1, f_Mo_pointOf_T h z1 p, h.fail, gd_pos (h.vpM z1 p), h.refM z1 p, k.s_zp2, if_neg g3, bET_bJT, bT_bJT, lz, bP_some, bS_some, bT_inl, bT_inr, bJT_inl, bJT_inr, bE_inl, bE_inr, bET_t, bET_inl, bET_inr, cO_t, cO_f, cS_t, cS_f, bE_bS, bE_bP, bE_gd, bET_bT, bET_bS, bET_bP, bET_gd, bJT_bT, bJT_bS, bJT_bP, bJT_gd, bJT_bJT, bP_bS, bP_bP, bP_gd, bT_bT, bT_bS, bT_bP, bT_gd, bS_bS, bS_bP, bS_gd, reduceIte]
          exact fin
        · have p' : ¬ PT (popC hc) (zz (rdI (popC hc) 55 0)) (rdI (popC hc) 54 1) := by rw [← c0, ← s1]; exact fun w => p (PT_pop.mp w)
          unfold f_Ma_shifting f_Ma_shiftContour f_Mo_likeReference
          simp +decide only [need_T q, has_T h q, f_Ma_pop_eq q h.top256, if_pos g1, f_Ma_want_1, k.chk, if_pos g2, ref1_F k p', h.s_zp0, h.s_rp1, f_Mo_pointOf_F h z1 p, failM_F, bET_bJT, bT_bJT, lz, bP_some, bS_some, bT_inl, bT_inr, bJT_inl, bJT_inr, bE_inl, bE_inr, bET_t, bET_inl, bET_inr, cO_t, cO_f, cS_t, cS_f, bE_bS, bE_bP, bE_gd, bET_bT, bET_bS, bET_bP, bET_gd, bJT_bT, bJT_bS, bJT_bP, bJT_gd, bJT_bJT, bP_bS, bP_bP, bP_gd, bT_bT, bT_bS, bT_bP, bT_gd, bS_bS, bS_bP, bS_gd, reduceIte]
          exact OK2_of rfl rfl (Tr_f (h.fails_u q (by decide)))
    · -- the component fails for the contour
      have fc : ∀ x, f_Ma_shiftContour x (tpC hc) (popC hc) = some (.inl (failC 5 (popC hc))) := by
        intro x
        unfold f_Ma_shiftContour
        by_cases g1 : rdI (popC hc) 55 2 = 1
        · have g2 : ¬ (0 ≤ tpC hc ∧ tpC hc < rdI (popM hm) 192 53) := fun w => g ⟨g1, w⟩
          simp +decide only [if_pos g1, f_Ma_want_1, k.chk, if_neg g2, f_Ma_want_0, lz, bP_some, bS_some, bT_inl, bT_inr, bJT_inl, bJT_inr, bE_inl, bE_inr, bET_t, bET_inl, bET_inr, cO_t, cO_f, cS_t, cS_f, bE_bS, bE_bP, bE_gd, bET_bT, bET_bS, bET_bP, bET_gd, bJT_bT, bJT_bS, bJT_bP, bJT_gd, bJT_bJT, bP_bS, bP_bP, bP_gd, bT_bT, bT_bS, bT_bP, bT_gd, bS_bS, bS_bP, bS_gd, reduceIte]
        · simp +decide only [if_neg g1, f_Ma_want_0, lz, bP_some, bS_some, bT_inl, bT_inr, bJT_inl, bJT_inr, bE_inl, bE_inr, bET_t, bET_inl, bET_inr, cO_t, cO_f, cS_t, cS_f, bE_bS, bE_bP, bE_gd, bET_bT, bET_bS, bET_bP, bET_gd, bJT_bT, bJT_bS, bJT_bP, bJT_gd, bJT_bJT, bP_bS, bP_bP, bP_gd, bT_bT, bT_bS, bT_bP, bT_gd, bS_bS, bS_bP, bS_gd, reduceIte]
      have fm : ∀ (A B : Option (Unit × hH)), cO (if rdI (popC hc) 55 2 = 1 then (if (tpC hc < 0 ∨ ¬ tpC hc < rdI (popM hm) 192 53) then some true else some false) else some true) A B = A := by
        intro A B
        by_cases g1 : rdI (popC hc) 55 2 = 1
        · have g2 : (tpC hc < 0 ∨ ¬ tpC hc < rdI (popM hm) 192 53) := by
            have : ¬ (0 ≤ tpC hc ∧ tpC hc < rdI (popM hm) 192 53) := fun w => g ⟨g1, w⟩
            grind
          rw [if_pos g1, if_pos g2]; rfl
        · rw [if_neg g1]; rfl
      rcases hcc with rfl | rfl
      · have z1 := zz_isZ h.r_zp1
        by_cases p : PT hc (zz (rdI hc 55 1)) (rdI hc 54 2)
        · unfold f_Ma_shifting f_Mo_likeReference
          simp +decide only [need_T q, has_T h q, f_Ma_pop_eq q h.top256, f_Mo_pop_eq h q, fc, h.s_zp1, h.s_rp2, f_Mo_pointOf_T h z1 p, h.fail, gd_pos (h.vpM z1 p), h.refM z1 p, k.s_zp2, fm, f_Mo_fail_eq k.fail, lz, bP_some, bS_some, bT_inl, bT_inr, bJT_inl, bJT_inr, bE_inl, bE_inr, bET_t, bET_inl, bET_inr, cO_t, cO_f, cS_t, cS_f, bE_bS, bE_bP, bE_gd, bET_bT, bET_bS, bET_bP, bET_gd, bJT_bT, bJT_bS, bJT_bP, bJT_gd, bJT_bJT, bP_bS, bP_bP, bP_gd, bT_bT, bT_bS, bT_bP, bT_gd, bS_bS, bS_bP, bS_gd, reduceIte]
          exact OK2_of rfl rfl (Tr_f (k.fails (by decide)))
        · unfold f_Ma_shifting f_Mo_likeReference
          simp +decide only [need_T q, has_T h q, f_Ma_pop_eq q h.top256, fc, h.s_zp1, h.s_rp2, f_Mo_pointOf_F h z1 p, failM_F, lz, bP_some, bS_some, bT_inl, bT_inr, bJT_inl, bJT_inr, bE_inl, bE_inr, bET_t, bET_inl, bET_inr, cO_t, cO_f, cS_t, cS_f, bE_bS, bE_bP, bE_gd, bET_bT, bET_bS, bET_bP, bET_gd, bJT_bT, bJT_bS, bJT_bP, bJT_gd, bJT_bJT, bP_bS, bP_bP, bP_gd, bT_bT, bT_bS, bT_bP, bT_gd, bS_bS, bS_bP, bS_gd, reduceIte]
          exact OK2_of rfl rfl (Tr_f (h.fails_u q (by decide)))
      · have z1 := zz_isZ h.r_zp0
        by_cases p : PT hc (zz (rdI hc 55 0)) (rdI hc 54 1)
        · unfold f_Ma_shifting f_Mo_likeReference
          simp +decide only [need_T q, has_T h q, f_Ma_pop_eq q h.top256, f_Mo_pop_eq h q, fc, h.s_zp0, h.s_rp1, f_Mo_pointOf_T h z1 p, h.fail, gd_pos (h.vpM z1 p), h.refM z1 p, k.s_zp2, fm, f_Mo_fail_eq k.fail, lz, bP_some, bS_some, bT_inl, bT_inr, bJT_inl, bJT_inr, bE_inl, bE_inr, bET_t, bET_inl, bET_inr, cO_t, cO_f, cS_t, cS_f, bE_bS, bE_bP, bE_gd, bET_bT, bET_bS, bET_bP, bET_gd, bJT_bT, bJT_bS, bJT_bP, bJT_gd, bJT_bJT, bP_bS, bP_bP, bP_gd, bT_bT, bT_bS, bT_bP, bT_gd, bS_bS, bS_bP, bS_gd, reduceIte]
          exact OK2_of rfl rfl (Tr_f (k.fails (by decide)))
        · unfold f_Ma_shifting f_Mo_likeReference
          simp +decide only [need_T q, has_T h q, f_Ma_pop_eq q h.top256, fc, h.s_zp0, h.s_rp1, f_Mo_pointOf_F h z1 p, failM_F, lz, bP_some, bS_some, bT_inl, bT_inr, bJT_inl, bJT_inr, bE_inl, bE_inr, bET_t, bET_inl, bET_inr, cO_t, cO_f, cS_t, cS_f, bE_bS, bE_bP, bE_gd, bET_bT, bET_bS, bET_bP, bET_gd, bJT_bT, bJT_bS, bJT_bP, bJT_gd, bJT_bJT, bP_bS, bP_bP, bP_gd, bT_bT, bT_bS, bT_bP, bT_gd, bS_bS, bS_bP, bS_gd, reduceIte]
          exact OK2_of rfl rfl (Tr_f (h.fails_u q (by decide)))
  · have q' := le_of_not q
    rcases hcc with rfl | rfl <;> unfold f_Ma_shifting f_Mo_likeReference <;> simp +decide only [need_F q', has_F h q', lz, bP_some, bS_some, bT_inl, bT_inr, bJT_inl, bJT_inr, bE_inl, bE_inr, bET_t, bET_inl, bET_inr, cO_t, cO_f, cS_t, cS_f, bE_bS, bE_bP, bE_gd, bET_bT, bET_bS, bET_bP, bET_gd, bJT_bT, bJT_bS, bJT_bP, bJT_gd, bJT_bJT, bP_bS, bP_bP, bP_gd, bT_bT, bT_bS, bT_bP, bT_gd, bS_bS, bS_bP, bS_gd, reduceIte] <;> exact OK2_of rfl rfl (Tr_f (h.fails (by decide)))
theorem op_52 {P : hH → hH → Prop} {hc hm : hH} (h : Rm P hc hm) {c : Int32} (hcc : c = 52 ∨ c = 53) : OK2 (f_Ma_low c hc) (f_Mo_middle c hm) (Tr P) := by
  have g := L_52 h hcc
  rcases hcc with rfl | rfl <;> unfold f_Ma_low f_Ma_moving f_Mo_middle <;> simp +decide only [lz, bP_some, bS_some, bT_inl, bT_inr, bJT_inl, bJT_inr, bE_inl, bE_inr, bET_t, bET_inl, bET_inr, cO_t, cO_f, cS_t, cS_f, bE_bS, bE_bP, bE_gd, bET_bT, bET_bS, bET_bP, bET_gd, bJT_bT, bJT_bS, bJT_bP, bJT_gd, bJT_bJT, bP_bS, bP_bP, bP_gd, bT_bT, bT_bS, bT_bP, bT_gd, bS_bS, bS_bP, bS_gd, reduceIte] <;> exact E_T (hc := hc) (hm := hm) g
