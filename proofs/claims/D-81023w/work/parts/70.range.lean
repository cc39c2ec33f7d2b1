/-! LAYER 3F: codes 129, 130 -/
theorem L_range {P : hH → hH → Prop} {hc hm : hH} (h : Rm P hc hm) (hO : isOut (rdP hc 22 3)) {a b v : Int32} (ha : 0 ≤ a) (hb : b < 100) : OK2 (
    bJT (P := hH) (
      whT (A := (Int32 × hH)) (B := hH) (fun p40 =>
        if b < p40.1 then (
          some (.inr (.inr p40.2))
        ) else (
          gd (isA 9 (rdP p40.2 22 3)) <|
          gd (vp_in p40.1 100) <|
          some (.inr (.inl (p40.1 + (1 : Int32), wrI p40.2 (rf (rdP p40.2 22 3) 2) (Int32.toNatClampNeg p40.1) (v &&& 1))))
        )
      ) (a, hc)
    ) fun p41 =>
    some (.inr ((), p41)))
   (bP (A := hH) (
      wh (A := (Int32 × hH)) (B := hH) (fun p99 =>
        if b < p99.1 then (
          some (.inr p99.2)
        ) else (
          gd (vp_in p99.1 102) <|
          some (.inl (p99.1 + (1 : Int32), wrI p99.2 217 (Int32.toNatClampNeg p99.1) (v &&& 1)))
        )
      ) (a, hm)
    ) fun p100 =>
    some ((), p100)) (Tr P) := by
  refine E_some (OK2_whT (A := Int32 × hH) (A' := Int32 × hH) (B := hH) (B' := hH) (Φ := fun y z => TT (fun g => Rf P g z) (fun g => Rm P g z) y) (fun s t => s.1 = t.1 ∧ Rm P s.2 t.2 ∧ isOut (rdP s.2 22 3) ∧ 0 ≤ s.1) (fun s => b.toNatClampNeg + 1 - s.1.toNatClampNeg) ?_ (s := (a, hc)) (t := (a, hm)) ⟨rfl, h, hO, ha⟩)
  rintro ⟨i, g⟩ ⟨j, m⟩ ⟨h1, k, o, h5⟩
  dsimp only at h1 k o h5
  subst h1
  dsimp only
  by_cases q : b < i
  · rw [if_pos q, if_pos q]
    exact OK2_of rfl rfl k
  · have oi := out_ids o
    have ii : (i + 1).toNatClampNeg = i.toNatClampNeg + 1 := xI_succ (m := 100) h5 (by grind) (by decide)
    have i2 : i.toNatClampNeg ≤ b.toNatClampNeg := xI_mono (Int32.not_lt.mp q)
    rw [if_neg q, if_neg q, gd_pos oi.1, gd_pos (vp_lt (n := 100) (m := 100) h5 (by grind) rfl), gd_pos (vp_lt (n := 102) (m := 102) h5 (by grind) rfl)]
    exact OK2_of rfl rfl ⟨⟨rfl, k.set_on o (and1 _), o, by show 0 ≤ i + 1; grind⟩, by show b.toNatClampNeg + 1 - (i + 1).toNatClampNeg < b.toNatClampNeg + 1 - i.toNatClampNeg; omega⟩
theorem L_129 {P : hH → hH → Prop} {hc hm : hH} (h : Rm P hc hm) {c : Int32} (hcc : c = 129 ∨ c = 130) : OK2 (f_Ma_others c hc) (f_Mo_more c hm) (Tr P) := by
  by_cases q : 2 ≤ rdI hc 22 15
  · obtain ⟨q1, k, q2, k2⟩ := h.two q
    obtain ⟨M, pc, pm, M0, M1, Ms⟩ := k2.pts
    by_cases b : tpC hc < tpC (popC hc)
    · rcases hcc with rfl | rfl <;> unfold f_Ma_others f_Mo_more <;> simp +decide only [need_T q, has_T h q, f_Ma_pop_eq q1 h.top256, f_Mo_pop_eq h q1, f_Ma_pop_eq q2 k.top256, f_Mo_pop_eq k q2, if_pos b, pm, lz, bP_some, bS_some, bT_inl, bT_inr, bJT_inl, bJT_inr, bE_inl, bE_inr, bET_t, bET_inl, bET_inr, cO_t, cO_f, cS_t, cS_f, bE_bS, bE_bP, bE_gd, bET_bT, bET_bS, bET_bP, bET_gd, bJT_bT, bJT_bS, bJT_bP, bJT_gd, bJT_bJT, bP_bS, bP_bP, bP_gd, bT_bT, bT_bS, bT_bP, bT_gd, bS_bS, bS_bP, bS_gd, reduceIte] <;> rw [wh_eq] <;> simp +decide only [if_pos b, lz, bP_some, bS_some, bT_inl, bT_inr, bJT_inl, bJT_inr, bE_inl, bE_inr, bET_t, bET_inl, bET_inr, cO_t, cO_f, cS_t, cS_f, bE_bS, bE_bP, bE_gd, bET_bT, bET_bS, bET_bP, bET_gd, bJT_bT, bJT_bS, bJT_bP, bJT_gd, bJT_bJT, bP_bS, bP_bP, bP_gd, bT_bT, bT_bS, bT_bP, bT_gd, bS_bS, bS_bP, bS_gd, reduceIte] <;> exact OK2_of rfl rfl (Tr_m k2)
    · by_cases w : 0 ≤ tpC (popC hc) ∧ tpC hc < M
      · have w' : ¬ (tpC (popC hc) < 0 ∨ ¬ tpC hc < M) := by grind
        rcases Ms with ⟨m1, m2⟩ | ⟨m1, m2⟩
        · rw [m2] at w; grind
        · obtain ⟨w1, w2⟩ := w
          rcases k2.ol with ⟨o1, _⟩ | o
          · rw [o1] at m1; exact absurd rfl (out_ids m1).2.1
          obtain ⟨en1, en2, en3, en4, _⟩ := o.2.2.1
          subst m2
          have pa := onPoint_T (p := tpC (popC hc)) rfl m1 en3 ⟨w1, by grind⟩
          have pb := onPoint_T (p := tpC hc) rfl m1 en3 ⟨by grind, w2⟩
          rcases hcc with rfl | rfl <;> unfold f_Ma_others f_Mo_more <;> simp +decide only [need_T q, has_T h q, f_Ma_pop_eq q1 h.top256, f_Mo_pop_eq h q1, f_Ma_pop_eq q2 k.top256, f_Mo_pop_eq k q2, if_neg b, pm, if_neg w', pa, pb, lz, bP_some, bS_some, bT_inl, bT_inr, bJT_inl, bJT_inr, bE_inl, bE_inr, bET_t, bET_inl, bET_inr, cO_t, cO_f, cS_t, cS_f, bE_bS, bE_bP, bE_gd, bET_bT, bET_bS, bET_bP, bET_gd, bJT_bT, bJT_bS, bJT_bP, bJT_gd, bJT_bJT, bP_bS, bP_bP, bP_gd, bT_bT, bT_bS, bT_bP, bT_gd, bS_bS, bS_bP, bS_gd, reduceIte]
          · exact L_range k2 m1 (v := 1) w1 (by grind)
          · exact L_range k2 m1 (v := 0) w1 (by grind)
      · have w' : (tpC (popC hc) < 0 ∨ ¬ tpC hc < M) := by grind
        have fc : f_Ma_onPoint (tpC (popC hc)) (popC (popC hc)) = some (.inl (failC 5 (popC (popC hc)))) ∨ (f_Ma_onPoint (tpC (popC hc)) (popC (popC hc)) = some (.inr (tpC (popC hc), (popC (popC hc)))) ∧ f_Ma_onPoint (tpC hc) (popC (popC hc)) = some (.inl (failC 5 (popC (popC hc))))) := by
          rcases Ms with ⟨m1, m2⟩ | ⟨m1, m2⟩
          · exact Or.inl (onPoint_0 m1)
          · subst m2
            by_cases x : 0 ≤ tpC (popC hc) ∧ tpC (popC hc) < rdI (popC (popC hc)) (rdP (popC (popC hc)) 22 3) 3
            · exact Or.inr ⟨onPoint_T rfl m1 M0 x, onPoint_F rfl m1 M0 (by grind)⟩
            · exact Or.inl (onPoint_F rfl m1 M0 x)
        rcases fc with fc | ⟨fa, fb⟩
        · rcases hcc with rfl | rfl <;> unfold f_Ma_others f_Mo_more <;> simp +decide only [need_T q, has_T h q, f_Ma_pop_eq q1 h.top256, f_Mo_pop_eq h q1, f_Ma_pop_eq q2 k.top256, f_Mo_pop_eq k q2, if_neg b, pm, if_pos w', fc, f_Mo_fail_eq k2.fail, lz, bP_some, bS_some, bT_inl, bT_inr, bJT_inl, bJT_inr, bE_inl, bE_inr, bET_t, bET_inl, bET_inr, cO_t, cO_f, cS_t, cS_f, bE_bS, bE_bP, bE_gd, bET_bT, bET_bS, bET_bP, bET_gd, bJT_bT, bJT_bS, bJT_bP, bJT_gd, bJT_bJT, bP_bS, bP_bP, bP_gd, bT_bT, bT_bS, bT_bP, bT_gd, bS_bS, bS_bP, bS_gd, reduceIte] <;> exact OK2_of rfl rfl (Tr_f (k2.fails (by decide)))
        · rcases hcc with rfl | rfl <;> unfold f_Ma_others f_Mo_more <;> simp +decide only [need_T q, has_T h q, f_Ma_pop_eq q1 h.top256, f_Mo_pop_eq h q1, f_Ma_pop_eq q2 k.top256, f_Mo_pop_eq k q2, if_neg b, pm, if_pos w', fa, fb, f_Mo_fail_eq k2.fail, lz, bP_some, bS_some, bT_inl, bT_inr, bJT_inl, bJT_inr, bE_inl, bE_inr, bET_t, bET_inl, bET_inr, cO_t, cO_f, cS_t, cS_f, bE_bS, bE_bP, bE_gd, bET_bT, bET_bS, bET_bP, bET_gd, bJT_bT, bJT_bS, bJT_bP, bJT_gd, bJT_bJT, bP_bS, bP_bP, bP_gd, bT_bT, bT_bS, bT_bP, bT_gd, bS_bS, bS_bP, bS_gd, reduceIte] <;> exact OK2_of rfl rfl (Tr_f (k2.fails (by decide)))
  · have q' := le_of_not q
    rcases hcc with rfl | rfl <;> unfold f_Ma_others f_Mo_more <;> simp +decide only [need_F q', has_F h q', lz, bP_some, bS_some, bT_inl, bT_inr, bJT_inl, bJT_inr, bE_inl, bE_inr, bET_t, bET_inl, bET_inr, cO_t, cO_f, cS_t, cS_f, bE_bS, bE_bP, bE_gd, bET_bT, bET_bS, bET_bP, bET_gd, bJT_bT, bJT_bS, bJT_bP, bJT_gd, bJT_bJT, bP_bS, bP_bP, bP_gd, bT_bT, bT_bS, bT_bP, bT_gd, bS_bS, bS_bP, bS_gd, reduceIte] <;> exact OK2_of rfl rfl (Tr_f (h.fails (by decide)))
theorem op_129 {P : hH → hH → Prop} {hc hm : hH} (h : Rm P hc hm) {c : Int32} (hcc : c = 129 ∨ c = 130) : OK2 (f_Ma_upper c hc) (f_Mo_high c hm) (Tr P) := by
  have g := L_129 h hcc
  rcases hcc with rfl | rfl <;> unfold f_Ma_upper f_Mo_high <;> simp +decide only [lz, bP_some, bS_some, bT_inl, bT_inr, bJT_inl, bJT_inr, bE_inl, bE_inr, bET_t, bET_inl, bET_inr, cO_t, cO_f, cS_t, cS_f, bE_bS, bE_bP, bE_gd, bET_bT, bET_bS, bET_bP, bET_gd, bJT_bT, bJT_bS, bJT_bP, bJT_gd, bJT_bJT, bP_bS, bP_bP, bP_gd, bT_bT, bT_bS, bT_bP, bT_gd, bS_bS, bS_bP, bS_gd, reduceIte] <;> exact E_T (hc := hc) (hm := hm) g
