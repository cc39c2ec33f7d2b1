/-! LAYER 3t: codes 37, 38 -/
theorem bET_bJT {A B X : Type} {o : Option (hH ⊕ B)} {k : B → Option (hH ⊕ (A ⊕ X))} {l : A → Option (hH ⊕ X)} : bET (bJT o k) l = bJT o (fun a => bET (k a) l) := by rcases o with _ | _ | _ <;> rfl
theorem bT_bJT {A B X : Type} {o : Option (hH ⊕ B)} {k : B → Option (hH ⊕ (A × hH))} {l : A → hH → Option (hH ⊕ X)} : bT (bJT o k) l = bJT o (fun a => bT (k a) l) := by rcases o with _ | _ | _ <;> rfl
theorem toL_le {x y : Int32} : x.toInt64 ≤ y.toInt64 ↔ x ≤ y := by
  rw [Int64.le_iff_toInt_le, Int32.le_iff_toInt_le, Int32.toInt_toInt64, Int32.toInt_toInt64]
theorem toL_1 {x : Int32} : (1 : Int64) ≤ x.toInt64 ↔ 1 ≤ x := by
  rw [Int64.le_iff_toInt_le, Int32.le_iff_toInt_le, Int32.toInt_toInt64]
  rfl
theorem op_37 {P : hH → hH → Prop} {hc hm : hH} (h : Rm P hc hm) {c : Int32} (hcc : c = 37 ∨ c = 38) : OK2 (f_Ma_low c hc) (f_Mo_stacks c hm) (Tr P) := by
  by_cases q : 1 ≤ rdI hc 22 15
  · have k := h.pop q
    have t0 := h.top256
    have tt : rdI (popC hc) 22 15 = rdI hc 22 15 - 1 := popC_top
    have rt := k.r_top
    have rs := k.r_stk
    generalize hn : tpC hc = n
    by_cases w : 1 ≤ n ∧ n ≤ rdI (popC hc) 22 15
    · have w1 : (1 : Int64) ≤ n.toInt64 ∧ n.toInt64 ≤ (rdI (popC hc) 22 15).toInt64 := ⟨toL_1.mpr w.1, toL_le.mpr w.2⟩
      have w2 : ¬ (n < 1 ∨ ¬ n ≤ rdI (popC hc) 22 15) := by grind
      have v : vp_in (rdI (popC hc) 22 15 - n) 256 := vp_lt (n := 256) (m := 256) (by grind) (by grind) rfl
      have x1 : rdI (popM hm) 219 (rdI (popC hc) 22 15 - n).toNatClampNeg = rdI (popC hc) 43 (rdI (popC hc) 22 15 - n).toNatClampNeg := k.a_stk _ ((xI_lt (by grind) (by grind)).mpr (by grind))
      rcases hcc with rfl | rfl <;> unfold f_Ma_low f_Mo_stacks f_Ma_fetch <;> simp +decide only [need_T q, has_T h q, f_Ma_pop_eq q h.top256, f_Mo_pop_eq h q, hn, f_HH_within_eq, if_pos w1, f_Ma_want_1, k.s_top, if_neg w2, gd_pos v, x1, bT_bJT, bET_bJT, lz, bP_some, bS_some, bT_inl, bT_inr, bJT_inl, bJT_inr, bE_inl, bE_inr, bET_t, bET_inl, bET_inr, cO_t, cO_f, cS_t, cS_f, bE_bS, bE_bP, bE_gd, bET_bT, bET_bS, bET_bP, bET_gd, bJT_bT, bJT_bS, bJT_bP, bJT_gd, bJT_bJT, bP_bS, bP_bP, bP_gd, bT_bT, bT_bS, bT_bP, bT_gd, bS_bS, bS_bP, bS_gd, reduceIte]
      · exact E_push k _
      · generalize rdI (popC hc) 43 (rdI (popC hc) 22 15 - n).toNatClampNeg = u
        refine OK2_bJTP (OK2_mono (OK2_whT (A := Int32 × hH) (A' := Int32 × hH) (B := hH) (B' := hH) (Φ := fun y z => TT (fun _ => False) (fun g => Rm P g z ∧ rdI g 22 15 = rdI (popC hc) 22 15 ∧ rdI g 4 14 = rdI (popC hc) 4 14) y) (fun (s t : Int32 × hH) => s.1 = t.1 ∧ Rm P s.2 t.2 ∧ rdI s.2 22 15 = rdI (popC hc) 22 15 ∧ rdI s.2 4 14 = rdI (popC hc) 4 14 ∧ 0 ≤ s.1 ∧ s.1 ≤ rdI (popC hc) 22 15) (fun s => (rdI (popC hc) 22 15).toNatClampNeg - s.1.toNatClampNeg) ?_ (s := (rdI (popC hc) 22 15 - n, popC hc)) (t := (rdI (popC hc) 22 15 - n, popM hm)) ⟨rfl, k, rfl, rfl, by show 0 ≤ rdI (popC hc) 22 15 - n; grind, by show rdI (popC hc) 22 15 - n ≤ rdI (popC hc) 22 15; grind⟩) ?_)
        · rintro ⟨i, g⟩ ⟨j, m⟩ ⟨h1, h2, h3, h4, h5, h6⟩
          dsimp only at h1 h2 h3 h4 h5 h6
          subst h1
          dsimp only
          rw [h2.s_top, h3]
          by_cases z : rdI (popC hc) 22 15 - 1 ≤ i
          · rw [if_pos z, if_pos z]
            exact OK2_of rfl rfl ⟨h2, h3, h4⟩
          · have v1 : vp_in i 256 := vp_lt (n := 256) (m := 256) h5 (by grind) rfl
            have v2 : vp_in (i + 1) 256 := vp_lt (n := 256) (m := 256) (by grind) (by grind) rfl
            have x2 : rdI m 219 (i + 1).toNatClampNeg = rdI g 43 (i + 1).toNatClampNeg := h2.a_stk _ (by rw [h3]; exact (xI_lt (by grind) (by grind)).mpr (by grind))
            rw [if_neg z, if_neg z, gd_pos ⟨v2, v1⟩, gd_pos ⟨v2, v1⟩, x2]
            refine OK2_of rfl rfl ⟨⟨rfl, h2.set_stk _ _, by simp only [rdI_wrI, rdP_wrI, rdL_wrI, Nat.reduceEqDiff, false_and, and_false, true_and, and_true, eq_self, reduceIte, ite_self]; exact h3, by simp only [rdI_wrI, rdP_wrI, rdL_wrI, Nat.reduceEqDiff, false_and, and_false, true_and, and_true, eq_self, reduceIte, ite_self]; exact h4, by show 0 ≤ i + 1; grind, by show i + 1 ≤ rdI (popC hc) 22 15; grind⟩, ?_⟩
            have e1 : (i + 1).toNatClampNeg = i.toNatClampNeg + 1 := xI_succ (m := 256) h5 (by grind) (by decide)
            have e2 := (xI_lt h5 rt.1).mpr (show i < rdI (popC hc) 22 15 by grind)
            show (rdI (popC hc) 22 15).toNatClampNeg - (i + 1).toNatClampNeg < (rdI (popC hc) 22 15).toNatClampNeg - i.toNatClampNeg
            omega
        · intro y z hy
          rcases y with g | g
          · exact absurd hy id
          · obtain ⟨a1, a2, a3⟩ := hy
            exact E_push (a1.pop (by rw [a2]; grind)) _
    · have w1 : ¬ ((1 : Int64) ≤ n.toInt64 ∧ n.toInt64 ≤ (rdI (popC hc) 22 15).toInt64) := fun z => w ⟨toL_1.mp z.1, toL_le.mp z.2⟩
      have w2 : (n < 1 ∨ ¬ n ≤ rdI (popC hc) 22 15) := by grind
      rcases hcc with rfl | rfl <;> unfold f_Ma_low f_Mo_stacks f_Ma_fetch <;> simp +decide only [need_T q, has_T h q, f_Ma_pop_eq q h.top256, f_Mo_pop_eq h q, hn, f_HH_within_eq, if_neg w1, f_Ma_want_0, k.s_top, if_pos w2, f_Mo_fail_eq k.fail, lz, bP_some, bS_some, bT_inl, bT_inr, bJT_inl, bJT_inr, bE_inl, bE_inr, bET_t, bET_inl, bET_inr, cO_t, cO_f, cS_t, cS_f, bE_bS, bE_bP, bE_gd, bET_bT, bET_bS, bET_bP, bET_gd, bJT_bT, bJT_bS, bJT_bP, bJT_gd, bJT_bJT, bP_bS, bP_bP, bP_gd, bT_bT, bT_bS, bT_bP, bT_gd, bS_bS, bS_bP, bS_gd, reduceIte] <;> exact OK2_of rfl rfl (Tr_f (k.fails (by decide)))
  · have q' := le_of_not q
    rcases hcc with rfl | rfl <;> unfold f_Ma_low f_Mo_stacks f_Ma_fetch <;> simp +decide only [need_F q', has_F h q', lz, bP_some, bS_some, bT_inl, bT_inr, bJT_inl, bJT_inr, bE_inl, bE_inr, bET_t, bET_inl, bET_inr, cO_t, cO_f, cS_t, cS_f, bE_bS, bE_bP, bE_gd, bET_bT, bET_bS, bET_bP, bET_gd, bJT_bT, bJT_bS, bJT_bP, bJT_gd, bJT_bJT, bP_bS, bP_bP, bP_gd, bT_bT, bT_bS, bT_bP, bT_gd, bS_bS, bS_bP, bS_gd, reduceIte] <;> exact OK2_of rfl rfl (Tr_f (h.fails (by decide)))
