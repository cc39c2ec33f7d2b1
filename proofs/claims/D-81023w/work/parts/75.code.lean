/-! LAYER 3K: a code of both machines (printed by gen/mk75.py) -/
theorem op_131 {P : hH → hH → Prop} {hc hm : hH} (h : Rm P hc hm) {c : Int32} (hcc : c = 131 ∨ c = 132) : OK2 (f_Ma_upper c hc) (f_Mo_high c hm) (Tr P) := by
  rcases hcc with rfl | rfl <;> unfold f_Ma_upper f_Ma_others f_Mo_high f_Mo_more <;> simp +decide only [lz, bP_some, bS_some, bT_inl, bT_inr, bJT_inl, bJT_inr, bE_inl, bE_inr, bET_t, bET_inl, bET_inr, cO_t, cO_f, cS_t, cS_f, bE_bS, bE_bP, bE_gd, bET_bT, bET_bS, bET_bP, bET_gd, bJT_bT, bJT_bS, bJT_bP, bJT_gd, bJT_bJT, bP_bS, bP_bP, bP_gd, bT_bT, bT_bS, bT_bP, bT_gd, bS_bS, bS_bP, bS_gd, reduceIte] <;> exact E_T (hc := hc) (hm := hm) (L_unknown h (by decide) (by decide))
theorem neK {c k m : Int32} (h : m ≤ c) (hk : k < m) : ¬ c = k := by grind
theorem op_142 {P : hH → hH → Prop} {hc hm : hH} (h : Rm P hc hm) {c : Int32} (h0 : 142 ≤ c) (h1 : c ≤ 175) : OK2 (f_Ma_upper c hc) (f_Mo_high c hm) (Tr P) := by
  have a1 : ¬ c < 104 := by grind
  have a2 : (112 : Int32) ≤ c := by grind
  have a3 : (128 : Int32) ≤ c := by grind
  unfold f_Ma_upper f_Ma_others f_Mo_high f_Mo_more
  simp only [eq_false a1, eq_true a2, eq_true a3, eq_false (neK h0 (k := 96) (by decide)), eq_false (neK h0 (k := 97) (by decide)), eq_false (neK h0 (k := 98) (by decide)), eq_false (neK h0 (k := 99) (by decide)), eq_false (neK h0 (k := 100) (by decide)), eq_false (neK h0 (k := 101) (by decide)), eq_false (neK h0 (k := 102) (by decide)), eq_false (neK h0 (k := 103) (by decide)), eq_false (neK h0 (k := 104) (by decide)), eq_false (neK h0 (k := 105) (by decide)), eq_false (neK h0 (k := 106) (by decide)), eq_false (neK h0 (k := 107) (by decide)), eq_false (neK h0 (k := 108) (by decide)), eq_false (neK h0 (k := 109) (by decide)), eq_false (neK h0 (k := 110) (by decide)), eq_false (neK h0 (k := 111) (by decide)), eq_false (neK h0 (k := 112) (by decide)), eq_false (neK h0 (k := 113) (by decide)), eq_false (neK h0 (k := 114) (by decide)), eq_false (neK h0 (k := 115) (by decide)), eq_false (neK h0 (k := 116) (by decide)), eq_false (neK h0 (k := 117) (by decide)), eq_false (neK h0 (k := 118) (by decide)), eq_false (neK h0 (k := 119) (by decide)), eq_false (neK h0 (k := 120) (by decide)), eq_false (neK h0 (k := 121) (by decide)), eq_false (neK h0 (k := 122) (by decide)), eq_false (neK h0 (k := 123) (by decide)), eq_false (neK h0 (k := 124) (by decide)), eq_false (neK h0 (k := 125) (by decide)), eq_false (neK h0 (k := 128) (by decide)), eq_false (neK h0 (k := 129) (by decide)), eq_false (neK h0 (k := 130) (by decide)), eq_false (neK h0 (k := 133) (by decide)), eq_false (neK h0 (k := 134) (by decide)), eq_false (neK h0 (k := 135) (by decide)), eq_false (neK h0 (k := 136) (by decide)), eq_false (neK h0 (k := 137) (by decide)), eq_false (neK h0 (k := 138) (by decide)), eq_false (neK h0 (k := 139) (by decide)), eq_false (neK h0 (k := 140) (by decide)), eq_false (neK h0 (k := 141) (by decide)), or_self, or_false, false_or, lz, bP_some, bS_some, bT_inl, bT_inr, bJT_inl, bJT_inr, bE_inl, bE_inr, bET_t, bET_inl, bET_inr, cO_t, cO_f, cS_t, cS_f, bE_bS, bE_bP, bE_gd, bET_bT, bET_bS, bET_bP, bET_gd, bJT_bT, bJT_bS, bJT_bP, bJT_gd, bJT_bJT, bP_bS, bP_bP, bP_gd, bT_bT, bT_bS, bT_bP, bT_gd, bS_bS, bS_bP, bS_gd, reduceIte]
  exact E_T (hc := hc) (hm := hm) (L_unknown h (by grind) (by grind))
theorem low_st {c : Int32} {h : hH} (h0 : 32 ≤ c) : f_Mo_low c h = bS (f_Mo_stacks c h) fun _ h1 => some ((), h1) := by
  unfold f_Mo_low
  simp only [eq_false (neK h0 (k := 0) (by decide)), eq_false (neK h0 (k := 1) (by decide)), eq_false (neK h0 (k := 2) (by decide)), eq_false (neK h0 (k := 3) (by decide)), eq_false (neK h0 (k := 4) (by decide)), eq_false (neK h0 (k := 5) (by decide)), eq_false (neK h0 (k := 6) (by decide)), eq_false (neK h0 (k := 7) (by decide)), eq_false (neK h0 (k := 8) (by decide)), eq_false (neK h0 (k := 9) (by decide)), eq_false (neK h0 (k := 10) (by decide)), eq_false (neK h0 (k := 11) (by decide)), eq_false (neK h0 (k := 12) (by decide)), eq_false (neK h0 (k := 13) (by decide)), eq_false (neK h0 (k := 14) (by decide)), eq_false (neK h0 (k := 15) (by decide)), eq_false (neK h0 (k := 16) (by decide)), eq_false (neK h0 (k := 17) (by decide)), eq_false (neK h0 (k := 18) (by decide)), eq_false (neK h0 (k := 19) (by decide)), eq_false (neK h0 (k := 20) (by decide)), eq_false (neK h0 (k := 21) (by decide)), eq_false (neK h0 (k := 22) (by decide)), eq_false (neK h0 (k := 23) (by decide)), eq_false (neK h0 (k := 24) (by decide)), eq_false (neK h0 (k := 25) (by decide)), eq_false (neK h0 (k := 26) (by decide)), eq_false (neK h0 (k := 27) (by decide)), eq_false (neK h0 (k := 28) (by decide)), eq_false (neK h0 (k := 29) (by decide)), eq_false (neK h0 (k := 30) (by decide)), eq_false (neK h0 (k := 31) (by decide)), or_self, or_false, false_or, lz, bP_some, bS_some, bT_inl, bT_inr, bJT_inl, bJT_inr, bE_inl, bE_inr, bET_t, bET_inl, bET_inr, cO_t, cO_f, cS_t, cS_f, bE_bS, bE_bP, bE_gd, bET_bT, bET_bS, bET_bP, bET_gd, bJT_bT, bJT_bS, bJT_bP, bJT_gd, bJT_bJT, bP_bS, bP_bP, bP_gd, bT_bT, bT_bS, bT_bP, bT_gd, bS_bS, bS_bP, bS_gd, reduceIte]
theorem enumI {Q : Int32 → Prop} {a n : Nat} (h : ∀ k : Nat, k < n → Q (Int32.ofNat (a + k))) (ha : a < 256) (hn : n < 256) {c : Int32} (h0 : Int32.ofNat a ≤ c) (h1 : c < Int32.ofNat (a + n)) : Q c := by
  have ea : (Int32.ofNat a).toInt = (a : Int) := by rw [Int32.toInt_ofNat']; exact i32_bm (by omega) (by omega)
  have en : (Int32.ofNat (a + n)).toInt = ((a + n : Nat) : Int) := by rw [Int32.toInt_ofNat']; exact i32_bm (by omega) (by omega)
  rw [Int32.le_iff_toInt_le, ea] at h0
  rw [Int32.lt_iff_toInt_lt, en] at h1
  have e : c = Int32.ofNat (a + (c.toInt.toNat - a)) := by
    apply Int32.toInt_inj.mp
    rw [Int32.toInt_ofNat', i32_bm (by omega) (by omega)]
    omega
  rw [e]
  exact h _ (by omega)
theorem all_0 {P : hH → hH → Prop} {hc hm : hH} (h : Rm P hc hm) {c : Int32} (h0 : 0 ≤ c) (h1 : c < 32) : OK2 (f_Ma_settings c hc) (f_Mo_low c hm) (Tr P) :=
  enumI (Q := fun c => OK2 (f_Ma_settings c hc) (f_Mo_low c hm) (Tr P)) (a := 0) (n := 32) (fun k hk => match k, hk with
    | 0, _ => op_setAll h (Or.inl rfl)
    | 1, _ => op_setAll h (Or.inr rfl)
    | 2, _ => op_setProj h (Or.inl rfl)
    | 3, _ => op_setProj h (Or.inr rfl)
    | 4, _ => op_setFree h (Or.inl rfl)
    | 5, _ => op_setFree h (Or.inr rfl)
    | 6, _ => op_6 h (Or.inl rfl)
    | 7, _ => op_6 h (Or.inr (Or.inl rfl))
    | 8, _ => op_6 h (Or.inr (Or.inr (Or.inl rfl)))
    | 9, _ => op_6 h (Or.inr (Or.inr (Or.inr rfl)))
    | 10, _ => op_10 h (Or.inl rfl)
    | 11, _ => op_10 h (Or.inr rfl)
    | 12, _ => op_12 h
    | 13, _ => op_13 h
    | 14, _ => op_14 h
    | 15, _ => op_15 h
    | 16, _ => op_16 h
    | 17, _ => op_17 h
    | 18, _ => op_18 h
    | 19, _ => op_19 h
    | 20, _ => op_20 h
    | 21, _ => op_21 h
    | 22, _ => op_22 h
    | 23, _ => op_23 h
    | 24, _ => op_24 h (Or.inl rfl)
    | 25, _ => op_24 h (Or.inr rfl)
    | 26, _ => op_26 h
    | 27, _ => op_27 h
    | 28, _ => op_28 h
    | 29, _ => op_29 h
    | 30, _ => op_30 h
    | 31, _ => op_31 h
    | (k + 32), hk => absurd hk (by omega)) (by decide) (by decide) h0 h1
theorem all_32 {P : hH → hH → Prop} {hc hm : hH} (h : Rm P hc hm) {c : Int32} (h0 : 32 ≤ c) (h1 : c < 48) : OK2 (f_Ma_low c hc) (f_Mo_stacks c hm) (Tr P) :=
  enumI (Q := fun c => OK2 (f_Ma_low c hc) (f_Mo_stacks c hm) (Tr P)) (a := 32) (n := 16) (fun k hk => match k, hk with
    | 0, _ => op_32 h
    | 1, _ => op_33 h
    | 2, _ => op_34 h
    | 3, _ => op_35 h
    | 4, _ => op_36 h
    | 5, _ => op_37 h (Or.inl rfl)
    | 6, _ => op_37 h (Or.inr rfl)
    | 7, _ => op_39 h
    | 8, _ => op_40 h
    | 9, _ => op_41 h
    | 10, _ => op_42 h
    | 11, _ => op_43 h
    | 12, _ => op_44 h
    | 13, _ => op_45 h
    | 14, _ => op_46 h (Or.inl rfl)
    | 15, _ => op_46 h (Or.inr rfl)
    | (k + 16), hk => absurd hk (by omega)) (by decide) (by decide) h0 h1
theorem all_48 {P : hH → hH → Prop} {hc hm : hH} (h : Rm P hc hm) {c : Int32} (h0 : 48 ≤ c) (h1 : c < 64) : OK2 (f_Ma_low c hc) (f_Mo_middle c hm) (Tr P) :=
  enumI (Q := fun c => OK2 (f_Ma_low c hc) (f_Mo_middle c hm) (Tr P)) (a := 48) (n := 16) (fun k hk => match k, hk with
    | 0, _ => op_48 h (Or.inl rfl)
    | 1, _ => op_48 h (Or.inr rfl)
    | 2, _ => op_50 h (Or.inl rfl)
    | 3, _ => op_50 h (Or.inr rfl)
    | 4, _ => op_52 h (Or.inl rfl)
    | 5, _ => op_52 h (Or.inr rfl)
    | 6, _ => op_54 h (Or.inl rfl)
    | 7, _ => op_54 h (Or.inr rfl)
    | 8, _ => op_56 h (Or.inl rfl)
    | 9, _ => op_57 h
    | 10, _ => op_58 h (Or.inl rfl)
    | 11, _ => op_58 h (Or.inr rfl)
    | 12, _ => op_56 h (Or.inr rfl)
    | 13, _ => op_61 h
    | 14, _ => op_62 h (Or.inl rfl)
    | 15, _ => op_62 h (Or.inr rfl)
    | (k + 16), hk => absurd hk (by omega)) (by decide) (by decide) h0 h1
theorem all_64 {P : hH → hH → Prop} {hc hm : hH} (h : Rm P hc hm) {c : Int32} (h0 : 64 ≤ c) (h1 : c < 96) : OK2 (f_Ma_middle c hc) (f_Mo_middle c hm) (Tr P) :=
  enumI (Q := fun c => OK2 (f_Ma_middle c hc) (f_Mo_middle c hm) (Tr P)) (a := 64) (n := 32) (fun k hk => match k, hk with
    | 0, _ => op_64 h (Or.inl rfl)
    | 1, _ => op_64 h (Or.inr rfl)
    | 2, _ => op_66 h
    | 3, _ => op_67 h
    | 4, _ => op_68 h
    | 5, _ => op_69 h
    | 6, _ => op_70 h (Or.inl rfl)
    | 7, _ => op_70 h (Or.inr rfl)
    | 8, _ => op_72 h
    | 9, _ => op_73 h (Or.inl rfl)
    | 10, _ => op_73 h (Or.inr rfl)
    | 11, _ => op_75 h (Or.inl rfl)
    | 12, _ => op_75 h (Or.inr rfl)
    | 13, _ => op_77 h (Or.inl rfl)
    | 14, _ => op_77 h (Or.inr rfl)
    | 15, _ => op_79 h
    | 16, _ => op_80 h (Or.inl rfl)
    | 17, _ => op_80 h (Or.inr (Or.inl rfl))
    | 18, _ => op_80 h (Or.inr (Or.inr (Or.inl rfl)))
    | 19, _ => op_80 h (Or.inr (Or.inr (Or.inr (Or.inl rfl))))
    | 20, _ => op_80 h (Or.inr (Or.inr (Or.inr (Or.inr (Or.inl rfl)))))
    | 21, _ => op_80 h (Or.inr (Or.inr (Or.inr (Or.inr (Or.inr (Or.inl rfl))))))
    | 22, _ => op_86 h (Or.inl rfl)
    | 23, _ => op_86 h (Or.inr (Or.inl rfl))
    | 24, _ => op_88 h
    | 25, _ => op_89 h
    | 26, _ => op_80 h (Or.inr (Or.inr (Or.inr (Or.inr (Or.inr (Or.inr (Or.inl rfl)))))))
    | 27, _ => op_80 h (Or.inr (Or.inr (Or.inr (Or.inr (Or.inr (Or.inr (Or.inr rfl)))))))
    | 28, _ => op_86 h (Or.inr (Or.inr rfl))
    | 29, _ => op_93 h
    | 30, _ => op_94 h
    | 31, _ => op_95 h
    | (k + 32), hk => absurd hk (by omega)) (by decide) (by decide) h0 h1
theorem all_96 {P : hH → hH → Prop} {hc hm : hH} (h : Rm P hc hm) {c : Int32} (h0 : 96 ≤ c) (h1 : c < 142) : OK2 (f_Ma_upper c hc) (f_Mo_high c hm) (Tr P) :=
  enumI (Q := fun c => OK2 (f_Ma_upper c hc) (f_Mo_high c hm) (Tr P)) (a := 96) (n := 46) (fun k hk => match k, hk with
    | 0, _ => op_96 h (Or.inl rfl)
    | 1, _ => op_96 h (Or.inr (Or.inl rfl))
    | 2, _ => op_98 h
    | 3, _ => op_96 h (Or.inr (Or.inr (Or.inl rfl)))
    | 4, _ => op_100 h (Or.inl rfl)
    | 5, _ => op_100 h (Or.inr (Or.inl rfl))
    | 6, _ => op_100 h (Or.inr (Or.inr (Or.inl rfl)))
    | 7, _ => op_100 h (Or.inr (Or.inr (Or.inr rfl)))
    | 8, _ => op_104 h (Or.inl rfl)
    | 9, _ => op_104 h (Or.inr (Or.inl rfl))
    | 10, _ => op_104 h (Or.inr (Or.inr (Or.inl rfl)))
    | 11, _ => op_104 h (Or.inr (Or.inr (Or.inr rfl)))
    | 12, _ => op_108 h (Or.inl rfl)
    | 13, _ => op_108 h (Or.inr (Or.inl rfl))
    | 14, _ => op_108 h (Or.inr (Or.inr (Or.inl rfl)))
    | 15, _ => op_108 h (Or.inr (Or.inr (Or.inr rfl)))
    | 16, _ => op_112 h
    | 17, _ => op_113 h (Or.inl rfl)
    | 18, _ => op_113 h (Or.inr (Or.inl rfl))
    | 19, _ => op_113 h (Or.inr (Or.inr (Or.inl rfl)))
    | 20, _ => op_113 h (Or.inr (Or.inr (Or.inr (Or.inl rfl))))
    | 21, _ => op_113 h (Or.inr (Or.inr (Or.inr (Or.inr rfl))))
    | 22, _ => op_118 h (Or.inl rfl)
    | 23, _ => op_118 h (Or.inr rfl)
    | 24, _ => op_120 h (Or.inl rfl)
    | 25, _ => op_120 h (Or.inr rfl)
    | 26, _ => op_122 h
    | 27, _ => op_123 h (Or.inl rfl)
    | 28, _ => op_124 h (Or.inl rfl)
    | 29, _ => op_124 h (Or.inr rfl)
    | 30, _ => op_123 h (Or.inr (Or.inl rfl))
    | 31, _ => op_123 h (Or.inr (Or.inr rfl))
    | 32, _ => op_128 h
    | 33, _ => op_129 h (Or.inl rfl)
    | 34, _ => op_129 h (Or.inr rfl)
    | 35, _ => op_131 h (Or.inl rfl)
    | 36, _ => op_131 h (Or.inr rfl)
    | 37, _ => op_133 h
    | 38, _ => op_134 h (Or.inl rfl)
    | 39, _ => op_134 h (Or.inr rfl)
    | 40, _ => op_136 h
    | 41, _ => op_137 h
    | 42, _ => op_138 h
    | 43, _ => op_96 h (Or.inr (Or.inr (Or.inr (Or.inl rfl))))
    | 44, _ => op_96 h (Or.inr (Or.inr (Or.inr (Or.inr rfl))))
    | 45, _ => op_141 h
    | (k + 46), hk => absurd hk (by omega)) (by decide) (by decide) h0 h1
/-- what a step does with the code it has read -/
noncomputable def dispC (a3 : Int32) (h5 : hH) : Option (hH ⊕ (Unit × hH)) :=
  if a3 < (192 : Int32) then (
    if a3 < (176 : Int32) then (
      if (32 : Int32) ≤ a3 then (
        if (64 : Int32) ≤ a3 then (
          if (96 : Int32) ≤ a3 then (
            bT (f_Ma_upper a3 h5) fun _ h6 =>
            some (.inr ((), h6))
          ) else (
            bT (f_Ma_middle a3 h5) fun _ h7 =>
            some (.inr ((), h7))
          )
        ) else (
          bT (f_Ma_low a3 h5) fun _ h8 =>
          some (.inr ((), h8))
        )
      ) else (
        bT (f_Ma_settings a3 h5) fun _ h9 =>
        some (.inr ((), h9))
      )
    ) else (
      lz (A := Int32) (if (184 : Int32) ≤ a3 then (a3 - (183 : Int32)) else (a3 - (175 : Int32))) fun p7 =>
      lz (A := Int32) (if a3 < (184 : Int32) then (0 : Int32) else (1 : Int32)) fun p9 =>
      bT (f_Ma_pushBytes p7 p9 h5) fun _ h10 =>
      some (.inr ((), h10))
    )
  ) else (
    bT (f_Ma_relative a3 h5) fun _ h11 =>
    some (.inr ((), h11))
  )
theorem L_code {P : hH → hH → Prop} {hc hm : hH} (h : Rm P hc hm) {c : Int32} (h0 : 0 ≤ c) (h1 : c ≤ 255) : OK2 (dispC c hc) (f_Mo_perform c hm) (Tr P) := by
  unfold dispC f_Mo_perform
  by_cases c1 : c < 192
  · rw [if_pos c1, if_pos c1]
    by_cases c2 : c < 176
    · rw [if_pos c2, if_pos c2]
      by_cases c3 : 32 ≤ c
      · rw [if_pos c3]
        by_cases c4 : 64 ≤ c
        · rw [if_pos c4, if_pos (show (48 : Int32) ≤ c by grind)]
          by_cases c5 : 96 ≤ c
          · rw [if_pos c5, if_pos c5]
            by_cases c6 : c < 142
            · exact E_T (hc := hc) (hm := hm) (all_96 h c5 c6)
            · exact E_T (hc := hc) (hm := hm) (op_142 h (Int32.not_lt.mp c6) (by grind))
          · rw [if_neg c5, if_neg c5]
            exact E_T (hc := hc) (hm := hm) (all_64 h c4 (Int32.not_le.mp c5))
        · rw [if_neg c4]
          by_cases c5 : 48 ≤ c
          · rw [if_pos c5, if_neg (show ¬ (96 : Int32) ≤ c by grind)]
            exact E_T (hc := hc) (hm := hm) (all_48 h c5 (Int32.not_le.mp c4))
          · rw [if_neg c5, low_st c3]
            exact E_T (hc := hc) (hm := hm) (E_M (all_32 h c3 (Int32.not_le.mp c5)))
      · rw [if_neg c3, if_neg (show ¬ (48 : Int32) ≤ c by grind)]
        exact E_T (hc := hc) (hm := hm) (all_0 h h0 (Int32.not_le.mp c3))
    · rw [if_neg c2, if_neg c2]
      exact E_T (hc := hc) (hm := hm) (op_176 h (Int32.not_lt.mp c2) (by grind))
  · rw [if_neg c1, if_neg c1]
    by_cases c2 : 224 ≤ c
    · rw [if_pos c2]
      exact E_T (hc := hc) (hm := hm) (op_224 h c2)
    · rw [if_neg c2]
      exact E_T (hc := hc) (hm := hm) (op_192 h (Int32.not_le.mp c2))
