/-! LAYER 3BX: metrics and places of glyphs -/
/-- a loop one ahead of the other -/
theorem wh_two1 {B C : Type} {f : Int32 → Option (Int32 ⊕ (Unit ⊕ B))} {g : Int32 → Option (Int32 ⊕ (Unit ⊕ C))} {P : Int32 → Prop} {n : Int32} {x : B} {y : C} (n0 : 0 ≤ n) (n1 : n ≤ 20000) (fe : f (n + 1) = some (.inr (.inl ()))) (ge : ∀ p, n ≤ p → g p = some (.inr (.inl ()))) (st : ∀ p, 0 ≤ p → p < n → (P p ∧ f (p + 1) = some (.inl (p + 1 + 1)) ∧ g p = some (.inl (p + 1))) ∨ (f (p + 1) = some (.inr (.inr x)) ∧ g p = some (.inr (.inr y)))) : (wh f 1 = some (.inl ()) ∧ wh g 0 = some (.inl ()) ∧ ∀ p, 0 ≤ p → p < n → P p) ∨ (wh f 1 = some (.inr x) ∧ wh g 0 = some (.inr y)) := by
  have key : ∀ (k : Nat) (i : Int32), 0 ≤ i → n.toNatClampNeg - i.toNatClampNeg = k → (i = n ∨ i < n) → (wh f (i + 1) = some (.inl ()) ∧ wh g i = some (.inl ()) ∧ ∀ p, i ≤ p → p < n → P p) ∨ (wh f (i + 1) = some (.inr x) ∧ wh g i = some (.inr y)) := by
    intro k
    induction k with
    | zero =>
      intro i i0 e hi
      have le : n ≤ i := by
        by_cases w : n ≤ i
        · exact w
        · have := (xI_lt i0 n0).mpr (Int32.not_le.mp w)
          omega
      refine Or.inl ⟨?_, ?_, fun p h1 h2 => ?_⟩
      · have ein : i = n := hi.resolve_right (fun w => Int32.lt_irrefl (Int32.lt_of_le_of_lt le w))
        rw [ein, wh_eq, fe]
      · rw [wh_eq, ge i le]
      · exact absurd (Int32.lt_of_le_of_lt (Int32.le_trans le h1) h2) (fun w => Int32.lt_irrefl w)
    | succ k ih =>
      intro i i0 e hi
      have lt : i < n := by
        by_cases w : n ≤ i
        · have := xI_mono w
          omega
        · exact Int32.not_le.mp w
      have ii : (i + 1).toNatClampNeg = i.toNatClampNeg + 1 := xI_succ (m := 20000) i0 (by grind) (by decide)
      rcases st i i0 lt with ⟨p1, p2, p3⟩ | ⟨p2, p3⟩
      · have w1 : wh f (i + 1) = wh f (i + 1 + 1) := by rw [wh_eq, p2]
        have w2 : wh g i = wh g (i + 1) := by rw [wh_eq, p3]
        rw [w1, w2]
        rcases ih (i + 1) (by grind) (by omega) (by grind) with ⟨q1, q2, q3⟩ | q
        · refine Or.inl ⟨q1, q2, fun p h1 h2 => ?_⟩
          by_cases u : p = i
          · rw [u]; exact p1
          · exact q3 p (by grind) h2
        · exact Or.inr q
      · refine Or.inr ⟨?_, ?_⟩
        · rw [wh_eq, p2]
        · rw [wh_eq, p3]
  have := key _ 0 (by decide) rfl (by grind)
  rw [show (0 : Int32) + 1 = 1 by decide] at this
  exact this
theorem i64_2 {u : Int32} (h : 0 ≤ u ∧ u ≤ 65535) : ((2 : Int64) * u.toInt64).toInt = 2 * u.toInt := by
  have z0 : (0 : Int32).toInt = 0 := rfl
  have z6 : (65535 : Int32).toInt = 65535 := rfl
  have z2 : (2 : Int64).toInt = 2 := rfl
  have a := Int32.le_iff_toInt_le.mp h.1
  have b := Int32.le_iff_toInt_le.mp h.2
  rw [i64_mul (by rw [z2, Int32.toInt_toInt64]; omega) (by rw [z2, Int32.toInt_toInt64]; omega), z2, Int32.toInt_toInt64]
/-- where a glyph begins -/
def LV (B : Nat → Int32) (f lb : Int32) (p : Int32) : Int64 := if f = 0 then 2 * (u2B B (lb + 2 * p).toNatClampNeg).toInt64 else u4B B (lb + 4 * p).toNatClampNeg
theorem LV_r (B : Nat → Int32) (f lb p : Int32) : 0 ≤ (LV B f lb p).toInt ∧ (LV B f lb p).toInt < 4294967296 := by
  unfold LV
  split
  · have r := u2B_r B (lb + 2 * p).toNatClampNeg
    rw [i64_2 r]
    have z0 : (0 : Int32).toInt = 0 := rfl
    have z6 : (65535 : Int32).toInt = 65535 := rfl
    have a := Int32.le_iff_toInt_le.mp r.1
    have b := Int32.le_iff_toInt_le.mp r.2
    omega
  · exact u4B_r B _
theorem ar_lo {lb ll s gl p w : Int32} (b0 : 0 ≤ lb) (b1 : lb ≤ 12000) (l1 : ll ≤ 12000) (bl : lb + ll ≤ s) (s1 : s ≤ 12000) (g0 : 1 ≤ gl) (g1 : gl ≤ 200) (hl : (gl + 1) * w ≤ ll) (p0 : 0 ≤ p) (p1 : p ≤ gl) (hw : w = 2 ∨ w = 4) : (w = 2 → 0 ≤ lb + 2 * p ∧ lb + 2 * p ≤ s - 2) ∧ (w = 4 → 0 ≤ lb + 4 * p ∧ lb + 4 * p ≤ s - 4) := by
  refine ⟨fun e => ⟨?_, ?_⟩, fun e => ⟨?_, ?_⟩⟩ <;> subst e <;> grind
theorem L_loca {B : Nat → Int32} {s f lb ll gl p : Int32} {c m : hH} (cb : CB B s c) (mb : MB B s m) (s0 : 0 ≤ s) (s1 : s ≤ 12000) (e7 : rdI c 4 7 = f) (e11 : rdI m 192 11 = f) (e18 : rdI c 4 18 = lb) (tM : f_Mo_beginOf 1819239265 m = some lb) (b0 : 0 ≤ lb ∧ lb ≤ 12000) (l1 : ll ≤ 12000) (bl : lb + ll ≤ s) (g0 : 1 ≤ gl ∧ gl ≤ 200) (hl : (gl + 1) * (if f = 0 then 2 else 4) ≤ ll) (p0 : 0 ≤ p) (p1 : p ≤ gl) : f_Fo_locaOf p c = some (LV B f lb p) ∧ f_Mo_loca p m = some (LV B f lb p) := by
  have ar := ar_lo (w := if f = 0 then 2 else 4) b0.1 b0.2 l1 bl s1 g0.1 g0.2 hl p0 p1 (by split; exact Or.inl rfl; exact Or.inr rfl)
  unfold f_Fo_locaOf f_Mo_loca LV
  rw [e7, e11, e18, tM, bP_some]
  by_cases q : f = 0
  · rw [if_pos q] at ar
    obtain ⟨a1, a2⟩ := ar.1 rfl
    rw [if_pos q, if_pos q, if_pos q, cU2 cb s0 s1 a1 a2, mU2 mb s0 s1 a1 a2]
    exact ⟨rfl, rfl⟩
  · rw [if_neg q] at ar
    obtain ⟨a1, a2⟩ := ar.2 rfl
    rw [if_neg q, if_neg q, if_neg q, cU4 cb s0 s1 a1 a2, mU4 mb s0 s1 a1 a2]
    exact ⟨rfl, rfl⟩
noncomputable def loC (h2 : hH) (p6 : Int32) : Option (Int32 ⊕ (Unit ⊕ (Int32 × hH))) :=
  if (rdI h2 4 8) < p6 then (
    some (.inr (.inl ()))
  ) else (
    bP (f_Fo_locaOf p6 h2) fun a8 =>
    bP (f_Fo_locaOf (p6 - (1 : Int32)) h2) fun a9 =>
    if a9 ≤ a8 then (
      lz (A := Int32) (p6 + (1 : Int32)) fun v10 =>
      some (.inl v10)
    ) else (
      some (.inr (.inr ((0 : Int32), h2)))
    )
  )
theorem isLoca_eq0 {h : hH} : f_Fo_isLoca h = bP (f_Fo_beginOf (1819239265 : Int64) h) fun a1 =>
  lz (wrI h 4 18 a1) fun h1 =>
  bP (f_Fo_beginOf (1735162214 : Int64) h1) fun a2 =>
  lz (wrI h1 4 19 a2) fun h2 =>
  bP (f_Fo_lengthOf (1819239265 : Int64) h2) fun a3 =>
  lz (A := Int32) (if (rdI h2 4 7) = 0 then (2 : Int32) else (4 : Int32)) fun p4 =>
  if (((rdI h2 4 8) + (1 : Int32)) * p4) ≤ a3 then (
    bE (P := Unit) (X := (Int32 × hH)) (wh (A := Int32) (B := (Unit ⊕ (Int32 × hH))) (loC h2) (1 : Int32)) fun p7 =>
    bP (f_Fo_locaOf (rdI h2 4 8) h2) fun a13 =>
    bP (f_Fo_lengthOf (1735162214 : Int64) h2) fun a14 =>
    if (Int32.toInt64 a14) < a13 then (
      some ((0 : Int32), h2)
    ) else (
      some ((1 : Int32), h2)
    )
  ) else (
    some ((0 : Int32), h2)
  ) := rfl
noncomputable def loM (h : hH) (p4 : Int32) : Option (Int32 ⊕ (Unit ⊕ (Int32 × hH))) :=
  if (rdI h 192 12) ≤ p4 then (
    some (.inr (.inl ()))
  ) else (
    bP (f_Mo_loca p4 h) fun a6 =>
    bP (f_Mo_loca (p4 + (1 : Int32)) h) fun a7 =>
    if a6 ≤ a7 then (
      lz (A := Int32) (p4 + (1 : Int32)) fun v8 =>
      some (.inl v8)
    ) else (
      some (.inr (.inr ((10 : Int32), h)))
    )
  )
/-- the model's part, up to the glyphs -/
noncomputable def loK (h : hH) (K : Option (Int32 × hH)) : Option (Int32 × hH) :=
  bP (f_Mo_lengthOf (1819239265 : Int32) h) fun a1 =>
  lz (A := Int32) (if (rdI h 192 11) = 0 then (2 : Int32) else (4 : Int32)) fun p2 =>
  if (((rdI h 192 12) + (1 : Int32)) * p2) ≤ a1 then (
    bE (P := Unit) (X := (Int32 × hH)) (wh (A := Int32) (B := (Unit ⊕ (Int32 × hH))) (loM h) (0 : Int32)) fun p5 =>
    bP (f_Mo_loca (rdI h 192 12) h) fun a11 =>
    bP (f_Mo_lengthOf (1735162214 : Int32) h) fun a12 =>
    if a11 ≤ (Int32.toInt64 a12) then K else (
      some ((10 : Int32), h)
    )
  ) else (
    some ((10 : Int32), h)
  )
theorem beginOfC_4 {ks : List Nat} {c g : hH} (f : FC4 ks c g) (h1 : 1 ∉ ks) (t : Int64) : f_Fo_find t g = f_Fo_find t c ∧ f_Fo_beginOf t g = f_Fo_beginOf t c ∧ f_Fo_lengthOf t g = f_Fo_lengthOf t c := by
  have e : f_Fo_find t g = f_Fo_find t c := by
    rw [find_eq0, find_eq0]
    unfold fiC
    rw [f.1 4 1 (fun w => h1 w.2)]
    simp only [f.2.1]
  refine ⟨e, ?_, ?_⟩
  · unfold f_Fo_beginOf
    rw [e]
    simp only [f.2.1]
  · unfold f_Fo_lengthOf
    rw [e]
    simp only [f.2.1]
theorem tabM_4 {ks : List Nat} {m g : hH} (f : FM4 ks m g) (h5 : 5 ∉ ks) (t : Int32) : f_Mo_tableOf t g = f_Mo_tableOf t m ∧ f_Mo_beginOf t g = f_Mo_beginOf t m ∧ f_Mo_lengthOf t g = f_Mo_lengthOf t m := ⟨tableOf_loc (f.1 192 5 (fun w => h5 w.2)) (fun k => f.1 195 k (by omega)), beginOf_loc (f.1 192 5 (fun w => h5 w.2)) (fun k => f.1 195 k (by omega)) (fun k => f.2.1 197 k), lengthOf_loc (f.1 192 5 (fun w => h5 w.2)) (fun k => f.1 195 k (by omega)) (fun k => f.2.1 198 k)⟩
theorem TB_4 {ks ls : List Nat} {s t b l i : Int32} {c g m p : hH} (f : FC4 ks c g) (h1 : 1 ∉ ks) (f' : FM4 ls m p) (h5 : 5 ∉ ls) (tb : TB s c m t b l i) : TB s g p t b l i := by
  obtain ⟨a1, a2, a3⟩ := beginOfC_4 f h1 t.toInt64
  obtain ⟨b1, b2, b3⟩ := tabM_4 f' h5 t
  unfold TB
  rw [a1, a2, a3, b1, b2, b3]
  exact tb
/-- places of glyphs: they grow, and lie in the table -/
def LG (B : Nat → Int32) (f lb gl gn : Int32) : Prop := (∀ p, 0 ≤ p → p < gl → LV B f lb p ≤ LV B f lb (p + 1)) ∧ LV B f lb gl ≤ gn.toInt64
theorem L_isLoca {B : Nat → Int32} {s f lb ll il gb gn ig gl : Int32} {c m : hH} {K : Option (Int32 × hH)} (cb : CB B s c) (mb : MB B s m) (s0 : 0 ≤ s) (s1 : s ≤ 12000) (tl : TB s c m 1819239265 lb ll il) (tg : TB s c m 1735162214 gb gn ig) (e7 : rdI c 4 7 = f) (e11 : rdI m 192 11 = f) (e8 : rdI c 4 8 = gl) (e12 : rdI m 192 12 = gl) (g0 : 1 ≤ gl ∧ gl ≤ 200) : ∃ a c', f_Fo_isLoca c = some (a, c') ∧ FC4 [18, 19] c c' ∧ ((a = 0 ∧ loK m K = some (10, m)) ∨ (a = 1 ∧ loK m K = K ∧ rdI c' 4 18 = lb ∧ rdI c' 4 19 = gb ∧ LG B f lb gl gn ∧ (gl + 1) * (if f = 0 then 2 else 4) ≤ ll)) := by
  have tl0 := tl
  have tg0 := tg
  obtain ⟨_, ⟨l1, l2, l3, l4⟩, ⟨lb0, lb1⟩, ⟨ll0, ll1⟩, lbl, _, _⟩ := tl
  have fc1 : FC4 [18, 19] c (wrI c 4 18 lb) := FC4_w FC4_rfl (by decide)
  have fc2 : FC4 [18, 19] c (wrI (wrI c 4 18 lb) 4 19 gb) := FC4_w fc1 (by decide)
  have t1 : f_Fo_beginOf 1819239265 c = some lb := l1
  have t2 : f_Fo_beginOf 1735162214 (wrI c 4 18 lb) = some gb := (beginOfC_4 fc1 (by decide) _).2.1.trans tg.2.1.1
  have t3 : f_Fo_lengthOf 1819239265 (wrI (wrI c 4 18 lb) 4 19 gb) = some ll := (beginOfC_4 fc2 (by decide) _).2.2.trans l2
  have t4 : f_Fo_lengthOf 1735162214 (wrI (wrI c 4 18 lb) 4 19 gb) = some gn := (beginOfC_4 fc2 (by decide) _).2.2.trans tg.2.1.2.1
  rw [isLoca_eq0, t1, bP_some, lz_eq, t2, bP_some, lz_eq, t3, t4, bP_some]
  have c18 : rdI (wrI (wrI c 4 18 lb) 4 19 gb) 4 18 = lb := by simp only [rdI_wrI, rdP_wrI, rdL_wrI, Nat.reduceEqDiff, false_and, and_false, true_and, and_true, eq_self, reduceIte, ite_self]
  have c19 : rdI (wrI (wrI c 4 18 lb) 4 19 gb) 4 19 = gb := by simp only [rdI_wrI, rdP_wrI, rdL_wrI, Nat.reduceEqDiff, false_and, and_false, true_and, and_true, eq_self, reduceIte, ite_self]
  have c7 : rdI (wrI (wrI c 4 18 lb) 4 19 gb) 4 7 = f := by simp only [rdI_wrI, rdP_wrI, rdL_wrI, Nat.reduceEqDiff, false_and, and_false, true_and, and_true, eq_self, reduceIte, ite_self]; exact e7
  have c8 : rdI (wrI (wrI c 4 18 lb) 4 19 gb) 4 8 = gl := by simp only [rdI_wrI, rdP_wrI, rdL_wrI, Nat.reduceEqDiff, false_and, and_false, true_and, and_true, eq_self, reduceIte, ite_self]; exact e8
  have cb2 := CB_4 fc2 cb
  generalize hC : wrI (wrI c 4 18 lb) 4 19 gb = C at fc2 c18 c19 c7 c8 cb2
  unfold loK
  rw [l4, tg.2.1.2.2.2, bP_some, c7, c8, e11, e12, lz_eq, lz_eq]
  by_cases qn : ¬ ((gl + 1) * (if f = 0 then 2 else 4) ≤ ll)
  · rw [if_neg qn, if_neg qn]
    exact ⟨_, _, rfl, fc2, Or.inl ⟨rfl, rfl⟩⟩
  have q : (gl + 1) * (if f = 0 then 2 else 4) ≤ ll := Decidable.not_not.mp qn
  rw [if_pos q, if_pos q]
  have L := fun p p0 p1 => L_loca (p := p) cb2 mb s0 s1 c7 e11 c18 l3 ⟨lb0, lb1⟩ ll1 lbl g0 q p0 p1
  have key := wh_two1 (f := loC C) (g := loM m) (P := fun p => LV B f lb p ≤ LV B f lb (p + 1)) (n := gl) (x := ((0 : Int32), C)) (y := ((10 : Int32), m)) (by grind) (by grind) (by
      unfold loC
      rw [c8, if_pos (by grind)]) (fun p hp => by unfold loM; rw [e12, if_pos hp]) (fun p p0 p1 => by
    unfold loC loM
    have ng : ¬ gl < p + 1 := by grind
    rw [c8, e12, if_neg ng, if_neg (Int32.not_le.mpr p1), (L (p + 1) (by grind) (by grind)).1, (L (p + 1) (by grind) (by grind)).2, show p + 1 - 1 = p by grind, (L p p0 (by grind)).1, (L p p0 (by grind)).2]
    simp only [bP_some, lz]
    by_cases w : LV B f lb p ≤ LV B f lb (p + 1)
    · rw [if_pos w, if_pos w]
      exact Or.inl ⟨w, rfl, rfl⟩
    · rw [if_neg w, if_neg w]
      exact Or.inr ⟨rfl, rfl⟩)
  rcases key with ⟨k1, k2, k3⟩ | ⟨k1, k2⟩
  · rw [k1, k2, bE_inl, bE_inl, (L gl (by grind) (Int32.le_refl _)).1, (L gl (by grind) (Int32.le_refl _)).2]
    simp only [bP_some]
    by_cases w : LV B f lb gl ≤ gn.toInt64
    · rw [if_neg (Int64.not_lt.mpr w), if_pos w]
      exact ⟨_, _, rfl, fc2, Or.inr ⟨rfl, rfl, c18, c19, ⟨k3, w⟩, q⟩⟩
    · rw [if_pos (Int64.not_le.mp w), if_neg w]
      exact ⟨_, _, rfl, fc2, Or.inl ⟨rfl, rfl⟩⟩
  · rw [k1, k2]
    exact ⟨_, _, rfl, fc2, Or.inl ⟨rfl, rfl⟩⟩
