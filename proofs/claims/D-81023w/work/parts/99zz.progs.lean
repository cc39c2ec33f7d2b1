/-! LAYER 3CH: programs of the font; frames of the font while it is loaded -/
def FXc (ks : List Nat) (c g : hH) : Prop := (∀ k, k ∉ ks → rdI g 4 k = rdI c 4 k) ∧ (∀ k, rdI g 5 k = rdI c 5 k) ∧ (∀ k, rdI g 6 k = rdI c 6 k) ∧ (∀ o k, rdL g o k = rdL c o k)
def FYm (ks : List Nat) (m g : hH) : Prop := (∀ k, k ≤ 25 → k ∉ ks → rdI g 192 k = rdI m 192 k) ∧ (∀ k, rdI g 194 k = rdI m 194 k) ∧ (∀ k, rdI g 195 k = rdI m 195 k) ∧ (∀ o k, rdL g o k = rdL m o k)
theorem FXc_4 {ks : List Nat} {c g : hH} (f : FC4 ks c g) : FXc ks c g := ⟨fun k w => f.1 4 k (fun u => w u.2), fun k => f.1 5 k (by omega), fun k => f.1 6 k (by omega), f.2.1⟩
theorem FYm_4 {ks : List Nat} {m g : hH} (f : FM4 ks m g) : FYm ks m g := ⟨fun k _ w => f.1 192 k (fun u => w u.2), fun k => f.1 194 k (by omega), fun k => f.1 195 k (by omega), f.2.1⟩
theorem FXc_R {c g : hH} (f : FrR c g) : FXc [] c g := ⟨fun k _ => f.1 4 k (by omega), fun k => f.1 5 k (by omega), fun k => f.1 6 k (by omega), f.2.1⟩
theorem FYm_S {m g : hH} (f : FrS m g) : FYm [] m g := ⟨fun k w _ => f.1 192 k (by omega) (by omega), fun k => f.1 194 k (by omega) (by omega), fun k => f.1 195 k (by omega) (by omega), f.2.2⟩
theorem FXc_tr {ks ls js : List Nat} {c g k : hH} (f : FXc ks c g) (f' : FXc ls g k) (h1 : ∀ x ∈ ks, x ∈ js) (h2 : ∀ x ∈ ls, x ∈ js) : FXc js c k := ⟨fun n w => (f'.1 n (fun u => w (h2 n u))).trans (f.1 n (fun u => w (h1 n u))), fun n => (f'.2.1 n).trans (f.2.1 n), fun n => (f'.2.2.1 n).trans (f.2.2.1 n), fun o n => (f'.2.2.2 o n).trans (f.2.2.2 o n)⟩
theorem FYm_tr {ks ls js : List Nat} {c g k : hH} (f : FYm ks c g) (f' : FYm ls g k) (h1 : ∀ x ∈ ks, x ∈ js) (h2 : ∀ x ∈ ls, x ∈ js) : FYm js c k := ⟨fun n l w => (f'.1 n l (fun u => w (h2 n u))).trans (f.1 n l (fun u => w (h1 n u))), fun n => (f'.2.1 n).trans (f.2.1 n), fun n => (f'.2.2.1 n).trans (f.2.2.1 n), fun o n => (f'.2.2.2 o n).trans (f.2.2.2 o n)⟩
theorem CB_x {B : Nat → Int32} {s : Int32} {ks : List Nat} {c g : hH} (f : FXc ks c g) (cb : CB B s c) : CB B s g := CB_e cb (f.2.1 1) (fun k => f.2.2.1 k)
theorem MB_x {B : Nat → Int32} {s : Int32} {ks : List Nat} {m g : hH} (f : FYm ks m g) (h3 : 3 ∉ ks) (mb : MB B s m) : MB B s g := MB_e mb (f.1 3 (by decide) h3) (fun k => f.2.1 k)
theorem tabC_x {ks : List Nat} {c g : hH} (f : FXc ks c g) (h1 : 1 ∉ ks) (t : Int64) : f_Fo_find t g = f_Fo_find t c ∧ f_Fo_beginOf t g = f_Fo_beginOf t c ∧ f_Fo_lengthOf t g = f_Fo_lengthOf t c := by
  have e : f_Fo_find t g = f_Fo_find t c := by
    rw [find_eq0, find_eq0]
    unfold fiC
    rw [f.1 1 h1]
    simp only [f.2.2.2]
  refine ⟨e, ?_, ?_⟩
  · unfold f_Fo_beginOf
    rw [e]
    simp only [f.2.2.2]
  · unfold f_Fo_lengthOf
    rw [e]
    simp only [f.2.2.2]
theorem tabM_x {ks : List Nat} {m g : hH} (f : FYm ks m g) (h5 : 5 ∉ ks) (t : Int32) : f_Mo_tableOf t g = f_Mo_tableOf t m ∧ f_Mo_beginOf t g = f_Mo_beginOf t m ∧ f_Mo_lengthOf t g = f_Mo_lengthOf t m := ⟨tableOf_loc (f.1 5 (by decide) h5) f.2.2.1, beginOf_loc (f.1 5 (by decide) h5) f.2.2.1 (fun k => f.2.2.2 197 k), lengthOf_loc (f.1 5 (by decide) h5) f.2.2.1 (fun k => f.2.2.2 198 k)⟩
theorem TB_x {ks ls : List Nat} {s t b l i : Int32} {c g m p : hH} (f : FXc ks c g) (h1 : 1 ∉ ks) (f' : FYm ls m p) (h5 : 5 ∉ ls) (tb : TB s c m t b l i) : TB s g p t b l i := by
  obtain ⟨a1, a2, a3⟩ := tabC_x f h1 t.toInt64
  obtain ⟨b1, b2, b3⟩ := tabM_x f' h5 t
  unfold TB
  rw [a1, a2, a3, b1, b2, b3]
  exact tb
theorem half {l : Int32} (h0 : 0 ≤ l) (h1 : l ≤ 512) : 0 ≤ l / 2 ∧ l / 2 ≤ 256 ∧ 2 * (l / 2) ≤ l := by
  have z2 : (2 : Int32).toInt = 2 := rfl
  have z5 : (512 : Int32).toInt = 512 := rfl
  have z25 : (256 : Int32).toInt = 256 := rfl
  have a0 := nn32 h0
  have a1 := Int32.le_iff_toInt_le.mp h1
  rw [z5] at a1
  have e : (l / 2).toInt = l.toInt / 2 := by
    rw [Int32.toInt_div, z2, Int.tdiv_eq_ediv_of_nonneg a0, Int.bmod_def]
    split <;> omega
  refine ⟨Int32.le_iff_toInt_le.mpr ?_, Int32.le_iff_toInt_le.mpr ?_, Int32.le_iff_toInt_le.mpr ?_⟩
  · rw [e]
    show 0 ≤ l.toInt / 2
    omega
  · rw [e, z25]; omega
  · rw [i32_mul (by rw [z2, e]; omega) (by rw [z2, e]; omega), z2, e]; omega
noncomputable def pgK (h4 : hH) : Option (Int32 × hH) :=
  bP (f_Mo_lengthOf (1668707360 : Int32) h4) fun a22 =>
  if (hx_rm a22 (2 : Int32)) = 0 then (
    if (512 : Int32) < a22 then (
      some ((14 : Int32), h4)
    ) else (
      bP (f_Mo_lengthOf (1718642541 : Int32) h4) fun a23 =>
      if (2000 : Int32) < a23 then (
        some ((14 : Int32), h4)
      ) else (
        bP (f_Mo_lengthOf (1886545264 : Int32) h4) fun a24 =>
        if a24 ≤ (2000 : Int32) then (
          lz (wrI h4 192 25 (a22 / (2 : Int32))) fun h5 =>
          some ((0 : Int32), h5)
        ) else (
          some ((14 : Int32), h4)
        )
      )
    )
  ) else (
    some ((14 : Int32), h4)
  )
/-- the programs, as they are kept -/
def PGs (s : Int32) (c m : hH) : Prop := (rdI m 192 25 = rdI c 4 26 ∧ 0 ≤ rdI c 4 26 ∧ rdI c 4 26 ≤ 256) ∧ (f_Mo_beginOf 1668707360 m = some (rdI c 4 25) ∧ 0 ≤ rdI c 4 25 ∧ rdI c 4 25 ≤ 12000 ∧ rdI c 4 25 + 2 * rdI c 4 26 ≤ s) ∧ PG c m 1718642541 27 28 ∧ PG c m 1886545264 29 30
theorem L_progs {B : Nat → Int32} {s b1 l1 i1 b2 l2 i2 b3 l3 i3 : Int32} {c m : hH} (cb : CB B s c) (s0 : 0 ≤ s) (s1 : s ≤ 12000) (t1 : TB s c m 1668707360 b1 l1 i1) (t2 : TB s c m 1718642541 b2 l2 i2) (t3 : TB s c m 1886545264 b3 l3 i3) : ∃ a c', f_Fo_arePrograms c = some (a, c') ∧ FC4 [25, 26, 27, 28, 29, 30] c c' ∧ ((a = 0 ∧ pgK m = some (14, m)) ∨ (a = 1 ∧ ∃ m', pgK m = some (0, m') ∧ FM4 [25] m m' ∧ PGs s c' m')) := by
  obtain ⟨_, ⟨x1, x2, x3, x4⟩, ⟨xb0, xb1⟩, ⟨xl0, xl1⟩, xbl, _, _⟩ := t1
  obtain ⟨⟨_, y0⟩, ⟨y1, y2, y3, y4⟩, ⟨yb0, yb1⟩, ⟨yl0, yl1⟩, ybl, _, yi⟩ := t2
  obtain ⟨⟨_, z0⟩, ⟨z1, z2, z3, z4⟩, ⟨zb0, zb1⟩, ⟨zl0, zl1⟩, zbl, _, zi⟩ := t3
  have x1' : f_Fo_beginOf 1668707360 c = some b1 := x1
  have x2' : f_Fo_lengthOf 1668707360 c = some l1 := x2
  have y1' : f_Fo_beginOf 1718642541 c = some b2 := y1
  have y2' : f_Fo_lengthOf 1718642541 c = some l2 := y2
  have z1' : f_Fo_beginOf 1886545264 c = some b3 := z1
  have z2' : f_Fo_lengthOf 1886545264 c = some l3 := z2
  have w1 : FC4 [25, 26, 27, 28, 29, 30] c (wrI c 4 25 b1) := FC4_w FC4_rfl (by decide)
  have w2 : FC4 [25, 26, 27, 28, 29, 30] c (wrI (wrI c 4 25 b1) 4 27 b2) := FC4_w w1 (by decide)
  have w3 : FC4 [25, 26, 27, 28, 29, 30] c (wrI (wrI (wrI c 4 25 b1) 4 27 b2) 4 29 b3) := FC4_w w2 (by decide)
  have w4 : FC4 [25, 26, 27, 28, 29, 30] c (wrI (wrI (wrI (wrI c 4 25 b1) 4 27 b2) 4 29 b3) 4 26 (l1 / 2)) := FC4_w w3 (by decide)
  have w5 : FC4 [25, 26, 27, 28, 29, 30] c (wrI (wrI (wrI (wrI (wrI c 4 25 b1) 4 27 b2) 4 29 b3) 4 26 (l1 / 2)) 4 28 l2) := FC4_w w4 (by decide)
  have w6 : FC4 [25, 26, 27, 28, 29, 30] c (wrI (wrI (wrI (wrI (wrI (wrI c 4 25 b1) 4 27 b2) 4 29 b3) 4 26 (l1 / 2)) 4 28 l2) 4 30 l3) := FC4_w w5 (by decide)
  have h1 : (1 : Nat) ∉ [25, 26, 27, 28, 29, 30] := by decide
  have e25 : rdI (wrI (wrI (wrI (wrI (wrI (wrI c 4 25 b1) 4 27 b2) 4 29 b3) 4 26 (l1 / 2)) 4 28 l2) 4 30 l3) 4 25 = b1 := by simp only [rdI_wrI, rdP_wrI, rdL_wrI, Nat.reduceEqDiff, false_and, and_false, true_and, and_true, eq_self, reduceIte, ite_self]
  have e26 : rdI (wrI (wrI (wrI (wrI (wrI (wrI c 4 25 b1) 4 27 b2) 4 29 b3) 4 26 (l1 / 2)) 4 28 l2) 4 30 l3) 4 26 = l1 / 2 := by simp only [rdI_wrI, rdP_wrI, rdL_wrI, Nat.reduceEqDiff, false_and, and_false, true_and, and_true, eq_self, reduceIte, ite_self]
  have e27 : rdI (wrI (wrI (wrI (wrI (wrI (wrI c 4 25 b1) 4 27 b2) 4 29 b3) 4 26 (l1 / 2)) 4 28 l2) 4 30 l3) 4 27 = b2 := by simp only [rdI_wrI, rdP_wrI, rdL_wrI, Nat.reduceEqDiff, false_and, and_false, true_and, and_true, eq_self, reduceIte, ite_self]
  have e28 : rdI (wrI (wrI (wrI (wrI (wrI (wrI c 4 25 b1) 4 27 b2) 4 29 b3) 4 26 (l1 / 2)) 4 28 l2) 4 30 l3) 4 28 = l2 := by simp only [rdI_wrI, rdP_wrI, rdL_wrI, Nat.reduceEqDiff, false_and, and_false, true_and, and_true, eq_self, reduceIte, ite_self]
  have e29 : rdI (wrI (wrI (wrI (wrI (wrI (wrI c 4 25 b1) 4 27 b2) 4 29 b3) 4 26 (l1 / 2)) 4 28 l2) 4 30 l3) 4 29 = b3 := by simp only [rdI_wrI, rdP_wrI, rdL_wrI, Nat.reduceEqDiff, false_and, and_false, true_and, and_true, eq_self, reduceIte, ite_self]
  have e30 : rdI (wrI (wrI (wrI (wrI (wrI (wrI c 4 25 b1) 4 27 b2) 4 29 b3) 4 26 (l1 / 2)) 4 28 l2) 4 30 l3) 4 30 = l3 := by simp only [rdI_wrI, rdP_wrI, rdL_wrI, Nat.reduceEqDiff, false_and, and_false, true_and, and_true, eq_self, reduceIte, ite_self]
  unfold f_Fo_arePrograms pgK
  rw [x1', bP_some, lz_eq, (beginOfC_4 w1 h1 _).2.1, y1', bP_some, lz_eq, (beginOfC_4 w2 h1 _).2.1, z1', bP_some, lz_eq, (beginOfC_4 w3 h1 _).2.2, x2', bP_some, lz_eq, (beginOfC_4 w4 h1 _).2.2, y2', bP_some, lz_eq, (beginOfC_4 w5 h1 _).2.2, z2', bP_some, lz_eq, x4, bP_some, y4, z4]
  generalize wrI (wrI (wrI (wrI (wrI (wrI c 4 25 b1) 4 27 b2) 4 29 b3) 4 26 (l1 / 2)) 4 28 l2) 4 30 l3 = C at w6 e25 e26 e27 e28 e29 e30
  rw [e28, e30]
  by_cases q1 : ¬ (hx_rm l1 2 = 0)
  · simp only [if_neg q1]
    exact ⟨_, _, rfl, w6, Or.inl ⟨rfl, trivial⟩⟩
  have q1' : hx_rm l1 2 = 0 := Decidable.not_not.mp q1
  simp only [if_pos q1', bP_some]
  by_cases q2 : 512 < l1
  · simp only [if_pos q2]
    exact ⟨_, _, rfl, w6, Or.inl ⟨rfl, trivial⟩⟩
  simp only [if_neg q2]
  by_cases q3 : 2000 < l2
  · simp only [if_pos q3]
    exact ⟨_, _, rfl, w6, Or.inl ⟨rfl, trivial⟩⟩
  simp only [if_neg q3]
  by_cases q4 : 2000 < l3
  · rw [if_pos q4, if_neg (Int32.not_le.mpr q4)]
    exact ⟨_, _, rfl, w6, Or.inl ⟨rfl, rfl⟩⟩
  rw [if_neg q4, if_pos (Int32.not_lt.mp q4), lz_eq]
  have fm : FM4 [25] m (wrI m 192 25 (l1 / 2)) := FM4_w FM4_rfl (by decide)
  obtain ⟨p1, p2, p3⟩ := half xl0 (Int32.not_lt.mp q2)
  have h5 : (5 : Nat) ∉ [25] := by decide
  refine ⟨_, _, rfl, w6, Or.inr ⟨rfl, _, rfl, fm, ?_⟩⟩
  have tm := fun t => tabM_4 fm h5 t
  have cs : rdI C 5 1 = s := (w6.1 5 1 (by decide)).trans cb.1
  unfold PGs PG
  rw [(tm _).2.1, (tm _).2.1, (tm _).2.1, (tm _).2.2, (tm _).2.2, (tm _).1, (tm _).1, x3, y3, y4, z3, z4, y0, z0, e25, e26, e27, e28, e29, e30, cs, rdI_wrI, if_pos ⟨rfl, rfl⟩]
  generalize l1 / 2 = k at p1 p2 p3
  exact ⟨⟨rfl, p1, p2⟩, ⟨rfl, xb0, xb1, by grind⟩, ⟨rfl, rfl, ⟨_, rfl, yi⟩, yb0, yb1, yl0, Int32.not_lt.mp q3, ybl⟩, ⟨rfl, rfl, ⟨_, rfl, zi⟩, zb0, zb1, zl0, Int32.not_lt.mp q4, zbl⟩⟩
/-- heights in another heap of the model -/
theorem rd_two {c0 m0 m1 a : hH} {g : Int32} (hb : BY c0 m0) (fg : FG c0 m0) (hb1 : BY c0 m1) (fg1 : FG c0 m1) (g0 : 0 ≤ g) (g1 : g < rdI c0 4 8) (e : f_Mo_isGlyph g m0 = some (1, a)) : ∃ b, f_Mo_isGlyph g m1 = some (1, b) ∧ rdI b 192 30 = rdI a 192 30 ∧ ∀ j, j < (rdI a 192 30).toNatClampNeg → rdI b 204 j = rdI a 204 j ∧ 0 ≤ rdI a 204 j ∧ rdI a 204 j < rdI c0 4 8 := by
  have hz : isGl 11 := Or.inl rfl
  obtain ⟨la, lb, l⟩ := fg.2.2 g g0 g1
  obtain ⟨la', lb', l'⟩ := fg1.2.2 g g0 g1
  have ea : la' = la := Option.some.inj (l'.1.symm.trans l.1)
  have eb : lb' = lb := Option.some.inj (l'.2.1.symm.trans l.2.1)
  rw [ea, eb] at l'
  obtain ⟨y, ey⟩ := rd_ex hz hb fg l
  obtain ⟨u, e0, _, _, q0⟩ := rd_at hz hb fg l ey
  obtain ⟨v, e1, _, _, q1⟩ := rd_at hz hb1 fg1 l' ey
  rw [e] at e0
  have e2 := Option.some.inj e0
  have y1 : y.1 = 1 := (congrArg Prod.fst e2).symm
  have ua : u = a := (congrArg Prod.snd e2).symm
  subst ua
  rcases q0 with q | ⟨_, q0, _⟩
  · rw [y1] at q; exact absurd q (by decide)
  rcases q1 with q | ⟨_, q1, _⟩
  · rw [y1] at q; exact absurd q (by decide)
  obtain ⟨p0, r0⟩ := GL_parts q0
  obtain ⟨p1, r1⟩ := GL_parts q1
  rw [y1] at e1
  refine ⟨v, e1, p1.trans p0.symm, fun j hj => ?_⟩
  rw [p0] at hj
  obtain ⟨s1, s2⟩ := r0 j hj
  obtain ⟨t1, _⟩ := r1 j hj
  rw [s1, t1]
  exact ⟨rfl, s2⟩
theorem GH_two {c0 m0 m1 : hH} (hb : BY c0 m0) (fg : FG c0 m0) (hb1 : BY c0 m1) (fg1 : FG c0 m1) : ∀ (n : Nat) (g : Int32), 0 ≤ g → g < rdI c0 4 8 → GH m0 n g → GH m1 n g := by
  intro n
  induction n with
  | zero =>
    intro g g0 g1 h
    obtain ⟨a, e, q⟩ := h
    obtain ⟨b, e', p, _⟩ := rd_two hb fg hb1 fg1 g0 g1 e
    exact ⟨b, e', by rw [p]; exact q⟩
  | succ n ih =>
    intro g g0 g1 h
    obtain ⟨a, e, q⟩ := h
    obtain ⟨b, e', p, r⟩ := rd_two hb fg hb1 fg1 g0 g1 e
    refine ⟨b, e', fun j hj => ?_⟩
    rw [p] at hj
    obtain ⟨r1, r2, r3⟩ := r j hj
    rw [r1]
    exact ih _ r2 r3 (q j hj)
