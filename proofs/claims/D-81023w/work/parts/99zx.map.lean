/-! LAYER 3CF: the map as a whole -/
theorem FC4_tr {ks ls js : List Nat} {c g k : hH} (f : FC4 ks c g) (f' : FC4 ls g k) (h1 : ∀ x ∈ ks, x ∈ js) (h2 : ∀ x ∈ ls, x ∈ js) : FC4 js c k := ⟨fun o n w => (f'.1 o n (fun u => w ⟨u.1, h2 n u.2⟩)).trans (f.1 o n (fun u => w ⟨u.1, h1 n u.2⟩)), fun o n => (f'.2.1 o n).trans (f.2.1 o n), fun o n => (f'.2.2 o n).trans (f.2.2 o n)⟩
theorem FM4_tr {ks ls js : List Nat} {c g k : hH} (f : FM4 ks c g) (f' : FM4 ls g k) (h1 : ∀ x ∈ ks, x ∈ js) (h2 : ∀ x ∈ ls, x ∈ js) : FM4 js c k := ⟨fun o n w => (f'.1 o n (fun u => w ⟨u.1, h2 n u.2⟩)).trans (f.1 o n (fun u => w ⟨u.1, h1 n u.2⟩)), fun o n => (f'.2.1 o n).trans (f.2.1 o n), fun o n => (f'.2.2 o n).trans (f.2.2 o n)⟩
noncomputable def recK (a1 a4 : Int32) (h : hH) (K : Int32 × hH → Option (Int32 × hH)) : Option (Int32 × hH) :=
  bP (f_Fo_recordOf a1 a4 (3 : Int32) (10 : Int32) h) fun a6 =>
  lz (wrI h 4 21 (12 : Int32)) fun h1 =>
  bP (A := (Int32 × hH)) (
    if a6 = (-1 : Int32) then (
      bP (f_Fo_recordOf a1 a4 (3 : Int32) (1 : Int32) h1) fun a8 =>
      lz (wrI h1 4 21 (4 : Int32)) fun h2 =>
      some (a8, h2)
    ) else (
      some (a6, h1)
    )
  ) fun p7 =>
  bP (A := (Int32 × hH)) (
    if p7.1 = (-1 : Int32) then (
      bP (f_Fo_recordOf a1 a4 (1 : Int32) (0 : Int32) p7.2) fun a11 =>
      lz (wrI p7.2 4 21 (0 : Int32)) fun h3 =>
      some (a11, h3)
    ) else (
      some (p7.1, p7.2)
    )
  ) K
noncomputable def mapK (a1 a2 : Int32) (p10 : Int32 × hH) : Option (Int32 × hH) :=
  if p10.1 = (-1 : Int32) then (
    some ((0 : Int32), p10.2)
  ) else (
    bP (f_By_u4 5 (p10.1 + (4 : Int32)) p10.2) fun a13 =>
    if a13 ≤ (Int32.toInt64 (a2 - (2 : Int32))) then (
      lz (wrI p10.2 4 20 (a1 + (Int64.toInt32 a13))) fun h4 =>
      lz (A := Int32) (a2 - (Int64.toInt32 a13)) fun v14 =>
      bP (f_By_u2 5 (rdI h4 4 20) h4) fun a15 =>
      if a15 = (rdI h4 4 21) then (
        if (rdI h4 4 21) = 0 then (
          bS (f_Fo_isPlainMap v14 h4) fun a21 h7 =>
          if a21 = 0 then (
            some ((0 : Int32), h7)
          ) else (
            some ((1 : Int32), h7)
          )
        ) else (
          if (rdI h4 4 21) = (4 : Int32) then (
            bS (f_Fo_isSegments v14 h4) fun a18 h6 =>
            if a18 = 0 then (
              some ((0 : Int32), h6)
            ) else (
              some ((1 : Int32), h6)
            )
          ) else (
            bS (f_Fo_isGroups v14 h4) fun a16 h5 =>
            if a16 = 0 then (
              some ((0 : Int32), h5)
            ) else (
              some ((1 : Int32), h5)
            )
          )
        )
      ) else (
        some ((0 : Int32), h4)
      )
    ) else (
      some ((0 : Int32), p10.2)
    )
  )
theorem isMap_eq0 {h : hH} : f_Fo_isMap h = bP (f_Fo_beginOf (1668112752 : Int64) h) fun a1 =>
  bP (f_Fo_lengthOf (1668112752 : Int64) h) fun a2 =>
  if a2 < (4 : Int32) then (
    some ((0 : Int32), h)
  ) else (
    bP (f_By_u2 5 a1 h) fun a3 =>
    if a3 = 0 then (
      bP (f_By_u2 5 (a1 + (2 : Int32)) h) fun a4 =>
      bP (f_HH_within (Int32.toInt64 a4) (1 : Int64) (8 : Int64)) fun a5 =>
      if a5 = 0 then (
        some ((0 : Int32), h)
      ) else (
        if ((4 : Int32) + ((8 : Int32) * a4)) ≤ a2 then recK a1 a4 h (mapK a1 a2) else (
          some ((0 : Int32), h)
        )
      )
    ) else (
      some ((0 : Int32), h)
    )
  ) := rfl
noncomputable def mmK (a1 a2 : Int32) (h : hH) (p9 : Int32 × Int64) : Option (Int32 × hH) :=
  if p9.1 = (9 : Int32) then (
    some ((0 : Int32), h)
  ) else (
    if (p9.2 + (6 : Int64)) ≤ (Int32.toInt64 a2) then (
      lz (wrI h 192 21 (a1 + (Int64.toInt32 p9.2))) fun h1 =>
      lz (A := Int32) (if p9.1 = 0 then (12 : Int32) else (if p9.1 = (1 : Int32) then (4 : Int32) else (0 : Int32))) fun p31 =>
      lz (wrI h1 192 22 p31) fun h2 =>
      lz (A := Int32) (a2 - (Int64.toInt32 p9.2)) fun v34 =>
      bP (f_Mo_u2 (rdI h2 192 21) h2) fun a35 =>
      if a35 = (rdI h2 192 22) then (
        if (rdI h2 192 22) = 0 then (
          bP (f_Mo_u2 ((rdI h2 192 21) + (2 : Int32)) h2) fun a41 =>
          if a41 = (262 : Int32) then (
            if v34 < (262 : Int32) then (
              some ((0 : Int32), h2)
            ) else (
              bS (f_Mo_setMany (256 : Int32) h2) fun a42 h5 =>
              if a42 = 0 then (
                some ((0 : Int32), h5)
              ) else (
                some ((1 : Int32), h5)
              )
            )
          ) else (
            some ((0 : Int32), h2)
          )
        ) else (
          if (rdI h2 192 22) = (4 : Int32) then (
            bS (f_Mo_segments v34 h2) fun a38 h4 =>
            gd ((a38 = 0 ∨ a38 = 1)) <|
            some (a38, h4)
          ) else (
            bS (f_Mo_groups v34 h2) fun a36 h3 =>
            gd ((a36 = 0 ∨ a36 = 1)) <|
            some (a36, h3)
          )
        )
      ) else (
        some ((0 : Int32), h2)
      )
    ) else (
      some ((0 : Int32), h)
    )
  )
theorem map_eq0 {h : hH} : f_Mo_map h = bP (f_Mo_beginOf (1668112752 : Int32) h) fun a1 =>
  bP (f_Mo_lengthOf (1668112752 : Int32) h) fun a2 =>
  bP (A := Int32) (
    if a2 < (4 : Int32) then (
      some (0 : Int32)
    ) else (
      bP (f_Mo_u2 (a1 + (2 : Int32)) h) fun a4 =>
      some a4
    )
  ) fun p3 =>
  if a2 < (4 : Int32) then (
    some ((0 : Int32), h)
  ) else (
    bP (f_Mo_u2 a1 h) fun a6 =>
    if a6 = 0 then (
      bP (f_Mo_in (Int32.toInt64 p3) (1 : Int64) (8 : Int64)) fun a7 =>
      if a7 = 0 then (
        some ((0 : Int32), h)
      ) else (
        if ((4 : Int32) + ((8 : Int32) * p3)) ≤ a2 then (
          bP (A := (Int32 × Int64)) (wh (mrL a1 p3 h) ((9 : Int32), (0 : Int64), (0 : Int32))) (mmK a1 a2 h)
        ) else (
          some ((0 : Int32), h)
        )
      )
    ) else (
      some ((0 : Int32), h)
    )
  ) := rfl
/-- the format that goes with a rank -/
def fmR (r : Int32) : Int32 := if r = 0 then 12 else (if r = 1 then 4 else 0)
theorem fmR_c (r : Int32) : fmR r = 0 ∨ fmR r = 4 ∨ fmR r = 12 := by
  unfold fmR
  split
  · exact Or.inr (Or.inr rfl)
  · split
    · exact Or.inr (Or.inl rfl)
    · exact Or.inl rfl
/-- a record found of the least rank is the chosen one -/
theorem RC_f {B : Nat → Int32} {b n p r : Int32} {x : Int32 × Int64} (rc : RC B b n x) (p0 : 0 ≤ p) (p1 : p < n) (e : rk B b p = r) (f : ∀ q, 0 ≤ q → q < p → rk B b q ≠ r) (hr : r < 9) (lo : ∀ q, 0 ≤ q → q < n → rk B b q < r → False) : x.1 = r ∧ x.2 = u4B B (b + 4 + 8 * p + 4).toNatClampNeg := by
  rcases rc with ⟨_, h⟩ | ⟨t, t0, t1, t2, t3, t4, t5, t6⟩
  · have := h p p0 p1
    rw [e] at this
    rw [this] at hr
    exact absurd hr (by decide)
  · have h1 := t6 p p0 p1
    rw [e] at h1
    have h2 : ¬ rk B b t < r := fun w => lo t t0 t1 w
    have h3 : rk B b t = r := by grind
    have h4 : ¬ t < p := fun w => f t t0 w h3
    have h5 : ¬ p < t := fun w => by
      have := t5 p p0 w
      rw [e, h3] at this
      exact Int32.lt_irrefl this
    have h6 : t = p := by grind
    rw [h6] at t4
    exact ⟨t2.trans h3, t4⟩
theorem L_rec {B : Nat → Int32} {s b l n : Int32} {c : hH} {x : Int32 × Int64} {K : Int32 × hH → Option (Int32 × hH)} (cb : CB B s c) (s0 : 0 ≤ s) (s1 : s ≤ 12000) (b0 : 0 ≤ b) (b1 : b ≤ 12000) (l1 : l ≤ 12000) (bl : b + l ≤ s) (n0 : 1 ≤ n) (n1 : n ≤ 8) (hl : 4 + 8 * n ≤ l) (rc : RC B b n x) : ∃ r c', recK b n c K = K (r, c') ∧ FC4 [21] c c' ∧ ((r = -1 ∧ x.1 = 9) ∨ (x.1 ≠ 9 ∧ r ≠ -1 ∧ rdI c' 4 21 = fmR x.1 ∧ x.2 = u4B B (r + 4).toNatClampNeg ∧ 0 ≤ r + 4 ∧ r + 4 ≤ s - 4)) := by
  have f1 : FC4 [21] c (wrI c 4 21 12) := FC4_w FC4_rfl (by decide)
  have f2 : FC4 [21] c (wrI (wrI c 4 21 12) 4 21 4) := FC4_w f1 (by decide)
  have f3 : FC4 [21] c (wrI (wrI (wrI c 4 21 12) 4 21 4) 4 21 0) := FC4_w f2 (by decide)
  have R0 := rec_eq cb s0 s1 b0 b1 l1 bl n0 n1 hl (fun _ _ => rkV_0)
  have R1 := rec_eq (CB_4 f1 cb) s0 s1 b0 b1 l1 bl n0 n1 hl (fun _ _ => rkV_1)
  have R2 := rec_eq (CB_4 f2 cb) s0 s1 b0 b1 l1 bl n0 n1 hl (fun _ _ => rkV_2)
  have rc4 : ∀ q, rk B b q = 0 ∨ rk B b q = 1 ∨ rk B b q = 2 ∨ rk B b q = 9 := fun q => rkV_c _ _
  unfold recK
  rcases R0 with ⟨p, p0, p1, p2, p3, p4⟩ | ⟨p2, p4⟩
  · obtain ⟨_, _, ⟨a1, a2⟩, a3⟩ := ar_r b0 b1 l1 bl s1 n0 n1 hl p0 p1
    obtain ⟨x1, x2⟩ := RC_f rc p0 p1 p3 p4 (by decide) (fun q _ _ w => by rcases rc4 q with h | h | h | h <;> rw [h] at w <;> exact absurd w (by decide))
    rw [p2]
    simp only [bP_some, lz_eq, if_neg a3]
    refine ⟨_, _, rfl, f1, Or.inr ⟨by rw [x1]; decide, a3, ?_, x2, a1, a2⟩⟩
    rw [x1, rdI_wrI, if_pos ⟨rfl, rfl⟩]
    rfl
  rw [p2]
  simp only [bP_some, lz_eq, if_true]
  rcases R1 with ⟨p, p0, p1, q2, q3, q4⟩ | ⟨q2, q4⟩
  · obtain ⟨_, _, ⟨a1, a2⟩, a3⟩ := ar_r b0 b1 l1 bl s1 n0 n1 hl p0 p1
    obtain ⟨x1, x2⟩ := RC_f rc p0 p1 q3 q4 (by decide) (fun q u v w => by
      rcases rc4 q with h | h | h | h
      · exact p4 q u v h
      all_goals (rw [h] at w; exact absurd w (by decide)))
    rw [q2]
    simp only [bP_some, lz_eq, if_neg a3]
    refine ⟨_, _, rfl, f2, Or.inr ⟨by rw [x1]; decide, a3, ?_, x2, a1, a2⟩⟩
    rw [x1, rdI_wrI, if_pos ⟨rfl, rfl⟩]
    rfl
  rw [q2]
  simp only [bP_some, lz_eq, if_true]
  rcases R2 with ⟨p, p0, p1, r2, r3, r4⟩ | ⟨r2, r4⟩
  · obtain ⟨_, _, ⟨a1, a2⟩, a3⟩ := ar_r b0 b1 l1 bl s1 n0 n1 hl p0 p1
    obtain ⟨x1, x2⟩ := RC_f rc p0 p1 r3 r4 (by decide) (fun q u v w => by
      rcases rc4 q with h | h | h | h
      · exact p4 q u v h
      · exact q4 q u v h
      all_goals (rw [h] at w; exact absurd w (by decide)))
    rw [r2]
    simp only [bP_some]
    refine ⟨_, _, rfl, f3, Or.inr ⟨by rw [x1]; decide, a3, ?_, x2, a1, a2⟩⟩
    rw [x1, rdI_wrI, if_pos ⟨rfl, rfl⟩]
    rfl
  rw [r2]
  simp only [bP_some]
  refine ⟨_, _, rfl, f3, Or.inl ⟨rfl, ?_⟩⟩
  rcases rc with ⟨h, _⟩ | ⟨t, t0, t1, t2, t3, _⟩
  · exact h
  · rcases rc4 t with h | h | h | h
    · exact absurd h (p4 t t0 t1)
    · exact absurd h (q4 t t0 t1)
    · exact absurd h (r4 t t0 t1)
    · rw [t2, h]
/-- the map, as it is kept -/
def MP (B : Nat → Int32) (s : Int32) (c m : hH) : Prop := ∃ mb, (rdI c 4 20 = mb ∧ rdI m 192 21 = mb) ∧ (0 ≤ mb ∧ mb ≤ 12000) ∧ rdI m 192 22 = rdI c 4 21 ∧ rdI m 192 23 = rdI c 4 22 ∧ ((rdI c 4 21 = 0 ∧ rdI c 4 22 = 256 ∧ mb + 262 ≤ s) ∨ (rdI c 4 21 = 4 ∧ MR4 B s mb (rdI c 4 22)) ∨ (rdI c 4 21 = 12 ∧ MR12 s mb (rdI c 4 22)))
theorem off_e {o : Int64} {b l s : Int32} (o0 : 0 ≤ o.toInt) (b0 : 0 ≤ b) (b1 : b ≤ 12000) (l0 : 4 ≤ l) (l1 : l ≤ 12000) (bl : b + l ≤ s) (s1 : s ≤ 12000) (o1 : o ≤ (l - 2).toInt64) : (0 ≤ b + o.toInt32 ∧ b + o.toInt32 ≤ 12000) ∧ b + o.toInt32 ≤ s - 2 ∧ (2 ≤ l - o.toInt32 ∧ l - o.toInt32 ≤ 12000) ∧ (b + o.toInt32) + (l - o.toInt32) ≤ s ∧ (¬ (o + 6 ≤ l.toInt64) → l - o.toInt32 < 6) ∧ (o + 6 ≤ l.toInt64 → 6 ≤ l - o.toInt32) := by
  have z2 : (2 : Int32).toInt = 2 := rfl
  have z4 : (4 : Int32).toInt = 4 := rfl
  have z12 : (12000 : Int32).toInt = 12000 := rfl
  have z6 : (6 : Int64).toInt = 6 := rfl
  have l0' := Int32.le_iff_toInt_le.mp l0
  have l1' := Int32.le_iff_toInt_le.mp l1
  rw [z4] at l0'
  rw [z12] at l1'
  have h := Int64.le_iff_toInt_le.mp o1
  have e2 : (l - 2).toInt = l.toInt - 2 := by
    rw [i32_sub (by rw [z2]; omega) (by rw [z2]; omega), z2]
  rw [Int32.toInt_toInt64, e2] at h
  have e := i64_32 (x := o) o0 (by omega)
  have e6 : (o + 6).toInt = o.toInt + 6 := by
    rw [i64_add (by rw [z6]; omega) (by rw [z6]; omega), z6]
  have iff6 : o + 6 ≤ l.toInt64 ↔ o.toInt + 6 ≤ l.toInt := by
    rw [Int64.le_iff_toInt_le, e6, Int32.toInt_toInt64]
  have k0 : (0 : Int32) ≤ o.toInt32 := Int32.le_iff_toInt_le.mpr (by rw [e]; exact o0)
  have k1 : o.toInt32 ≤ l - 2 := Int32.le_iff_toInt_le.mpr (by rw [e, e2]; exact h)
  have k6 : o.toInt + 6 ≤ l.toInt ↔ 6 ≤ l - o.toInt32 := by
    rw [Int32.le_iff_toInt_le, i32_sub (by rw [e]; omega) (by rw [e]; omega), e]
    have z : (6 : Int32).toInt = 6 := rfl
    rw [z]
    omega
  generalize o.toInt32 = k at k0 k1 k6
  refine ⟨⟨by grind, by grind⟩, by grind, ⟨by grind, by grind⟩, by grind, fun w => ?_, fun w => k6.mp (iff6.mp w)⟩
  exact Int32.not_le.mp (fun u => w (iff6.mpr (k6.mpr u)))
theorem off_n {o : Int64} {l : Int32} (o0 : 0 ≤ o.toInt) (o3 : o.toInt < 4294967296) (l0 : 4 ≤ l) (l1 : l ≤ 12000) (o1 : ¬ (o ≤ (l - 2).toInt64)) : ¬ (o + 6 ≤ l.toInt64) := by
  intro w
  apply o1
  have z2 : (2 : Int32).toInt = 2 := rfl
  have z4 : (4 : Int32).toInt = 4 := rfl
  have z12 : (12000 : Int32).toInt = 12000 := rfl
  have z6 : (6 : Int64).toInt = 6 := rfl
  have l0' := Int32.le_iff_toInt_le.mp l0
  have l1' := Int32.le_iff_toInt_le.mp l1
  rw [z4] at l0'
  rw [z12] at l1'
  have e2 : (l - 2).toInt = l.toInt - 2 := by
    rw [i32_sub (by rw [z2]; omega) (by rw [z2]; omega), z2]
  have e6 : (o + 6).toInt = o.toInt + 6 := by
    rw [i64_add (by rw [z6]; omega) (by rw [z6]; omega), z6]
  have h := Int64.le_iff_toInt_le.mp w
  rw [e6, Int32.toInt_toInt64] at h
  rw [Int64.le_iff_toInt_le, Int32.toInt_toInt64, e2]
  omega
theorem L_map {B : Nat → Int32} {s b l i : Int32} {c m : hH} (cb : CB B s c) (mB : MB B s m) (s0 : 0 ≤ s) (s1 : s ≤ 12000) (tb : TB s c m 1668112752 b l i) : ∃ a c' m', f_Fo_isMap c = some (a, c') ∧ f_Mo_map m = some (a, m') ∧ FC4 [20, 21, 22] c c' ∧ FM4 [21, 22, 23] m m' ∧ (a = 0 ∨ (a = 1 ∧ MP B s c' m')) := by
  obtain ⟨_, ⟨t1, t2, t3, t4⟩, ⟨b0, b1⟩, ⟨l0, l1⟩, bl, _, _⟩ := tb
  have n10 : ¬ (1 : Int32) = 0 := by decide
  have t1' : f_Fo_beginOf 1668112752 c = some b := t1
  have t2' : f_Fo_lengthOf 1668112752 c = some l := t2
  rw [isMap_eq0, map_eq0, t1', t2', t3, t4, bP_some, bP_some, bP_some, bP_some]
  by_cases q : l < 4
  · simp only [if_pos q, bP_some]
    exact ⟨_, _, _, rfl, rfl, FC4_rfl, FM4_rfl, Or.inl rfl⟩
  have l4 : 4 ≤ l := Int32.not_lt.mp q
  simp only [if_neg q]
  rw [cU2 (p := b) cb s0 s1 b0 (by grind), mU2 (p := b) mB s0 s1 b0 (by grind), cU2 (p := b + 2) cb s0 s1 (by grind) (by grind), mU2 (p := b + 2) mB s0 s1 (by grind) (by grind)]
  simp only [bP_some, f_HH_within_eq, f_Mo_in_eq]
  have nr := u2B_r B (b + 2).toNatClampNeg
  generalize u2B B (b + 2).toNatClampNeg = n at nr
  by_cases q1n : ¬ (u2B B b.toNatClampNeg = 0)
  · rw [if_neg q1n, if_neg q1n]
    exact ⟨_, _, _, rfl, rfl, FC4_rfl, FM4_rfl, Or.inl rfl⟩
  have q1 : u2B B b.toNatClampNeg = 0 := Decidable.not_not.mp q1n
  rw [if_pos q1, if_pos q1]
  by_cases q2n : ¬ ((1 : Int64) ≤ n.toInt64 ∧ n.toInt64 ≤ 8)
  · rw [if_neg q2n, if_pos rfl, if_pos rfl]
    exact ⟨_, _, _, rfl, rfl, FC4_rfl, FM4_rfl, Or.inl rfl⟩
  have q2 : (1 : Int64) ≤ n.toInt64 ∧ n.toInt64 ≤ 8 := Decidable.not_not.mp q2n
  rw [if_pos q2, if_neg n10, if_neg n10]
  have n1 : 1 ≤ n := by
    have := Int64.le_iff_toInt_le.mp q2.1
    rw [Int32.toInt_toInt64] at this
    exact Int32.le_iff_toInt_le.mpr this
  have n8 : n ≤ 8 := by
    have := Int64.le_iff_toInt_le.mp q2.2
    rw [Int32.toInt_toInt64] at this
    exact Int32.le_iff_toInt_le.mpr this
  by_cases q3n : ¬ (4 + 8 * n ≤ l)
  · rw [if_neg q3n, if_neg q3n]
    exact ⟨_, _, _, rfl, rfl, FC4_rfl, FM4_rfl, Or.inl rfl⟩
  have q3 : 4 + 8 * n ≤ l := Decidable.not_not.mp q3n
  rw [if_pos q3, if_pos q3]
  obtain ⟨x, ex, rc⟩ := mr_eq mB s0 s1 b0 b1 l1 bl n1 n8 q3
  obtain ⟨r, c1, er, fc1, hr⟩ := L_rec (K := mapK b l) cb s0 s1 b0 b1 l1 bl n1 n8 q3 rc
  rw [ex, er, bP_some]
  unfold mapK mmK
  dsimp only
  rcases hr with ⟨r1, x9⟩ | ⟨x9, r1, e21, ex2, ra, rb⟩
  · rw [if_pos r1, if_pos x9]
    exact ⟨_, _, _, rfl, rfl, FC4_tr fc1 FC4_rfl (ls := []) (by decide) (by decide), FM4_rfl, Or.inl rfl⟩
  have cb1 := CB_4 fc1 cb
  have hr4 := u4B_r B (r + 4).toNatClampNeg
  rw [if_neg r1, if_neg x9, cU4 (p := r + 4) cb1 s0 s1 ra rb, bP_some, ex2]
  generalize u4B B (r + 4).toNatClampNeg = o at hr4
  obtain ⟨o0, o3⟩ := hr4
  by_cases q4n : ¬ (o ≤ (l - 2).toInt64)
  · rw [if_neg q4n, if_neg (off_n o0 o3 l4 l1 q4n)]
    exact ⟨_, _, _, rfl, rfl, FC4_tr fc1 FC4_rfl (ls := []) (by decide) (by decide), FM4_rfl, Or.inl rfl⟩
  have q4 : o ≤ (l - 2).toInt64 := Decidable.not_not.mp q4n
  obtain ⟨⟨m0, m1⟩, m2, ⟨v2, v1⟩, mv, no6, yes6⟩ := off_e o0 b0 b1 l4 l1 bl s1 q4
  rw [if_pos q4]
  simp only [lz_eq]
  generalize b + o.toInt32 = mb at m0 m1 m2 mv
  generalize l - o.toInt32 = v at v2 v1 mv no6 yes6
  have fc2 : FC4 [20, 21, 22] c (wrI c1 4 20 mb) := FC4_tr fc1 (FC4_w (ks := [20]) FC4_rfl (by decide)) (by decide) (by decide)
  have c20 : rdI (wrI c1 4 20 mb) 4 20 = mb := by rw [rdI_wrI, if_pos ⟨rfl, rfl⟩]
  have c21 : rdI (wrI c1 4 20 mb) 4 21 = fmR x.1 := by simp only [rdI_wrI, rdP_wrI, rdL_wrI, Nat.reduceEqDiff, false_and, and_false, true_and, and_true, eq_self, reduceIte, ite_self]; exact e21
  generalize wrI c1 4 20 mb = C at fc2 c20 c21
  have cb2 := CB_4 fc2 cb
  have f3 := fmR_c x.1
  rw [c20, c21, cU2 (p := mb) cb2 s0 s1 m0 m2, bP_some]
  have fcx : ∀ {g : hH}, FC4 [22] C g → FC4 [20, 21, 22] c g := fun f => FC4_tr fc2 f (by decide) (by decide)
  by_cases q5n : ¬ (o + 6 ≤ l.toInt64)
  · have v6 := no6 q5n
    rw [if_neg q5n]
    by_cases q6 : u2B B mb.toNatClampNeg = fmR x.1
    · rw [if_pos q6]
      rcases f3 with h | h | h
      · rw [h, if_pos rfl]
        unfold f_Fo_isPlainMap
        rw [lz_eq, if_pos (by grind)]
        exact ⟨_, _, _, rfl, rfl, fcx (FC4_w FC4_rfl (by decide)), FM4_rfl, Or.inl rfl⟩
      · rw [h, if_neg (by decide), if_pos rfl, isSegments_eq0, if_neg (by grind)]
        exact ⟨_, _, _, rfl, rfl, fc2, FM4_rfl, Or.inl rfl⟩
      · rw [h, if_neg (by decide), if_neg (by decide), isGroups_eq0, if_pos (by grind)]
        exact ⟨_, _, _, rfl, rfl, fc2, FM4_rfl, Or.inl rfl⟩
    · rw [if_neg q6]
      exact ⟨_, _, _, rfl, rfl, fc2, FM4_rfl, Or.inl rfl⟩
  have q5 : o + 6 ≤ l.toInt64 := Decidable.not_not.mp q5n
  have v6 := yes6 q5
  rw [if_pos q5]
  have ef : (if x.1 = 0 then (12 : Int32) else (if x.1 = (1 : Int32) then (4 : Int32) else (0 : Int32))) = fmR x.1 := rfl
  rw [ef]
  have fm2 : FM4 [21, 22, 23] m (wrI (wrI m 192 21 mb) 192 22 (fmR x.1)) := FM4_w (FM4_w FM4_rfl (by decide)) (by decide)
  have m21 : rdI (wrI (wrI m 192 21 mb) 192 22 (fmR x.1)) 192 21 = mb := by simp only [rdI_wrI, rdP_wrI, rdL_wrI, Nat.reduceEqDiff, false_and, and_false, true_and, and_true, eq_self, reduceIte, ite_self]
  have m22 : rdI (wrI (wrI m 192 21 mb) 192 22 (fmR x.1)) 192 22 = fmR x.1 := by rw [rdI_wrI, if_pos ⟨rfl, rfl⟩]
  generalize wrI (wrI m 192 21 mb) 192 22 (fmR x.1) = M at fm2 m21 m22
  have mB2 := MB_4 fm2 (by decide) mB
  rw [m21, m22, mU2 (p := mb) mB2 s0 s1 m0 m2, bP_some]
  have fmx : ∀ {g : hH}, FM4 [23] M g → FM4 [21, 22, 23] m g := fun f => FM4_tr fm2 f (by decide) (by decide)
  by_cases q6n : ¬ (u2B B mb.toNatClampNeg = fmR x.1)
  · rw [if_neg q6n, if_neg q6n]
    exact ⟨_, _, _, rfl, rfl, fc2, fm2, Or.inl rfl⟩
  have q6 : u2B B mb.toNatClampNeg = fmR x.1 := Decidable.not_not.mp q6n
  rw [if_pos q6, if_pos q6]
  rcases f3 with h | h | h
  · rw [h] at c21 m22
    rw [h, if_pos rfl, if_pos rfl, mU2 (p := mb + 2) mB2 s0 s1 (by grind) (by grind), bP_some]
    unfold f_Fo_isPlainMap f_Mo_setMany
    have g1 : FC4 [22] C (wrI C 4 22 256) := FC4_w FC4_rfl (by decide)
    have k1 : FM4 [23] M (wrI M 192 23 256) := FM4_w FM4_rfl (by decide)
    have d20 : rdI (wrI C 4 22 256) 4 20 = mb := by simp only [rdI_wrI, rdP_wrI, rdL_wrI, Nat.reduceEqDiff, false_and, and_false, true_and, and_true, eq_self, reduceIte, ite_self]; exact c20
    rw [lz_eq, d20]
    by_cases q7 : v < 262
    · rw [if_pos q7, if_pos q7]
      refine ⟨_, _, _, rfl, ?_, fcx g1, fm2, Or.inl rfl⟩
      split <;> rfl
    rw [if_neg q7, if_neg q7, cU2 (p := mb + 2) (CB_4 (fcx g1) cb) s0 s1 (by grind) (by grind), bP_some]
    by_cases q8n : ¬ (u2B B (mb + 2).toNatClampNeg = 262)
    · rw [if_neg q8n, if_neg q8n]
      exact ⟨_, _, _, rfl, rfl, fcx g1, fm2, Or.inl rfl⟩
    have q8 : u2B B (mb + 2).toNatClampNeg = 262 := Decidable.not_not.mp q8n
    rw [if_pos q8, if_pos q8]
    refine ⟨1, _, _, rfl, rfl, fcx g1, fmx k1, Or.inr ⟨rfl, mb, ⟨d20, by simp only [rdI_wrI, rdP_wrI, rdL_wrI, Nat.reduceEqDiff, false_and, and_false, true_and, and_true, eq_self, reduceIte, ite_self]; exact m21⟩, ⟨m0, m1⟩, ?_, ?_, Or.inl ⟨?_, ?_, by grind⟩⟩⟩
    · have a1 : rdI (wrI M 192 23 256) 192 22 = 0 := by simp only [rdI_wrI, rdP_wrI, rdL_wrI, Nat.reduceEqDiff, false_and, and_false, true_and, and_true, eq_self, reduceIte, ite_self]; exact m22
      have a2 : rdI (wrI C 4 22 256) 4 21 = 0 := by simp only [rdI_wrI, rdP_wrI, rdL_wrI, Nat.reduceEqDiff, false_and, and_false, true_and, and_true, eq_self, reduceIte, ite_self]; exact c21
      rw [a1, a2]
    · rw [rdI_wrI, if_pos ⟨rfl, rfl⟩, rdI_wrI, if_pos ⟨rfl, rfl⟩]
    · simp only [rdI_wrI, rdP_wrI, rdL_wrI, Nat.reduceEqDiff, false_and, and_false, true_and, and_true, eq_self, reduceIte, ite_self]; exact c21
    · rw [rdI_wrI, if_pos ⟨rfl, rfl⟩]
  · rw [h] at c21 m22
    rw [h, if_neg (by decide), if_pos rfl, if_neg (by decide), if_pos rfl]
    obtain ⟨a, c', m', e1, e2, f1, f2, hh⟩ := L_segs cb2 mB2 s0 s1 c20 m21 m0 m1 v6 v1 mv
    rw [e1, e2]
    rcases hh with a0 | ⟨a1, k1, k2⟩
    · subst a0
      exact ⟨0, _, _, rfl, by show gd _ _ = _; rw [gd_pos (Or.inl rfl)], fcx f1, fmx f2, Or.inl rfl⟩
    · subst a1
      refine ⟨1, _, _, rfl, by show gd _ _ = _; rw [gd_pos (Or.inr rfl)], fcx f1, fmx f2, Or.inr ⟨rfl, mb, ⟨(f1.1 4 20 (by decide)).trans c20, (f2.1 192 21 (by decide)).trans m21⟩, ⟨m0, m1⟩, ?_, k1, Or.inr (Or.inl ⟨(f1.1 4 21 (by decide)).trans c21, k2⟩)⟩⟩
      rw [f2.1 192 22 (by decide), f1.1 4 21 (by decide), m22, c21]
  · rw [h] at c21 m22
    rw [h, if_neg (by decide), if_neg (by decide), if_neg (by decide), if_neg (by decide)]
    obtain ⟨a, c', m', e1, e2, f1, f2, hh⟩ := L_groups cb2 mB2 s0 s1 c20 m21 m0 m1 (by grind) v1 mv
    rw [e1, e2]
    rcases hh with a0 | ⟨a1, k1, k2⟩
    · subst a0
      exact ⟨0, _, _, rfl, by show gd _ _ = _; rw [gd_pos (Or.inl rfl)], fcx f1, fmx f2, Or.inl rfl⟩
    · subst a1
      refine ⟨1, _, _, rfl, by show gd _ _ = _; rw [gd_pos (Or.inr rfl)], fcx f1, fmx f2, Or.inr ⟨rfl, mb, ⟨(f1.1 4 20 (by decide)).trans c20, (f2.1 192 21 (by decide)).trans m21⟩, ⟨m0, m1⟩, ?_, k1, Or.inr (Or.inr ⟨(f1.1 4 21 (by decide)).trans c21, k2⟩)⟩⟩
      rw [f2.1 192 22 (by decide), f1.1 4 21 (by decide), m22, c21]
