/-! LAYER 3CV: acrossCurve -/
def FrV (h g : hH) : Prop := (∀ o k, ¬ (o = 182 ∧ k = 13) → rdI g o k = rdI h o k) ∧ (∀ o k, o ≠ 182 → rdL g o k = rdL h o k) ∧ (∀ o k, rdP g o k = rdP h o k)
/-- what the component finds of a curve -/
def CCs (A B C U V W : Int) (on : Prop) (w : Int) : Prop :=
  (A = 0 ∧ B = 0 ∧ (on ↔ (C = 0 ∧ MZ W (V + W) (U + 2 * V + W))) ∧ w = 0) ∨
  ((A ≠ 0 ∨ B ≠ 0) ∧ (
    (0 ≤ B ∧ 0 ≤ A + B ∧ (on ↔ (C ≤ 0 ∧ 0 ≤ A + 2 * B + C ∧ zuV A B C U V W = 0)) ∧ w = upW C (A + 2 * B + C) (zuV A B C U V W)) ∨
    (B ≤ 0 ∧ A + B ≤ 0 ∧ (on ↔ (0 ≤ C ∧ A + 2 * B + C ≤ 0 ∧ zdV A B C U V W = 0)) ∧ w = dnW C (A + 2 * B + C) (zdV A B C U V W)) ∨
    (0 < A ∧ B < 0 ∧ 0 < A + B ∧ (on ↔ ((0 ≤ C ∧ A * C - B * B ≤ 0 ∧ zdV A B C U V W = 0) ∨ (A * C - B * B ≤ 0 ∧ 0 ≤ A + 2 * B + C ∧ zuV A B C U V W = 0))) ∧ (¬ on → w = dnW C (A * C - B * B) (zdV A B C U V W) + upW (A * C - B * B) (A + 2 * B + C) (zuV A B C U V W))) ∨
    (A < 0 ∧ 0 < B ∧ A + B < 0 ∧ (on ↔ ((C ≤ 0 ∧ A * C - B * B ≤ 0 ∧ zuV A B C U V W = 0) ∨ (A * C - B * B ≤ 0 ∧ A + 2 * B + C ≤ 0 ∧ zdV A B C U V W = 0))) ∧ (¬ on → w = upW C (-(A * C - B * B)) (zuV A B C U V W) + dnW (-(A * C - B * B)) (A + 2 * B + C) (zdV A B C U V W)))))
/-- the rest of acrossCurve, behind the six longs -/
noncomputable def acT (h6 : hH) : Option (Int32 × hH) :=
  if ((rdL h6 182 14) = (0 : Int64) ∧ (rdL h6 182 15) = (0 : Int64)) then (
    bP (A := Int32) (
      if (rdL h6 182 16) = (0 : Int64) then (
        bP (f_In_reaches h6) fun a13 =>
        if a13 = 0 then (
          some (0 : Int32)
        ) else (
          some (1 : Int32)
        )
      ) else (
        some (0 : Int32)
      )
    ) fun p12 =>
    gd ((p12 = 0 ∨ p12 = 1)) <|
    lz (wrI h6 182 13 p12) fun h7 =>
    some ((0 : Int32), h7)
  ) else (
    bP (f_HH_signOf (((rdL h6 182 14) + ((2 : Int64) * (rdL h6 182 15))) + (rdL h6 182 16))) fun a17 =>
    bP (A := Int32) (innF (rdL h6 182 14) (rdL h6 182 15)) fun p18 =>
    if p18 = 0 then (
      bP (f_HH_signOf (rdL h6 182 16)) fun a37 =>
      lz (A := Int32) (if (rdL h6 182 15) = (0 : Int64) then (if (rdL h6 182 14) ≤ (0 : Int64) then (0 : Int32) else (1 : Int32)) else (if (rdL h6 182 15) ≤ (0 : Int64) then (0 : Int32) else (1 : Int32))) fun p38 =>
      bS (f_In_piece a37 a17 p38 (0 : Int32) (1 : Int32) h6) fun a42 h10 =>
      some (a42, h10)
    ) else (
      bP (f_HH_signOf (((rdL h6 182 14) * (rdL h6 182 16)) - ((rdL h6 182 15) * (rdL h6 182 15)))) fun a26 =>
      bP (f_HH_signOf (rdL h6 182 14)) fun a27 =>
      lz (A := Int32) (a26 * a27) fun v28 =>
      bP (f_HH_signOf (rdL h6 182 16)) fun a29 =>
      lz (A := Int32) (if (rdL h6 182 15) ≤ (0 : Int64) then (0 : Int32) else (1 : Int32)) fun p30 =>
      bS (f_In_piece a29 v28 p30 (0 : Int32) (2 : Int32) h6) fun a32 h8 =>
      if (rdI h8 182 13) = 0 then (
        lz (A := Int32) (if (rdL h8 182 14) ≤ (0 : Int64) then (0 : Int32) else (1 : Int32)) fun p33 =>
        bS (f_In_piece v28 a17 p33 (2 : Int32) (1 : Int32) h8) fun a35 h9 =>
        some ((a32 + a35), h9)
      ) else (
        some ((0 : Int32), h8)
      )
    )
  )
theorem LC_w {h : hH} {A B C U V W : Int} {v : Int32} (lc : LC h A B C U V W) : LC (wrI h 182 13 v) A B C U V W := lc
theorem acT_eq {h : hH} {A B C U V W : Int} (lc : LC h A B C U V W) (f0 : rdI h 182 13 = 0) : ∃ (w : Int) (on : Prop) (v : Int32), acT h = some (Int32.ofInt w, wrI h 182 13 v) ∧ ((on ∧ v = 1) ∨ (¬ on ∧ v = 0)) ∧ CCs A B C U V W on w := by
  have n10 : ¬ (1 : Int32) = 0 := by decide
  have lc0 := lc
  obtain ⟨⟨hA, hB, hC⟩, hU, hV, hW⟩ := lc
  have keep : wrI h 182 13 0 = h := wrI_id f0.symm
  have r13 : ∀ v, rdI (wrI h 182 13 v) 182 13 = v := fun v => by rw [rdI_wrI, if_pos ⟨rfl, rfl⟩]
  unfold acT
  by_cases q : A = 0 ∧ B = 0
  · rw [if_pos ⟨(N64_z hA).mpr q.1, (N64_z hB).mpr q.2⟩]
    by_cases q2 : C = 0
    · rw [if_pos ((N64_z hC).mpr q2)]
      rcases reaches_eq lc0 with ⟨m, e⟩ | ⟨m, e⟩
      · rw [e, bP_some, if_neg n10, bP_some, gd_pos (Or.inr rfl), lz_eq]
        exact ⟨0, True, 1, rfl, Or.inl ⟨trivial, rfl⟩, Or.inl ⟨q.1, q.2, ⟨fun _ => ⟨q2, m⟩, fun _ => trivial⟩, rfl⟩⟩
      · rw [e, bP_some, if_pos rfl, bP_some, gd_pos (Or.inl rfl), lz_eq]
        exact ⟨0, False, 0, rfl, Or.inr ⟨id, rfl⟩, Or.inl ⟨q.1, q.2, ⟨fun w => absurd w id, fun w => m w.2⟩, rfl⟩⟩
    · rw [if_neg (fun w => q2 ((N64_z hC).mp w)), bP_some, gd_pos (Or.inl rfl), lz_eq]
      exact ⟨0, False, 0, rfl, Or.inr ⟨id, rfl⟩, Or.inl ⟨q.1, q.2, ⟨fun w => absurd w id, fun w => q2 w.1⟩, rfl⟩⟩
  have nz : A ≠ 0 ∨ B ≠ 0 := by omega
  rw [if_neg (fun w => q ⟨(N64_z hA).mp w.1, (N64_z hB).mp w.2⟩), signOf_eq (N64_add (N64_add hA (N64_mul N64_2 hB (by decide)) (by decide)) hC (by decide)), bP_some]
  rcases innF_eq hA hB with ⟨i, e⟩ | ⟨i, e⟩
  · have nzA : ¬ rdL h 182 14 = 0 := fun w => by
      have := (N64_z hA).mp w
      unfold inn at i
      omega
    rw [e, bP_some, if_neg n10, signOf_eq (N64_sub (N64_mul hA hC (by decide)) (N64_mul hB hB (by decide)) (by decide)), bP_some, signOf_eq hA, bP_some, lz_eq, sg_mul, signOf_eq hC, bP_some, lz_eq]
    rcases i with ⟨a0, b0, b1⟩ | ⟨a0, b0, b1⟩
    · have eS : sg ((A * C - B * B) * A) = sg (A * C - B * B) := by
        refine sg_same (same_mul ?_ a0)
        unfold same
        omega
      rw [if_pos ((N64_le hB N64_0).mpr (by omega)), eS, piece_dn (z := zdV A B C U V W) (fun c0 _ => sd_i1 lc0 a0 b0 c0)]
      have hup : ∀ v, f_In_piece (sg (A * C - B * B)) (sg (A + 2 * B + C)) 1 2 1 (wrI h 182 13 v) = _ := fun v => piece_up (z := zuV A B C U V W) (fun _ y0 => sd_i2 (LC_w lc0) a0 b1 y0)
      have na : ¬ rdL h 182 14 ≤ 0 := fun w => by
        have := (N64_le hA N64_0).mp w
        omega
      by_cases m1 : 0 ≤ C ∧ A * C - B * B ≤ 0
      · rw [if_pos m1, bS_some]
        by_cases z1 : zdV A B C U V W = 0
        · rw [if_pos z1, r13, if_neg n10]
          exact ⟨0, True, 1, rfl, Or.inl ⟨trivial, rfl⟩, Or.inr ⟨nz, Or.inr (Or.inr (Or.inl ⟨a0, b0, b1, ⟨fun _ => Or.inl ⟨m1.1, m1.2, z1⟩, fun _ => trivial⟩, fun w => absurd trivial w⟩))⟩⟩
        · rw [if_neg z1, r13, if_pos rfl, rdL_wrI, if_neg na, lz_eq, hup]
          by_cases m2 : A * C - B * B ≤ 0 ∧ 0 ≤ A + 2 * B + C
          · rw [if_pos m2, bS_some, ← Int32.ofInt_add, wrI_wrI]
            by_cases z2 : zuV A B C U V W = 0
            · rw [if_pos z2]
              exact ⟨_, True, 1, rfl, Or.inl ⟨trivial, rfl⟩, Or.inr ⟨nz, Or.inr (Or.inr (Or.inl ⟨a0, b0, b1, ⟨fun _ => Or.inr ⟨m2.1, m2.2, z2⟩, fun _ => trivial⟩, fun w => absurd trivial w⟩))⟩⟩
            · rw [if_neg z2]
              exact ⟨_, False, 0, rfl, Or.inr ⟨id, rfl⟩, Or.inr ⟨nz, Or.inr (Or.inr (Or.inl ⟨a0, b0, b1, ⟨fun w => absurd w id, fun w => by rcases w with w | w; exact z1 w.2.2; exact z2 w.2.2⟩, fun _ => rfl⟩))⟩⟩
          · rw [if_neg m2, bS_some, show (0 : Int32) = Int32.ofInt 0 from rfl, ← Int32.ofInt_add]
            refine ⟨_, False, 0, rfl, Or.inr ⟨id, rfl⟩, Or.inr ⟨nz, Or.inr (Or.inr (Or.inl ⟨a0, b0, b1, ⟨fun w => absurd w id, fun w => ?_⟩, fun _ => ?_⟩))⟩⟩
            · rcases w with w | w
              · exact z1 w.2.2
              · exact m2 ⟨w.1, w.2.1⟩
            · have h1 := upW_c (A * C - B * B) (A + 2 * B + C) (zuV A B C U V W)
              generalize A * C - B * B = S at h1 m1 m2 ⊢
              omega
      · rw [if_neg m1, bS_some, f0, if_pos rfl, if_neg na, lz_eq]
        have hup0 := hup 0
        rw [keep] at hup0
        rw [hup0]
        by_cases m2 : A * C - B * B ≤ 0 ∧ 0 ≤ A + 2 * B + C
        · rw [if_pos m2, bS_some, show (0 : Int32) = Int32.ofInt 0 from rfl, ← Int32.ofInt_add]
          have h0 := dnW_c C (A * C - B * B) (zdV A B C U V W)
          by_cases z2 : zuV A B C U V W = 0
          · rw [if_pos z2]
            exact ⟨_, True, 1, rfl, Or.inl ⟨trivial, rfl⟩, Or.inr ⟨nz, Or.inr (Or.inr (Or.inl ⟨a0, b0, b1, ⟨fun _ => Or.inr ⟨m2.1, m2.2, z2⟩, fun _ => trivial⟩, fun w => absurd trivial w⟩))⟩⟩
          · rw [if_neg z2]
            refine ⟨_, False, 0, rfl, Or.inr ⟨id, rfl⟩, Or.inr ⟨nz, Or.inr (Or.inr (Or.inl ⟨a0, b0, b1, ⟨fun w => absurd w id, fun w => ?_⟩, fun _ => ?_⟩))⟩⟩
            · rcases w with w | w
              · exact m1 ⟨w.1, w.2.1⟩
              · exact z2 w.2.2
            · generalize A * C - B * B = S at h0 m1 m2 ⊢
              omega
        · rw [if_neg m2, bS_some]
          have h0 := dnW_c C (A * C - B * B) (zdV A B C U V W)
          have h1 := upW_c (A * C - B * B) (A + 2 * B + C) (zuV A B C U V W)
          refine ⟨0, False, 0, by rw [keep]; rfl, Or.inr ⟨id, rfl⟩, Or.inr ⟨nz, Or.inr (Or.inr (Or.inl ⟨a0, b0, b1, ⟨fun w => absurd w id, fun w => ?_⟩, fun _ => ?_⟩))⟩⟩
          · rcases w with w | w
            · exact m1 ⟨w.1, w.2.1⟩
            · exact m2 ⟨w.1, w.2.1⟩
          · generalize A * C - B * B = S at h0 h1 m1 m2 ⊢
            omega
    · have eS : sg ((A * C - B * B) * A) = sg (-(A * C - B * B)) := by
        have h1 : (A * C - B * B) * A = -(A * C - B * B) * -A := by grind
        rw [h1]
        refine sg_same (same_mul ?_ (by omega))
        unfold same
        omega
      rw [if_neg (fun w => by have := (N64_le hB N64_0).mp w; omega), eS, piece_up (z := zuV A B C U V W) (fun c0 _ => sd_j1 lc0 a0 b0 c0)]
      have hdn : ∀ v, f_In_piece (sg (-(A * C - B * B))) (sg (A + 2 * B + C)) 0 2 1 (wrI h 182 13 v) = _ := fun v => piece_dn (z := zdV A B C U V W) (fun _ y0 => sd_j2 (LC_w lc0) a0 b1 y0)
      have na : rdL h 182 14 ≤ 0 := (N64_le hA N64_0).mpr (by omega)
      by_cases m1 : C ≤ 0 ∧ 0 ≤ -(A * C - B * B)
      · rw [if_pos m1, bS_some]
        by_cases z1 : zuV A B C U V W = 0
        · rw [if_pos z1, r13, if_neg n10]
          exact ⟨0, True, 1, rfl, Or.inl ⟨trivial, rfl⟩, Or.inr ⟨nz, Or.inr (Or.inr (Or.inr ⟨a0, b0, b1, ⟨fun _ => Or.inl ⟨m1.1, by omega, z1⟩, fun _ => trivial⟩, fun w => absurd trivial w⟩))⟩⟩
        · rw [if_neg z1, r13, if_pos rfl, rdL_wrI, if_pos na, lz_eq, hdn]
          by_cases m2 : 0 ≤ -(A * C - B * B) ∧ A + 2 * B + C ≤ 0
          · rw [if_pos m2, bS_some, ← Int32.ofInt_add, wrI_wrI]
            by_cases z2 : zdV A B C U V W = 0
            · rw [if_pos z2]
              exact ⟨_, True, 1, rfl, Or.inl ⟨trivial, rfl⟩, Or.inr ⟨nz, Or.inr (Or.inr (Or.inr ⟨a0, b0, b1, ⟨fun _ => Or.inr ⟨by omega, m2.2, z2⟩, fun _ => trivial⟩, fun w => absurd trivial w⟩))⟩⟩
            · rw [if_neg z2]
              exact ⟨_, False, 0, rfl, Or.inr ⟨id, rfl⟩, Or.inr ⟨nz, Or.inr (Or.inr (Or.inr ⟨a0, b0, b1, ⟨fun w => absurd w id, fun w => by rcases w with w | w; exact z1 w.2.2; exact z2 w.2.2⟩, fun _ => rfl⟩))⟩⟩
          · rw [if_neg m2, bS_some, show (0 : Int32) = Int32.ofInt 0 from rfl, ← Int32.ofInt_add]
            refine ⟨_, False, 0, rfl, Or.inr ⟨id, rfl⟩, Or.inr ⟨nz, Or.inr (Or.inr (Or.inr ⟨a0, b0, b1, ⟨fun w => absurd w id, fun w => ?_⟩, fun _ => ?_⟩))⟩⟩
            · rcases w with w | w
              · exact z1 w.2.2
              · exact m2 ⟨by omega, w.2.1⟩
            · have h1 := dnW_c (-(A * C - B * B)) (A + 2 * B + C) (zdV A B C U V W)
              generalize A * C - B * B = S at h1 m1 m2 ⊢
              omega
      · rw [if_neg m1, bS_some, f0, if_pos rfl, if_pos na, lz_eq]
        have hdn0 := hdn 0
        rw [keep] at hdn0
        rw [hdn0]
        by_cases m2 : 0 ≤ -(A * C - B * B) ∧ A + 2 * B + C ≤ 0
        · rw [if_pos m2, bS_some, show (0 : Int32) = Int32.ofInt 0 from rfl, ← Int32.ofInt_add]
          have h0 := upW_c C (-(A * C - B * B)) (zuV A B C U V W)
          by_cases z2 : zdV A B C U V W = 0
          · rw [if_pos z2]
            exact ⟨_, True, 1, rfl, Or.inl ⟨trivial, rfl⟩, Or.inr ⟨nz, Or.inr (Or.inr (Or.inr ⟨a0, b0, b1, ⟨fun _ => Or.inr ⟨by omega, m2.2, z2⟩, fun _ => trivial⟩, fun w => absurd trivial w⟩))⟩⟩
          · rw [if_neg z2]
            refine ⟨_, False, 0, rfl, Or.inr ⟨id, rfl⟩, Or.inr ⟨nz, Or.inr (Or.inr (Or.inr ⟨a0, b0, b1, ⟨fun w => absurd w id, fun w => ?_⟩, fun _ => ?_⟩))⟩⟩
            · rcases w with w | w
              · exact m1 ⟨w.1, by omega⟩
              · exact z2 w.2.2
            · generalize A * C - B * B = S at h0 m1 m2 ⊢
              omega
        · rw [if_neg m2, bS_some]
          have h0 := upW_c C (-(A * C - B * B)) (zuV A B C U V W)
          have h1 := dnW_c (-(A * C - B * B)) (A + 2 * B + C) (zdV A B C U V W)
          refine ⟨0, False, 0, by rw [keep]; rfl, Or.inr ⟨id, rfl⟩, Or.inr ⟨nz, Or.inr (Or.inr (Or.inr ⟨a0, b0, b1, ⟨fun w => absurd w id, fun w => ?_⟩, fun _ => ?_⟩))⟩⟩
          · rcases w with w | w
            · exact m1 ⟨w.1, by omega⟩
            · exact m2 ⟨by omega, w.2.1⟩
          · generalize A * C - B * B = S at h0 h1 m1 m2 ⊢
            omega
  · rw [e, bP_some, if_pos rfl, signOf_eq hC, bP_some, lz_eq]
    by_cases u : 0 < B ∨ (B = 0 ∧ 0 < A)
    · have eu : (if (rdL h 182 15) = (0 : Int64) then (if (rdL h 182 14) ≤ (0 : Int64) then (0 : Int32) else (1 : Int32)) else (if (rdL h 182 15) ≤ (0 : Int64) then (0 : Int32) else (1 : Int32))) = 1 := by
        by_cases bz : B = 0
        · rw [if_pos ((N64_z hB).mpr bz), if_neg (fun w => by have := (N64_le hA N64_0).mp w; omega)]
        · rw [if_neg (fun w => bz ((N64_z hB).mp w)), if_neg (fun w => by have := (N64_le hB N64_0).mp w; omega)]
      have b0 : 0 ≤ B := by omega
      have b1 : 0 ≤ A + B := by
        unfold inn at i
        omega
      rw [eu, piece_up (z := zuV A B C U V W) (fun c0 y0 => sd_up lc0 nz b0 b1 c0 y0)]
      by_cases m : C ≤ 0 ∧ 0 ≤ A + 2 * B + C
      · rw [if_pos m, bS_some]
        by_cases z : zuV A B C U V W = 0
        · rw [if_pos z]
          exact ⟨_, True, 1, rfl, Or.inl ⟨trivial, rfl⟩, Or.inr ⟨nz, Or.inl ⟨b0, b1, ⟨fun _ => ⟨m.1, m.2, z⟩, fun _ => trivial⟩, rfl⟩⟩⟩
        · rw [if_neg z]
          exact ⟨_, False, 0, rfl, Or.inr ⟨id, rfl⟩, Or.inr ⟨nz, Or.inl ⟨b0, b1, ⟨fun w => absurd w id, fun w => z w.2.2⟩, rfl⟩⟩⟩
      · rw [if_neg m, bS_some]
        have h1 := upW_c C (A + 2 * B + C) (zuV A B C U V W)
        exact ⟨0, False, 0, by rw [keep]; rfl, Or.inr ⟨id, rfl⟩, Or.inr ⟨nz, Or.inl ⟨b0, b1, ⟨fun w => absurd w id, fun w => m ⟨w.1, w.2.1⟩⟩, by omega⟩⟩⟩
    · have eu : (if (rdL h 182 15) = (0 : Int64) then (if (rdL h 182 14) ≤ (0 : Int64) then (0 : Int32) else (1 : Int32)) else (if (rdL h 182 15) ≤ (0 : Int64) then (0 : Int32) else (1 : Int32))) = 0 := by
        by_cases bz : B = 0
        · rw [if_pos ((N64_z hB).mpr bz), if_pos ((N64_le hA N64_0).mpr (by omega))]
        · rw [if_neg (fun w => bz ((N64_z hB).mp w)), if_pos ((N64_le hB N64_0).mpr (by omega))]
      have b0 : B ≤ 0 := by omega
      have b1 : A + B ≤ 0 := by
        unfold inn at i
        omega
      rw [eu, piece_dn (z := zdV A B C U V W) (fun c0 y0 => sd_dn lc0 nz b0 b1 c0 y0)]
      by_cases m : 0 ≤ C ∧ A + 2 * B + C ≤ 0
      · rw [if_pos m, bS_some]
        by_cases z : zdV A B C U V W = 0
        · rw [if_pos z]
          exact ⟨_, True, 1, rfl, Or.inl ⟨trivial, rfl⟩, Or.inr ⟨nz, Or.inr (Or.inl ⟨b0, b1, ⟨fun _ => ⟨m.1, m.2, z⟩, fun _ => trivial⟩, rfl⟩)⟩⟩
        · rw [if_neg z]
          exact ⟨_, False, 0, rfl, Or.inr ⟨id, rfl⟩, Or.inr ⟨nz, Or.inr (Or.inl ⟨b0, b1, ⟨fun w => absurd w id, fun w => z w.2.2⟩, rfl⟩)⟩⟩
      · rw [if_neg m, bS_some]
        have h1 := dnW_c C (A + 2 * B + C) (zdV A B C U V W)
        exact ⟨0, False, 0, by rw [keep]; rfl, Or.inr ⟨id, rfl⟩, Or.inr ⟨nz, Or.inr (Or.inl ⟨b0, b1, ⟨fun w => absurd w id, fun w => m ⟨w.1, w.2.1⟩⟩, by omega⟩)⟩⟩
