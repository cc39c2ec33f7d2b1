/-! LAYER 3CG: the glyph of a character, on both sides -/
theorem and65535 (x : Int32) : 0 ≤ (x &&& 65535).toInt := by
  have h1 : (x &&& 65535).toBitVec.toNat = x.toBitVec.toNat &&& 65535 := by
    rw [Int32.toBitVec_and, BitVec.toNat_and]
    rfl
  have h2 : x.toBitVec.toNat &&& 65535 ≤ 65535 := Nat.and_le_right
  have e : (x &&& 65535).toInt = ((x.toBitVec.toNat &&& 65535 : Nat) : Int) := by
    show (x &&& 65535).toBitVec.toInt = _
    rw [BitVec.toInt_eq_toNat_of_lt (by rw [h1]; omega), h1]
  rw [e]
  omega
theorem t64_nn {x : Int32} (h : 0 ≤ x.toInt) : 0 ≤ x.toInt64.toInt := by
  rw [Int32.toInt_toInt64]
  exact h
theorem nn32 {x : Int32} (h : 0 ≤ x) : 0 ≤ x.toInt := Int32.le_iff_toInt_le.mp h
noncomputable def seC (x1 : Int32) (h : hH) (p1 : Int32) : Option (Int32 ⊕ Int32) :=
  cO (
    if (rdI h 4 22) ≤ p1 then (
      some false
    ) else (
      bP (f_Fo_endOf p1 h) fun a3 =>
      if x1 ≤ a3 then (
        some false
      ) else (
        some true
      )
    )
  ) (
    lz (A := Int32) (p1 + (1 : Int32)) fun v9 =>
    some (.inl v9)
  ) (
    some (.inr p1)
  )
noncomputable def seM (x1 : Int32) (h : hH) (p2 : Int32) : Option (Int32 ⊕ Int32) :=
  bP (f_Mo_u2 (((rdI h 192 21) + (14 : Int32)) + ((2 : Int32) * p2)) h) fun a4 =>
  if x1 ≤ a4 then (
    some (.inr p2)
  ) else (
    lz (A := Int32) (p2 + (1 : Int32)) fun v5 =>
    some (.inl v5)
  )
noncomputable def gqC (x1 : Int32) (h : hH) (p1 : Int32) : Option (Int32 ⊕ (Unit ⊕ Int64)) :=
  if (rdI h 4 22) ≤ p1 then (
    some (.inr (.inl ()))
  ) else (
    lz (A := Int32) (((rdI h 4 20) + (16 : Int32)) + ((12 : Int32) * p1)) fun v3 =>
    bP (f_By_u4 5 v3 h) fun a4 =>
    cO (
      if (Int32.toInt64 x1) < a4 then (
        some false
      ) else (
        bP (f_By_u4 5 (v3 + (4 : Int32)) h) fun a5 =>
        if a5 < (Int32.toInt64 x1) then (
          some false
        ) else (
          some true
        )
      )
    ) (
      bP (f_By_u4 5 (v3 + (8 : Int32)) h) fun a11 =>
      bP (f_By_u4 5 v3 h) fun a12 =>
      some (.inr (.inr ((a11 + (Int32.toInt64 x1)) - a12)))
    ) (
      lz (A := Int32) (p1 + (1 : Int32)) fun v13 =>
      some (.inl v13)
    )
  )
noncomputable def gqM (x1 v1 : Int32) (h : hH) (p20 : Int32) : Option (Int32 ⊕ (Unit ⊕ Int64)) :=
  if v1 ≤ p20 then (
    some (.inr (.inl ()))
  ) else (
    lz (A := Int32) (((rdI h 192 21) + (16 : Int32)) + ((12 : Int32) * p20)) fun v22 =>
    bP (f_Mo_u4 v22 h) fun a23 =>
    cO (
      if (Int32.toInt64 x1) < a23 then (
        some false
      ) else (
        bP (f_Mo_u4 (v22 + (4 : Int32)) h) fun a24 =>
        if a24 < (Int32.toInt64 x1) then (
          some false
        ) else (
          some true
        )
      )
    ) (
      bP (f_Mo_u4 (v22 + (8 : Int32)) h) fun a30 =>
      bP (f_Mo_u4 v22 h) fun a31 =>
      some (.inr (.inr ((a30 + (Int32.toInt64 x1)) - a31)))
    ) (
      lz (A := Int32) (p20 + (1 : Int32)) fun v32 =>
      some (.inl v32)
    )
  )
theorem group_eq0 {x1 : Int32} {h : hH} : f_Fo_group x1 h = bE (P := Unit) (X := Int64) (wh (gqC x1 h) (0 : Int32)) fun p2 => some (0 : Int64) := rfl
theorem segment_eq0 {x1 : Int32} {h : hH} : f_Fo_segment x1 h = bP (A := Int32) (wh (seC x1 h) (0 : Int32)) fun p2 =>
  if p2 = (rdI h 4 22) then (
    some (0 : Int64)
  ) else (
    bP (f_Fo_beginOfSegment p2 h) fun a10 =>
    if a10 ≤ x1 then (
      bP (f_Fo_offsetOf p2 h) fun a11 =>
      if a11 = 0 then (
        bP (f_Fo_deltaOf p2 h) fun a20 =>
        some (Int32.toInt64 ((x1 + a20) &&& (65535 : Int32)))
      ) else (
        bP (f_Fo_beginOfSegment p2 h) fun a12 =>
        lz (A := Int32) ((((16 : Int32) + ((2 : Int32) * (((3 : Int32) * (rdI h 4 22)) + p2))) + a11) + ((2 : Int32) * (x1 - a12))) fun v13 =>
        bP (f_By_u2 5 ((rdI h 4 20) + (2 : Int32)) h) fun a14 =>
        bP (A := Int32) (
          if a14 < (v13 + (2 : Int32)) then (
            some (0 : Int32)
          ) else (
            bP (f_By_u2 5 ((rdI h 4 20) + v13) h) fun a16 =>
            some a16
          )
        ) fun p15 =>
        if p15 = 0 then (
          some (0 : Int64)
        ) else (
          bP (f_Fo_deltaOf p2 h) fun a18 =>
          some (Int32.toInt64 ((p15 + a18) &&& (65535 : Int32)))
        )
      )
    ) else (
      some (0 : Int64)
    )
  ) := rfl
theorem mapped_eq0 {x1 : Int32} {h : hH} : f_Mo_mapped x1 h = if (rdI h 192 22) = 0 then (
    if (256 : Int32) ≤ x1 then (
      some (0 : Int64)
    ) else (
      bP (f_Mo_u1 (((rdI h 192 21) + (6 : Int32)) + x1) h) fun a35 =>
      some (Int32.toInt64 a35)
    )
  ) else (
    lz (A := Int32) (rdI h 192 23) fun v1 =>
    if (rdI h 192 22) = (12 : Int32) then (
      bE (P := Unit) (X := Int64) (wh (gqM x1 v1 h) (0 : Int32)) fun p21 =>
      some (0 : Int64)
    ) else (
      if x1 ≤ (65535 : Int32) then (
        bP (A := Int32) (wh (seM x1 h) (0 : Int32)) fun p3 =>
        bP (f_Mo_u2 ((((rdI h 192 21) + (16 : Int32)) + ((2 : Int32) * v1)) + ((2 : Int32) * p3)) h) fun a7 =>
        if a7 ≤ x1 then (
          bP (f_Mo_u2 ((((rdI h 192 21) + (16 : Int32)) + ((4 : Int32) * v1)) + ((2 : Int32) * p3)) h) fun a8 =>
          lz (A := Int32) (((16 : Int32) + ((6 : Int32) * v1)) + ((2 : Int32) * p3)) fun v9 =>
          bP (f_Mo_u2 ((rdI h 192 21) + v9) h) fun a10 =>
          if a10 = 0 then (
            some (Int32.toInt64 ((x1 + a8) &&& (65535 : Int32)))
          ) else (
            lz (A := Int32) ((v9 + a10) + ((2 : Int32) * (x1 - a7))) fun v11 =>
            bP (f_Mo_u2 ((rdI h 192 21) + (2 : Int32)) h) fun a12 =>
            bP (A := Int32) (
              if a12 < (v11 + (2 : Int32)) then (
                some (0 : Int32)
              ) else (
                bP (f_Mo_u2 ((rdI h 192 21) + v11) h) fun a14 =>
                some a14
              )
            ) fun p13 =>
            if p13 = 0 then (
              some (0 : Int64)
            ) else (
              some (Int32.toInt64 ((p13 + a8) &&& (65535 : Int32)))
            )
          )
        ) else (
          some (0 : Int64)
        )
      ) else (
        some (0 : Int64)
      )
    )
  ) := rfl
theorem gq_nn {a g : Int64} {x : Int32} (a0 : 0 ≤ a.toInt) (a1 : a.toInt < 4294967296) (g0 : 0 ≤ g.toInt) (x0 : 0 ≤ x) (x1 : x ≤ 1114111) (h : ¬ x.toInt64 < g) : 0 ≤ (a + x.toInt64 - g).toInt := by
  have z : (1114111 : Int32).toInt = 1114111 := rfl
  have b0 := nn32 x0
  have b1 := Int32.le_iff_toInt_le.mp x1
  rw [z] at b1
  have hg := Int64.le_iff_toInt_le.mp (Int64.not_lt.mp h)
  rw [Int32.toInt_toInt64] at hg
  have e1 : (a + x.toInt64).toInt = a.toInt + x.toInt := by
    rw [i64_add (by rw [Int32.toInt_toInt64]; omega) (by rw [Int32.toInt_toInt64]; omega), Int32.toInt_toInt64]
  rw [i64_sub (by rw [e1]; omega) (by rw [e1]; omega), e1]
  omega
theorem L_gq {B : Nat → Int32} {s mb k x : Int32} {c m : hH} (cb : CB B s c) (mB : MB B s m) (s0 : 0 ≤ s) (s1 : s ≤ 12000) (e20 : rdI c 4 20 = mb) (e21 : rdI m 192 21 = mb) (e22 : rdI c 4 22 = k) (m0 : 0 ≤ mb) (m1 : mb ≤ 12000) (k0 : 1 ≤ k) (k1 : k ≤ 40) (hk : mb + (16 + 12 * k) ≤ s) (x0 : 0 ≤ x) (x1 : x ≤ 1114111) : ∀ (t : Nat) (i : Int32), 0 ≤ i → i ≤ k → k.toNatClampNeg - i.toNatClampNeg = t → ∃ R, wh (gqC x c) i = some R ∧ wh (gqM x k m) i = some R ∧ (R = .inl () ∨ ∃ v : Int64, R = .inr v ∧ 0 ≤ v.toInt) := by
  intro t
  induction t with
  | zero =>
    intro i i0 i1 e
    have ei : i = k := by
      by_cases w : i = k
      · exact w
      · have := (xI_lt (x := i) (y := k) i0 (by grind)).mpr (by grind)
        omega
    have le : k ≤ i := by rw [ei]; exact Int32.le_refl _
    refine ⟨.inl (), ?_, ?_, Or.inl rfl⟩
    · rw [wh_eq]
      unfold gqC
      rw [e22, if_pos le]
    · rw [wh_eq]
      unfold gqM
      rw [if_pos le]
  | succ t ih =>
    intro i i0 i1 e
    have lt : i < k := by
      by_cases w : i = k
      · rw [w] at e; omega
      · grind
    have ii : (i + 1).toNatClampNeg = i.toNatClampNeg + 1 := xI_succ (m := 20000) i0 (by grind) (by decide)
    obtain ⟨⟨y1, y2⟩, ⟨y3, y4⟩, ⟨y5, y6⟩, _⟩ := ar_gg (v := 16 + 12 * k) m0 m1 hk (by grind) (by grind) s1 k0 k1 (Int32.le_refl _) i0 lt
    have hA := u4B_r B (mb + 16 + 12 * i).toNatClampNeg
    have hB := u4B_r B (mb + 16 + 12 * i + 8).toNatClampNeg
    have eC : gqC x c i = cO (if x.toInt64 < u4B B (mb + 16 + 12 * i).toNatClampNeg then some false else (if u4B B (mb + 16 + 12 * i + 4).toNatClampNeg < x.toInt64 then some false else some true)) (some (.inr (.inr ((u4B B (mb + 16 + 12 * i + 8).toNatClampNeg + x.toInt64) - u4B B (mb + 16 + 12 * i).toNatClampNeg)))) (some (.inl (i + 1))) := by
      unfold gqC
      rw [e22, if_neg (Int32.not_le.mpr lt), e20, lz_eq, cU4 cb s0 s1 y1 y2, cU4 cb s0 s1 y3 y4, cU4 cb s0 s1 y5 y6]
      rfl
    have eM : gqM x k m i = cO (if x.toInt64 < u4B B (mb + 16 + 12 * i).toNatClampNeg then some false else (if u4B B (mb + 16 + 12 * i + 4).toNatClampNeg < x.toInt64 then some false else some true)) (some (.inr (.inr ((u4B B (mb + 16 + 12 * i + 8).toNatClampNeg + x.toInt64) - u4B B (mb + 16 + 12 * i).toNatClampNeg)))) (some (.inl (i + 1))) := by
      unfold gqM
      rw [if_neg (Int32.not_le.mpr lt), e21, lz_eq, mU4 mB s0 s1 y1 y2, mU4 mB s0 s1 y3 y4, mU4 mB s0 s1 y5 y6]
      rfl
    generalize u4B B (mb + 16 + 12 * i).toNatClampNeg = g at hA eC eM
    generalize u4B B (mb + 16 + 12 * i + 8).toNatClampNeg = d at hB eC eM
    generalize u4B B (mb + 16 + 12 * i + 4).toNatClampNeg = f at eC eM
    have nx := ih (i + 1) (by grind) (by grind) (by omega)
    have go : gqC x c i = some (.inl (i + 1)) → gqM x k m i = some (.inl (i + 1)) → ∃ R, wh (gqC x c) i = some R ∧ wh (gqM x k m) i = some R ∧ (R = .inl () ∨ ∃ v : Int64, R = .inr v ∧ 0 ≤ v.toInt) := fun a b => by
      have w1 : wh (gqC x c) i = wh (gqC x c) (i + 1) := by rw [wh_eq, a]
      have w2 : wh (gqM x k m) i = wh (gqM x k m) (i + 1) := by rw [wh_eq, b]
      rw [w1, w2]
      exact nx
    by_cases q1 : x.toInt64 < g
    · rw [if_pos q1, cO_f] at eC eM
      exact go eC eM
    rw [if_neg q1] at eC eM
    by_cases q2 : f < x.toInt64
    · rw [if_pos q2, cO_f] at eC eM
      exact go eC eM
    rw [if_neg q2, cO_t] at eC eM
    exact ⟨_, by rw [wh_eq, eC], by rw [wh_eq, eM], Or.inr ⟨_, rfl, gq_nn hB.1 hB.2 hA.1 x0 x1 q1⟩⟩
theorem L_se {B : Nat → Int32} {s mb a k x : Int32} {c m : hH} (cb : CB B s c) (mB : MB B s m) (s0 : 0 ≤ s) (s1 : s ≤ 12000) (e20 : rdI c 4 20 = mb) (e21 : rdI m 192 21 = mb) (e22 : rdI c 4 22 = k) (m0 : 0 ≤ mb) (m1 : mb ≤ 12000) (ma : mb + a ≤ s) (a0 : 0 ≤ a) (a1 : a ≤ 12000) (k0 : 1 ≤ k) (k1 : k ≤ 40) (hk : 16 + 8 * k ≤ a) (el : eS B mb (k - 1) = 65535) (x1 : x ≤ 65535) : ∀ (t : Nat) (i : Int32), 0 ≤ i → i < k → k.toNatClampNeg - i.toNatClampNeg = t → ∃ p, wh (seC x c) i = some p ∧ wh (seM x m) i = some p ∧ 0 ≤ p ∧ p < k := by
  intro t
  induction t with
  | zero =>
    intro i i0 i1 e
    have := (xI_lt (x := i) (y := k) i0 (by grind)).mpr i1
    omega
  | succ t ih =>
    intro i i0 lt e
    have ii : (i + 1).toNatClampNeg = i.toNatClampNeg + 1 := xI_succ (m := 20000) i0 (by grind) (by decide)
    obtain ⟨c1, c2, _, c4⟩ := C_seg cb s0 s1 e20 e22 m0 m1 ma a0 a1 k0 k1 hk i0 lt
    obtain ⟨⟨y1, y2⟩, _⟩ := ar_s4 m0 m1 ma a0 a1 s1 k0 k1 hk i0 lt
    have eC : seC x c i = cO (if x ≤ eS B mb i then some false else some true) (some (.inl (i + 1))) (some (.inr i)) := by
      unfold seC
      rw [e22, if_neg (Int32.not_le.mpr lt), c1]
      rfl
    have eM : seM x m i = if x ≤ eS B mb i then some (.inr i) else some (.inl (i + 1)) := by
      unfold seM
      rw [e21, mU2 mB s0 s1 y1 y2]
      rfl
    by_cases q : x ≤ eS B mb i
    · rw [if_pos q, cO_f] at eC
      rw [if_pos q] at eM
      exact ⟨i, by rw [wh_eq, eC], by rw [wh_eq, eM], i0, lt⟩
    · rw [if_neg q, cO_t] at eC
      rw [if_neg q] at eM
      have w1 : wh (seC x c) i = wh (seC x c) (i + 1) := by rw [wh_eq, eC]
      have w2 : wh (seM x m) i = wh (seM x m) (i + 1) := by rw [wh_eq, eM]
      rw [w1, w2]
      have ne : i ≠ k - 1 := fun w => by
        rw [w, el] at q
        exact q x1
      exact ih (i + 1) (by grind) (by grind) (by omega)
theorem L_se9 {B : Nat → Int32} {s mb a k x : Int32} {c : hH} (cb : CB B s c) (s0 : 0 ≤ s) (s1 : s ≤ 12000) (e20 : rdI c 4 20 = mb) (e22 : rdI c 4 22 = k) (m0 : 0 ≤ mb) (m1 : mb ≤ 12000) (ma : mb + a ≤ s) (a0 : 0 ≤ a) (a1 : a ≤ 12000) (k0 : 1 ≤ k) (k1 : k ≤ 40) (hk : 16 + 8 * k ≤ a) (x1 : 65535 < x) : ∀ (t : Nat) (i : Int32), 0 ≤ i → i ≤ k → k.toNatClampNeg - i.toNatClampNeg = t → wh (seC x c) i = some k := by
  intro t
  induction t with
  | zero =>
    intro i i0 i1 e
    have ei : i = k := by
      by_cases w : i = k
      · exact w
      · have := (xI_lt (x := i) (y := k) i0 (by grind)).mpr (by grind)
        omega
    have le : k ≤ i := by rw [ei]; exact Int32.le_refl _
    rw [wh_eq]
    unfold seC
    rw [e22, if_pos le, cO_f, ei]
  | succ t ih =>
    intro i i0 i1 e
    have lt : i < k := by
      by_cases w : i = k
      · rw [w] at e; omega
      · grind
    have ii : (i + 1).toNatClampNeg = i.toNatClampNeg + 1 := xI_succ (m := 20000) i0 (by grind) (by decide)
    obtain ⟨c1, c2, _, c4⟩ := C_seg cb s0 s1 e20 e22 m0 m1 ma a0 a1 k0 k1 hk i0 lt
    have q : ¬ x ≤ eS B mb i := fun w => by
      have := (u2B_r B (mb + 14 + 2 * i).toNatClampNeg).2
      unfold eS at w
      exact Int32.lt_irrefl (Int32.lt_of_lt_of_le x1 (Int32.le_trans w this))
    have eC : seC x c i = some (.inl (i + 1)) := by
      unfold seC
      rw [e22, if_neg (Int32.not_le.mpr lt), c1, bP_some, if_neg q, cO_t, lz_eq]
    have w1 : wh (seC x c) i = wh (seC x c) (i + 1) := by rw [wh_eq, eC]
    rw [w1]
    exact ih (i + 1) (by grind) (by grind) (by omega)
theorem sg_v {k p o x b : Int32} : 16 + 2 * (3 * k + p) + o + 2 * (x - b) = 16 + 6 * k + 2 * p + o + 2 * (x - b) := by grind
theorem sg_b {mb a k p o x b s : Int32} (m0 : 0 ≤ mb) (m1 : mb ≤ 12000) (ma : mb + a ≤ s) (a0 : 0 ≤ a) (a1 : a ≤ 12000) (s1 : s ≤ 12000) (k0 : 1 ≤ k) (k1 : k ≤ 40) (p0 : 0 ≤ p) (p1 : p < k) (o0 : 0 ≤ o ∧ o ≤ 65535) (x0 : 0 ≤ x) (x1 : x ≤ 65535) (b0 : 0 ≤ b) (bx : b ≤ x) (h : ¬ a < 16 + 6 * k + 2 * p + o + 2 * (x - b) + 2) : 0 ≤ mb + (16 + 6 * k + 2 * p + o + 2 * (x - b)) ∧ mb + (16 + 6 * k + 2 * p + o + 2 * (x - b)) ≤ s - 2 := by
  obtain ⟨o0, o1⟩ := o0
  have v0 : 0 ≤ 16 + 6 * k + 2 * p + o + 2 * (x - b) := by grind
  have v1 : 16 + 6 * k + 2 * p + o + 2 * (x - b) ≤ 300000 := by grind
  generalize 16 + 6 * k + 2 * p + o + 2 * (x - b) = v at v0 v1 h
  have : v + 2 ≤ a := Int32.not_lt.mp h
  refine ⟨by grind, by grind⟩
theorem L_mapped {B : Nat → Int32} {s x : Int32} {c m : hH} (cb : CB B s c) (mB : MB B s m) (s0 : 0 ≤ s) (s1 : s ≤ 12000) (mp : MP B s c m) (x0 : 0 ≤ x) (x1 : x ≤ 1114111) : ∃ r : Int64, (if (rdI c 4 21) = 0 then (bP (f_Fo_plain x c) fun a5 => some a5) else (if (rdI c 4 21) = (4 : Int32) then (bP (f_Fo_segment x c) fun a3 => some a3) else (bP (f_Fo_group x c) fun a2 => some a2))) = some r ∧ f_Mo_mapped x m = some r ∧ 0 ≤ r.toInt := by
  obtain ⟨mb, ⟨e20, e21⟩, ⟨m0, m1⟩, e22, e23, h⟩ := mp
  rw [mapped_eq0, e22, e23]
  rcases h with ⟨h, _, hs⟩ | ⟨h, k01, hk, ma, a1, el⟩ | ⟨h, k01, hk⟩
  · simp only [h, if_true]
    unfold f_Fo_plain
    by_cases q : 256 ≤ x
    · simp only [if_pos q, bP_some]
      exact ⟨0, rfl, rfl, by decide⟩
    · simp only [if_neg q]
      rw [e20, e21, cU1 (p := mb + 6 + x) cb (by grind) (by grind), mU1 (p := mb + 6 + x) mB s1 (by grind) (by grind)]
      exact ⟨_, rfl, rfl, t64_nn (nn32 (and255 _).1)⟩
  · have h0 : ¬ ((4 : Int32) = 0) := by decide
    have h12 : ¬ ((4 : Int32) = 12) := by decide
    obtain ⟨k0, k1⟩ := k01
    have a0 := (u2B_r B (mb + 2).toNatClampNeg).1
    rw [h, if_neg h0, if_pos rfl, if_neg h0, lz_eq, if_neg h12, segment_eq0]
    generalize ek : rdI c 4 22 = k at k0 k1 hk el
    have cu2 := cU2 (p := mb + 2) cb s0 s1 (by grind) (by grind)
    have mu2 := mU2 (p := mb + 2) mB s0 s1 (by grind) (by grind)
    generalize u2B B (mb + 2).toNatClampNeg = a at hk ma a1 a0 cu2 mu2
    by_cases q : ¬ x ≤ 65535
    · rw [if_neg q, L_se9 cb s0 s1 e20 ek m0 m1 ma a0 a1 k0 k1 hk (Int32.not_le.mp q) _ 0 (by decide) (by grind) rfl, bP_some, if_pos rfl]
      exact ⟨0, rfl, rfl, by decide⟩
    have x6 : x ≤ 65535 := Decidable.not_not.mp q
    rw [if_pos x6]
    obtain ⟨p, w1, w2, p0, p1⟩ := L_se cb mB s0 s1 e20 e21 ek m0 m1 ma a0 a1 k0 k1 hk el x6 _ 0 (by decide) (by grind) rfl
    obtain ⟨c1, c2, c3, c4⟩ := C_seg cb s0 s1 e20 ek m0 m1 ma a0 a1 k0 k1 hk p0 p1
    obtain ⟨_, ⟨y1, y2⟩, ⟨y3, y4⟩, ⟨y5, y6⟩⟩ := ar_s4 m0 m1 ma a0 a1 s1 k0 k1 hk p0 p1
    have ea : mb + (16 + 6 * k + 2 * p) = mb + 16 + 6 * k + 2 * p := by grind
    rw [w1, w2, bP_some, bP_some, if_neg (show ¬ p = k by grind), c2, c3, c4, e20, e21, mU2 mB s0 s1 y1 y2, bP_some, bP_some, mU2 mB s0 s1 y3 y4, cu2, mu2]
    simp only [bP_some, lz_eq, sg_v]
    rw [ea, mU2 mB s0 s1 y5 y6, bP_some]
    have rb := u2B_r B (mb + 16 + 2 * k + 2 * p).toNatClampNeg
    have ro := u2B_r B (mb + 16 + 6 * k + 2 * p).toNatClampNeg
    unfold bS4 oS dS
    generalize u2B B (mb + 16 + 2 * k + 2 * p).toNatClampNeg = b at rb
    generalize u2B B (mb + 16 + 6 * k + 2 * p).toNatClampNeg = o at ro
    generalize u2B B (mb + 16 + 4 * k + 2 * p).toNatClampNeg = d
    by_cases q1 : ¬ b ≤ x
    · rw [if_neg q1, if_neg q1]
      exact ⟨0, rfl, rfl, by decide⟩
    have bx : b ≤ x := Decidable.not_not.mp q1
    rw [if_pos bx, if_pos bx]
    by_cases q2 : o = 0
    · rw [if_pos q2, if_pos q2]
      exact ⟨_, rfl, rfl, t64_nn (and65535 _)⟩
    rw [if_neg q2, if_neg q2]
    by_cases q3 : a < 16 + 6 * k + 2 * p + o + 2 * (x - b) + 2
    · simp only [if_pos q3, bP_some, if_true]
      exact ⟨0, rfl, rfl, by decide⟩
    obtain ⟨z1, z2⟩ := sg_b m0 m1 ma a0 a1 s1 k0 k1 p0 p1 ro x0 x6 rb.1 bx q3
    rw [if_neg q3, if_neg q3, cU2 cb s0 s1 z1 z2, mU2 mB s0 s1 z1 z2]
    simp only [bP_some]
    generalize u2B B (mb + (16 + 6 * k + 2 * p + o + 2 * (x - b))).toNatClampNeg = w
    by_cases q4 : w = 0
    · simp only [if_pos q4]
      exact ⟨0, rfl, rfl, by decide⟩
    · simp only [if_neg q4]
      exact ⟨_, rfl, rfl, t64_nn (and65535 _)⟩
  · have h0 : ¬ ((12 : Int32) = 0) := by decide
    have h4 : ¬ ((12 : Int32) = 4) := by decide
    obtain ⟨k0, k1⟩ := k01
    rw [h, if_neg h0, if_neg h4, if_neg h0, lz_eq, if_pos rfl, group_eq0]
    generalize ek : rdI c 4 22 = k at k0 k1 hk
    obtain ⟨R, w1, w2, hR⟩ := L_gq cb mB s0 s1 e20 e21 ek m0 m1 k0 k1 hk x0 x1 _ 0 (by decide) (by grind) rfl
    rw [w1, w2]
    rcases hR with rfl | ⟨v, rfl, hv⟩
    · exact ⟨0, rfl, rfl, by decide⟩
    · exact ⟨v, rfl, rfl, hv⟩
theorem L_glyphAt {B : Nat → Int32} {s gl x : Int32} {c m : hH} (cb : CB B s c) (mB : MB B s m) (s0 : 0 ≤ s) (s1 : s ≤ 12000) (mp : MP B s c m) (e8 : rdI c 4 8 = gl) (e12 : rdI m 192 12 = gl) (g0 : 1 ≤ gl ∧ gl ≤ 200) (x0 : 0 ≤ x) (x1 : x ≤ 1114111) : ∃ v, f_Fo_glyphOf x c = some v ∧ f_Mo_glyphAt x m = some v ∧ 0 ≤ v ∧ v < gl := by
  obtain ⟨r, a, b, r0⟩ := L_mapped cb mB s0 s1 mp x0 x1
  unfold f_Fo_glyphOf f_Mo_glyphAt
  rw [a, b, bP_some, bP_some, e8, e12]
  by_cases q : gl.toInt64 ≤ r
  · simp only [if_pos q]
    exact ⟨0, rfl, rfl, by decide, by grind⟩
  · simp only [if_neg q]
    have h := Int64.lt_iff_toInt_lt.mp (Int64.not_le.mp q)
    rw [Int32.toInt_toInt64] at h
    have z : (200 : Int32).toInt = 200 := rfl
    have g1 := Int32.le_iff_toInt_le.mp g0.2
    rw [z] at g1
    have e := i64_32 (x := r) r0 (by omega)
    exact ⟨_, rfl, rfl, Int32.le_iff_toInt_le.mpr (by rw [e]; exact r0), Int32.lt_iff_toInt_lt.mpr (by rw [e]; exact h)⟩
