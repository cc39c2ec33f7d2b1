/-! LAYER 3CD: segments and groups of the map, on both sides -/
def eS (B : Nat → Int32) (mb p : Int32) : Int32 := u2B B (mb + 14 + 2 * p).toNatClampNeg
def bS4 (B : Nat → Int32) (mb k p : Int32) : Int32 := u2B B (mb + 16 + 2 * k + 2 * p).toNatClampNeg
def dS (B : Nat → Int32) (mb k p : Int32) : Int32 := u2B B (mb + 16 + 4 * k + 2 * p).toNatClampNeg
def oS (B : Nat → Int32) (mb k p : Int32) : Int32 := u2B B (mb + 16 + 6 * k + 2 * p).toNatClampNeg
theorem ar_s4 {mb a s k p : Int32} (m0 : 0 ≤ mb) (m1 : mb ≤ 12000) (ma : mb + a ≤ s) (a0 : 0 ≤ a) (a1 : a ≤ 12000) (s1 : s ≤ 12000) (k0 : 1 ≤ k) (k1 : k ≤ 40) (hk : 16 + 8 * k ≤ a) (p0 : 0 ≤ p) (p1 : p < k) : (0 ≤ mb + 14 + 2 * p ∧ mb + 14 + 2 * p ≤ s - 2) ∧ (0 ≤ mb + 16 + 2 * k + 2 * p ∧ mb + 16 + 2 * k + 2 * p ≤ s - 2) ∧ (0 ≤ mb + 16 + 4 * k + 2 * p ∧ mb + 16 + 4 * k + 2 * p ≤ s - 2) ∧ (0 ≤ mb + 16 + 6 * k + 2 * p ∧ mb + 16 + 6 * k + 2 * p ≤ s - 2) := by
  refine ⟨⟨?_, ?_⟩, ⟨?_, ?_⟩, ⟨?_, ?_⟩, ⟨?_, ?_⟩⟩ <;> grind
theorem seg_e {mb k p : Int32} : mb + 16 + 2 * (k + p) = mb + 16 + 2 * k + 2 * p ∧ mb + 16 + 2 * (2 * k + p) = mb + 16 + 4 * k + 2 * p ∧ mb + 16 + 2 * (3 * k + p) = mb + 16 + 6 * k + 2 * p := by
  refine ⟨?_, ?_, ?_⟩ <;> grind
theorem C_seg {B : Nat → Int32} {s mb a k p : Int32} {c : hH} (cb : CB B s c) (s0 : 0 ≤ s) (s1 : s ≤ 12000) (e20 : rdI c 4 20 = mb) (e22 : rdI c 4 22 = k) (m0 : 0 ≤ mb) (m1 : mb ≤ 12000) (ma : mb + a ≤ s) (a0 : 0 ≤ a) (a1 : a ≤ 12000) (k0 : 1 ≤ k) (k1 : k ≤ 40) (hk : 16 + 8 * k ≤ a) (p0 : 0 ≤ p) (p1 : p < k) : f_Fo_endOf p c = some (eS B mb p) ∧ f_Fo_beginOfSegment p c = some (bS4 B mb k p) ∧ f_Fo_deltaOf p c = some (dS B mb k p) ∧ f_Fo_offsetOf p c = some (oS B mb k p) := by
  obtain ⟨⟨x1, x2⟩, ⟨x3, x4⟩, ⟨x5, x6⟩, ⟨x7, x8⟩⟩ := ar_s4 m0 m1 ma a0 a1 s1 k0 k1 hk p0 p1
  obtain ⟨e1, e2, e3⟩ := seg_e (mb := mb) (k := k) (p := p)
  unfold f_Fo_endOf f_Fo_beginOfSegment f_Fo_deltaOf f_Fo_offsetOf
  rw [e20, e22, e1, e2, e3, cU2 cb s0 s1 x1 x2, cU2 cb s0 s1 x3 x4, cU2 cb s0 s1 x5 x6, cU2 cb s0 s1 x7 x8]
  exact ⟨rfl, rfl, rfl, rfl⟩
noncomputable def sgC (h1 : hH) (p4 : Int32) : Option (Int32 ⊕ (Unit ⊕ (Int32 × hH))) :=
  if (rdI h1 4 22) ≤ p4 then (
    some (.inr (.inl ()))
  ) else (
    bP (f_Fo_endOf p4 h1) fun a6 =>
    bP (A := Int32) (
      cO (
        if p4 = 0 then (
          some true
        ) else (
          bP (f_Fo_endOf (p4 - (1 : Int32)) h1) fun a8 =>
          if a6 ≤ a8 then (
            some false
          ) else (
            some true
          )
        )
      ) (
        bP (f_Fo_beginOfSegment p4 h1) fun a14 =>
        if a6 < a14 then (
          some (0 : Int32)
        ) else (
          bP (f_Fo_offsetOf p4 h1) fun a15 =>
          if (hx_rm a15 (2 : Int32)) = 0 then (
            some (1 : Int32)
          ) else (
            some (0 : Int32)
          )
        )
      ) (
        some (0 : Int32)
      )
    ) fun p7 =>
    if p7 = 0 then (
      some (.inr (.inr ((0 : Int32), h1)))
    ) else (
      lz (A := Int32) (p4 + (1 : Int32)) fun v18 =>
      some (.inl v18)
    )
  )
noncomputable def sgM (v3 : Int32) (h1 : hH) (p5 : Int32 × Int32) : Option ((Int32 × Int32) ⊕ (Int32 ⊕ (Int32 × hH))) :=
  if v3 ≤ p5.2 then (
    some (.inr (.inl p5.1))
  ) else (
    bP (f_Mo_u2 (((rdI h1 192 21) + (14 : Int32)) + ((2 : Int32) * p5.2)) h1) fun a7 =>
    if a7 ≤ p5.1 then (
      some (.inr (.inr ((0 : Int32), h1)))
    ) else (
      bP (f_Mo_u2 ((((rdI h1 192 21) + (16 : Int32)) + ((2 : Int32) * v3)) + ((2 : Int32) * p5.2)) h1) fun a8 =>
      if a7 < a8 then (
        some (.inr (.inr ((0 : Int32), h1)))
      ) else (
        bP (f_Mo_u2 ((((rdI h1 192 21) + (16 : Int32)) + ((6 : Int32) * v3)) + ((2 : Int32) * p5.2)) h1) fun a9 =>
        if (hx_rm a9 (2 : Int32)) = 0 then (
          lz (A := Int32) (p5.2 + (1 : Int32)) fun v10 =>
          some (.inl (a7, v10))
        ) else (
          some (.inr (.inr ((0 : Int32), h1)))
        )
      )
    )
  )
theorem L_sgl {B : Nat → Int32} {s mb a k : Int32} {c m : hH} (cb : CB B s c) (mB : MB B s m) (s0 : 0 ≤ s) (s1 : s ≤ 12000) (e20 : rdI c 4 20 = mb) (e21 : rdI m 192 21 = mb) (e22 : rdI c 4 22 = k) (m0 : 0 ≤ mb) (m1 : mb ≤ 12000) (ma : mb + a ≤ s) (a0 : 0 ≤ a) (a1 : a ≤ 12000) (k0 : 1 ≤ k) (k1 : k ≤ 40) (hk : 16 + 8 * k ≤ a) : ∀ (t : Nat) (i v : Int32), 0 ≤ i → i ≤ k → k.toNatClampNeg - i.toNatClampNeg = t → (v = if i = 0 then -1 else eS B mb (i - 1)) → (wh (sgC c) i = some (.inl ()) ∧ wh (sgM k m) (v, i) = some (.inl (eS B mb (k - 1)))) ∨ (wh (sgC c) i = some (.inr (0, c)) ∧ wh (sgM k m) (v, i) = some (.inr (0, m))) := by
  have n10 : ¬ (1 : Int32) = 0 := by decide
  have CS := fun p p0 p1 => C_seg (p := p) cb s0 s1 e20 e22 m0 m1 ma a0 a1 k0 k1 hk p0 p1
  intro t
  induction t with
  | zero =>
    intro i v i0 i1 e hv
    have ei : i = k := by
      by_cases w : i = k
      · exact w
      · have := (xI_lt (x := i) (y := k) i0 (by grind)).mpr (by grind)
        omega
    have le : k ≤ i := by rw [ei]; exact Int32.le_refl _
    refine Or.inl ⟨?_, ?_⟩
    · rw [wh_eq]
      unfold sgC
      rw [e22, if_pos le]
    · rw [wh_eq]
      unfold sgM
      dsimp only
      rw [if_pos le, hv, if_neg (by grind), ei]
  | succ t ih =>
    intro i v i0 i1 e hv
    have lt : i < k := by
      by_cases w : i = k
      · rw [w] at e; omega
      · grind
    have ii : (i + 1).toNatClampNeg = i.toNatClampNeg + 1 := xI_succ (m := 20000) i0 (by grind) (by decide)
    obtain ⟨c1, c2, _, c4⟩ := CS i i0 lt
    obtain ⟨⟨x1, x2⟩, ⟨x3, x4⟩, _, ⟨x7, x8⟩⟩ := ar_s4 m0 m1 ma a0 a1 s1 k0 k1 hk i0 lt
    have eM : sgM k m (v, i) = if eS B mb i ≤ v then some (.inr (.inr ((0 : Int32), m))) else (if eS B mb i < bS4 B mb k i then some (.inr (.inr ((0 : Int32), m))) else (if hx_rm (oS B mb k i) 2 = 0 then some (.inl (eS B mb i, i + 1)) else some (.inr (.inr ((0 : Int32), m))))) := by
      unfold sgM
      dsimp only
      rw [if_neg (Int32.not_le.mpr lt), e21, mU2 mB s0 s1 x1 x2, mU2 mB s0 s1 x3 x4, mU2 mB s0 s1 x7 x8]
      rfl
    have ge0 : ¬ eS B mb i ≤ -1 := by
      have := (u2B_r B (mb + 14 + 2 * i).toNatClampNeg).1
      unfold eS
      grind
    have prv : (if i = 0 then some true else (bP (f_Fo_endOf (i - (1 : Int32)) c) fun a8 => if eS B mb i ≤ a8 then some false else some true)) = (if eS B mb i ≤ v then some false else some true) := by
      by_cases q : i = 0
      · rw [if_pos q, hv, if_pos q, if_neg ge0]
      · rw [if_neg q, hv, if_neg q, (CS (i - 1) (by grind) (by grind)).1, bP_some]
    have eC : sgC c i = if eS B mb i ≤ v then some (.inr (.inr ((0 : Int32), c))) else (if eS B mb i < bS4 B mb k i then some (.inr (.inr ((0 : Int32), c))) else (if hx_rm (oS B mb k i) 2 = 0 then some (.inl (i + 1)) else some (.inr (.inr ((0 : Int32), c))))) := by
      unfold sgC
      rw [e22, if_neg (Int32.not_le.mpr lt), c1, bP_some, prv, c2, c4, bP_some, bP_some]
      by_cases q1 : eS B mb i ≤ v
      · rw [if_pos q1, if_pos q1, cO_f, bP_some, if_pos rfl]
      · rw [if_neg q1, if_neg q1, cO_t]
        by_cases q2 : eS B mb i < bS4 B mb k i
        · rw [if_pos q2, if_pos q2, bP_some, if_pos rfl]
        · rw [if_neg q2, if_neg q2]
          by_cases q3 : hx_rm (oS B mb k i) 2 = 0
          · rw [if_pos q3, if_pos q3, bP_some, if_neg n10, lz_eq]
          · rw [if_neg q3, if_neg q3, bP_some, if_pos rfl]
    by_cases q1 : eS B mb i ≤ v
    · rw [if_pos q1] at eC eM
      exact Or.inr ⟨by rw [wh_eq, eC], by rw [wh_eq, eM]⟩
    rw [if_neg q1] at eC eM
    by_cases q2 : eS B mb i < bS4 B mb k i
    · rw [if_pos q2] at eC eM
      exact Or.inr ⟨by rw [wh_eq, eC], by rw [wh_eq, eM]⟩
    rw [if_neg q2] at eC eM
    by_cases q3 : hx_rm (oS B mb k i) 2 = 0
    · rw [if_pos q3] at eC eM
      have w1 : wh (sgC c) i = wh (sgC c) (i + 1) := by rw [wh_eq, eC]
      have w2 : wh (sgM k m) (v, i) = wh (sgM k m) (eS B mb i, i + 1) := by rw [wh_eq, eM]
      rw [w1, w2]
      refine ih (i + 1) (eS B mb i) (by grind) (by grind) (by omega) ?_
      rw [if_neg (by grind), show i + 1 - 1 = i by grind]
    · rw [if_neg q3] at eC eM
      exact Or.inr ⟨by rw [wh_eq, eC], by rw [wh_eq, eM]⟩
/-- the map, as it is kept -/
def MR4 (B : Nat → Int32) (s mb k : Int32) : Prop := (1 ≤ k ∧ k ≤ 40) ∧ 16 + 8 * k ≤ u2B B (mb + 2).toNatClampNeg ∧ mb + u2B B (mb + 2).toNatClampNeg ≤ s ∧ u2B B (mb + 2).toNatClampNeg ≤ 12000 ∧ eS B mb (k - 1) = 65535
theorem isSegments_eq0 {x1 : Int32} {h : hH} : f_Fo_isSegments x1 h = if (14 : Int32) ≤ x1 then (
    bP (f_By_u2 5 ((rdI h 4 20) + (2 : Int32)) h) fun a1 =>
    bP (f_By_u2 5 ((rdI h 4 20) + (6 : Int32)) h) fun a2 =>
    lz (wrI h 4 22 (a2 / (2 : Int32))) fun h1 =>
    if (hx_rm a2 (2 : Int32)) = 0 then (
      bP (f_HH_within (Int32.toInt64 (rdI h1 4 22)) (1 : Int64) (40 : Int64)) fun a3 =>
      if a3 = 0 then (
        some ((0 : Int32), h1)
      ) else (
        if x1 < a1 then (
          some ((0 : Int32), h1)
        ) else (
          if ((16 : Int32) + ((8 : Int32) * (rdI h1 4 22))) ≤ a1 then (
            bE (P := Unit) (X := (Int32 × hH)) (wh (sgC h1) (0 : Int32)) fun p5 =>
            bP (f_Fo_endOf ((rdI h1 4 22) - (1 : Int32)) h1) fun a21 =>
            if a21 = (65535 : Int32) then (
              some ((1 : Int32), h1)
            ) else (
              some ((0 : Int32), h1)
            )
          ) else (
            some ((0 : Int32), h1)
          )
        )
      )
    ) else (
      some ((0 : Int32), h1)
    )
  ) else (
    some ((0 : Int32), h)
  ) := rfl
theorem segments_eq0 {x1 : Int32} {h : hH} : f_Mo_segments x1 h = bP (f_Mo_u2 ((rdI h 192 21) + (2 : Int32)) h) fun a1 =>
  if x1 < a1 then (
    some ((0 : Int32), h)
  ) else (
    if (16 : Int32) ≤ a1 then (
      bP (f_Mo_u2 ((rdI h 192 21) + (6 : Int32)) h) fun a2 =>
      lz (A := Int32) (a2 / (2 : Int32)) fun v3 =>
      if (hx_rm a2 (2 : Int32)) = 0 then (
        bP (f_Mo_in (Int32.toInt64 v3) (1 : Int64) (40 : Int64)) fun a4 =>
        if a4 = 0 then (
          some ((0 : Int32), h)
        ) else (
          if ((16 : Int32) + ((8 : Int32) * v3)) ≤ a1 then (
            lz (wrI h 192 23 v3) fun h1 =>
            bE (P := Int32) (X := (Int32 × hH)) (wh (sgM v3 h1) ((-1 : Int32), (0 : Int32))) fun p6 =>
            if p6 = (65535 : Int32) then (
              some ((1 : Int32), h1)
            ) else (
              some ((0 : Int32), h1)
            )
          ) else (
            some ((0 : Int32), h)
          )
        )
      ) else (
        some ((0 : Int32), h)
      )
    ) else (
      some ((0 : Int32), h)
    )
  ) := rfl
theorem L_segs {B : Nat → Int32} {s mb v : Int32} {c m : hH} (cb : CB B s c) (mB : MB B s m) (s0 : 0 ≤ s) (s1 : s ≤ 12000) (e20 : rdI c 4 20 = mb) (e21 : rdI m 192 21 = mb) (m0 : 0 ≤ mb) (m1 : mb ≤ 12000) (v6 : 6 ≤ v) (v1 : v ≤ 12000) (mv : mb + v ≤ s) : ∃ a c' m', f_Fo_isSegments v c = some (a, c') ∧ f_Mo_segments v m = some (a, m') ∧ FC4 [22] c c' ∧ FM4 [23] m m' ∧ (a = 0 ∨ (a = 1 ∧ rdI m' 192 23 = rdI c' 4 22 ∧ MR4 B s mb (rdI c' 4 22))) := by
  have n10 : ¬ (1 : Int32) = 0 := by decide
  rw [isSegments_eq0, segments_eq0, e20, e21, mU2 (p := mb + 2) mB s0 s1 (by grind) (by grind), bP_some]
  have ar := u2B_r B (mb + 2).toNatClampNeg
  by_cases qn : ¬ (14 ≤ v)
  · rw [if_neg qn]
    refine ⟨0, c, m, rfl, ?_, FC4_rfl, FM4_rfl, Or.inl rfl⟩
    by_cases w : v < u2B B (mb + 2).toNatClampNeg
    · rw [if_pos w]
    · rw [if_neg w, if_neg (by grind)]
  have q : 14 ≤ v := Decidable.not_not.mp qn
  rw [if_pos q, cU2 (p := mb + 2) cb s0 s1 (by grind) (by grind), cU2 (p := mb + 6) cb s0 s1 (by grind) (by grind), mU2 (p := mb + 6) mB s0 s1 (by grind) (by grind)]
  simp only [bP_some, lz]
  generalize ha : u2B B (mb + 2).toNatClampNeg = a at ar
  generalize u2B B (mb + 6).toNatClampNeg = a2
  have fc1 : FC4 [22] c (wrI c 4 22 (a2 / 2)) := FC4_w FC4_rfl (by decide)
  have c22 : rdI (wrI c 4 22 (a2 / 2)) 4 22 = a2 / 2 := by rw [rdI_wrI, if_pos ⟨rfl, rfl⟩]
  have c20 : rdI (wrI c 4 22 (a2 / 2)) 4 20 = mb := by simp only [rdI_wrI, rdP_wrI, rdL_wrI, Nat.reduceEqDiff, false_and, and_false, true_and, and_true, eq_self, reduceIte, ite_self]; exact e20
  have cb1 := CB_4 fc1 cb
  generalize hC : wrI c 4 22 (a2 / 2) = C at fc1 c22 c20 cb1
  generalize hk : a2 / 2 = k at c22
  have wk : f_HH_within k.toInt64 1 40 = some (if 1 ≤ k ∧ k ≤ 40 then 1 else 0) := wi_lit (a := 1) (b := 40)
  rw [c22, ← wi_in, wk]
  simp only [bP_some]
  by_cases q1n : ¬ (hx_rm a2 2 = 0)
  · refine ⟨0, C, m, by rw [if_neg q1n], ?_, fc1, FM4_rfl, Or.inl rfl⟩
    simp only [if_neg q1n, ite_self]
  have q1 : hx_rm a2 2 = 0 := Decidable.not_not.mp q1n
  by_cases q2n : ¬ (1 ≤ k ∧ k ≤ 40)
  · refine ⟨0, C, m, by rw [if_pos q1, if_neg q2n, if_pos rfl], ?_, fc1, FM4_rfl, Or.inl rfl⟩
    simp only [if_pos q1, if_neg q2n, reduceIte, ite_self]
  have q2 : 1 ≤ k ∧ k ≤ 40 := Decidable.not_not.mp q2n
  rw [if_pos q1, if_pos q2, if_neg n10]
  by_cases q3 : v < a
  · rw [if_pos q3, if_pos q3]
    exact ⟨_, _, _, rfl, rfl, fc1, FM4_rfl, Or.inl rfl⟩
  rw [if_neg q3, if_neg q3]
  by_cases q4n : ¬ (16 + 8 * k ≤ a)
  · refine ⟨0, C, m, by rw [if_neg q4n], ?_, fc1, FM4_rfl, Or.inl rfl⟩
    simp only [if_pos q1, if_neg n10, if_neg q4n, ite_self]
  have q4 : 16 + 8 * k ≤ a := Decidable.not_not.mp q4n
  have a16 : 16 ≤ a := by grind
  have fm1 : FM4 [23] m (wrI m 192 23 k) := FM4_w FM4_rfl (by decide)
  have mB1 := MB_4 fm1 (by decide) mB
  have m21 : rdI (wrI m 192 23 k) 192 21 = mb := by simp only [rdI_wrI, rdP_wrI, rdL_wrI, Nat.reduceEqDiff, false_and, and_false, true_and, and_true, eq_self, reduceIte, ite_self]; exact e21
  have m23 : rdI (wrI m 192 23 k) 192 23 = k := by rw [rdI_wrI, if_pos ⟨rfl, rfl⟩]
  rw [if_pos q4, if_pos a16, if_pos q1, if_neg n10, if_pos q4]
  generalize wrI m 192 23 k = M at fm1 mB1 m21 m23
  have av : a ≤ v := Int32.not_lt.mp q3
  have mbs : mb + a ≤ s := by grind
  have key := L_sgl (a := a) cb1 mB1 s0 s1 c20 m21 c22 m0 m1 mbs (by grind) (by grind) q2.1 q2.2 q4 _ 0 (-1) (by decide) (by grind) rfl rfl
  have ek := (C_seg (p := k - 1) (a := a) cb1 s0 s1 c20 c22 m0 m1 mbs (by grind) (by grind) q2.1 q2.2 q4 (by grind) (by grind)).1
  rcases key with ⟨k1, k2⟩ | ⟨k1, k2⟩
  · rw [k1, k2, bE_inl, bE_inl, ek, bP_some]
    by_cases q5 : eS B mb (k - 1) = 65535
    · rw [if_pos q5, if_pos q5]
      refine ⟨_, _, _, rfl, rfl, fc1, fm1, Or.inr ⟨rfl, by rw [m23, c22], ?_⟩⟩
      rw [c22]
      unfold MR4
      rw [ha]
      exact ⟨q2, q4, mbs, by grind, q5⟩
    · rw [if_neg q5, if_neg q5]
      exact ⟨_, _, _, rfl, rfl, fc1, fm1, Or.inl rfl⟩
  · rw [k1, k2]
    exact ⟨_, _, _, rfl, rfl, fc1, fm1, Or.inl rfl⟩
