/-! LAYER 3CE: groups of the map, and the map as a whole -/
def gS (B : Nat → Int32) (mb p : Int32) : Int64 := u4B B (mb + 16 + 12 * p).toNatClampNeg
def gE (B : Nat → Int32) (mb p : Int32) : Int64 := u4B B (mb + 16 + 12 * p + 4).toNatClampNeg
theorem ar_gg {mb v s k p : Int32} (m0 : 0 ≤ mb) (m1 : mb ≤ 12000) (mv : mb + v ≤ s) (v0 : 0 ≤ v) (v1 : v ≤ 12000) (s1 : s ≤ 12000) (k0 : 1 ≤ k) (k1 : k ≤ 40) (hk : 16 + 12 * k ≤ v) (p0 : 0 ≤ p) (p1 : p < k) : (0 ≤ mb + 16 + 12 * p ∧ mb + 16 + 12 * p ≤ s - 4) ∧ (0 ≤ mb + 16 + 12 * p + 4 ∧ mb + 16 + 12 * p + 4 ≤ s - 4) ∧ (0 ≤ mb + 16 + 12 * p + 8 ∧ mb + 16 + 12 * p + 8 ≤ s - 4) ∧ (p + 1 < k → 0 ≤ mb + 16 + 12 * p + 12 ∧ mb + 16 + 12 * p + 12 ≤ s - 4) := by
  refine ⟨⟨?_, ?_⟩, ⟨?_, ?_⟩, ⟨?_, ?_⟩, fun w => ⟨?_, ?_⟩⟩ <;> grind
theorem g_e {mb p : Int32} : mb + 20 + 12 * p = mb + 16 + 12 * p + 4 ∧ mb + 16 + 12 * p + 12 = mb + 16 + 12 * (p + 1) := by
  refine ⟨?_, ?_⟩ <;> grind
noncomputable def grC (h1 : hH) (p5 : Int64 × Int32) : Option ((Int64 × Int32) ⊕ (Unit ⊕ (Int32 × hH))) :=
  if (rdI h1 4 22) ≤ p5.2 then (
    some (.inr (.inl ()))
  ) else (
    bP (f_By_u4 5 (((rdI h1 4 20) + (16 : Int32)) + ((12 : Int32) * p5.2)) h1) fun a7 =>
    bP (f_By_u4 5 (((rdI h1 4 20) + (20 : Int32)) + ((12 : Int32) * p5.2)) h1) fun a8 =>
    if a8 < a7 then (
      some (.inr (.inr ((0 : Int32), h1)))
    ) else (
      if p5.1 < a7 then (
        lz (A := Int32) (p5.2 + (1 : Int32)) fun v9 =>
        some (.inl (a8, v9))
      ) else (
        some (.inr (.inr ((0 : Int32), h1)))
      )
    )
  )
noncomputable def grM (h1 : hH) (p4 : Int32) : Option (Int32 ⊕ (Unit ⊕ (Int32 × hH))) :=
  if (rdI h1 192 23) ≤ p4 then (
    some (.inr (.inl ()))
  ) else (
    lz (A := Int32) (((rdI h1 192 21) + (16 : Int32)) + ((12 : Int32) * p4)) fun v6 =>
    bP (f_Mo_u4 v6 h1) fun a7 =>
    bP (f_Mo_u4 (v6 + (4 : Int32)) h1) fun a8 =>
    if a8 < a7 then (
      some (.inr (.inr ((0 : Int32), h1)))
    ) else (
      cO (
        if (rdI h1 192 23) ≤ (p4 + (1 : Int32)) then (
          some false
        ) else (
          bP (f_Mo_u4 (v6 + (4 : Int32)) h1) fun a9 =>
          bP (f_Mo_u4 (v6 + (12 : Int32)) h1) fun a10 =>
          if a9 < a10 then (
            some false
          ) else (
            some true
          )
        )
      ) (
        some (.inr (.inr ((0 : Int32), h1)))
      ) (
        lz (A := Int32) (p4 + (1 : Int32)) fun v17 =>
        some (.inl v17)
      )
    )
  )
theorem isGroups_eq0 {x1 : Int32} {h : hH} : f_Fo_isGroups x1 h = if x1 < (16 : Int32) then (
    some ((0 : Int32), h)
  ) else (
    bP (f_By_u4 5 ((rdI h 4 20) + (4 : Int32)) h) fun a1 =>
    if a1 ≤ (Int32.toInt64 x1) then (
      bP (f_By_u4 5 ((rdI h 4 20) + (12 : Int32)) h) fun a2 =>
      bP (f_HH_within a2 (1 : Int64) (40 : Int64)) fun a3 =>
      if a3 = 0 then (
        some ((0 : Int32), h)
      ) else (
        bP (f_By_u4 5 ((rdI h 4 20) + (4 : Int32)) h) fun a4 =>
        if ((16 : Int64) + ((12 : Int64) * a2)) ≤ a4 then (
          lz (wrI h 4 22 (Int64.toInt32 a2)) fun h1 =>
          bE (P := Unit) (X := (Int32 × hH)) (wh (grC h1) ((-1 : Int64), (0 : Int32))) fun p6 =>
          some ((1 : Int32), h1)
        ) else (
          some ((0 : Int32), h)
        )
      )
    ) else (
      some ((0 : Int32), h)
    )
  ) := rfl
theorem groups_eq0 {x1 : Int32} {h : hH} : f_Mo_groups x1 h = if (16 : Int32) ≤ x1 then (
    bP (f_Mo_u4 ((rdI h 192 21) + (4 : Int32)) h) fun a1 =>
    bP (f_Mo_u4 ((rdI h 192 21) + (12 : Int32)) h) fun a2 =>
    if (Int32.toInt64 x1) < a1 then (
      some ((0 : Int32), h)
    ) else (
      bP (f_Mo_in a2 (1 : Int64) (40 : Int64)) fun a3 =>
      if a3 = 0 then (
        some ((0 : Int32), h)
      ) else (
        if ((16 : Int64) + ((12 : Int64) * a2)) ≤ a1 then (
          lz (wrI h 192 23 (Int64.toInt32 a2)) fun h1 =>
          bE (P := Unit) (X := (Int32 × hH)) (wh (grM h1) (0 : Int32)) fun p5 =>
          some ((1 : Int32), h1)
        ) else (
          some ((0 : Int32), h)
        )
      )
    )
  ) else (
    some ((0 : Int32), h)
  ) := rfl
def Gc (B : Nat → Int32) (mb p : Int32) : Prop := gS B mb p ≤ gE B mb p ∧ (p = 0 ∨ gE B mb (p - 1) < gS B mb p)
theorem L_grC {B : Nat → Int32} {s mb v k : Int32} {c : hH} (cb : CB B s c) (s0 : 0 ≤ s) (s1 : s ≤ 12000) (e20 : rdI c 4 20 = mb) (e22 : rdI c 4 22 = k) (m0 : 0 ≤ mb) (m1 : mb ≤ 12000) (mv : mb + v ≤ s) (v0 : 0 ≤ v) (v1 : v ≤ 12000) (k0 : 1 ≤ k) (k1 : k ≤ 40) (hk : 16 + 12 * k ≤ v) : (wh (grC c) (-1, 0) = some (.inl ()) ∧ ∀ p, 0 ≤ p → p < k → Gc B mb p) ∨ (wh (grC c) (-1, 0) = some (.inr (0, c)) ∧ ∃ p, 0 ≤ p ∧ p < k ∧ ¬ Gc B mb p) := by
  have key : ∀ (t : Nat) (i : Int32) (w : Int64), 0 ≤ i → i ≤ k → k.toNatClampNeg - i.toNatClampNeg = t → (w = if i = 0 then -1 else gE B mb (i - 1)) → (wh (grC c) (w, i) = some (.inl ()) ∧ ∀ p, i ≤ p → p < k → Gc B mb p) ∨ (wh (grC c) (w, i) = some (.inr (0, c)) ∧ ∃ p, 0 ≤ p ∧ p < k ∧ ¬ Gc B mb p) := by
    intro t
    induction t with
    | zero =>
      intro i w i0 i1 e hw
      have le : k ≤ i := by
        by_cases u : i = k
        · rw [u]; exact Int32.le_refl _
        · have := (xI_lt (x := i) (y := k) i0 (by grind)).mpr (by grind)
          omega
      refine Or.inl ⟨?_, fun p a b => absurd (Int32.lt_of_le_of_lt (Int32.le_trans le a) b) (fun w => Int32.lt_irrefl w)⟩
      rw [wh_eq]
      unfold grC
      dsimp only
      rw [e22, if_pos le]
    | succ t ih =>
      intro i w i0 i1 e hw
      have lt : i < k := by
        by_cases u : i = k
        · rw [u] at e; omega
        · grind
      have ii : (i + 1).toNatClampNeg = i.toNatClampNeg + 1 := xI_succ (m := 20000) i0 (by grind) (by decide)
      obtain ⟨⟨x1, x2⟩, ⟨x3, x4⟩, _, _⟩ := ar_gg m0 m1 mv v0 v1 s1 k0 k1 hk i0 lt
      have eC : grC c (w, i) = if gE B mb i < gS B mb i then some (.inr (.inr ((0 : Int32), c))) else (if w < gS B mb i then some (.inl (gE B mb i, i + 1)) else some (.inr (.inr ((0 : Int32), c)))) := by
        unfold grC
        dsimp only
        rw [e22, if_neg (Int32.not_le.mpr lt), e20, g_e.1, cU4 cb s0 s1 x1 x2, cU4 cb s0 s1 x3 x4]
        rfl
      have wi : w < gS B mb i ↔ (i = 0 ∨ gE B mb (i - 1) < gS B mb i) := by
        by_cases q : i = 0
        · rw [hw, if_pos q]
          refine ⟨fun _ => Or.inl q, fun _ => ?_⟩
          rw [Int64.lt_iff_toInt_lt]
          have := (u4B_r B (mb + 16 + 12 * i).toNatClampNeg).1
          have z : (-1 : Int64).toInt = -1 := rfl
          unfold gS
          omega
        · rw [hw, if_neg q]
          exact ⟨Or.inr, fun h => h.resolve_left q⟩
      by_cases q1 : gE B mb i < gS B mb i
      · rw [if_pos q1] at eC
        exact Or.inr ⟨by rw [wh_eq, eC], i, i0, lt, fun g => absurd q1 (Int64.not_lt.mpr g.1)⟩
      rw [if_neg q1] at eC
      by_cases q2 : w < gS B mb i
      · rw [if_pos q2] at eC
        have w1 : wh (grC c) (w, i) = wh (grC c) (gE B mb i, i + 1) := by rw [wh_eq, eC]
        rw [w1]
        rcases ih (i + 1) (gE B mb i) (by grind) (by grind) (by omega) (by rw [if_neg (by grind), show i + 1 - 1 = i by grind]) with ⟨h1, h2⟩ | h
        · refine Or.inl ⟨h1, fun p a b => ?_⟩
          by_cases u : p = i
          · rw [u]; exact ⟨Int64.not_lt.mp q1, wi.mp q2⟩
          · exact h2 p (by grind) b
        · exact Or.inr h
      · rw [if_neg q2] at eC
        exact Or.inr ⟨by rw [wh_eq, eC], i, i0, lt, fun g => q2 (wi.mpr g.2)⟩
  rcases key _ 0 (-1) (by decide) (by grind) rfl rfl with h | h
  · exact Or.inl h
  · exact Or.inr h
theorem L_grM {B : Nat → Int32} {s mb v k : Int32} {m : hH} (mB : MB B s m) (s0 : 0 ≤ s) (s1 : s ≤ 12000) (e21 : rdI m 192 21 = mb) (e23 : rdI m 192 23 = k) (m0 : 0 ≤ mb) (m1 : mb ≤ 12000) (mv : mb + v ≤ s) (v0 : 0 ≤ v) (v1 : v ≤ 12000) (k0 : 1 ≤ k) (k1 : k ≤ 40) (hk : 16 + 12 * k ≤ v) : (wh (grM m) 0 = some (.inl ()) ∧ ∀ p, 0 ≤ p → p < k → (gS B mb p ≤ gE B mb p ∧ (p + 1 < k → gE B mb p < gS B mb (p + 1)))) ∨ (wh (grM m) 0 = some (.inr (0, m)) ∧ ∃ p, 0 ≤ p ∧ p < k ∧ ¬ (gS B mb p ≤ gE B mb p ∧ (p + 1 < k → gE B mb p < gS B mb (p + 1)))) := by
  have key : ∀ (t : Nat) (i : Int32), 0 ≤ i → i ≤ k → k.toNatClampNeg - i.toNatClampNeg = t → (wh (grM m) i = some (.inl ()) ∧ ∀ p, i ≤ p → p < k → (gS B mb p ≤ gE B mb p ∧ (p + 1 < k → gE B mb p < gS B mb (p + 1)))) ∨ (wh (grM m) i = some (.inr (0, m)) ∧ ∃ p, 0 ≤ p ∧ p < k ∧ ¬ (gS B mb p ≤ gE B mb p ∧ (p + 1 < k → gE B mb p < gS B mb (p + 1)))) := by
    intro t
    induction t with
    | zero =>
      intro i i0 i1 e
      have le : k ≤ i := by
        by_cases u : i = k
        · rw [u]; exact Int32.le_refl _
        · have := (xI_lt (x := i) (y := k) i0 (by grind)).mpr (by grind)
          omega
      refine Or.inl ⟨?_, fun p a b => absurd (Int32.lt_of_le_of_lt (Int32.le_trans le a) b) (fun w => Int32.lt_irrefl w)⟩
      rw [wh_eq]
      unfold grM
      rw [e23, if_pos le]
    | succ t ih =>
      intro i i0 i1 e
      have lt : i < k := by
        by_cases u : i = k
        · rw [u] at e; omega
        · grind
      have ii : (i + 1).toNatClampNeg = i.toNatClampNeg + 1 := xI_succ (m := 20000) i0 (by grind) (by decide)
      obtain ⟨⟨x1, x2⟩, ⟨x3, x4⟩, _, x5⟩ := ar_gg m0 m1 mv v0 v1 s1 k0 k1 hk i0 lt
      have nxt : ∀ (ok : gS B mb i ≤ gE B mb i ∧ (i + 1 < k → gE B mb i < gS B mb (i + 1))), grM m i = some (.inl (i + 1)) → (wh (grM m) i = some (.inl ()) ∧ ∀ p, i ≤ p → p < k → (gS B mb p ≤ gE B mb p ∧ (p + 1 < k → gE B mb p < gS B mb (p + 1)))) ∨ (wh (grM m) i = some (.inr (0, m)) ∧ ∃ p, 0 ≤ p ∧ p < k ∧ ¬ (gS B mb p ≤ gE B mb p ∧ (p + 1 < k → gE B mb p < gS B mb (p + 1)))) := fun ok st => by
        have w1 : wh (grM m) i = wh (grM m) (i + 1) := by rw [wh_eq, st]
        rw [w1]
        rcases ih (i + 1) (by grind) (by grind) (by omega) with ⟨h1, h2⟩ | h
        · refine Or.inl ⟨h1, fun p a b => ?_⟩
          by_cases u : p = i
          · rw [u]; exact ok
          · exact h2 p (by grind) b
        · exact Or.inr h
      by_cases q1 : gE B mb i < gS B mb i
      · refine Or.inr ⟨?_, i, i0, lt, fun g => absurd q1 (Int64.not_lt.mpr g.1)⟩
        rw [wh_eq]
        unfold grM
        rw [e23, if_neg (Int32.not_le.mpr lt), lz_eq, e21, mU4 mB s0 s1 x1 x2, mU4 mB s0 s1 x3 x4, bP_some, bP_some]
        have q1' : u4B B (mb + 16 + 12 * i + 4).toNatClampNeg < u4B B (mb + 16 + 12 * i).toNatClampNeg := q1
        rw [if_pos q1']
      have q1' : ¬ u4B B (mb + 16 + 12 * i + 4).toNatClampNeg < u4B B (mb + 16 + 12 * i).toNatClampNeg := q1
      by_cases q2 : k ≤ i + 1
      · refine nxt ⟨Int64.not_lt.mp q1, fun w => absurd w (Int32.not_lt.mpr q2)⟩ ?_
        unfold grM
        rw [e23, if_neg (Int32.not_le.mpr lt), lz_eq, e21, mU4 mB s0 s1 x1 x2, mU4 mB s0 s1 x3 x4, bP_some, bP_some, if_neg q1', if_pos q2, cO_f, lz_eq]
      · have l2 : i + 1 < k := Int32.not_le.mp q2
        obtain ⟨x6, x7⟩ := x5 l2
        have e3 : u4B B (mb + 16 + 12 * i + 12).toNatClampNeg = gS B mb (i + 1) := by
          unfold gS
          rw [g_e.2]
        by_cases q3 : gE B mb i < gS B mb (i + 1)
        · refine nxt ⟨Int64.not_lt.mp q1, fun _ => q3⟩ ?_
          unfold grM
          rw [e23, if_neg (Int32.not_le.mpr lt), lz_eq, e21, mU4 mB s0 s1 x1 x2, mU4 mB s0 s1 x3 x4, bP_some, bP_some, if_neg q1', if_neg q2, mU4 mB s0 s1 x6 x7, bP_some, bP_some, e3]
          have q3' : u4B B (mb + 16 + 12 * i + 4).toNatClampNeg < gS B mb (i + 1) := q3
          rw [if_pos q3', cO_f, lz_eq]
        · refine Or.inr ⟨?_, i, i0, lt, fun g => q3 (g.2 l2)⟩
          rw [wh_eq]
          unfold grM
          rw [e23, if_neg (Int32.not_le.mpr lt), lz_eq, e21, mU4 mB s0 s1 x1 x2, mU4 mB s0 s1 x3 x4, bP_some, bP_some, if_neg q1', if_neg q2, mU4 mB s0 s1 x6 x7, bP_some, bP_some, e3]
          have q3' : ¬ u4B B (mb + 16 + 12 * i + 4).toNatClampNeg < gS B mb (i + 1) := q3
          rw [if_neg q3', cO_t]
  exact key _ 0 (by decide) (by grind) rfl
theorem Gcm {B : Nat → Int32} {mb k : Int32} (k1 : k ≤ 40) : (∀ p, 0 ≤ p → p < k → Gc B mb p) ↔ (∀ p, 0 ≤ p → p < k → (gS B mb p ≤ gE B mb p ∧ (p + 1 < k → gE B mb p < gS B mb (p + 1)))) := by
  constructor
  · intro h p p0 p1
    refine ⟨(h p p0 p1).1, fun w => ?_⟩
    have := (h (p + 1) (by grind) w).2
    rw [show p + 1 - 1 = p by grind] at this
    exact this.resolve_left (by grind)
  · intro h p p0 p1
    refine ⟨(h p p0 p1).1, ?_⟩
    by_cases q : p = 0
    · exact Or.inl q
    · right
      have := (h (p - 1) (by grind) (by grind)).2 (by grind)
      rw [show p - 1 + 1 = p by grind] at this
      exact this
theorem k32 {a2 : Int64} (h : (1 : Int64) ≤ a2 ∧ a2 ≤ 40) {v : Int32} (v1 : v ≤ 12000) (hv : 16 + 12 * a2 ≤ v.toInt64) : 1 ≤ a2.toInt32 ∧ a2.toInt32 ≤ 40 ∧ 16 + 12 * a2.toInt32 ≤ v := by
  have z1 : (1 : Int64).toInt = 1 := rfl
  have z40 : (40 : Int64).toInt = 40 := rfl
  have a := Int64.le_iff_toInt_le.mp h.1
  have b := Int64.le_iff_toInt_le.mp h.2
  rw [z1] at a
  rw [z40] at b
  have e := i64_32 (x := a2) (by omega) (by omega)
  have y1 : (1 : Int32).toInt = 1 := rfl
  have y40 : (40 : Int32).toInt = 40 := rfl
  have z12 : (12 : Int64).toInt = 12 := rfl
  have z16 : (16 : Int64).toInt = 16 := rfl
  have y12 : (12 : Int32).toInt = 12 := rfl
  have y16 : (16 : Int32).toInt = 16 := rfl
  have c := Int64.le_iff_toInt_le.mp hv
  rw [Int32.toInt_toInt64, i64_add (by rw [i64_mul (by rw [z12]; omega) (by rw [z12]; omega), z12, z16]; omega) (by rw [i64_mul (by rw [z12]; omega) (by rw [z12]; omega), z12, z16]; omega), i64_mul (by rw [z12]; omega) (by rw [z12]; omega), z12, z16] at c
  refine ⟨Int32.le_iff_toInt_le.mpr (by rw [y1, e]; omega), Int32.le_iff_toInt_le.mpr (by rw [y40, e]; omega), Int32.le_iff_toInt_le.mpr ?_⟩
  rw [i32_add (by rw [i32_mul (by rw [y12, e]; omega) (by rw [y12, e]; omega), y12, y16, e]; omega) (by rw [i32_mul (by rw [y12, e]; omega) (by rw [y12, e]; omega), y12, y16, e]; omega), i32_mul (by rw [y12, e]; omega) (by rw [y12, e]; omega), y12, y16, e]
  exact c
def MR12 (s mb k : Int32) : Prop := (1 ≤ k ∧ k ≤ 40) ∧ mb + (16 + 12 * k) ≤ s
theorem L_groups {B : Nat → Int32} {s mb v : Int32} {c m : hH} (cb : CB B s c) (mB : MB B s m) (s0 : 0 ≤ s) (s1 : s ≤ 12000) (e20 : rdI c 4 20 = mb) (e21 : rdI m 192 21 = mb) (m0 : 0 ≤ mb) (m1 : mb ≤ 12000) (v0 : 0 ≤ v) (v1 : v ≤ 12000) (mv : mb + v ≤ s) : ∃ a c' m', f_Fo_isGroups v c = some (a, c') ∧ f_Mo_groups v m = some (a, m') ∧ FC4 [22] c c' ∧ FM4 [23] m m' ∧ (a = 0 ∨ (a = 1 ∧ rdI m' 192 23 = rdI c' 4 22 ∧ MR12 s mb (rdI c' 4 22))) := by
  have n10 : ¬ (1 : Int32) = 0 := by decide
  rw [isGroups_eq0, groups_eq0]
  by_cases q : v < 16
  · rw [if_pos q, if_neg (Int32.not_le.mpr q)]
    exact ⟨_, _, _, rfl, rfl, FC4_rfl, FM4_rfl, Or.inl rfl⟩
  have q16 : 16 ≤ v := Int32.not_lt.mp q
  rw [if_neg q, if_pos q16, e20, e21, cU4 (p := mb + 4) cb s0 s1 (by grind) (by grind), mU4 (p := mb + 4) mB s0 s1 (by grind) (by grind), cU4 (p := mb + 12) cb s0 s1 (by grind) (by grind), mU4 (p := mb + 12) mB s0 s1 (by grind) (by grind)]
  simp only [bP_some, f_HH_within_eq, f_Mo_in_eq]
  generalize u4B B (mb + 4).toNatClampNeg = a1
  generalize u4B B (mb + 12).toNatClampNeg = a2
  by_cases q1n : ¬ (a1 ≤ v.toInt64)
  · rw [if_neg q1n, if_pos (Int64.not_le.mp q1n)]
    exact ⟨_, _, _, rfl, rfl, FC4_rfl, FM4_rfl, Or.inl rfl⟩
  have q1 : a1 ≤ v.toInt64 := Decidable.not_not.mp q1n
  rw [if_pos q1, if_neg (Int64.not_lt.mpr q1)]
  by_cases q2n : ¬ ((1 : Int64) ≤ a2 ∧ a2 ≤ 40)
  · rw [if_neg q2n, if_pos rfl, if_pos rfl]
    exact ⟨_, _, _, rfl, rfl, FC4_rfl, FM4_rfl, Or.inl rfl⟩
  have q2 : (1 : Int64) ≤ a2 ∧ a2 ≤ 40 := Decidable.not_not.mp q2n
  rw [if_pos q2, if_neg n10, if_neg n10]
  by_cases q3n : ¬ (16 + 12 * a2 ≤ a1)
  · rw [if_neg q3n, if_neg q3n]
    exact ⟨_, _, _, rfl, rfl, FC4_rfl, FM4_rfl, Or.inl rfl⟩
  have q3 : 16 + 12 * a2 ≤ a1 := Decidable.not_not.mp q3n
  rw [if_pos q3, if_pos q3, lz_eq, lz_eq]
  obtain ⟨k0, k1, hk⟩ := k32 q2 v1 (Int64.le_trans q3 q1)
  generalize a2.toInt32 = k at k0 k1 hk
  have fc1 : FC4 [22] c (wrI c 4 22 k) := FC4_w FC4_rfl (by decide)
  have c22 : rdI (wrI c 4 22 k) 4 22 = k := by rw [rdI_wrI, if_pos ⟨rfl, rfl⟩]
  have c20 : rdI (wrI c 4 22 k) 4 20 = mb := by simp only [rdI_wrI, rdP_wrI, rdL_wrI, Nat.reduceEqDiff, false_and, and_false, true_and, and_true, eq_self, reduceIte, ite_self]; exact e20
  have cb1 := CB_4 fc1 cb
  have fm1 : FM4 [23] m (wrI m 192 23 k) := FM4_w FM4_rfl (by decide)
  have mB1 := MB_4 fm1 (by decide) mB
  have m21 : rdI (wrI m 192 23 k) 192 21 = mb := by simp only [rdI_wrI, rdP_wrI, rdL_wrI, Nat.reduceEqDiff, false_and, and_false, true_and, and_true, eq_self, reduceIte, ite_self]; exact e21
  have m23 : rdI (wrI m 192 23 k) 192 23 = k := by rw [rdI_wrI, if_pos ⟨rfl, rfl⟩]
  have A := L_grC cb1 s0 s1 c20 c22 m0 m1 mv v0 v1 k0 k1 hk
  have M := L_grM mB1 s0 s1 m21 m23 m0 m1 mv v0 v1 k0 k1 hk
  rcases A with ⟨a, b⟩ | ⟨a, p, p0, p1, p2⟩
  · rcases M with ⟨x, _⟩ | ⟨_, p, p0, p1, p2⟩
    · rw [a, x]
      refine ⟨_, _, _, rfl, rfl, fc1, fm1, Or.inr ⟨rfl, by rw [m23, c22], ?_⟩⟩
      rw [c22]
      exact ⟨⟨k0, k1⟩, by grind⟩
    · exact absurd ((Gcm k1).mp b p p0 p1) p2
  · rcases M with ⟨_, y⟩ | ⟨x, _⟩
    · exact absurd ((Gcm k1).mpr y p p0 p1) p2
    · rw [a, x]
      exact ⟨_, _, _, rfl, rfl, fc1, fm1, Or.inl rfl⟩
