/-! LAYER 3CC: records of the map, on both sides -/
/-- the rank of a record -/
def rkV (a b : Int32) : Int32 := if (a = 3 ∧ b = 10) then 0 else (if (a = 3 ∧ b = 1) then 1 else (if a = 1 then (if b = 0 then 2 else 9) else 9))
def rk (B : Nat → Int32) (b p : Int32) : Int32 := rkV (u2B B (b + 4 + 8 * p).toNatClampNeg) (u2B B (b + 4 + 8 * p + 2).toNatClampNeg)
theorem rkV_c (a b : Int32) : rkV a b = 0 ∨ rkV a b = 1 ∨ rkV a b = 2 ∨ rkV a b = 9 := by
  unfold rkV
  split
  · exact Or.inl rfl
  · split
    · exact Or.inr (Or.inl rfl)
    · split
      · split
        · exact Or.inr (Or.inr (Or.inl rfl))
        · exact Or.inr (Or.inr (Or.inr rfl))
      · exact Or.inr (Or.inr (Or.inr rfl))
theorem rkV_0 {a b : Int32} : rkV a b = 0 ↔ (a = 3 ∧ b = 10) := by
  unfold rkV
  constructor
  · intro h
    by_cases q : a = 3 ∧ b = 10
    · exact q
    · rw [if_neg q] at h
      split at h
      · exact absurd h (by decide)
      · split at h
        · split at h <;> exact absurd h (by decide)
        · exact absurd h (by decide)
  · intro h
    rw [if_pos h]
theorem rkV_1 {a b : Int32} : rkV a b = 1 ↔ (a = 3 ∧ b = 1) := by
  unfold rkV
  constructor
  · intro h
    by_cases q0 : a = 3 ∧ b = 10
    · rw [if_pos q0] at h; exact absurd h (by decide)
    · rw [if_neg q0] at h
      by_cases q : a = 3 ∧ b = 1
      · exact q
      · rw [if_neg q] at h
        split at h
        · split at h <;> exact absurd h (by decide)
        · exact absurd h (by decide)
  · intro h
    rw [if_neg (fun w => by have := h.2.symm.trans w.2; exact absurd this (by decide)), if_pos h]
theorem rkV_2 {a b : Int32} : rkV a b = 2 ↔ (a = 1 ∧ b = 0) := by
  unfold rkV
  constructor
  · intro h
    split at h
    · exact absurd h (by decide)
    · split at h
      · exact absurd h (by decide)
      · split at h
        · rename_i e
          split at h
          · rename_i f
            exact ⟨e, f⟩
          · exact absurd h (by decide)
        · exact absurd h (by decide)
  · rintro ⟨rfl, rfl⟩
    decide
theorem ar_r {b l s n p : Int32} (b0 : 0 ≤ b) (b1 : b ≤ 12000) (l1 : l ≤ 12000) (bl : b + l ≤ s) (s1 : s ≤ 12000) (n0 : 1 ≤ n) (n1 : n ≤ 8) (hl : 4 + 8 * n ≤ l) (p0 : 0 ≤ p) (p1 : p < n) : (0 ≤ b + 4 + 8 * p ∧ b + 4 + 8 * p ≤ s - 2) ∧ (0 ≤ b + 4 + 8 * p + 2 ∧ b + 4 + 8 * p + 2 ≤ s - 2) ∧ (0 ≤ b + 4 + 8 * p + 4 ∧ b + 4 + 8 * p + 4 ≤ s - 4) ∧ b + 4 + 8 * p ≠ -1 := by
  refine ⟨⟨?_, ?_⟩, ⟨?_, ?_⟩, ⟨?_, ?_⟩, ?_⟩ <;> grind
noncomputable def rcL (x1 x2 x3 x4 : Int32) (h : hH) (p1 : Int32) : Option (Int32 ⊕ (Unit ⊕ Int32)) :=
  if x2 ≤ p1 then (
    some (.inr (.inl ()))
  ) else (
    lz (A := Int32) ((x1 + (4 : Int32)) + ((8 : Int32) * p1)) fun v3 =>
    bP (f_By_u2 5 v3 h) fun a4 =>
    cO (
      if a4 = x3 then (
        bP (f_By_u2 5 (v3 + (2 : Int32)) h) fun a5 =>
        if a5 = x4 then (
          some true
        ) else (
          some false
        )
      ) else (
        some false
      )
    ) (
      some (.inr (.inr v3))
    ) (
      lz (A := Int32) (p1 + (1 : Int32)) fun v11 =>
      some (.inl v11)
    )
  )
theorem recordOf_eq0 {x1 x2 x3 x4 : Int32} {h : hH} : f_Fo_recordOf x1 x2 x3 x4 h = bE (P := Unit) (X := Int32) (wh (rcL x1 x2 x3 x4 h) (0 : Int32)) fun p2 => some (-1 : Int32) := rfl
theorem rec_eq {B : Nat → Int32} {s b l n x3 x4 r : Int32} {c : hH} (cb : CB B s c) (s0 : 0 ≤ s) (s1 : s ≤ 12000) (b0 : 0 ≤ b) (b1 : b ≤ 12000) (l1 : l ≤ 12000) (bl : b + l ≤ s) (n0 : 1 ≤ n) (n1 : n ≤ 8) (hl : 4 + 8 * n ≤ l) (hr : ∀ a b : Int32, rkV a b = r ↔ (a = x3 ∧ b = x4)) : (∃ p, 0 ≤ p ∧ p < n ∧ f_Fo_recordOf b n x3 x4 c = some (b + 4 + 8 * p) ∧ rk B b p = r ∧ ∀ q, 0 ≤ q → q < p → rk B b q ≠ r) ∨ (f_Fo_recordOf b n x3 x4 c = some (-1) ∧ ∀ q, 0 ≤ q → q < n → rk B b q ≠ r) := by
  have st : ∀ p, 0 ≤ p → p < n → rcL b n x3 x4 c p = if rk B b p = r then some (.inr (.inr (b + 4 + 8 * p))) else some (.inl (p + 1)) := fun p p0 p1 => by
    obtain ⟨⟨a1, a2⟩, ⟨a3, a4⟩, _⟩ := ar_r b0 b1 l1 bl s1 n0 n1 hl p0 p1
    have h := hr (u2B B (b + 4 + 8 * p).toNatClampNeg) (u2B B (b + 4 + 8 * p + 2).toNatClampNeg)
    unfold rcL rk
    rw [if_neg (Int32.not_le.mpr p1), lz_eq, cU2 cb s0 s1 a1 a2, bP_some, cU2 cb s0 s1 a3 a4, bP_some]
    by_cases q1 : u2B B (b + 4 + 8 * p).toNatClampNeg = x3
    · rw [if_pos q1]
      by_cases q2 : u2B B (b + 4 + 8 * p + 2).toNatClampNeg = x4
      · rw [if_pos q2, cO_t, if_pos (h.mpr ⟨q1, q2⟩)]
      · rw [if_neg q2, cO_f, if_neg (fun w => q2 (h.mp w).2), lz_eq]
    · rw [if_neg q1, cO_f, if_neg (fun w => q1 (h.mp w).1), lz_eq]
  have key : ∀ (k : Nat) (i : Int32), 0 ≤ i → i ≤ n → n.toNatClampNeg - i.toNatClampNeg = k → (∀ q, 0 ≤ q → q < i → rk B b q ≠ r) → (∃ p, 0 ≤ p ∧ p < n ∧ wh (rcL b n x3 x4 c) i = some (.inr (b + 4 + 8 * p)) ∧ rk B b p = r ∧ ∀ q, 0 ≤ q → q < p → rk B b q ≠ r) ∨ (wh (rcL b n x3 x4 c) i = some (.inl ()) ∧ ∀ q, 0 ≤ q → q < n → rk B b q ≠ r) := by
    intro k
    induction k with
    | zero =>
      intro i i0 i1 e pr
      have ei : i = n := by
        by_cases w : i = n
        · exact w
        · have := (xI_lt (x := i) (y := n) i0 (by grind)).mpr (by grind)
          omega
      refine Or.inr ⟨?_, fun q a b => pr q a (by rw [ei]; exact b)⟩
      rw [wh_eq]
      unfold rcL
      rw [if_pos (by rw [ei]; exact Int32.le_refl _)]
    | succ k ih =>
      intro i i0 i1 e pr
      have lt : i < n := by
        by_cases w : i = n
        · rw [w] at e; omega
        · grind
      have ii : (i + 1).toNatClampNeg = i.toNatClampNeg + 1 := xI_succ (m := 20000) i0 (by grind) (by decide)
      have s := st i i0 lt
      by_cases q : rk B b i = r
      · rw [if_pos q] at s
        exact Or.inl ⟨i, i0, lt, by rw [wh_eq, s], q, pr⟩
      · rw [if_neg q] at s
        have w : wh (rcL b n x3 x4 c) i = wh (rcL b n x3 x4 c) (i + 1) := by rw [wh_eq, s]
        rw [w]
        exact ih (i + 1) (by grind) (by grind) (by omega) (fun t a b => by
          by_cases u : t = i
          · rw [u]; exact q
          · exact pr t a (by grind))
  rw [recordOf_eq0]
  rcases key _ 0 (by decide) (by grind) rfl (fun q a b => absurd b (Int32.not_lt.mpr a)) with ⟨p, a1, a2, a3, a4, a5⟩ | ⟨a1, a2⟩
  · exact Or.inl ⟨p, a1, a2, by rw [a3]; rfl, a4, a5⟩
  · exact Or.inr ⟨by rw [a1]; rfl, a2⟩
noncomputable def mrL (a1 p3 : Int32) (h : hH) (p8 : Int32 × Int64 × Int32) : Option ((Int32 × Int64 × Int32) ⊕ (Int32 × Int64)) :=
  if p3 ≤ p8.2.2 then (
    some (.inr (p8.1, p8.2.1))
  ) else (
    lz (A := Int32) ((a1 + (4 : Int32)) + ((8 : Int32) * p8.2.2)) fun v10 =>
    bP (f_Mo_u2 v10 h) fun a11 =>
    bP (f_Mo_u2 (v10 + (2 : Int32)) h) fun a12 =>
    lz (A := Int32) (if (a11 = (3 : Int32) ∧ a12 = (10 : Int32)) then (0 : Int32) else (if (a11 = (3 : Int32) ∧ a12 = (1 : Int32)) then (1 : Int32) else (if a11 = (1 : Int32) then (if a12 = 0 then (2 : Int32) else (9 : Int32)) else (9 : Int32)))) fun p13 =>
    bP (A := (Int32 × Int64)) (
      if p8.1 ≤ p13 then (
        some (p8.1, p8.2.1)
      ) else (
        bP (f_Mo_u4 (v10 + (4 : Int32)) h) fun a27 =>
        some (p13, a27)
      )
    ) fun p26 =>
    lz (A := Int32) (p8.2.2 + (1 : Int32)) fun v29 =>
    some (.inl (p26.1, p26.2, v29))
  )
/-- the record that is chosen -/
def RC (B : Nat → Int32) (b : Int32) (i : Int32) (x : Int32 × Int64) : Prop := (x.1 = 9 ∧ ∀ q, 0 ≤ q → q < i → rk B b q = 9) ∨ (∃ p, 0 ≤ p ∧ p < i ∧ x.1 = rk B b p ∧ rk B b p < 9 ∧ x.2 = u4B B (b + 4 + 8 * p + 4).toNatClampNeg ∧ (∀ q, 0 ≤ q → q < p → rk B b p < rk B b q) ∧ ∀ q, 0 ≤ q → q < i → rk B b p ≤ rk B b q)
theorem mr_eq {B : Nat → Int32} {s b l n : Int32} {m : hH} (mb : MB B s m) (s0 : 0 ≤ s) (s1 : s ≤ 12000) (b0 : 0 ≤ b) (b1 : b ≤ 12000) (l1 : l ≤ 12000) (bl : b + l ≤ s) (n0 : 1 ≤ n) (n1 : n ≤ 8) (hl : 4 + 8 * n ≤ l) : ∃ x, wh (mrL b n m) ((9 : Int32), (0 : Int64), (0 : Int32)) = some x ∧ RC B b n x := by
  have r9 : ∀ q, rk B b q ≤ 9 := fun q => by
    have := rkV_c (u2B B (b + 4 + 8 * q).toNatClampNeg) (u2B B (b + 4 + 8 * q + 2).toNatClampNeg)
    unfold rk
    rcases this with h | h | h | h <;> rw [h] <;> decide
  have key : ∀ (k : Nat) (i : Int32) (x : Int32 × Int64), 0 ≤ i → i ≤ n → n.toNatClampNeg - i.toNatClampNeg = k → RC B b i x → ∃ y, wh (mrL b n m) (x.1, x.2, i) = some y ∧ RC B b n y := by
    intro k
    induction k with
    | zero =>
      intro i x i0 i1 e rc
      have ei : i = n := by
        by_cases w : i = n
        · exact w
        · have := (xI_lt (x := i) (y := n) i0 (by grind)).mpr (by grind)
          omega
      refine ⟨x, ?_, by rw [← ei]; exact rc⟩
      rw [wh_eq]
      unfold mrL
      dsimp only
      rw [if_pos (by rw [ei]; exact Int32.le_refl _)]
    | succ k ih =>
      intro i x i0 i1 e rc
      have lt : i < n := by
        by_cases w : i = n
        · rw [w] at e; omega
        · grind
      have ii : (i + 1).toNatClampNeg = i.toNatClampNeg + 1 := xI_succ (m := 20000) i0 (by grind) (by decide)
      obtain ⟨⟨a1, a2⟩, ⟨a3, a4⟩, ⟨a5, a6⟩, _⟩ := ar_r (p := i) b0 b1 l1 bl s1 n0 n1 hl i0 lt
      have ek : (if (u2B B (b + 4 + 8 * i).toNatClampNeg = (3 : Int32) ∧ u2B B (b + 4 + 8 * i + 2).toNatClampNeg = (10 : Int32)) then (0 : Int32) else (if (u2B B (b + 4 + 8 * i).toNatClampNeg = (3 : Int32) ∧ u2B B (b + 4 + 8 * i + 2).toNatClampNeg = (1 : Int32)) then (1 : Int32) else (if u2B B (b + 4 + 8 * i).toNatClampNeg = (1 : Int32) then (if u2B B (b + 4 + 8 * i + 2).toNatClampNeg = 0 then (2 : Int32) else (9 : Int32)) else (9 : Int32)))) = rk B b i := rfl
      have st : mrL b n m (x.1, x.2, i) = some (.inl (if x.1 ≤ rk B b i then (x.1, x.2, i + 1) else (rk B b i, u4B B (b + 4 + 8 * i + 4).toNatClampNeg, i + 1))) := by
        unfold mrL
        dsimp only
        rw [if_neg (Int32.not_le.mpr lt), lz_eq, mU2 mb s0 s1 a1 a2, bP_some, mU2 mb s0 s1 a3 a4, bP_some, lz_eq, ek, mU4 mb s0 s1 a5 a6, bP_some]
        by_cases q : x.1 ≤ rk B b i
        · rw [if_pos q, if_pos q, bP_some, lz_eq]
        · rw [if_neg q, if_neg q, bP_some, lz_eq]
      have w : wh (mrL b n m) (x.1, x.2, i) = wh (mrL b n m) (if x.1 ≤ rk B b i then (x.1, x.2, i + 1) else (rk B b i, u4B B (b + 4 + 8 * i + 4).toNatClampNeg, i + 1)) := by rw [wh_eq, st]
      rw [w]
      by_cases q : x.1 ≤ rk B b i
      · rw [if_pos q]
        refine ih (i + 1) x (by grind) (by grind) (by omega) ?_
        rcases rc with ⟨c1, c2⟩ | ⟨p, c1, c2, c3, c4, c5, c6, c7⟩
        · refine Or.inl ⟨c1, fun t ta tb => ?_⟩
          by_cases u : t = i
          · rw [u]
            have := r9 i
            rw [c1] at q
            grind
          · exact c2 t ta (by grind)
        · refine Or.inr ⟨p, c1, by grind, c3, c4, c5, c6, fun t ta tb => ?_⟩
          by_cases u : t = i
          · rw [u, ← c3]; exact q
          · exact c7 t ta (by grind)
      · rw [if_neg q]
        have lt2 : rk B b i < x.1 := Int32.not_le.mp q
        refine ih (i + 1) (rk B b i, u4B B (b + 4 + 8 * i + 4).toNatClampNeg) (by grind) (by grind) (by omega) (Or.inr ⟨i, i0, by grind, rfl, ?_, rfl, fun t ta tb => ?_, fun t ta tb => ?_⟩)
        · rcases rc with ⟨c1, _⟩ | ⟨p, _, _, c3, c4, _⟩
          · rw [c1] at lt2; exact lt2
          · rw [c3] at lt2; exact Int32.lt_trans lt2 c4
        · rcases rc with ⟨c1, c2⟩ | ⟨p, _, _, c3, _, _, _, c7⟩
          · rw [c2 t ta tb]; rw [c1] at lt2; exact lt2
          · rw [c3] at lt2
            exact Int32.lt_of_lt_of_le lt2 (c7 t ta tb)
        · by_cases u : t = i
          · rw [u]; exact Int32.le_refl _
          · rcases rc with ⟨c1, c2⟩ | ⟨p, _, _, c3, _, _, _, c7⟩
            · rw [c2 t ta (by grind)]; exact r9 i
            · rw [c3] at lt2
              exact Int32.le_of_lt (Int32.lt_of_lt_of_le lt2 (c7 t ta (by grind)))
  exact key _ 0 (9, 0) (by decide) (by grind) rfl (Or.inl ⟨rfl, fun q a b => absurd b (Int32.not_lt.mpr a)⟩)
