/-! LAYER 3BU: sums of all tables; a table that is looked for -/
theorem i64_32 {x : Int64} (h0 : 0 ≤ x.toInt) (h1 : x.toInt ≤ 20000) : x.toInt32.toInt = x.toInt := by
  rw [Int64.toInt_toInt32]
  exact i32_bm (by omega) (by omega)
theorem tag_iff {v : Int64} (h0 : 0 ≤ v.toInt) (h1 : v.toInt < 4294967296) {t : Int32} (t0 : 0 ≤ t) : v = t.toInt64 ↔ v.toInt32 = t := by
  have z0 : (0 : Int32).toInt = 0 := rfl
  have a := Int32.le_iff_toInt_le.mp t0
  have e : t.toInt64.toInt = t.toInt := Int32.toInt_toInt64 t
  have r := i32_rng t
  constructor
  · intro q
    rw [q, Int32.toInt32_toInt64]
  · intro q
    rw [← mv64 h0 h1, ← mk64, q, mv64 (by omega) (by omega)]
/-- a table's place as ints -/
theorem PL_i {B : Nat → Int32} {s : Int32} {i : Nat} (s0 : 0 ≤ s) (s1 : s ≤ 12000) (h : PLc B s i) : (0 ≤ (u4B B (20 + 16 * i)).toInt32 ∧ (u4B B (20 + 16 * i)).toInt32 ≤ 12000) ∧ (0 ≤ (u4B B (24 + 16 * i)).toInt32 ∧ (u4B B (24 + 16 * i)).toInt32 ≤ 12000) ∧ (u4B B (20 + 16 * i)).toInt32 + (u4B B (24 + 16 * i)).toInt32 ≤ s ∧ (u4B B (24 + 16 * i)).toInt32.toInt = (u4B B (24 + 16 * i)).toInt := by
  have a := u4B_r B (20 + 16 * i)
  have b := u4B_r B (24 + 16 * i)
  have z0 : (0 : Int32).toInt = 0 := rfl
  have z12 : (12000 : Int32).toInt = 12000 := rfl
  have q0 := Int32.le_iff_toInt_le.mp s0
  have q1 := Int32.le_iff_toInt_le.mp s1
  rw [z0] at q0
  rw [z12] at q1
  unfold PLc at h
  have e1 := i64_32 (x := u4B B (20 + 16 * i)) a.1 (by omega)
  have e2 := i64_32 (x := u4B B (24 + 16 * i)) b.1 (by omega)
  refine ⟨⟨Int32.le_iff_toInt_le.mpr (by rw [z0, e1]; omega), Int32.le_iff_toInt_le.mpr (by rw [z12, e1]; omega)⟩, ⟨Int32.le_iff_toInt_le.mpr (by rw [z0, e2]; omega), Int32.le_iff_toInt_le.mpr (by rw [z12, e2]; omega)⟩, Int32.le_iff_toInt_le.mpr ?_, e2⟩
  rw [i32_add (by rw [e1, e2]; omega) (by rw [e1, e2]; omega), e1, e2]
  exact h
noncomputable def smsC (h : hH) (p1 : Int32) : Option (Int32 ⊕ (Unit ⊕ Int32)) :=
  if (rdI h 4 1) ≤ p1 then (
    some (.inr (.inl ()))
  ) else (
    gd (vp_in p1 16) <|
    bP (A := Int32) (
      if (rdL h 7 (Int32.toNatClampNeg p1)) = (1751474532 : Int64) then (
        gd (vp_in p1 16) <|
        if (rdL h 10 (Int32.toNatClampNeg p1)) ≤ (8 : Int64) then (
          some (-1 : Int32)
        ) else (
          gd (vp_in p1 16) <|
          some ((Int64.toInt32 (rdL h 9 (Int32.toNatClampNeg p1))) + (8 : Int32))
        )
      ) else (
        some (-1 : Int32)
      )
    ) fun p4 =>
    gd (vp_in p1 16) <|
    bP (f_By_sum 5 (Int64.toInt32 (rdL h 9 (Int32.toNatClampNeg p1))) (Int64.toInt32 (rdL h 10 (Int32.toNatClampNeg p1))) p4 h) fun a10 =>
    gd (vp_in p1 16) <|
    if a10 = (rdL h 8 (Int32.toNatClampNeg p1)) then (
      lz (A := Int32) (p1 + (1 : Int32)) fun v12 =>
      some (.inl v12)
    ) else (
      some (.inr (.inr (0 : Int32)))
    )
  )
theorem areSums_eq0 {h : hH} : f_Fo_areSums h = bE (P := Unit) (X := Int32) (wh (smsC h) (0 : Int32)) fun p2 => some (1 : Int32) := rfl
noncomputable def smsM (h1 : hH) (p33 : Int32) : Option (Int32 ⊕ (Unit ⊕ (Int32 × hH))) :=
  if (rdI h1 192 5) ≤ p33 then (
    some (.inr (.inl ()))
  ) else (
    gd (vp_in p33 16) <|
    lz (A := Int32) (Int64.toInt32 (rdL h1 197 (Int32.toNatClampNeg p33))) fun v35 =>
    gd (vp_in p33 16) <|
    lz (A := Int32) (if (rdI h1 195 (Int32.toNatClampNeg p33)) = (1751474532 : Int32) then (v35 + (8 : Int32)) else (-1 : Int32)) fun p38 =>
    bP (f_Mo_sumOf v35 (v35 + (Int64.toInt32 (rdL h1 198 (Int32.toNatClampNeg p33)))) p38 h1) fun a40 =>
    gd (vp_in p33 16) <|
    if a40 = (Int64.toInt32 (rdL h1 196 (Int32.toNatClampNeg p33))) then (
      lz (A := Int32) (p33 + (1 : Int32)) fun v42 =>
      some (.inl v42)
    ) else (
      some (.inr (.inr ((4 : Int32), h1)))
    )
  )
theorem L_sums {B : Nat → Int32} {s n : Int32} {c m : hH} (cb : CB B s c) (mb : MB B s m) (s0 : 0 ≤ s) (s1 : s ≤ 12000) (d : DR B s n c m) (pl : ∀ i, i < n.toNatClampNeg → PLc B s i) : (f_Fo_areSums c = some 1 ∧ wh (smsM m) 0 = some (.inl ())) ∨ (f_Fo_areSums c = some 0 ∧ wh (smsM m) 0 = some (.inr (4, m))) := by
  obtain ⟨⟨d1, d2⟩, ⟨n0, n1, _⟩, dc, dm⟩ := d
  have key := wh_two (f := smsC c) (g := smsM m) (P := fun _ => True) (a := 0) (n := n) (x := (0 : Int32)) (y := ((4 : Int32), m)) (by decide) (by grind) (by grind) (fun p hp => by unfold smsC; rw [d1, if_pos hp]) (fun p hp => by unfold smsM; rw [d2, if_pos hp]) (fun p p0 p1 => by
    have v : vp_in p 16 := vp_lt (n := 16) (m := 16) p0 (by grind) rfl
    have l1 := (xI_lt p0 (by grind)).mpr p1
    obtain ⟨c7, c8, c9, c10⟩ := dc _ l1
    obtain ⟨m7, m8, m9, m10⟩ := dm _ l1
    obtain ⟨⟨b0, b1⟩, ⟨k0, k1⟩, bk, ke⟩ := PL_i s0 s1 (pl _ l1)
    have r7 := u4B_r B (12 + 16 * p.toNatClampNeg)
    have r8 := u4B_r B (16 + 16 * p.toNatClampNeg)
    have tg : u4B B (12 + 16 * p.toNatClampNeg) = 1751474532 ↔ (u4B B (12 + 16 * p.toNatClampNeg)).toInt32 = 1751474532 := tag_iff (t := 1751474532) r7.1 r7.2 (by decide)
    unfold smsC smsM
    rw [d1, d2, if_neg (Int32.not_le.mpr p1), if_neg (Int32.not_le.mpr p1)]
    simp only [gd_pos v, c7, c8, c9, c10, m7, m8, m9, m10, lz]
    generalize hb : (u4B B (20 + 16 * p.toNatClampNeg)).toInt32 = b at b0 b1 bk
    generalize hk : (u4B B (24 + 16 * p.toNatClampNeg)).toInt32 = k at k0 k1 bk ke
    have fin : ∀ x3 y3 : Int32, x3 ≤ 13000 → (∀ p, b ≤ p → p < b + k → ((0 ≤ x3 ∧ x3 ≤ p ∧ p < x3 + 4) ↔ (y3 ≠ -1 ∧ y3 ≤ p ∧ p < y3 + 4))) → ((True ∧ (bP (f_By_sum 5 b k x3 c) fun a10 => if a10 = u4B B (16 + 16 * p.toNatClampNeg) then (some (.inl (p + 1)) : Option (Int32 ⊕ (Unit ⊕ Int32))) else some (.inr (.inr (0 : Int32)))) = some (.inl (p + 1)) ∧ (bP (f_Mo_sumOf b (b + k) y3 m) fun a40 => if a40 = (u4B B (16 + 16 * p.toNatClampNeg)).toInt32 then (some (.inl (p + 1)) : Option (Int32 ⊕ (Unit ⊕ (Int32 × hH)))) else some (.inr (.inr ((4 : Int32), m)))) = some (.inl (p + 1))) ∨ ((bP (f_By_sum 5 b k x3 c) fun a10 => if a10 = u4B B (16 + 16 * p.toNatClampNeg) then (some (.inl (p + 1)) : Option (Int32 ⊕ (Unit ⊕ Int32))) else some (.inr (.inr (0 : Int32)))) = some (.inr (.inr 0)) ∧ (bP (f_Mo_sumOf b (b + k) y3 m) fun a40 => if a40 = (u4B B (16 + 16 * p.toNatClampNeg)).toInt32 then (some (.inl (p + 1)) : Option (Int32 ⊕ (Unit ⊕ (Int32 × hH)))) else some (.inr (.inr ((4 : Int32), m)))) = some (.inr (.inr (4, m))))) := fun x3 y3 x0 sk => by
      obtain ⟨S, e1, e2⟩ := C_sum (x3 := x3) cb s1 b0 b1 k0 k1 bk x0
      have e3 := M_sum (x3 := x3) (y3 := y3) mb s1 b0 b1 k0 k1 bk sk
      rw [e1, e3, bP_some, bP_some, ← e2]
      have mi := mk_iff (x := S) r8.1 r8.2
      by_cases q : S &&& 4294967295 = u4B B (16 + 16 * p.toNatClampNeg)
      · rw [if_pos q, if_pos (mi.mp q)]
        exact Or.inl ⟨trivial, rfl, rfl⟩
      · rw [if_neg q, if_neg (fun w => q (mi.mpr w))]
        exact Or.inr ⟨rfl, rfl⟩
    by_cases q1 : u4B B (12 + 16 * p.toNatClampNeg) = 1751474532
    · rw [if_pos q1, if_pos (tg.mp q1)]
      by_cases q2 : u4B B (24 + 16 * p.toNatClampNeg) ≤ 8
      · have z8 : (8 : Int32).toInt = 8 := rfl
        have z8' : (8 : Int64).toInt = 8 := rfl
        have k8 : k ≤ 8 := by
          rw [Int32.le_iff_toInt_le, ke, z8]
          have := Int64.le_iff_toInt_le.mp q2
          rw [z8'] at this
          exact this
        rw [if_pos q2, bP_some]
        exact fin (-1) (b + 8) (by decide) (fun p h1 h2 => ⟨fun w => absurd w.1 (by decide), fun w => absurd w.2.1 (by grind)⟩)
      · rw [if_neg q2, bP_some]
        exact fin (b + 8) (b + 8) (by grind) (fun p h1 h2 => ⟨fun w => ⟨by grind, w.2⟩, fun w => ⟨by grind, w.2⟩⟩)
    · rw [if_neg q1, if_neg (fun w => q1 (tg.mpr w)), bP_some]
      exact fin (-1) (-1) (by decide) (fun p h1 h2 => ⟨fun w => absurd w.1 (by decide), fun w => absurd rfl w.1⟩))
  rw [areSums_eq0]
  rcases key with ⟨a, b, _⟩ | ⟨a, b⟩
  · exact Or.inl ⟨by rw [a]; rfl, b⟩
  · exact Or.inr ⟨by rw [a]; rfl, b⟩
noncomputable def fiC (x1 : Int64) (h : hH) (p1 : Int32) : Option (Int32 ⊕ (Unit ⊕ Int32)) :=
  if (rdI h 4 1) ≤ p1 then (
    some (.inr (.inl ()))
  ) else (
    gd (vp_in p1 16) <|
    if (rdL h 7 (Int32.toNatClampNeg p1)) = x1 then (
      some (.inr (.inr p1))
    ) else (
      lz (A := Int32) (p1 + (1 : Int32)) fun v4 =>
      some (.inl v4)
    )
  )
theorem find_eq0 {x1 : Int64} {h : hH} : f_Fo_find x1 h = bE (P := Unit) (X := Int32) (wh (fiC x1 h) (0 : Int32)) fun p2 => some (-1 : Int32) := rfl
noncomputable def fiM (x1 : Int32) (h : hH) (p1 : Int32) : Option (Int32 ⊕ (Unit ⊕ Int32)) :=
  if (rdI h 192 5) ≤ p1 then (
    some (.inr (.inl ()))
  ) else (
    gd (vp_in p1 16) <|
    if (rdI h 195 (Int32.toNatClampNeg p1)) = x1 then (
      some (.inr (.inr p1))
    ) else (
      lz (A := Int32) (p1 + (1 : Int32)) fun v4 =>
      some (.inl v4)
    )
  )
theorem tableOf_eq0 {x1 : Int32} {h : hH} : f_Mo_tableOf x1 h = bE (P := Unit) (X := Int32) (wh (fiM x1 h) (0 : Int32)) fun p2 => some (-1 : Int32) := rfl
theorem L_find {B : Nat → Int32} {s n : Int32} {c m : hH} (d : DR B s n c m) {t : Int32} (t0 : 0 ≤ t) : ∃ i, f_Fo_find t.toInt64 c = some i ∧ f_Mo_tableOf t m = some i ∧ (i = -1 ∨ (0 ≤ i ∧ i < n)) := by
  obtain ⟨⟨d1, d2⟩, ⟨n0, n1, _⟩, dc, dm⟩ := d
  have key : ∀ (k : Nat) (i : Int32), 0 ≤ i → n.toNatClampNeg - i.toNatClampNeg = k → (wh (fiC t.toInt64 c) i = some (.inl ()) ∧ wh (fiM t m) i = some (.inl ())) ∨ (∃ j, wh (fiC t.toInt64 c) i = some (.inr j) ∧ wh (fiM t m) i = some (.inr j) ∧ 0 ≤ j ∧ j < n) := by
    intro k
    induction k with
    | zero =>
      intro i i0 e
      have le : n ≤ i := by
        by_cases w : n ≤ i
        · exact w
        · have := (xI_lt i0 (by grind)).mpr (Int32.not_le.mp w)
          omega
      refine Or.inl ⟨?_, ?_⟩
      · rw [wh_eq]
        unfold fiC
        rw [d1, if_pos le]
      · rw [wh_eq]
        unfold fiM
        rw [d2, if_pos le]
    | succ k ih =>
      intro i i0 e
      have lt : i < n := by
        by_cases w : n ≤ i
        · have := xI_mono w
          omega
        · exact Int32.not_le.mp w
      have l1 := (xI_lt i0 (by grind)).mpr lt
      have v : vp_in i 16 := vp_lt (n := 16) (m := 16) i0 (by grind) rfl
      have ii : (i + 1).toNatClampNeg = i.toNatClampNeg + 1 := xI_succ (m := 20000) i0 (by grind) (by decide)
      have r7 := u4B_r B (12 + 16 * i.toNatClampNeg)
      have tg := tag_iff (v := u4B B (12 + 16 * i.toNatClampNeg)) r7.1 r7.2 t0
      by_cases q : u4B B (12 + 16 * i.toNatClampNeg) = t.toInt64
      · refine Or.inr ⟨i, ?_, ?_, i0, lt⟩
        · rw [wh_eq]
          unfold fiC
          rw [d1, if_neg (Int32.not_le.mpr lt), gd_pos v, (dc _ l1).1, if_pos q]
        · rw [wh_eq]
          unfold fiM
          rw [d2, if_neg (Int32.not_le.mpr lt), gd_pos v, (dm _ l1).1, if_pos (tg.mp q)]
      · have s1 : fiC t.toInt64 c i = some (.inl (i + 1)) := by
          unfold fiC
          rw [d1, if_neg (Int32.not_le.mpr lt), gd_pos v, (dc _ l1).1, if_neg q, lz_eq]
        have s2 : fiM t m i = some (.inl (i + 1)) := by
          unfold fiM
          rw [d2, if_neg (Int32.not_le.mpr lt), gd_pos v, (dm _ l1).1, if_neg (fun w => q (tg.mpr w)), lz_eq]
        have w1 : wh (fiC t.toInt64 c) i = wh (fiC t.toInt64 c) (i + 1) := by rw [wh_eq, s1]
        have w2 : wh (fiM t m) i = wh (fiM t m) (i + 1) := by rw [wh_eq, s2]
        rw [w1, w2]
        exact ih (i + 1) (by grind) (by omega)
  rw [find_eq0, tableOf_eq0]
  rcases key _ 0 (by decide) rfl with ⟨a, b⟩ | ⟨j, a, b, j0, j1⟩
  · rw [a, b]
    exact ⟨-1, rfl, rfl, Or.inl rfl⟩
  · rw [a, b]
    exact ⟨j, rfl, rfl, Or.inr ⟨j0, j1⟩⟩
/-- where a table begins, and how long it is: both sides agree -/
def TB (s : Int32) (c m : hH) (t b l i : Int32) : Prop := (f_Fo_find t.toInt64 c = some i ∧ f_Mo_tableOf t m = some i) ∧ (f_Fo_beginOf t.toInt64 c = some b ∧ f_Fo_lengthOf t.toInt64 c = some l ∧ f_Mo_beginOf t m = some b ∧ f_Mo_lengthOf t m = some l) ∧ (0 ≤ b ∧ b ≤ 12000) ∧ (0 ≤ l ∧ l ≤ 12000) ∧ b + l ≤ s ∧ (i = -1 ∨ 0 ≤ i) ∧ (i = -1 → l = 0)
theorem L_tab {B : Nat → Int32} {s n : Int32} {c m : hH} (s0 : 0 ≤ s) (s1 : s ≤ 12000) (d : DR B s n c m) (pl : ∀ i, i < n.toNatClampNeg → PLc B s i) (t : Int32) (t0 : 0 ≤ t) : ∃ b l i, TB s c m t b l i := by
  obtain ⟨i, f1, f2, hi⟩ := L_find d t0
  obtain ⟨_, ⟨n0, n1, _⟩, dc, dm⟩ := d
  unfold TB f_Fo_beginOf f_Fo_lengthOf f_Mo_beginOf f_Mo_lengthOf
  rw [f1, f2]
  simp only [bP_some]
  rcases hi with e | ⟨i0, i1⟩
  · simp only [if_pos e]
    exact ⟨0, 0, i, ⟨rfl, rfl⟩, ⟨rfl, rfl, rfl, rfl⟩, by decide, by decide, by grind, Or.inl e, fun _ => rfl⟩
  · have ne : ¬ i = -1 := fun w => by rw [w] at i0; exact absurd i0 (by decide)
    have v : vp_in i 16 := vp_lt (n := 16) (m := 16) i0 (by grind) rfl
    have l1 := (xI_lt i0 (by grind)).mpr i1
    obtain ⟨_, _, c9, c10⟩ := dc _ l1
    obtain ⟨_, _, m9, m10⟩ := dm _ l1
    obtain ⟨p1, p2, p3, _⟩ := PL_i s0 s1 (pl _ l1)
    simp only [if_neg ne, gd_pos v, c9, c10, m9, m10]
    exact ⟨_, _, i, ⟨rfl, rfl⟩, ⟨rfl, rfl, rfl, rfl⟩, p1, p2, p3, Or.inr i0, fun w => absurd w ne⟩
