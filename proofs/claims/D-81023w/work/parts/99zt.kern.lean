/-! LAYER 3CB: kerning, on both sides -/
theorem ar_k {b l s n p : Int32} (b0 : 0 ≤ b) (b1 : b ≤ 12000) (l1 : l ≤ 12000) (bl : b + l ≤ s) (s1 : s ≤ 12000) (n0 : 0 ≤ n) (n1 : n ≤ 500) (hl : 18 + 6 * n ≤ l) (p0 : 0 ≤ p) (p1 : p < n) : (0 ≤ b + 18 + 6 * p ∧ b + 18 + 6 * p ≤ s - 4) ∧ (0 ≤ b + 18 + 6 * p + 4 ∧ b + 18 + 6 * p + 4 ≤ s - 2) ∧ (0 ≤ b + 18 + 6 * p + 2 ∧ b + 18 + 6 * p + 2 ≤ s - 2) ∧ b + 18 + 6 * p ≤ s - 2 ∧ b + 18 + 6 * p ≤ 12000 ∧ (1 ≤ p → 0 ≤ b + 12 + 6 * p ∧ b + 12 + 6 * p ≤ s - 4) := by
  refine ⟨⟨?_, ?_⟩, ⟨?_, ?_⟩, ⟨?_, ?_⟩, ?_, ?_, fun w => ⟨?_, ?_⟩⟩ <;> grind
noncomputable def keC (a7 : Int32) (h1 : hH) (p8 : Int32) : Option (Int32 ⊕ (Unit ⊕ (Int32 × hH))) :=
  if a7 ≤ p8 then (
    some (.inr (.inl ()))
  ) else (
    bP (f_By_u4 5 ((rdI h1 4 24) + ((6 : Int32) * p8)) h1) fun a10 =>
    bP (f_By_u4 5 (((rdI h1 4 24) + ((6 : Int32) * p8)) - (6 : Int32)) h1) fun a11 =>
    if a11 < a10 then (
      lz (A := Int32) (p8 + (1 : Int32)) fun v12 =>
      some (.inl v12)
    ) else (
      some (.inr (.inr ((0 : Int32), h1)))
    )
  )
noncomputable def keM (a2 a7 : Int32) (h1 : hH) (p8 : Int32) : Option (Int32 ⊕ (Unit ⊕ (Int32 × hH))) :=
  if a7 ≤ p8 then (
    some (.inr (.inl ()))
  ) else (
    bP (f_Mo_u4 ((a2 + (18 : Int32)) + ((6 : Int32) * p8)) h1) fun a10 =>
    bP (f_Mo_u4 ((a2 + (12 : Int32)) + ((6 : Int32) * p8)) h1) fun a11 =>
    if a11 < a10 then (
      lz (A := Int32) (p8 + (1 : Int32)) fun v12 =>
      some (.inl v12)
    ) else (
      some (.inr (.inr ((0 : Int32), h1)))
    )
  )
/-- the kerning, as it is kept -/
def KR (s : Int32) (c m : hH) : Prop := rdI m 192 24 = rdI c 4 23 ∧ (rdI c 4 23 = 0 ∨ (∃ b l, f_Mo_beginOf 1801810542 m = some b ∧ rdI c 4 24 = b + 18 ∧ (0 ≤ b ∧ b ≤ 12000) ∧ l ≤ 12000 ∧ b + l ≤ s ∧ (0 ≤ rdI c 4 23 ∧ rdI c 4 23 ≤ 500) ∧ 18 + 6 * rdI c 4 23 ≤ l))
theorem L_isKern {B : Nat → Int32} {s b l i : Int32} {c m : hH} (cb : CB B s c) (mb : MB B s m) (s0 : 0 ≤ s) (s1 : s ≤ 12000) (tb : TB s c m 1801810542 b l i) (c23 : rdI c 4 23 = 0) : ∃ a c' m', f_Fo_isKern c = some (a, c') ∧ f_Mo_kerns m = some (a, m') ∧ FC4 [23, 24] c c' ∧ FM4 [24] m m' ∧ (a = 0 ∨ (a = 1 ∧ KR s c' m')) := by
  have fm1 : FM4 [24] m (wrI m 192 24 0) := FM4_w FM4_rfl (by decide)
  have tb1 := TB_4 (FC4_rfl (ks := []) (c := c)) (by decide) fm1 (by decide) tb
  have mb1 := MB_4 fm1 (by decide) mb
  obtain ⟨⟨t1, t2⟩, ⟨t3, t4, t5, t6⟩, ⟨b0, b1⟩, ⟨l0, l1⟩, bl, hi, _⟩ := tb1
  have t1' : f_Fo_find 1801810542 c = some i := t1
  have t3' : f_Fo_beginOf 1801810542 c = some b := t3
  have t4' : f_Fo_lengthOf 1801810542 c = some l := t4
  have m24 : rdI (wrI m 192 24 0) 192 24 = 0 := by rw [rdI_wrI, if_pos ⟨rfl, rfl⟩]
  unfold f_Fo_isKern f_Mo_kerns
  rw [lz_eq]
  generalize wrI m 192 24 0 = M at fm1 mb1 t2 t5 t6 m24
  rw [t3', t4', t1', t2, t5, t6]
  simp only [bP_some]
  by_cases q : i = -1
  · rw [if_pos q, if_pos q]
    exact ⟨_, _, _, rfl, rfl, FC4_rfl, fm1, Or.inr ⟨rfl, by rw [m24, c23], Or.inl c23⟩⟩
  rw [if_neg q, if_neg q]
  by_cases q1 : l < 18
  · rw [if_pos q1, if_pos q1]
    exact ⟨_, _, _, rfl, rfl, FC4_rfl, fm1, Or.inl rfl⟩
  rw [if_neg q1, if_neg q1, cU2 (p := b) cb s0 s1 b0 (by grind), mU2 (p := b) mb1 s0 s1 b0 (by grind), cU2 (p := b + 2) cb s0 s1 (by grind) (by grind), mU2 (p := b + 2) mb1 s0 s1 (by grind) (by grind), cU2 (p := b + 8) cb s0 s1 (by grind) (by grind), mU2 (p := b + 8) mb1 s0 s1 (by grind) (by grind), cU2 (p := b + 10) cb s0 s1 (by grind) (by grind), mU2 (p := b + 10) mb1 s0 s1 (by grind) (by grind)]
  simp only [bP_some]
  by_cases q2n : ¬ (u2B B b.toNatClampNeg = 0)
  · rw [if_neg q2n, if_neg q2n]
    exact ⟨_, _, _, rfl, rfl, FC4_rfl, fm1, Or.inl rfl⟩
  have q2 : u2B B b.toNatClampNeg = 0 := Decidable.not_not.mp q2n
  rw [if_pos q2, if_pos q2]
  by_cases q3 : u2B B (b + 2).toNatClampNeg < 1
  · rw [if_pos q3, if_pos q3]
    exact ⟨_, _, _, rfl, rfl, FC4_rfl, fm1, Or.inl rfl⟩
  rw [if_neg q3, if_neg q3]
  by_cases q4n : ¬ (u2B B (b + 8).toNatClampNeg = 1)
  · rw [if_neg q4n, if_neg q4n]
    exact ⟨_, _, _, rfl, rfl, FC4_rfl, fm1, Or.inl rfl⟩
  have q4 : u2B B (b + 8).toNatClampNeg = 1 := Decidable.not_not.mp q4n
  rw [if_pos q4, if_pos q4]
  have nr := u2B_r B (b + 10).toNatClampNeg
  generalize u2B B (b + 10).toNatClampNeg = n at nr
  by_cases q5 : 500 < n
  · rw [if_pos q5, if_pos q5]
    exact ⟨_, _, _, rfl, rfl, FC4_rfl, fm1, Or.inl rfl⟩
  have n1 : n ≤ 500 := Int32.not_lt.mp q5
  rw [if_neg q5, if_neg q5]
  by_cases q6n : ¬ (18 + 6 * n ≤ l)
  · rw [if_neg q6n, if_neg q6n]
    exact ⟨_, _, _, rfl, rfl, FC4_rfl, fm1, Or.inl rfl⟩
  have q6 : 18 + 6 * n ≤ l := Decidable.not_not.mp q6n
  have fc1 : FC4 [23, 24] c (wrI c 4 24 (b + 18)) := FC4_w FC4_rfl (by decide)
  have cb1 := CB_4 fc1 cb
  have c24 : rdI (wrI c 4 24 (b + 18)) 4 24 = b + 18 := by rw [rdI_wrI, if_pos ⟨rfl, rfl⟩]
  rw [if_pos q6, if_pos q6, lz_eq]
  have key := wh_two (f := keC n (wrI c 4 24 (b + 18))) (g := keM b n M) (P := fun _ => True) (a := 1) (n := n) (x := ((0 : Int32), wrI c 4 24 (b + 18))) (y := ((0 : Int32), M)) (by decide) nr.1 (by grind) (fun p hp => by unfold keC; rw [if_pos hp]) (fun p hp => by unfold keM; rw [if_pos hp]) (fun p p0 p1 => by
    obtain ⟨⟨a1, a2⟩, _, _, _, _, a3⟩ := ar_k (p := p) b0 b1 l1 bl s1 nr.1 n1 q6 (by grind) p1
    obtain ⟨a3, a4⟩ := a3 p0
    unfold keC keM
    rw [if_neg (Int32.not_le.mpr p1), if_neg (Int32.not_le.mpr p1), c24, show b + 18 + 6 * p - 6 = b + 12 + 6 * p by grind, cU4 cb1 s0 s1 a1 a2, cU4 cb1 s0 s1 a3 a4, mU4 mb1 s0 s1 a1 a2, mU4 mb1 s0 s1 a3 a4]
    simp only [bP_some, lz]
    by_cases w : u4B B (b + 12 + 6 * p).toNatClampNeg < u4B B (b + 18 + 6 * p).toNatClampNeg
    · rw [if_pos w, if_pos w]; exact Or.inl ⟨trivial, rfl, rfl⟩
    · rw [if_neg w, if_neg w]; exact Or.inr ⟨rfl, rfl⟩)
  change ∃ a c' m', bE (P := Unit) (X := (Int32 × hH)) (wh (keC n (wrI c 4 24 (b + 18))) 1) (fun p9 => lz (wrI (wrI c 4 24 (b + 18)) 4 23 n) fun h2 => some ((1 : Int32), h2)) = some (a, c') ∧ bE (P := Unit) (X := (Int32 × hH)) (wh (keM b n M) 1) (fun p9 => lz (wrI M 192 24 n) fun h2 => some ((1 : Int32), h2)) = some (a, m') ∧ _
  rcases key with ⟨k1, k2, _⟩ | ⟨k1, k2⟩
  · rw [k1, k2]
    have fm2 : FM4 [24] m (wrI M 192 24 n) := FM4_w fm1 (by decide)
    have fc2 : FC4 [23, 24] c (wrI (wrI c 4 24 (b + 18)) 4 23 n) := FC4_w fc1 (by decide)
    have e23 : rdI (wrI (wrI c 4 24 (b + 18)) 4 23 n) 4 23 = n := by rw [rdI_wrI, if_pos ⟨rfl, rfl⟩]
    refine ⟨_, _, _, rfl, rfl, fc2, fm2, Or.inr ⟨rfl, ?_, Or.inr ⟨b, l, ?_, ?_, ⟨b0, b1⟩, l1, bl, ?_, ?_⟩⟩⟩
    · rw [e23, rdI_wrI, if_pos ⟨rfl, rfl⟩]
    · rw [(tabM_4 (FM4_w (FM4_rfl (ks := [24]) (m := M)) (by decide)) (by decide) _).2.1]
      exact t5
    · simp only [rdI_wrI, rdP_wrI, rdL_wrI, Nat.reduceEqDiff, false_and, and_false, true_and, and_true, eq_self, reduceIte, ite_self]
    · rw [e23]; exact ⟨nr.1, n1⟩
    · rw [e23]; exact q6
  · rw [k1, k2]
    exact ⟨_, _, _, rfl, rfl, fc1, fm1, Or.inl rfl⟩
theorem u4_inj {B : Nat → Int32} {P : Nat} {a b : Int32} (ha : 0 ≤ a ∧ a ≤ 65535) (hb : 0 ≤ b ∧ b ≤ 65535) : u4B B P = ((a.toInt64 <<< ((Int32.toInt64 (16 : Int32)) &&& 63)) ||| b.toInt64) ↔ (u2B B P = a ∧ u2B B (P + 2) = b) := by
  constructor
  · intro e
    have e1 := u4_int (u2B_r B P) (u2B_r B (P + 2))
    have e2 := u4_int ha hb
    have e3 := congrArg Int64.toInt e
    unfold u4B at e3
    rw [e1, e2] at e3
    have z0 : (0 : Int32).toInt = 0 := rfl
    have z6 : (65535 : Int32).toInt = 65535 := rfl
    have p1 := Int32.le_iff_toInt_le.mp (u2B_r B (P + 2)).1
    have p2 := Int32.le_iff_toInt_le.mp (u2B_r B (P + 2)).2
    have p3 := Int32.le_iff_toInt_le.mp hb.1
    have p4 := Int32.le_iff_toInt_le.mp hb.2
    exact ⟨Int32.toInt_inj.mp (by omega), Int32.toInt_inj.mp (by omega)⟩
  · rintro ⟨e1, e2⟩
    unfold u4B
    rw [e1, e2]
noncomputable def kvC (v1 : Int64) (h : hH) (p2 : Int32) : Option (Int32 ⊕ (Unit ⊕ Int32)) :=
  if (rdI h 4 23) ≤ p2 then (
    some (.inr (.inl ()))
  ) else (
    bP (f_By_u4 5 ((rdI h 4 24) + ((6 : Int32) * p2)) h) fun a4 =>
    if a4 = v1 then (
      bP (f_By_s2 5 (((rdI h 4 24) + ((6 : Int32) * p2)) + (4 : Int32)) h) fun a6 =>
      some (.inr (.inr a6))
    ) else (
      lz (A := Int32) (p2 + (1 : Int32)) fun v5 =>
      some (.inl v5)
    )
  )
noncomputable def kvM (a1 x1 x2 : Int32) (h : hH) (p2 : Int32) : Option (Int32 ⊕ (Unit ⊕ Int32)) :=
  if (rdI h 192 24) ≤ p2 then (
    some (.inr (.inl ()))
  ) else (
    lz (A := Int32) ((a1 + (18 : Int32)) + ((6 : Int32) * p2)) fun v4 =>
    bP (f_Mo_u2 v4 h) fun a5 =>
    cO (
      if a5 = x1 then (
        bP (f_Mo_u2 (v4 + (2 : Int32)) h) fun a6 =>
        if a6 = x2 then (
          some true
        ) else (
          some false
        )
      ) else (
        some false
      )
    ) (
      bP (f_Mo_s2 (v4 + (4 : Int32)) h) fun a12 =>
      some (.inr (.inr a12))
    ) (
      lz (A := Int32) (p2 + (1 : Int32)) fun v13 =>
      some (.inl v13)
    )
  )
theorem L_kernv {B : Nat → Int32} {s x1 x2 : Int32} {c m : hH} (cb : CB B s c) (mb : MB B s m) (s0 : 0 ≤ s) (s1 : s ≤ 12000) (kr : KR s c m) (tot : ∃ b, f_Mo_beginOf 1801810542 m = some b) (h1 : 0 ≤ x1 ∧ x1 ≤ 65535) (h2 : 0 ≤ x2 ∧ x2 ≤ 65535) : ∃ v, f_Fo_kern x1 x2 c = some v ∧ f_Mo_kernOf x1 x2 m = some v := by
  obtain ⟨k1, k2⟩ := kr
  obtain ⟨b', eb⟩ := tot
  have eC : f_Fo_kern x1 x2 c = bE (P := Unit) (X := Int32) (wh (kvC (((Int32.toInt64 x1) <<< ((Int32.toInt64 (16 : Int32)) &&& 63)) ||| (Int32.toInt64 x2)) c) (0 : Int32)) fun p3 => some (0 : Int32) := rfl
  have eM : f_Mo_kernOf x1 x2 m = bE (P := Unit) (X := Int32) (wh (kvM b' x1 x2 m) (0 : Int32)) fun p3 => some (0 : Int32) := by
    unfold f_Mo_kernOf
    rw [eb]
    rfl
  rw [eC, eM]
  rcases k2 with z | ⟨b, l, e, c24, ⟨b0, b1⟩, l1, bl, ⟨n0, n1⟩, hl⟩
  · have w1 : wh (kvC (((Int32.toInt64 x1) <<< ((Int32.toInt64 (16 : Int32)) &&& 63)) ||| (Int32.toInt64 x2)) c) (0 : Int32) = some (.inl ()) := by
      rw [wh_eq]
      unfold kvC
      rw [z, if_pos (by decide)]
    have w2 : wh (kvM b' x1 x2 m) (0 : Int32) = some (.inl ()) := by
      rw [wh_eq]
      unfold kvM
      rw [k1, z, if_pos (by decide)]
    rw [w1, w2]
    exact ⟨0, rfl, rfl⟩
  · rw [eb] at e
    have : b' = b := Option.some.inj e
    subst this
    have key : ∀ (k : Nat) (i : Int32), 0 ≤ i → (rdI c 4 23).toNatClampNeg - i.toNatClampNeg = k → ∃ r, wh (kvC (((Int32.toInt64 x1) <<< ((Int32.toInt64 (16 : Int32)) &&& 63)) ||| (Int32.toInt64 x2)) c) i = some r ∧ wh (kvM b' x1 x2 m) i = some r := by
      intro k
      induction k with
      | zero =>
        intro i i0 e
        have le : rdI c 4 23 ≤ i := by
          by_cases w : rdI c 4 23 ≤ i
          · exact w
          · have := (xI_lt i0 n0).mpr (Int32.not_le.mp w)
            omega
        refine ⟨.inl (), ?_, ?_⟩
        · rw [wh_eq]
          unfold kvC
          rw [if_pos le]
        · rw [wh_eq]
          unfold kvM
          rw [k1, if_pos le]
      | succ k ih =>
        intro i i0 e
        have lt : i < rdI c 4 23 := by
          by_cases w : rdI c 4 23 ≤ i
          · have := xI_mono w
            omega
          · exact Int32.not_le.mp w
        have ii : (i + 1).toNatClampNeg = i.toNatClampNeg + 1 := xI_succ (m := 20000) i0 (by grind) (by decide)
        obtain ⟨⟨a1, a2⟩, ⟨a3, a4⟩, ⟨a5, a6⟩, a7, a8, _⟩ := ar_k (p := i) b0 b1 l1 bl s1 n0 n1 hl i0 lt
        have x2' := xI_2 a1 a8
        have inj := u4_inj (B := B) (P := (b' + 18 + 6 * i).toNatClampNeg) h1 h2
        by_cases q : u2B B (b' + 18 + 6 * i).toNatClampNeg = x1 ∧ u2B B ((b' + 18 + 6 * i).toNatClampNeg + 2) = x2
        · refine ⟨.inr (s2B B (b' + 18 + 6 * i + 4).toNatClampNeg), ?_, ?_⟩
          · rw [wh_eq]
            unfold kvC
            rw [if_neg (Int32.not_le.mpr lt), c24, cU4 cb s0 s1 a1 a2, bP_some, if_pos (inj.mpr q), cS2 cb s0 s1 a3 a4, bP_some]
          · rw [wh_eq]
            unfold kvM
            rw [k1, if_neg (Int32.not_le.mpr lt), lz_eq, mU2 mb s0 s1 a1 a7, bP_some, if_pos q.1, mU2 mb s0 s1 a5 a6, bP_some, x2', if_pos q.2, cO_t, mS2 mb s0 s1 a3 a4, bP_some]
        · have w1 : wh (kvC (((Int32.toInt64 x1) <<< ((Int32.toInt64 (16 : Int32)) &&& 63)) ||| (Int32.toInt64 x2)) c) i = wh (kvC (((Int32.toInt64 x1) <<< ((Int32.toInt64 (16 : Int32)) &&& 63)) ||| (Int32.toInt64 x2)) c) (i + 1) := by
            rw [wh_eq]
            have : kvC (((Int32.toInt64 x1) <<< ((Int32.toInt64 (16 : Int32)) &&& 63)) ||| (Int32.toInt64 x2)) c i = some (.inl (i + 1)) := by
              unfold kvC
              rw [if_neg (Int32.not_le.mpr lt), c24, cU4 cb s0 s1 a1 a2, bP_some, if_neg (fun w => q (inj.mp w)), lz_eq]
            rw [this]
          have w2 : wh (kvM b' x1 x2 m) i = wh (kvM b' x1 x2 m) (i + 1) := by
            rw [wh_eq]
            have : kvM b' x1 x2 m i = some (.inl (i + 1)) := by
              unfold kvM
              rw [k1, if_neg (Int32.not_le.mpr lt), lz_eq, mU2 mb s0 s1 a1 a7, bP_some, mU2 mb s0 s1 a5 a6, bP_some, x2']
              by_cases u : u2B B (b' + 18 + 6 * i).toNatClampNeg = x1
              · rw [if_pos u, if_neg (fun w => q ⟨u, w⟩), cO_f, lz_eq]
              · rw [if_neg u, cO_f, lz_eq]
            rw [this]
          rw [w1, w2]
          exact ih (i + 1) (by grind) (by omega)
    obtain ⟨r, w1, w2⟩ := key _ 0 (by decide) rfl
    rw [w1, w2]
    rcases r with _ | r
    · exact ⟨0, rfl, rfl⟩
    · exact ⟨r, rfl, rfl⟩
