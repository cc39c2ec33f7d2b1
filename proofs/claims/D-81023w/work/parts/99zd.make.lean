/-! LAYER 3BL: a glyph is made: the end of it, on both sides -/
noncomputable def fnL (p1 : Int32 × hH) : Option (hH ⊕ ((Int32 × hH) ⊕ hH)) :=
  if (rdI p1.2 70 3) ≤ p1.1 then (
    some (.inr (.inr p1.2))
  ) else (
    gd (vp_in p1.1 100) <|
    lz (wrI p1.2 71 (Int32.toNatClampNeg p1.1) ((rdI p1.2 71 (Int32.toNatClampNeg p1.1)) - (rdI p1.2 75 0))) fun h1 =>
    lz (A := Int32) (p1.1 + (1 : Int32)) fun v4 =>
    some (.inr (.inl (v4, h1)))
  )
theorem Mk_finish_eq0 {h : hH} : f_Mk_finish 70 h = bJT (P := hH) (whT (A := (Int32 × hH)) (B := hH) fnL ((0 : Int32), h)) fun p2 =>
  bP (f_Ou_isWithin 70 (4096 : Int32) p2) fun a6 =>
  bT (f_Mk_want a6 (13 : Int32) p2) fun _ h2 =>
  some (.inr ((), h2)) := by
  obtain ⟨a0, _, _, _, a6, _⟩ := rf70
  unfold f_Mk_finish fnL
  rw [a0, a6]
def fnH (h : hH) : hH := mtI h 71 0 (rdI h 70 3).toNatClampNeg (fun i => rdI h 71 i - rdI h 75 0)
theorem fn_eq {h : hH} (hn : 0 ≤ rdI h 70 3 ∧ rdI h 70 3 ≤ 100) : whT fnL ((0 : Int32), h) = some (.inr (fnH h)) := by
  refine whT_fill (n := rdI h 70 3) ⟨hn.1, by grind⟩ (fun k => mtI h 71 0 k (fun i => rdI h 71 i - rdI h 75 0)) mtI_0 ?_ ?_
  · unfold fnL
    dsimp only
    rw [rdI_mo (by decide), if_pos (Int32.le_refl _)]
    rfl
  · intro i q0 q1
    have v : vp_in i 100 := vp_lt (n := 100) (m := 100) q0 (by grind) rfl
    unfold fnL
    dsimp only
    rw [rdI_mo (by decide), if_neg (Int32.not_le.mpr q1), gd_pos v, rdI_mtI, if_neg (by omega), rdI_mo (by decide), lz_eq, lz_eq]
    refine congrArg (fun H : hH => (some (.inr (.inl (i + 1, H))) : Option (hH ⊕ ((Int32 × hH) ⊕ hH)))) ?_
    exact mtI_s rfl (by omega)
noncomputable def miM (v1 : Int32) (p2 : Int32 × hH) : Option ((Int32 × hH) ⊕ hH) :=
  if (¬ ((rdI p2.2 236 0) ≤ p2.1) ∧ (rdI p2.2 192 59) = 0) then (
    gd (vp_in p2.1 612 ∧ vp_in p2.1 100) <|
    lz (wrI p2.2 243 (Int32.toNatClampNeg p2.1) ((rdI p2.2 238 (Int32.toNatClampNeg p2.1)) - v1)) fun h6 =>
    gd (vp_in p2.1 612 ∧ vp_in p2.1 100) <|
    lz (wrI h6 244 (Int32.toNatClampNeg p2.1) (rdI h6 239 (Int32.toNatClampNeg p2.1))) fun h7 =>
    gd (vp_in p2.1 612 ∧ vp_in p2.1 100) <|
    lz (wrI h7 245 (Int32.toNatClampNeg p2.1) ((rdI h7 240 (Int32.toNatClampNeg p2.1)) &&& 1)) fun h8 =>
    gd (vp_in p2.1 100) <|
    bP (f_Mo_in (Int32.toInt64 (rdI h8 243 (Int32.toNatClampNeg p2.1))) (-4096 : Int64) (4096 : Int64)) fun a13 =>
    bP (A := hH) (
      cO (
        if a13 = 0 then (
          some true
        ) else (
          gd (vp_in p2.1 100) <|
          bP (f_Mo_in (Int32.toInt64 (rdI h8 244 (Int32.toNatClampNeg p2.1))) (-4096 : Int64) (4096 : Int64)) fun a16 =>
          if a16 = 0 then (
            some true
          ) else (
            some false
          )
        )
      ) (
        bS (f_Mo_failOutside (13 : Int32) h8) fun _ h9 =>
        some h9
      ) (
        some h8
      )
    ) fun p14 =>
    lz (A := Int32) (p2.1 + (1 : Int32)) fun v23 =>
    some (.inl (v23, p14))
  ) else (
    some (.inr p2.2)
  )
noncomputable def miC (p24 : Int32 × hH) : Option ((Int32 × hH) ⊕ hH) :=
  if (rdI p24.2 192 129) ≤ p24.1 then (
    some (.inr p24.2)
  ) else (
    gd (vp_in p24.1 120 ∧ vp_in p24.1 20) <|
    lz (wrI p24.2 246 (Int32.toNatClampNeg p24.1) (rdI p24.2 241 (Int32.toNatClampNeg p24.1))) fun h12 =>
    lz (A := Int32) (p24.1 + (1 : Int32)) fun v27 =>
    some (.inl (v27, h12))
  )
noncomputable def miE (v1 : Int32) (p3 : hH) : Option (Int32 × hH) :=
  if (rdI p3 192 59) ≤ 0 then (
    lz (wrI p3 192 128 (rdI p3 236 0)) fun h10 =>
    lz (wrI h10 192 129 (rdI h10 237 0)) fun h11 =>
    bP (A := hH) (wh (A := (Int32 × hH)) (B := hH) miC ((0 : Int32), h11)) fun p25 =>
    lz (wrI p25 192 134 ((rdI p25 242 2) - v1)) fun h13 =>
    lz (wrI h13 192 108 (1 : Int32)) fun h14 =>
    lz (wrI h14 192 109 (rdI h14 192 58)) fun h15 =>
    lz (wrI h15 192 111 (0 : Int32)) fun h16 =>
    lz (wrI h16 192 112 (-1 : Int32)) fun h17 =>
    some ((rdI h17 192 128), h17)
  ) else (
    bS (f_Mo_failedNow p3) fun a29 h18 =>
    some (a29, h18)
  )
theorem makeIt_eq0 {x1 : Int32} {h : hH} : f_Mo_makeIt x1 h = lz (wrI h 192 108 (0 : Int32)) fun h1 =>
  lz (wrI h1 192 59 (0 : Int32)) fun h2 =>
  lz (wrI h2 192 58 (0 : Int32)) fun h3 =>
  lz (wrI h3 192 125 (0 : Int32)) fun h4 =>
  bS (f_Mo_makeGlyph 6 x1 (0 : Int32) h4) fun _ h5 =>
  lz (A := Int32) (rdI h5 242 0) fun v1 =>
  bP (A := hH) (wh (A := (Int32 × hH)) (B := hH) (miM v1) ((0 : Int32), h5)) fun p3 =>
  miE v1 p3 := rfl
def mkR (v1 : Int32) (h : hH) (k : Nat) : hH := mt3 h 243 244 245 0 k (fun i => rdI h 238 i - v1) (fun i => rdI h 239 i) (fun i => rdI h 240 i &&& 1)
theorem mkR_o {v1 : Int32} {h : hH} {n o k : Nat} (ho : o < 243 ∨ 245 < o) : rdI (mkR v1 h n) o k = rdI h o k := mt3_o (by omega) (by omega) (by omega)
theorem mm_stop {v1 i : Int32} {h : hH} (f : ¬ rdI h 192 59 = 0) : wh (miM v1) (i, h) = some h := by
  rw [wh_eq]
  unfold miM
  dsimp only
  rw [if_neg (fun q => f q.2)]
theorem mm_eq {v1 : Int32} {h : hH} (n0 : 0 ≤ rdI h 236 0 ∧ rdI h 236 0 ≤ 100) (f0 : rdI h 192 59 = 0) : (wh (miM v1) ((0 : Int32), h) = some (mkR v1 h (rdI h 236 0).toNatClampNeg) ∧ ∀ i, i < (rdI h 236 0).toNatClampNeg → inV 4096 (rdI h 238 i - v1) ∧ inV 4096 (rdI h 239 i)) ∨ (∃ j, wh (miM v1) ((0 : Int32), h) = some (foM (mkR v1 h (j + 1)) 13) ∧ j < (rdI h 236 0).toNatClampNeg ∧ ¬ (inV 4096 (rdI h 238 j - v1) ∧ inV 4096 (rdI h 239 j))) := by
  have n10 : ¬ (1 : Int32) = 0 := by decide
  have z0 : (0 : Int32).toNatClampNeg = 0 := rfl
  have key : ∀ (m : Nat) (i : Int32), 0 ≤ i → i ≤ rdI h 236 0 → (rdI h 236 0).toNatClampNeg - i.toNatClampNeg = m → (wh (miM v1) (i, mkR v1 h i.toNatClampNeg) = some (mkR v1 h (rdI h 236 0).toNatClampNeg) ∧ ∀ j, i.toNatClampNeg ≤ j → j < (rdI h 236 0).toNatClampNeg → inV 4096 (rdI h 238 j - v1) ∧ inV 4096 (rdI h 239 j)) ∨ (∃ j, wh (miM v1) (i, mkR v1 h i.toNatClampNeg) = some (foM (mkR v1 h (j + 1)) 13) ∧ j < (rdI h 236 0).toNatClampNeg ∧ ¬ (inV 4096 (rdI h 238 j - v1) ∧ inV 4096 (rdI h 239 j))) := by
    intro m
    induction m with
    | zero =>
      intro i i0 i1 e
      have e1 : i = rdI h 236 0 := by
        by_cases w : i = rdI h 236 0
        · exact w
        · have := (xI_lt i0 n0.1).mpr (show i < rdI h 236 0 by grind)
          omega
      refine Or.inl ⟨?_, fun j a b => by omega⟩
      rw [wh_eq]
      unfold miM
      dsimp only
      rw [mkR_o (by decide), if_neg (fun q => q.1 (by rw [e1]; exact Int32.le_refl _)), e1]
    | succ m ih =>
      intro i i0 i1 e
      have lt : i < rdI h 236 0 := by
        by_cases w : i = rdI h 236 0
        · rw [← w] at e; omega
        · grind
      have lt' := (xI_lt i0 n0.1).mpr lt
      have ii : (i + 1).toNatClampNeg = i.toNatClampNeg + 1 := xI_succ (m := 20000) i0 (by grind) (by decide)
      have v1' : vp_in i 612 ∧ vp_in i 100 := ⟨vp_lt (n := 612) (m := 612) i0 (by grind) rfl, vp_lt (n := 100) (m := 100) i0 (by grind) rfl⟩
      have ih' := ih (i + 1) (by grind) (by grind) (by omega)
      rw [ii] at ih'
      obtain ⟨r1, r2, _⟩ := mt3_i (h := h) (o := 243) (p := 244) (q := 245) (b := 0) (n := i.toNatClampNeg + 1) (c := i.toNatClampNeg) (u := fun i => rdI h 238 i - v1) (v := fun i => rdI h 239 i) (w := fun i => rdI h 240 i &&& 1) (by omega) (by decide) (by decide) (by decide)
      rw [Nat.zero_add] at r1 r2
      have f59 : rdI (mkR v1 h (i.toNatClampNeg + 1)) 192 59 = 0 := (mkR_o (by decide)).trans f0
      have un : miM v1 (i, mkR v1 h i.toNatClampNeg) = bP (A := hH) (cO (if (if (-4096 : Int64) ≤ (rdI h 238 i.toNatClampNeg - v1).toInt64 ∧ (rdI h 238 i.toNatClampNeg - v1).toInt64 ≤ 4096 then (1 : Int32) else 0) = 0 then some true else bP (some (if (-4096 : Int64) ≤ (rdI h 239 i.toNatClampNeg).toInt64 ∧ (rdI h 239 i.toNatClampNeg).toInt64 ≤ 4096 then (1 : Int32) else 0)) fun a61 => if a61 = 0 then some true else some false) (some (foM (mkR v1 h (i.toNatClampNeg + 1)) 13)) (some (mkR v1 h (i.toNatClampNeg + 1)))) fun p59 => some (.inl (i + 1, p59)) := by
        unfold miM
        dsimp only
        rw [mkR_o (by decide), mkR_o (by decide), if_pos ⟨Int32.not_le.mpr lt, f0⟩, gd_pos v1', mkR_o (by decide), lz_eq, gd_pos v1', rdI_o (by decide), mkR_o (by decide), lz_eq, gd_pos v1', rdI_o (by decide), rdI_o (by decide), mkR_o (by decide), lz_eq]
        have eh : wrI (wrI (wrI (mkR v1 h i.toNatClampNeg) 243 i.toNatClampNeg (rdI h 238 i.toNatClampNeg - v1)) 244 i.toNatClampNeg (rdI h 239 i.toNatClampNeg)) 245 i.toNatClampNeg (rdI h 240 i.toNatClampNeg &&& 1) = mkR v1 h (i.toNatClampNeg + 1) := mt3_s rfl rfl rfl (by omega) (by decide) (by decide) (by decide)
        rw [eh, gd_pos v1'.2, f_Mo_in_eq, bP_some, gd_pos v1'.2, f_Mo_in_eq, fo_eq f59, bS_some]
        unfold mkR
        rw [r1, r2]
        rfl
      have go : ∀ h', miM v1 (i, mkR v1 h i.toNatClampNeg) = some (.inl (i + 1, h')) → wh (miM v1) (i, mkR v1 h i.toNatClampNeg) = wh (miM v1) (i + 1, h') := fun h' w => by
        rw [wh_eq, w]
      have fs : wh (miM v1) (i + 1, foM (mkR v1 h (i.toNatClampNeg + 1)) 13) = some (foM (mkR v1 h (i.toNatClampNeg + 1)) 13) := mm_stop (by rw [foM_59]; decide)
      by_cases a : (-4096 : Int64) ≤ (rdI h 238 i.toNatClampNeg - v1).toInt64 ∧ (rdI h 238 i.toNatClampNeg - v1).toInt64 ≤ 4096
      · rw [if_pos a, if_neg n10, bP_some] at un
        by_cases b : (-4096 : Int64) ≤ (rdI h 239 i.toNatClampNeg).toInt64 ∧ (rdI h 239 i.toNatClampNeg).toInt64 ≤ 4096
        · rw [if_pos b, if_neg n10, cO_f, bP_some] at un
          rw [go _ un]
          rcases ih' with ⟨s1, s2⟩ | s
          · refine Or.inl ⟨s1, fun j p q => ?_⟩
            by_cases w : j = i.toNatClampNeg
            · rw [w]; exact ⟨a, b⟩
            · exact s2 j (by omega) q
          · exact Or.inr s
        · rw [if_neg b, if_pos rfl, cO_t, bP_some] at un
          rw [go _ un, fs]
          exact Or.inr ⟨_, rfl, lt', fun q => b q.2⟩
      · rw [if_neg a, if_pos rfl, cO_t, bP_some] at un
        rw [go _ un, fs]
        exact Or.inr ⟨_, rfl, lt', fun q => a q.1⟩
  have e0 : mkR v1 h 0 = h := mt3_0
  have k := key _ 0 (by decide) n0.1 rfl
  rw [z0, e0] at k
  rcases k with ⟨s1, s2⟩ | s
  · exact Or.inl ⟨s1, fun i hi => s2 i (by omega) hi⟩
  · exact Or.inr s
def mkA (h : hH) : hH := wrI (wrI h 192 128 (rdI h 236 0)) 192 129 (rdI h 237 0)
def mkB (h : hH) : hH := mtI (mkA h) 246 0 (rdI h 237 0).toNatClampNeg (fun i => rdI h 241 i)
def mkZ (v1 : Int32) (h : hH) : hH := wrI (wrI (wrI (wrI (wrI (mkB h) 192 134 (rdI h 242 2 - v1)) 192 108 1) 192 109 (rdI h 192 58)) 192 111 0) 192 112 (-1)
theorem miE_eq {v1 : Int32} {h : hH} (f0 : rdI h 192 59 = 0) (c0 : 0 ≤ rdI h 237 0 ∧ rdI h 237 0 ≤ 20) : miE v1 h = some (rdI h 236 0, mkZ v1 h) := by
  have a129 : rdI (mkA h) 192 129 = rdI h 237 0 := by
    unfold mkA
    rw [rdI_wrI, if_pos ⟨rfl, rfl⟩]
  have w : wh miC ((0 : Int32), mkA h) = some (mkB h) := by
    refine wh_fill (n := rdI h 237 0) ⟨c0.1, by grind⟩ (fun k => mtI (mkA h) 246 0 k (fun i => rdI h 241 i)) mtI_0 ?_ ?_
    · unfold miC
      dsimp only
      rw [rdI_mo (by decide), a129, if_pos (Int32.le_refl _)]
      rfl
    · intro i q0 q1
      have v : vp_in i 120 ∧ vp_in i 20 := ⟨vp_lt (n := 120) (m := 120) q0 (by grind) rfl, vp_lt (n := 20) (m := 20) q0 (by grind) rfl⟩
      have a241 : rdI (mkA h) 241 i.toNatClampNeg = rdI h 241 i.toNatClampNeg := by
        unfold mkA
        rw [rdI_o (by decide), rdI_o (by decide)]
      unfold miC
      dsimp only
      rw [rdI_mo (by decide), a129, if_neg (Int32.not_le.mpr q1), gd_pos v, rdI_mo (by decide), a241, lz_eq, lz_eq]
      refine congrArg (fun H : hH => (some (.inl (i + 1, H)) : Option ((Int32 × hH) ⊕ hH))) ?_
      exact mtI_s rfl (by omega)
  have eA : wrI (wrI h 192 128 (rdI h 236 0)) 192 129 (rdI h 237 0) = mkA h := rfl
  have b242 : rdI (mkB h) 242 2 = rdI h 242 2 := by
    unfold mkB mkA
    rw [rdI_mo (by decide), rdI_o (by decide), rdI_o (by decide)]
  have b58 : rdI (mkB h) 192 58 = rdI h 192 58 := by
    unfold mkB mkA
    rw [rdI_mo (by decide), rdI_wrI, if_neg (by omega), rdI_wrI, if_neg (by omega)]
  have b128 : rdI (mkB h) 192 128 = rdI h 236 0 := by
    unfold mkB mkA
    rw [rdI_mo (by decide), rdI_wrI, if_neg (by omega), rdI_wrI, if_pos ⟨rfl, rfl⟩]
  unfold miE
  rw [f0, if_pos (by decide), lz_eq, rdI_o (by decide), lz_eq, eA, w, bP_some, b242, lz_eq, lz_eq, lz_eq, lz_eq, lz_eq]
  have r58 : rdI (wrI (wrI (mkB h) 192 134 (rdI h 242 2 - v1)) 192 108 1) 192 58 = rdI h 192 58 := by
    rw [rdI_wrI, if_neg (by omega), rdI_wrI, if_neg (by omega), b58]
  rw [r58]
  have r128 : rdI (mkZ v1 h) 192 128 = rdI h 236 0 := by
    unfold mkZ
    rw [rdI_wrI, if_neg (by omega), rdI_wrI, if_neg (by omega), rdI_wrI, if_neg (by omega), rdI_wrI, if_neg (by omega), rdI_wrI, if_neg (by omega), b128]
  have eZ : wrI (wrI (wrI (wrI (wrI (mkB h) 192 134 (rdI h 242 2 - v1)) 192 108 1) 192 109 (rdI h 192 58)) 192 111 0) 192 112 (-1) = mkZ v1 h := rfl
  rw [eZ, r128]
