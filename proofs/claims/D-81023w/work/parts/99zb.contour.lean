/-! LAYER 3BJ: contours laid out -/
def IS0 (h : hH) (L : List ((Int32 × Int32) × Option (Int32 × Int32) × (Int32 × Int32))) : Prop := (0 ≤ rdI h 182 7 ∧ (rdI h 182 7).toNatClampNeg = L.length) ∧ (∀ k pc, L[k]? = some pc → PcR h k pc)
/-- the first point on the curve -/
def fOn (h : hH) : Nat → Nat → Nat
  | 0 => fun B => B
  | N + 1 => fun B => if rdI h 73 B = 0 then fOn h N (B + 1) else B
theorem fOn_r {h : hH} : ∀ N B, B ≤ fOn h N B ∧ fOn h N B ≤ B + N := by
  intro N
  induction N with
  | zero => intro B; exact ⟨Nat.le_refl _, Nat.le_refl _⟩
  | succ N ih =>
    intro B
    unfold fOn
    split
    · have := ih (B + 1); omega
    · omega
noncomputable def foL (h : hH) (x3 : Int32) (p1 : Int32) : Option (Int32 ⊕ Int32) :=
  cO (
    if x3 < p1 then (
      some false
    ) else (
      gd (vp_in p1 100) <|
      if (rdI h 73 (Int32.toNatClampNeg p1)) = 0 then (
        some true
      ) else (
        some false
      )
    )
  ) (
    lz (A := Int32) (p1 + (1 : Int32)) fun v9 =>
    some (.inl v9)
  ) (
    some (.inr p1)
  )
theorem fo_find {h : hH} {e : Int32} (e0 : 0 ≤ e) (e1 : e < 100) : ∀ (N : Nat) (i : Int32), 0 ≤ i → i ≤ e + 1 → e.toNatClampNeg + 1 - i.toNatClampNeg = N → ∃ r, wh (foL h e) i = some r ∧ r.toNatClampNeg = fOn h N i.toNatClampNeg ∧ i ≤ r ∧ r ≤ e + 1 := by
  have ee : (e + 1).toNatClampNeg = e.toNatClampNeg + 1 := xI_succ (m := 20000) e0 (by grind) (by decide)
  intro N
  induction N with
  | zero =>
    intro i i0 i1 q
    have lt : e < i := by
      by_cases w : e < i
      · exact w
      · have := xI_mono (Int32.not_lt.mp w)
        omega
    refine ⟨i, ?_, rfl, Int32.le_refl _, i1⟩
    rw [wh_eq]
    unfold foL
    rw [if_pos lt, cO_f]
  | succ N ih =>
    intro i i0 i1 q
    have le : ¬ e < i := fun w => by
      have h1 := (xI_lt e0 i0).mpr w
      omega
    have ii : (i + 1).toNatClampNeg = i.toNatClampNeg + 1 := xI_succ (m := 20000) i0 (by grind) (by decide)
    have v : vp_in i 100 := vp_lt (n := 100) (m := 100) i0 (by grind) rfl
    by_cases z : rdI h 73 i.toNatClampNeg = 0
    · obtain ⟨r, er, r1, r2, r3⟩ := ih (i + 1) (by grind) (by grind) (by omega)
      refine ⟨r, ?_, ?_, by grind, r3⟩
      · rw [wh_eq]
        have : foL h e i = some (.inl (i + 1)) := by
          unfold foL
          rw [if_neg le, gd_pos v, if_pos z, cO_t, lz_eq]
        rw [this]
        exact er
      · rw [r1, ii]
        show _ = if rdI h 73 i.toNatClampNeg = 0 then fOn h N (i.toNatClampNeg + 1) else i.toNatClampNeg
        rw [if_pos z]
    · refine ⟨i, ?_, ?_, Int32.le_refl _, i1⟩
      · rw [wh_eq]
        unfold foL
        rw [if_neg le, gd_pos v, if_neg z, cO_f]
      · show _ = if rdI h 73 i.toNatClampNeg = 0 then fOn h N (i.toNatClampNeg + 1) else i.toNatClampNeg
        rw [if_neg z]
/-- some points are gone through -/
def lyG (h : hH) (f : Nat → Nat) : Nat → Nat → (List ((Int32 × Int32) × Option (Int32 × Int32) × (Int32 × Int32)) × (Int32 × Int32) × Option (Int32 × Int32)) → (List ((Int32 × Int32) × Option (Int32 × Int32) × (Int32 × Int32)) × (Int32 × Int32) × Option (Int32 × Int32))
  | 0 => fun _ s => s
  | m + 1 => fun k s => lyG h f m (k + 1) (inG s (2 * rdI h 71 (f k), 2 * rdI h 72 (f k)) (rdI h 73 (f k)))
theorem lyG_len {h : hH} {f : Nat → Nat} : ∀ (m k : Nat) (s : List ((Int32 × Int32) × Option (Int32 × Int32) × (Int32 × Int32)) × (Int32 × Int32) × Option (Int32 × Int32)), (lyG h f m k s).1.length ≤ s.1.length + m := by
  intro m
  induction m with
  | zero => intro k s; exact Nat.le_refl _
  | succ m ih =>
    intro k s
    have a := ih (k + 1) (inG s (2 * rdI h 71 (f k), 2 * rdI h 72 (f k)) (rdI h 73 (f k)))
    have b := inG_len (s := s) (p := (2 * rdI h 71 (f k), 2 * rdI h 72 (f k))) (on := rdI h 73 (f k))
    show (lyG h f m (k + 1) _).1.length ≤ _
    omega
noncomputable def lyL (b v20 p2 p10 : Int32) (p23 : Int32 × hH) : Option ((Int32 × hH) ⊕ hH) :=
  if v20 ≤ p23.1 then (
    some (.inr p23.2)
  ) else (
    bP (A := Int32) (
      if p10 = 0 then (
        gd (¬ v20 = 0) <|
        some (b + (hx_rm ((p2 - b) + p23.1) v20))
      ) else (
        some (b + p23.1)
      )
    ) fun p25 =>
    gd (vp_in p25 100) <|
    bS (f_In_go ((2 : Int32) * (rdI p23.2 71 (Int32.toNatClampNeg p25))) ((2 : Int32) * (rdI p23.2 72 (Int32.toNatClampNeg p25))) (rdI p23.2 73 (Int32.toNatClampNeg p25)) p23.2) fun _ h4 =>
    lz (A := Int32) (p23.1 + (1 : Int32)) fun v29 =>
    some (.inl (v29, h4))
  )
theorem ly_loop {h : hH} {b v20 p2 p10 : Int32} {f : Nat → Nat} (v0 : 0 ≤ v20 ∧ v20 ≤ 100) (idx : ∀ i : Int32, 0 ≤ i → i < v20 → ∃ p, (if p10 = 0 then (gd (¬ v20 = 0) <| some (b + (hx_rm ((p2 - b) + i) v20))) else some (b + i)) = some p ∧ 0 ≤ p ∧ p < 100 ∧ p.toNatClampNeg = f i.toNatClampNeg) : ∀ (m : Nat) (i : Int32) (g : hH) (s : List ((Int32 × Int32) × Option (Int32 × Int32) × (Int32 × Int32)) × (Int32 × Int32) × Option (Int32 × Int32)), 0 ≤ i → i ≤ v20 → v20.toNatClampNeg - i.toNatClampNeg = m → IS g s → FrI h g → s.1.length + m ≤ 219 → ∃ g', wh (lyL b v20 p2 p10) (i, g) = some g' ∧ IS g' (lyG h f m i.toNatClampNeg s) ∧ FrI h g' := by
  intro m
  induction m with
  | zero =>
    intro i g s i0 i1 q is fr _
    have le : v20 ≤ i := by
      by_cases w : i = v20
      · rw [w]; exact Int32.le_refl _
      · have := (xI_lt i0 v0.1).mpr (show i < v20 by grind)
        omega
    refine ⟨g, ?_, is, fr⟩
    rw [wh_eq]
    unfold lyL
    dsimp only
    rw [if_pos le]
  | succ m ih =>
    intro i g s i0 i1 q is fr l
    have lt : i < v20 := by
      by_cases w : i = v20
      · rw [w] at q; omega
      · grind
    have ii : (i + 1).toNatClampNeg = i.toNatClampNeg + 1 := xI_succ (m := 20000) i0 (by grind) (by decide)
    obtain ⟨p, ep, p0, p1, pf⟩ := idx i i0 lt
    have v : vp_in p 100 := vp_lt (n := 100) (m := 100) p0 p1 rfl
    obtain ⟨g1, e1, is1, fr1⟩ := IS_go (x := 2 * rdI g 71 p.toNatClampNeg) (y := 2 * rdI g 72 p.toNatClampNeg) (on := rdI g 73 p.toNatClampNeg) is (by omega)
    have r71 := fr.1 71 p.toNatClampNeg (by omega)
    have r72 := fr.1 72 p.toNatClampNeg (by omega)
    have r73 := fr.1 73 p.toNatClampNeg (by omega)
    rw [r71, r72, r73, pf] at is1
    have ln := inG_len (s := s) (p := (2 * rdI h 71 (f i.toNatClampNeg), 2 * rdI h 72 (f i.toNatClampNeg))) (on := rdI h 73 (f i.toNatClampNeg))
    obtain ⟨g2, e2, is2, fr2⟩ := ih (i + 1) g1 _ (by grind) (by grind) (by omega) is1 (FrI_t fr fr1) (by omega)
    refine ⟨g2, ?_, ?_, fr2⟩
    · rw [wh_eq]
      have : lyL b v20 p2 p10 (i, g) = some (.inl (i + 1, g1)) := by
        unfold lyL
        dsimp only
        rw [if_neg (Int32.not_le.mpr lt), ep, bP_some, gd_pos v, e1, bS_some, lz_eq]
      rw [this]
      exact e2
    · rw [ii] at is2
      exact is2
theorem rm_nat {a n : Int32} (a0 : 0 ≤ a) (n0 : 0 < n) : (hx_rm a n).toNatClampNeg = a.toNatClampNeg % n.toNatClampNeg ∧ 0 ≤ hx_rm a n ∧ hx_rm a n < n := by
  have z0 : (0 : Int32).toInt = 0 := rfl
  have pa := Int32.le_iff_toInt_le.mp a0
  have pn := Int32.lt_iff_toInt_lt.mp n0
  rw [z0] at pa pn
  have ra := i32_rng a
  have rn := i32_rng n
  have e : (hx_rm a n).toInt = a.toInt.tmod n.toInt := by
    unfold hx_rm
    rw [Int32.toInt_sub, Int32.toInt_mul, Int32.toInt_div]
    rw [Int.bmod_mul_bmod, Int.sub_bmod_bmod]
    have e : a.toInt - a.toInt.tdiv n.toInt * n.toInt = a.toInt.tmod n.toInt := by
      have := Int.tmod_add_tdiv_mul a.toInt n.toInt
      omega
    rw [e]
    have h1 : (a.toInt.tmod n.toInt).natAbs < n.toInt.natAbs := by
      rw [Int.natAbs_tmod]
      exact Nat.mod_lt _ (by omega)
    exact i32_bm (by omega) (by omega)
  have em : a.toInt.tmod n.toInt = a.toInt % n.toInt := Int.tmod_eq_emod_of_nonneg pa
  have r0 := Int.emod_nonneg a.toInt (show n.toInt ≠ 0 by omega)
  have r1 := Int.emod_lt_of_pos a.toInt pn
  rw [em] at e
  refine ⟨?_, Int32.le_iff_toInt_le.mpr (by rw [z0, e]; exact r0), Int32.lt_iff_toInt_lt.mpr (by rw [e]; exact r1)⟩
  show (hx_rm a n).toInt.toNat = a.toInt.toNat % n.toInt.toNat
  rw [e]
  exact Int.toNat_emod pa (Int.le_of_lt pn)
/-- the places of a contour's points, from the first one on the curve -/
def lyP (B N R k : Nat) : Nat := if R < B + N then B + (R - B + k) % N else B + k
def lySt (h : hH) (B N R : Nat) : Int32 × Int32 := if R < B + N then (2 * rdI h 71 R, 2 * rdI h 72 R) else (rdI h 71 B + rdI h 71 (B + N - 1), rdI h 72 B + rdI h 72 (B + N - 1))
def lyC (h : hH) (B N : Nat) (L : List ((Int32 × Int32) × Option (Int32 × Int32) × (Int32 × Int32))) : List ((Int32 × Int32) × Option (Int32 × Int32) × (Int32 × Int32)) :=
  if fOn h N B < B + N then (inG (lyG h (lyP B N (fOn h N B)) (N - 1) 1 (L, lySt h B N (fOn h N B), none)) (lySt h B N (fOn h N B)) 1).1
  else (inG (lyG h (lyP B N (fOn h N B)) N 0 (L, lySt h B N (fOn h N B), none)) (lySt h B N (fOn h N B)) 1).1
theorem lyC_len {h : hH} {B N : Nat} {L : List ((Int32 × Int32) × Option (Int32 × Int32) × (Int32 × Int32))} : (lyC h B N L).length ≤ L.length + N + 1 := by
  unfold lyC
  split
  · have a := lyG_len (h := h) (f := lyP B N (fOn h N B)) (N - 1) 1 (L, lySt h B N (fOn h N B), none)
    have b := inG_len (s := lyG h (lyP B N (fOn h N B)) (N - 1) 1 (L, lySt h B N (fOn h N B), none)) (p := lySt h B N (fOn h N B)) (on := 1)
    dsimp only at a
    omega
  · have a := lyG_len (h := h) (f := lyP B N (fOn h N B)) N 0 (L, lySt h B N (fOn h N B), none)
    have b := inG_len (s := lyG h (lyP B N (fOn h N B)) N 0 (L, lySt h B N (fOn h N B), none)) (p := lySt h B N (fOn h N B)) (on := 1)
    dsimp only at a
    omega
theorem rf70 : rf 70 0 = 71 ∧ rf 70 1 = 72 ∧ rf 70 2 = 73 ∧ rf 70 4 = 74 ∧ rf 70 6 = 75 ∧ rf 70 7 = 76 := (od_rf (d := 0) (by decide)).2.1
theorem layContour_eq0 {x2 x3 : Int32} {h : hH} : f_In_layContour 70 x2 x3 h = bP (A := Int32) (wh (A := Int32) (B := Int32) (foL h x3) x2) fun p2 =>
  lz (A := Int32) (if p2 ≤ x3 then (0 : Int32) else (1 : Int32)) fun p10 =>
  bP (A := Int32) (
    if p10 = 0 then (
      gd (vp_in p2 100) <|
      some ((2 : Int32) * (rdI h 71 (Int32.toNatClampNeg p2)))
    ) else (
      gd (vp_in x2 100 ∧ vp_in x3 100) <|
      some ((rdI h 71 (Int32.toNatClampNeg x2)) + (rdI h 71 (Int32.toNatClampNeg x3)))
    )
  ) fun p12 =>
  bP (A := Int32) (
    if p10 = 0 then (
      gd (vp_in p2 100) <|
      some ((2 : Int32) * (rdI h 72 (Int32.toNatClampNeg p2)))
    ) else (
      gd (vp_in x2 100 ∧ vp_in x3 100) <|
      some ((rdI h 72 (Int32.toNatClampNeg x2)) + (rdI h 72 (Int32.toNatClampNeg x3)))
    )
  ) fun p16 =>
  lz (wrI h 182 8 p12) fun h1 =>
  lz (wrI h1 182 9 p16) fun h2 =>
  lz (wrI h2 182 10 (0 : Int32)) fun h3 =>
  lz (A := Int32) ((x3 - x2) + (1 : Int32)) fun v20 =>
  lz (A := Int32) (if p10 = 0 then (1 : Int32) else (0 : Int32)) fun p21 =>
  bP (A := hH) (wh (A := (Int32 × hH)) (B := hH) (lyL x2 v20 p2 p10) (p21, h3)) fun p24 =>
  bS (f_In_go p12 p16 (1 : Int32) p24) fun _ h5 =>
  some ((), h5) := by
  obtain ⟨a0, a1, a2, _⟩ := rf70
  unfold f_In_layContour lyL foL
  rw [a0, a1, a2]
