/-! LAYER 3BP: feed and glyph -/
theorem lt8 {i : Int32} (a : 0 ≤ i) (b : i < 8) : i = 0 ∨ i = 1 ∨ i = 2 ∨ i = 3 ∨ i = 4 ∨ i = 5 ∨ i = 6 ∨ i = 7 := by grind
theorem xI_of8 {i : Int32} (a : 0 ≤ i) (b : i < 8) : Int32.ofNat i.toNatClampNeg = i := by
  rcases lt8 a b with rfl | rfl | rfl | rfl | rfl | rfl | rfl | rfl <;> rfl
def fdV (x1 : Int32) (x2 : Int64) (i : Int32) : Int32 := Int8.toInt32 (Int32.toInt8 (Int8.toInt32 (Int32.toInt8 (Int64.toInt32 (x2 >>> ((Int32.toInt64 ((8 : Int32) * ((x1 - (1 : Int32)) - i))) &&& 63))))))
noncomputable def fdL (x1 : Int32) (x2 : Int64) (p2 : Int32 × hH) : Option ((Int32 × hH) ⊕ hH) :=
  if x1 ≤ p2.1 then (
    some (.inr p2.2)
  ) else (
    gd (vp_in ((rdI p2.2 2 1) + p2.1) 12000) <|
    lz (wrI p2.2 3 (Int32.toNatClampNeg ((rdI p2.2 2 1) + p2.1)) (fdV x1 x2 p2.1)) fun h1 =>
    lz (A := Int32) (p2.1 + (1 : Int32)) fun v5 =>
    some (.inl (v5, h1))
  )
noncomputable def fdM (x2 : Int64) (p3 : Int32 × hH) : Option ((Int32 × hH) ⊕ hH) :=
  if p3.1 < 0 then (
    some (.inr p3.2)
  ) else (
    gd (vp_in (rdI p3.2 192 1) 12000) <|
    lz (wrI p3.2 193 (Int32.toNatClampNeg (rdI p3.2 192 1)) (Int8.toInt32 (Int32.toInt8 (Int8.toInt32 (Int32.toInt8 (Int64.toInt32 (x2 >>> ((Int32.toInt64 ((8 : Int32) * p3.1)) &&& 63)))))))) fun h1 =>
    lz (wrI h1 192 1 ((rdI h1 192 1) + (1 : Int32))) fun h2 =>
    lz (A := Int32) (p3.1 + (-1 : Int32)) fun v6 =>
    some (.inl (v6, h2))
  )
theorem feedC_eq0 {x1 : Int32} {x2 : Int64} {h : hH} : f_HH_feed x1 x2 h = bP (f_HH_within (Int32.toInt64 x1) (1 : Int64) (8 : Int64)) fun a1 =>
  if a1 = 0 then (
    some ((-2 : Int32), h)
  ) else (
    if ((rdI h 2 1) + x1) ≤ (12000 : Int32) then (
      bP (A := hH) (wh (A := (Int32 × hH)) (B := hH) (fdL x1 x2) ((0 : Int32), h)) fun p3 =>
      lz (wrI p3 2 1 ((rdI p3 2 1) + x1)) fun h2 =>
      some ((rdI h2 2 1), h2)
    ) else (
      some ((-4 : Int32), h)
    )
  ) := rfl
theorem feedM_eq0 {x1 : Int32} {x2 : Int64} {h : hH} : f_Mo_feed x1 x2 h = bP (f_Mo_in (Int32.toInt64 x1) (1 : Int64) (8 : Int64)) fun a1 =>
  if a1 = 0 then (
    some ((-2 : Int32), h)
  ) else (
    if ((rdI h 192 1) + x1) ≤ (12000 : Int32) then (
      lz (A := Int32) (x1 - (1 : Int32)) fun v2 =>
      bP (A := hH) (wh (A := (Int32 × hH)) (B := hH) (fdM x2) (v2, h)) fun p4 =>
      some ((rdI p4 192 1), p4)
    ) else (
      some ((-4 : Int32), h)
    )
  ) := rfl
def fdC (x1 : Int32) (x2 : Int64) (h : hH) (k : Nat) : hH := mtI h 3 (rdI h 2 1).toNatClampNeg k (fun j => fdV x1 x2 (Int32.ofNat j))
def fdN (x1 : Int32) (x2 : Int64) (n : Int32) (h : hH) (i : Int32) : hH := wrI (mtI h 193 n.toNatClampNeg i.toNatClampNeg (fun j => fdV x1 x2 (Int32.ofNat j))) 192 1 (n + i)
theorem L_feed {hc hm : hH} {x1 : Int32} {x2 : Int64} (r : RW hc hm) : ∃ a g m, f_HH_feed x1 x2 hc = some (a, g) ∧ f_Mo_feed x1 x2 hm = some (a, m) ∧ ((g = hc ∧ m = hm) ∨ (RW g m ∧ (∀ o k, o ≠ 3 → ¬ (o = 2 ∧ k = 1) → rdI g o k = rdI hc o k) ∧ (∀ o k, o ≠ 193 → ¬ (o = 192 ∧ k = 1) → rdI m o k = rdI hm o k) ∧ (∀ o k, rdL g o k = rdL hc o k) ∧ (∀ o k, rdP g o k = rdP hc o k) ∧ (∀ o k, rdL m o k = rdL hm o k) ∧ (∀ o k, rdP m o k = rdP hm o k))) := by
  obtain ⟨r1, ⟨r2, r3⟩, r4⟩ := r
  have n10 : ¬ (1 : Int32) = 0 := by decide
  have w : f_HH_within x1.toInt64 1 8 = some (if 1 ≤ x1 ∧ x1 ≤ 8 then 1 else 0) := wi_lit (a := 1) (b := 8)
  rw [feedC_eq0, feedM_eq0, ← wi_in, w, bP_some, bP_some, r1]
  by_cases q : 1 ≤ x1 ∧ x1 ≤ 8
  · rw [if_pos q, if_neg n10, if_neg n10]
    by_cases p : rdI hc 2 1 + x1 ≤ 12000
    · rw [if_pos p, if_pos p, lz_eq]
      have wC : wh (fdL x1 x2) ((0 : Int32), hc) = some (fdC x1 x2 hc x1.toNatClampNeg) := by
        refine wh_fill (n := x1) ⟨by grind, by grind⟩ (fdC x1 x2 hc) mtI_0 ?_ ?_
        · unfold fdL
          dsimp only
          rw [if_pos (Int32.le_refl _)]
        · intro i i0 i1
          have r21 : rdI (fdC x1 x2 hc i.toNatClampNeg) 2 1 = rdI hc 2 1 := rdI_mo (by decide)
          have v : vp_in (rdI hc 2 1 + i) 12000 := vp_lt (n := 12000) (m := 12000) (by grind) (by grind) rfl
          have ei : (rdI hc 2 1 + i).toNatClampNeg = (rdI hc 2 1).toNatClampNeg + i.toNatClampNeg := xI_add (m := 20000) r2 (by grind) i0 (by grind) (by decide)
          unfold fdL
          dsimp only
          rw [if_neg (Int32.not_le.mpr i1), r21, gd_pos v, ei, lz_eq, lz_eq]
          refine congrArg (fun H : hH => (some (.inl (i + 1, H)) : Option ((Int32 × hH) ⊕ hH))) ?_
          unfold fdC
          exact mtI_s (by rw [xI_of8 i0 (by grind)]) rfl
      have key : ∀ (k : Nat) (i : Int32), 0 ≤ i → i ≤ x1 → x1.toNatClampNeg - i.toNatClampNeg = k → wh (fdM x2) (x1 - 1 - i, fdN x1 x2 (rdI hc 2 1) hm i) = some (fdN x1 x2 (rdI hc 2 1) hm x1) := by
        intro k
        induction k with
        | zero =>
          intro i i0 i1 e
          have e1 : i = x1 := by
            by_cases w : i = x1
            · exact w
            · have := (xI_lt (x := i) (y := x1) i0 (by grind)).mpr (by grind)
              omega
          rw [wh_eq]
          unfold fdM
          dsimp only
          rw [if_pos (by grind), e1]
        | succ k ih =>
          intro i i0 i1 e
          have lt : i < x1 := by
            by_cases w : i = x1
            · rw [w] at e; omega
            · grind
          have ii : (i + 1).toNatClampNeg = i.toNatClampNeg + 1 := xI_succ (m := 20000) i0 (by grind) (by decide)
          have c1 : rdI (fdN x1 x2 (rdI hc 2 1) hm i) 192 1 = rdI hc 2 1 + i := by
            unfold fdN
            rw [rdI_wrI, if_pos ⟨rfl, rfl⟩]
          have v : vp_in (rdI hc 2 1 + i) 12000 := vp_lt (n := 12000) (m := 12000) (by grind) (by grind) rfl
          have ei : (rdI hc 2 1 + i).toNatClampNeg = (rdI hc 2 1).toNatClampNeg + i.toNatClampNeg := xI_add (m := 20000) r2 (by grind) i0 (by grind) (by decide)
          have nl : ¬ x1 - 1 - i < 0 := by grind
          have st : fdM x2 (x1 - 1 - i, fdN x1 x2 (rdI hc 2 1) hm i) = some (.inl (x1 - 1 - (i + 1), fdN x1 x2 (rdI hc 2 1) hm (i + 1))) := by
            unfold fdM
            dsimp only
            rw [if_neg nl, c1, gd_pos v, ei, lz_eq, rdI_o (by decide), c1, lz_eq, lz_eq, show x1 - 1 - i + (-1) = x1 - 1 - (i + 1) by grind]
            refine congrArg (fun H : hH => (some (.inl (x1 - 1 - (i + 1), H)) : Option ((Int32 × hH) ⊕ hH))) ?_
            unfold fdN
            rw [ii, wrI_comm (o := 192) (o' := 193) (by omega), wrI_wrI, mtI_s (show Int8.toInt32 (Int32.toInt8 (Int8.toInt32 (Int32.toInt8 (Int64.toInt32 (x2 >>> ((Int32.toInt64 ((8 : Int32) * (x1 - 1 - i))) &&& 63)))))) = (fun j => fdV x1 x2 (Int32.ofNat j)) i.toNatClampNeg by dsimp only; rw [xI_of8 i0 (by grind)]; rfl) rfl, show rdI hc 2 1 + i + 1 = rdI hc 2 1 + (i + 1) by grind]
          rw [wh_eq, st]
          exact ih (i + 1) (by grind) (by grind) (by omega)
      have z0 : (0 : Int32).toNatClampNeg = 0 := rfl
      have k0 := key _ 0 (by decide) (by grind) rfl
      have eM0 : fdN x1 x2 (rdI hc 2 1) hm 0 = hm := by
        unfold fdN
        rw [z0, mtI_0, show rdI hc 2 1 + 0 = rdI hc 2 1 by grind]
        exact wrI_id r1.symm
      rw [eM0, show x1 - 1 - 0 = x1 - 1 by grind] at k0
      have r21 : rdI (fdC x1 x2 hc x1.toNatClampNeg) 2 1 = rdI hc 2 1 := rdI_mo (by decide)
      have mN : rdI (fdN x1 x2 (rdI hc 2 1) hm x1) 192 1 = rdI hc 2 1 + x1 := by
        unfold fdN
        rw [rdI_wrI, if_pos ⟨rfl, rfl⟩]
      have gN : rdI (wrI (fdC x1 x2 hc x1.toNatClampNeg) 2 1 (rdI hc 2 1 + x1)) 2 1 = rdI hc 2 1 + x1 := by rw [rdI_wrI, if_pos ⟨rfl, rfl⟩]
      have ex : (rdI hc 2 1 + x1).toNatClampNeg = (rdI hc 2 1).toNatClampNeg + x1.toNatClampNeg := xI_add (m := 20000) r2 (by grind) (by grind) (by grind) (by decide)
      rw [wC, bP_some, r21, lz_eq, gN, k0, bP_some, mN]
      refine ⟨_, _, _, rfl, rfl, Or.inr ⟨⟨?_, ?_, ?_⟩, ?_, ?_, fun _ _ => rfl, fun _ _ => rfl, fun _ _ => rfl, fun _ _ => rfl⟩⟩
      · rw [mN, gN]
      · rw [gN]; exact ⟨by grind, p⟩
      · intro i hi
        rw [gN, ex] at hi
        unfold fdN fdC
        rw [rdI_o (by decide), rdI_o (by decide), rdI_mtI, rdI_mtI]
        by_cases u : i < (rdI hc 2 1).toNatClampNeg
        · rw [if_neg (by omega), if_neg (by omega)]
          exact r4 i u
        · rw [if_pos ⟨rfl, by omega, by omega⟩, if_pos ⟨rfl, by omega, by omega⟩]
      · intro o k a b
        rw [rdI_wrI, if_neg b]
        exact rdI_mo a
      · intro o k a b
        unfold fdN
        rw [rdI_wrI, if_neg b, rdI_mo a]
    · rw [if_neg p, if_neg p]
      exact ⟨_, _, _, rfl, rfl, Or.inl ⟨rfl, rfl⟩⟩
  · rw [if_neg q, if_pos rfl, if_pos rfl]
    exact ⟨_, _, _, rfl, rfl, Or.inl ⟨rfl, rfl⟩⟩
theorem ar_sz {a p q : Int32} : a + q - (a + p) = q - p := by grind
theorem L_glyph {hc hm : hH} {x y : Int32} (r : RR hc hm) : ∃ a g m, f_HH_glyph x y hc = some (a, g) ∧ f_Mo_glyph x y hm = some (a, m) ∧ (g = hc ∨ FrG 172 (wrP hc 172 15 5) g) ∧ FrN hm m := by
  obtain ⟨_, rl, _⟩ := r
  have n10 : ¬ (1 : Int32) = 0 := by decide
  unfold f_HH_glyph f_Mo_glyph
  rcases rl with ⟨l1, l2, _⟩ | ⟨l1, l2, fs, fn, _, _⟩
  · rw [if_pos l1, if_pos l2]
    exact ⟨_, _, _, rfl, rfl, Or.inl rfl, FrN_rfl⟩
  have fb : BY hc hm := fs.1
  obtain ⟨g1, g2, g3⟩ := fn.1.2.1
  have g0 : 0 ≤ rdI hc 4 8 := by grind
  have w : f_Mo_in x.toInt64 0 (rdI hc 4 8 - 1).toInt64 = some (if 0 ≤ x ∧ x < rdI hc 4 8 then 1 else 0) := within_0 g0
  rw [if_neg l1, if_neg l2, isG_eq g0, g1, w, bP_some, bP_some]
  by_cases q : 0 ≤ x ∧ x < rdI hc 4 8
  · rw [if_pos q, if_neg n10, if_neg n10]
    have hz : isGl 172 := Or.inr (Or.inr (Or.inr (Or.inr (Or.inr (Or.inr (Or.inr rfl))))))
    obtain ⟨la, lb, l⟩ := fn.1.2.2 x q.1 q.2
    obtain ⟨⟨y1, h1⟩, ey⟩ := rd_ex hz fb fn.1 l
    obtain ⟨mg, eg⟩ := GH_1 (fn.2 x q.1 q.2).2
    obtain ⟨m1, e1, f1, f2, qq⟩ := rd_at hz fb fn.1 l ey
    have y11 : y1 = 1 := by
      rw [eg] at e1
      exact (congrArg Prod.fst (Option.some.inj e1)).symm
    subst y11
    rcases qq with qq | ⟨_, gl, lf, b26, b27⟩
    · exact absurd qq n10
    dsimp only at e1 f2 gl lf
    have eF : f_Fo_read x 172 hc = some (1, h1) := by
      unfold f_Fo_read
      rw [l.1, bP_some, l.2.1, bP_some, ey, bS_some, gd_pos (Or.inr rfl)]
    have ct : CT hc h1 := ⟨fun k => (f2.1 4 k (by omega)).trans rdI_wrP, fun k => (f2.1 5 k (by omega)).trans rdI_wrP, fun k => (f2.1 6 k (by omega)).trans rdI_wrP⟩
    have mt := MT_N f1
    obtain ⟨⟨v, bc, bm, _⟩, ⟨u, ac, am⟩⟩ := (fn.2 x q.1 q.2).1
    have eS : f_Fo_sizeOf x h1 = some (lb - la).toInt32 := by
      rw [CT_size ct]
      unfold f_Fo_sizeOf
      rw [l.2.1, bP_some, l.1, bP_some]
    obtain ⟨⟨s28, s29, s30⟩, s32, _⟩ := gl
    obtain ⟨c, el⟩ := L_left (BY_tr (c0 := hc) (c1 := hc) ⟨fun _ => rfl, fun _ => rfl, fun _ => rfl⟩ mt fb) (MT_GB mt l.2.2.1) l.2.2.2.1 (Gl_hd ey) l.2.2.2.2.1 l.2.2.2.2.2
    have f3 : FrN hm (btM m1 (rdI hc 4 19 + la.toInt32) (rdI hc 4 19 + lb.toInt32) c) := FrN_t f1 btM_fr
    rw [eF, e1, bS_some, bS_some, CT_advance ct, ac, MT_advance mt, am, CT_bearing ct, bc, MT_bearing mt, bm, eS, el, b26, b27, s28, s29, s30, s32.1, lf, ar_sz, ← Int64.toInt32_sub, bP_some, bP_some, bP_some, bP_some, bP_some, bS_some, if_neg n10]
    by_cases y0 : y = 0
    · simp only [if_pos y0]; exact ⟨_, _, _, rfl, rfl, Or.inr f2, f1⟩
    simp only [if_neg y0]
    by_cases y1 : y = 1
    · simp only [if_pos y1]; exact ⟨_, _, _, rfl, rfl, Or.inr f2, f1⟩
    simp only [if_neg y1]
    by_cases y2 : y = 2
    · simp only [if_pos y2]; exact ⟨_, _, _, rfl, rfl, Or.inr f2, f1⟩
    simp only [if_neg y2]
    by_cases y3 : y = 3
    · simp only [if_pos y3]; exact ⟨_, _, _, rfl, rfl, Or.inr f2, f1⟩
    simp only [if_neg y3]
    by_cases y4 : y = 4
    · simp only [if_pos y4]; exact ⟨_, _, _, rfl, rfl, Or.inr f2, f3⟩
    simp only [if_neg y4]
    by_cases y5 : y = 5
    · simp only [if_pos y5]; exact ⟨_, _, _, rfl, rfl, Or.inr f2, f1⟩
    simp only [if_neg y5]
    by_cases y6 : y = 6
    · simp only [if_pos y6]; exact ⟨_, _, _, rfl, rfl, Or.inr f2, f1⟩
    simp only [if_neg y6]
    by_cases y7 : y = 7
    · simp only [if_pos y7]; exact ⟨_, _, _, rfl, rfl, Or.inr f2, f1⟩
    simp only [if_neg y7]
    exact ⟨_, _, _, rfl, rfl, Or.inr f2, f1⟩
  · rw [if_neg q, if_pos rfl, if_pos rfl]
    exact ⟨_, _, _, rfl, rfl, Or.inl rfl, FrN_rfl⟩
