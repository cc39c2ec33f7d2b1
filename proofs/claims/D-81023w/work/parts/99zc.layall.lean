/-! LAYER 3BK: a whole outline laid out -/
theorem IS_0 {h : hH} {s : List ((Int32 × Int32) × Option (Int32 × Int32) × (Int32 × Int32)) × (Int32 × Int32) × Option (Int32 × Int32)} (i : IS h s) : IS0 h s.1 := ⟨i.1, i.2.1⟩
theorem IS_set {h : hH} {L : List ((Int32 × Int32) × Option (Int32 × Int32) × (Int32 × Int32))} {x y : Int32} (i : IS0 h L) : IS (wrI (wrI (wrI h 182 8 x) 182 9 y) 182 10 0) (L, (x, y), none) ∧ FrI h (wrI (wrI (wrI h 182 8 x) 182 9 y) 182 10 0) := by
  obtain ⟨⟨i1, i2⟩, i3⟩ := i
  refine ⟨⟨⟨?_, ?_⟩, fun k pc hk => PcR_loc (fun o a b => ?_) (i3 k pc hk), ⟨?_, ?_⟩, Or.inl ⟨rfl, ?_⟩⟩, FrI_w (FrI_w (FrI_w FrI_rfl (by omega)) (by omega)) (by omega)⟩
  · simp only [rdI_wrI, rdP_wrI, rdL_wrI, Nat.reduceEqDiff, false_and, and_false, true_and, and_true, eq_self, reduceIte, ite_self]; exact i1
  · simp only [rdI_wrI, rdP_wrI, rdL_wrI, Nat.reduceEqDiff, false_and, and_false, true_and, and_true, eq_self, reduceIte, ite_self]; exact i2
  · rw [rdI_o (by omega), rdI_o (by omega), rdI_o (by omega)]
  · simp only [rdI_wrI, rdP_wrI, rdL_wrI, Nat.reduceEqDiff, false_and, and_false, true_and, and_true, eq_self, reduceIte, ite_self]
  · simp only [rdI_wrI, rdP_wrI, rdL_wrI, Nat.reduceEqDiff, false_and, and_false, true_and, and_true, eq_self, reduceIte, ite_self]
  · simp only [rdI_wrI, rdP_wrI, rdL_wrI, Nat.reduceEqDiff, false_and, and_false, true_and, and_true, eq_self, reduceIte, ite_self]
theorem IS_contour {h : hH} {L : List ((Int32 × Int32) × Option (Int32 × Int32) × (Int32 × Int32))} {b e : Int32} (is : IS0 h L) (b0 : 0 ≤ b) (be : b ≤ e) (e1 : e < 100) (l : L.length + (e.toNatClampNeg + 1 - b.toNatClampNeg) + 1 ≤ 220) : ∃ g, f_In_layContour 70 b e h = some ((), g) ∧ IS0 g (lyC h b.toNatClampNeg (e.toNatClampNeg + 1 - b.toNatClampNeg) L) ∧ FrI h g := by
  have e0 : 0 ≤ e := Int32.le_trans b0 be
  have bE := xI_mono be
  have e100 := (xI_lt (y := 100) e0 (by decide)).mpr e1
  have c100 : (100 : Int32).toNatClampNeg = 100 := rfl
  obtain ⟨r, er, rN, rb, re⟩ := fo_find (h := h) e0 e1 (e.toNatClampNeg + 1 - b.toNatClampNeg) b b0 (by grind) rfl
  have r0 : 0 ≤ r := Int32.le_trans b0 rb
  have rb' := xI_mono rb
  have v20N : (e - b + 1).toNatClampNeg = e.toNatClampNeg + 1 - b.toNatClampNeg := by
    have a : (b + (e - b)).toNatClampNeg = b.toNatClampNeg + (e - b).toNatClampNeg := xI_add (m := 1000) b0 (by grind) (by grind) (by grind) (by decide)
    rw [show b + (e - b) = e by grind] at a
    have c : (e - b + 1).toNatClampNeg = (e - b).toNatClampNeg + 1 := xI_succ (m := 20000) (by grind) (by grind) (by decide)
    omega
  have v200 : 0 ≤ e - b + 1 ∧ e - b + 1 ≤ 100 := ⟨by grind, by grind⟩
  have v20p : 0 < e - b + 1 := by grind
  have z1 : (1 : Int32).toNatClampNeg = 1 := rfl
  have z0 : (0 : Int32).toNatClampNeg = 0 := rfl
  rw [layContour_eq0, er, bP_some, lz_eq]
  unfold lyC
  by_cases q : r ≤ e
  · have R1 : fOn h (e.toNatClampNeg + 1 - b.toNatClampNeg) b.toNatClampNeg < b.toNatClampNeg + (e.toNatClampNeg + 1 - b.toNatClampNeg) := by
      rw [← rN]
      have := xI_mono q
      omega
    have v : vp_in r 100 := vp_lt (n := 100) (m := 100) r0 (by grind) rfl
    rw [if_pos q, if_pos rfl, gd_pos v, bP_some, if_pos rfl, gd_pos v, bP_some, lz_eq, lz_eq, lz_eq, lz_eq, if_pos rfl, lz_eq, if_pos R1]
    have st : lySt h b.toNatClampNeg (e.toNatClampNeg + 1 - b.toNatClampNeg) (fOn h (e.toNatClampNeg + 1 - b.toNatClampNeg) b.toNatClampNeg) = (2 * rdI h 71 r.toNatClampNeg, 2 * rdI h 72 r.toNatClampNeg) := by
      unfold lySt
      rw [if_pos R1, ← rN]
    rw [st, ← rN]
    rw [← rN] at R1
    obtain ⟨is3, fr3⟩ := IS_set (x := 2 * rdI h 71 r.toNatClampNeg) (y := 2 * rdI h 72 r.toNatClampNeg) is
    obtain ⟨g1, w1, is1, fr1⟩ := ly_loop (h := h) (b := b) (v20 := e - b + 1) (p2 := r) (p10 := 0) (f := lyP b.toNatClampNeg (e.toNatClampNeg + 1 - b.toNatClampNeg) r.toNatClampNeg) v200 (fun i i0 i1 => by
      have rbn : (r - b).toNatClampNeg = r.toNatClampNeg - b.toNatClampNeg := by
        have a : (b + (r - b)).toNatClampNeg = b.toNatClampNeg + (r - b).toNatClampNeg := xI_add (m := 1000) b0 (by grind) (by grind) (by grind) (by decide)
        rw [show b + (r - b) = r by grind] at a
        omega
      have rbi : (r - b + i).toNatClampNeg = (r - b).toNatClampNeg + i.toNatClampNeg := xI_add (m := 1000) (by grind) (by grind) i0 (by grind) (by decide)
      obtain ⟨m1, m2, m3⟩ := rm_nat (a := r - b + i) (n := e - b + 1) (by grind) v20p
      have s1 : (b + hx_rm (r - b + i) (e - b + 1)).toNatClampNeg = b.toNatClampNeg + (hx_rm (r - b + i) (e - b + 1)).toNatClampNeg := xI_add (m := 1000) b0 (by grind) m2 (by grind) (by decide)
      have nz : ¬ e - b + 1 = 0 := by grind
      refine ⟨b + hx_rm (r - b + i) (e - b + 1), by rw [if_pos rfl, gd_pos nz], by grind, by grind, ?_⟩
      rw [s1, m1, v20N, rbi, rbn]
      unfold lyP
      rw [if_pos R1]) (e.toNatClampNeg + 1 - b.toNatClampNeg - 1) 1 _ _ (by decide) (by grind) (by rw [v20N, z1]) is3 fr3 (by dsimp only; omega)
    have ln := lyG_len (h := h) (f := lyP b.toNatClampNeg (e.toNatClampNeg + 1 - b.toNatClampNeg) r.toNatClampNeg) (e.toNatClampNeg + 1 - b.toNatClampNeg - 1) 1 (L, (2 * rdI h 71 r.toNatClampNeg, 2 * rdI h 72 r.toNatClampNeg), none)
    dsimp only at ln
    rw [z1] at is1
    obtain ⟨g2, w2, is2, fr2⟩ := IS_go (x := 2 * rdI h 71 r.toNatClampNeg) (y := 2 * rdI h 72 r.toNatClampNeg) (on := 1) is1 (by omega)
    rw [w1, bP_some, w2, bS_some]
    exact ⟨g2, rfl, IS_0 is2, FrI_t fr1 fr2⟩
  · have R1 : ¬ fOn h (e.toNatClampNeg + 1 - b.toNatClampNeg) b.toNatClampNeg < b.toNatClampNeg + (e.toNatClampNeg + 1 - b.toNatClampNeg) := by
      rw [← rN]
      have := (xI_lt e0 r0).mpr (Int32.not_le.mp q)
      omega
    have n10 : ¬ (1 : Int32) = 0 := by decide
    have v : vp_in b 100 ∧ vp_in e 100 := ⟨vp_lt (n := 100) (m := 100) b0 (by grind) rfl, vp_lt (n := 100) (m := 100) e0 e1 rfl⟩
    rw [if_neg q, if_neg n10, gd_pos v, bP_some, if_neg n10, gd_pos v, bP_some, lz_eq, lz_eq, lz_eq, lz_eq, if_neg n10, lz_eq, if_neg R1]
    have st : lySt h b.toNatClampNeg (e.toNatClampNeg + 1 - b.toNatClampNeg) (fOn h (e.toNatClampNeg + 1 - b.toNatClampNeg) b.toNatClampNeg) = (rdI h 71 b.toNatClampNeg + rdI h 71 e.toNatClampNeg, rdI h 72 b.toNatClampNeg + rdI h 72 e.toNatClampNeg) := by
      unfold lySt
      rw [if_neg R1, show b.toNatClampNeg + (e.toNatClampNeg + 1 - b.toNatClampNeg) - 1 = e.toNatClampNeg by omega]
    rw [st, ← rN]
    rw [← rN] at R1
    obtain ⟨is3, fr3⟩ := IS_set (x := rdI h 71 b.toNatClampNeg + rdI h 71 e.toNatClampNeg) (y := rdI h 72 b.toNatClampNeg + rdI h 72 e.toNatClampNeg) is
    obtain ⟨g1, w1, is1, fr1⟩ := ly_loop (h := h) (b := b) (v20 := e - b + 1) (p2 := r) (p10 := 1) (f := lyP b.toNatClampNeg (e.toNatClampNeg + 1 - b.toNatClampNeg) r.toNatClampNeg) v200 (fun i i0 i1 => by
      have s1 : (b + i).toNatClampNeg = b.toNatClampNeg + i.toNatClampNeg := xI_add (m := 1000) b0 (by grind) i0 (by grind) (by decide)
      refine ⟨b + i, by rw [if_neg n10], by grind, by grind, ?_⟩
      rw [s1]
      unfold lyP
      rw [if_neg R1]) (e.toNatClampNeg + 1 - b.toNatClampNeg) 0 _ _ (by decide) (by grind) (by rw [v20N, z0]; omega) is3 fr3 (by dsimp only; omega)
    have ln := lyG_len (h := h) (f := lyP b.toNatClampNeg (e.toNatClampNeg + 1 - b.toNatClampNeg) r.toNatClampNeg) (e.toNatClampNeg + 1 - b.toNatClampNeg) 0 (L, (rdI h 71 b.toNatClampNeg + rdI h 71 e.toNatClampNeg, rdI h 72 b.toNatClampNeg + rdI h 72 e.toNatClampNeg), none)
    dsimp only at ln
    rw [z0] at is1
    obtain ⟨g2, w2, is2, fr2⟩ := IS_go (x := rdI h 71 b.toNatClampNeg + rdI h 71 e.toNatClampNeg) (y := rdI h 72 b.toNatClampNeg + rdI h 72 e.toNatClampNeg) (on := 1) is1 (by omega)
    rw [w1, bP_some, w2, bS_some]
    exact ⟨g2, rfl, IS_0 is2, FrI_t fr1 fr2⟩
def bgN (h : hH) (c : Nat) : Nat := if c = 0 then 0 else (rdI h 74 (c - 1)).toNatClampNeg + 1
/-- the pieces of the first contours -/
def lyA (h : hH) : Nat → List ((Int32 × Int32) × Option (Int32 × Int32) × (Int32 × Int32))
  | 0 => []
  | c + 1 => lyC h (bgN h c) ((rdI h 74 c).toNatClampNeg + 1 - bgN h c) (lyA h c)
theorem lyC_loc {h g : hH} (f : FrI h g) {B N : Nat} {L : List ((Int32 × Int32) × Option (Int32 × Int32) × (Int32 × Int32))} : lyC g B N L = lyC h B N L := by
  have e1 : ∀ k, rdI g 71 k = rdI h 71 k := fun k => f.1 71 k (by omega)
  have e2 : ∀ k, rdI g 72 k = rdI h 72 k := fun k => f.1 72 k (by omega)
  have e3 : ∀ k, rdI g 73 k = rdI h 73 k := fun k => f.1 73 k (by omega)
  have fo : ∀ N B, fOn g N B = fOn h N B := by
    intro N
    induction N with
    | zero => intro B; rfl
    | succ N ih =>
      intro B
      show (if rdI g 73 B = 0 then fOn g N (B + 1) else B) = (if rdI h 73 B = 0 then fOn h N (B + 1) else B)
      rw [e3, ih]
  have lg : ∀ (f' : Nat → Nat) (m k : Nat) (s : List ((Int32 × Int32) × Option (Int32 × Int32) × (Int32 × Int32)) × (Int32 × Int32) × Option (Int32 × Int32)), lyG g f' m k s = lyG h f' m k s := by
    intro f' m
    induction m with
    | zero => intro k s; rfl
    | succ m ih =>
      intro k s
      show lyG g f' m (k + 1) (inG s (2 * rdI g 71 (f' k), 2 * rdI g 72 (f' k)) (rdI g 73 (f' k))) = lyG h f' m (k + 1) (inG s (2 * rdI h 71 (f' k), 2 * rdI h 72 (f' k)) (rdI h 73 (f' k)))
      rw [e1, e2, e3, ih]
  unfold lyC lySt
  rw [fo]
  simp only [lg, e1, e2]
theorem EN_b {e : Nat → Int32} {c n : Int32} (h : EN e c n) {k : Nat} (hk : k < c.toNatClampNeg) : 0 ≤ e k ∧ e k < 100 ∧ (k = 0 ∨ (e (k - 1) < e k ∧ 0 ≤ e (k - 1))) := by
  obtain ⟨h1, h2, h3, h4, h5, h6, h7, h8⟩ := h
  have a := h6 k hk
  refine ⟨a.1, Int32.lt_of_lt_of_le a.2 h4, ?_⟩
  by_cases q : k = 0
  · exact Or.inl q
  · right
    have b := h7 (k - 1) (by omega)
    rw [show k - 1 + 1 = k by omega] at b
    exact ⟨b, (h6 (k - 1) (by omega)).1⟩
theorem In_lay_eq0 {h : hH} : f_In_lay 70 h = lz (wrI h 182 7 (0 : Int32)) fun h1 =>
  bP (A := hH) (
    wh (A := (Int32 × hH)) (B := hH) (fun p1 =>
        if (rdI p1.2 70 5) ≤ p1.1 then (
          some (.inr p1.2)
        ) else (
          bP (f_Ou_beginOf 70 p1.1 p1.2) fun a3 =>
          gd (vp_in p1.1 20) <|
          bS (f_In_layContour 70 a3 (rdI p1.2 74 (Int32.toNatClampNeg p1.1)) p1.2) fun _ h2 =>
          lz (A := Int32) (p1.1 + (1 : Int32)) fun v5 =>
          some (.inl (v5, h2))
        )
    ) ((0 : Int32), h1)
  ) fun p2 =>
  some ((), p2) := by
  unfold f_In_lay
  rw [rf70.2.2.2.1]
theorem IS_lay {h : hH} (en : EN (fun c => rdI h 74 c) (rdI h 70 5) (rdI h 70 3)) : ∃ g, f_In_lay 70 h = some ((), g) ∧ IS0 g (lyA h (rdI h 70 5).toNatClampNeg) ∧ FrI h g := by
  rw [In_lay_eq0, lz_eq]
  have c0 : 0 ≤ rdI h 70 5 := en.1
  have c20 : rdI h 70 5 ≤ 20 := en.2.1
  have z0 : (0 : Int32).toNatClampNeg = 0 := rfl
  have len : ∀ c, c ≤ (rdI h 70 5).toNatClampNeg → (lyA h c).length ≤ bgN h c + c := by
    intro c
    induction c with
    | zero => intro _; exact Nat.le_refl _
    | succ c ih =>
      intro hc
      have a := ih (by omega)
      have b := lyC_len (h := h) (B := bgN h c) (N := (rdI h 74 c).toNatClampNeg + 1 - bgN h c) (L := lyA h c)
      have e : bgN h (c + 1) = (rdI h 74 c).toNatClampNeg + 1 := by
        unfold bgN
        rw [if_neg (by omega)]
        rfl
      have k := EN_b en (k := c) (by omega)
      have m : bgN h c ≤ (rdI h 74 c).toNatClampNeg + 1 := by
        unfold bgN
        split
        · omega
        · rcases k.2.2 with k3 | ⟨k3, k4⟩
          · omega
          · have := (xI_lt k4 k.1).mpr k3
            omega
      show (lyC h (bgN h c) ((rdI h 74 c).toNatClampNeg + 1 - bgN h c) (lyA h c)).length ≤ _
      rw [e]
      omega
  have key : ∀ (m : Nat) (i : Int32) (g : hH), 0 ≤ i → i ≤ rdI h 70 5 → (rdI h 70 5).toNatClampNeg - i.toNatClampNeg = m → IS0 g (lyA h i.toNatClampNeg) → FrI h g → ∃ g', wh (A := (Int32 × hH)) (B := hH) (fun p1 =>
        if (rdI p1.2 70 5) ≤ p1.1 then (
          some (.inr p1.2)
        ) else (
          bP (f_Ou_beginOf 70 p1.1 p1.2) fun a3 =>
          gd (vp_in p1.1 20) <|
          bS (f_In_layContour 70 a3 (rdI p1.2 74 (Int32.toNatClampNeg p1.1)) p1.2) fun _ h2 =>
          lz (A := Int32) (p1.1 + (1 : Int32)) fun v5 =>
          some (.inl (v5, h2))
        )
    ) (i, g) = some g' ∧ IS0 g' (lyA h (rdI h 70 5).toNatClampNeg) ∧ FrI h g' := by
    intro m
    induction m with
    | zero =>
      intro i g i0 i1 q is fr
      have le : rdI h 70 5 = i := by
        by_cases w : i = rdI h 70 5
        · exact w.symm
        · have := (xI_lt i0 c0).mpr (show i < rdI h 70 5 by grind)
          omega
      refine ⟨g, ?_, ?_, fr⟩
      · rw [wh_eq]
        dsimp only
        rw [fr.1 70 5 (by omega), if_pos (by rw [le]; exact Int32.le_refl _)]
      · rw [le]; exact is
    | succ m ih =>
      intro i g i0 i1 q is fr
      have lt : i < rdI h 70 5 := by
        by_cases w : i = rdI h 70 5
        · rw [← w] at q; omega
        · grind
      have lt' := (xI_lt i0 c0).mpr lt
      have ii : (i + 1).toNatClampNeg = i.toNatClampNeg + 1 := xI_succ (m := 20000) i0 (by grind) (by decide)
      have v20 : vp_in i 20 := vp_lt (n := 20) (m := 20) i0 (by grind) rfl
      obtain ⟨k1, k2, k3⟩ := EN_b en lt'
      have hb : ∃ b, f_Ou_beginOf 70 i g = some b ∧ 0 ≤ b ∧ b ≤ rdI h 74 i.toNatClampNeg ∧ b.toNatClampNeg = bgN h i.toNatClampNeg := by
        unfold f_Ou_beginOf bgN
        by_cases w : i = 0
        · rw [if_pos w]
          refine ⟨0, rfl, by decide, k1, ?_⟩
          rw [w, z0, if_pos rfl]
        · have i1' : 1 ≤ i := by grind
          have ne : ¬ i.toNatClampNeg = 0 := fun u => w (xI_inj i0 (by decide) u)
          have ei : (i - 1).toNatClampNeg = i.toNatClampNeg - 1 := by
            have : (i - 1 + 1).toNatClampNeg = (i - 1).toNatClampNeg + 1 := xI_succ (m := 20000) (by grind) (by grind) (by decide)
            rw [show i - 1 + 1 = i by grind] at this
            omega
          have vv : vp_in (i - 1) 20 := vp_lt (n := 20) (m := 20) (by grind) (by grind) rfl
          rcases k3 with k3 | ⟨k3, k4⟩
          · exact absurd k3 ne
          · rw [if_neg w, gd_pos vv, rf70.2.2.2.1, ei, fr.1 74 _ (by omega), if_neg ne]
            refine ⟨_, rfl, by grind, by grind, xI_succ (m := 20000) k4 (by grind) (by decide)⟩
      obtain ⟨b, eb, b0, be, bn⟩ := hb
      have k100 : (100 : Int32).toNatClampNeg = 100 := rfl
      have kl := (xI_lt (y := 100) k1 (by decide)).mpr k2
      have bl := xI_mono be
      have l1 := len i.toNatClampNeg (by omega)
      have n20 : (20 : Int32).toNatClampNeg = 20 := rfl
      have c20' := xI_mono c20
      obtain ⟨g1, e1, is1, fr1⟩ := IS_contour (b := b) (e := rdI h 74 i.toNatClampNeg) is b0 be k2 (by omega)
      rw [bn, lyC_loc fr] at is1
      obtain ⟨g2, e2, is2, fr2⟩ := ih (i + 1) g1 (by grind) (by grind) (by omega) (by rw [ii]; exact is1) (FrI_t fr fr1)
      refine ⟨g2, ?_, is2, fr2⟩
      rw [wh_eq]
      dsimp only
      rw [fr.1 70 5 (by omega), if_neg (Int32.not_le.mpr lt), eb, bP_some, gd_pos v20, fr.1 74 _ (by omega), e1, bS_some, lz_eq]
      exact e2
  obtain ⟨g, eg, is, fr⟩ := key _ 0 (wrI h 182 7 0) (by decide) c0 rfl ⟨⟨by simp only [rdI_wrI, rdP_wrI, rdL_wrI, Nat.reduceEqDiff, false_and, and_false, true_and, and_true, eq_self, reduceIte, ite_self]; decide, by simp only [rdI_wrI, rdP_wrI, rdL_wrI, Nat.reduceEqDiff, false_and, and_false, true_and, and_true, eq_self, reduceIte, ite_self]; rfl⟩, fun k pc hk => by simp [lyA, z0] at hk⟩ (FrI_w FrI_rfl (by omega))
  rw [eg, bP_some]
  exact ⟨g, rfl, is, fr⟩
