/-! LAYER 3V: a size on both sides (printed by gen/mk86.py) -/
theorem stcp57_o {h : hH} {o k : Nat} (ho : o < 57 ∨ 67 < o) : rdI (stcp57 h) o k = rdI h o k := by
  unfold stcp57 secp67 zcp60
  rw [rdI_o (show o ≠ 67 by omega), rdI_o (show o ≠ 67 by omega), rdI_o (show o ≠ 67 by omega), rdI_o (show o ≠ 67 by omega), rdI_o (show o ≠ 67 by omega), rdI_o (show o ≠ 67 by omega), rdI_o (show o ≠ 67 by omega), rdI_o (show o ≠ 67 by omega), rdI_o (show o ≠ 67 by omega), rdI_fo (show o ≠ 66 by omega), rdI_fo (show o ≠ 65 by omega), rdI_fo (show o ≠ 64 by omega), rdI_fo (show o ≠ 63 by omega), rdI_fo (show o ≠ 62 by omega), rdI_fo (show o ≠ 61 by omega), rdI_o (show o ≠ 60 by omega), rdI_fo (show o ≠ 59 by omega), rdI_fo (show o ≠ 58 by omega), rdI_o (show o ≠ 57 by omega), rdI_o (show o ≠ 57 by omega)]
theorem keepM_o {h : hH} {o k : Nat} (ho : o < 231 ∨ 234 < o) : rdI (keepM h) o k = rdI h o k := by
  unfold keepM keep9
  rw [rdI_fo (show o ≠ 233 by omega), rdI_fo (show o ≠ 232 by omega), rdI_fo (show o ≠ 231 by omega), rdI_o (show o ≠ 234 by omega), rdI_o (show o ≠ 234 by omega), rdI_o (show o ≠ 234 by omega), rdI_o (show o ≠ 234 by omega), rdI_o (show o ≠ 234 by omega), rdI_o (show o ≠ 234 by omega), rdI_o (show o ≠ 234 by omega), rdI_o (show o ≠ 234 by omega), rdI_o (show o ≠ 234 by omega)]
theorem fil7_o {h : hH} {n o k : Nat} (ho : o < 211 ∨ 222 < o ∨ (216 < o ∧ o < 222)) : rdI (fil7 h n) o k = rdI h o k := by
  unfold fil7
  rw [rdI_fo (show o ≠ 216 by omega), rdI_fo (show o ≠ 215 by omega), rdI_fo (show o ≠ 214 by omega), rdI_fo (show o ≠ 213 by omega), rdI_fo (show o ≠ 212 by omega), rdI_fo (show o ≠ 211 by omega), rdI_fo (show o ≠ 222 by omega)]
theorem FS_locC {hc hc' hm : hH} (e4 : ∀ k, rdI hc' 4 k = rdI hc 4 k) (e5 : ∀ k, rdI hc' 5 k = rdI hc 5 k) (e6 : ∀ k, rdI hc' 6 k = rdI hc 6 k) (h : FS hc hm) : FS hc' hm := by
  simp only [FS, PG, BY, e4, e5, e6] at h ⊢
  exact h
theorem Mo_size_eq {hc hm : hH} {n : Int32} (fs : FS hc hm) (hn : 4 ≤ n ∧ n ≤ 48) (hl : ¬ rdI hm 192 4 = 0) : f_Mo_size n hm = (
    bP (wh stM ((0 : Int32), sizeM n hc hm)) fun p21 =>
    if (rdI p21 192 59) ≤ 0 then (
      bS (f_Mo_keep p21) fun _ h27 =>
      bP (A := hH) (
        wh (A := (Int32 × hH)) (B := hH) (fun p37 =>
            if (64 : Int32) ≤ p37.1 then (
              some (.inr p37.2)
            ) else (
              gd (vp_in p37.1 204 ∧ vp_in p37.1 64) <|
              some (.inl (p37.1 + (1 : Int32), wrI p37.2 235 (Int32.toNatClampNeg p37.1) (rdI p37.2 216 (Int32.toNatClampNeg p37.1))))
            )
        ) ((0 : Int32), h27)
      ) fun p38 =>
      lz (wrI p38 192 107 (1 : Int32)) fun h29 =>
      lz (wrI h29 192 109 (rdI h29 192 58)) fun h30 =>
      lz (wrI h30 192 111 (0 : Int32)) fun h31 =>
      lz (wrI h31 192 112 (-1 : Int32)) fun h32 =>
      some ((rdI h32 192 58), h32)
    ) else (
      lz (wrI p21 192 62 (0 : Int32)) fun h33 =>
      bS (f_Mo_failedNow h33) fun a42 h34 =>
      some (a42, h34)
    )) := by
  obtain ⟨fb, fu, fz, ft, fst, ff, fo, fk, fc, fv, _, _⟩ := fs
  have w : (4 : Int64) ≤ n.toInt64 ∧ n.toInt64 ≤ 48 := ⟨toL_le.mpr hn.1, toL_le.mpr hn.2⟩
  have s0 : ∀ k, k ≠ 62 → k ≠ 108 → k ≠ 107 → k ≠ 59 → k ≠ 58 → k ≠ 52 → k ≠ 53 → k ≠ 98 → rdI (size0 n hm) 192 k = rdI hm 192 k := by
    intro k a b c d e f g i
    unfold size0
    rw [rdI_wrI, if_neg (fun q => i q.2), rdI_wrI, if_neg (fun q => g q.2), rdI_wrI, if_neg (fun q => f q.2), rdI_wrI, if_neg (fun q => e q.2), rdI_wrI, if_neg (fun q => d q.2), rdI_wrI, if_neg (fun q => c q.2), rdI_wrI, if_neg (fun q => b q.2), rdI_wrI, if_neg (fun q => a q.2)]
  have s1 : ∀ o k, o ≠ 192 → rdI (size0 n hm) o k = rdI hm o k := by
    intro o k ho
    unfold size0
    rw [rdI_o ho, rdI_o ho, rdI_o ho, rdI_o ho, rdI_o ho, rdI_o ho, rdI_o ho, rdI_o ho]
  have xk : ∀ k, k ≠ 62 → k ≠ 108 → k ≠ 107 → k ≠ 59 → k ≠ 58 → k ≠ 52 → k ≠ 53 → k ≠ 98 → rdI (fil7 (size0 n hm) 64) 192 k = rdI hm 192 k := fun k a b c d e f g i => (fil7_o (by omega)).trans (s0 k a b c d e f g i)
  have xo : ∀ o k, o = 194 ∨ o = 195 → rdI (fil7 (size0 n hm) 64) o k = rdI hm o k := fun o k ho => (fil7_o (by omega)).trans (s1 o k (by omega))
  have x62 : rdI (fil7 (size0 n hm) 64) 192 62 = n := by
    rw [fil7_o (by omega)]
    unfold size0
    simp only [rdI_wrI, rdI_flI, rdI_wrP, Nat.reduceEqDiff, false_and, and_false, true_and, and_true, eq_self, reduceIte]
  have bX : BY hc (fil7 (size0 n hm) 64) := ⟨(xk 3 (by decide) (by decide) (by decide) (by decide) (by decide) (by decide) (by decide) (by decide)).trans fb.1, fb.2.1, fb.2.2.1, fun i hi => (xo 194 i (Or.inl rfl)).trans (fb.2.2.2 i hi)⟩
  have boX : f_Mo_beginOf 1668707360 (fil7 (size0 n hm) 64) = some (rdI hc 4 25) := by
    rw [← fv.1]
    exact beginOf_loc (xk 5 (by decide) (by decide) (by decide) (by decide) (by decide) (by decide) (by decide) (by decide)) (fun k => xo 195 k (Or.inr rfl)) (fun k => rfl)
  unfold f_Mo_size
  rw [if_neg hl, f_Mo_in_eq, if_pos w]
  simp only [bP_some, show ¬ ((1 : Int32) = 0) by decide, reduceIte]
  simp only [lz]
  rw [Msz1]
  simp only [bP_some]
  change bP (wh _ ((0 : Int32), fil7 (size0 n hm) 64)) _ = _
  rw [Msz2 (hc := hc) (n := n) bX ((xk 25 (by decide) (by decide) (by decide) (by decide) (by decide) (by decide) (by decide) (by decide)).trans fc.1) fc.2 boX x62 ((xk 10 (by decide) (by decide) (by decide) (by decide) (by decide) (by decide) (by decide) (by decide)).trans fu.1) fu.2.1 fv.2.1 fv.2.2.1 fv.2.2.2]
  rfl
/-- both programs of a size -/
theorem L_two {g0 m0 : hH} (h : Rq (-1) (PF g0 m0) g0 m0) (p0 : PG g0 m0 1718642541 27 28) (p1 : PG g0 m0 1886545264 29 30) (K : hH → Option (hH ⊕ (Unit × hH))) : ∃ m', wh stM ((0 : Int32), m0) = some m' ∧ ((∃ g', (bJT (stC 0 27 28 g0) fun p1 => bJT (stC 1 29 30 p1) K) = some (.inl g') ∧ Rf (PF g0 m0) g' m') ∨ (∃ g', (bJT (stC 0 27 28 g0) fun p1 => bJT (stC 1 29 30 p1) K) = K g' ∧ Rq 1 (PF g0 m0) g' m')) := by
  have st : ∀ (i : Int32) (m : hH), ¬ rdI m 192 59 = 0 → wh stM (i, m) = some m := by
    intro i m w
    rw [wh_eq]
    unfold stM
    rw [if_neg (fun q => w q.2)]
  have s2 : ∀ m : hH, wh stM ((2 : Int32), m) = some m := by
    intro m
    rw [wh_eq]
    unfold stM
    rw [if_neg (fun q => q.1 (show (2 : Int32) ≤ 2 by decide))]
  obtain ⟨y, m1, e1, e2, r⟩ := L_prg h (x := 0) (by decide) (Or.inl rfl) rfl p0
  have w0 : wh stM ((0 : Int32), m0) = wh stM ((1 : Int32), m1) := by
    rw [wh_eq, e2]
    rfl
  rcases y with g | g
  · have r' : Rf (PF g0 m0) g m1 := r.1
    have ps := r'.pos
    exact ⟨m1, w0.trans (st _ _ (by grind)), Or.inl ⟨g, by rw [e1]; rfl, r'⟩⟩
  · have r' : Rq 0 (PF g0 m0) g m1 := r
    obtain ⟨y2, m2, f1, f2, s⟩ := L_prg r' (x := 1) (by decide) (Or.inr rfl) rfl p1
    have w1 : wh stM ((1 : Int32), m1) = wh stM ((2 : Int32), m2) := by
      rw [wh_eq, f2]
      rfl
    rcases y2 with g2 | g2
    · have s' : Rf (PF g0 m0) g2 m2 := s.1
      exact ⟨m2, w0.trans (w1.trans (s2 _)), Or.inl ⟨g2, by rw [e1]; show bJT (stC 1 29 30 g) K = _; rw [f1]; rfl, s'⟩⟩
    · have s' : Rq 1 (PF g0 m0) g2 m2 := s
      exact ⟨m2, w0.trans (w1.trans (s2 _)), Or.inr ⟨g2, by rw [e1]; show bJT (stC 1 29 30 g) K = _; rw [f1]; rfl, s'⟩⟩
theorem FT_tr {hc hm hc' hm' : hH} {b : Int32} (e : ∀ o k, (o = 49 ∨ o = 50 ∨ o = 41 ∨ o = 42 ∨ o = 5) → rdI hc' o k = rdI hc o k) (f : ∀ o k, (220 ≤ o ∧ o ≤ 225) → rdI hm' o k = rdI hm o k) (h : FT hc hm b) : FT hc' hm' b := by
  have e49 := fun k => e 49 k (by decide)
  have e50 := fun k => e 50 k (by decide)
  have e41 := fun k => e 41 k (by decide)
  have e42 := fun k => e 42 k (by decide)
  have e5 := fun k => e 5 k (by decide)
  have f0 := fun k => f 220 k (by decide)
  have f1 := fun k => f 221 k (by decide)
  have f2 := fun k => f 222 k (by decide)
  have f3 := fun k => f 223 k (by decide)
  simp only [FT, PL, PO, e49, e50, e41, e42, e5, f0, f1, f2, f3] at h ⊢
  exact h
theorem OW_tr {hc hm hc' hm' : hH} {b : Int32} (e : ∀ o k, (o = 51 ∨ o = 52 ∨ o = 53 ∨ o = 41 ∨ o = 42 ∨ o = 5 ∨ o = 4) → rdI hc' o k = rdI hc o k) (e2 : rdI hc' 22 24 = rdI hc 22 24) (f : ∀ o k, (220 ≤ o ∧ o ≤ 225) → rdI hm' o k = rdI hm o k) (h : OW hc hm b) : OW hc' hm' b := by
  have e51 := fun k => e 51 k (by decide)
  have e52 := fun k => e 52 k (by decide)
  have e53 := fun k => e 53 k (by decide)
  have e41 := fun k => e 41 k (by decide)
  have e42 := fun k => e 42 k (by decide)
  have e5 := fun k => e 5 k (by decide)
  have e4 := fun k => e 4 k (by decide)
  have f0 := fun k => f 220 k (by decide)
  have f1 := fun k => f 221 k (by decide)
  have f4 := fun k => f 224 k (by decide)
  have f5 := fun k => f 225 k (by decide)
  simp only [OW, PL, PO, e2, e51, e52, e53, e41, e42, e5, e4, f0, f1, f4, f5] at h ⊢
  exact h
/-- what a size leaves -/
def SZ (hc hm : hH) : Prop := (rdI hc 57 1 = rdI hc 4 26 ∧ rdI hc 57 3 = rdI hc 4 11 ∧ rdI hc 60 6 = rdI hc 4 10) ∧ (∀ i, i < (rdI hc 4 26).toNatClampNeg → rdI hm 231 i = rdI hc 58 i) ∧ (∀ i, i < (rdI hc 4 11).toNatClampNeg → rdI hm 232 i = rdI hc 59 i) ∧ (∀ i, i < (rdI hc 4 10).toNatClampNeg → rdI hm 233 (4 * i) = rdI hc 63 i ∧ rdI hm 233 (4 * i + 1) = rdI hc 64 i ∧ rdI hm 233 (4 * i + 2) = rdI hc 61 i ∧ rdI hm 233 (4 * i + 3) = rdI hc 62 i ∧ T4 (rdI hc 65 i) (rdI hc 66 i) (rdI hm 235 i)) ∧ (∀ j, j < 9 → rdI hm 234 j = rdI hc 67 j) ∧ (rdI hc 67 4 = 0 ∨ rdI hc 67 4 = 1) ∧ (0 ≤ rdI hc 67 6 ∧ rdI hc 67 6 ≤ 6) ∧ FT hc hm 1 ∧ OW hc hm 1 ∧ rdI hm 192 98 = rdI hc 22 24 ∧ rdI hc 22 4 = rdI hc 1 6 ∧ 4 ≤ rdI hc 22 4 ∧ rdI hc 22 4 ≤ 48
