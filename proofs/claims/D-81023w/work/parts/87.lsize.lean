/-! LAYER 3W: the law of size, between two heaps -/
/-- cells of the component that a size does not write -/
def sC (o k : Nat) : Bool := cOut o && !(o == 1 && (k == 6 || (10 ≤ k && k ≤ 13))) && !(23 ≤ o && o ≤ 34) && !(57 ≤ o && o ≤ 67)
def sM (o k : Nat) : Bool := !(mW o k) && !(o == 192 && (k == 52 || k == 53 || k == 62 || (107 ≤ k && k ≤ 112))) && !(231 ≤ o && o ≤ 235)
def FCs (h g : hH) : Prop := (∀ o k, sC o k = true → rdI g o k = rdI h o k) ∧ (∀ o k, rdL g o k = rdL h o k) ∧ (∀ o k, ¬ (o = 1 ∧ k = 7) → ¬ (o = 22 ∧ k = 3) → rdP g o k = rdP h o k) ∧ rdP g 1 7 = 0
def FMs (h g : hH) : Prop := (∀ o k, sM o k = true → rdI g o k = rdI h o k) ∧ (∀ o k, rdL g o k = rdL h o k) ∧ (∀ o k, rdP g o k = rdP h o k)
theorem sC_w {o k : Nat} (h : sC o k = true) : cOut o = true ∧ ¬ (o = 1 ∧ (k = 6 ∨ k = 10 ∨ k = 11 ∨ k = 12 ∨ k = 13)) ∧ ¬ (23 ≤ o ∧ o ≤ 34) ∧ ¬ (57 ≤ o ∧ o ≤ 67) := by
  unfold sC at h
  simp only [Bool.and_eq_true, Bool.not_eq_true', Bool.and_eq_false_iff, Bool.or_eq_false_iff, decide_eq_false_iff_not, beq_eq_false_iff_ne] at h
  obtain ⟨⟨⟨h1, h2⟩, h3⟩, h4⟩ := h
  refine ⟨h1, ?_, ?_, ?_⟩
  · rintro ⟨a, b⟩
    rcases h2 with c | ⟨c, d⟩
    · exact c a
    · rcases d with d | d <;> omega
  · rintro ⟨a, b⟩
    rcases h3 with c | c
    · exact c a
    · exact c b
  · rintro ⟨a, b⟩
    rcases h4 with c | c
    · exact c a
    · exact c b
theorem sM_w {o k : Nat} (h : sM o k = true) : mW o k = false ∧ ¬ (o = 192 ∧ (k = 52 ∨ k = 53 ∨ k = 62 ∨ k = 107 ∨ k = 108 ∨ k = 109 ∨ k = 110 ∨ k = 111 ∨ k = 112)) ∧ ¬ (231 ≤ o ∧ o ≤ 235) := by
  unfold sM at h
  simp only [Bool.and_eq_true, Bool.not_eq_true', Bool.and_eq_false_iff, Bool.or_eq_false_iff, decide_eq_false_iff_not, beq_eq_false_iff_ne] at h
  obtain ⟨⟨h1, h2⟩, h3⟩ := h
  refine ⟨h1, ?_, ?_⟩
  · rintro ⟨a, b⟩
    rcases h2 with c | ⟨c, d⟩
    · exact c a
    · rcases d with d | d <;> omega
  · rintro ⟨a, b⟩
    rcases h3 with c | c
    · exact c a
    · exact c b
theorem cOut_w {o : Nat} (h : cOut o = true) : o ≠ 22 ∧ o ≠ 24 ∧ o ≠ 25 ∧ ¬ (27 ≤ o ∧ o ≤ 33) ∧ ¬ (35 ≤ o ∧ o ≤ 55) := by
  unfold cOut cW at h
  simp only [Bool.and_eq_true, Bool.not_eq_true', Bool.and_eq_false_iff, Bool.or_eq_false_iff, decide_eq_false_iff_not, beq_eq_false_iff_ne] at h
  obtain ⟨⟨⟨⟨⟨h1, h2⟩, h3⟩, h4⟩, h5⟩, _⟩ := h
  exact ⟨h1, h2, h3, by omega, by omega⟩
theorem mW_w {o k : Nat} (h : mW o k = false) : ¬ (210 ≤ o ∧ o ≤ 217) ∧ ¬ (219 ≤ o ∧ o ≤ 230) ∧ ¬ (o = 192 ∧ ((56 ≤ k ∧ k ≤ 61) ∨ (63 ≤ k ∧ k ≤ 88) ∨ (91 ≤ k ∧ k ≤ 93) ∨ k = 98 ∨ k = 99 ∨ k = 105 ∨ k = 106)) := by
  unfold mW at h
  simp only [Bool.and_eq_true, Bool.not_eq_true', Bool.and_eq_false_iff, Bool.or_eq_false_iff, decide_eq_false_iff_not, beq_eq_false_iff_ne] at h
  obtain ⟨⟨h1, h2⟩, h3⟩ := h
  refine ⟨by omega, by omega, ?_⟩
  rintro ⟨a, b⟩
  rcases h3 with c | c
  · exact c a
  · omega
theorem begC_o {n : Int32} {h : hH} {o k : Nat} (ho : cOut o = true) (h2 : ¬ (23 ≤ o ∧ o ≤ 34)) : rdI (begC n h) o k = rdI h o k := by
  obtain ⟨a, b, c, d, e⟩ := cOut_w ho
  unfold begC seClr zclr
  rw [rdI_wrP, rdI_o (by omega)]
  rw [rdI_o (by omega), rdI_o (by omega), rdI_o (by omega), rdI_o (by omega), rdI_o (by omega), rdI_o (by omega), rdI_o (by omega), rdI_o (by omega), rdI_o (by omega)]
  rw [rdI_fo (o := rf 26 5) (show o ≠ 32 by omega), rdI_fo (o := rf 26 4) (show o ≠ 31 by omega), rdI_fo (o := rf 26 3) (show o ≠ 30 by omega), rdI_fo (o := rf 26 2) (show o ≠ 29 by omega), rdI_fo (o := rf 26 1) (show o ≠ 28 by omega), rdI_fo (o := rf 26 0) (show o ≠ 27 by omega), rdI_o (by omega), rdI_fo (by omega), rdI_o (by omega), rdI_o (by omega), rdI_fo (by omega), rdI_fo (by omega), rdI_o (by omega), rdI_o (by omega), rdI_o (by omega)]
theorem sizeM_o {n : Int32} {hc h : hH} {o k : Nat} (ho : sM o k = true) : rdI (sizeM n hc h) o k = rdI h o k := by
  obtain ⟨a, b, c⟩ := sM_w ho
  obtain ⟨d, e, f⟩ := mW_w a
  unfold sizeM setM
  rw [rdI_wrI, if_neg (by omega), rdI_wrI, if_neg (by omega), rdI_wrI, if_neg (by omega), rdI_wrI, if_neg (by omega), rdI_wrI, if_neg (by omega), rdI_wrI, if_neg (by omega), rdI_wrI, if_neg (by omega), rdI_wrI, if_neg (by omega), rdI_wrI, if_neg (by omega)]
  rw [rdI_fo (by omega), rdI_fo (by omega), fil7_o (by omega)]
  unfold size0
  rw [rdI_wrI, if_neg (by omega), rdI_wrI, if_neg (by omega), rdI_wrI, if_neg (by omega), rdI_wrI, if_neg (by omega), rdI_wrI, if_neg (by omega), rdI_wrI, if_neg (by omega), rdI_wrI, if_neg (by omega), rdI_wrI, if_neg (by omega)]
theorem PG_tr {g0 m0 g m : hH} {t : Int32} {B S : Nat} (c4 : ∀ k, rdI g 4 k = rdI g0 4 k) (c5 : rdI g 5 1 = rdI g0 5 1) (m5 : rdI m 192 5 = rdI m0 192 5) (m195 : ∀ k, rdI m 195 k = rdI m0 195 k) (l197 : ∀ k, rdL m 197 k = rdL m0 197 k) (l198 : ∀ k, rdL m 198 k = rdL m0 198 k) (h : PG g0 m0 t B S) : PG g m t B S := by
  unfold PG at *
  rw [tableOf_loc m5 m195, beginOf_loc m5 m195 l197, lengthOf_loc m5 m195 l198, c4, c4, c5]
  exact h
theorem size_h_eq {g : hH} : f_HH_size_h g = some (-100 - rdI g 22 13, wrI (wrI (wrI (wrI g 1 11 (rdI g 1 11 + 1)) 1 12 (rdI g 22 13)) 1 13 (rdI g 22 12)) 1 10 (rdI g 22 5)) := by
  unfold f_HH_size_h f_HH_fails
  simp only [lz, bS_some, rdI_wrI, rdI_flI, rdI_wrP, Nat.reduceEqDiff, false_and, and_false, true_and, and_true, eq_self, reduceIte]
theorem failedNow_eq {m : hH} : f_Mo_failedNow m = some (-100 - rdI m 192 59, wrI (wrI (wrI (wrI m 192 110 (rdI m 192 110 + 1)) 192 111 (rdI m 192 59)) 192 112 (rdI m 192 60)) 192 109 (rdI m 192 58)) := by
  unfold f_Mo_failedNow
  simp only [lz, rdI_wrI, rdI_flI, rdI_wrP, Nat.reduceEqDiff, false_and, and_false, true_and, and_true, eq_self, reduceIte]
theorem begC_P {n : Int32} {h : hH} {o k : Nat} : rdP (begC n h) o k = if o = 22 ∧ k = 3 then 0 else rdP h o k := rfl
theorem begC_1 {n : Int32} {h : hH} {k : Nat} : rdI (begC n h) 1 k = rdI h 1 k := begC_o rfl (by omega)
theorem stcp57_57 {g : hH} : rdI (stcp57 g) 57 1 = rdI g 23 1 ∧ rdI (stcp57 g) 57 3 = rdI g 23 3 ∧ rdI (stcp57 g) 60 6 = rdI g 26 6 := by
  unfold stcp57 secp67 zcp60
  refine ⟨?_, ?_, ?_⟩ <;> simp only [rdI_wrI, rdI_flI, rdI_wrP, Nat.reduceEqDiff, false_and, and_false, true_and, and_true, eq_self, reduceIte]
theorem stcp57_58 {g : hH} {i : Nat} (hi : i < (rdI g 23 1).toNatClampNeg) : rdI (stcp57 g) 58 i = rdI g 24 i := by
  unfold stcp57 secp67 zcp60
  simp only [rdI_wrI, rdI_flI, rdI_wrP, Nat.reduceEqDiff, false_and, and_false, true_and, and_true, eq_self, reduceIte, if_pos hi]
theorem stcp57_59 {g : hH} {i : Nat} (hi : i < (rdI g 23 3).toNatClampNeg) : rdI (stcp57 g) 59 i = rdI g 25 i := by
  unfold stcp57 secp67 zcp60
  simp only [rdI_wrI, rdI_flI, rdI_wrP, Nat.reduceEqDiff, false_and, and_false, true_and, and_true, eq_self, reduceIte, if_pos hi]
theorem stcp57_z {g : hH} {i : Nat} (hi : i < (rdI g 26 6).toNatClampNeg) : rdI (stcp57 g) 61 i = rdI g 27 i ∧ rdI (stcp57 g) 62 i = rdI g 28 i ∧ rdI (stcp57 g) 63 i = rdI g 29 i ∧ rdI (stcp57 g) 64 i = rdI g 30 i ∧ rdI (stcp57 g) 65 i = rdI g 31 i &&& 1 ∧ rdI (stcp57 g) 66 i = rdI g 32 i &&& 1 := by
  unfold stcp57 secp67 zcp60
  refine ⟨?_, ?_, ?_, ?_, ?_, ?_⟩ <;> simp only [rdI_wrI, rdI_flI, rdI_wrP, Nat.reduceEqDiff, false_and, and_false, true_and, and_true, eq_self, reduceIte, if_pos hi]
theorem lt9 {j : Nat} (hj : j < 9) : j = 0 ∨ j = 1 ∨ j = 2 ∨ j = 3 ∨ j = 4 ∨ j = 5 ∨ j = 6 ∨ j = 7 ∨ j = 8 := by omega
theorem stcp57_67 {g : hH} {j : Nat} (hj : j < 9) : rdI (stcp57 g) 67 j = rdI g 33 j := by
  unfold stcp57 secp67 zcp60
  rcases lt9 hj with rfl | rfl | rfl | rfl | rfl | rfl | rfl | rfl | rfl <;> simp only [rdI_wrI, rdI_flI, rdI_wrP, Nat.reduceEqDiff, false_and, and_false, true_and, and_true, eq_self, reduceIte]
theorem keepM_231 {m : hH} {i : Nat} (hi : i < 256) : rdI (keepM m) 231 i = rdI m 210 i := by
  unfold keepM
  simp only [rdI_wrI, rdI_flI, rdI_wrP, Nat.reduceEqDiff, false_and, and_false, true_and, and_true, eq_self, reduceIte, if_pos hi]
theorem keepM_232 {m : hH} {i : Nat} (hi : i < 64) : rdI (keepM m) 232 i = rdI m 211 i := by
  unfold keepM
  simp only [rdI_wrI, rdI_flI, rdI_wrP, Nat.reduceEqDiff, false_and, and_false, true_and, and_true, eq_self, reduceIte, if_pos hi]
theorem keepM_233 {m : hH} {i : Nat} (hi : i < 64) : rdI (keepM m) 233 (4 * i) = rdI m 214 i ∧ rdI (keepM m) 233 (4 * i + 1) = rdI m 215 i ∧ rdI (keepM m) 233 (4 * i + 2) = rdI m 212 i ∧ rdI (keepM m) 233 (4 * i + 3) = rdI m 213 i := by
  unfold keepM
  have z := zq4 (h := m) (k := i)
  refine ⟨?_, ?_, ?_, ?_⟩
  · rw [rdI_flI, if_pos ⟨rfl, by omega⟩]; exact z.1
  · rw [rdI_flI, if_pos ⟨rfl, by omega⟩]; exact z.2.1
  · rw [rdI_flI, if_pos ⟨rfl, by omega⟩]; exact z.2.2.1
  · rw [rdI_flI, if_pos ⟨rfl, by omega⟩]; exact z.2.2.2
theorem keepM_234 {m : hH} {j : Nat} (hj : j < 9) : rdI (keepM m) 234 j = if j = 4 then (if rdI m 192 84 = 0 then 0 else 1) else rdI m 192 (80 + j) := by
  unfold keepM keep9
  rcases lt9 hj with rfl | rfl | rfl | rfl | rfl | rfl | rfl | rfl | rfl <;> simp only [rdI_wrI, rdI_flI, rdI_wrP, Nat.reduceEqDiff, false_and, and_false, true_and, and_true, eq_self, reduceIte]
theorem L_size {hc hm : hH} {n : Int32} (fs : FS hc hm) (hn : 4 ≤ n ∧ n ≤ 48) (hl : ¬ rdI hc 1 2 = 0) (hl' : ¬ rdI hm 192 4 = 0) (hh : rdI hm 192 57 = rdI hc 22 6) (hh2 : 0 ≤ rdI hc 22 6 ∧ rdI hc 22 6 ≤ 256) (tf : rdI hm 192 110 = rdI hc 1 11) : ∃ a g c m, f_HH_size n hc = some ((a, g), c) ∧ c ≤ 1 ∧ f_Mo_size n hm = some (a, m) ∧ FCs hc g ∧ FMs hm m ∧ (rdI m 192 109 = rdI g 1 10 ∧ rdI m 192 110 = rdI g 1 11 ∧ rdI m 192 111 = rdI g 1 12 ∧ rdI m 192 112 = rdI g 1 13) ∧ (rdI m 192 57 = rdI g 22 6 ∧ 0 ≤ rdI g 22 6 ∧ rdI g 22 6 ≤ 256) ∧ rdI m 192 108 = 0 ∧ rdI m 192 62 = rdI g 1 6 ∧ ((rdI g 1 6 = 0 ∧ rdI m 192 107 = 0) ∨ (rdI g 1 6 = n ∧ rdI m 192 107 = 1 ∧ SZ g m)) := by
  have w : (4 : Int64) ≤ n.toInt64 ∧ n.toInt64 ≤ 48 := ⟨toL_le.mpr hn.1, toL_le.mpr hn.2⟩
  generalize hh2e : wrI (wrP hc 1 7 0) 1 6 0 = h2
  have r2 : ∀ o k, ¬ (o = 1 ∧ k = 6) → rdI h2 o k = rdI hc o k := fun o k q => by rw [← hh2e, rdI_wrI, if_neg q, rdI_wrP]
  have r2P : ∀ o k, rdP h2 o k = if o = 1 ∧ k = 7 then 0 else rdP hc o k := fun o k => by rw [← hh2e]; rfl
  have r2L : ∀ o k, rdL h2 o k = rdL hc o k := fun o k => by rw [← hh2e]; rfl
  have fs2 : FS h2 hm := FS_locC (fun k => r2 _ _ (by omega)) (fun k => r2 _ _ (by omega)) (fun k => r2 _ _ (by omega)) fs
  have e26 : rdI h2 22 6 = rdI hc 22 6 := r2 _ _ (by omega)
  have rq := Rq_size (n := n) fs2 hn (by rw [e26]; exact hh) (by rw [e26]; exact hh2)
  have mM := Mo_size_eq fs2 hn hl'
  obtain ⟨fb, fu, fz, ft, fst, ff, fo, fk, fc, fv, fp0, fp1⟩ := fs2
  have bg : f_Ma_begin n h2 = some ((), begC n h2) := Ma_begin_eq fu.2.1 fc.2 fv.2.1 fv.2.2.1 (by have := fb.2.2.1; have := fv.2.2.2; grind) ft.2
  have c4 : ∀ k, rdI (begC n h2) 4 k = rdI h2 4 k := fun k => begC_o rfl (by omega)
  have c5 : rdI (begC n h2) 5 1 = rdI h2 5 1 := begC_o rfl (by omega)
  have m5 : rdI (sizeM n h2 hm) 192 5 = rdI hm 192 5 := sizeM_o rfl
  have m195 : ∀ k, rdI (sizeM n h2 hm) 195 k = rdI hm 195 k := fun k => sizeM_o rfl
  have p0 := PG_tr c4 c5 m5 m195 (fun k => rfl) (fun k => rfl) fp0
  have p1 := PG_tr c4 c5 m5 m195 (fun k => rfl) (fun k => rfl) fp1
  have s110 : rdI (sizeM n h2 hm) 192 110 = rdI hm 192 110 := by
    unfold sizeM setM
    simp only [rdI_wrI, rdI_flI, rdI_wrP, Nat.reduceEqDiff, false_and, and_false, true_and, and_true, eq_self, reduceIte]
    rw [fil7_o (by omega)]
    unfold size0
    simp only [rdI_wrI, rdI_flI, rdI_wrP, Nat.reduceEqDiff, false_and, and_false, true_and, and_true, eq_self, reduceIte]
  have s108 : rdI (sizeM n h2 hm) 192 108 = 0 := by
    unfold sizeM setM
    simp only [rdI_wrI, rdI_flI, rdI_wrP, Nat.reduceEqDiff, false_and, and_false, true_and, and_true, eq_self, reduceIte]
    rw [fil7_o (by omega)]
    unfold size0
    simp only [rdI_wrI, rdI_flI, rdI_wrP, Nat.reduceEqDiff, false_and, and_false, true_and, and_true, eq_self, reduceIte]
  have s107 : rdI (sizeM n h2 hm) 192 107 = 0 := by
    unfold sizeM setM
    simp only [rdI_wrI, rdI_flI, rdI_wrP, Nat.reduceEqDiff, false_and, and_false, true_and, and_true, eq_self, reduceIte]
    rw [fil7_o (by omega)]
    unfold size0
    simp only [rdI_wrI, rdI_flI, rdI_wrP, Nat.reduceEqDiff, false_and, and_false, true_and, and_true, eq_self, reduceIte]
  have s62 : rdI (sizeM n h2 hm) 192 62 = n := by
    unfold sizeM setM
    simp only [rdI_wrI, rdI_flI, rdI_wrP, Nat.reduceEqDiff, false_and, and_false, true_and, and_true, eq_self, reduceIte]
    rw [fil7_o (by omega)]
    unfold size0
    simp only [rdI_wrI, rdI_flI, rdI_wrP, Nat.reduceEqDiff, false_and, and_false, true_and, and_true, eq_self, reduceIte]
  have es : f_Mk_setSize n h2 = (bJT (stC 0 27 28 (begC n h2)) fun p1 => bJT (stC 1 29 30 p1) fun p3 => bS (f_St_copy 57 23 p3) fun _ h4 => some (.inr ((), h4))) := by
    unfold f_Mk_setSize
    rw [bg]
    rfl
  have eH : f_HH_size n hc = bH (f_Mk_setSize n h2) (fun hq => f_HH_size_h hq) fun _ h3 => bS (f_HH_right h3) fun _ h4 => lz (wrI h4 1 6 n) fun h5 => lz (wrI h5 1 10 (rdI h5 22 5)) fun h6 => some (((rdI h6 1 10), h6), 0) := by
    unfold f_HH_size
    rw [if_neg hl, f_HH_within_eq, if_pos w, ← hh2e]
    rfl
  -- frames of the machines
  have fC : ∀ g' m', PF (begC n h2) (sizeM n h2 hm) g' m' → (∀ o k, sC o k = true → rdI g' o k = rdI hc o k) ∧ (∀ o k, rdL g' o k = rdL hc o k) ∧ (∀ o k, ¬ (o = 1 ∧ k = 7) → ¬ (o = 22 ∧ k = 3) → rdP g' o k = rdP hc o k) ∧ rdP g' 1 7 = 0 := by
    intro g' m' p
    refine ⟨fun o k ho => ?_, fun o k => (p.2.1 o k).trans (r2L o k), fun o k a b => ?_, ?_⟩
    · obtain ⟨a, b, c, d⟩ := sC_w ho
      rw [p.1 o k a, begC_o a c, r2 o k (by omega)]
    · rw [p.2.2.1 o k, begC_P, if_neg b, r2P, if_neg a]
    · rw [p.2.2.1, begC_P, if_neg (by decide), r2P, if_pos ⟨rfl, rfl⟩]
  have fM : ∀ g' m', PF (begC n h2) (sizeM n h2 hm) g' m' → (∀ o k, sM o k = true → rdI m' o k = rdI hm o k) ∧ (∀ o k, rdL m' o k = rdL hm o k) ∧ (∀ o k, rdP m' o k = rdP hm o k) := by
    intro g' m' p
    refine ⟨fun o k ho => ?_, fun o k => p.2.2.2.2.1 o k, fun o k => p.2.2.2.2.2 o k⟩
    rw [p.2.2.2.1 o k (sM_w ho).1, sizeM_o ho]
  obtain ⟨m', wm, ⟨g', eg, rf⟩ | ⟨g', eg, rqq⟩⟩ := L_two rq p0 p1 (fun p3 => bS (f_St_copy 57 23 p3) fun _ h4 => some (.inr ((), h4)))
  · have pf := rf.out
    obtain ⟨a1, a2, a3, a4⟩ := fC g' m' pf
    obtain ⟨b1, b2, b3⟩ := fM g' m' pf
    have ps := rf.pos
    have d11 : rdI g' 1 11 = rdI hc 1 11 := by rw [pf.1 1 11 rfl, begC_1, r2 _ _ (by omega)]
    have d6 : rdI g' 1 6 = 0 := by
      rw [pf.1 1 6 rfl, begC_1, ← hh2e]
      simp only [rdI_wrI, rdI_flI, rdI_wrP, Nat.reduceEqDiff, false_and, and_false, true_and, and_true, eq_self, reduceIte]
    have q110 : rdI m' 192 110 = rdI hc 1 11 := by rw [pf.2.2.2.1 192 110 rfl, s110, tf]
    have q108 : rdI m' 192 108 = 0 := by rw [pf.2.2.2.1 192 108 rfl, s108]
    have q107 : rdI m' 192 107 = 0 := by rw [pf.2.2.2.1 192 107 rfl, s107]
    refine ⟨-100 - rdI g' 22 13, wrI (wrI (wrI (wrI g' 1 11 (rdI g' 1 11 + 1)) 1 12 (rdI g' 22 13)) 1 13 (rdI g' 22 12)) 1 10 (rdI g' 22 5), 1, wrI (wrI (wrI (wrI (wrI m' 192 62 0) 192 110 (rdI m' 192 110 + 1)) 192 111 (rdI m' 192 59)) 192 112 (rdI m' 192 60)) 192 109 (rdI m' 192 58), ?_, Nat.le_refl _, ?_, ?_, ?_, ?_, ?_, ?_, ?_, ?_⟩
    · rw [eH, es, eg]
      show (match f_HH_size_h g' with | none => none | some y => some (y, 1)) = _
      rw [size_h_eq]
    · rw [mM, wm]
      simp only [bP_some, lz]
      rw [if_neg (by grind), failedNow_eq]
      simp only [bS_some, rdI_wrI, rdI_flI, rdI_wrP, Nat.reduceEqDiff, false_and, and_false, true_and, and_true, eq_self, reduceIte, rf.s_stop]
    · refine ⟨fun o k ho => ?_, a2, a3, a4⟩
      obtain ⟨_, c, _, _⟩ := sC_w ho
      rw [rdI_wrI, if_neg (by omega), rdI_wrI, if_neg (by omega), rdI_wrI, if_neg (by omega), rdI_wrI, if_neg (by omega)]
      exact a1 o k ho
    · refine ⟨fun o k ho => ?_, b2, b3⟩
      obtain ⟨_, c, _⟩ := sM_w ho
      rw [rdI_wrI, if_neg (by omega), rdI_wrI, if_neg (by omega), rdI_wrI, if_neg (by omega), rdI_wrI, if_neg (by omega), rdI_wrI, if_neg (by omega)]
      exact b1 o k ho
    · simp only [rdI_wrI, rdI_flI, rdI_wrP, Nat.reduceEqDiff, false_and, and_false, true_and, and_true, eq_self, reduceIte]
      exact ⟨rf.s_steps, by rw [q110, d11], rf.s_stop, rf.s_at⟩
    · simp only [rdI_wrI, rdI_flI, rdI_wrP, Nat.reduceEqDiff, false_and, and_false, true_and, and_true, eq_self, reduceIte]
      exact ⟨rf.s_high, rf.r_high⟩
    · simp only [rdI_wrI, rdI_flI, rdI_wrP, Nat.reduceEqDiff, false_and, and_false, true_and, and_true, eq_self, reduceIte]
      exact q108
    · simp only [rdI_wrI, rdI_flI, rdI_wrP, Nat.reduceEqDiff, false_and, and_false, true_and, and_true, eq_self, reduceIte]
      exact d6.symm
    · left
      simp only [rdI_wrI, rdI_flI, rdI_wrP, Nat.reduceEqDiff, false_and, and_false, true_and, and_true, eq_self, reduceIte]
      exact ⟨d6, q107⟩
  · have pf := rqq.out
    obtain ⟨a1, a2, a3, a4⟩ := fC g' m' pf
    obtain ⟨b1, b2, b3⟩ := fM g' m' pf
    have rf57 : ∀ o k, o < 57 ∨ 67 < o → rdI (stcp57 g') o k = rdI g' o k := fun o k ho => stcp57_o ho
    have n4 : rdI m' 192 62 = n := by rw [pf.2.2.2.1 192 62 rfl, s62]
    have d4 : rdI g' 22 4 = n := rqq.s_ppem.symm.trans n4
    have d11 : rdI g' 1 11 = rdI hc 1 11 := by rw [pf.1 1 11 rfl, begC_1, r2 _ _ (by omega)]
    have q110 : rdI m' 192 110 = rdI hc 1 11 := by rw [pf.2.2.2.1 192 110 rfl, s110, tf]
    have q108 : rdI m' 192 108 = 0 := by rw [pf.2.2.2.1 192 108 rfl, s108]
    have f4 : ∀ k, rdI g' 4 k = rdI h2 4 k := fun k => by rw [pf.1 4 k rfl, c4]
    have e1 : rdI g' 23 1 = rdI g' 4 26 := by rw [f4, ← fc.1, ← rqq.s_cvtM]; exact b1 192 25 rfl
    have e3 : rdI g' 23 3 = rdI g' 4 11 := by rw [f4, ← fst.1, ← rqq.s_stoM]; exact b1 192 15 rfl
    have e6 : rdI g' 26 6 = rdI g' 4 10 := by rw [f4, ← ft.1, ← rqq.s_twM]; exact b1 192 14 rfl
    have k216 : ∀ k, rdI (keepM m') 216 k = rdI m' 216 k := fun k => keepM_o (by omega)
    have eC : f_HH_size n hc = some ((rdI g' 22 5, wrI (wrI (wrI (wrI (stcp57 g') 1 12 0) 1 13 (-1)) 1 6 n) 1 10 (rdI g' 22 5)), 0) := by
      rw [eH, es, eg, St_copy57 rqq.r_cvtM rqq.r_stoM rqq.r_twM rqq.r_flip]
      show (bS (f_HH_right (stcp57 g')) fun _ h4 => lz (wrI h4 1 6 n) fun h5 => lz (wrI h5 1 10 (rdI h5 22 5)) fun h6 => some (((rdI h6 1 10), h6), 0)) = _
      unfold f_HH_right
      simp only [lz, bS_some, rdI_wrI, rdI_flI, rdI_wrP, Nat.reduceEqDiff, false_and, and_false, true_and, and_true, eq_self, reduceIte]
      rw [rf57 22 5 (by omega)]
    have eM : f_Mo_size n hm = some (rdI g' 22 5, wrI (wrI (wrI (wrI (flI (keepM m') 235 64 (fun k => rdI m' 216 k)) 192 107 1) 192 109 (rdI m' 192 58)) 192 111 0) 192 112 (-1)) := by
      have k58 : rdI (keepM m') 192 58 = rdI m' 192 58 := keepM_o (by omega)
      rw [mM, wm]
      simp only [bP_some]
      rw [if_pos (by rw [rqq.fail]; decide), Mo_keep_eq]
      simp only [bS_some]
      rw [Mtouch]
      simp only [bP_some, lz, rdI_wrI, rdI_flI, rdI_wrP, Nat.reduceEqDiff, false_and, and_false, true_and, and_true, eq_self, reduceIte, k216, k58, rqq.s_steps]
    refine ⟨_, _, 0, _, eC, Nat.zero_le _, eM, ?_, ?_, ?_, ?_, ?_, ?_, ?_⟩
    · refine ⟨fun o k ho => ?_, a2, a3, a4⟩
      obtain ⟨_, c, _, d⟩ := sC_w ho
      rw [rdI_wrI, if_neg (by omega), rdI_wrI, if_neg (by omega), rdI_wrI, if_neg (by omega), rdI_wrI, if_neg (by omega), rf57 o k (by omega)]
      exact a1 o k ho
    · refine ⟨fun o k ho => ?_, b2, b3⟩
      obtain ⟨_, c, d⟩ := sM_w ho
      rw [rdI_wrI, if_neg (by omega), rdI_wrI, if_neg (by omega), rdI_wrI, if_neg (by omega), rdI_wrI, if_neg (by omega), rdI_fo (by omega), keepM_o (by omega)]
      exact b1 o k ho
    · simp only [rdI_wrI, rdI_flI, rdI_wrP, Nat.reduceEqDiff, false_and, and_false, true_and, and_true, eq_self, reduceIte]
      rw [rf57 1 11 (by omega), keepM_o (o := 192) (by omega)]
      exact ⟨rqq.s_steps, by rw [q110, d11]⟩
    · simp only [rdI_wrI, rdI_flI, rdI_wrP, Nat.reduceEqDiff, false_and, and_false, true_and, and_true, eq_self, reduceIte]
      rw [rf57 22 6 (by omega), keepM_o (o := 192) (by omega)]
      exact ⟨rqq.s_high, rqq.r_high⟩
    · simp only [rdI_wrI, rdI_flI, rdI_wrP, Nat.reduceEqDiff, false_and, and_false, true_and, and_true, eq_self, reduceIte]
      rw [keepM_o (o := 192) (by omega)]
      exact q108
    · simp only [rdI_wrI, rdI_flI, rdI_wrP, Nat.reduceEqDiff, false_and, and_false, true_and, and_true, eq_self, reduceIte]
      rw [keepM_o (o := 192) (by omega)]
      exact n4
    · right
      refine ⟨by simp only [rdI_wrI, rdI_flI, rdI_wrP, Nat.reduceEqDiff, false_and, and_false, true_and, and_true, eq_self, reduceIte], by simp only [rdI_wrI, rdI_flI, rdI_wrP, Nat.reduceEqDiff, false_and, and_false, true_and, and_true, eq_self, reduceIte], ?_⟩
      have G : ∀ o k, o ≠ 1 → rdI (wrI (wrI (wrI (wrI (stcp57 g') 1 12 0) 1 13 (-1)) 1 6 n) 1 10 (rdI g' 22 5)) o k = rdI (stcp57 g') o k := fun o k ho => by rw [rdI_o ho, rdI_o ho, rdI_o ho, rdI_o ho]
      have M : ∀ o k, o ≠ 192 → o ≠ 235 → rdI (wrI (wrI (wrI (wrI (flI (keepM m') 235 64 (fun k => rdI m' 216 k)) 192 107 1) 192 109 (rdI m' 192 58)) 192 111 0) 192 112 (-1)) o k = rdI (keepM m') o k := fun o k h1 h3 => by rw [rdI_o h1, rdI_o h1, rdI_o h1, rdI_o h1, rdI_fo h3]
      have gt := rqq.r_twM
      have gs := rqq.r_stoM
      have gc := rqq.r_cvtM
      refine ⟨⟨?_, ?_, ?_⟩, ?_, ?_, ?_, ?_, ?_, ?_, ?_, ?_, ?_, ?_, ?_⟩
      · rw [G _ _ (by decide), G _ _ (by decide), stcp57_57.1, rf57 4 26 (by omega)]; exact e1
      · rw [G _ _ (by decide), G _ _ (by decide), stcp57_57.2.1, rf57 4 11 (by omega)]; exact e3
      · rw [G _ _ (by decide), G _ _ (by decide), stcp57_57.2.2, rf57 4 10 (by omega)]; exact e6
      · intro i hi
        rw [G _ _ (by decide), rf57 4 26 (by omega), ← e1] at hi
        have l := xI_le (n := 256) gc.2 rfl
        rw [G _ _ (by decide), M _ _ (by decide) (by decide), keepM_231 (by omega), stcp57_58 hi]
        exact rqq.a_cvt i hi
      · intro i hi
        rw [G _ _ (by decide), rf57 4 11 (by omega), ← e3] at hi
        have l := xI_le (n := 64) gs.2 rfl
        rw [G _ _ (by decide), M _ _ (by decide) (by decide), keepM_232 (by omega), stcp57_59 hi]
        exact rqq.a_sto i hi
      · intro i hi
        rw [G _ _ (by decide), rf57 4 10 (by omega), ← e6] at hi
        have l := xI_le (n := 64) gt.2 rfl
        have k3 := keepM_233 (m := m') (i := i) (by omega)
        have z := stcp57_z hi
        have t4 := rqq.z_tw_t i hi
        have t5 := T4_and t4
        have h235 : rdI (wrI (wrI (wrI (wrI (flI (keepM m') 235 64 (fun k => rdI m' 216 k)) 192 107 1) 192 109 (rdI m' 192 58)) 192 111 0) 192 112 (-1)) 235 i = rdI m' 216 i := by
          rw [rdI_o (by decide), rdI_o (by decide), rdI_o (by decide), rdI_o (by decide), rdI_flI, if_pos ⟨rfl, by omega⟩]
        rw [G _ _ (by decide), G _ _ (by decide), G _ _ (by decide), G _ _ (by decide), G _ _ (by decide), G _ _ (by decide), M _ _ (by decide) (by decide), M _ _ (by decide) (by decide), M _ _ (by decide) (by decide), M _ _ (by decide) (by decide), k3.1, k3.2.1, k3.2.2.1, k3.2.2.2, z.1, z.2.1, z.2.2.1, z.2.2.2.1, z.2.2.2.2.1, z.2.2.2.2.2, h235, t5.1, t5.2]
        exact ⟨rqq.z_tw_x i hi, rqq.z_tw_y i hi, rqq.z_tw_ox i hi, rqq.z_tw_oy i hi, t4⟩
      · intro j hj
        rw [G _ _ (by decide), M _ _ (by decide) (by decide), keepM_234 hj, stcp57_67 hj]
        rcases lt9 hj with rfl | rfl | rfl | rfl | rfl | rfl | rfl | rfl | rfl
        · exact rqq.s_cut
        · exact rqq.s_single
        · exact rqq.s_scut
        · exact rqq.s_least
        · rw [if_pos rfl, rqq.s_flip]
          rcases rqq.r_flip with e | e <;> rw [e] <;> rfl
        · exact rqq.s_base
        · exact rqq.s_shift
        · exact rqq.s_scan
        · exact rqq.s_kind
      · rw [G _ _ (by decide), stcp57_67 (by decide)]; exact rqq.r_flip
      · rw [G _ _ (by decide), stcp57_67 (by decide)]; exact rqq.r_shift
      · exact FT_tr (fun o k ho => (G _ _ (by omega)).trans (rf57 o k (by omega))) (fun o k ho => (M _ _ (by omega) (by omega)).trans (keepM_o (by omega))) rqq.ft
      · exact OW_tr (fun o k ho => (G _ _ (by omega)).trans (rf57 o k (by omega))) ((G _ _ (by omega)).trans (rf57 _ _ (by omega))) (fun o k ho => (M _ _ (by omega) (by omega)).trans (keepM_o (by omega))) rqq.ow
      · rw [G _ _ (by decide), rf57 22 24 (by omega)]
        simp only [rdI_wrI, rdI_flI, rdI_wrP, Nat.reduceEqDiff, false_and, and_false, true_and, and_true, eq_self, reduceIte]
        rw [keepM_o (o := 192) (by omega)]
        exact rqq.s_owns
      · rw [G _ _ (by decide), rf57 22 4 (by omega), d4]
        simp only [rdI_wrI, rdI_flI, rdI_wrP, Nat.reduceEqDiff, false_and, and_false, true_and, and_true, eq_self, reduceIte]
      · rw [G _ _ (by decide), rf57 22 4 (by omega), d4]
        exact hn
