/-! LAYER 3BB: what both sides hold ahead of a glyph's program; frames -/
theorem wkD_o {d o k : Nat} {h : hH} (ho : o < 23 ∨ 40 < o) : rdI (wkD d h) o k = rdI h o k := by
  unfold wkD
  rw [rdI_wrP, wkC_o (by omega), wkB_o (by omega), wkA_o ho]
theorem wkD_s {d o k : Nat} {h : hH} (ho : o < 34) : rdI (wkD d h) o k = rdI (stcp23 h) o k := by
  unfold wkD
  rw [rdI_wrP, wkC_o (by omega), wkB_o (by omega)]
  unfold wkA
  rw [zc34_o (by omega), rdI_o (by omega)]
theorem wkD_34 {d : Nat} {h : hH} : rdI (wkD d h) 34 6 = wn d h + 2 := by
  unfold wkD
  rw [rdI_wrP, wkC_o (by omega), wkB_o (by omega)]
  unfold wkA
  rw [zc34_o (by omega), rdI_wrI, if_pos ⟨rfl, rfl⟩]
theorem wkD_g {d i : Nat} {h : hH} (hi : i < (wn d h).toNatClampNeg) : rdI (wkD d h) 35 i = rdI h (71 + 17 * d) i ∧ rdI (wkD d h) 36 i = rdI h (72 + 17 * d) i ∧ rdI (wkD d h) 37 i = rdI h (71 + 17 * d) i ∧ rdI (wkD d h) 38 i = rdI h (72 + 17 * d) i := by
  have b : ∀ o, rdI (wkD d h) o i = rdI (wkB d h (wkA d h) (wn d h).toNatClampNeg) o i := fun o => by
    unfold wkD
    rw [rdI_wrP]
    unfold wkC
    exact mt4_b (Or.inl hi)
  rw [b, b, b, b]
  have := mt4_i (h := wkA d h) (o := 35) (p := 36) (q := 37) (r := 38) (b := 0) (u := fun i => rdI h (71 + 17 * d) i) (v := fun i => rdI h (72 + 17 * d) i) (w := fun i => rdI h (71 + 17 * d) i) (x := fun i => rdI h (72 + 17 * d) i) hi (by decide) (by decide) (by decide) (by decide) (by decide) (by decide)
  rw [Nat.zero_add] at this
  exact this
theorem wkD_p {d i : Nat} {h : hH} (hi : i < 2) : rdI (wkD d h) 35 ((wn d h).toNatClampNeg + i) = rdI h (75 + 17 * d) i ∧ rdI (wkD d h) 36 ((wn d h).toNatClampNeg + i) = rdI h (76 + 17 * d) i ∧ rdI (wkD d h) 37 ((wn d h).toNatClampNeg + i) = snV (rdI h (75 + 17 * d) i) ∧ rdI (wkD d h) 38 ((wn d h).toNatClampNeg + i) = rdI h (76 + 17 * d) i := by
  unfold wkD
  rw [rdI_wrP, rdI_wrP, rdI_wrP, rdI_wrP]
  unfold wkC
  exact mt4_i hi (by decide) (by decide) (by decide) (by decide) (by decide) (by decide)
theorem wkD_t {d i : Nat} {h : hH} (hi : i < (wn d h + 2).toNatClampNeg) : rdI (wkD d h) 39 i = 0 ∧ rdI (wkD d h) 40 i = 0 := by
  unfold wkD
  rw [rdI_wrP, rdI_wrP, wkC_o (by omega), wkC_o (by omega), wkB_o (by omega), wkB_o (by omega)]
  unfold wkA
  exact zc34_i hi
theorem hiD_o {d o k : Nat} {h : hH} (ho : o ≠ 192) (h2 : o < 210 ∨ 218 < o) : rdI (hiD d h) o k = rdI h o k := by
  unfold hiD hiN
  rw [rdI_o (by omega), rdI_o (by omega), hiC_o (by omega), hiB_o ho (by omega)]
theorem hiD_A {d k : Nat} {h : hH} : rdI (hiD d h) 192 k = rdI (hiA d h) 192 k := by
  unfold hiD hiN
  rw [rdI_o (by omega), rdI_o (by omega), hiC_o (by omega)]
  unfold hiB
  rw [rdI_mo (by omega)]
theorem hiD_192 {d k : Nat} {h : hH} (hk : k < 80 ∨ 88 < k) (h1 : k ≠ 52) (h2 : k ≠ 53) : rdI (hiD d h) 192 k = rdI h 192 k := by
  rw [hiD_A]
  unfold hiA
  rw [rdI_wrI, if_neg (by omega), rdI_wrI, if_neg (by omega), bringM_192 hk]
theorem hiD_s {d j : Nat} {h : hH} (hj : j < 9) : rdI (hiD d h) 192 (80 + j) = if j = 4 then (if rdI h 234 4 = 1 then 1 else 0) else rdI h 234 j := by
  rw [hiD_A]
  unfold hiA
  rw [rdI_wrI, if_neg (by omega), rdI_wrI, if_neg (by omega), bringM_s hj]
theorem hiD_52 {d : Nat} {h : hH} : rdI (hiD d h) 192 52 = rdI h 236 d + 2 ∧ rdI (hiD d h) 192 53 = rdI h 237 d := by
  rw [hiD_A, hiD_A]
  unfold hiA
  refine ⟨?_, ?_⟩
  · rw [rdI_wrI, if_neg (by omega), rdI_wrI, if_pos ⟨rfl, rfl⟩]
  · rw [rdI_wrI, if_pos ⟨rfl, rfl⟩]
theorem hiC_b {d o k n : Nat} {h B : hH} (ho : o ≠ 217) (hk : k < 102) : rdI (hiC d h B n) o k = rdI B o k := by
  unfold hiC
  rw [rdI_mo ho, rdI_mtI, if_neg (by omega), mt4_b (by omega)]
theorem hiD_b {d o k : Nat} {h : hH} (ho : o ≠ 217) (h2 : o ≠ 218) (h3 : o ≠ 192) (hk : k < 102) : rdI (hiD d h) o k = rdI (bringM h) o k := by
  unfold hiD hiN
  rw [rdI_wrI, if_neg (by omega), rdI_wrI, if_neg (by omega), hiC_b ho hk]
  unfold hiB hiA
  rw [rdI_mo h2, rdI_o h3, rdI_o h3]
theorem hiD_210 {d i : Nat} {h : hH} (hi : i < 256) : rdI (hiD d h) 210 i = rdI h 231 i := by
  unfold hiD hiN
  rw [rdI_o (by decide), rdI_o (by decide), hiC_o (by decide)]
  unfold hiB hiA
  rw [rdI_mo (by decide), rdI_o (by decide), rdI_o (by decide), bringM_210 hi]
theorem hiD_211 {d i : Nat} {h : hH} (hi : i < 64) : rdI (hiD d h) 211 i = rdI h 232 i ∧ rdI (hiD d h) 212 i = rdI h 233 (4 * i + 2) ∧ rdI (hiD d h) 213 i = rdI h 233 (4 * i + 3) ∧ rdI (hiD d h) 214 i = rdI h 233 (4 * i) ∧ rdI (hiD d h) 215 i = rdI h 233 (4 * i + 1) ∧ rdI (hiD d h) 216 i = rdI h 235 i := by
  rw [hiD_b (by decide) (by decide) (by decide) (by omega), hiD_b (by decide) (by decide) (by decide) (by omega), hiD_b (by decide) (by decide) (by decide) (by omega), hiD_b (by decide) (by decide) (by decide) (by omega), hiD_b (by decide) (by decide) (by decide) (by omega), hiD_b (by decide) (by decide) (by decide) (by omega)]
  exact bringM_211 hi
theorem hiD_g {d i : Nat} {h : hH} (hi : i < (rdI h 236 d).toNatClampNeg + 2) : rdI (hiD d h) 212 (102 + i) = hun d h i ∧ rdI (hiD d h) 213 (102 + i) = hvn d h i ∧ rdI (hiD d h) 215 (102 + i) = hvn d h i ∧ rdI (hiD d h) 216 (102 + i) = 0 ∧ rdI (hiD d h) 217 i = hwn d h i ∧ (i < (rdI h 236 d).toNatClampNeg → rdI (hiD d h) 214 (102 + i) = hun d h i) := by
  obtain ⟨a1, a2, a3, a4, a5, a6⟩ := hiC_i (d := d) (h := h) (B := hiB d h) hi
  unfold hiD hiN
  refine ⟨?_, ?_, ?_, ?_, ?_, fun w => ?_⟩
  · rw [rdI_o (by decide), rdI_o (by decide), a1]
  · rw [rdI_o (by decide), rdI_o (by decide), a2]
  · rw [rdI_o (by decide), rdI_o (by decide), a4]
  · rw [rdI_o (by decide), rdI_o (by decide), a5]
  · rw [rdI_o (by decide), rdI_o (by decide), a6]
  · rw [rdI_wrI, if_neg (by omega), rdI_wrI, if_neg (by omega), a3]
theorem hiD_p {d : Nat} {h : hH} : rdI (hiD d h) 214 (102 + (rdI h 236 d).toNatClampNeg) = snV (rdI h 242 (4 * d)) ∧ rdI (hiD d h) 214 (103 + (rdI h 236 d).toNatClampNeg) = snV (rdI h 242 (4 * d + 2)) := by
  unfold hiD
  refine ⟨?_, ?_⟩
  · rw [rdI_wrI, if_neg (by omega), rdI_wrI, if_pos ⟨rfl, rfl⟩]
  · rw [rdI_wrI, if_pos ⟨rfl, rfl⟩]
theorem hiD_218 {d c : Nat} {h : hH} (hc : c < (rdI h 237 d).toNatClampNeg) : rdI (hiD d h) 218 c = rdI h 241 (20 * d + c) := by
  unfold hiD hiN
  rw [rdI_o (by decide), rdI_o (by decide), hiC_o (by decide)]
  unfold hiB
  have := rdI_mi (h := hiA d h) (o := 218) (b := 0) (v := fun i => rdI h 241 (20 * d + i)) hc
  rw [Nat.zero_add] at this
  exact this
/-- frames, one outline's on-curve row excepted -/
def PFd (d : Nat) (hc0 hm0 hc hm : hH) : Prop := (∀ o k, cW o = false → o ≠ 73 + 17 * d → rdI hc o k = rdI hc0 o k) ∧ rdI hc 22 4 = rdI hc0 22 4 ∧ (∀ o k, rdL hc o k = rdL hc0 o k) ∧ (∀ o k, rdP hc o k = rdP hc0 o k) ∧ (∀ o k, mW o k = false → rdI hm o k = rdI hm0 o k) ∧ (∀ o k, rdL hm o k = rdL hm0 o k) ∧ (∀ o k, rdP hm o k = rdP hm0 o k) ∧ rdP hc0 22 3 = 70 + 17 * d ∧ d < 6
theorem PFd_rfl {d : Nat} {hc hm : hH} (hP : rdP hc 22 3 = 70 + 17 * d) (hd : d < 6) : PFd d hc hm hc hm := ⟨fun _ _ _ _ => rfl, rfl, fun _ _ => rfl, fun _ _ => rfl, fun _ _ _ => rfl, fun _ _ => rfl, fun _ _ => rfl, hP, hd⟩
theorem PFd_c {d : Nat} {hc0 hm0 hc hm : hH} {o k : Nat} {v : Int32} (ho : cW o = true ∨ o = 73 + 17 * d) (h4 : ¬ (22 = o ∧ 4 = k)) (h : PFd d hc0 hm0 hc hm) : PFd d hc0 hm0 (wrI hc o k v) hm := by
  refine ⟨fun o' k' h1 h2 => ?_, ?_, h.2.2⟩
  · rw [rdI_o (fun e => by
      rw [e] at h1 h2
      rcases ho with w | w
      · rw [w] at h1; cases h1
      · exact h2 w)]
    exact h.1 o' k' h1 h2
  · rw [rdI_wrI, if_neg h4]
    exact h.2.1
theorem cP_w {o k : Nat} (h : cP o k = true) : cW o = true ∧ ¬ (22 = o ∧ 4 = k) := by
  refine ⟨?_, ?_⟩
  · unfold cP at h
    cases e : cW o
    · rw [e] at h; cases h
    · rfl
  · rintro ⟨rfl, rfl⟩
    exact absurd h (by decide)
theorem PFd_cl {d : Nat} {hc0 hm0 : hH} : Pcl (PFd d hc0 hm0) := by
  refine ⟨?_, ?_, ?_⟩
  · intro hc hm o k v ho h
    exact PFd_c (Or.inl (cP_w ho).1) (cP_w ho).2 h
  · intro hc hm o k v ho h
    refine ⟨h.1, h.2.1, h.2.2.1, h.2.2.2.1, fun o' k' ho' => ?_, h.2.2.2.2.2⟩
    rw [rdI_wrI, if_neg]
    · exact h.2.2.2.2.1 o' k' ho'
    · rintro ⟨rfl, rfl⟩
      rw [ho] at ho'
      cases ho'
  · intro hc hm k v o h
    have e : rdP hc 22 3 = 70 + 17 * d := (h.2.2.2.1 22 3).trans h.2.2.2.2.2.2.2.1
    have r := (od_rf h.2.2.2.2.2.2.2.2).2.1.2.2.1
    rw [e, r]
    exact PFd_c (Or.inr rfl) (by omega) h
theorem PFd_5 {d : Nat} {hc0 hm0 : hH} : P5 (PFd d hc0 hm0) := fun _ _ _ h => PFd_c (Or.inl rfl) (by decide) h
theorem PFd_8 {d : Nat} {hc0 hm0 : hH} : P8 (PFd d hc0 hm0) := fun _ _ _ h => PFd_c (Or.inl rfl) (by decide) h
/-- what making wants of a font and a size -/
def WB (hc hm : hH) : Prop := FS hc hm ∧ SZ hc hm ∧ rdI hm 192 62 = rdI hc 22 4 ∧ (rdI hm 192 58 = rdI hc 22 5 ∧ 0 ≤ rdI hc 22 5 ∧ rdI hc 22 5 ≤ 20000) ∧ (rdI hm 192 57 = rdI hc 22 6 ∧ 0 ≤ rdI hc 22 6 ∧ rdI hc 22 6 ≤ 256)
def WK (hc hm : hH) : Prop := WB hc hm ∧ rdI hm 192 59 = 0
def FX (hc hm : hH) : Prop := WB hc hm ∧ 0 < rdI hm 192 59 ∧ rdI hm 192 59 = rdI hc 22 13 ∧ rdI hm 192 60 = rdI hc 22 12 ∧ rdI hm 192 59 ≤ 100
theorem FS_tr {hc hm g m : hH} (c4 : ∀ k, rdI g 4 k = rdI hc 4 k) (c5 : ∀ k, rdI g 5 k = rdI hc 5 k) (c6 : ∀ k, rdI g 6 k = rdI hc 6 k) (mk : ∀ k, k ≤ 25 → rdI m 192 k = rdI hm 192 k) (m194 : ∀ k, rdI m 194 k = rdI hm 194 k) (m195 : ∀ k, rdI m 195 k = rdI hm 195 k) (lm : ∀ o k, rdL m o k = rdL hm o k) (h : FS hc hm) : FS g m := by
  obtain ⟨fb, fu, fz, ft, fst, ff, fo, fk, fc, fv, p1, p2⟩ := h
  have m5 := mk 5 (by decide)
  have l197 := fun k => lm 197 k
  have l198 := fun k => lm 198 k
  refine ⟨⟨?_, ?_, ?_, ?_⟩, ?_, ?_, ?_, ?_, ?_, ?_, ?_, ?_, ?_, PG_tr c4 (c5 1) m5 m195 l197 l198 p1, PG_tr c4 (c5 1) m5 m195 l197 l198 p2⟩
  · rw [mk 3 (by decide), c5]; exact fb.1
  · rw [c5]; exact fb.2.1
  · rw [c5]; exact fb.2.2.1
  · intro i hi
    rw [c5] at hi
    rw [m194, c6]
    exact fb.2.2.2 i hi
  · rw [mk 10 (by decide), c4]; exact fu
  · rw [mk 13 (by decide), c4]; exact fz
  · rw [mk 14 (by decide), c4]; exact ft
  · rw [mk 15 (by decide), c4]; exact fst
  · rw [mk 16 (by decide), c4]; exact ff
  · rw [mk 17 (by decide), c4]; exact fo
  · rw [mk 18 (by decide), c4]; exact fk
  · rw [mk 25 (by decide), c4]; exact fc
  · rw [beginOf_loc m5 m195 l197, c4, c4, c5]; exact fv
theorem SZ_tr {hc hm g m : hH} (c4 : ∀ k, rdI g 4 k = rdI hc 4 k) (c5 : ∀ k, rdI g 5 k = rdI hc 5 k) (cz : ∀ o k, 57 ≤ o → o ≤ 67 → rdI g o k = rdI hc o k) (c16 : rdI g 1 6 = rdI hc 1 6) (c24 : rdI g 22 4 = rdI hc 22 4) (mz : ∀ o k, 231 ≤ o → o ≤ 235 → rdI m o k = rdI hm o k) (ft : FT g m 1) (ow : OW g m 1) (ec : rdI m 192 98 = rdI g 22 24) (h : SZ hc hm) : SZ g m := by
  obtain ⟨s1, s2, s3, s4, s5, s6, s7, _, _, _, s11, s12⟩ := h
  refine ⟨?_, ?_, ?_, ?_, ?_, ?_, ?_, ft, ow, ec, ?_, ?_⟩
  · rw [cz 57 1 (by decide) (by decide), cz 57 3 (by decide) (by decide), cz 60 6 (by decide) (by decide), c4, c4, c4]; exact s1
  · intro i hi
    rw [c4] at hi
    rw [mz 231 _ (by decide) (by decide), cz 58 _ (by decide) (by decide)]; exact s2 i hi
  · intro i hi
    rw [c4] at hi
    rw [mz 232 _ (by decide) (by decide), cz 59 _ (by decide) (by decide)]; exact s3 i hi
  · intro i hi
    rw [c4] at hi
    rw [mz 233 _ (by decide) (by decide), mz 233 _ (by decide) (by decide), mz 233 _ (by decide) (by decide), mz 233 _ (by decide) (by decide), mz 235 _ (by decide) (by decide), cz 61 _ (by decide) (by decide), cz 62 _ (by decide) (by decide), cz 63 _ (by decide) (by decide), cz 64 _ (by decide) (by decide), cz 65 _ (by decide) (by decide), cz 66 _ (by decide) (by decide)]; exact s4 i hi
  · intro j hj
    rw [mz 234 _ (by decide) (by decide), cz 67 _ (by decide) (by decide)]; exact s5 j hj
  · rw [cz 67 _ (by decide) (by decide)]; exact s6
  · rw [cz 67 _ (by decide) (by decide)]; exact s7
  · rw [c24, c16]; exact s11
  · rw [c24]; exact s12
theorem FT_dn {hc hm : hH} {b : Int32} (h : FT hc hm b) : FT hc hm 1 := by
  intro i hi
  rcases h i hi with q | ⟨a1, a2, a3, a4⟩
  · exact Or.inl q
  · exact Or.inr ⟨a1, a2, ⟨a3.1, a4, a3.2.2⟩, a4⟩
theorem OW_dn {hc hm : hH} {b : Int32} (h : OW hc hm b) : OW hc hm 1 := by
  obtain ⟨o1, o2, o3, o4, o5⟩ := h
  refine ⟨o1, o2, ?_, o4, o5⟩
  intro i hi
  obtain ⟨c1, c2, c3, c4, c5, c6⟩ := o3 i hi
  exact ⟨c1, c2, c3, c4, ⟨c5.1, c6, c5.2.2⟩, c6⟩
/-- cells that the making of an outline of depth d leaves -/
def fC (d o k : Nat) : Prop := o < 22 ∨ (o = 22 ∧ k = 4) ∨ (55 < o ∧ o < 70 + 17 * d ∧ ¬ (o = 56 ∧ 5 ≤ k ∧ k ≤ 7)) ∨ 172 ≤ o
def fM (d o k : Nat) : Prop := mW o k = false ∧ ¬ (o = 192 ∧ ((26 ≤ k ∧ k ≤ 32) ∨ k = 52 ∨ k = 53 ∨ (125 ≤ k ∧ k ≤ 127))) ∧ ¬ (199 ≤ o ∧ o ≤ 207) ∧ o ≠ 218 ∧ ¬ ((o = 236 ∨ o = 237) ∧ d ≤ k) ∧ ¬ ((o = 238 ∨ o = 239 ∨ o = 240) ∧ 102 * d ≤ k) ∧ ¬ (o = 241 ∧ 20 * d ≤ k) ∧ ¬ (o = 242 ∧ 4 * d ≤ k)
def FrC (d : Nat) (h g : hH) : Prop := (∀ o k, fC d o k → rdI g o k = rdI h o k) ∧ (∀ o k, rdL g o k = rdL h o k) ∧ (∀ o k, ¬ (o = 22 ∧ k = 3) → ¬ (77 + 17 * d ≤ o ∧ k = 15) → rdP g o k = rdP h o k)
def FrM (d : Nat) (h g : hH) : Prop := (∀ o k, fM d o k → rdI g o k = rdI h o k) ∧ (∀ o k, rdL g o k = rdL h o k) ∧ (∀ o k, rdP g o k = rdP h o k)
theorem FrC_rfl {d : Nat} {h : hH} : FrC d h h := ⟨fun _ _ _ => rfl, fun _ _ => rfl, fun _ _ _ _ => rfl⟩
theorem FrM_rfl {d : Nat} {h : hH} : FrM d h h := ⟨fun _ _ _ => rfl, fun _ _ => rfl, fun _ _ => rfl⟩
theorem FrC_t {d : Nat} {h g g' : hH} (f : FrC d h g) (f' : FrC d g g') : FrC d h g' := ⟨fun o k w => (f'.1 o k w).trans (f.1 o k w), fun o k => (f'.2.1 o k).trans (f.2.1 o k), fun o k a b => (f'.2.2 o k a b).trans (f.2.2 o k a b)⟩
theorem FrM_t {d : Nat} {h g g' : hH} (f : FrM d h g) (f' : FrM d g g') : FrM d h g' := ⟨fun o k w => (f'.1 o k w).trans (f.1 o k w), fun o k => (f'.2.1 o k).trans (f.2.1 o k), fun o k => (f'.2.2 o k).trans (f.2.2 o k)⟩
theorem FrC_up {d : Nat} {h g : hH} (f : FrC (d + 1) h g) : FrC d h g := ⟨fun o k w => f.1 o k (by unfold fC at w ⊢; omega), f.2.1, fun o k a b => f.2.2 o k a (by omega)⟩
theorem FrM_up {d : Nat} {h g : hH} (f : FrM (d + 1) h g) : FrM d h g := ⟨fun o k w => f.1 o k (by unfold fM at w ⊢; exact ⟨w.1, by omega⟩), f.2.1, f.2.2⟩
theorem FrC_w {d o k : Nat} {v : Int32} {h g : hH} (f : FrC d h g) (ho : ¬ fC d o k) : FrC d h (wrI g o k v) := by
  refine ⟨fun o' k' w => ?_, f.2.1, f.2.2⟩
  rw [rdI_wrI, if_neg]
  · exact f.1 o' k' w
  · rintro ⟨rfl, rfl⟩
    exact ho w
theorem FrM_w {d o k : Nat} {v : Int32} {h g : hH} (f : FrM d h g) (ho : ¬ fM d o k) : FrM d h (wrI g o k v) := by
  refine ⟨fun o' k' w => ?_, f.2.1, f.2.2⟩
  rw [rdI_wrI, if_neg]
  · exact f.1 o' k' w
  · rintro ⟨rfl, rfl⟩
    exact ho w
theorem WB_c {hc hm g : hH} (c : ∀ o k, ((o < 22 ∧ ¬ (o = 1 ∧ k ≠ 6)) ∨ (22 < o ∧ o < 56) ∨ (56 < o ∧ o < 70)) → rdI g o k = rdI hc o k) (c22 : ∀ k, (k = 4 ∨ k = 5 ∨ k = 6 ∨ k = 24) → rdI g 22 k = rdI hc 22 k) (h : WB hc hm) : WB g hm := by
  obtain ⟨h1, h2, h3, h4, h5⟩ := h
  have c4 := fun k => c 4 k (by omega)
  have c5 := fun k => c 5 k (by omega)
  have c6 := fun k => c 6 k (by omega)
  have s := h2.2.2.2.2.2.2.2
  refine ⟨FS_tr c4 c5 c6 (fun _ _ => rfl) (fun _ => rfl) (fun _ => rfl) (fun _ _ => rfl) h1, SZ_tr c4 c5 (fun o k a b => c o k (by omega)) (c 1 6 (by omega)) (c22 4 (by decide)) (fun _ _ _ _ => rfl) (FT_tr (fun o k ho => c o k (by omega)) (fun _ _ _ => rfl) s.1) (OW_tr (fun o k ho => c o k (by omega)) (c22 24 (by decide)) (fun _ _ _ => rfl) s.2.1) (s.2.2.1.trans (c22 24 (by decide)).symm) h2, ?_, ?_, ?_⟩
  · rw [c22 4 (by decide)]; exact h3
  · rw [c22 5 (by decide)]; exact h4
  · rw [c22 6 (by decide)]; exact h5
theorem WB_m {hc hm m : hH} (f : ∀ o k, (o = 194 ∨ o = 195 ∨ (219 ≤ o ∧ o ≤ 235) ∨ (o = 192 ∧ (k ≤ 25 ∨ k = 57 ∨ k = 58 ∨ k = 62 ∨ k = 98))) → rdI m o k = rdI hm o k) (lm : ∀ o k, rdL m o k = rdL hm o k) (h : WB hc hm) : WB hc m := by
  obtain ⟨h1, h2, h3, h4, h5⟩ := h
  have s := h2.2.2.2.2.2.2.2
  refine ⟨FS_tr (fun _ => rfl) (fun _ => rfl) (fun _ => rfl) (fun k hk => f 192 k (by omega)) (fun k => f 194 k (by omega)) (fun k => f 195 k (by omega)) lm h1, SZ_tr (fun _ => rfl) (fun _ => rfl) (fun _ _ _ _ => rfl) rfl rfl (fun o k a b => f o k (by omega)) (FT_tr (fun _ _ _ => rfl) (fun o k ho => f o k (by omega)) s.1) (OW_tr (fun _ _ _ => rfl) rfl (fun o k ho => f o k (by omega)) s.2.1) ((f 192 98 (by omega)).trans s.2.2.1) h2, ?_, ?_, ?_⟩
  · rw [f 192 62 (by omega)]; exact h3
  · rw [f 192 58 (by omega)]; exact h4
  · rw [f 192 57 (by omega)]; exact h5
