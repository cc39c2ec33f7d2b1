/-! LAYER 3U: what the model keeps of a size (printed by gen/mk85.py) -/
theorem rdI_fo {h : hH} {o n : Nat} {v : Nat → Int32} {a b : Nat} (ho : a ≠ o) : rdI (flI h o n v) a b = rdI h a b := by rw [rdI_flI, if_neg (fun q => ho q.1)]
def keep9 (h : hH) : hH := (wrI (wrI (wrI (wrI (wrI (wrI (wrI (wrI (wrI h 234 0 (rdI h 192 80)) 234 1 (rdI h 192 81)) 234 2 (rdI h 192 82)) 234 3 (rdI h 192 83)) 234 4 (if rdI h 192 84 = 0 then 0 else 1)) 234 5 (rdI h 192 85)) 234 6 (rdI h 192 86)) 234 7 (rdI h 192 87)) 234 8 (rdI h 192 88))
def zq (h : hH) (k : Nat) : Int32 := if k % 4 = 0 then rdI h 214 (k / 4) else if k % 4 = 1 then rdI h 215 (k / 4) else if k % 4 = 2 then rdI h 212 (k / 4) else rdI h 213 (k / 4)
def keepM (h : hH) : hH := flI (flI (flI (keep9 h) 231 256 (fun k => rdI h 210 k)) 232 64 (fun k => rdI h 211 k)) 233 256 (zq h)
theorem x4 {i : Int32} (i0 : 0 ≤ i) (i1 : i < 64) : (4 * i).toNatClampNeg = 4 * i.toNatClampNeg ∧ (4 * i + 1).toNatClampNeg = 4 * i.toNatClampNeg + 1 ∧ (4 * i + 2).toNatClampNeg = 4 * i.toNatClampNeg + 2 ∧ (4 * i + 3).toNatClampNeg = 4 * i.toNatClampNeg + 3 := by
  have z0 : (0 : Int32).toInt = 0 := rfl
  have z1 : (1 : Int32).toInt = 1 := rfl
  have z2 : (2 : Int32).toInt = 2 := rfl
  have z3 : (3 : Int32).toInt = 3 := rfl
  have z4 : (4 : Int32).toInt = 4 := rfl
  have z64 : (64 : Int32).toInt = 64 := rfl
  have a := Int32.le_iff_toInt_le.mp i0
  have b := Int32.lt_iff_toInt_lt.mp i1
  have e : (4 * i).toInt = 4 * i.toInt := by rw [i32_mul (by rw [z4]; omega) (by rw [z4]; omega), z4]
  have e1 : (4 * i + 1).toInt = 4 * i.toInt + 1 := by rw [i32_add (by rw [e]; omega) (by rw [e]; omega), e, z1]
  have e2 : (4 * i + 2).toInt = 4 * i.toInt + 2 := by rw [i32_add (by rw [e]; omega) (by rw [e]; omega), e, z2]
  have e3 : (4 * i + 3).toInt = 4 * i.toInt + 3 := by rw [i32_add (by rw [e]; omega) (by rw [e]; omega), e, z3]
  refine ⟨?_, ?_, ?_, ?_⟩
  · show (4 * i).toInt.toNat = 4 * i.toInt.toNat; omega
  · show (4 * i + 1).toInt.toNat = 4 * i.toInt.toNat + 1; omega
  · show (4 * i + 2).toInt.toNat = 4 * i.toInt.toNat + 2; omega
  · show (4 * i + 3).toInt.toNat = 4 * i.toInt.toNat + 3; omega
theorem vq4 {i : Int32} (i0 : 0 ≤ i) (i1 : i < 64) : vp_in (4 * i) 256 ∧ vp_in (4 * i + 1) 256 ∧ vp_in (4 * i + 2) 256 ∧ vp_in (4 * i + 3) 256 :=
  ⟨vp_lt (n := 256) (m := 256) (by grind) (by grind) rfl, vp_lt (n := 256) (m := 256) (by grind) (by grind) rfl, vp_lt (n := 256) (m := 256) (by grind) (by grind) rfl, vp_lt (n := 256) (m := 256) (by grind) (by grind) rfl⟩
theorem zq4 {h : hH} {k : Nat} : zq h (4 * k) = rdI h 214 k ∧ zq h (4 * k + 1) = rdI h 215 k ∧ zq h (4 * k + 2) = rdI h 212 k ∧ zq h (4 * k + 3) = rdI h 213 k := by
  unfold zq
  have a0 : (4 * k) % 4 = 0 := by omega
  have a1 : (4 * k + 1) % 4 = 1 := by omega
  have a2 : (4 * k + 2) % 4 = 2 := by omega
  have a3 : (4 * k + 3) % 4 = 3 := by omega
  have d0 : (4 * k) / 4 = k := by omega
  have d1 : (4 * k + 1) / 4 = k := by omega
  have d2 : (4 * k + 2) / 4 = k := by omega
  have d3 : (4 * k + 3) / 4 = k := by omega
  rw [a0, a1, a2, a3, d0, d1, d2, d3]
  exact ⟨rfl, rfl, rfl, rfl⟩
theorem keep_o {h : hH} {o k : Nat} (ho : o ≠ 234) : rdI (keep9 h) o k = rdI h o k := by
  unfold keep9
  rw [rdI_o ho, rdI_o ho, rdI_o ho, rdI_o ho, rdI_o ho, rdI_o ho, rdI_o ho, rdI_o ho, rdI_o ho]
theorem Mo_keep_eq {h : hH} : f_Mo_keep h = some ((), keepM h) := by
  unfold f_Mo_keep
  simp only [lz]
  simp only [(fun (G : hH) (a b : Nat) (v : Int32) => rdI_o (h := G) (o := 234) (o' := 192) (k := a) (k' := b) (v := v) (by decide))]
  change bP (wh _ ((0 : Int32), keep9 h)) _ = _
  rw [wh_fill (n := 256) (by decide) (r := flI (keep9 h) 231 256 (fun k => rdI h 210 k)) (fun i => flI (keep9 h) 231 i (fun k => rdI h 210 k)) flI_0 (by dsimp only; rw [if_pos (by decide)]; rfl) (by
    intro i i0 i1
    have v : vp_in i 256 := vp_lt (n := 256) (m := 256) i0 i1 rfl
    dsimp only
    rw [if_neg (Int32.not_le.mpr i1), gd_pos v, rdI_flI, if_neg (by omega), keep_o (by decide), flI_s' rfl])]
  simp only [bP_some]
  generalize hB : flI (keep9 h) 231 256 (fun k => rdI h 210 k) = B
  have rB : ∀ o k, o ≠ 234 → o ≠ 231 → rdI B o k = rdI h o k := fun o k h1 h2 => by rw [← hB, rdI_flI, if_neg (fun q => h2 q.1)]; exact keep_o h1
  rw [wh_fill (n := 64) (by decide) (r := flI (flI B 232 64 (fun k => rdI h 211 k)) 233 256 (zq h)) (fun i => flI (flI B 232 i (fun k => rdI h 211 k)) 233 (4 * i) (zq h)) (by rw [Nat.mul_zero, flI_0, flI_0]) (by dsimp only; rw [if_pos (by decide)]; rfl) (by
    intro i i0 i1
    have v : vp_in i 64 := vp_lt (n := 64) (m := 64) i0 i1 rfl
    have v2 : vp_in i 204 := vp_lt (n := 204) (m := 204) i0 (by grind) rfl
    obtain ⟨w0, w1, w2, w3⟩ := vq4 i0 i1
    obtain ⟨x0, x1, x2, x3⟩ := x4 i0 i1
    obtain ⟨q0, q1, q2, q3⟩ := zq4 (h := h) (k := i.toNatClampNeg)
    have em : 4 * (i.toNatClampNeg + 1) = 4 * i.toNatClampNeg + 3 + 1 := by omega
    dsimp only
    rw [if_neg (Int32.not_le.mpr i1)]
    simp only [gd_pos v, gd_pos (And.intro v2 w0), gd_pos (And.intro v2 w1), gd_pos (And.intro v2 w2), gd_pos (And.intro v2 w3), x0, x1, x2, x3, (fun (G : hH) (a b : Nat) (v : Int32) => rdI_o (h := G) (o := 232) (o' := 211) (k := a) (k' := b) (v := v) (by decide)), (fun (G : hH) (a b : Nat) (v : Nat → Int32) => rdI_fo (h := G) (o := 232) (a := 211) (n := a) (b := b) (v := v) (by decide)), (fun (G : hH) (a b : Nat) (v : Int32) => rdI_o (h := G) (o := 233) (o' := 211) (k := a) (k' := b) (v := v) (by decide)), (fun (G : hH) (a b : Nat) (v : Nat → Int32) => rdI_fo (h := G) (o := 233) (a := 211) (n := a) (b := b) (v := v) (by decide)), (fun (G : hH) (a b : Nat) (v : Int32) => rdI_o (h := G) (o := 232) (o' := 212) (k := a) (k' := b) (v := v) (by decide)), (fun (G : hH) (a b : Nat) (v : Nat → Int32) => rdI_fo (h := G) (o := 232) (a := 212) (n := a) (b := b) (v := v) (by decide)), (fun (G : hH) (a b : Nat) (v : Int32) => rdI_o (h := G) (o := 233) (o' := 212) (k := a) (k' := b) (v := v) (by decide)), (fun (G : hH) (a b : Nat) (v : Nat → Int32) => rdI_fo (h := G) (o := 233) (a := 212) (n := a) (b := b) (v := v) (by decide)), (fun (G : hH) (a b : Nat) (v : Int32) => rdI_o (h := G) (o := 232) (o' := 213) (k := a) (k' := b) (v := v) (by decide)), (fun (G : hH) (a b : Nat) (v : Nat → Int32) => rdI_fo (h := G) (o := 232) (a := 213) (n := a) (b := b) (v := v) (by decide)), (fun (G : hH) (a b : Nat) (v : Int32) => rdI_o (h := G) (o := 233) (o' := 213) (k := a) (k' := b) (v := v) (by decide)), (fun (G : hH) (a b : Nat) (v : Nat → Int32) => rdI_fo (h := G) (o := 233) (a := 213) (n := a) (b := b) (v := v) (by decide)), (fun (G : hH) (a b : Nat) (v : Int32) => rdI_o (h := G) (o := 232) (o' := 214) (k := a) (k' := b) (v := v) (by decide)), (fun (G : hH) (a b : Nat) (v : Nat → Int32) => rdI_fo (h := G) (o := 232) (a := 214) (n := a) (b := b) (v := v) (by decide)), (fun (G : hH) (a b : Nat) (v : Int32) => rdI_o (h := G) (o := 233) (o' := 214) (k := a) (k' := b) (v := v) (by decide)), (fun (G : hH) (a b : Nat) (v : Nat → Int32) => rdI_fo (h := G) (o := 233) (a := 214) (n := a) (b := b) (v := v) (by decide)), (fun (G : hH) (a b : Nat) (v : Int32) => rdI_o (h := G) (o := 232) (o' := 215) (k := a) (k' := b) (v := v) (by decide)), (fun (G : hH) (a b : Nat) (v : Nat → Int32) => rdI_fo (h := G) (o := 232) (a := 215) (n := a) (b := b) (v := v) (by decide)), (fun (G : hH) (a b : Nat) (v : Int32) => rdI_o (h := G) (o := 233) (o' := 215) (k := a) (k' := b) (v := v) (by decide)), (fun (G : hH) (a b : Nat) (v : Nat → Int32) => rdI_fo (h := G) (o := 233) (a := 215) (n := a) (b := b) (v := v) (by decide)), rB _ _ (show 211 ≠ 234 by decide) (by decide), rB _ _ (show 212 ≠ 234 by decide) (by decide), rB _ _ (show 213 ≠ 234 by decide) (by decide), rB _ _ (show 214 ≠ 234 by decide) (by decide), rB _ _ (show 215 ≠ 234 by decide) (by decide)]
    rw [flI_c (by decide), flI_s' (v := fun k => rdI h 211 k) rfl, flI_s' (v := zq h) q0.symm, flI_s' (v := zq h) q1.symm, flI_s' (v := zq h) q2.symm, flI_s' (v := zq h) q3.symm, em])]
  simp only [bP_some]
  rw [← hB]
  rfl
def bring9 (h : hH) : hH := (wrI (wrI (wrI (wrI (wrI (wrI (wrI (wrI (wrI h 192 80 (rdI h 234 0)) 192 81 (rdI h 234 1)) 192 82 (rdI h 234 2)) 192 83 (rdI h 234 3)) 192 84 (if rdI h 234 4 = 1 then 1 else 0)) 192 85 (rdI h 234 5)) 192 86 (rdI h 234 6)) 192 87 (rdI h 234 7)) 192 88 (rdI h 234 8))
def bringM (h : hH) : hH := flI (flI (flI (flI (flI (flI (flI (bring9 h) 210 256 (fun k => rdI h 231 k)) 211 64 (fun k => rdI h 232 k)) 214 64 (fun k => rdI h 233 (4 * k))) 215 64 (fun k => rdI h 233 (4 * k + 1))) 212 64 (fun k => rdI h 233 (4 * k + 2))) 213 64 (fun k => rdI h 233 (4 * k + 3))) 216 64 (fun k => rdI h 235 k)
theorem bring_o {h : hH} {o k : Nat} (ho : o ≠ 192) : rdI (bring9 h) o k = rdI h o k := by
  unfold bring9
  rw [rdI_o ho, rdI_o ho, rdI_o ho, rdI_o ho, rdI_o ho, rdI_o ho, rdI_o ho, rdI_o ho, rdI_o ho]
theorem Mo_bring_eq {h : hH} : f_Mo_bring h = some ((), bringM h) := by
  have g0 : ((if rdI h 234 4 = 1 then (1 : Int32) else 0) = 0 ∨ (if rdI h 234 4 = 1 then (1 : Int32) else 0) = 1) := by split <;> decide
  unfold f_Mo_bring
  simp only [lz]
  simp only [(fun (G : hH) (a b : Nat) (v : Int32) => rdI_o (h := G) (o := 192) (o' := 234) (k := a) (k' := b) (v := v) (by decide)), gd_pos g0]
  change bP (wh _ ((0 : Int32), bring9 h)) _ = _
  rw [wh_fill (n := 256) (by decide) (r := flI (bring9 h) 210 256 (fun k => rdI h 231 k)) (fun i => flI (bring9 h) 210 i (fun k => rdI h 231 k)) flI_0 (by dsimp only; rw [if_pos (by decide)]; rfl) (by
    intro i i0 i1
    have v : vp_in i 256 := vp_lt (n := 256) (m := 256) i0 i1 rfl
    dsimp only
    rw [if_neg (Int32.not_le.mpr i1), gd_pos v, rdI_flI, if_neg (by omega), bring_o (by decide), flI_s' rfl])]
  simp only [bP_some]
  generalize hB : flI (bring9 h) 210 256 (fun k => rdI h 231 k) = B
  have rB : ∀ o k, o ≠ 192 → o ≠ 210 → rdI B o k = rdI h o k := fun o k h1 h2 => by rw [← hB, rdI_flI, if_neg (fun q => h2 q.1)]; exact bring_o h1
  rw [wh_fill (n := 64) (by decide) (r := flI (flI (flI (flI (flI (flI B 211 64 (fun k => rdI h 232 k)) 214 64 (fun k => rdI h 233 (4 * k))) 215 64 (fun k => rdI h 233 (4 * k + 1))) 212 64 (fun k => rdI h 233 (4 * k + 2))) 213 64 (fun k => rdI h 233 (4 * k + 3))) 216 64 (fun k => rdI h 235 k)) (fun i => flI (flI (flI (flI (flI (flI B 211 i (fun k => rdI h 232 k)) 214 i (fun k => rdI h 233 (4 * k))) 215 i (fun k => rdI h 233 (4 * k + 1))) 212 i (fun k => rdI h 233 (4 * k + 2))) 213 i (fun k => rdI h 233 (4 * k + 3))) 216 i (fun k => rdI h 235 k)) (by rw [flI_0, flI_0, flI_0, flI_0, flI_0, flI_0]) (by dsimp only; rw [if_pos (by decide)]; rfl) (by
    intro i i0 i1
    have v : vp_in i 64 := vp_lt (n := 64) (m := 64) i0 i1 rfl
    have v2 : vp_in i 204 := vp_lt (n := 204) (m := 204) i0 (by grind) rfl
    obtain ⟨w0, w1, w2, w3⟩ := vq4 i0 i1
    obtain ⟨x0, x1, x2, x3⟩ := x4 i0 i1
    dsimp only
    rw [if_neg (Int32.not_le.mpr i1)]
    simp only [gd_pos v, gd_pos (And.intro w0 v2), gd_pos (And.intro w1 v2), gd_pos (And.intro w2 v2), gd_pos (And.intro w3 v2), gd_pos (And.intro v v2), x0, x1, x2, x3, (fun (G : hH) (a b : Nat) (v : Int32) => rdI_o (h := G) (o := 211) (o' := 232) (k := a) (k' := b) (v := v) (by decide)), (fun (G : hH) (a b : Nat) (v : Nat → Int32) => rdI_fo (h := G) (o := 211) (a := 232) (n := a) (b := b) (v := v) (by decide)), (fun (G : hH) (a b : Nat) (v : Int32) => rdI_o (h := G) (o := 212) (o' := 232) (k := a) (k' := b) (v := v) (by decide)), (fun (G : hH) (a b : Nat) (v : Nat → Int32) => rdI_fo (h := G) (o := 212) (a := 232) (n := a) (b := b) (v := v) (by decide)), (fun (G : hH) (a b : Nat) (v : Int32) => rdI_o (h := G) (o := 213) (o' := 232) (k := a) (k' := b) (v := v) (by decide)), (fun (G : hH) (a b : Nat) (v : Nat → Int32) => rdI_fo (h := G) (o := 213) (a := 232) (n := a) (b := b) (v := v) (by decide)), (fun (G : hH) (a b : Nat) (v : Int32) => rdI_o (h := G) (o := 214) (o' := 232) (k := a) (k' := b) (v := v) (by decide)), (fun (G : hH) (a b : Nat) (v : Nat → Int32) => rdI_fo (h := G) (o := 214) (a := 232) (n := a) (b := b) (v := v) (by decide)), (fun (G : hH) (a b : Nat) (v : Int32) => rdI_o (h := G) (o := 215) (o' := 232) (k := a) (k' := b) (v := v) (by decide)), (fun (G : hH) (a b : Nat) (v : Nat → Int32) => rdI_fo (h := G) (o := 215) (a := 232) (n := a) (b := b) (v := v) (by decide)), (fun (G : hH) (a b : Nat) (v : Int32) => rdI_o (h := G) (o := 216) (o' := 232) (k := a) (k' := b) (v := v) (by decide)), (fun (G : hH) (a b : Nat) (v : Nat → Int32) => rdI_fo (h := G) (o := 216) (a := 232) (n := a) (b := b) (v := v) (by decide)), (fun (G : hH) (a b : Nat) (v : Int32) => rdI_o (h := G) (o := 211) (o' := 233) (k := a) (k' := b) (v := v) (by decide)), (fun (G : hH) (a b : Nat) (v : Nat → Int32) => rdI_fo (h := G) (o := 211) (a := 233) (n := a) (b := b) (v := v) (by decide)), (fun (G : hH) (a b : Nat) (v : Int32) => rdI_o (h := G) (o := 212) (o' := 233) (k := a) (k' := b) (v := v) (by decide)), (fun (G : hH) (a b : Nat) (v : Nat → Int32) => rdI_fo (h := G) (o := 212) (a := 233) (n := a) (b := b) (v := v) (by decide)), (fun (G : hH) (a b : Nat) (v : Int32) => rdI_o (h := G) (o := 213) (o' := 233) (k := a) (k' := b) (v := v) (by decide)), (fun (G : hH) (a b : Nat) (v : Nat → Int32) => rdI_fo (h := G) (o := 213) (a := 233) (n := a) (b := b) (v := v) (by decide)), (fun (G : hH) (a b : Nat) (v : Int32) => rdI_o (h := G) (o := 214) (o' := 233) (k := a) (k' := b) (v := v) (by decide)), (fun (G : hH) (a b : Nat) (v : Nat → Int32) => rdI_fo (h := G) (o := 214) (a := 233) (n := a) (b := b) (v := v) (by decide)), (fun (G : hH) (a b : Nat) (v : Int32) => rdI_o (h := G) (o := 215) (o' := 233) (k := a) (k' := b) (v := v) (by decide)), (fun (G : hH) (a b : Nat) (v : Nat → Int32) => rdI_fo (h := G) (o := 215) (a := 233) (n := a) (b := b) (v := v) (by decide)), (fun (G : hH) (a b : Nat) (v : Int32) => rdI_o (h := G) (o := 216) (o' := 233) (k := a) (k' := b) (v := v) (by decide)), (fun (G : hH) (a b : Nat) (v : Nat → Int32) => rdI_fo (h := G) (o := 216) (a := 233) (n := a) (b := b) (v := v) (by decide)), (fun (G : hH) (a b : Nat) (v : Int32) => rdI_o (h := G) (o := 211) (o' := 235) (k := a) (k' := b) (v := v) (by decide)), (fun (G : hH) (a b : Nat) (v : Nat → Int32) => rdI_fo (h := G) (o := 211) (a := 235) (n := a) (b := b) (v := v) (by decide)), (fun (G : hH) (a b : Nat) (v : Int32) => rdI_o (h := G) (o := 212) (o' := 235) (k := a) (k' := b) (v := v) (by decide)), (fun (G : hH) (a b : Nat) (v : Nat → Int32) => rdI_fo (h := G) (o := 212) (a := 235) (n := a) (b := b) (v := v) (by decide)), (fun (G : hH) (a b : Nat) (v : Int32) => rdI_o (h := G) (o := 213) (o' := 235) (k := a) (k' := b) (v := v) (by decide)), (fun (G : hH) (a b : Nat) (v : Nat → Int32) => rdI_fo (h := G) (o := 213) (a := 235) (n := a) (b := b) (v := v) (by decide)), (fun (G : hH) (a b : Nat) (v : Int32) => rdI_o (h := G) (o := 214) (o' := 235) (k := a) (k' := b) (v := v) (by decide)), (fun (G : hH) (a b : Nat) (v : Nat → Int32) => rdI_fo (h := G) (o := 214) (a := 235) (n := a) (b := b) (v := v) (by decide)), (fun (G : hH) (a b : Nat) (v : Int32) => rdI_o (h := G) (o := 215) (o' := 235) (k := a) (k' := b) (v := v) (by decide)), (fun (G : hH) (a b : Nat) (v : Nat → Int32) => rdI_fo (h := G) (o := 215) (a := 235) (n := a) (b := b) (v := v) (by decide)), (fun (G : hH) (a b : Nat) (v : Int32) => rdI_o (h := G) (o := 216) (o' := 235) (k := a) (k' := b) (v := v) (by decide)), (fun (G : hH) (a b : Nat) (v : Nat → Int32) => rdI_fo (h := G) (o := 216) (a := 235) (n := a) (b := b) (v := v) (by decide)), rB _ _ (show 232 ≠ 192 by decide) (by decide), rB _ _ (show 233 ≠ 192 by decide) (by decide), rB _ _ (show 235 ≠ 192 by decide) (by decide)]
    rw [flI_c (by decide), flI_c (by decide), flI_c (by decide), flI_c (by decide), flI_c (by decide), flI_s' rfl]
    rw [flI_c (by decide), flI_c (by decide), flI_c (by decide), flI_c (by decide), flI_s' rfl]
    rw [flI_c (by decide), flI_c (by decide), flI_c (by decide), flI_s' rfl]
    rw [flI_c (by decide), flI_c (by decide), flI_s' rfl]
    rw [flI_c (by decide), flI_s' rfl, flI_s' rfl])]
  simp only [bP_some]
  rw [← hB]
  rfl
theorem Mtouch {h : hH} : wh (A := (Int32 × hH)) (B := hH) (fun p37 =>
        if (64 : Int32) ≤ p37.1 then (
          some (.inr p37.2)
        ) else (
          gd (vp_in p37.1 204 ∧ vp_in p37.1 64) <|
          some (.inl (p37.1 + (1 : Int32), wrI p37.2 235 (Int32.toNatClampNeg p37.1) (rdI p37.2 216 (Int32.toNatClampNeg p37.1))))
        )
    ) ((0 : Int32), h) = some (flI h 235 64 (fun k => rdI h 216 k)) := by
  refine wh_fill (n := 64) (by decide) (fun i => flI h 235 i (fun k => rdI h 216 k)) flI_0 (by dsimp only; rw [if_pos (by decide)]; rfl) ?_
  intro i i0 i1
  have v : vp_in i 64 := vp_lt (n := 64) (m := 64) i0 i1 rfl
  have v2 : vp_in i 204 := vp_lt (n := 204) (m := 204) i0 (by grind) rfl
  dsimp only
  rw [if_neg (Int32.not_le.mpr i1), gd_pos ⟨v2, v⟩, rdI_flI, if_neg (by omega), flI_s' rfl]
