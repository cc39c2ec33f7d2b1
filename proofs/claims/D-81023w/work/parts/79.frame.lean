/-! LAYER 3O: frames; the start of a size -/
/-- cells of the component that no machine that runs writes -/
def cOut (o : Nat) : Bool := !(cW o) && !(o == 73 || o == 90 || o == 107 || o == 124 || o == 141 || o == 158)
/-- all but what running machines write is as it was -/
def PF (hc0 hm0 hc hm : hH) : Prop := (∀ o k, cOut o = true → rdI hc o k = rdI hc0 o k) ∧ (∀ o k, rdL hc o k = rdL hc0 o k) ∧ (∀ o k, rdP hc o k = rdP hc0 o k) ∧ (∀ o k, mW o k = false → rdI hm o k = rdI hm0 o k) ∧ (∀ o k, rdL hm o k = rdL hm0 o k) ∧ (∀ o k, rdP hm o k = rdP hm0 o k)
theorem PF_rfl {hc hm : hH} : PF hc hm hc hm := ⟨fun _ _ _ => rfl, fun _ _ => rfl, fun _ _ => rfl, fun _ _ _ => rfl, fun _ _ => rfl, fun _ _ => rfl⟩
theorem PF_c {hc0 hm0 hc hm : hH} {o k : Nat} {v : Int32} (ho : cOut o = false) (h : PF hc0 hm0 hc hm) : PF hc0 hm0 (wrI hc o k v) hm := by
  refine ⟨fun o' k' ho' => ?_, h.2.1, h.2.2.1, h.2.2.2⟩
  rw [rdI_o (fun e => by rw [e, ho] at ho'; cases ho')]
  exact h.1 o' k' ho'
theorem PF_cl {hc0 hm0 : hH} : Pcl (PF hc0 hm0) := by
  refine ⟨?_, ?_, ?_⟩
  · intro hc hm o k v ho h
    refine PF_c ?_ h
    unfold cP at ho
    unfold cOut
    have : cW o = true := by
      cases e : cW o
      · rw [e] at ho; cases ho
      · rfl
    rw [this]
    rfl
  · intro hc hm o k v ho h
    refine ⟨h.1, h.2.1, h.2.2.1, fun o' k' ho' => ?_, h.2.2.2.2.1, h.2.2.2.2.2⟩
    rw [rdI_wrI, if_neg]
    · exact h.2.2.2.1 o' k' ho'
    · rintro ⟨rfl, rfl⟩
      rw [ho] at ho'
      cases ho'
  · intro hc hm k v o h
    refine PF_c ?_ h
    rcases o with e | e | e | e | e | e <;> rw [e] <;> rfl
theorem PF_5 {hc0 hm0 : hH} : P5 (PF hc0 hm0) := fun _ _ _ h => PF_c rfl h
theorem PF_8 {hc0 hm0 : hH} : P8 (PF hc0 hm0) := fun _ _ _ h => PF_c rfl h
/-! words of the font -/
def s2N (h : hH) (p : Nat) : Int32 := Int16.toInt32 (Int32.toInt16 (((rdI h 6 p &&& 255) <<< ((8 : Int32) &&& 31)) ||| (rdI h 6 (p + 1) &&& 255)))
theorem By_u1_eq {p : Int32} {h : hH} (h0 : 0 ≤ p) (h1 : p < 12000) : f_By_u1 5 p h = some (rdI h 6 p.toNatClampNeg &&& 255) := by
  unfold f_By_u1
  rw [gd_pos (vp_lt (n := 12000) (m := 12000) h0 h1 rfl)]
  rfl
theorem By_s2_eq {p : Int32} {h : hH} (h0 : 0 ≤ p) (h1 : p + 1 < 12000) (h2 : p < 12000) : f_By_s2 5 p h = some (s2N h p.toNatClampNeg) := by
  unfold f_By_s2 f_By_u2 s2N
  have e : (p + 1).toNatClampNeg = p.toNatClampNeg + 1 := xI_succ (m := 12000) h0 (by grind) (by decide)
  rw [By_u1_eq h0 h2, By_u1_eq (by grind) h1, e]
  rfl
theorem Mo_s2_eq {hc hm : hH} (hb : BY hc hm) {p : Int32} (h0 : 0 ≤ p) (h1 : p + 1 < rdI hc 5 1) (h2 : p < rdI hc 5 1) : f_Mo_s2 p hm = some (s2N hc p.toNatClampNeg) := by
  unfold f_Mo_s2 f_Mo_u2 s2N
  have b3 := hb.2.2.1
  have e : (p + 1).toNatClampNeg = p.toNatClampNeg + 1 := xI_succ (m := 12000) h0 (by grind) (by decide)
  rw [u1_T hb h0 h2, u1_T hb (by grind) h1, e]
  rfl
/-! a zone is cleared -/
def zclr (z : Nat) (h : hH) (n : Nat) : hH := flI (flI (flI (flI (flI (flI h (rf z 0) n (fun _ => 0)) (rf z 1) n (fun _ => 0)) (rf z 2) n (fun _ => 0)) (rf z 3) n (fun _ => 0)) (rf z 4) n (fun _ => 0)) (rf z 5) n (fun _ => 0)
theorem rf_ne {z : Nat} {n : Int32} (hz : isZ z n) {i j : Nat} (hi : i < 6) (hj : j < 6) (ne : i ≠ j) : rf z i ≠ rf z j := by
  have hi' : i = 0 ∨ i = 1 ∨ i = 2 ∨ i = 3 ∨ i = 4 ∨ i = 5 := by omega
  have hj' : j = 0 ∨ j = 1 ∨ j = 2 ∨ j = 3 ∨ j = 4 ∨ j = 5 := by omega
  revert ne
  rcases hz with ⟨rfl, _⟩ | ⟨rfl, _⟩ <;> rcases hi' with rfl | rfl | rfl | rfl | rfl | rfl <;> rcases hj' with rfl | rfl | rfl | rfl | rfl | rfl <;> decide
theorem Zo_clear_eq {z : Nat} {v n : Int32} (hz : isZ z v) {h : hH} (h0 : 0 ≤ n) (h1 : ∀ i, 0 ≤ i → i < n → vp_in i (zr z)) (h2 : n ≤ 20000) : f_Zo_clear z n h = some ((), zclr z (wrI h z 6 n) n.toNatClampNeg) := by
  unfold f_Zo_clear
  simp only [lz]
  have e : (0 : Int32) &&& 1 = 0 := by decide
  have z0 : zclr z (wrI h z 6 n) 0 = wrI h z 6 n := by unfold zclr; rw [flI_0, flI_0, flI_0, flI_0, flI_0, flI_0]
  rw [wh_fill (n := n) ⟨h0, h2⟩ (r := zclr z (wrI h z 6 n) n.toNatClampNeg) (fun i => zclr z (wrI h z 6 n) i) z0]
  · rfl
  · dsimp only
    rw [if_pos (Int32.le_refl _)]
  · intro i i0 i1
    have v := h1 i i0 i1
    dsimp only
    rw [if_neg (Int32.not_le.mpr i1), f_Zo_place_eq v]
    simp only [bS_some, gd_pos v, e]
    unfold putC zclr
    rw [flI_c (rf_ne hz (by decide) (by decide) (by decide)), flI_c (rf_ne hz (by decide) (by decide) (by decide)), flI_c (rf_ne hz (by decide) (by decide) (by decide)), flI_c (rf_ne hz (by decide) (by decide) (by decide)), flI_c (rf_ne hz (by decide) (by decide) (by decide)), flI_s' rfl]
    rw [flI_c (rf_ne hz (by decide) (by decide) (by decide)), flI_c (rf_ne hz (by decide) (by decide) (by decide)), flI_c (rf_ne hz (by decide) (by decide) (by decide)), flI_c (rf_ne hz (by decide) (by decide) (by decide)), flI_s' rfl]
    rw [flI_c (rf_ne hz (by decide) (by decide) (by decide)), flI_c (rf_ne hz (by decide) (by decide) (by decide)), flI_c (rf_ne hz (by decide) (by decide) (by decide)), flI_s' rfl]
    rw [flI_c (rf_ne hz (by decide) (by decide) (by decide)), flI_c (rf_ne hz (by decide) (by decide) (by decide)), flI_s' rfl]
    rw [flI_c (rf_ne hz (by decide) (by decide) (by decide)), flI_s' rfl, flI_s' rfl]
