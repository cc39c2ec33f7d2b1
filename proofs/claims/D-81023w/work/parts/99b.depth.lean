/-! LAYER 3AJ: outlines by depth, rows that are filled from a place on -/
theorem lt6 {d : Nat} (h : d < 6) : d = 0 ∨ d = 1 ∨ d = 2 ∨ d = 3 ∨ d = 4 ∨ d = 5 := by omega
theorem od_rf {d : Nat} (h : d < 6) : (rf 68 d = 70 + 17 * d ∧ rf 69 d = 77 + 17 * d) ∧ (rf (70 + 17 * d) 0 = 71 + 17 * d ∧ rf (70 + 17 * d) 1 = 72 + 17 * d ∧ rf (70 + 17 * d) 2 = 73 + 17 * d ∧ rf (70 + 17 * d) 4 = 74 + 17 * d ∧ rf (70 + 17 * d) 6 = 75 + 17 * d ∧ rf (70 + 17 * d) 7 = 76 + 17 * d) ∧ isGl (77 + 17 * d) ∧ isA 3 (77 + 17 * d) ∧ isA 9 (70 + 17 * d) ∧ isOut (70 + 17 * d) := by
  rcases lt6 h with rfl | rfl | rfl | rfl | rfl | rfl <;> exact ⟨⟨rfl, rfl⟩, ⟨rfl, rfl, rfl, rfl, rfl, rfl⟩, by unfold isGl; omega, ⟨rfl, le_b rfl⟩, ⟨rfl, le_b rfl⟩, by unfold isOut; omega⟩
theorem sc_C {h : hH} (hu : 16 ≤ rdI h 4 6) (v : Int64) : f_Ma_scaled v h = some (scV v h) := by
  unfold f_Ma_scaled scV
  rw [f_HH_over_eq (toL_ne (by grind))]
  rfl
theorem sc_M {hc hm : hH} (hu : 16 ≤ rdI hc 4 6) (e1 : rdI hm 192 62 = rdI hc 22 4) (e2 : rdI hm 192 10 = rdI hc 4 6) (v : Int64) : f_Mo_scaled v hm = some (scV v hc) := by
  unfold f_Mo_scaled scV
  rw [e1, e2, f_Mo_over_eq (toL_ne (by grind)) (toL_small _)]
  rfl
theorem scV_loc {h g : hH} (e1 : rdI g 22 4 = rdI h 22 4) (e2 : rdI g 4 6 = rdI h 4 6) (v : Int64) : scV v g = scV v h := by
  unfold scV
  rw [e1, e2]
theorem xI_k {c x i : Int32} {C : Nat} (hC : (c = 102 ∧ C = 102) ∨ (c = 20 ∧ C = 20) ∨ (c = 4 ∧ C = 4)) (x0 : 0 ≤ x) (x1 : x ≤ 5) (i0 : 0 ≤ i) (i1 : i ≤ 1000) : (c * x + i).toNatClampNeg = C * x.toNatClampNeg + i.toNatClampNeg ∧ 0 ≤ c * x + i ∧ c * x + i ≤ 510 + i := by
  have hx : x = 0 ∨ x = 1 ∨ x = 2 ∨ x = 3 ∨ x = 4 ∨ x = 5 := by grind
  have key : ∀ k : Int32, 0 ≤ k → k ≤ 510 → (k + i).toNatClampNeg = k.toNatClampNeg + i.toNatClampNeg ∧ 0 ≤ k + i ∧ k + i ≤ 510 + i := fun k k0 k1 => ⟨xI_add (m := 1000) k0 (by grind) i0 i1 (by decide), by grind, by grind⟩
  rcases hC with ⟨rfl, rfl⟩ | ⟨rfl, rfl⟩ | ⟨rfl, rfl⟩ <;> rcases hx with rfl | rfl | rfl | rfl | rfl | rfl <;> exact key _ (by decide) (by decide)
theorem mtI_c {h : hH} {o b n o' k : Nat} {v : Nat → Int32} {w : Int32} (ne : o ≠ o') : wrI (mtI h o b n v) o' k w = mtI (wrI h o' k w) o b n v := by
  unfold mtI wrI up2
  refine Prod.ext ?_ rfl
  funext a c
  dsimp only
  by_cases e : a = o' ∧ c = k
  · rw [if_pos e, if_neg (fun q => ne (q.1.symm.trans e.1)), if_pos e]
  · rw [if_neg e]
    by_cases e2 : a = o ∧ b ≤ c ∧ c < b + n
    · rw [if_pos e2, if_pos e2]
    · rw [if_neg e2, if_neg e2, if_neg e]
theorem rdI_mo {h : hH} {o b n : Nat} {v : Nat → Int32} {a c : Nat} (ho : a ≠ o) : rdI (mtI h o b n v) a c = rdI h a c := by rw [rdI_mtI, if_neg (fun q => ho q.1)]
theorem rdI_mi {h : hH} {o b n : Nat} {v : Nat → Int32} {c : Nat} (hc : c < n) : rdI (mtI h o b n v) o (b + c) = v c := by
  rw [rdI_mtI, if_pos ⟨rfl, by omega, by omega⟩]
  congr 1
  omega
/-- three rows are filled -/
def mt3 (h : hH) (o p q b n : Nat) (u v w : Nat → Int32) : hH := mtI (mtI (mtI h o b n u) p b n v) q b n w
theorem mt3_0 {h : hH} {o p q b : Nat} {u v w : Nat → Int32} : mt3 h o p q b 0 u v w = h := by
  unfold mt3
  rw [mtI_0, mtI_0, mtI_0]
theorem mt3_s {h : hH} {o p q b n k : Nat} {u v w : Nat → Int32} {a c e : Int32} (ha : a = u n) (hc : c = v n) (he : e = w n) (hk : k = b + n) (op : o ≠ p) (oq : o ≠ q) (pq : p ≠ q) : wrI (wrI (wrI (mt3 h o p q b n u v w) o k a) p k c) q k e = mt3 h o p q b (n + 1) u v w := by
  unfold mt3
  rw [mtI_c (Ne.symm oq), mtI_c (Ne.symm op), mtI_s ha hk, mtI_c (Ne.symm pq), mtI_s hc hk, mtI_s he hk]
theorem mt3_o {h : hH} {o p q b n : Nat} {u v w : Nat → Int32} {a c : Nat} (ho : a ≠ o) (hp : a ≠ p) (hq : a ≠ q) : rdI (mt3 h o p q b n u v w) a c = rdI h a c := by
  unfold mt3
  rw [rdI_mo hq, rdI_mo hp, rdI_mo ho]
theorem mt3_i {h : hH} {o p q b n : Nat} {u v w : Nat → Int32} {c : Nat} (hc : c < n) (op : o ≠ p) (oq : o ≠ q) (pq : p ≠ q) : rdI (mt3 h o p q b n u v w) o (b + c) = u c ∧ rdI (mt3 h o p q b n u v w) p (b + c) = v c ∧ rdI (mt3 h o p q b n u v w) q (b + c) = w c := by
  unfold mt3
  refine ⟨?_, ?_, ?_⟩
  · rw [rdI_mo oq, rdI_mo op, rdI_mi hc]
  · rw [rdI_mo pq, rdI_mi hc]
  · rw [rdI_mi hc]
theorem mt3_b {h : hH} {o p q b n : Nat} {u v w : Nat → Int32} {a c : Nat} (hc : c < b ∨ b + n ≤ c) : rdI (mt3 h o p q b n u v w) a c = rdI h a c := by
  unfold mt3
  rw [rdI_mtI, if_neg (by omega), rdI_mtI, if_neg (by omega), rdI_mtI, if_neg (by omega)]
