/-! LAYER 3AO: whole pixels; the rest of the joining, on the component's side -/
theorem bv_c0 : ∀ i : Fin 64, (18446744073709551552#64).getLsbD i.val = decide (6 ≤ i.val) := by decide
theorem snap_bv (b : BitVec 64) : (b.sshiftRight 6) <<< 6 = b &&& 18446744073709551552#64 := by
  apply BitVec.eq_of_getLsbD_eq
  intro i hi
  rw [BitVec.getLsbD_shiftLeft, BitVec.getLsbD_and, bv_c0 ⟨i, hi⟩, BitVec.getLsbD_sshiftRight]
  by_cases q : i < 6
  · have w : ¬ 6 ≤ i := by omega
    simp [q, w]
  · have w : 6 ≤ i := by omega
    have e : 6 + (i - 6) = i := by omega
    have e2 : ¬ 64 ≤ i - 6 := by omega
    simp only [q, w, e, e2, hi, decide_true, decide_false, Bool.not_false, Bool.true_and, Bool.and_true, if_true]
noncomputable def snV (x : Int32) : Int32 := Int64.toInt32 ((x.toInt64 + 32) &&& (-64 : Int64))
theorem snap_eq (x : Int64) : (x >>> ((Int32.toInt64 (6 : Int32)) &&& 63)) <<< ((Int32.toInt64 (6 : Int32)) &&& 63) = x &&& (-64 : Int64) := by
  have h := snap_bv x.toBitVec
  exact Int64.toBitVec_inj.mp h
theorem sn_C (x : Int32) : f_HH_snapped x = some (snV x) := by
  unfold f_HH_snapped snV
  rw [snap_eq]
theorem sn_M (x : Int32) : f_Mo_toPixel x.toInt64 = some (snV x) := rfl
