/-! LAYER 3N: rows that are filled -/
/-- the first n cells of a row are set -/
def flI (h : hH) (o n : Nat) (v : Nat → Int32) : hH := ((fun a b => if a = o ∧ b < n then v b else h.1 a b), h.2)
theorem rdI_flI {h : hH} {o n : Nat} {v : Nat → Int32} {a b : Nat} : rdI (flI h o n v) a b = if a = o ∧ b < n then v b else rdI h a b := rfl
theorem rdP_flI {h : hH} {o n : Nat} {v : Nat → Int32} {a b : Nat} : rdP (flI h o n v) a b = rdP h a b := rfl
theorem rdL_flI {h : hH} {o n : Nat} {v : Nat → Int32} {a b : Nat} : rdL (flI h o n v) a b = rdL h a b := rfl
theorem flI_0 {h : hH} {o : Nat} {v : Nat → Int32} : flI h o 0 v = h := by
  unfold flI
  refine Prod.ext ?_ rfl
  funext a b
  dsimp only
  rw [if_neg (fun q => absurd q.2 (Nat.not_lt_zero _))]
theorem flI_s {h : hH} {o n : Nat} {v : Nat → Int32} : wrI (flI h o n v) o n (v n) = flI h o (n + 1) v := by
  unfold flI wrI up2
  refine Prod.ext ?_ rfl
  funext a b
  dsimp only
  by_cases e : a = o
  · by_cases e2 : b = n
    · rw [if_pos ⟨e, e2⟩, if_pos ⟨e, by omega⟩, e2]
    · rw [if_neg (fun q => e2 q.2)]
      by_cases e3 : b < n
      · rw [if_pos ⟨e, e3⟩, if_pos ⟨e, by omega⟩]
      · rw [if_neg (fun q => e3 q.2), if_neg (fun q => by have := q.2; omega)]
  · rw [if_neg (fun q => e q.1), if_neg (fun q => e q.1), if_neg (fun q => e q.1)]
theorem flI_s' {h : hH} {o n : Nat} {v : Nat → Int32} {w : Int32} (e : w = v n) : wrI (flI h o n v) o n w = flI h o (n + 1) v := by rw [e, flI_s]
theorem flI_c {h : hH} {o n o' k : Nat} {v : Nat → Int32} {w : Int32} (ne : o ≠ o') : wrI (flI h o n v) o' k w = flI (wrI h o' k w) o n v := by
  unfold flI wrI up2
  refine Prod.ext ?_ rfl
  funext a b
  dsimp only
  by_cases e : a = o' ∧ b = k
  · rw [if_pos e, if_neg (fun q => ne (q.1.symm.trans e.1)), if_pos e]
  · rw [if_neg e]
    by_cases e2 : a = o ∧ b < n
    · rw [if_pos e2, if_pos e2]
    · rw [if_neg e2, if_neg e2, if_neg e]
/-- a loop that goes through known heaps -/
theorem wh_fill {B : Type} {f : Int32 × hH → Option ((Int32 × hH) ⊕ B)} {n : Int32} (hn : 0 ≤ n ∧ n ≤ 20000) {h : hH} {r : B} (S : Nat → hH) (h0 : S 0 = h) (hend : f (n, S n.toNatClampNeg) = some (.inr r)) (hstep : ∀ i : Int32, 0 ≤ i → i < n → f (i, S i.toNatClampNeg) = some (.inl (i + 1, S (i.toNatClampNeg + 1)))) : wh f (0, h) = some r := by
  have key : ∀ (m : Nat) (i : Int32), 0 ≤ i → i ≤ n → n.toNatClampNeg - i.toNatClampNeg = m → wh f (i, S i.toNatClampNeg) = some r := by
    intro m
    induction m with
    | zero =>
      intro i i0 i1 e
      have e1 : i = n := by
        by_cases w : i = n
        · exact w
        · have := (xI_lt i0 hn.1).mpr (show i < n by grind)
          omega
      rw [e1, wh_eq, hend]
    | succ m ih =>
      intro i i0 i1 e
      have lt : i < n := by
        by_cases w : i = n
        · rw [w] at e; omega
        · grind
      have ii : (i + 1).toNatClampNeg = i.toNatClampNeg + 1 := xI_succ (m := 20000) i0 (by grind) (by decide)
      rw [wh_eq, hstep i i0 lt]
      show wh f (i + 1, S (i.toNatClampNeg + 1)) = some r
      rw [← ii]
      exact ih (i + 1) (by grind) (by grind) (by omega)
  have k := key _ 0 (by decide) hn.1 rfl
  have z : (0 : Int32).toNatClampNeg = 0 := rfl
  rw [z, h0] at k
  exact k
theorem S64 {h : hH} : wh (A := (Int32 × hH)) (B := hH) (fun p1 =>
        if (64 : Int32) ≤ p1.1 then (
          some (.inr p1.2)
        ) else (
          gd (vp_in p1.1 64) <|
          gd (vp_in p1.1 64) <|
          some (.inl (p1.1 + (1 : Int32), wrI (wrI p1.2 49 (Int32.toNatClampNeg p1.1) (-1 : Int32)) 25 (Int32.toNatClampNeg p1.1) (0 : Int32)))
        )
    ) ((0 : Int32), h) = some (flI (flI h 49 64 (fun _ => -1)) 25 64 (fun _ => 0)) := by
  refine wh_fill (n := 64) (by decide) (fun i => flI (flI h 49 i (fun _ => -1)) 25 i (fun _ => 0)) (by rw [flI_0, flI_0]) ?_ ?_
  · dsimp only
    rw [if_pos (by decide)]
    rfl
  · intro i i0 i1
    have v : vp_in i 64 := vp_lt (n := 64) (m := 64) i0 i1 rfl
    dsimp only
    rw [if_neg (Int32.not_le.mpr i1), gd_pos v, gd_pos v, flI_c (by decide), flI_s' rfl, flI_s' rfl]
