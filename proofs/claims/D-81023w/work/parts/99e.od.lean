/-! LAYER 3AM: the relation of outlines -/
def OD (d : Nat) (hc hm : hH) : Prop := (rdI hm 236 d = rdI hc (70 + 17 * d) 3 ∧ rdI hm 237 d = rdI hc (70 + 17 * d) 5) ∧ EN (fun c => rdI hc (74 + 17 * d) c) (rdI hc (70 + 17 * d) 5) (rdI hc (70 + 17 * d) 3) ∧ (∀ i, i < (rdI hc (70 + 17 * d) 3).toNatClampNeg → rdI hm 238 (102 * d + i) = rdI hc (71 + 17 * d) i ∧ rdI hm 239 (102 * d + i) = rdI hc (72 + 17 * d) i ∧ rdI hm 240 (102 * d + i) = rdI hc (73 + 17 * d) i ∧ (rdI hc (73 + 17 * d) i = 0 ∨ rdI hc (73 + 17 * d) i = 1)) ∧ (∀ c, c < (rdI hc (70 + 17 * d) 5).toNatClampNeg → rdI hm 241 (20 * d + c) = rdI hc (74 + 17 * d) c)
def PH (d : Nat) (hc hm : hH) : Prop := rdI hm 242 (4 * d) = rdI hc (75 + 17 * d) 0 ∧ rdI hm 242 (4 * d + 1) = rdI hc (76 + 17 * d) 0 ∧ rdI hm 242 (4 * d + 2) = rdI hc (75 + 17 * d) 1 ∧ rdI hm 242 (4 * d + 3) = rdI hc (76 + 17 * d) 1
theorem EN_0 {e : Nat → Int32} : EN e 0 0 := ⟨by decide, by decide, by decide, by decide, Iff.rfl, fun c hc => absurd hc (Nat.not_lt_zero _), fun c hc => absurd hc (Nat.not_lt_zero _), fun w => absurd w (by decide)⟩
theorem EN_of {e e' : Nat → Int32} {c n : Int32} (hc : 0 ≤ c ∧ c ≤ 12) (hn : 0 ≤ n ∧ n ≤ 100) (h : EE2 e c.toNatClampNeg (n - 1)) (he : ∀ i, i < (if n = 0 then 0 else c).toNatClampNeg → e' i = e i) : EN e' (if n = 0 then 0 else c) n := by
  by_cases q : n = 0
  · rw [if_pos q, q]
    exact EN_0
  · rw [if_neg q] at he ⊢
    obtain ⟨h1, h2, h3, h4, h5, h6⟩ := h
    refine ⟨hc.1, by grind, hn.1, hn.2, ⟨fun w => ?_, fun w => absurd w q⟩, fun i hi => ?_, fun i hi => ?_, fun w => ?_⟩
    · have := h3 (by rw [w]; rfl)
      grind
    · rw [he i hi]
      have := h1 i hi
      exact ⟨this.1, by grind⟩
    · rw [he i (by omega), he (i + 1) hi]
      exact h2 i hi
    · have k : 0 < c.toNatClampNeg := (xI_lt (x := 0) (y := c) (by decide) hc.1).mpr w
      show e' (c.toNatClampNeg - 1) = n - 1
      rw [he _ (by omega)]
      exact h4 k
theorem L_smp {d : Nat} {hc hm : hH} (hd : d < 6) (g : GLs (77 + 17 * d) hc hm) (e28 : rdI hm 192 28 = rdI hc (77 + 17 * d) 0) (e29 : rdI hm 192 29 = rdI hc (77 + 17 * d) 2) : OD d (smpC d hc) (smpM hc d hm) := by
  obtain ⟨g1, g2, g3, g4, g5⟩ := g
  have ec : ctM hm = ctC d hc := by
    unfold ctM ctC
    rw [e28, e29]
  have lc : ctC d hc ≤ rdI hc (77 + 17 * d) 0 := by
    unfold ctC
    split
    · exact g1.1
    · exact Int32.le_refl _
  have c0 : 0 ≤ ctC d hc := by
    unfold ctC
    split
    · decide
    · exact g1.1
  have p3 : rdI (smpC d hc) (70 + 17 * d) 3 = rdI hc (77 + 17 * d) 2 := by
    unfold smpC
    rw [rdI_mo (by omega)]
    exact smp1_3
  have p5 : rdI (smpC d hc) (70 + 17 * d) 5 = ctC d hc := by
    unfold smpC
    rw [rdI_mo (by omega)]
    exact smp1_5
  have pe : ∀ i, i < (ctC d hc).toNatClampNeg → rdI (smpC d hc) (74 + 17 * d) i = rdI hc (78 + 17 * d) i := fun i hi => by
    unfold smpC
    have := rdI_mi (h := smp1 d hc (rdI hc (77 + 17 * d) 2).toNatClampNeg) (o := 74 + 17 * d) (b := 0) (v := fun i => rdI hc (78 + 17 * d) i) hi
    rw [Nat.zero_add] at this
    exact this
  have pt : ∀ i, i < (rdI hc (77 + 17 * d) 2).toNatClampNeg → rdI (smpC d hc) (71 + 17 * d) i = scV (rdI hc (79 + 17 * d) i).toInt64 hc ∧ rdI (smpC d hc) (72 + 17 * d) i = scV (rdI hc (80 + 17 * d) i).toInt64 hc ∧ rdI (smpC d hc) (73 + 17 * d) i = onV (rdI hc (81 + 17 * d) i) := fun i hi => by
    unfold smpC
    rw [rdI_mo (by omega), rdI_mo (by omega), rdI_mo (by omega)]
    unfold smp1
    have := mt3_i (h := smp0 d hc) (o := 71 + 17 * d) (p := 72 + 17 * d) (q := 73 + 17 * d) (b := 0) (u := fun i => scV (rdI hc (79 + 17 * d) i).toInt64 hc) (v := fun i => scV (rdI hc (80 + 17 * d) i).toInt64 hc) (w := fun i => onV (rdI hc (81 + 17 * d) i)) hi (by omega) (by omega) (by omega)
    rw [Nat.zero_add] at this
    exact this
  refine ⟨⟨?_, ?_⟩, ?_, ?_, ?_⟩
  · rw [p3]
    unfold smpM smq2
    rw [mt3_o (by decide) (by decide) (by decide)]
    unfold smq1 smq0
    rw [rdI_mo (by decide), rdI_o (by decide), rdI_wrI, if_pos ⟨rfl, rfl⟩]
    exact e29
  · rw [p5]
    unfold smpM smq2
    rw [mt3_o (by decide) (by decide) (by decide)]
    unfold smq1 smq0
    rw [rdI_mo (by decide), rdI_wrI, if_pos ⟨rfl, rfl⟩]
    exact ec
  · rw [p3, p5]
    have ez : 77 + 17 * d + 1 = 78 + 17 * d := by omega
    rw [ez] at g2
    exact EN_of g1 g3 g2 pe
  · intro i hi
    rw [p3] at hi
    obtain ⟨a1, a2, a3⟩ := pt i hi
    obtain ⟨b1, b2, b3⟩ := g5 i hi
    rw [a1, a2, a3]
    unfold smpM smq2
    rw [e29]
    obtain ⟨c1, c2, c3⟩ := mt3_i (h := smq1 d hm (ctM hm).toNatClampNeg) (o := 238) (p := 239) (q := 240) (b := 102 * d) (u := fun i => scV (rdI hm 200 i).toInt64 hc) (v := fun i => scV (rdI hm 201 i).toInt64 hc) (w := fun i => onV (rdI hm 202 i)) hi (by decide) (by decide) (by decide)
    rw [c1, c2, c3, b1, b2, b3, show 77 + 17 * d + 2 = 79 + 17 * d by omega, show 77 + 17 * d + 3 = 80 + 17 * d by omega, show 77 + 17 * d + 4 = 81 + 17 * d by omega]
    exact ⟨rfl, rfl, rfl, onV_c _⟩
  · intro c hc'
    rw [p5] at hc'
    rw [pe c hc']
    unfold smpM smq2
    rw [mt3_o (by decide) (by decide) (by decide)]
    unfold smq1
    rw [ec, rdI_mi hc']
    rw [g4 c (Nat.lt_of_lt_of_le hc' (xI_mono lc)), show 77 + 17 * d + 1 = 78 + 17 * d by omega]
