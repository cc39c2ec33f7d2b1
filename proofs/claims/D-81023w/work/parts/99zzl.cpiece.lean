/-! LAYER 3CT: pieces of a curve, as the component counts them -/
def zuV (A B C U V W : Int) : Int := if V * A - B * U = 0 then (if A = 0 then B * (B * W - C * V) else (W * A - C * U) * A) else (if 0 < V * A - B * U then zU (2 * B * (V * A - B * U) - A * (W * A - C * U)) ((W * A - C * U) * (W * A - C * U) - 4 * (V * A - B * U) * (B * W - C * V)) else -zU (-(2 * B * (V * A - B * U) - A * (W * A - C * U))) ((W * A - C * U) * (W * A - C * U) - 4 * (V * A - B * U) * (B * W - C * V)))
def zdV (A B C U V W : Int) : Int := if V * A - B * U = 0 then (if A = 0 then B * (B * W - C * V) else (W * A - C * U) * A) else (if 0 < V * A - B * U then zD (2 * B * (V * A - B * U) - A * (W * A - C * U)) ((W * A - C * U) * (W * A - C * U) - 4 * (V * A - B * U) * (B * W - C * V)) else -zD (-(2 * B * (V * A - B * U) - A * (W * A - C * U))) ((W * A - C * U) * (W * A - C * U) - 4 * (V * A - B * U) * (B * W - C * V)))
theorem NRM {A B C U V W : Int} (h : ¬ V * A - B * U = 0) : ∃ s E p d : Int, (s = 1 ∨ s = -1) ∧ 0 < E ∧ V * A - B * U = s * E ∧ W * A - C * U = -(s * p) ∧ B * W - C * V = s * d ∧ A * d + B * p + C * E = 0 ∧ zuV A B C U V W = s * zU (A * p + 2 * B * E) (p * p - 4 * E * d) ∧ zdV A B C U V W = s * zD (A * p + 2 * B * E) (p * p - 4 * E * d) := by
  have id : A * (B * W - C * V) - B * (W * A - C * U) + C * (V * A - B * U) = 0 := by grind
  unfold zuV zdV
  rw [if_neg h, if_neg h]
  generalize V * A - B * U = D1 at h id
  generalize W * A - C * U = D2 at id
  generalize B * W - C * V = D3 at id
  by_cases q : 0 < D1
  · refine ⟨1, D1, -D2, D3, Or.inl rfl, q, by omega, by omega, by omega, by grind, ?_, ?_⟩
    · rw [if_pos q, Int.one_mul, show A * -D2 + 2 * B * D1 = 2 * B * D1 - A * D2 by grind, show -D2 * -D2 - 4 * D1 * D3 = D2 * D2 - 4 * D1 * D3 by grind]
    · rw [if_pos q, Int.one_mul, show A * -D2 + 2 * B * D1 = 2 * B * D1 - A * D2 by grind, show -D2 * -D2 - 4 * D1 * D3 = D2 * D2 - 4 * D1 * D3 by grind]
  · refine ⟨-1, -D1, D2, -D3, Or.inr rfl, by omega, by omega, by omega, by omega, by grind, ?_, ?_⟩
    · rw [if_neg q, show A * D2 + 2 * B * -D1 = -(2 * B * D1 - A * D2) by grind, show D2 * D2 - 4 * -D1 * -D3 = D2 * D2 - 4 * D1 * D3 by grind]
      omega
    · rw [if_neg q, show A * D2 + 2 * B * -D1 = -(2 * B * D1 - A * D2) by grind, show D2 * D2 - 4 * -D1 * -D3 = D2 * D2 - 4 * D1 * D3 by grind]
      omega
theorem cs_z {A B C E p d s z : Int} {x1 x2 x3 : Int32} (e0 : 0 < E) (hs : s = 1 ∨ s = -1) (rel : A * d + B * p + C * E = 0) (nz : A ≠ 0) (h1 : kI x2 A (A * p + 2 * B * E) p E < 0 → same A z) (h2 : 0 ≤ kI x2 A (A * p + 2 * B * E) p E → 0 < kI x3 A (A * p + 2 * B * E) p E → same (-A) z) (h3 : 0 ≤ kI x2 A (A * p + 2 * B * E) p E → kI x3 A (A * p + 2 * B * E) p E ≤ 0 → same (if x1 = 0 then p * p - 4 * E * d else -(p * p - 4 * E * d)) z) : csI x1 x2 x3 A B C (2 * (s * E)) (-(s * p)) = sg (s * z) := by
  rw [cs_n e0 hs rel nz]
  by_cases q2 : 0 ≤ kI x2 A (A * p + 2 * B * E) p E
  · rw [if_pos q2]
    by_cases q3 : kI x3 A (A * p + 2 * B * E) p E ≤ 0
    · rw [if_pos q3]
      have h := h3 q2 q3
      by_cases q1 : x1 = 0
      · rw [if_pos q1] at h ⊢
        exact sgS hs h
      · rw [if_neg q1] at h ⊢
        exact sgS hs h
    · rw [if_neg q3]
      exact sgS hs (h2 q2 (by omega))
  · rw [if_neg q2]
    exact sgS hs (h1 (by omega))
theorem k0 (A M p E : Int) : kI 0 A M p E = p := rfl
theorem k1 (A M p E : Int) : kI 1 A M p E = p - 2 * E := rfl
theorem k2 (A M p E : Int) : kI 2 A M p E = M * A := rfl
/-- the side where y is linear -/
theorem sl_up {B C U V W : Int} (b0 : 0 < B) : sg (U * C * C - 4 * B * V * C + 4 * B * B * W) = sg (zuV 0 B C U V W) := by
  by_cases q : V * 0 - B * U = 0
  · have u0 : U = 0 := by
      have : B * U = 0 := by omega
      rcases Int.mul_eq_zero.mp this with h | h <;> omega
    unfold zuV
    rw [if_pos q, if_pos rfl]
    refine sg_same ?_
    have e : U * C * C - 4 * B * V * C + 4 * B * B * W = B * (B * W - C * V) * 4 := by rw [u0]; grind
    rw [e]
    refine same_mul ?_ (by decide)
    unfold same
    omega
  · obtain ⟨s, E, p, d, hs, e0, h1, h2, h3, rel, hz, _⟩ := NRM (A := 0) (B := B) (C := C) (U := U) (V := V) (W := W) q
    rw [hz]
    have eR : p * p - 4 * E * d = U * (U * C * C - 4 * B * V * C + 4 * B * B * W) := by
      rcases hs with rfl | rfl <;> grind
    have hc := zU_c (0 * p + 2 * B * E) (p * p - 4 * E * d)
    have m0 : 0 < 0 * p + 2 * B * E := by
      have := Int.mul_pos b0 e0
      have e : 0 * p + 2 * B * E = 2 * (B * E) := by grind
      omega
    have un : U ≠ 0 := fun w => q (by rw [w]; omega)
    have h1' : s * E = -(B * U) := by omega
    rw [eR] at hc
    rw [eR]
    generalize U * C * C - 4 * B * V * C + 4 * B * B * W = L at hc ⊢
    generalize 0 * p + 2 * B * E = M at hc m0 ⊢
    refine sg_same ?_
    by_cases u : 0 < U
    · have bu := Int.mul_pos b0 u
      have hs' : s = -1 := by
        rcases hs with rfl | rfl
        · omega
        · rfl
      subst hs'
      by_cases l : 0 < L
      · have := Int.mul_pos u l
        exact Or.inl ⟨l, by omega⟩
      · by_cases l2 : L < 0
        · have := Int.mul_neg_of_pos_of_neg u l2
          exact Or.inr (Or.inl ⟨l2, by omega⟩)
        · have l3 : L = 0 := by omega
          have : U * L = 0 := by rw [l3, Int.mul_zero]
          exact Or.inr (Or.inr ⟨l3, by omega⟩)
    · have u' : U < 0 := by omega
      have bu := Int.mul_neg_of_pos_of_neg b0 u'
      have hs' : s = 1 := by
        rcases hs with rfl | rfl
        · rfl
        · omega
      subst hs'
      by_cases l : 0 < L
      · have := Int.mul_neg_of_neg_of_pos u' l
        exact Or.inl ⟨l, by omega⟩
      · by_cases l2 : L < 0
        · have := Int.mul_pos_of_neg_of_neg u' l2
          exact Or.inr (Or.inl ⟨l2, by omega⟩)
        · have l3 : L = 0 := by omega
          have : U * L = 0 := by rw [l3, Int.mul_zero]
          exact Or.inr (Or.inr ⟨l3, by omega⟩)
theorem zuV_neg {A B C U V W : Int} (q : ¬ V * A - B * U = 0) : zdV A B C U V W = zuV (-A) (-B) (-C) U V W := by
  have q' : ¬ V * -A - -B * U = 0 := fun w => q (by grind)
  obtain ⟨s, E, p, d, hs, e0, h1, h2, h3, rel, _, hz⟩ := NRM (A := A) (B := B) (C := C) (U := U) (V := V) (W := W) q
  obtain ⟨s', E', p', d', hs', e0', h1', h2', h3', rel', hz', _⟩ := NRM (A := -A) (B := -B) (C := -C) (U := U) (V := V) (W := W) q'
  have n1 : V * -A - -B * U = -(V * A - B * U) := by grind
  have n2 : W * -A - -C * U = -(W * A - C * U) := by grind
  have n3 : -B * W - -C * V = -(B * W - C * V) := by grind
  rw [n1, h1] at h1'
  rw [n2, h2] at h2'
  rw [n3, h3] at h3'
  have es : s' = -s := by
    rcases hs with rfl | rfl <;> rcases hs' with rfl | rfl <;> omega
  have eE : E' = E := by
    rw [es] at h1'
    rcases hs with rfl | rfl <;> omega
  have ep : p' = p := by
    rw [es] at h2'
    rcases hs with rfl | rfl <;> omega
  have ed : d' = d := by
    rw [es] at h3'
    rcases hs with rfl | rfl <;> omega
  rw [hz, hz', es, eE, ep, ed, gM_neg, zD_n]
  rcases hs with rfl | rfl <;> omega
theorem sl_dn {B C U V W : Int} (b0 : B < 0) : sg (U * C * C - 4 * B * V * C + 4 * B * B * W) = sg (zdV 0 B C U V W) := by
  by_cases q : V * 0 - B * U = 0
  · have u0 : U = 0 := by
      have : B * U = 0 := by omega
      rcases Int.mul_eq_zero.mp this with h | h <;> omega
    unfold zdV
    rw [if_pos q, if_pos rfl]
    refine sg_same ?_
    have e : U * C * C - 4 * B * V * C + 4 * B * B * W = B * (B * W - C * V) * 4 := by rw [u0]; grind
    rw [e]
    refine same_mul ?_ (by decide)
    unfold same
    omega
  · have h := sl_up (B := -B) (C := -C) (U := U) (V := V) (W := W) (by omega)
    have z := zuV_neg (A := 0) (B := B) (C := C) (U := U) (V := V) (W := W) q
    rw [Int.neg_zero] at z
    rw [z, ← h]
    congr 1
    grind
/-- the side as the program asks for it -/
noncomputable def sdF (x1 x2 x3 : Int32) (h : hH) : Option Int32 := if (rdL h 182 14) = (0 : Int64) then (bP (f_In_lineSide h) fun a9 => some a9) else (bP (f_In_curveSide x1 x2 x3 h) fun a8 => some a8)
theorem sdF_c {h : hH} {A B C U V W z : Int} {x1 x2 x3 : Int32} (lc : LC h A B C U V W) (nz : A ≠ 0) (zc : V * A - B * U = 0 → z = (W * A - C * U) * A) (zn : ∀ s E p d : Int, (s = 1 ∨ s = -1) → 0 < E → A * d + B * p + C * E = 0 → V * A - B * U = s * E → W * A - C * U = -(s * p) → B * W - C * V = s * d → csI x1 x2 x3 A B C (2 * (s * E)) (-(s * p)) = sg z) : sdF x1 x2 x3 h = some (sg z) := by
  unfold sdF
  rw [if_neg (fun w => nz ((N64_z lc.1.1).mp w)), curveSide_eq lc, bP_some]
  by_cases q : V * A - B * U = 0
  · unfold csI
    rw [q, if_pos (by omega), zc q]
  · obtain ⟨s, E, p, d, hs, e0, h1, h2, h3, rel, _, _⟩ := NRM (A := A) (B := B) (C := C) (U := U) (V := V) (W := W) q
    rw [h1, h2, zn s E p d hs e0 rel h1 h2 h3]
theorem sdF_0 {h : hH} {B C U V W : Int} {x1 x2 x3 : Int32} (lc : LC h 0 B C U V W) : sdF x1 x2 x3 h = some (sg (U * C * C - 4 * B * V * C + 4 * B * B * W)) := by
  unfold sdF
  rw [if_pos ((N64_z lc.1.1).mpr rfl), lineSide_eq lc, bP_some]
theorem zuV_0 {A B C U V W : Int} (nz : A ≠ 0) (q : V * A - B * U = 0) : zuV A B C U V W = (W * A - C * U) * A ∧ zdV A B C U V W = (W * A - C * U) * A := by
  unfold zuV zdV
  rw [if_pos q, if_neg nz, if_pos q]
  exact ⟨rfl, rfl⟩
theorem zuV_s {A B C U V W s E p d : Int} (hs : s = 1 ∨ s = -1) (e0 : 0 < E) (h1 : V * A - B * U = s * E) (h2 : W * A - C * U = -(s * p)) (h3 : B * W - C * V = s * d) : zuV A B C U V W = s * zU (A * p + 2 * B * E) (p * p - 4 * E * d) ∧ zdV A B C U V W = s * zD (A * p + 2 * B * E) (p * p - 4 * E * d) := by
  have q : ¬ V * A - B * U = 0 := fun w => by rw [w] at h1; rcases hs with rfl | rfl <;> omega
  obtain ⟨s', E', p', d', hs', e0', h1', h2', h3', _, hz, hz'⟩ := NRM (A := A) (B := B) (C := C) (U := U) (V := V) (W := W) q
  rw [h1] at h1'
  rw [h2] at h2'
  rw [h3] at h3'
  have es : s' = s := by
    rcases hs with rfl | rfl <;> rcases hs' with rfl | rfl <;> omega
  rw [es] at h1' h2' h3' hz hz'
  have eE : E' = E := by rcases hs with rfl | rfl <;> omega
  have ep : p' = p := by rcases hs with rfl | rfl <;> omega
  have ed : d' = d := by rcases hs with rfl | rfl <;> omega
  rw [eE, ep, ed] at hz hz'
  exact ⟨hz, hz'⟩
theorem sd_up {h : hH} {A B C U V W : Int} (lc : LC h A B C U V W) (nz : A ≠ 0 ∨ B ≠ 0) (b0 : 0 ≤ B) (b1 : 0 ≤ A + B) (c0 : C ≤ 0) (y0 : 0 ≤ A + 2 * B + C) : sdF 1 0 1 h = some (sg (zuV A B C U V W)) := by
  by_cases a0 : A = 0
  · subst a0
    rw [sdF_0 lc, sl_up (by omega)]
  · refine sdF_c lc a0 (fun q => (zuV_0 a0 q).1) (fun s E p d hs e0 rel h1 h2 h3 => ?_)
    rw [(zuV_s hs e0 h1 h2 h3).1]
    obtain ⟨g1, g2, g3⟩ := Z_up e0 rel a0 b0 b1 c0 y0
    refine cs_z e0 hs rel a0 (fun w => g1 w) (fun _ w => g2 (by rw [k1] at w; omega)) (fun w w2 => ?_)
    rw [if_neg (by decide)]
    exact g3 w (by rw [k1] at w2; omega)
theorem sd_dn {h : hH} {A B C U V W : Int} (lc : LC h A B C U V W) (nz : A ≠ 0 ∨ B ≠ 0) (b0 : B ≤ 0) (b1 : A + B ≤ 0) (c0 : 0 ≤ C) (y0 : A + 2 * B + C ≤ 0) : sdF 0 0 1 h = some (sg (zdV A B C U V W)) := by
  by_cases a0 : A = 0
  · subst a0
    rw [sdF_0 lc, sl_dn (by omega)]
  · refine sdF_c lc a0 (fun q => (zuV_0 a0 q).2) (fun s E p d hs e0 rel h1 h2 h3 => ?_)
    rw [(zuV_s hs e0 h1 h2 h3).2]
    obtain ⟨g1, g2, g3⟩ := Z_dn e0 rel a0 b0 b1 c0 y0
    refine cs_z e0 hs rel a0 (fun w => g1 w) (fun _ w => g2 (by rw [k1] at w; omega)) (fun w w2 => ?_)
    rw [if_pos rfl]
    exact g3 w (by rw [k1] at w2; omega)
theorem sd_i1 {h : hH} {A B C U V W : Int} (lc : LC h A B C U V W) (a0 : 0 < A) (b0 : B < 0) (c0 : 0 ≤ C) : sdF 0 0 2 h = some (sg (zdV A B C U V W)) := by
  have nz : A ≠ 0 := by omega
  refine sdF_c lc nz (fun q => (zuV_0 nz q).2) (fun s E p d hs e0 rel h1 h2 h3 => ?_)
  rw [(zuV_s hs e0 h1 h2 h3).2]
  obtain ⟨g1, g2, g3⟩ := Z_i1 e0 rel a0 b0 c0
  refine cs_z e0 hs rel nz (fun w => g1 w) (fun _ w => ?_) (fun w w2 => ?_)
  · rw [k2] at w
    exact g2 ((pos_of_mul w).1 a0)
  · rw [if_pos rfl]
    rw [k2] at w2
    refine g3 ?_
    by_cases u : A * p + 2 * B * E ≤ 0
    · exact u
    · have := Int.mul_pos (show 0 < A * p + 2 * B * E by omega) a0
      omega
theorem sd_i2 {h : hH} {A B C U V W : Int} (lc : LC h A B C U V W) (a0 : 0 < A) (b1 : 0 < A + B) (y0 : 0 ≤ A + 2 * B + C) : sdF 1 2 1 h = some (sg (zuV A B C U V W)) := by
  have nz : A ≠ 0 := by omega
  refine sdF_c lc nz (fun q => (zuV_0 nz q).1) (fun s E p d hs e0 rel h1 h2 h3 => ?_)
  rw [(zuV_s hs e0 h1 h2 h3).1]
  obtain ⟨g1, g2, g3⟩ := Z_i2 e0 rel a0 b1 y0
  refine cs_z e0 hs rel nz (fun w => ?_) (fun _ w => g2 (by rw [k1] at w; omega)) (fun w w2 => ?_)
  · rw [k2] at w
    exact g1 ((neg_of_mul w).1 a0)
  · rw [if_neg (by decide)]
    rw [k2] at w
    refine g3 ?_
    by_cases u : 0 ≤ A * p + 2 * B * E
    · exact u
    · have := Int.mul_neg_of_neg_of_pos (show A * p + 2 * B * E < 0 by omega) a0
      omega
theorem sd_j1 {h : hH} {A B C U V W : Int} (lc : LC h A B C U V W) (a0 : A < 0) (b0 : 0 < B) (c0 : C ≤ 0) : sdF 1 0 2 h = some (sg (zuV A B C U V W)) := by
  have nz : A ≠ 0 := by omega
  refine sdF_c lc nz (fun q => (zuV_0 nz q).1) (fun s E p d hs e0 rel h1 h2 h3 => ?_)
  rw [(zuV_s hs e0 h1 h2 h3).1]
  obtain ⟨g1, g2, g3⟩ := Z_j1 e0 rel a0 b0 c0
  refine cs_z e0 hs rel nz (fun w => g1 w) (fun _ w => ?_) (fun w w2 => ?_)
  · rw [k2] at w
    exact g2 ((pos_of_mul w).2.1 a0)
  · rw [if_neg (by decide)]
    rw [k2] at w2
    refine g3 ?_
    by_cases u : 0 ≤ A * p + 2 * B * E
    · exact u
    · have := Int.mul_pos_of_neg_of_neg (show A * p + 2 * B * E < 0 by omega) a0
      omega
theorem sd_j2 {h : hH} {A B C U V W : Int} (lc : LC h A B C U V W) (a0 : A < 0) (b1 : A + B < 0) (y0 : A + 2 * B + C ≤ 0) : sdF 0 2 1 h = some (sg (zdV A B C U V W)) := by
  have nz : A ≠ 0 := by omega
  refine sdF_c lc nz (fun q => (zuV_0 nz q).2) (fun s E p d hs e0 rel h1 h2 h3 => ?_)
  rw [(zuV_s hs e0 h1 h2 h3).2]
  obtain ⟨g1, g2, g3⟩ := Z_j2 e0 rel a0 b1 y0
  refine cs_z e0 hs rel nz (fun w => ?_) (fun _ w => g2 (by rw [k1] at w; omega)) (fun w w2 => ?_)
  · rw [k2] at w
    exact g1 ((neg_of_mul w).2.1 a0)
  · rw [if_pos rfl]
    rw [k2] at w
    refine g3 ?_
    by_cases u : A * p + 2 * B * E ≤ 0
    · exact u
    · have := Int.mul_neg_of_pos_of_neg (show 0 < A * p + 2 * B * E by omega) a0
      omega
