/-! LAYER 3I: codes 48, 49 -/
theorem srch {f g : Int32 → Option (Int32 ⊕ Int32)} {a b : Int32} (T : Int32 → Prop) (nx : Int32 → Int32) (μ : Int32 → Nat)
    (hnx : ∀ i, a ≤ i → i ≤ b → a ≤ nx i ∧ nx i ≤ b)
    (hμ : ∀ i, a ≤ i → i ≤ b → ¬ T i → μ (nx i) < μ i)
    (hf : ∀ i, a ≤ i → i ≤ b → (T i → f i = some (.inr i)) ∧ (¬ T i → f i = some (.inl (nx i))))
    (hg : ∀ i, a ≤ i → i ≤ b → (T (nx i) → g i = some (.inr (nx i))) ∧ (¬ T (nx i) → g i = some (.inl (nx i))))
    {k : Int32} (hk1 : a ≤ k) (hk2 : k ≤ b) (hT : ¬ T k) : ∃ r, a ≤ r ∧ r ≤ b ∧ wh f k = some r ∧ wh g k = some r := by
  generalize hn : μ k = n
  induction n using Nat.strongRecOn generalizing k with
  | _ n ih =>
    have hx := hnx k hk1 hk2
    have e1 : wh f k = wh f (nx k) := by rw [wh_eq, (hf k hk1 hk2).2 hT]
    by_cases t : T (nx k)
    · refine ⟨nx k, hx.1, hx.2, ?_, ?_⟩
      · rw [e1, wh_eq, (hf _ hx.1 hx.2).1 t]
      · rw [wh_eq, (hg k hk1 hk2).1 t]
    · obtain ⟨r, r1, r2, r3, r4⟩ := ih (μ (nx k)) (hn ▸ hμ k hk1 hk2 hT) hx.1 hx.2 t rfl
      refine ⟨r, r1, r2, e1.trans r3, ?_⟩
      rw [wh_eq, (hg k hk1 hk2).2 t]
      exact r4
def muB (a b τ i : Int32) : Nat := (if τ.toInt ≤ i.toInt then i.toInt - τ.toInt else i.toInt - a.toInt + 1 + (b.toInt - τ.toInt)).toNat
def muF (a b τ i : Int32) : Nat := (if i.toInt ≤ τ.toInt then τ.toInt - i.toInt else b.toInt - i.toInt + 1 + (τ.toInt - a.toInt)).toNat
theorem nxB {a b : Int32} (h0 : 0 ≤ a) (h1 : b ≤ 101) (hab : a ≤ b) : ∀ i, a ≤ i → i ≤ b → a ≤ (if i = a then b else i - 1) ∧ (if i = a then b else i - 1) ≤ b := by
  intro i q w
  by_cases e : i = a
  · rw [if_pos e]; exact ⟨hab, Int32.le_refl _⟩
  · rw [if_neg e]; constructor <;> grind
theorem nxF {a b : Int32} (h0 : 0 ≤ a) (h1 : b ≤ 101) (hab : a ≤ b) : ∀ i, a ≤ i → i ≤ b → a ≤ (if i = b then a else i + 1) ∧ (if i = b then a else i + 1) ≤ b := by
  intro i q w
  by_cases e : i = b
  · rw [if_pos e]; exact ⟨Int32.le_refl _, hab⟩
  · rw [if_neg e]; constructor <;> grind
theorem muB_lt {a b τ : Int32} (h0 : 0 ≤ a) (h1 : b ≤ 101) (t1 : a ≤ τ) (t2 : τ ≤ b) : ∀ i, a ≤ i → i ≤ b → i ≠ τ → muB a b τ (if i = a then b else i - 1) < muB a b τ i := by
  intro i q w ne
  have i0 : (0 : Int32).toInt = 0 := rfl
  have i1 : (1 : Int32).toInt = 1 := rfl
  have i101 : (101 : Int32).toInt = 101 := rfl
  have h0' := Int32.le_iff_toInt_le.mp h0
  have h1' := Int32.le_iff_toInt_le.mp h1
  have t1' := Int32.le_iff_toInt_le.mp t1
  have t2' := Int32.le_iff_toInt_le.mp t2
  have q' := Int32.le_iff_toInt_le.mp q
  have w' := Int32.le_iff_toInt_le.mp w
  have ne' : i.toInt ≠ τ.toInt := fun e => ne (Int32.toInt_inj.mp e)
  unfold muB
  by_cases e : i = a
  · rw [if_pos e]
    subst e
    split <;> split <;> omega
  · have e' : i.toInt ≠ a.toInt := fun x => e (Int32.toInt_inj.mp x)
    have s : (i - 1).toInt = i.toInt - 1 := by rw [i32_sub (by omega) (by omega), i1]
    rw [if_neg e, s]
    split <;> split <;> omega
theorem muF_lt {a b τ : Int32} (h0 : 0 ≤ a) (h1 : b ≤ 101) (t1 : a ≤ τ) (t2 : τ ≤ b) : ∀ i, a ≤ i → i ≤ b → i ≠ τ → muF a b τ (if i = b then a else i + 1) < muF a b τ i := by
  intro i q w ne
  have i0 : (0 : Int32).toInt = 0 := rfl
  have i1 : (1 : Int32).toInt = 1 := rfl
  have i101 : (101 : Int32).toInt = 101 := rfl
  have h0' := Int32.le_iff_toInt_le.mp h0
  have h1' := Int32.le_iff_toInt_le.mp h1
  have t1' := Int32.le_iff_toInt_le.mp t1
  have t2' := Int32.le_iff_toInt_le.mp t2
  have q' := Int32.le_iff_toInt_le.mp q
  have w' := Int32.le_iff_toInt_le.mp w
  have ne' : i.toInt ≠ τ.toInt := fun e => ne (Int32.toInt_inj.mp e)
  unfold muF
  by_cases e : i = b
  · rw [if_pos e]
    subst e
    split <;> split <;> omega
  · have e' : i.toInt ≠ b.toInt := fun x => e (Int32.toInt_inj.mp x)
    have s : (i + 1).toInt = i.toInt + 1 := by rw [i32_add (by omega) (by omega), i1]
    rw [if_neg e, s]
    split <;> split <;> omega
def AX (b : Int32) (o n t mo mn : Nat) : Prop := (b = 1 ∧ o = 35 ∧ n = 37 ∧ t = 39 ∧ mo = 212 ∧ mn = 214) ∨ (b = 2 ∧ o = 36 ∧ n = 38 ∧ t = 40 ∧ mo = 213 ∧ mn = 215)
theorem AX.ln {b : Int32} {o n t mo mn : Nat} (ax : AX b o n t mo mn) : ln o = 102 ∧ ln n = 102 ∧ ln t = 102 ∧ ln mo = 204 ∧ ln mn = 204 := by
  rcases ax with ⟨rfl, rfl, rfl, rfl, rfl, rfl⟩ | ⟨rfl, rfl, rfl, rfl, rfl, rfl⟩ <;> exact ⟨rfl, rfl, rfl, rfl, rfl⟩
theorem Rm.axO {P : hH → hH → Prop} {hc hm : hH} (h : Rm P hc hm) {b : Int32} {o n t mo mn : Nat} (ax : AX b o n t mo mn) {i : Int32} (hp : PT hc 34 i) : rdI hm mo (102 + i).toNatClampNeg = rdI hc o i.toNatClampNeg := by
  rw [← mi1]
  rcases ax with ⟨rfl, rfl, rfl, rfl, rfl, rfl⟩ | ⟨rfl, rfl, rfl, rfl, rfl, rfl⟩
  · exact h.zox isZ34 hp
  · exact h.zoy isZ34 hp
theorem Rm.axN {P : hH → hH → Prop} {hc hm : hH} (h : Rm P hc hm) {b : Int32} {o n t mo mn : Nat} (ax : AX b o n t mo mn) {i : Int32} (hp : PT hc 34 i) : rdI hm mn (102 + i).toNatClampNeg = rdI hc n i.toNatClampNeg := by
  rw [← mi1]
  rcases ax with ⟨rfl, rfl, rfl, rfl, rfl, rfl⟩ | ⟨rfl, rfl, rfl, rfl, rfl, rfl⟩
  · exact h.zx isZ34 hp
  · exact h.zy isZ34 hp
theorem T4_bit {x y t : Int32} (h : T4 x y t) : ((t &&& 1 = 0) ↔ x = 0) ∧ ((t &&& 2 = 0) ↔ y = 0) := by
  rcases h with ⟨rfl, rfl, rfl⟩ | ⟨rfl, rfl, rfl⟩ | ⟨rfl, rfl, rfl⟩ | ⟨rfl, rfl, rfl⟩ <;> decide
theorem Rm.axT {P : hH → hH → Prop} {hc hm : hH} (h : Rm P hc hm) {b : Int32} {o n t mo mn : Nat} (ax : AX b o n t mo mn) {i : Int32} (hp : PT hc 34 i) : (rdI hm 216 (102 + i).toNatClampNeg &&& b = 0) ↔ (rdI hc t i.toNatClampNeg = 0) := by
  have t4 := T4_bit (h.zt isZ34 hp)
  rw [mi1] at t4
  rcases ax with ⟨rfl, rfl, rfl, rfl, rfl, rfl⟩ | ⟨rfl, rfl, rfl, rfl, rfl, rfl⟩
  · exact t4.1
  · exact t4.2
theorem Rm.axS {P : hH → hH → Prop} {hc hm : hH} (h : Rm P hc hm) {b : Int32} {o n t mo mn : Nat} (ax : AX b o n t mo mn) {i : Int32} (hp : PT hc 34 i) (v : Int32) : Rm P (wrI hc n i.toNatClampNeg v) (wrI hm mn (102 + i).toNatClampNeg v) := by
  rw [← mi1]
  rcases ax with ⟨rfl, rfl, rfl, rfl, rfl, rfl⟩ | ⟨rfl, rfl, rfl, rfl, rfl, rfl⟩
  · exact h.set_zx isZ34 hp v
  · exact h.set_zy isZ34 hp v
theorem vpA {P : hH → hH → Prop} {hc hm : hH} (h : Rm P hc hm) {i : Int32} (hp : PT hc 34 i) : vp_in i 102 ∧ vp_in (102 + i) 204 := by
  have a := h.vpC isZ34 hp
  have b := h.vpM isZ34 hp
  rw [mi1] at b
  exact ⟨a, b⟩
/-- a point that goes with two others -/
theorem L_fit {P : hH → hH → Prop} {hc hm : hH} (h : Rm P hc hm) {b : Int32} {o n t mo mn : Nat} (ax : AX b o n t mo mn) {k x y : Int32} (hk : PT hc 34 k) (hx : PT hc 34 x) (hy : PT hc 34 y) : ∃ v, f_Ma_fit o n k (if (if rdI hc o x.toNatClampNeg ≤ rdI hc o y.toNatClampNeg then (0 : Int32) else 1) = 0 then x else y) (if (if rdI hc o x.toNatClampNeg ≤ rdI hc o y.toNatClampNeg then (0 : Int32) else 1) = 0 then y else x) hc = some ((), wrI hc n k.toNatClampNeg v) ∧ f_Mo_follow mo mn (102 + k) (102 + x) (102 + y) hm = some ((), wrI hm mn (102 + k).toNatClampNeg v) := by
  have lns := ax.ln
  obtain ⟨l1, l2, l3, l4, l5⟩ := lns
  have core : ∀ A B : Int32, PT hc 34 A → PT hc 34 B → ∃ v, f_Ma_fit o n k A B hc = some ((), wrI hc n k.toNatClampNeg v) ∧ (gd (vp_in (102 + k) 204 ∧ vp_in (102 + A) 204) <|
      if (rdI hm mo (Int32.toNatClampNeg (102 + A))) < (rdI hm mo (Int32.toNatClampNeg (102 + k))) then (
        gd (vp_in (102 + k) 204 ∧ vp_in (102 + B) 204) <|
        if (rdI hm mo (Int32.toNatClampNeg (102 + k))) < (rdI hm mo (Int32.toNatClampNeg (102 + B))) then (
          gd (vp_in (102 + A) 204 ∧ vp_in (102 + k) 204 ∧ vp_in (102 + A) 204 ∧ vp_in (102 + B) 204 ∧ vp_in (102 + B) 204) <|
          bP (f_Mo_nearest ((Int32.toInt64 ((rdI hm mo (Int32.toNatClampNeg (102 + k))) - (rdI hm mo (Int32.toNatClampNeg (102 + A))))) * (Int32.toInt64 ((rdI hm mn (Int32.toNatClampNeg (102 + B))) - (rdI hm mn (Int32.toNatClampNeg (102 + A)))))) (Int32.toInt64 ((rdI hm mo (Int32.toNatClampNeg (102 + B))) - (rdI hm mo (Int32.toNatClampNeg (102 + A)))))) fun a9 =>
          gd (vp_in (102 + k) 204) <|
          some ((), (wrI hm mn (Int32.toNatClampNeg (102 + k)) (Int64.toInt32 ((Int32.toInt64 (rdI hm mn (Int32.toNatClampNeg (102 + A)))) + a9))))
        ) else (
          gd (vp_in (102 + k) 204 ∧ vp_in (102 + B) 204 ∧ vp_in (102 + B) 204 ∧ vp_in (102 + k) 204) <|
          some ((), (wrI hm mn (Int32.toNatClampNeg (102 + k)) ((rdI hm mo (Int32.toNatClampNeg (102 + k))) + ((rdI hm mn (Int32.toNatClampNeg (102 + B))) - (rdI hm mo (Int32.toNatClampNeg (102 + B)))))))
        )
      ) else (
        gd (vp_in (102 + k) 204 ∧ vp_in (102 + A) 204 ∧ vp_in (102 + A) 204 ∧ vp_in (102 + k) 204) <|
        some ((), (wrI hm mn (Int32.toNatClampNeg (102 + k)) ((rdI hm mo (Int32.toNatClampNeg (102 + k))) + ((rdI hm mn (Int32.toNatClampNeg (102 + A))) - (rdI hm mo (Int32.toNatClampNeg (102 + A)))))))
      )) = some ((), wrI hm mn (102 + k).toNatClampNeg v) := by
    intro A B hA hB
    have vk := vpA h hk
    have vA := vpA h hA
    have vB := vpA h hB
    unfold f_Ma_fit
    rw [l1, l2, h.axO ax hk, h.axO ax hA, h.axO ax hB, h.axN ax hA, h.axN ax hB]
    simp only [gd_pos (And.intro vk.1 vA.1), gd_pos (And.intro vk.2 vA.2), lz]
    by_cases q1 : rdI hc o A.toNatClampNeg < rdI hc o k.toNatClampNeg
    · simp only [if_pos q1, gd_pos (And.intro vk.1 vB.1), gd_pos (And.intro vk.2 vB.2)]
      by_cases q2 : rdI hc o k.toNatClampNeg < rdI hc o B.toNatClampNeg
      · have ne : ¬ Int32.toInt64 (rdI hc o B.toNatClampNeg - rdI hc o A.toNatClampNeg) = 0 := by
          intro w
          have w' := toL_0.mp w
          have : rdI hc o B.toNatClampNeg = rdI hc o A.toNatClampNeg := by grind
          grind
        simp only [if_pos q2, gd_pos (And.intro vB.1 vA.1), gd_pos (And.intro vA.1 (And.intro vB.1 vA.1)), gd_pos (And.intro vA.2 (And.intro vk.2 (And.intro vA.2 (And.intro vB.2 vB.2)))), f_HH_over_eq ne, f_Mo_nearest_eq ne (toL_small _), bP_some, gd_pos vk.1, gd_pos vk.2]
        exact ⟨_, rfl, rfl⟩
      · simp only [if_neg q2, gd_pos (And.intro vk.1 (And.intro vB.1 (And.intro vB.1 vk.1))), gd_pos (And.intro vk.2 (And.intro vB.2 (And.intro vB.2 vk.2)))]
        exact ⟨_, rfl, rfl⟩
    · simp only [if_neg q1, gd_pos (And.intro vk.1 (And.intro vA.1 (And.intro vA.1 vk.1))), gd_pos (And.intro vk.2 (And.intro vA.2 (And.intro vA.2 vk.2)))]
      exact ⟨_, rfl, rfl⟩
  have vx := vpA h hx
  have vy := vpA h hy
  unfold f_Mo_follow
  rw [l4, l5, gd_pos ⟨vy.2, vx.2⟩, h.axO ax hx, h.axO ax hy]
  simp only [lz]
  by_cases q : rdI hc o x.toNatClampNeg ≤ rdI hc o y.toNatClampNeg
  · simp only [if_pos q, reduceIte]
    exact core x y hx hy
  · have ne : ¬ (102 + y) = (102 + x) := by
      intro w
      have : y = x := by grind
      subst this
      exact q (Int32.le_refl _)
    simp +decide only [if_neg q, if_neg ne, reduceIte]
    exact core y x hy hx
/-- is one of them touched? -/
theorem L_some {P : hH → hH → Prop} {hc hm : hH} (h : Rm P hc hm) {b : Int32} {o n t mo mn : Nat} (ax : AX b o n t mo mn) {x y : Int32} (hx : 0 ≤ x) (hxy : x ≤ y) (hy : y ≤ 101) (pt : ∀ i, x ≤ i → i ≤ y → PT hc 34 i) : OK2 (
    wh (A := (Int32 × Int32)) (B := Int32) (fun p7 =>
      if y < p7.2 then (
        some (.inr p7.1)
      ) else (
        bP (A := Int32) (
          if p7.1 = 0 then (
            gd (vp_in p7.2 (ln t)) <|
            if (rdI hc t (Int32.toNatClampNeg p7.2)) = 0 then (
              some (0 : Int32)
            ) else (
              some (1 : Int32)
            )
          ) else (
            some (1 : Int32)
          )
        ) fun p9 =>
        some (.inl (p9, p7.2 + (1 : Int32)))
      )
    ) ((0 : Int32), x))
   (wh (A := (Int32 × Int32)) (B := Int32) (fun p5 =>
      if y < p5.2 then (
        some (.inr p5.1)
      ) else (
        gd (vp_in ((102 : Int32) + p5.2) 204) <|
        some (.inl (p5.1 + (if ((rdI hm 216 (Int32.toNatClampNeg ((102 : Int32) + p5.2))) &&& b) = 0 then (0 : Int32) else (1 : Int32)), p5.2 + (1 : Int32)))
      )
    ) ((0 : Int32), x)) (fun u v => (u = 0 ∧ v = 0) ∨ (u = 1 ∧ 0 < v ∧ ∃ τ, x ≤ τ ∧ τ ≤ y ∧ ¬ rdI hc t τ.toNatClampNeg = 0)) := by
  refine OK2_wh (fun s u => s.2 = u.2 ∧ x ≤ s.2 ∧ s.2 ≤ y + 1 ∧ ((s.1 = 0 ∧ u.1 = 0) ∨ (s.1 = 1 ∧ 0 < u.1 ∧ u.1 ≤ s.2 - x ∧ ∃ τ, x ≤ τ ∧ τ ≤ y ∧ ¬ rdI hc t τ.toNatClampNeg = 0))) (fun s => y.toNatClampNeg + 1 - s.2.toNatClampNeg) ?_ (s := (0, x)) (t := (0, x)) ⟨rfl, Int32.le_refl _, by show x ≤ y + 1; grind, Or.inl ⟨rfl, rfl⟩⟩
  rintro ⟨s1, i⟩ ⟨u1, j⟩ ⟨h1, h2, h3, h4⟩
  dsimp only at h1 h2 h3 h4
  subst h1
  dsimp only
  by_cases q : y < i
  · rw [if_pos q, if_pos q]
    refine OK2_of rfl rfl ?_
    rcases h4 with e | ⟨e1, e2, e3, e4⟩
    · exact Or.inl e
    · exact Or.inr ⟨e1, e2, e4⟩
  · have pi := pt i h2 (Int32.not_lt.mp q)
    have vi := vpA h pi
    have ti := h.axT ax pi
    rw [if_neg q, if_neg q, gd_pos vi.2, ax.ln.2.2.1, gd_pos vi.1]
    have ii : (i + 1).toNatClampNeg = i.toNatClampNeg + 1 := xI_succ (m := 102) (by grind) (by grind) (by decide)
    have i2 : i.toNatClampNeg ≤ y.toNatClampNeg := xI_mono (Int32.not_lt.mp q)
    have mu : y.toNatClampNeg + 1 - (i + 1).toNatClampNeg < y.toNatClampNeg + 1 - i.toNatClampNeg := by omega
    by_cases tt : rdI hc t i.toNatClampNeg = 0
    · rw [if_pos (ti.mpr tt), if_pos tt]
      rcases h4 with ⟨rfl, rfl⟩ | ⟨rfl, e2, e3, e4⟩
      · exact OK2_of rfl rfl ⟨⟨rfl, by show x ≤ i + 1; grind, by show i + 1 ≤ y + 1; grind, Or.inl ⟨rfl, by show (0 : Int32) + 0 = 0; decide⟩⟩, mu⟩
      · exact OK2_of rfl rfl ⟨⟨rfl, by show x ≤ i + 1; grind, by show i + 1 ≤ y + 1; grind, Or.inr ⟨rfl, by show 0 < u1 + 0; grind, by show u1 + 0 ≤ i + 1 - x; grind, e4⟩⟩, mu⟩
    · rw [if_neg (fun w => tt (ti.mp w)), if_neg tt]
      rcases h4 with ⟨rfl, rfl⟩ | ⟨rfl, e2, e3, e4⟩
      · exact OK2_of rfl rfl ⟨⟨rfl, by show x ≤ i + 1; grind, by show i + 1 ≤ y + 1; grind, Or.inr ⟨rfl, by show (0 : Int32) < 0 + 1; decide, by show (0 : Int32) + 1 ≤ i + 1 - x; grind, i, h2, Int32.not_lt.mp q, tt⟩⟩, mu⟩
      · exact OK2_of rfl rfl ⟨⟨rfl, by show x ≤ i + 1; grind, by show i + 1 ≤ y + 1; grind, Or.inr ⟨rfl, by show 0 < u1 + 1; grind, by show u1 + 1 ≤ i + 1 - x; grind, e4⟩⟩, mu⟩
