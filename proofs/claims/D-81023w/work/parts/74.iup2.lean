/-! LAYER 3J: codes 48, 49: contours -/
theorem AX.fr {b : Int32} {o n t mo mn : Nat} (ax : AX b o n t mo mn) {k : Nat} {v : Int32} {h g : hH} (f : Fr h g) : Fr h (wrI g n k v) ∧ ∀ i, rdI (wrI g n k v) t i = rdI g t i := by
  rcases ax with ⟨rfl, rfl, rfl, rfl, rfl, rfl⟩ | ⟨rfl, rfl, rfl, rfl, rfl, rfl⟩
  · exact ⟨Fr_wr isZ34 (j := 2) (by decide) f, fun i => rdI_o (by decide)⟩
  · exact ⟨Fr_wr isZ34 (j := 3) (by decide) f, fun i => rdI_o (by decide)⟩
theorem L_cont {P : hH → hH → Prop} {hc hm : hH} (h : Rm P hc hm) {b : Int32} {o n t mo mn : Nat} (ax : AX b o n t mo mn) {x y u v : Int32} (hx : 0 ≤ x) (hxy : x ≤ y) (hy : y ≤ 101) (pt : ∀ i, x ≤ i → i ≤ y → PT hc 34 i) (huv : (u = 0 ∧ v = 0) ∨ (u = 1 ∧ 0 < v ∧ ∃ τ, x ≤ τ ∧ τ ≤ y ∧ ¬ rdI hc t τ.toNatClampNeg = 0)) : OK2 (
    wh (A := (Int32 × hH)) (B := hH) (fun p15 =>
      if (y < p15.1 ∨ u = 0) then (
        some (.inr p15.2)
      ) else (
        gd (vp_in p15.1 (ln t)) <|
        bP (A := hH) (
          if (rdI p15.2 t (Int32.toNatClampNeg p15.1)) = 0 then (
            bP (A := Int32) (
              wh (A := Int32) (B := Int32) (fun p24 =>
                  gd (vp_in p24 (ln t)) <|
                  if (rdI p15.2 t (Int32.toNatClampNeg p24)) = 0 then (
                    some (.inl (if p24 = x then y else (p24 - (1 : Int32))))
                  ) else (
                    some (.inr p24)
                  )
              ) p15.1
            ) fun p25 =>
            bP (A := Int32) (
              wh (A := Int32) (B := Int32) (fun p30 =>
                  gd (vp_in p30 (ln t)) <|
                  if (rdI p15.2 t (Int32.toNatClampNeg p30)) = 0 then (
                    some (.inl (if p30 = y then x else (p30 + (1 : Int32))))
                  ) else (
                    some (.inr p30)
                  )
              ) p15.1
            ) fun p31 =>
            gd (vp_in p31 (ln o) ∧ vp_in p25 (ln o)) <|
            bS (f_Ma_fit o n p15.1 (if (if (rdI p15.2 o (Int32.toNatClampNeg p25)) ≤ (rdI p15.2 o (Int32.toNatClampNeg p31)) then (0 : Int32) else (1 : Int32)) = 0 then p25 else p31) (if (if (rdI p15.2 o (Int32.toNatClampNeg p25)) ≤ (rdI p15.2 o (Int32.toNatClampNeg p31)) then (0 : Int32) else (1 : Int32)) = 0 then p31 else p25) p15.2) fun _ h1 =>
            some h1
          ) else (
            some p15.2
          )
        ) fun p23 =>
        some (.inl (p15.1 + (1 : Int32), p23))
      )
    ) (x, hc))
   (wh (A := (Int32 × hH)) (B := hH) (fun p13 =>
      if (y < p13.1 ∨ v ≤ 0) then (
        some (.inr p13.2)
      ) else (
        gd (vp_in ((102 : Int32) + p13.1) 204) <|
        bP (A := hH) (
          if ((rdI p13.2 216 (Int32.toNatClampNeg ((102 : Int32) + p13.1))) &&& b) = 0 then (
            bP (A := Int32) (
              wh (A := Int32) (B := Int32) (fun p22 =>
                  gd (vp_in ((102 : Int32) + (if p22 = x then y else (p22 - (1 : Int32)))) 204) <|
                  if ((rdI p13.2 216 (Int32.toNatClampNeg ((102 : Int32) + (if p22 = x then y else (p22 - (1 : Int32)))))) &&& b) = 0 then (
                    some (.inl (if p22 = x then y else (p22 - (1 : Int32))))
                  ) else (
                    some (.inr (if p22 = x then y else (p22 - (1 : Int32))))
                  )
              ) p13.1
            ) fun p23 =>
            bP (A := Int32) (
              wh (A := Int32) (B := Int32) (fun p28 =>
                  gd (vp_in ((102 : Int32) + (if p28 = y then x else (p28 + (1 : Int32)))) 204) <|
                  if ((rdI p13.2 216 (Int32.toNatClampNeg ((102 : Int32) + (if p28 = y then x else (p28 + (1 : Int32)))))) &&& b) = 0 then (
                    some (.inl (if p28 = y then x else (p28 + (1 : Int32))))
                  ) else (
                    some (.inr (if p28 = y then x else (p28 + (1 : Int32))))
                  )
              ) p13.1
            ) fun p29 =>
            bS (f_Mo_follow mo mn ((102 : Int32) + p13.1) ((102 : Int32) + p23) ((102 : Int32) + p29) p13.2) fun _ h1 =>
            some h1
          ) else (
            some p13.2
          )
        ) fun p21 =>
        some (.inl (p13.1 + (1 : Int32), p21))
      )
    ) (x, hm)) (fun g m => Rm P g m ∧ Fr hc g) := by
  rcases huv with ⟨rfl, rfl⟩ | ⟨rfl, v0, τ, t1, t2, t3⟩
  · refine ⟨hc, hm, ?_, ?_, h, Fr_rfl⟩
    · rw [wh_eq]
      dsimp only
      rw [if_pos (Or.inr rfl)]
    · rw [wh_eq]
      dsimp only
      rw [if_pos (Or.inr (Int32.le_refl _))]
  refine OK2_wh (fun s u => s.1 = u.1 ∧ Rm P s.2 u.2 ∧ Fr hc s.2 ∧ (∀ i, rdI s.2 t i = rdI hc t i) ∧ x ≤ s.1 ∧ s.1 ≤ y + 1) (fun s => y.toNatClampNeg + 1 - s.1.toNatClampNeg) ?_ (s := (x, hc)) (t := (x, hm)) ⟨rfl, h, Fr_rfl, fun _ => rfl, Int32.le_refl _, by show x ≤ y + 1; grind⟩
  rintro ⟨i, g⟩ ⟨j, m⟩ ⟨h1, k, fr, ht, h5, h6⟩
  dsimp only at h1 k fr ht h5 h6
  subst h1
  dsimp only
  by_cases q : y < i
  · rw [if_pos (Or.inl q), if_pos (Or.inl q)]
    exact OK2_of rfl rfl ⟨k, fr⟩
  · have q' := Int32.not_lt.mp q
    rw [if_neg (show ¬ (y < i ∨ (1 : Int32) = 0) from fun w => w.elim q (by decide)), if_neg (show ¬ (y < i ∨ v ≤ 0) from fun w => w.elim q (Int32.not_le.mpr v0))]
    have ptg : ∀ i, x ≤ i → i ≤ y → PT g 34 i := fun i a c => ⟨(pt i a c).1, by rw [fr.2.2.1]; exact (pt i a c).2⟩
    have pi := ptg i h5 q'
    have vi := vpA k pi
    have ti := k.axT ax pi
    have ii : (i + 1).toNatClampNeg = i.toNatClampNeg + 1 := xI_succ (m := 102) (by grind) (by grind) (by decide)
    have i2 : i.toNatClampNeg ≤ y.toNatClampNeg := xI_mono q'
    have mu : y.toNatClampNeg + 1 - (i + 1).toNatClampNeg < y.toNatClampNeg + 1 - i.toNatClampNeg := by omega
    rw [gd_pos vi.2, ax.ln.2.2.1, ax.ln.1, gd_pos vi.1]
    by_cases tt : rdI g t i.toNatClampNeg = 0
    · rw [if_pos (ti.mpr tt), if_pos tt]
      have tg : ¬ rdI g t τ.toNatClampNeg = 0 := by rw [ht]; exact t3
      have sF : ∀ (nx : Int32 → Int32), (∀ i, x ≤ i → i ≤ y → x ≤ nx i ∧ nx i ≤ y) → ∀ i, x ≤ i → i ≤ y → ((¬ rdI g t i.toNatClampNeg = 0) → (gd (vp_in i 102) <| if (rdI g t (Int32.toNatClampNeg i)) = 0 then some (Sum.inl (nx i)) else some (Sum.inr i)) = some (.inr i)) ∧ ((¬ ¬ rdI g t i.toNatClampNeg = 0) → (gd (vp_in i 102) <| if (rdI g t (Int32.toNatClampNeg i)) = 0 then some (Sum.inl (nx i)) else some (Sum.inr i)) = some (.inl (nx i))) := by
        intro nx hnx i a c
        rw [gd_pos (vpA k (ptg i a c)).1]
        exact ⟨fun w => by rw [if_neg w], fun w => by rw [if_pos (Decidable.not_not.mp w)]⟩
      have sG : ∀ (nx : Int32 → Int32), (∀ i, x ≤ i → i ≤ y → x ≤ nx i ∧ nx i ≤ y) → ∀ i, x ≤ i → i ≤ y → ((¬ rdI g t (nx i).toNatClampNeg = 0) → (gd (vp_in ((102 : Int32) + nx i) 204) <| if ((rdI m 216 (Int32.toNatClampNeg ((102 : Int32) + nx i))) &&& b) = 0 then some (Sum.inl (nx i)) else some (Sum.inr (nx i))) = some (.inr (nx i))) ∧ ((¬ ¬ rdI g t (nx i).toNatClampNeg = 0) → (gd (vp_in ((102 : Int32) + nx i) 204) <| if ((rdI m 216 (Int32.toNatClampNeg ((102 : Int32) + nx i))) &&& b) = 0 then some (Sum.inl (nx i)) else some (Sum.inr (nx i))) = some (.inl (nx i))) := by
        intro nx hnx i a c
        have pn := ptg (nx i) (hnx i a c).1 (hnx i a c).2
        have tn := k.axT ax pn
        rw [gd_pos (vpA k pn).2]
        exact ⟨fun w => by rw [if_neg (fun z => w (tn.mp z))], fun w => by rw [if_pos (tn.mpr (Decidable.not_not.mp w))]⟩
      obtain ⟨r, r1, r2, r3, r4⟩ := srch (fun i => ¬ rdI g t i.toNatClampNeg = 0) (fun i => if i = x then y else i - 1) (muB x y τ) (nxB hx hy hxy) (fun i a c w => muB_lt hx hy t1 t2 i a c (fun e => w (e ▸ tg))) (sF _ (nxB hx hy hxy)) (sG _ (nxB hx hy hxy)) h5 q' (fun w => w tt)
      obtain ⟨l, l1, l2, l3, l4⟩ := srch (fun i => ¬ rdI g t i.toNatClampNeg = 0) (fun i => if i = y then x else i + 1) (muF x y τ) (nxF hx hy hxy) (fun i a c w => muF_lt hx hy t1 t2 i a c (fun e => w (e ▸ tg))) (sF _ (nxF hx hy hxy)) (sG _ (nxF hx hy hxy)) h5 q' (fun w => w tt)
      rw [r3, r4]
      simp only [bP_some]
      rw [l3, l4]
      simp only [bP_some]
      obtain ⟨z, z1, z2⟩ := L_fit k ax pi (ptg r r1 r2) (ptg l l1 l2)
      rw [gd_pos ⟨(vpA k (ptg l l1 l2)).1, (vpA k (ptg r r1 r2)).1⟩, z1, z2]
      have fr' := ax.fr (k := i.toNatClampNeg) (v := z) fr
      exact OK2_of rfl rfl ⟨⟨rfl, k.axS ax pi z, fr'.1, fun a => (fr'.2 a).trans (ht a), by show x ≤ i + 1; grind, by show i + 1 ≤ y + 1; grind⟩, mu⟩
    · rw [if_neg (fun w => tt (ti.mp w)), if_neg tt]
      exact OK2_of rfl rfl ⟨⟨rfl, k, fr, ht, by show x ≤ i + 1; grind, by show i + 1 ≤ y + 1; grind⟩, mu⟩
theorem L_iup {P : hH → hH → Prop} {hc hm : hH} (h : Rm P hc hm) {b : Int32} {o n t mo mn : Nat} (ax : AX b o n t mo mn) : OK2 (f_Ma_between o n t hc) (f_Mo_followAll mo mn b hm) (fun a c => Rm P a.2 c.2) := by
  unfold f_Ma_between f_Mo_followAll
  simp only [lz]
  rcases h.ol with ⟨a, b', c⟩ | ol
  · rw [if_pos a, wh_eq]
    dsimp only
    rw [if_pos (show rdI hm 192 53 ≤ 0 by rw [b']; decide)]
    exact OK2_of rfl rfl h
  · have oi := out_ids ol.1
    obtain ⟨en1, en2, en3, en4, en5, en6, en7, en8⟩ := ol.2.2.1
    dsimp only at en6 en7 en8
    rw [if_neg oi.2.1]
    refine OK2_bP (OK2_mono (OK2_wh (Φ := fun g m => Rm P g m) (fun s u => s.1 = u.2.1 ∧ Rm P s.2 u.2.2 ∧ Fr hc s.2 ∧ 0 ≤ s.1 ∧ s.1 ≤ rdI hc (rdP hc 22 3) 5 ∧ 0 ≤ u.1 ∧ ((s.1 = 0 ∧ u.1 = 0) ∨ (1 ≤ s.1 ∧ u.1 = rdI hc (rf (rdP hc 22 3) 4) (s.1 - 1).toNatClampNeg + 1))) (fun s => (rdI hc (rdP hc 22 3) 5).toNatClampNeg - s.1.toNatClampNeg) ?_ (s := ((0 : Int32), hc)) (t := ((0 : Int32), (0 : Int32), hm)) ⟨rfl, h, Fr_rfl, by show (0 : Int32) ≤ 0; decide, en1, by show (0 : Int32) ≤ 0; decide, Or.inl ⟨rfl, rfl⟩⟩) ?_)
    · rintro ⟨i, g⟩ ⟨x, j, m⟩ ⟨h1, k, fr, h5, h6, x0, hx⟩
      dsimp only at h1 k fr h5 h6 x0 hx
      subst h1
      dsimp only
      have hP : rdP g 22 3 = rdP hc 22 3 := fr.2.1 _ _
      rcases k.ol with ⟨a', _, _⟩ | ol'
      · rw [hP] at a'; exact absurd a' oi.2.1
      rw [hP] at ol'
      have e5 : rdI g (rdP hc 22 3) 5 = rdI hc (rdP hc 22 3) 5 := fr.1 _ _ oi.2.2.1
      have em : rdI m 192 53 = rdI hc (rdP hc 22 3) 5 := ol'.2.1.trans e5
      rw [hP, gd_pos oi.1, e5, em]
      by_cases q : rdI hc (rdP hc 22 3) 5 ≤ i
      · rw [if_pos q, if_pos q]
        exact OK2_of rfl rfl k
      · have q' := Int32.not_le.mp q
        have vi : vp_in i 20 := vp_lt (n := 20) (m := 20) h5 (by grind) rfl
        have il : i.toNatClampNeg < (rdI hc (rdP hc 22 3) 5).toNatClampNeg := (xI_lt h5 en1).mpr q'
        have e6 := en6 _ il
        have eg : ∀ c, rdI g (rf (rdP hc 22 3) 4) c = rdI hc (rf (rdP hc 22 3) 4) c := fun c => fr.1 _ _ oi.2.2.2.1
        have e218 : rdI m 218 i.toNatClampNeg = rdI hc (rf (rdP hc 22 3) 4) i.toNatClampNeg := by
          rw [ol'.2.2.2.1 _ (by rw [e5]; exact il)]
          exact eg _
        have mg : rdI g 34 6 = rdI hc (rdP hc 22 3) 3 + 2 := fr.2.2.1.trans ol.2.2.2.2.1
        rw [if_neg q, if_neg q]
        have bo : f_Ou_beginOf (rdP hc 22 3) i g = some x := by
          unfold f_Ou_beginOf
          rcases hx with ⟨rfl, rfl⟩ | ⟨i1, rfl⟩
          · rw [if_pos rfl]
          · rw [if_neg (by grind), gd_pos (vp_lt (n := 20) (m := 20) (by grind) (by grind) rfl), eg]
        have hxy : x ≤ rdI hc (rf (rdP hc 22 3) 4) i.toNatClampNeg := by
          rcases hx with ⟨rfl, rfl⟩ | ⟨i1, rfl⟩
          · exact e6.1
          · have s1 : i.toNatClampNeg = (i - 1).toNatClampNeg + 1 := by
              have z := xI_succ (x := i - 1) (m := 20) (by grind) (by grind) (by decide)
              rw [show i - 1 + 1 = i by grind] at z
              exact z
            have e7 := en7 (i - 1).toNatClampNeg (by omega)
            rw [← s1] at e7
            have e8 := en6 (i - 1).toNatClampNeg (by omega)
            grind
        rw [bo]
        simp only [bP_some]
        rw [gd_pos vi, gd_pos vi, eg, e218]
        generalize hy : rdI hc (rf (rdP hc 22 3) 4) i.toNatClampNeg = y at e6 hxy ⊢
        have ptg : ∀ a, x ≤ a → a ≤ y → PT g 34 a := fun a a1 a2 => ⟨by grind, by rw [mg]; grind⟩
        obtain ⟨u, v, eu, ev, huv⟩ := L_some k ax x0 hxy (by grind) ptg
        rw [eu, ev]
        simp only [bP_some]
        obtain ⟨g', m', eg', em', r1, r2⟩ := L_cont k ax x0 hxy (by grind) ptg huv
        rw [eg', em']
        simp only [bP_some]
        have ii : (i + 1).toNatClampNeg = i.toNatClampNeg + 1 := xI_succ (m := 20) h5 (by grind) (by decide)
        refine OK2_of rfl rfl ⟨⟨rfl, r1, ⟨fun o k ho => (r2.1 o k ho).trans (fr.1 o k ho), fun o k => (r2.2.1 o k).trans (fr.2.1 o k), r2.2.2.1.trans fr.2.2.1, r2.2.2.2.trans fr.2.2.2⟩, by show 0 ≤ i + 1; grind, by show i + 1 ≤ _; grind, by show 0 ≤ y + 1; grind, Or.inr ⟨by show 1 ≤ i + 1; grind, ?_⟩⟩, ?_⟩
        · show y + 1 = rdI hc (rf (rdP hc 22 3) 4) (i + 1 - 1).toNatClampNeg + 1
          rw [show i + 1 - 1 = i by grind, hy]
        · show (rdI hc (rdP hc 22 3) 5).toNatClampNeg - (i + 1).toNatClampNeg < (rdI hc (rdP hc 22 3) 5).toNatClampNeg - i.toNatClampNeg
          omega
    · intro g m r
      exact OK2_of rfl rfl r
theorem op_48 {P : hH → hH → Prop} {hc hm : hH} (h : Rm P hc hm) {c : Int32} (hcc : c = 48 ∨ c = 49) : OK2 (f_Ma_low c hc) (f_Mo_middle c hm) (Tr P) := by
  rcases hcc with rfl | rfl <;> unfold f_Ma_low f_Ma_moving f_Mo_middle <;> simp +decide only [lz, bP_some, bS_some, bT_inl, bT_inr, bJT_inl, bJT_inr, bE_inl, bE_inr, bET_t, bET_inl, bET_inr, cO_t, cO_f, cS_t, cS_f, bE_bS, bE_bP, bE_gd, bET_bT, bET_bS, bET_bP, bET_gd, bJT_bT, bJT_bS, bJT_bP, bJT_gd, bJT_bJT, bP_bS, bP_bP, bP_gd, bT_bT, bT_bS, bT_bP, bT_gd, bS_bS, bS_bP, bS_gd, reduceIte]
  · exact E_S (L_iup h (Or.inr ⟨rfl, rfl, rfl, rfl, rfl, rfl⟩))
  · exact E_S (L_iup h (Or.inl ⟨rfl, rfl, rfl, rfl, rfl, rfl⟩))
