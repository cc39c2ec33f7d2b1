/-! LAYER 4C: matrices of parts -/
def mtI (h : hH) (o b n : Nat) (v : Nat → Int32) : hH := ((fun a c => if a = o ∧ b ≤ c ∧ c < b + n then v (c - b) else h.1 a c), h.2)
theorem rdI_mtI {h : hH} {o b n : Nat} {v : Nat → Int32} {a c : Nat} : rdI (mtI h o b n v) a c = if a = o ∧ b ≤ c ∧ c < b + n then v (c - b) else rdI h a c := rfl
theorem mtI_0 {h : hH} {o b : Nat} {v : Nat → Int32} : mtI h o b 0 v = h := by
  unfold mtI
  refine Prod.ext ?_ rfl
  funext a c
  dsimp only
  rw [if_neg (by omega)]
theorem mtI_s {h : hH} {o b n k : Nat} {v : Nat → Int32} {w : Int32} (e : w = v n) (ek : k = b + n) : wrI (mtI h o b n v) o k w = mtI h o b (n + 1) v := by
  subst ek
  unfold mtI wrI up2
  refine Prod.ext ?_ rfl
  funext a c
  dsimp only
  by_cases q : a = o ∧ c = b + n
  · rw [if_pos q, if_pos ⟨q.1, by omega⟩, e]
    congr 1
    omega
  · rw [if_neg q]
    by_cases q2 : a = o ∧ b ≤ c ∧ c < b + n
    · rw [if_pos q2, if_pos ⟨q2.1, by omega⟩]
    · rw [if_neg q2, if_neg (by omega)]
def scl (fl : Int32) : Int32 := if (fl &&& (8 : Int32)) = 0 then (if (fl &&& (64 : Int32)) = 0 then (if (fl &&& (128 : Int32)) = 0 then (0 : Int32) else (4 : Int32)) else (2 : Int32)) else (1 : Int32)
theorem scl_c (fl : Int32) : scl fl = 0 ∨ scl fl = 1 ∨ scl fl = 2 ∨ scl fl = 4 := by
  unfold scl
  split
  · split
    · split
      · exact Or.inl rfl
      · exact Or.inr (Or.inr (Or.inr rfl))
    · exact Or.inr (Or.inr (Or.inl rfl))
  · exact Or.inr (Or.inl rfl)
/-- an entry of a matrix -/
def mV (n : Int32) (h : hH) (p j : Nat) : Int32 := if n = 0 then (if j = 0 ∨ j = 3 then 16384 else 0) else if n = 4 then s2N h (p + 2 * j) else if j = 0 then s2N h p else if j = 3 then s2N h (p + 2 * n.toNatClampNeg - 2) else 0
def CM (z : Nat) (g g' : hH) (p k n : Int32) : Prop := rdI g' z 16 = p + 2 * n ∧ (∀ j, j ≠ 16 → rdI g' z j = rdI g z j) ∧ (∀ o i, o ≠ z → o ≠ z + 9 → rdI g' o i = rdI g o i) ∧ (∀ i, i < 4 * k.toNatClampNeg → rdI g' (z + 9) i = rdI g (z + 9) i) ∧ (∀ j, j < 4 → rdI g' (z + 9) (4 * k.toNatClampNeg + j) = mV n g p.toNatClampNeg j)
theorem ltF {j : Nat} (h : j < 4) : j = 0 ∨ j = 1 ∨ j = 2 ∨ j = 3 := by omega
theorem C_mat {z : Nat} {g : hH} {p en k fl : Int32} (hz : isGl z) (hP : rdP g z 15 = 5) (e16 : rdI g z 16 = p) (e17 : rdI g z 17 = en) (e9 : rdI g z 9 = k) (hk : 0 ≤ k ∧ k < 8) (hp : 0 ≤ p ∧ p ≤ en) (hen : en ≤ 12000) : ∃ g', f_Gl_readMatrix z fl g = some (if p + 2 * scl fl ≤ en then 1 else 0, g') ∧ FrG z g g' ∧ (p + 2 * scl fl ≤ en → CM z g g' p k (scl fl)) := by
  obtain ⟨_, ⟨_, _, _, r14⟩, _, z10, z180, _, _⟩ := gl_rf hz
  have k64 : k < 64 := by grind
  obtain ⟨x0, x1, x2, x3⟩ := x4 hk.1 k64
  have v0 : vp_in (4 * k) 32 := vp_lt (n := 32) (m := 32) (by grind) (by grind) rfl
  have v1 : vp_in (4 * k + 1) 32 := vp_lt (n := 32) (m := 32) (by grind) (by grind) rfl
  have v2 : vp_in (4 * k + 2) 32 := vp_lt (n := 32) (m := 32) (by grind) (by grind) rfl
  have v3 : vp_in (4 * k + 3) 32 := vp_lt (n := 32) (m := 32) (by grind) (by grind) rfl
  unfold f_Gl_readMatrix
  simp only [lz]
  rw [show (if (fl &&& (8 : Int32)) = 0 then (if (fl &&& (64 : Int32)) = 0 then (if (fl &&& (128 : Int32)) = 0 then (0 : Int32) else (4 : Int32)) else (2 : Int32)) else (1 : Int32)) = scl fl from rfl]
  simp only [e9, gd_pos v0, gd_pos v1, gd_pos v2, gd_pos v3, r14, x0, x1, x2, x3]
  generalize hD : wrI (wrI (wrI (wrI g (z + 9) (4 * k.toNatClampNeg) 16384) (z + 9) (4 * k.toNatClampNeg + 1) 0) (z + 9) (4 * k.toNatClampNeg + 2) 0) (z + 9) (4 * k.toNatClampNeg + 3) 16384 = D
  have dO : ∀ o i, o ≠ z + 9 → rdI D o i = rdI g o i := fun o i ho => by rw [← hD, rdI_o ho, rdI_o ho, rdI_o ho, rdI_o ho]
  have dF : FrG z g D := by rw [← hD]; exact FrG_w (FrG_w (FrG_w (FrG_w FrG_rfl (by omega)) (by omega)) (by omega)) (by omega)
  have d16 : rdI D z 16 = p := (dO _ _ (by omega)).trans e16
  have d17 : rdI D z 17 = en := (dO _ _ (by omega)).trans e17
  have dP : rdP D z 15 = 5 := (dF.2.1 _ _).trans hP
  have dlo : ∀ i, i < 4 * k.toNatClampNeg → rdI D (z + 9) i = rdI g (z + 9) i := fun i hi => by
    rw [← hD, rdI_wrI, if_neg (by omega), rdI_wrI, if_neg (by omega), rdI_wrI, if_neg (by omega), rdI_wrI, if_neg (by omega)]
  have dm0 : rdI D (z + 9) (4 * k.toNatClampNeg) = 16384 := by
    rw [← hD, rdI_wrI, if_neg (by omega), rdI_wrI, if_neg (by omega), rdI_wrI, if_neg (by omega), rdI_wrI, if_pos ⟨rfl, rfl⟩]
  have dm1 : rdI D (z + 9) (4 * k.toNatClampNeg + 1) = 0 := by
    rw [← hD, rdI_wrI, if_neg (by omega), rdI_wrI, if_neg (by omega), rdI_wrI, if_pos ⟨rfl, rfl⟩]
  have dm2 : rdI D (z + 9) (4 * k.toNatClampNeg + 2) = 0 := by
    rw [← hD, rdI_wrI, if_neg (by omega), rdI_wrI, if_pos ⟨rfl, rfl⟩]
  have dm3 : rdI D (z + 9) (4 * k.toNatClampNeg + 3) = 16384 := by
    rw [← hD, rdI_wrI, if_pos ⟨rfl, rfl⟩]
  rw [has_eq d16 d17]
  simp only [bP_some]
  by_cases q : p + 2 * scl fl ≤ en
  · have q' : ¬ en - p < 2 * scl fl := by rcases scl_c fl with h | h | h | h <;> rw [h] at q ⊢ <;> grind
    rw [if_pos q, if_neg q']
    simp only [show ¬ ((1 : Int32) = 0) by decide, reduceIte]
    rcases scl_c fl with h | h | h | h <;> rw [h] at q ⊢
    · simp +decide only [reduceIte, bP_some, d16]
      refine ⟨_, rfl, FrG_w dF (by omega), fun _ => ⟨by rw [rdI_wrI, if_pos ⟨rfl, rfl⟩], fun j hj => by rw [rdI_wrI, if_neg (fun w => hj w.2)]; exact dO _ _ (by omega), fun o i h1 h2 => by rw [rdI_o h1]; exact dO o i h2, fun i hi => by rw [rdI_o (by omega)]; exact dlo i hi, ?_⟩⟩
      intro j hj
      rw [rdI_o (by omega)]
      rcases ltF hj with rfl | rfl | rfl | rfl
      · exact dm0
      · exact dm1
      · exact dm2
      · exact dm3
    · have es : ∀ (G : hH) (i : Nat), FrG z g G → s2N G i = s2N g i := fun G i f => s2N_fr z10 f i
      have e1 : p + 2 * 1 - 2 = p := by grind
      simp +decide only [reduceIte, dP, gd_pos isA1, d16, By_s2_eq hp.1 (show p + 1 < 12000 by grind) (show p < 12000 by grind), bP_some, gd_pos v0, gd_pos v3]
      have f5 := FrG_w (o := z + 9) (k := 4 * k.toNatClampNeg) (v := s2N D p.toNatClampNeg) dF (by omega)
      have c16 : rdI (wrI D (z + 9) (4 * k.toNatClampNeg) (s2N D p.toNatClampNeg)) z 16 = p := by rw [rdI_o (by omega)]; exact d16
      have cP : rdP (wrI D (z + 9) (4 * k.toNatClampNeg) (s2N D p.toNatClampNeg)) z 15 = 5 := dP
      rw [cP, gd_pos isA1, c16, e1, By_s2_eq hp.1 (show p + 1 < 12000 by grind) (show p < 12000 by grind)]
      simp only [bP_some]
      rw [es _ _ f5, es _ _ dF]
      have m16 : ∀ x y, rdI (wrI (wrI D (z + 9) (4 * k.toNatClampNeg) x) (z + 9) (4 * k.toNatClampNeg + 3) y) z 16 = p := fun x y => by rw [rdI_o (by omega), rdI_o (by omega)]; exact d16
      rw [m16]
      refine ⟨_, rfl, FrG_w (FrG_w (FrG_w dF (by omega)) (by omega)) (by omega), fun _ => ⟨by rw [rdI_wrI, if_pos ⟨rfl, rfl⟩], fun j hj => by rw [rdI_wrI, if_neg (fun w => hj w.2), rdI_o (by omega), rdI_o (by omega)]; exact dO _ _ (by omega), fun o i h1 h2 => by rw [rdI_o h1, rdI_o h2, rdI_o h2]; exact dO o i h2, fun i hi => by rw [rdI_o (by omega), rdI_wrI, if_neg (by omega), rdI_wrI, if_neg (by omega)]; exact dlo i hi, ?_⟩⟩
      intro j hj
      rw [rdI_o (by omega)]
      rcases ltF hj with rfl | rfl | rfl | rfl
      · rw [rdI_wrI, if_neg (by omega), rdI_wrI, if_pos ⟨rfl, rfl⟩]; rfl
      · rw [rdI_wrI, if_neg (by omega), rdI_wrI, if_neg (by omega)]; exact dm1
      · rw [rdI_wrI, if_neg (by omega), rdI_wrI, if_neg (by omega)]; exact dm2
      · rw [rdI_wrI, if_pos ⟨rfl, rfl⟩]
        show _ = s2N g (p.toNatClampNeg + 2 * 1 - 2)
        rw [show p.toNatClampNeg + 2 * 1 - 2 = p.toNatClampNeg by omega]
    · have es : ∀ (G : hH) (i : Nat), FrG z g G → s2N G i = s2N g i := fun G i f => s2N_fr z10 f i
      have e1 : p + 2 * 2 - 2 = p + 2 := by grind
      have e2 : (p + 2).toNatClampNeg = p.toNatClampNeg + 2 := by
        have a := xI_succ (m := 12000) hp.1 (by grind) (by decide)
        have b := xI_succ (x := p + 1) (m := 12001) (by grind) (by grind) (by decide)
        rw [show p + 1 + 1 = p + 2 by grind] at b
        omega
      simp +decide only [reduceIte, dP, gd_pos isA1, d16, By_s2_eq hp.1 (show p + 1 < 12000 by grind) (show p < 12000 by grind), bP_some, gd_pos v0, gd_pos v3]
      have f5 := FrG_w (o := z + 9) (k := 4 * k.toNatClampNeg) (v := s2N D p.toNatClampNeg) dF (by omega)
      have c16 : rdI (wrI D (z + 9) (4 * k.toNatClampNeg) (s2N D p.toNatClampNeg)) z 16 = p := by rw [rdI_o (by omega)]; exact d16
      have cP : rdP (wrI D (z + 9) (4 * k.toNatClampNeg) (s2N D p.toNatClampNeg)) z 15 = 5 := dP
      rw [cP, gd_pos isA1, c16, e1, By_s2_eq (p := p + 2) (by grind) (show p + 2 + 1 < 12000 by grind) (show p + 2 < 12000 by grind)]
      simp only [bP_some]
      rw [es _ _ f5, es _ _ dF, e2]
      have m16 : ∀ x y, rdI (wrI (wrI D (z + 9) (4 * k.toNatClampNeg) x) (z + 9) (4 * k.toNatClampNeg + 3) y) z 16 = p := fun x y => by rw [rdI_o (by omega), rdI_o (by omega)]; exact d16
      rw [m16]
      refine ⟨_, rfl, FrG_w (FrG_w (FrG_w dF (by omega)) (by omega)) (by omega), fun _ => ⟨by rw [rdI_wrI, if_pos ⟨rfl, rfl⟩], fun j hj => by rw [rdI_wrI, if_neg (fun w => hj w.2), rdI_o (by omega), rdI_o (by omega)]; exact dO _ _ (by omega), fun o i h1 h2 => by rw [rdI_o h1, rdI_o h2, rdI_o h2]; exact dO o i h2, fun i hi => by rw [rdI_o (by omega), rdI_wrI, if_neg (by omega), rdI_wrI, if_neg (by omega)]; exact dlo i hi, ?_⟩⟩
      intro j hj
      rw [rdI_o (by omega)]
      rcases ltF hj with rfl | rfl | rfl | rfl
      · rw [rdI_wrI, if_neg (by omega), rdI_wrI, if_pos ⟨rfl, rfl⟩]; rfl
      · rw [rdI_wrI, if_neg (by omega), rdI_wrI, if_neg (by omega)]; exact dm1
      · rw [rdI_wrI, if_neg (by omega), rdI_wrI, if_neg (by omega)]; exact dm2
      · rw [rdI_wrI, if_pos ⟨rfl, rfl⟩]
        show _ = s2N g (p.toNatClampNeg + 2 * 2 - 2)
        rw [show p.toNatClampNeg + 2 * 2 - 2 = p.toNatClampNeg + 2 by omega]
    · simp +decide only [reduceIte]
      rw [wh_fill (n := 4) (by decide) (r := mtI D (z + 9) (4 * k.toNatClampNeg) 4 (fun j => s2N g (p.toNatClampNeg + 2 * j))) (fun i => mtI D (z + 9) (4 * k.toNatClampNeg) i (fun j => s2N g (p.toNatClampNeg + 2 * j))) mtI_0 (by dsimp only; rw [if_pos (by decide)]; rfl) (by
        intro i i0 i1
        have eG : ∀ n o a, o ≠ z + 9 → rdI (mtI D (z + 9) (4 * k.toNatClampNeg) n (fun j => s2N g (p.toNatClampNeg + 2 * j))) o a = rdI g o a := fun n o a ho => by rw [rdI_mtI, if_neg (fun w => ho w.1)]; exact dO o a ho
        have fG : FrG z g (mtI D (z + 9) (4 * k.toNatClampNeg) i.toNatClampNeg (fun j => s2N g (p.toNatClampNeg + 2 * j))) := ⟨fun o a ho => eG _ o a (by omega), dF.2.1, dF.2.2⟩
        have vi : vp_in (4 * k + i) 32 := vp_lt (n := 32) (m := 32) (by grind) (by grind) rfl
        have xk : (4 * k + i).toNatClampNeg = 4 * k.toNatClampNeg + i.toNatClampNeg := by
          rw [← x0]
          exact xI_add (m := 12000) (by grind) (by grind) i0 (by grind) (by decide)
        have cP : rdP (mtI D (z + 9) (4 * k.toNatClampNeg) i.toNatClampNeg (fun j => s2N g (p.toNatClampNeg + 2 * j))) z 15 = 5 := dP
        dsimp only
        rw [if_neg (Int32.not_le.mpr i1), cP, gd_pos isA1, eG _ _ _ (by omega), e16, By_s2_eq (p := p + 2 * i) (by grind) (by grind) (by grind), s2N_fr z10 fG, xI_two hp.1 (by grind) i0 (by grind)]
        simp only [bP_some, gd_pos vi]
        rw [mtI_s rfl xk])]
      simp only [bP_some]
      have m16 : rdI (mtI D (z + 9) (4 * k.toNatClampNeg) 4 (fun j => s2N g (p.toNatClampNeg + 2 * j))) z 16 = p := by rw [rdI_mtI, if_neg (by omega)]; exact d16
      rw [m16]
      have fG : FrG z g (mtI D (z + 9) (4 * k.toNatClampNeg) 4 (fun j => s2N g (p.toNatClampNeg + 2 * j))) := ⟨fun o a ho => by rw [rdI_mtI, if_neg (by omega)]; exact dO o a (by omega), dF.2.1, dF.2.2⟩
      refine ⟨_, rfl, FrG_w fG (by omega), fun _ => ⟨by rw [rdI_wrI, if_pos ⟨rfl, rfl⟩], fun j hj => by rw [rdI_wrI, if_neg (fun w => hj w.2), rdI_mtI, if_neg (by omega)]; exact dO _ _ (by omega), fun o i h1 h2 => by rw [rdI_o h1, rdI_mtI, if_neg (fun w => h2 w.1)]; exact dO o i h2, fun i hi => by rw [rdI_o (by omega), rdI_mtI, if_neg (by omega)]; exact dlo i hi, ?_⟩⟩
      intro j hj
      rw [rdI_o (by omega), rdI_mtI, if_pos (by omega)]
      show s2N g (p.toNatClampNeg + 2 * (4 * k.toNatClampNeg + j - 4 * k.toNatClampNeg)) = s2N g (p.toNatClampNeg + 2 * j)
      rw [show 4 * k.toNatClampNeg + j - 4 * k.toNatClampNeg = j by omega]
  · have q' : en - p < 2 * scl fl := by rcases scl_c fl with h | h | h | h <;> rw [h] at q ⊢ <;> grind
    rw [if_neg q, if_pos q']
    simp only [reduceIte]
    exact ⟨_, rfl, dF, fun w => absurd w q⟩
