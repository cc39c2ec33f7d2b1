/-! LAYER 3B: bytes that are pushed (codes 64, 65, 176 to 191) -/
theorem u1_T {hc hm : hH} (h : BY hc hm) {x : Int32} (h0 : 0 ≤ x) (h1 : x < rdI hc 5 1) : f_Mo_u1 x hm = some (rdI hc 6 x.toNatClampNeg &&& 255) := by
  obtain ⟨b1, b2, b3, b4⟩ := h
  unfold f_Mo_u1
  rw [b1, if_neg (Int32.not_lt.mpr h0), if_neg (Int32.not_le.mpr h1), gd_pos (vp_lt (n := 12000) (m := 12000) h0 (by grind) rfl), b4 _ ((xI_lt h0 b2).mpr h1)]
theorem pushM_93 {v x : Int32} {m : hH} : pushM v (wrI m 192 93 x) = wrI (pushM v m) 192 93 x := by
  unfold pushM
  simp only [rdI_wrI, rdP_wrI, rdL_wrI, Nat.reduceEqDiff, false_and, and_false, true_and, and_true, eq_self, reduceIte, ite_self]
  rw [wrI_comm (o := 192) (k := 93) (o' := 219) (by omega), wrI_comm (o := 192) (k := 93) (o' := 192) (k' := 56) (by omega), wrI_comm (o := 192) (k := 93) (o' := 192) (k' := 57) (by omega)]
theorem failM_93 {v x : Int32} {m : hH} : failM v (wrI m 192 93 x) = wrI (failM v m) 192 93 x := by
  unfold failM
  simp only [rdI_wrI, rdP_wrI, rdL_wrI, Nat.reduceEqDiff, false_and, and_false, true_and, and_true, eq_self, reduceIte, ite_self]
  rw [wrI_comm (o := 192) (k := 93) (o' := 192) (k' := 59) (by omega), wrI_comm (o := 192) (k := 93) (o' := 192) (k' := 60) (by omega)]
theorem push_93 {P : hH → hH → Prop} {hc hm : hH} {x : Int32} (h : Rm P hc (wrI hm 192 93 x)) (v : Int64) : OK2 (f_Ma_push v hc) (f_Mo_push v hm) (fun y z => TT (fun g => Rf P g (wrI z.2 192 93 x)) (fun q => Rm P q.2 (wrI z.2 192 93 x) ∧ q.2 = pushC v.toInt32 hc) y) := by
  have et : rdI hm 192 56 = rdI hc 22 15 := by have := h.s_top; rw [← this]; simp only [rdI_wrI, rdP_wrI, rdL_wrI, Nat.reduceEqDiff, false_and, and_false, true_and, and_true, eq_self, reduceIte, ite_self]
  have es : rdI hm 192 18 = rdI hc 4 14 := by have := h.s_stk; rw [← this]; simp only [rdI_wrI, rdP_wrI, rdL_wrI, Nat.reduceEqDiff, false_and, and_false, true_and, and_true, eq_self, reduceIte, ite_self]
  have ef : rdI hm 192 59 = 0 := by have := h.fail; rw [← this]; simp only [rdI_wrI, rdP_wrI, rdL_wrI, Nat.reduceEqDiff, false_and, and_false, true_and, and_true, eq_self, reduceIte, ite_self]
  have h2 := h.r_stk.2
  have h0 := h.r_top.1
  by_cases q : rdI hc 22 15 < rdI hc 4 14
  · have em : f_Mo_push v hm = some ((), pushM v.toInt32 hm) := by
      unfold f_Mo_push pushM
      rw [et, es, if_pos q, gd_pos (vp_lt (n := 256) (m := 256) h0 (by grind) rfl)]
      simp only [lz, bP_some, bS_some, bT_inl, bT_inr, bJT_inl, bJT_inr, bE_inl, bE_inr, bET_t, bET_inl, bET_inr, cO_t, cO_f, cS_t, cS_f, bE_bS, bE_bP, bE_gd, bET_bT, bET_bS, bET_bP, bET_gd, bJT_bT, bJT_bS, bJT_bP, bJT_gd, bJT_bJT, bP_bS, bP_bP, bP_gd, bT_bT, bT_bS, bT_bP, bT_gd, bS_bS, bS_bP, bS_gd, reduceIte]
      simp only [rdI_wrI, rdP_wrI, rdL_wrI, Nat.reduceEqDiff, false_and, and_false, true_and, and_true, eq_self, reduceIte, ite_self]
      rw [et]
    rw [f_Ma_push_T h.r_top.1 q h.r_stk.2, em]
    refine OK2_of rfl rfl ⟨?_, rfl⟩
    have k := h.push q v.toInt32
    rw [pushM_93] at k
    exact k
  · have em : f_Mo_push v hm = some ((), failM 2 hm) := by
      unfold f_Mo_push
      rw [et, es, if_neg q, f_Mo_fail_eq ef]
      rfl
    rw [f_Ma_push_F (Int32.not_lt.mp q), em]
    refine OK2_of rfl rfl ?_
    have k := h.fails (c := 2) (by decide)
    rw [failM_93] at k
    exact k
theorem pushC_o {v : Int32} {h : hH} {o k : Nat} (ho : o ≠ 43 ∧ ¬ (o = 22 ∧ k = 15) ∧ ¬ (o = 22 ∧ k = 6)) : rdI (pushC v h) o k = rdI h o k := by
  unfold pushC
  rw [rdI_wrI, if_neg ho.2.2, rdI_wrI, if_neg ho.2.1, rdI_o ho.1]
/-- the value that is pushed -/
def pbV (w from' k : Int32) (h : hH) : Int32 := if w = 0 then cbV (from' + k) h else Int16.toInt32 (Int32.toInt16 ((cbV (from' + 2 * k) h <<< ((8 : Int32) &&& 31)) ||| cbV (from' + 2 * k + 1) h))
theorem PB_93 {g m : hH} {x : Int32} (h : PB g (wrI m 192 93 x)) : PB g m := by
  unfold PB PO BY at h ⊢
  simp only [rdI_wrI, Nat.reduceEqDiff, false_and, and_false, true_and, and_true, eq_self, reduceIte, ite_self] at h
  exact h
def PbS (P : hH → hH → Prop) (hc : hH) (fr n i : Int32) (y : hH ⊕ ((Int32 × hH) ⊕ hH)) (z : (Int32 × hH) ⊕ hH) : Prop := match y, z with
  | .inr (.inl s'), .inl t' => (s'.1 = t'.1 ∧ Rm P s'.2 (wrI t'.2 192 93 fr) ∧ rdI s'.2 22 7 = rdI hc 22 7 ∧ szC s'.2 = szC hc ∧ 0 ≤ s'.1 ∧ s'.1 ≤ n) ∧ n.toNatClampNeg - s'.1.toNatClampNeg < n.toNatClampNeg - i.toNatClampNeg
  | .inl h, .inl t' => Rf P h (wrI t'.2 192 93 fr)
  | _, _ => False
theorem L_pushBytes {P : hH → hH → Prop} {hc hm : hH} {n w : Int32} (h : Rm P hc (wrI hm 192 93 (rdI hc 22 11))) (hn : 0 ≤ n ∧ n ≤ 255) (hw : w = 0 ∨ w = 1) : OK2 (f_Ma_pushBytes n w hc) (f_Mo_pushBytes n w (rdI hc 22 11) hm) (Tr P) := by
  have pb := PB_93 h.pb
  have hp := PO_vp h.po
  have sz : rdI hm 221 (rdI hc 22 7).toNatClampNeg = szC hc := pb.po.2.2.1
  have pr : rdI hm 192 92 = rdI hc 22 7 := pb.s_prog
  have sb := pb.szB
  have rp := h.r_pc
  have ef : rdI hm 192 59 = 0 := by have := h.fail; rw [← this]; simp only [rdI_wrI, rdP_wrI, rdL_wrI, Nat.reduceEqDiff, false_and, and_false, true_and, and_true, eq_self, reduceIte, ite_self]
  generalize hf : rdI hc 22 11 = from' at *
  have e1 : (if w = 0 then n else 2 * n) = (if w = 0 then (1 : Int32) else 2) * n := by
    rcases hw with rfl | rfl
    · rw [if_pos rfl, if_pos rfl]; grind
    · rw [if_neg (by decide), if_neg (by decide)]
  unfold f_Ma_pushBytes f_Mo_pushBytes
  simp only [lz, bP_some, bS_some, bT_inl, bT_inr, bJT_inl, bJT_inr, bE_inl, bE_inr, bET_t, bET_inl, bET_inr, cO_t, cO_f, cS_t, cS_f, bE_bS, bE_bP, bE_gd, bET_bT, bET_bS, bET_bP, bET_gd, bJT_bT, bJT_bS, bJT_bP, bJT_gd, bJT_bJT, bP_bS, bP_bP, bP_gd, bT_bT, bT_bS, bT_bP, bT_gd, bS_bS, bS_bP, bS_gd, reduceIte, hf, pr, gd_pos hp, sz, e1]
  change OK2 (bT (f_Ma_want (if szC hc < from' + _ then 0 else 1) 4 hc) _) _ _
  generalize hbn : from' + (if w = 0 then (1 : Int32) else 2) * n = bn
  by_cases q : bn ≤ szC hc
  · rw [if_pos q, if_neg (Int32.not_lt.mpr q), f_Ma_want_1]
    simp only [bT_inr]
    have rpc : 0 ≤ from' ∧ from' ≤ szC hc := rp
    have bnn : 0 ≤ bn := by rcases hw with rfl | rfl <;> simp +decide only [reduceIte] at hbn <;> grind
    refine OK2_bJTP (OK2_mono (OK2_whT (A := Int32 × hH) (A' := Int32 × hH) (B := hH) (B' := hH) (Φ := fun y z => TT (fun g => Rf P g (wrI z 192 93 from')) (fun g => Rm P g (wrI z 192 93 from') ∧ rdI g 22 7 = rdI hc 22 7 ∧ szC g = szC hc) y) (fun s t => s.1 = t.1 ∧ Rm P s.2 (wrI t.2 192 93 from') ∧ rdI s.2 22 7 = rdI hc 22 7 ∧ szC s.2 = szC hc ∧ 0 ≤ s.1 ∧ s.1 ≤ n) (fun s => n.toNatClampNeg - s.1.toNatClampNeg) ?_ (s := (0, hc)) (t := (0, hm)) ⟨rfl, h, rfl, rfl, by show (0 : Int32) ≤ 0; decide, hn.1⟩) ?_)
    · rintro ⟨i, g⟩ ⟨j, m⟩ ⟨h1, k, h3, h4, h5, h6⟩
      dsimp only at h1 k h3 h4 h5 h6
      subst h1
      dsimp only
      have kf : rdI m 192 59 = 0 := by have := k.fail; rw [← this]; simp only [rdI_wrI, rdP_wrI, rdL_wrI, Nat.reduceEqDiff, false_and, and_false, true_and, and_true, eq_self, reduceIte, ite_self]
      by_cases z : n ≤ i
      · rw [if_pos z, if_neg (fun w => w.1 z)]
        exact OK2_of rfl rfl ⟨k, h3, h4⟩
      · rw [if_neg z, if_pos (show ¬ n ≤ i ∧ rdI m 192 59 = 0 from ⟨z, kf⟩)]
        have pk := PB_93 k.pb
        have hpk := PO_vp k.po
        have prk : rdI m 192 92 = rdI g 22 7 := pk.s_prog
        have bgk : rdI m 220 (rdI g 22 7).toNatClampNeg = bgC g := pk.po.2.1
        obtain ⟨p1, p2, p3, p4, p5, p6, p7, p8⟩ := pk.po
        change 0 ≤ bgC g at p4
        change 0 ≤ szC g at p5
        change bgC g ≤ 12000 at p6
        change szC g ≤ 12000 at p7
        change bgC g + szC g ≤ rdI g 5 1 at p8
        have b3 := pk.bys.2.2.1
        have u1 : ∀ j, 0 ≤ j → j < szC g → f_Mo_u1 (bgC g + j) m = some (cbV j g) := fun j j0 j1 => u1_T pk.bys (by grind) (by grind)
        have fin : ∀ V, OK2 (bT (f_Ma_push V g) fun _ h4 => some (Sum.inr (Sum.inl (i + 1, h4)))) (bS (f_Mo_push V m) fun _ h1 => some (Sum.inl (i + 1, h1))) (PbS P hc from' n i) := by
          intro V
          obtain ⟨y, z', e, e', r⟩ := push_93 k V
          rw [e, e']
          rcases y with g' | g'
          · exact OK2_of rfl rfl r
          · obtain ⟨r1, r2⟩ := r
            have ii : (i + 1).toNatClampNeg = i.toNatClampNeg + 1 := xI_succ (m := 256) h5 (by grind) (by decide)
            have i2 := (xI_lt h5 hn.1).mpr (show i < n by grind)
            refine OK2_of rfl rfl ⟨⟨rfl, r1, ?_, ?_, by show 0 ≤ i + 1; grind, by show i + 1 ≤ n; grind⟩, by show n.toNatClampNeg - (i + 1).toNatClampNeg < _; omega⟩
            · show rdI g'.2 22 7 = _
              rw [r2, pushC_o (by decide)]; exact h3
            · show szC g'.2 = _
              unfold szC
              rw [r2, pushC_o (o := 42) ⟨by decide, fun w => absurd w.1 (by decide), fun w => absurd w.1 (by decide)⟩, pushC_o (by decide)]
              exact h4
        rcases hw with rfl | rfl
        · simp +decide only [reduceIte] at hbn
          have l1 : 0 ≤ from' + i := by grind
          have l2 : from' + i < szC g := by rw [h4]; grind
          have ea : bgC g + from' + 1 * i = bgC g + (from' + i) := by grind
          simp +decide only [byteAt_T pk l1 l2, prk, gd_pos hpk, bgk, ea, u1 _ l1 l2, lz, bP_some, bS_some, bT_inl, bT_inr, bJT_inl, bJT_inr, bE_inl, bE_inr, bET_t, bET_inl, bET_inr, cO_t, cO_f, cS_t, cS_f, bE_bS, bE_bP, bE_gd, bET_bT, bET_bS, bET_bP, bET_gd, bJT_bT, bJT_bS, bJT_bP, bJT_gd, bJT_bJT, bP_bS, bP_bP, bP_gd, bT_bT, bT_bS, bT_bP, bT_gd, bS_bS, bS_bP, bS_gd, reduceIte]
          obtain ⟨y, z', e, e', r⟩ := fin (cbV (from' + i) g).toInt64
          refine ⟨y, z', e, e', ?_⟩
          rcases y with g' | s | b <;> rcases z' with t | c
          · obtain ⟨tj, tm⟩ := t
            have r' : Rf P g' (wrI tm 192 93 from') := r
            have r2 := r'.pos
            have r3 : rdI (wrI tm 192 93 from') 192 59 = rdI tm 192 59 := by simp only [rdI_wrI, rdP_wrI, rdL_wrI, Nat.reduceEqDiff, false_and, and_false, true_and, and_true, eq_self, reduceIte, ite_self]
            rw [r3] at r2
            show OK (wh _ (tj, tm)) _
            rw [wh_eq]
            dsimp only
            rw [if_neg (fun w => by have := w.2; grind)]
            exact OK_some r'
          · exact absurd r id
          · exact r
          · exact absurd r id
          · exact absurd r id
          · exact absurd r id
        · simp +decide only [reduceIte] at hbn
          have l1 : 0 ≤ from' + 2 * i := by grind
          have l2 : from' + 2 * i < szC g := by rw [h4]; grind
          have l3 : 0 ≤ from' + 2 * i + 1 := by grind
          have l4 : from' + 2 * i + 1 < szC g := by rw [h4]; grind
          have ea : bgC g + from' + 2 * i = bgC g + (from' + 2 * i) := by grind
          have eb : bgC g + (from' + 2 * i) + 1 = bgC g + (from' + 2 * i + 1) := by grind
          unfold f_Ma_wordAt f_Mo_s2 f_Mo_u2
          simp +decide only [byteAt_T pk l1 l2, byteAt_T pk l3 l4, prk, gd_pos hpk, bgk, ea, eb, u1 _ l1 l2, u1 _ l3 l4, lz, bP_some, bS_some, bT_inl, bT_inr, bJT_inl, bJT_inr, bE_inl, bE_inr, bET_t, bET_inl, bET_inr, cO_t, cO_f, cS_t, cS_f, bE_bS, bE_bP, bE_gd, bET_bT, bET_bS, bET_bP, bET_gd, bJT_bT, bJT_bS, bJT_bP, bJT_gd, bJT_bJT, bP_bS, bP_bP, bP_gd, bT_bT, bT_bS, bT_bP, bT_gd, bS_bS, bS_bP, bS_gd, reduceIte]
          obtain ⟨y, z', e, e', r⟩ := fin (Int32.toInt64 (Int16.toInt32 (Int32.toInt16 ((cbV (from' + 2 * i) g <<< ((8 : Int32) &&& 31)) ||| cbV (from' + 2 * i + 1) g))))
          refine ⟨y, z', e, e', ?_⟩
          rcases y with g' | s | b <;> rcases z' with t | c
          · obtain ⟨tj, tm⟩ := t
            have r' : Rf P g' (wrI tm 192 93 from') := r
            have r2 := r'.pos
            have r3 : rdI (wrI tm 192 93 from') 192 59 = rdI tm 192 59 := by simp only [rdI_wrI, rdP_wrI, rdL_wrI, Nat.reduceEqDiff, false_and, and_false, true_and, and_true, eq_self, reduceIte, ite_self]
            rw [r3] at r2
            show OK (wh _ (tj, tm)) _
            rw [wh_eq]
            dsimp only
            rw [if_neg (fun w => by have := w.2; grind)]
            exact OK_some r'
          · exact absurd r id
          · exact r
          · exact absurd r id
          · exact absurd r id
          · exact absurd r id
    · intro y z hy
      rcases y with g | g
      · refine OK_some (Tr_f ?_)
        have r := Rf.mw (o := 192) (k := 93) hy bn rfl (by decide)
        rw [wrI_wrI] at r
        exact r
      · obtain ⟨k, k7, ks⟩ := hy
        refine OK2_of rfl rfl (Tr_m ?_)
        have r := k.set_pc (v := bn) ⟨bnn, by change bn ≤ szC g; rw [ks]; exact q⟩
        rw [wrI_wrI] at r
        exact r
  · rw [if_neg q, if_pos (Int32.not_le.mp q), f_Ma_want_0, f_Mo_fail_eq ef]
    refine OK2_of rfl rfl (Tr_f ?_)
    have r := (h.fails (c := 4) (by decide)).mw (o := 192) (k := 93) (rdI hm 192 93) rfl (by decide)
    rw [failM_93, wrI_wrI, wrI_id (by unfold failM; simp only [rdI_wrI, rdP_wrI, rdL_wrI, Nat.reduceEqDiff, false_and, and_false, true_and, and_true, eq_self, reduceIte, ite_self])] at r
    exact r
theorem op_176 {P : hH → hH → Prop} {hc hm : hH} (h : Rm P hc hm) {c : Int32} (h0 : 176 ≤ c) (h1 : c ≤ 191) : OK2 (f_Ma_pushBytes (if 184 ≤ c then c - 183 else c - 175) (if c < 184 then 0 else 1) hc) (f_Mo_pushBytes (if c < 184 then c - 175 else c - 183) (if c < 184 then 0 else 1) (rdI hm 192 93) hm) (Tr P) := by
  have k : Rm P hc (wrI hm 192 93 (rdI hc 22 11)) := by
    rw [wrI_id h.s_pc.symm]
    exact h
  rw [h.s_pc]
  by_cases q : c < 184
  · simp only [if_pos q, if_neg (Int32.not_le.mpr q)]
    exact L_pushBytes k (by constructor <;> grind) (Or.inl rfl)
  · simp only [if_neg q, if_pos (Int32.not_lt.mp q)]
    exact L_pushBytes k (by constructor <;> grind) (Or.inr rfl)
theorem op_64 {P : hH → hH → Prop} {hc hm : hH} (h : Rm P hc hm) {c : Int32} (hcc : c = 64 ∨ c = 65) : OK2 (f_Ma_middle c hc) (f_Mo_middle c hm) (Tr P) := by
  have pb := h.pb
  have hp := PO_vp h.po
  have rp := h.r_pc
  have sb := pb.szB
  change 0 ≤ rdI hc 22 11 ∧ rdI hc 22 11 ≤ szC hc at rp
  have sz : rdI hm 221 (rdI hc 22 7).toNatClampNeg = szC hc := pb.po.2.2.1
  by_cases q : rdI hc 22 11 < szC hc
  · have k : Rm P (wrI hc 22 11 (rdI hc 22 11 + 1)) (wrI hm 192 93 (rdI hc 22 11 + 1)) := h.set_pc (by constructor; grind; change _ ≤ szC hc; grind)
    have ep : rdI (wrI hc 22 11 (rdI hc 22 11 + 1)) 22 11 = rdI hc 22 11 + 1 := by simp only [rdI_wrI, rdP_wrI, rdL_wrI, Nat.reduceEqDiff, false_and, and_false, true_and, and_true, eq_self, reduceIte, ite_self]
    have c1 := and255 (rdI hc 6 (bgC hc + rdI hc 22 11).toNatClampNeg)
    change 0 ≤ cbV (rdI hc 22 11) hc ∧ cbV (rdI hc 22 11) hc ≤ 255 at c1
    have l0 := L_pushBytes (P := P) (hc := wrI hc 22 11 (rdI hc 22 11 + 1)) (hm := hm) (n := cbV (rdI hc 22 11) hc) (w := 0) (by rw [ep]; exact k) c1 (Or.inl rfl)
    have l1 := L_pushBytes (P := P) (hc := wrI hc 22 11 (rdI hc 22 11 + 1)) (hm := hm) (n := cbV (rdI hc 22 11) hc) (w := 1) (by rw [ep]; exact k) c1 (Or.inr rfl)
    rw [ep] at l0 l1
    rcases hcc with rfl | rfl <;> unfold f_Ma_middle f_Mo_middle <;> simp +decide only [byteAt_T pb rp.1 q, codeByte_T pb rp.1 q, h.s_prog, h.s_pc, gd_pos hp, sz, if_pos q, lz, bP_some, bS_some, bT_inl, bT_inr, bJT_inl, bJT_inr, bE_inl, bE_inr, bET_t, bET_inl, bET_inr, cO_t, cO_f, cS_t, cS_f, bE_bS, bE_bP, bE_gd, bET_bT, bET_bS, bET_bP, bET_gd, bJT_bT, bJT_bS, bJT_bP, bJT_gd, bJT_bJT, bP_bS, bP_bP, bP_gd, bT_bT, bT_bS, bT_bP, bT_gd, bS_bS, bS_bP, bS_gd, reduceIte]
    · exact E_T (hc := hc) (hm := hm) l0
    · exact E_T (hc := hc) (hm := hm) l1
  · rcases hcc with rfl | rfl <;> unfold f_Ma_middle f_Mo_middle <;> simp +decide only [byteAt_F pb (Int32.not_lt.mp q), h.s_prog, h.s_pc, gd_pos hp, sz, if_neg q, f_Mo_fail_eq h.fail, lz, bP_some, bS_some, bT_inl, bT_inr, bJT_inl, bJT_inr, bE_inl, bE_inr, bET_t, bET_inl, bET_inr, cO_t, cO_f, cS_t, cS_f, bE_bS, bE_bP, bE_gd, bET_bT, bET_bS, bET_bP, bET_gd, bJT_bT, bJT_bS, bJT_bP, bJT_gd, bJT_bJT, bP_bS, bP_bP, bP_gd, bT_bT, bT_bS, bT_bP, bT_gd, bS_bS, bS_bP, bS_gd, reduceIte] <;> exact OK2_of rfl rfl (Tr_f (h.fails (by decide)))
