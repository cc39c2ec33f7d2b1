/-! LAYER 3BC: a glyph's program, on both sides -/
theorem Rq_work {d : Nat} {hc hm : hH} (hd : d < 6) (w : WK hc hm) (od : OD d hc hm) (ph : PH d hc hm) : Rq 1 (PFd d (wkD d hc) (hiD d hm)) (wkD d hc) (hiD d hm) := by
  obtain ⟨⟨fs, sz, e62, e58, e57⟩, e59⟩ := w
  obtain ⟨fb, fu, fz, ft, fst, ff, fo, fk, fc, fv, _, _⟩ := fs
  obtain ⟨s1, s2, s3, s4, s5, s6, s7, s8, s9, s10, s11, s12⟩ := sz
  obtain ⟨⟨o1, o2⟩, o3, o4, o5⟩ := od
  obtain ⟨p1, p2, p3, p4⟩ := ph
  obtain ⟨_, ⟨_, _, r2, r4, _, _⟩, _, _, _, io⟩ := od_rf hd
  have wne : wn d hc = rdI hc (70 + 17 * d) 3 := rfl
  have n0 : 0 ≤ wn d hc := o3.2.2.1
  have n1 : wn d hc ≤ 100 := o3.2.2.2.1
  have en : (wn d hc + 2).toNatClampNeg = (wn d hc).toNatClampNeg + 2 := by
    have : (wn d hc + 2).toNatClampNeg = (wn d hc).toNatClampNeg + (2 : Int32).toNatClampNeg := xI_add (m := 1000) n0 (by grind) (by decide) (by decide) (by decide)
    exact this
  have eN : rdI hm 236 d = wn d hc := o1
  have eP : rdP (wkD d hc) 22 3 = 70 + 17 * d := rfl
  have S : ∀ j, j < 9 → rdI (hiD d hm) 192 (80 + j) = rdI (wkD d hc) 33 j := fun j hj => by
    rw [hiD_s hj, wkD_s (by decide), stcp23_33 hj]
    by_cases q : j = 4
    · subst q
      rw [if_pos rfl, s5 4 (by decide)]
      rcases s6 with e | e <;> rw [e] <;> decide
    · rw [if_neg q]
      exact s5 j hj
  have c23 : rdI (wkD d hc) 23 1 = rdI hc 4 26 := by rw [wkD_s (by decide), stcp23_23.1]; exact s1.1
  have c23' : rdI (wkD d hc) 23 3 = rdI hc 4 11 := by rw [wkD_s (by decide), stcp23_23.2.1]; exact s1.2.1
  have c26 : rdI (wkD d hc) 26 6 = rdI hc 4 10 := by rw [wkD_s (by decide), stcp23_23.2.2]; exact s1.2.2
  have c34 : rdI (wkD d hc) 34 6 = wn d hc + 2 := wkD_34
  have G : ∀ i, i < (rdI (wkD d hc) 34 6).toNatClampNeg → rdI (hiD d hm) 212 (102 + i) = rdI (wkD d hc) 35 i ∧ rdI (hiD d hm) 213 (102 + i) = rdI (wkD d hc) 36 i ∧ rdI (hiD d hm) 214 (102 + i) = rdI (wkD d hc) 37 i ∧ rdI (hiD d hm) 215 (102 + i) = rdI (wkD d hc) 38 i ∧ T4 (rdI (wkD d hc) 39 i) (rdI (wkD d hc) 40 i) (rdI (hiD d hm) 216 (102 + i)) := fun i hi => by
    rw [c34] at hi
    obtain ⟨t1, t2⟩ := wkD_t hi
    rw [en] at hi
    obtain ⟨g1, g2, g3, g4, _, g6⟩ := hiD_g (d := d) (h := hm) (i := i) (by rw [eN]; exact hi)
    rw [t1, t2, g4, g1, g2, g3]
    refine ⟨?_, ?_, ?_, ?_, Or.inl ⟨rfl, rfl, rfl⟩⟩
    all_goals by_cases q : i < (wn d hc).toNatClampNeg
    · obtain ⟨x1, x2, _, _⟩ := o4 i q
      rw [(wkD_g q).1]; unfold hun; rw [eN, if_pos q]; exact x1
    · have qi : i = (wn d hc).toNatClampNeg + (i - (wn d hc).toNatClampNeg) := by omega
      have k2 : i - (wn d hc).toNatClampNeg = 0 ∨ i - (wn d hc).toNatClampNeg = 1 := by omega
      unfold hun
      rw [eN, if_neg q, show rdI (wkD d hc) 35 i = _ from congrArg (rdI (wkD d hc) 35) qi, (wkD_p (by omega)).1]
      rcases k2 with e | e <;> rw [e]
      · exact p1
      · exact p3
    · obtain ⟨x1, x2, _, _⟩ := o4 i q
      rw [(wkD_g q).2.1]; unfold hvn; rw [eN, if_pos q]; exact x2
    · have qi : i = (wn d hc).toNatClampNeg + (i - (wn d hc).toNatClampNeg) := by omega
      have k2 : i - (wn d hc).toNatClampNeg = 0 ∨ i - (wn d hc).toNatClampNeg = 1 := by omega
      unfold hvn
      rw [eN, if_neg q, show rdI (wkD d hc) 36 i = _ from congrArg (rdI (wkD d hc) 36) qi, (wkD_p (by omega)).2.1]
      rcases k2 with e | e <;> rw [e]
      · exact p2
      · exact p4
    · obtain ⟨x1, x2, _, _⟩ := o4 i q
      rw [g6 (by rw [eN]; exact q), (wkD_g q).2.2.1]; unfold hun; rw [eN, if_pos q]; exact x1
    · have qi : i = (wn d hc).toNatClampNeg + (i - (wn d hc).toNatClampNeg) := by omega
      have k2 : i - (wn d hc).toNatClampNeg = 0 ∨ i - (wn d hc).toNatClampNeg = 1 := by omega
      rw [show rdI (wkD d hc) 37 i = _ from congrArg (rdI (wkD d hc) 37) qi, (wkD_p (by omega)).2.2.1]
      obtain ⟨u1, u2⟩ := hiD_p (d := d) (h := hm)
      rw [eN] at u1 u2
      rcases k2 with e | e <;> rw [e]
      · rw [show 102 + i = 102 + (wn d hc).toNatClampNeg by omega, u1, p1]
      · rw [show 102 + i = 103 + (wn d hc).toNatClampNeg by omega, u2, p3]
    · obtain ⟨x1, x2, _, _⟩ := o4 i q
      rw [(wkD_g q).2.2.2]; unfold hvn; rw [eN, if_pos q]; exact x2
    · have qi : i = (wn d hc).toNatClampNeg + (i - (wn d hc).toNatClampNeg) := by omega
      have k2 : i - (wn d hc).toNatClampNeg = 0 ∨ i - (wn d hc).toNatClampNeg = 1 := by omega
      unfold hvn
      rw [eN, if_neg q, show rdI (wkD d hc) 38 i = _ from congrArg (rdI (wkD d hc) 38) qi, (wkD_p (by omega)).2.2.2]
      rcases k2 with e | e <;> rw [e]
      · exact p2
      · exact p4
  have Z : ∀ i, i < (rdI (wkD d hc) 26 6).toNatClampNeg → rdI (hiD d hm) 212 i = rdI (wkD d hc) 27 i ∧ rdI (hiD d hm) 213 i = rdI (wkD d hc) 28 i ∧ rdI (hiD d hm) 214 i = rdI (wkD d hc) 29 i ∧ rdI (hiD d hm) 215 i = rdI (wkD d hc) 30 i ∧ T4 (rdI (wkD d hc) 31 i) (rdI (wkD d hc) 32 i) (rdI (hiD d hm) 216 i) := fun i hi => by
    rw [c26] at hi
    have l := xI_le (n := 64) ft.2.2 rfl
    obtain ⟨a1, a2, a3, a4, a5⟩ := s4 i hi
    obtain ⟨_, b2, b3, b4, b5, b6⟩ := hiD_211 (d := d) (h := hm) (i := i) (by omega)
    obtain ⟨c1, c2, c3, c4, c5, c6⟩ := stcp23_z (g := hc) (i := i) (by rw [s1.2.2]; exact hi)
    obtain ⟨t1, t2⟩ := T4_and a5
    rw [wkD_s (by decide), wkD_s (by decide), wkD_s (by decide), wkD_s (by decide), wkD_s (by decide), wkD_s (by decide), c1, c2, c3, c4, c5, c6, b2, b3, b4, b5, b6, t1, t2]
    exact ⟨a3, a4, a1, a2, a5⟩
  refine Rq.mk ?_ ?_ ?_ ?_ ?_ ?_ ?_ ?_ ?_ ?_ ?_ ?_ ?_ ?_ ?_ ?_ ?_ ?_ ?_ ?_ ?_ ?_ ?_ ?_ ?_ ?_ ?_ ?_ ?_ ?_ ?_ ?_ ?_ ?_ ?_ ?_ ?_ ?_ ?_ ?_ ?_ ?_ ?_ ?_ ?_ ?_ ?_ ?_ ?_ ?_ ?_ ?_ ?_ ?_
  · exact PFd_cl
  · exact PFd_rfl eP hd
  · rw [hiD_192 (by decide) (by decide) (by decide), wkD_o (by decide)]; exact e62
  · rw [hiD_192 (by decide) (by decide) (by decide), wkD_o (by decide)]; exact e58.1
  · rw [hiD_192 (by decide) (by decide) (by decide), wkD_o (by decide)]; exact e57.1
  · rw [hiD_192 (by decide) (by decide) (by decide), wkD_o (by decide)]; exact s10
  · exact S 0 (by decide)
  · exact S 1 (by decide)
  · exact S 2 (by decide)
  · exact S 3 (by decide)
  · exact S 4 (by decide)
  · exact S 5 (by decide)
  · exact S 6 (by decide)
  · exact S 7 (by decide)
  · exact S 8 (by decide)
  · rw [hiD_192 (by decide) (by decide) (by decide), wkD_o (by decide)]; exact fu.1
  · rw [hiD_192 (by decide) (by decide) (by decide), wkD_o (by decide)]; exact fz
  · rw [hiD_192 (by decide) (by decide) (by decide), wkD_o (by decide)]; exact ff.1
  · rw [hiD_192 (by decide) (by decide) (by decide), wkD_o (by decide)]; exact fo.1
  · rw [hiD_192 (by decide) (by decide) (by decide), wkD_o (by decide)]; exact fk.1
  · rw [hiD_192 (by decide) (by decide) (by decide), c23]; exact fc.1
  · rw [hiD_192 (by decide) (by decide) (by decide), c23']; exact fst.1
  · rw [hiD_192 (by decide) (by decide) (by decide), c26]; exact ft.1
  · rw [hiD_52.1, c34, eN]
  · rw [hiD_192 (by decide) (by decide) (by decide)]; exact e59
  · rw [wkD_o (by decide)]; exact fk.2
  · rw [wkD_s (by decide), stcp23_33 (by decide)]; exact s7
  · rw [wkD_o (by decide)]; exact fu.2
  · rw [wkD_o (by decide)]; exact ff.2
  · rw [wkD_o (by decide)]; exact fo.2
  · rw [c23]; exact fc.2
  · rw [c23']; exact fst.2
  · rw [c26]; exact ft.2
  · rw [c34]; exact ⟨by grind, by grind⟩
  · rw [wkD_o (by decide)]; exact s12
  · rw [wkD_o (by decide)]; exact e58.2
  · rw [wkD_s (by decide), stcp23_33 (by decide)]; exact s6
  · intro i hi
    rw [c23] at hi
    have l := xI_le (n := 256) fc.2.2 rfl
    rw [hiD_210 (by omega), wkD_s (by decide), stcp23_24 (by rw [s1.1]; exact hi)]
    exact s2 i hi
  · intro i hi
    rw [c23'] at hi
    have l := xI_le (n := 64) fst.2.2 rfl
    rw [(hiD_211 (by omega)).1, wkD_s (by decide), stcp23_25 (by rw [s1.2.1]; exact hi)]
    exact s3 i hi
  · exact fun i hi => (Z i hi).1
  · exact fun i hi => (Z i hi).2.1
  · exact fun i hi => (Z i hi).2.2.1
  · exact fun i hi => (Z i hi).2.2.2.1
  · exact fun i hi => (Z i hi).2.2.2.2
  · exact fun i hi => (G i hi).1
  · exact fun i hi => (G i hi).2.1
  · exact fun i hi => (G i hi).2.2.1
  · exact fun i hi => (G i hi).2.2.2.1
  · exact fun i hi => (G i hi).2.2.2.2
  · refine ⟨?_, ?_, ?_, ?_⟩
    · rw [hiD_192 (by decide) (by decide) (by decide), wkD_o (by decide)]; exact fb.1
    · rw [wkD_o (by decide)]; exact fb.2.1
    · rw [wkD_o (by decide)]; exact fb.2.2.1
    · intro i hi
      rw [wkD_o (by decide)] at hi
      rw [hiD_o (by decide) (by decide), wkD_o (by decide)]; exact fb.2.2.2 i hi
  · refine Or.inr ?_
    rw [eP]
    unfold OLo
    rw [r4, r2, c34]
    refine ⟨io, ?_, ?_, ?_, ?_, ?_⟩
    · rw [hiD_52.2, wkD_o (by omega)]; exact o2
    · rw [wkD_o (by omega), wkD_o (by omega)]
      have ef : (fun c => rdI (wkD d hc) (74 + 17 * d) c) = (fun c => rdI hc (74 + 17 * d) c) := funext fun c => wkD_o (by omega)
      rw [ef]
      exact o3
    · intro c hc'
      rw [wkD_o (by omega)] at hc'
      rw [hiD_218 (by rw [o2]; exact hc'), wkD_o (by omega)]
      exact o5 c hc'
    · rw [wkD_o (by omega)]; rfl
    · intro i hi
      rw [wkD_o (by omega)] at hi
      obtain ⟨_, _, x3, x4⟩ := o4 i hi
      rw [(hiD_g (d := d) (h := hm) (i := i) (by rw [o1]; omega)).2.2.2.2.1, wkD_o (by omega)]
      refine ⟨?_, x4⟩
      unfold hwn
      rw [o1, if_pos hi, x3]
      rcases x4 with e | e <;> rw [e] <;> decide
  · rw [wkD_o (by decide)]; exact e57.2
  · exact FT_tr (fun o k ho => wkD_o (by omega)) (fun o k ho => hiD_o (by omega) (by omega)) s8
  · exact OW_tr (fun o k ho => wkD_o (by omega)) (wkD_o (by decide)) (fun o k ho => hiD_o (by omega) (by omega)) s9
theorem wkD_fr {d : Nat} {h : hH} : FrC d h (wkD d h) := by
  refine ⟨fun o k w => wkD_o (by unfold fC at w; omega), fun o k => rfl, fun o k a _ => ?_⟩
  have e : rdP (wkD d h) o k = if o = 22 ∧ k = 3 then 70 + 17 * d else rdP h o k := rfl
  rw [e, if_neg a]
theorem hiD_fr {d : Nat} {h : hH} : FrM d h (hiD d h) := by
  refine ⟨fun o k w => ?_, fun o k => rfl, fun o k => rfl⟩
  obtain ⟨w1, w2, w3, w4, _⟩ := w
  obtain ⟨a, b, c⟩ := mW_w w1
  by_cases q : o = 192
  · subst q
    exact hiD_192 (by omega) (by omega) (by omega)
  · exact hiD_o q (by omega)
theorem cW_f {o : Nat} (h : o < 22 ∨ 55 < o) : cW o = false := by
  cases e : cW o
  · rfl
  · exfalso
    unfold cW at e
    simp only [Bool.or_eq_true, beq_iff_eq, Bool.and_eq_true, decide_eq_true_eq] at e
    omega
theorem PFd_fr {d : Nat} {c0 m0 c m : hH} (h : PFd d c0 m0 c m) : FrC d c0 c ∧ FrM d m0 m := by
  refine ⟨⟨fun o k w => ?_, h.2.2.1, fun o k _ _ => h.2.2.2.1 o k⟩, ⟨fun o k w => h.2.2.2.2.1 o k w.1, h.2.2.2.2.2.1, h.2.2.2.2.2.2.1⟩⟩
  unfold fC at w
  by_cases q : o = 22 ∧ k = 4
  · rw [q.1, q.2]
    exact h.2.1
  · have hd := h.2.2.2.2.2.2.2.2
    exact h.1 o k (cW_f (by omega)) (by omega)
theorem wkF_o {d o k : Nat} {g : hH} (h1 : o ≠ 71 + 17 * d) (h2 : o ≠ 72 + 17 * d) (h3 : o ≠ 75 + 17 * d) (h4 : o ≠ 76 + 17 * d) : rdI (wkF d g) o k = rdI g o k := by
  unfold wkF wkE
  rw [mt2_o h3 h4, mt2_o h1 h2]
theorem wkF_fr {d : Nat} {g : hH} (hd : d < 6) : FrC d g (wkF d g) := by
  refine ⟨fun o k w => ?_, fun o k => rfl, fun o k _ _ => rfl⟩
  unfold fC at w
  exact wkF_o (by omega) (by omega) (by omega) (by omega)
theorem hiZ_o {d o k : Nat} {n : Int32} {g : hH} (ho : o < 238 ∨ 242 < o) (h2 : ¬ (o = 192 ∧ (k = 52 ∨ k = 53 ∨ k = 126 ∨ k = 127))) : rdI (hiZ d n g) o k = rdI g o k := by
  unfold hiZ
  rw [rdI_wrI, if_neg (by omega), rdI_wrI, if_neg (by omega)]
  unfold hiH
  split
  · rw [rdI_wrI, if_neg (by omega), rdI_wrI, if_neg (by omega), hiG_o ho]
  · rw [hiG_o ho]
theorem hiZ_G {d o k : Nat} {n : Int32} {g : hH} (ho : o ≠ 192) : rdI (hiZ d n g) o k = rdI (hiG d n g) o k := by
  unfold hiZ
  rw [rdI_o ho, rdI_o ho]
  unfold hiH
  split
  · rw [rdI_o ho, rdI_o ho]
  · rfl
theorem hiZ_L {d : Nat} {n : Int32} {g : hH} : (∀ o k, rdL (hiZ d n g) o k = rdL g o k) ∧ (∀ o k, rdP (hiZ d n g) o k = rdP g o k) := by
  unfold hiZ hiH
  split <;> exact ⟨fun o k => rfl, fun o k => rfl⟩
theorem hiZ_fr {d : Nat} {n : Int32} {g : hH} : FrM d g (hiZ d n g) := by
  refine ⟨fun o k w => ?_, hiZ_L.1, hiZ_L.2⟩
  obtain ⟨_, w2, _, _, _, w6, w7, w8⟩ := w
  by_cases q : o < 238 ∨ 242 < o
  · exact hiZ_o q (by omega)
  · rw [hiZ_G (by omega)]
    unfold hiG hiF mt3
    rw [rdI_mtI, if_neg (by omega), rdI_mtI, if_neg (by omega), rdI_mtI, if_neg (by omega), rdI_mtI, if_neg (by omega)]
theorem L_work {d : Nat} {x : Int32} {hc hm : hH} (x0 : 0 ≤ x ∧ x ≤ 5) (hx : x.toNatClampNeg = d) (hd : d < 6) (w : WK hc hm) (od : OD d hc hm) (ph : PH d hc hm) (e31 : rdI hm 192 31 = rdI hc (77 + 17 * d) 7) (e32 : rdI hm 192 32 = rdI hc (77 + 17 * d) 8) (hB : 0 ≤ rdI hc (77 + 17 * d) 7 ∧ rdI hc (77 + 17 * d) 7 ≤ 12000) (hS : 0 ≤ rdI hc (77 + 17 * d) 8 ∧ rdI hc (77 + 17 * d) 8 ≤ 12000) (hBS : rdI hc (77 + 17 * d) 7 + rdI hc (77 + 17 * d) 8 ≤ rdI hc 5 1) : ∃ y m, f_Mk_work (77 + 17 * d) (70 + 17 * d) hc = some y ∧ f_Mo_hint x hm = some ((), m) ∧ FrM d hm m ∧ TT (fun g => FX g m ∧ FrC d hc g) (fun q => WK q.2 m ∧ OD d q.2 m ∧ PH d q.2 m ∧ FrC d hc q.2 ∧ (d = 0 → rdI m 192 126 = rdI q.2 33 7 ∧ rdI m 192 127 = rdI q.2 33 8) ∧ (∀ k, rdI q.2 56 k = rdI hc 56 k) ∧ rdI m 192 125 = rdI hm 192 125) y := by
  have rq := Rq_work hd w od ph
  obtain ⟨⟨fs, sz, e62, e58, e57⟩, e59⟩ := w
  obtain ⟨fb, fu, fz, ft, fst, ff, fo, fk, fc, fv, _, _⟩ := fs
  have sz' := sz
  obtain ⟨s1, s2, s3, s4, s5, s6, s7, s8, s9, s10, s11, s12⟩ := sz'
  obtain ⟨⟨o1, o2⟩, o3, o4, o5⟩ := od
  have n0 : 0 ≤ wn d hc ∧ wn d hc ≤ 100 := ⟨o3.2.2.1, o3.2.2.2.1⟩
  have en : (wn d hc + 2).toNatClampNeg = (wn d hc).toNatClampNeg + 2 := by
    have : (wn d hc + 2).toNatClampNeg = (wn d hc).toNatClampNeg + (2 : Int32).toNatClampNeg := xI_add (m := 1000) n0.1 (by grind) (by decide) (by decide) (by decide)
    exact this
  have eN : rdI hm 236 d = wn d hc := o1
  rw [Mk_work_eq hd n0 (by rw [s1.1]; exact fc.2) (by rw [s1.2.1]; exact fst.2) (by rw [s1.2.2]; exact ft.2) s6]
  rw [Mo_hint_eq x0 (by rw [hx, eN]; exact n0) (by rw [hx, o2]; exact ⟨o3.1, o3.2.1⟩), hx, eN]
  have r2 : Rq 1 (PFd d (wkD d hc) (hiD d hm)) (wkD d hc) (wrI (wrI (hiD d hm) 220 2 (rdI hm 192 31)) 221 2 (rdI hm 192 32)) := rq.m_prog (x := 2) (rdI hm 192 31) (rdI hm 192 32) (by decide) (by decide)
  have c5 : rdI (wkD d hc) 5 1 = rdI hc 5 1 := wkD_o (by decide)
  obtain ⟨y, z, ey, ez, r⟩ := L_run PFd_5 PFd_8 r2 (x := 2) (by decide) (Or.inr (Or.inr rfl)) hB hS (by rw [c5]; exact hBS) (by
    show rdI (wrI (wrI (hiD d hm) 220 2 (rdI hm 192 31)) 221 2 (rdI hm 192 32)) 220 2 = _
    rw [rdI_o (by decide), rdI_wrI, if_pos ⟨rfl, rfl⟩]; exact e31) (by
    show rdI (wrI (wrI (hiD d hm) 220 2 (rdI hm 192 31)) 221 2 (rdI hm 192 32)) 221 2 = _
    rw [rdI_wrI, if_pos ⟨rfl, rfl⟩]; exact e32)
  have eE : hiE d hm = wrI (wrI (hiD d hm) 220 2 (rdI hm 192 31)) 221 2 (rdI hm 192 32) := rfl
  rw [eE, ey, ez, bS_some, hiK_eq x0 n0, hx]
  rcases y with g | ⟨u, g⟩
  · rw [bT_inl]
    obtain ⟨rf, r8⟩ := r
    have pf := rf.out
    obtain ⟨f1, f2⟩ := PFd_fr pf
    have fc0 : FrC d hc g := FrC_t wkD_fr f1
    have fm0 : FrM d hm (hiZ d (wn d hc) z.2) := FrM_t (FrM_t hiD_fr f2) hiZ_fr
    refine ⟨_, _, rfl, rfl, fm0, ⟨⟨?_, ?_, ?_, ?_, ?_⟩, ?_, ?_, ?_, ?_⟩, fc0⟩
    · exact FS_tr (fun k => fc0.1 4 k (by unfold fC; omega)) (fun k => fc0.1 5 k (by unfold fC; omega)) (fun k => fc0.1 6 k (by unfold fC; omega)) (fun k hk => fm0.1 192 k ⟨by unfold mW; simp; omega, by omega⟩) (fun k => fm0.1 194 k ⟨rfl, by omega⟩) (fun k => fm0.1 195 k ⟨rfl, by omega⟩) fm0.2.1 ⟨fb, fu, fz, ft, fst, ff, fo, fk, fc, fv, by assumption, by assumption⟩
    · have tb := rf.tb r8
      have Zo : ∀ o k, 219 ≤ o ∧ o ≤ 235 → rdI (hiZ d (wn d hc) z.2) o k = rdI z.2 o k := fun o k ho => hiZ_o (by omega) (by omega)
      refine SZ_tr (fun k => fc0.1 4 k (by unfold fC; omega)) (fun k => fc0.1 5 k (by unfold fC; omega)) (fun o k a b => fc0.1 o k (by unfold fC; omega)) (fc0.1 1 6 (by unfold fC; omega)) (fc0.1 22 4 (by unfold fC; omega)) (fun o k a b => fm0.1 o k ⟨by unfold mW; simp; omega, by omega⟩) ?_ ?_ ?_ sz
      · exact FT_tr (fun _ _ _ => rfl) (fun o k ho => Zo o k (by omega)) tb.2.1
      · exact OW_tr (fun _ _ _ => rfl) rfl (fun o k ho => Zo o k (by omega)) tb.2.2
      · rw [hiZ_o (by omega) (by omega)]; exact tb.1
    · rw [fm0.1 192 62 ⟨rfl, by omega⟩, fc0.1 22 4 (by unfold fC; omega)]; exact e62
    · rw [hiZ_o (by omega) (by omega)]; exact ⟨rf.s_steps, rf.r_steps⟩
    · rw [hiZ_o (by omega) (by omega)]; exact ⟨rf.s_high, rf.r_high⟩
    · rw [hiZ_o (by omega) (by omega)]; exact rf.pos
    · rw [hiZ_o (by omega) (by omega)]; exact rf.s_stop
    · rw [hiZ_o (by omega) (by omega)]; exact rf.s_at
    · rw [hiZ_o (by omega) (by omega)]; exact rf.bnd
  · obtain ⟨rr, _⟩ := r
    have rr' : Rq 2 (PFd d (wkD d hc) (hiD d hm)) g z.2 := rr
    have pf := rr'.out
    obtain ⟨f1, f2⟩ := PFd_fr pf
    have g3 : wn d g = wn d hc := by
      have : rdI g (70 + 17 * d) 3 = rdI (wkD d hc) (70 + 17 * d) 3 := pf.1 _ _ (cW_f (by omega)) (by omega)
      exact this.trans (wkD_o (by omega))
    have g5 : rdI g (70 + 17 * d) 5 = rdI hc (70 + 17 * d) 5 := (pf.1 _ _ (cW_f (by omega)) (by omega)).trans (wkD_o (by omega))
    have g74 : ∀ c, rdI g (74 + 17 * d) c = rdI hc (74 + 17 * d) c := fun c => (pf.1 _ _ (cW_f (by omega)) (by omega)).trans (wkD_o (by omega))
    have g34 : rdI g 34 6 = wn d hc + 2 := (pf.1 34 6 rfl (by omega)).trans wkD_34
    rw [bT_inr, wkK_eq hd (by rw [g3]; exact n0)]
    have fc0 : FrC d hc (wkF d g) := FrC_t (FrC_t wkD_fr f1) (wkF_fr hd)
    have fm0 : FrM d hm (hiZ d (wn d hc) z.2) := FrM_t (FrM_t hiD_fr f2) hiZ_fr
    have Fo : ∀ o k, o < 71 → rdI (wkF d g) o k = rdI g o k := fun o k ho => wkF_o (by omega) (by omega) (by omega) (by omega)
    have Zo : ∀ o k, 219 ≤ o ∧ o ≤ 235 → rdI (hiZ d (wn d hc) z.2) o k = rdI z.2 o k := fun o k ho => hiZ_o (by omega) (by omega)
    have gl : ∀ i, i < (wn d hc).toNatClampNeg + 2 → rdI z.2 214 (102 + i) = rdI g 37 i ∧ rdI z.2 215 (102 + i) = rdI g 38 i := fun i hi => by
      have hi' : i < (rdI g 34 6).toNatClampNeg := by rw [g34, en]; exact hi
      exact ⟨rr'.z_gl_x i hi', rr'.z_gl_y i hi'⟩
    have ol : OLo g z.2 (70 + 17 * d) := by
      have eP : rdP g 22 3 = 70 + 17 * d := pf.2.2.2.1 22 3
      rcases rr'.ol with ⟨a, _, _⟩ | a
      · rw [eP] at a
        omega
      · rw [eP] at a
        exact a
    obtain ⟨_, ⟨_, _, q2, q4, _, _⟩, _, _, _, _⟩ := od_rf hd
    have F3 : rdI (wkF d g) (70 + 17 * d) 3 = wn d hc := (wkF_o (by omega) (by omega) (by omega) (by omega)).trans g3
    have F5 : rdI (wkF d g) (70 + 17 * d) 5 = rdI hc (70 + 17 * d) 5 := (wkF_o (by omega) (by omega) (by omega) (by omega)).trans g5
    have F74 : ∀ c, rdI (wkF d g) (74 + 17 * d) c = rdI hc (74 + 17 * d) c := fun c => (wkF_o (by omega) (by omega) (by omega) (by omega)).trans (g74 c)
    have Mk : ∀ o k, o = 236 ∨ o = 237 → rdI (hiZ d (wn d hc) z.2) o k = rdI hm o k := fun o k ho => by
      rw [hiZ_o (by omega) (by omega)]
      rcases ho with rfl | rfl
      · exact (pf.2.2.2.2.1 236 k rfl).trans (hiD_o (by decide) (by decide))
      · exact (pf.2.2.2.2.1 237 k rfl).trans (hiD_o (by decide) (by decide))
    have PZ : ∀ i, i < 2 → rdI (hiZ d (wn d hc) z.2) 242 (4 * d + 2 * i) = rdI (wkF d g) (75 + 17 * d) i ∧ rdI (hiZ d (wn d hc) z.2) 242 (4 * d + 2 * i + 1) = rdI (wkF d g) (76 + 17 * d) i := fun i hi => by
      obtain ⟨u1, u2⟩ := gl ((wn d hc).toNatClampNeg + i) (by omega)
      have v0 := mt2_i (h := wkE d g) (o := 75 + 17 * d) (p := 76 + 17 * d) (b := 0) (u := fun i => rdI g 37 ((wn d g).toNatClampNeg + i)) (v := fun i => rdI g 38 ((wn d g).toNatClampNeg + i)) hi (by omega)
      rw [Nat.zero_add] at v0
      have x1 : rdI (wkF d g) (75 + 17 * d) i = rdI g 37 ((wn d g).toNatClampNeg + i) := v0.1
      have x2 : rdI (wkF d g) (76 + 17 * d) i = rdI g 38 ((wn d g).toNatClampNeg + i) := v0.2
      obtain ⟨h1, h2⟩ := hgv_2 (n := wn d hc) (g := z.2) (k := i)
      rw [hiZ_G (by decide), hiZ_G (by decide), x1, x2, g3]
      unfold hiG
      rw [rdI_mi (show 2 * i < 4 by omega), Nat.add_assoc (4 * d) (2 * i) 1, rdI_mi (show 2 * i + 1 < 4 by omega), h1, h2, Nat.add_assoc]
      exact ⟨u1, u2⟩
    refine ⟨_, _, rfl, rfl, fm0, ⟨⟨?_, ?_, ?_, ?_, ?_⟩, ?_⟩, ⟨⟨?_, ?_⟩, ?_, ?_, ?_⟩, ⟨?_, ?_, ?_, ?_⟩, fc0, ?_, ?_, ?_⟩
    · exact FS_tr (fun k => fc0.1 4 k (by unfold fC; omega)) (fun k => fc0.1 5 k (by unfold fC; omega)) (fun k => fc0.1 6 k (by unfold fC; omega)) (fun k hk => fm0.1 192 k ⟨by unfold mW; simp; omega, by omega⟩) (fun k => fm0.1 194 k ⟨rfl, by omega⟩) (fun k => fm0.1 195 k ⟨rfl, by omega⟩) fm0.2.1 ⟨fb, fu, fz, ft, fst, ff, fo, fk, fc, fv, by assumption, by assumption⟩
    · refine SZ_tr (fun k => fc0.1 4 k (by unfold fC; omega)) (fun k => fc0.1 5 k (by unfold fC; omega)) (fun o k a b => fc0.1 o k (by unfold fC; omega)) (fc0.1 1 6 (by unfold fC; omega)) (fc0.1 22 4 (by unfold fC; omega)) (fun o k a b => fm0.1 o k ⟨by unfold mW; simp; omega, by omega⟩) ?_ ?_ ?_ sz
      · exact FT_tr (fun o k ho => Fo o k (by omega)) (fun o k ho => Zo o k (by omega)) (FT_dn rr'.ft)
      · exact OW_tr (fun o k ho => Fo o k (by omega)) (Fo 22 24 (by decide)) (fun o k ho => Zo o k (by omega)) (OW_dn rr'.ow)
      · rw [hiZ_o (by omega) (by omega), Fo 22 24 (by decide)]; exact rr'.s_owns
    · rw [fm0.1 192 62 ⟨rfl, by omega⟩, fc0.1 22 4 (by unfold fC; omega)]; exact e62
    · rw [hiZ_o (by omega) (by omega), Fo 22 5 (by decide)]; exact ⟨rr'.s_steps, rr'.r_steps⟩
    · rw [hiZ_o (by omega) (by omega), Fo 22 6 (by decide)]; exact ⟨rr'.s_high, rr'.r_high⟩
    · rw [hiZ_o (by omega) (by omega)]; exact rr'.fail
    · rw [F3, Mk 236 _ (Or.inl rfl)]; exact o1
    · rw [F5, Mk 237 _ (Or.inr rfl)]; exact o2
    · simp only [F74, F5, F3]; exact o3
    · intro i hi
      rw [F3] at hi
      obtain ⟨u1, u2⟩ := gl i (by omega)
      obtain ⟨m1, m2, m3⟩ := mt3_i (h := z.2) (o := 238) (p := 239) (q := 240) (b := 102 * d) (u := fun i => rdI z.2 214 (102 + i)) (v := fun i => rdI z.2 215 (102 + i)) (w := fun i => rdI z.2 217 i &&& 1) hi (by decide) (by decide) (by decide)
      have v0 := mt2_i (h := g) (o := 71 + 17 * d) (p := 72 + 17 * d) (b := 0) (u := fun i => rdI g 37 i) (v := fun i => rdI g 38 i) (show i < (wn d g).toNatClampNeg by rw [g3]; exact hi) (by omega)
      rw [Nat.zero_add] at v0
      have x1 : rdI (wkF d g) (71 + 17 * d) i = rdI g 37 i := by
        unfold wkF
        rw [mt2_o (by omega) (by omega)]
        exact v0.1
      have x2 : rdI (wkF d g) (72 + 17 * d) i = rdI g 38 i := by
        unfold wkF
        rw [mt2_o (by omega) (by omega)]
        exact v0.2
      have x3 : rdI (wkF d g) (73 + 17 * d) i = rdI g (73 + 17 * d) i := wkF_o (by omega) (by omega) (by omega) (by omega)
      have ol5 := ol.2.2.2.2.2
      rw [q2] at ol5
      obtain ⟨y1, y2⟩ := ol5 i (by rw [show rdI g (70 + 17 * d) 3 = wn d g from rfl, g3]; exact hi)
      have G : ∀ o, o = 238 ∨ o = 239 ∨ o = 240 → rdI (hiZ d (wn d hc) z.2) o (102 * d + i) = rdI (hiF d (wn d hc) z.2) o (102 * d + i) := fun o ho => by
        rw [hiZ_G (by omega)]
        unfold hiG
        rw [rdI_mo (by omega)]
      rw [G 238 (by decide), G 239 (by decide), G 240 (by decide), x1, x2, x3]
      unfold hiF
      rw [m1, m2, m3]
      refine ⟨u1, u2, ?_, y2⟩
      show rdI z.2 217 i &&& 1 = _
      rw [y1]
      rcases y2 with e | e <;> rw [e] <;> decide
    · intro c hc'
      rw [F5] at hc'
      rw [F74, hiZ_G (by omega)]
      unfold hiG
      rw [rdI_mo (by omega), hiF_o (by omega), pf.2.2.2.2.1 241 _ rfl, hiD_o (by decide) (by decide)]
      exact o5 c hc'
    · have := PZ 0 (by decide)
      exact this.1
    · have := PZ 0 (by decide)
      exact this.2
    · have := PZ 1 (by decide)
      exact this.1
    · have := PZ 1 (by decide)
      exact this.2
    · intro d0
      rw [Fo 33 7 (by decide), Fo 33 8 (by decide)]
      unfold hiZ hiH
      rw [if_pos d0]
      refine ⟨?_, ?_⟩
      · rw [rdI_wrI, if_neg (by omega), rdI_wrI, if_neg (by omega), rdI_wrI, if_neg (by omega), rdI_wrI, if_pos ⟨rfl, rfl⟩]
        exact rr'.s_scan
      · rw [rdI_wrI, if_neg (by omega), rdI_wrI, if_neg (by omega), rdI_wrI, if_pos ⟨rfl, rfl⟩]
        exact rr'.s_kind
    · intro k
      rw [Fo 56 k (by decide)]
      exact (pf.1 56 k rfl (by omega)).trans (wkD_o (by decide))
    · rw [hiZ_o (by omega) (by omega)]
      exact (pf.2.2.2.2.1 192 125 rfl).trans (hiD_192 (by omega) (by omega) (by omega))
