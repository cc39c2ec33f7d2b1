/-! LAYER 3M: a machine that rests between programs (printed by gen/mk77.py) -/
def Rq (b : Int32) (P : hH → hH → Prop) (hc hm : hH) : Prop :=
  ((Pcl P) ∧ (P hc hm) ∧ (rdI hm 192 62 = rdI hc 22 4) ∧ (rdI hm 192 58 = rdI hc 22 5) ∧ (rdI hm 192 57 = rdI hc 22 6) ∧ (rdI hm 192 98 = rdI hc 22 24) ∧ (rdI hm 192 80 = rdI hc 33 0) ∧ (rdI hm 192 81 = rdI hc 33 1) ∧ (rdI hm 192 82 = rdI hc 33 2) ∧ (rdI hm 192 83 = rdI hc 33 3) ∧ (rdI hm 192 84 = rdI hc 33 4) ∧ (rdI hm 192 85 = rdI hc 33 5)) ∧
  ((rdI hm 192 86 = rdI hc 33 6) ∧ (rdI hm 192 87 = rdI hc 33 7) ∧ (rdI hm 192 88 = rdI hc 33 8) ∧ (rdI hm 192 10 = rdI hc 4 6) ∧ (rdI hm 192 13 = rdI hc 4 9) ∧ (rdI hm 192 16 = rdI hc 4 12) ∧ (rdI hm 192 17 = rdI hc 4 13) ∧ (rdI hm 192 18 = rdI hc 4 14) ∧ (rdI hm 192 25 = rdI hc 23 1) ∧ (rdI hm 192 15 = rdI hc 23 3) ∧ (rdI hm 192 14 = rdI hc 26 6) ∧ (rdI hm 192 52 = rdI hc 34 6)) ∧
  ((rdI hm 192 59 = 0) ∧ (0 ≤ (rdI hc 4 14) ∧ (rdI hc 4 14) ≤ 256) ∧ (0 ≤ (rdI hc 33 6) ∧ (rdI hc 33 6) ≤ 6) ∧ (16 ≤ (rdI hc 4 6) ∧ (rdI hc 4 6) ≤ 16384) ∧ (0 ≤ (rdI hc 4 12) ∧ (rdI hc 4 12) ≤ 64) ∧ (0 ≤ (rdI hc 4 13) ∧ (rdI hc 4 13) ≤ 16) ∧ (0 ≤ (rdI hc 23 1) ∧ (rdI hc 23 1) ≤ 256) ∧ (0 ≤ (rdI hc 23 3) ∧ (rdI hc 23 3) ≤ 64) ∧ (0 ≤ (rdI hc 26 6) ∧ (rdI hc 26 6) ≤ 64) ∧ (0 ≤ (rdI hc 34 6) ∧ (rdI hc 34 6) ≤ 102) ∧ (4 ≤ (rdI hc 22 4) ∧ (rdI hc 22 4) ≤ 48) ∧ (0 ≤ (rdI hc 22 5) ∧ (rdI hc 22 5) ≤ 20000)) ∧
  ((rdI hc 33 4 = 0 ∨ rdI hc 33 4 = 1) ∧ (∀ i, i < (rdI hc 23 1).toNatClampNeg → rdI hm 210 i = rdI hc 24 i) ∧ (∀ i, i < (rdI hc 23 3).toNatClampNeg → rdI hm 211 i = rdI hc 25 i) ∧ (∀ i, i < (rdI hc 26 6).toNatClampNeg → rdI hm 212 (i) = rdI hc 27 i) ∧ (∀ i, i < (rdI hc 26 6).toNatClampNeg → rdI hm 213 (i) = rdI hc 28 i) ∧ (∀ i, i < (rdI hc 26 6).toNatClampNeg → rdI hm 214 (i) = rdI hc 29 i) ∧ (∀ i, i < (rdI hc 26 6).toNatClampNeg → rdI hm 215 (i) = rdI hc 30 i) ∧ (∀ i, i < (rdI hc 26 6).toNatClampNeg → T4 (rdI hc 31 i) (rdI hc 32 i) (rdI hm 216 (i))) ∧ (∀ i, i < (rdI hc 34 6).toNatClampNeg → rdI hm 212 (102 + i) = rdI hc 35 i) ∧ (∀ i, i < (rdI hc 34 6).toNatClampNeg → rdI hm 213 (102 + i) = rdI hc 36 i) ∧ (∀ i, i < (rdI hc 34 6).toNatClampNeg → rdI hm 214 (102 + i) = rdI hc 37 i) ∧ (∀ i, i < (rdI hc 34 6).toNatClampNeg → rdI hm 215 (102 + i) = rdI hc 38 i)) ∧
  ((∀ i, i < (rdI hc 34 6).toNatClampNeg → T4 (rdI hc 39 i) (rdI hc 40 i) (rdI hm 216 (102 + i))) ∧ (BY hc hm) ∧ (OL hc hm) ∧ (0 ≤ rdI hc 22 6 ∧ rdI hc 22 6 ≤ 256) ∧ (FT hc hm b) ∧ (OW hc hm b))
theorem Rq.mk {b : Int32} {P : hH → hH → Prop} {hc hm : hH} (cl : Pcl P) (out : P hc hm) (s_ppem : rdI hm 192 62 = rdI hc 22 4) (s_steps : rdI hm 192 58 = rdI hc 22 5) (s_high : rdI hm 192 57 = rdI hc 22 6) (s_owns : rdI hm 192 98 = rdI hc 22 24) (s_cut : rdI hm 192 80 = rdI hc 33 0) (s_single : rdI hm 192 81 = rdI hc 33 1) (s_scut : rdI hm 192 82 = rdI hc 33 2) (s_least : rdI hm 192 83 = rdI hc 33 3) (s_flip : rdI hm 192 84 = rdI hc 33 4) (s_base : rdI hm 192 85 = rdI hc 33 5) (s_shift : rdI hm 192 86 = rdI hc 33 6) (s_scan : rdI hm 192 87 = rdI hc 33 7) (s_kind : rdI hm 192 88 = rdI hc 33 8) (s_units : rdI hm 192 10 = rdI hc 4 6) (s_zones : rdI hm 192 13 = rdI hc 4 9) (s_funs : rdI hm 192 16 = rdI hc 4 12) (s_ownc : rdI hm 192 17 = rdI hc 4 13) (s_stk : rdI hm 192 18 = rdI hc 4 14) (s_cvtM : rdI hm 192 25 = rdI hc 23 1) (s_stoM : rdI hm 192 15 = rdI hc 23 3) (s_twM : rdI hm 192 14 = rdI hc 26 6) (s_glM : rdI hm 192 52 = rdI hc 34 6) (fail : rdI hm 192 59 = 0) (r_stk : 0 ≤ (rdI hc 4 14) ∧ (rdI hc 4 14) ≤ 256) (r_shift : 0 ≤ (rdI hc 33 6) ∧ (rdI hc 33 6) ≤ 6) (r_units : 16 ≤ (rdI hc 4 6) ∧ (rdI hc 4 6) ≤ 16384) (r_funs : 0 ≤ (rdI hc 4 12) ∧ (rdI hc 4 12) ≤ 64) (r_ownc : 0 ≤ (rdI hc 4 13) ∧ (rdI hc 4 13) ≤ 16) (r_cvtM : 0 ≤ (rdI hc 23 1) ∧ (rdI hc 23 1) ≤ 256) (r_stoM : 0 ≤ (rdI hc 23 3) ∧ (rdI hc 23 3) ≤ 64) (r_twM : 0 ≤ (rdI hc 26 6) ∧ (rdI hc 26 6) ≤ 64) (r_glM : 0 ≤ (rdI hc 34 6) ∧ (rdI hc 34 6) ≤ 102) (r_ppem : 4 ≤ (rdI hc 22 4) ∧ (rdI hc 22 4) ≤ 48) (r_steps : 0 ≤ (rdI hc 22 5) ∧ (rdI hc 22 5) ≤ 20000) (r_flip : rdI hc 33 4 = 0 ∨ rdI hc 33 4 = 1) (a_cvt : ∀ i, i < (rdI hc 23 1).toNatClampNeg → rdI hm 210 i = rdI hc 24 i) (a_sto : ∀ i, i < (rdI hc 23 3).toNatClampNeg → rdI hm 211 i = rdI hc 25 i) (z_tw_ox : ∀ i, i < (rdI hc 26 6).toNatClampNeg → rdI hm 212 (i) = rdI hc 27 i) (z_tw_oy : ∀ i, i < (rdI hc 26 6).toNatClampNeg → rdI hm 213 (i) = rdI hc 28 i) (z_tw_x : ∀ i, i < (rdI hc 26 6).toNatClampNeg → rdI hm 214 (i) = rdI hc 29 i) (z_tw_y : ∀ i, i < (rdI hc 26 6).toNatClampNeg → rdI hm 215 (i) = rdI hc 30 i) (z_tw_t : ∀ i, i < (rdI hc 26 6).toNatClampNeg → T4 (rdI hc 31 i) (rdI hc 32 i) (rdI hm 216 (i))) (z_gl_ox : ∀ i, i < (rdI hc 34 6).toNatClampNeg → rdI hm 212 (102 + i) = rdI hc 35 i) (z_gl_oy : ∀ i, i < (rdI hc 34 6).toNatClampNeg → rdI hm 213 (102 + i) = rdI hc 36 i) (z_gl_x : ∀ i, i < (rdI hc 34 6).toNatClampNeg → rdI hm 214 (102 + i) = rdI hc 37 i) (z_gl_y : ∀ i, i < (rdI hc 34 6).toNatClampNeg → rdI hm 215 (102 + i) = rdI hc 38 i) (z_gl_t : ∀ i, i < (rdI hc 34 6).toNatClampNeg → T4 (rdI hc 39 i) (rdI hc 40 i) (rdI hm 216 (102 + i))) (bys : BY hc hm) (ol : OL hc hm) (r_high : 0 ≤ rdI hc 22 6 ∧ rdI hc 22 6 ≤ 256) (ft : FT hc hm b) (ow : OW hc hm b) : Rq b P hc hm :=
  ⟨⟨cl, out, s_ppem, s_steps, s_high, s_owns, s_cut, s_single, s_scut, s_least, s_flip, s_base⟩, ⟨s_shift, s_scan, s_kind, s_units, s_zones, s_funs, s_ownc, s_stk, s_cvtM, s_stoM, s_twM, s_glM⟩, ⟨fail, r_stk, r_shift, r_units, r_funs, r_ownc, r_cvtM, r_stoM, r_twM, r_glM, r_ppem, r_steps⟩, ⟨r_flip, a_cvt, a_sto, z_tw_ox, z_tw_oy, z_tw_x, z_tw_y, z_tw_t, z_gl_ox, z_gl_oy, z_gl_x, z_gl_y⟩, ⟨z_gl_t, bys, ol, r_high, ft, ow⟩⟩
theorem Rq.cl {b : Int32} {P : hH → hH → Prop} {hc hm : hH} (h : Rq b P hc hm) : Pcl P := h.1.1
theorem Rq.out {b : Int32} {P : hH → hH → Prop} {hc hm : hH} (h : Rq b P hc hm) : P hc hm := h.1.2.1
theorem Rq.s_ppem {b : Int32} {P : hH → hH → Prop} {hc hm : hH} (h : Rq b P hc hm) : rdI hm 192 62 = rdI hc 22 4 := h.1.2.2.1
theorem Rq.s_steps {b : Int32} {P : hH → hH → Prop} {hc hm : hH} (h : Rq b P hc hm) : rdI hm 192 58 = rdI hc 22 5 := h.1.2.2.2.1
theorem Rq.s_high {b : Int32} {P : hH → hH → Prop} {hc hm : hH} (h : Rq b P hc hm) : rdI hm 192 57 = rdI hc 22 6 := h.1.2.2.2.2.1
theorem Rq.s_owns {b : Int32} {P : hH → hH → Prop} {hc hm : hH} (h : Rq b P hc hm) : rdI hm 192 98 = rdI hc 22 24 := h.1.2.2.2.2.2.1
theorem Rq.s_cut {b : Int32} {P : hH → hH → Prop} {hc hm : hH} (h : Rq b P hc hm) : rdI hm 192 80 = rdI hc 33 0 := h.1.2.2.2.2.2.2.1
theorem Rq.s_single {b : Int32} {P : hH → hH → Prop} {hc hm : hH} (h : Rq b P hc hm) : rdI hm 192 81 = rdI hc 33 1 := h.1.2.2.2.2.2.2.2.1
theorem Rq.s_scut {b : Int32} {P : hH → hH → Prop} {hc hm : hH} (h : Rq b P hc hm) : rdI hm 192 82 = rdI hc 33 2 := h.1.2.2.2.2.2.2.2.2.1
theorem Rq.s_least {b : Int32} {P : hH → hH → Prop} {hc hm : hH} (h : Rq b P hc hm) : rdI hm 192 83 = rdI hc 33 3 := h.1.2.2.2.2.2.2.2.2.2.1
theorem Rq.s_flip {b : Int32} {P : hH → hH → Prop} {hc hm : hH} (h : Rq b P hc hm) : rdI hm 192 84 = rdI hc 33 4 := h.1.2.2.2.2.2.2.2.2.2.2.1
theorem Rq.s_base {b : Int32} {P : hH → hH → Prop} {hc hm : hH} (h : Rq b P hc hm) : rdI hm 192 85 = rdI hc 33 5 := h.1.2.2.2.2.2.2.2.2.2.2.2
theorem Rq.s_shift {b : Int32} {P : hH → hH → Prop} {hc hm : hH} (h : Rq b P hc hm) : rdI hm 192 86 = rdI hc 33 6 := h.2.1.1
theorem Rq.s_scan {b : Int32} {P : hH → hH → Prop} {hc hm : hH} (h : Rq b P hc hm) : rdI hm 192 87 = rdI hc 33 7 := h.2.1.2.1
theorem Rq.s_kind {b : Int32} {P : hH → hH → Prop} {hc hm : hH} (h : Rq b P hc hm) : rdI hm 192 88 = rdI hc 33 8 := h.2.1.2.2.1
theorem Rq.s_units {b : Int32} {P : hH → hH → Prop} {hc hm : hH} (h : Rq b P hc hm) : rdI hm 192 10 = rdI hc 4 6 := h.2.1.2.2.2.1
theorem Rq.s_zones {b : Int32} {P : hH → hH → Prop} {hc hm : hH} (h : Rq b P hc hm) : rdI hm 192 13 = rdI hc 4 9 := h.2.1.2.2.2.2.1
theorem Rq.s_funs {b : Int32} {P : hH → hH → Prop} {hc hm : hH} (h : Rq b P hc hm) : rdI hm 192 16 = rdI hc 4 12 := h.2.1.2.2.2.2.2.1
theorem Rq.s_ownc {b : Int32} {P : hH → hH → Prop} {hc hm : hH} (h : Rq b P hc hm) : rdI hm 192 17 = rdI hc 4 13 := h.2.1.2.2.2.2.2.2.1
theorem Rq.s_stk {b : Int32} {P : hH → hH → Prop} {hc hm : hH} (h : Rq b P hc hm) : rdI hm 192 18 = rdI hc 4 14 := h.2.1.2.2.2.2.2.2.2.1
theorem Rq.s_cvtM {b : Int32} {P : hH → hH → Prop} {hc hm : hH} (h : Rq b P hc hm) : rdI hm 192 25 = rdI hc 23 1 := h.2.1.2.2.2.2.2.2.2.2.1
theorem Rq.s_stoM {b : Int32} {P : hH → hH → Prop} {hc hm : hH} (h : Rq b P hc hm) : rdI hm 192 15 = rdI hc 23 3 := h.2.1.2.2.2.2.2.2.2.2.2.1
theorem Rq.s_twM {b : Int32} {P : hH → hH → Prop} {hc hm : hH} (h : Rq b P hc hm) : rdI hm 192 14 = rdI hc 26 6 := h.2.1.2.2.2.2.2.2.2.2.2.2.1
theorem Rq.s_glM {b : Int32} {P : hH → hH → Prop} {hc hm : hH} (h : Rq b P hc hm) : rdI hm 192 52 = rdI hc 34 6 := h.2.1.2.2.2.2.2.2.2.2.2.2.2
theorem Rq.fail {b : Int32} {P : hH → hH → Prop} {hc hm : hH} (h : Rq b P hc hm) : rdI hm 192 59 = 0 := h.2.2.1.1
theorem Rq.r_stk {b : Int32} {P : hH → hH → Prop} {hc hm : hH} (h : Rq b P hc hm) : 0 ≤ (rdI hc 4 14) ∧ (rdI hc 4 14) ≤ 256 := h.2.2.1.2.1
theorem Rq.r_shift {b : Int32} {P : hH → hH → Prop} {hc hm : hH} (h : Rq b P hc hm) : 0 ≤ (rdI hc 33 6) ∧ (rdI hc 33 6) ≤ 6 := h.2.2.1.2.2.1
theorem Rq.r_units {b : Int32} {P : hH → hH → Prop} {hc hm : hH} (h : Rq b P hc hm) : 16 ≤ (rdI hc 4 6) ∧ (rdI hc 4 6) ≤ 16384 := h.2.2.1.2.2.2.1
theorem Rq.r_funs {b : Int32} {P : hH → hH → Prop} {hc hm : hH} (h : Rq b P hc hm) : 0 ≤ (rdI hc 4 12) ∧ (rdI hc 4 12) ≤ 64 := h.2.2.1.2.2.2.2.1
theorem Rq.r_ownc {b : Int32} {P : hH → hH → Prop} {hc hm : hH} (h : Rq b P hc hm) : 0 ≤ (rdI hc 4 13) ∧ (rdI hc 4 13) ≤ 16 := h.2.2.1.2.2.2.2.2.1
theorem Rq.r_cvtM {b : Int32} {P : hH → hH → Prop} {hc hm : hH} (h : Rq b P hc hm) : 0 ≤ (rdI hc 23 1) ∧ (rdI hc 23 1) ≤ 256 := h.2.2.1.2.2.2.2.2.2.1
theorem Rq.r_stoM {b : Int32} {P : hH → hH → Prop} {hc hm : hH} (h : Rq b P hc hm) : 0 ≤ (rdI hc 23 3) ∧ (rdI hc 23 3) ≤ 64 := h.2.2.1.2.2.2.2.2.2.2.1
theorem Rq.r_twM {b : Int32} {P : hH → hH → Prop} {hc hm : hH} (h : Rq b P hc hm) : 0 ≤ (rdI hc 26 6) ∧ (rdI hc 26 6) ≤ 64 := h.2.2.1.2.2.2.2.2.2.2.2.1
theorem Rq.r_glM {b : Int32} {P : hH → hH → Prop} {hc hm : hH} (h : Rq b P hc hm) : 0 ≤ (rdI hc 34 6) ∧ (rdI hc 34 6) ≤ 102 := h.2.2.1.2.2.2.2.2.2.2.2.2.1
theorem Rq.r_ppem {b : Int32} {P : hH → hH → Prop} {hc hm : hH} (h : Rq b P hc hm) : 4 ≤ (rdI hc 22 4) ∧ (rdI hc 22 4) ≤ 48 := h.2.2.1.2.2.2.2.2.2.2.2.2.2.1
theorem Rq.r_steps {b : Int32} {P : hH → hH → Prop} {hc hm : hH} (h : Rq b P hc hm) : 0 ≤ (rdI hc 22 5) ∧ (rdI hc 22 5) ≤ 20000 := h.2.2.1.2.2.2.2.2.2.2.2.2.2.2
theorem Rq.r_flip {b : Int32} {P : hH → hH → Prop} {hc hm : hH} (h : Rq b P hc hm) : rdI hc 33 4 = 0 ∨ rdI hc 33 4 = 1 := h.2.2.2.1.1
theorem Rq.a_cvt {b : Int32} {P : hH → hH → Prop} {hc hm : hH} (h : Rq b P hc hm) : ∀ i, i < (rdI hc 23 1).toNatClampNeg → rdI hm 210 i = rdI hc 24 i := h.2.2.2.1.2.1
theorem Rq.a_sto {b : Int32} {P : hH → hH → Prop} {hc hm : hH} (h : Rq b P hc hm) : ∀ i, i < (rdI hc 23 3).toNatClampNeg → rdI hm 211 i = rdI hc 25 i := h.2.2.2.1.2.2.1
theorem Rq.z_tw_ox {b : Int32} {P : hH → hH → Prop} {hc hm : hH} (h : Rq b P hc hm) : ∀ i, i < (rdI hc 26 6).toNatClampNeg → rdI hm 212 (i) = rdI hc 27 i := h.2.2.2.1.2.2.2.1
theorem Rq.z_tw_oy {b : Int32} {P : hH → hH → Prop} {hc hm : hH} (h : Rq b P hc hm) : ∀ i, i < (rdI hc 26 6).toNatClampNeg → rdI hm 213 (i) = rdI hc 28 i := h.2.2.2.1.2.2.2.2.1
theorem Rq.z_tw_x {b : Int32} {P : hH → hH → Prop} {hc hm : hH} (h : Rq b P hc hm) : ∀ i, i < (rdI hc 26 6).toNatClampNeg → rdI hm 214 (i) = rdI hc 29 i := h.2.2.2.1.2.2.2.2.2.1
theorem Rq.z_tw_y {b : Int32} {P : hH → hH → Prop} {hc hm : hH} (h : Rq b P hc hm) : ∀ i, i < (rdI hc 26 6).toNatClampNeg → rdI hm 215 (i) = rdI hc 30 i := h.2.2.2.1.2.2.2.2.2.2.1
theorem Rq.z_tw_t {b : Int32} {P : hH → hH → Prop} {hc hm : hH} (h : Rq b P hc hm) : ∀ i, i < (rdI hc 26 6).toNatClampNeg → T4 (rdI hc 31 i) (rdI hc 32 i) (rdI hm 216 (i)) := h.2.2.2.1.2.2.2.2.2.2.2.1
theorem Rq.z_gl_ox {b : Int32} {P : hH → hH → Prop} {hc hm : hH} (h : Rq b P hc hm) : ∀ i, i < (rdI hc 34 6).toNatClampNeg → rdI hm 212 (102 + i) = rdI hc 35 i := h.2.2.2.1.2.2.2.2.2.2.2.2.1
theorem Rq.z_gl_oy {b : Int32} {P : hH → hH → Prop} {hc hm : hH} (h : Rq b P hc hm) : ∀ i, i < (rdI hc 34 6).toNatClampNeg → rdI hm 213 (102 + i) = rdI hc 36 i := h.2.2.2.1.2.2.2.2.2.2.2.2.2.1
theorem Rq.z_gl_x {b : Int32} {P : hH → hH → Prop} {hc hm : hH} (h : Rq b P hc hm) : ∀ i, i < (rdI hc 34 6).toNatClampNeg → rdI hm 214 (102 + i) = rdI hc 37 i := h.2.2.2.1.2.2.2.2.2.2.2.2.2.2.1
theorem Rq.z_gl_y {b : Int32} {P : hH → hH → Prop} {hc hm : hH} (h : Rq b P hc hm) : ∀ i, i < (rdI hc 34 6).toNatClampNeg → rdI hm 215 (102 + i) = rdI hc 38 i := h.2.2.2.1.2.2.2.2.2.2.2.2.2.2.2
theorem Rq.z_gl_t {b : Int32} {P : hH → hH → Prop} {hc hm : hH} (h : Rq b P hc hm) : ∀ i, i < (rdI hc 34 6).toNatClampNeg → T4 (rdI hc 39 i) (rdI hc 40 i) (rdI hm 216 (102 + i)) := h.2.2.2.2.1
theorem Rq.bys {b : Int32} {P : hH → hH → Prop} {hc hm : hH} (h : Rq b P hc hm) : BY hc hm := h.2.2.2.2.2.1
theorem Rq.ol {b : Int32} {P : hH → hH → Prop} {hc hm : hH} (h : Rq b P hc hm) : OL hc hm := h.2.2.2.2.2.2.1
theorem Rq.r_high {b : Int32} {P : hH → hH → Prop} {hc hm : hH} (h : Rq b P hc hm) : 0 ≤ rdI hc 22 6 ∧ rdI hc 22 6 ≤ 256 := h.2.2.2.2.2.2.2.1
theorem Rq.ft {b : Int32} {P : hH → hH → Prop} {hc hm : hH} (h : Rq b P hc hm) : FT hc hm b := h.2.2.2.2.2.2.2.2.1
theorem Rq.ow {b : Int32} {P : hH → hH → Prop} {hc hm : hH} (h : Rq b P hc hm) : OW hc hm b := h.2.2.2.2.2.2.2.2.2
theorem Rm.rest {P : hH → hH → Prop} {hc hm : hH} (h : Rm P hc hm) : Rq (rdI hc 22 8) P hc hm :=
  Rq.mk h.cl h.out h.s_ppem h.s_steps h.s_high h.s_owns h.s_cut h.s_single h.s_scut h.s_least h.s_flip h.s_base h.s_shift h.s_scan h.s_kind h.s_units h.s_zones h.s_funs h.s_ownc h.s_stk h.s_cvtM h.s_stoM h.s_twM h.s_glM h.fail h.r_stk h.r_shift h.r_units h.r_funs h.r_ownc h.r_cvtM h.r_stoM h.r_twM h.r_glM h.r_ppem h.r_steps h.r_flip h.a_cvt h.a_sto h.z_tw_ox h.z_tw_oy h.z_tw_x h.z_tw_y h.z_tw_t h.z_gl_ox h.z_gl_oy h.z_gl_x h.z_gl_y h.z_gl_t h.bys h.ol ⟨Int32.le_trans h.r_top.1 h.r_high.1, h.r_high.2⟩ h.ft h.ow
theorem Rq.m_at {b : Int32} {P : hH → hH → Prop} {hc hm : hH} (h : Rq b P hc hm) (v : Int32) : Rq b P hc (wrI hm 192 61 v) := by
  refine Rq.mk h.cl ?_ ?_ ?_ ?_ ?_ ?_ ?_ ?_ ?_ ?_ ?_ ?_ ?_ ?_ ?_ ?_ ?_ ?_ ?_ ?_ ?_ ?_ ?_ ?_ ?_ ?_ ?_ ?_ ?_ ?_ ?_ ?_ ?_ ?_ ?_ ?_ ?_ ?_ ?_ ?_ ?_ ?_ ?_ ?_ ?_ ?_ ?_ ?_ ?_ ?_ ?_ ?_ ?_
  · exact h.cl.m rfl (h.out)
  · first | exact h.s_ppem | (simp only [rdI_wrI, rdP_wrI, rdL_wrI, Nat.reduceEqDiff, false_and, and_false, true_and, and_true, reduceIte, ite_self]; exact h.s_ppem)
  · first | exact h.s_steps | (simp only [rdI_wrI, rdP_wrI, rdL_wrI, Nat.reduceEqDiff, false_and, and_false, true_and, and_true, reduceIte, ite_self]; exact h.s_steps)
  · first | exact h.s_high | (simp only [rdI_wrI, rdP_wrI, rdL_wrI, Nat.reduceEqDiff, false_and, and_false, true_and, and_true, reduceIte, ite_self]; exact h.s_high)
  · first | exact h.s_owns | (simp only [rdI_wrI, rdP_wrI, rdL_wrI, Nat.reduceEqDiff, false_and, and_false, true_and, and_true, reduceIte, ite_self]; exact h.s_owns)
  · first | exact h.s_cut | (simp only [rdI_wrI, rdP_wrI, rdL_wrI, Nat.reduceEqDiff, false_and, and_false, true_and, and_true, reduceIte, ite_self]; exact h.s_cut)
  · first | exact h.s_single | (simp only [rdI_wrI, rdP_wrI, rdL_wrI, Nat.reduceEqDiff, false_and, and_false, true_and, and_true, reduceIte, ite_self]; exact h.s_single)
  · first | exact h.s_scut | (simp only [rdI_wrI, rdP_wrI, rdL_wrI, Nat.reduceEqDiff, false_and, and_false, true_and, and_true, reduceIte, ite_self]; exact h.s_scut)
  · first | exact h.s_least | (simp only [rdI_wrI, rdP_wrI, rdL_wrI, Nat.reduceEqDiff, false_and, and_false, true_and, and_true, reduceIte, ite_self]; exact h.s_least)
  · first | exact h.s_flip | (simp only [rdI_wrI, rdP_wrI, rdL_wrI, Nat.reduceEqDiff, false_and, and_false, true_and, and_true, reduceIte, ite_self]; exact h.s_flip)
  · first | exact h.s_base | (simp only [rdI_wrI, rdP_wrI, rdL_wrI, Nat.reduceEqDiff, false_and, and_false, true_and, and_true, reduceIte, ite_self]; exact h.s_base)
  · first | exact h.s_shift | (simp only [rdI_wrI, rdP_wrI, rdL_wrI, Nat.reduceEqDiff, false_and, and_false, true_and, and_true, reduceIte, ite_self]; exact h.s_shift)
  · first | exact h.s_scan | (simp only [rdI_wrI, rdP_wrI, rdL_wrI, Nat.reduceEqDiff, false_and, and_false, true_and, and_true, reduceIte, ite_self]; exact h.s_scan)
  · first | exact h.s_kind | (simp only [rdI_wrI, rdP_wrI, rdL_wrI, Nat.reduceEqDiff, false_and, and_false, true_and, and_true, reduceIte, ite_self]; exact h.s_kind)
  · first | exact h.s_units | (simp only [rdI_wrI, rdP_wrI, rdL_wrI, Nat.reduceEqDiff, false_and, and_false, true_and, and_true, reduceIte, ite_self]; exact h.s_units)
  · first | exact h.s_zones | (simp only [rdI_wrI, rdP_wrI, rdL_wrI, Nat.reduceEqDiff, false_and, and_false, true_and, and_true, reduceIte, ite_self]; exact h.s_zones)
  · first | exact h.s_funs | (simp only [rdI_wrI, rdP_wrI, rdL_wrI, Nat.reduceEqDiff, false_and, and_false, true_and, and_true, reduceIte, ite_self]; exact h.s_funs)
  · first | exact h.s_ownc | (simp only [rdI_wrI, rdP_wrI, rdL_wrI, Nat.reduceEqDiff, false_and, and_false, true_and, and_true, reduceIte, ite_self]; exact h.s_ownc)
  · first | exact h.s_stk | (simp only [rdI_wrI, rdP_wrI, rdL_wrI, Nat.reduceEqDiff, false_and, and_false, true_and, and_true, reduceIte, ite_self]; exact h.s_stk)
  · first | exact h.s_cvtM | (simp only [rdI_wrI, rdP_wrI, rdL_wrI, Nat.reduceEqDiff, false_and, and_false, true_and, and_true, reduceIte, ite_self]; exact h.s_cvtM)
  · first | exact h.s_stoM | (simp only [rdI_wrI, rdP_wrI, rdL_wrI, Nat.reduceEqDiff, false_and, and_false, true_and, and_true, reduceIte, ite_self]; exact h.s_stoM)
  · first | exact h.s_twM | (simp only [rdI_wrI, rdP_wrI, rdL_wrI, Nat.reduceEqDiff, false_and, and_false, true_and, and_true, reduceIte, ite_self]; exact h.s_twM)
  · first | exact h.s_glM | (simp only [rdI_wrI, rdP_wrI, rdL_wrI, Nat.reduceEqDiff, false_and, and_false, true_and, and_true, reduceIte, ite_self]; exact h.s_glM)
  · first | exact h.fail | (simp only [rdI_wrI, rdP_wrI, rdL_wrI, Nat.reduceEqDiff, false_and, and_false, true_and, and_true, reduceIte, ite_self]; exact h.fail)
  · first | exact h.r_stk | (simp only [rdI_wrI, rdP_wrI, rdL_wrI, Nat.reduceEqDiff, false_and, and_false, true_and, and_true, reduceIte, ite_self]; exact h.r_stk)
  · first | exact h.r_shift | (simp only [rdI_wrI, rdP_wrI, rdL_wrI, Nat.reduceEqDiff, false_and, and_false, true_and, and_true, reduceIte, ite_self]; exact h.r_shift)
  · first | exact h.r_units | (simp only [rdI_wrI, rdP_wrI, rdL_wrI, Nat.reduceEqDiff, false_and, and_false, true_and, and_true, reduceIte, ite_self]; exact h.r_units)
  · first | exact h.r_funs | (simp only [rdI_wrI, rdP_wrI, rdL_wrI, Nat.reduceEqDiff, false_and, and_false, true_and, and_true, reduceIte, ite_self]; exact h.r_funs)
  · first | exact h.r_ownc | (simp only [rdI_wrI, rdP_wrI, rdL_wrI, Nat.reduceEqDiff, false_and, and_false, true_and, and_true, reduceIte, ite_self]; exact h.r_ownc)
  · first | exact h.r_cvtM | (simp only [rdI_wrI, rdP_wrI, rdL_wrI, Nat.reduceEqDiff, false_and, and_false, true_and, and_true, reduceIte, ite_self]; exact h.r_cvtM)
  · first | exact h.r_stoM | (simp only [rdI_wrI, rdP_wrI, rdL_wrI, Nat.reduceEqDiff, false_and, and_false, true_and, and_true, reduceIte, ite_self]; exact h.r_stoM)
  · first | exact h.r_twM | (simp only [rdI_wrI, rdP_wrI, rdL_wrI, Nat.reduceEqDiff, false_and, and_false, true_and, and_true, reduceIte, ite_self]; exact h.r_twM)
  · first | exact h.r_glM | (simp only [rdI_wrI, rdP_wrI, rdL_wrI, Nat.reduceEqDiff, false_and, and_false, true_and, and_true, reduceIte, ite_self]; exact h.r_glM)
  · first | exact h.r_ppem | (simp only [rdI_wrI, rdP_wrI, rdL_wrI, Nat.reduceEqDiff, false_and, and_false, true_and, and_true, reduceIte, ite_self]; exact h.r_ppem)
  · first | exact h.r_steps | (simp only [rdI_wrI, rdP_wrI, rdL_wrI, Nat.reduceEqDiff, false_and, and_false, true_and, and_true, reduceIte, ite_self]; exact h.r_steps)
  · first | exact h.r_flip | (simp only [rdI_wrI, rdP_wrI, rdL_wrI, Nat.reduceEqDiff, false_and, and_false, true_and, and_true, reduceIte, ite_self]; exact h.r_flip)
  · first | exact h.a_cvt | (simp only [rdI_wrI, rdP_wrI, rdL_wrI, Nat.reduceEqDiff, false_and, and_false, true_and, and_true, reduceIte, ite_self]; exact h.a_cvt)
  · first | exact h.a_sto | (simp only [rdI_wrI, rdP_wrI, rdL_wrI, Nat.reduceEqDiff, false_and, and_false, true_and, and_true, reduceIte, ite_self]; exact h.a_sto)
  · first | exact h.z_tw_ox | (simp only [rdI_wrI, rdP_wrI, rdL_wrI, Nat.reduceEqDiff, false_and, and_false, true_and, and_true, reduceIte, ite_self]; exact h.z_tw_ox)
  · first | exact h.z_tw_oy | (simp only [rdI_wrI, rdP_wrI, rdL_wrI, Nat.reduceEqDiff, false_and, and_false, true_and, and_true, reduceIte, ite_self]; exact h.z_tw_oy)
  · first | exact h.z_tw_x | (simp only [rdI_wrI, rdP_wrI, rdL_wrI, Nat.reduceEqDiff, false_and, and_false, true_and, and_true, reduceIte, ite_self]; exact h.z_tw_x)
  · first | exact h.z_tw_y | (simp only [rdI_wrI, rdP_wrI, rdL_wrI, Nat.reduceEqDiff, false_and, and_false, true_and, and_true, reduceIte, ite_self]; exact h.z_tw_y)
  · first | exact h.z_tw_t | (simp only [rdI_wrI, rdP_wrI, rdL_wrI, Nat.reduceEqDiff, false_and, and_false, true_and, and_true, reduceIte, ite_self]; exact h.z_tw_t)
  · first | exact h.z_gl_ox | (simp only [rdI_wrI, rdP_wrI, rdL_wrI, Nat.reduceEqDiff, false_and, and_false, true_and, and_true, reduceIte, ite_self]; exact h.z_gl_ox)
  · first | exact h.z_gl_oy | (simp only [rdI_wrI, rdP_wrI, rdL_wrI, Nat.reduceEqDiff, false_and, and_false, true_and, and_true, reduceIte, ite_self]; exact h.z_gl_oy)
  · first | exact h.z_gl_x | (simp only [rdI_wrI, rdP_wrI, rdL_wrI, Nat.reduceEqDiff, false_and, and_false, true_and, and_true, reduceIte, ite_self]; exact h.z_gl_x)
  · first | exact h.z_gl_y | (simp only [rdI_wrI, rdP_wrI, rdL_wrI, Nat.reduceEqDiff, false_and, and_false, true_and, and_true, reduceIte, ite_self]; exact h.z_gl_y)
  · first | exact h.z_gl_t | (simp only [rdI_wrI, rdP_wrI, rdL_wrI, Nat.reduceEqDiff, false_and, and_false, true_and, and_true, reduceIte, ite_self]; exact h.z_gl_t)
  · first | exact h.bys | (have q := h.bys; simp only [BY] at q ⊢; simp only [rdI_wrI, rdP_wrI, rdL_wrI, Nat.reduceEqDiff, false_and, and_false, true_and, and_true, reduceIte, ite_self]; exact q)
  · exact OL_m (by omega) (h.ol)
  · first | exact h.r_high | (simp only [rdI_wrI, rdP_wrI, rdL_wrI, Nat.reduceEqDiff, false_and, and_false, true_and, and_true, reduceIte, ite_self]; exact h.r_high)
  · first | exact h.ft | (have q := h.ft; simp only [FT, PL, PO] at q ⊢; simp only [rdI_wrI, rdP_wrI, rdL_wrI, Nat.reduceEqDiff, false_and, and_false, true_and, and_true, reduceIte, ite_self]; exact q)
  · first | exact h.ow | (have q := h.ow; simp only [OW, PL, PO] at q ⊢; simp only [rdI_wrI, rdP_wrI, rdL_wrI, Nat.reduceEqDiff, false_and, and_false, true_and, and_true, reduceIte, ite_self]; exact q)
theorem Rq.m_prog {b : Int32} {P : hH → hH → Prop} {hc hm : hH} (h : Rq b P hc hm) {x : Int32} (B S : Int32) (hx0 : 0 ≤ x) (hbx : b < x) : Rq b P hc (wrI (wrI hm 220 x.toNatClampNeg B) 221 x.toNatClampNeg S) := by
  refine Rq.mk h.cl ?_ ?_ ?_ ?_ ?_ ?_ ?_ ?_ ?_ ?_ ?_ ?_ ?_ ?_ ?_ ?_ ?_ ?_ ?_ ?_ ?_ ?_ ?_ ?_ ?_ ?_ ?_ ?_ ?_ ?_ ?_ ?_ ?_ ?_ ?_ ?_ ?_ ?_ ?_ ?_ ?_ ?_ ?_ ?_ ?_ ?_ ?_ ?_ ?_ ?_ ?_ ?_ ?_
  · exact h.cl.m rfl (h.cl.m rfl (h.out))
  · first | exact h.s_ppem | (simp only [rdI_wrI, rdP_wrI, rdL_wrI, Nat.reduceEqDiff, false_and, and_false, true_and, and_true, reduceIte, ite_self]; exact h.s_ppem)
  · first | exact h.s_steps | (simp only [rdI_wrI, rdP_wrI, rdL_wrI, Nat.reduceEqDiff, false_and, and_false, true_and, and_true, reduceIte, ite_self]; exact h.s_steps)
  · first | exact h.s_high | (simp only [rdI_wrI, rdP_wrI, rdL_wrI, Nat.reduceEqDiff, false_and, and_false, true_and, and_true, reduceIte, ite_self]; exact h.s_high)
  · first | exact h.s_owns | (simp only [rdI_wrI, rdP_wrI, rdL_wrI, Nat.reduceEqDiff, false_and, and_false, true_and, and_true, reduceIte, ite_self]; exact h.s_owns)
  · first | exact h.s_cut | (simp only [rdI_wrI, rdP_wrI, rdL_wrI, Nat.reduceEqDiff, false_and, and_false, true_and, and_true, reduceIte, ite_self]; exact h.s_cut)
  · first | exact h.s_single | (simp only [rdI_wrI, rdP_wrI, rdL_wrI, Nat.reduceEqDiff, false_and, and_false, true_and, and_true, reduceIte, ite_self]; exact h.s_single)
  · first | exact h.s_scut | (simp only [rdI_wrI, rdP_wrI, rdL_wrI, Nat.reduceEqDiff, false_and, and_false, true_and, and_true, reduceIte, ite_self]; exact h.s_scut)
  · first | exact h.s_least | (simp only [rdI_wrI, rdP_wrI, rdL_wrI, Nat.reduceEqDiff, false_and, and_false, true_and, and_true, reduceIte, ite_self]; exact h.s_least)
  · first | exact h.s_flip | (simp only [rdI_wrI, rdP_wrI, rdL_wrI, Nat.reduceEqDiff, false_and, and_false, true_and, and_true, reduceIte, ite_self]; exact h.s_flip)
  · first | exact h.s_base | (simp only [rdI_wrI, rdP_wrI, rdL_wrI, Nat.reduceEqDiff, false_and, and_false, true_and, and_true, reduceIte, ite_self]; exact h.s_base)
  · first | exact h.s_shift | (simp only [rdI_wrI, rdP_wrI, rdL_wrI, Nat.reduceEqDiff, false_and, and_false, true_and, and_true, reduceIte, ite_self]; exact h.s_shift)
  · first | exact h.s_scan | (simp only [rdI_wrI, rdP_wrI, rdL_wrI, Nat.reduceEqDiff, false_and, and_false, true_and, and_true, reduceIte, ite_self]; exact h.s_scan)
  · first | exact h.s_kind | (simp only [rdI_wrI, rdP_wrI, rdL_wrI, Nat.reduceEqDiff, false_and, and_false, true_and, and_true, reduceIte, ite_self]; exact h.s_kind)
  · first | exact h.s_units | (simp only [rdI_wrI, rdP_wrI, rdL_wrI, Nat.reduceEqDiff, false_and, and_false, true_and, and_true, reduceIte, ite_self]; exact h.s_units)
  · first | exact h.s_zones | (simp only [rdI_wrI, rdP_wrI, rdL_wrI, Nat.reduceEqDiff, false_and, and_false, true_and, and_true, reduceIte, ite_self]; exact h.s_zones)
  · first | exact h.s_funs | (simp only [rdI_wrI, rdP_wrI, rdL_wrI, Nat.reduceEqDiff, false_and, and_false, true_and, and_true, reduceIte, ite_self]; exact h.s_funs)
  · first | exact h.s_ownc | (simp only [rdI_wrI, rdP_wrI, rdL_wrI, Nat.reduceEqDiff, false_and, and_false, true_and, and_true, reduceIte, ite_self]; exact h.s_ownc)
  · first | exact h.s_stk | (simp only [rdI_wrI, rdP_wrI, rdL_wrI, Nat.reduceEqDiff, false_and, and_false, true_and, and_true, reduceIte, ite_self]; exact h.s_stk)
  · first | exact h.s_cvtM | (simp only [rdI_wrI, rdP_wrI, rdL_wrI, Nat.reduceEqDiff, false_and, and_false, true_and, and_true, reduceIte, ite_self]; exact h.s_cvtM)
  · first | exact h.s_stoM | (simp only [rdI_wrI, rdP_wrI, rdL_wrI, Nat.reduceEqDiff, false_and, and_false, true_and, and_true, reduceIte, ite_self]; exact h.s_stoM)
  · first | exact h.s_twM | (simp only [rdI_wrI, rdP_wrI, rdL_wrI, Nat.reduceEqDiff, false_and, and_false, true_and, and_true, reduceIte, ite_self]; exact h.s_twM)
  · first | exact h.s_glM | (simp only [rdI_wrI, rdP_wrI, rdL_wrI, Nat.reduceEqDiff, false_and, and_false, true_and, and_true, reduceIte, ite_self]; exact h.s_glM)
  · first | exact h.fail | (simp only [rdI_wrI, rdP_wrI, rdL_wrI, Nat.reduceEqDiff, false_and, and_false, true_and, and_true, reduceIte, ite_self]; exact h.fail)
  · first | exact h.r_stk | (simp only [rdI_wrI, rdP_wrI, rdL_wrI, Nat.reduceEqDiff, false_and, and_false, true_and, and_true, reduceIte, ite_self]; exact h.r_stk)
  · first | exact h.r_shift | (simp only [rdI_wrI, rdP_wrI, rdL_wrI, Nat.reduceEqDiff, false_and, and_false, true_and, and_true, reduceIte, ite_self]; exact h.r_shift)
  · first | exact h.r_units | (simp only [rdI_wrI, rdP_wrI, rdL_wrI, Nat.reduceEqDiff, false_and, and_false, true_and, and_true, reduceIte, ite_self]; exact h.r_units)
  · first | exact h.r_funs | (simp only [rdI_wrI, rdP_wrI, rdL_wrI, Nat.reduceEqDiff, false_and, and_false, true_and, and_true, reduceIte, ite_self]; exact h.r_funs)
  · first | exact h.r_ownc | (simp only [rdI_wrI, rdP_wrI, rdL_wrI, Nat.reduceEqDiff, false_and, and_false, true_and, and_true, reduceIte, ite_self]; exact h.r_ownc)
  · first | exact h.r_cvtM | (simp only [rdI_wrI, rdP_wrI, rdL_wrI, Nat.reduceEqDiff, false_and, and_false, true_and, and_true, reduceIte, ite_self]; exact h.r_cvtM)
  · first | exact h.r_stoM | (simp only [rdI_wrI, rdP_wrI, rdL_wrI, Nat.reduceEqDiff, false_and, and_false, true_and, and_true, reduceIte, ite_self]; exact h.r_stoM)
  · first | exact h.r_twM | (simp only [rdI_wrI, rdP_wrI, rdL_wrI, Nat.reduceEqDiff, false_and, and_false, true_and, and_true, reduceIte, ite_self]; exact h.r_twM)
  · first | exact h.r_glM | (simp only [rdI_wrI, rdP_wrI, rdL_wrI, Nat.reduceEqDiff, false_and, and_false, true_and, and_true, reduceIte, ite_self]; exact h.r_glM)
  · first | exact h.r_ppem | (simp only [rdI_wrI, rdP_wrI, rdL_wrI, Nat.reduceEqDiff, false_and, and_false, true_and, and_true, reduceIte, ite_self]; exact h.r_ppem)
  · first | exact h.r_steps | (simp only [rdI_wrI, rdP_wrI, rdL_wrI, Nat.reduceEqDiff, false_and, and_false, true_and, and_true, reduceIte, ite_self]; exact h.r_steps)
  · first | exact h.r_flip | (simp only [rdI_wrI, rdP_wrI, rdL_wrI, Nat.reduceEqDiff, false_and, and_false, true_and, and_true, reduceIte, ite_self]; exact h.r_flip)
  · first | exact h.a_cvt | (simp only [rdI_wrI, rdP_wrI, rdL_wrI, Nat.reduceEqDiff, false_and, and_false, true_and, and_true, reduceIte, ite_self]; exact h.a_cvt)
  · first | exact h.a_sto | (simp only [rdI_wrI, rdP_wrI, rdL_wrI, Nat.reduceEqDiff, false_and, and_false, true_and, and_true, reduceIte, ite_self]; exact h.a_sto)
  · first | exact h.z_tw_ox | (simp only [rdI_wrI, rdP_wrI, rdL_wrI, Nat.reduceEqDiff, false_and, and_false, true_and, and_true, reduceIte, ite_self]; exact h.z_tw_ox)
  · first | exact h.z_tw_oy | (simp only [rdI_wrI, rdP_wrI, rdL_wrI, Nat.reduceEqDiff, false_and, and_false, true_and, and_true, reduceIte, ite_self]; exact h.z_tw_oy)
  · first | exact h.z_tw_x | (simp only [rdI_wrI, rdP_wrI, rdL_wrI, Nat.reduceEqDiff, false_and, and_false, true_and, and_true, reduceIte, ite_self]; exact h.z_tw_x)
  · first | exact h.z_tw_y | (simp only [rdI_wrI, rdP_wrI, rdL_wrI, Nat.reduceEqDiff, false_and, and_false, true_and, and_true, reduceIte, ite_self]; exact h.z_tw_y)
  · first | exact h.z_tw_t | (simp only [rdI_wrI, rdP_wrI, rdL_wrI, Nat.reduceEqDiff, false_and, and_false, true_and, and_true, reduceIte, ite_self]; exact h.z_tw_t)
  · first | exact h.z_gl_ox | (simp only [rdI_wrI, rdP_wrI, rdL_wrI, Nat.reduceEqDiff, false_and, and_false, true_and, and_true, reduceIte, ite_self]; exact h.z_gl_ox)
  · first | exact h.z_gl_oy | (simp only [rdI_wrI, rdP_wrI, rdL_wrI, Nat.reduceEqDiff, false_and, and_false, true_and, and_true, reduceIte, ite_self]; exact h.z_gl_oy)
  · first | exact h.z_gl_x | (simp only [rdI_wrI, rdP_wrI, rdL_wrI, Nat.reduceEqDiff, false_and, and_false, true_and, and_true, reduceIte, ite_self]; exact h.z_gl_x)
  · first | exact h.z_gl_y | (simp only [rdI_wrI, rdP_wrI, rdL_wrI, Nat.reduceEqDiff, false_and, and_false, true_and, and_true, reduceIte, ite_self]; exact h.z_gl_y)
  · first | exact h.z_gl_t | (simp only [rdI_wrI, rdP_wrI, rdL_wrI, Nat.reduceEqDiff, false_and, and_false, true_and, and_true, reduceIte, ite_self]; exact h.z_gl_t)
  · first | exact h.bys | (have q := h.bys; simp only [BY] at q ⊢; simp only [rdI_wrI, rdP_wrI, rdL_wrI, Nat.reduceEqDiff, false_and, and_false, true_and, and_true, reduceIte, ite_self]; exact q)
  · exact OL_m (by omega) (OL_m (by omega) (h.ol))
  · first | exact h.r_high | (simp only [rdI_wrI, rdP_wrI, rdL_wrI, Nat.reduceEqDiff, false_and, and_false, true_and, and_true, reduceIte, ite_self]; exact h.r_high)
  · intro i hi
    have q := h.ft i hi
    rcases q with q | ⟨a1, a2, a3, a4⟩
    · refine Or.inl ?_
      simp only [rdI_wrI, rdP_wrI, rdL_wrI, Nat.reduceEqDiff, false_and, and_false, true_and, and_true, reduceIte, ite_self]
      exact q
    · refine Or.inr ?_
      obtain ⟨p1, p2, p3, p4⟩ := a3
      have ne : ¬ (rdI hc 49 i).toNatClampNeg = x.toNatClampNeg := fun w => by
        have := xI_inj (by rcases p1.1 with e | e | e <;> rw [e] <;> decide) hx0 w
        grind
      simp only [PL, PO] at p1 ⊢
      simp only [rdI_wrI, rdP_wrI, rdL_wrI, Nat.reduceEqDiff, false_and, and_false, true_and, and_true, reduceIte, ite_self]
      rw [if_neg ne, if_neg ne]
      exact ⟨a1, a2, ⟨p1, p2, p3, p4⟩, a4⟩
  · have q := h.ow
    obtain ⟨o1, o2, o3, o4, o5, o6⟩ := q
    refine ⟨o1, o2, ?_, o4, ?_, o6⟩
    · intro i hi
      obtain ⟨c1, c2, c3, c4, ⟨p1, p2, p3, p4⟩, c6⟩ := o3 i hi
      have ne : ¬ (rdI hc 52 i).toNatClampNeg = x.toNatClampNeg := fun w => by
        have := xI_inj (by rcases p1.1 with e | e | e <;> rw [e] <;> decide) hx0 w
        grind
      simp only [PL, PO] at p1 ⊢
      simp only [rdI_wrI, rdP_wrI, rdL_wrI, Nat.reduceEqDiff, false_and, and_false, true_and, and_true, reduceIte, ite_self]
      rw [if_neg ne, if_neg ne]
      exact ⟨c1, c2, c3, c4, ⟨p1, p2, p3, p4⟩, c6⟩
    · simp only [rdI_wrI, rdP_wrI, rdL_wrI, Nat.reduceEqDiff, false_and, and_false, true_and, and_true, reduceIte, ite_self]; exact o5
def runC (x B S : Int32) (hc : hH) : hH := (wrI (wrI (wrI (wrI (wrI (wrI (wrI (wrI (wrI (wrI (wrI (wrI (wrI (wrI (wrI (wrI (wrI (wrI (wrI (wrI (wrI (wrI (wrI (wrI (wrI hc 22 7 x) 22 8 x) 41 (Int32.toNatClampNeg x) B) 42 (Int32.toNatClampNeg x) S) 22 11 0) 22 12 (-1)) 22 15 0) 22 16 0) 22 28 16384) 22 29 0) 22 30 16384) 22 31 0) 22 32 16384) 22 33 0) 54 0 0) 54 1 0) 54 2 0) 55 0 1) 55 1 1) 55 2 1) 22 38 1) 22 39 1) 22 40 64) 22 41 0) 22 42 32)
def runM (x : Int32) (hm : hH) : hH := (wrI (wrI (wrI (wrI (wrI (wrI (wrI (wrI (wrI (wrI (wrI (wrI (wrI (wrI (wrI (wrI (wrI (wrI (wrI (wrI (wrI (wrI (wrI hm 192 91 x) 192 92 x) 192 93 0) 192 56 0) 192 99 0) 192 61 0) 192 63 16384) 192 64 0) 192 65 16384) 192 66 0) 192 67 16384) 192 68 0) 192 69 0) 192 70 0) 192 71 0) 192 72 1) 192 73 1) 192 74 1) 192 75 1) 192 76 24) 192 77 64) 192 78 0) 192 79 32)
theorem Rq.start {b x B S : Int32} {P : hH → hH → Prop} {hc hm : hH} (h : Rq b P hc hm) (hx : x = b + 1) (hb : b = -1 ∨ b = 0 ∨ b = 1) (hB : 0 ≤ B ∧ B ≤ 12000) (hS : 0 ≤ S ∧ S ≤ 12000) (hBS : B + S ≤ rdI hc 5 1) (e220 : rdI hm 220 (Int32.toNatClampNeg x) = B) (e221 : rdI hm 221 (Int32.toNatClampNeg x) = S) (hP : P (wrI (wrI hc 22 7 x) 22 8 x) hm) : Rm P (runC x B S hc) (wrI (runM x hm) 192 61 (-1)) := by
  have hx3 : x = 0 ∨ x = 1 ∨ x = 2 := by rcases hb with rfl | rfl | rfl <;> subst hx <;> decide
  have hbx : b < x := by rcases hb with rfl | rfl | rfl <;> subst hx <;> decide
  unfold runC runM
  refine Rm.mk h.cl ?_ ?_ ?_ ?_ ?_ ?_ ?_ ?_ ?_ ?_ ?_ ?_ ?_ ?_ ?_ ?_ ?_ ?_ ?_ ?_ ?_ ?_ ?_ ?_ ?_ ?_ ?_ ?_ ?_ ?_ ?_ ?_ ?_ ?_ ?_ ?_ ?_ ?_ ?_ ?_ ?_ ?_ ?_ ?_ ?_ ?_ ?_ ?_ ?_ ?_ ?_ ?_ ?_ ?_ ?_ ?_ ?_ ?_ ?_ ?_ ?_ ?_ ?_ ?_ ?_ ?_ ?_ ?_ ?_ ?_ ?_ ?_ ?_ ?_ ?_ ?_ ?_ ?_ ?_ ?_ ?_ ?_ ?_ ?_ ?_ ?_ ?_ ?_ ?_
  · exact h.cl.m rfl (h.cl.m rfl (h.cl.m rfl (h.cl.m rfl (h.cl.m rfl (h.cl.m rfl (h.cl.m rfl (h.cl.m rfl (h.cl.m rfl (h.cl.m rfl (h.cl.m rfl (h.cl.m rfl (h.cl.m rfl (h.cl.m rfl (h.cl.m rfl (h.cl.m rfl (h.cl.m rfl (h.cl.m rfl (h.cl.m rfl (h.cl.m rfl (h.cl.m rfl (h.cl.m rfl (h.cl.m rfl (h.cl.m rfl (h.cl.c rfl (h.cl.c rfl (h.cl.c rfl (h.cl.c rfl (h.cl.c rfl (h.cl.c rfl (h.cl.c rfl (h.cl.c rfl (h.cl.c rfl (h.cl.c rfl (h.cl.c rfl (h.cl.c rfl (h.cl.c rfl (h.cl.c rfl (h.cl.c rfl (h.cl.c rfl (h.cl.c rfl (h.cl.c rfl (h.cl.c rfl (h.cl.c rfl (h.cl.c rfl (h.cl.c rfl (h.cl.c rfl (hP)))))))))))))))))))))))))))))))))))))))))))))))
  · first | exact h.s_ppem | (simp only [rdI_wrI, rdP_wrI, rdL_wrI, Nat.reduceEqDiff, false_and, and_false, true_and, and_true, reduceIte, ite_self]; exact h.s_ppem)
  · first | exact h.s_steps | (simp only [rdI_wrI, rdP_wrI, rdL_wrI, Nat.reduceEqDiff, false_and, and_false, true_and, and_true, reduceIte, ite_self]; exact h.s_steps)
  · first | exact h.s_high | (simp only [rdI_wrI, rdP_wrI, rdL_wrI, Nat.reduceEqDiff, false_and, and_false, true_and, and_true, reduceIte, ite_self]; exact h.s_high)
  · exact rfl
  · exact rfl
  · exact rfl
  · exact rfl
  · exact rfl
  · exact rfl
  · first | exact h.s_owns | (simp only [rdI_wrI, rdP_wrI, rdL_wrI, Nat.reduceEqDiff, false_and, and_false, true_and, and_true, reduceIte, ite_self]; exact h.s_owns)
  · exact rfl
  · exact rfl
  · exact rfl
  · exact rfl
  · exact rfl
  · exact rfl
  · exact rfl
  · exact rfl
  · exact rfl
  · exact rfl
  · exact rfl
  · exact rfl
  · exact rfl
  · exact rfl
  · exact rfl
  · exact rfl
  · first | exact h.s_cut | (simp only [rdI_wrI, rdP_wrI, rdL_wrI, Nat.reduceEqDiff, false_and, and_false, true_and, and_true, reduceIte, ite_self]; exact h.s_cut)
  · first | exact h.s_single | (simp only [rdI_wrI, rdP_wrI, rdL_wrI, Nat.reduceEqDiff, false_and, and_false, true_and, and_true, reduceIte, ite_self]; exact h.s_single)
  · first | exact h.s_scut | (simp only [rdI_wrI, rdP_wrI, rdL_wrI, Nat.reduceEqDiff, false_and, and_false, true_and, and_true, reduceIte, ite_self]; exact h.s_scut)
  · first | exact h.s_least | (simp only [rdI_wrI, rdP_wrI, rdL_wrI, Nat.reduceEqDiff, false_and, and_false, true_and, and_true, reduceIte, ite_self]; exact h.s_least)
  · first | exact h.s_flip | (simp only [rdI_wrI, rdP_wrI, rdL_wrI, Nat.reduceEqDiff, false_and, and_false, true_and, and_true, reduceIte, ite_self]; exact h.s_flip)
  · first | exact h.s_base | (simp only [rdI_wrI, rdP_wrI, rdL_wrI, Nat.reduceEqDiff, false_and, and_false, true_and, and_true, reduceIte, ite_self]; exact h.s_base)
  · first | exact h.s_shift | (simp only [rdI_wrI, rdP_wrI, rdL_wrI, Nat.reduceEqDiff, false_and, and_false, true_and, and_true, reduceIte, ite_self]; exact h.s_shift)
  · first | exact h.s_scan | (simp only [rdI_wrI, rdP_wrI, rdL_wrI, Nat.reduceEqDiff, false_and, and_false, true_and, and_true, reduceIte, ite_self]; exact h.s_scan)
  · first | exact h.s_kind | (simp only [rdI_wrI, rdP_wrI, rdL_wrI, Nat.reduceEqDiff, false_and, and_false, true_and, and_true, reduceIte, ite_self]; exact h.s_kind)
  · first | exact h.s_units | (simp only [rdI_wrI, rdP_wrI, rdL_wrI, Nat.reduceEqDiff, false_and, and_false, true_and, and_true, reduceIte, ite_self]; exact h.s_units)
  · first | exact h.s_zones | (simp only [rdI_wrI, rdP_wrI, rdL_wrI, Nat.reduceEqDiff, false_and, and_false, true_and, and_true, reduceIte, ite_self]; exact h.s_zones)
  · first | exact h.s_funs | (simp only [rdI_wrI, rdP_wrI, rdL_wrI, Nat.reduceEqDiff, false_and, and_false, true_and, and_true, reduceIte, ite_self]; exact h.s_funs)
  · first | exact h.s_ownc | (simp only [rdI_wrI, rdP_wrI, rdL_wrI, Nat.reduceEqDiff, false_and, and_false, true_and, and_true, reduceIte, ite_self]; exact h.s_ownc)
  · first | exact h.s_stk | (simp only [rdI_wrI, rdP_wrI, rdL_wrI, Nat.reduceEqDiff, false_and, and_false, true_and, and_true, reduceIte, ite_self]; exact h.s_stk)
  · first | exact h.s_cvtM | (simp only [rdI_wrI, rdP_wrI, rdL_wrI, Nat.reduceEqDiff, false_and, and_false, true_and, and_true, reduceIte, ite_self]; exact h.s_cvtM)
  · first | exact h.s_stoM | (simp only [rdI_wrI, rdP_wrI, rdL_wrI, Nat.reduceEqDiff, false_and, and_false, true_and, and_true, reduceIte, ite_self]; exact h.s_stoM)
  · first | exact h.s_twM | (simp only [rdI_wrI, rdP_wrI, rdL_wrI, Nat.reduceEqDiff, false_and, and_false, true_and, and_true, reduceIte, ite_self]; exact h.s_twM)
  · first | exact h.s_glM | (simp only [rdI_wrI, rdP_wrI, rdL_wrI, Nat.reduceEqDiff, false_and, and_false, true_and, and_true, reduceIte, ite_self]; exact h.s_glM)
  · first | exact h.fail | (simp only [rdI_wrI, rdP_wrI, rdL_wrI, Nat.reduceEqDiff, false_and, and_false, true_and, and_true, reduceIte, ite_self]; exact h.fail)
  · simp only [rdI_wrI, rdP_wrI, rdL_wrI, Nat.reduceEqDiff, false_and, and_false, true_and, and_true, reduceIte, ite_self]; exact ⟨by decide, h.r_stk.1⟩
  · simp only [rdI_wrI, rdP_wrI, rdL_wrI, Nat.reduceEqDiff, false_and, and_false, true_and, and_true, reduceIte, ite_self]; exact h.r_high
  · first | exact h.r_stk | (simp only [rdI_wrI, rdP_wrI, rdL_wrI, Nat.reduceEqDiff, false_and, and_false, true_and, and_true, reduceIte, ite_self]; exact h.r_stk)
  · simp only [rdI_wrI, rdP_wrI, rdL_wrI, Nat.reduceEqDiff, false_and, and_false, true_and, and_true, reduceIte, ite_self]; decide
  · simp only [rdI_wrI, rdP_wrI, rdL_wrI, Nat.reduceEqDiff, false_and, and_false, true_and, and_true, reduceIte, ite_self]; exact ⟨by decide, hS.1⟩
  · simp only [rdI_wrI, rdP_wrI, rdL_wrI, Nat.reduceEqDiff, false_and, and_false, true_and, and_true, reduceIte, ite_self]; exact Or.inr trivial
  · simp only [rdI_wrI, rdP_wrI, rdL_wrI, Nat.reduceEqDiff, false_and, and_false, true_and, and_true, reduceIte, ite_self]; exact Or.inr trivial
  · simp only [rdI_wrI, rdP_wrI, rdL_wrI, Nat.reduceEqDiff, false_and, and_false, true_and, and_true, reduceIte, ite_self]; exact Or.inr trivial
  · simp only [rdI_wrI, rdP_wrI, rdL_wrI, Nat.reduceEqDiff, false_and, and_false, true_and, and_true, reduceIte, ite_self]; decide
  · simp only [rdI_wrI, rdP_wrI, rdL_wrI, Nat.reduceEqDiff, false_and, and_false, true_and, and_true, reduceIte, ite_self]; decide
  · first | exact h.r_shift | (simp only [rdI_wrI, rdP_wrI, rdL_wrI, Nat.reduceEqDiff, false_and, and_false, true_and, and_true, reduceIte, ite_self]; exact h.r_shift)
  · first | exact h.r_units | (simp only [rdI_wrI, rdP_wrI, rdL_wrI, Nat.reduceEqDiff, false_and, and_false, true_and, and_true, reduceIte, ite_self]; exact h.r_units)
  · first | exact h.r_funs | (simp only [rdI_wrI, rdP_wrI, rdL_wrI, Nat.reduceEqDiff, false_and, and_false, true_and, and_true, reduceIte, ite_self]; exact h.r_funs)
  · first | exact h.r_ownc | (simp only [rdI_wrI, rdP_wrI, rdL_wrI, Nat.reduceEqDiff, false_and, and_false, true_and, and_true, reduceIte, ite_self]; exact h.r_ownc)
  · first | exact h.r_cvtM | (simp only [rdI_wrI, rdP_wrI, rdL_wrI, Nat.reduceEqDiff, false_and, and_false, true_and, and_true, reduceIte, ite_self]; exact h.r_cvtM)
  · first | exact h.r_stoM | (simp only [rdI_wrI, rdP_wrI, rdL_wrI, Nat.reduceEqDiff, false_and, and_false, true_and, and_true, reduceIte, ite_self]; exact h.r_stoM)
  · first | exact h.r_twM | (simp only [rdI_wrI, rdP_wrI, rdL_wrI, Nat.reduceEqDiff, false_and, and_false, true_and, and_true, reduceIte, ite_self]; exact h.r_twM)
  · first | exact h.r_glM | (simp only [rdI_wrI, rdP_wrI, rdL_wrI, Nat.reduceEqDiff, false_and, and_false, true_and, and_true, reduceIte, ite_self]; exact h.r_glM)
  · first | exact h.r_ppem | (simp only [rdI_wrI, rdP_wrI, rdL_wrI, Nat.reduceEqDiff, false_and, and_false, true_and, and_true, reduceIte, ite_self]; exact h.r_ppem)
  · first | exact h.r_steps | (simp only [rdI_wrI, rdP_wrI, rdL_wrI, Nat.reduceEqDiff, false_and, and_false, true_and, and_true, reduceIte, ite_self]; exact h.r_steps)
  · simp only [rdI_wrI, rdP_wrI, rdL_wrI, Nat.reduceEqDiff, false_and, and_false, true_and, and_true, reduceIte, ite_self]; constructor <;> grind
  · simp only [rdI_wrI, rdP_wrI, rdL_wrI, Nat.reduceEqDiff, false_and, and_false, true_and, and_true, reduceIte, ite_self]; exact Int32.le_refl _
  · first | exact h.r_flip | (simp only [rdI_wrI, rdP_wrI, rdL_wrI, Nat.reduceEqDiff, false_and, and_false, true_and, and_true, reduceIte, ite_self]; exact h.r_flip)
  · simp only [rdI_wrI, rdP_wrI, rdL_wrI, Nat.reduceEqDiff, false_and, and_false, true_and, and_true, reduceIte, ite_self]; decide
  · intro i hi; simp only [rdI_wrI, rdP_wrI, rdL_wrI, Nat.reduceEqDiff, false_and, and_false, true_and, and_true, reduceIte, ite_self] at hi; exact absurd hi (Nat.not_lt_zero _)
  · first | exact h.a_cvt | (simp only [rdI_wrI, rdP_wrI, rdL_wrI, Nat.reduceEqDiff, false_and, and_false, true_and, and_true, reduceIte, ite_self]; exact h.a_cvt)
  · first | exact h.a_sto | (simp only [rdI_wrI, rdP_wrI, rdL_wrI, Nat.reduceEqDiff, false_and, and_false, true_and, and_true, reduceIte, ite_self]; exact h.a_sto)
  · first | exact h.z_tw_ox | (simp only [rdI_wrI, rdP_wrI, rdL_wrI, Nat.reduceEqDiff, false_and, and_false, true_and, and_true, reduceIte, ite_self]; exact h.z_tw_ox)
  · first | exact h.z_tw_oy | (simp only [rdI_wrI, rdP_wrI, rdL_wrI, Nat.reduceEqDiff, false_and, and_false, true_and, and_true, reduceIte, ite_self]; exact h.z_tw_oy)
  · first | exact h.z_tw_x | (simp only [rdI_wrI, rdP_wrI, rdL_wrI, Nat.reduceEqDiff, false_and, and_false, true_and, and_true, reduceIte, ite_self]; exact h.z_tw_x)
  · first | exact h.z_tw_y | (simp only [rdI_wrI, rdP_wrI, rdL_wrI, Nat.reduceEqDiff, false_and, and_false, true_and, and_true, reduceIte, ite_self]; exact h.z_tw_y)
  · first | exact h.z_tw_t | (simp only [rdI_wrI, rdP_wrI, rdL_wrI, Nat.reduceEqDiff, false_and, and_false, true_and, and_true, reduceIte, ite_self]; exact h.z_tw_t)
  · first | exact h.z_gl_ox | (simp only [rdI_wrI, rdP_wrI, rdL_wrI, Nat.reduceEqDiff, false_and, and_false, true_and, and_true, reduceIte, ite_self]; exact h.z_gl_ox)
  · first | exact h.z_gl_oy | (simp only [rdI_wrI, rdP_wrI, rdL_wrI, Nat.reduceEqDiff, false_and, and_false, true_and, and_true, reduceIte, ite_self]; exact h.z_gl_oy)
  · first | exact h.z_gl_x | (simp only [rdI_wrI, rdP_wrI, rdL_wrI, Nat.reduceEqDiff, false_and, and_false, true_and, and_true, reduceIte, ite_self]; exact h.z_gl_x)
  · first | exact h.z_gl_y | (simp only [rdI_wrI, rdP_wrI, rdL_wrI, Nat.reduceEqDiff, false_and, and_false, true_and, and_true, reduceIte, ite_self]; exact h.z_gl_y)
  · first | exact h.z_gl_t | (simp only [rdI_wrI, rdP_wrI, rdL_wrI, Nat.reduceEqDiff, false_and, and_false, true_and, and_true, reduceIte, ite_self]; exact h.z_gl_t)
  · simp only [PO]; simp only [rdI_wrI, rdP_wrI, rdL_wrI, Nat.reduceEqDiff, false_and, and_false, true_and, and_true, reduceIte, ite_self]; exact ⟨by grind, e220, e221, hB.1, hS.1, hB.2, hS.2, hBS⟩
  · intro i hi; simp only [rdI_wrI, rdP_wrI, rdL_wrI, Nat.reduceEqDiff, false_and, and_false, true_and, and_true, reduceIte, ite_self] at hi; exact absurd hi (Nat.not_lt_zero _)
  · intro i hi
    have q := h.ft i hi
    rcases q with q | ⟨a1, a2, a3, a4⟩
    · refine Or.inl ?_
      simp only [rdI_wrI, rdP_wrI, rdL_wrI, Nat.reduceEqDiff, false_and, and_false, true_and, and_true, reduceIte, ite_self]
      exact q
    · refine Or.inr ?_
      obtain ⟨p1, p2, p3, p4⟩ := a3
      have ne : ¬ (rdI hc 49 i).toNatClampNeg = x.toNatClampNeg := fun w => by
        have := xI_inj (by rcases p1.1 with e | e | e <;> rw [e] <;> decide) (by grind) w
        grind
      simp only [PL, PO] at p1 ⊢
      simp only [rdI_wrI, rdP_wrI, rdL_wrI, Nat.reduceEqDiff, false_and, and_false, true_and, and_true, reduceIte, ite_self]
      rw [if_neg ne, if_neg ne]
      exact ⟨a1, a2, ⟨p1, by grind, p3, p4⟩, a4⟩
  · have q := h.ow
    obtain ⟨o1, o2, o3, o4, o5, o6⟩ := q
    refine ⟨?_, ?_, ?_, ?_, ?_, ?_⟩
    · simp only [rdI_wrI, rdP_wrI, rdL_wrI, Nat.reduceEqDiff, false_and, and_false, true_and, and_true, reduceIte, ite_self]; exact o1
    · simp only [rdI_wrI, rdP_wrI, rdL_wrI, Nat.reduceEqDiff, false_and, and_false, true_and, and_true, reduceIte, ite_self]; exact o2
    · intro i hi
      have hi' : i < (rdI hc 22 24).toNatClampNeg := by simp only [rdI_wrI, rdP_wrI, rdL_wrI, Nat.reduceEqDiff, false_and, and_false, true_and, and_true, reduceIte, ite_self] at hi; exact hi
      obtain ⟨c1, c2, c3, c4, ⟨p1, p2, p3, p4⟩, c6⟩ := o3 i hi'
      have ne : ¬ (rdI hc 52 i).toNatClampNeg = x.toNatClampNeg := fun w => by
        have := xI_inj (by rcases p1.1 with e | e | e <;> rw [e] <;> decide) (by grind) w
        grind
      simp only [PL, PO] at p1 ⊢
      simp only [rdI_wrI, rdP_wrI, rdL_wrI, Nat.reduceEqDiff, false_and, and_false, true_and, and_true, reduceIte, ite_self]
      rw [if_neg ne, if_neg ne]
      exact ⟨c1, c2, c3, c4, ⟨p1, by grind, p3, p4⟩, c6⟩
    · simp only [rdI_wrI, rdP_wrI, rdL_wrI, Nat.reduceEqDiff, false_and, and_false, true_and, and_true, reduceIte, ite_self]; exact o4
    · simp only [rdI_wrI, rdP_wrI, rdL_wrI, Nat.reduceEqDiff, false_and, and_false, true_and, and_true, reduceIte, ite_self]; exact o5
    · simp only [rdI_wrI, rdP_wrI, rdL_wrI, Nat.reduceEqDiff, false_and, and_false, true_and, and_true, reduceIte, ite_self]; exact o6
  · have q := h.bys; simp only [BY] at q ⊢; simp only [rdI_wrI, rdP_wrI, rdL_wrI, Nat.reduceEqDiff, false_and, and_false, true_and, and_true, reduceIte, ite_self]; exact q
  · exact OL_m (by omega) (OL_m (by omega) (OL_m (by omega) (OL_m (by omega) (OL_m (by omega) (OL_m (by omega) (OL_m (by omega) (OL_m (by omega) (OL_m (by omega) (OL_m (by omega) (OL_m (by omega) (OL_m (by omega) (OL_m (by omega) (OL_m (by omega) (OL_m (by omega) (OL_m (by omega) (OL_m (by omega) (OL_m (by omega) (OL_m (by omega) (OL_m (by omega) (OL_m (by omega) (OL_m (by omega) (OL_m (by omega) (OL_m (by omega) (OL_c rfl (OL_c rfl (OL_c rfl (OL_c rfl (OL_c rfl (OL_c rfl (OL_c rfl (OL_c rfl (OL_c rfl (OL_c rfl (OL_c rfl (OL_c rfl (OL_c rfl (OL_c rfl (OL_c rfl (OL_c rfl (OL_c rfl (OL_c rfl (OL_c rfl (OL_c rfl (OL_c rfl (OL_c rfl (OL_c rfl (OL_c rfl (OL_c rfl (h.ol)))))))))))))))))))))))))))))))))))))))))))))))))
theorem f_Ma_run_eq {x B S : Int32} {h : hH} (vx : vp_in x 3) : f_Ma_run x B S h = (bJT (P := hH) (
    whT (A := (Int32 × hH)) (B := hH) (fun p3 =>
        if p3.1 = 0 then (
          some (.inr (.inr p3.2))
        ) else (
          gd (vp_in (rdI p3.2 22 7) 3) <|
          if (rdI p3.2 22 11) = (rdI p3.2 42 (Int32.toNatClampNeg (rdI p3.2 22 7))) then (
            lz (A := Int32) (if (rdI p3.2 22 16) = 0 then (1 : Int32) else (0 : Int32)) fun p6 =>
            bT (f_Ma_want p6 (4 : Int32) p3.2) fun _ h19 =>
            some (.inr (.inl ((0 : Int32), h19)))
          ) else (
            bT (f_Ma_step p3.2) fun _ h18 =>
            some (.inr (.inl (p3.1, h18)))
          )
        )
    ) ((1 : Int32), runC x B S h)
  ) fun p4 =>
  lz (wrI p4 22 12 (-1 : Int32)) fun h20 =>
  some (.inr ((), h20))) := by
  unfold f_Ma_run f_Ma_axes f_Ma_rounding runC
  first | (simp only [gd_pos vx, lz, bS_some]; done) | (simp only [gd_pos vx, lz, bS_some]; rfl)
theorem f_Mo_run_eq {x : Int32} {h : hH} : f_Mo_runProgram x h = (bE (P := hH) (X := (Unit × hH)) (
      wh (A := hH) (B := (hH ⊕ (Unit × hH))) (fun p1 =>
        if (rdI p1 192 59) = 0 then (
          gd (vp_in (rdI p1 192 92) 3) <|
          if (rdI p1 192 93) < (rdI p1 221 (Int32.toNatClampNeg (rdI p1 192 92))) then (
            lz (wrI p1 192 61 (rdI p1 192 93)) fun h8 =>
            if (rdI h8 192 58) = (20000 : Int32) then (
              bS (f_Mo_fail (10 : Int32) h8) fun _ h12 =>
              some (.inr (.inr ((), h12)))
            ) else (
              lz (wrI h8 192 58 ((rdI h8 192 58) + (1 : Int32))) fun h9 =>
              bP (f_Mo_codeByte (rdI h9 192 93) h9) fun a4 =>
              lz (wrI h9 192 93 ((rdI h9 192 93) + (1 : Int32))) fun h10 =>
              bS (f_Mo_perform a4 h10) fun _ h11 =>
              some (.inl h11)
            )
          ) else (
            if (rdI p1 192 99) ≤ 0 then (
              some (.inr (.inr ((), p1)))
            ) else (
              bS (f_Mo_fail (4 : Int32) p1) fun _ h13 =>
              some (.inr (.inr ((), h13)))
            )
          )
        ) else (
          some (.inr (.inl p1))
        )
      ) (runM x h)
    ) fun p2 =>
    some ((), p2)) := by
  unfold f_Mo_runProgram f_Mo_settings f_Mo_setRounding runM
  first | (simp only [lz, bS_some]; done) | (simp only [lz, bS_some]; rfl)
/-- P, and the program that runs -/
def PR (P : hH → hH → Prop) (x : Int32) (hc hm : hH) : Prop := P hc hm ∧ rdI hc 22 8 = x
theorem PR_cl {P : hH → hH → Prop} {x : Int32} (h : Pcl P) : Pcl (PR P x) := by
  refine ⟨?_, ?_, ?_⟩
  · intro hc hm o k v ho q
    refine ⟨h.1 _ _ _ _ _ ho q.1, ?_⟩
    have e : ¬ (22 = o ∧ 8 = k) := by
      rintro ⟨rfl, rfl⟩
      exact absurd ho (by decide)
    rw [rdI_wrI, if_neg e]
    exact q.2
  · intro hc hm o k v ho q
    exact ⟨h.2.1 _ _ _ _ _ ho q.1, q.2⟩
  · intro hc hm k v o q
    refine ⟨h.2.2 _ _ _ _ o q.1, ?_⟩
    have oi := out_ids o
    rw [rdI_o (by omega)]
    exact q.2
/-- P may be told which program runs -/
def P8 (P : hH → hH → Prop) : Prop := ∀ hc hm v, P hc hm → P (wrI hc 22 8 v) hm
theorem Rq.conv {b : Int32} {P Q : hH → hH → Prop} {hc hm : hH} (h : Rq b Q hc hm) (cl : Pcl P) (o : P hc hm) : Rq b P hc hm := ⟨⟨cl, o, h.1.2.2⟩, h.2⟩
/-- a whole run: from rest to rest, or to a failure -/
theorem L_run {P : hH → hH → Prop} {hc hm : hH} {b x B S : Int32} (p5 : P5 P) (p8 : P8 P) (h : Rq b P hc hm) (hx : x = b + 1) (hb : b = -1 ∨ b = 0 ∨ b = 1) (hB : 0 ≤ B ∧ B ≤ 12000) (hS : 0 ≤ S ∧ S ≤ 12000) (hBS : B + S ≤ rdI hc 5 1) (e220 : rdI hm 220 (Int32.toNatClampNeg x) = B) (e221 : rdI hm 221 (Int32.toNatClampNeg x) = S) : OK2 (f_Ma_run x B S hc) (f_Mo_runProgram x hm) (fun y z => TT (fun g => Rf P g z.2 ∧ rdI g 22 8 = x) (fun q => Rq x P q.2 z.2 ∧ rdI q.2 22 12 = -1) y) := by
  have vx : vp_in x 3 := by rcases hb with rfl | rfl | rfl <;> subst hx <;> exact vp_lit ⟨by decide, by decide⟩
  have h' : Rq b (PR P x) (wrI hc 22 8 x) hm → True := fun _ => trivial
  have hs := h.start hx hb hB hS hBS e220 e221 (p8 _ _ _ (h.cl.c rfl h.out))
  have e8 : rdI (runC x B S hc) 22 8 = x := by unfold runC; simp only [rdI_wrI, rdP_wrI, rdL_wrI, Nat.reduceEqDiff, false_and, and_false, true_and, and_true, eq_self, reduceIte, ite_self]
  have e12 : rdI (runC x B S hc) 22 12 = -1 := by unfold runC; simp only [rdI_wrI, rdP_wrI, rdL_wrI, Nat.reduceEqDiff, false_and, and_false, true_and, and_true, eq_self, reduceIte, ite_self]
  have e16 : rdI (runC x B S hc) 22 16 = 0 := by unfold runC; simp only [rdI_wrI, rdP_wrI, rdL_wrI, Nat.reduceEqDiff, false_and, and_false, true_and, and_true, eq_self, reduceIte, ite_self]
  have hs' : Rm (PR P x) (runC x B S hc) (wrI (runM x hm) 192 61 (rdI (runC x B S hc) 22 12)) := by
    rw [e12]
    exact hs.conv (PR_cl h.cl) ⟨hs.out, e8⟩
  have p5' : P5 (PR P x) := fun hc hm v q => ⟨p5 _ _ _ q.1, by rw [rdI_wrI, if_neg (by decide)]; exact q.2⟩
  obtain ⟨y, z, ey, ez, r⟩ := L_prog p5' hs' e16
  rw [f_Ma_run_eq vx, f_Mo_run_eq, ey, ez]
  rcases y with g | g
  · refine OK2_of rfl rfl ?_
    have r' : Rf (PR P x) g z.2 := r
    exact ⟨r'.conv h.cl r'.out.1, r'.out.2⟩
  · refine OK2_of rfl rfl ?_
    have r' : Rm (PR P x) g.2 (wrI z.2 192 61 (-1)) := r
    have q := r'.rest
    have e := r'.out.2
    rw [e] at q
    have a := r'.s_at
    have a' : rdI (wrI z.2 192 61 (-1)) 192 61 = -1 := by simp only [rdI_wrI, rdP_wrI, rdL_wrI, Nat.reduceEqDiff, false_and, and_false, true_and, and_true, eq_self, reduceIte, ite_self]
    refine ⟨?_, a.symm.trans a'⟩
    have q2 : Rq x P g.2 (wrI z.2 192 61 (-1)) := q.conv h.cl r'.out.1
    have q3 := q2.m_at (rdI z.2 192 61)
    rw [wrI_wrI, wrI_id rfl] at q3
    exact q3
theorem FT_up {hc hm : hH} {b c : Int32} (h : FT hc hm b) (hbc : b ≤ c) : FT hc hm c := by
  intro i hi
  rcases h i hi with q | ⟨a1, a2, a3, a4⟩
  · exact Or.inl q
  · exact Or.inr ⟨a1, a2, ⟨a3.1, Int32.le_trans a3.2.1 hbc, a3.2.2⟩, a4⟩
theorem OW_up {hc hm : hH} {b c : Int32} (h : OW hc hm b) (hbc : b ≤ c) : OW hc hm c := by
  obtain ⟨o1, o2, o3, o4, o5⟩ := h
  refine ⟨o1, o2, ?_, o4, o5⟩
  intro i hi
  obtain ⟨c1, c2, c3, c4, c5, c6⟩ := o3 i hi
  exact ⟨c1, c2, c3, c4, ⟨c5.1, Int32.le_trans c5.2.1 hbc, c5.2.2⟩, c6⟩
theorem Rq.up {b c : Int32} {P : hH → hH → Prop} {hc hm : hH} (h : Rq b P hc hm) (hbc : b ≤ c) : Rq c P hc hm := by
  have f := FT_up h.ft hbc
  have o := OW_up h.ow hbc
  exact Rq.mk h.cl h.out h.s_ppem h.s_steps h.s_high h.s_owns h.s_cut h.s_single h.s_scut h.s_least h.s_flip h.s_base h.s_shift h.s_scan h.s_kind h.s_units h.s_zones h.s_funs h.s_ownc h.s_stk h.s_cvtM h.s_stoM h.s_twM h.s_glM h.fail h.r_stk h.r_shift h.r_units h.r_funs h.r_ownc h.r_cvtM h.r_stoM h.r_twM h.r_glM h.r_ppem h.r_steps h.r_flip h.a_cvt h.a_sto h.z_tw_ox h.z_tw_oy h.z_tw_x h.z_tw_y h.z_tw_t h.z_gl_ox h.z_gl_oy h.z_gl_x h.z_gl_y h.z_gl_t h.bys h.ol h.r_high f o
