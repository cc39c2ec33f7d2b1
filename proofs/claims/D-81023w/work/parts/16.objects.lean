/-! LAYER 2a: the objects: their tags, lengths, constant references (printed by gen/dec.py) -/
def NT : Nat := 251
def tgL : List Nat := [999, 0, 1, 102, 2, 1, 102, 103, 103, 103, 103, 3, 100, 100, 100, 100, 100, 100, 100, 100, 100, 100, 4, 5, 100, 100, 6, 100, 100, 100, 100, 101, 101, 7, 6, 100, 100, 100, 100, 101, 101, 100, 100, 100, 100, 100, 100, 100, 100, 100, 100, 100, 100, 100, 100, 100, 8, 5, 100, 100, 6, 100, 100, 100, 100, 101, 101, 7, 104, 105, 9, 100, 100, 101, 100, 100, 100, 3, 100, 100, 100, 100, 100, 100, 100, 100, 100, 9, 100, 100, 101, 100, 100, 100, 3, 100, 100, 100, 100, 100, 100, 100, 100, 100, 9, 100, 100, 101, 100, 100, 100, 3, 100, 100, 100, 100, 100, 100, 100, 100, 100, 9, 100, 100, 101, 100, 100, 100, 3, 100, 100, 100, 100, 100, 100, 100, 100, 100, 9, 100, 100, 101, 100, 100, 100, 3, 100, 100, 100, 100, 100, 100, 100, 100, 100, 9, 100, 100, 101, 100, 100, 100, 3, 100, 100, 100, 100, 100, 100, 100, 100, 100, 3, 100, 100, 100, 100, 100, 100, 100, 100, 100, 10, 100, 100, 100, 100, 100, 100, 101, 101, 100, 11, 102, 102, 100, 103, 103, 103, 100, 100, 100, 100, 100, 100, 100, 100, 100, 101, 101, 100, 100, 100, 100, 100, 100, 100, 101, 100, 100, 100, 100, 100, 100, 100, 100, 100, 100, 100, 100, 100, 100, 100, 100, 100, 100, 100, 100, 100, 100, 101, 100, 100, 100, 100, 101, 100, 100, 100, 101, 101, 100]
def lnL : List Nat := [0, 0, 0, 12000, 0, 0, 12000, 16, 16, 16, 16, 0, 12, 100, 100, 100, 8, 8, 8, 8, 32, 200, 0, 0, 256, 64, 0, 64, 64, 64, 64, 64, 64, 0, 0, 102, 102, 102, 102, 102, 102, 3, 3, 256, 32, 32, 32, 32, 32, 64, 64, 16, 16, 16, 3, 3, 0, 0, 256, 64, 0, 64, 64, 64, 64, 64, 64, 0, 6, 6, 0, 100, 100, 100, 20, 2, 2, 0, 12, 100, 100, 100, 8, 8, 8, 8, 32, 0, 100, 100, 100, 20, 2, 2, 0, 12, 100, 100, 100, 8, 8, 8, 8, 32, 0, 100, 100, 100, 20, 2, 2, 0, 12, 100, 100, 100, 8, 8, 8, 8, 32, 0, 100, 100, 100, 20, 2, 2, 0, 12, 100, 100, 100, 8, 8, 8, 8, 32, 0, 100, 100, 100, 20, 2, 2, 0, 12, 100, 100, 100, 8, 8, 8, 8, 32, 0, 100, 100, 100, 20, 2, 2, 0, 12, 100, 100, 100, 8, 8, 8, 8, 32, 0, 12, 100, 100, 100, 8, 8, 8, 8, 32, 0, 220, 220, 220, 220, 220, 220, 220, 16384, 100, 0, 12000, 12000, 16, 16, 16, 16, 12, 100, 100, 100, 8, 8, 8, 8, 32, 200, 200, 256, 64, 204, 204, 204, 204, 204, 102, 20, 256, 3, 3, 64, 64, 256, 256, 32, 32, 32, 32, 32, 256, 64, 256, 9, 64, 6, 6, 612, 612, 612, 120, 24, 100, 100, 100, 20, 220, 220, 220, 16384, 100]
def rfL : List (List Nat) := [[], [2, 4, 0, 22, 56, 172, 0, 0, 0, 182, 0, 0, 0, 0, 0, 0, 190, 191, 0], [3, 0], [], [5, 0, 7, 8, 9, 10, 0, 0, 0, 0, 0, 0, 0, 0, 0, 0, 0, 0, 0, 0, 0, 0, 0, 0, 0, 0, 0, 0, 0, 0, 0, 11, 21], [6, 0], [], [], [], [], [], [0, 0, 0, 12, 13, 14, 15, 0, 0, 0, 16, 17, 18, 19, 20, 0, 0, 0], [], [], [], [], [], [], [], [], [], [], [4, 23, 34, 0, 0, 0, 0, 0, 0, 41, 42, 0, 0, 0, 43, 0, 0, 44, 45, 46, 47, 48, 49, 50, 0, 51, 52, 53, 0, 0, 0, 0, 0, 0, 0, 0, 54, 55, 0, 0, 0, 0, 0], [24, 0, 25, 0, 26, 33], [], [], [27, 28, 29, 30, 31, 32, 0], [], [], [], [], [], [], [0, 0, 0, 0, 0, 0, 0, 0, 0], [35, 36, 37, 38, 39, 40, 0], [], [], [], [], [], [], [], [], [], [], [], [], [], [], [], [], [], [], [], [], [], [4, 22, 57, 68, 69, 0, 0, 0], [58, 0, 59, 0, 60, 67], [], [], [61, 62, 63, 64, 65, 66, 0], [], [], [], [], [], [], [0, 0, 0, 0, 0, 0, 0, 0, 0], [70, 87, 104, 121, 138, 155], [77, 94, 111, 128, 145, 162], [71, 72, 73, 0, 74, 0, 75, 76], [], [], [], [], [], [], [0, 0, 0, 78, 79, 80, 81, 0, 0, 0, 82, 83, 84, 85, 86, 0, 0, 0], [], [], [], [], [], [], [], [], [], [88, 89, 90, 0, 91, 0, 92, 93], [], [], [], [], [], [], [0, 0, 0, 95, 96, 97, 98, 0, 0, 0, 99, 100, 101, 102, 103, 0, 0, 0], [], [], [], [], [], [], [], [], [], [105, 106, 107, 0, 108, 0, 109, 110], [], [], [], [], [], [], [0, 0, 0, 112, 113, 114, 115, 0, 0, 0, 116, 117, 118, 119, 120, 0, 0, 0], [], [], [], [], [], [], [], [], [], [122, 123, 124, 0, 125, 0, 126, 127], [], [], [], [], [], [], [0, 0, 0, 129, 130, 131, 132, 0, 0, 0, 133, 134, 135, 136, 137, 0, 0, 0], [], [], [], [], [], [], [], [], [], [139, 140, 141, 0, 142, 0, 143, 144], [], [], [], [], [], [], [0, 0, 0, 146, 147, 148, 149, 0, 0, 0, 150, 151, 152, 153, 154, 0, 0, 0], [], [], [], [], [], [], [], [], [], [156, 157, 158, 0, 159, 0, 160, 161], [], [], [], [], [], [], [0, 0, 0, 163, 164, 165, 166, 0, 0, 0, 167, 168, 169, 170, 171, 0, 0, 0], [], [], [], [], [], [], [], [], [], [0, 0, 0, 173, 174, 175, 176, 0, 0, 0, 177, 178, 179, 180, 181, 0, 0, 0], [], [], [], [], [], [], [], [], [], [183, 184, 185, 186, 187, 188, 189, 0, 0, 0, 0, 0, 0, 0, 0, 0, 0, 0, 0, 0], [], [], [], [], [], [], [], [], [], [193, 0, 194, 0, 0, 0, 195, 196, 197, 198, 0, 0, 0, 0, 0, 0, 0, 0, 0, 0, 0, 0, 0, 0, 0, 0, 0, 0, 0, 0, 0, 0, 0, 199, 200, 201, 202, 203, 204, 205, 206, 207, 208, 209, 210, 211, 212, 213, 214, 215, 216, 217, 0, 0, 218, 219, 0, 0, 0, 0, 0, 0, 0, 0, 0, 0, 0, 0, 0, 0, 0, 0, 0, 0, 0, 0, 0, 0, 0, 0, 0, 0, 0, 0, 0, 0, 0, 0, 0, 220, 221, 0, 0, 0, 222, 223, 224, 225, 0, 0, 226, 227, 228, 229, 230, 0, 0, 0, 0, 0, 0, 0, 0, 231, 232, 233, 234, 235, 236, 237, 238, 239, 240, 241, 242, 0, 0, 0, 0, 0, 243, 244, 245, 246, 0, 0, 247, 248, 249, 0, 0, 0, 0, 250, 0, 251], [], [], [], [], [], [], [], [], [], [], [], [], [], [], [], [], [], [], [], [], [], [], [], [], [], [], [], [], [], [], [], [], [], [], [], [], [], [], [], [], [], [], [], [], [], [], [], [], [], [], [], [], [], [], [], [], [], [], []]
def S0 : hS := (false, fun z => tgL.getD z 999, fun z => lnL.getD z 0, fun z k => (rfL.getD z []).getD k 0)
def rf (z k : Nat) : Nat := S0.2.2.2 z k
def ln (z : Nat) : Nat := S0.2.2.1 z
def zr (z : Nat) : Nat := S0.2.2.1 (S0.2.2.2 z 0)
def isA (c z : Nat) : Prop := S0.2.1 z = c ∧ z ≤ NT
theorem le_b {a b : Nat} (h : Nat.ble a b = true) : a ≤ b := Nat.le_of_ble_eq_true h
theorem at0 {M : hM} {pc : Nat} : hx_at M pc [] := Or.inl rfl
theorem at1 {M : hM} {pc : Nat} {B : List hI} (i : Nat) (h : M.2.2.2.2.2.2.1[i]? = some (pc, B)) : hx_at M pc B := Or.inr ⟨i, h⟩
theorem vp_lit {j : Int32} {n : Nat} (h : 0 ≤ j ∧ j.toNatClampNeg < n) : vp_in j n := by
  unfold vp_in
  intro q
  rcases q with q | q
  · exact absurd h.1 (Int32.not_le.mpr q)
  · exact absurd h.2 (Nat.not_lt.mpr q)
theorem vp_cst {j : Int32} {n m : Nat} (h : m = n) (q : vp_in j n) : vp_in j m := by rw [h]; exact q
theorem nar01 {a : Int32} (h : a = 0 ∨ a = 1) : narrow .boolean (.int a) = .int a := by rcases h with rfl | rfl <;> rfl
theorem sw1 (x a0 : Int32) : (x = a0) ↔ x ∈ [a0] := by simp
theorem sw2 (x a0 a1 : Int32) : (x = a0 ∨ x = a1) ↔ x ∈ [a0, a1] := by simp
theorem sw3 (x a0 a1 a2 : Int32) : (x = a0 ∨ x = a1 ∨ x = a2) ↔ x ∈ [a0, a1, a2] := by simp
theorem sw4 (x a0 a1 a2 a3 : Int32) : (x = a0 ∨ x = a1 ∨ x = a2 ∨ x = a3) ↔ x ∈ [a0, a1, a2, a3] := by simp
theorem sw5 (x a0 a1 a2 a3 a4 : Int32) : (x = a0 ∨ x = a1 ∨ x = a2 ∨ x = a3 ∨ x = a4) ↔ x ∈ [a0, a1, a2, a3, a4] := by simp
theorem sw6 (x a0 a1 a2 a3 a4 a5 : Int32) : (x = a0 ∨ x = a1 ∨ x = a2 ∨ x = a3 ∨ x = a4 ∨ x = a5) ↔ x ∈ [a0, a1, a2, a3, a4, a5] := by simp
theorem sw7 (x a0 a1 a2 a3 a4 a5 a6 : Int32) : (x = a0 ∨ x = a1 ∨ x = a2 ∨ x = a3 ∨ x = a4 ∨ x = a5 ∨ x = a6) ↔ x ∈ [a0, a1, a2, a3, a4, a5, a6] := by simp
theorem sw8 (x a0 a1 a2 a3 a4 a5 a6 a7 : Int32) : (x = a0 ∨ x = a1 ∨ x = a2 ∨ x = a3 ∨ x = a4 ∨ x = a5 ∨ x = a6 ∨ x = a7) ↔ x ∈ [a0, a1, a2, a3, a4, a5, a6, a7] := by simp
theorem og_1 : isA 0 1 := ⟨rfl, le_b rfl⟩
theorem og_2 : isA 1 2 := ⟨rfl, le_b rfl⟩
theorem og_3 : isA 102 3 := ⟨rfl, le_b rfl⟩
theorem og_4 : isA 2 4 := ⟨rfl, le_b rfl⟩
theorem og_5 : isA 1 5 := ⟨rfl, le_b rfl⟩
theorem og_6 : isA 102 6 := ⟨rfl, le_b rfl⟩
theorem og_7 : isA 103 7 := ⟨rfl, le_b rfl⟩
theorem og_8 : isA 103 8 := ⟨rfl, le_b rfl⟩
theorem og_9 : isA 103 9 := ⟨rfl, le_b rfl⟩
theorem og_10 : isA 103 10 := ⟨rfl, le_b rfl⟩
theorem og_11 : isA 3 11 := ⟨rfl, le_b rfl⟩
theorem og_12 : isA 100 12 := ⟨rfl, le_b rfl⟩
theorem og_13 : isA 100 13 := ⟨rfl, le_b rfl⟩
theorem og_14 : isA 100 14 := ⟨rfl, le_b rfl⟩
theorem og_15 : isA 100 15 := ⟨rfl, le_b rfl⟩
theorem og_16 : isA 100 16 := ⟨rfl, le_b rfl⟩
theorem og_17 : isA 100 17 := ⟨rfl, le_b rfl⟩
theorem og_18 : isA 100 18 := ⟨rfl, le_b rfl⟩
theorem og_19 : isA 100 19 := ⟨rfl, le_b rfl⟩
theorem og_20 : isA 100 20 := ⟨rfl, le_b rfl⟩
theorem og_21 : isA 100 21 := ⟨rfl, le_b rfl⟩
theorem og_22 : isA 4 22 := ⟨rfl, le_b rfl⟩
theorem og_23 : isA 5 23 := ⟨rfl, le_b rfl⟩
theorem og_24 : isA 100 24 := ⟨rfl, le_b rfl⟩
theorem og_25 : isA 100 25 := ⟨rfl, le_b rfl⟩
theorem og_26 : isA 6 26 := ⟨rfl, le_b rfl⟩
theorem og_27 : isA 100 27 := ⟨rfl, le_b rfl⟩
theorem og_28 : isA 100 28 := ⟨rfl, le_b rfl⟩
theorem og_29 : isA 100 29 := ⟨rfl, le_b rfl⟩
theorem og_30 : isA 100 30 := ⟨rfl, le_b rfl⟩
theorem og_31 : isA 101 31 := ⟨rfl, le_b rfl⟩
theorem og_32 : isA 101 32 := ⟨rfl, le_b rfl⟩
theorem og_33 : isA 7 33 := ⟨rfl, le_b rfl⟩
theorem og_34 : isA 6 34 := ⟨rfl, le_b rfl⟩
theorem og_35 : isA 100 35 := ⟨rfl, le_b rfl⟩
theorem og_36 : isA 100 36 := ⟨rfl, le_b rfl⟩
theorem og_37 : isA 100 37 := ⟨rfl, le_b rfl⟩
theorem og_38 : isA 100 38 := ⟨rfl, le_b rfl⟩
theorem og_39 : isA 101 39 := ⟨rfl, le_b rfl⟩
theorem og_40 : isA 101 40 := ⟨rfl, le_b rfl⟩
theorem og_41 : isA 100 41 := ⟨rfl, le_b rfl⟩
theorem og_42 : isA 100 42 := ⟨rfl, le_b rfl⟩
theorem og_43 : isA 100 43 := ⟨rfl, le_b rfl⟩
theorem og_44 : isA 100 44 := ⟨rfl, le_b rfl⟩
theorem og_45 : isA 100 45 := ⟨rfl, le_b rfl⟩
theorem og_46 : isA 100 46 := ⟨rfl, le_b rfl⟩
theorem og_47 : isA 100 47 := ⟨rfl, le_b rfl⟩
theorem og_48 : isA 100 48 := ⟨rfl, le_b rfl⟩
theorem og_49 : isA 100 49 := ⟨rfl, le_b rfl⟩
theorem og_50 : isA 100 50 := ⟨rfl, le_b rfl⟩
theorem og_51 : isA 100 51 := ⟨rfl, le_b rfl⟩
theorem og_52 : isA 100 52 := ⟨rfl, le_b rfl⟩
theorem og_53 : isA 100 53 := ⟨rfl, le_b rfl⟩
theorem og_54 : isA 100 54 := ⟨rfl, le_b rfl⟩
theorem og_55 : isA 100 55 := ⟨rfl, le_b rfl⟩
theorem og_56 : isA 8 56 := ⟨rfl, le_b rfl⟩
theorem og_57 : isA 5 57 := ⟨rfl, le_b rfl⟩
theorem og_58 : isA 100 58 := ⟨rfl, le_b rfl⟩
theorem og_59 : isA 100 59 := ⟨rfl, le_b rfl⟩
theorem og_60 : isA 6 60 := ⟨rfl, le_b rfl⟩
theorem og_61 : isA 100 61 := ⟨rfl, le_b rfl⟩
theorem og_62 : isA 100 62 := ⟨rfl, le_b rfl⟩
theorem og_63 : isA 100 63 := ⟨rfl, le_b rfl⟩
theorem og_64 : isA 100 64 := ⟨rfl, le_b rfl⟩
theorem og_65 : isA 101 65 := ⟨rfl, le_b rfl⟩
theorem og_66 : isA 101 66 := ⟨rfl, le_b rfl⟩
theorem og_67 : isA 7 67 := ⟨rfl, le_b rfl⟩
theorem og_68 : isA 104 68 := ⟨rfl, le_b rfl⟩
theorem og_69 : isA 105 69 := ⟨rfl, le_b rfl⟩
theorem og_70 : isA 9 70 := ⟨rfl, le_b rfl⟩
theorem og_71 : isA 100 71 := ⟨rfl, le_b rfl⟩
theorem og_72 : isA 100 72 := ⟨rfl, le_b rfl⟩
theorem og_73 : isA 101 73 := ⟨rfl, le_b rfl⟩
theorem og_74 : isA 100 74 := ⟨rfl, le_b rfl⟩
theorem og_75 : isA 100 75 := ⟨rfl, le_b rfl⟩
theorem og_76 : isA 100 76 := ⟨rfl, le_b rfl⟩
theorem og_77 : isA 3 77 := ⟨rfl, le_b rfl⟩
theorem og_78 : isA 100 78 := ⟨rfl, le_b rfl⟩
theorem og_79 : isA 100 79 := ⟨rfl, le_b rfl⟩
theorem og_80 : isA 100 80 := ⟨rfl, le_b rfl⟩
theorem og_81 : isA 100 81 := ⟨rfl, le_b rfl⟩
theorem og_82 : isA 100 82 := ⟨rfl, le_b rfl⟩
theorem og_83 : isA 100 83 := ⟨rfl, le_b rfl⟩
theorem og_84 : isA 100 84 := ⟨rfl, le_b rfl⟩
theorem og_85 : isA 100 85 := ⟨rfl, le_b rfl⟩
theorem og_86 : isA 100 86 := ⟨rfl, le_b rfl⟩
theorem og_87 : isA 9 87 := ⟨rfl, le_b rfl⟩
theorem og_88 : isA 100 88 := ⟨rfl, le_b rfl⟩
theorem og_89 : isA 100 89 := ⟨rfl, le_b rfl⟩
theorem og_90 : isA 101 90 := ⟨rfl, le_b rfl⟩
theorem og_91 : isA 100 91 := ⟨rfl, le_b rfl⟩
theorem og_92 : isA 100 92 := ⟨rfl, le_b rfl⟩
theorem og_93 : isA 100 93 := ⟨rfl, le_b rfl⟩
theorem og_94 : isA 3 94 := ⟨rfl, le_b rfl⟩
theorem og_95 : isA 100 95 := ⟨rfl, le_b rfl⟩
theorem og_96 : isA 100 96 := ⟨rfl, le_b rfl⟩
theorem og_97 : isA 100 97 := ⟨rfl, le_b rfl⟩
theorem og_98 : isA 100 98 := ⟨rfl, le_b rfl⟩
theorem og_99 : isA 100 99 := ⟨rfl, le_b rfl⟩
theorem og_100 : isA 100 100 := ⟨rfl, le_b rfl⟩
theorem og_101 : isA 100 101 := ⟨rfl, le_b rfl⟩
theorem og_102 : isA 100 102 := ⟨rfl, le_b rfl⟩
theorem og_103 : isA 100 103 := ⟨rfl, le_b rfl⟩
theorem og_104 : isA 9 104 := ⟨rfl, le_b rfl⟩
theorem og_105 : isA 100 105 := ⟨rfl, le_b rfl⟩
theorem og_106 : isA 100 106 := ⟨rfl, le_b rfl⟩
theorem og_107 : isA 101 107 := ⟨rfl, le_b rfl⟩
theorem og_108 : isA 100 108 := ⟨rfl, le_b rfl⟩
theorem og_109 : isA 100 109 := ⟨rfl, le_b rfl⟩
theorem og_110 : isA 100 110 := ⟨rfl, le_b rfl⟩
theorem og_111 : isA 3 111 := ⟨rfl, le_b rfl⟩
theorem og_112 : isA 100 112 := ⟨rfl, le_b rfl⟩
theorem og_113 : isA 100 113 := ⟨rfl, le_b rfl⟩
theorem og_114 : isA 100 114 := ⟨rfl, le_b rfl⟩
theorem og_115 : isA 100 115 := ⟨rfl, le_b rfl⟩
theorem og_116 : isA 100 116 := ⟨rfl, le_b rfl⟩
theorem og_117 : isA 100 117 := ⟨rfl, le_b rfl⟩
theorem og_118 : isA 100 118 := ⟨rfl, le_b rfl⟩
theorem og_119 : isA 100 119 := ⟨rfl, le_b rfl⟩
theorem og_120 : isA 100 120 := ⟨rfl, le_b rfl⟩
theorem og_121 : isA 9 121 := ⟨rfl, le_b rfl⟩
theorem og_122 : isA 100 122 := ⟨rfl, le_b rfl⟩
theorem og_123 : isA 100 123 := ⟨rfl, le_b rfl⟩
theorem og_124 : isA 101 124 := ⟨rfl, le_b rfl⟩
theorem og_125 : isA 100 125 := ⟨rfl, le_b rfl⟩
theorem og_126 : isA 100 126 := ⟨rfl, le_b rfl⟩
theorem og_127 : isA 100 127 := ⟨rfl, le_b rfl⟩
theorem og_128 : isA 3 128 := ⟨rfl, le_b rfl⟩
theorem og_129 : isA 100 129 := ⟨rfl, le_b rfl⟩
theorem og_130 : isA 100 130 := ⟨rfl, le_b rfl⟩
theorem og_131 : isA 100 131 := ⟨rfl, le_b rfl⟩
theorem og_132 : isA 100 132 := ⟨rfl, le_b rfl⟩
theorem og_133 : isA 100 133 := ⟨rfl, le_b rfl⟩
theorem og_134 : isA 100 134 := ⟨rfl, le_b rfl⟩
theorem og_135 : isA 100 135 := ⟨rfl, le_b rfl⟩
theorem og_136 : isA 100 136 := ⟨rfl, le_b rfl⟩
theorem og_137 : isA 100 137 := ⟨rfl, le_b rfl⟩
theorem og_138 : isA 9 138 := ⟨rfl, le_b rfl⟩
theorem og_139 : isA 100 139 := ⟨rfl, le_b rfl⟩
theorem og_140 : isA 100 140 := ⟨rfl, le_b rfl⟩
theorem og_141 : isA 101 141 := ⟨rfl, le_b rfl⟩
theorem og_142 : isA 100 142 := ⟨rfl, le_b rfl⟩
theorem og_143 : isA 100 143 := ⟨rfl, le_b rfl⟩
theorem og_144 : isA 100 144 := ⟨rfl, le_b rfl⟩
theorem og_145 : isA 3 145 := ⟨rfl, le_b rfl⟩
theorem og_146 : isA 100 146 := ⟨rfl, le_b rfl⟩
theorem og_147 : isA 100 147 := ⟨rfl, le_b rfl⟩
theorem og_148 : isA 100 148 := ⟨rfl, le_b rfl⟩
theorem og_149 : isA 100 149 := ⟨rfl, le_b rfl⟩
theorem og_150 : isA 100 150 := ⟨rfl, le_b rfl⟩
theorem og_151 : isA 100 151 := ⟨rfl, le_b rfl⟩
theorem og_152 : isA 100 152 := ⟨rfl, le_b rfl⟩
theorem og_153 : isA 100 153 := ⟨rfl, le_b rfl⟩
theorem og_154 : isA 100 154 := ⟨rfl, le_b rfl⟩
theorem og_155 : isA 9 155 := ⟨rfl, le_b rfl⟩
theorem og_156 : isA 100 156 := ⟨rfl, le_b rfl⟩
theorem og_157 : isA 100 157 := ⟨rfl, le_b rfl⟩
theorem og_158 : isA 101 158 := ⟨rfl, le_b rfl⟩
theorem og_159 : isA 100 159 := ⟨rfl, le_b rfl⟩
theorem og_160 : isA 100 160 := ⟨rfl, le_b rfl⟩
theorem og_161 : isA 100 161 := ⟨rfl, le_b rfl⟩
theorem og_162 : isA 3 162 := ⟨rfl, le_b rfl⟩
theorem og_163 : isA 100 163 := ⟨rfl, le_b rfl⟩
theorem og_164 : isA 100 164 := ⟨rfl, le_b rfl⟩
theorem og_165 : isA 100 165 := ⟨rfl, le_b rfl⟩
theorem og_166 : isA 100 166 := ⟨rfl, le_b rfl⟩
theorem og_167 : isA 100 167 := ⟨rfl, le_b rfl⟩
theorem og_168 : isA 100 168 := ⟨rfl, le_b rfl⟩
theorem og_169 : isA 100 169 := ⟨rfl, le_b rfl⟩
theorem og_170 : isA 100 170 := ⟨rfl, le_b rfl⟩
theorem og_171 : isA 100 171 := ⟨rfl, le_b rfl⟩
theorem og_172 : isA 3 172 := ⟨rfl, le_b rfl⟩
theorem og_173 : isA 100 173 := ⟨rfl, le_b rfl⟩
theorem og_174 : isA 100 174 := ⟨rfl, le_b rfl⟩
theorem og_175 : isA 100 175 := ⟨rfl, le_b rfl⟩
theorem og_176 : isA 100 176 := ⟨rfl, le_b rfl⟩
theorem og_177 : isA 100 177 := ⟨rfl, le_b rfl⟩
theorem og_178 : isA 100 178 := ⟨rfl, le_b rfl⟩
theorem og_179 : isA 100 179 := ⟨rfl, le_b rfl⟩
theorem og_180 : isA 100 180 := ⟨rfl, le_b rfl⟩
theorem og_181 : isA 100 181 := ⟨rfl, le_b rfl⟩
theorem og_182 : isA 10 182 := ⟨rfl, le_b rfl⟩
theorem og_183 : isA 100 183 := ⟨rfl, le_b rfl⟩
theorem og_184 : isA 100 184 := ⟨rfl, le_b rfl⟩
theorem og_185 : isA 100 185 := ⟨rfl, le_b rfl⟩
theorem og_186 : isA 100 186 := ⟨rfl, le_b rfl⟩
theorem og_187 : isA 100 187 := ⟨rfl, le_b rfl⟩
theorem og_188 : isA 100 188 := ⟨rfl, le_b rfl⟩
theorem og_189 : isA 101 189 := ⟨rfl, le_b rfl⟩
theorem og_190 : isA 101 190 := ⟨rfl, le_b rfl⟩
theorem og_191 : isA 100 191 := ⟨rfl, le_b rfl⟩
theorem og_192 : isA 11 192 := ⟨rfl, le_b rfl⟩
theorem og_193 : isA 102 193 := ⟨rfl, le_b rfl⟩
theorem og_194 : isA 102 194 := ⟨rfl, le_b rfl⟩
theorem og_195 : isA 100 195 := ⟨rfl, le_b rfl⟩
theorem og_196 : isA 103 196 := ⟨rfl, le_b rfl⟩
theorem og_197 : isA 103 197 := ⟨rfl, le_b rfl⟩
theorem og_198 : isA 103 198 := ⟨rfl, le_b rfl⟩
theorem og_199 : isA 100 199 := ⟨rfl, le_b rfl⟩
theorem og_200 : isA 100 200 := ⟨rfl, le_b rfl⟩
theorem og_201 : isA 100 201 := ⟨rfl, le_b rfl⟩
theorem og_202 : isA 100 202 := ⟨rfl, le_b rfl⟩
theorem og_203 : isA 100 203 := ⟨rfl, le_b rfl⟩
theorem og_204 : isA 100 204 := ⟨rfl, le_b rfl⟩
theorem og_205 : isA 100 205 := ⟨rfl, le_b rfl⟩
theorem og_206 : isA 100 206 := ⟨rfl, le_b rfl⟩
theorem og_207 : isA 100 207 := ⟨rfl, le_b rfl⟩
theorem og_208 : isA 101 208 := ⟨rfl, le_b rfl⟩
theorem og_209 : isA 101 209 := ⟨rfl, le_b rfl⟩
theorem og_210 : isA 100 210 := ⟨rfl, le_b rfl⟩
theorem og_211 : isA 100 211 := ⟨rfl, le_b rfl⟩
theorem og_212 : isA 100 212 := ⟨rfl, le_b rfl⟩
theorem og_213 : isA 100 213 := ⟨rfl, le_b rfl⟩
theorem og_214 : isA 100 214 := ⟨rfl, le_b rfl⟩
theorem og_215 : isA 100 215 := ⟨rfl, le_b rfl⟩
theorem og_216 : isA 100 216 := ⟨rfl, le_b rfl⟩
theorem og_217 : isA 101 217 := ⟨rfl, le_b rfl⟩
theorem og_218 : isA 100 218 := ⟨rfl, le_b rfl⟩
theorem og_219 : isA 100 219 := ⟨rfl, le_b rfl⟩
theorem og_220 : isA 100 220 := ⟨rfl, le_b rfl⟩
theorem og_221 : isA 100 221 := ⟨rfl, le_b rfl⟩
theorem og_222 : isA 100 222 := ⟨rfl, le_b rfl⟩
theorem og_223 : isA 100 223 := ⟨rfl, le_b rfl⟩
theorem og_224 : isA 100 224 := ⟨rfl, le_b rfl⟩
theorem og_225 : isA 100 225 := ⟨rfl, le_b rfl⟩
theorem og_226 : isA 100 226 := ⟨rfl, le_b rfl⟩
theorem og_227 : isA 100 227 := ⟨rfl, le_b rfl⟩
theorem og_228 : isA 100 228 := ⟨rfl, le_b rfl⟩
theorem og_229 : isA 100 229 := ⟨rfl, le_b rfl⟩
theorem og_230 : isA 100 230 := ⟨rfl, le_b rfl⟩
theorem og_231 : isA 100 231 := ⟨rfl, le_b rfl⟩
theorem og_232 : isA 100 232 := ⟨rfl, le_b rfl⟩
theorem og_233 : isA 100 233 := ⟨rfl, le_b rfl⟩
theorem og_234 : isA 100 234 := ⟨rfl, le_b rfl⟩
theorem og_235 : isA 100 235 := ⟨rfl, le_b rfl⟩
theorem og_236 : isA 100 236 := ⟨rfl, le_b rfl⟩
theorem og_237 : isA 100 237 := ⟨rfl, le_b rfl⟩
theorem og_238 : isA 100 238 := ⟨rfl, le_b rfl⟩
theorem og_239 : isA 100 239 := ⟨rfl, le_b rfl⟩
theorem og_240 : isA 101 240 := ⟨rfl, le_b rfl⟩
theorem og_241 : isA 100 241 := ⟨rfl, le_b rfl⟩
theorem og_242 : isA 100 242 := ⟨rfl, le_b rfl⟩
theorem og_243 : isA 100 243 := ⟨rfl, le_b rfl⟩
theorem og_244 : isA 100 244 := ⟨rfl, le_b rfl⟩
theorem og_245 : isA 101 245 := ⟨rfl, le_b rfl⟩
theorem og_246 : isA 100 246 := ⟨rfl, le_b rfl⟩
theorem og_247 : isA 100 247 := ⟨rfl, le_b rfl⟩
theorem og_248 : isA 100 248 := ⟨rfl, le_b rfl⟩
theorem og_249 : isA 101 249 := ⟨rfl, le_b rfl⟩
theorem og_250 : isA 101 250 := ⟨rfl, le_b rfl⟩
theorem og_251 : isA 100 251 := ⟨rfl, le_b rfl⟩
theorem rt_all {c : Nat} {ids : List Nat} (h : (List.range (NT + 1)).all (fun z => !(S0.2.1 z == c) || ids.contains z) = true) {z : Nat} (hz : isA c z) : z ∈ ids := by
  have h1 := List.all_eq_true.mp h z (List.mem_range.mpr (Nat.lt_succ_of_le hz.2))
  rw [hz.1] at h1
  simpa using h1
theorem ids_1 {z : Nat} (hz : isA 1 z) : z ∈ [2, 5] := rt_all (by decide +kernel) hz
theorem rt_1_0 {z : Nat} (hz : isA 1 z) : isA 102 (rf z 0) := (by decide +kernel : ∀ z ∈ [2, 5], S0.2.1 (rf z 0) = 102 ∧ rf z 0 ≤ NT) z (ids_1 hz)
theorem rl_1_0 {z : Nat} (hz : isA 1 z) : S0.2.2.1 (rf z 0) = 12000 := (by decide +kernel : ∀ z ∈ [2, 5], S0.2.2.1 (rf z 0) = 12000) z (ids_1 hz)
theorem ids_3 {z : Nat} (hz : isA 3 z) : z ∈ [11, 77, 94, 111, 128, 145, 162, 172] := rt_all (by decide +kernel) hz
theorem rt_3_3 {z : Nat} (hz : isA 3 z) : isA 100 (rf z 3) := (by decide +kernel : ∀ z ∈ [11, 77, 94, 111, 128, 145, 162, 172], S0.2.1 (rf z 3) = 100 ∧ rf z 3 ≤ NT) z (ids_3 hz)
theorem rl_3_3 {z : Nat} (hz : isA 3 z) : S0.2.2.1 (rf z 3) = 12 := (by decide +kernel : ∀ z ∈ [11, 77, 94, 111, 128, 145, 162, 172], S0.2.2.1 (rf z 3) = 12) z (ids_3 hz)
theorem rt_3_4 {z : Nat} (hz : isA 3 z) : isA 100 (rf z 4) := (by decide +kernel : ∀ z ∈ [11, 77, 94, 111, 128, 145, 162, 172], S0.2.1 (rf z 4) = 100 ∧ rf z 4 ≤ NT) z (ids_3 hz)
theorem rl_3_4 {z : Nat} (hz : isA 3 z) : S0.2.2.1 (rf z 4) = 100 := (by decide +kernel : ∀ z ∈ [11, 77, 94, 111, 128, 145, 162, 172], S0.2.2.1 (rf z 4) = 100) z (ids_3 hz)
theorem rt_3_5 {z : Nat} (hz : isA 3 z) : isA 100 (rf z 5) := (by decide +kernel : ∀ z ∈ [11, 77, 94, 111, 128, 145, 162, 172], S0.2.1 (rf z 5) = 100 ∧ rf z 5 ≤ NT) z (ids_3 hz)
theorem rl_3_5 {z : Nat} (hz : isA 3 z) : S0.2.2.1 (rf z 5) = 100 := (by decide +kernel : ∀ z ∈ [11, 77, 94, 111, 128, 145, 162, 172], S0.2.2.1 (rf z 5) = 100) z (ids_3 hz)
theorem rt_3_6 {z : Nat} (hz : isA 3 z) : isA 100 (rf z 6) := (by decide +kernel : ∀ z ∈ [11, 77, 94, 111, 128, 145, 162, 172], S0.2.1 (rf z 6) = 100 ∧ rf z 6 ≤ NT) z (ids_3 hz)
theorem rl_3_6 {z : Nat} (hz : isA 3 z) : S0.2.2.1 (rf z 6) = 100 := (by decide +kernel : ∀ z ∈ [11, 77, 94, 111, 128, 145, 162, 172], S0.2.2.1 (rf z 6) = 100) z (ids_3 hz)
theorem rt_3_10 {z : Nat} (hz : isA 3 z) : isA 100 (rf z 10) := (by decide +kernel : ∀ z ∈ [11, 77, 94, 111, 128, 145, 162, 172], S0.2.1 (rf z 10) = 100 ∧ rf z 10 ≤ NT) z (ids_3 hz)
theorem rl_3_10 {z : Nat} (hz : isA 3 z) : S0.2.2.1 (rf z 10) = 8 := (by decide +kernel : ∀ z ∈ [11, 77, 94, 111, 128, 145, 162, 172], S0.2.2.1 (rf z 10) = 8) z (ids_3 hz)
theorem rt_3_11 {z : Nat} (hz : isA 3 z) : isA 100 (rf z 11) := (by decide +kernel : ∀ z ∈ [11, 77, 94, 111, 128, 145, 162, 172], S0.2.1 (rf z 11) = 100 ∧ rf z 11 ≤ NT) z (ids_3 hz)
theorem rl_3_11 {z : Nat} (hz : isA 3 z) : S0.2.2.1 (rf z 11) = 8 := (by decide +kernel : ∀ z ∈ [11, 77, 94, 111, 128, 145, 162, 172], S0.2.2.1 (rf z 11) = 8) z (ids_3 hz)
theorem rt_3_12 {z : Nat} (hz : isA 3 z) : isA 100 (rf z 12) := (by decide +kernel : ∀ z ∈ [11, 77, 94, 111, 128, 145, 162, 172], S0.2.1 (rf z 12) = 100 ∧ rf z 12 ≤ NT) z (ids_3 hz)
theorem rl_3_12 {z : Nat} (hz : isA 3 z) : S0.2.2.1 (rf z 12) = 8 := (by decide +kernel : ∀ z ∈ [11, 77, 94, 111, 128, 145, 162, 172], S0.2.2.1 (rf z 12) = 8) z (ids_3 hz)
theorem rt_3_13 {z : Nat} (hz : isA 3 z) : isA 100 (rf z 13) := (by decide +kernel : ∀ z ∈ [11, 77, 94, 111, 128, 145, 162, 172], S0.2.1 (rf z 13) = 100 ∧ rf z 13 ≤ NT) z (ids_3 hz)
theorem rl_3_13 {z : Nat} (hz : isA 3 z) : S0.2.2.1 (rf z 13) = 8 := (by decide +kernel : ∀ z ∈ [11, 77, 94, 111, 128, 145, 162, 172], S0.2.2.1 (rf z 13) = 8) z (ids_3 hz)
theorem rt_3_14 {z : Nat} (hz : isA 3 z) : isA 100 (rf z 14) := (by decide +kernel : ∀ z ∈ [11, 77, 94, 111, 128, 145, 162, 172], S0.2.1 (rf z 14) = 100 ∧ rf z 14 ≤ NT) z (ids_3 hz)
theorem rl_3_14 {z : Nat} (hz : isA 3 z) : S0.2.2.1 (rf z 14) = 32 := (by decide +kernel : ∀ z ∈ [11, 77, 94, 111, 128, 145, 162, 172], S0.2.2.1 (rf z 14) = 32) z (ids_3 hz)
theorem ids_5 {z : Nat} (hz : isA 5 z) : z ∈ [23, 57] := rt_all (by decide +kernel) hz
theorem rt_5_0 {z : Nat} (hz : isA 5 z) : isA 100 (rf z 0) := (by decide +kernel : ∀ z ∈ [23, 57], S0.2.1 (rf z 0) = 100 ∧ rf z 0 ≤ NT) z (ids_5 hz)
theorem rl_5_0 {z : Nat} (hz : isA 5 z) : S0.2.2.1 (rf z 0) = 256 := (by decide +kernel : ∀ z ∈ [23, 57], S0.2.2.1 (rf z 0) = 256) z (ids_5 hz)
theorem rt_5_2 {z : Nat} (hz : isA 5 z) : isA 100 (rf z 2) := (by decide +kernel : ∀ z ∈ [23, 57], S0.2.1 (rf z 2) = 100 ∧ rf z 2 ≤ NT) z (ids_5 hz)
theorem rl_5_2 {z : Nat} (hz : isA 5 z) : S0.2.2.1 (rf z 2) = 64 := (by decide +kernel : ∀ z ∈ [23, 57], S0.2.2.1 (rf z 2) = 64) z (ids_5 hz)
theorem rt_5_4 {z : Nat} (hz : isA 5 z) : isA 6 (rf z 4) := (by decide +kernel : ∀ z ∈ [23, 57], S0.2.1 (rf z 4) = 6 ∧ rf z 4 ≤ NT) z (ids_5 hz)
theorem rt_5_5 {z : Nat} (hz : isA 5 z) : isA 7 (rf z 5) := (by decide +kernel : ∀ z ∈ [23, 57], S0.2.1 (rf z 5) = 7 ∧ rf z 5 ≤ NT) z (ids_5 hz)
theorem ids_6 {z : Nat} (hz : isA 6 z) : z ∈ [26, 34, 60] := rt_all (by decide +kernel) hz
theorem rt_6_0 {z : Nat} (hz : isA 6 z) : isA 100 (rf z 0) := (by decide +kernel : ∀ z ∈ [26, 34, 60], S0.2.1 (rf z 0) = 100 ∧ rf z 0 ≤ NT) z (ids_6 hz)
theorem rl_6_0 {z : Nat} (hz : isA 6 z) : S0.2.2.1 (rf z 0) = zr z := (by decide +kernel : ∀ z ∈ [26, 34, 60], S0.2.2.1 (rf z 0) = zr z) z (ids_6 hz)
theorem rt_6_1 {z : Nat} (hz : isA 6 z) : isA 100 (rf z 1) := (by decide +kernel : ∀ z ∈ [26, 34, 60], S0.2.1 (rf z 1) = 100 ∧ rf z 1 ≤ NT) z (ids_6 hz)
theorem rl_6_1 {z : Nat} (hz : isA 6 z) : S0.2.2.1 (rf z 1) = zr z := (by decide +kernel : ∀ z ∈ [26, 34, 60], S0.2.2.1 (rf z 1) = zr z) z (ids_6 hz)
theorem rt_6_2 {z : Nat} (hz : isA 6 z) : isA 100 (rf z 2) := (by decide +kernel : ∀ z ∈ [26, 34, 60], S0.2.1 (rf z 2) = 100 ∧ rf z 2 ≤ NT) z (ids_6 hz)
theorem rl_6_2 {z : Nat} (hz : isA 6 z) : S0.2.2.1 (rf z 2) = zr z := (by decide +kernel : ∀ z ∈ [26, 34, 60], S0.2.2.1 (rf z 2) = zr z) z (ids_6 hz)
theorem rt_6_3 {z : Nat} (hz : isA 6 z) : isA 100 (rf z 3) := (by decide +kernel : ∀ z ∈ [26, 34, 60], S0.2.1 (rf z 3) = 100 ∧ rf z 3 ≤ NT) z (ids_6 hz)
theorem rl_6_3 {z : Nat} (hz : isA 6 z) : S0.2.2.1 (rf z 3) = zr z := (by decide +kernel : ∀ z ∈ [26, 34, 60], S0.2.2.1 (rf z 3) = zr z) z (ids_6 hz)
theorem rt_6_4 {z : Nat} (hz : isA 6 z) : isA 101 (rf z 4) := (by decide +kernel : ∀ z ∈ [26, 34, 60], S0.2.1 (rf z 4) = 101 ∧ rf z 4 ≤ NT) z (ids_6 hz)
theorem rl_6_4 {z : Nat} (hz : isA 6 z) : S0.2.2.1 (rf z 4) = zr z := (by decide +kernel : ∀ z ∈ [26, 34, 60], S0.2.2.1 (rf z 4) = zr z) z (ids_6 hz)
theorem rt_6_5 {z : Nat} (hz : isA 6 z) : isA 101 (rf z 5) := (by decide +kernel : ∀ z ∈ [26, 34, 60], S0.2.1 (rf z 5) = 101 ∧ rf z 5 ≤ NT) z (ids_6 hz)
theorem rl_6_5 {z : Nat} (hz : isA 6 z) : S0.2.2.1 (rf z 5) = zr z := (by decide +kernel : ∀ z ∈ [26, 34, 60], S0.2.2.1 (rf z 5) = zr z) z (ids_6 hz)
theorem ids_7 {z : Nat} (hz : isA 7 z) : z ∈ [33, 67] := rt_all (by decide +kernel) hz
theorem ids_9 {z : Nat} (hz : isA 9 z) : z ∈ [70, 87, 104, 121, 138, 155] := rt_all (by decide +kernel) hz
theorem rt_9_0 {z : Nat} (hz : isA 9 z) : isA 100 (rf z 0) := (by decide +kernel : ∀ z ∈ [70, 87, 104, 121, 138, 155], S0.2.1 (rf z 0) = 100 ∧ rf z 0 ≤ NT) z (ids_9 hz)
theorem rl_9_0 {z : Nat} (hz : isA 9 z) : S0.2.2.1 (rf z 0) = 100 := (by decide +kernel : ∀ z ∈ [70, 87, 104, 121, 138, 155], S0.2.2.1 (rf z 0) = 100) z (ids_9 hz)
theorem rt_9_1 {z : Nat} (hz : isA 9 z) : isA 100 (rf z 1) := (by decide +kernel : ∀ z ∈ [70, 87, 104, 121, 138, 155], S0.2.1 (rf z 1) = 100 ∧ rf z 1 ≤ NT) z (ids_9 hz)
theorem rl_9_1 {z : Nat} (hz : isA 9 z) : S0.2.2.1 (rf z 1) = 100 := (by decide +kernel : ∀ z ∈ [70, 87, 104, 121, 138, 155], S0.2.2.1 (rf z 1) = 100) z (ids_9 hz)
theorem rt_9_2 {z : Nat} (hz : isA 9 z) : isA 101 (rf z 2) := (by decide +kernel : ∀ z ∈ [70, 87, 104, 121, 138, 155], S0.2.1 (rf z 2) = 101 ∧ rf z 2 ≤ NT) z (ids_9 hz)
theorem rl_9_2 {z : Nat} (hz : isA 9 z) : S0.2.2.1 (rf z 2) = 100 := (by decide +kernel : ∀ z ∈ [70, 87, 104, 121, 138, 155], S0.2.2.1 (rf z 2) = 100) z (ids_9 hz)
theorem rt_9_4 {z : Nat} (hz : isA 9 z) : isA 100 (rf z 4) := (by decide +kernel : ∀ z ∈ [70, 87, 104, 121, 138, 155], S0.2.1 (rf z 4) = 100 ∧ rf z 4 ≤ NT) z (ids_9 hz)
theorem rl_9_4 {z : Nat} (hz : isA 9 z) : S0.2.2.1 (rf z 4) = 20 := (by decide +kernel : ∀ z ∈ [70, 87, 104, 121, 138, 155], S0.2.2.1 (rf z 4) = 20) z (ids_9 hz)
theorem rt_9_6 {z : Nat} (hz : isA 9 z) : isA 100 (rf z 6) := (by decide +kernel : ∀ z ∈ [70, 87, 104, 121, 138, 155], S0.2.1 (rf z 6) = 100 ∧ rf z 6 ≤ NT) z (ids_9 hz)
theorem rl_9_6 {z : Nat} (hz : isA 9 z) : S0.2.2.1 (rf z 6) = 2 := (by decide +kernel : ∀ z ∈ [70, 87, 104, 121, 138, 155], S0.2.2.1 (rf z 6) = 2) z (ids_9 hz)
theorem rt_9_7 {z : Nat} (hz : isA 9 z) : isA 100 (rf z 7) := (by decide +kernel : ∀ z ∈ [70, 87, 104, 121, 138, 155], S0.2.1 (rf z 7) = 100 ∧ rf z 7 ≤ NT) z (ids_9 hz)
theorem rl_9_7 {z : Nat} (hz : isA 9 z) : S0.2.2.1 (rf z 7) = 2 := (by decide +kernel : ∀ z ∈ [70, 87, 104, 121, 138, 155], S0.2.2.1 (rf z 7) = 2) z (ids_9 hz)
theorem hmn_0_19 : Cond.methodLinkNest (hRn 0) 19 ⟨"HintHouse$Bytes", "<init>", "()V"⟩ "HintHouse" ∈ hmnAll := List.mem_of_getElem? (i := 0) rfl
theorem hmn_0_28 : Cond.methodLinkNest (hRn 0) 28 ⟨"HintHouse$Font", "<init>", "()V"⟩ "HintHouse" ∈ hmnAll := List.mem_of_getElem? (i := 1) rfl
theorem hmn_0_53 : Cond.methodLinkNest (hRn 0) 53 ⟨"HintHouse$Glyph", "<init>", "()V"⟩ "HintHouse" ∈ hmnAll := List.mem_of_getElem? (i := 2) rfl
theorem hmn_0_60 : Cond.methodLinkNest (hRn 0) 60 ⟨"HintHouse$Inside", "<init>", "()V"⟩ "HintHouse" ∈ hmnAll := List.mem_of_getElem? (i := 3) rfl
theorem hmn_2_11 : Cond.methodLinkNest (hRn 2) 11 ⟨"HintHouse$Bytes", "<init>", "()V"⟩ "HintHouse" ∈ hmnAll := List.mem_of_getElem? (i := 4) rfl
theorem hmn_2_33 : Cond.methodLinkNest (hRn 2) 33 ⟨"HintHouse$Glyph", "<init>", "()V"⟩ "HintHouse" ∈ hmnAll := List.mem_of_getElem? (i := 5) rfl
theorem hmn_2_112 : Cond.methodLinkNest (hRn 2) 112 ⟨"HintHouse", "within", "(JJJ)Z"⟩ "HintHouse" ∈ hmnAll := List.mem_of_getElem? (i := 6) rfl
theorem hmn_3_77 : Cond.methodLinkNest (hRn 3) 77 ⟨"HintHouse", "within", "(JJJ)Z"⟩ "HintHouse" ∈ hmnAll := List.mem_of_getElem? (i := 7) rfl
theorem hmn_10_131 : Cond.methodLinkNest (hRn 10) 131 ⟨"HintHouse", "signOf", "(J)I"⟩ "HintHouse" ∈ hmnAll := List.mem_of_getElem? (i := 8) rfl
theorem hmn_4_11 : Cond.methodLinkNest (hRn 4) 11 ⟨"HintHouse$Store", "<init>", "()V"⟩ "HintHouse" ∈ hmnAll := List.mem_of_getElem? (i := 9) rfl
theorem hmn_4_154 : Cond.methodLinkNest (hRn 4) 154 ⟨"HintHouse", "over", "(JJ)J"⟩ "HintHouse" ∈ hmnAll := List.mem_of_getElem? (i := 10) rfl
theorem hmn_4_246 : Cond.methodLinkNest (hRn 4) 246 ⟨"HintHouse", "within", "(JJJ)Z"⟩ "HintHouse" ∈ hmnAll := List.mem_of_getElem? (i := 11) rfl
theorem hmn_8_11 : Cond.methodLinkNest (hRn 8) 11 ⟨"HintHouse$Store", "<init>", "()V"⟩ "HintHouse" ∈ hmnAll := List.mem_of_getElem? (i := 12) rfl
theorem hmn_8_38 : Cond.methodLinkNest (hRn 8) 38 ⟨"HintHouse$Outline", "<init>", "()V"⟩ "HintHouse" ∈ hmnAll := List.mem_of_getElem? (i := 13) rfl
theorem hmn_8_39 : Cond.methodLinkNest (hRn 8) 39 ⟨"HintHouse$Glyph", "<init>", "()V"⟩ "HintHouse" ∈ hmnAll := List.mem_of_getElem? (i := 14) rfl
theorem hmn_8_198 : Cond.methodLinkNest (hRn 8) 198 ⟨"HintHouse", "over", "(JJ)J"⟩ "HintHouse" ∈ hmnAll := List.mem_of_getElem? (i := 15) rfl
theorem hmn_8_208 : Cond.methodLinkNest (hRn 8) 208 ⟨"HintHouse", "snapped", "(I)I"⟩ "HintHouse" ∈ hmnAll := List.mem_of_getElem? (i := 16) rfl
theorem hmn_9_38 : Cond.methodLinkNest (hRn 9) 38 ⟨"HintHouse", "within", "(JJJ)Z"⟩ "HintHouse" ∈ hmnAll := List.mem_of_getElem? (i := 17) rfl
theorem hmn_5_27 : Cond.methodLinkNest (hRn 5) 27 ⟨"HintHouse$Settings", "<init>", "()V"⟩ "HintHouse" ∈ hmnAll := List.mem_of_getElem? (i := 18) rfl
