/-! LAYER 2h: the law's loop, over a relation that the calls keep (printed by gen/mk36.py) -/
def Law_feed (Rel : hH → Prop) : Prop := ∀ (h : hH) (x1 : Int32) (x2 : Int64), Rel h → ∃ a : Int32, ∃ h1 : hH, ∃ h2 : hH, f_HH_feed x1 x2 h = some (a, h1) ∧ f_Mo_feed x1 x2 h1 = some (a, h2) ∧ Rel h2
def Law_wipe (Rel : hH → Prop) : Prop := ∀ (h : hH), Rel h → ∃ a : Int32, ∃ h1 : hH, ∃ h2 : hH, f_HH_wipe h = some (a, h1) ∧ f_Mo_wipe h1 = some (a, h2) ∧ Rel h2
def Law_load (Rel : hH → Prop) : Prop := ∀ (h : hH), Rel h → ∃ a : Int32, ∃ h1 : hH, ∃ h2 : hH, f_HH_load h = some (a, h1) ∧ f_Mo_load h1 = some (a, h2) ∧ Rel h2
def Law_font (Rel : hH → Prop) : Prop := ∀ (h : hH) (x1 : Int32), Rel h → ∃ a : Int32, f_HH_font x1 h = some a ∧ f_Mo_font x1 h = some a ∧ Rel h
def Law_table (Rel : hH → Prop) : Prop := ∀ (h : hH) (x1 : Int32) (x2 : Int32), Rel h → ∃ a : Int64, f_HH_table x1 x2 h = some a ∧ f_Mo_table x1 x2 h = some a ∧ Rel h
def Law_glyphOf (Rel : hH → Prop) : Prop := ∀ (h : hH) (x1 : Int32), Rel h → ∃ a : Int32, f_HH_glyphOf x1 h = some a ∧ f_Mo_glyphOf x1 h = some a ∧ Rel h
def Law_glyph (Rel : hH → Prop) : Prop := ∀ (h : hH) (x1 : Int32) (x2 : Int32), Rel h → ∃ a : Int32, ∃ h1 : hH, ∃ h2 : hH, f_HH_glyph x1 x2 h = some (a, h1) ∧ f_Mo_glyph x1 x2 h1 = some (a, h2) ∧ Rel h2
def Law_kern (Rel : hH → Prop) : Prop := ∀ (h : hH) (x1 : Int32) (x2 : Int32), Rel h → ∃ a : Int32, f_HH_kern x1 x2 h = some a ∧ f_Mo_kern x1 x2 h = some a ∧ Rel h
def Law_size (Rel : hH → Prop) : Prop := ∀ (h : hH) (x1 : Int32), Rel h → ∃ a : Int32, ∃ h1 : hH, ∃ n : Nat, ∃ h2 : hH, n ≤ 1 ∧ f_HH_size x1 h = some ((a, h1), n) ∧ f_Mo_size x1 h1 = some (a, h2) ∧ Rel h2
def Law_make (Rel : hH → Prop) : Prop := ∀ (h : hH) (x1 : Int32), Rel h → ∃ a : Int32, ∃ h1 : hH, ∃ n : Nat, ∃ h2 : hH, n ≤ 1 ∧ f_HH_make x1 h = some ((a, h1), n) ∧ f_Mo_make x1 h1 = some (a, h2) ∧ Rel h2
def Law_point (Rel : hH → Prop) : Prop := ∀ (h : hH) (x1 : Int32) (x2 : Int32), Rel h → ∃ a : Int32, f_HH_point x1 x2 h = some a ∧ f_Mo_point x1 x2 h = some a ∧ Rel h
def Law_told (Rel : hH → Prop) : Prop := ∀ (h : hH) (x1 : Int32), Rel h → ∃ a : Int32, f_HH_told x1 h = some a ∧ f_Mo_told x1 h = some a ∧ Rel h
def Law_held (Rel : hH → Prop) : Prop := ∀ (h : hH) (x1 : Int32) (x2 : Int32), Rel h → ∃ a : Int32, f_HH_held x1 x2 h = some a ∧ f_Mo_held x1 x2 h = some a ∧ Rel h
def Law_isIn (Rel : hH → Prop) : Prop := ∀ (h : hH) (x1 : Int32) (x2 : Int32), Rel h → ∃ a : Int32, ∃ h1 : hH, ∃ h2 : hH, f_HH_isIn x1 x2 h = some (a, h1) ∧ f_Mo_isIn x1 x2 h1 = some (a, h2) ∧ Rel h2
def Law_canvas (Rel : hH → Prop) : Prop := ∀ (h : hH) (x1 : Int32) (x2 : Int32), Rel h → ∃ a : Int32, ∃ h1 : hH, ∃ h2 : hH, f_HH_canvas x1 x2 h = some (a, h1) ∧ f_Mo_canvas x1 x2 h1 = some (a, h2) ∧ Rel h2
def Law_draw (Rel : hH → Prop) : Prop := ∀ (h : hH) (x1 : Int32) (x2 : Int32), Rel h → ∃ a : Int32, ∃ h1 : hH, ∃ h2 : hH, f_HH_draw x1 x2 h = some (a, h1) ∧ f_Mo_draw x1 x2 h1 = some (a, h2) ∧ Rel h2
def Law_pixel (Rel : hH → Prop) : Prop := ∀ (h : hH) (x1 : Int32) (x2 : Int32), Rel h → ∃ a : Int32, f_HH_pixel x1 x2 h = some a ∧ f_Mo_pixel x1 x2 h = some a ∧ Rel h
def Law_type (Rel : hH → Prop) : Prop := ∀ (h : hH) (x1 : Int32), Rel h → ∃ a : Int32, ∃ h1 : hH, ∃ h2 : hH, f_HH_type x1 h = some (a, h1) ∧ f_Mo_type x1 h1 = some (a, h2) ∧ Rel h2
def Law_line (Rel : hH → Prop) : Prop := ∀ (h : hH) (x1 : Int32) (x2 : Int32), Rel h → ∃ a : Int32, ∃ h1 : hH, ∃ n : Nat, ∃ h2 : hH, n ≤ 1 ∧ f_HH_line x1 x2 h = some ((a, h1), n) ∧ f_Mo_line x1 x2 h1 = some (a, h2) ∧ Rel h2
def M_law : hM := (13, x, code, 4, some .boolean, [], [(124, [(.aload_n 1, 1, 0, 0, 0, .null), (.aload_n 0, 1, 0, 0, 0, .null), (.iload_n 3, 1, 0, 0, 0, .null), (.iconst 1, 1, 0, 0, 0, (.int (1 : Int32))), (.iadd, 1, 0, 0, 0, .null)]), (130, [(.aload_n 0, 1, 0, 0, 0, .null), (.iload_n 3, 1, 0, 0, 0, .null), (.iconst 2, 1, 0, 0, 0, (.int (2 : Int32))), (.iadd, 1, 0, 0, 0, .null)]), (135, [(.i2l, 1, 0, 0, 0, .null), (.bipush 32, 2, 0, 0, 0, (.int (32 : Int32))), (.lshl, 1, 0, 0, 0, .null), (.aload_n 0, 1, 0, 0, 0, .null), (.iload_n 3, 1, 0, 0, 0, .null), (.iconst 3, 1, 0, 0, 0, (.int (3 : Int32))), (.iadd, 1, 0, 0, 0, .null)]), (144, [(.i2l, 1, 0, 0, 0, .null)]), (148, [(.land, 1, 0, 0, 0, .null), (.lor, 1, 0, 0, 0, .null)]), (153, [(.aload_n 2, 1, 0, 0, 0, .null), (.aload_n 0, 1, 0, 0, 0, .null), (.iload_n 3, 1, 0, 0, 0, .null), (.iconst 1, 1, 0, 0, 0, (.int (1 : Int32))), (.iadd, 1, 0, 0, 0, .null)]), (159, [(.aload_n 0, 1, 0, 0, 0, .null), (.iload_n 3, 1, 0, 0, 0, .null), (.iconst 2, 1, 0, 0, 0, (.int (2 : Int32))), (.iadd, 1, 0, 0, 0, .null)]), (164, [(.i2l, 1, 0, 0, 0, .null), (.bipush 32, 2, 0, 0, 0, (.int (32 : Int32))), (.lshl, 1, 0, 0, 0, .null), (.aload_n 0, 1, 0, 0, 0, .null), (.iload_n 3, 1, 0, 0, 0, .null), (.iconst 3, 1, 0, 0, 0, (.int (3 : Int32))), (.iadd, 1, 0, 0, 0, .null)]), (173, [(.i2l, 1, 0, 0, 0, .null)]), (177, [(.land, 1, 0, 0, 0, .null), (.lor, 1, 0, 0, 0, .null)]), (187, [(.aload_n 1, 1, 0, 0, 0, .null)]), (191, [(.aload_n 2, 1, 0, 0, 0, .null)]), (200, [(.aload_n 1, 1, 0, 0, 0, .null)]), (204, [(.aload_n 2, 1, 0, 0, 0, .null)]), (213, [(.aload_n 1, 1, 0, 0, 0, .null), (.aload_n 0, 1, 0, 0, 0, .null), (.iload_n 3, 1, 0, 0, 0, .null), (.iconst 1, 1, 0, 0, 0, (.int (1 : Int32))), (.iadd, 1, 0, 0, 0, .null)]), (222, [(.aload_n 2, 1, 0, 0, 0, .null), (.aload_n 0, 1, 0, 0, 0, .null), (.iload_n 3, 1, 0, 0, 0, .null), (.iconst 1, 1, 0, 0, 0, (.int (1 : Int32))), (.iadd, 1, 0, 0, 0, .null)]), (236, [(.aload_n 1, 1, 0, 0, 0, .null), (.aload_n 0, 1, 0, 0, 0, .null), (.iload_n 3, 1, 0, 0, 0, .null), (.iconst 1, 1, 0, 0, 0, (.int (1 : Int32))), (.iadd, 1, 0, 0, 0, .null)]), (242, [(.aload_n 0, 1, 0, 0, 0, .null), (.iload_n 3, 1, 0, 0, 0, .null), (.iconst 2, 1, 0, 0, 0, (.int (2 : Int32))), (.iadd, 1, 0, 0, 0, .null)]), (250, [(.aload_n 2, 1, 0, 0, 0, .null), (.aload_n 0, 1, 0, 0, 0, .null), (.iload_n 3, 1, 0, 0, 0, .null), (.iconst 1, 1, 0, 0, 0, (.int (1 : Int32))), (.iadd, 1, 0, 0, 0, .null)]), (256, [(.aload_n 0, 1, 0, 0, 0, .null), (.iload_n 3, 1, 0, 0, 0, .null), (.iconst 2, 1, 0, 0, 0, (.int (2 : Int32))), (.iadd, 1, 0, 0, 0, .null)]), (264, [(.lcmp, 1, 0, 0, 0, .null)]), (270, [(.aload_n 1, 1, 0, 0, 0, .null), (.aload_n 0, 1, 0, 0, 0, .null), (.iload_n 3, 1, 0, 0, 0, .null), (.iconst 1, 1, 0, 0, 0, (.int (1 : Int32))), (.iadd, 1, 0, 0, 0, .null)]), (279, [(.aload_n 2, 1, 0, 0, 0, .null), (.aload_n 0, 1, 0, 0, 0, .null), (.iload_n 3, 1, 0, 0, 0, .null), (.iconst 1, 1, 0, 0, 0, (.int (1 : Int32))), (.iadd, 1, 0, 0, 0, .null)]), (293, [(.aload_n 1, 1, 0, 0, 0, .null), (.aload_n 0, 1, 0, 0, 0, .null), (.iload_n 3, 1, 0, 0, 0, .null), (.iconst 1, 1, 0, 0, 0, (.int (1 : Int32))), (.iadd, 1, 0, 0, 0, .null)]), (299, [(.aload_n 0, 1, 0, 0, 0, .null), (.iload_n 3, 1, 0, 0, 0, .null), (.iconst 2, 1, 0, 0, 0, (.int (2 : Int32))), (.iadd, 1, 0, 0, 0, .null)]), (307, [(.aload_n 2, 1, 0, 0, 0, .null), (.aload_n 0, 1, 0, 0, 0, .null), (.iload_n 3, 1, 0, 0, 0, .null), (.iconst 1, 1, 0, 0, 0, (.int (1 : Int32))), (.iadd, 1, 0, 0, 0, .null)]), (313, [(.aload_n 0, 1, 0, 0, 0, .null), (.iload_n 3, 1, 0, 0, 0, .null), (.iconst 2, 1, 0, 0, 0, (.int (2 : Int32))), (.iadd, 1, 0, 0, 0, .null)]), (326, [(.aload_n 1, 1, 0, 0, 0, .null), (.aload_n 0, 1, 0, 0, 0, .null), (.iload_n 3, 1, 0, 0, 0, .null), (.iconst 1, 1, 0, 0, 0, (.int (1 : Int32))), (.iadd, 1, 0, 0, 0, .null)]), (332, [(.aload_n 0, 1, 0, 0, 0, .null), (.iload_n 3, 1, 0, 0, 0, .null), (.iconst 2, 1, 0, 0, 0, (.int (2 : Int32))), (.iadd, 1, 0, 0, 0, .null)]), (340, [(.aload_n 2, 1, 0, 0, 0, .null), (.aload_n 0, 1, 0, 0, 0, .null), (.iload_n 3, 1, 0, 0, 0, .null), (.iconst 1, 1, 0, 0, 0, (.int (1 : Int32))), (.iadd, 1, 0, 0, 0, .null)]), (346, [(.aload_n 0, 1, 0, 0, 0, .null), (.iload_n 3, 1, 0, 0, 0, .null), (.iconst 2, 1, 0, 0, 0, (.int (2 : Int32))), (.iadd, 1, 0, 0, 0, .null)]), (359, [(.aload_n 1, 1, 0, 0, 0, .null), (.aload_n 0, 1, 0, 0, 0, .null), (.iload_n 3, 1, 0, 0, 0, .null), (.iconst 1, 1, 0, 0, 0, (.int (1 : Int32))), (.iadd, 1, 0, 0, 0, .null)]), (368, [(.aload_n 2, 1, 0, 0, 0, .null), (.aload_n 0, 1, 0, 0, 0, .null), (.iload_n 3, 1, 0, 0, 0, .null), (.iconst 1, 1, 0, 0, 0, (.int (1 : Int32))), (.iadd, 1, 0, 0, 0, .null)]), (382, [(.aload_n 1, 1, 0, 0, 0, .null), (.aload_n 0, 1, 0, 0, 0, .null), (.iload_n 3, 1, 0, 0, 0, .null), (.iconst 1, 1, 0, 0, 0, (.int (1 : Int32))), (.iadd, 1, 0, 0, 0, .null)]), (391, [(.aload_n 2, 1, 0, 0, 0, .null), (.aload_n 0, 1, 0, 0, 0, .null), (.iload_n 3, 1, 0, 0, 0, .null), (.iconst 1, 1, 0, 0, 0, (.int (1 : Int32))), (.iadd, 1, 0, 0, 0, .null)]), (405, [(.aload_n 1, 1, 0, 0, 0, .null), (.aload_n 0, 1, 0, 0, 0, .null), (.iload_n 3, 1, 0, 0, 0, .null), (.iconst 1, 1, 0, 0, 0, (.int (1 : Int32))), (.iadd, 1, 0, 0, 0, .null)]), (411, [(.aload_n 0, 1, 0, 0, 0, .null), (.iload_n 3, 1, 0, 0, 0, .null), (.iconst 2, 1, 0, 0, 0, (.int (2 : Int32))), (.iadd, 1, 0, 0, 0, .null)]), (419, [(.aload_n 2, 1, 0, 0, 0, .null), (.aload_n 0, 1, 0, 0, 0, .null), (.iload_n 3, 1, 0, 0, 0, .null), (.iconst 1, 1, 0, 0, 0, (.int (1 : Int32))), (.iadd, 1, 0, 0, 0, .null)]), (425, [(.aload_n 0, 1, 0, 0, 0, .null), (.iload_n 3, 1, 0, 0, 0, .null), (.iconst 2, 1, 0, 0, 0, (.int (2 : Int32))), (.iadd, 1, 0, 0, 0, .null)]), (438, [(.aload_n 1, 1, 0, 0, 0, .null), (.aload_n 0, 1, 0, 0, 0, .null), (.iload_n 3, 1, 0, 0, 0, .null), (.iconst 1, 1, 0, 0, 0, (.int (1 : Int32))), (.iadd, 1, 0, 0, 0, .null)]), (447, [(.aload_n 2, 1, 0, 0, 0, .null), (.aload_n 0, 1, 0, 0, 0, .null), (.iload_n 3, 1, 0, 0, 0, .null), (.iconst 1, 1, 0, 0, 0, (.int (1 : Int32))), (.iadd, 1, 0, 0, 0, .null)]), (461, [(.aload_n 1, 1, 0, 0, 0, .null), (.aload_n 0, 1, 0, 0, 0, .null), (.iload_n 3, 1, 0, 0, 0, .null), (.iconst 1, 1, 0, 0, 0, (.int (1 : Int32))), (.iadd, 1, 0, 0, 0, .null)]), (467, [(.aload_n 0, 1, 0, 0, 0, .null), (.iload_n 3, 1, 0, 0, 0, .null), (.iconst 2, 1, 0, 0, 0, (.int (2 : Int32))), (.iadd, 1, 0, 0, 0, .null)]), (475, [(.aload_n 2, 1, 0, 0, 0, .null), (.aload_n 0, 1, 0, 0, 0, .null), (.iload_n 3, 1, 0, 0, 0, .null), (.iconst 1, 1, 0, 0, 0, (.int (1 : Int32))), (.iadd, 1, 0, 0, 0, .null)]), (481, [(.aload_n 0, 1, 0, 0, 0, .null), (.iload_n 3, 1, 0, 0, 0, .null), (.iconst 2, 1, 0, 0, 0, (.int (2 : Int32))), (.iadd, 1, 0, 0, 0, .null)]), (494, [(.aload_n 1, 1, 0, 0, 0, .null), (.aload_n 0, 1, 0, 0, 0, .null), (.iload_n 3, 1, 0, 0, 0, .null), (.iconst 1, 1, 0, 0, 0, (.int (1 : Int32))), (.iadd, 1, 0, 0, 0, .null)]), (500, [(.aload_n 0, 1, 0, 0, 0, .null), (.iload_n 3, 1, 0, 0, 0, .null), (.iconst 2, 1, 0, 0, 0, (.int (2 : Int32))), (.iadd, 1, 0, 0, 0, .null)]), (508, [(.aload_n 2, 1, 0, 0, 0, .null), (.aload_n 0, 1, 0, 0, 0, .null), (.iload_n 3, 1, 0, 0, 0, .null), (.iconst 1, 1, 0, 0, 0, (.int (1 : Int32))), (.iadd, 1, 0, 0, 0, .null)]), (514, [(.aload_n 0, 1, 0, 0, 0, .null), (.iload_n 3, 1, 0, 0, 0, .null), (.iconst 2, 1, 0, 0, 0, (.int (2 : Int32))), (.iadd, 1, 0, 0, 0, .null)]), (527, [(.aload_n 1, 1, 0, 0, 0, .null), (.aload_n 0, 1, 0, 0, 0, .null), (.iload_n 3, 1, 0, 0, 0, .null), (.iconst 1, 1, 0, 0, 0, (.int (1 : Int32))), (.iadd, 1, 0, 0, 0, .null)]), (533, [(.aload_n 0, 1, 0, 0, 0, .null), (.iload_n 3, 1, 0, 0, 0, .null), (.iconst 2, 1, 0, 0, 0, (.int (2 : Int32))), (.iadd, 1, 0, 0, 0, .null)]), (541, [(.aload_n 2, 1, 0, 0, 0, .null), (.aload_n 0, 1, 0, 0, 0, .null), (.iload_n 3, 1, 0, 0, 0, .null), (.iconst 1, 1, 0, 0, 0, (.int (1 : Int32))), (.iadd, 1, 0, 0, 0, .null)]), (547, [(.aload_n 0, 1, 0, 0, 0, .null), (.iload_n 3, 1, 0, 0, 0, .null), (.iconst 2, 1, 0, 0, 0, (.int (2 : Int32))), (.iadd, 1, 0, 0, 0, .null)]), (560, [(.aload_n 1, 1, 0, 0, 0, .null), (.aload_n 0, 1, 0, 0, 0, .null), (.iload_n 3, 1, 0, 0, 0, .null), (.iconst 1, 1, 0, 0, 0, (.int (1 : Int32))), (.iadd, 1, 0, 0, 0, .null)]), (566, [(.aload_n 0, 1, 0, 0, 0, .null), (.iload_n 3, 1, 0, 0, 0, .null), (.iconst 2, 1, 0, 0, 0, (.int (2 : Int32))), (.iadd, 1, 0, 0, 0, .null)]), (574, [(.aload_n 2, 1, 0, 0, 0, .null), (.aload_n 0, 1, 0, 0, 0, .null), (.iload_n 3, 1, 0, 0, 0, .null), (.iconst 1, 1, 0, 0, 0, (.int (1 : Int32))), (.iadd, 1, 0, 0, 0, .null)]), (580, [(.aload_n 0, 1, 0, 0, 0, .null), (.iload_n 3, 1, 0, 0, 0, .null), (.iconst 2, 1, 0, 0, 0, (.int (2 : Int32))), (.iadd, 1, 0, 0, 0, .null)]), (593, [(.aload_n 1, 1, 0, 0, 0, .null), (.aload_n 0, 1, 0, 0, 0, .null), (.iload_n 3, 1, 0, 0, 0, .null), (.iconst 1, 1, 0, 0, 0, (.int (1 : Int32))), (.iadd, 1, 0, 0, 0, .null)]), (599, [(.aload_n 0, 1, 0, 0, 0, .null), (.iload_n 3, 1, 0, 0, 0, .null), (.iconst 2, 1, 0, 0, 0, (.int (2 : Int32))), (.iadd, 1, 0, 0, 0, .null)]), (607, [(.aload_n 2, 1, 0, 0, 0, .null), (.aload_n 0, 1, 0, 0, 0, .null), (.iload_n 3, 1, 0, 0, 0, .null), (.iconst 1, 1, 0, 0, 0, (.int (1 : Int32))), (.iadd, 1, 0, 0, 0, .null)]), (613, [(.aload_n 0, 1, 0, 0, 0, .null), (.iload_n 3, 1, 0, 0, 0, .null), (.iconst 2, 1, 0, 0, 0, (.int (2 : Int32))), (.iadd, 1, 0, 0, 0, .null)]), (626, [(.aload_n 1, 1, 0, 0, 0, .null), (.aload_n 0, 1, 0, 0, 0, .null), (.iload_n 3, 1, 0, 0, 0, .null), (.iconst 1, 1, 0, 0, 0, (.int (1 : Int32))), (.iadd, 1, 0, 0, 0, .null)]), (635, [(.aload_n 2, 1, 0, 0, 0, .null), (.aload_n 0, 1, 0, 0, 0, .null), (.iload_n 3, 1, 0, 0, 0, .null), (.iconst 1, 1, 0, 0, 0, (.int (1 : Int32))), (.iadd, 1, 0, 0, 0, .null)]), (649, [(.aload_n 1, 1, 0, 0, 0, .null), (.aload_n 0, 1, 0, 0, 0, .null), (.iload_n 3, 1, 0, 0, 0, .null), (.iconst 1, 1, 0, 0, 0, (.int (1 : Int32))), (.iadd, 1, 0, 0, 0, .null)]), (655, [(.aload_n 0, 1, 0, 0, 0, .null), (.iload_n 3, 1, 0, 0, 0, .null), (.iconst 2, 1, 0, 0, 0, (.int (2 : Int32))), (.iadd, 1, 0, 0, 0, .null)]), (663, [(.aload_n 2, 1, 0, 0, 0, .null), (.aload_n 0, 1, 0, 0, 0, .null), (.iload_n 3, 1, 0, 0, 0, .null), (.iconst 1, 1, 0, 0, 0, (.int (1 : Int32))), (.iadd, 1, 0, 0, 0, .null)]), (669, [(.aload_n 0, 1, 0, 0, 0, .null), (.iload_n 3, 1, 0, 0, 0, .null), (.iconst 2, 1, 0, 0, 0, (.int (2 : Int32))), (.iadd, 1, 0, 0, 0, .null)]), (3, [(.dup, 1, 0, 0, 0, .null)]), (7, [(.astore_n 1, 1, 0, 0, 0, .null)]), (11, [(.dup, 1, 0, 0, 0, .null)]), (15, [(.astore_n 2, 1, 0, 0, 0, .null), (.iconst 0, 1, 0, 0, 0, (.int (0 : Int32))), (.istore_n 3, 1, 0, 0, 0, .null)]), (18, [(.iload_n 3, 1, 0, 0, 0, .null), (.aload_n 0, 1, 0, 0, 0, .null)]), (21, [(.iconst 4, 1, 0, 0, 0, (.int (4 : Int32))), (.isub, 1, 0, 0, 0, .null)]), (26, [(.aload_n 0, 1, 0, 0, 0, .null), (.iload_n 3, 1, 0, 0, 0, .null)]), (29, [(.bipush 31, 2, 0, 0, 0, (.int (31 : Int32))), (.iand, 1, 0, 0, 0, .null)]), (682, [(.iinc 3 4, 3, 0, 0, 0, (.int (4 : Int32)))]), (688, [(.iconst 1, 1, 0, 0, 0, (.int (1 : Int32)))])], [(129, .iaload, 1), (134, .iaload, 1), (143, .iaload, 1), (145, .ldc2_w 13, 3), (150, .invokevirtual 15, 3), (158, .iaload, 1), (163, .iaload, 1), (172, .iaload, 1), (174, .ldc2_w 13, 3), (179, .invokevirtual 19, 3), (182, .if_icmp .eq 500, 3), (188, .invokevirtual 20, 3), (192, .invokevirtual 24, 3), (195, .if_icmp .eq 487, 3), (201, .invokevirtual 25, 3), (205, .invokevirtual 28, 3), (208, .if_icmp .eq 474, 3), (218, .iaload, 1), (219, .invokevirtual 29, 3), (227, .iaload, 1), (228, .invokevirtual 33, 3), (231, .if_icmp .eq 451, 3), (241, .iaload, 1), (246, .iaload, 1), (247, .invokevirtual 34, 3), (255, .iaload, 1), (260, .iaload, 1), (261, .invokevirtual 38, 3), (265, .ifCond .eq 417, 3), (275, .iaload, 1), (276, .invokevirtual 39, 3), (284, .iaload, 1), (285, .invokevirtual 42, 3), (288, .if_icmp .eq 394, 3), (298, .iaload, 1), (303, .iaload, 1), (304, .invokevirtual 43, 3), (312, .iaload, 1), (317, .iaload, 1), (318, .invokevirtual 47, 3), (321, .if_icmp .eq 361, 3), (331, .iaload, 1), (336, .iaload, 1), (337, .invokevirtual 48, 3), (345, .iaload, 1), (350, .iaload, 1), (351, .invokevirtual 51, 3), (354, .if_icmp .eq 328, 3), (364, .iaload, 1), (365, .invokevirtual 52, 3), (373, .iaload, 1), (374, .invokevirtual 55, 3), (377, .if_icmp .eq 305, 3), (387, .iaload, 1), (388, .invokevirtual 56, 3), (396, .iaload, 1), (397, .invokevirtual 59, 3), (400, .if_icmp .eq 282, 3), (410, .iaload, 1), (415, .iaload, 1), (416, .invokevirtual 60, 3), (424, .iaload, 1), (429, .iaload, 1), (430, .invokevirtual 63, 3), (433, .if_icmp .eq 249, 3), (443, .iaload, 1), (444, .invokevirtual 64, 3), (452, .iaload, 1), (453, .invokevirtual 67, 3), (456, .if_icmp .eq 226, 3), (466, .iaload, 1), (471, .iaload, 1), (472, .invokevirtual 68, 3), (480, .iaload, 1), (485, .iaload, 1), (486, .invokevirtual 71, 3), (489, .if_icmp .eq 193, 3), (499, .iaload, 1), (504, .iaload, 1), (505, .invokevirtual 72, 3), (513, .iaload, 1), (518, .iaload, 1), (519, .invokevirtual 75, 3), (522, .if_icmp .eq 160, 3), (532, .iaload, 1), (537, .iaload, 1), (538, .invokevirtual 76, 3), (546, .iaload, 1), (551, .iaload, 1), (552, .invokevirtual 79, 3), (555, .if_icmp .eq 127, 3), (565, .iaload, 1), (570, .iaload, 1), (571, .invokevirtual 80, 3), (579, .iaload, 1), (584, .iaload, 1), (585, .invokevirtual 83, 3), (588, .if_icmp .eq 94, 3), (598, .iaload, 1), (603, .iaload, 1), (604, .invokevirtual 84, 3), (612, .iaload, 1), (617, .iaload, 1), (618, .invokevirtual 87, 3), (621, .if_icmp .eq 61, 3), (631, .iaload, 1), (632, .invokevirtual 88, 3), (640, .iaload, 1), (641, .invokevirtual 91, 3), (644, .if_icmp .eq 38, 3), (654, .iaload, 1), (659, .iaload, 1), (660, .invokevirtual 92, 3), (668, .iaload, 1), (673, .iaload, 1), (674, .invokevirtual 95, 3), (677, .if_icmp .eq 5, 3), (0, .new 7, 3), (4, .invokespecial 9, 3), (8, .new 10, 3), (12, .invokespecial 12, 3), (20, .arraylength, 1), (23, .if_icmp .gt 665, 3), (28, .iaload, 1), (32, .tableswitch 650 0 18 #[92, 155, 168, 181, 204, 238, 261, 294, 327, 350, 373, 406, 429, 462, 495, 528, 561, 594, 617], 92), (685, .goto (-667), 3), (689, .ireturn, 1)])
theorem mlaw : hx_mok M_law = true := by decide +kernel
set_option maxRecDepth 20000 in
theorem law_feed {Rel : hH → Prop} (hR : Law_feed Rel) {Ls : Nat} {xs : Nat → Int32} {i : Int32} (b1 : vp_in (i + 1) Ls) (b2 : vp_in (i + 2) Ls) (b3 : vp_in (i + 3) Ls) {kc ks : Nat} (ih : ∀ h, Rel h → hx_G S0 M_law Ls xs 682 [(3, .int i), (2, .ref 192), (1, .ref 1), (0, .ref 252)] [] NT h kc ks) {h : hH} (hr : Rel h) : hx_G S0 M_law Ls xs 124 [(3, .int i), (2, .ref 192), (1, .ref 1), (0, .ref 252)] [] NT h (1 + kc) (6 + ks) := by
  have hm := mlaw
  obtain ⟨a, h1, h2, ha, hc, hr2⟩ := hR h ((xs (Int32.toNatClampNeg (i + (1 : Int32))))) ((((Int32.toInt64 (xs (Int32.toNatClampNeg (i + (2 : Int32))))) <<< ((Int32.toInt64 (32 : Int32)) &&& 63)) ||| ((Int32.toInt64 (xs (Int32.toNatClampNeg (i + (3 : Int32))))) &&& (4294967295 : Int64)))) hr
  refine hg_mono (kc := 0 + (0 + kc)) (ks := 0 + (0 + ks)) (by omega) (by omega) ?_
  refine hg_b hm 0 rfl (L' := [(3, .int i), (2, .ref 192), (1, .ref 1), (0, .ref 252)]) (st' := [(.int (i + (1 : Int32))), (.ref 252), (.ref 1)]) (h' := h) rfl (by exact trivial) (pc' := 129) rfl ?_
  refine hg_sld hm 0 rfl b1 ?_
  refine hg_b hm 1 rfl (L' := [(3, .int i), (2, .ref 192), (1, .ref 1), (0, .ref 252)]) (st' := [(.int (i + (2 : Int32))), (.ref 252), (.int (xs (Int32.toNatClampNeg (i + (1 : Int32))))), (.ref 1)]) (h' := h) rfl (by exact trivial) (pc' := 134) rfl ?_
  refine hg_sld hm 1 rfl b2 ?_
  refine hg_b hm 2 rfl (L' := [(3, .int i), (2, .ref 192), (1, .ref 1), (0, .ref 252)]) (st' := [(.int (i + (3 : Int32))), (.ref 252), (.long ((Int32.toInt64 (xs (Int32.toNatClampNeg (i + (2 : Int32))))) <<< ((Int32.toInt64 (32 : Int32)) &&& 63))), (.int (xs (Int32.toNatClampNeg (i + (1 : Int32))))), (.ref 1)]) (h' := h) rfl (by exact trivial) (pc' := 143) rfl ?_
  refine hg_sld hm 2 rfl b3 ?_
  refine hg_b hm 3 rfl (L' := [(3, .int i), (2, .ref 192), (1, .ref 1), (0, .ref 252)]) (st' := [(.long (Int32.toInt64 (xs (Int32.toNatClampNeg (i + (3 : Int32)))))), (.long ((Int32.toInt64 (xs (Int32.toNatClampNeg (i + (2 : Int32))))) <<< ((Int32.toInt64 (32 : Int32)) &&& 63))), (.int (xs (Int32.toNatClampNeg (i + (1 : Int32))))), (.ref 1)]) (h' := h) rfl (by exact trivial) (pc' := 145) rfl ?_
  refine hg_ldc2 hm 3 rfl (v := 4294967295) (lw_g (lw_at lw_m12 24 rfl) rfl) ?_
  refine hg_b hm 4 rfl (L' := [(3, .int i), (2, .ref 192), (1, .ref 1), (0, .ref 252)]) (st' := [(.long (((Int32.toInt64 (xs (Int32.toNatClampNeg (i + (2 : Int32))))) <<< ((Int32.toInt64 (32 : Int32)) &&& 63)) ||| ((Int32.toInt64 (xs (Int32.toNatClampNeg (i + (3 : Int32))))) &&& (4294967295 : Int64)))), (.int (xs (Int32.toNatClampNeg (i + (1 : Int32))))), (.ref 1)]) (h' := h) rfl (by exact trivial) (pc' := 150) rfl ?_
  refine hg_cV (M2 := M_HH_feed) (d2 := 2) (as := [(.int (xs (Int32.toNatClampNeg (i + (1 : Int32))))), (.long (((Int32.toInt64 (xs (Int32.toNatClampNeg (i + (2 : Int32))))) <<< ((Int32.toInt64 (32 : Int32)) &&& 63)) ||| ((Int32.toInt64 (xs (Int32.toNatClampNeg (i + (3 : Int32))))) &&& (4294967295 : Int64))))]) (rest := []) (z := 1) (k1 := 0) (k2 := 0) (kc := 0 + kc) (ks := 0 + ks) hm 4 rfl (lw_g (lw_at lw_m4 34 rfl) rfl) y_HH_feed.W (le_b rfl) og_1 pd_HH_feed rfl (le_b rfl) (k_HH_feed (xs (Int32.toNatClampNeg (i + (1 : Int32)))) (((Int32.toInt64 (xs (Int32.toNatClampNeg (i + (2 : Int32))))) <<< ((Int32.toInt64 (32 : Int32)) &&& 63)) ||| ((Int32.toInt64 (xs (Int32.toNatClampNeg (i + (3 : Int32))))) &&& (4294967295 : Int64))) h (a, h1) ha _ rfl) (le_b rfl) ?_
  refine hg_b hm 5 rfl (L' := [(3, .int i), (2, .ref 192), (1, .ref 1), (0, .ref 252)]) (st' := [(.int (i + (1 : Int32))), (.ref 252), (.ref 192), (.int a)]) (h' := h1) rfl (by exact trivial) (pc' := 158) rfl ?_
  refine hg_sld hm 5 rfl b1 ?_
  refine hg_b hm 6 rfl (L' := [(3, .int i), (2, .ref 192), (1, .ref 1), (0, .ref 252)]) (st' := [(.int (i + (2 : Int32))), (.ref 252), (.int (xs (Int32.toNatClampNeg (i + (1 : Int32))))), (.ref 192), (.int a)]) (h' := h1) rfl (by exact trivial) (pc' := 163) rfl ?_
  refine hg_sld hm 6 rfl b2 ?_
  refine hg_b hm 7 rfl (L' := [(3, .int i), (2, .ref 192), (1, .ref 1), (0, .ref 252)]) (st' := [(.int (i + (3 : Int32))), (.ref 252), (.long ((Int32.toInt64 (xs (Int32.toNatClampNeg (i + (2 : Int32))))) <<< ((Int32.toInt64 (32 : Int32)) &&& 63))), (.int (xs (Int32.toNatClampNeg (i + (1 : Int32))))), (.ref 192), (.int a)]) (h' := h1) rfl (by exact trivial) (pc' := 172) rfl ?_
  refine hg_sld hm 7 rfl b3 ?_
  refine hg_b hm 8 rfl (L' := [(3, .int i), (2, .ref 192), (1, .ref 1), (0, .ref 252)]) (st' := [(.long (Int32.toInt64 (xs (Int32.toNatClampNeg (i + (3 : Int32)))))), (.long ((Int32.toInt64 (xs (Int32.toNatClampNeg (i + (2 : Int32))))) <<< ((Int32.toInt64 (32 : Int32)) &&& 63))), (.int (xs (Int32.toNatClampNeg (i + (1 : Int32))))), (.ref 192), (.int a)]) (h' := h1) rfl (by exact trivial) (pc' := 174) rfl ?_
  refine hg_ldc2 hm 8 rfl (v := 4294967295) (lw_g (lw_at lw_m12 24 rfl) rfl) ?_
  refine hg_b hm 9 rfl (L' := [(3, .int i), (2, .ref 192), (1, .ref 1), (0, .ref 252)]) (st' := [(.long (((Int32.toInt64 (xs (Int32.toNatClampNeg (i + (2 : Int32))))) <<< ((Int32.toInt64 (32 : Int32)) &&& 63)) ||| ((Int32.toInt64 (xs (Int32.toNatClampNeg (i + (3 : Int32))))) &&& (4294967295 : Int64)))), (.int (xs (Int32.toNatClampNeg (i + (1 : Int32))))), (.ref 192), (.int a)]) (h' := h1) rfl (by exact trivial) (pc' := 179) rfl ?_
  refine hg_cV (M2 := M_Mo_feed) (d2 := 2) (as := [(.int (xs (Int32.toNatClampNeg (i + (1 : Int32))))), (.long (((Int32.toInt64 (xs (Int32.toNatClampNeg (i + (2 : Int32))))) <<< ((Int32.toInt64 (32 : Int32)) &&& 63)) ||| ((Int32.toInt64 (xs (Int32.toNatClampNeg (i + (3 : Int32))))) &&& (4294967295 : Int64))))]) (rest := [(.int a)]) (z := 192) (k1 := 0) (k2 := 0) (kc := kc) (ks := ks) hm 9 rfl (lw_g (lw_at lw_m11 155 rfl) rfl) y_Mo_feed.W (le_b rfl) og_192 pd_Mo_feed rfl (le_b rfl) (k_Mo_feed (xs (Int32.toNatClampNeg (i + (1 : Int32)))) (((Int32.toInt64 (xs (Int32.toNatClampNeg (i + (2 : Int32))))) <<< ((Int32.toInt64 (32 : Int32)) &&& 63)) ||| ((Int32.toInt64 (xs (Int32.toNatClampNeg (i + (3 : Int32))))) &&& (4294967295 : Int64))) h1 (a, h2) hc _ rfl) (le_b rfl) ?_
  refine hg_eq hm 10 rfl (tgt := 682) rfl ?_
  exact ih h2 hr2
set_option maxRecDepth 20000 in
theorem law_wipe {Rel : hH → Prop} (hR : Law_wipe Rel) {Ls : Nat} {xs : Nat → Int32} {i : Int32} (b1 : vp_in (i + 1) Ls) (b2 : vp_in (i + 2) Ls) (b3 : vp_in (i + 3) Ls) {kc ks : Nat} (ih : ∀ h, Rel h → hx_G S0 M_law Ls xs 682 [(3, .int i), (2, .ref 192), (1, .ref 1), (0, .ref 252)] [] NT h kc ks) {h : hH} (hr : Rel h) : hx_G S0 M_law Ls xs 187 [(3, .int i), (2, .ref 192), (1, .ref 1), (0, .ref 252)] [] NT h (1 + kc) (6 + ks) := by
  have hm := mlaw
  obtain ⟨a, h1, h2, ha, hc, hr2⟩ := hR h  hr
  refine hg_mono (kc := 0 + (0 + kc)) (ks := 0 + (0 + ks)) (by omega) (by omega) ?_
  refine hg_b hm 10 rfl (L' := [(3, .int i), (2, .ref 192), (1, .ref 1), (0, .ref 252)]) (st' := [(.ref 1)]) (h' := h) rfl (by exact trivial) (pc' := 188) rfl ?_
  refine hg_cV (M2 := M_HH_wipe) (d2 := 1) (as := []) (rest := []) (z := 1) (k1 := 0) (k2 := 0) (kc := 0 + kc) (ks := 0 + ks) hm 11 rfl (lw_g (lw_at lw_m4 42 rfl) rfl) y_HH_wipe.W (le_b rfl) og_1 pd_HH_wipe rfl (le_b rfl) (k_HH_wipe  h (a, h1) ha _ rfl) (le_b rfl) ?_
  refine hg_b hm 11 rfl (L' := [(3, .int i), (2, .ref 192), (1, .ref 1), (0, .ref 252)]) (st' := [(.ref 192), (.int a)]) (h' := h1) rfl (by exact trivial) (pc' := 192) rfl ?_
  refine hg_cV (M2 := M_Mo_wipe) (d2 := 1) (as := []) (rest := [(.int a)]) (z := 192) (k1 := 0) (k2 := 0) (kc := kc) (ks := ks) hm 12 rfl (lw_g (lw_at lw_m11 160 rfl) rfl) y_Mo_wipe.W (le_b rfl) og_192 pd_Mo_wipe rfl (le_b rfl) (k_Mo_wipe  h1 (a, h2) hc _ rfl) (le_b rfl) ?_
  refine hg_eq hm 13 rfl (tgt := 682) rfl ?_
  exact ih h2 hr2
set_option maxRecDepth 20000 in
theorem law_load {Rel : hH → Prop} (hR : Law_load Rel) {Ls : Nat} {xs : Nat → Int32} {i : Int32} (b1 : vp_in (i + 1) Ls) (b2 : vp_in (i + 2) Ls) (b3 : vp_in (i + 3) Ls) {kc ks : Nat} (ih : ∀ h, Rel h → hx_G S0 M_law Ls xs 682 [(3, .int i), (2, .ref 192), (1, .ref 1), (0, .ref 252)] [] NT h kc ks) {h : hH} (hr : Rel h) : hx_G S0 M_law Ls xs 200 [(3, .int i), (2, .ref 192), (1, .ref 1), (0, .ref 252)] [] NT h (1 + kc) (6 + ks) := by
  have hm := mlaw
  obtain ⟨a, h1, h2, ha, hc, hr2⟩ := hR h  hr
  refine hg_mono (kc := 0 + (0 + kc)) (ks := 0 + (0 + ks)) (by omega) (by omega) ?_
  refine hg_b hm 12 rfl (L' := [(3, .int i), (2, .ref 192), (1, .ref 1), (0, .ref 252)]) (st' := [(.ref 1)]) (h' := h) rfl (by exact trivial) (pc' := 201) rfl ?_
  refine hg_cV (M2 := M_HH_load) (d2 := 12) (as := []) (rest := []) (z := 1) (k1 := 0) (k2 := 0) (kc := 0 + kc) (ks := 0 + ks) hm 14 rfl (lw_g (lw_at lw_m4 46 rfl) rfl) y_HH_load.W (le_b rfl) og_1 pd_HH_load rfl (le_b rfl) (k_HH_load  h (a, h1) ha _ rfl) (le_b rfl) ?_
  refine hg_b hm 13 rfl (L' := [(3, .int i), (2, .ref 192), (1, .ref 1), (0, .ref 252)]) (st' := [(.ref 192), (.int a)]) (h' := h1) rfl (by exact trivial) (pc' := 205) rfl ?_
  refine hg_cV (M2 := M_Mo_load) (d2 := 10) (as := []) (rest := [(.int a)]) (z := 192) (k1 := 0) (k2 := 0) (kc := kc) (ks := ks) hm 15 rfl (lw_g (lw_at lw_m11 164 rfl) rfl) y_Mo_load.W (le_b rfl) og_192 pd_Mo_load rfl (le_b rfl) (k_Mo_load  h1 (a, h2) hc _ rfl) (le_b rfl) ?_
  refine hg_eq hm 16 rfl (tgt := 682) rfl ?_
  exact ih h2 hr2
set_option maxRecDepth 20000 in
theorem law_font {Rel : hH → Prop} (hR : Law_font Rel) {Ls : Nat} {xs : Nat → Int32} {i : Int32} (b1 : vp_in (i + 1) Ls) (b2 : vp_in (i + 2) Ls) (b3 : vp_in (i + 3) Ls) {kc ks : Nat} (ih : ∀ h, Rel h → hx_G S0 M_law Ls xs 682 [(3, .int i), (2, .ref 192), (1, .ref 1), (0, .ref 252)] [] NT h kc ks) {h : hH} (hr : Rel h) : hx_G S0 M_law Ls xs 213 [(3, .int i), (2, .ref 192), (1, .ref 1), (0, .ref 252)] [] NT h (1 + kc) (6 + ks) := by
  have hm := mlaw
  obtain ⟨a, ha, hc, hr2⟩ := hR h ((xs (Int32.toNatClampNeg (i + (1 : Int32))))) hr
  refine hg_mono (kc := 0 + (0 + kc)) (ks := 0 + (0 + ks)) (by omega) (by omega) ?_
  refine hg_b hm 14 rfl (L' := [(3, .int i), (2, .ref 192), (1, .ref 1), (0, .ref 252)]) (st' := [(.int (i + (1 : Int32))), (.ref 252), (.ref 1)]) (h' := h) rfl (by exact trivial) (pc' := 218) rfl ?_
  refine hg_sld hm 17 rfl b1 ?_
  refine hg_cV (M2 := M_HH_font) (d2 := 2) (as := [(.int (xs (Int32.toNatClampNeg (i + (1 : Int32)))))]) (rest := []) (z := 1) (k1 := 0) (k2 := 0) (kc := 0 + kc) (ks := 0 + ks) hm 18 rfl (lw_g (lw_at lw_m5 12 rfl) rfl) y_HH_font.W (le_b rfl) og_1 pd_HH_font rfl (le_b rfl) (k_HH_font (xs (Int32.toNatClampNeg (i + (1 : Int32)))) h a ha _ rfl) (le_b rfl) ?_
  refine hg_b hm 15 rfl (L' := [(3, .int i), (2, .ref 192), (1, .ref 1), (0, .ref 252)]) (st' := [(.int (i + (1 : Int32))), (.ref 252), (.ref 192), (.int a)]) (h' := h) rfl (by exact trivial) (pc' := 227) rfl ?_
  refine hg_sld hm 19 rfl b1 ?_
  refine hg_cV (M2 := M_Mo_font) (d2 := 1) (as := [(.int (xs (Int32.toNatClampNeg (i + (1 : Int32)))))]) (rest := [(.int a)]) (z := 192) (k1 := 0) (k2 := 0) (kc := kc) (ks := ks) hm 20 rfl (lw_g (lw_at lw_m11 228 rfl) rfl) y_Mo_font.W (le_b rfl) og_192 pd_Mo_font rfl (le_b rfl) (k_Mo_font (xs (Int32.toNatClampNeg (i + (1 : Int32)))) h a hc _ rfl) (le_b rfl) ?_
  refine hg_eq hm 21 rfl (tgt := 682) rfl ?_
  exact ih h hr2
set_option maxRecDepth 20000 in
theorem law_table {Rel : hH → Prop} (hR : Law_table Rel) {Ls : Nat} {xs : Nat → Int32} {i : Int32} (b1 : vp_in (i + 1) Ls) (b2 : vp_in (i + 2) Ls) (b3 : vp_in (i + 3) Ls) {kc ks : Nat} (ih : ∀ h, Rel h → hx_G S0 M_law Ls xs 682 [(3, .int i), (2, .ref 192), (1, .ref 1), (0, .ref 252)] [] NT h kc ks) {h : hH} (hr : Rel h) : hx_G S0 M_law Ls xs 236 [(3, .int i), (2, .ref 192), (1, .ref 1), (0, .ref 252)] [] NT h (1 + kc) (6 + ks) := by
  have hm := mlaw
  obtain ⟨a, ha, hc, hr2⟩ := hR h ((xs (Int32.toNatClampNeg (i + (1 : Int32))))) ((xs (Int32.toNatClampNeg (i + (2 : Int32))))) hr
  refine hg_mono (kc := 0 + (0 + kc)) (ks := 0 + (0 + ks)) (by omega) (by omega) ?_
  refine hg_b hm 16 rfl (L' := [(3, .int i), (2, .ref 192), (1, .ref 1), (0, .ref 252)]) (st' := [(.int (i + (1 : Int32))), (.ref 252), (.ref 1)]) (h' := h) rfl (by exact trivial) (pc' := 241) rfl ?_
  refine hg_sld hm 22 rfl b1 ?_
  refine hg_b hm 17 rfl (L' := [(3, .int i), (2, .ref 192), (1, .ref 1), (0, .ref 252)]) (st' := [(.int (i + (2 : Int32))), (.ref 252), (.int (xs (Int32.toNatClampNeg (i + (1 : Int32))))), (.ref 1)]) (h' := h) rfl (by exact trivial) (pc' := 246) rfl ?_
  refine hg_sld hm 23 rfl b2 ?_
  refine hg_cV (M2 := M_HH_table) (d2 := 2) (as := [(.int (xs (Int32.toNatClampNeg (i + (1 : Int32))))), (.int (xs (Int32.toNatClampNeg (i + (2 : Int32)))))]) (rest := []) (z := 1) (k1 := 0) (k2 := 0) (kc := 0 + kc) (ks := 0 + ks) hm 24 rfl (lw_g (lw_at lw_m5 21 rfl) rfl) y_HH_table.W (le_b rfl) og_1 pd_HH_table rfl (le_b rfl) (k_HH_table (xs (Int32.toNatClampNeg (i + (1 : Int32)))) (xs (Int32.toNatClampNeg (i + (2 : Int32)))) h a ha _ rfl) (le_b rfl) ?_
  refine hg_b hm 18 rfl (L' := [(3, .int i), (2, .ref 192), (1, .ref 1), (0, .ref 252)]) (st' := [(.int (i + (1 : Int32))), (.ref 252), (.ref 192), (.long a)]) (h' := h) rfl (by exact trivial) (pc' := 255) rfl ?_
  refine hg_sld hm 25 rfl b1 ?_
  refine hg_b hm 19 rfl (L' := [(3, .int i), (2, .ref 192), (1, .ref 1), (0, .ref 252)]) (st' := [(.int (i + (2 : Int32))), (.ref 252), (.int (xs (Int32.toNatClampNeg (i + (1 : Int32))))), (.ref 192), (.long a)]) (h' := h) rfl (by exact trivial) (pc' := 260) rfl ?_
  refine hg_sld hm 26 rfl b2 ?_
  refine hg_cV (M2 := M_Mo_table) (d2 := 2) (as := [(.int (xs (Int32.toNatClampNeg (i + (1 : Int32))))), (.int (xs (Int32.toNatClampNeg (i + (2 : Int32)))))]) (rest := [(.long a)]) (z := 192) (k1 := 0) (k2 := 0) (kc := kc) (ks := ks) hm 27 rfl (lw_g (lw_at lw_m11 232 rfl) rfl) y_Mo_table.W (le_b rfl) og_192 pd_Mo_table rfl (le_b rfl) (k_Mo_table (xs (Int32.toNatClampNeg (i + (1 : Int32)))) (xs (Int32.toNatClampNeg (i + (2 : Int32)))) h a hc _ rfl) (le_b rfl) ?_
  refine hg_b hm 20 rfl (L' := [(3, .int i), (2, .ref 192), (1, .ref 1), (0, .ref 252)]) (st' := [(.int (lg_cmp a a))]) (h' := h) rfl (by exact trivial) (pc' := 265) rfl ?_
  refine hg_eq0 hm 28 rfl (tgt := 682) rfl ?_
  exact ih h hr2
set_option maxRecDepth 20000 in
theorem law_glyphOf {Rel : hH → Prop} (hR : Law_glyphOf Rel) {Ls : Nat} {xs : Nat → Int32} {i : Int32} (b1 : vp_in (i + 1) Ls) (b2 : vp_in (i + 2) Ls) (b3 : vp_in (i + 3) Ls) {kc ks : Nat} (ih : ∀ h, Rel h → hx_G S0 M_law Ls xs 682 [(3, .int i), (2, .ref 192), (1, .ref 1), (0, .ref 252)] [] NT h kc ks) {h : hH} (hr : Rel h) : hx_G S0 M_law Ls xs 270 [(3, .int i), (2, .ref 192), (1, .ref 1), (0, .ref 252)] [] NT h (1 + kc) (6 + ks) := by
  have hm := mlaw
  obtain ⟨a, ha, hc, hr2⟩ := hR h ((xs (Int32.toNatClampNeg (i + (1 : Int32))))) hr
  refine hg_mono (kc := 0 + (0 + kc)) (ks := 0 + (0 + ks)) (by omega) (by omega) ?_
  refine hg_b hm 21 rfl (L' := [(3, .int i), (2, .ref 192), (1, .ref 1), (0, .ref 252)]) (st' := [(.int (i + (1 : Int32))), (.ref 252), (.ref 1)]) (h' := h) rfl (by exact trivial) (pc' := 275) rfl ?_
  refine hg_sld hm 29 rfl b1 ?_
  refine hg_cV (M2 := M_HH_glyphOf) (d2 := 6) (as := [(.int (xs (Int32.toNatClampNeg (i + (1 : Int32)))))]) (rest := []) (z := 1) (k1 := 0) (k2 := 0) (kc := 0 + kc) (ks := 0 + ks) hm 30 rfl (lw_g (lw_at lw_m5 28 rfl) rfl) y_HH_glyphOf.W (le_b rfl) og_1 pd_HH_glyphOf rfl (le_b rfl) (k_HH_glyphOf (xs (Int32.toNatClampNeg (i + (1 : Int32)))) h a ha _ rfl) (le_b rfl) ?_
  refine hg_b hm 22 rfl (L' := [(3, .int i), (2, .ref 192), (1, .ref 1), (0, .ref 252)]) (st' := [(.int (i + (1 : Int32))), (.ref 252), (.ref 192), (.int a)]) (h' := h) rfl (by exact trivial) (pc' := 284) rfl ?_
  refine hg_sld hm 31 rfl b1 ?_
  refine hg_cV (M2 := M_Mo_glyphOf) (d2 := 6) (as := [(.int (xs (Int32.toNatClampNeg (i + (1 : Int32)))))]) (rest := [(.int a)]) (z := 192) (k1 := 0) (k2 := 0) (kc := kc) (ks := ks) hm 32 rfl (lw_g (lw_at lw_m11 239 rfl) rfl) y_Mo_glyphOf.W (le_b rfl) og_192 pd_Mo_glyphOf rfl (le_b rfl) (k_Mo_glyphOf (xs (Int32.toNatClampNeg (i + (1 : Int32)))) h a hc _ rfl) (le_b rfl) ?_
  refine hg_eq hm 33 rfl (tgt := 682) rfl ?_
  exact ih h hr2
set_option maxRecDepth 20000 in
theorem law_glyph {Rel : hH → Prop} (hR : Law_glyph Rel) {Ls : Nat} {xs : Nat → Int32} {i : Int32} (b1 : vp_in (i + 1) Ls) (b2 : vp_in (i + 2) Ls) (b3 : vp_in (i + 3) Ls) {kc ks : Nat} (ih : ∀ h, Rel h → hx_G S0 M_law Ls xs 682 [(3, .int i), (2, .ref 192), (1, .ref 1), (0, .ref 252)] [] NT h kc ks) {h : hH} (hr : Rel h) : hx_G S0 M_law Ls xs 293 [(3, .int i), (2, .ref 192), (1, .ref 1), (0, .ref 252)] [] NT h (1 + kc) (6 + ks) := by
  have hm := mlaw
  obtain ⟨a, h1, h2, ha, hc, hr2⟩ := hR h ((xs (Int32.toNatClampNeg (i + (1 : Int32))))) ((xs (Int32.toNatClampNeg (i + (2 : Int32))))) hr
  refine hg_mono (kc := 0 + (0 + kc)) (ks := 0 + (0 + ks)) (by omega) (by omega) ?_
  refine hg_b hm 23 rfl (L' := [(3, .int i), (2, .ref 192), (1, .ref 1), (0, .ref 252)]) (st' := [(.int (i + (1 : Int32))), (.ref 252), (.ref 1)]) (h' := h) rfl (by exact trivial) (pc' := 298) rfl ?_
  refine hg_sld hm 34 rfl b1 ?_
  refine hg_b hm 24 rfl (L' := [(3, .int i), (2, .ref 192), (1, .ref 1), (0, .ref 252)]) (st' := [(.int (i + (2 : Int32))), (.ref 252), (.int (xs (Int32.toNatClampNeg (i + (1 : Int32))))), (.ref 1)]) (h' := h) rfl (by exact trivial) (pc' := 303) rfl ?_
  refine hg_sld hm 35 rfl b2 ?_
  refine hg_cV (M2 := M_HH_glyph) (d2 := 8) (as := [(.int (xs (Int32.toNatClampNeg (i + (1 : Int32))))), (.int (xs (Int32.toNatClampNeg (i + (2 : Int32)))))]) (rest := []) (z := 1) (k1 := 0) (k2 := 0) (kc := 0 + kc) (ks := 0 + ks) hm 36 rfl (lw_g (lw_at lw_m5 54 rfl) rfl) y_HH_glyph.W (le_b rfl) og_1 pd_HH_glyph rfl (le_b rfl) (k_HH_glyph (xs (Int32.toNatClampNeg (i + (1 : Int32)))) (xs (Int32.toNatClampNeg (i + (2 : Int32)))) h (a, h1) ha _ rfl) (le_b rfl) ?_
  refine hg_b hm 25 rfl (L' := [(3, .int i), (2, .ref 192), (1, .ref 1), (0, .ref 252)]) (st' := [(.int (i + (1 : Int32))), (.ref 252), (.ref 192), (.int a)]) (h' := h1) rfl (by exact trivial) (pc' := 312) rfl ?_
  refine hg_sld hm 37 rfl b1 ?_
  refine hg_b hm 26 rfl (L' := [(3, .int i), (2, .ref 192), (1, .ref 1), (0, .ref 252)]) (st' := [(.int (i + (2 : Int32))), (.ref 252), (.int (xs (Int32.toNatClampNeg (i + (1 : Int32))))), (.ref 192), (.int a)]) (h' := h1) rfl (by exact trivial) (pc' := 317) rfl ?_
  refine hg_sld hm 38 rfl b2 ?_
  refine hg_cV (M2 := M_Mo_glyph) (d2 := 7) (as := [(.int (xs (Int32.toNatClampNeg (i + (1 : Int32))))), (.int (xs (Int32.toNatClampNeg (i + (2 : Int32)))))]) (rest := [(.int a)]) (z := 192) (k1 := 0) (k2 := 0) (kc := kc) (ks := ks) hm 39 rfl (lw_g (lw_at lw_m12 3 rfl) rfl) y_Mo_glyph.W (le_b rfl) og_192 pd_Mo_glyph rfl (le_b rfl) (k_Mo_glyph (xs (Int32.toNatClampNeg (i + (1 : Int32)))) (xs (Int32.toNatClampNeg (i + (2 : Int32)))) h1 (a, h2) hc _ rfl) (le_b rfl) ?_
  refine hg_eq hm 40 rfl (tgt := 682) rfl ?_
  exact ih h2 hr2
set_option maxRecDepth 20000 in
theorem law_kern {Rel : hH → Prop} (hR : Law_kern Rel) {Ls : Nat} {xs : Nat → Int32} {i : Int32} (b1 : vp_in (i + 1) Ls) (b2 : vp_in (i + 2) Ls) (b3 : vp_in (i + 3) Ls) {kc ks : Nat} (ih : ∀ h, Rel h → hx_G S0 M_law Ls xs 682 [(3, .int i), (2, .ref 192), (1, .ref 1), (0, .ref 252)] [] NT h kc ks) {h : hH} (hr : Rel h) : hx_G S0 M_law Ls xs 326 [(3, .int i), (2, .ref 192), (1, .ref 1), (0, .ref 252)] [] NT h (1 + kc) (6 + ks) := by
  have hm := mlaw
  obtain ⟨a, ha, hc, hr2⟩ := hR h ((xs (Int32.toNatClampNeg (i + (1 : Int32))))) ((xs (Int32.toNatClampNeg (i + (2 : Int32))))) hr
  refine hg_mono (kc := 0 + (0 + kc)) (ks := 0 + (0 + ks)) (by omega) (by omega) ?_
  refine hg_b hm 27 rfl (L' := [(3, .int i), (2, .ref 192), (1, .ref 1), (0, .ref 252)]) (st' := [(.int (i + (1 : Int32))), (.ref 252), (.ref 1)]) (h' := h) rfl (by exact trivial) (pc' := 331) rfl ?_
  refine hg_sld hm 41 rfl b1 ?_
  refine hg_b hm 28 rfl (L' := [(3, .int i), (2, .ref 192), (1, .ref 1), (0, .ref 252)]) (st' := [(.int (i + (2 : Int32))), (.ref 252), (.int (xs (Int32.toNatClampNeg (i + (1 : Int32))))), (.ref 1)]) (h' := h) rfl (by exact trivial) (pc' := 336) rfl ?_
  refine hg_sld hm 42 rfl b2 ?_
  refine hg_cV (M2 := M_HH_kern) (d2 := 5) (as := [(.int (xs (Int32.toNatClampNeg (i + (1 : Int32))))), (.int (xs (Int32.toNatClampNeg (i + (2 : Int32)))))]) (rest := []) (z := 1) (k1 := 0) (k2 := 0) (kc := 0 + kc) (ks := 0 + ks) hm 43 rfl (lw_g (lw_at lw_m5 79 rfl) rfl) y_HH_kern.W (le_b rfl) og_1 pd_HH_kern rfl (le_b rfl) (k_HH_kern (xs (Int32.toNatClampNeg (i + (1 : Int32)))) (xs (Int32.toNatClampNeg (i + (2 : Int32)))) h a ha _ rfl) (le_b rfl) ?_
  refine hg_b hm 29 rfl (L' := [(3, .int i), (2, .ref 192), (1, .ref 1), (0, .ref 252)]) (st' := [(.int (i + (1 : Int32))), (.ref 252), (.ref 192), (.int a)]) (h' := h) rfl (by exact trivial) (pc' := 345) rfl ?_
  refine hg_sld hm 44 rfl b1 ?_
  refine hg_b hm 30 rfl (L' := [(3, .int i), (2, .ref 192), (1, .ref 1), (0, .ref 252)]) (st' := [(.int (i + (2 : Int32))), (.ref 252), (.int (xs (Int32.toNatClampNeg (i + (1 : Int32))))), (.ref 192), (.int a)]) (h' := h) rfl (by exact trivial) (pc' := 350) rfl ?_
  refine hg_sld hm 45 rfl b2 ?_
  refine hg_cV (M2 := M_Mo_kern) (d2 := 5) (as := [(.int (xs (Int32.toNatClampNeg (i + (1 : Int32))))), (.int (xs (Int32.toNatClampNeg (i + (2 : Int32)))))]) (rest := [(.int a)]) (z := 192) (k1 := 0) (k2 := 0) (kc := kc) (ks := ks) hm 46 rfl (lw_g (lw_at lw_m12 7 rfl) rfl) y_Mo_kern.W (le_b rfl) og_192 pd_Mo_kern rfl (le_b rfl) (k_Mo_kern (xs (Int32.toNatClampNeg (i + (1 : Int32)))) (xs (Int32.toNatClampNeg (i + (2 : Int32)))) h a hc _ rfl) (le_b rfl) ?_
  refine hg_eq hm 47 rfl (tgt := 682) rfl ?_
  exact ih h hr2
set_option maxRecDepth 20000 in
theorem law_size {Rel : hH → Prop} (hR : Law_size Rel) {Ls : Nat} {xs : Nat → Int32} {i : Int32} (b1 : vp_in (i + 1) Ls) (b2 : vp_in (i + 2) Ls) (b3 : vp_in (i + 3) Ls) {kc ks : Nat} (ih : ∀ h, Rel h → hx_G S0 M_law Ls xs 682 [(3, .int i), (2, .ref 192), (1, .ref 1), (0, .ref 252)] [] NT h kc ks) {h : hH} (hr : Rel h) : hx_G S0 M_law Ls xs 359 [(3, .int i), (2, .ref 192), (1, .ref 1), (0, .ref 252)] [] NT h (1 + kc) (6 + ks) := by
  have hm := mlaw
  obtain ⟨a, h1, n, h2, hn, ha, hc, hr2⟩ := hR h ((xs (Int32.toNatClampNeg (i + (1 : Int32))))) hr
  refine hg_mono (kc := (n + 0) + (0 + kc)) (ks := (6 * n + 0) + (0 + ks)) (by omega) (by omega) ?_
  refine hg_b hm 31 rfl (L' := [(3, .int i), (2, .ref 192), (1, .ref 1), (0, .ref 252)]) (st' := [(.int (i + (1 : Int32))), (.ref 252), (.ref 1)]) (h' := h) rfl (by exact trivial) (pc' := 364) rfl ?_
  refine hg_sld hm 48 rfl b1 ?_
  refine hg_cV (M2 := M_HH_size) (d2 := 16) (as := [(.int (xs (Int32.toNatClampNeg (i + (1 : Int32)))))]) (rest := []) (z := 1) (k1 := n + 0) (k2 := 6 * n + 0) (kc := 0 + kc) (ks := 0 + ks) hm 49 rfl (lw_g (lw_at lw_m5 87 rfl) rfl) y_HH_size (le_b rfl) og_1 pd_HH_size rfl (le_b rfl) (k_HH_size (xs (Int32.toNatClampNeg (i + (1 : Int32)))) h ((a, h1), n) ha _ ⟨_, rfl, rfl⟩) (le_b rfl) ?_
  refine hg_b hm 32 rfl (L' := [(3, .int i), (2, .ref 192), (1, .ref 1), (0, .ref 252)]) (st' := [(.int (i + (1 : Int32))), (.ref 252), (.ref 192), (.int a)]) (h' := h1) rfl (by exact trivial) (pc' := 373) rfl ?_
  refine hg_sld hm 50 rfl b1 ?_
  refine hg_cV (M2 := M_Mo_size) (d2 := 11) (as := [(.int (xs (Int32.toNatClampNeg (i + (1 : Int32)))))]) (rest := [(.int a)]) (z := 192) (k1 := 0) (k2 := 0) (kc := kc) (ks := ks) hm 51 rfl (lw_g (lw_at lw_m9 178 rfl) rfl) y_Mo_size.W (le_b rfl) og_192 pd_Mo_size rfl (le_b rfl) (k_Mo_size (xs (Int32.toNatClampNeg (i + (1 : Int32)))) h1 (a, h2) hc _ rfl) (le_b rfl) ?_
  refine hg_eq hm 52 rfl (tgt := 682) rfl ?_
  exact ih h2 hr2
set_option maxRecDepth 20000 in
theorem law_make {Rel : hH → Prop} (hR : Law_make Rel) {Ls : Nat} {xs : Nat → Int32} {i : Int32} (b1 : vp_in (i + 1) Ls) (b2 : vp_in (i + 2) Ls) (b3 : vp_in (i + 3) Ls) {kc ks : Nat} (ih : ∀ h, Rel h → hx_G S0 M_law Ls xs 682 [(3, .int i), (2, .ref 192), (1, .ref 1), (0, .ref 252)] [] NT h kc ks) {h : hH} (hr : Rel h) : hx_G S0 M_law Ls xs 382 [(3, .int i), (2, .ref 192), (1, .ref 1), (0, .ref 252)] [] NT h (1 + kc) (6 + ks) := by
  have hm := mlaw
  obtain ⟨a, h1, n, h2, hn, ha, hc, hr2⟩ := hR h ((xs (Int32.toNatClampNeg (i + (1 : Int32))))) hr
  refine hg_mono (kc := (n + 0) + (0 + kc)) (ks := (6 * n + 0) + (0 + ks)) (by omega) (by omega) ?_
  refine hg_b hm 33 rfl (L' := [(3, .int i), (2, .ref 192), (1, .ref 1), (0, .ref 252)]) (st' := [(.int (i + (1 : Int32))), (.ref 252), (.ref 1)]) (h' := h) rfl (by exact trivial) (pc' := 387) rfl ?_
  refine hg_sld hm 53 rfl b1 ?_
  refine hg_cV (M2 := M_HH_make) (d2 := 25) (as := [(.int (xs (Int32.toNatClampNeg (i + (1 : Int32)))))]) (rest := []) (z := 1) (k1 := n + 0) (k2 := 6 * n + 0) (kc := 0 + kc) (ks := 0 + ks) hm 54 rfl (lw_g (lw_at lw_m7 28 rfl) rfl) y_HH_make (le_b rfl) og_1 pd_HH_make rfl (le_b rfl) (k_HH_make (xs (Int32.toNatClampNeg (i + (1 : Int32)))) h ((a, h1), n) ha _ ⟨_, rfl, rfl⟩) (le_b rfl) ?_
  refine hg_b hm 34 rfl (L' := [(3, .int i), (2, .ref 192), (1, .ref 1), (0, .ref 252)]) (st' := [(.int (i + (1 : Int32))), (.ref 252), (.ref 192), (.int a)]) (h' := h1) rfl (by exact trivial) (pc' := 396) rfl ?_
  refine hg_sld hm 55 rfl b1 ?_
  refine hg_cV (M2 := M_Mo_make) (d2 := 27) (as := [(.int (xs (Int32.toNatClampNeg (i + (1 : Int32)))))]) (rest := [(.int a)]) (z := 192) (k1 := 0) (k2 := 0) (kc := kc) (ks := ks) hm 56 rfl (lw_g (lw_at lw_m10 232 rfl) rfl) y_Mo_make.W (le_b rfl) og_192 pd_Mo_make rfl (le_b rfl) (k_Mo_make (xs (Int32.toNatClampNeg (i + (1 : Int32)))) h1 (a, h2) hc _ rfl) (le_b rfl) ?_
  refine hg_eq hm 57 rfl (tgt := 682) rfl ?_
  exact ih h2 hr2
set_option maxRecDepth 20000 in
theorem law_point {Rel : hH → Prop} (hR : Law_point Rel) {Ls : Nat} {xs : Nat → Int32} {i : Int32} (b1 : vp_in (i + 1) Ls) (b2 : vp_in (i + 2) Ls) (b3 : vp_in (i + 3) Ls) {kc ks : Nat} (ih : ∀ h, Rel h → hx_G S0 M_law Ls xs 682 [(3, .int i), (2, .ref 192), (1, .ref 1), (0, .ref 252)] [] NT h kc ks) {h : hH} (hr : Rel h) : hx_G S0 M_law Ls xs 405 [(3, .int i), (2, .ref 192), (1, .ref 1), (0, .ref 252)] [] NT h (1 + kc) (6 + ks) := by
  have hm := mlaw
  obtain ⟨a, ha, hc, hr2⟩ := hR h ((xs (Int32.toNatClampNeg (i + (1 : Int32))))) ((xs (Int32.toNatClampNeg (i + (2 : Int32))))) hr
  refine hg_mono (kc := 0 + (0 + kc)) (ks := 0 + (0 + ks)) (by omega) (by omega) ?_
  refine hg_b hm 35 rfl (L' := [(3, .int i), (2, .ref 192), (1, .ref 1), (0, .ref 252)]) (st' := [(.int (i + (1 : Int32))), (.ref 252), (.ref 1)]) (h' := h) rfl (by exact trivial) (pc' := 410) rfl ?_
  refine hg_sld hm 58 rfl b1 ?_
  refine hg_b hm 36 rfl (L' := [(3, .int i), (2, .ref 192), (1, .ref 1), (0, .ref 252)]) (st' := [(.int (i + (2 : Int32))), (.ref 252), (.int (xs (Int32.toNatClampNeg (i + (1 : Int32))))), (.ref 1)]) (h' := h) rfl (by exact trivial) (pc' := 415) rfl ?_
  refine hg_sld hm 59 rfl b2 ?_
  refine hg_cV (M2 := M_HH_point) (d2 := 2) (as := [(.int (xs (Int32.toNatClampNeg (i + (1 : Int32))))), (.int (xs (Int32.toNatClampNeg (i + (2 : Int32)))))]) (rest := []) (z := 1) (k1 := 0) (k2 := 0) (kc := 0 + kc) (ks := 0 + ks) hm 60 rfl (lw_g (lw_at lw_m7 111 rfl) rfl) y_HH_point.W (le_b rfl) og_1 pd_HH_point rfl (le_b rfl) (k_HH_point (xs (Int32.toNatClampNeg (i + (1 : Int32)))) (xs (Int32.toNatClampNeg (i + (2 : Int32)))) h a ha _ rfl) (le_b rfl) ?_
  refine hg_b hm 37 rfl (L' := [(3, .int i), (2, .ref 192), (1, .ref 1), (0, .ref 252)]) (st' := [(.int (i + (1 : Int32))), (.ref 252), (.ref 192), (.int a)]) (h' := h) rfl (by exact trivial) (pc' := 424) rfl ?_
  refine hg_sld hm 61 rfl b1 ?_
  refine hg_b hm 38 rfl (L' := [(3, .int i), (2, .ref 192), (1, .ref 1), (0, .ref 252)]) (st' := [(.int (i + (2 : Int32))), (.ref 252), (.int (xs (Int32.toNatClampNeg (i + (1 : Int32))))), (.ref 192), (.int a)]) (h' := h) rfl (by exact trivial) (pc' := 429) rfl ?_
  refine hg_sld hm 62 rfl b2 ?_
  refine hg_cV (M2 := M_Mo_point) (d2 := 2) (as := [(.int (xs (Int32.toNatClampNeg (i + (1 : Int32))))), (.int (xs (Int32.toNatClampNeg (i + (2 : Int32)))))]) (rest := [(.int a)]) (z := 192) (k1 := 0) (k2 := 0) (kc := kc) (ks := ks) hm 63 rfl (lw_g (lw_at lw_m12 11 rfl) rfl) y_Mo_point.W (le_b rfl) og_192 pd_Mo_point rfl (le_b rfl) (k_Mo_point (xs (Int32.toNatClampNeg (i + (1 : Int32)))) (xs (Int32.toNatClampNeg (i + (2 : Int32)))) h a hc _ rfl) (le_b rfl) ?_
  refine hg_eq hm 64 rfl (tgt := 682) rfl ?_
  exact ih h hr2
set_option maxRecDepth 20000 in
theorem law_told {Rel : hH → Prop} (hR : Law_told Rel) {Ls : Nat} {xs : Nat → Int32} {i : Int32} (b1 : vp_in (i + 1) Ls) (b2 : vp_in (i + 2) Ls) (b3 : vp_in (i + 3) Ls) {kc ks : Nat} (ih : ∀ h, Rel h → hx_G S0 M_law Ls xs 682 [(3, .int i), (2, .ref 192), (1, .ref 1), (0, .ref 252)] [] NT h kc ks) {h : hH} (hr : Rel h) : hx_G S0 M_law Ls xs 438 [(3, .int i), (2, .ref 192), (1, .ref 1), (0, .ref 252)] [] NT h (1 + kc) (6 + ks) := by
  have hm := mlaw
  obtain ⟨a, ha, hc, hr2⟩ := hR h ((xs (Int32.toNatClampNeg (i + (1 : Int32))))) hr
  refine hg_mono (kc := 0 + (0 + kc)) (ks := 0 + (0 + ks)) (by omega) (by omega) ?_
  refine hg_b hm 39 rfl (L' := [(3, .int i), (2, .ref 192), (1, .ref 1), (0, .ref 252)]) (st' := [(.int (i + (1 : Int32))), (.ref 252), (.ref 1)]) (h' := h) rfl (by exact trivial) (pc' := 443) rfl ?_
  refine hg_sld hm 65 rfl b1 ?_
  refine hg_cV (M2 := M_HH_told) (d2 := 1) (as := [(.int (xs (Int32.toNatClampNeg (i + (1 : Int32)))))]) (rest := []) (z := 1) (k1 := 0) (k2 := 0) (kc := 0 + kc) (ks := 0 + ks) hm 66 rfl (lw_g (lw_at lw_m7 119 rfl) rfl) y_HH_told.W (le_b rfl) og_1 pd_HH_told rfl (le_b rfl) (k_HH_told (xs (Int32.toNatClampNeg (i + (1 : Int32)))) h a ha _ rfl) (le_b rfl) ?_
  refine hg_b hm 40 rfl (L' := [(3, .int i), (2, .ref 192), (1, .ref 1), (0, .ref 252)]) (st' := [(.int (i + (1 : Int32))), (.ref 252), (.ref 192), (.int a)]) (h' := h) rfl (by exact trivial) (pc' := 452) rfl ?_
  refine hg_sld hm 67 rfl b1 ?_
  refine hg_cV (M2 := M_Mo_told) (d2 := 1) (as := [(.int (xs (Int32.toNatClampNeg (i + (1 : Int32)))))]) (rest := [(.int a)]) (z := 192) (k1 := 0) (k2 := 0) (kc := kc) (ks := ks) hm 68 rfl (lw_g (lw_at lw_m12 15 rfl) rfl) y_Mo_told.W (le_b rfl) og_192 pd_Mo_told rfl (le_b rfl) (k_Mo_told (xs (Int32.toNatClampNeg (i + (1 : Int32)))) h a hc _ rfl) (le_b rfl) ?_
  refine hg_eq hm 69 rfl (tgt := 682) rfl ?_
  exact ih h hr2
set_option maxRecDepth 20000 in
theorem law_held {Rel : hH → Prop} (hR : Law_held Rel) {Ls : Nat} {xs : Nat → Int32} {i : Int32} (b1 : vp_in (i + 1) Ls) (b2 : vp_in (i + 2) Ls) (b3 : vp_in (i + 3) Ls) {kc ks : Nat} (ih : ∀ h, Rel h → hx_G S0 M_law Ls xs 682 [(3, .int i), (2, .ref 192), (1, .ref 1), (0, .ref 252)] [] NT h kc ks) {h : hH} (hr : Rel h) : hx_G S0 M_law Ls xs 461 [(3, .int i), (2, .ref 192), (1, .ref 1), (0, .ref 252)] [] NT h (1 + kc) (6 + ks) := by
  have hm := mlaw
  obtain ⟨a, ha, hc, hr2⟩ := hR h ((xs (Int32.toNatClampNeg (i + (1 : Int32))))) ((xs (Int32.toNatClampNeg (i + (2 : Int32))))) hr
  refine hg_mono (kc := 0 + (0 + kc)) (ks := 0 + (0 + ks)) (by omega) (by omega) ?_
  refine hg_b hm 41 rfl (L' := [(3, .int i), (2, .ref 192), (1, .ref 1), (0, .ref 252)]) (st' := [(.int (i + (1 : Int32))), (.ref 252), (.ref 1)]) (h' := h) rfl (by exact trivial) (pc' := 466) rfl ?_
  refine hg_sld hm 70 rfl b1 ?_
  refine hg_b hm 42 rfl (L' := [(3, .int i), (2, .ref 192), (1, .ref 1), (0, .ref 252)]) (st' := [(.int (i + (2 : Int32))), (.ref 252), (.int (xs (Int32.toNatClampNeg (i + (1 : Int32))))), (.ref 1)]) (h' := h) rfl (by exact trivial) (pc' := 471) rfl ?_
  refine hg_sld hm 71 rfl b2 ?_
  refine hg_cV (M2 := M_HH_held) (d2 := 1) (as := [(.int (xs (Int32.toNatClampNeg (i + (1 : Int32))))), (.int (xs (Int32.toNatClampNeg (i + (2 : Int32)))))]) (rest := []) (z := 1) (k1 := 0) (k2 := 0) (kc := 0 + kc) (ks := 0 + ks) hm 72 rfl (lw_g (lw_at lw_m7 123 rfl) rfl) y_HH_held.W (le_b rfl) og_1 pd_HH_held rfl (le_b rfl) (k_HH_held (xs (Int32.toNatClampNeg (i + (1 : Int32)))) (xs (Int32.toNatClampNeg (i + (2 : Int32)))) h a ha _ rfl) (le_b rfl) ?_
  refine hg_b hm 43 rfl (L' := [(3, .int i), (2, .ref 192), (1, .ref 1), (0, .ref 252)]) (st' := [(.int (i + (1 : Int32))), (.ref 252), (.ref 192), (.int a)]) (h' := h) rfl (by exact trivial) (pc' := 480) rfl ?_
  refine hg_sld hm 73 rfl b1 ?_
  refine hg_b hm 44 rfl (L' := [(3, .int i), (2, .ref 192), (1, .ref 1), (0, .ref 252)]) (st' := [(.int (i + (2 : Int32))), (.ref 252), (.int (xs (Int32.toNatClampNeg (i + (1 : Int32))))), (.ref 192), (.int a)]) (h' := h) rfl (by exact trivial) (pc' := 485) rfl ?_
  refine hg_sld hm 74 rfl b2 ?_
  refine hg_cV (M2 := M_Mo_held) (d2 := 2) (as := [(.int (xs (Int32.toNatClampNeg (i + (1 : Int32))))), (.int (xs (Int32.toNatClampNeg (i + (2 : Int32)))))]) (rest := [(.int a)]) (z := 192) (k1 := 0) (k2 := 0) (kc := kc) (ks := ks) hm 75 rfl (lw_g (lw_at lw_m12 19 rfl) rfl) y_Mo_held.W (le_b rfl) og_192 pd_Mo_held rfl (le_b rfl) (k_Mo_held (xs (Int32.toNatClampNeg (i + (1 : Int32)))) (xs (Int32.toNatClampNeg (i + (2 : Int32)))) h a hc _ rfl) (le_b rfl) ?_
  refine hg_eq hm 76 rfl (tgt := 682) rfl ?_
  exact ih h hr2
set_option maxRecDepth 20000 in
theorem law_isIn {Rel : hH → Prop} (hR : Law_isIn Rel) {Ls : Nat} {xs : Nat → Int32} {i : Int32} (b1 : vp_in (i + 1) Ls) (b2 : vp_in (i + 2) Ls) (b3 : vp_in (i + 3) Ls) {kc ks : Nat} (ih : ∀ h, Rel h → hx_G S0 M_law Ls xs 682 [(3, .int i), (2, .ref 192), (1, .ref 1), (0, .ref 252)] [] NT h kc ks) {h : hH} (hr : Rel h) : hx_G S0 M_law Ls xs 494 [(3, .int i), (2, .ref 192), (1, .ref 1), (0, .ref 252)] [] NT h (1 + kc) (6 + ks) := by
  have hm := mlaw
  obtain ⟨a, h1, h2, ha, hc, hr2⟩ := hR h ((xs (Int32.toNatClampNeg (i + (1 : Int32))))) ((xs (Int32.toNatClampNeg (i + (2 : Int32))))) hr
  refine hg_mono (kc := 0 + (0 + kc)) (ks := 0 + (0 + ks)) (by omega) (by omega) ?_
  refine hg_b hm 45 rfl (L' := [(3, .int i), (2, .ref 192), (1, .ref 1), (0, .ref 252)]) (st' := [(.int (i + (1 : Int32))), (.ref 252), (.ref 1)]) (h' := h) rfl (by exact trivial) (pc' := 499) rfl ?_
  refine hg_sld hm 77 rfl b1 ?_
  refine hg_b hm 46 rfl (L' := [(3, .int i), (2, .ref 192), (1, .ref 1), (0, .ref 252)]) (st' := [(.int (i + (2 : Int32))), (.ref 252), (.int (xs (Int32.toNatClampNeg (i + (1 : Int32))))), (.ref 1)]) (h' := h) rfl (by exact trivial) (pc' := 504) rfl ?_
  refine hg_sld hm 78 rfl b2 ?_
  refine hg_cV (M2 := M_HH_isIn) (d2 := 7) (as := [(.int (xs (Int32.toNatClampNeg (i + (1 : Int32))))), (.int (xs (Int32.toNatClampNeg (i + (2 : Int32)))))]) (rest := []) (z := 1) (k1 := 0) (k2 := 0) (kc := 0 + kc) (ks := 0 + ks) hm 79 rfl (lw_g (lw_at lw_m7 127 rfl) rfl) y_HH_isIn.W (le_b rfl) og_1 pd_HH_isIn rfl (le_b rfl) (k_HH_isIn (xs (Int32.toNatClampNeg (i + (1 : Int32)))) (xs (Int32.toNatClampNeg (i + (2 : Int32)))) h (a, h1) ha _ rfl) (le_b rfl) ?_
  refine hg_b hm 47 rfl (L' := [(3, .int i), (2, .ref 192), (1, .ref 1), (0, .ref 252)]) (st' := [(.int (i + (1 : Int32))), (.ref 252), (.ref 192), (.int a)]) (h' := h1) rfl (by exact trivial) (pc' := 513) rfl ?_
  refine hg_sld hm 80 rfl b1 ?_
  refine hg_b hm 48 rfl (L' := [(3, .int i), (2, .ref 192), (1, .ref 1), (0, .ref 252)]) (st' := [(.int (i + (2 : Int32))), (.ref 252), (.int (xs (Int32.toNatClampNeg (i + (1 : Int32))))), (.ref 192), (.int a)]) (h' := h1) rfl (by exact trivial) (pc' := 518) rfl ?_
  refine hg_sld hm 81 rfl b2 ?_
  refine hg_cV (M2 := M_Mo_isIn) (d2 := 6) (as := [(.int (xs (Int32.toNatClampNeg (i + (1 : Int32))))), (.int (xs (Int32.toNatClampNeg (i + (2 : Int32)))))]) (rest := [(.int a)]) (z := 192) (k1 := 0) (k2 := 0) (kc := kc) (ks := ks) hm 82 rfl (lw_g (lw_at lw_m11 76 rfl) rfl) y_Mo_isIn.W (le_b rfl) og_192 pd_Mo_isIn rfl (le_b rfl) (k_Mo_isIn (xs (Int32.toNatClampNeg (i + (1 : Int32)))) (xs (Int32.toNatClampNeg (i + (2 : Int32)))) h1 (a, h2) hc _ rfl) (le_b rfl) ?_
  refine hg_eq hm 83 rfl (tgt := 682) rfl ?_
  exact ih h2 hr2
set_option maxRecDepth 20000 in
theorem law_canvas {Rel : hH → Prop} (hR : Law_canvas Rel) {Ls : Nat} {xs : Nat → Int32} {i : Int32} (b1 : vp_in (i + 1) Ls) (b2 : vp_in (i + 2) Ls) (b3 : vp_in (i + 3) Ls) {kc ks : Nat} (ih : ∀ h, Rel h → hx_G S0 M_law Ls xs 682 [(3, .int i), (2, .ref 192), (1, .ref 1), (0, .ref 252)] [] NT h kc ks) {h : hH} (hr : Rel h) : hx_G S0 M_law Ls xs 527 [(3, .int i), (2, .ref 192), (1, .ref 1), (0, .ref 252)] [] NT h (1 + kc) (6 + ks) := by
  have hm := mlaw
  obtain ⟨a, h1, h2, ha, hc, hr2⟩ := hR h ((xs (Int32.toNatClampNeg (i + (1 : Int32))))) ((xs (Int32.toNatClampNeg (i + (2 : Int32))))) hr
  refine hg_mono (kc := 0 + (0 + kc)) (ks := 0 + (0 + ks)) (by omega) (by omega) ?_
  refine hg_b hm 49 rfl (L' := [(3, .int i), (2, .ref 192), (1, .ref 1), (0, .ref 252)]) (st' := [(.int (i + (1 : Int32))), (.ref 252), (.ref 1)]) (h' := h) rfl (by exact trivial) (pc' := 532) rfl ?_
  refine hg_sld hm 84 rfl b1 ?_
  refine hg_b hm 50 rfl (L' := [(3, .int i), (2, .ref 192), (1, .ref 1), (0, .ref 252)]) (st' := [(.int (i + (2 : Int32))), (.ref 252), (.int (xs (Int32.toNatClampNeg (i + (1 : Int32))))), (.ref 1)]) (h' := h) rfl (by exact trivial) (pc' := 537) rfl ?_
  refine hg_sld hm 85 rfl b2 ?_
  refine hg_cV (M2 := M_HH_canvas) (d2 := 2) (as := [(.int (xs (Int32.toNatClampNeg (i + (1 : Int32))))), (.int (xs (Int32.toNatClampNeg (i + (2 : Int32)))))]) (rest := []) (z := 1) (k1 := 0) (k2 := 0) (kc := 0 + kc) (ks := 0 + ks) hm 86 rfl (lw_g (lw_at lw_m7 177 rfl) rfl) y_HH_canvas.W (le_b rfl) og_1 pd_HH_canvas rfl (le_b rfl) (k_HH_canvas (xs (Int32.toNatClampNeg (i + (1 : Int32)))) (xs (Int32.toNatClampNeg (i + (2 : Int32)))) h (a, h1) ha _ rfl) (le_b rfl) ?_
  refine hg_b hm 51 rfl (L' := [(3, .int i), (2, .ref 192), (1, .ref 1), (0, .ref 252)]) (st' := [(.int (i + (1 : Int32))), (.ref 252), (.ref 192), (.int a)]) (h' := h1) rfl (by exact trivial) (pc' := 546) rfl ?_
  refine hg_sld hm 87 rfl b1 ?_
  refine hg_b hm 52 rfl (L' := [(3, .int i), (2, .ref 192), (1, .ref 1), (0, .ref 252)]) (st' := [(.int (i + (2 : Int32))), (.ref 252), (.int (xs (Int32.toNatClampNeg (i + (1 : Int32))))), (.ref 192), (.int a)]) (h' := h1) rfl (by exact trivial) (pc' := 551) rfl ?_
  refine hg_sld hm 88 rfl b2 ?_
  refine hg_cV (M2 := M_Mo_canvas) (d2 := 2) (as := [(.int (xs (Int32.toNatClampNeg (i + (1 : Int32))))), (.int (xs (Int32.toNatClampNeg (i + (2 : Int32)))))]) (rest := [(.int a)]) (z := 192) (k1 := 0) (k2 := 0) (kc := kc) (ks := ks) hm 89 rfl (lw_g (lw_at lw_m11 111 rfl) rfl) y_Mo_canvas.W (le_b rfl) og_192 pd_Mo_canvas rfl (le_b rfl) (k_Mo_canvas (xs (Int32.toNatClampNeg (i + (1 : Int32)))) (xs (Int32.toNatClampNeg (i + (2 : Int32)))) h1 (a, h2) hc _ rfl) (le_b rfl) ?_
  refine hg_eq hm 90 rfl (tgt := 682) rfl ?_
  exact ih h2 hr2
set_option maxRecDepth 20000 in
theorem law_draw {Rel : hH → Prop} (hR : Law_draw Rel) {Ls : Nat} {xs : Nat → Int32} {i : Int32} (b1 : vp_in (i + 1) Ls) (b2 : vp_in (i + 2) Ls) (b3 : vp_in (i + 3) Ls) {kc ks : Nat} (ih : ∀ h, Rel h → hx_G S0 M_law Ls xs 682 [(3, .int i), (2, .ref 192), (1, .ref 1), (0, .ref 252)] [] NT h kc ks) {h : hH} (hr : Rel h) : hx_G S0 M_law Ls xs 560 [(3, .int i), (2, .ref 192), (1, .ref 1), (0, .ref 252)] [] NT h (1 + kc) (6 + ks) := by
  have hm := mlaw
  obtain ⟨a, h1, h2, ha, hc, hr2⟩ := hR h ((xs (Int32.toNatClampNeg (i + (1 : Int32))))) ((xs (Int32.toNatClampNeg (i + (2 : Int32))))) hr
  refine hg_mono (kc := 0 + (0 + kc)) (ks := 0 + (0 + ks)) (by omega) (by omega) ?_
  refine hg_b hm 53 rfl (L' := [(3, .int i), (2, .ref 192), (1, .ref 1), (0, .ref 252)]) (st' := [(.int (i + (1 : Int32))), (.ref 252), (.ref 1)]) (h' := h) rfl (by exact trivial) (pc' := 565) rfl ?_
  refine hg_sld hm 91 rfl b1 ?_
  refine hg_b hm 54 rfl (L' := [(3, .int i), (2, .ref 192), (1, .ref 1), (0, .ref 252)]) (st' := [(.int (i + (2 : Int32))), (.ref 252), (.int (xs (Int32.toNatClampNeg (i + (1 : Int32))))), (.ref 1)]) (h' := h) rfl (by exact trivial) (pc' := 570) rfl ?_
  refine hg_sld hm 92 rfl b2 ?_
  refine hg_cV (M2 := M_HH_draw) (d2 := 8) (as := [(.int (xs (Int32.toNatClampNeg (i + (1 : Int32))))), (.int (xs (Int32.toNatClampNeg (i + (2 : Int32)))))]) (rest := []) (z := 1) (k1 := 0) (k2 := 0) (kc := 0 + kc) (ks := 0 + ks) hm 93 rfl (lw_g (lw_at lw_m7 182 rfl) rfl) y_HH_draw.W (le_b rfl) og_1 pd_HH_draw rfl (le_b rfl) (k_HH_draw (xs (Int32.toNatClampNeg (i + (1 : Int32)))) (xs (Int32.toNatClampNeg (i + (2 : Int32)))) h (a, h1) ha _ rfl) (le_b rfl) ?_
  refine hg_b hm 55 rfl (L' := [(3, .int i), (2, .ref 192), (1, .ref 1), (0, .ref 252)]) (st' := [(.int (i + (1 : Int32))), (.ref 252), (.ref 192), (.int a)]) (h' := h1) rfl (by exact trivial) (pc' := 579) rfl ?_
  refine hg_sld hm 94 rfl b1 ?_
  refine hg_b hm 56 rfl (L' := [(3, .int i), (2, .ref 192), (1, .ref 1), (0, .ref 252)]) (st' := [(.int (i + (2 : Int32))), (.ref 252), (.int (xs (Int32.toNatClampNeg (i + (1 : Int32))))), (.ref 192), (.int a)]) (h' := h1) rfl (by exact trivial) (pc' := 584) rfl ?_
  refine hg_sld hm 95 rfl b2 ?_
  refine hg_cV (M2 := M_Mo_draw) (d2 := 7) (as := [(.int (xs (Int32.toNatClampNeg (i + (1 : Int32))))), (.int (xs (Int32.toNatClampNeg (i + (2 : Int32)))))]) (rest := [(.int a)]) (z := 192) (k1 := 0) (k2 := 0) (kc := kc) (ks := ks) hm 96 rfl (lw_g (lw_at lw_m11 116 rfl) rfl) y_Mo_draw.W (le_b rfl) og_192 pd_Mo_draw rfl (le_b rfl) (k_Mo_draw (xs (Int32.toNatClampNeg (i + (1 : Int32)))) (xs (Int32.toNatClampNeg (i + (2 : Int32)))) h1 (a, h2) hc _ rfl) (le_b rfl) ?_
  refine hg_eq hm 97 rfl (tgt := 682) rfl ?_
  exact ih h2 hr2
set_option maxRecDepth 20000 in
theorem law_pixel {Rel : hH → Prop} (hR : Law_pixel Rel) {Ls : Nat} {xs : Nat → Int32} {i : Int32} (b1 : vp_in (i + 1) Ls) (b2 : vp_in (i + 2) Ls) (b3 : vp_in (i + 3) Ls) {kc ks : Nat} (ih : ∀ h, Rel h → hx_G S0 M_law Ls xs 682 [(3, .int i), (2, .ref 192), (1, .ref 1), (0, .ref 252)] [] NT h kc ks) {h : hH} (hr : Rel h) : hx_G S0 M_law Ls xs 593 [(3, .int i), (2, .ref 192), (1, .ref 1), (0, .ref 252)] [] NT h (1 + kc) (6 + ks) := by
  have hm := mlaw
  obtain ⟨a, ha, hc, hr2⟩ := hR h ((xs (Int32.toNatClampNeg (i + (1 : Int32))))) ((xs (Int32.toNatClampNeg (i + (2 : Int32))))) hr
  refine hg_mono (kc := 0 + (0 + kc)) (ks := 0 + (0 + ks)) (by omega) (by omega) ?_
  refine hg_b hm 57 rfl (L' := [(3, .int i), (2, .ref 192), (1, .ref 1), (0, .ref 252)]) (st' := [(.int (i + (1 : Int32))), (.ref 252), (.ref 1)]) (h' := h) rfl (by exact trivial) (pc' := 598) rfl ?_
  refine hg_sld hm 98 rfl b1 ?_
  refine hg_b hm 58 rfl (L' := [(3, .int i), (2, .ref 192), (1, .ref 1), (0, .ref 252)]) (st' := [(.int (i + (2 : Int32))), (.ref 252), (.int (xs (Int32.toNatClampNeg (i + (1 : Int32))))), (.ref 1)]) (h' := h) rfl (by exact trivial) (pc' := 603) rfl ?_
  refine hg_sld hm 99 rfl b2 ?_
  refine hg_cV (M2 := M_HH_pixel) (d2 := 2) (as := [(.int (xs (Int32.toNatClampNeg (i + (1 : Int32))))), (.int (xs (Int32.toNatClampNeg (i + (2 : Int32)))))]) (rest := []) (z := 1) (k1 := 0) (k2 := 0) (kc := 0 + kc) (ks := 0 + ks) hm 100 rfl (lw_g (lw_at lw_m7 198 rfl) rfl) y_HH_pixel.W (le_b rfl) og_1 pd_HH_pixel rfl (le_b rfl) (k_HH_pixel (xs (Int32.toNatClampNeg (i + (1 : Int32)))) (xs (Int32.toNatClampNeg (i + (2 : Int32)))) h a ha _ rfl) (le_b rfl) ?_
  refine hg_b hm 59 rfl (L' := [(3, .int i), (2, .ref 192), (1, .ref 1), (0, .ref 252)]) (st' := [(.int (i + (1 : Int32))), (.ref 252), (.ref 192), (.int a)]) (h' := h) rfl (by exact trivial) (pc' := 612) rfl ?_
  refine hg_sld hm 101 rfl b1 ?_
  refine hg_b hm 60 rfl (L' := [(3, .int i), (2, .ref 192), (1, .ref 1), (0, .ref 252)]) (st' := [(.int (i + (2 : Int32))), (.ref 252), (.int (xs (Int32.toNatClampNeg (i + (1 : Int32))))), (.ref 192), (.int a)]) (h' := h) rfl (by exact trivial) (pc' := 617) rfl ?_
  refine hg_sld hm 102 rfl b2 ?_
  refine hg_cV (M2 := M_Mo_pixel) (d2 := 2) (as := [(.int (xs (Int32.toNatClampNeg (i + (1 : Int32))))), (.int (xs (Int32.toNatClampNeg (i + (2 : Int32)))))]) (rest := [(.int a)]) (z := 192) (k1 := 0) (k2 := 0) (kc := kc) (ks := ks) hm 103 rfl (lw_g (lw_at lw_m11 126 rfl) rfl) y_Mo_pixel.W (le_b rfl) og_192 pd_Mo_pixel rfl (le_b rfl) (k_Mo_pixel (xs (Int32.toNatClampNeg (i + (1 : Int32)))) (xs (Int32.toNatClampNeg (i + (2 : Int32)))) h a hc _ rfl) (le_b rfl) ?_
  refine hg_eq hm 104 rfl (tgt := 682) rfl ?_
  exact ih h hr2
set_option maxRecDepth 20000 in
theorem law_type {Rel : hH → Prop} (hR : Law_type Rel) {Ls : Nat} {xs : Nat → Int32} {i : Int32} (b1 : vp_in (i + 1) Ls) (b2 : vp_in (i + 2) Ls) (b3 : vp_in (i + 3) Ls) {kc ks : Nat} (ih : ∀ h, Rel h → hx_G S0 M_law Ls xs 682 [(3, .int i), (2, .ref 192), (1, .ref 1), (0, .ref 252)] [] NT h kc ks) {h : hH} (hr : Rel h) : hx_G S0 M_law Ls xs 626 [(3, .int i), (2, .ref 192), (1, .ref 1), (0, .ref 252)] [] NT h (1 + kc) (6 + ks) := by
  have hm := mlaw
  obtain ⟨a, h1, h2, ha, hc, hr2⟩ := hR h ((xs (Int32.toNatClampNeg (i + (1 : Int32))))) hr
  refine hg_mono (kc := 0 + (0 + kc)) (ks := 0 + (0 + ks)) (by omega) (by omega) ?_
  refine hg_b hm 61 rfl (L' := [(3, .int i), (2, .ref 192), (1, .ref 1), (0, .ref 252)]) (st' := [(.int (i + (1 : Int32))), (.ref 252), (.ref 1)]) (h' := h) rfl (by exact trivial) (pc' := 631) rfl ?_
  refine hg_sld hm 105 rfl b1 ?_
  refine hg_cV (M2 := M_HH_type) (d2 := 2) (as := [(.int (xs (Int32.toNatClampNeg (i + (1 : Int32)))))]) (rest := []) (z := 1) (k1 := 0) (k2 := 0) (kc := 0 + kc) (ks := 0 + ks) hm 106 rfl (lw_g (lw_at lw_m7 202 rfl) rfl) y_HH_type.W (le_b rfl) og_1 pd_HH_type rfl (le_b rfl) (k_HH_type (xs (Int32.toNatClampNeg (i + (1 : Int32)))) h (a, h1) ha _ rfl) (le_b rfl) ?_
  refine hg_b hm 62 rfl (L' := [(3, .int i), (2, .ref 192), (1, .ref 1), (0, .ref 252)]) (st' := [(.int (i + (1 : Int32))), (.ref 252), (.ref 192), (.int a)]) (h' := h1) rfl (by exact trivial) (pc' := 640) rfl ?_
  refine hg_sld hm 107 rfl b1 ?_
  refine hg_cV (M2 := M_Mo_type) (d2 := 2) (as := [(.int (xs (Int32.toNatClampNeg (i + (1 : Int32)))))]) (rest := [(.int a)]) (z := 192) (k1 := 0) (k2 := 0) (kc := kc) (ks := ks) hm 108 rfl (lw_g (lw_at lw_m11 130 rfl) rfl) y_Mo_type.W (le_b rfl) og_192 pd_Mo_type rfl (le_b rfl) (k_Mo_type (xs (Int32.toNatClampNeg (i + (1 : Int32)))) h1 (a, h2) hc _ rfl) (le_b rfl) ?_
  refine hg_eq hm 109 rfl (tgt := 682) rfl ?_
  exact ih h2 hr2
set_option maxRecDepth 20000 in
theorem law_line {Rel : hH → Prop} (hR : Law_line Rel) {Ls : Nat} {xs : Nat → Int32} {i : Int32} (b1 : vp_in (i + 1) Ls) (b2 : vp_in (i + 2) Ls) (b3 : vp_in (i + 3) Ls) {kc ks : Nat} (ih : ∀ h, Rel h → hx_G S0 M_law Ls xs 682 [(3, .int i), (2, .ref 192), (1, .ref 1), (0, .ref 252)] [] NT h kc ks) {h : hH} (hr : Rel h) : hx_G S0 M_law Ls xs 649 [(3, .int i), (2, .ref 192), (1, .ref 1), (0, .ref 252)] [] NT h (1 + kc) (6 + ks) := by
  have hm := mlaw
  obtain ⟨a, h1, n, h2, hn, ha, hc, hr2⟩ := hR h ((xs (Int32.toNatClampNeg (i + (1 : Int32))))) ((xs (Int32.toNatClampNeg (i + (2 : Int32))))) hr
  refine hg_mono (kc := (n + 0) + (0 + kc)) (ks := (6 * n + 0) + (0 + ks)) (by omega) (by omega) ?_
  refine hg_b hm 63 rfl (L' := [(3, .int i), (2, .ref 192), (1, .ref 1), (0, .ref 252)]) (st' := [(.int (i + (1 : Int32))), (.ref 252), (.ref 1)]) (h' := h) rfl (by exact trivial) (pc' := 654) rfl ?_
  refine hg_sld hm 110 rfl b1 ?_
  refine hg_b hm 64 rfl (L' := [(3, .int i), (2, .ref 192), (1, .ref 1), (0, .ref 252)]) (st' := [(.int (i + (2 : Int32))), (.ref 252), (.int (xs (Int32.toNatClampNeg (i + (1 : Int32))))), (.ref 1)]) (h' := h) rfl (by exact trivial) (pc' := 659) rfl ?_
  refine hg_sld hm 111 rfl b2 ?_
  refine hg_cV (M2 := M_HH_line) (d2 := 25) (as := [(.int (xs (Int32.toNatClampNeg (i + (1 : Int32))))), (.int (xs (Int32.toNatClampNeg (i + (2 : Int32)))))]) (rest := []) (z := 1) (k1 := n + 0) (k2 := 6 * n + 0) (kc := 0 + kc) (ks := 0 + ks) hm 112 rfl (lw_g (lw_at lw_m7 206 rfl) rfl) y_HH_line (le_b rfl) og_1 pd_HH_line rfl (le_b rfl) (k_HH_line (xs (Int32.toNatClampNeg (i + (1 : Int32)))) (xs (Int32.toNatClampNeg (i + (2 : Int32)))) h ((a, h1), n) ha _ ⟨_, rfl, rfl⟩) (le_b rfl) ?_
  refine hg_b hm 65 rfl (L' := [(3, .int i), (2, .ref 192), (1, .ref 1), (0, .ref 252)]) (st' := [(.int (i + (1 : Int32))), (.ref 252), (.ref 192), (.int a)]) (h' := h1) rfl (by exact trivial) (pc' := 668) rfl ?_
  refine hg_sld hm 113 rfl b1 ?_
  refine hg_b hm 66 rfl (L' := [(3, .int i), (2, .ref 192), (1, .ref 1), (0, .ref 252)]) (st' := [(.int (i + (2 : Int32))), (.ref 252), (.int (xs (Int32.toNatClampNeg (i + (1 : Int32))))), (.ref 192), (.int a)]) (h' := h1) rfl (by exact trivial) (pc' := 673) rfl ?_
  refine hg_sld hm 114 rfl b2 ?_
  refine hg_cV (M2 := M_Mo_line) (d2 := 27) (as := [(.int (xs (Int32.toNatClampNeg (i + (1 : Int32))))), (.int (xs (Int32.toNatClampNeg (i + (2 : Int32)))))]) (rest := [(.int a)]) (z := 192) (k1 := 0) (k2 := 0) (kc := kc) (ks := ks) hm 115 rfl (lw_g (lw_at lw_m11 135 rfl) rfl) y_Mo_line.W (le_b rfl) og_192 pd_Mo_line rfl (le_b rfl) (k_Mo_line (xs (Int32.toNatClampNeg (i + (1 : Int32)))) (xs (Int32.toNatClampNeg (i + (2 : Int32)))) h1 (a, h2) hc _ rfl) (le_b rfl) ?_
  refine hg_eq hm 116 rfl (tgt := 682) rfl ?_
  exact ih h2 hr2
theorem i4 {k : Nat} (hk : k ≤ 65) : (Int32.ofNat (4 * k)).toInt = 4 * (k : Int) := by
  have := nI_toInt (n := 4 * k) (by omega)
  unfold nI at this
  rw [this]
  omega
theorem i4c {k c : Nat} (hk : k ≤ 65) (hc : c ≤ 4) : Int32.ofNat (4 * k) + Int32.ofNat c = Int32.ofNat (4 * k + c) := by
  rw [Int32.ofNat_add]
theorem vp4 {k c Ls : Nat} (hk : k ≤ 65) (hc : c ≤ 4) (hb : 4 * k + c < Ls) : vp_in (Int32.ofNat (4 * k) + Int32.ofNat c) Ls := by
  rw [i4c hk hc]
  refine vp_lit ⟨?_, ?_⟩
  · exact nI_pos' (n := 4 * k + c) (by omega)
  · have := nI_clamp (n := 4 * k + c) (by omega)
    unfold nI at this
    rw [this]
    exact hb
theorem lt4 {k Ls : Nat} (hk : k ≤ 65) (hL : Ls ≤ 256) : (Int32.ofNat Ls - 4 < Int32.ofNat (4 * k)) ↔ Ls < 4 * k + 4 := by
  have h1 := i4 hk
  have h2 := nI_toInt (n := Ls) (by omega)
  unfold nI at h2
  have h3 : (Int32.ofNat Ls - 4).toInt = (Ls : Int) - 4 := by
    rw [Int32.toInt_sub, h2]
    show ((Ls : Int) - 4).bmod (2 ^ 32) = _
    rw [Int.bmod_eq_of_le (by omega) (by omega)]
  rw [Int32.lt_iff_toInt_lt, h1, h3]
  omega
theorem and31 (y : Int32) : 0 ≤ (y &&& 31).toInt ∧ (y &&& 31).toInt ≤ 31 := by
  have h : (y &&& 31).toInt = ((y.toBitVec &&& 31#32).toNat : Int) := by
    show (y.toBitVec &&& 31#32).toInt = _
    rw [BitVec.toInt_eq_toNat_of_lt]
    have : (y.toBitVec &&& 31#32).toNat ≤ 31 := by rw [BitVec.toNat_and]; exact Nat.and_le_right
    omega
  have h2 : (y.toBitVec &&& 31#32).toNat ≤ 31 := by rw [BitVec.toNat_and]; exact Nat.and_le_right
  omega
def LawRel (Rel : hH → Prop) : Prop := Law_feed Rel ∧ Law_wipe Rel ∧ Law_load Rel ∧ Law_font Rel ∧ Law_table Rel ∧ Law_glyphOf Rel ∧ Law_glyph Rel ∧ Law_kern Rel ∧ Law_size Rel ∧ Law_make Rel ∧ Law_point Rel ∧ Law_told Rel ∧ Law_held Rel ∧ Law_isIn Rel ∧ Law_canvas Rel ∧ Law_draw Rel ∧ Law_pixel Rel ∧ Law_type Rel ∧ Law_line Rel
set_option maxRecDepth 20000 in
set_option maxHeartbeats 4000000 in
theorem law_loop {Rel : hH → Prop} (hR : LawRel Rel) {Ls : Nat} {xs : Nat → Int32} (hL : Ls ≤ 256) : ∀ (j k : Nat) (h : hH), Rel h → Ls < 4 * k + 4 * j + 4 → k ≤ 64 → hx_G S0 M_law Ls xs 18 [(3, .int (Int32.ofNat (4 * k))), (2, .ref 192), (1, .ref 1), (0, .ref 252)] [] NT h j (6 * j) := by
  have hm := mlaw
  intro j
  induction j with
  | zero =>
    intro k h hr hj hk
    refine hg_b hm 71 rfl (L' := [(3, .int (Int32.ofNat (4 * k))), (2, .ref 192), (1, .ref 1), (0, .ref 252)]) (st' := [.ref 252, .int (Int32.ofNat (4 * k))]) (h' := h) rfl (by exact trivial) (pc' := 20) rfl ?_
    refine hg_slen hm 121 rfl ?_
    refine hg_b hm 72 rfl (L' := [(3, .int (Int32.ofNat (4 * k))), (2, .ref 192), (1, .ref 1), (0, .ref 252)]) (st' := [.int (Int32.ofNat Ls - 4), .int (Int32.ofNat (4 * k))]) (h' := h) rfl (by exact trivial) (pc' := 23) rfl ?_
    refine hg_gt hm 122 rfl (tgt := 688) rfl (fun _ => ?_) (fun q => ?_)
    · refine hg_b hm 76 rfl (L' := [(3, .int (Int32.ofNat (4 * k))), (2, .ref 192), (1, .ref 1), (0, .ref 252)]) (st' := [.int 1]) (h' := h) rfl (by exact trivial) (pc' := 689) rfl ?_
      exact hg_ret hm 126 rfl rfl rfl
    · exact absurd ((lt4 (by omega) hL).mpr (by omega)) q
  | succ j ihj =>
    intro k h hr hj hk
    refine hg_b hm 71 rfl (L' := [(3, .int (Int32.ofNat (4 * k))), (2, .ref 192), (1, .ref 1), (0, .ref 252)]) (st' := [.ref 252, .int (Int32.ofNat (4 * k))]) (h' := h) rfl (by exact trivial) (pc' := 20) rfl ?_
    refine hg_slen hm 121 rfl ?_
    refine hg_b hm 72 rfl (L' := [(3, .int (Int32.ofNat (4 * k))), (2, .ref 192), (1, .ref 1), (0, .ref 252)]) (st' := [.int (Int32.ofNat Ls - 4), .int (Int32.ofNat (4 * k))]) (h' := h) rfl (by exact trivial) (pc' := 23) rfl ?_
    refine hg_gt hm 122 rfl (tgt := 688) rfl (fun _ => ?_) (fun q => ?_)
    · refine hg_b hm 76 rfl (L' := [(3, .int (Int32.ofNat (4 * k))), (2, .ref 192), (1, .ref 1), (0, .ref 252)]) (st' := [.int 1]) (h' := h) rfl (by exact trivial) (pc' := 689) rfl ?_
      exact hg_ret hm 126 rfl rfl rfl
    · have hq : 4 * k + 4 ≤ Ls := Nat.not_lt.mp (fun z => q ((lt4 (by omega) hL).mpr z))
      have ih : ∀ h, Rel h → hx_G S0 M_law Ls xs 682 [(3, .int (Int32.ofNat (4 * k))), (2, .ref 192), (1, .ref 1), (0, .ref 252)] [] NT h j (6 * j) := by
        intro h2 hr2
        refine hg_b hm 75 rfl (L' := [(3, .int (Int32.ofNat (4 * (k + 1)))), (2, .ref 192), (1, .ref 1), (0, .ref 252)]) (st' := []) (h' := h2) (C := none) ?_ (by exact trivial) (pc' := 685) rfl ?_
        · have e : Int32.ofNat (4 * (k + 1)) = Int32.ofNat (4 * k) + 4 := by
            rw [show 4 * (k + 1) = 4 * k + 4 by omega, ← i4c (by omega) (by omega)]
            rfl
          rw [e]
          rfl
        refine hg_goto hm 125 rfl (tgt := 18) rfl ?_
        exact ihj (k + 1) h2 hr2 (by omega) (by omega)
      have b0 : vp_in (Int32.ofNat (4 * k)) Ls := by
        have := vp4 (k := k) (c := 0) (Ls := Ls) (by omega) (by omega) (by omega)
        rwa [i4c (by omega) (by omega), Nat.add_zero] at this
      have b1 : vp_in (Int32.ofNat (4 * k) + 1) Ls := vp4 (c := 1) (by omega) (by omega) (by omega)
      have b2 : vp_in (Int32.ofNat (4 * k) + 2) Ls := vp4 (c := 2) (by omega) (by omega) (by omega)
      have b3 : vp_in (Int32.ofNat (4 * k) + 3) Ls := vp4 (c := 3) (by omega) (by omega) (by omega)
      refine hg_mono (kc := 1 + j) (ks := 6 + 6 * j) (by omega) (by omega) ?_
      refine hg_b hm 73 rfl (L' := [(3, .int (Int32.ofNat (4 * k))), (2, .ref 192), (1, .ref 1), (0, .ref 252)]) (st' := [.int (Int32.ofNat (4 * k)), .ref 252]) (h' := h) rfl (by exact trivial) (pc' := 28) rfl ?_
      refine hg_sld hm 123 rfl b0 ?_
      refine hg_b hm 74 rfl (L' := [(3, .int (Int32.ofNat (4 * k))), (2, .ref 192), (1, .ref 1), (0, .ref 252)]) (st' := [.int (xs (Int32.toNatClampNeg (Int32.ofNat (4 * k))) &&& 31)]) (h' := h) rfl (by exact trivial) (pc' := 32) rfl ?_
      have hx := and31 (xs (Int32.toNatClampNeg (Int32.ofNat (4 * k))))
      generalize xs (Int32.toNatClampNeg (Int32.ofNat (4 * k))) &&& 31 = y at hx ⊢
      have hc : y.toInt = 0 ∨ y.toInt = 1 ∨ y.toInt = 2 ∨ y.toInt = 3 ∨ y.toInt = 4 ∨ y.toInt = 5 ∨ y.toInt = 6 ∨ y.toInt = 7 ∨ y.toInt = 8 ∨ y.toInt = 9 ∨ y.toInt = 10 ∨ y.toInt = 11 ∨ y.toInt = 12 ∨ y.toInt = 13 ∨ y.toInt = 14 ∨ y.toInt = 15 ∨ y.toInt = 16 ∨ y.toInt = 17 ∨ y.toInt = 18 ∨ 18 < y.toInt := by omega
      rcases hc with hc | hc | hc | hc | hc | hc | hc | hc | hc | hc | hc | hc | hc | hc | hc | hc | hc | hc | hc | hc
      · refine hg_tin hm 124 rfl 0 (by rw [hc]; rfl) (by decide) rfl (tgt := 124) rfl ?_
        exact law_feed hR.1 b1 b2 b3 ih hr
      · refine hg_tin hm 124 rfl 1 (by rw [hc]; rfl) (by decide) rfl (tgt := 187) rfl ?_
        exact law_wipe hR.2.1 b1 b2 b3 ih hr
      · refine hg_tin hm 124 rfl 2 (by rw [hc]; rfl) (by decide) rfl (tgt := 200) rfl ?_
        exact law_load hR.2.2.1 b1 b2 b3 ih hr
      · refine hg_tin hm 124 rfl 3 (by rw [hc]; rfl) (by decide) rfl (tgt := 213) rfl ?_
        exact law_font hR.2.2.2.1 b1 b2 b3 ih hr
      · refine hg_tin hm 124 rfl 4 (by rw [hc]; rfl) (by decide) rfl (tgt := 236) rfl ?_
        exact law_table hR.2.2.2.2.1 b1 b2 b3 ih hr
      · refine hg_tin hm 124 rfl 5 (by rw [hc]; rfl) (by decide) rfl (tgt := 270) rfl ?_
        exact law_glyphOf hR.2.2.2.2.2.1 b1 b2 b3 ih hr
      · refine hg_tin hm 124 rfl 6 (by rw [hc]; rfl) (by decide) rfl (tgt := 293) rfl ?_
        exact law_glyph hR.2.2.2.2.2.2.1 b1 b2 b3 ih hr
      · refine hg_tin hm 124 rfl 7 (by rw [hc]; rfl) (by decide) rfl (tgt := 326) rfl ?_
        exact law_kern hR.2.2.2.2.2.2.2.1 b1 b2 b3 ih hr
      · refine hg_tin hm 124 rfl 8 (by rw [hc]; rfl) (by decide) rfl (tgt := 359) rfl ?_
        exact law_size hR.2.2.2.2.2.2.2.2.1 b1 b2 b3 ih hr
      · refine hg_tin hm 124 rfl 9 (by rw [hc]; rfl) (by decide) rfl (tgt := 382) rfl ?_
        exact law_make hR.2.2.2.2.2.2.2.2.2.1 b1 b2 b3 ih hr
      · refine hg_tin hm 124 rfl 10 (by rw [hc]; rfl) (by decide) rfl (tgt := 405) rfl ?_
        exact law_point hR.2.2.2.2.2.2.2.2.2.2.1 b1 b2 b3 ih hr
      · refine hg_tin hm 124 rfl 11 (by rw [hc]; rfl) (by decide) rfl (tgt := 438) rfl ?_
        exact law_told hR.2.2.2.2.2.2.2.2.2.2.2.1 b1 b2 b3 ih hr
      · refine hg_tin hm 124 rfl 12 (by rw [hc]; rfl) (by decide) rfl (tgt := 461) rfl ?_
        exact law_held hR.2.2.2.2.2.2.2.2.2.2.2.2.1 b1 b2 b3 ih hr
      · refine hg_tin hm 124 rfl 13 (by rw [hc]; rfl) (by decide) rfl (tgt := 494) rfl ?_
        exact law_isIn hR.2.2.2.2.2.2.2.2.2.2.2.2.2.1 b1 b2 b3 ih hr
      · refine hg_tin hm 124 rfl 14 (by rw [hc]; rfl) (by decide) rfl (tgt := 527) rfl ?_
        exact law_canvas hR.2.2.2.2.2.2.2.2.2.2.2.2.2.2.1 b1 b2 b3 ih hr
      · refine hg_tin hm 124 rfl 15 (by rw [hc]; rfl) (by decide) rfl (tgt := 560) rfl ?_
        exact law_draw hR.2.2.2.2.2.2.2.2.2.2.2.2.2.2.2.1 b1 b2 b3 ih hr
      · refine hg_tin hm 124 rfl 16 (by rw [hc]; rfl) (by decide) rfl (tgt := 593) rfl ?_
        exact law_pixel hR.2.2.2.2.2.2.2.2.2.2.2.2.2.2.2.2.1 b1 b2 b3 ih hr
      · refine hg_tin hm 124 rfl 17 (by rw [hc]; rfl) (by decide) rfl (tgt := 626) rfl ?_
        exact law_type hR.2.2.2.2.2.2.2.2.2.2.2.2.2.2.2.2.2.1 b1 b2 b3 ih hr
      · refine hg_tin hm 124 rfl 18 (by rw [hc]; rfl) (by decide) rfl (tgt := 649) rfl ?_
        exact law_line hR.2.2.2.2.2.2.2.2.2.2.2.2.2.2.2.2.2.2 b1 b2 b3 ih hr
      · refine hg_tout hm 124 rfl (Or.inr hc) (tgt := 682) rfl ?_
        exact hg_mono (by omega) (by omega) (ih h hr)
