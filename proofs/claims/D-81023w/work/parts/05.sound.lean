/-! LAYER 1c: the evaluator is sound over the machine -/
theorem hx_fd_mem : ∀ {L : List (Nat × Value)} {i : Nat} {v : Value}, hx_fd L i = some v → (i, v) ∈ L
  | [], i, v, h => by cases h
  | q :: L, i, v, h => by
    unfold hx_fd at h
    split at h
    · rename_i e
      cases h
      have e2 : q.1 = i := Nat.eq_of_beq_eq_true e
      rw [← e2]
      exact List.mem_cons_self
    · exact List.mem_cons_of_mem _ (hx_fd_mem h)
theorem hL_mem {ad : Nat → Nat} {L : List (Nat × Value)} {i : Nat} {v : Value} (h : (i, v) ∈ L) : (i, cV ad v) ∈ hL ad L := List.mem_map.mpr ⟨(i, v), h, rfl⟩
theorem hL_p1 (ad : Nat → Nat) (L : List (Nat × Value)) (i : Nat) : (hL ad L).filter (hx_p1 i) = hL ad (L.filter (hx_p1 i)) := by
  unfold hL
  rw [List.filter_map]
  refine congrArg (List.map _) (List.filter_congr fun q _ => ?_)
  simp only [Function.comp, hx_p1, cV_cat]
theorem hL_p2 (ad : Nat → Nat) (L : List (Nat × Value)) (i : Nat) : (hL ad L).filter (hx_p2 i) = hL ad (L.filter (hx_p2 i)) := by
  unfold hL
  rw [List.filter_map]
  refine congrArg (List.map _) (List.filter_congr fun q _ => ?_)
  simp only [Function.comp, hx_p2, cV_cat]
theorem hx_I1_inv {f : Int32 → Value} {L L' : List (Nat × Value)} {h h' : hH} {st st' : List Value} {cnd : Option Prop} (q : hx_I1 f L h st = some (L', st', h', cnd)) : ∃ x s, st = .int x :: s ∧ L' = L ∧ st' = f x :: s ∧ h' = h ∧ cnd = none := by
  unfold hx_I1 at q
  split at q
  · cases q; exact ⟨_, _, rfl, rfl, rfl, rfl, rfl⟩
  · cases q
theorem hx_L1_inv {f : Int64 → Value} {L L' : List (Nat × Value)} {h h' : hH} {st st' : List Value} {cnd : Option Prop} (q : hx_L1 f L h st = some (L', st', h', cnd)) : ∃ x s, st = .long x :: s ∧ L' = L ∧ st' = f x :: s ∧ h' = h ∧ cnd = none := by
  unfold hx_L1 at q
  split at q
  · cases q; exact ⟨_, _, rfl, rfl, rfl, rfl, rfl⟩
  · cases q
theorem hx_I2_inv {f : Int32 → Int32 → Value} {L L' : List (Nat × Value)} {h h' : hH} {st st' : List Value} {cnd : Option Prop} (q : hx_I2 f L h st = some (L', st', h', cnd)) : ∃ x y s, st = .int y :: .int x :: s ∧ L' = L ∧ st' = f x y :: s ∧ h' = h ∧ cnd = none := by
  unfold hx_I2 at q
  split at q
  · cases q; exact ⟨_, _, _, rfl, rfl, rfl, rfl, rfl⟩
  · cases q
theorem hx_L2_inv {f : Int64 → Int64 → Value} {L L' : List (Nat × Value)} {h h' : hH} {st st' : List Value} {cnd : Option Prop} (q : hx_L2 f L h st = some (L', st', h', cnd)) : ∃ x y s, st = .long y :: .long x :: s ∧ L' = L ∧ st' = f x y :: s ∧ h' = h ∧ cnd = none := by
  unfold hx_L2 at q
  split at q
  · cases q; exact ⟨_, _, _, rfl, rfl, rfl, rfl, rfl⟩
  · cases q
theorem hx_S2_inv {f : Int64 → Int32 → Value} {L L' : List (Nat × Value)} {h h' : hH} {st st' : List Value} {cnd : Option Prop} (q : hx_S2 f L h st = some (L', st', h', cnd)) : ∃ x y s, st = .int y :: .long x :: s ∧ L' = L ∧ st' = f x y :: s ∧ h' = h ∧ cnd = none := by
  unfold hx_S2 at q
  split at q
  · cases q; exact ⟨_, _, _, rfl, rfl, rfl, rfl, rfl⟩
  · cases q
theorem hx_ldI_inv {L L' : List (Nat × Value)} {i : Nat} {h h' : hH} {st st' : List Value} {cnd : Option Prop} (q : hx_ldI L i st h = some (L', st', h', cnd)) : ∃ x, (i, .int x) ∈ L ∧ L' = L ∧ st' = .int x :: st ∧ h' = h ∧ cnd = none := by
  unfold hx_ldI at q
  split at q
  · rename_i e; cases q; exact ⟨_, hx_fd_mem e, rfl, rfl, rfl, rfl⟩
  · cases q
theorem hx_ldL_inv {L L' : List (Nat × Value)} {i : Nat} {h h' : hH} {st st' : List Value} {cnd : Option Prop} (q : hx_ldL L i st h = some (L', st', h', cnd)) : ∃ x, (i, .long x) ∈ L ∧ L' = L ∧ st' = .long x :: st ∧ h' = h ∧ cnd = none := by
  unfold hx_ldL at q
  split at q
  · rename_i e; cases q; exact ⟨_, hx_fd_mem e, rfl, rfl, rfl, rfl⟩
  · cases q
theorem hx_ldA_inv {L L' : List (Nat × Value)} {i : Nat} {h h' : hH} {st st' : List Value} {cnd : Option Prop} (q : hx_ldA L i st h = some (L', st', h', cnd)) : ∃ x, (i, .ref x) ∈ L ∧ L' = L ∧ st' = .ref x :: st ∧ h' = h ∧ cnd = none := by
  unfold hx_ldA at q
  split at q
  · rename_i e; cases q; exact ⟨_, hx_fd_mem e, rfl, rfl, rfl, rfl⟩
  · cases q
theorem hx_stI_inv {L L' : List (Nat × Value)} {i : Nat} {h h' : hH} {st st' : List Value} {cnd : Option Prop} (q : hx_stI L i st h = some (L', st', h', cnd)) : ∃ x s, st = .int x :: s ∧ L' = (i, .int x) :: L.filter (hx_p1 i) ∧ st' = s ∧ h' = h ∧ cnd = none := by
  unfold hx_stI at q
  split at q
  · cases q; exact ⟨_, _, rfl, rfl, rfl, rfl, rfl⟩
  · cases q
theorem hx_stL_inv {L L' : List (Nat × Value)} {i : Nat} {h h' : hH} {st st' : List Value} {cnd : Option Prop} (q : hx_stL L i st h = some (L', st', h', cnd)) : ∃ x s, st = .long x :: s ∧ L' = (i, .long x) :: L.filter (hx_p2 i) ∧ st' = s ∧ h' = h ∧ cnd = none := by
  unfold hx_stL at q
  split at q
  · cases q; exact ⟨_, _, rfl, rfl, rfl, rfl, rfl⟩
  · cases q
theorem hx_stA_inv {L L' : List (Nat × Value)} {i : Nat} {h h' : hH} {st st' : List Value} {cnd : Option Prop} (q : hx_stA L i st h = some (L', st', h', cnd)) : ∃ x s, st = .ref x :: s ∧ L' = (i, .ref x) :: L.filter (hx_p1 i) ∧ st' = s ∧ h' = h ∧ cnd = none := by
  unfold hx_stA at q
  split at q
  · cases q; exact ⟨_, _, rfl, rfl, rfl, rfl, rfl⟩
  · cases q
theorem hx_inc_inv {L L' : List (Nat × Value)} {i : Nat} {h h' : hH} {st st' : List Value} {v : Value} {cnd : Option Prop} (q : hx_inc L i st h v = some (L', st', h', cnd)) : ∃ x c, (i, .int x) ∈ L ∧ v = .int c ∧ L' = (i, .int (x + c)) :: L.filter (hx_p1 i) ∧ st' = st ∧ h' = h ∧ cnd = none := by
  unfold hx_inc at q
  split at q
  · rename_i e1; cases q; exact ⟨_, _, hx_fd_mem e1, rfl, rfl, rfl, rfl, rfl⟩
  · cases q
theorem cR_pos {ad : Nat → Nat} {z : Nat} (h : z ≠ 0) : cR ad z = .ref (ad z) := if_neg h
theorem hx_get_cv {S : hS} {ad : Nat → Nat} {h : hH} {z c kd k : Nat} (e : hk c k = kd) : cV ad (hx_get S h z kd k) = hfv S ad h z c k := by
  unfold hx_get hfv
  rw [e]
  match kd with
  | 0 => rfl
  | 1 => rfl
  | 2 => rfl
  | 3 => rfl
  | _ + 4 => rfl
theorem hkOk_at {c k : Nat} (hc : c < 12) (hk0 : k < hnf c) : hkOk c k = true := List.all_eq_true.mp (List.all_eq_true.mp hk_all c (List.mem_range.mpr hc)) k (List.mem_range.mpr hk0)
theorem hkOk_own {c k : Nat} (hc : c < 12) (hk0 : k < hnf c) : (hTT c k).1 = hRn c := by
  have h := hkOk_at hc hk0
  simp only [hkOk, Bool.and_eq_true, beq_iff_eq] at h
  exact h.1
theorem hkOk_0 {c k : Nat} (hc : c < 12) (hk0 : k < hnf c) (e : hk c k = 0) : hTyT c k = .int ∧ (hTT c k).2.2.2 = false := by
  have h := hkOk_at hc hk0
  simp only [hkOk, e, Bool.and_eq_true, decide_eq_true_eq, Bool.not_eq_true'] at h
  exact h.2
theorem hkOk_1 {c k : Nat} (hc : c < 12) (hk0 : k < hnf c) (e : hk c k = 1) : hTyT c k = .boolean ∧ (hTT c k).2.2.2 = false := by
  have h := hkOk_at hc hk0
  simp only [hkOk, e, Bool.and_eq_true, decide_eq_true_eq, Bool.not_eq_true'] at h
  exact h.2
theorem hkOk_2 {c k : Nat} (hc : c < 12) (hk0 : k < hnf c) (e : hk c k = 2) : hTyT c k = .long ∧ (hTT c k).2.2.2 = false := by
  have h := hkOk_at hc hk0
  simp only [hkOk, e, Bool.and_eq_true, decide_eq_true_eq, Bool.not_eq_true'] at h
  exact h.2
theorem hkOk_3 {c k : Nat} (hc : c < 12) (hk0 : k < hnf c) (e : hk c k = 3) : (hTyT c k).isReference = true ∧ (hTT c k).2.2.2 = false := by
  have h := hkOk_at hc hk0
  simp only [hkOk, e, Bool.and_eq_true, decide_eq_true_eq, Bool.not_eq_true'] at h
  exact h.2
theorem hkOk_4 {c k : Nat} (hc : c < 12) (hk0 : k < hnf c) (e : hk c k = 4) : (hTyT c k).isReference = true := by
  have h := hkOk_at hc hk0
  simp only [hkOk, e, Bool.and_eq_true, decide_eq_true_eq, Bool.not_eq_true'] at h
  exact h.2
theorem hx_fitsR {ty : FieldType} (h : ty.isReference = true) (ad : Nat → Nat) (z : Nat) : narrow ty (cR ad z) = cR ad z ∧ fits ty (cR ad z) = true := by
  unfold cR
  cases ty <;> first | (cases h; done) | skip
  all_goals (split <;> exact ⟨rfl, rfl⟩)
section ST
variable {p : Program} {l : Launch} {e : Env} {R : Room} {s : State} {m : MethodId} {args : Array Value} {below : List Frame} {meth : Method} {c : Code} {H : Heap} {locs : List Loc} {cells slots : Nat} {Q : State → Prop} {cc : ByteArray} {pc nL N own : Nat} {ls : Array Slot} {D : va_G} {dA : Nat → ClassId} {A : Nat → Prop} {ad : Nat → Nat} {S : hS} {H0 : Heap}
/-- a field is read: its own class's link or a nest mate's -/
theorem hx_getf (hx : p.tables.exec = Jvm.exec) (hb : c.code = cc) (hown : s.vm.findClass (hRn own) = some m.cls) (hts : ∀ w ∈ lw_all, w.before args s = true) (hK : hx_K D dA s) {z a b x : Nat} {h : hH} (hz0 : z ≠ 0) (hzN : z ≤ N) (hta : S.2.1 z = a) (ho : own < 12) (ha : a < 12) (hb0 : b < hnf a) (hlk : (x, a, b) ∈ hflT.getD own [] ∨ (x, a, b) ∈ hfnT.getD own [])
    (hP : va_P D hcl (hW S ad dA N h) H) {rest : List Value} (hdg : decode cc pc = .ok (.getfield x, 3))
    (kk : W p l e R s m args below meth c H locs cells slots Q (F0 m (pc + 3) ls (hfv S ad h z a b :: rest))) : W p l e R s m args below meth c H locs cells slots Q (F0 m pc ls (.ref (ad z) :: rest)) := by
  have hsame : ∀ q, s.fieldFound? (hTT a b).1 (hTT a b).2.1 (hTT a b).2.2.1 = some q → s.fieldFound? (hRn a) (hTT a b).2.1 (hTT a b).2.2.1 = some q := fun q hq => by rw [← hkOk_own ha hb0]; exact hq
  rcases hlk with h1 | h1
  · exact va_get hx hb hts (hin_at a ha) hown hK.1 hP (z - 1) (hW_obj hz0 hzN hta (by omega)) (hcl_at a ha) b hb0 (hts _ (hfl_mem own ho _ h1)) hsame (hfl_at hb0) hdg kk
  · exact va_getN hx hb hts (hin_at a ha) hown hK.1 hP (z - 1) (hW_obj hz0 hzN hta (by omega)) (hcl_at a ha) b hb0 (va_Nw.use rfl (hK.2.1 _ (List.mem_flatMap.mpr ⟨own, List.mem_range.mpr ho, List.mem_map.mpr ⟨_, h1, rfl⟩⟩))) hsame (hfl_at hb0) hdg kk
theorem hx_putf (hx : p.tables.exec = Jvm.exec) (hb : c.code = cc) (hown : s.vm.findClass (hRn own) = some m.cls) (hts : ∀ w ∈ lw_all, w.before args s = true) (hK : hx_K D dA s) {z a b x : Nat} {h : hH} (hz0 : z ≠ 0) (hzN : z ≤ N) (hta : S.2.1 z = a) (ho : own < 12) (ha : a < 12) (hb0 : b < hnf a) (hlk : (x, a, b) ∈ hflT.getD own [] ∨ (x, a, b) ∈ hfnT.getD own [])
    (hP : va_P D hcl (hW S ad dA N h) H) (hD : va_D A (hW S ad dA N h)) (hS : va_S A H0 H locs) {rest : List Value} (hfin : (hTT a b).2.2.2 = false) {v : Value} (hn : narrow (hTyT a b) v = v) (hfit : fits (hTyT a b) v = true) (hdg : decode cc pc = .ok (.putfield x, 3))
    (kk : ∀ (H1 : Heap) (locs1 : List Loc), va_P D hcl ((hW S ad dA N h).set (z - 1) (ad z, .inr (a, (hfl S ad h z a).set b v))) H1 → va_D A ((hW S ad dA N h).set (z - 1) (ad z, .inr (a, (hfl S ad h z a).set b v))) → va_S A H0 H1 locs1 → W p l e R s m args below meth c H1 locs1 cells slots Q (F0 m (pc + 3) ls rest)) : W p l e R s m args below meth c H locs cells slots Q (F0 m pc ls (v :: .ref (ad z) :: rest)) := by
  have hsame : ∀ q, s.fieldFound? (hTT a b).1 (hTT a b).2.1 (hTT a b).2.2.1 = some q → s.fieldFound? (hRn a) (hTT a b).2.1 (hTT a b).2.2.1 = some q := fun q hq => by rw [← hkOk_own ha hb0]; exact hq
  rcases hlk with h1 | h1
  · exact va_put hx hb hts (hin_at a ha) (hTyT a) (hty_at a ha) (hnm_at a ha) hown hK.1 hP hD hS (z - 1) (hW_obj hz0 hzN hta (by omega)) (hcl_at a ha) b hb0 (hts _ (hfl_mem own ho _ h1)) hsame hfin (hty_at a ha b hb0) hn hfit (by rw [hfl_len]; exact hb0) hdg kk
  · exact va_putN hx hb hts (hin_at a ha) (hTyT a) (hty_at a ha) (hnm_at a ha) hown hK.1 hP hD hS (z - 1) (hW_obj hz0 hzN hta (by omega)) (hcl_at a ha) b hb0 (va_Nw.use rfl (hK.2.1 _ (List.mem_flatMap.mpr ⟨own, List.mem_range.mpr ho, List.mem_map.mpr ⟨_, h1, rfl⟩⟩))) hsame hfin (hty_at a ha b hb0) hn hfit (by rw [hfl_len]; exact hb0) hdg kk

set_option maxHeartbeats 4000000 in
theorem hx_step (hx : p.tables.exec = Jvm.exec) (hb : c.code = cc) (hown : s.vm.findClass (hRn own) = some m.cls) (hts : ∀ w ∈ lw_all, w.before args s = true) (hK : hx_K D dA s) (ht0 : S.2.1 0 = 999)
    {i : hI} {L L' : List (Nat × Value)} {st st' : List Value} {h h' : hH} {cnd : Option Prop}
    (hs : hx_stp S N i L st h = some (L', st', h', cnd)) (hc : hx_hold cnd) (hok : hx_okb own nL i = true) (hdg : decode cc pc = .ok (i.1, i.2.1))
    (hl : lv_has ls nL (hL ad L)) (hP : va_P D hcl (hW S ad dA N h) H) (hD : va_D A (hW S ad dA N h)) (hS : va_S A H0 H locs)
    (kk : ∀ (ls1 : Array Slot) (H1 : Heap) (locs1 : List Loc), lv_has ls1 nL (hL ad L') → va_P D hcl (hW S ad dA N h') H1 → va_D A (hW S ad dA N h') → va_S A H0 H1 locs1 → W p l e R s m args below meth c H1 locs1 cells slots Q (F0 m (pc + i.2.1) ls1 (st'.map (cV ad)))) :
    W p l e R s m args below meth c H locs cells slots Q (F0 m pc ls (st.map (cV ad))) := by
  obtain ⟨ins, len, a, b, kd, v⟩ := i
  simp only [hx_okb, Bool.and_eq_true, decide_eq_true_eq] at hok
  obtain ⟨hlen, hok⟩ := hok
  have z0 : ∀ {z t : Nat}, S.2.1 z = t → t ≠ 999 → z ≠ 0 := fun h1 h2 h3 => h2 (by rw [← h1, h3]; exact ht0)
  cases ins
  case iconst n =>
    cases hs
    simp only [hx_okc, decide_eq_true_eq] at hok
    subst hlen
    subst hok
    exact lv_iconst hx hb hdg rfl (kk ls H locs hl hP hD hS)
  case bipush n =>
    cases hs
    simp only [hx_okc, decide_eq_true_eq] at hok
    subst hlen
    subst hok
    exact lv_bipush hx hb hdg rfl (kk ls H locs hl hP hD hS)
  case sipush n =>
    cases hs
    simp only [hx_okc, decide_eq_true_eq] at hok
    subst hlen
    subst hok
    exact lv_sipush hx hb hdg rfl (kk ls H locs hl hP hD hS)
  case lconst n =>
    cases hs
    simp only [hx_okc, decide_eq_true_eq] at hok
    subst hlen
    subst hok
    exact lv_lconst hx hb hdg rfl (kk ls H locs hl hP hD hS)
  case ldc n =>
    cases hs
    subst hlen
    simp only [hx_okc] at hok
    split at hok
    · simp only [Bool.and_eq_true, decide_eq_true_eq] at hok
      exact lv_ldc hx hb hown (hts _ (hcs_mem own hok.1 _ hok.2)) hdg (kk ls H locs hl hP hD hS)
    · cases hok
  case ldc_w n =>
    cases hs
    subst hlen
    simp only [hx_okc] at hok
    split at hok
    · simp only [Bool.and_eq_true, decide_eq_true_eq] at hok
      exact lv_ldcw hx hb hown (hts _ (hcs_mem own hok.1 _ hok.2)) hdg (kk ls H locs hl hP hD hS)
    · cases hok
  case ldc2_w n =>
    cases hs
    subst hlen
    simp only [hx_okc] at hok
    split at hok
    · simp only [Bool.and_eq_true, decide_eq_true_eq] at hok
      exact lv_ldc2 hx hb hown (hts _ (hcL_mem own hok.1 _ hok.2)) hdg (kk ls H locs hl hP hD hS)
    · cases hok
  case aconst_null =>
    cases hs
    subst hlen
    exact lv_null hx hb hdg (kk ls H locs hl hP hD hS)
  case iload_n k =>
    subst hlen
    obtain ⟨x, hm, rfl, rfl, rfl, rfl⟩ := hx_ldI_inv hs
    exact lv_iload_n hx hb hdg rfl (hl.2.2 _ (hL_mem hm)) (kk ls H locs hl hP hD hS)
  case iload k =>
    subst hlen
    obtain ⟨x, hm, rfl, rfl, rfl, rfl⟩ := hx_ldI_inv hs
    exact lv_iload hx hb hdg (hl.2.2 _ (hL_mem hm)) (kk ls H locs hl hP hD hS)
  case lload_n k =>
    subst hlen
    obtain ⟨x, hm, rfl, rfl, rfl, rfl⟩ := hx_ldL_inv hs
    exact lv_lload_n hx hb hdg rfl (hl.2.2 _ (hL_mem hm)) (kk ls H locs hl hP hD hS)
  case lload k =>
    subst hlen
    obtain ⟨x, hm, rfl, rfl, rfl, rfl⟩ := hx_ldL_inv hs
    exact lv_lload hx hb hdg (hl.2.2 _ (hL_mem hm)) (kk ls H locs hl hP hD hS)
  case aload_n k =>
    subst hlen
    obtain ⟨x, hm, rfl, rfl, rfl, rfl⟩ := hx_ldA_inv hs
    have hm2 := hl.2.2 _ (hL_mem (ad := ad) hm)
    have k2 := kk ls H locs hl hP hD hS
    by_cases hx0 : x = 0
    · subst hx0
      exact lv_aload_nN hx hb hdg rfl hm2 k2
    · have e1 : cV ad (.ref x) = .ref (ad x) := cR_pos hx0
      rw [List.map_cons, e1] at k2
      simp only [e1] at hm2
      exact lv_aload_n hx hb hdg rfl hm2 k2
  case aload k =>
    subst hlen
    obtain ⟨x, hm, rfl, rfl, rfl, rfl⟩ := hx_ldA_inv hs
    have hm2 := hl.2.2 _ (hL_mem (ad := ad) hm)
    have k2 := kk ls H locs hl hP hD hS
    by_cases hx0 : x = 0
    · subst hx0
      exact lv_aloadN hx hb hdg hm2 k2
    · have e1 : cV ad (.ref x) = .ref (ad x) := cR_pos hx0
      rw [List.map_cons, e1] at k2
      simp only [e1] at hm2
      exact lv_aload hx hb hdg hm2 k2
  case istore_n k =>
    subst hlen
    simp only [hx_okc, decide_eq_true_eq] at hok
    obtain ⟨x, s1, rfl, rfl, rfl, rfl, rfl⟩ := hx_stI_inv hs
    exact lv_istore_n hx hb hdg rfl hl hok rfl (fun ls1 hl1 => kk ls1 H locs (by have e1 := hL_p1 ad L k.val; simp only [hL, List.map_cons] at e1 ⊢; rw [← e1]; exact hl1) hP hD hS)
  case istore k =>
    subst hlen
    simp only [hx_okc, decide_eq_true_eq] at hok
    obtain ⟨x, s1, rfl, rfl, rfl, rfl, rfl⟩ := hx_stI_inv hs
    exact lv_istore hx hb hdg hl hok rfl (fun ls1 hl1 => kk ls1 H locs (by have e1 := hL_p1 ad L k; simp only [hL, List.map_cons] at e1 ⊢; rw [← e1]; exact hl1) hP hD hS)
  case lstore_n k =>
    subst hlen
    simp only [hx_okc, decide_eq_true_eq] at hok
    obtain ⟨x, s1, rfl, rfl, rfl, rfl, rfl⟩ := hx_stL_inv hs
    exact lv_lstore_n hx hb hdg rfl hl hok rfl (fun ls1 hl1 => kk ls1 H locs (by have e1 := hL_p2 ad L k.val; simp only [hL, List.map_cons] at e1 ⊢; rw [← e1]; exact hl1) hP hD hS)
  case lstore k =>
    subst hlen
    simp only [hx_okc, decide_eq_true_eq] at hok
    obtain ⟨x, s1, rfl, rfl, rfl, rfl, rfl⟩ := hx_stL_inv hs
    exact lv_lstore hx hb hdg hl hok rfl (fun ls1 hl1 => kk ls1 H locs (by have e1 := hL_p2 ad L k; simp only [hL, List.map_cons] at e1 ⊢; rw [← e1]; exact hl1) hP hD hS)
  case astore_n k =>
    subst hlen
    simp only [hx_okc, decide_eq_true_eq] at hok
    obtain ⟨x, s1, rfl, rfl, rfl, rfl, rfl⟩ := hx_stA_inv hs
    have e2 := hL_p1 ad L k.val
    by_cases hx0 : x = 0
    · subst hx0
      exact lv_astore_nN hx hb hdg rfl hl hok rfl (fun ls1 hl1 => kk ls1 H locs (by simp only [hL, List.map_cons] at e2 ⊢; rw [← e2]; exact hl1) hP hD hS)
    · have e1 : cV ad (.ref x) = .ref (ad x) := cR_pos hx0
      rw [List.map_cons, e1]
      exact lv_astore_n hx hb hdg rfl hl hok rfl (fun ls1 hl1 => kk ls1 H locs (by simp only [hL, List.map_cons, e1] at e2 ⊢; rw [← e2]; exact hl1) hP hD hS)
  case astore k =>
    subst hlen
    simp only [hx_okc, decide_eq_true_eq] at hok
    obtain ⟨x, s1, rfl, rfl, rfl, rfl, rfl⟩ := hx_stA_inv hs
    have e2 := hL_p1 ad L k
    by_cases hx0 : x = 0
    · subst hx0
      exact lv_astoreN hx hb hdg hl hok rfl (fun ls1 hl1 => kk ls1 H locs (by simp only [hL, List.map_cons] at e2 ⊢; rw [← e2]; exact hl1) hP hD hS)
    · have e1 : cV ad (.ref x) = .ref (ad x) := cR_pos hx0
      rw [List.map_cons, e1]
      exact lv_astore hx hb hdg hl hok rfl (fun ls1 hl1 => kk ls1 H locs (by simp only [hL, List.map_cons, e1] at e2 ⊢; rw [← e2]; exact hl1) hP hD hS)
  case iinc k n =>
    subst hlen
    simp only [hx_okc, Bool.and_eq_true, decide_eq_true_eq] at hok
    obtain ⟨x, c1, hm, hv, rfl, rfl, rfl, rfl⟩ := hx_inc_inv hs
    have hv : v = .int c1 := hv
    have hv2 := hok.2
    rw [hv] at hv2
    injection hv2 with hv2
    obtain ⟨kq, hkq⟩ := List.getElem?_of_mem (hL_mem (ad := ad) hm)
    have e2 := hL_p1 ad L k
    exact lv_iinc (v := x + c1) hx hb hdg hl hkq (by rw [hv2]) hok.1 rfl (fun ls1 hl1 => kk ls1 H locs (by simp only [hL, List.map_cons] at e2 ⊢; rw [← e2]; exact hl1) hP hD hS)
  case iadd =>
    subst hlen
    obtain ⟨x, y, s1, rfl, rfl, rfl, rfl, rfl⟩ := hx_I2_inv hs
    exact lv_iadd hx hb hdg (kk ls H locs hl hP hD hS)
  case isub =>
    subst hlen
    obtain ⟨x, y, s1, rfl, rfl, rfl, rfl, rfl⟩ := hx_I2_inv hs
    exact lv_isub hx hb hdg (kk ls H locs hl hP hD hS)
  case imul =>
    subst hlen
    obtain ⟨x, y, s1, rfl, rfl, rfl, rfl, rfl⟩ := hx_I2_inv hs
    exact lv_imul hx hb hdg (kk ls H locs hl hP hD hS)
  case iand =>
    subst hlen
    obtain ⟨x, y, s1, rfl, rfl, rfl, rfl, rfl⟩ := hx_I2_inv hs
    exact lv_iand hx hb hdg (kk ls H locs hl hP hD hS)
  case ior =>
    subst hlen
    obtain ⟨x, y, s1, rfl, rfl, rfl, rfl, rfl⟩ := hx_I2_inv hs
    exact lv_ior hx hb hdg (kk ls H locs hl hP hD hS)
  case ixor =>
    subst hlen
    obtain ⟨x, y, s1, rfl, rfl, rfl, rfl, rfl⟩ := hx_I2_inv hs
    exact lv_ixor hx hb hdg (kk ls H locs hl hP hD hS)
  case ishl =>
    subst hlen
    obtain ⟨x, y, s1, rfl, rfl, rfl, rfl, rfl⟩ := hx_I2_inv hs
    exact lv_ishl hx hb hdg (kk ls H locs hl hP hD hS)
  case ishr =>
    subst hlen
    obtain ⟨x, y, s1, rfl, rfl, rfl, rfl, rfl⟩ := hx_I2_inv hs
    exact lv_ishr hx hb hdg (kk ls H locs hl hP hD hS)
  case ladd =>
    subst hlen
    obtain ⟨x, y, s1, rfl, rfl, rfl, rfl, rfl⟩ := hx_L2_inv hs
    exact lv_ladd hx hb hdg (kk ls H locs hl hP hD hS)
  case lsub =>
    subst hlen
    obtain ⟨x, y, s1, rfl, rfl, rfl, rfl, rfl⟩ := hx_L2_inv hs
    exact lv_lsub hx hb hdg (kk ls H locs hl hP hD hS)
  case lmul =>
    subst hlen
    obtain ⟨x, y, s1, rfl, rfl, rfl, rfl, rfl⟩ := hx_L2_inv hs
    exact lv_lmul hx hb hdg (kk ls H locs hl hP hD hS)
  case land =>
    subst hlen
    obtain ⟨x, y, s1, rfl, rfl, rfl, rfl, rfl⟩ := hx_L2_inv hs
    exact lv_land hx hb hdg (kk ls H locs hl hP hD hS)
  case lor =>
    subst hlen
    obtain ⟨x, y, s1, rfl, rfl, rfl, rfl, rfl⟩ := hx_L2_inv hs
    exact lv_lor hx hb hdg (kk ls H locs hl hP hD hS)
  case lxor =>
    subst hlen
    obtain ⟨x, y, s1, rfl, rfl, rfl, rfl, rfl⟩ := hx_L2_inv hs
    exact lv_lxor hx hb hdg (kk ls H locs hl hP hD hS)
  case lcmp =>
    subst hlen
    obtain ⟨x, y, s1, rfl, rfl, rfl, rfl, rfl⟩ := hx_L2_inv hs
    exact W.lcmp hx hb hdg (kk ls H locs hl hP hD hS)
  case ineg =>
    subst hlen
    obtain ⟨x, s1, rfl, rfl, rfl, rfl, rfl⟩ := hx_I1_inv hs
    exact lv_ineg hx hb hdg (kk ls H locs hl hP hD hS)
  case i2l =>
    subst hlen
    obtain ⟨x, s1, rfl, rfl, rfl, rfl, rfl⟩ := hx_I1_inv hs
    exact lv_i2l hx hb hdg rfl (kk ls H locs hl hP hD hS)
  case i2s =>
    subst hlen
    obtain ⟨x, s1, rfl, rfl, rfl, rfl, rfl⟩ := hx_I1_inv hs
    exact lv_i2s hx hb hdg rfl (kk ls H locs hl hP hD hS)
  case i2b =>
    subst hlen
    obtain ⟨x, s1, rfl, rfl, rfl, rfl, rfl⟩ := hx_I1_inv hs
    exact lv_i2b hx hb hdg rfl (kk ls H locs hl hP hD hS)
  case lneg =>
    subst hlen
    obtain ⟨x, s1, rfl, rfl, rfl, rfl, rfl⟩ := hx_L1_inv hs
    exact lv_lneg hx hb hdg (kk ls H locs hl hP hD hS)
  case l2i =>
    subst hlen
    obtain ⟨x, s1, rfl, rfl, rfl, rfl, rfl⟩ := hx_L1_inv hs
    exact lv_l2i hx hb hdg rfl (kk ls H locs hl hP hD hS)
  case lshl =>
    subst hlen
    obtain ⟨x, y, s1, rfl, rfl, rfl, rfl, rfl⟩ := hx_S2_inv hs
    exact lv_lshl hx hb hdg rfl (kk ls H locs hl hP hD hS)
  case lshr =>
    subst hlen
    obtain ⟨x, y, s1, rfl, rfl, rfl, rfl, rfl⟩ := hx_S2_inv hs
    exact lv_lshr hx hb hdg rfl (kk ls H locs hl hP hD hS)
  case idiv =>
    subst hlen
    simp only [hx_stp] at hs
    split at hs
    · cases hs
      exact lv_idiv hx hb hdg hc (kk ls H locs hl hP hD hS)
    · cases hs
  case irem =>
    subst hlen
    simp only [hx_stp] at hs
    split at hs
    · cases hs
      exact lv_irem hx hb hdg hc (kk ls H locs hl hP hD hS)
    · cases hs
  case ldiv =>
    subst hlen
    simp only [hx_stp] at hs
    split at hs
    · cases hs
      exact lv_ldiv hx hb hdg hc (kk ls H locs hl hP hD hS)
    · cases hs
  case lrem =>
    subst hlen
    simp only [hx_stp] at hs
    split at hs
    · cases hs
      exact lv_lrem hx hb hdg hc (kk ls H locs hl hP hD hS)
    · cases hs
  case dup =>
    subst hlen
    simp only [hx_stp] at hs
    split at hs
    · cases hs
      exact lv_dup hx hb hdg rfl (kk ls H locs hl hP hD hS)
    · cases hs
      exact lv_dup hx hb hdg (cV_cat ad _) (kk ls H locs hl hP hD hS)
    · cases hs
  case dup2 =>
    subst hlen
    simp only [hx_stp] at hs
    split at hs
    · cases hs
      exact lv_dup2_2 hx hb hdg rfl (kk ls H locs hl hP hD hS)
    · cases hs
      exact lv_dup2_11 hx hb hdg rfl (cV_cat ad _) (kk ls H locs hl hP hD hS)
    · cases hs
  case pop =>
    subst hlen
    simp only [hx_stp] at hs
    split at hs
    · cases hs
      exact lv_pop hx hb hdg (cV_cat ad _) (kk ls H locs hl hP hD hS)
    · cases hs
      exact lv_pop hx hb hdg (cV_cat ad _) (kk ls H locs hl hP hD hS)
    · cases hs
  case getfield x =>
    subst hlen
    simp only [hx_okc, Bool.and_eq_true, Bool.or_eq_true, decide_eq_true_eq] at hok
    obtain ⟨ho, ha, hb0, hkd, hlk⟩ := hok
    simp only [hx_stp] at hs
    split at hs
    · rename_i z s1
      cases hs
      have hz0 : z ≠ 0 := z0 hc.1 (by omega)
      have k2 := kk ls H locs hl hP hD hS
      rw [List.map_cons, hx_get_cv hkd] at k2
      rw [List.map_cons, show cV ad (.ref z) = .ref (ad z) from cR_pos hz0]
      exact hx_getf hx hb hown hts hK hz0 hc.2 hc.1 ho ha hb0 hlk hP hdg k2
    · cases hs
  case putfield x =>
    subst hlen
    simp only [hx_okc, Bool.and_eq_true, Bool.or_eq_true, decide_eq_true_eq] at hok
    obtain ⟨ho, ha, hb0, hkd, hlk⟩ := hok
    simp only [hx_stp] at hs
    split at hs
    · rename_i w z s1
      split at hs
      · rename_i h1 c1 hput
        cases hs
        unfold hx_put at hput
        split at hput
        · rename_i y
          cases hput
          have q0 := hkOk_0 ha hb0 hkd
          have hz0 : z ≠ 0 := z0 hc.1 (by omega)
          rw [List.map_cons, List.map_cons, show cV ad (.ref z) = .ref (ad z) from cR_pos hz0]
          refine hx_putf hx hb hown hts hK hz0 hc.2 hc.1 ho ha hb0 hlk hP hD hS q0.2 (by rw [q0.1]; rfl) (by rw [q0.1]; rfl) hdg (fun H1 locs1 k1 k2 k3 => ?_)
          have e1 := hW_putI (S := S) (ad := ad) (dA := dA) (h := h) (k := b) (x := y) hz0 hc.2 hc.1 (by omega) hb0 (Or.inl hkd)
          exact kk ls H1 locs1 hl (e1 ▸ k1) (e1 ▸ k2) k3
        · rename_i y
          cases hput
          have q0 := hkOk_1 ha hb0 hkd
          have hz0 : z ≠ 0 := z0 hc.1.1 (by omega)
          rw [List.map_cons, List.map_cons, show cV ad (.ref z) = .ref (ad z) from cR_pos hz0]
          refine hx_putf hx hb hown hts hK hz0 hc.1.2 hc.1.1 ho ha hb0 hlk hP hD hS q0.2 (by rw [q0.1]; rcases hc.2 with e | e <;> rw [e] <;> rfl) (by rw [q0.1]; rcases hc.2 with e | e <;> rw [e] <;> rfl) hdg (fun H1 locs1 k1 k2 k3 => ?_)
          have e1 := hW_putI (S := S) (ad := ad) (dA := dA) (h := h) (k := b) (x := y) hz0 hc.1.2 hc.1.1 (by omega) hb0 (Or.inr hkd)
          exact kk ls H1 locs1 hl (e1 ▸ k1) (e1 ▸ k2) k3
        · rename_i y
          cases hput
          have q0 := hkOk_2 ha hb0 hkd
          have hz0 : z ≠ 0 := z0 hc.1 (by omega)
          rw [List.map_cons, List.map_cons, show cV ad (.ref z) = .ref (ad z) from cR_pos hz0]
          refine hx_putf hx hb hown hts hK hz0 hc.2 hc.1 ho ha hb0 hlk hP hD hS q0.2 (by rw [q0.1]; rfl) (by rw [q0.1]; rfl) hdg (fun H1 locs1 k1 k2 k3 => ?_)
          have e1 := hW_putL (S := S) (ad := ad) (dA := dA) (h := h) (k := b) (x := y) hz0 hc.2 hc.1 (by omega) hb0 hkd
          exact kk ls H1 locs1 hl (e1 ▸ k1) (e1 ▸ k2) k3
        · rename_i y
          cases hput
          have q0 := hkOk_3 ha hb0 hkd
          have hz0 : z ≠ 0 := z0 hc.1 (by omega)
          rw [List.map_cons, List.map_cons, show cV ad (.ref z) = .ref (ad z) from cR_pos hz0]
          refine hx_putf hx hb hown hts hK hz0 hc.2 hc.1 ho ha hb0 hlk hP hD hS q0.2 (hx_fitsR q0.1 ad y).1 (hx_fitsR q0.1 ad y).2 hdg (fun H1 locs1 k1 k2 k3 => ?_)
          have e1 := hW_putP (S := S) (ad := ad) (dA := dA) (h := h) (k := b) (x := y) hz0 hc.2 hc.1 (by omega) hb0 (Or.inl hkd)
          exact kk ls H1 locs1 hl (e1 ▸ k1) (e1 ▸ k2) k3
        · cases hput
      · cases hs
    · cases hs
  case iaload =>
    subst hlen
    simp only [hx_stp] at hs
    split at hs
    · rename_i j z s1
      cases hs
      have hz0 : z ≠ 0 := z0 hc.1.1 (by omega)
      rw [List.map_cons, List.map_cons, show cV ad (.ref z) = .ref (ad z) from cR_pos hz0]
      exact va_iald hx hb hK.1 hP (z - 1) 0 (hW_arrI hz0 hc.1.2 hc.1.1 (by omega) (by omega)) rfl hc.2 hdg (kk ls H locs hl hP hD hS)
    · cases hs
  case laload =>
    subst hlen
    simp only [hx_stp] at hs
    split at hs
    · rename_i j z s1
      cases hs
      have hz0 : z ≠ 0 := z0 hc.1.1 (by omega)
      rw [List.map_cons, List.map_cons, show cV ad (.ref z) = .ref (ad z) from cR_pos hz0]
      exact va_lald hx hb hK.1 hP (z - 1) 3 (hW_arrL hz0 hc.1.2 hc.1.1) rfl hc.2 hdg (kk ls H locs hl hP hD hS)
    · cases hs
  case baload =>
    subst hlen
    simp only [hx_okc, Bool.or_eq_true, decide_eq_true_eq] at hok
    simp only [hx_stp] at hs
    split at hs
    · rename_i j z s1
      cases hs
      have hz0 : z ≠ 0 := z0 hc.1.1 (by omega)
      rw [List.map_cons, List.map_cons, show cV ad (.ref z) = .ref (ad z) from cR_pos hz0]
      rcases hok with rfl | rfl
      · exact va_zald hx hb hK.1 hP (z - 1) 1 (hW_arrI hz0 hc.1.2 hc.1.1 (by omega) (by omega)) rfl hc.2 hdg (kk ls H locs hl hP hD hS)
      · exact va_bald hx hb hK.1 hP (z - 1) 2 (hW_arrI hz0 hc.1.2 hc.1.1 (by omega) (by omega)) rfl hc.2 hdg (kk ls H locs hl hP hD hS)
    · cases hs
  case aaload =>
    subst hlen
    simp only [hx_okc, Bool.or_eq_true, decide_eq_true_eq] at hok
    simp only [hx_stp] at hs
    split at hs
    · rename_i j z s1
      cases hs
      have hz0 : z ≠ 0 := z0 hc.1.1 (by omega)
      have k2 := kk ls H locs hl hP hD hS
      rw [List.map_cons, show cV ad (.ref (hfr S h z j.toNatClampNeg)) = va_rf (hop ad (hfr S h z j.toNatClampNeg)) from (hop_rf ad _).symm] at k2
      rw [List.map_cons, List.map_cons, show cV ad (.ref z) = .ref (ad z) from cR_pos hz0]
      rcases hok with rfl | rfl
      · exact va_aldq hx hb hK.1 hP (z - 1) 4 (hW_arrP hz0 hc.1.2 hc.1.1 (by omega)) rfl hc.2 hdg k2
      · exact va_aldq hx hb hK.1 hP (z - 1) 5 (hW_arrP hz0 hc.1.2 hc.1.1 (by omega)) rfl hc.2 hdg k2
    · cases hs
  case iastore =>
    subst hlen
    simp only [hx_stp] at hs
    split at hs
    · rename_i x j z s1
      cases hs
      have hz0 : z ≠ 0 := z0 hc.1.1 (by omega)
      rw [List.map_cons, List.map_cons, List.map_cons, show cV ad (.ref z) = .ref (ad z) from cR_pos hz0]
      refine va_iast hx hb hK.1 hP hD hS (z - 1) 0 (hW_arrI hz0 hc.1.2 hc.1.1 (by omega) (by omega)) rfl hc.2 hdg (fun H1 locs1 k1 k2 k3 => ?_)
      have e1 := hW_setI (S := S) (ad := ad) (dA := dA) (h := h) (j := j.toNatClampNeg) (x := x) hz0 hc.1.2 hc.1.1 (by omega) (by omega)
      exact kk ls H1 locs1 hl (e1 ▸ k1) (e1 ▸ k2) k3
    · cases hs
  case lastore =>
    subst hlen
    simp only [hx_stp] at hs
    split at hs
    · rename_i x j z s1
      cases hs
      have hz0 : z ≠ 0 := z0 hc.1.1 (by omega)
      rw [List.map_cons, List.map_cons, List.map_cons, show cV ad (.ref z) = .ref (ad z) from cR_pos hz0]
      refine va_last hx hb hK.1 hP hD hS (z - 1) 3 (hW_arrL hz0 hc.1.2 hc.1.1) rfl hc.2 hdg (fun H1 locs1 k1 k2 k3 => ?_)
      have e1 := hW_setL (S := S) (ad := ad) (dA := dA) (h := h) (j := j.toNatClampNeg) (x := x) hz0 hc.1.2 hc.1.1
      exact kk ls H1 locs1 hl (e1 ▸ k1) (e1 ▸ k2) k3
    · cases hs
  case bastore =>
    subst hlen
    simp only [hx_okc, Bool.or_eq_true, decide_eq_true_eq] at hok
    simp only [hx_stp] at hs
    split at hs
    · rename_i x j z s1
      have hz0 : z ≠ 0 := by cases hs; exact z0 hc.1.1 (by omega)
      rw [List.map_cons, List.map_cons, List.map_cons, show cV ad (.ref z) = .ref (ad z) from cR_pos hz0]
      rcases hok with rfl | rfl
      · cases hs
        refine va_zast hx hb hK.1 hP hD hS (z - 1) 1 (hW_arrI hz0 hc.1.2 hc.1.1 (by omega) (by omega)) rfl hc.2 hdg (fun H1 locs1 k1 k2 k3 => ?_)
        have e1 := hW_setI (S := S) (ad := ad) (dA := dA) (h := h) (j := j.toNatClampNeg) (x := x &&& 1) hz0 hc.1.2 hc.1.1 (by omega) (by omega)
        exact kk ls H1 locs1 hl (e1 ▸ k1) (e1 ▸ k2) k3
      · cases hs
        refine va_bast hx hb hK.1 hP hD hS (z - 1) 2 (hW_arrI hz0 hc.1.2 hc.1.1 (by omega) (by omega)) rfl hc.2 hdg (fun H1 locs1 k1 k2 k3 => ?_)
        have e1 := hW_setI (S := S) (ad := ad) (dA := dA) (h := h) (j := j.toNatClampNeg) (x := x.toInt8.toInt32) hz0 hc.1.2 hc.1.1 (by omega) (by omega)
        exact kk ls H1 locs1 hl (e1 ▸ k1) (e1 ▸ k2) k3
    · cases hs
  case arraylength =>
    subst hlen
    simp only [hx_okc, Bool.and_eq_true, decide_eq_true_eq] at hok
    simp only [hx_stp] at hs
    split at hs
    · rename_i z s1
      cases hs
      have hz0 : z ≠ 0 := z0 hc.1 (by omega)
      rw [List.map_cons, show cV ad (.ref z) = .ref (ad z) from cR_pos hz0]
      have e1 : (hW S ad dA N h)[z - 1]? = some (ad z, .inl (dA a, S.2.2.1 z, har S ad h z)) := by
        rw [hW_at hz0 hc.2]
        unfold hE
        rw [hc.1, if_neg (by omega)]
      have e2 : (hx_Ty dA)[a - 100]? = some (dA a, hx_ty a) := by
        obtain ⟨t, rfl⟩ : ∃ t, a = 100 + t := ⟨a - 100, by omega⟩
        have ht : t < 6 := by omega
        rw [Nat.add_sub_cancel_left]
        match t, ht with
        | 0, _ => rfl
        | 1, _ => rfl
        | 2, _ => rfl
        | 3, _ => rfl
        | 4, _ => rfl
        | 5, _ => rfl
        | t + 6, ht => exact absurd ht (by omega)
      exact va_alen hx hb hK.1 hP (z - 1) (a - 100) e1 e2 rfl hdg (kk ls H locs hl hP hD hS)
    · cases hs
  all_goals cases hs
end ST
