/-! LAYER 1: the abstract heap, its world, the evaluator of straight code -/
abbrev hH : Type := (Nat → Nat → Int32) × (Nat → Nat → Int64) × (Nat → Nat → Nat)
def rdI (h : hH) (o k : Nat) : Int32 := h.1 o k
def rdL (h : hH) (o k : Nat) : Int64 := h.2.1 o k
def rdP (h : hH) (o k : Nat) : Nat := h.2.2 o k
def up2 {α : Type} (f : Nat → Nat → α) (o k : Nat) (v : α) : Nat → Nat → α := fun a b => if a = o ∧ b = k then v else f a b
def wrI (h : hH) (o k : Nat) (v : Int32) : hH := (up2 h.1 o k v, h.2.1, h.2.2)
def wrL (h : hH) (o k : Nat) (v : Int64) : hH := (h.1, up2 h.2.1 o k v, h.2.2)
def wrP (h : hH) (o k : Nat) (v : Nat) : hH := (h.1, h.2.1, up2 h.2.2 o k v)
/-- a shape: is it being built; the tag of an id (class number, or 100 int[], 101 boolean[], 102 byte[], 103 long[], 104 Outline[], 105 Glyph[]), its length, the references that stay -/
abbrev hS : Type := Bool × (Nat → Nat) × (Nat → Nat) × (Nat → Nat → Nat)
def hfr (S : hS) (h : hH) (o k : Nat) : Nat := match S.1 with
  | true => rdP h o k
  | false => S.2.2.2 o k
def cR (ad : Nat → Nat) (z : Nat) : Value := if z = 0 then .null else .ref (ad z)
def cV (ad : Nat → Nat) (v : Value) : Value := match v with
  | .ref z => cR ad z
  | v => v
def hop (ad : Nat → Nat) (z : Nat) : Option Nat := if z = 0 then none else some (ad z)
theorem hop_rf (ad : Nat → Nat) (z : Nat) : va_rf (hop ad z) = cR ad z := by
  unfold hop cR
  split <;> rfl
theorem cV_cat (ad : Nat → Nat) (v : Value) : (cV ad v).category = v.category := by
  cases v <;> try rfl
  show (cR ad _).category = 1
  unfold cR
  split <;> rfl
/-- a field's value in the heap, by its kind -/
def hfv (S : hS) (ad : Nat → Nat) (h : hH) (o c k : Nat) : Value := match hk c k with
  | 0 => .int (rdI h o k)
  | 1 => .int (rdI h o k)
  | 2 => .long (rdL h o k)
  | 3 => cR ad (rdP h o k)
  | _ => cR ad (hfr S h o k)
def hfl (S : hS) (ad : Nat → Nat) (h : hH) (o c : Nat) : List Value := (List.range (hnf c)).map (hfv S ad h o c)
def har (S : hS) (ad : Nat → Nat) (h : hH) (o : Nat) : (Nat → Int32) ⊕ (Nat → Int64) ⊕ (Nat → UInt32) ⊕ (Nat → UInt64) ⊕ (Nat → Option Nat) :=
  if S.2.1 o = 103 then .inr (.inl (fun j => rdL h o j)) else if S.2.1 o < 103 then .inl (fun j => rdI h o j) else .inr (.inr (.inr (.inr (fun j => hop ad (hfr S h o j)))))
def hE (S : hS) (ad : Nat → Nat) (dA : Nat → ClassId) (h : hH) (o : Nat) : va_E :=
  if S.2.1 o < 100 then .inr (S.2.1 o, hfl S ad h o (S.2.1 o)) else .inl (dA (S.2.1 o), S.2.2.1 o, har S ad h o)
def hW (S : hS) (ad : Nat → Nat) (dA : Nat → ClassId) (N : Nat) (h : hH) : va_W := (List.range N).map (fun j => (ad (j + 1), hE S ad dA h (j + 1)))
theorem hW_at {S : hS} {ad : Nat → Nat} {dA : Nat → ClassId} {N : Nat} {h : hH} {z : Nat} (h0 : z ≠ 0) (hz : z ≤ N) : (hW S ad dA N h)[z - 1]? = some (ad z, hE S ad dA h z) := by
  have e : z - 1 + 1 = z := by omega
  unfold hW
  rw [List.getElem?_map, List.getElem?_range (by omega)]
  simp [e]
theorem hW_obj {S : hS} {ad : Nat → Nat} {dA : Nat → ClassId} {N : Nat} {h : hH} {z c : Nat} (h0 : z ≠ 0) (hz : z ≤ N) (ht : S.2.1 z = c) (hc : c < 100) : (hW S ad dA N h)[z - 1]? = some (ad z, .inr (c, hfl S ad h z c)) := by
  rw [hW_at h0 hz]
  unfold hE
  rw [ht, if_pos hc]
theorem hfl_at {S : hS} {ad : Nat → Nat} {h : hH} {o c k : Nat} (hk : k < hnf c) : (hfl S ad h o c)[k]? = some (hfv S ad h o c k) := by
  unfold hfl
  rw [List.getElem?_map, List.getElem?_range hk]
  rfl
theorem hfl_len {S : hS} {ad : Nat → Nat} {h : hH} {o c : Nat} : (hfl S ad h o c).length = hnf c := by
  unfold hfl
  rw [List.length_map, List.length_range]
/-- two worlds that differ at one id alone -/
theorem hW_set {S : hS} {ad : Nat → Nat} {dA : Nat → ClassId} {N : Nat} {h h' : hH} {o : Nat} (h0 : o ≠ 0) (ho : o ≤ N) {e : va_E} (he : hE S ad dA h' o = e) (hn : ∀ z, z ≠ o → hE S ad dA h' z = hE S ad dA h z) : (hW S ad dA N h).set (o - 1) (ad o, e) = hW S ad dA N h' := by
  apply List.ext_getElem?
  intro i
  have hl : (hW S ad dA N h).length = N := by unfold hW; rw [List.length_map, List.length_range]
  by_cases hi : i = o - 1
  · subst hi
    rw [List.getElem?_set_self (by rw [hl]; omega), hW_at h0 ho, he]
  · rw [List.getElem?_set_ne (Ne.symm hi)]
    by_cases hiN : i < N
    · have e1 := hW_at (S := S) (ad := ad) (dA := dA) (N := N) (h := h) (z := i + 1) (by omega) (by omega)
      have e2 := hW_at (S := S) (ad := ad) (dA := dA) (N := N) (h := h') (z := i + 1) (by omega) (by omega)
      rw [Nat.add_sub_cancel] at e1 e2
      rw [e1, e2, hn (i + 1) (by omega)]
    · have q1 : (hW S ad dA N h)[i]? = none := by rw [List.getElem?_eq_none_iff, hl]; omega
      have q2 : (hW S ad dA N h')[i]? = none := by
        rw [List.getElem?_eq_none_iff]
        unfold hW
        rw [List.length_map, List.length_range]
        omega
      rw [q1, q2]
theorem up2_s {α : Type} {f : Nat → Nat → α} {o k : Nat} {v : α} : up2 f o k v o k = v := by simp [up2]
theorem up2_n {α : Type} {f : Nat → Nat → α} {o k a b : Nat} {v : α} (h : ¬ (a = o ∧ b = k)) : up2 f o k v a b = f a b := by simp [up2, h]
theorem up2_o {α : Type} {f : Nat → Nat → α} {o k a b : Nat} {v : α} (h : a ≠ o) : up2 f o k v a b = f a b := up2_n (fun q => h q.1)
/-- what another id's cell says is not touched by a write -/
theorem hE_I {S : hS} {ad : Nat → Nat} {dA : Nat → ClassId} {h : hH} {o k z : Nat} {v : Int32} (hz : z ≠ o) : hE S ad dA (wrI h o k v) z = hE S ad dA h z := by
  have e1 : ∀ j, rdI (wrI h o k v) z j = rdI h z j := fun j => up2_o hz
  have e2 : ∀ j, rdL (wrI h o k v) z j = rdL h z j := fun j => rfl
  have e3 : ∀ j, rdP (wrI h o k v) z j = rdP h z j := fun j => rfl
  have e4 : ∀ j, hfr S (wrI h o k v) z j = hfr S h z j := fun j => by unfold hfr; split <;> rfl
  have e5 : ∀ c, hfv S ad (wrI h o k v) z c = hfv S ad h z c := fun c => by
    funext j
    unfold hfv
    rw [e1, e2, e3, e4]
  simp only [hE, hfl, har, e1, e2, e4, e5]
theorem hE_L {S : hS} {ad : Nat → Nat} {dA : Nat → ClassId} {h : hH} {o k z : Nat} {v : Int64} (hz : z ≠ o) : hE S ad dA (wrL h o k v) z = hE S ad dA h z := by
  have e1 : ∀ j, rdI (wrL h o k v) z j = rdI h z j := fun j => rfl
  have e2 : ∀ j, rdL (wrL h o k v) z j = rdL h z j := fun j => up2_o hz
  have e3 : ∀ j, rdP (wrL h o k v) z j = rdP h z j := fun j => rfl
  have e4 : ∀ j, hfr S (wrL h o k v) z j = hfr S h z j := fun j => by unfold hfr; split <;> rfl
  have e5 : ∀ c, hfv S ad (wrL h o k v) z c = hfv S ad h z c := fun c => by
    funext j
    unfold hfv
    rw [e1, e2, e3, e4]
  simp only [hE, hfl, har, e1, e2, e4, e5]
theorem hE_P {S : hS} {ad : Nat → Nat} {dA : Nat → ClassId} {h : hH} {o k z : Nat} {v : Nat} (hz : z ≠ o) : hE S ad dA (wrP h o k v) z = hE S ad dA h z := by
  have e1 : ∀ j, rdI (wrP h o k v) z j = rdI h z j := fun j => rfl
  have e2 : ∀ j, rdL (wrP h o k v) z j = rdL h z j := fun j => rfl
  have e3 : ∀ j, rdP (wrP h o k v) z j = rdP h z j := fun j => up2_o hz
  have e4 : ∀ j, hfr S (wrP h o k v) z j = hfr S h z j := fun j => by
    unfold hfr
    split
    · exact e3 j
    · rfl
  have e5 : ∀ c, hfv S ad (wrP h o k v) z c = hfv S ad h z c := fun c => by
    funext j
    unfold hfv
    rw [e1, e2, e3, e4]
  simp only [hE, hfl, har, e1, e2, e4, e5]
/-- an object's cell behind a write of one of its fields -/
theorem hfl_set {S : hS} {ad : Nat → Nat} {h h' : hH} {o c k : Nat} {v : Value} (hk0 : k < hnf c) (hv : hfv S ad h' o c k = v) (hn : ∀ j, j < hnf c → j ≠ k → hfv S ad h' o c j = hfv S ad h o c j) : (hfl S ad h o c).set k v = hfl S ad h' o c := by
  apply List.ext_getElem?
  intro i
  by_cases hi : i = k
  · subst hi
    rw [List.getElem?_set_self (by rw [hfl_len]; exact hk0), hfl_at hk0, hv]
  · rw [List.getElem?_set_ne (Ne.symm hi)]
    by_cases hiN : i < hnf c
    · rw [hfl_at hiN, hfl_at hiN, hn i hiN hi]
    · have q1 : (hfl S ad h o c)[i]? = none := by rw [List.getElem?_eq_none_iff, hfl_len]; omega
      have q2 : (hfl S ad h' o c)[i]? = none := by rw [List.getElem?_eq_none_iff, hfl_len]; omega
      rw [q1, q2]
theorem hW_putI {S : hS} {ad : Nat → Nat} {dA : Nat → ClassId} {N : Nat} {h : hH} {o c k : Nat} {x : Int32} (h0 : o ≠ 0) (ho : o ≤ N) (ht : S.2.1 o = c) (hc : c < 100) (hk0 : k < hnf c) (hkd : hk c k = 0 ∨ hk c k = 1) : (hW S ad dA N h).set (o - 1) (ad o, .inr (c, (hfl S ad h o c).set k (.int x))) = hW S ad dA N (wrI h o k x) := by
  refine hW_set h0 ho ?_ (fun z hz => hE_I hz)
  unfold hE
  rw [ht, if_pos hc]
  refine congrArg (fun q => Sum.inr (c, q)) (hfl_set hk0 ?_ ?_).symm
  · unfold hfv
    rcases hkd with e | e <;> rw [e] <;> exact congrArg Value.int up2_s
  · intro j hj hjk
    unfold hfv
    have e1 : rdI (wrI h o k x) o j = rdI h o j := up2_n (fun q => hjk q.2)
    have e4 : hfr S (wrI h o k x) o j = hfr S h o j := by unfold hfr; split <;> rfl
    rw [e1, e4]
    rfl
theorem hW_putL {S : hS} {ad : Nat → Nat} {dA : Nat → ClassId} {N : Nat} {h : hH} {o c k : Nat} {x : Int64} (h0 : o ≠ 0) (ho : o ≤ N) (ht : S.2.1 o = c) (hc : c < 100) (hk0 : k < hnf c) (hkd : hk c k = 2) : (hW S ad dA N h).set (o - 1) (ad o, .inr (c, (hfl S ad h o c).set k (.long x))) = hW S ad dA N (wrL h o k x) := by
  refine hW_set h0 ho ?_ (fun z hz => hE_L hz)
  unfold hE
  rw [ht, if_pos hc]
  refine congrArg (fun q => Sum.inr (c, q)) (hfl_set hk0 ?_ ?_).symm
  · unfold hfv
    rw [hkd]
    exact congrArg Value.long up2_s
  · intro j hj hjk
    unfold hfv
    have e1 : rdL (wrL h o k x) o j = rdL h o j := up2_n (fun q => hjk q.2)
    have e4 : hfr S (wrL h o k x) o j = hfr S h o j := by unfold hfr; split <;> rfl
    rw [e1, e4]
    rfl
theorem hW_putP {S : hS} {ad : Nat → Nat} {dA : Nat → ClassId} {N : Nat} {h : hH} {o c k : Nat} {x : Nat} (h0 : o ≠ 0) (ho : o ≤ N) (ht : S.2.1 o = c) (hc : c < 100) (hk0 : k < hnf c) (hkd : hk c k = 3 ∨ (hk c k = 4 ∧ S.1 = true)) : (hW S ad dA N h).set (o - 1) (ad o, .inr (c, (hfl S ad h o c).set k (cR ad x))) = hW S ad dA N (wrP h o k x) := by
  refine hW_set h0 ho ?_ (fun z hz => hE_P hz)
  unfold hE
  rw [ht, if_pos hc]
  have e0 : rdP (wrP h o k x) o k = x := up2_s
  refine congrArg (fun q => Sum.inr (c, q)) (hfl_set hk0 ?_ ?_).symm
  · unfold hfv
    rcases hkd with e | ⟨e, e2⟩
    · rw [e]; exact congrArg (cR ad) e0
    · rw [e]
      show cR ad (hfr S (wrP h o k x) o k) = cR ad x
      unfold hfr
      rw [e2]
      exact congrArg (cR ad) e0
  · intro j hj hjk
    unfold hfv
    have e1 : rdP (wrP h o k x) o j = rdP h o j := up2_n (fun q => hjk q.2)
    have e4 : hfr S (wrP h o k x) o j = hfr S h o j := by
      unfold hfr
      split
      · exact e1
      · rfl
    rw [e1, e4]
    rfl
/-- an array's cell -/
theorem hW_arrI {S : hS} {ad : Nat → Nat} {dA : Nat → ClassId} {N : Nat} {h : hH} {z t : Nat} (h0 : z ≠ 0) (hz : z ≤ N) (ht : S.2.1 z = t) (h1 : 100 ≤ t) (h2 : t < 103) : (hW S ad dA N h)[z - 1]? = some (ad z, .inl (dA t, S.2.2.1 z, .inl (fun j => rdI h z j))) := by
  rw [hW_at h0 hz]
  unfold hE har
  rw [ht, if_neg (by omega), if_neg (by omega), if_pos h2]
theorem hW_arrL {S : hS} {ad : Nat → Nat} {dA : Nat → ClassId} {N : Nat} {h : hH} {z : Nat} (h0 : z ≠ 0) (hz : z ≤ N) (ht : S.2.1 z = 103) : (hW S ad dA N h)[z - 1]? = some (ad z, .inl (dA 103, S.2.2.1 z, .inr (.inl (fun j => rdL h z j)))) := by
  rw [hW_at h0 hz]
  unfold hE har
  rw [ht, if_neg (by omega), if_pos rfl]
theorem hW_arrP {S : hS} {ad : Nat → Nat} {dA : Nat → ClassId} {N : Nat} {h : hH} {z t : Nat} (h0 : z ≠ 0) (hz : z ≤ N) (ht : S.2.1 z = t) (h1 : 103 < t) : (hW S ad dA N h)[z - 1]? = some (ad z, .inl (dA t, S.2.2.1 z, .inr (.inr (.inr (.inr (fun j => hop ad (hfr S h z j))))))) := by
  rw [hW_at h0 hz]
  unfold hE har
  rw [ht, if_neg (by omega), if_neg (by omega), if_neg (by omega)]
theorem hW_setI {S : hS} {ad : Nat → Nat} {dA : Nat → ClassId} {N : Nat} {h : hH} {z t j : Nat} {x : Int32} (h0 : z ≠ 0) (hz : z ≤ N) (ht : S.2.1 z = t) (h1 : 100 ≤ t) (h2 : t < 103) : (hW S ad dA N h).set (z - 1) (ad z, .inl (dA t, S.2.2.1 z, .inl (upd (fun j => rdI h z j) j x))) = hW S ad dA N (wrI h z j x) := by
  refine hW_set h0 hz ?_ (fun z hz => hE_I hz)
  unfold hE har
  rw [ht, if_neg (by omega), if_neg (by omega), if_pos h2]
  have e : (fun i => rdI (wrI h z j x) z i) = upd (fun j => rdI h z j) j x := by
    funext i
    unfold upd
    by_cases hi : i = j
    · subst hi; rw [if_pos rfl]; exact up2_s
    · rw [if_neg hi]; exact up2_n (fun q => hi q.2)
  rw [e]
theorem hW_setL {S : hS} {ad : Nat → Nat} {dA : Nat → ClassId} {N : Nat} {h : hH} {z j : Nat} {x : Int64} (h0 : z ≠ 0) (hz : z ≤ N) (ht : S.2.1 z = 103) : (hW S ad dA N h).set (z - 1) (ad z, .inl (dA 103, S.2.2.1 z, .inr (.inl (vp_updL (fun j => rdL h z j) j x)))) = hW S ad dA N (wrL h z j x) := by
  refine hW_set h0 hz ?_ (fun z hz => hE_L hz)
  unfold hE har
  rw [ht, if_neg (by omega), if_pos rfl]
  have e : (fun i => rdL (wrL h z j x) z i) = vp_updL (fun j => rdL h z j) j x := by
    funext i
    unfold vp_updL
    by_cases hi : i = j
    · subst hi; rw [if_pos rfl]; exact up2_s
    · rw [if_neg hi]; exact up2_n (fun q => hi q.2)
  rw [e]
theorem hW_setP {S : hS} {ad : Nat → Nat} {dA : Nat → ClassId} {N : Nat} {h : hH} {z t j x : Nat} (h0 : z ≠ 0) (hz : z ≤ N) (ht : S.2.1 z = t) (h1 : 103 < t) (hx : x ≠ 0) (hm : S.1 = true) : (hW S ad dA N h).set (z - 1) (ad z, .inl (dA t, S.2.2.1 z, .inr (.inr (.inr (.inr (va_up (fun j => hop ad (hfr S h z j)) j (some (ad x)))))))) = hW S ad dA N (wrP h z j x) := by
  refine hW_set h0 hz ?_ (fun z hz => hE_P hz)
  unfold hE har
  rw [ht, if_neg (by omega), if_neg (by omega), if_neg (by omega)]
  have e : (fun i => hop ad (hfr S (wrP h z j x) z i)) = va_up (fun j => hop ad (hfr S h z j)) j (some (ad x)) := by
    funext i
    unfold va_up hfr
    rw [hm]
    by_cases hi : i = j
    · subst hi
      rw [if_pos rfl]
      show hop ad (rdP (wrP h z i x) z i) = some (ad x)
      rw [show rdP (wrP h z i x) z i = x from up2_s]
      unfold hop
      rw [if_neg hx]
    · rw [if_neg hi]
      exact congrArg (hop ad) (up2_n (fun q => hi q.2))
  rw [e]
