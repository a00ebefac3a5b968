/-! ===== the law's first state, seen as memory ===== -/
def kNl : List (Nat × String) := (List.range 41).filterMap fun k => match k with | 0 => none | k => (kCl[k]?).map fun q => (k, q.1)
def kNm (k : Nat) : Option String := (kNl.find? fun q => Nat.beq q.1 k).map fun q => q.2
def kNd (k : Nat) : String := (kNm k).getD "KeelHouse"
theorem kNl_ck : (kNl.all fun q => kNl.all fun q' => Nat.beq q.1 q'.1 || !(decide (q.2 = q'.2))) = true := by decide +kernel
theorem kNm_mem {k : Nat} {nm : String} (h : kNm k = some nm) : (k, nm) ∈ kNl := by
  unfold kNm at h
  cases hf : kNl.find? (fun q => Nat.beq q.1 k) with
  | none => rw [hf] at h; cases h
  | some q =>
    rw [hf] at h
    cases h
    have h1 := List.mem_of_find?_eq_some hf
    have h2 := List.find?_some hf
    have h3 := Nat.eq_of_beq_eq_true h2
    rw [← h3]
    exact h1
theorem kNm_inj {k k' : Nat} {nm : String} (h : kNm k = some nm) (h' : kNm k' = some nm) : k = k' := by
  have h1 := List.all_eq_true.mp (List.all_eq_true.mp kNl_ck _ (kNm_mem h)) _ (kNm_mem h')
  simp only [Bool.or_eq_true] at h1
  rcases h1 with h1 | h1
  · exact Nat.eq_of_beq_eq_true h1
  · simp at h1
def arN (k : Nat) : String := "[" ++ (elT k).toString
def cid (s : State) (nm : String) : Nat := (s.vm.findClass nm).getD 0
theorem cid_eq {s : State} {nm : String} {c : Nat} (h : s.vm.findClass nm = some c) : cid s nm = c := by unfold cid; rw [h]; rfl
theorem fc_inj {s : State} {a b : String} {c : Nat} (h : s.vm.findClass a = some c) (h' : s.vm.findClass b = some c) : a = b := by
  obtain ⟨k, h1, h2⟩ := Vm.findClass_spec h
  obtain ⟨k', h3, h4⟩ := Vm.findClass_spec h'
  cases h1.symm.trans h3
  exact h2.symm.trans h4
noncomputable def gh (s : State) (sl : Nat → Nat → Nat) : Gh := (fun k => cid s (kNd k), sl, fun x => @ite _ (x / 1000 ≠ 0 ∧ ArrOfT s (x / 1000 - 1) (elT (x % 1000))) (Classical.propDecidable _) (x / 1000 - 1) (cid s (arN (x % 1000))), s.heap.size)
theorem gh_own {s : State} {sl : Nat → Nat → Nat} {k : Nat} (hk : k < 1000) : (gh s sl).2.2.1 k = cid s (arN k) := by
  show @ite _ (k / 1000 ≠ 0 ∧ _) (Classical.propDecidable _) _ _ = _
  rw [if_neg (fun h => h.1 (by omega)), show k % 1000 = k by omega]
theorem gh_alt {s : State} {sl : Nat → Nat → Nat} {k c : Nat} (hk : k < 1000) (h : ArrOfT s c (elT k)) : (gh s sl).2.2.1 (k + 1000 * (c + 1)) = c := by
  show @ite _ ((k + 1000 * (c + 1)) / 1000 ≠ 0 ∧ _) (Classical.propDecidable _) _ _ = _
  have e1 : (k + 1000 * (c + 1)) / 1000 = c + 1 := by omega
  have e2 : (k + 1000 * (c + 1)) % 1000 = k := by omega
  rw [e1, e2, Nat.add_sub_cancel, if_pos ⟨by omega, h⟩]
theorem gh_any {s : State} {sl : Nat → Nat → Nat} {k n : Nat} (hk : k < 1000) (h0 : ArrOfT s (cid s (arN k)) (elT k)) : ArrOfT s ((gh s sl).2.2.1 (k + 1000 * n)) (elT k) := by
  show ArrOfT s (@ite _ ((k + 1000 * n) / 1000 ≠ 0 ∧ _) (Classical.propDecidable _) _ _) _
  have e1 : (k + 1000 * n) / 1000 = n := by omega
  have e2 : (k + 1000 * n) % 1000 = k := by omega
  rw [e1, e2]
  split
  · next h => exact h.2
  · exact h0
/-- the values of a slot by sorts -/
def vS : Nat → Value → Prop
  | 1, v => ∃ x, v = .long x
  | 2, v => ∃ x, v = .double x
  | 3, v => ∃ r, v = va_rf r
  | _, v => ∃ x, v = .int x
def vInt : Option Value → Int32
  | some (.int x) => x
  | _ => 0
def vLng : Option Value → Int64
  | some (.long x) => x
  | _ => 0
def vDbl : Option Value → UInt64
  | some (.double x) => x
  | _ => 0
def vRef : Option Value → Option Nat
  | some (.ref a) => some a
  | _ => none
theorem vRef_rf (r : Option Nat) : vRef (some (va_rf r)) = r := by cases r <;> rfl
def rdS (s : State) (a i : Nat) : Option Value := match s.heap[a]? with | some ce => ce.slots[i]? | none => none
/-- a cell that is as a kind asks -/
def OkC (s : State) (sl : Nat → Nat → Nat) (a k : Nat) : Prop := ∃ cell : Cell, s.heap[a]? = some cell ∧ vmOK cell ∧
  ((k ≠ 0 ∧ k < 100 ∧ (∃ nm, kNm k = some nm ∧ ClassAt s nm cell.cls) ∧ ∀ (j : Nat) (q : Nat × Nat), (kFl.getD k [])[j]? = some q → ∃ v, cell.slots[sl k j]? = some v ∧ vS q.1 v) ∨
   (∃ (i : Nat) (ty : FieldType), k = 100 + i ∧ kAr[i]? = some ty ∧ s.isArrayOf cell ty ∧ ∀ j, j < cell.slots.size → ∃ v, cell.slots[j]? = some v ∧ fits ty v = true))
theorem kAr_nd : ∀ i, i < 12 → ∀ j, j < 12 → kAr[i]? = kAr[j]? → i = j := by decide +kernel
theorem kAr_lt {i : Nat} {ty : FieldType} (h : kAr[i]? = some ty) : i < 12 := (List.getElem?_eq_some_iff.mp h).1
theorem OkC.uniq {s : State} {sl : Nat → Nat → Nat} {a k k' : Nat} (h : OkC s sl a k) (h' : OkC s sl a k') : k = k' := by
  obtain ⟨cell, c1, -, h⟩ := h
  obtain ⟨cell', c2, -, h'⟩ := h'
  cases Option.some.inj (c1.symm.trans c2)
  rcases h with ⟨-, -, ⟨nm, n1, n2⟩, -⟩ | ⟨i, ty, rfl, i1, i2, -⟩
  · rcases h' with ⟨-, -, ⟨nm', n1', n2'⟩, -⟩ | ⟨i, ty, rfl, i1, i2, -⟩
    · have e := fc_inj n2.1 n2'.1
      subst e
      exact kNm_inj n1 n1'
    · obtain ⟨kC, k1, k2⟩ := n2.2
      obtain ⟨-, kA, k3, comp, k4⟩ := i2
      cases Option.some.inj (k1.symm.trans k3)
      rw [k2] at k4
      cases k4
  · rcases h' with ⟨-, -, ⟨nm', n1', n2'⟩, -⟩ | ⟨i', ty', rfl, i1', i2', -⟩
    · obtain ⟨kC, k1, k2⟩ := n2'.2
      obtain ⟨-, kA, k3, comp, k4⟩ := i2
      cases Option.some.inj (k1.symm.trans k3)
      rw [k2] at k4
      cases k4
    · obtain ⟨-, kA, k3, comp, k4⟩ := i2
      obtain ⟨-, kA', k3', comp', k4'⟩ := i2'
      cases Option.some.inj (k3.symm.trans k3')
      rw [k4] at k4'
      cases k4'
      rw [kAr_nd i (kAr_lt i1) i' (kAr_lt i1') (i1.trans i1'.symm)]
noncomputable def kOf (s : State) (sl : Nat → Nat → Nat) (a : Nat) : Nat := @dite Nat (∃ k, OkC s sl a k) (Classical.propDecidable _) (fun h => Classical.choose h) (fun _ => 0)
theorem kOf_of {s : State} {sl : Nat → Nat → Nat} {a k : Nat} (h : OkC s sl a k) : kOf s sl a = k := by
  unfold kOf
  rw [dif_pos ⟨k, h⟩]
  exact OkC.uniq (Classical.choose_spec (p := fun k => OkC s sl a k) ⟨k, h⟩) h
theorem kOf_ok {s : State} {sl : Nat → Nat → Nat} {a : Nat} (h : kOf s sl a ≠ 0) : OkC s sl a (kOf s sl a) := by
  rcases Classical.em (∃ k, OkC s sl a k) with hx | hx
  · obtain ⟨k, hk⟩ := hx
    rw [kOf_of hk]
    exact hk
  · exact absurd (by unfold kOf; rw [dif_neg hx]) h
def fIx (k f : Nat) : Option Nat := (kFl.getD k []).findIdx? fun q => Nat.beq q.2 f
theorem fIx_at {k j : Nat} {q : Nat × Nat} (h : (kFl.getD k [])[j]? = some q) : fIx k q.2 = some j := by
  unfold fIx
  obtain ⟨hj, he⟩ := List.getElem?_eq_some_iff.mp h
  refine List.findIdx?_eq_some_iff_getElem.mpr ⟨hj, by rw [he]; exact Nat.beq_refl _, fun i hi => ?_⟩
  have h2 : (kFl.getD k [])[i]? = some (kFl.getD k [])[i] := List.getElem?_eq_getElem (by omega)
  have h3 := kFl_nd h2 h (by omega)
  intro h4
  exact h3 (Nat.eq_of_beq_eq_true h4)
noncomputable def M0 (s : State) (sl : Nat → Nat → Nat) : Mem := (kOf s sl, fun _ => 0, fun a => match s.heap[a]? with | some ce => (if 100 ≤ kOf s sl a then ce.slots.size else 0) | none => 0,
  fun f a => match fIx (kOf s sl a) f with | some j => vInt (rdS s a (sl (kOf s sl a) j)) | none => 0,
  fun f a => match fIx (kOf s sl a) f with | some j => vLng (rdS s a (sl (kOf s sl a) j)) | none => 0,
  fun f a => match fIx (kOf s sl a) f with | some j => vDbl (rdS s a (sl (kOf s sl a) j)) | none => 0,
  fun f a => match fIx (kOf s sl a) f with | some j => vRef (rdS s a (sl (kOf s sl a) j)) | none => none,
  fun a j => vInt (rdS s a j), fun a j => vDbl (rdS s a j), fun a j => vRef (rdS s a j), s.heap.size, 0)
theorem elS {i : Nat} {ty : FieldType} {v : Value} (hi : kAr[i]? = some ty) (hf : fits ty v = true) : (i < 3 → ∃ x, v = .int x) ∧ (i = 3 → ∃ x, v = .double x) ∧ (4 ≤ i → ∃ r, v = va_rf r) := by
  have hr : ∀ {t : FieldType}, t.isReference = true → fits t v = true → ∃ r, v = va_rf r := fun {t} ht hf => by
    cases t <;> first | (cases ht; done) | (cases v <;> first | exact ⟨none, rfl⟩ | exact ⟨some _, rfl⟩ | (cases hf; done))
  have hlt := kAr_lt hi
  match i, hlt, hi with
  | 0, _, hi => cases hi; exact ⟨fun _ => (by cases v <;> first | exact ⟨_, rfl⟩ | (cases hf; done)), fun h => by omega, fun h => by omega⟩
  | 1, _, hi => cases hi; exact ⟨fun _ => (by cases v <;> first | exact ⟨_, rfl⟩ | (cases hf; done)), fun h => by omega, fun h => by omega⟩
  | 2, _, hi => cases hi; exact ⟨fun _ => (by cases v <;> first | exact ⟨_, rfl⟩ | (cases hf; done)), fun h => by omega, fun h => by omega⟩
  | 3, _, hi => cases hi; exact ⟨fun h => by omega, fun _ => (by cases v <;> first | exact ⟨_, rfl⟩ | (cases hf; done)), fun h => by omega⟩
  | 4, _, hi => cases hi; exact ⟨fun h => by omega, fun h => by omega, fun _ => hr rfl hf⟩
  | 5, _, hi => cases hi; exact ⟨fun h => by omega, fun h => by omega, fun _ => hr rfl hf⟩
  | 6, _, hi => cases hi; exact ⟨fun h => by omega, fun h => by omega, fun _ => hr rfl hf⟩
  | 7, _, hi => cases hi; exact ⟨fun h => by omega, fun h => by omega, fun _ => hr rfl hf⟩
  | 8, _, hi => cases hi; exact ⟨fun h => by omega, fun h => by omega, fun _ => hr rfl hf⟩
  | 9, _, hi => cases hi; exact ⟨fun h => by omega, fun h => by omega, fun _ => hr rfl hf⟩
  | 10, _, hi => cases hi; exact ⟨fun h => by omega, fun h => by omega, fun _ => hr rfl hf⟩
  | 11, _, hi => cases hi; exact ⟨fun h => by omega, fun h => by omega, fun _ => hr rfl hf⟩
theorem M0_fld {s : State} {sl : Nat → Nat → Nat} {a j : Nat} {q : Nat × Nat} {cell : Cell} {v : Value} (hc : s.heap[a]? = some cell) (hq : (kFl.getD (kOf s sl a) [])[j]? = some q) (hv : cell.slots[sl (kOf s sl a) j]? = some v) (hs : vS q.1 v) : fldV (M0 s sl) a q = v := by
  have e := fIx_at hq
  have er : rdS s a (sl (kOf s sl a) j) = some v := by unfold rdS; rw [hc]; exact hv
  have e0 : mfi (M0 s sl) q.2 a = vInt (some v) := by show (match fIx (kOf s sl a) q.2 with | some j => vInt (rdS s a (sl (kOf s sl a) j)) | none => 0) = _; rw [e]; show vInt (rdS _ _ _) = _; rw [er]
  have e1 : mfj (M0 s sl) q.2 a = vLng (some v) := by show (match fIx (kOf s sl a) q.2 with | some j => vLng (rdS s a (sl (kOf s sl a) j)) | none => 0) = _; rw [e]; show vLng (rdS _ _ _) = _; rw [er]
  have e2 : mfd (M0 s sl) q.2 a = vDbl (some v) := by show (match fIx (kOf s sl a) q.2 with | some j => vDbl (rdS s a (sl (kOf s sl a) j)) | none => 0) = _; rw [e]; show vDbl (rdS _ _ _) = _; rw [er]
  have e3 : mfr (M0 s sl) q.2 a = vRef (some v) := by show (match fIx (kOf s sl a) q.2 with | some j => vRef (rdS s a (sl (kOf s sl a) j)) | none => none) = _; rw [e]; show vRef (rdS _ _ _) = _; rw [er]
  obtain ⟨so, f⟩ := q
  unfold fldV
  dsimp only at e0 e1 e2 e3 hs ⊢
  rw [e0, e1, e2, e3]
  match so, hs with
  | 0, ⟨x, h⟩ => rw [h]; rfl
  | 1, ⟨x, h⟩ => rw [h]; rfl
  | 2, ⟨x, h⟩ => rw [h]; rfl
  | 3, ⟨x, h⟩ => rw [h, vRef_rf]; rfl
  | n + 4, ⟨x, h⟩ => rw [h]; rfl
theorem M0_el {s : State} {sl : Nat → Nat → Nat} {a j i : Nat} {ty : FieldType} {cell : Cell} {v : Value} (hc : s.heap[a]? = some cell) (hi : kAr[i]? = some ty) (hv : cell.slots[j]? = some v) (hf : fits ty v = true) : elV (M0 s sl) (100 + i) a j = v := by
  obtain ⟨h1, h2, h3⟩ := elS hi hf
  have er : rdS s a j = some v := by unfold rdS; rw [hc]; exact hv
  have e0 : mai (M0 s sl) a j = vInt (some v) := by show vInt (rdS _ _ _) = _; rw [er]
  have e1 : mad (M0 s sl) a j = vDbl (some v) := by show vDbl (rdS _ _ _) = _; rw [er]
  have e2 : mar (M0 s sl) a j = vRef (some v) := by show vRef (rdS _ _ _) = _; rw [er]
  have hlt := kAr_lt hi
  rcases Nat.lt_or_ge i 3 with h | h
  · obtain ⟨x, rfl⟩ := h1 h
    unfold elV
    rw [e0]
    match i, h with
    | 0, _ => rfl
    | 1, _ => rfl
    | 2, _ => rfl
  · rcases Nat.lt_or_ge i 4 with h9 | h9
    · have e9 : i = 3 := by omega
      subst e9
      obtain ⟨x, rfl⟩ := h2 rfl
      unfold elV
      rw [e1]
      rfl
    · obtain ⟨x, rfl⟩ := h3 h9
      rw [elV_ref (by omega), e2, vRef_rf]
theorem kOf_lt {s : State} {sl : Nat → Nat → Nat} {a : Nat} (h : s.heap.size ≤ a) : kOf s sl a = 0 := by
  rcases Nat.eq_zero_or_pos (kOf s sl a) with h0 | h0
  · exact h0
  · obtain ⟨cell, hc, -⟩ := kOf_ok (Nat.ne_of_gt h0)
    have := (Array.getElem?_eq_some_iff.mp hc).1
    omega
theorem M0_HR {s : State} {sl : Nat → Nat → Nat} : HR (gh s sl) (M0 s sl) s.heap := by
  refine ⟨rfl, fun a ha => ?_, fun a h => absurd rfl h, fun a ha => ?_⟩
  · have hk := kOf_lt (sl := sl) (show s.heap.size ≤ a from ha)
    have hn : s.heap[a]? = none := Array.getElem?_eq_none ha
    have hf : ∀ f, fIx (kOf s sl a) f = none := fun f => by rw [hk]; rfl
    have hr : ∀ i, rdS s a i = none := fun i => by unfold rdS; rw [hn]
    refine ⟨⟨hk, rfl, ?_⟩, fun f => ?_, fun f => ?_, fun f => ?_, fun f => ?_, fun j => ?_, fun j => ?_, fun j => ?_⟩
    · show (match s.heap[a]? with | some ce => (if 100 ≤ kOf s sl a then ce.slots.size else 0) | none => 0) = 0
      rw [hn]
    · show (match fIx (kOf s sl a) f with | some j => vInt (rdS s a (sl (kOf s sl a) j)) | none => 0) = 0
      rw [hf]
    · show (match fIx (kOf s sl a) f with | some j => vLng (rdS s a (sl (kOf s sl a) j)) | none => 0) = 0
      rw [hf]
    · show (match fIx (kOf s sl a) f with | some j => vDbl (rdS s a (sl (kOf s sl a) j)) | none => 0) = 0
      rw [hf]
    · show (match fIx (kOf s sl a) f with | some j => vRef (rdS s a (sl (kOf s sl a) j)) | none => none) = none
      rw [hf]
    · show vInt (rdS s a j) = 0
      rw [hr]; rfl
    · show vDbl (rdS s a j) = 0
      rw [hr]; rfl
    · show vRef (rdS s a j) = none
      rw [hr]; rfl
  · obtain ⟨cell, hc, hv, h⟩ := kOf_ok (show kOf s sl a ≠ 0 from ha)
    refine ⟨cell, hc, hv, fun h => absurd rfl h, fun hlt => ?_, fun hge => ?_⟩
    · have hlt : kOf s sl a < 100 := hlt
      rcases h with ⟨-, -, ⟨nm, n1, n2⟩, hf⟩ | ⟨i, ty, h1, -⟩
      · refine ⟨?_, fun j q hq => ?_⟩
        · show cell.cls = cid s (kNd (kOf s sl a))
          unfold kNd
          rw [n1]
          exact (cid_eq n2.1).symm
        · obtain ⟨v, v1, v2⟩ := hf j q hq
          rw [M0_fld hc hq v1 v2]
          exact v1
      · omega
    · have hge : 100 ≤ kOf s sl a := hge
      rcases h with ⟨-, h1, -⟩ | ⟨i, ty, h1, h2, h3, h4⟩
      · omega
      · have hel : elT (kOf s sl a) = ty := by rw [h1]; unfold elT; rw [Nat.add_sub_cancel_left, List.getD_eq_getElem?_getD, h2]; rfl
        have hlt := kAr_lt h2
        refine ⟨⟨cell.cls + 1, ?_, fun h => absurd rfl h⟩, ?_, fun j hj => ?_⟩
        · show cell.cls = (gh s sl).2.2.1 (kOf s sl a + 1000 * (cell.cls + 1))
          rw [gh_alt (by omega)]
          rw [hel]
          obtain ⟨-, kA, k3, comp, k4⟩ := h3
          exact fun n z => ⟨fun q h => (by cases h), kA, k3, comp, k4⟩
        · show _ = (match s.heap[a]? with | some ce => (if 100 ≤ kOf s sl a then ce.slots.size else 0) | none => 0)
          rw [hc]
          show _ = if 100 ≤ kOf s sl a then cell.slots.size else 0
          rw [if_pos hge]
        · have hj : j < cell.slots.size := by
            have : j < (match s.heap[a]? with | some ce => (if 100 ≤ kOf s sl a then ce.slots.size else 0) | none => 0) := hj
            rw [hc] at this
            have this : j < if 100 ≤ kOf s sl a then cell.slots.size else 0 := this
            rwa [if_pos hge] at this
          obtain ⟨v, v1, v2⟩ := h4 j hj
          have hE : elV (M0 s sl) (kOf s sl a) a j = v := by rw [h1]; exact M0_el hc h2 v1 v2
          show cell.slots[j]? = some (elV (M0 s sl) (kOf s sl a) a j) ∧ fits (elT (kOf s sl a)) (elV (M0 s sl) (kOf s sl a) a j) = true
          rw [hE, hel]
          exact ⟨v1, v2⟩
/-- an array that was there -/
theorem okc_arr {s : State} {sl : Nat → Nat → Nat} {a i : Nat} {ty : FieldType} {cell : Cell} (hfit : heapFits s = true) (hc : s.heap[a]? = some cell) (harr : s.isArrayOf cell ty) (hvm : cell.vm ≠ .unknown) (hi : kAr[i]? = some ty) : OkC s sl a (100 + i) := by
  refine ⟨cell, hc, ⟨hvm, harr.1⟩, Or.inr ⟨i, ty, rfl, hi, harr, fun j hj => ?_⟩⟩
  obtain ⟨hlt, he⟩ := Array.getElem?_eq_some_iff.mp hc
  have h1 : cellFits s cell = true := by
    have := Array.all_eq_true.mp hfit a hlt
    rwa [he] at this
  have h2 := List.all_eq_true.mp h1 j (List.mem_range.mpr hj)
  rw [Array.getElem?_eq_getElem hj] at h2
  refine ⟨cell.slots[j], Array.getElem?_eq_getElem hj, ?_⟩
  obtain ⟨hns, kA, k3, comp, k4⟩ := harr
  have h3 : s.fitsSlot cell.cls cell.vm j cell.slots[j] = true := h2
  unfold State.fitsSlot State.slotType? at h3
  rw [k3] at h3
  cases hv : cell.vm with
  | statics q => exact absurd hv (hns q)
  | _ => rw [hv] at h3; simpa [k4] using h3
theorem M0_len {s : State} {sl : Nat → Nat → Nat} {a k : Nat} {cell : Cell} (hk : OkC s sl a k) (hge : 100 ≤ k) (hc : s.heap[a]? = some cell) : mln (M0 s sl) a = cell.slots.size := by
  show (match s.heap[a]? with | some ce => (if 100 ≤ kOf s sl a then ce.slots.size else 0) | none => 0) = _
  rw [hc]
  show (if 100 ≤ kOf s sl a then cell.slots.size else 0) = _
  rw [if_pos (by rw [kOf_of hk]; exact hge)]
/-- tables of ints, bytes, doubles, references -/
def TI (M : Mem) (k a : Nat) (vs : List Int32) : Prop := mcl M a = k ∧ mco M a = 0 ∧ vs.length ≤ mln M a ∧ nI (mln M a) = Int32.ofNat vs.length ∧ ∀ j, j < vs.length → mai M a j = vs.getD j 0
def TD (M : Mem) (a : Nat) (vs : List UInt64) : Prop := mcl M a = 103 ∧ mco M a = 0 ∧ vs.length ≤ mln M a ∧ nI (mln M a) = Int32.ofNat vs.length ∧ ∀ j, j < vs.length → mad M a j = vs.getD j 0
theorem ti_of {s : State} {sl : Nat → Nat → Nat} {i t : Nat} {ty : FieldType} {vs : List Int32} {A : Nat → Prop} (hfit : heapFits s = true) (hi : kAr[i]? = some ty) (h : va_T ty t vs.length (fun j => .int (vs.getD j 0)) A s s.heap) : OkC s sl t (100 + i) ∧ TI (M0 s sl) (100 + i) t vs := by
  obtain ⟨cell, h1, h2, h3, h4, h5, h6, -⟩ := h
  have hk := okc_arr (sl := sl) hfit h1 h2 h3 hi
  refine ⟨hk, kOf_of hk, rfl, ?_, ?_, fun j hj => ?_⟩
  · rw [M0_len hk (by omega) h1]; exact h4
  · rw [M0_len hk (by omega) h1]; exact h5
  · show vInt (rdS s t j) = _
    unfold rdS
    rw [h1]
    show vInt (cell.slots[j]?) = _
    rw [h6 j hj]
    rfl
theorem td_of {s : State} {sl : Nat → Nat → Nat} {t : Nat} {vs : List UInt64} {A : Nat → Prop} (hfit : heapFits s = true) (h : va_T .double t vs.length (fun j => .double (vs.getD j 0)) A s s.heap) : TD (M0 s sl) t vs := by
  obtain ⟨cell, h1, h2, h3, h4, h5, h6, -⟩ := h
  have hk := okc_arr (sl := sl) (i := 3) hfit h1 h2 h3 rfl
  refine ⟨kOf_of hk, rfl, ?_, ?_, fun j hj => ?_⟩
  · rw [M0_len hk (by omega) h1]; exact h4
  · rw [M0_len hk (by omega) h1]; exact h5
  · show vDbl (rdS s t j) = _
    unfold rdS
    rw [h1]
    show vDbl (cell.slots[j]?) = _
    rw [h6 j hj]
    rfl
theorem stW_any {w : Cond} (hs : stW w = true) {s : State} {A A' : Array Value} (h : w.before A s = true) : w.before A' s = true := by
  unfold stW at hs
  split at hs
  · exact h
  · exact va_tabs rfl rfl h
  · exact va_tabs rfl rfl h
  · exact va_tabs rfl rfl h
  · exact va_tabs rfl rfl h
  · exact va_tabs rfl rfl h
  · exact va_tabs rfl rfl h
  · exact va_tabs rfl rfl h
  · exact va_tabs rfl rfl h
  · exact va_tabs (Bool.and_eq_true_iff.mp hs).1 rfl h
