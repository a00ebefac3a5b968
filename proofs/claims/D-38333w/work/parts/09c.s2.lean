/-! ===== how the relation moves with memory ===== -/
/-- the fields of a kind have numbers of their own, and their slots are apart -/
def kOK (D : Gh) : Prop := ∀ (k i j : Nat) (q q' : Nat × Nat), (kFl.getD k [])[i]? = some q → (kFl.getD k [])[j]? = some q' → i ≠ j → q.2 ≠ q'.2 ∧ D.2.1 k i ≠ D.2.1 k j
theorem HR.upd {D : Gh} {M M' : Mem} {H H' : Heap} {a : Nat} {cell' : Cell} (h : HR D M H) (ha : mcl M a ≠ 0) (e1 : mcl M' = mcl M) (e2 : mco M' = mco M) (e3 : mln M' = mln M) (e4 : mnx M' = mnx M) (hz : Zr M')
    (ef : ∀ b q, b ≠ a → fldV M' b q = fldV M b q) (ee : ∀ k b j, b ≠ a → elV M' k b j = elV M k b j) (g1 : H'[a]? = some cell') (g2 : H'.size = H.size) (g3 : ∀ q, q ≠ a → H'[q]? = H[q]?) (hc : CellR D M' a cell') : HR D M' H' := by
  obtain ⟨h1, h2, h3, h4⟩ := h
  refine ⟨by rw [g2, e4]; exact h1, hz, fun b hb => h3 b (by rw [e2] at hb; exact hb), fun b hb => ?_⟩
  by_cases hba : b = a
  · rw [hba]; exact ⟨cell', g1, hc⟩
  · rw [e1] at hb
    obtain ⟨cell, c1, c2, c3, c4, c5⟩ := h4 b hb
    refine ⟨cell, by rw [g3 b hba]; exact c1, c2, fun hco => c3 (by rw [e2] at hco; exact hco), fun hk => ?_, fun hk => ?_⟩
    · rw [e1] at hk ⊢
      obtain ⟨d1, d2⟩ := c4 hk
      exact ⟨d1, fun j q hq => by rw [ef b q hba]; exact d2 j q hq⟩
    · rw [e1] at hk ⊢
      rw [e3]
      obtain ⟨d1, d2, d3⟩ := c5 hk
      exact ⟨by unfold ArC; rw [e1, e2]; exact d1, d2, fun j hj => by rw [ee _ b j hba]; exact d3 j hj⟩
theorem setSlot_at (cell : Cell) {i : Nat} (v : Value) (h : i < cell.slots.size) : (cell.setSlot i v).slots[i]? = some v := Cell.slots_setSlot_self v h
theorem setSlot_size (cell : Cell) (i : Nat) (v : Value) : (cell.setSlot i v).slots.size = cell.slots.size := by simp [Cell.setSlot]
/-- a field of an object is written -/
theorem HR.fld {D : Gh} (hk : kOK D) {M M' : Mem} {H H' : Heap} {a kd j : Nat} {cell : Cell} {q0 : Nat × Nat} {v : Value} (h : HR D M H) (hkd : mcl M a = kd) (h0 : kd ≠ 0) (hlt : kd < 100) (hj : (kFl.getD kd [])[j]? = some q0) (hcell : H[a]? = some cell) (hcr : CellR D M a cell)
    (e1 : mcl M' = mcl M) (e2 : mco M' = mco M) (e3 : mln M' = mln M) (e4 : mnx M' = mnx M) (hz : Zr M') (ef : ∀ b q, b ≠ a → fldV M' b q = fldV M b q) (ee : ∀ k b j, elV M' k b j = elV M k b j) (ew : fldV M' a q0 = v) (eo : ∀ q : Nat × Nat, q.2 ≠ q0.2 → fldV M' a q = fldV M a q)
    (g1 : H'[a]? = some (cell.setSlot (D.2.1 kd j) v)) (g2 : H'.size = H.size) (g3 : ∀ q, q ≠ a → H'[q]? = H[q]?) : HR D M' H' := by
  subst hkd
  obtain ⟨c2, c3, c4, -⟩ := hcr
  obtain ⟨d1, d2⟩ := c4 hlt
  refine h.upd h0 e1 e2 e3 e4 hz ef (fun k b j _ => ee k b j) g1 g2 g3 ⟨c2, fun hco => c3 (by rw [e2] at hco; exact hco), fun _ => ?_, fun hge => ?_⟩
  · rw [e1]
    refine ⟨d1, fun i q hq => ?_⟩
    by_cases hij : i = j
    · subst hij
      cases Option.some.inj (hq.symm.trans hj)
      rw [ew]
      exact setSlot_at cell v (k2_hasslot (d2 i _ hq))
    · have ⟨n1, n2⟩ := hk _ i j q q0 hq hj hij
      rw [eo q n1, slot_ne cell v (Ne.symm n2)]
      exact d2 i q hq
  · rw [e1] at hge
    exact absurd hge (by omega)
/-- an element of an array is written -/
theorem HR.elm {D : Gh} {M M' : Mem} {H H' : Heap} {a kd j : Nat} {cell : Cell} {v : Value} (h : HR D M H) (hkd : mcl M a = kd) (hge : 100 ≤ kd) (hj : j < mln M a) (hcell : H[a]? = some cell) (hcr : CellR D M a cell)
    (e1 : mcl M' = mcl M) (e2 : mco M' = mco M) (e3 : mln M' = mln M) (e4 : mnx M' = mnx M) (hz : Zr M') (ef : ∀ b q, fldV M' b q = fldV M b q) (ee : ∀ k b j, b ≠ a → elV M' k b j = elV M k b j) (ew : elV M' kd a j = v) (hfv : fits (elT kd) v = true) (eo : ∀ i : Nat, i ≠ j → elV M' kd a i = elV M kd a i)
    (g1 : H'[a]? = some (cell.setSlot j v)) (g2 : H'.size = H.size) (g3 : ∀ q, q ≠ a → H'[q]? = H[q]?) : HR D M' H' := by
  subst hkd
  obtain ⟨c2, c3, -, c5⟩ := hcr
  obtain ⟨d1, d2, d3⟩ := c5 hge
  refine h.upd (by omega) e1 e2 e3 e4 hz (fun b q _ => ef b q) ee g1 g2 g3 ⟨c2, fun hco => c3 (by rw [e2] at hco; exact hco), fun hlt => ?_, fun _ => ?_⟩
  · rw [e1] at hlt
    exact absurd hlt (by omega)
  · rw [e1, e3]
    refine ⟨by unfold ArC; rw [e1, e2]; exact d1, by rw [setSlot_size]; exact d2, fun i hi => ?_⟩
    by_cases hij : i = j
    · subst hij
      rw [ew]
      exact ⟨setSlot_at cell v (by rw [d2]; exact hi), hfv⟩
    · rw [eo i hij, slot_ne cell v (Ne.symm hij)]
      exact d3 i hi
/-- a cell is pushed -/
theorem HR.psh {D : Gh} {M M' : Mem} {H H' : Heap} {cell : Cell} (h : HR D M H) (e1 : ∀ a, a ≠ mnx M → mcl M' a = mcl M a) (e2 : ∀ a, a ≠ mnx M → mco M' a = mco M a) (e3 : ∀ a, a ≠ mnx M → mln M' a = mln M a) (e4 : mnx M' = mnx M + 1) (hz : Zr M')
    (ef : ∀ b q, b ≠ mnx M → fldV M' b q = fldV M b q) (ee : ∀ k b j, b ≠ mnx M → elV M' k b j = elV M k b j) (hhb : D.2.2.2 ≤ mnx M) (g1 : H'[mnx M]? = some cell) (g2 : H'.size = H.size + 1) (g3 : ∀ q, q < H.size → H'[q]? = H[q]?) (hc : mcl M' (mnx M) ≠ 0 → CellR D M' (mnx M) cell) : HR D M' H' := by
  have hl := fun a (ha : mcl M a ≠ 0) => h.lt ha
  obtain ⟨h1, h2, h3, h4⟩ := h
  refine ⟨by rw [g2, e4, h1], hz, fun b hb => ?_, fun b hb => ?_⟩
  · by_cases hba : b = mnx M
    · rw [hba]; exact hhb
    · rw [e2 b hba] at hb; exact h3 b hb
  · by_cases hba : b = mnx M
    · subst hba; exact ⟨cell, g1, hc hb⟩
    · rw [e1 b hba] at hb
      obtain ⟨cl, c1, c2, c3, c4, c5⟩ := h4 b hb
      refine ⟨cl, by rw [g3 b (by rw [h1]; exact hl b hb)]; exact c1, c2, fun hco => c3 (by rw [e2 b hba] at hco; exact hco), fun hk => ?_, fun hk => ?_⟩
      · rw [e1 b hba] at hk ⊢
        obtain ⟨d1, d2⟩ := c4 hk
        exact ⟨d1, fun j q hq => by rw [ef b q hba]; exact d2 j q hq⟩
      · rw [e1 b hba] at hk ⊢
        rw [e3 b hba]
        obtain ⟨d1, d2, d3⟩ := c5 hk
        exact ⟨by unfold ArC; rw [e1 b hba, e2 b hba]; exact d1, d2, fun j hj => by rw [ee _ b j hba]; exact d3 j hj⟩
/-- cells of which nothing is told -/
theorem HR.oth {D : Gh} {M : Mem} {H H' : Heap} {j n : Nat} (h : HR D M H) (g2 : H'.size = H.size + j) (g3 : ∀ q, q < H.size → H'[q]? = H[q]?) : HR D (mth M j n) H' := by
  have hl := fun a (ha : mcl M a ≠ 0) => h.lt ha
  obtain ⟨h1, h2, h3, h4⟩ := h
  refine ⟨by rw [g2, h1]; rfl, ext_mth (c := 1).2.2.2.2 h2, h3, fun b hb => ?_⟩
  obtain ⟨cl, c1, c2⟩ := h4 b hb
  exact ⟨cl, by rw [g3 b (by rw [h1]; exact hl b hb)]; exact c1, c2⟩
theorem HR.at {D : Gh} {M : Mem} {H : Heap} (h : HR D M H) {a : Nat} (ha : mcl M a ≠ 0) : ∃ cell, H[a]? = some cell ∧ CellR D M a cell := h.2.2.2 a ha
theorem fldV_sfi {M : Mem} {f a b : Nat} {v : Int32} {q : Nat × Nat} (h : b ≠ a ∨ q.2 ≠ f) : fldV (sfi M f a v) b q = fldV M b q := by
  have e : ∀ g : Nat → Nat → Int32, up2 g f a v q.2 b = g q.2 b := fun g => if_neg fun x => h.elim (fun z => z x.2) (fun z => z x.1)
  unfold fldV
  split
  · first | rfl | (show Value.long (up2 _ _ _ _ _ _) = _; rw [e])
  · first | rfl | (show Value.double (up2 _ _ _ _ _ _) = _; rw [e])
  · first | rfl | (show va_rf (up2 _ _ _ _ _ _) = _; rw [e])
  · first | rfl | (show Value.int (up2 _ _ _ _ _ _) = _; rw [e])
theorem elV_sfi {M : Mem} {f a : Nat} {v : Int32} (k b j : Nat) : elV (sfi M f a v) k b j = elV M k b j := by
  unfold elV
  split <;> rfl
theorem fldV_sfj {M : Mem} {f a b : Nat} {v : Int64} {q : Nat × Nat} (h : b ≠ a ∨ q.2 ≠ f) : fldV (sfj M f a v) b q = fldV M b q := by
  have e : ∀ g : Nat → Nat → Int64, up2 g f a v q.2 b = g q.2 b := fun g => if_neg fun x => h.elim (fun z => z x.2) (fun z => z x.1)
  unfold fldV
  split
  · first | rfl | (show Value.long (up2 _ _ _ _ _ _) = _; rw [e])
  · first | rfl | (show Value.double (up2 _ _ _ _ _ _) = _; rw [e])
  · first | rfl | (show va_rf (up2 _ _ _ _ _ _) = _; rw [e])
  · first | rfl | (show Value.int (up2 _ _ _ _ _ _) = _; rw [e])
theorem elV_sfj {M : Mem} {f a : Nat} {v : Int64} (k b j : Nat) : elV (sfj M f a v) k b j = elV M k b j := by
  unfold elV
  split <;> rfl
theorem fldV_sfd {M : Mem} {f a b : Nat} {v : UInt64} {q : Nat × Nat} (h : b ≠ a ∨ q.2 ≠ f) : fldV (sfd M f a v) b q = fldV M b q := by
  have e : ∀ g : Nat → Nat → UInt64, up2 g f a v q.2 b = g q.2 b := fun g => if_neg fun x => h.elim (fun z => z x.2) (fun z => z x.1)
  unfold fldV
  split
  · first | rfl | (show Value.long (up2 _ _ _ _ _ _) = _; rw [e])
  · first | rfl | (show Value.double (up2 _ _ _ _ _ _) = _; rw [e])
  · first | rfl | (show va_rf (up2 _ _ _ _ _ _) = _; rw [e])
  · first | rfl | (show Value.int (up2 _ _ _ _ _ _) = _; rw [e])
theorem elV_sfd {M : Mem} {f a : Nat} {v : UInt64} (k b j : Nat) : elV (sfd M f a v) k b j = elV M k b j := by
  unfold elV
  split <;> rfl
theorem fldV_sfr {M : Mem} {f a b : Nat} {v : Option Nat} {q : Nat × Nat} (h : b ≠ a ∨ q.2 ≠ f) : fldV (sfr M f a v) b q = fldV M b q := by
  have e : ∀ g : Nat → Nat → Option Nat, up2 g f a v q.2 b = g q.2 b := fun g => if_neg fun x => h.elim (fun z => z x.2) (fun z => z x.1)
  unfold fldV
  split
  · first | rfl | (show Value.long (up2 _ _ _ _ _ _) = _; rw [e])
  · first | rfl | (show Value.double (up2 _ _ _ _ _ _) = _; rw [e])
  · first | rfl | (show va_rf (up2 _ _ _ _ _ _) = _; rw [e])
  · first | rfl | (show Value.int (up2 _ _ _ _ _ _) = _; rw [e])
theorem elV_sfr {M : Mem} {f a : Nat} {v : Option Nat} (k b j : Nat) : elV (sfr M f a v) k b j = elV M k b j := by
  unfold elV
  split <;> rfl
theorem elV_sai {M : Mem} {i a b j : Nat} {v : Int32} (k : Nat) (h : b ≠ a ∨ j ≠ i) : elV (sai M a i v) k b j = elV M k b j := by
  have e : ∀ g : Nat → Nat → Int32, up2 g a i v b j = g b j := fun g => if_neg fun x => h.elim (fun z => z x.1) (fun z => z x.2)
  unfold elV
  split
  · first | rfl | (show Value.int (up2 _ _ _ _ _ _) = _; rw [e])
  · first | rfl | (show Value.int (up2 _ _ _ _ _ _) = _; rw [e])
  · first | rfl | (show Value.int (up2 _ _ _ _ _ _) = _; rw [e])
  · first | rfl | (show Value.double (up2 _ _ _ _ _ _) = _; rw [e])
  · first | rfl | (show va_rf (up2 _ _ _ _ _ _) = _; rw [e])
theorem fldV_sai {M : Mem} {i a : Nat} {v : Int32} (b : Nat) (q : Nat × Nat) : fldV (sai M a i v) b q = fldV M b q := by
  unfold fldV
  split <;> rfl
theorem elV_sad {M : Mem} {i a b j : Nat} {v : UInt64} (k : Nat) (h : b ≠ a ∨ j ≠ i) : elV (sad M a i v) k b j = elV M k b j := by
  have e : ∀ g : Nat → Nat → UInt64, up2 g a i v b j = g b j := fun g => if_neg fun x => h.elim (fun z => z x.1) (fun z => z x.2)
  unfold elV
  split
  · first | rfl | (show Value.int (up2 _ _ _ _ _ _) = _; rw [e])
  · first | rfl | (show Value.int (up2 _ _ _ _ _ _) = _; rw [e])
  · first | rfl | (show Value.int (up2 _ _ _ _ _ _) = _; rw [e])
  · first | rfl | (show Value.double (up2 _ _ _ _ _ _) = _; rw [e])
  · first | rfl | (show va_rf (up2 _ _ _ _ _ _) = _; rw [e])
theorem fldV_sad {M : Mem} {i a : Nat} {v : UInt64} (b : Nat) (q : Nat × Nat) : fldV (sad M a i v) b q = fldV M b q := by
  unfold fldV
  split <;> rfl
theorem elV_sar {M : Mem} {i a b j : Nat} {v : Option Nat} (k : Nat) (h : b ≠ a ∨ j ≠ i) : elV (sar M a i v) k b j = elV M k b j := by
  have e : ∀ g : Nat → Nat → Option Nat, up2 g a i v b j = g b j := fun g => if_neg fun x => h.elim (fun z => z x.1) (fun z => z x.2)
  unfold elV
  split
  · first | rfl | (show Value.int (up2 _ _ _ _ _ _) = _; rw [e])
  · first | rfl | (show Value.int (up2 _ _ _ _ _ _) = _; rw [e])
  · first | rfl | (show Value.int (up2 _ _ _ _ _ _) = _; rw [e])
  · first | rfl | (show Value.double (up2 _ _ _ _ _ _) = _; rw [e])
  · first | rfl | (show va_rf (up2 _ _ _ _ _ _) = _; rw [e])
theorem fldV_sar {M : Mem} {i a : Nat} {v : Option Nat} (b : Nat) (q : Nat × Nat) : fldV (sar M a i v) b q = fldV M b q := by
  unfold fldV
  split <;> rfl
theorem up2_at {α : Type} (g : Nat → Nat → α) (x y : Nat) (v : α) : up2 g x y v x y = v := if_pos ⟨rfl, rfl⟩
theorem up1_at {α : Type} (g : Nat → α) (x : Nat) (v : α) : up1 g x v x = v := if_pos rfl
