/-! ===== the machine's heap and the abstract memory ===== -/
/-- the class of an object's kind, the slot of its field, the class of an array's kind, the heap's size at the law's start -/
abbrev Gh : Type := (Nat → ClassId) × (Nat → Nat → Nat) × (Nat → ClassId) × Nat
def fldV (M : Mem) (a : Nat) (q : Nat × Nat) : Value := match q.1 with
  | 1 => .long (mfj M q.2 a)
  | 2 => .double (mfd M q.2 a)
  | 3 => va_rf (mfr M q.2 a)
  | _ => .int (mfi M q.2 a)
def elV (M : Mem) (k a j : Nat) : Value := match k with
  | 100 => .int (mai M a j)
  | 101 => .int (mai M a j)
  | 102 => .int (mai M a j)
  | 103 => .double (mad M a j)
  | _ => va_rf (mar M a j)
/-- the type of an array's elements -/
def elT (k : Nat) : FieldType := kAr.getD (k - 100) .int
def vmOK (cell : Cell) : Prop := cell.vm ≠ .unknown ∧ ∀ q, cell.vm ≠ .statics q
/-- the class of an array: its kind's, or (of those that were there before the law) another of that type -/
def ArC (D : Gh) (M : Mem) (a : Nat) (cell : Cell) : Prop := ∃ n, cell.cls = D.2.2.1 (mcl M a + 1000 * n) ∧ (mco M a ≠ 0 → n = 0)
theorem ArC.own {D : Gh} {M : Mem} {a : Nat} {cell : Cell} (h : ArC D M a cell) (hc : mco M a ≠ 0) : cell.cls = D.2.2.1 (mcl M a) := by
  obtain ⟨n, h1, h2⟩ := h
  rw [h2 hc] at h1
  exact h1
def CellR (D : Gh) (M : Mem) (a : Nat) (cell : Cell) : Prop :=
  vmOK cell ∧ (mco M a ≠ 0 → cell.vm = .none ∧ cell.monitor = {}) ∧
  (mcl M a < 100 → cell.cls = D.1 (mcl M a) ∧ ∀ (j : Nat) (q : Nat × Nat), (kFl.getD (mcl M a) [])[j]? = some q → cell.slots[D.2.1 (mcl M a) j]? = some (fldV M a q)) ∧
  (100 ≤ mcl M a → ArC D M a cell ∧ cell.slots.size = mln M a ∧ ∀ j, j < mln M a → cell.slots[j]? = some (elV M (mcl M a) a j) ∧ fits (elT (mcl M a)) (elV M (mcl M a) a j) = true)
def HR (D : Gh) (M : Mem) (H : Heap) : Prop := H.size = mnx M ∧ Zr M ∧ (∀ a, mco M a ≠ 0 → D.2.2.2 ≤ a) ∧ ∀ a, mcl M a ≠ 0 → ∃ cell, H[a]? = some cell ∧ CellR D M a cell
theorem HR.lt {D : Gh} {M : Mem} {H : Heap} (h : HR D M H) {a : Nat} (ha : mcl M a ≠ 0) : a < mnx M := by
  rcases Nat.lt_or_ge a (mnx M) with q | q
  · exact q
  · exact absurd (h.2.1 a q).1.1 ha
/-- which words hold on while the machine warms -/
def stW : Cond → Bool
  | .arrayClass _ => true
  | .fieldLinkNest .. => true
  | .methodLinkNest .. => true
  | .declares _ => true
  | .castable .. => true
  | .unhidden .. => true
  | .publicMethod .. => true
  | .privateMethod .. => true
  | .interfaceMethod a b _ _ => decide (a = b) && (decide (a ≠ "java/lang/invoke/MethodHandle") && decide (a ≠ "java/lang/invoke/VarHandle"))
  | w => w.onTables && w.keeps
theorem stW_warm {w : Cond} (hw : stW w = true) {s U : State} (hW : s.WarmedH U.vm) (h : ∀ A : Array Value, w.before A s = true) : ∀ A : Array Value, w.before A U = true := by
  intro A
  cases w with
  | arrayClass ty => exact word_at hW (Or.inr ⟨ty, rfl⟩) (h #[])
  | fieldLinkNest a b c d e f => exact va_Nw.use rfl (va_Nw.warmF hW (h #[]))
  | methodLinkNest a b c d => exact va_Nw.use rfl (va_Nw.warmM hW (h #[]))
  | declares x => exact va_Nw.use rfl (va_Nw.warmD hW (h #[]))
  | castable a b => exact va_Nw.use rfl (va_Nw.warmC hW (h #[]))
  | publicMethod y => exact va_Nw.use rfl (va_tabs rfl (rfl : (s.setVm U.vm).vm = U.vm) (by rw [Cond.publicMethod_setVm hW.alike]; exact h #[]))
  | privateMethod y => exact va_Nw.use rfl (va_tabs rfl (rfl : (s.setVm U.vm).vm = U.vm) (by rw [Cond.privateMethod_setVm hW.alike]; exact h #[]))
  | interfaceMethod a b n d =>
    simp only [stW, Bool.and_eq_true, decide_eq_true_eq] at hw
    obtain ⟨rfl, hx⟩ := hw
    obtain ⟨cL, kL, r1, hcL, hkL, hiL, hfoundL, hn1⟩ := Cond.interfaceMethod_spec (h #[])
    exact va_Nw.use rfl (va_tabs rfl (rfl : (s.setVm U.vm).vm = U.vm) (by rw [Cond.interfaceMethod_setVm hW.alike (r := r1) hn1 hx]; exact h #[]))
  | unhidden a b d => exact va_Nw.use rfl (va_tabs rfl (rfl : (s.setVm U.vm).vm = U.vm) (by rw [Cond.unhidden_setVm hW.alike]; exact h #[]))
  | _ => exact word_at hW (Or.inl hw) (h #[])
/-- what the tables say all through a run: words, classes, arrays -/
def K0 (D : Gh) (U : State) : Prop :=
  (∀ w ∈ lw_tbl, stW w = true → ∀ A : Array Value, w.before A U = true) ∧
  (∀ (k : Nat) (q : vw_C), kCl[k]? = some q → u_Kn U q.1 q.2.1 q.2.2 (D.1 k) (D.2.1 k)) ∧
  (∀ q ∈ kEn, ClassAt U q.2 (D.1 q.1)) ∧
  (∀ (i : Nat) (ty : FieldType), kAr[i]? = some ty → (∀ n, ArrOfT U (D.2.2.1 (100 + i + 1000 * n)) ty) ∧ va_RA U (D.2.2.1 (100 + i)) ty)
theorem K0.warm {D : Gh} {s U : State} (hW : s.WarmedH U.vm) (h : K0 D s) : K0 D U :=
  ⟨fun w hw hs => stW_warm hs hW (h.1 w hw hs), fun k q hq => u_Kn_moved hW.alike (h.2.1 k q hq), fun q hq => classAt_moved hW.alike (h.2.2.1 q hq), fun i ty hi => ⟨fun n => arrOfT_moved hW.alike ((h.2.2.2 i ty hi).1 n), (h.2.2.2 i ty hi).2.moved hW.alike⟩⟩
