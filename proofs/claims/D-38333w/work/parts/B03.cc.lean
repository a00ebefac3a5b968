set_option maxRecDepth 4000
/-! ===== a list of objects and what they keep, with owners of addresses ===== -/
/-- the list at l (backing array e, elements xs) belongs to id -/
abbrev LC (own : Nat → Nat) (id : Nat) (G : Nat → Option Nat) (M : Mem) (c l e n : Nat) (xs : Nat → Nat) (k : Nat) : Prop := (AL G M c l e n xs) ∧ (ElK M c k n xs) ∧ (own l = id) ∧ (mln M e ≠ 0 → own e = id) ∧ (∀ i, i < n → own (xs i) = id) ∧ (∀ i j, i < n → j < n → xs i = xs j → i = j)
theorem LC.al {own : Nat → Nat} {id : Nat} {G : Nat → Option Nat} {M : Mem} {c l e n : Nat} {xs : Nat → Nat} {k : Nat} (self_ : LC own id G M c l e n xs k) : AL G M c l e n xs := self_.1
theorem LC.el {own : Nat → Nat} {id : Nat} {G : Nat → Option Nat} {M : Mem} {c l e n : Nat} {xs : Nat → Nat} {k : Nat} (self_ : LC own id G M c l e n xs k) : ElK M c k n xs := self_.2.1
theorem LC.ol {own : Nat → Nat} {id : Nat} {G : Nat → Option Nat} {M : Mem} {c l e n : Nat} {xs : Nat → Nat} {k : Nat} (self_ : LC own id G M c l e n xs k) : own l = id := self_.2.2.1
theorem LC.oe {own : Nat → Nat} {id : Nat} {G : Nat → Option Nat} {M : Mem} {c l e n : Nat} {xs : Nat → Nat} {k : Nat} (self_ : LC own id G M c l e n xs k) : mln M e ≠ 0 → own e = id := self_.2.2.2.1
theorem LC.ox {own : Nat → Nat} {id : Nat} {G : Nat → Option Nat} {M : Mem} {c l e n : Nat} {xs : Nat → Nat} {k : Nat} (self_ : LC own id G M c l e n xs k) : ∀ i, i < n → own (xs i) = id := self_.2.2.2.2.1
theorem LC.inj {own : Nat → Nat} {id : Nat} {G : Nat → Option Nat} {M : Mem} {c l e n : Nat} {xs : Nat → Nat} {k : Nat} (self_ : LC own id G M c l e n xs k) : ∀ i j, i < n → j < n → xs i = xs j → i = j := self_.2.2.2.2.2
section LCX
variable {own : Nat → Nat} {id : Nat} {G : Nat → Option Nat} {M M' : Mem} {c l e n k : Nat} {xs : Nat → Nat} {P : Nat → Prop} {nn ss : Nat}
theorem LC.fw (L : LC own id G M c l e n xs k) (q : QW P nn ss M M') (h : ∀ a, own a = id → mco M a = c → ¬ P a) : LC own id G M' c l e n xs k :=
  ⟨L.al.fw q (h _ L.ol L.al.co) (fun h0 => h _ (L.oe h0) (L.al.ce.elim (fun x => absurd x h0) (fun x => x))), L.el.fw q, L.ol, fun h0 => L.oe (by rw [← q.ln e L.al.lt]; exact h0), L.ox, L.inj⟩
theorem LC.ow {own' : Nat → Nat} (L : LC own id G M c l e n xs k) (h : ∀ a, a < mnx M → own' a = own a) : LC own' id G M c l e n xs k :=
  ⟨L.al, L.el, (h _ L.al.ll).trans L.ol, fun h0 => (h _ L.al.lt).trans (L.oe h0), fun i hi => (h _ (L.el i hi).1).trans (L.ox i hi), L.inj⟩
theorem LC.size (L : LC own id G M c l e n xs k) {c' : Nat} : ex G c' 5 0 [(0, vR (some l))] [] M = some (.inl (some (vI (nI n))), M) := c5 L.al
theorem LC.get (L : LC own id G M c l e n xs k) {c' i : Nat} (h : i < n) : ex G c' 6 0 [(0, vR (some l)), (1, vI (nI i))] [] M = some (.inl (some (vR (some (xs i)))), M) := c6 L.al h
/-- new addresses belong to id -/
def ownU (own : Nat → Nat) (N id : Nat) : Nat → Nat := fun a => if N ≤ a then id else own a
theorem ownU_lt {N a : Nat} (h : a < N) : ownU own N id a = own a := if_neg (by omega)
theorem ownU_ge {N a : Nat} (h : N ≤ a) : ownU own N id a = id := if_pos h
def adX (xs : Nat → Nat) (n x : Nat) : Nat → Nat := fun i => if i = n then x else xs i
theorem adX_at {xs : Nat → Nat} {n x : Nat} : adX xs n x n = x := if_pos rfl
theorem adX_ne {xs : Nat → Nat} {n x i : Nat} (h : i ≠ n) : adX xs n x i = xs i := if_neg h
/-- LIST.ADD -/
theorem LC.add (L : LC own id G M c l e n xs k) (hc : c ≠ 0) (h12 : n ≤ 12) (hk : ksO.contains k = true) {x : Nat} (kx : mcl M x = k) (cx : mco M x = c) (lx : x < mnx M) (ox : own x = id) (hx : ∀ i, i < n → xs i ≠ x) :
    ∃ M' e', ex G c 8 0 [(0, vR (some l)), (1, vR (some x))] [] M = some (.inl (some (vI 1)), M') ∧ LC (ownU own (mnx M) id) id G M' c l e' (n + 1) (adX xs n x) k ∧ QW (fun a => a = l ∨ a = e ∧ mln M e ≠ 0) 1 20 M M' := by
  obtain ⟨M', e', e1, A, q, d⟩ := x8 hc L.al h12 L.el hk kx cx lx
  refine ⟨M', e', e1, ⟨A, ?_, (ownU_lt L.al.ll).trans L.ol, ?_, ?_, ?_⟩, q⟩
  · intro i hi
    by_cases h : i = n
    · rw [h, adX_at]
      exact ⟨Nat.lt_of_lt_of_le lx q.nx.1, (q.cl _ lx).trans kx, (q.co _ lx).trans cx⟩
    · rw [adX_ne h]
      exact L.el.fw q i (by omega)
  · intro h0
    obtain ⟨d1, d2⟩ | d := d
    · rw [d1, ownU_lt L.al.lt]; exact L.oe d2
    · exact ownU_ge d
  · intro i hi
    by_cases h : i = n
    · rw [h, adX_at, ownU_lt lx]; exact ox
    · rw [adX_ne h, ownU_lt (L.el i (by omega)).1]; exact L.ox i (by omega)
  · intro i j hi hj h
    by_cases h1 : i = n
    · by_cases h2 : j = n
      · omega
      · rw [h1, adX_at, adX_ne h2] at h
        exact absurd h.symm (hx j (by omega))
    · by_cases h2 : j = n
      · rw [h2, adX_at, adX_ne h1] at h
        exact absurd h (hx i (by omega))
      · rw [adX_ne h1, adX_ne h2] at h
        exact L.inj i j (by omega) (by omega) h
theorem rmX_el {i j : Nat} : rmX xs i j = xs (if j < i then j else j + 1) := by
  unfold rmX
  split <;> rfl
theorem LC.rm' (L : LC own id G M c l e n xs k) {i : Nat} (hi : i < n) (A : AL G M' c l e (n - 1) (rmX xs i)) (q : QW P nn ss M M') : LC own id G M' c l e (n - 1) (rmX xs i) k := by
  refine ⟨A, ?_, L.ol, fun h0 => L.oe (by rw [← q.ln e L.al.lt]; exact h0), ?_, ?_⟩
  · intro j hj
    rw [rmX_el]
    exact L.el.fw q _ (by split <;> omega)
  · intro j hj
    rw [rmX_el]
    exact L.ox _ (by split <;> omega)
  · intro j1 j2 h1 h2 h
    rw [rmX_el, rmX_el] at h
    have := L.inj _ _ (by split <;> omega) (by split <;> omega) h
    split at this <;> split at this <;> omega
/-- LIST.REMOVE -/
theorem LC.rm (L : LC own id G M c l e n xs k) (hc : c ≠ 0) (hk : ksO.contains k = true) {i : Nat} (hi : i < n) :
    ∃ M', ex G c 12 0 [(0, vR (some l)), (1, vI (nI i))] [] M = some (.inl (some (vR (some (xs i)))), M') ∧ LC own id G M' c l e (n - 1) (rmX xs i) k ∧ QW (fun a => a = l ∨ a = e ∧ mln M e ≠ 0) 0 0 M M' ∧ mnx M' = mnx M := by
  obtain ⟨M', e1, A, q, n1⟩ := x12 hc L.al hi L.el hk
  exact ⟨M', e1, L.rm' hi A q, q, n1⟩
theorem LC.rmO (L : LC own id G M c l e n xs 31) (hc : c ≠ 0) {i : Nat} (hi : i < n) :
    ∃ M', ex G c 14 0 [(0, vR (some l)), (1, vR (some (xs i)))] [] M = some (.inl (some (vI 1)), M') ∧ LC own id G M' c l e (n - 1) (rmX xs i) 31 ∧ QW (fun a => a = l ∨ a = e ∧ mln M e ≠ 0) 0 0 M M' ∧ mnx M' = mnx M := by
  obtain ⟨M', e1, A, q, n1⟩ := x14 hc L.al hi L.el (fun j hj h => absurd (L.inj j i (by omega) hi h) (by omega))
  exact ⟨M', e1, L.rm' hi A q, q, n1⟩
theorem LC.own_of (L : LC own id G M c l e n xs k) {a : Nat} (h : a = l ∨ a = e ∧ mln M e ≠ 0) : own a = id ∧ mco M a = c := by
  obtain h | ⟨h, h0⟩ := h
  · rw [h]; exact ⟨L.ol, L.al.co⟩
  · rw [h]; exact ⟨L.oe h0, L.al.ce.elim (fun x => absurd x h0) (fun x => x)⟩
end LCX
/-- what an element keeps does not change where nothing is written -/
def FrF {α : Type} (F : Mem → Nat → α → Prop) : Prop := ∀ (P : Nat → Prop) (n s : Nat) (M M' : Mem) (a : Nat) (x : α), QW P n s M M' → a < mnx M → ¬ P a → F M a x → F M' a x
abbrev CC {α : Type} (own : Nat → Nat) (id : Nat) (G : Nat → Option Nat) (M : Mem) (c l e : Nat) (xs : Nat → Nat) (k : Nat) (F : Mem → Nat → α → Prop) (L : List α) : Prop := (LC own id G M c l e L.length xs k) ∧ (∀ i x, L[i]? = some x → F M (xs i) x)
theorem CC.l {α : Type} {own : Nat → Nat} {id : Nat} {G : Nat → Option Nat} {M : Mem} {c l e : Nat} {xs : Nat → Nat} {k : Nat} {F : Mem → Nat → α → Prop} {L : List α} (self_ : CC own id G M c l e xs k F L) : LC own id G M c l e L.length xs k := self_.1
theorem CC.f {α : Type} {own : Nat → Nat} {id : Nat} {G : Nat → Option Nat} {M : Mem} {c l e : Nat} {xs : Nat → Nat} {k : Nat} {F : Mem → Nat → α → Prop} {L : List α} (self_ : CC own id G M c l e xs k F L) : ∀ i x, L[i]? = some x → F M (xs i) x := self_.2
section CCX
variable {α : Type} {own : Nat → Nat} {id : Nat} {G : Nat → Option Nat} {M M' : Mem} {c l e k : Nat} {xs : Nat → Nat} {P : Nat → Prop} {nn ss : Nat} {F : Mem → Nat → α → Prop} {L : List α}
theorem lt_of_get {i : Nat} {x : α} (h : L[i]? = some x) : i < L.length := (List.getElem?_eq_some_iff.mp h).1
theorem CC.fw (C : CC own id G M c l e xs k F L) (fr : FrF F) (q : QW P nn ss M M') (h : ∀ a, own a = id → mco M a = c → ¬ P a) : CC own id G M' c l e xs k F L :=
  ⟨C.l.fw q h, fun i x hx => fr P nn ss M M' _ _ q (C.l.el i (lt_of_get hx)).1 (h _ (C.l.ox i (lt_of_get hx)) (C.l.el i (lt_of_get hx)).2.2) (C.f i x hx)⟩
theorem CC.ow {own' : Nat → Nat} (C : CC own id G M c l e xs k F L) (h : ∀ a, a < mnx M → own' a = own a) : CC own' id G M c l e xs k F L := ⟨C.l.ow h, C.f⟩
theorem CC.mp {F' : Mem → Nat → α → Prop} (C : CC own id G M c l e xs k F L) (h : ∀ i x, L[i]? = some x → F M (xs i) x → F' M (xs i) x) : CC own id G M c l e xs k F' L := ⟨C.l, fun i x hx => h i x hx (C.f i x hx)⟩
/-- one element changes -/
theorem CC.set (C : CC own id G M c l e xs k F L) (fr : FrF F) {i : Nat} {x' : α} (q : QW P nn ss M M') (h : ∀ a, P a → a = xs i) (hi : i < L.length) (kne : ∀ j, j < L.length → xs j ≠ l ∧ xs j ≠ e) (hf : F M' (xs i) x') : CC own id G M' c l e xs k F (L.set i x') := by
  have al' : LC own id G M' c l e L.length xs k := by
    have L1 := C.l
    exact ⟨L1.al.fw q (fun p => (kne i hi).1 (h _ p).symm) (fun _ p => (kne i hi).2 (h _ p).symm), L1.el.fw q, L1.ol, fun h0 => L1.oe (by rw [← q.ln e L1.al.lt]; exact h0), L1.ox, L1.inj⟩
  refine ⟨by rw [List.length_set]; exact al', ?_⟩
  intro j x hx
  rw [List.getElem?_set] at hx
  by_cases e : i = j
  · subst e
    rw [if_pos rfl, if_pos hi] at hx
    cases hx
    exact hf
  · rw [if_neg e] at hx
    have hj := lt_of_get hx
    exact fr P nn ss M M' _ _ q (C.l.el j hj).1 (fun p => e (C.l.inj i j hi hj (h _ p).symm)) (C.f j x hx)
theorem CC.add (C : CC own id G M c l e xs k F L) (fr : FrF F) (hc : c ≠ 0) (h12 : L.length ≤ 12) (hk : ksO.contains k = true) {x : Nat} {v : α} (kx : mcl M x = k) (cx : mco M x = c) (lx : x < mnx M) (ox : own x = id) (hx : ∀ i, i < L.length → xs i ≠ x) (hl : x ≠ l) (he : x ≠ e) (hle : ∀ j, j < L.length → xs j ≠ l ∧ xs j ≠ e) (hf : F M x v) :
    ∃ M' e', ex G c 8 0 [(0, vR (some l)), (1, vR (some x))] [] M = some (.inl (some (vI 1)), M') ∧ CC (ownU own (mnx M) id) id G M' c l e' (adX xs L.length x) k F (L ++ [v]) ∧ QW (fun a => a = l ∨ a = e ∧ mln M e ≠ 0) 1 20 M M' := by
  obtain ⟨M', e', e1, A, q⟩ := C.l.add hc h12 hk kx cx lx ox hx
  refine ⟨M', e', e1, ⟨by rw [List.length_append]; exact A, ?_⟩, q⟩
  intro i y hy
  by_cases h : i = L.length
  · subst h
    rw [adX_at]
    rw [List.getElem?_append_right (Nat.le_refl _), Nat.sub_self] at hy
    cases hy
    exact fr _ _ _ _ _ _ _ q lx (fun p => p.elim hl (fun p => he p.1)) hf
  · have hi : i < L.length := by
      have := lt_of_get hy
      rw [List.length_append] at this
      simp only [List.length_cons, List.length_nil] at this
      omega
    rw [adX_ne h]
    rw [List.getElem?_append_left hi] at hy
    exact fr _ _ _ _ _ _ _ q (C.l.el i hi).1 (fun p => p.elim (hle i hi).1 (fun p => (hle i hi).2 p.1)) (C.f i y hy)
theorem CC.rmF (C : CC own id G M c l e xs k F L) (fr : FrF F) {i : Nat} (hi : i < L.length) (hle : ∀ j, j < L.length → xs j ≠ l ∧ xs j ≠ e) (A : LC own id G M' c l e (L.length - 1) (rmX xs i) k) (q : QW (fun a => a = l ∨ a = e ∧ mln M e ≠ 0) nn ss M M') : CC own id G M' c l e (rmX xs i) k F (L.eraseIdx i) := by
  refine ⟨by rw [List.length_eraseIdx_of_lt hi]; exact A, ?_⟩
  intro j y hy
  rw [List.getElem?_eraseIdx] at hy
  rw [rmX_el]
  by_cases h : j < i
  · rw [if_pos h] at hy ⊢
    have hj := lt_of_get hy
    exact fr _ _ _ _ _ _ _ q (C.l.el j hj).1 (fun p => p.elim (hle j hj).1 (fun p => (hle j hj).2 p.1)) (C.f j y hy)
  · rw [if_neg h] at hy ⊢
    have hj := lt_of_get hy
    exact fr _ _ _ _ _ _ _ q (C.l.el _ hj).1 (fun p => p.elim (hle _ hj).1 (fun p => (hle _ hj).2 p.1)) (C.f _ y hy)
theorem CC.rm (C : CC own id G M c l e xs k F L) (fr : FrF F) (hc : c ≠ 0) (hk : ksO.contains k = true) {i : Nat} (hi : i < L.length) (hle : ∀ j, j < L.length → xs j ≠ l ∧ xs j ≠ e) :
    ∃ M', ex G c 12 0 [(0, vR (some l)), (1, vI (nI i))] [] M = some (.inl (some (vR (some (xs i)))), M') ∧ CC own id G M' c l e (rmX xs i) k F (L.eraseIdx i) ∧ QW (fun a => a = l ∨ a = e ∧ mln M e ≠ 0) 0 0 M M' ∧ mnx M' = mnx M := by
  obtain ⟨M', e1, A, q, n1⟩ := C.l.rm hc hk hi
  exact ⟨M', e1, C.rmF fr hi hle A q, q, n1⟩
/-- elements are neither the list nor its array, where their kinds differ -/
theorem CC.ne (C : CC own id G M c l e xs k F L) (h5 : k ≠ 5) (h1 : k ≠ 111) : ∀ j, j < L.length → xs j ≠ l ∧ xs j ≠ e := fun j hj =>
  ⟨fun h => h5 (by have := (C.l.el j hj).2.1; rw [h, C.l.al.k] at this; exact this.symm), fun h => h1 (by have := (C.l.el j hj).2.1; rw [h, C.l.al.ke] at this; exact this.symm)⟩
end CCX
