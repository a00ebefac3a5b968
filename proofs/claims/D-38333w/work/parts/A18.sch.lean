set_option maxRecDepth 4000
/-! ===== the schedule: plain Lean ===== -/
theorem foldl_cg {α β : Type} {f g : α → β → α} : ∀ (l : List β) (a : α), (∀ m x, x ∈ l → f m x = g m x) → l.foldl f a = l.foldl g a
  | [], _, _ => rfl
  | x :: l, a, h => by
    show l.foldl f (f a x) = l.foldl g (g a x)
    rw [h a x (List.mem_cons_self ..)]
    exact foldl_cg l _ (fun m y hy => h m y (List.mem_cons_of_mem _ hy))
theorem foldl_inv {α β : Type} {f : α → β → α} {p : α → Prop} : ∀ (l : List β) (a : α), p a → (∀ m x, x ∈ l → p m → p (f m x)) → p (l.foldl f a)
  | [], _, h, _ => h
  | x :: l, a, h, hs => foldl_inv l _ (hs a x (List.mem_cons_self ..) h) (fun m y hy => hs m y (List.mem_cons_of_mem _ hy))
/-- how deep a job lies, from the first and from the last -/
def jRk (j : Nat) : Nat := ([0, 1, 2, 3, 1, 2, 3, 1, 2, 3, 1, 2, 3, 1, 2, 3, 1, 2, 3, 2, 2, 3, 4, 5] : List Nat).getD j 0
def jCr (j : Nat) : Nat := ([5, 4, 3, 2, 4, 3, 2, 4, 3, 2, 4, 3, 2, 4, 3, 2, 4, 3, 2, 0, 3, 1, 1, 0] : List Nat).getD j 0
theorem jRk_lt : ∀ j, j < 24 → ∀ i, i ∈ jAh j → i < 24 ∧ jRk i < jRk j := by decide
theorem jCr_lt : ∀ k, k < 24 → ∀ j, j ∈ jAh k → jCr k < jCr j := by decide
theorem jRk_6 : ∀ j, j < 24 → jRk j < 6 ∧ jCr j < 6 := by decide
theorem jBs_bt : ∀ k, k < 24 → ∀ i, i < 24 → bt (jBs k) i = (jAh k).contains i := by decide
theorem jAh_f : ∀ j, j < 24 → jAh j = (List.range 24).filter (fun i => (jAh j).contains i) := by decide
def tOr (i : Nat) : Nat := ([0, 1, 4, 7, 10, 13, 16, 2, 5, 8, 11, 14, 17, 20, 3, 6, 9, 12, 15, 18, 19, 21, 22, 23] : List Nat).getD i 0
theorem tOr_b : ∀ i, i < 24 → tOr i < 24 ∧ tbI tOrder i = nI (tOr i) := by decide
theorem jOr_b : ∀ i, i < 24 → jOr i < 24 := by decide
/-- both orders hold every job, none ahead of those before it -/
theorem tOr_all : ∀ j, j < 24 → ∃ i, i < 24 ∧ tOr i = j := by decide
theorem jOr_all : ∀ j, j < 24 → ∃ i, i < 24 ∧ jOr i = j := by decide
theorem tOr_top : ∀ i, i < 24 → ∀ j, j ∈ jAh (tOr i) → ∃ k, k < i ∧ tOr k = j := by decide
theorem jOr_top : ∀ i, i < 24 → ∀ j, j ∈ jAh (jOr i) → ∃ k, k < i ∧ jOr k = j := by decide
theorem tOr_inj : ∀ i, i < 24 → ∀ k, k < 24 → tOr i = tOr k → i = k := by decide
theorem jOr_inj : ∀ i, i < 24 → ∀ k, k < 24 → jOr i = jOr k → i = k := by decide
/-- how long; when at the earliest; when at the latest -/
def jLn (left : Nat → Nat) (j : Nat) : Nat := (left j + 7) / 8
section SCH
variable {ln : Nat → Nat} {e : Nat}
def eaF (ln : Nat → Nat) : Nat → Nat → Nat
  | 0, _ => 0
  | d + 1, j => (jAh j).foldl (fun m i => max m (eaF ln d i + ln i)) 0
theorem eaF_st : ∀ d j, j < 24 → jRk j < d → eaF ln d j = eaF ln (d + 1) j
  | 0, _, _, h => absurd h (Nat.not_lt_zero _)
  | d + 1, j, hj, h => by
    show (jAh j).foldl (fun m i => max m (eaF ln d i + ln i)) 0 = (jAh j).foldl (fun m i => max m (eaF ln (d + 1) i + ln i)) 0
    refine foldl_cg _ _ (fun m i hi => ?_)
    obtain ⟨h1, h2⟩ := jRk_lt j hj i hi
    rw [eaF_st d i h1 (by omega)]
def ea (ln : Nat → Nat) (j : Nat) : Nat := eaF ln 6 j
theorem ea_e {j : Nat} (hj : j < 24) : ea ln j = (jAh j).foldl (fun m i => max m (ea ln i + ln i)) 0 := eaF_st 6 j hj (jRk_6 j hj).1
theorem fold_max_ge {f : Nat → Nat} : ∀ (l : List Nat) (a : Nat), a ≤ l.foldl (fun m i => max m (f i)) a ∧ ∀ i, i ∈ l → f i ≤ l.foldl (fun m i => max m (f i)) a
  | [], a => ⟨Nat.le_refl _, fun _ h => absurd h (List.not_mem_nil)⟩
  | x :: l, a => by
    obtain ⟨h1, h2⟩ := fold_max_ge (f := f) l (max a (f x))
    refine ⟨Nat.le_trans (Nat.le_max_left _ _) h1, fun i hi => ?_⟩
    rcases List.mem_cons.mp hi with h | h
    · rw [h]; exact Nat.le_trans (Nat.le_max_right _ _) h1
    · exact h2 i h
theorem ea_ge {j i : Nat} (hj : j < 24) (hi : i ∈ jAh j) : ea ln i + ln i ≤ ea ln j := by
  rw [ea_e hj]
  exact (fold_max_ge (f := fun i => ea ln i + ln i) (jAh j) 0).2 i hi
def endJ (ln : Nat → Nat) : Nat := (List.range 24).foldl (fun m j => max m (ea ln j + ln j)) 0
theorem end_ge {j : Nat} (hj : j < 24) : ea ln j + ln j ≤ endJ ln := (fold_max_ge (f := fun j => ea ln j + ln j) (List.range 24) 0).2 j (List.mem_range.mpr hj)
def laF (ln : Nat → Nat) (e : Nat) : Nat → Nat → Nat
  | 0, j => e - ln j
  | d + 1, j => (List.range 24).foldl (fun m k => if (jAh k).contains j then min m (laF ln e d k - ln j) else m) (e - ln j)
theorem laF_st : ∀ d j, j < 24 → jCr j < d → laF ln e d j = laF ln e (d + 1) j
  | 0, _, _, h => absurd h (Nat.not_lt_zero _)
  | d + 1, j, hj, h => by
    show (List.range 24).foldl (fun m k => if (jAh k).contains j then min m (laF ln e d k - ln j) else m) (e - ln j) = (List.range 24).foldl (fun m k => if (jAh k).contains j then min m (laF ln e (d + 1) k - ln j) else m) (e - ln j)
    refine foldl_cg _ _ (fun m k hk => ?_)
    have hk' := List.mem_range.mp hk
    show (if (jAh k).contains j then min m (laF ln e d k - ln j) else m) = (if (jAh k).contains j then min m (laF ln e (d + 1) k - ln j) else m)
    by_cases c : (jAh k).contains j = true
    · rw [if_pos c, if_pos c, laF_st d k hk' (by have := jCr_lt k hk' j (List.contains_iff_mem.mp c); omega)]
    · rw [if_neg c, if_neg c]
def la (ln : Nat → Nat) (j : Nat) : Nat := laF ln (endJ ln) 6 j
theorem la_e {j : Nat} (hj : j < 24) : la ln j = (List.range 24).foldl (fun m k => if (jAh k).contains j then min m (la ln k - ln j) else m) (endJ ln - ln j) := laF_st 6 j hj (jRk_6 j hj).2
theorem ea_la : ∀ d j, j < 24 → ea ln j ≤ laF ln (endJ ln) d j
  | 0, j, hj => by
    have := end_ge (ln := ln) hj
    show ea ln j ≤ endJ ln - ln j
    omega
  | d + 1, j, hj => by
    refine foldl_inv (p := fun m => ea ln j ≤ m) _ _ ?_ (fun m k hk hm => ?_)
    · have := end_ge (ln := ln) hj
      omega
    · have hk' := List.mem_range.mp hk
      have h1 := ea_la d k hk'
      by_cases c : (jAh k).contains j = true
      · have h2 := ea_ge (ln := ln) hk' (List.contains_iff_mem.mp c)
        show ea ln j ≤ (if (jAh k).contains j then min m (laF ln (endJ ln) d k - ln j) else m)
        rw [if_pos c]
        omega
      · show ea ln j ≤ (if (jAh k).contains j then min m (laF ln (endJ ln) d k - ln j) else m)
        rw [if_neg c]
        exact hm
theorem la_ge {j : Nat} (hj : j < 24) : ea ln j ≤ la ln j := ea_la 6 j hj
theorem ln_la {j k : Nat} (hk : k < 24) (h : j ∈ jAh k) : ln j ≤ la ln k := by
  have h1 := la_ge (ln := ln) hk
  have h2 := ea_ge (ln := ln) hk h
  omega
theorem la_le {j : Nat} (hj : j < 24) : la ln j ≤ endJ ln - ln j := by
  rw [la_e hj]
  refine foldl_inv (p := fun m => m ≤ endJ ln - ln j) _ _ (Nat.le_refl _) (fun m k hk hm => ?_)
  show (if (jAh k).contains j then min m (la ln k - ln j) else m) ≤ _
  split
  · omega
  · exact hm
/-- bounds -/
theorem eaF_b {B : Nat} (hb : ∀ j, ln j ≤ B) : ∀ d j, eaF ln d j ≤ d * B
  | 0, _ => Nat.zero_le _
  | d + 1, j => by
    refine foldl_inv (p := fun m => m ≤ (d + 1) * B) _ _ (Nat.zero_le _) (fun m i _ hm => ?_)
    have h1 := eaF_b hb d i
    have h2 := hb i
    rw [Nat.succ_mul] at hm ⊢
    exact Nat.max_le.mpr ⟨hm, by omega⟩
theorem end_b {B : Nat} (hb : ∀ j, ln j ≤ B) : endJ ln ≤ 7 * B := by
  refine foldl_inv (p := fun m => m ≤ 7 * B) _ _ (Nat.zero_le _) (fun m i _ hm => ?_)
  have h1 := eaF_b hb 6 i
  have h2 := hb i
  exact Nat.max_le.mpr ⟨hm, by show eaF ln 6 i + ln i ≤ 7 * B; omega⟩
end SCH
