set_option maxRecDepth 4000
/-! ===== the class' jobs ===== -/
theorem fold_min_iff {P : Nat → Bool} {f : Nat → Nat} {m : Nat} : ∀ (l : List Nat) (a : Nat), m ≤ l.foldl (fun a k => if P k then min a (f k) else a) a ↔ m ≤ a ∧ ∀ k, k ∈ l → P k = true → m ≤ f k
  | [], a => ⟨fun h => ⟨h, fun _ h9 => absurd h9 (List.not_mem_nil)⟩, fun h => h.1⟩
  | x :: l, a => by
    show m ≤ l.foldl (fun a k => if P k then min a (f k) else a) (if P x then min a (f x) else a) ↔ _
    rw [fold_min_iff l]
    cases hp : P x
    · refine ⟨fun h => ⟨h.1, fun k hk hP => ?_⟩, fun h => ⟨h.1, fun k hk hP => h.2 k (List.mem_cons_of_mem _ hk) hP⟩⟩
      rcases List.mem_cons.mp hk with e | e
      · rw [e, hp] at hP; cases hP
      · exact h.2 k e hP
    · simp only [if_true]
      refine ⟨fun h => ⟨by omega, fun k hk hP => ?_⟩, fun h => ⟨by have := h.2 x (List.mem_cons_self ..) hp; omega, fun k hk hP => h.2 k (List.mem_cons_of_mem _ hk) hP⟩⟩
      rcases List.mem_cons.mp hk with e | e
      · rw [e]; omega
      · exact h.2 k e hP
/-- where a job stands in the class' order -/
def jPs (k : Nat) : Nat := ([0, 1, 2, 3, 4, 5, 21, 6, 7, 8, 9, 10, 11, 12, 13, 14, 15, 16, 17, 18, 19, 20, 22, 23] : List Nat).getD k 0
theorem jPs_e : ∀ i, i < 24 → jPs (jOr i) = i ∧ jOr (jPs i) = i ∧ jPs i < 24 := by decide
theorem jPs_lt : ∀ k, k < 24 → ∀ j, j ∈ jAh k → jPs j < jPs k := by decide
section LQ
variable {ln : Nat → Nat}
/-- the latest day of x, reckoned over those from place i on -/
def lq (ln : Nat → Nat) (i x : Nat) : Nat := (List.range 24).foldl (fun m k => if (jAh k).contains x && decide (i ≤ jPs k) then min m (la ln k - ln x) else m) (endJ ln - ln x)
theorem lq_iff {i x m : Nat} : m ≤ lq ln i x ↔ m ≤ endJ ln - ln x ∧ ∀ k, k < 24 → x ∈ jAh k → i ≤ jPs k → m ≤ la ln k - ln x := by
  unfold lq
  rw [fold_min_iff (P := fun k => (jAh k).contains x && decide (i ≤ jPs k)) (f := fun k => la ln k - ln x)]
  refine ⟨fun h => ⟨h.1, fun k hk hx hi => h.2 k (List.mem_range.mpr hk) ?_⟩, fun h => ⟨h.1, fun k hk hP => ?_⟩⟩
  · show ((jAh k).contains x && decide (i ≤ jPs k)) = true
    rw [List.contains_iff_mem.mpr hx, decide_eq_true hi]; rfl
  · have hP' : ((jAh k).contains x && decide (i ≤ jPs k)) = true := hP
    rw [Bool.and_eq_true] at hP'
    exact h.2 k (List.mem_range.mp hk) (List.contains_iff_mem.mp hP'.1) (of_decide_eq_true hP'.2)
theorem la_iff {x m : Nat} (hx : x < 24) : m ≤ la ln x ↔ m ≤ endJ ln - ln x ∧ ∀ k, k < 24 → x ∈ jAh k → m ≤ la ln k - ln x := by
  rw [la_e hx, fold_min_iff (P := fun k => (jAh k).contains x) (f := fun k => la ln k - ln x)]
  exact ⟨fun h => ⟨h.1, fun k hk hx => h.2 k (List.mem_range.mpr hk) (List.contains_iff_mem.mpr hx)⟩, fun h => ⟨h.1, fun k hk hP => h.2 k (List.mem_range.mp hk) (List.contains_iff_mem.mp hP)⟩⟩
theorem nat_ext {a b : Nat} (h : ∀ m, m ≤ a ↔ m ≤ b) : a = b := Nat.le_antisymm ((h a).mp (Nat.le_refl _)) ((h b).mpr (Nat.le_refl _))
theorem lq_24 {x : Nat} : lq ln 24 x = endJ ln - ln x := by
  apply nat_ext
  intro m
  rw [lq_iff]
  exact ⟨fun h => h.1, fun h => ⟨h, fun k hk _ hi => by have := (jPs_e k hk).2.2; omega⟩⟩
/-- a job's own day is ready when its turn comes -/
theorem lq_la {i : Nat} (hi : i < 24) : lq ln (i + 1) (jOr i) = la ln (jOr i) := by
  apply nat_ext
  intro m
  rw [lq_iff, la_iff (jOr_b i hi)]
  refine ⟨fun h => ⟨h.1, fun k hk hx => h.2 k hk hx ?_⟩, fun h => ⟨h.1, fun k hk hx _ => h.2 k hk hx⟩⟩
  have := jPs_lt k hk _ hx
  rw [(jPs_e i hi).1] at this
  omega
theorem lq_0 {x : Nat} (hx : x < 24) : lq ln 0 x = la ln x := by
  apply nat_ext
  intro m
  rw [lq_iff, la_iff hx]
  exact ⟨fun h => ⟨h.1, fun k hk hx => h.2 k hk hx (Nat.zero_le _)⟩, fun h => ⟨h.1, fun k hk hx _ => h.2 k hk hx⟩⟩
theorem lq_in {i x : Nat} (hi : i < 24) (hx : x ∈ jAh (jOr i)) : lq ln i x = min (lq ln (i + 1) x) (la ln (jOr i) - ln x) := by
  apply nat_ext
  intro m
  rw [lq_iff, Nat.le_min, lq_iff]
  refine ⟨fun h => ⟨⟨h.1, fun k hk hx hp => h.2 k hk hx (by omega)⟩, h.2 _ (jOr_b i hi) hx (by rw [(jPs_e i hi).1]; exact Nat.le_refl _)⟩, fun h => ⟨h.1.1, fun k hk hxk hp => ?_⟩⟩
  by_cases e : jPs k = i
  · have : k = jOr i := by rw [← e, (jPs_e k hk).2.1]
    rw [this]
    exact h.2
  · exact h.1.2 k hk hxk (by omega)
theorem lq_out {i x : Nat} (hi : i < 24) (hx : x ∉ jAh (jOr i)) : lq ln i x = lq ln (i + 1) x := by
  apply nat_ext
  intro m
  rw [lq_iff, lq_iff]
  refine ⟨fun h => ⟨h.1, fun k hk hx hp => h.2 k hk hx (by omega)⟩, fun h => ⟨h.1, fun k hk hxk hp => ?_⟩⟩
  by_cases e : jPs k = i
  · have : k = jOr i := by rw [← e, (jPs_e k hk).2.1]
    rw [this] at hxk
    exact absurd hxk hx
  · exact h.2 k hk hxk (by omega)
end LQ
def eaC (ln f : Nat → Nat) (l : List Nat) : Nat → Nat → Nat → Nat
  | 0, _, x => x
  | n + 1, t, x => eaC ln f l n (t + 1) (max x (f (l.getD t 0) + ln (l.getD t 0)))
theorem eaC_f {ln f : Nat → Nat} {l : List Nat} : ∀ (n t x : Nat), t + n = l.length → eaC ln f l n t x = (l.drop t).foldl (fun m i => max m (f i + ln i)) x
  | 0, t, x, h => by
    rw [List.drop_of_length_le (by omega)]; rfl
  | n + 1, t, x, h => by
    have ht : t < l.length := by omega
    rw [List.drop_eq_getElem_cons ht]
    show eaC ln f l n (t + 1) (max x (f (l.getD t 0) + ln (l.getD t 0))) = (l.drop (t + 1)).foldl _ (max x (f l[t] + ln l[t]))
    rw [eaC_f n (t + 1) _ (by omega), List.getD_eq_getElem?_getD, List.getElem?_eq_getElem ht]
    rfl
theorem eaC_e {ln : Nat → Nat} {j : Nat} (hj : j < 24) : eaC ln (ea ln) (jAh j) (jAh j).length 0 0 = ea ln j := by
  rw [eaC_f _ _ _ (Nat.zero_add _), ea_e hj, List.drop_zero]
