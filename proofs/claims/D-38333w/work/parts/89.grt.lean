set_option maxRecDepth 4000
/-! ===== the greatest of stresses: as the reference looks for it (plain Lean) ===== -/
def NP (st : Nat → UInt64) : Prop := ∀ c, c < 6 → isN (st c) ∧ Ps (st c)
theorem wsL_sp {st : Nat → UInt64} (h : NP st) : ∀ (n k w : Nat), k + n = 6 → w < k → (∀ c, c < k → mg (st c) ≤ mg (st w)) → (∀ c, c < w → mg (st c) < mg (st w)) →
    (∀ c, c < 6 → mg (st c) ≤ mg (st (wsL st n k w))) ∧ (∀ c, c < wsL st n k w → mg (st c) < mg (st (wsL st n k w)))
  | 0, k, w, hk, hw, h1, h2 => by
    have e : k = 6 := by omega
    subst e
    exact ⟨h1, h2⟩
  | n + 1, k, w, hk, hw, h1, h2 => by
    unfold wsL
    have a := h k (by omega)
    have b := h w (by omega)
    have hc := cL_le a.1 a.2 b.1 b.2
    by_cases c : dCmL (st k) (st w) ≤ 0
    · rw [if_pos c]
      have hle := hc.mp c
      refine wsL_sp h n (k + 1) w (by omega) (by omega) (fun d hd => ?_) h2
      by_cases e : d = k
      · subst e; exact hle
      · exact h1 d (by omega)
    · rw [if_neg c]
      have hlt : mg (st w) < mg (st k) := by
        apply Classical.byContradiction
        intro h9
        exact c (hc.mpr (by omega))
      refine wsL_sp h n (k + 1) k (by omega) (by omega) (fun d hd => ?_) (fun d hd => Nat.lt_of_le_of_lt (h1 d hd) hlt)
      by_cases e : d = k
      · subst e; exact Nat.le_refl _
      · exact Nat.le_of_lt (Nat.lt_of_le_of_lt (h1 d (by omega)) hlt)
theorem worst_sp {st : Nat → UInt64} (h : NP st) : (∀ c, c < 6 → mg (st c) ≤ mg (st (worstOf st))) ∧ (∀ c, c < worstOf st → mg (st c) < mg (st (worstOf st))) :=
  wsL_sp h 5 1 0 rfl (by decide) (fun c hc => by have : c = 0 := (by omega); rw [this]; exact Nat.le_refl _) (fun c hc => absurd hc (Nat.not_lt_zero c))
noncomputable def gmL (st : Nat → UInt64) : Nat → Nat → UInt64 → UInt64
  | 0, _, x => x
  | n + 1, k, x => gmL st n (k + 1) (dMax x (st k))
theorem gmL_sp {st : Nat → UInt64} (h : NP st) : ∀ (n k : Nat) (x : UInt64), k + n = 6 → isN x → Ps x → (∀ c, c < k → mg (st c) ≤ mg x) → (mg x = 0 ∨ ∃ c, c < k ∧ x = st c) → gmL st n k x = st (worstOf st)
  | 0, k, x, hk, nx, px, h1, h2 => by
    have e : k = 6 := by omega
    subst e
    have w := worst_sp h
    have hw := worst_lt (f := st)
    show x = _
    have hx := h1 _ hw
    rcases h2 with h2 | ⟨c, hc, h2⟩
    · exact mg_inj px.h (h _ hw).2.h (by omega)
    · have := w.1 c hc
      rw [← h2] at this
      exact mg_inj px.h (h _ hw).2.h (by omega)
  | n + 1, k, x, hk, nx, px, h1, h2 => by
    have a := h k (by omega)
    have hm := dMax_mg nx px.h a.1 a.2.h
    show gmL st n (k + 1) (dMax x (st k)) = _
    rw [hm]
    by_cases c : mg x < mg (st k)
    · rw [if_pos c]
      refine gmL_sp h n (k + 1) (st k) (by omega) a.1 a.2 (fun d hd => ?_) (Or.inr ⟨k, Nat.lt_succ_self _, rfl⟩)
      by_cases e : d = k
      · subst e; exact Nat.le_refl _
      · have := h1 d (by omega); omega
    · rw [if_neg c]
      refine gmL_sp h n (k + 1) x (by omega) nx px (fun d hd => ?_) (h2.imp id (fun ⟨c, hc, e⟩ => ⟨c, by omega, e⟩))
      by_cases e : d = k
      · subst e; omega
      · exact h1 d (by omega)
theorem gm_eq {st : Nat → UInt64} (h : NP st) : gmL st 6 0 FP.dconst0 = st (worstOf st) :=
  gmL_sp h 6 0 FP.dconst0 rfl (isN_of bd_c0 (by decide)) ps_c0 (fun c hc => absurd hc (Nat.not_lt_zero c)) (Or.inl (by decide))
/-- the smallest number with the stress W: n from the k-th on -/
noncomputable def wkL (st : Nat → UInt64) (W : UInt64) : Nat → Nat → Option Nat → Option Nat
  | 0, _, b => b
  | n + 1, k, b => wkL st W n (k + 1) (if dCmL (st k) W = 0 then (match b with | none => some k | some x => if k < x then some k else some x) else b)
def omin (b : Option Nat) (k : Nat) : Option Nat := match b with | none => some k | some x => some (min x k)
theorem wkL_no {st : Nat → UInt64} {W : UInt64} : ∀ (n k : Nat) (b : Option Nat), (∀ c, k ≤ c → c < k + n → ¬ dCmL (st c) W = 0) → wkL st W n k b = b
  | 0, _, _, _ => rfl
  | n + 1, k, b, h => by
    unfold wkL
    rw [if_neg (h k (Nat.le_refl _) (by omega))]
    exact wkL_no n (k + 1) b (fun c h1 h2 => h c (by omega) (by omega))
theorem wkL_ge {st : Nat → UInt64} {W : UInt64} : ∀ (n k x : Nat), x ≤ k → wkL st W n k (some x) = some x
  | 0, _, _, _ => rfl
  | n + 1, k, x, h => by
    unfold wkL
    have : (if dCmL (st k) W = 0 then (match some x with | none => some k | some x => if k < x then some k else some x) else some x) = some x := by
      split
      · show (if k < x then some k else some x) = some x
        rw [if_neg (by omega)]
      · rfl
    rw [this]
    exact wkL_ge n (k + 1) x (by omega)
/-- the first with the stress W is at f -/
theorem wkL_at {st : Nat → UInt64} {W : UInt64} {f : Nat} (hf : dCmL (st f) W = 0) : ∀ (n k : Nat) (b : Option Nat), k ≤ f → f < k + n → (∀ c, c < f → ¬ dCmL (st c) W = 0) → wkL st W n k b = omin b f
  | 0, k, _, h1, h2, _ => absurd h2 (by omega)
  | n + 1, k, b, h1, h2, h3 => by
    unfold wkL
    by_cases e : k = f
    · subst e
      rw [if_pos hf]
      cases b with
      | none => exact wkL_ge n (k + 1) k (by omega)
      | some x =>
        show wkL st W n (k + 1) (if k < x then some k else some x) = some (min x k)
        by_cases c : k < x
        · rw [if_pos c, wkL_ge n (k + 1) k (by omega), Nat.min_eq_right (by omega)]
        · rw [if_neg c, wkL_ge n (k + 1) x (by omega), Nat.min_eq_left (by omega)]
    · rw [if_neg (h3 k (by omega))]
      exact wkL_at hf n (k + 1) b (by omega) (by omega) h3
theorem wk_sea {st : Nat → UInt64} (h : NP st) {W : UInt64} (nW : isN W) (pW : Ps W) (hW : mg (st (worstOf st)) ≤ mg W) (b : Option Nat) : wkL st W 6 0 b = if st (worstOf st) = W then omin b (worstOf st) else b := by
  have w := worst_sp h
  have hw := worst_lt (f := st)
  by_cases e : st (worstOf st) = W
  · rw [if_pos e]
    refine wkL_at ?_ 6 0 b (Nat.zero_le _) hw (fun c hc => ?_)
    · exact (cL_eq (h _ hw).1 (h _ hw).2 nW pW).mpr e
    · intro h9
      have h8 := (cL_eq (h c (by omega)).1 (h c (by omega)).2 nW pW).mp h9
      have := w.2 c hc
      rw [h8, e] at this
      omega
  · rw [if_neg e]
    refine wkL_no 6 0 b (fun c _ hc h9 => ?_)
    have h8 := (cL_eq (h c (by omega)).1 (h c (by omega)).2 nW pW).mp h9
    have h7 := w.1 c (by omega)
    rw [h8] at h7
    exact e (mg_inj (h _ hw).2.h pW.h (by omega))
/-- the first with the stress W -/
noncomputable def hdL (st : Nat → UInt64) (W : UInt64) : Nat → Nat → Option Nat
  | 0, _ => none
  | n + 1, k => if dCmL (st k) W = 0 then some k else hdL st W n (k + 1)
theorem hdL_no {st : Nat → UInt64} {W : UInt64} : ∀ (n k : Nat), (∀ c, k ≤ c → c < k + n → ¬ dCmL (st c) W = 0) → hdL st W n k = none
  | 0, _, _ => rfl
  | n + 1, k, h => by
    unfold hdL
    rw [if_neg (h k (Nat.le_refl _) (by omega))]
    exact hdL_no n (k + 1) (fun c h1 h2 => h c (by omega) (by omega))
theorem hdL_at {st : Nat → UInt64} {W : UInt64} {f : Nat} (hf : dCmL (st f) W = 0) : ∀ (n k : Nat), k ≤ f → f < k + n → (∀ c, c < f → ¬ dCmL (st c) W = 0) → hdL st W n k = some f
  | 0, k, h1, h2, _ => absurd h2 (by omega)
  | n + 1, k, h1, h2, h3 => by
    unfold hdL
    by_cases e : k = f
    · subst e; rw [if_pos hf]
    · rw [if_neg (h3 k (by omega))]
      exact hdL_at hf n (k + 1) (by omega) (by omega) h3
theorem hd_sea {st : Nat → UInt64} (h : NP st) {W : UInt64} (nW : isN W) (pW : Ps W) (hW : mg (st (worstOf st)) ≤ mg W) : hdL st W 6 0 = if st (worstOf st) = W then some (worstOf st) else none := by
  have w := worst_sp h
  have hw := worst_lt (f := st)
  by_cases e : st (worstOf st) = W
  · rw [if_pos e]
    refine hdL_at ?_ 6 0 (Nat.zero_le _) hw (fun c hc => ?_)
    · exact (cL_eq (h _ hw).1 (h _ hw).2 nW pW).mpr e
    · intro h9
      have h8 := (cL_eq (h c (by omega)).1 (h c (by omega)).2 nW pW).mp h9
      have := w.2 c hc
      rw [h8, e] at this
      omega
  · rw [if_neg e]
    refine hdL_no 6 0 (fun c _ hc h9 => ?_)
    have h8 := (cL_eq (h c (by omega)).1 (h c (by omega)).2 nW pW).mp h9
    have h7 := w.1 c (by omega)
    rw [h8] at h7
    exact e (mg_inj (h _ hw).2.h pW.h (by omega))
/-- three seas -/
abbrev V3 (v0 v1 v2 : UInt64) (w0 w1 w2 : Nat) (m : UInt64 × Nat × Nat) : Prop := (isN m.1) ∧ (Ps m.1) ∧ (mg v0 ≤ mg m.1) ∧ (mg v1 ≤ mg m.1) ∧ (mg v2 ≤ mg m.1) ∧ (m.1 = dMax v0 (dMax v1 v2)) ∧ ((if v0 = m.1 then some w0 else if v1 = m.1 then some w1 else if v2 = m.1 then some w2 else none) = some m.2.1) ∧ ((if v2 = m.1 then omin (if v1 = m.1 then omin (if v0 = m.1 then omin none w0 else none) w1 else (if v0 = m.1 then omin none w0 else none)) w2 else (if v1 = m.1 then omin (if v0 = m.1 then omin none w0 else none) w1 else (if v0 = m.1 then omin none w0 else none))) = some m.2.2)
theorem V3.n {v0 v1 v2 : UInt64} {w0 w1 w2 : Nat} {m : UInt64 × Nat × Nat} (self_ : V3 v0 v1 v2 w0 w1 w2 m) : isN m.1 := self_.1
theorem V3.p {v0 v1 v2 : UInt64} {w0 w1 w2 : Nat} {m : UInt64 × Nat × Nat} (self_ : V3 v0 v1 v2 w0 w1 w2 m) : Ps m.1 := self_.2.1
theorem V3.l0 {v0 v1 v2 : UInt64} {w0 w1 w2 : Nat} {m : UInt64 × Nat × Nat} (self_ : V3 v0 v1 v2 w0 w1 w2 m) : mg v0 ≤ mg m.1 := self_.2.2.1
theorem V3.l1 {v0 v1 v2 : UInt64} {w0 w1 w2 : Nat} {m : UInt64 × Nat × Nat} (self_ : V3 v0 v1 v2 w0 w1 w2 m) : mg v1 ≤ mg m.1 := self_.2.2.2.1
theorem V3.l2 {v0 v1 v2 : UInt64} {w0 w1 w2 : Nat} {m : UInt64 × Nat × Nat} (self_ : V3 v0 v1 v2 w0 w1 w2 m) : mg v2 ≤ mg m.1 := self_.2.2.2.2.1
theorem V3.x {v0 v1 v2 : UInt64} {w0 w1 w2 : Nat} {m : UInt64 × Nat × Nat} (self_ : V3 v0 v1 v2 w0 w1 w2 m) : m.1 = dMax v0 (dMax v1 v2) := self_.2.2.2.2.2.1
theorem V3.s {v0 v1 v2 : UInt64} {w0 w1 w2 : Nat} {m : UInt64 × Nat × Nat} (self_ : V3 v0 v1 v2 w0 w1 w2 m) : (if v0 = m.1 then some w0 else if v1 = m.1 then some w1 else if v2 = m.1 then some w2 else none) = some m.2.1 := self_.2.2.2.2.2.2.1
theorem V3.k {v0 v1 v2 : UInt64} {w0 w1 w2 : Nat} {m : UInt64 × Nat × Nat} (self_ : V3 v0 v1 v2 w0 w1 w2 m) : (if v2 = m.1 then omin (if v1 = m.1 then omin (if v0 = m.1 then omin none w0 else none) w1 else (if v0 = m.1 then omin none w0 else none)) w2 else (if v1 = m.1 then omin (if v0 = m.1 then omin none w0 else none) w1 else (if v0 = m.1 then omin none w0 else none))) = some m.2.2 := self_.2.2.2.2.2.2.2
noncomputable def lk1 (v : UInt64) (w : Nat) (m : UInt64 × Nat × Nat) : UInt64 × Nat × Nat := if dCmL v m.1 ≤ 0 then (if dCmL v m.1 = 0 then (m.1, m.2.1, min m.2.2 w) else m) else (v, w, w)
theorem lk1_c {v x : UInt64} (nv : isN v) (pv : Ps v) (nx : isN x) (px : Ps x) (w s k : Nat) : (mg v < mg x ∧ v ≠ x ∧ lk1 v w (x, s, k) = (x, s, k)) ∨ (v = x ∧ lk1 v w (x, s, k) = (x, s, min k w)) ∨ (mg x < mg v ∧ v ≠ x ∧ lk1 v w (x, s, k) = (v, w, w)) := by
  have h1 := cL_le nv pv nx px
  have h2 := cL_eq nv pv nx px
  unfold lk1
  by_cases c1 : v = x
  · right; left
    have e2 := h2.mpr c1
    refine ⟨c1, ?_⟩
    rw [if_pos (h1.mpr (by rw [c1]; exact Nat.le_refl _)), if_pos e2]
  · have hne : mg v ≠ mg x := fun h => c1 (mg_inj pv.h px.h h)
    by_cases c2 : mg v ≤ mg x
    · left
      refine ⟨by omega, c1, ?_⟩
      rw [if_pos (h1.mpr c2), if_neg (fun h => c1 (h2.mp h))]
    · right; right
      refine ⟨by omega, c1, ?_⟩
      rw [if_neg (fun h => c2 (h1.mp h))]
theorem v3_of {v0 v1 v2 : UInt64} {w0 w1 w2 : Nat} (n0 : isN v0) (p0 : Ps v0) (n1 : isN v1) (p1 : Ps v1) (n2 : isN v2) (p2 : Ps v2) : V3 v0 v1 v2 w0 w1 w2 (lk1 v2 w2 (lk1 v1 w1 (v0, w0, w0))) := by
  have d12 := dMax_mg n1 p1.h n2 p2.h
  have d01 := dMax_mg n0 p0.h n1 p1.h
  have d02 := dMax_mg n0 p0.h n2 p2.h
  rcases lk1_c n1 p1 n0 p0 w1 w0 w0 with ⟨a1, a2, a3⟩ | ⟨a1, a3⟩ | ⟨a1, a2, a3⟩
  · rw [a3]
    rcases lk1_c n2 p2 n0 p0 w2 w0 w0 with ⟨b1, b2, b3⟩ | ⟨b1, b3⟩ | ⟨b1, b2, b3⟩
    · rw [b3]
      refine ⟨n0, p0, Nat.le_refl _, Nat.le_of_lt a1, Nat.le_of_lt b1, ?_, if_pos rfl, ?_⟩
      · show v0 = _
        rw [d12]
        split
        · rw [d02, if_neg (by omega)]
        · rw [d01, if_neg (by omega)]
      · show (if v2 = v0 then _ else if v1 = v0 then _ else if v0 = v0 then _ else _) = _
        rw [if_neg b2, if_neg a2, if_pos rfl]; rfl
    · rw [b3]
      subst b1
      refine ⟨n0, p0, Nat.le_refl _, Nat.le_of_lt a1, Nat.le_refl _, ?_, if_pos rfl, ?_⟩
      · show v2 = _
        rw [d12, if_pos a1, d02, if_neg (by omega)]
      · show (if v2 = v2 then omin (if v1 = v2 then _ else if v2 = v2 then omin none w0 else _) w2 else _) = some (min w0 w2)
        rw [if_pos rfl, if_neg a2, if_pos rfl]; rfl
    · rw [b3]
      refine ⟨n2, p2, Nat.le_of_lt b1, by show mg v1 ≤ mg v2; omega, Nat.le_refl _, ?_, ?_, ?_⟩
      · show v2 = _
        rw [d12, if_pos (by omega), d02, if_pos b1]
      · show (if v0 = v2 then _ else if v1 = v2 then _ else if v2 = v2 then some w2 else none) = _
        rw [if_neg (fun h => b2 h.symm), if_neg (fun h => by rw [h] at a1; omega), if_pos rfl]
      · show (if v2 = v2 then omin (if v1 = v2 then _ else if v0 = v2 then _ else none) w2 else _) = some w2
        rw [if_pos rfl, if_neg (fun h => by rw [h] at a1; omega), if_neg (fun h => b2 h.symm)]; rfl
  · rw [a3]
    subst a1
    rcases lk1_c n2 p2 n1 p1 w2 w0 (min w0 w1) with ⟨b1, b2, b3⟩ | ⟨b1, b3⟩ | ⟨b1, b2, b3⟩
    · rw [b3]
      refine ⟨n1, p1, Nat.le_refl _, Nat.le_refl _, Nat.le_of_lt b1, ?_, if_pos rfl, ?_⟩
      · show v1 = _
        rw [d12, if_neg (by omega), d01, if_neg (by omega)]
      · show (if v2 = v1 then _ else if v1 = v1 then omin (if v1 = v1 then omin none w0 else none) w1 else _) = some (min w0 w1)
        rw [if_neg b2, if_pos rfl, if_pos rfl]; rfl
    · rw [b3]
      subst b1
      refine ⟨n2, p2, Nat.le_refl _, Nat.le_refl _, Nat.le_refl _, ?_, if_pos rfl, ?_⟩
      · show v2 = _
        rw [d12, if_neg (by omega), d02, if_neg (by omega)]
      · show (if v2 = v2 then omin (if v2 = v2 then omin (if v2 = v2 then omin none w0 else none) w1 else _) w2 else _) = some (min (min w0 w1) w2)
        rw [if_pos rfl, if_pos rfl, if_pos rfl]; rfl
    · rw [b3]
      refine ⟨n2, p2, Nat.le_of_lt b1, Nat.le_of_lt b1, Nat.le_refl _, ?_, ?_, ?_⟩
      · show v2 = _
        rw [d12, if_pos b1, d02, if_pos b1]
      · show (if v1 = v2 then _ else if v1 = v2 then _ else if v2 = v2 then some w2 else none) = _
        rw [if_neg (fun h => b2 h.symm), if_neg (fun h => b2 h.symm), if_pos rfl]
      · show (if v2 = v2 then omin (if v1 = v2 then _ else if v1 = v2 then _ else none) w2 else _) = some w2
        rw [if_pos rfl, if_neg (fun h => b2 h.symm), if_neg (fun h => b2 h.symm)]; rfl
  · rw [a3]
    rcases lk1_c n2 p2 n1 p1 w2 w1 w1 with ⟨b1, b2, b3⟩ | ⟨b1, b3⟩ | ⟨b1, b2, b3⟩
    · rw [b3]
      refine ⟨n1, p1, Nat.le_of_lt a1, Nat.le_refl _, Nat.le_of_lt b1, ?_, ?_, ?_⟩
      · show v1 = _
        rw [d12, if_neg (by omega), d01, if_pos a1]
      · show (if v0 = v1 then _ else if v1 = v1 then some w1 else _) = _
        rw [if_neg (fun h => a2 h.symm), if_pos rfl]
      · show (if v2 = v1 then _ else if v1 = v1 then omin (if v0 = v1 then _ else none) w1 else _) = some w1
        rw [if_neg b2, if_pos rfl, if_neg (fun h => a2 h.symm)]; rfl
    · rw [b3]
      subst b1
      refine ⟨n2, p2, Nat.le_of_lt a1, Nat.le_refl _, Nat.le_refl _, ?_, ?_, ?_⟩
      · show v2 = _
        rw [d12, if_neg (by omega), d02, if_pos a1]
      · show (if v0 = v2 then _ else if v2 = v2 then some w1 else _) = _
        rw [if_neg (fun h => a2 h.symm), if_pos rfl]
      · show (if v2 = v2 then omin (if v2 = v2 then omin (if v0 = v2 then _ else none) w1 else _) w2 else _) = some (min w1 w2)
        rw [if_pos rfl, if_pos rfl, if_neg (fun h => a2 h.symm)]; rfl
    · rw [b3]
      refine ⟨n2, p2, by show mg v0 ≤ mg v2; omega, Nat.le_of_lt b1, Nat.le_refl _, ?_, ?_, ?_⟩
      · show v2 = _
        rw [d12, if_pos b1, d02, if_pos (by omega)]
      · show (if v0 = v2 then _ else if v1 = v2 then _ else if v2 = v2 then some w2 else none) = _
        rw [if_neg (fun h => by rw [h] at a1; omega), if_neg (fun h => b2 h.symm), if_pos rfl]
      · show (if v2 = v2 then omin (if v1 = v2 then _ else if v0 = v2 then _ else none) w2 else _) = some w2
        rw [if_pos rfl, if_neg (fun h => b2 h.symm), if_neg (fun h => by rw [h] at a1; omega)]; rfl
noncomputable def Sh.vS (S : Sh) (p : Bool) (s : Nat) : UInt64 := S.str p s (worstOf (S.str p s))
noncomputable def Sh.wS (S : Sh) (p : Bool) (s : Nat) : Nat := worstOf (S.str p s)
theorem str_NP {S : Sh} {p : Bool} {s : Nat} (iS : SI S) : NP (S.str p s) := fun c hc => ⟨str_N iS hc, ps_str iS hc⟩
theorem vS_N {S : Sh} {p : Bool} {s : Nat} (iS : SI S) : isN (S.vS p s) ∧ Ps (S.vS p s) := str_NP iS _ worst_lt
theorem look_v3 {S : Sh} {p : Bool} (iS : SI S) : V3 (S.vS p 0) (S.vS p 1) (S.vS p 2) (S.wS p 0) (S.wS p 1) (S.wS p 2) (S.look p 0) :=
  v3_of (vS_N iS).1 (vS_N iS).2 (vS_N iS).1 (vS_N iS).2 (vS_N iS).1 (vS_N iS).2
theorem look_1 {S : Sh} {p : Bool} (iS : SI S) : (S.look p 1).1 = dMax (S.vS p 1) (S.vS p 2) := by
  have d := dMax_mg (vS_N (S := S) (p := p) (s := 1) iS).1 (vS_N (S := S) (p := p) (s := 1) iS).2.h (vS_N (S := S) (p := p) (s := 2) iS).1 (vS_N (S := S) (p := p) (s := 2) iS).2.h
  rw [d]
  show (lk1 (S.vS p 2) (S.wS p 2) (S.vS p 1, S.wS p 1, S.wS p 1)).1 = _
  rcases lk1_c (vS_N (S := S) (p := p) (s := 2) iS).1 (vS_N (S := S) (p := p) (s := 2) iS).2 (vS_N (S := S) (p := p) (s := 1) iS).1 (vS_N (S := S) (p := p) (s := 1) iS).2 (S.wS p 2) (S.wS p 1) (S.wS p 1) with ⟨b1, b2, b3⟩ | ⟨b1, b3⟩ | ⟨b1, b2, b3⟩
  · rw [b3, if_neg (by omega)]
  · rw [b3, if_neg (by rw [b1]; exact Nat.lt_irrefl _)]
  · rw [b3, if_pos b1]
