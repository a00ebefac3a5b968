set_option maxRecDepth 4000
/-! ===== the reference's search: earliest labels; how often it may be done ===== -/
section LAB
variable {n : Nat} {fr to_ wd : Nat → Nat} {ok : Nat → Bool} {f f' : Nat → Nat} {T T' : Nat → Bool} {pk pk' : Nat → Nat} {al al' : Nat → Bool} {dep dep' τ τ' : Nat → Nat}
theorem b_ne {a b : Bool} (h : a ≠ b) : a = !b := by
  cases a <;> cases b
  · exact absurd rfl h
  · rfl
  · rfl
  · exact absurd rfl h
def hdP (fr to_ : Nat → Nat) (a : Bool) (k : Nat) : Nat := if a then to_ k else fr k
def tlP (fr to_ : Nat → Nat) (a : Bool) (k : Nat) : Nat := if a then fr k else to_ k
def rsP (wd f : Nat → Nat) (a : Bool) (k : Nat) : Nat := if a then wd k - f k else f k
theorem hdP_n (a : Bool) (k : Nat) : hdP fr to_ (!a) k = tlP fr to_ a k := by
  cases a <;> rfl
theorem tlP_n (a : Bool) (k : Nat) : tlP fr to_ (!a) k = hdP fr to_ a k := by
  cases a <;> rfl
/-- after s steps of the search -/
abbrev Lab (n : Nat) (fr to_ wd : Nat → Nat) (ok : Nat → Bool) (f : Nat → Nat) (T : Nat → Bool) (pk : Nat → Nat) (al : Nat → Bool) (dep τ : Nat → Nat) (s : Nat) : Prop := (Tr n fr to_ wd ok f T pk al dep) ∧ (τ 0 = 0) ∧ (∀ v, v < 8 → v ≠ 0 → T v = true → 1 ≤ τ v ∧ (τ v - 1) % n = pk v ∧ τ (tlP fr to_ (al v) (pk v)) < τ v ∧ τ v ≤ s) ∧ (∀ t, t < s → ∀ a, ok (t % n) = true → T (tlP fr to_ a (t % n)) = true → τ (tlP fr to_ a (t % n)) ≤ t → 1 ≤ rsP wd f a (t % n) → T (hdP fr to_ a (t % n)) = true ∧ τ (hdP fr to_ a (t % n)) ≤ t + 1) ∧ (∀ v, v < 8 → T v = true → dep v + 1 ≤ cntT T)
theorem Lab.tr {n : Nat} {fr to_ wd : Nat → Nat} {ok : Nat → Bool} {f : Nat → Nat} {T : Nat → Bool} {pk : Nat → Nat} {al : Nat → Bool} {dep τ : Nat → Nat} {s : Nat} (self_ : Lab n fr to_ wd ok f T pk al dep τ s) : Tr n fr to_ wd ok f T pk al dep := self_.1
theorem Lab.t0 {n : Nat} {fr to_ wd : Nat → Nat} {ok : Nat → Bool} {f : Nat → Nat} {T : Nat → Bool} {pk : Nat → Nat} {al : Nat → Bool} {dep τ : Nat → Nat} {s : Nat} (self_ : Lab n fr to_ wd ok f T pk al dep τ s) : τ 0 = 0 := self_.2.1
theorem Lab.p {n : Nat} {fr to_ wd : Nat → Nat} {ok : Nat → Bool} {f : Nat → Nat} {T : Nat → Bool} {pk : Nat → Nat} {al : Nat → Bool} {dep τ : Nat → Nat} {s : Nat} (self_ : Lab n fr to_ wd ok f T pk al dep τ s) : ∀ v, v < 8 → v ≠ 0 → T v = true → 1 ≤ τ v ∧ (τ v - 1) % n = pk v ∧ τ (tlP fr to_ (al v) (pk v)) < τ v ∧ τ v ≤ s := self_.2.2.1
theorem Lab.c {n : Nat} {fr to_ wd : Nat → Nat} {ok : Nat → Bool} {f : Nat → Nat} {T : Nat → Bool} {pk : Nat → Nat} {al : Nat → Bool} {dep τ : Nat → Nat} {s : Nat} (self_ : Lab n fr to_ wd ok f T pk al dep τ s) : ∀ t, t < s → ∀ a, ok (t % n) = true → T (tlP fr to_ a (t % n)) = true → τ (tlP fr to_ a (t % n)) ≤ t → 1 ≤ rsP wd f a (t % n) → T (hdP fr to_ a (t % n)) = true ∧ τ (hdP fr to_ a (t % n)) ≤ t + 1 := self_.2.2.2.1
theorem Lab.dn {n : Nat} {fr to_ wd : Nat → Nat} {ok : Nat → Bool} {f : Nat → Nat} {T : Nat → Bool} {pk : Nat → Nat} {al : Nat → Bool} {dep τ : Nat → Nat} {s : Nat} (self_ : Lab n fr to_ wd ok f T pk al dep τ s) : ∀ v, v < 8 → T v = true → dep v + 1 ≤ cntT T := self_.2.2.2.2
variable {s : Nat}
theorem Lab.u (L : Lab n fr to_ wd ok f T pk al dep τ s) (h8 : ∀ k, k < n → fr k < 8 ∧ to_ k < 8) {v : Nat} (hv : v < 8) (h0 : v ≠ 0) (ht : T v = true) : pk v < n ∧ ok (pk v) = true ∧ tlP fr to_ (al v) (pk v) < 8 ∧ T (tlP fr to_ (al v) (pk v)) = true ∧ 1 ≤ rsP wd f (al v) (pk v) ∧ dep v = dep (tlP fr to_ (al v) (pk v)) + 1 ∧ v = hdP fr to_ (al v) (pk v) := L.tr.u h8 hv h0 ht
/-- nothing new at a step -/
theorem Lab.skip (L : Lab n fr to_ wd ok f T pk al dep τ s) (h : ∀ a, ok (s % n) = true → T (tlP fr to_ a (s % n)) = true → 1 ≤ rsP wd f a (s % n) → T (hdP fr to_ a (s % n)) = true) (h8 : ∀ k, k < n → fr k < 8 ∧ to_ k < 8) (hn : 0 < n) : Lab n fr to_ wd ok f T pk al dep τ (s + 1) := by
  have hk : s % n < n := Nat.mod_lt _ hn
  refine ⟨L.tr, L.t0, fun v hv h0 ht => ?_, fun t ht a ho hT hτ hr => ?_, L.dn⟩
  · obtain ⟨a, b, c, d⟩ := L.p v hv h0 ht
    exact ⟨a, b, c, by omega⟩
  · by_cases e : t = s
    · subst e
      have h1 := h a ho hT hr
      refine ⟨h1, ?_⟩
      have hh : hdP fr to_ a (t % n) < 8 := by
        have := h8 _ hk
        unfold hdP; split <;> omega
      by_cases z : hdP fr to_ a (t % n) = 0
      · rw [z, L.t0]; omega
      · have := (L.p _ hh z h1).2.2.2
        omega
    · exact L.c t (by omega) a ho hT hτ hr
/-- a new label -/
theorem Lab.new (L : Lab n fr to_ wd ok f T pk al dep τ s) {a : Bool} (hn : 0 < n) (h8 : ∀ k, k < n → fr k < 8 ∧ to_ k < 8) (ho : ok (s % n) = true) (hT : T (tlP fr to_ a (s % n)) = true) (hr : 1 ≤ rsP wd f a (s % n)) (hx : T (hdP fr to_ a (s % n)) = false) :
    Lab n fr to_ wd ok f (setT T (hdP fr to_ a (s % n))) (updN pk (hdP fr to_ a (s % n)) (s % n)) (updB al (hdP fr to_ a (s % n)) a) (updN dep (hdP fr to_ a (s % n)) (dep (tlP fr to_ a (s % n)) + 1)) (updN τ (hdP fr to_ a (s % n)) (s + 1)) (s + 1) := by
  have hk : s % n < n := Nat.mod_lt _ hn
  obtain ⟨k, hkd⟩ : ∃ k, k = s % n := ⟨_, rfl⟩
  rw [← hkd] at ho hT hr hx hk ⊢
  have h88 := h8 k hk
  have hx8 : hdP fr to_ a k < 8 := by unfold hdP; split <;> omega
  have ht8 : tlP fr to_ a k < 8 := by unfold tlP; split <;> omega
  obtain ⟨x, hxd⟩ : ∃ x, x = hdP fr to_ a k := ⟨_, rfl⟩
  have x0 : x ≠ 0 := fun e => by rw [← hxd, e, L.tr.z] at hx; cases hx
  have htx : tlP fr to_ a k ≠ x := fun e => by rw [← hxd] at hx; rw [e, hx] at hT; cases hT
  have hcnt := cnt_set (T := T) (v := x) (by omega) (by rw [hxd]; exact hx)
  have hR := L.tr.add (k := k) (a := a) hx hk ho rfl hT (by
    unfold rsP at hr
    cases a
    · simp only [Bool.false_eq_true, if_false] at hr ⊢; omega
    · simp only [if_true] at hr ⊢; omega)
  refine ⟨hR, ?_, fun v hv h0 ht => ?_, fun t ht a' ho' hT' hτ' hr' => ?_, fun v hv ht => ?_⟩
  · unfold updN; rw [if_neg (by rw [← hxd]; exact Ne.symm x0)]; exact L.t0
  · rw [← hxd] at ht ⊢
    unfold setT at ht
    unfold updN updB
    by_cases e : v = x
    · subst e
      simp only [if_true]
      rw [if_neg htx]
      refine ⟨by omega, by rw [show s + 1 - 1 = s by omega]; exact hkd.symm, ?_, Nat.le_refl _⟩
      by_cases z : tlP fr to_ a k = 0
      · rw [z, L.t0]; omega
      · have := (L.p _ ht8 z hT).2.2.2
        omega
    · rw [if_neg e] at ht
      rw [if_neg e, if_neg e, if_neg e]
      obtain ⟨q1, q2, q3, q4⟩ := L.p v hv h0 ht
      have hu := (L.u h8 hv h0 ht).2.2.2.1
      have hne : tlP fr to_ (al v) (pk v) ≠ x := fun e9 => by rw [← hxd] at hx; rw [e9, hx] at hu; cases hu
      rw [if_neg hne]
      exact ⟨q1, q2, q3, by omega⟩
  · rw [← hxd] at hT' hτ' ⊢
    unfold setT at hT' ⊢
    unfold updN at hτ' ⊢
    by_cases e1 : tlP fr to_ a' (t % n) = x
    · rw [if_pos e1] at hτ'
      omega
    · rw [if_neg e1] at hT' hτ'
      by_cases e2 : hdP fr to_ a' (t % n) = x
      · rw [if_pos e2, if_pos e2]
        refine ⟨rfl, ?_⟩
        by_cases e3 : t = s
        · omega
        · have := (L.c t (by omega) a' ho' hT' hτ' hr').1
          rw [e2, hxd, hx] at this
          cases this
      · rw [if_neg e2, if_neg e2]
        by_cases e3 : t = s
        · subst e3
          rw [← hkd] at e1 e2 hT' ⊢
          exfalso
          by_cases e4 : a' = a
          · exact e2 (by rw [e4, hxd])
          · have : a' = !a := b_ne e4
            exact e1 (by rw [this, tlP_n, hxd])
        · exact L.c t (by omega) a' ho' hT' hτ' hr'
  · rw [← hxd] at ht ⊢
    unfold setT at ht
    unfold updN
    rw [show cntT (setT T x) = cntT T + 1 from hcnt.1]
    by_cases e : v = x
    · rw [if_pos e]
      have := L.dn _ ht8 hT
      omega
    · rw [if_neg e] at ht
      rw [if_neg e]
      have := L.dn v hv ht
      omega
theorem nx_ex (hn : 0 < n) {k : Nat} (hk : k < n) (s : Nat) : ∃ t, s ≤ t ∧ t < s + n ∧ t % n = k := by
  have h1 := Nat.mod_lt s hn
  have h2 := Nat.div_add_mod s n
  by_cases h : s % n ≤ k
  · refine ⟨s - s % n + k, by omega, by omega, ?_⟩
    have : s - s % n = n * (s / n) := by omega
    rw [this, Nat.mul_add_mod, Nat.mod_eq_of_lt hk]
  · refine ⟨s - s % n + n + k, by omega, by omega, ?_⟩
    have : s - s % n + n + k = n * (s / n + 1) + k := by rw [Nat.mul_add]; omega
    rw [this, Nat.mul_add_mod, Nat.mod_eq_of_lt hk]
theorem Lab.d7 (L : Lab n fr to_ wd ok f T pk al dep τ s) {v : Nat} (hv : v < 8) (ht : T v = true) : dep v ≤ 7 := by
  have h1 := L.dn v hv ht
  have h2 : cntT T ≤ 8 := by unfold cntT; (repeat' split) <;> omega
  omega
theorem Lab.dl (L : Lab n fr to_ wd ok f T pk al dep τ s) (h8 : ∀ k, k < n → fr k < 8 ∧ to_ k < 8) : ∀ (d v : Nat), dep v = d → v < 8 → T v = true → τ v ≤ n * d
  | 0, v, hd, hv, ht => by
    have h0 : v = 0 := by
      apply Classical.byContradiction
      intro h0
      have := (L.u h8 hv h0 ht).2.2.2.2.2.1
      omega
    subst h0
    rw [L.t0]; omega
  | d + 1, v, hd, hv, ht => by
    have h0 : v ≠ 0 := fun e => by rw [e, L.tr.d0] at hd; omega
    obtain ⟨r1, r2, r3, r4, r5, r6, r7⟩ := L.u h8 hv h0 ht
    have ih := L.dl h8 d _ (by omega) r3 r4
    obtain ⟨t, t1, t2, t3⟩ := nx_ex (Nat.lt_of_le_of_lt (Nat.zero_le _) r1) r1 (τ (tlP fr to_ (al v) (pk v)))
    obtain ⟨p1, p2, p3, p4⟩ := L.p v hv h0 ht
    rw [Nat.mul_add, Nat.mul_one]
    by_cases e : t < s
    · have := (L.c t e (al v) (by rw [t3]; exact r2) (by rw [t3]; exact r4) (by rw [t3]; exact t1) (by rw [t3]; exact r5)).2
      rw [t3, ← r7] at this
      omega
    · omega
/-- when the search is done no way leads out -/
theorem Lab.cl (L : Lab n fr to_ wd ok f T pk al dep τ (8 * n)) (h8 : ∀ k, k < n → fr k < 8 ∧ to_ k < 8) : Cl n fr to_ wd ok f T := by
  have key : ∀ a k, k < n → ok k = true → T (tlP fr to_ a k) = true → 1 ≤ rsP wd f a k → T (hdP fr to_ a k) = true := by
    intro a k hk ho ht hr
    have h88 := h8 k hk
    have ht8 : tlP fr to_ a k < 8 := by unfold tlP; split <;> omega
    have hd := L.dl h8 _ _ rfl ht8 ht
    have hd7 := L.d7 ht8 ht
    obtain ⟨t, t1, t2, t3⟩ := nx_ex (Nat.lt_of_le_of_lt (Nat.zero_le _) hk) hk (τ (tlP fr to_ a k))
    have hm : n * dep (tlP fr to_ a k) ≤ n * 7 := Nat.mul_le_mul_left n hd7
    have := (L.c t (by omega) a (by rw [t3]; exact ho) (by rw [t3]; exact ht) (by rw [t3]; exact t1) (by rw [t3]; exact hr)).1
    rw [t3] at this
    exact this
  intro k hk ho
  refine ⟨fun h1 h2 => key true k hk ho h1 ?_, fun h1 h2 => key false k hk ho h1 h2⟩
  show 1 ≤ wd k - f k
  omega
/-- the nodes of a way -/
def pth (fr to_ : Nat → Nat) (pk : Nat → Nat) (al : Nat → Bool) : Nat → Nat → Nat → Prop
  | 0, _, _ => False
  | d + 1, v, x => x = v ∨ pth fr to_ pk al d (prv fr to_ pk al v) x
theorem pth_in (R : Tr n fr to_ wd ok f T pk al dep) (h8 : ∀ k, k < n → fr k < 8 ∧ to_ k < 8) : ∀ (d v x : Nat), dep v = d → v < 8 → T v = true → pth fr to_ pk al d v x → x < 8 ∧ x ≠ 0 ∧ T x = true ∧ dep x ≤ d ∧ (x ≠ v → dep x < d)
  | 0, _, _, _, _, _, h => absurd h (fun h => h)
  | d + 1, v, x, hd, hv, ht, h => by
    have h0 : v ≠ 0 := fun e => by rw [e, R.d0] at hd; omega
    obtain ⟨r1, r2, r3, r4, r5, r6, r7⟩ := R.u h8 hv h0 ht
    rcases h with h | h
    · subst h
      exact ⟨hv, h0, ht, by omega, fun h9 => absurd rfl h9⟩
    · obtain ⟨a, b, c, e, -⟩ := pth_in R h8 d _ x (by omega) r3 r4 h
      exact ⟨a, b, c, by omega, fun _ => by omega⟩
theorem psL_off {δ : Nat} : ∀ (d v : Nat) (g : Nat → Nat) (j : Nat), (∀ x, pth fr to_ pk al d v x → pk x ≠ j) → psL fr to_ pk al δ d v g j = g j
  | 0, _, _, _, _ => rfl
  | d + 1, v, g, j, h => by
    show psL fr to_ pk al δ d (prv fr to_ pk al v) (psU pk al δ v g) j = g j
    rw [psL_off d _ _ j (fun x hx => h x (Or.inr hx))]
    unfold psU
    rw [if_neg (fun e => h v (Or.inl rfl) e.symm)]
theorem psL_on (R : Tr n fr to_ wd ok f T pk al dep) (h8 : ∀ k, k < n → fr k < 8 ∧ to_ k < 8) {δ : Nat} : ∀ (d v : Nat) (g : Nat → Nat), dep v = d → v < 8 → T v = true → (∀ x, pth fr to_ pk al d v x → g (pk x) = f (pk x)) → ∀ x, pth fr to_ pk al d v x → psL fr to_ pk al δ d v g (pk x) = if al x then f (pk x) + δ else f (pk x) - δ
  | 0, _, _, _, _, _, _, _, h => absurd h (fun h => h)
  | d + 1, v, g, hd, hv, ht, hg, x, h => by
    have h0 : v ≠ 0 := fun e => by rw [e, R.d0] at hd; omega
    obtain ⟨r1, r2, r3, r4, r5, r6, r7⟩ := R.u h8 hv h0 ht
    have hne : ∀ y, pth fr to_ pk al d (prv fr to_ pk al v) y → pk y ≠ pk v := fun y hy => by
      obtain ⟨y1, y2, y3, y4, -⟩ := pth_in R h8 d _ y (by omega) r3 r4 hy
      exact pk_ne R h8 hv h0 ht y1 y2 y3 (by omega)
    show psL fr to_ pk al δ d (prv fr to_ pk al v) (psU pk al δ v g) (pk x) = _
    rcases h with h | h
    · subst h
      rw [psL_off d _ _ _ hne]
      unfold psU
      rw [if_pos rfl, hg x (Or.inl rfl)]
    · exact psL_on R h8 d _ (psU pk al δ v g) (by omega) r3 r4 (fun y hy => by
        unfold psU
        rw [if_neg (hne y hy)]
        exact hg y (Or.inr hy)) x h
theorem lpL_crit : ∀ (d v m : Nat), lpL fr to_ wd f pk al d v m = m ∨ ∃ x, pth fr to_ pk al d v x ∧ lpL fr to_ wd f pk al d v m = rsd wd f pk al x
  | 0, _, _ => Or.inl rfl
  | d + 1, v, m => by
    show lpL fr to_ wd f pk al d (prv fr to_ pk al v) (min m (rsd wd f pk al v)) = m ∨ ∃ x, pth fr to_ pk al (d + 1) v x ∧ lpL fr to_ wd f pk al d (prv fr to_ pk al v) (min m (rsd wd f pk al v)) = rsd wd f pk al x
    rcases lpL_crit d (prv fr to_ pk al v) (min m (rsd wd f pk al v)) with h | ⟨x, h1, h2⟩
    · rw [h]
      by_cases e : m ≤ rsd wd f pk al v
      · left; omega
      · right
        exact ⟨v, Or.inl rfl, by omega⟩
    · right
      exact ⟨x, Or.inr h1, h2⟩
/-- labels never come sooner after a push -/
theorem Lab.mono (L : Lab n fr to_ wd ok f T pk al dep τ (8 * n)) (L' : Lab n fr to_ wd ok f' T' pk' al' dep' τ' (8 * n)) (h8 : ∀ k, k < n → fr k < 8 ∧ to_ k < 8) (h7 : T 7 = true) {δ : Nat} (hf : f' = psL fr to_ pk al δ (dep 7) 7 f) : ∀ (b v : Nat), τ' v ≤ b → v < 8 → T' v = true → T v = true ∧ τ v ≤ τ' v
  | 0, v, hb, hv, ht => by
    have h0 : v = 0 := by
      apply Classical.byContradiction
      intro h0
      have := (L'.p v hv h0 ht).1
      omega
    subst h0
    exact ⟨L.tr.z, by rw [L.t0]; omega⟩
  | b + 1, v, hb, hv, ht => by
    by_cases h0 : v = 0
    · subst h0
      exact ⟨L.tr.z, by rw [L.t0]; omega⟩
    · obtain ⟨r1, r2, r3, r4, r5, r6, r7⟩ := L'.u h8 hv h0 ht
      obtain ⟨p1, p2, p3, p4⟩ := L'.p v hv h0 ht
      obtain ⟨i1, i2⟩ := L.mono L' h8 h7 hf b _ (by omega) r3 r4
      by_cases hr : 1 ≤ rsP wd f (al' v) (pk' v)
      · have := L.c (τ' v - 1) (by omega) (al' v) (by rw [p2]; exact r2) (by rw [p2]; exact i1) (by rw [p2]; omega) (by rw [p2]; exact hr)
        rw [p2, ← r7] at this
        exact ⟨this.1, by omega⟩
      · -- a new way: back along the way that was pushed
        have hon : ∃ x, pth fr to_ pk al (dep 7) 7 x ∧ pk x = pk' v := by
          apply Classical.byContradiction
          intro hno
          have := psL_off (δ := δ) (dep 7) 7 f (pk' v) (fun x hx e => hno ⟨x, hx, e⟩)
          rw [← hf] at this
          unfold rsP at r5 hr
          rw [this] at r5
          exact hr r5
        obtain ⟨x, hx, hxk⟩ := hon
        have hpx := psL_on L.tr h8 (δ := δ) (dep 7) 7 f rfl (by decide) h7 (fun _ _ => rfl) x hx
        rw [← hf] at hpx
        obtain ⟨x1, x2, x3, -, -⟩ := pth_in L.tr h8 (dep 7) 7 x rfl (by decide) h7 hx
        obtain ⟨y1, y2, y3, y4, y5, y6, y7⟩ := L.u h8 x1 x2 x3
        obtain ⟨-, -, z3, -⟩ := L.p x x1 x2 x3
        have hal : al' v = !al x := b_ne (fun this => by
          rw [this, ← hxk] at hr
          exact hr y5)
        have hv' : v = tlP fr to_ (al x) (pk x) := by rw [r7, hal, ← hxk, hdP_n]
        have hu' : x = tlP fr to_ (al' v) (pk' v) := by rw [hal, ← hxk, tlP_n]; exact y7
        refine ⟨by rw [hv']; exact y4, ?_⟩
        rw [← hv'] at z3
        rw [← hu'] at i2 p3
        omega
end LAB
