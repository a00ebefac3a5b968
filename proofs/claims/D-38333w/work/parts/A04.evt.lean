set_option maxRecDepth 4000
/-! ===== how often the reference pushes at most ===== -/
section EVT
variable {n : Nat} {fr to_ wd : Nat → Nat} {ok : Nat → Bool} {f f' : Nat → Nat} {T T' : Nat → Bool} {pk pk' : Nat → Nat} {al al' : Nat → Bool} {dep dep' τ τ' : Nat → Nat}
/-- a pipe at the boiler or at the shaft; the way it is used -/
def incP (fr to_ : Nat → Nat) (k : Nat) : Prop := fr k = 0 ∨ to_ k = 0 ∨ fr k = 7 ∨ to_ k = 7
def outP (fr to_ : Nat → Nat) (k : Nat) : Bool := decide (fr k = 0 ∨ to_ k = 7)
theorem wsum_upd {e : Nat → Nat} {k : Nat} : ∀ n, k < n → wsum (updN e k (e k + 1)) n = wsum e n + 1
  | 0, h => absurd h (Nat.not_lt_zero k)
  | n + 1, h => by
    show wsum (updN e k (e k + 1)) n + updN e k (e k + 1) n = wsum e n + e n + 1
    by_cases c : k = n
    · subst c
      have : ∀ m, m ≤ k → wsum (updN e k (e k + 1)) m = wsum e m := by
        intro m
        induction m with
        | zero => intro _; rfl
        | succ m ih =>
          intro hm
          show wsum (updN e k (e k + 1)) m + updN e k (e k + 1) m = wsum e m + e m
          rw [ih (by omega)]
          unfold updN
          rw [if_neg (by omega)]
      rw [this k (Nat.le_refl _)]
      unfold updN
      rw [if_pos rfl]
      omega
    · rw [wsum_upd n (by omega)]
      unfold updN
      rw [if_neg (fun h9 => c h9.symm)]
      omega
abbrev EvI (n : Nat) (fr to_ wd : Nat → Nat) (ok : Nat → Bool) (f : Nat → Nat) (T : Nat → Bool) (τ e : Nat → Nat) : Prop := (∀ k, k < n → ¬ incP fr to_ k → e k = 0 ∨ (∃ a, rsP wd f a k = 0 ∧ (T (hdP fr to_ a k) = true → n * e k + k + 1 ≤ τ (hdP fr to_ a k) + n)) ∨ ∃ a, (T (tlP fr to_ a k) = true → n * e k + k + 1 ≤ τ (tlP fr to_ a k))) ∧ (∀ k, k < n → incP fr to_ k → e k = 0 ∨ (e k = 1 ∧ rsP wd f (outP fr to_ k) k = 0)) ∧ (∀ k, k < n → ok k = false → e k = 0) ∧ (∀ k, k < n → e k ≤ 6) ∧ (∀ k, k < n → ¬ incP fr to_ k → 1 ≤ e k → ∃ x y, x < n ∧ y < n ∧ x ≠ y ∧ ok x = true ∧ ok y = true ∧ incP fr to_ x ∧ incP fr to_ y)
theorem EvI.mid {n : Nat} {fr to_ wd : Nat → Nat} {ok : Nat → Bool} {f : Nat → Nat} {T : Nat → Bool} {τ e : Nat → Nat} (self_ : EvI n fr to_ wd ok f T τ e) : ∀ k, k < n → ¬ incP fr to_ k → e k = 0 ∨ (∃ a, rsP wd f a k = 0 ∧ (T (hdP fr to_ a k) = true → n * e k + k + 1 ≤ τ (hdP fr to_ a k) + n)) ∨ ∃ a, (T (tlP fr to_ a k) = true → n * e k + k + 1 ≤ τ (tlP fr to_ a k)) := self_.1
theorem EvI.inc {n : Nat} {fr to_ wd : Nat → Nat} {ok : Nat → Bool} {f : Nat → Nat} {T : Nat → Bool} {τ e : Nat → Nat} (self_ : EvI n fr to_ wd ok f T τ e) : ∀ k, k < n → incP fr to_ k → e k = 0 ∨ (e k = 1 ∧ rsP wd f (outP fr to_ k) k = 0) := self_.2.1
theorem EvI.z {n : Nat} {fr to_ wd : Nat → Nat} {ok : Nat → Bool} {f : Nat → Nat} {T : Nat → Bool} {τ e : Nat → Nat} (self_ : EvI n fr to_ wd ok f T τ e) : ∀ k, k < n → ok k = false → e k = 0 := self_.2.2.1
theorem EvI.six {n : Nat} {fr to_ wd : Nat → Nat} {ok : Nat → Bool} {f : Nat → Nat} {T : Nat → Bool} {τ e : Nat → Nat} (self_ : EvI n fr to_ wd ok f T τ e) : ∀ k, k < n → e k ≤ 6 := self_.2.2.2.1
theorem EvI.two {n : Nat} {fr to_ wd : Nat → Nat} {ok : Nat → Bool} {f : Nat → Nat} {T : Nat → Bool} {τ e : Nat → Nat} (self_ : EvI n fr to_ wd ok f T τ e) : ∀ k, k < n → ¬ incP fr to_ k → 1 ≤ e k → ∃ x y, x < n ∧ y < n ∧ x ≠ y ∧ ok x = true ∧ ok y = true ∧ incP fr to_ x ∧ incP fr to_ y := self_.2.2.2.2
theorem EvI.o : EvI n fr to_ wd ok f T τ (fun _ => 0) :=
  ⟨fun _ _ _ => Or.inl rfl, fun _ _ _ => Or.inl rfl, fun _ _ _ => rfl, fun _ _ => Nat.zero_le _, fun _ _ _ h => absurd (show 1 ≤ 0 from h) (by decide)⟩
/-- after t with t % n = k from q n + k + 1 at least, one round later -/
theorem nx_ge {k t e : Nat} (h : t % n = k) (hge : n * e + k + 1 ≤ t + n) : n * e + k ≤ t := by
  have h2 := Nat.div_add_mod t n
  rw [h] at h2
  by_cases hq : e ≤ t / n
  · have := Nat.mul_le_mul_left n hq
    omega
  · have h3 : t / n + 1 ≤ e := by omega
    have := Nat.mul_le_mul_left n h3
    rw [Nat.mul_add, Nat.mul_one] at this
    omega
theorem out_al {k : Nat} {a : Bool} (hne : fr k ≠ to_ k) (hi : incP fr to_ k) (h1 : hdP fr to_ a k ≠ 0) (h2 : tlP fr to_ a k ≠ 7) : a = outP fr to_ k := by
  unfold outP
  unfold incP at hi
  cases a
  · have h1' : fr k ≠ 0 := h1
    have h2' : to_ k ≠ 7 := h2
    exact (decide_eq_false (fun h => by omega)).symm
  · have h1' : to_ k ≠ 0 := h1
    have h2' : fr k ≠ 7 := h2
    exact (decide_eq_true (by omega)).symm
/-- the first node of a way -/
theorem pth_fst (R : Tr n fr to_ wd ok f T pk al dep) (h8 : ∀ k, k < n → fr k < 8 ∧ to_ k < 8) : ∀ (d v : Nat), dep v = d + 1 → v < 8 → T v = true → ∃ x, x < 8 ∧ x ≠ 0 ∧ T x = true ∧ dep x = 1 ∧ tlP fr to_ (al x) (pk x) = 0
  | 0, v, hd, hv, ht => by
    have h0 : v ≠ 0 := fun e => by rw [e, R.d0] at hd; omega
    obtain ⟨r1, r2, r3, r4, r5, r6, r7⟩ := R.u h8 hv h0 ht
    refine ⟨v, hv, h0, ht, hd, ?_⟩
    apply Classical.byContradiction
    intro hz
    have := (R.u h8 r3 hz r4).2.2.2.2.2.1
    omega
  | d + 1, v, hd, hv, ht => by
    have h0 : v ≠ 0 := fun e => by rw [e, R.d0] at hd; omega
    obtain ⟨r1, r2, r3, r4, r5, r6, r7⟩ := R.u h8 hv h0 ht
    exact pth_fst R h8 d _ (by omega) r3 r4
/-- one push more -/
theorem EvI.step {e : Nat → Nat} (E : EvI n fr to_ wd ok f T τ e) (L : Lab n fr to_ wd ok f T pk al dep τ (8 * n)) (L' : Lab n fr to_ wd ok f' T' pk' al' dep' τ' (8 * n)) (h8 : ∀ k, k < n → fr k < 8 ∧ to_ k < 8) (hne : ∀ k, k < n → fr k ≠ to_ k) (hfw : ∀ k, k < n → f k ≤ wd k) (h7 : T 7 = true) {m : Nat} (hm : ∀ k, k < n → wd k < m) (hf : f' = psL fr to_ pk al (lpL fr to_ wd f pk al (dep 7) 7 m) (dep 7) 7 f) :
    ∃ e', EvI n fr to_ wd ok f' T' τ' e' ∧ wsum e' n = wsum e n + 1 := by
  have mono : ∀ v, v < 8 → T' v = true → T v = true ∧ τ v ≤ τ' v := fun v hv ht => L.mono L' h8 h7 hf _ v (Nat.le_refl _) hv ht
  obtain ⟨δ, hδ⟩ : ∃ δ, δ = lpL fr to_ wd f pk al (dep 7) 7 m := ⟨_, rfl⟩
  rw [← hδ] at hf
  have hin := fun x hx => pth_in L.tr h8 (dep 7) 7 x rfl (by decide) h7 hx
  -- the pipe that is filled
  have hcr : ∃ x, pth fr to_ pk al (dep 7) 7 x ∧ δ = rsd wd f pk al x := by
    rcases lpL_crit (fr := fr) (to_ := to_) (wd := wd) (f := f) (pk := pk) (al := al) (dep 7) 7 m with h | ⟨x, h1, h2⟩
    · exfalso
      obtain ⟨r1, -⟩ := L.tr.u h8 (v := 7) (by decide) (by decide) h7
      obtain ⟨d, hd⟩ : ∃ d, dep 7 = d + 1 := ⟨dep 7 - 1, by have := (L.tr.u h8 (v := 7) (by decide) (by decide) h7).2.2.2.2.2.1; omega⟩
      have hfit := lpL_fit (fr := fr) (to_ := to_) (wd := wd) (f := f) (pk := pk) (al := al) (dep 7) 7 m (Nat.le_refl _)
      rw [h, hd] at hfit
      have h1 := hfit.1
      have h2 := hm _ r1
      have h3 := hfw _ r1
      unfold rsd at h1
      split at h1 <;> omega
    · exact ⟨x, h1, by rw [hδ, h2]⟩
  obtain ⟨x0, hx0, hδ0⟩ := hcr
  -- what is known of a node on the way
  have on : ∀ x, pth fr to_ pk al (dep 7) 7 x → x < 8 ∧ x ≠ 0 ∧ T x = true ∧ pk x < n ∧ ok (pk x) = true ∧ tlP fr to_ (al x) (pk x) ≠ 7 ∧ hdP fr to_ (al x) (pk x) = x ∧ T (tlP fr to_ (al x) (pk x)) = true ∧ 1 ≤ rsP wd f (al x) (pk x) ∧ (τ x - 1) % n = pk x ∧ τ (tlP fr to_ (al x) (pk x)) < τ x ∧ (x ≠ 7 → τ x ≤ n * 6) := by
    intro x hx
    obtain ⟨x1, x2, x3, x4, x5⟩ := hin x hx
    obtain ⟨y1, y2, y3, y4, y5, y6, y7⟩ := L.u h8 x1 x2 x3
    obtain ⟨z1, z2, z3, -⟩ := L.p x x1 x2 x3
    refine ⟨x1, x2, x3, y1, y2, fun e => ?_, y7.symm, y4, y5, z2, z3, fun h => ?_⟩
    · rw [e] at y6; omega
    · have := x5 h
      have h77 := L.d7 (v := 7) (by decide) h7
      have hl := L.dl h8 _ x rfl x1 x3
      have := Nat.mul_le_mul_left n (show dep x ≤ 6 by omega)
      omega
  have onf : ∀ x, pth fr to_ pk al (dep 7) 7 x → f' (pk x) = if al x then f (pk x) + δ else f (pk x) - δ := fun x hx => by
    rw [hf]; exact psL_on L.tr h8 (dep 7) 7 f rfl (by decide) h7 (fun _ _ => rfl) x hx
  have offf : ∀ k, (∀ x, pth fr to_ pk al (dep 7) 7 x → pk x ≠ k) → f' k = f k := fun k h => by
    rw [hf]; exact psL_off (dep 7) 7 f k h
  have offr : ∀ k, (∀ x, pth fr to_ pk al (dep 7) 7 x → pk x ≠ k) → ∀ a, rsP wd f' a k = rsP wd f a k := fun k h a => by
    unfold rsP; rw [offf k h]
  -- the label's time is late enough
  have late : ∀ x, pth fr to_ pk al (dep 7) 7 x → ¬ incP fr to_ (pk x) → n * e (pk x) + pk x + 1 ≤ τ x := by
    intro x hx hni
    obtain ⟨x1, x2, x3, y1, y2, y3, y4, y5, y6, y7, y8, y9⟩ := on x hx
    rcases E.mid _ y1 hni with h | ⟨a, h1, h2⟩ | ⟨a, h1⟩
    · rw [h]
      have := Nat.mod_le (τ x - 1) n
      omega
    · have ha : a = !al x := b_ne (fun e9 => by rw [e9] at h1; omega)
      rw [ha, hdP_n] at h2
      have := nx_ge (t := τ x - 1) y7 (e := e (pk x)) (by have := h2 y5; omega)
      omega
    · by_cases ha : a = al x
      · rw [ha] at h1
        have := h1 y5
        omega
      · rw [b_ne ha, tlP_n, y4] at h1
        exact h1 x3
  have k0 := on x0 hx0
  have h00 : rsP wd f' (al x0) (pk x0) = 0 := by
    have h1 := onf x0 hx0
    have h2 := hfw _ k0.2.2.2.1
    unfold rsP
    rw [h1, hδ0]
    unfold rsd
    cases al x0
    · simp
    · simp; omega
  refine ⟨updN e (pk x0) (e (pk x0) + 1), ⟨?_, ?_, ?_, ?_, ?_⟩, wsum_upd n k0.2.2.2.1⟩
  · intro k hk hni
    have h88 := h8 k hk
    have hh8 : ∀ a, hdP fr to_ a k < 8 := fun a => by unfold hdP; split <;> omega
    have ht8 : ∀ a, tlP fr to_ a k < 8 := fun a => by unfold tlP; split <;> omega
    unfold updN
    by_cases c : k = pk x0
    · rw [if_pos c]
      right; left
      refine ⟨al x0, by rw [c]; exact h00, fun ht => ?_⟩
      rw [c, k0.2.2.2.2.2.2.1] at ht ⊢
      rw [c] at hni
      have h1 := late x0 hx0 hni
      have h2 := (mono x0 k0.1 ht).2
      rw [Nat.mul_add, Nat.mul_one]
      omega
    · rw [if_neg c]
      by_cases hon : ∃ x, pth fr to_ pk al (dep 7) 7 x ∧ pk x = k
      · obtain ⟨x, hx, hxk⟩ := hon
        right; right
        have o := on x hx
        refine ⟨!al x, fun ht => ?_⟩
        rw [← hxk, tlP_n, o.2.2.2.2.2.2.1] at ht ⊢
        have h1 := late x hx (by rw [hxk]; exact hni)
        have h2 := (mono x o.1 ht).2
        omega
      · have hno : ∀ x, pth fr to_ pk al (dep 7) 7 x → pk x ≠ k := fun x hx e9 => hon ⟨x, hx, e9⟩
        rcases E.mid k hk hni with h | ⟨a, h1, h2⟩ | ⟨a, h1⟩
        · exact Or.inl h
        · right; left
          refine ⟨a, by rw [offr k hno]; exact h1, fun ht => ?_⟩
          obtain ⟨m1, m2⟩ := mono _ (hh8 a) ht
          have := h2 m1
          omega
        · right; right
          refine ⟨a, fun ht => ?_⟩
          obtain ⟨m1, m2⟩ := mono _ (ht8 a) ht
          have := h1 m1
          omega
  · intro k hk hi
    unfold updN
    by_cases hon : ∃ x, pth fr to_ pk al (dep 7) 7 x ∧ pk x = k
    · obtain ⟨x, hx, hxk⟩ := hon
      have o := on x hx
      have ha := out_al (k := k) (a := al x) (hne k hk) hi (by rw [← hxk, o.2.2.2.2.2.2.1]; exact o.2.1) (by rw [← hxk]; exact o.2.2.2.2.2.1)
      have he : e k = 0 := by
        rcases E.inc k hk hi with h | ⟨h1, h2⟩
        · exact h
        · rw [← ha, ← hxk] at h2
          have := o.2.2.2.2.2.2.2.2.1
          omega
      by_cases c : k = pk x0
      · rw [if_pos c]
        right
        have ha0 := out_al (k := k) (a := al x0) (hne k hk) hi (by rw [c, k0.2.2.2.2.2.2.1]; exact k0.2.1) (by rw [c]; exact k0.2.2.2.2.2.1)
        refine ⟨by rw [← c, he], ?_⟩
        rw [← ha0, c]; exact h00
      · rw [if_neg c]
        exact Or.inl he
    · have hno : ∀ x, pth fr to_ pk al (dep 7) 7 x → pk x ≠ k := fun x hx e9 => hon ⟨x, hx, e9⟩
      rw [if_neg (fun c => hno x0 hx0 c.symm)]
      rcases E.inc k hk hi with h | ⟨h1, h2⟩
      · exact Or.inl h
      · exact Or.inr ⟨h1, by rw [offr k hno]; exact h2⟩
  · intro k hk hok
    unfold updN
    rw [if_neg (fun c => by rw [c, k0.2.2.2.2.1] at hok; cases hok)]
    exact E.z k hk hok
  · intro k hk
    unfold updN
    by_cases c : k = pk x0
    · rw [if_pos c]
      by_cases hi : incP fr to_ (pk x0)
      · rcases E.inc _ k0.2.2.2.1 hi with h | h
        · omega
        · omega
      · have h1 := late x0 hx0 hi
        have h2 := k0.2.2.2.2.2.2.2.2.2.2.2 (fun e7 => hi (by
          have h3 := k0.2.2.2.2.2.2.1
          rw [e7] at h3
          unfold hdP at h3
          rw [e7]
          split at h3
          · exact Or.inr (Or.inr (Or.inr h3))
          · exact Or.inr (Or.inr (Or.inl h3))))
        have h3 : n * e (pk x0) < n * 6 := by omega
        have := Nat.lt_of_mul_lt_mul_left h3
        omega
    · rw [if_neg c]
      exact E.six k hk
  · intro k hk hni h1
    by_cases c : k = pk x0
    · -- the way's first and last pipes
      obtain ⟨d, hd⟩ : ∃ d, dep 7 = d + 1 := ⟨dep 7 - 1, by have := (L.tr.u h8 (v := 7) (by decide) (by decide) h7).2.2.2.2.2.1; omega⟩
      obtain ⟨x, x1, x2, x3, x4, x5⟩ := pth_fst L.tr h8 d 7 hd (by decide) h7
      obtain ⟨r1, r2, -, -, -, -, r7⟩ := L.u h8 (v := 7) (by decide) (by decide) h7
      obtain ⟨s1, s2, -⟩ := L.u h8 x1 x2 x3
      have i7 : incP fr to_ (pk 7) := by
        unfold hdP at r7
        split at r7
        · exact Or.inr (Or.inr (Or.inr r7.symm))
        · exact Or.inr (Or.inr (Or.inl r7.symm))
      have ix : incP fr to_ (pk x) := by
        unfold tlP at x5
        split at x5
        · exact Or.inl x5
        · exact Or.inr (Or.inl x5)
      by_cases hx7 : dep 7 = 1
      · -- a single pipe: it is the one
        exfalso
        obtain ⟨w1, w2, w3, w4, w5⟩ := hin x0 hx0
        have : x0 = 7 := by
          apply Classical.byContradiction
          intro h9
          have h10 := w5 h9
          have := (L.tr.u h8 w1 w2 w3).2.2.2.2.2.1
          omega
        rw [c, this] at hni
        exact hni i7
      · have hdx : dep x < dep 7 := by omega
        exact ⟨pk x, pk 7, s1, r1, pk_ne L.tr h8 (by decide) (by decide) h7 x1 x2 x3 hdx, s2, r2, ix, i7⟩
    · unfold updN at h1
      rw [if_neg c] at h1
      exact E.two k hk hni h1
/-- so often at most -/
theorem EvI.le {e : Nat → Nat} (E : EvI n fr to_ wd ok f T τ e) : wsum e n + 10 ≤ 6 * max 2 (wsum (fun k => if ok k then 1 else 0) n) := by
  have le : ∀ (g h : Nat → Nat) m, (∀ k, k < m → g k ≤ h k) → wsum g m ≤ wsum h m := by
    intro g h m
    induction m with
    | zero => intro _; exact Nat.le_refl _
    | succ m ih =>
      intro hh
      have h1 := ih (fun k hk => hh k (by omega))
      have h2 := hh m (by omega)
      show wsum g m + g m ≤ wsum h m + h m
      omega
  by_cases hm : ∃ k, k < n ∧ ¬ incP fr to_ k ∧ 1 ≤ e k
  · obtain ⟨k, hk, hni, h1⟩ := hm
    obtain ⟨x, y, hx, hy, hxy, ox, oy, ix, iy⟩ := E.two k hk hni h1
    have hs : ∀ (z : Nat) (m : Nat), wsum (fun k => if k = z then 5 else 0) m = if z < m then 5 else 0 := by
      intro z m
      induction m with
      | zero => rfl
      | succ m ih =>
        show wsum (fun k => if k = z then 5 else 0) m + (if m = z then 5 else 0) = _
        rw [ih]
        by_cases c : m = z
        · subst c; rw [if_neg (Nat.lt_irrefl _), if_pos rfl, if_pos (Nat.lt_succ_self _)]
        · rw [if_neg c]
          by_cases d : z < m
          · rw [if_pos d, if_pos (by omega)]
          · rw [if_neg d, if_neg (by omega)]
    have add : ∀ (g h : Nat → Nat) m, wsum (fun k => g k + h k) m = wsum g m + wsum h m := by
      intro g h m
      induction m with
      | zero => rfl
      | succ m ih =>
        show wsum (fun k => g k + h k) m + (g m + h m) = wsum g m + g m + (wsum h m + h m)
        rw [ih]; omega
    have h6 : ∀ m, wsum (fun k => if ok k then 6 else 0) m = 6 * wsum (fun k => if ok k then 1 else 0) m := by
      intro m
      induction m with
      | zero => rfl
      | succ m ih =>
        show wsum (fun k => if ok k then 6 else 0) m + (if ok m then 6 else 0) = 6 * (wsum (fun k => if ok k then 1 else 0) m + (if ok m then 1 else 0))
        rw [ih]
        split <;> omega
    have hle := le (fun k => e k + ((if k = x then 5 else 0) + (if k = y then 5 else 0))) (fun k => if ok k then 6 else 0) n (by
      intro k hk
      show e k + ((if k = x then 5 else 0) + (if k = y then 5 else 0)) ≤ if ok k then 6 else 0
      have hi : incP fr to_ k → e k ≤ 1 := fun hi => by
        rcases E.inc k hk hi with h | h <;> omega
      have h6 := E.six k hk
      by_cases cx : k = x
      · have hi1 := hi (by rw [cx]; exact ix)
        rw [if_pos cx, if_neg (fun c => hxy (by rw [← cx, c])), if_pos (by rw [cx]; exact ox)]
        omega
      · by_cases cy : k = y
        · have hi1 := hi (by rw [cy]; exact iy)
          rw [if_neg cx, if_pos cy, if_pos (by rw [cy]; exact oy)]
          omega
        · rw [if_neg cx, if_neg cy]
          cases ho : ok k
          · have := E.z k hk ho
            rw [this]; simp
          · simp; exact h6)
    rw [add, add, hs, hs, if_pos hx, if_pos hy, h6] at hle
    omega
  · have h1 := le e (fun k => if ok k then 1 else 0) n (by
      intro k hk
      show e k ≤ if ok k then 1 else 0
      cases ho : ok k
      · have := E.z k hk ho
        rw [this]; simp
      · simp
        by_cases hi : incP fr to_ k
        · rcases E.inc k hk hi with h | h <;> omega
        · have : ¬ 1 ≤ e k := fun h => hm ⟨k, hk, hi, h⟩
          omega)
    omega
end EVT
