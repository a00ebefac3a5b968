set_option maxRecDepth 4000
/-! ===== pushing along a way that was found ===== -/
section PSH
variable {n : Nat} {fr to_ wd : Nat → Nat} {ok : Nat → Bool} {f : Nat → Nat} {T : Nat → Bool} {pk : Nat → Nat} {al : Nat → Bool} {dep : Nat → Nat}
/-- the node ahead; what more can go -/
def prv (fr to_ : Nat → Nat) (pk : Nat → Nat) (al : Nat → Bool) (v : Nat) : Nat := if al v then fr (pk v) else to_ (pk v)
def rsd (wd : Nat → Nat) (f : Nat → Nat) (pk : Nat → Nat) (al : Nat → Bool) (v : Nat) : Nat := if al v then wd (pk v) - f (pk v) else f (pk v)
def lpL (fr to_ wd : Nat → Nat) (f : Nat → Nat) (pk : Nat → Nat) (al : Nat → Bool) : Nat → Nat → Nat → Nat
  | 0, _, m => m
  | d + 1, v, m => lpL fr to_ wd f pk al d (prv fr to_ pk al v) (min m (rsd wd f pk al v))
def psU (pk : Nat → Nat) (al : Nat → Bool) (δ v : Nat) (f : Nat → Nat) : Nat → Nat := fun j => if j = pk v then (if al v then f j + δ else f j - δ) else f j
def psL (fr to_ : Nat → Nat) (pk : Nat → Nat) (al : Nat → Bool) (δ : Nat) : Nat → Nat → (Nat → Nat) → (Nat → Nat)
  | 0, _, f => f
  | d + 1, v, f => psL fr to_ pk al δ d (prv fr to_ pk al v) (psU pk al δ v f)
theorem Tr.u (R : Tr n fr to_ wd ok f T pk al dep) (h8 : ∀ k, k < n → fr k < 8 ∧ to_ k < 8) {v : Nat} (hv : v < 8) (h0 : v ≠ 0) (ht : T v = true) : pk v < n ∧ ok (pk v) = true ∧ prv fr to_ pk al v < 8 ∧ T (prv fr to_ pk al v) = true ∧ 1 ≤ rsd wd f pk al v ∧ dep v = dep (prv fr to_ pk al v) + 1 ∧ v = (if al v then to_ (pk v) else fr (pk v)) := by
  obtain ⟨r1, r2, r3, r4, r5, r6⟩ := R.t v hv h0 ht
  have h := h8 _ r1
  unfold prv rsd
  refine ⟨r1, r2, ?_, r4, ?_, r6, r3⟩
  · split <;> omega
  · cases ha : al v
    · rw [ha] at r5; simp only [Bool.false_eq_true, if_false] at r5 ⊢; omega
    · rw [ha] at r5; simp only [if_true] at r5 ⊢; omega
theorem lpL_le : ∀ (d v m : Nat), lpL fr to_ wd f pk al d v m ≤ m
  | 0, _, _ => Nat.le_refl _
  | d + 1, v, m => Nat.le_trans (lpL_le d _ _) (Nat.min_le_left _ _)
/-- δ is no more than what can go on the whole way -/
def fitL (fr to_ wd : Nat → Nat) (f : Nat → Nat) (pk : Nat → Nat) (al : Nat → Bool) (δ : Nat) : Nat → Nat → Prop
  | 0, _ => True
  | d + 1, v => δ ≤ rsd wd f pk al v ∧ fitL fr to_ wd f pk al δ d (prv fr to_ pk al v)
theorem lpL_fit {δ : Nat} : ∀ (d v m : Nat), δ ≤ lpL fr to_ wd f pk al d v m → fitL fr to_ wd f pk al δ d v
  | 0, _, _, _ => trivial
  | d + 1, v, m, h => by
    have h' : δ ≤ lpL fr to_ wd f pk al d (prv fr to_ pk al v) (min m (rsd wd f pk al v)) := h
    have := lpL_le (fr := fr) (to_ := to_) (wd := wd) (f := f) (pk := pk) (al := al) d (prv fr to_ pk al v) (min m (rsd wd f pk al v))
    exact ⟨by omega, lpL_fit d _ _ h'⟩
theorem lpL_pos (R : Tr n fr to_ wd ok f T pk al dep) (h8 : ∀ k, k < n → fr k < 8 ∧ to_ k < 8) : ∀ (d v m : Nat), dep v = d → v < 8 → T v = true → 1 ≤ m → 1 ≤ lpL fr to_ wd f pk al d v m
  | 0, _, _, _, _, _, h => h
  | d + 1, v, m, hd, hv, ht, h => by
    have h0 : v ≠ 0 := fun e => by rw [e, R.d0] at hd; omega
    obtain ⟨r1, r2, r3, r4, r5, r6, r7⟩ := R.u h8 hv h0 ht
    exact lpL_pos R h8 d _ _ (by omega) r3 r4 (by omega)
/-- pipes of a way differ -/
theorem pk_ne (R : Tr n fr to_ wd ok f T pk al dep) (h8 : ∀ k, k < n → fr k < 8 ∧ to_ k < 8) {v x : Nat} (hv : v < 8) (h0 : v ≠ 0) (ht : T v = true) (hx : x < 8) (hx0 : x ≠ 0) (htx : T x = true) (hd : dep x < dep v) : pk x ≠ pk v := by
  obtain ⟨a1, a2, a3, a4, a5, a6, a7⟩ := R.u h8 hv h0 ht
  obtain ⟨b1, b2, b3, b4, b5, b6, b7⟩ := R.u h8 hx hx0 htx
  intro e
  unfold prv at a6 b6
  rw [e] at b7 b6
  cases ha : al v <;> cases hb : al x <;> rw [ha] at a7 a6 <;> rw [hb] at b7 b6 <;> simp only [Bool.false_eq_true, if_false, if_true] at a7 a6 b7 b6
  · rw [← a7] at b7; rw [b7] at hd; omega
  · rw [← b7] at a6; rw [← a7] at b6; omega
  · rw [← b7] at a6; rw [← a7] at b6; omega
  · rw [← a7] at b7; rw [b7] at hd; omega
theorem psL_le (R : Tr n fr to_ wd ok f T pk al dep) (h8 : ∀ k, k < n → fr k < 8 ∧ to_ k < 8) {δ : Nat} : ∀ (d v : Nat) (g : Nat → Nat), dep v = d → v < 8 → T v = true → fitL fr to_ wd f pk al δ d v → (∀ k, k < n → f k ≤ wd k) → (∀ k, k < n → g k ≤ wd k) → (∀ k, k < n → ok k = false → g k = 0) → (∀ x, x < 8 → x ≠ 0 → T x = true → dep x ≤ d → g (pk x) = f (pk x)) →
    (∀ k, k < n → psL fr to_ pk al δ d v g k ≤ wd k) ∧ (∀ k, k < n → ok k = false → psL fr to_ pk al δ d v g k = 0)
  | 0, _, g, _, _, _, _, _, h1, h2, _ => ⟨h1, h2⟩
  | d + 1, v, g, hd, hv, ht, hfit, hfw, h1, h2, h3 => by
    have h0 : v ≠ 0 := fun e => by rw [e, R.d0] at hd; omega
    obtain ⟨r1, r2, r3, r4, r5, r6, r7⟩ := R.u h8 hv h0 ht
    obtain ⟨c1, c2⟩ := hfit
    have hg := h3 v hv h0 ht (by omega)
    refine psL_le R h8 d (prv fr to_ pk al v) (psU pk al δ v g) (by omega) r3 r4 c2 hfw ?_ ?_ ?_
    · intro k hk
      unfold psU
      by_cases e : k = pk v
      · subst e
        rw [if_pos rfl]
        unfold rsd at c1
        have := hfw _ hk
        cases ha : al v <;> rw [ha] at c1 <;> simp only [Bool.false_eq_true, if_false, if_true] at c1 ⊢ <;> omega
      · rw [if_neg e]; exact h1 k hk
    · intro k hk hok
      unfold psU
      rw [if_neg (fun e => by rw [e, r2] at hok; cases hok)]
      exact h2 k hk hok
    · intro x hx hx0 htx hdx
      unfold psU
      rw [if_neg (pk_ne R h8 hv h0 ht hx hx0 htx (by omega))]
      exact h3 x hx hx0 htx (by omega)
theorem exc_upd {g : Nat → Nat} {k x : Nat} (hk : k < n) (w : Nat) : exc n fr to_ (fun j => if j = k then x else g j) w = exc n fr to_ g w + ((if fr k = w then (x : Int) - (g k : Int) else 0) - (if to_ k = w then (x : Int) - (g k : Int) else 0)) := by
  unfold exc
  have e : ∀ j, ((if fr j = w then (((if j = k then x else g j : Nat)) : Int) else 0) - (if to_ j = w then (((if j = k then x else g j : Nat)) : Int) else 0)) = (if j = k then ((if fr j = w then (g j : Int) else 0) - (if to_ j = w then (g j : Int) else 0)) + ((if fr k = w then (x : Int) - (g k : Int) else 0) - (if to_ k = w then (x : Int) - (g k : Int) else 0)) else ((if fr j = w then (g j : Int) else 0) - (if to_ j = w then (g j : Int) else 0))) := by
    intro j
    by_cases c : j = k
    · subst c
      rw [if_pos rfl, if_pos rfl]
      split <;> split <;> omega
    · rw [if_neg c, if_neg c]
  rw [smI_congr n (fun j _ => e j)]
  have := smI_upd (g := fun j => (if fr j = w then (g j : Int) else 0) - (if to_ j = w then (g j : Int) else 0)) (j := k) (x := ((if fr k = w then (x : Int) - (g k : Int) else 0) - (if to_ k = w then (x : Int) - (g k : Int) else 0))) n
  rw [this, if_pos hk]
theorem psL_ex (R : Tr n fr to_ wd ok f T pk al dep) (h8 : ∀ k, k < n → fr k < 8 ∧ to_ k < 8) {δ : Nat} : ∀ (d v : Nat) (g : Nat → Nat), dep v = d → v < 8 → T v = true → fitL fr to_ wd f pk al δ d v → (∀ x, x < 8 → x ≠ 0 → T x = true → dep x ≤ d → g (pk x) = f (pk x)) → ∀ w, exc n fr to_ (psL fr to_ pk al δ d v g) w = exc n fr to_ g w + ((if w = 0 then (δ : Int) else 0) - (if w = v then (δ : Int) else 0))
  | 0, v, g, hd, hv, ht, _, _, w => by
    have h0 : v = 0 := by
      apply Classical.byContradiction
      intro h0
      have := (R.u h8 hv h0 ht).2.2.2.2.2.1
      omega
    subst h0
    show exc n fr to_ g w = exc n fr to_ g w + ((if w = 0 then (δ : Int) else 0) - (if w = 0 then (δ : Int) else 0))
    omega
  | d + 1, v, g, hd, hv, ht, hfit, h3, w => by
    have h0 : v ≠ 0 := fun e => by rw [e, R.d0] at hd; omega
    obtain ⟨r1, r2, r3, r4, r5, r6, r7⟩ := R.u h8 hv h0 ht
    obtain ⟨c1, c2⟩ := hfit
    have hg := h3 v hv h0 ht (by omega)
    have ih := psL_ex R h8 d (prv fr to_ pk al v) (psU pk al δ v g) (by omega) r3 r4 c2 (fun x hx hx0 htx hdx => by
      unfold psU
      rw [if_neg (pk_ne R h8 hv h0 ht hx hx0 htx (by omega))]
      exact h3 x hx hx0 htx (by omega)) w
    show exc n fr to_ (psL fr to_ pk al δ d (prv fr to_ pk al v) (psU pk al δ v g)) w = _
    rw [ih]
    have hu : psU pk al δ v g = fun j => if j = pk v then (if al v then g (pk v) + δ else g (pk v) - δ) else g j := by
      funext j
      unfold psU
      by_cases e : j = pk v
      · rw [if_pos e, if_pos e, e]
      · rw [if_neg e, if_neg e]
    rw [hu, exc_upd r1 w]
    unfold rsd at c1
    unfold prv
    cases ha : al v
    · rw [ha] at c1 r7
      simp only [Bool.false_eq_true, if_false] at c1 r7 ⊢
      rw [← r7]
      have e1 : ((g (pk v) - δ : Nat) : Int) - (g (pk v) : Int) = -(δ : Int) := by omega
      rw [e1]
      have e2 : (to_ (pk v) = w) ↔ (w = to_ (pk v)) := eq_comm
      have e3 : (v = w) ↔ (w = v) := eq_comm
      simp only [e2, e3]
      split <;> split <;> split <;> omega
    · rw [ha] at c1 r7
      simp only [if_true] at c1 r7 ⊢
      rw [← r7]
      have e1 : ((g (pk v) + δ : Nat) : Int) - (g (pk v) : Int) = (δ : Int) := by omega
      rw [e1]
      have e2 : (fr (pk v) = w) ↔ (w = fr (pk v)) := eq_comm
      have e3 : (v = w) ↔ (w = v) := eq_comm
      simp only [e2, e3]
      split <;> split <;> split <;> omega
/-- a flow with more along the way that was found -/
theorem push_fl (F : Fl n fr to_ wd ok f) (R : Tr n fr to_ wd ok f T pk al dep) (h8 : ∀ k, k < n → fr k < 8 ∧ to_ k < 8) (h7 : T 7 = true) {δ : Nat} (hfit : fitL fr to_ wd f pk al δ (dep 7) 7) :
    Fl n fr to_ wd ok (psL fr to_ pk al δ (dep 7) 7 f) ∧ exc n fr to_ (psL fr to_ pk al δ (dep 7) 7 f) 0 = exc n fr to_ f 0 + δ := by
  obtain ⟨a1, a2⟩ := psL_le R h8 (dep 7) 7 f rfl (by decide) h7 hfit F.le F.le F.no (fun _ _ _ _ _ => rfl)
  have b := psL_ex R h8 (δ := δ) (dep 7) 7 f rfl (by decide) h7 hfit (fun _ _ _ _ _ => rfl)
  refine ⟨⟨a1, a2, fun v h1 h6 => ?_⟩, ?_⟩
  · rw [b v, F.ex v h1 h6, if_neg (by omega), if_neg (by omega)]; rfl
  · rw [b 0, if_pos rfl, if_neg (by decide)]; omega
/-- a flow's value is bounded -/
def wsum (wd : Nat → Nat) : Nat → Nat
  | 0 => 0
  | n + 1 => wsum wd n + wd n
theorem smI_wd : ∀ n, smI n (fun k => (wd k : Int)) = (wsum wd n : Int)
  | 0 => rfl
  | n + 1 => by
    show smI n (fun k => (wd k : Int)) + (wd n : Int) = ((wsum wd n + wd n : Nat) : Int)
    rw [smI_wd n]; rfl
theorem val_le (F : Fl n fr to_ wd ok f) : exc n fr to_ f 0 ≤ (wsum wd n : Int) := by
  rw [← smI_wd]
  unfold exc
  apply smI_le
  intro k hk
  have := F.le k hk
  split <;> split <;> omega
theorem fl_zero : Fl n fr to_ wd ok (fun _ => 0) ∧ exc n fr to_ (fun _ => 0) 0 = 0 := by
  have h : ∀ v, exc n fr to_ (fun _ => 0) v = 0 := fun v => by
    unfold exc
    rw [smI_congr n (h := fun _ => 0) (fun k _ => by split <;> split <;> rfl)]
    exact smI_zero n
  exact ⟨⟨fun _ _ => Nat.zero_le _, fun _ _ _ => rfl, fun v _ _ => h v⟩, h 0⟩
end PSH
