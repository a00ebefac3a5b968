set_option maxRecDepth 4000
/-! ===== flows in a net: plain Lean ===== -/
def smI : Nat → (Nat → Int) → Int
  | 0, _ => 0
  | n + 1, g => smI n g + g n
theorem smI_add (g h : Nat → Int) : ∀ n, smI n (fun k => g k + h k) = smI n g + smI n h
  | 0 => rfl
  | n + 1 => by
    show smI n (fun k => g k + h k) + (g n + h n) = smI n g + g n + (smI n h + h n)
    rw [smI_add g h n]
    omega
theorem smI_sub (g h : Nat → Int) : ∀ n, smI n (fun k => g k - h k) = smI n g - smI n h
  | 0 => rfl
  | n + 1 => by
    show smI n (fun k => g k - h k) + (g n - h n) = smI n g + g n - (smI n h + h n)
    rw [smI_sub g h n]
    omega
theorem smI_congr {g h : Nat → Int} : ∀ n, (∀ k, k < n → g k = h k) → smI n g = smI n h
  | 0, _ => rfl
  | n + 1, e => by
    show smI n g + g n = smI n h + h n
    rw [smI_congr n (fun k hk => e k (by omega)), e n (by omega)]
theorem smI_le {g h : Nat → Int} : ∀ n, (∀ k, k < n → g k ≤ h k) → smI n g ≤ smI n h
  | 0, _ => Int.le_refl _
  | n + 1, e => by
    show smI n g + g n ≤ smI n h + h n
    have h1 := smI_le n (fun k hk => e k (by omega))
    have h2 := e n (by omega)
    omega
theorem smI_zero : ∀ n, smI n (fun _ => 0) = 0
  | 0 => rfl
  | n + 1 => by
    show smI n (fun _ => 0) + 0 = 0
    rw [smI_zero n]
    rfl
/-- equal sums of which one is nowhere greater: equal everywhere -/
theorem smI_eq {g h : Nat → Int} : ∀ n, (∀ k, k < n → g k ≤ h k) → smI n g = smI n h → ∀ k, k < n → g k = h k
  | 0, _, _, k, hk => absurd hk (Nat.not_lt_zero k)
  | n + 1, e, s, k, hk => by
    have s' : smI n g + g n = smI n h + h n := s
    have h1 := smI_le n (fun k hk => e k (by omega))
    have h2 := e n (by omega)
    by_cases c : k = n
    · subst c; omega
    · exact smI_eq n (fun k hk => e k (by omega)) (by omega) k (by omega)
theorem smI_upd {g : Nat → Int} {j : Nat} {x : Int} : ∀ n, smI n (fun k => if k = j then g k + x else g k) = smI n g + (if j < n then x else 0)
  | 0 => by
    show (0 : Int) = 0 + (if j < 0 then x else 0)
    rw [if_neg (Nat.not_lt_zero j)]; rfl
  | n + 1 => by
    show smI n (fun k => if k = j then g k + x else g k) + (if n = j then g n + x else g n) = smI n g + g n + (if j < n + 1 then x else 0)
    rw [smI_upd n]
    by_cases c : n = j
    · subst c
      rw [if_pos rfl, if_neg (Nat.lt_irrefl _), if_pos (Nat.lt_succ_self _)]
      omega
    · rw [if_neg c]
      by_cases d : j < n
      · rw [if_pos d, if_pos (by omega)]; omega
      · rw [if_neg d, if_neg (by omega)]; omega
def ind (T : Nat → Bool) (v : Nat) : Int := if T v then 1 else 0
section NET
variable {n : Nat} {fr to_ wd : Nat → Nat} {ok : Nat → Bool}
/-- what goes out of a node less what comes in -/
def exc (n : Nat) (fr to_ : Nat → Nat) (f : Nat → Nat) (v : Nat) : Int := smI n (fun k => (if fr k = v then (f k : Int) else 0) - (if to_ k = v then (f k : Int) else 0))
/-- over a cut -/
def crs (n : Nat) (fr to_ : Nat → Nat) (T : Nat → Bool) (f : Nat → Nat) : Int := smI n (fun k => (f k : Int) * (ind T (fr k) - ind T (to_ k)))
theorem ind8 {T : Nat → Bool} {x : Int} : ∀ a, a < 8 → smI 8 (fun v => ind T v * (if a = v then x else 0)) = x * ind T a := by
  intro a ha
  have h : smI 8 (fun v => ind T v * (if a = v then x else 0)) = 0 + ind T 0 * (if a = 0 then x else 0) + ind T 1 * (if a = 1 then x else 0) + ind T 2 * (if a = 2 then x else 0) + ind T 3 * (if a = 3 then x else 0) + ind T 4 * (if a = 4 then x else 0) + ind T 5 * (if a = 5 then x else 0) + ind T 6 * (if a = 6 then x else 0) + ind T 7 * (if a = 7 then x else 0) := rfl
  rw [h]
  obtain h | h | h | h | h | h | h | h : a = 0 ∨ a = 1 ∨ a = 2 ∨ a = 3 ∨ a = 4 ∨ a = 5 ∨ a = 6 ∨ a = 7 := by omega
  all_goals (subst h; simp; rw [Int.mul_comm])
theorem exc_crs (hf : ∀ k, k < n → fr k < 8 ∧ to_ k < 8) (T : Nat → Bool) (f : Nat → Nat) : smI 8 (fun v => ind T v * exc n fr to_ f v) = crs n fr to_ T f := by
  induction n with
  | zero =>
    show smI 8 (fun v => ind T v * 0) = 0
    rw [smI_congr 8 (h := fun _ => 0) (fun k _ => Int.mul_zero _)]
    exact smI_zero 8
  | succ n ih =>
    have ih' := ih (fun k hk => hf k (by omega))
    obtain ⟨h1, h2⟩ := hf n (Nat.lt_succ_self _)
    have e : ∀ v, ind T v * exc (n + 1) fr to_ f v = ind T v * exc n fr to_ f v + (ind T v * (if fr n = v then (f n : Int) else 0) - ind T v * (if to_ n = v then (f n : Int) else 0)) := by
      intro v
      show ind T v * (exc n fr to_ f v + ((if fr n = v then (f n : Int) else 0) - (if to_ n = v then (f n : Int) else 0))) = _
      rw [Int.mul_add, Int.mul_sub]
    rw [smI_congr 8 (fun v _ => e v), smI_add, ih', smI_sub, ind8 _ h1, ind8 _ h2]
    show _ = crs n fr to_ T f + (f n : Int) * (ind T (fr n) - ind T (to_ n))
    rw [Int.mul_sub]
/-- a flow -/
abbrev Fl (n : Nat) (fr to_ wd : Nat → Nat) (ok : Nat → Bool) (f : Nat → Nat) : Prop := (∀ k, k < n → f k ≤ wd k) ∧ (∀ k, k < n → ok k = false → f k = 0) ∧ (∀ v, 1 ≤ v → v ≤ 6 → exc n fr to_ f v = 0)
theorem Fl.le {n : Nat} {fr to_ wd : Nat → Nat} {ok : Nat → Bool} {f : Nat → Nat} (self_ : Fl n fr to_ wd ok f) : ∀ k, k < n → f k ≤ wd k := self_.1
theorem Fl.no {n : Nat} {fr to_ wd : Nat → Nat} {ok : Nat → Bool} {f : Nat → Nat} (self_ : Fl n fr to_ wd ok f) : ∀ k, k < n → ok k = false → f k = 0 := self_.2.1
theorem Fl.ex {n : Nat} {fr to_ wd : Nat → Nat} {ok : Nat → Bool} {f : Nat → Nat} (self_ : Fl n fr to_ wd ok f) : ∀ v, 1 ≤ v → v ≤ 6 → exc n fr to_ f v = 0 := self_.2.2
/-- what was found from node 0: the set, by which pipe and whether along it, how deep -/
abbrev Tr (n : Nat) (fr to_ wd : Nat → Nat) (ok : Nat → Bool) (f : Nat → Nat) (T : Nat → Bool) (pk : Nat → Nat) (al : Nat → Bool) (dep : Nat → Nat) : Prop := (T 0 = true) ∧ (dep 0 = 0) ∧ (∀ v, v < 8 → v ≠ 0 → T v = true → pk v < n ∧ ok (pk v) = true ∧ v = (if al v then to_ (pk v) else fr (pk v)) ∧ T (if al v then fr (pk v) else to_ (pk v)) = true ∧ (if al v then f (pk v) < wd (pk v) else 0 < f (pk v)) ∧ dep v = dep (if al v then fr (pk v) else to_ (pk v)) + 1)
theorem Tr.z {n : Nat} {fr to_ wd : Nat → Nat} {ok : Nat → Bool} {f : Nat → Nat} {T : Nat → Bool} {pk : Nat → Nat} {al : Nat → Bool} {dep : Nat → Nat} (self_ : Tr n fr to_ wd ok f T pk al dep) : T 0 = true := self_.1
theorem Tr.d0 {n : Nat} {fr to_ wd : Nat → Nat} {ok : Nat → Bool} {f : Nat → Nat} {T : Nat → Bool} {pk : Nat → Nat} {al : Nat → Bool} {dep : Nat → Nat} (self_ : Tr n fr to_ wd ok f T pk al dep) : dep 0 = 0 := self_.2.1
theorem Tr.t {n : Nat} {fr to_ wd : Nat → Nat} {ok : Nat → Bool} {f : Nat → Nat} {T : Nat → Bool} {pk : Nat → Nat} {al : Nat → Bool} {dep : Nat → Nat} (self_ : Tr n fr to_ wd ok f T pk al dep) : ∀ v, v < 8 → v ≠ 0 → T v = true → pk v < n ∧ ok (pk v) = true ∧ v = (if al v then to_ (pk v) else fr (pk v)) ∧ T (if al v then fr (pk v) else to_ (pk v)) = true ∧ (if al v then f (pk v) < wd (pk v) else 0 < f (pk v)) ∧ dep v = dep (if al v then fr (pk v) else to_ (pk v)) + 1 := self_.2.2
/-- no way leads out of the set -/
def Cl (n : Nat) (fr to_ wd : Nat → Nat) (ok : Nat → Bool) (f : Nat → Nat) (T : Nat → Bool) : Prop := ∀ k, k < n → ok k = true → (T (fr k) = true → f k < wd k → T (to_ k) = true) ∧ (T (to_ k) = true → 0 < f k → T (fr k) = true)
/-- the value of a flow over a cut -/
theorem val_crs (hf : ∀ k, k < n → fr k < 8 ∧ to_ k < 8) {f : Nat → Nat} (F : Fl n fr to_ wd ok f) {T : Nat → Bool} (h0 : T 0 = true) (h7 : T 7 = false) : exc n fr to_ f 0 = crs n fr to_ T f := by
  rw [← exc_crs hf T f]
  have h : smI 8 (fun v => ind T v * exc n fr to_ f v) = 0 + ind T 0 * exc n fr to_ f 0 + ind T 1 * exc n fr to_ f 1 + ind T 2 * exc n fr to_ f 2 + ind T 3 * exc n fr to_ f 3 + ind T 4 * exc n fr to_ f 4 + ind T 5 * exc n fr to_ f 5 + ind T 6 * exc n fr to_ f 6 + ind T 7 * exc n fr to_ f 7 := rfl
  rw [h, F.ex 1 (by decide) (by decide), F.ex 2 (by decide) (by decide), F.ex 3 (by decide) (by decide), F.ex 4 (by decide) (by decide), F.ex 5 (by decide) (by decide), F.ex 6 (by decide) (by decide)]
  have i0 : ind T 0 = 1 := by unfold ind; rw [h0]; rfl
  have i7 : ind T 7 = 0 := by unfold ind; rw [h7]; rfl
  rw [i0, i7]
  omega
/-- what goes over a cut at most -/
def cap (n : Nat) (fr to_ wd : Nat → Nat) (ok : Nat → Bool) (T : Nat → Bool) : Int := smI n (fun k => if ok k && (T (fr k) && !T (to_ k)) then (wd k : Int) else 0)
theorem crs_le {f : Nat → Nat} (F : Fl n fr to_ wd ok f) {T : Nat → Bool} : ∀ k, k < n → (f k : Int) * (ind T (fr k) - ind T (to_ k)) ≤ (if ok k && (T (fr k) && !T (to_ k)) then (wd k : Int) else 0) := by
  intro k hk
  have h1 := F.le k hk
  have h2 := F.no k hk
  unfold ind
  cases hok : ok k
  · rw [h2 hok]
    simp
  · cases ha : T (fr k) <;> cases hb : T (to_ k) <;> simp <;> omega
theorem crs_cl {f : Nat → Nat} (F : Fl n fr to_ wd ok f) {T : Nat → Bool} (C : Cl n fr to_ wd ok f T) : crs n fr to_ T f = cap n fr to_ wd ok T := by
  unfold crs cap
  apply smI_congr
  intro k hk
  have h1 := F.le k hk
  have h2 := F.no k hk
  unfold ind
  cases hok : ok k
  · rw [h2 hok]
    simp
  · have hc := C k hk hok
    cases ha : T (fr k) <;> cases hb : T (to_ k)
    · simp
    · simp
      have : ¬ 0 < f k := fun h => by have := hc.2 hb h; rw [ha] at this; cases this
      omega
    · simp
      have : ¬ f k < wd k := fun h => by have := hc.1 ha h; rw [hb] at this; cases this
      omega
    · simp
/-- the greatest flow and the cut behind it are what they are -/
theorem mf_uni (hf : ∀ k, k < n → fr k < 8 ∧ to_ k < 8) {f g : Nat → Nat} (F : Fl n fr to_ wd ok f) (K : Fl n fr to_ wd ok g) {T U : Nat → Bool} {pk pk' : Nat → Nat} {al al' : Nat → Bool} {dep dep' : Nat → Nat} (R : Tr n fr to_ wd ok f T pk al dep) (R' : Tr n fr to_ wd ok g U pk' al' dep') (C : Cl n fr to_ wd ok f T) (C' : Cl n fr to_ wd ok g U) (h7 : T 7 = false) (h7' : U 7 = false) :
    exc n fr to_ f 0 = exc n fr to_ g 0 ∧ ∀ v, v < 8 → T v = U v := by
  have a1 := val_crs hf F R.z h7
  have a2 := val_crs hf F R'.z h7'
  have b1 := val_crs hf K R.z h7
  have b2 := val_crs hf K R'.z h7'
  have c1 := crs_cl F C
  have c2 := crs_cl K C'
  have l1 : crs n fr to_ U f ≤ cap n fr to_ wd ok U := smI_le n (crs_le F)
  have l2 : crs n fr to_ T g ≤ cap n fr to_ wd ok T := smI_le n (crs_le K)
  have hv : exc n fr to_ f 0 = exc n fr to_ g 0 := by omega
  refine ⟨hv, ?_⟩
  have s1 := smI_eq n (crs_le F (T := U)) (show crs n fr to_ U f = cap n fr to_ wd ok U by omega)
  have s2 := smI_eq n (crs_le K (T := T)) (show crs n fr to_ T g = cap n fr to_ wd ok T by omega)
  -- a node that one reaches the other reaches too
  have key : ∀ {f : Nat → Nat} {T U : Nat → Bool} {pk : Nat → Nat} {al : Nat → Bool} {dep : Nat → Nat}, Fl n fr to_ wd ok f → Tr n fr to_ wd ok f T pk al dep → U 0 = true → (∀ k, k < n → (f k : Int) * (ind U (fr k) - ind U (to_ k)) = (if ok k && (U (fr k) && !U (to_ k)) then (wd k : Int) else 0)) → ∀ d v, v < 8 → dep v = d → T v = true → U v = true := by
    intro f T U pk al dep F R hU0 hs d
    induction d with
    | zero =>
      intro v hv hd ht
      by_cases e : v = 0
      · rw [e]; exact hU0
      · have := (R.t v hv e ht).2.2.2.2.2
        omega
    | succ d ih =>
      intro v hv hd ht
      by_cases e : v = 0
      · rw [e]; exact hU0
      · obtain ⟨r1, r2, r3, r4, r5, r6⟩ := R.t v hv e ht
        have hp8 := hf (pk v) r1
        have hs' := hs (pk v) r1
        have hle := F.le (pk v) r1
        have hu := ih (if al v then fr (pk v) else to_ (pk v)) (by split <;> omega) (by omega) r4
        cases ha : al v
        · rw [ha] at r3 r5 hu
          simp only [Bool.false_eq_true, if_false] at r3 r5 hu
          rw [r3]
          cases hb : U (fr (pk v)) with
          | true => rfl
          | false =>
            exfalso
            unfold ind at hs'
            rw [hb, hu] at hs'
            simp at hs'
            omega
        · rw [ha] at r3 r5 hu
          simp only [if_true] at r3 r5 hu
          rw [r3]
          cases hb : U (to_ (pk v)) with
          | true => rfl
          | false =>
            exfalso
            unfold ind at hs'
            rw [hb, hu, r2] at hs'
            simp at hs'
            omega
  intro v hv8
  cases ht : T v with
  | true => exact (key F R R'.z s1 _ v hv8 rfl ht).symm
  | false =>
    cases hu : U v with
    | false => rfl
    | true => rw [key K R' R.z s2 _ v hv8 rfl hu] at ht; cases ht
end NET
