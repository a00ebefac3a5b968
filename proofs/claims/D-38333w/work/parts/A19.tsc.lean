set_option maxRecDepth 4000
/-! ===== the reference's schedule ===== -/
def b3L (a : Nat) : Nat → Nat → Nat → Nat
  | 0, _, s => s
  | n + 1, k, s => b3L a n (k + 1) (s ||| (1 <<< (a + 3 * k)))
theorem jBs_m : ∀ j, j < 19 → 1 ≤ j → jBs j = if j % 3 = 1 then 1 else if j = 6 then (1 <<< (j - 1)) ||| 1048576 else (1 <<< (j - 1)) ||| 0 := by decide
theorem jBs_l : jBs 19 = b3L 1 6 0 0 ∧ jBs 21 = 1048576 ||| b3L 2 6 0 0 ∧ jBs 22 = b3L 3 6 0 0 := by decide
section TSC
variable {G : Nat → Option Nat} {M : Mem} {c : Nat}
theorem t426_1 {a : Nat} (ha : a < 4) : ∀ (n k s : Nat), k + n = 6 → ex G c 426 1 [(0, vI (nI a)), (1, vI (nI s)), (2, vI (nI k))] [] M = some (.inl (some (vI (nI (b3L a n k s)))), M)
  | 0, k, s, hk => by
    have e : k = 6 := by omega
    subst e
    rw [E426_1, if_neg (by decide)]
    rfl
  | n + 1, k, s, hk => by
    rw [E426_1, if_pos (nI_lt_L 6 6 rfl (by omega) (by decide)), show aMul 3 (nI k) = nI (3 * k) from aMul_n 3 k, aAdd_n, show aShl 1 (nI (a + 3 * k)) = nI (1 <<< (a + 3 * k)) from aShl_n (a := 1) (by omega), aOr_n, nmI_ok, show aAdd (nI k) 1 = nI (k + 1) from aAdd_n k 1]
    exact t426_1 ha n (k + 1) _ (by omega)
theorem t426 {a : Nat} (ha : a < 4) : ex G c 426 0 [(0, vI (nI a))] [] M = some (.inl (some (vI (nI (b3L a 6 0 0)))), M) := by
  rw [E426_0]
  exact t426_1 ha 6 0 0 rfl
/-- BEFORE -/
theorem t425 {j : Nat} (hj : j < 24) : ex G c 425 0 [(0, vI (nI j))] [] M = some (.inl (some (vI (nI (jBs j)))), M) := by
  rw [E425_0]
  by_cases h0 : j = 0
  · subst h0
    rw [if_pos (by decide)]
    rfl
  · rw [if_neg (nI_ne_L 0 0 rfl (by omega) (by decide) h0)]
    by_cases h19 : j < 19
    · have e3 : aRem (nI j) 3 = nI (j % 3) := aRem_n (b := 3) (by omega) (by decide)
      have e1 : aSub (nI j) 1 = nI (j - 1) := aSub_n (b := 1) (by omega)
      have hsh : aShl 1 (nI (j - 1)) = nI (1 <<< (j - 1)) := aShl_n (a := 1) (by omega)
      rw [if_pos (nI_lt_L 19 19 rfl h19 (by decide)), e3, dvI_ok (by decide), jBs_m j h19 (by omega)]
      by_cases h1 : j % 3 = 1
      · rw [if_pos (nI_eq_L 1 1 rfl h1), if_neg (nI_ne_L 6 6 rfl (by omega) (by decide) (by omega)), if_pos h1, show aOr 1 0 = nI (1 ||| 0) from aOr_n 1 0]
        rfl
      · rw [if_neg (nI_ne_L 1 1 rfl (by omega) (by decide) h1), if_neg h1, e1, hsh]
        by_cases h6 : j = 6
        · rw [if_pos (nI_eq_L 6 6 rfl h6), if_pos h6, show aOr (nI (1 <<< (j - 1))) 1048576 = nI ((1 <<< (j - 1)) ||| 1048576) from aOr_n _ 1048576]
          rfl
        · rw [if_neg (nI_ne_L 6 6 rfl (by omega) (by decide) h6), if_neg h6, show aOr (nI (1 <<< (j - 1))) 0 = nI ((1 <<< (j - 1)) ||| 0) from aOr_n _ 0]
          rfl
    · rw [if_neg (nI_nlt_L 19 19 rfl (by omega) (by omega))]
      obtain ⟨l1, l2, l3⟩ := jBs_l
      obtain h | h | h | h | h : j = 19 ∨ j = 20 ∨ j = 21 ∨ j = 22 ∨ j = 23 := by omega
      · subst h
        have e : ex G c 426 0 [(0, vI 1)] [] M = _ := t426 (a := 1) (by decide)
        rw [if_pos (by decide), cbI_of e, l1]; rfl
      · subst h
        rw [if_neg (by decide), if_pos (by decide)]; rfl
      · subst h
        have e : ex G c 426 0 [(0, vI 2)] [] M = _ := t426 (a := 2) (by decide)
        rw [if_neg (by decide), if_neg (by decide), if_pos (by decide), cbI_of e, l2, show aOr 1048576 (nI (b3L 2 6 0 0)) = nI (1048576 ||| b3L 2 6 0 0) from aOr_n 1048576 _]; rfl
      · subst h
        have e : ex G c 426 0 [(0, vI 3)] [] M = _ := t426 (a := 3) (by decide)
        rw [if_neg (by decide), if_neg (by decide), if_neg (by decide), if_pos (by decide), cbI_of e, l3]; rfl
      · subst h
        rw [if_neg (by decide), if_neg (by decide), if_neg (by decide), if_neg (by decide)]; rfl
/-- which trade -/
theorem t427 {j : Nat} (hj : j < 24) : ex G c 427 0 [(0, vI (nI j))] [] M = some (.inl (some (vI (nI (jTr j)))), M) := by
  rw [E427_0]
  unfold jTr
  by_cases h : j < 19
  · rw [if_pos (nI_lt_L 19 19 rfl h (by decide)), if_pos h]; rfl
  · rw [if_neg (nI_nlt_L 19 19 rfl (by omega) (by omega)), if_neg h]
    by_cases h2 : j < 22
    · rw [if_pos (nI_lt_L 22 22 rfl h2 (by decide)), if_pos h2]; rfl
    · rw [if_neg (nI_nlt_L 22 22 rfl (by omega) (by omega)), if_neg h2]; rfl
theorem x74 {a b : Nat} (ha : a < 2147483648) (hb : b < 2147483648) : ex G c 74 0 [(0, vI (nI a)), (1, vI (nI b))] [] M = some (.inl (some (vI (nI (max a b)))), M) := by
  rw [E74_0]
  by_cases h : a < b
  · rw [if_pos (nI_lt h hb), Nat.max_eq_right (Nat.le_of_lt h)]; rfl
  · rw [if_neg (nI_nlt (by omega) (by omega)), Nat.max_eq_left (by omega)]; rfl
variable {m u : Nat} {g : SG} {S : Sh} {w : Nat}
/-- DAYS -/
theorem t710 (T : ShT G M m u g S w) (iS : SI S) {j : Nat} (hj : j < 24) : ex G c 710 0 [(0, vR (some u)), (1, vI (nI j))] [] M = some (.inl (some (vI (nI (jLn S.left j)))), M) := by
  have hl := iS.lf j
  have e400 : ex G c 400 0 [(0, vI (nI (S.left j))), (1, vI 8)] [] M = some (.inl (some (vI (nI ((S.left j + 7) / 8 * 8)))), M) := by
    rw [E400_0, show aAdd (nI (S.left j)) 8 = nI (S.left j + 8) from aAdd_n _ 8, show aSub (nI (S.left j + 8)) 1 = nI (S.left j + 8 - 1) from aSub_n (b := 1) (by omega), show aDiv (nI (S.left j + 8 - 1)) 8 = nI ((S.left j + 8 - 1) / 8) from aDiv_n (b := 8) (by omega) (by decide), dvI_ok (by decide), show aMul (nI ((S.left j + 8 - 1) / 8)) 8 = nI ((S.left j + 8 - 1) / 8 * 8) from aMul_n _ 8]
    rfl
  rw [E710_0, gR_v T.ln.k T.rLf, ldI_v T.lfk T.lfl hj (by decide) (T.lfv j hj), cbI_of e400, show aDiv (nI ((S.left j + 7) / 8 * 8)) 8 = nI ((S.left j + 7) / 8 * 8 / 8) from aDiv_n (b := 8) (by omega) (by decide), dvI_ok (by decide), Nat.mul_div_cancel _ (by decide)]
  rfl
/-- a table of times -/
abbrev TmT (M : Mem) (a : Nat) : Prop := (mcl M a = 100) ∧ (mco M a = 2) ∧ (mln M a = 24) ∧ (a < mnx M)
theorem TmT.k {M : Mem} {a : Nat} (self_ : TmT M a) : mcl M a = 100 := self_.1
theorem TmT.co {M : Mem} {a : Nat} (self_ : TmT M a) : mco M a = 2 := self_.2.1
theorem TmT.ln {M : Mem} {a : Nat} (self_ : TmT M a) : mln M a = 24 := self_.2.2.1
theorem TmT.lt {M : Mem} {a : Nat} (self_ : TmT M a) : a < mnx M := self_.2.2.2
theorem TmT.fr {M M' : Mem} {a : Nat} {X : Nat → Prop} {n s : Nat} (N : TmT M a) (q : QC X n s M M') : TmT M' a :=
  ⟨(q.cl _ N.lt).trans N.k, (q.co _ N.lt).trans N.co, (q.ln _ N.lt).trans N.ln, Nat.lt_of_lt_of_le N.lt q.nx.1⟩
/-- the arrays of a ship are not the table -/
def offU (u a : Nat) : Prop := u + 25 ≤ a ∨ a < u
/-- earliest day of one job: over those before it -/
def eaP (ln f : Nat → Nat) (j : Nat) : Nat → Nat → Nat → Nat
  | 0, _, x => x
  | n + 1, k, x => eaP ln f j n (k + 1) (if (jAh j).contains k then max x (f k + ln k) else x)
theorem eaP_f {ln f : Nat → Nat} {j : Nat} : ∀ (n k x : Nat), eaP ln f j n k x = ((List.range' k n).filter (fun i => (jAh j).contains i)).foldl (fun m i => max m (f i + ln i)) x
  | 0, _, _ => rfl
  | n + 1, k, x => by
    rw [List.range'_succ, List.filter_cons]
    show eaP ln f j n (k + 1) (if (jAh j).contains k then max x (f k + ln k) else x) = _
    rw [eaP_f n (k + 1)]
    cases (jAh j).contains k
    · rfl
    · rfl
theorem eaP_e {ln : Nat → Nat} {j : Nat} (hj : j < 24) : eaP ln (ea ln) j 24 0 0 = ea ln j := by
  rw [eaP_f, ea_e hj, ← List.range_eq_range', ← jAh_f j hj]
end TSC
