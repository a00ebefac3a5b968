set_option maxRecDepth 4000
/-! ===== what is asked of the class' jobs ===== -/
noncomputable def Sh.jobs (S : Sh) (w : Nat) : Nat := match w with
  | 0 => endJ (jLn S.left)
  | 1 => jDone S.left
  | 2 => jCrit S.left
  | _ => smL S.left 24 0 0
/-- one job's facts -/
noncomputable def Sh.job (S : Sh) (j w : Nat) : Nat := match w with
  | 0 => S.left j
  | 1 => jTr j
  | 2 => bN (S.left j == 0)
  | 3 => jLn S.left j
  | 4 => ea (jLn S.left) j
  | 5 => la (jLn S.left) j
  | 6 => la (jLn S.left) j - ea (jLn S.left) j
  | 7 => bN (S.faulty j)
  | _ => jBs j
section CJQ
variable {G : Nat → Option Nat} {M : Mem} {b : Nat} {g : SG} {S : Sh} {p : Bool}
theorem c616_1 (C : ShC G M b g S p) (iS : SI S) : ∀ (n k s : Nat), k + n = 24 → ex G 1 616 1 [(1, vI (nI s)), (2, vR (some (b + 56))), (3, vI (nI 24)), (4, vI (nI k))] [] M = some (.inl (some (vI (nI (bsL (fun j => S.left j == 0) n k s)))), M)
  | 0, k, s, hk => by
    have e : k = 24 := by omega
    subst e
    rw [E616_1, if_neg (nI_nlt (Nat.le_refl _) (by decide))]
    rfl
  | n + 1, k, s, hk => by
    have hk24 : k < 24 := by omega
    have o0 : aOr (nI s) 0 = nI s := by rw [show (0 : Int32) = nI 0 from rfl, aOr_n, Nat.or_zero]
    rw [E616_1, if_pos (nI_lt hk24 (by decide)), jb_v C hk24, vc1_ok (C.jk k hk24), cbI_of (c633 C iS hk24), show aAdd (nI k) 1 = nI (k + 1) from aAdd_n k 1, o0, bsL_s]
    cases hd : (S.left k == 0)
    · rw [bI_f, nmI_ok]
      exact c616_1 C iS n (k + 1) _ (by omega)
    · rw [bI_t, gI_v (C.jk k hk24) (C.jnu k hk24), show aShl 1 (nI k) = nI (1 <<< k) from aShl_n (a := 1) (by omega), aOr_n, nmI_ok]
      exact c616_1 C iS n (k + 1) _ (by omega)
theorem c616 (C : ShC G M b g S p) (iS : SI S) : ex G 1 616 0 [(0, vR (some (b + 55)))] [] M = some (.inl (some (vI (nI (jDone S.left)))), M) := by
  rw [E616_0, gR_v C.jsk C.jsa, alen_ok C.jak C.jaln]
  exact c616_1 C iS 24 0 0 rfl
theorem c635 (C : ShC G M b g S p) (iS : SI S) (J : JbM M b 136 (ea (jLn S.left))) (L : JbM M b 137 (la (jLn S.left))) {j : Nat} (hj : j < 24) : ex G 1 635 0 [(0, vR (some (b + 58 + 2 * j)))] [] M = some (.inl (some (vI (nI (la (jLn S.left) j - ea (jLn S.left) j)))), M) := by
  rw [E635_0, gI_v (C.jk j hj) (L j hj), gI_v (C.jk j hj) (J j hj), aSub_n (la_ge hj)]
  rfl
theorem c617_1 (C : ShC G M b g S p) (iS : SI S) (J : JbM M b 136 (ea (jLn S.left))) (L : JbM M b 137 (la (jLn S.left))) : ∀ (n k s : Nat), k + n = 24 → ex G 1 617 1 [(1, vI (nI s)), (2, vR (some (b + 56))), (3, vI (nI 24)), (4, vI (nI k))] [] M = some (.inl (some (vI (nI (bsL (fun j => !(S.left j == 0) && (ea (jLn S.left) j == la (jLn S.left) j)) n k s)))), M)
  | 0, k, s, hk => by
    have e : k = 24 := by omega
    subst e
    rw [E617_1, if_neg (nI_nlt (Nat.le_refl _) (by decide))]
    rfl
  | n + 1, k, s, hk => by
    have hk24 : k < 24 := by omega
    have b1 := la_ge (ln := jLn S.left) hk24
    have b2 := la_b iS hk24
    have o0 : aOr (nI s) 0 = nI s := by rw [show (0 : Int32) = nI 0 from rfl, aOr_n, Nat.or_zero]
    rw [E617_1, if_pos (nI_lt hk24 (by decide)), jb_v C hk24, vc1_ok (C.jk k hk24), cbI_of (c633 C iS hk24), show aAdd (nI k) 1 = nI (k + 1) from aAdd_n k 1, o0, bsL_s]
    cases hd : (S.left k == 0)
    · rw [bI_f, vc1_ok (C.jk k hk24), cbI_of (c635 C iS J L hk24)]
      by_cases h : ea (jLn S.left) k = la (jLn S.left) k
      · rw [if_pos (nI_eq_L 0 0 rfl (by omega)), gI_v (C.jk k hk24) (C.jnu k hk24), show aShl 1 (nI k) = nI (1 <<< k) from aShl_n (a := 1) (by omega), aOr_n, nmI_ok, h, beq_self_eq_true]
        exact c617_1 C iS J L n (k + 1) _ (by omega)
      · rw [if_neg (nI_ne_L 0 0 rfl (by omega) (by decide) (by omega)), nmI_ok, beq_false_of_ne h]
        exact c617_1 C iS J L n (k + 1) _ (by omega)
    · rw [bI_t, nmI_ok]
      exact c617_1 C iS J L n (k + 1) _ (by omega)
theorem c617 (C : ShC G M b g S p) (iS : SI S) (J : JbM M b 136 (ea (jLn S.left))) (L : JbM M b 137 (la (jLn S.left))) : ex G 1 617 0 [(0, vR (some (b + 55)))] [] M = some (.inl (some (vI (nI (jCrit S.left)))), M) := by
  rw [E617_0, gR_v C.jsk C.jsa, alen_ok C.jak C.jaln]
  exact c617_1 C iS J L 24 0 0 rfl
theorem c618_1 (C : ShC G M b g S p) : ∀ (n k x : Nat), k + n = 24 → ex G 1 618 1 [(1, vI (nI x)), (2, vR (some (b + 56))), (3, vI (nI 24)), (4, vI (nI k))] [] M = some (.inl (some (vI (nI (smL S.left n k x)))), M)
  | 0, k, x, hk => by
    have e : k = 24 := by omega
    subst e
    rw [E618_1, if_neg (nI_nlt (Nat.le_refl _) (by decide))]
    rfl
  | n + 1, k, x, hk => by
    have hk24 : k < 24 := by omega
    rw [E618_1, if_pos (nI_lt hk24 (by decide)), jb_v C hk24, gI_v (C.jk k hk24) (C.jlf k hk24), aAdd_n, nmI_ok, show aAdd (nI k) 1 = nI (k + 1) from aAdd_n k 1]
    exact c618_1 C n (k + 1) _ (by omega)
theorem c618 (C : ShC G M b g S p) : ex G 1 618 0 [(0, vR (some (b + 55)))] [] M = some (.inl (some (vI (nI (smL S.left 24 0 0)))), M) := by
  rw [E618_0, gR_v C.jsk C.jsa, alen_ok C.jak C.jaln]
  exact c618_1 C 24 0 0 rfl
/-- JOBS.TELLALL -/
theorem c613 (C : ShC G M b g S p) (iS : SI S) {w : Nat} (hw : w < 4) : ∃ M', ex G 1 613 0 [(0, vR (some (b + 55))), (1, vI (nI w))] [] M = some (.inl (some (vI (nI (S.jobs w)))), M') ∧ QC noX 0 0 M M' := by
  obtain ⟨M1, e1, q1, J, L⟩ := c614 C iS
  have C1 := C.fr0 q1
  refine ⟨M1, ?_, q1⟩
  rw [E613_0, vc1_ok C.jsk, cbV_of e1]
  obtain h | h | h | h : w = 0 ∨ w = 1 ∨ w = 2 ∨ w = 3 := by omega
  · subst h
    rw [if_pos (by decide), vc1_ok C1.jsk, cbI_of (c615 C1 iS J)]; rfl
  · subst h
    rw [if_neg (by decide), if_pos (by decide), vc1_ok C1.jsk, cbI_of (c616 C1 iS)]; rfl
  · subst h
    rw [if_neg (by decide), if_neg (by decide), if_pos (by decide), vc1_ok C1.jsk, cbI_of (c617 C1 iS J L)]; rfl
  · subst h
    rw [if_neg (by decide), if_neg (by decide), if_neg (by decide), vc1_ok C1.jsk, cbI_of (c618 C1)]; rfl
/-- JOBS.TELL -/
theorem c632 (C : ShC G M b g S p) (iS : SI S) {j w : Nat} (hj : j < 24) (hw : w < 9) : ∃ M', ex G 1 632 0 [(0, vR (some (b + 55))), (1, vR (some (b + 58 + 2 * j))), (2, vI (nI w))] [] M = some (.inl (some (vI (nI (S.job j w)))), M') ∧ QC noX 0 0 M M' := by
  obtain ⟨M1, e1, q1, J, L⟩ := c614 C iS
  have C1 := C.fr0 q1
  refine ⟨M1, ?_, q1⟩
  rw [E632_0, vc1_ok C.jsk, cbV_of e1]
  obtain h | h | h | h | h | h | h | h | h : w = 0 ∨ w = 1 ∨ w = 2 ∨ w = 3 ∨ w = 4 ∨ w = 5 ∨ w = 6 ∨ w = 7 ∨ w = 8 := by omega
  · subst h
    rw [if_pos (by decide), gI_v (C1.jk j hj) (C1.jlf j hj)]; rfl
  · subst h
    rw [if_neg (by decide), if_pos (by decide), gI_v (C1.jk j hj) (C1.jtr j hj)]; rfl
  · subst h
    rw [if_neg (by decide), if_neg (by decide), if_pos (by decide), vc1_ok (C1.jk j hj), cbI_of (c633 C1 iS hj)]
    show (_ : Res) = some (.inl (some (vI (nI (bN (S.left j == 0))))), M1)
    cases (S.left j == 0)
    · rw [bI_f]; rfl
    · rw [bI_t]; rfl
  · subst h
    rw [if_neg (by decide), if_neg (by decide), if_neg (by decide), if_pos (by decide), vc1_ok (C1.jk j hj), cbI_of (c634 C1 iS hj)]; rfl
  · subst h
    rw [if_neg (by decide), if_neg (by decide), if_neg (by decide), if_neg (by decide), if_pos (by decide), gI_v (C1.jk j hj) (J j hj)]; rfl
  · subst h
    rw [if_neg (by decide), if_neg (by decide), if_neg (by decide), if_neg (by decide), if_neg (by decide), if_pos (by decide), gI_v (C1.jk j hj) (L j hj)]; rfl
  · subst h
    rw [if_neg (by decide), if_neg (by decide), if_neg (by decide), if_neg (by decide), if_neg (by decide), if_neg (by decide), if_pos (by decide), vc1_ok (C1.jk j hj), cbI_of (c635 C1 iS J L hj)]; rfl
  · subst h
    rw [if_neg (by decide), if_neg (by decide), if_neg (by decide), if_neg (by decide), if_neg (by decide), if_neg (by decide), if_neg (by decide), if_pos (by decide), gI_v (C1.jk j hj) (C1.jfa j hj)]
    show (_ : Res) = some (.inl (some (vI (nI (bN (S.faulty j))))), M1)
    cases S.faulty j
    · rw [bI_f]; rfl
    · rw [bI_t]; rfl
  · subst h
    rw [if_neg (by decide), if_neg (by decide), if_neg (by decide), if_neg (by decide), if_neg (by decide), if_neg (by decide), if_neg (by decide), if_neg (by decide), gI_v (C1.jk j hj) (C1.jbe j hj)]; rfl
end CJQ
