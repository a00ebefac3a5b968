set_option maxRecDepth 4000
/-! ===== what is asked of the reference's jobs ===== -/
def jDone (l : Nat → Nat) : Nat := bset (fun j => l j == 0) 24
def jCrit (l : Nat → Nat) : Nat := bset (fun j => !(l j == 0) && (ea (jLn l) j == la (jLn l) j)) 24
section TSQ
variable {G : Nat → Option Nat} {m u : Nat} {g : SG} {S : Sh} {w : Nat}
theorem t711_1 {M : Mem} (T : ShT G M m u g S w) (iS : SI S) {a1 : Nat} (A : TmT M a1) (hv : ∀ j, j < 24 → mai M a1 j = nI (ea (jLn S.left) j)) : ∀ (n k x : Nat), k + n = 24 → x ≤ 17500 → ex G 2 711 1 [(0, vR (some u)), (1, vR (some a1)), (2, vI (nI x)), (3, vI (nI k))] [] M = some (.inl (some (vI (nI ((List.range' k n).foldl (fun m j => max m (ea (jLn S.left) j + jLn S.left j)) x)))), M)
  | 0, k, x, hk, hx => by
    have e : k = 24 := by omega
    subst e
    rw [E711_1, if_neg (by decide)]
    rfl
  | n + 1, k, x, hk, hx => by
    have hk24 : k < 24 := by omega
    have b1 := ea_b iS k
    have b2 := jLn_b iS k
    rw [E711_1, if_pos (nI_lt_L 24 24 rfl hk24 (by decide)), ldI_v A.k A.ln hk24 (by decide) (hv k hk24), vc1_ok T.ln.k, cbI_of (t710 T iS hk24), aAdd_n, cbI_of (x74 (by omega) (by omega)), show aAdd (nI k) 1 = nI (k + 1) from aAdd_n k 1, List.range'_succ]
    exact t711_1 T iS A hv n (k + 1) _ (by omega) (Nat.max_le.mpr ⟨hx, by omega⟩)
/-- two fresh tables, and the schedule in them -/
theorem t_two {M : Mem} (T : ShT G M m u g S w) (iS : SI S) (C : ConT G M) (CN : ConN G M) : ∃ M2 M', (∀ κ : Nat → Nat → Mem → Res, (mka M 2 100 24 fun a1 M2 => mka M2 2 100 24 fun a3 M4 => κ a1 a3 M4) = κ (mnx M) (mnx M + 1) M2) ∧ QC noX 2 48 M M2 ∧ ex G 2 709 0 [(0, vR (some u)), (1, vR (some (mnx M))), (2, vR (some (mnx M + 1)))] [] M2 = some (.inl none, M') ∧ QC noX 2 48 M M' ∧ TmT M' (mnx M) ∧ TmT M' (mnx M + 1) ∧ (∀ j, j < 24 → mai M' (mnx M) j = nI (ea (jLn S.left) j)) ∧ (∀ j, j < 24 → mai M' (mnx M + 1) j = nI (la (jLn S.left) j)) := by
  obtain ⟨M1, hM1⟩ : ∃ M1, M1 = marr M 2 100 24 := ⟨_, rfl⟩
  have q1 : QC noX 1 24 M M1 := by rw [hM1]; exact qc_marr
  have n1 : mnx M1 = mnx M + 1 := by rw [hM1, mnx_marr]
  have k1 : mcl M1 (mnx M) = 100 := by rw [hM1, mcl_marr]; exact up1_at9
  have o1 : mco M1 (mnx M) = 2 := by rw [hM1, mco_marr]; exact up1_at9
  have l1 : mln M1 (mnx M) = 24 := by rw [hM1, mln_marr]; exact up1_at9
  have A1 : TmT M1 (mnx M) := ⟨k1, o1, l1, by omega⟩
  obtain ⟨M2, hM2⟩ : ∃ M2, M2 = marr M1 2 100 24 := ⟨_, rfl⟩
  have q2 : QC noX 1 24 M1 M2 := by rw [hM2]; exact qc_marr
  have n2 : mnx M2 = mnx M + 1 + 1 := by rw [hM2, mnx_marr, n1]
  have k2 : mcl M2 (mnx M + 1) = 100 := by rw [← n1, hM2, mcl_marr]; exact up1_at9
  have o2 : mco M2 (mnx M + 1) = 2 := by rw [← n1, hM2, mco_marr]; exact up1_at9
  have l2 : mln M2 (mnx M + 1) = 24 := by rw [← n1, hM2, mln_marr]; exact up1_at9
  have A2 : TmT M2 (mnx M + 1) := ⟨k2, o2, l2, by omega⟩
  have q := q1.tr q2
  obtain ⟨M', e, q', B1, B2, v1, v2, -⟩ := t709 T iS C CN (Nat.le_refl _) (Nat.le_succ _) (by omega) q (A1.fr q2) A2
  refine ⟨M2, M', fun κ => ?_, q, e, q', B1, B2, v1, v2⟩
  rw [show (24 : Int32) = nI 24 from rfl, mka_ok (by decide), ← hM1, mka_ok (by decide), ← hM2, n1]
theorem Ed_ge {x : Nat} {f : Nat → Nat} : (List.range' 0 24).foldl (fun m j => max m (f j)) 0 = (List.range 24).foldl (fun m j => max m (f j)) 0 := by
  rw [List.range_eq_range']
/-- END -/
theorem t711 {M : Mem} (T : ShT G M m u g S w) (iS : SI S) (C : ConT G M) (CN : ConN G M) : ∃ M', ex G 2 711 0 [(0, vR (some u))] [] M = some (.inl (some (vI (nI (endJ (jLn S.left))))), M') ∧ QC noX 2 48 M M' := by
  obtain ⟨M2, M', hk, q2, e, q', B1, B2, v1, v2⟩ := t_two T iS C CN
  have T2 := T.fr0 q2
  refine ⟨M', ?_, q'⟩
  rw [E711_0, hk, vc1_ok T2.ln.k, cbV_of e]
  refine (t711_1 (T.fr0 q') iS B1 v1 24 0 0 rfl (by decide)).trans ?_
  rw [show endJ (jLn S.left) = (List.range 24).foldl (fun m j => max m (ea (jLn S.left) j + jLn S.left j)) 0 from rfl, List.range_eq_range']
theorem t712_1 {M : Mem} (T : ShT G M m u g S w) (iS : SI S) {a1 a2 : Nat} (A : TmT M a1) (B : TmT M a2) (hv : ∀ j, j < 24 → mai M a1 j = nI (ea (jLn S.left) j)) (hw : ∀ j, j < 24 → mai M a2 j = nI (la (jLn S.left) j)) : ∀ (n k s : Nat), k + n = 24 → ex G 2 712 1 [(0, vR (some u)), (1, vR (some a1)), (2, vR (some a2)), (3, vI (nI s)), (4, vI (nI k))] [] M = some (.inl (some (vI (nI (bsL (fun j => !(S.left j == 0) && (ea (jLn S.left) j == la (jLn S.left) j)) n k s)))), M)
  | 0, k, s, hk => by
    have e : k = 24 := by omega
    subst e
    rw [E712_1, if_neg (by decide)]
    rfl
  | n + 1, k, s, hk => by
    have hk24 : k < 24 := by omega
    have b1 := ea_b iS k
    have b2 := la_b iS hk24
    have hl := iS.lf k
    have z0 : ex G 2 381 0 [(0, vI 0)] [] M = some (.inl (some (vI (bI false))), M) := t381 (b := false)
    have z1 : ex G 2 381 0 [(0, vI 1)] [] M = some (.inl (some (vI (bI true))), M) := t381 (b := true)
    rw [E712_1, if_pos (nI_lt_L 24 24 rfl hk24 (by decide)), vc1_ok T.ln.k, cbI_of (t668 T hk24 (by omega)), show aAdd (nI k) 1 = nI (k + 1) from aAdd_n k 1, bsL_s]
    cases hd : (S.left k == 0)
    · rw [bI_f, ldI_v A.k A.ln hk24 (by decide) (hv k hk24), ldI_v B.k B.ln hk24 (by decide) (hw k hk24)]
      by_cases h : ea (jLn S.left) k = la (jLn S.left) k
      · rw [if_pos (by rw [h]), cbI_of z1, bit_or (by omega), nmI_ok, h, beq_self_eq_true]
        exact t712_1 T iS A B hv hw n (k + 1) _ (by omega)
      · rw [if_neg (fun h9 => h ((nI_eqI (by omega) (by omega)).mp h9)), cbI_of z0, bit_or (by omega), nmI_ok, beq_false_of_ne h]
        exact t712_1 T iS A B hv hw n (k + 1) _ (by omega)
    · rw [bI_t, cbI_of z0, bit_or (by omega), nmI_ok]
      exact t712_1 T iS A B hv hw n (k + 1) _ (by omega)
/-- CRITICAL -/
theorem t712 {M : Mem} (T : ShT G M m u g S w) (iS : SI S) (C : ConT G M) (CN : ConN G M) : ∃ M', ex G 2 712 0 [(0, vR (some u))] [] M = some (.inl (some (vI (nI (jCrit S.left)))), M') ∧ QC noX 2 48 M M' := by
  obtain ⟨M2, M', hk, q2, e, q', B1, B2, v1, v2⟩ := t_two T iS C CN
  have T2 := T.fr0 q2
  refine ⟨M', ?_, q'⟩
  rw [E712_0, hk, vc1_ok T2.ln.k, cbV_of e]
  exact t712_1 (T.fr0 q') iS B1 B2 v1 v2 24 0 0 rfl
theorem t692_1 {M : Mem} (T : ShT G M m u g S w) (iS : SI S) : ∀ (n k s : Nat), k + n = 24 → ex G 2 692 1 [(0, vR (some u)), (1, vI (nI s)), (2, vI (nI k))] [] M = some (.inl (some (vI (nI (bsL (fun j => S.left j == 0) n k s)))), M)
  | 0, k, s, hk => by
    have e : k = 24 := by omega
    subst e
    rw [E692_1, if_neg (by decide)]
    rfl
  | n + 1, k, s, hk => by
    have hk24 : k < 24 := by omega
    have hl := iS.lf k
    rw [E692_1, if_pos (nI_lt_L 24 24 rfl hk24 (by decide)), vc1_ok T.ln.k, cbI_of (t668 T hk24 (by omega)), cbI_of t381, bit_or (by omega), nmI_ok, show aAdd (nI k) 1 = nI (k + 1) from aAdd_n k 1, bsL_s]
    exact t692_1 T iS n (k + 1) _ (by omega)
/-- DONESET -/
theorem t692 {M : Mem} (T : ShT G M m u g S w) (iS : SI S) : ex G 2 692 0 [(0, vR (some u))] [] M = some (.inl (some (vI (nI (jDone S.left)))), M) := by
  rw [E692_0]
  exact t692_1 T iS 24 0 0 rfl
def smL (l : Nat → Nat) : Nat → Nat → Nat → Nat
  | 0, _, x => x
  | n + 1, k, x => smL l n (k + 1) (x + l k)
theorem t713_1 {M : Mem} (T : ShT G M m u g S w) : ∀ (n k x : Nat), k + n = 24 → ex G 2 713 1 [(1, vI (nI x)), (2, vR (some (u + 16))), (3, vI (nI 24)), (4, vI (nI k))] [] M = some (.inl (some (vI (nI (smL S.left n k x)))), M)
  | 0, k, x, hk => by
    have e : k = 24 := by omega
    subst e
    rw [E713_1, if_neg (nI_nlt (Nat.le_refl _) (by decide))]
    rfl
  | n + 1, k, x, hk => by
    have hk24 : k < 24 := by omega
    rw [E713_1, if_pos (nI_lt hk24 (by decide)), ldI_v T.lfk T.lfl hk24 (by decide) (T.lfv k hk24), aAdd_n, nmI_ok, show aAdd (nI k) 1 = nI (k + 1) from aAdd_n k 1]
    exact t713_1 T n (k + 1) _ (by omega)
/-- HOURSLEFT -/
theorem t713 {M : Mem} (T : ShT G M m u g S w) : ex G 2 713 0 [(0, vR (some u))] [] M = some (.inl (some (vI (nI (smL S.left 24 0 0)))), M) := by
  rw [E713_0, gR_v T.ln.k T.rLf, alen_ok T.lfk T.lfl]
  exact t713_1 T 24 0 0 rfl
end TSQ
