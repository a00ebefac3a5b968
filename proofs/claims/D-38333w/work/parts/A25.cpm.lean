set_option maxRecDepth 4000
/-! ===== the class' plan: latest days; what is asked of jobs ===== -/
theorem jA_nd : ∀ j, j < 24 → ∀ t, t < (jAh j).length → (jAh j).getD t 0 ∉ (jAh j).take t := by decide
theorem jA_tk : ∀ j, j < 24 → ∀ t, t < (jAh j).length → (jAh j).take (t + 1) = (jAh j).take t ++ [(jAh j).getD t 0] := by decide
section CPM
variable {G : Nat → Option Nat} {M : Mem} {b : Nat} {g : SG} {S : Sh} {p : Bool}
noncomputable def lqF (ln : Nat → Nat) (i t x : Nat) : Nat := if x ∈ (jAh (jOr i)).take t then lq ln i x else lq ln (i + 1) x
theorem lq_b (iS : SI S) {i x : Nat} : lq (jLn S.left) i x ≤ 17500 := by
  have h := (lq_iff (ln := jLn S.left) (i := i) (x := x) (m := lq (jLn S.left) i x)).mp (Nat.le_refl _)
  have := end_bS iS
  omega
theorem c614_12 (C0 : ShC G M b g S p) (iS : SI S) {i : Nat} {i2 : Int32} (hi : i < 24) : ∀ (n t : Nat) (M' : Mem), t + n = (jAh (jOr i)).length → QC noX 0 0 M M' → JbM M' b 136 (ea (jLn S.left)) → JbM M' b 137 (lqF (jLn S.left) i t) →
    ∃ M2, ex G 1 614 12 [(0, vR (some (b + 55))), (2, vI i2), (3, vR (some (b + 58 + 2 * jOr i))), (4, vR (some (b + 59 + 2 * jOr i))), (5, vI (nI (jAh (jOr i)).length)), (6, vI (nI t))] [] M' = ex G 1 614 10 [(0, vR (some (b + 55))), (2, vI (aAdd i2 (-1)))] [] M2 ∧ QC noX 0 0 M M2 ∧ JbM M2 b 136 (ea (jLn S.left)) ∧ JbM M2 b 137 (lq (jLn S.left) i)
  | 0, t, M', ht, q, J, L => by
    have hj := jOr_b i hi
    have hl := jA_len _ hj
    refine ⟨M', ?_, q, J, fun x hx => ?_⟩
    · rw [E614_12, if_neg (nI_nlt (by omega) (by omega))]
    · rw [L x hx]
      unfold lqF
      rw [List.take_of_length_le (by omega)]
      by_cases h : x ∈ jAh (jOr i)
      · rw [if_pos h]
      · rw [if_neg h, lq_out hi h]
  | n + 1, t, M', ht, q, J, L => by
    have hj := jOr_b i hi
    have hl := jA_len _ hj
    have htl : t < (jAh (jOr i)).length := by omega
    have hm := jA_mem htl
    have hnd := jA_nd _ hj t htl
    have htk := jA_tk _ hj t htl
    obtain ⟨hx24, hrk⟩ := jRk_lt _ hj _ hm
    have C := C0.fr0 q
    have hah := C.ahe _ hj t htl
    obtain ⟨x, hx⟩ : ∃ x, x = (jAh (jOr i)).getD t 0 := ⟨_, rfl⟩
    rw [← hx] at hm hx24 hrk hah hnd htk
    have hlx : mfi M' 137 (b + 58 + 2 * x) = nI (lq (jLn S.left) (i + 1) x) := by
      rw [L x hx24]; unfold lqF; rw [if_neg hnd]
    have hlj : mfi M' 137 (b + 58 + 2 * jOr i) = nI (la (jLn S.left) (jOr i)) := by
      rw [L _ hj]
      unfold lqF
      rw [if_neg (fun h => by
        have := (jRk_lt _ hj _ (List.mem_of_mem_take h)).2
        omega), lq_la hi]
    have b1 := lq_b (i := i + 1) (x := x) iS
    have b2 := la_b iS hj
    have b3 := ln_la (ln := jLn S.left) hj hm
    obtain ⟨M1, hM1⟩ : ∃ M1, M1 = sfi M' 137 (b + 58 + 2 * x) (nI (min (lq (jLn S.left) (i + 1) x) (la (jLn S.left) (jOr i) - jLn S.left x))) := ⟨_, rfl⟩
    have q1 : QC noX 0 0 M M1 := by rw [hM1]; exact q.tr (QC.sfi rfl)
    obtain ⟨M2, e2, q2, v2⟩ := c614_12 C0 iS (i2 := i2) hi n (t + 1) M1 (by omega) q1 (fun j hj => by rw [hM1, sfi_ne (f' := 136) (by decide)]; exact J j hj) (fun y hy => by
      unfold lqF
      rw [htk]
      by_cases e : y = x
      · rw [e, hM1, sfi_at, if_pos (List.mem_append_right _ (List.mem_singleton.mpr rfl)), lq_in hi hm]
      · rw [hM1, jb_at e, L y hy]
        unfold lqF
        by_cases h : y ∈ (jAh (jOr i)).take t
        · rw [if_pos h, if_pos (List.mem_append_left _ h)]
        · rw [if_neg h, if_neg (fun h9 => by
            rcases List.mem_append.mp h9 with h9 | h9
            · exact h h9
            · exact e (List.mem_singleton.mp h9))])
    refine ⟨M2, Eq.trans ?_ e2, q2, v2⟩
    rw [E614_12, if_pos (nI_lt htl (by omega)), ldI_v (C.ahk _ hj) (C.ahln _ hj) htl (by omega) hah, gR_v C.jsk C.jsa, jb_v C hx24, gR_v C.jsk C.jsa, jb_v C hx24, gI_v (C.jk x hx24) hlx, gI_v (C.jk _ hj) hlj, gR_v C.jsk C.jsa, jb_v C hx24, vc1_ok (C.jk x hx24), cbI_of (c634 C iS hx24), aSub_n b3, cbI_of (x67 (by omega) (by omega)), pI_ok (C.jk x hx24) (C.jco x hx24), ← hM1, show aAdd (nI t) 1 = nI (t + 1) from aAdd_n t 1]
theorem c614_10 (C0 : ShC G M b g S p) (iS : SI S) : ∀ (i : Nat) (M' : Mem), i ≤ 24 → QC noX 0 0 M M' → JbM M' b 136 (ea (jLn S.left)) → JbM M' b 137 (lq (jLn S.left) i) →
    ∃ M2, ex G 1 614 10 [(0, vR (some (b + 55))), (2, vI (dI i))] [] M' = some (.inl none, M2) ∧ QC noX 0 0 M M2 ∧ JbM M2 b 136 (ea (jLn S.left)) ∧ JbM M2 b 137 (la (jLn S.left))
  | 0, M', hi, q, J, L => by
    refine ⟨M', ?_, q, J, fun x hx => by rw [L x hx, lq_0 hx]⟩
    rw [E614_10, if_pos (show dI 0 < 0 by decide)]
    rfl
  | i + 1, M', hi, q, J, L => by
    have hi24 : i < 24 := by omega
    have hj := jOr_b i hi24
    have C := C0.fr0 q
    have hd : dI (i + 1) = nI i := by unfold dI; rw [if_neg (by omega)]; rfl
    obtain ⟨M1, e1, q1, J1, L1⟩ := c614_12 C0 iS (i2 := nI i) hi24 (jAh (jOr i)).length 0 M' (Nat.zero_add _) q J (fun x hx => by
      rw [L x hx]
      unfold lqF
      rw [List.take_zero, if_neg (List.not_mem_nil)])
    rw [dec_n] at e1
    obtain ⟨M2, e2, r⟩ := c614_10 C0 iS i M1 (by omega) q1 J1 L1
    refine ⟨M2, Eq.trans ?_ e2, r⟩
    rw [hd, E614_10, if_neg (nI_pos (by omega)), gR_v C.jsk C.jsa, gR_v C.jsk C.jso, ldI_v C.jok C.joln hi24 (by decide) (C.joe i hi24), jb_v C hj, gR_v (C.jk _ hj) (C.jah _ hj), alen_ok (C.ahk _ hj) (C.ahln _ hj)]
    exact e1
/-- JOBS.PLAN -/
theorem c614 (C : ShC G M b g S p) (iS : SI S) : ∃ M', ex G 1 614 0 [(0, vR (some (b + 55)))] [] M = some (.inl none, M') ∧ QC noX 0 0 M M' ∧ JbM M' b 136 (ea (jLn S.left)) ∧ JbM M' b 137 (la (jLn S.left)) := by
  obtain ⟨M1, e1, q1, J1⟩ := c614_1 C iS 24 0 M rfl QC.rf (fun k hk => absurd hk (Nat.not_lt_zero k))
  have C1 := C.fr0 q1
  obtain ⟨M2, e2, q2, J2, L2⟩ := c614_7 C iS 24 0 M1 rfl q1 J1 (fun k hk => absurd hk (Nat.not_lt_zero k))
  obtain ⟨M3, e3, q3, J3, L3⟩ := c614_10 C iS 24 M2 (Nat.le_refl _) q2 J2 L2
  refine ⟨M3, ?_, q3, J3, L3⟩
  rw [E614_0]
  refine Eq.trans e1 ?_
  rw [E614_1, if_neg (by decide), vc1_ok C1.jsk, cbI_of (c615 C1 iS J1), gR_v C1.jsk C1.jsa, alen_ok C1.jak C1.jaln]
  exact e2.trans e3
end CPM
