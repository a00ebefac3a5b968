set_option maxRecDepth 4000
/-! ===== what is asked of the reference's net ===== -/
section CGR
variable {n : Nat} {fr to_ wd : Nat → Nat} {ok ok' : Nat → Bool} {f : Nat → Nat} {T U : Nat → Bool} {pk pk' : Nat → Nat} {al al' : Nat → Bool} {dep dep' : Nat → Nat}
theorem Fl.cg (F : Fl n fr to_ wd ok f) (h : ∀ k, k < n → ok k = ok' k) : Fl n fr to_ wd ok' f := ⟨F.le, fun k hk ho => F.no k hk (by rw [h k hk]; exact ho), F.ex⟩
theorem Tr.cg (R : Tr n fr to_ wd ok f T pk al dep) (h : ∀ k, k < n → ok k = ok' k) : Tr n fr to_ wd ok' f T pk al dep := ⟨R.z, R.d0, fun v hv h0 ht => by
  obtain ⟨a, b, c⟩ := R.t v hv h0 ht
  exact ⟨a, by rw [← h _ a]; exact b, c⟩⟩
theorem Cl.cg (C : Cl n fr to_ wd ok f T) (h : ∀ k, k < n → ok k = ok' k) : Cl n fr to_ wd ok' f T := fun k hk ho => C k hk (by rw [h k hk]; exact ho)
/-- what is found lies in every closed set -/
theorem Tr.sub (R : Tr n fr to_ wd ok f U pk al dep) (h8 : ∀ k, k < n → fr k < 8 ∧ to_ k < 8) (C : Cl n fr to_ wd ok f T) (h0T : T 0 = true) : ∀ (d v : Nat), dep v = d → v < 8 → U v = true → T v = true
  | 0, v, hd, hv, ht => by
    have h0 : v = 0 := by
      apply Classical.byContradiction
      intro h0
      have := (R.u h8 hv h0 ht).2.2.2.2.2.1
      omega
    rw [h0]; exact h0T
  | d + 1, v, hd, hv, ht => by
    have h0 : v ≠ 0 := fun e => by rw [e, R.d0] at hd; omega
    obtain ⟨r1, r2, r3, r4, r5, r6, r7⟩ := R.u h8 hv h0 ht
    have ih := R.sub h8 C h0T d _ (by omega) r3 r4
    obtain ⟨c1, c2⟩ := C _ r1 r2
    unfold prv at ih
    unfold rsd at r5
    cases ha : al v
    · rw [ha] at ih r5 r7
      simp only [Bool.false_eq_true, if_false] at ih r5 r7
      rw [r7]; exact c2 ih r5
    · rw [ha] at ih r5 r7
      simp only [if_true] at ih r5 r7
      rw [r7]; exact c1 ih (by omega)
end CGR
def fcC (n : Nat) : Nat := 6 * max 2 n - 8
section TNQ
variable {G : Nat → Option Nat} {u : Nat} {g : SG} {P : List Pipe}
theorem okS_1 {P : List Pipe} (k : Nat) (hk : k < 12) : okS P (-1) k = pO P k := by
  unfold okS
  rw [decide_eq_true (show nI k ≠ -1 from fun h => nI_pos (n := k) (by omega) (by rw [h]; decide))]
  rfl
theorem okS_k {P : List Pipe} {j : Nat} (hj : j < P.length) (hl : P.length ≤ 12) (k : Nat) (hk : k < 12) : okS P (nI j) k = pO (shP P j) k := by
  rw [(shP_f hj).2.2.2]
  unfold okS
  by_cases e : k = j
  · subst e
    simp
  · rw [decide_eq_true (show nI k ≠ nI j from fun h => e ((nI_eqI (by omega) (by omega)).mp h))]
    show (true && pO P k) = (pO P k && !(k == j))
    rw [beq_false_of_ne e]
    simp
theorem okc_le {P : List Pipe} {sh : Int32} : okc P sh ≤ P.length := by
  unfold okc
  have : ∀ n, wsum (fun k => if okS P sh k then 1 else 0) n ≤ n := by
    intro n
    induction n with
    | zero => exact Nat.le_refl _
    | succ n ih =>
      show wsum (fun k => if okS P sh k then 1 else 0) n + (if okS P sh n then 1 else 0) ≤ n + 1
      split <;> omega
  exact this _
theorem okc_lt {P : List Pipe} {j : Nat} (hj : j < P.length) : okc P (nI j) + 1 ≤ P.length := by
  unfold okc
  have hz : okS P (nI j) j = false := by
    unfold okS
    simp
  have : ∀ n, wsum (fun k => if okS P (nI j) k then 1 else 0) n + (if j < n then 1 else 0) ≤ n := by
    intro n
    induction n with
    | zero => exact Nat.le_refl _
    | succ n ih =>
      show wsum (fun k => if okS P (nI j) k then 1 else 0) n + (if okS P (nI j) n then 1 else 0) + (if j < n + 1 then 1 else 0) ≤ n + 1
      by_cases e : n = j
      · subst e
        rw [hz, if_neg (by decide), if_pos (Nat.lt_succ_self _)]
        rw [if_neg (Nat.lt_irrefl _)] at ih
        omega
      · by_cases d : j < n
        · rw [if_pos d] at ih
          rw [if_pos (show j < n + 1 by omega)]
          split <;> omega
        · rw [if_neg (show ¬ j < n + 1 by omega)]
          rw [if_neg d] at ih
          split <;> omega
  have h := this P.length
  rw [if_pos hj] at h
  exact h
theorem MxF.mf {f : Nat → Nat} {y : Nat} (hP : PI P) (m : MxF P (-1) f y) : y = nFlow P := by
  obtain ⟨F, e, T, pk, al, dep, R, C, h7⟩ := m
  have hl := hP.1
  have cg : ∀ k, k < P.length → okS P (-1) k = pO P k := fun k hk => okS_1 k (by omega)
  exact nFlow_e hP ⟨f, pk, al, dep, F.cg cg, R.cg cg, C.cg cg, h7, e⟩
theorem MxF.mk_ {f : Nat → Nat} {y j : Nat} (hP : PI P) (hj : j < P.length) (m : MxF P (nI j) f y) : y = nFlow (shP P j) := by
  obtain ⟨F, e, T, pk, al, dep, R, C, h7⟩ := m
  have hl := hP.1
  have cg : ∀ k, k < P.length → okS P (nI j) k = pO (shP P j) k := fun k hk => okS_k hj hl k (by omega)
  obtain ⟨s1, s2, s3, -⟩ := shP_f hj
  refine nFlow_e (shP_I hP hj) (T := T) ⟨f, pk, al, dep, ?_⟩
  rw [shP_len, s1, s2, s3]
  exact ⟨F.cg cg, R.cg cg, C.cg cg, h7, e⟩
/-- FLOW -/
theorem t698 {M : Mem} (hP : PI P) (N : NtT G M u g P) : ∃ M', ex G 2 698 0 [(0, vR (some u))] [] M = some (.inl (some (vI (nI (nFlow P)))), M') ∧ QC noX (fcC P.length) (8 * fcC P.length + 4) M M' := by
  obtain ⟨M', y, f', e, q, m⟩ := t699 hP N (sh := -1)
  have h := m.mf hP
  have hc := okc_le (P := P) (sh := -1)
  refine ⟨M', ?_, q.mono (fun _ h => h) (by unfold fcC puK; omega) (by unfold fcC puK; omega)⟩
  rw [E698_0, vc1_ok N.k, cbI_of e, h]
  rfl
theorem t699k {M : Mem} (hP : PI P) (N : NtT G M u g P) {j : Nat} (hj : j < P.length) : ∃ M', ex G 2 699 0 [(0, vR (some u)), (1, vI (nI j))] [] M = some (.inl (some (vI (nI (nFlow (shP P j))))), M') ∧ QC noX (fcC (P.length - 1)) (8 * fcC (P.length - 1) + 4) M M' := by
  obtain ⟨M', y, f', e, q, m⟩ := t699 hP N (sh := nI j)
  have h := m.mk_ hP hj
  have hc := okc_lt hj
  refine ⟨M', ?_, q.mono (fun _ h => h) (by unfold fcC puK; omega) (by unfold fcC puK; omega)⟩
  rw [e, h]
theorem bit_or {s k : Nat} (hk : k < 32) (b : Bool) : aOr (nI s) (aShl (bI b) (nI k)) = nI (if b then s ||| (1 <<< k) else s) := by
  cases b
  · show aOr (nI s) (aShl (nI 0) (nI k)) = nI s
    rw [aShl_n hk, aOr_n, Nat.zero_shiftLeft, Nat.or_zero]
  · show aOr (nI s) (aShl (nI 1) (nI k)) = nI (s ||| (1 <<< k))
    rw [aShl_n hk, aOr_n]
theorem nFlow_leT {M : Mem} (hP : PI P) (N : NtT G M u g P) : nFlow P ≤ 1188 := by
  obtain ⟨M', y, f', e, q, m⟩ := t699 hP N (sh := -1)
  have hl := hP.1
  rw [← m.mf hP]
  have h1 := val_le m.fl
  rw [m.ex] at h1
  have h2 := wsum_le P.length (fun k hk => (hP.k hk).2.2.2.2)
  omega
theorem nFlow_leS {M : Mem} (hP : PI P) (N : NtT G M u g P) {j : Nat} (hj : j < P.length) : nFlow (shP P j) ≤ 1188 := by
  obtain ⟨M', y, f', e, q, m⟩ := t699 hP N (sh := nI j)
  have hl := hP.1
  rw [← m.mk_ hP hj]
  have h1 := val_le m.fl
  rw [m.ex] at h1
  have h2 := wsum_le P.length (fun k hk => (hP.k hk).2.2.2.2)
  omega
theorem t715_1 {M : Mem} (hP : PI P) (N : NtT G M u g P) {ra : Nat} {T : Nat → Bool} {pk : Nat → Nat} {al : Nat → Bool} (R : RcT M ra T pk al) (hp : ∀ v, v < 8 → v ≠ 0 → T v = true → pk v < 12) : ∀ (n k s : Nat), k + n = P.length → s < 4096 → ex G 2 715 1 [(0, vR (some u)), (2, vR (some ra)), (3, vI (nI s)), (4, vI (nI k))] [] M = some (.inl (some (vI (nI (bsL (fun k => pO P k && (T (pF P k) && !T (pT P k))) n k s)))), M)
  | 0, k, s, hk, hs => by
    have hl := hP.1
    rw [E715_1, gR_v N.k N.rp, vc1_ok N.pps.k, cbI_of (c5 N.pps), if_neg (nI_nlt (by omega) (by omega))]
    rfl
  | n + 1, k, s, hk, hs => by
    have hl := hP.1
    have hkl : k < P.length := by omega
    obtain ⟨p1, p2, -⟩ := hP.k hkl
    obtain ⟨h1, h2, h3, h4, h5, h6, h7, h8⟩ := N.px k _ (pA_e hkl)
    have h4' : mai M (g.ps k) 0 = nI (pF P k) := h4
    have h5' : mai M (g.ps k) 1 = nI (pT P k) := h5
    have e3 := t703 (c := 2) N hkl (sh := -1)
    rw [okS_1 k (by omega)] at e3
    have z0 : ex G 2 381 0 [(0, vI 0)] [] M = some (.inl (some (vI (bI false))), M) := t381 (b := false)
    have z1 : ex G 2 381 0 [(0, vI 1)] [] M = some (.inl (some (vI (bI true))), M) := t381 (b := true)
    rw [E715_1, gR_v N.k N.rp, vc1_ok N.pps.k, cbI_of (c5 N.pps), if_pos (nI_lt hkl (by omega)), vc1_ok N.k, cbI_of e3, show aAdd (nI k) 1 = nI (k + 1) from aAdd_n k 1, bsL_s]
    cases hok : pO P k
    · rw [bI_f, cbI_of z0, bit_or (by omega), nmI_ok]
      exact t715_1 hP N R hp n (k + 1) s (by omega) hs
    · rw [bI_t, gR_v N.k N.rp, vc1_ok N.pps.k, cbR_of (c6 N.pps hkl), cst_q N hkl, show (0 : Int32) = nI 0 from rfl, ldI_v h1 h3 (by decide) (by decide) h4', ldI_v R.k R.ln p1 (by decide) (R.v _ p1), show nI 0 = (0 : Int32) from rfl]
      cases ha : T (pF P k)
      · rw [if_pos (cd_f ha), cbI_of z0, bit_or (by omega), nmI_ok]
        exact t715_1 hP N R hp n (k + 1) s (by omega) hs
      · rw [if_neg (cd_t ha (fun h => hp _ p1 h ha)), gR_v N.k N.rp, vc1_ok N.pps.k, cbR_of (c6 N.pps hkl), cst_q N hkl]
        refine Eq.trans (ldI_v h1 h3 (show 1 < 5 by decide) (by decide) h5') ?_
        rw [ldI_v R.k R.ln p2 (by decide) (R.v _ p2)]
        cases hb : T (pT P k)
        · rw [if_pos (cd_f hb), cbI_of z1, bit_or (by omega), nmI_ok]
          exact t715_1 hP N R hp n (k + 1) _ (by omega) (or_lt hs (by omega))
        · rw [if_neg (cd_t hb (fun h => hp _ p2 h hb)), cbI_of z0, bit_or (by omega), nmI_ok]
          exact t715_1 hP N R hp n (k + 1) s (by omega) hs
/-- NARROW -/
theorem t715 {M : Mem} (hP : PI P) (N : NtT G M u g P) : ∃ M', ex G 2 715 0 [(0, vR (some u))] [] M = some (.inl (some (vI (nI (nNar P)))), M') ∧ QC noX (fcC P.length + 1) (8 * fcC P.length + 12) M M' := by
  obtain ⟨M0, hM0⟩ : ∃ M0, M0 = marr M 2 100 12 := ⟨_, rfl⟩
  have q0 : QC noX 1 12 M M0 := by rw [hM0]; exact qc_marr
  have n0 : mnx M0 = mnx M + 1 := by rw [hM0, mnx_marr]
  have k0 : mcl M0 (mnx M) = 100 := by rw [hM0, mcl_marr]; exact up1_at9
  have o0 : mco M0 (mnx M) = 2 := by rw [hM0, mco_marr]; exact up1_at9
  have l0 : mln M0 (mnx M) = 12 := by rw [hM0, mln_marr]; exact up1_at9
  have hpr : ∀ i, i < P.length → g.ps i ≠ mnx M := fun i hi h => by have := N.pxl i hi; omega
  have N0 := N.fr0 q0
  have hl := hP.1
  have hc := okc_le (P := P) (sh := -1)
  obtain ⟨M1, y, f', e1, q1, F1, m1⟩ := t700 hP N0 hpr (sh := -1) k0 o0 l0 (by omega)
  have N1 := N0.fr q1 (fun i hi h => hpr i hi h)
  obtain ⟨M2, T, pk, al, dep, τ, e2, q2, n2, L⟩ := t702 hP N1 F1 m1.fl.le (sh := -1)
  have N2 := N1.fr0 q2
  obtain ⟨F, ex1, U, pk1, al1, dep1, R1, C1, h7⟩ := m1
  have cg : ∀ k, k < P.length → okS P (-1) k = pO P k := fun k hk => okS_1 k (by omega)
  have hT7 : T 7 = false := by
    cases h : T 7 with
    | false => rfl
    | true =>
      have := L.l.tr.sub hP.h8 C1 R1.z _ 7 rfl (by decide) h
      rw [h7] at this; cases this
  have hcut := nCut_e hP (x := y) (T := T) ⟨f', pk, al, dep, F.cg cg, L.l.tr.cg cg, (L.l.cl hP.h8).cg cg, hT7, ex1⟩
  refine ⟨M2, ?_, ((q0.fresh q1 (fun a h => by rw [show a = mnx M from h]; exact Nat.le_refl _)).tr q2).mono (fun _ h => h) (by unfold fcC puK; omega) (by unfold fcC puK; omega)⟩
  rw [E715_0, show (12 : Int32) = nI 12 from rfl, mka_ok (by decide), ← hM0, vc1_ok N0.k, cbI_of e1, vc1_ok N1.k, cbR_of e2]
  have e := t715_1 hP N2 L.r (fun v hv h0 ht => by have := (L.l.u hP.h8 hv h0 ht).1; omega) P.length 0 0 (Nat.zero_add _) (by decide)
  refine Eq.trans e ?_
  unfold nNar bset
  rw [bsL_congr P.length 0 0 (fun j _ hj => ?_)]
  have := hP.h8 j (by omega)
  rw [hcut _ this.1, hcut _ this.2]
theorem t717_1 {M : Mem} (hP : PI P) (N : NtT G M u g P) {w : Nat} {q : Nat → Bool} (hw : w < 5) (hq : ∀ k, k < P.length → mai M (g.ps k) w = bI (q k)) : ∀ (n k s : Nat), k + n = P.length → s < 4096 → ex G 2 717 1 [(0, vR (some u)), (1, vI (nI w)), (2, vI (nI s)), (3, vI (nI k))] [] M = some (.inl (some (vI (nI (bsL q n k s)))), M)
  | 0, k, s, hk, hs => by
    have hl := hP.1
    rw [E717_1, gR_v N.k N.rp, vc1_ok N.pps.k, cbI_of (c5 N.pps), if_neg (nI_nlt (by omega) (by omega))]
    rfl
  | n + 1, k, s, hk, hs => by
    have hl := hP.1
    have hkl : k < P.length := by omega
    obtain ⟨h1, h2, h3, -⟩ := N.px k _ (pA_e hkl)
    rw [E717_1, gR_v N.k N.rp, vc1_ok N.pps.k, cbI_of (c5 N.pps), if_pos (nI_lt hkl (by omega)), gR_v N.k N.rp, vc1_ok N.pps.k, cbR_of (c6 N.pps hkl), cst_q N hkl, ldI_v h1 h3 hw (by decide) (hq k hkl), bit_or (by omega), nmI_ok, show aAdd (nI k) 1 = nI (k + 1) from aAdd_n k 1, bsL_s]
    refine t717_1 hP N hw hq n (k + 1) _ (by omega) ?_
    split
    · exact or_lt hs (by omega)
    · exact hs
theorem t718_1 (hP : PI P) : ∀ (n k s : Nat) (M : Mem), k + n = P.length → s < 4096 → NtT G M u g P → ∃ M', ex G 2 718 1 [(0, vR (some u)), (1, vI (nI (nFlow P))), (2, vI (nI s)), (3, vI (nI k))] [] M = some (.inl (some (vI (nI (bsL (fun k => pO P k && (nFlow (shP P k) == nFlow P)) n k s)))), M') ∧ QC noX (n * fcC (P.length - 1)) (n * (8 * fcC (P.length - 1) + 4)) M M'
  | 0, k, s, M, hk, hs, N => by
    have hl := hP.1
    refine ⟨M, ?_, QC.rf⟩
    rw [E718_1, gR_v N.k N.rp, vc1_ok N.pps.k, cbI_of (c5 N.pps), if_neg (nI_nlt (by omega) (by omega))]
    rfl
  | n + 1, k, s, M, hk, hs, N => by
    have hl := hP.1
    have hkl : k < P.length := by omega
    have b1 := nFlow_leT hP N
    have b2 := nFlow_leS hP N hkl
    have e3 := t703 (c := 2) N hkl (sh := -1)
    rw [okS_1 k (by omega)] at e3
    have z0 : ∀ M, ex G 2 381 0 [(0, vI 0)] [] M = some (.inl (some (vI (bI false))), M) := fun M => t381 (b := false)
    have z1 : ∀ M, ex G 2 381 0 [(0, vI 1)] [] M = some (.inl (some (vI (bI true))), M) := fun M => t381 (b := true)
    rw [E718_1, gR_v N.k N.rp, vc1_ok N.pps.k, cbI_of (c5 N.pps), if_pos (nI_lt hkl (by omega)), vc1_ok N.k, cbI_of e3, show aAdd (nI k) 1 = nI (k + 1) from aAdd_n k 1]
    rw [bsL_s, Nat.succ_mul, Nat.succ_mul]
    cases hok : pO P k
    · rw [bI_f, cbI_of (z0 M), bit_or (by omega), nmI_ok]
      obtain ⟨M', e', q'⟩ := t718_1 hP n (k + 1) s M (by omega) hs N
      exact ⟨M', e', q'.mono (fun _ h => h) (by omega) (by omega)⟩
    · obtain ⟨M1, e1, q1⟩ := t699k hP N hkl
      rw [bI_t, vc1_ok N.k, cbI_of e1]
      by_cases h : nFlow (shP P k) = nFlow P
      · rw [if_pos (by rw [h]), cbI_of (z1 M1), bit_or (by omega), nmI_ok, h]
        obtain ⟨M', e', q'⟩ := t718_1 hP n (k + 1) (s ||| (1 <<< k)) M1 (by omega) (or_lt hs (by omega)) (N.fr0 q1)
        refine ⟨M', ?_, (q1.tr q').mono (fun _ h => h) (by omega) (by omega)⟩
        simp only [beq_self_eq_true, Bool.and_true, if_true]
        exact e'
      · rw [if_neg (fun h9 => h ((nI_eqI (by omega) (by omega)).mp h9)), cbI_of (z0 M1), bit_or (by omega), nmI_ok]
        obtain ⟨M', e', q'⟩ := t718_1 hP n (k + 1) s M1 (by omega) hs (N.fr0 q1)
        refine ⟨M', ?_, (q1.tr q').mono (fun _ h => h) (by omega) (by omega)⟩
        rw [beq_false_of_ne h]
        exact e'
theorem t719_1 (hP : PI P) : ∀ (n k m : Nat) (M : Mem), k + n = P.length → m ≤ 1188 → NtT G M u g P → ∃ M', ex G 2 719 1 [(0, vR (some u)), (1, vI (nI m)), (2, vI (nI k))] [] M = some (.inl (some (vI (nI (lfL P n k m)))), M') ∧ QC noX (n * fcC (P.length - 1)) (n * (8 * fcC (P.length - 1) + 4)) M M'
  | 0, k, m, M, hk, hm, N => by
    have hl := hP.1
    refine ⟨M, ?_, QC.rf⟩
    rw [E719_1, gR_v N.k N.rp, vc1_ok N.pps.k, cbI_of (c5 N.pps), if_neg (nI_nlt (by omega) (by omega))]
    rfl
  | n + 1, k, m, M, hk, hm, N => by
    have hl := hP.1
    have hkl : k < P.length := by omega
    have b2 := nFlow_leS hP N hkl
    have e3 := t703 (c := 2) N hkl (sh := -1)
    rw [okS_1 k (by omega)] at e3
    rw [E719_1, gR_v N.k N.rp, vc1_ok N.pps.k, cbI_of (c5 N.pps), if_pos (nI_lt hkl (by omega)), vc1_ok N.k, cbI_of e3, show aAdd (nI k) 1 = nI (k + 1) from aAdd_n k 1]
    rw [lfL_s, Nat.succ_mul, Nat.succ_mul]
    cases hok : pO P k
    · rw [bI_f]
      obtain ⟨M', e', q'⟩ := t719_1 hP n (k + 1) m M (by omega) hm N
      exact ⟨M', e', q'.mono (fun _ h => h) (by omega) (by omega)⟩
    · obtain ⟨M1, e1, q1⟩ := t699k hP N hkl
      rw [bI_t, vc1_ok N.k, cbI_of e1, cbI_of (x67 (by omega) (by omega))]
      obtain ⟨M', e', q'⟩ := t719_1 hP n (k + 1) (min m (nFlow (shP P k))) M1 (by omega) (by omega) (N.fr0 q1)
      exact ⟨M', e', (q1.tr q').mono (fun _ h => h) (by omega) (by omega)⟩
theorem t723_1 {M : Mem} (hP : PI P) (N : NtT G M u g P) {s : Nat} (hs : s < 4096) : ∀ (n k a : Nat), k + n = P.length → a ≤ 99 * k → ex G 2 723 1 [(0, vR (some u)), (1, vI (nI s)), (2, vI (nI a)), (3, vI (nI k))] [] M = some (.inl (some (vI (nI (wdL P s n k a)))), M)
  | 0, k, a, hk, ha => by
    have hl := hP.1
    rw [E723_1, gR_v N.k N.rp, vc1_ok N.pps.k, cbI_of (c5 N.pps), if_neg (nI_nlt (by omega) (by omega))]
    rfl
  | n + 1, k, a, hk, ha => by
    have hl := hP.1
    have hkl : k < P.length := by omega
    have hw := (hP.k hkl).2.2.2.2
    obtain ⟨h1, h2, h3, h4, h5, h6, h7, h8⟩ := N.px k _ (pA_e hkl)
    have h6' : mai M (g.ps k) 2 = nI (pW P k) := h6
    rw [E723_1, gR_v N.k N.rp, vc1_ok N.pps.k, cbI_of (c5 N.pps), if_pos (nI_lt hkl (by omega)), cbI_of (t379 (by omega) (by omega)), show aAdd (nI k) 1 = nI (k + 1) from aAdd_n k 1]
    show (_ : Res) = some (.inl (some (vI (nI (wdL P s n (k + 1) (a + if bt s k then pW P k else 0))))), M)
    cases bt s k
    · rw [bI_f, show aAdd (nI a) 0 = nI (a + 0) from aAdd_n a 0, nmI_ok]
      exact t723_1 hP N hs n (k + 1) _ (by omega) (by omega)
    · rw [bI_t, gR_v N.k N.rp, vc1_ok N.pps.k, cbR_of (c6 N.pps hkl), cst_q N hkl, show (2 : Int32) = nI 2 from rfl, ldI_v h1 h3 (by decide) (by decide) h6', aAdd_n, nmI_ok]
      exact t723_1 hP N hs n (k + 1) _ (by omega) (by omega)
/-- WIDTHS -/
theorem t723 {M : Mem} (hP : PI P) (N : NtT G M u g P) {s : Nat} (hs : s < 4096) : ex G 2 723 0 [(0, vR (some u)), (1, vI (nI s))] [] M = some (.inl (some (vI (nI (nWid P s)))), M) := by
  rw [E723_0]
  exact t723_1 hP N hs P.length 0 0 (Nat.zero_add _) (Nat.zero_le _)
end TNQ
