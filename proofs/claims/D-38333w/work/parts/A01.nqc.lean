set_option maxRecDepth 4000
/-! ===== the class' net: what is asked of it ===== -/
noncomputable def nFlow (P : List Pipe) : Nat := by classical exact if h : ∃ x T, MF P x T then h.choose else 0
noncomputable def nCut (P : List Pipe) : Nat → Bool := by classical exact if h : ∃ T x, MF P x T then h.choose else fun _ => false
theorem nFlow_e {P : List Pipe} (hP : PI P) {x : Nat} {T : Nat → Bool} (h : MF P x T) : x = nFlow P := by
  have hh : ∃ x T, MF P x T := ⟨x, T, h⟩
  have e : nFlow P = hh.choose := dif_pos hh
  rw [e]
  obtain ⟨U, hU⟩ := hh.choose_spec
  exact (h.uni hP hU).1
theorem nCut_e {P : List Pipe} (hP : PI P) {x : Nat} {T : Nat → Bool} (h : MF P x T) : ∀ v, v < 8 → T v = nCut P v := by
  have hh : ∃ T x, MF P x T := ⟨T, x, h⟩
  have e : nCut P = hh.choose := dif_pos hh
  rw [e]
  obtain ⟨y, hU⟩ := hh.choose_spec
  exact (h.uni hP hU).2
/-- a set of pipes, bit by bit -/
def bsL (q : Nat → Bool) : Nat → Nat → Nat → Nat
  | 0, _, s => s
  | n + 1, k, s => bsL q n (k + 1) (if q k then s ||| (1 <<< k) else s)
def bset (q : Nat → Bool) (n : Nat) : Nat := bsL q n 0 0
theorem bsL_congr {q r : Nat → Bool} : ∀ (n k s : Nat), (∀ j, k ≤ j → j < k + n → q j = r j) → bsL q n k s = bsL r n k s
  | 0, _, _, _ => rfl
  | n + 1, k, s, h => by
    unfold bsL
    rw [h k (Nat.le_refl _) (by omega)]
    exact bsL_congr n (k + 1) _ (fun j h1 h2 => h j (by omega) (by omega))
theorem or_lt {s k : Nat} (hs : s < 4096) (hk : k < 12) : s ||| (1 <<< k) < 4096 := by
  apply Nat.or_lt_two_pow (n := 12) hs
  rw [Nat.one_shiftLeft]
  exact Nat.pow_lt_pow_right (by decide) hk
theorem bsL_lt {q : Nat → Bool} : ∀ (n k s : Nat), k + n ≤ 12 → s < 4096 → bsL q n k s < 4096
  | 0, _, _, _, h => h
  | n + 1, k, s, hk, h => by
    unfold bsL
    refine bsL_lt n (k + 1) _ (by omega) ?_
    split
    · exact or_lt h (by omega)
    · exact h
theorem bset_lt {q : Nat → Bool} {n : Nat} (h : n ≤ 12) : bset q n < 4096 := bsL_lt n 0 0 (by omega) (by decide)
def wdL (P : List Pipe) (s : Nat) : Nat → Nat → Nat → Nat
  | 0, _, a => a
  | n + 1, k, a => wdL P s n (k + 1) (a + if bt s k then pW P k else 0)
noncomputable def nNar (P : List Pipe) : Nat := bset (fun k => pO P k && (nCut P (pF P k) && !nCut P (pT P k))) P.length
def nWid (P : List Pipe) (s : Nat) : Nat := wdL P s P.length 0 0
def shP (P : List Pipe) (k : Nat) : List Pipe := P.set k (Pipe.s_shut (pA P k) true)
noncomputable def nSpr (P : List Pipe) : Nat := bset (fun k => pO P k && (nFlow (shP P k) == nFlow P)) P.length
noncomputable def lfL (P : List Pipe) : Nat → Nat → Nat → Nat
  | 0, _, m => m
  | n + 1, k, m => lfL P n (k + 1) (if pO P k then min m (nFlow (shP P k)) else m)
noncomputable def nLst (P : List Pipe) : Nat := lfL P P.length 0 (nFlow P)
theorem bsL_s {q : Nat → Bool} {n k s : Nat} : bsL q (n + 1) k s = bsL q n (k + 1) (if q k then s ||| (1 <<< k) else s) := rfl
theorem lfL_s {P : List Pipe} {n k m : Nat} : lfL P (n + 1) k m = lfL P n (k + 1) (if pO P k then min m (nFlow (shP P k)) else m) := rfl
theorem shP_len {P : List Pipe} {k : Nat} : (shP P k).length = P.length := List.length_set
theorem shP_A {P : List Pipe} {k : Nat} (hk : k < P.length) (j : Nat) : pA (shP P k) j = if j = k then Pipe.s_shut (pA P k) true else pA P j := by
  unfold shP
  unfold pA
  rw [List.getD_eq_getElem?_getD, List.getElem?_set]
  by_cases h : j = k
  · subst h
    rw [if_pos rfl, if_pos rfl, if_pos hk]
    rfl
  · rw [if_neg (fun e => h e.symm), if_neg h, List.getD_eq_getElem?_getD]
theorem shP_f {P : List Pipe} {k : Nat} (hk : k < P.length) : pF (shP P k) = pF P ∧ pT (shP P k) = pT P ∧ pW (shP P k) = pW P ∧ pO (shP P k) = fun j => pO P j && !(j == k) := by
  refine ⟨funext fun j => ?_, funext fun j => ?_, funext fun j => ?_, funext fun j => ?_⟩
  · unfold pF; rw [shP_A hk]; split
    · next h => rw [h]; rfl
    · rfl
  · unfold pT; rw [shP_A hk]; split
    · next h => rw [h]; rfl
    · rfl
  · unfold pW; rw [shP_A hk]; split
    · next h => rw [h]; rfl
    · rfl
  · unfold pO; rw [shP_A hk]
    by_cases h : j = k
    · subst h
      rw [if_pos rfl]
      have : (Pipe.s_shut (pA P j) true).shut = true := rfl
      rw [this]
      simp
    · rw [if_neg h]
      simp [h]
theorem shP_I {P : List Pipe} (hP : PI P) {k : Nat} (hk : k < P.length) : PI (shP P k) := by
  refine ⟨by rw [shP_len]; exact hP.1, fun x hx => ?_⟩
  obtain ⟨j, hj⟩ := List.getElem?_of_mem hx
  have hjl := (List.getElem?_eq_some_iff.mp hj).1
  rw [shP_len] at hjl
  have e := pA_e (P := shP P k) (k := j) (by rw [shP_len]; exact hjl)
  rw [hj] at e
  injection e with e
  obtain ⟨f1, f2, f3, -⟩ := shP_f hk
  have a1 : x.fr = pF P j := by rw [← f1, e]; rfl
  have a2 : x.to = pT P j := by rw [← f2, e]; rfl
  have a3 : x.wd = pW P j := by rw [← f3, e]; rfl
  rw [a1, a2, a3]
  exact hP.k hjl
section NQC
variable {G : Nat → Option Nat} {b : Nat} {g : SG} {P : List Pipe}
theorem NtC.sh {M : Mem} (N : NtC G M b g P) {k : Nat} (hk : k < P.length) : NtC G (sfi M 163 (g.ps k) (bI true)) b g (shP P k) := by
  refine ⟨by rw [mnx_sfi]; exact N.lt, by rw [mcl_sfi]; exact N.nk, by rw [mco_sfi]; exact N.nco, by rw [mfr_sfi]; exact N.npi, by rw [mfr_sfi]; exact N.nre, by rw [mfr_sfi]; exact N.nby, by rw [mfr_sfi]; exact N.nqu, by rw [mcl_sfi]; exact N.rek, by rw [mco_sfi]; exact N.reco, by rw [mln_sfi]; exact N.reln, by rw [mcl_sfi]; exact N.byk, by rw [mco_sfi]; exact N.byco, by rw [mln_sfi]; exact N.byln, by rw [mcl_sfi]; exact N.quk, by rw [mco_sfi]; exact N.quco, by rw [mln_sfi]; exact N.quln, by rw [shP_len]; exact N.pps.sfi_ (by decide), fun i hi => by rw [mnx_sfi]; exact N.pxl i (by rw [shP_len] at hi; exact hi), fun i j hi hj => N.pxi i j (by rw [shP_len] at hi; exact hi) (by rw [shP_len] at hj; exact hj), fun i x hx => ?_⟩
  have hil := (List.getElem?_eq_some_iff.mp hx).1
  rw [shP_len] at hil
  have e := pA_e (P := shP P k) (k := i) (by rw [shP_len]; exact hil)
  rw [hx] at e
  injection e with e
  rw [shP_A hk] at e
  obtain ⟨h1, h2, h3, h4, h5, h6, h7⟩ := N.px i _ (pA_e hil)
  rw [mcl_sfi, mco_sfi, sfi_ne (f' := 160) (by decide), sfi_ne (f' := 161) (by decide), sfi_ne (f' := 162) (by decide), sfi_ne (f' := 164) (by decide), sfi_ix]
  by_cases h : i = k
  · subst h
    rw [if_pos rfl] at e
    rw [e, if_pos rfl]
    exact ⟨h1, h2, h3, h4, h5, rfl, h7⟩
  · rw [if_neg h] at e
    rw [e, if_neg (fun h9 => h (N.pxi i k hil hk h9))]
    exact ⟨h1, h2, h3, h4, h5, h6, h7⟩
theorem c530' {M : Mem} (hP : PI P) (N : NtC G M b g P) : ∃ M', ex G 1 530 0 [(0, vR (some (b + 8)))] [] M = some (.inl (some (vI (nI (nFlow P)))), M') ∧ QC (ntX b) 0 0 M M' ∧ RcM M' b (nCut P) := by
  obtain ⟨M', y, T, e, q, m, r⟩ := c530 hP N
  rw [nFlow_e hP m] at e
  exact ⟨M', e, q, fun v hv => by rw [r v hv, nCut_e hP m v hv]⟩
/-- NET.FLOWWITHOUT -/
theorem c540 {M : Mem} (hP : PI P) (N : NtC G M b g P) {k : Nat} (hk : k < P.length) (ho : pO P k = true) : ∃ M', ex G 1 540 0 [(0, vR (some (b + 8))), (1, vR (some (g.ps k)))] [] M = some (.inl (some (vI (nI (nFlow (shP P k))))), M') ∧ QC (ntX b) 0 0 M M' := by
  obtain ⟨h1, h2, -, -, -, h6, -⟩ := N.px k _ (pA_e hk)
  have N1 := N.sh hk
  obtain ⟨M2, e2, q2, -⟩ := c530' (shP_I hP hk) N1
  have hs : (pA P k).shut = false := by
    unfold pO at ho
    cases h : (pA P k).shut
    · rfl
    · rw [h] at ho; cases ho
  rw [hs] at h6
  have q12 : QC (ntX b) 0 0 M (sfi M2 163 (g.ps k) (bI false)) := qc_tmp q2 h6
  have hl : g.ps k < mnx (sfi M 163 (g.ps k) (bI true)) := by rw [mnx_sfi]; exact N.pxl k hk
  refine ⟨_, ?_, q12⟩
  rw [E540_0]
  rw [show (pZ M 1 32 163 (some (g.ps k)) 1 : (Mem → Res) → Res) = pZ M 1 32 163 (some (g.ps k)) (bI true) from rfl, pZ_ok h1 h2 (by decide), vc1_ok N1.nk, cbI_of e2]
  exact pZ_ok (by rw [q2.cl _ hl, mcl_sfi]; exact h1) (by rw [q2.co _ hl, mco_sfi]; exact h2) (by decide)
theorem c535_1 {M : Mem} (hP : PI P) (N : NtC G M b g P) {T : Nat → Bool} (hR : RcM M b T) : ∀ (n k s : Nat), k + n = P.length → s < 4096 → ex G 1 535 1 [(0, vR (some (b + 8))), (1, vI (nI s)), (2, vI (nI k))] [] M = some (.inl (some (vI (nI (bsL (fun k => pO P k && (T (pF P k) && !T (pT P k))) n k s)))), M)
  | 0, k, s, hk, hs => by
    have hl := hP.1
    rw [E535_1, gR_v N.nk N.npi, vc1_ok N.pps.k, cbI_of (c5 N.pps), if_neg (nI_nlt (by omega) (by omega))]
    rfl
  | n + 1, k, s, hk, hs => by
    have hl := hP.1
    have hkl : k < P.length := by omega
    obtain ⟨p1, p2, -⟩ := hP.k hkl
    obtain ⟨h1, -, h3, h4, -⟩ := N.px k _ (pA_e hkl)
    have h3' : mfi M 160 (g.ps k) = nI (pF P k) := h3
    have h4' : mfi M 161 (g.ps k) = nI (pT P k) := h4
    have o0 : aOr (nI s) 0 = nI s := by rw [show (0 : Int32) = nI 0 from rfl, aOr_n, Nat.or_zero]
    rw [E535_1, gR_v N.nk N.npi, vc1_ok N.pps.k, cbI_of (c5 N.pps), if_pos (nI_lt hkl (by omega)), gR_v N.nk N.npi, vc1_ok N.pps.k, cbR_of (c6 N.pps hkl), cst_p N hkl, vc1_ok h1, cbI_of (c749 N hkl), o0, show aAdd (nI k) 1 = nI (k + 1) from aAdd_n k 1, show aShl 1 (nI k) = nI (1 <<< k) from aShl_n (a := 1) (by omega), aOr_n]
    show (_ : Res) = some (.inl (some (vI (nI (bsL (fun k => pO P k && (T (pF P k) && !T (pT P k))) n (k + 1) (if pO P k && (T (pF P k) && !T (pT P k)) then s ||| (1 <<< k) else s))))), M)
    cases hok : pO P k
    · rw [if_pos (show bI false = 0 from rfl), nmI_ok]
      exact c535_1 hP N hR n (k + 1) s (by omega) hs
    · rw [if_neg (show ¬ bI true = 0 by decide), gR_v N.nk N.nre, gI_v h1 h3', ldI_v N.rek N.reln p1 (by decide) (hR _ p1)]
      cases ha : T (pF P k)
      · rw [if_pos (show bI false = 0 from rfl), nmI_ok]
        exact c535_1 hP N hR n (k + 1) s (by omega) hs
      · rw [if_neg (show ¬ bI true = 0 by decide), gR_v N.nk N.nre, gI_v h1 h4', ldI_v N.rek N.reln p2 (by decide) (hR _ p2)]
        cases hb : T (pT P k)
        · rw [if_pos (show bI false = 0 from rfl), nmI_ok]
          exact c535_1 hP N hR n (k + 1) _ (by omega) (or_lt hs (by omega))
        · rw [if_neg (show ¬ bI true = 0 by decide), nmI_ok]
          exact c535_1 hP N hR n (k + 1) s (by omega) hs
/-- NET.NARROW -/
theorem c535 {M : Mem} (hP : PI P) (N : NtC G M b g P) : ∃ M', ex G 1 535 0 [(0, vR (some (b + 8)))] [] M = some (.inl (some (vI (nI (nNar P)))), M') ∧ QC (ntX b) 0 0 M M' := by
  obtain ⟨M1, e1, q1, r1⟩ := c530' hP N
  refine ⟨M1, ?_, q1⟩
  rw [E535_0, vc1_ok N.nk, cbI_of e1]
  exact c535_1 hP (N.fr q1) r1 P.length 0 0 (Nat.zero_add _) (by decide)
theorem c536_1 {M : Mem} (hP : PI P) (N : NtC G M b g P) {s : Nat} (hs : s < 4096) : ∀ (n k a : Nat), k + n = P.length → a ≤ 99 * k → ex G 1 536 1 [(0, vR (some (b + 8))), (1, vI (nI s)), (2, vI (nI a)), (3, vI (nI k))] [] M = some (.inl (some (vI (nI (wdL P s n k a)))), M)
  | 0, k, a, hk, ha => by
    have hl := hP.1
    rw [E536_1, gR_v N.nk N.npi, vc1_ok N.pps.k, cbI_of (c5 N.pps), if_neg (nI_nlt (by omega) (by omega))]
    rfl
  | n + 1, k, a, hk, ha => by
    have hl := hP.1
    have hkl : k < P.length := by omega
    have hw := (hP.k hkl).2.2.2.2
    obtain ⟨h1, -, -, -, h5, -⟩ := N.px k _ (pA_e hkl)
    have h5' : mfi M 162 (g.ps k) = nI (pW P k) := h5
    rw [E536_1, gR_v N.nk N.npi, vc1_ok N.pps.k, cbI_of (c5 N.pps), if_pos (nI_lt hkl (by omega)), gR_v N.nk N.npi, vc1_ok N.pps.k, cbR_of (c6 N.pps hkl), cst_p N hkl, gI_v h1 h5', bit_n (by omega) (by omega), aMul_n, nmI_ok, aAdd_n, show aAdd (nI k) 1 = nI (k + 1) from aAdd_n k 1]
    have e : a + (if bt s k then 1 else 0) * pW P k = a + if bt s k then pW P k else 0 := by
      cases bt s k
      · simp
      · simp
    rw [e]
    exact c536_1 hP N hs n (k + 1) _ (by omega) (by split <;> omega)
/-- NET.WIDTHS -/
theorem c536 {M : Mem} (hP : PI P) (N : NtC G M b g P) {s : Nat} (hs : s < 4096) : ex G 1 536 0 [(0, vR (some (b + 8))), (1, vI (nI s))] [] M = some (.inl (some (vI (nI (nWid P s)))), M) := by
  rw [E536_0]
  exact c536_1 hP N hs P.length 0 0 (Nat.zero_add _) (Nat.zero_le _)
theorem c537_1 {M : Mem} (hP : PI P) (N : NtC G M b g P) : ∀ (n k s : Nat), k + n = P.length → s < 4096 → ex G 1 537 1 [(0, vR (some (b + 8))), (1, vI (nI s)), (2, vI (nI k))] [] M = some (.inl (some (vI (nI (bsL (fun k => (pA P k).burst) n k s)))), M)
  | 0, k, s, hk, hs => by
    have hl := hP.1
    rw [E537_1, gR_v N.nk N.npi, vc1_ok N.pps.k, cbI_of (c5 N.pps), if_neg (nI_nlt (by omega) (by omega))]
    rfl
  | n + 1, k, s, hk, hs => by
    have hl := hP.1
    have hkl : k < P.length := by omega
    obtain ⟨h1, -, -, -, -, h6, h7⟩ := N.px k _ (pA_e hkl)
    have o0 : aOr (nI s) 0 = nI s := by rw [show (0 : Int32) = nI 0 from rfl, aOr_n, Nat.or_zero]
    rw [E537_1, gR_v N.nk N.npi, vc1_ok N.pps.k, cbI_of (c5 N.pps), if_pos (nI_lt hkl (by omega)), gR_v N.nk N.npi, vc1_ok N.pps.k, cbR_of (c6 N.pps hkl), cst_p N hkl, gI_v h1 h7, o0, show aAdd (nI k) 1 = nI (k + 1) from aAdd_n k 1, show aShl 1 (nI k) = nI (1 <<< k) from aShl_n (a := 1) (by omega), aOr_n]
    show (_ : Res) = some (.inl (some (vI (nI (bsL (fun k => (pA P k).burst) n (k + 1) (if (pA P k).burst then s ||| (1 <<< k) else s))))), M)
    cases hok : (pA P k).burst
    · rw [if_pos (show bI false = 0 from rfl), nmI_ok]
      exact c537_1 hP N n (k + 1) s (by omega) hs
    · rw [if_neg (show ¬ bI true = 0 by decide), nmI_ok]
      exact c537_1 hP N n (k + 1) _ (by omega) (or_lt hs (by omega))
theorem c538_1 {M : Mem} (hP : PI P) (N : NtC G M b g P) : ∀ (n k s : Nat), k + n = P.length → s < 4096 → ex G 1 538 1 [(0, vR (some (b + 8))), (1, vI (nI s)), (2, vI (nI k))] [] M = some (.inl (some (vI (nI (bsL (fun k => (pA P k).shut) n k s)))), M)
  | 0, k, s, hk, hs => by
    have hl := hP.1
    rw [E538_1, gR_v N.nk N.npi, vc1_ok N.pps.k, cbI_of (c5 N.pps), if_neg (nI_nlt (by omega) (by omega))]
    rfl
  | n + 1, k, s, hk, hs => by
    have hl := hP.1
    have hkl : k < P.length := by omega
    obtain ⟨h1, -, -, -, -, h6, h7⟩ := N.px k _ (pA_e hkl)
    have o0 : aOr (nI s) 0 = nI s := by rw [show (0 : Int32) = nI 0 from rfl, aOr_n, Nat.or_zero]
    rw [E538_1, gR_v N.nk N.npi, vc1_ok N.pps.k, cbI_of (c5 N.pps), if_pos (nI_lt hkl (by omega)), gR_v N.nk N.npi, vc1_ok N.pps.k, cbR_of (c6 N.pps hkl), cst_p N hkl, gI_v h1 h6, o0, show aAdd (nI k) 1 = nI (k + 1) from aAdd_n k 1, show aShl 1 (nI k) = nI (1 <<< k) from aShl_n (a := 1) (by omega), aOr_n]
    show (_ : Res) = some (.inl (some (vI (nI (bsL (fun k => (pA P k).shut) n (k + 1) (if (pA P k).shut then s ||| (1 <<< k) else s))))), M)
    cases hok : (pA P k).shut
    · rw [if_pos (show bI false = 0 from rfl), nmI_ok]
      exact c538_1 hP N n (k + 1) s (by omega) hs
    · rw [if_neg (show ¬ bI true = 0 by decide), nmI_ok]
      exact c538_1 hP N n (k + 1) _ (by omega) (or_lt hs (by omega))
theorem nFlow_le {M : Mem} (hP : PI P) (N : NtC G M b g P) : nFlow P ≤ 1188 := by
  obtain ⟨M', y, T, e, q, m, r⟩ := c530 hP N
  rw [← nFlow_e hP m]
  exact m.le hP
theorem c539_1 (hP : PI P) : ∀ (n k s : Nat) (M : Mem), k + n = P.length → s < 4096 → NtC G M b g P → ∃ M', ex G 1 539 1 [(0, vR (some (b + 8))), (1, vI (nI (nFlow P))), (2, vI (nI s)), (3, vI (nI k))] [] M = some (.inl (some (vI (nI (bsL (fun k => pO P k && (nFlow (shP P k) == nFlow P)) n k s)))), M') ∧ QC (ntX b) 0 0 M M'
  | 0, k, s, M, hk, hs, N => by
    have hl := hP.1
    refine ⟨M, ?_, QC.rf⟩
    rw [E539_1, gR_v N.nk N.npi, vc1_ok N.pps.k, cbI_of (c5 N.pps), if_neg (nI_nlt (by omega) (by omega))]
    rfl
  | n + 1, k, s, M, hk, hs, N => by
    have hl := hP.1
    have hkl : k < P.length := by omega
    obtain ⟨h1, -⟩ := N.px k _ (pA_e hkl)
    have b1 := nFlow_le hP N
    have b2 := nFlow_le (shP_I hP hkl) (N.sh hkl)
    rw [E539_1, gR_v N.nk N.npi, vc1_ok N.pps.k, cbI_of (c5 N.pps), if_pos (nI_lt hkl (by omega)), gR_v N.nk N.npi, vc1_ok N.pps.k, cbR_of (c6 N.pps hkl), cst_p N hkl, vc1_ok h1, cbI_of (c749 N hkl), show aAdd (nI k) 1 = nI (k + 1) from aAdd_n k 1]
    rw [bsL_s]
    cases hok : pO P k
    · rw [if_pos (show bI false = 0 from rfl)]
      exact c539_1 hP n (k + 1) s M (by omega) hs N
    · rw [if_neg (show ¬ bI true = 0 by decide), vc1_ok N.nk]
      obtain ⟨M1, e1, q1⟩ := c540 hP N hkl hok
      rw [cbI_of e1]
      by_cases h : nFlow (shP P k) = nFlow P
      · rw [if_pos (by rw [h]), nmI_ok, show aShl 1 (nI k) = nI (1 <<< k) from aShl_n (a := 1) (by omega), aOr_n, h]
        obtain ⟨M', e', q'⟩ := c539_1 hP n (k + 1) (s ||| (1 <<< k)) M1 (by omega) (or_lt hs (by omega)) (N.fr q1)
        refine ⟨M', ?_, q1.tr q'⟩
        simp only [beq_self_eq_true, Bool.and_true, if_true]
        exact e'
      · rw [if_neg (fun h9 => h ((nI_eqI (by omega) (by omega)).mp h9))]
        obtain ⟨M', e', q'⟩ := c539_1 hP n (k + 1) s M1 (by omega) hs (N.fr q1)
        refine ⟨M', ?_, q1.tr q'⟩
        rw [beq_false_of_ne h]
        exact e'
theorem c541_1 (hP : PI P) : ∀ (n k m : Nat) (M : Mem), k + n = P.length → m ≤ 1188 → NtC G M b g P → ∃ M', ex G 1 541 1 [(0, vR (some (b + 8))), (1, vI (nI m)), (2, vI (nI k))] [] M = some (.inl (some (vI (nI (lfL P n k m)))), M') ∧ QC (ntX b) 0 0 M M'
  | 0, k, m, M, hk, hm, N => by
    have hl := hP.1
    refine ⟨M, ?_, QC.rf⟩
    rw [E541_1, gR_v N.nk N.npi, vc1_ok N.pps.k, cbI_of (c5 N.pps), if_neg (nI_nlt (by omega) (by omega))]
    rfl
  | n + 1, k, m, M, hk, hm, N => by
    have hl := hP.1
    have hkl : k < P.length := by omega
    obtain ⟨h1, -⟩ := N.px k _ (pA_e hkl)
    have b2 := nFlow_le (shP_I hP hkl) (N.sh hkl)
    rw [E541_1, gR_v N.nk N.npi, vc1_ok N.pps.k, cbI_of (c5 N.pps), if_pos (nI_lt hkl (by omega)), gR_v N.nk N.npi, vc1_ok N.pps.k, cbR_of (c6 N.pps hkl), cst_p N hkl, vc1_ok h1, cbI_of (c749 N hkl), show aAdd (nI k) 1 = nI (k + 1) from aAdd_n k 1]
    rw [lfL_s]
    cases hok : pO P k
    · rw [if_pos (show bI false = 0 from rfl)]
      exact c541_1 hP n (k + 1) m M (by omega) hm N
    · rw [if_neg (show ¬ bI true = 0 by decide), vc1_ok N.nk]
      obtain ⟨M1, e1, q1⟩ := c540 hP N hkl hok
      rw [cbI_of e1, cbI_of (x67 (by omega) (by omega))]
      obtain ⟨M', e', q'⟩ := c541_1 hP n (k + 1) (min m (nFlow (shP P k))) M1 (by omega) (by omega) (N.fr q1)
      exact ⟨M', e', q1.tr q'⟩
/-- NET.ISSOUND -/
theorem c529 {M : Mem} (hP : PI P) (N : NtC G M b g P) : ∃ M', ex G 1 529 0 [(0, vR (some (b + 8)))] [] M = some (.inl (some (vI (bI (nWid P (nNar P) == nFlow P)))), M') ∧ QC (ntX b) 0 0 M M' := by
  obtain ⟨M1, e1, q1, -⟩ := c530' hP N
  have N1 := N.fr q1
  obtain ⟨M2, e2, q2⟩ := c535 hP N1
  have N2 := N1.fr q2
  have hl := hP.1
  have hs : nNar P < 4096 := bset_lt hP.1
  have e3 := c536 hP N2 hs
  have b1 := nFlow_le hP N
  have bw : ∀ (n k a : Nat), k + n = P.length → a ≤ 99 * k → wdL P (nNar P) n k a ≤ 1188 := by
    intro n
    induction n with
    | zero => intro k a hk ha; show a ≤ 1188; omega
    | succ n ih =>
      intro k a hk ha
      have hw := (hP.k (show k < P.length by omega)).2.2.2.2
      refine ih (k + 1) _ (by omega) ?_
      split <;> omega
  have b3 : nWid P (nNar P) ≤ 1188 := bw P.length 0 0 (Nat.zero_add _) (Nat.zero_le _)
  refine ⟨M2, ?_, q1.tr q2⟩
  rw [E529_0, vc1_ok N.nk, cbI_of e1, vc1_ok N1.nk, cbI_of e2, vc1_ok N2.nk, cbI_of e3]
  by_cases h : nWid P (nNar P) = nFlow P
  · rw [if_pos (by rw [h]), rZ_1, h]; simp; rfl
  · rw [if_neg (fun h9 => h ((nI_eqI (by omega) (by omega)).mp h9)), rZ_0, beq_false_of_ne h]; rfl
end NQC
