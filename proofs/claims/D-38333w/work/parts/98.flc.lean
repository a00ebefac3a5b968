set_option maxRecDepth 4000
/-! ===== the class' net: spare, push, flow ===== -/
/-- the greatest flow is x, what is reached then is T -/
def MF (P : List Pipe) (x : Nat) (T : Nat → Bool) : Prop := ∃ f pk al dep, Fl P.length (pF P) (pT P) (pW P) (pO P) f ∧ Tr P.length (pF P) (pT P) (pW P) (pO P) f T pk al dep ∧ Cl P.length (pF P) (pT P) (pW P) (pO P) f T ∧ T 7 = false ∧ exc P.length (pF P) (pT P) f 0 = (x : Int)
theorem PI.h8 {P : List Pipe} (h : PI P) : ∀ k, k < P.length → pF P k < 8 ∧ pT P k < 8 := fun _ hk => ⟨(h.k hk).1, (h.k hk).2.1⟩
theorem MF.uni {P : List Pipe} (hP : PI P) {x y : Nat} {T U : Nat → Bool} (h : MF P x T) (h' : MF P y U) : x = y ∧ ∀ v, v < 8 → T v = U v := by
  obtain ⟨f, pk, al, dep, F, R, C, h7, e⟩ := h
  obtain ⟨f', pk', al', dep', F', R', C', h7', e'⟩ := h'
  obtain ⟨a, b⟩ := mf_uni hP.h8 F F' R R' C C' h7 h7'
  exact ⟨by omega, b⟩
theorem wsum_le {wd : Nat → Nat} : ∀ n, (∀ k, k < n → wd k ≤ 99) → wsum wd n ≤ 99 * n
  | 0, _ => Nat.le_refl _
  | n + 1, h => by
    show wsum wd n + wd n ≤ _
    have := wsum_le n (fun k hk => h k (by omega))
    have := h n (by omega)
    omega
theorem MF.le {P : List Pipe} (hP : PI P) {x : Nat} {T : Nat → Bool} (h : MF P x T) : x ≤ 1188 := by
  obtain ⟨f, pk, al, dep, F, R, C, h7, e⟩ := h
  have h1 := val_le F
  have h2 := wsum_le P.length (fun k hk => (hP.k hk).2.2.2.2)
  have := hP.1
  omega
theorem aSubN {a d : Nat} (h : d ≤ a) : aAdd (nI a) (aNeg (nI d)) = nI (a - d) := by
  rw [← aSub_n h, aAdd_e, aNeg_e, aSub_e, Int32.sub_eq_add_neg]
section FLC
variable {G : Nat → Option Nat} {b : Nat} {g : SG} {P : List Pipe} {f : Nat → Nat} {T : Nat → Bool} {pk : Nat → Nat} {al : Nat → Bool} {dep : Nat → Nat}
theorem by_code {k : Nat} (hk : k < 12) (a : Bool) : aRem (nI (k + if a then 0 else 20)) 20 = nI k ∧ (nI (k + if a then 0 else 20) < 20 ↔ a = true) := by
  cases a
  · show aRem (nI (k + 20)) 20 = nI k ∧ (nI (k + 20) < 20 ↔ false = true)
    have h1 : aRem (nI (k + 20)) 20 = nI ((k + 20) % 20) := aRem_n (a := k + 20) (b := 20) (by omega) (by decide)
    rw [h1, show (k + 20) % 20 = k by omega]
    exact ⟨rfl, fun h => absurd h (nI_nlt_L 20 20 rfl (by omega) (by omega)), fun h => by cases h⟩
  · show aRem (nI (k + 0)) 20 = nI k ∧ (nI (k + 0) < 20 ↔ true = true)
    have h1 : aRem (nI (k + 0)) 20 = nI ((k + 0) % 20) := aRem_n (a := k + 0) (b := 20) (by omega) (by decide)
    rw [h1, show (k + 0) % 20 = k by omega]
    exact ⟨rfl, fun _ => rfl, fun _ => nI_lt_L 20 20 rfl (by omega) (by decide)⟩
/-- the pipe by which a node was reached -/
theorem by_ld {M : Mem} (N : NtC G M b g P) (hP : PI P) (hB : ByM M b T pk al) (R : Tr P.length (pF P) (pT P) (pW P) (pO P) f T pk al dep) {v : Nat} (hv : v < 8) (h0 : v ≠ 0) (ht : T v = true) {κ κ' : Option Nat → Mem → Res} :
    (gR M 13 51 (some (b + 8)) fun r_1 => gR M 13 53 (some (b + 8)) fun r_2 => ldI M 100 r_2 (nI v) fun v3 => dvI 20 (aRem v3 20) fun v4 => vc1 M 5 r_1 fun a6 => cbR (ex G 1 6 0 [(0, vR (some a6)), (1, vI v4)] [] M) fun r_7 M5 => cst M5 [32] r_7 (gR M5 13 53 (some (b + 8)) fun r_8 => ldI M5 100 r_8 (nI v) fun v9 => if v9 < 20 then κ r_7 M5 else κ' r_7 M5)) = if al v then κ (some (g.ps (pk v))) M else κ' (some (g.ps (pk v))) M := by
  obtain ⟨r1, -⟩ := R.u hP.h8 hv h0 ht
  have hl := hP.1
  obtain ⟨c1, c2⟩ := by_code (k := pk v) (by omega) (al v)
  have hb := hB v hv h0 ht
  rw [gR_v N.nk N.npi, gR_v N.nk N.nby, ldI_v N.byk N.byln hv (by decide) hb, c1, dvI_ok (by decide), vc1_ok N.pps.k, cbR_of (c6 N.pps r1), cst_p N r1, gR_v N.nk N.nby, ldI_v N.byk N.byln hv (by decide) hb]
  cases ha : al v
  · rw [ha] at c2
    rw [if_neg (fun h => by have := c2.mp h; cases this)]
    rfl
  · rw [ha] at c2
    rw [if_pos (c2.mpr rfl)]
    rfl
theorem c533_1 {M : Mem} (N : NtC G M b g P) (hP : PI P) (hF : FwM M g P f) (hB : ByM M b T pk al) (R : Tr P.length (pF P) (pT P) (pW P) (pO P) f T pk al dep) (hf : ∀ k, k < P.length → f k ≤ pW P k) : ∀ (d v m : Nat), dep v = d → v < 8 → T v = true → m < 2147483648 → ex G 1 533 1 [(0, vR (some (b + 8))), (1, vI (nI m)), (2, vI (nI v))] [] M = some (.inl (some (vI (nI (lpL (pF P) (pT P) (pW P) f pk al d v m)))), M)
  | 0, v, m, hd, hv, ht, hm => by
    have h0 : v = 0 := by
      apply Classical.byContradiction
      intro h0
      have := (R.u hP.h8 hv h0 ht).2.2.2.2.2.1
      omega
    subst h0
    rw [E533_1, if_pos (show nI 0 = 0 from rfl)]
    rfl
  | d + 1, v, m, hd, hv, ht, hm => by
    have h0 : v ≠ 0 := fun e => by rw [e, R.d0] at hd; omega
    obtain ⟨r1, r2, r3, r4, r5, r6, r7⟩ := R.u hP.h8 hv h0 ht
    have hw := (hP.k r1).2.2.2.2
    have hfk := hf _ r1
    obtain ⟨h1, -, h3, h4, h5, -, -⟩ := N.px _ _ (pA_e r1)
    have h3' : mfi M 160 (g.ps (pk v)) = nI (pF P (pk v)) := h3
    have h4' : mfi M 161 (g.ps (pk v)) = nI (pT P (pk v)) := h4
    have h5' : mfi M 162 (g.ps (pk v)) = nI (pW P (pk v)) := h5
    have ih := c533_1 N hP hF hB R hf d (prv (pF P) (pT P) pk al v) (min m (rsd (pW P) f pk al v)) (by omega) r3 r4 (by omega)
    refine Eq.trans ?_ ih
    rw [E533_1, if_neg (nI_ne_L 0 0 rfl (by omega) (by decide) h0), by_ld N hP hB R hv h0 ht (κ := fun r_7 M5 => ex G 1 533 5 [(0, vR (some (b + 8))), (1, vI (nI m)), (3, vR r_7)] [vI 1] M5) (κ' := fun r_7 M5 => ex G 1 533 5 [(0, vR (some (b + 8))), (1, vI (nI m)), (3, vR r_7)] [vI 0] M5)]
    unfold prv rsd
    cases ha : al v
    · simp only [Bool.false_eq_true, if_false]
      rw [E533_5, if_pos rfl, gI_v h1 (hF _ r1), E533_8, cbI_of (x67 hm (by omega)), if_pos rfl, gI_v h1 h4']
    · simp only [if_true]
      rw [E533_5, if_neg (by decide), gI_v h1 h5', gI_v h1 (hF _ r1), aSub_n hfk, E533_8, cbI_of (x67 hm (by omega)), if_neg (by decide), gI_v h1 h3']
theorem fw_upd {M : Mem} (N : NtC G M b g P) {h : Nat → Nat} (hF : FwM M g P h) {k x : Nat} (hk : k < P.length) : FwM (sfi M 165 (g.ps k) (nI x)) g P (fun j => if j = k then x else h j) := by
  intro j hj
  rw [sfi_ix]
  by_cases e : j = k
  · subst e
    rw [if_pos rfl]
    show nI x = nI (if j = j then x else h j)
    rw [if_pos rfl]
  · rw [if_neg (fun h9 => e (N.pxi j k hj hk h9))]
    show mfi M 165 (g.ps j) = nI (if j = k then x else h j)
    rw [if_neg e]
    exact hF j hj
theorem c534_1 (hP : PI P) (R : Tr P.length (pF P) (pT P) (pW P) (pO P) f T pk al dep) (hfw : ∀ k, k < P.length → f k ≤ pW P k) {δ : Nat} : ∀ (d v : Nat) (h : Nat → Nat) (M : Mem), NtC G M b g P → FwM M g P h → ByM M b T pk al → RcM M b T → dep v = d → v < 8 → T v = true → fitL (pF P) (pT P) (pW P) f pk al δ d v → (∀ x, x < 8 → x ≠ 0 → T x = true → dep x ≤ d → h (pk x) = f (pk x)) →
    ∃ M', ex G 1 534 1 [(0, vR (some (b + 8))), (1, vI (nI δ)), (2, vI (nI v))] [] M = some (.inl none, M') ∧ QC noX 0 0 M M' ∧ FwM M' g P (psL (pF P) (pT P) pk al δ d v h)
  | 0, v, h, M, N, hF, hB, hR, hd, hv, ht, _, _ => by
    have h0 : v = 0 := by
      apply Classical.byContradiction
      intro h0
      have := (R.u hP.h8 hv h0 ht).2.2.2.2.2.1
      omega
    subst h0
    refine ⟨M, ?_, QC.rf, hF⟩
    rw [E534_1, if_pos (show nI 0 = 0 from rfl)]
    rfl
  | d + 1, v, h, M, N, hF, hB, hR, hd, hv, ht, hfit, h3e => by
    have h0 : v ≠ 0 := fun e => by rw [e, R.d0] at hd; omega
    obtain ⟨r1, r2, r3, r4, r5, r6, r7⟩ := R.u hP.h8 hv h0 ht
    obtain ⟨f1, f2⟩ := hfit
    have hw := (hP.k r1).2.2.2.2
    have hfk := hfw _ r1
    have hh := h3e v hv h0 ht (by omega)
    obtain ⟨h1, h2, h3, h4, -, -, -⟩ := N.px _ _ (pA_e r1)
    have h3' : mfi M 160 (g.ps (pk v)) = nI (pF P (pk v)) := h3
    have h4' : mfi M 161 (g.ps (pk v)) = nI (pT P (pk v)) := h4
    have hne : ∀ x, x < 8 → x ≠ 0 → T x = true → dep x ≤ d → psU pk al δ v h (pk x) = f (pk x) := fun x hx hx0 htx hdx => by
      unfold psU
      rw [if_neg (pk_ne R hP.h8 hv h0 ht hx hx0 htx (by omega))]
      exact h3e x hx hx0 htx (by omega)
    have hup : psU pk al δ v h = fun j => if j = pk v then (if al v then h (pk v) + δ else h (pk v) - δ) else h j := by
      funext j
      unfold psU
      by_cases e : j = pk v
      · rw [if_pos e, if_pos e, e]
      · rw [if_neg e, if_neg e]
    have q1 : QC noX 0 0 M (sfi M 165 (g.ps (pk v)) (nI (if al v then h (pk v) + δ else h (pk v) - δ))) := QC.sfi rfl
    have F1 := fw_upd N hF (x := if al v then h (pk v) + δ else h (pk v) - δ) r1
    rw [← hup] at F1
    obtain ⟨M', e', q', F'⟩ := c534_1 hP R hfw d (prv (pF P) (pT P) pk al v) (psU pk al δ v h) _ (N.fr q1) F1 (fun x hx hx0 htx => by rw [mai_sfi]; exact hB x hx hx0 htx) (fun x hx => by rw [mai_sfi]; exact hR x hx) (by omega) r3 r4 f2 hne
    refine ⟨M', Eq.trans ?_ e', q1.tr q', F'⟩
    rw [E534_1, if_neg (nI_ne_L 0 0 rfl (by omega) (by decide) h0), by_ld N hP hB R hv h0 ht (κ := fun r_7 M5 => ex G 1 534 5 [(0, vR (some (b + 8))), (1, vI (nI δ)), (3, vR r_7)] [vI 1] M5) (κ' := fun r_7 M5 => ex G 1 534 5 [(0, vR (some (b + 8))), (1, vI (nI δ)), (3, vR r_7)] [vI 0] M5)]
    unfold rsd at f1
    unfold prv
    cases ha : al v
    · rw [ha] at f1
      simp only [Bool.false_eq_true, if_false] at f1 ⊢
      rw [E534_5, gI_v h1 (hF _ r1), if_pos rfl, E534_8, aSubN (by omega), pI_ok h1 h2, if_pos rfl]
      exact gI_v (Eq.trans (congrFun mcl_sfi _) h1) (Eq.trans (sfi_ne (by decide)) h4')
    · simp only [if_true]
      rw [E534_5, gI_v h1 (hF _ r1), if_neg (by decide), E534_8, aAdd_n, pI_ok h1 h2, if_neg (by decide)]
      exact gI_v (Eq.trans (congrFun mcl_sfi _) h1) (Eq.trans (sfi_ne (by decide)) h3')
theorem c530_4 (hP : PI P) : ∀ (n x : Nat) (f : Nat → Nat) (M : Mem), wsum (pW P) P.length ≤ x + n → NtC G M b g P → FwM M g P f → Fl P.length (pF P) (pT P) (pW P) (pO P) f → exc P.length (pF P) (pT P) f 0 = (x : Int) →
    ∃ M' y T, ex G 1 530 4 [(0, vR (some (b + 8))), (1, vI (nI x))] [] M = some (.inl (some (vI (nI y))), M') ∧ QC (ntX b) 0 0 M M' ∧ MF P y T ∧ RcM M' b T
  | n, x, f, M, hn, N, hF, F, hx => by
    obtain ⟨M1, T, pk, al, dep, e1, q1, i1, R1, B1, R, C⟩ := c531 hP F.le N hF
    have N1 := N.fr q1
    have F1 : FwM M1 g P f := fun k hk => by rw [i1]; exact hF k hk
    rw [E530_4, vc1_ok N.nk, cbI_of e1]
    cases h7 : T 7
    · rw [if_pos (show bI false = 0 from rfl)]
      exact ⟨M1, x, T, rfl, q1, ⟨f, pk, al, dep, F, R, C, h7, hx⟩, R1⟩
    · rw [if_neg (show ¬ bI true = 0 by decide), vc1_ok N1.nk]
      have e3 : ex G 1 533 0 [(0, vR (some (b + 8)))] [] M1 = some (.inl (some (vI (nI (lpL (pF P) (pT P) (pW P) f pk al (dep 7) 7 9999)))), M1) := by
        rw [E533_0]
        exact c533_1 N1 hP F1 B1 R F.le (dep 7) 7 9999 rfl (by decide) h7 (by decide)
      have hpos := lpL_pos R hP.h8 (dep 7) 7 9999 rfl (by decide) h7 (by decide)
      have hfit := lpL_fit (fr := pF P) (to_ := pT P) (wd := pW P) (f := f) (pk := pk) (al := al) (dep 7) 7 9999 (Nat.le_refl _)
      generalize lpL (pF P) (pT P) (pW P) f pk al (dep 7) 7 9999 = δ at e3 hpos hfit
      obtain ⟨M2, e2, q2, F2⟩ := c534_1 hP R F.le (δ := δ) (dep 7) 7 f M1 N1 F1 B1 R1 rfl (by decide) h7 hfit (fun _ _ _ _ _ => rfl)
      obtain ⟨Fl2, ex2⟩ := push_fl F R hP.h8 h7 hfit
      have hv := val_le Fl2
      have hxd : exc P.length (pF P) (pT P) (psL (pF P) (pT P) pk al δ (dep 7) 7 f) 0 = ((x + δ : Nat) : Int) := by rw [ex2, hx]; rfl
      match n, hn with
      | 0, hn => exact absurd hv (by rw [hxd]; omega)
      | n + 1, hn =>
        obtain ⟨M', y, U, e', q', r⟩ := c530_4 hP n (x + δ) _ M2 (by omega) (N1.fr q2) F2 Fl2 hxd
        refine ⟨M', y, U, Eq.trans ?_ e', (q1.tr (q2.mono (fun _ h => absurd h (fun h => h)) (Nat.le_refl _) (Nat.le_refl _))).tr q', r⟩
        rw [cbI_of e3, vc1_ok N1.nk]
        have e2' : ex G 1 534 0 [(0, vR (some (b + 8))), (1, vI (nI δ))] [] M1 = some (.inl none, M2) := by
          rw [E534_0]; exact e2
        rw [cbV_of e2', nmI_ok, aAdd_n]
theorem c530_1 : ∀ (n k : Nat) (M : Mem), k + n = P.length → P.length ≤ 12 → NtC G M b g P → (∀ j, j < k → mfi M 165 (g.ps j) = nI 0) →
    ∃ M', ex G 1 530 1 [(0, vR (some (b + 8))), (1, vI (nI k))] [] M = ex G 1 530 4 [(0, vR (some (b + 8))), (1, vI (nI 0))] [] M' ∧ QC noX 0 0 M M' ∧ FwM M' g P (fun _ => 0)
  | 0, k, M, hk, hl, N, h => by
    have e : k = P.length := by omega
    refine ⟨M, ?_, QC.rf, fun j hj => h j (by omega)⟩
    rw [E530_1, gR_v N.nk N.npi, vc1_ok N.pps.k, cbI_of (c5 N.pps), if_neg (nI_nlt (by omega) (by omega))]
    rfl
  | n + 1, k, M, hk, hl, N, h => by
    have hkl : k < P.length := by omega
    obtain ⟨h1, h2, -⟩ := N.px k _ (pA_e hkl)
    have q1 : QC noX 0 0 M (sfi M 165 (g.ps k) 0) := QC.sfi rfl
    obtain ⟨M', e', q', F'⟩ := c530_1 n (k + 1) (sfi M 165 (g.ps k) 0) (by omega) hl (N.fr q1) (fun j hj => by
      rw [sfi_ix]
      by_cases e : j = k
      · rw [if_pos (by rw [e])]; rfl
      · rw [if_neg (fun h9 => e (N.pxi j k (by omega) hkl h9))]; exact h j (by omega))
    refine ⟨M', Eq.trans ?_ e', q1.tr q', F'⟩
    rw [E530_1, gR_v N.nk N.npi, vc1_ok N.pps.k, cbI_of (c5 N.pps), if_pos (nI_lt hkl (by omega)), gR_v N.nk N.npi, vc1_ok N.pps.k, cbR_of (c6 N.pps hkl), cst_p N hkl, pI_ok h1 h2, show aAdd (nI k) 1 = nI (k + 1) from aAdd_n k 1]
/-- NET.FLOW -/
theorem c530 {M : Mem} (hP : PI P) (N : NtC G M b g P) :
    ∃ M' y T, ex G 1 530 0 [(0, vR (some (b + 8)))] [] M = some (.inl (some (vI (nI y))), M') ∧ QC (ntX b) 0 0 M M' ∧ MF P y T ∧ RcM M' b T := by
  obtain ⟨M1, e1, q1, F1⟩ := c530_1 (G := G) P.length 0 M (Nat.zero_add _) hP.1 N (fun j hj => absurd hj (Nat.not_lt_zero j))
  obtain ⟨M', y, T, e', q', r⟩ := c530_4 (G := G) hP (wsum (pW P) P.length) 0 (fun _ => 0) M1 (by omega) (N.fr q1) F1 (fl_zero (wd := pW P) (ok := pO P)).1 (fl_zero (wd := pW P) (ok := pO P)).2
  refine ⟨M', y, T, ?_, (q1.mono (fun _ h => absurd h (fun h => h)) (Nat.le_refl _) (Nat.le_refl _)).tr q', r⟩
  rw [E530_0]
  exact e1.trans e'
end FLC
