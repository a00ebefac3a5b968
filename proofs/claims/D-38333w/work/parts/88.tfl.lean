set_option maxRecDepth 4000
/-! ===== the reference: floods ===== -/
theorem tpW_lt : ∀ B, B < 32 → ∀ w, w < 5 → ∀ s, s < 64 → tpW B w s < 64 := by decide +kernel
theorem tp1_lt : ∀ w, w < 5 → ∀ s, s < 64 → s ||| (1 <<< (w + 1)) < 64 := by decide +kernel
theorem tp0_lt : ∀ w, w < 5 → ∀ s, s < 64 → s ||| (1 <<< w) < 64 := by decide +kernel
noncomputable def floD (r : Option (Nat × UInt64)) (isSet : Bool) : UInt64 := match r with
  | none => kD 13830554455654793216
  | some x => if isSet then i2D (nI x.1) else x.2
section TFL
variable {G : Nat → Option Nat} {M : Mem} {m u : Nat} {g : SG} {S : Sh} {w : Nat} {lots : List LotA} {ll le : Nat} {lx : Nat → Nat}
theorem t379 {M : Mem} {c s k : Nat} (hs : s < 2147483648) (hk : k < 32) : ex G c 379 0 [(0, vI (nI s)), (1, vI (nI k))] [] M = some (.inl (some (vI (bI (bt s k)))), M) := by
  rw [E379_0]
  cases h : bt s k
  · rw [if_neg (fun h9 => by rw [(bit_1 hs hk).mp h9] at h; cases h), rZ_0]; rfl
  · rw [if_pos ((bit_1 hs hk).mpr h), rZ_1]; rfl
theorem t381 {M : Mem} {c : Nat} {b : Bool} : ex G c 381 0 [(0, vI (bI b))] [] M = some (.inl (some (vI (bI b))), M) := by
  rw [E381_0]
  cases b
  · rw [if_pos (show bI false = 0 from rfl)]; rfl
  · rw [if_neg (show ¬ bI true = 0 by decide)]; rfl
theorem t676_8 {M : Mem} {c s i k : Nat} (hs : s < 64) (hk : k < 5) : ex G c 676 8 [(0, vR (some u)), (2, vI (nI s)), (3, vI (nI i)), (4, vI (nI k))] [] M = ex G c 676 3 [(0, vR (some u)), (2, vI (nI (if bt s (k + 1) then s ||| (1 <<< k) else s))), (3, vI (nI i)), (4, vI (nI (k + 1)))] [] M := by
  rw [E676_8, show aAdd (nI k) 1 = nI (k + 1) from aAdd_n k 1]
  first | refine Eq.trans ((cbI_of (t379 (s := s) (k := k + 1) (by omega) (by omega)))) ?_ | refine Rt.eq ((cbI_of (t379 (s := s) (k := k + 1) (by omega) (by omega)))) ?_ | refine Th.eq ((cbI_of (t379 (s := s) (k := k + 1) (by omega) (by omega)))) ?_
  cases h : bt s (k + 1)
  · rw [if_pos (show bI false = 0 from rfl)]; rfl
  · rw [if_neg (show ¬ bI true = 0 by decide), nmI_ok, show aShl 1 (nI k) = nI (1 <<< k) from aShl_n (a := 1) (by omega), aOr_n]; rfl
theorem t676_3 {M : Mem} (T : ShT G M m u g S w) (iS : SI S) {c i : Nat} : ∀ (n k s : Nat), k + n = 5 → s < 64 → ex G c 676 3 [(0, vR (some u)), (2, vI (nI s)), (3, vI (nI i)), (4, vI (nI k))] [] M = ex G c 676 1 [(0, vR (some u)), (2, vI (nI (tpP S.bulk n k s))), (3, vI (nI (i + 1)))] [] M
  | 0, k, s, hk, hs => by
    have e : k = 5 := by omega
    subst e
    rw [E676_3, if_neg (by decide), show aAdd (nI i) 1 = nI (i + 1) from aAdd_n i 1]
    rfl
  | n + 1, k, s, hk, hs => by
    have hk5 : k < 5 := by omega
    have hb := iS.bk
    have ih := t676_3 T iS (c := c) (i := i) n (k + 1) (tpW S.bulk k s) (by omega) (tpW_lt S.bulk hb k hk5 s hs)
    refine Eq.trans ?_ ih
    rw [E676_3, if_pos (nI_lt_L 5 5 rfl hk5 (by decide))]
    first | refine Eq.trans ((gI_v T.ln.k T.bulk)) ?_ | refine Rt.eq ((gI_v T.ln.k T.bulk)) ?_ | refine Th.eq ((gI_v T.ln.k T.bulk)) ?_
    first | refine Eq.trans ((cbI_of (t379 (s := S.bulk) (k := k) (by omega) (by omega)))) ?_ | refine Rt.eq ((cbI_of (t379 (s := S.bulk) (k := k) (by omega) (by omega)))) ?_ | refine Th.eq ((cbI_of (t379 (s := S.bulk) (k := k) (by omega) (by omega)))) ?_
    unfold tpW
    cases h : bt S.bulk k
    · rw [if_pos (show bI false = 0 from rfl)]
      first | refine Eq.trans ((cbI_of (t379 (s := s) (k := k) (by omega) (by omega)))) ?_ | refine Rt.eq ((cbI_of (t379 (s := s) (k := k) (by omega) (by omega)))) ?_ | refine Th.eq ((cbI_of (t379 (s := s) (k := k) (by omega) (by omega)))) ?_
      cases h2 : bt s k
      · rw [if_pos (show bI false = 0 from rfl)]
        exact t676_8 hs hk5
      · rw [if_neg (show ¬ bI true = 0 by decide), nmI_ok, show aAdd (nI k) 1 = nI (k + 1) from aAdd_n k 1, show aShl 1 (nI (k + 1)) = nI (1 <<< (k + 1)) from aShl_n (a := 1) (by omega), aOr_n]
        exact t676_8 (tp1_lt k hk5 s hs) hk5
    · rw [if_neg (show ¬ bI true = 0 by decide), show aAdd (nI k) 1 = nI (k + 1) from aAdd_n k 1]
      rfl
theorem tpP_lt {B : Nat} (hB : B < 32) : ∀ (n w s : Nat), w + n = 5 → s < 64 → tpP B n w s < 64
  | 0, _, _, _, h => h
  | n + 1, w, s, hw, h => tpP_lt hB n (w + 1) _ (by omega) (tpW_lt B hB w (by omega) s h)
theorem t676_1 {M : Mem} (T : ShT G M m u g S w) (iS : SI S) {c : Nat} : ∀ (n i s : Nat), i + n = 6 → s < 64 → ex G c 676 1 [(0, vR (some u)), (2, vI (nI s)), (3, vI (nI i))] [] M = some (.inl (some (vI (nI (tpL S.bulk n s)))), M)
  | 0, i, s, hi, hs => by
    have e : i = 6 := by omega
    subst e
    rw [E676_1, if_neg (by decide)]
    rfl
  | n + 1, i, s, hi, hs => by
    rw [E676_1, if_pos (nI_lt_L 6 6 rfl (by omega) (by decide))]
    refine Eq.trans (t676_3 T iS 5 0 s rfl hs) ?_
    exact t676_1 T iS n (i + 1) _ (by omega) (tpP_lt iS.bk 5 0 s rfl hs)
/-- SPREAD -/
theorem t676 {M : Mem} (T : ShT G M m u g S w) (iS : SI S) {c s : Nat} (hs : s < 64) : ex G c 676 0 [(0, vR (some u)), (1, vI (nI s))] [] M = some (.inl (some (vI (nI (spread S.bulk s)))), M) := by
  rw [E676_0, ← spread_eq S.bulk iS.bk s hs]
  exact t676_1 T iS 6 0 s rfl hs
theorem t675_5 {M : Mem} (L : LnT M u S.H) (iH : HI S.H) {W t : UInt64} (dt : Dr t) {i2 i8 : Int32} {s c : Nat} (hs : s < 64) : ∀ (n k : Nat) (x : UInt64) (K : Nat), k + n = 6 → 1760 ≤ K → K + 2 * n ≤ 2000 → Bd x K →
    ex G c 675 5 [(0, vR (some u)), (2, vI i2), (3, vD W), (5, vD t), (7, vI (nI s)), (8, vI i8), (9, vD x), (11, vI (nI k))] [] M = ex G c 675 5 [(0, vR (some u)), (2, vI i2), (3, vD W), (5, vD t), (7, vI (nI s)), (8, vI i8), (9, vD (fwL S.H s t n k x)), (11, vI (nI 6))] [] M
  | 0, k, x, K, hk, _, _, _ => by
    have e : k = 6 := by omega
    subst e
    rfl
  | n + 1, k, x, K, hk, hK, hK2, bx => by
    have hk6 : k < 6 := by omega
    have bb := bd_bulk (H := S.H) (c := k) (t := t) (u := t)
    have b1 : Bd (dMul (hBulk S.H k t t) (kD 4604930618986332160)) 1760 := Bd.up (bd_mul bb bd_kD) _ (by decide)
    have b2 : Bd (dAdd x (dMul (hBulk S.H k t t) (kD 4604930618986332160))) (K + 2) := Bd.up (bd_add bx b1) _ (by omega)
    rw [E675_5, if_pos (nI_lt_L 6 6 rfl hk6 (by decide)), show aAdd (nI k) 1 = nI (k + 1) from aAdd_n k 1]
    first | refine Eq.trans ((cbI_of (t379 (s := s) (k := k) (by omega) (by omega)))) ?_ | refine Rt.eq ((cbI_of (t379 (s := s) (k := k) (by omega) (by omega)))) ?_ | refine Th.eq ((cbI_of (t379 (s := s) (k := k) (by omega) (by omega)))) ?_
    show _ = ex G c 675 5 [(0, vR (some u)), (2, vI i2), (3, vD W), (5, vD t), (7, vI (nI s)), (8, vI i8), (9, vD (fwL S.H s t n (k + 1) (if bt s k then dAdd x (dMul (hBulk S.H k t t) (kD 4604930618986332160)) else x))), (11, vI (nI 6))] [] M
    cases h : bt s k
    · rw [if_pos (show bI false = 0 from rfl)]
      exact t675_5 L iH dt hs n (k + 1) x (K + 2) (by omega) (by omega) (by omega) (Bd.up bx _ (by omega))
    · rw [if_neg (show ¬ bI true = 0 by decide)]
      first | refine Eq.trans ((vc1_ok L.k)) ?_ | refine Rt.eq ((vc1_ok L.k)) ?_ | refine Th.eq ((vc1_ok L.k)) ?_
      first | refine Eq.trans ((cbD_of (t657 L hk6))) ?_ | refine Rt.eq ((cbD_of (t657 L hk6))) ?_ | refine Th.eq ((cbD_of (t657 L hk6))) ?_
      first | refine Eq.trans ((fD_ok (isN_of b1 (by decide)))) ?_ | refine Rt.eq ((fD_ok (isN_of b1 (by decide)))) ?_ | refine Th.eq ((fD_ok (isN_of b1 (by decide)))) ?_
      first | refine Eq.trans ((fD_ok (isN_of b2 (by omega)))) ?_ | refine Rt.eq ((fD_ok (isN_of b2 (by omega)))) ?_ | refine Th.eq ((fD_ok (isN_of b2 (by omega)))) ?_
      exact t675_5 L iH dt hs n (k + 1) _ (K + 2) (by omega) (by omega) (by omega) b2
theorem t675_3 {M : Mem} (L : LnT M u S.H) (hT : TabD G M 53 7 simT) (iH : HI S.H) {W : UInt64} (bW : Bd W 1704) {i2 : Int32} {s c : Nat} (hs : s < 64) : ∀ (n i : Nat) (t : UInt64), i + n = 12 → Dr t →
    ex G c 675 3 [(0, vR (some u)), (2, vI i2), (3, vD W), (5, vD t), (7, vI (nI s)), (8, vI (nI i))] [] M = (match fSet S.H s W n t with
      | none => some (.inl (some (vD (kD 13830554455654793216))), M)
      | some t' => ex G c 675 3 [(0, vR (some u)), (2, vI i2), (3, vD W), (5, vD t'), (7, vI (nI s)), (8, vI (nI 12))] [] M)
  | 0, i, t, hi, dt => by
    have e : i = 12 := by omega
    subst e
    rfl
  | n + 1, i, t, hi, dt => by
    have bf := bd_fWater (H := S.H) (s := s) (t := t)
    rw [E675_3, if_pos (nI_lt_L 12 12 rfl (by omega) (by decide))]
    refine Eq.trans (t675_5 L iH dt hs 6 0 FP.dconst0 1760 rfl (by decide) (by decide) (Bd.up bd_c0 _ (by decide))) ?_
    show ex G c 675 5 [(0, vR (some u)), (2, vI i2), (3, vD W), (5, vD t), (7, vI (nI s)), (8, vI (nI i)), (9, vD (fWater S.H s t)), (11, vI (nI 6))] [] M = _
    rw [E675_5, if_neg (by decide)]
    first | refine Eq.trans ((fD_ok (isN_of (bd_add bf bW) (by decide)))) ?_ | refine Rt.eq ((fD_ok (isN_of (bd_add bf bW) (by decide)))) ?_ | refine Th.eq ((fD_ok (isN_of (bd_add bf bW) (by decide)))) ?_
    first | refine Eq.trans ((vc1_ok L.k)) ?_ | refine Rt.eq ((vc1_ok L.k)) ?_ | refine Th.eq ((vc1_ok L.k)) ?_
    first | refine Eq.trans ((cbD_of (t652 L hT))) ?_ | refine Rt.eq ((cbD_of (t652 L hT))) ?_ | refine Th.eq ((cbD_of (t652 L hT))) ?_
    unfold fSet
    by_cases h : dCmG (hDraught S.H (dAdd (fWater S.H s t) W)) FP.dconst0 < 0
    · rw [if_pos h, if_pos h]
      exact rD_ok (by (first | exact isN_of (by repeat' (with_reducible first | assumption | exact bd_kD | exact bd_i2D | exact bd_c0 | exact bd_c1 | apply bd_add | apply bd_mul | apply bd_div | apply bd_sub | exact dr_b | exact bd_step | exact bd_Q | exact bd_wide | exact bd_slice | exact bd_part | exact bd_section | exact bd_lift | exact bd_at | exact bd_X | exact bd_ord | exact bd_so | exact bd_vol | exact bd_water | exact bd_draught | exact bd_simT | exact bd_bread | exact bd_br | exact bd_far | exact bd_tank | exact LdB.t (by (first | assumption | exact ldB_plate | exact ldB_item | exact ldB_tank | exact ldB_engine | exact ldB_hold)) | exact LdB.s (by (first | assumption | exact ldB_plate | exact ldB_item | exact ldB_tank | exact ldB_engine | exact ldB_hold)) | exact LdB.u (by (first | assumption | exact ldB_plate | exact ldB_item | exact ldB_tank | exact ldB_engine | exact ldB_hold)) | exact SmB.w (by (first | assumption | exact sums_b)) | exact SmB.l (by (first | assumption | exact sums_b)) | exact SmB.t (by (first | assumption | exact sums_b)) | exact SmB.k (by (first | assumption | exact sums_b)) | exact wt_b | exact bd_lcg | exact bd_tcg | exact bd_kg | exact bd_dr | exact bd_loose | exact bd_free | exact bd_bulk | exact bd_fWater | exact lo_4 | exact lo_8 | exact lo_6 | exact lo_2 | exact lo_18 | exact lo_16 | exact lo_64 | exact lo_72 | exact lo_32 | exact lo_12 | exact lo_100 | exact lo_step | fail)) (by decide) | exact isN_of (by repeat' (with_reducible first | assumption | exact bd_kD | exact bd_i2D | exact bd_c0 | exact bd_c1 | apply bd_add | apply bd_mul | apply bd_div | apply bd_sub | exact dr_b | exact bd_step | exact bd_Q | exact bd_wide | exact bd_slice | exact bd_part | exact bd_section | exact bd_lift | exact bd_at | exact bd_X | exact bd_ord | exact bd_so | exact bd_vol | exact bd_water | exact bd_draught | exact bd_simT | exact bd_bread | exact bd_br | exact bd_far | exact bd_tank | exact LdB.t (by (first | assumption | exact ldB_plate | exact ldB_item | exact ldB_tank | exact ldB_engine | exact ldB_hold)) | exact LdB.s (by (first | assumption | exact ldB_plate | exact ldB_item | exact ldB_tank | exact ldB_engine | exact ldB_hold)) | exact LdB.u (by (first | assumption | exact ldB_plate | exact ldB_item | exact ldB_tank | exact ldB_engine | exact ldB_hold)) | exact SmB.w (by (first | assumption | exact sums_b)) | exact SmB.l (by (first | assumption | exact sums_b)) | exact SmB.t (by (first | assumption | exact sums_b)) | exact SmB.k (by (first | assumption | exact sums_b)) | exact wt_b | exact bd_lcg | exact bd_tcg | exact bd_kg | exact bd_dr | exact bd_loose | exact bd_free | exact bd_bulk | exact bd_fWater | exact lo_4 | exact lo_8 | exact lo_6 | exact lo_2 | exact lo_18 | exact lo_16 | exact lo_64 | exact lo_72 | exact lo_32 | exact lo_12 | exact lo_100 | exact lo_step | fail)) (by omega)))
    · rw [if_neg h, if_neg h, show aAdd (nI i) 1 = nI (i + 1) from aAdd_n i 1]
      exact t675_3 L hT iH bW hs n (i + 1) _ (by omega) (hDr_dr (fun h9 => h ((sinks_iff iH).2.mpr h9)))
theorem t675_2 {M : Mem} (T : ShT G M m u g S w) (hT : TabD G M 53 7 simT) (iS : SI S) {W : UInt64} (bW : Bd W 1704) {q : Bool} {c : Nat} : ∀ (n s : Nat) (t : UInt64), 1 ≤ n → (7 ≤ pop6 s + n ∨ s = 0) → s < 64 → Dr t →
    ex G c 675 2 [(0, vR (some u)), (2, vI (bI q)), (3, vD W), (5, vD t), (7, vI (nI s))] [] M = some (.inl (some (vD (floD (fLoop S.H S.bulk W n s t) q))), M)
  | 0, _, _, h, _, _, _ => absurd h (by decide)
  | n + 1, s, t, hn, hp, hs, dt => by
    have iH := iS.h
    have hd := (zl_dep (H := S.H)).2
    rw [E675_2]
    refine Eq.trans (t675_3 T.ln hT iH bW hs 12 0 t rfl dt) ?_
    unfold fLoop
    cases hf : fSet S.H s W 12 t with
    | none => rfl
    | some t' =>
      have dt' := fSet_dr iH 12 t t' dt hf
      have nt : isN t' := isN_of dt'.1 (by decide)
      show ex G c 675 3 [(0, vR (some u)), (2, vI (bI q)), (3, vD W), (5, vD t'), (7, vI (nI s)), (8, vI (nI 12))] [] M = some (.inl (some (vD (floD (if dCmG t' (dMul (i2D (nI S.H.dep)) (kD 4606056518893174784)) ≤ 0 ∨ s = 63 ∨ s = 0 then some (s, t') else fLoop S.H S.bulk W n (spread S.bulk (over s)) t') q))), M)
      have hend : ∀ (P : Prop) [Decidable P], P → (if bI q = 0 then rD t' M else rD (i2D (nI s)) M) = some (.inl (some (vD (floD (if P then some (s, t') else fLoop S.H S.bulk W n (spread S.bulk (over s)) t') q))), M) := by
        intro P _ h
        rw [if_pos h]
        cases q
        · rw [if_pos (show bI false = 0 from rfl)]; exact rD_ok nt
        · rw [if_neg (show ¬ bI true = 0 by decide)]; exact rD_ok (isN_of bd_i2D (by decide))
      rw [E675_3, if_neg (by decide)]
      first | refine Eq.trans ((gI_v T.ln.k T.ln.fd)) ?_ | refine Rt.eq ((gI_v T.ln.k T.ln.fd)) ?_ | refine Th.eq ((gI_v T.ln.k T.ln.fd)) ?_
      first | refine Eq.trans ((fD_ok (isN_of (bd_mul hd bd_kD) (by decide)))) ?_ | refine Rt.eq ((fD_ok (isN_of (bd_mul hd bd_kD) (by decide)))) ?_ | refine Th.eq ((fD_ok (isN_of (bd_mul hd bd_kD) (by decide)))) ?_
      by_cases c1 : dCmG t' (dMul (i2D (nI S.H.dep)) (kD 4606056518893174784)) ≤ 0
      · rw [if_pos c1]; exact hend _ (Or.inl c1)
      · rw [if_neg c1]
        by_cases c2 : s = 0
        · rw [if_pos (nI_eq_L 0 0 rfl c2)]; exact hend _ (Or.inr (Or.inr c2))
        · rw [if_neg (nI_ne_L 0 0 rfl (by omega) (by decide) c2)]
          by_cases c3 : s = 63
          · rw [if_pos (nI_eq_L 63 63 rfl c3)]; exact hend _ (Or.inr (Or.inl c3))
          · rw [if_neg (nI_ne_L 63 63 rfl (by omega) (by decide) c3), if_neg (fun h => h.elim c1 (fun h => h.elim c3 c2))]
            have hsh : aAnd (aOr (aOr (nI s) (aShl (nI s) 1)) (aShr (nI s) 1)) 63 = nI (over s) := by
              rw [show aShl (nI s) 1 = nI (s <<< 1) from aShl_n (w := 1) (by decide), show aShr (nI s) 1 = nI (s >>> 1) from aShr_n (w := 1) (by omega) (by decide), aOr_n, aOr_n, ← over_eq s hs]
              exact aAnd_n _ 63
            rw [hsh]
            first | refine Eq.trans ((vc1_ok T.ln.k)) ?_ | refine Rt.eq ((vc1_ok T.ln.k)) ?_ | refine Th.eq ((vc1_ok T.ln.k)) ?_
            first | refine Eq.trans ((cbI_of (t676 T iS (over_lt s hs)))) ?_ | refine Rt.eq ((cbI_of (t676 T iS (over_lt s hs)))) ?_ | refine Th.eq ((cbI_of (t676 T iS (over_lt s hs)))) ?_
            have hg := over_grows S.bulk iS.bk s hs c2 c3
            have hl := (spread_fix S.bulk iS.bk (over s) (over_lt s hs)).2
            have hle := pop6_le _ hl
            have hk := popk (n := n) hg hle hp c2
            exact t675_2 T hT iS bW n (spread S.bulk (over s)) t' hk.1 (Or.inl hk.2) hl dt'
/-- FLOOD -/
theorem t675 (T : TC G M m u g S w lots ll le lx) {h : Nat} (hh : h < 64) {q : Bool} : ∃ M', ex G 2 675 0 [(0, vR (some u)), (1, vI (nI h)), (2, vI (bI q))] [] M = some (.inl (some (vD (floD (S.flo h) q))), M') ∧ QC noX 7 28 M M' := by
  have iS := T.i
  have iH := iS.h
  obtain ⟨M1, e1, q1, -⟩ := t663 (p := false) T
  have T1 := T.ex q1 e1
  refine ⟨M1, ?_, q1⟩
  rw [E675_0]
  first | refine Eq.trans ((vc1_ok T.t.ln.k)) ?_ | refine Rt.eq ((vc1_ok T.t.ln.k)) ?_ | refine Th.eq ((vc1_ok T.t.ln.k)) ?_
  first | refine Eq.trans ((cbD_of e1)) ?_ | refine Rt.eq ((cbD_of e1)) ?_ | refine Th.eq ((cbD_of e1)) ?_
  first | refine Eq.trans ((vc1_ok T1.t.ln.k)) ?_ | refine Rt.eq ((vc1_ok T1.t.ln.k)) ?_ | refine Th.eq ((vc1_ok T1.t.ln.k)) ?_
  first | refine Eq.trans ((cbD_of (t652 T1.t.ln T1.ct.sim.d))) ?_ | refine Rt.eq ((cbD_of (t652 T1.t.ln T1.ct.sim.d))) ?_ | refine Th.eq ((cbD_of (t652 T1.t.ln T1.ct.sim.d))) ?_
  first | refine Eq.trans ((vc1_ok T1.t.ln.k)) ?_ | refine Rt.eq ((vc1_ok T1.t.ln.k)) ?_ | refine Th.eq ((vc1_ok T1.t.ln.k)) ?_
  first | refine Eq.trans ((cbI_of (t676 T1.t iS hh))) ?_ | refine Rt.eq ((cbI_of (t676 T1.t iS hh))) ?_ | refine Th.eq ((cbI_of (t676 T1.t iS hh))) ?_
  show (if dCmG (S.dr false) FP.dconst0 < 0 then _ else _) = _
  unfold Sh.flo
  by_cases hd : dCmG (S.dr false) FP.dconst0 < 0
  · rw [if_pos hd, if_pos hd]
    exact rD_ok (by (first | exact isN_of (by repeat' (with_reducible first | assumption | exact bd_kD | exact bd_i2D | exact bd_c0 | exact bd_c1 | apply bd_add | apply bd_mul | apply bd_div | apply bd_sub | exact dr_b | exact bd_step | exact bd_Q | exact bd_wide | exact bd_slice | exact bd_part | exact bd_section | exact bd_lift | exact bd_at | exact bd_X | exact bd_ord | exact bd_so | exact bd_vol | exact bd_water | exact bd_draught | exact bd_simT | exact bd_bread | exact bd_br | exact bd_far | exact bd_tank | exact LdB.t (by (first | assumption | exact ldB_plate | exact ldB_item | exact ldB_tank | exact ldB_engine | exact ldB_hold)) | exact LdB.s (by (first | assumption | exact ldB_plate | exact ldB_item | exact ldB_tank | exact ldB_engine | exact ldB_hold)) | exact LdB.u (by (first | assumption | exact ldB_plate | exact ldB_item | exact ldB_tank | exact ldB_engine | exact ldB_hold)) | exact SmB.w (by (first | assumption | exact sums_b)) | exact SmB.l (by (first | assumption | exact sums_b)) | exact SmB.t (by (first | assumption | exact sums_b)) | exact SmB.k (by (first | assumption | exact sums_b)) | exact wt_b | exact bd_lcg | exact bd_tcg | exact bd_kg | exact bd_dr | exact bd_loose | exact bd_free | exact bd_bulk | exact bd_fWater | exact lo_4 | exact lo_8 | exact lo_6 | exact lo_2 | exact lo_18 | exact lo_16 | exact lo_64 | exact lo_72 | exact lo_32 | exact lo_12 | exact lo_100 | exact lo_step | fail)) (by decide) | exact isN_of (by repeat' (with_reducible first | assumption | exact bd_kD | exact bd_i2D | exact bd_c0 | exact bd_c1 | apply bd_add | apply bd_mul | apply bd_div | apply bd_sub | exact dr_b | exact bd_step | exact bd_Q | exact bd_wide | exact bd_slice | exact bd_part | exact bd_section | exact bd_lift | exact bd_at | exact bd_X | exact bd_ord | exact bd_so | exact bd_vol | exact bd_water | exact bd_draught | exact bd_simT | exact bd_bread | exact bd_br | exact bd_far | exact bd_tank | exact LdB.t (by (first | assumption | exact ldB_plate | exact ldB_item | exact ldB_tank | exact ldB_engine | exact ldB_hold)) | exact LdB.s (by (first | assumption | exact ldB_plate | exact ldB_item | exact ldB_tank | exact ldB_engine | exact ldB_hold)) | exact LdB.u (by (first | assumption | exact ldB_plate | exact ldB_item | exact ldB_tank | exact ldB_engine | exact ldB_hold)) | exact SmB.w (by (first | assumption | exact sums_b)) | exact SmB.l (by (first | assumption | exact sums_b)) | exact SmB.t (by (first | assumption | exact sums_b)) | exact SmB.k (by (first | assumption | exact sums_b)) | exact wt_b | exact bd_lcg | exact bd_tcg | exact bd_kg | exact bd_dr | exact bd_loose | exact bd_free | exact bd_bulk | exact bd_fWater | exact lo_4 | exact lo_8 | exact lo_6 | exact lo_2 | exact lo_18 | exact lo_16 | exact lo_64 | exact lo_72 | exact lo_32 | exact lo_12 | exact lo_100 | exact lo_step | fail)) (by omega)))
  · rw [if_neg hd, if_neg hd]
    have hl := (spread_fix S.bulk iS.bk h hh).2
    have hp : 7 ≤ pop6 (spread S.bulk h) + 7 ∨ spread S.bulk h = 0 := by left; omega
    exact t675_2 T1.t T1.ct.sim.d iS (wt_b (S := S) (p := false)) 7 _ _ (by decide) hp hl (hDr_dr (fun h9 => hd ((sinks_iff iH).2.mpr h9)))
theorem fLoop_dr {H : Hull} {B : Nat} {W : UInt64} (iH : HI H) : ∀ (n s : Nat) (t : UInt64) (x : Nat × UInt64), Dr t → fLoop H B W n s t = some x → Dr x.2
  | 0, _, _, _, _, h => by cases h
  | n + 1, s, t, x, dt, h => by
    unfold fLoop at h
    cases hf : fSet H s W 12 t with
    | none => rw [hf] at h; cases h
    | some t' =>
      rw [hf] at h
      have dt' := fSet_dr iH 12 t t' dt hf
      simp only [] at h
      split at h
      · injection h with h; subst h; exact dt'
      · exact fLoop_dr iH n _ t' x dt' h
theorem flo_dr (iS : SI S) {h : Nat} {x : Nat × UInt64} (hx : S.flo h = some x) : Dr x.2 := by
  unfold Sh.flo at hx
  split at hx
  · cases hx
  · next hd => exact fLoop_dr iS.h 7 _ _ x (hDr_dr (fun h9 => hd ((sinks_iff iS.h).2.mpr h9))) hx
theorem floD_neg (iS : SI S) {h : Nat} : (dCmL (floD (S.flo h) false) FP.dconst0 < 0 ↔ S.flo h = none) ∧ (dCmG (floD (S.flo h) false) FP.dconst0 < 0 ↔ S.flo h = none) := by
  cases hf : S.flo h with
  | none => exact ⟨⟨fun _ => rfl, fun _ => cmp_neg1.1⟩, ⟨fun _ => rfl, fun _ => cmp_neg1.2⟩⟩
  | some x =>
    have d := flo_dr iS hf
    have c := cmp_zero d.1 (by decide) d.2
    exact ⟨⟨fun h => absurd h c.1, fun h => by cases h⟩, ⟨fun h => absurd h c.2, fun h => by cases h⟩⟩
theorem t677_1 : ∀ (n k s : Nat) {M : Mem}, TC G M m u g S w lots ll le lx → k + n = 5 → ∃ M', ex G 2 677 1 [(0, vR (some u)), (1, vI (nI s)), (2, vI (nI k))] [] M = some (.inl (some (vI (nI (S.svL n k s)))), M') ∧ QC noX (7 * n) (28 * n) M M'
  | 0, k, s, M, T, hk => by
    have e : k = 5 := by omega
    subst e
    refine ⟨M, ?_, QC.rf⟩
    rw [E677_1, if_neg (by decide)]
    rfl
  | n + 1, k, s, M, T, hk => by
    have hk5 : k < 5 := by omega
    obtain ⟨M1, e1, q1⟩ := t675 (q := false) T (three_lt k hk5)
    have T1 := T.ex q1 e1
    obtain ⟨M', e', q'⟩ := t677_1 n (k + 1) (s + (if (S.flo (3 <<< k)).isSome then 1 else 0)) T1 (by omega)
    refine ⟨M', Eq.trans ?_ e', (q1.tr q').mono (fun _ h => h) (by omega) (by omega)⟩
    rw [E677_1, if_pos (nI_lt_L 5 5 rfl hk5 (by decide)), show aAdd (nI k) 1 = nI (k + 1) from aAdd_n k 1, show aShl 3 (nI k) = nI (3 <<< k) from aShl_n (a := 3) (by omega)]
    first | refine Eq.trans ((vc1_ok T.t.ln.k)) ?_ | refine Rt.eq ((vc1_ok T.t.ln.k)) ?_ | refine Th.eq ((vc1_ok T.t.ln.k)) ?_
    first | refine Eq.trans ((cbD_of e1)) ?_ | refine Rt.eq ((cbD_of e1)) ?_ | refine Th.eq ((cbD_of e1)) ?_
    by_cases h : S.flo (3 <<< k) = none
    · rw [if_pos ((floD_neg T.i).1.mpr h), h]
      first | refine Eq.trans ((cbI_of (t381 (b := false)))) ?_ | refine Rt.eq ((cbI_of (t381 (b := false)))) ?_ | refine Th.eq ((cbI_of (t381 (b := false)))) ?_
      rw [nmI_ok, show aAdd (nI s) (bI false) = nI (s + 0) from aAdd_n s 0]
      rfl
    · rw [if_neg (fun h9 => h ((floD_neg T.i).1.mp h9))]
      have hs : (S.flo (3 <<< k)).isSome = true := by
        cases hf : S.flo (3 <<< k) with
        | none => exact absurd hf h
        | some x => rfl
      rw [hs]
      first | refine Eq.trans ((cbI_of (t381 (b := true)))) ?_ | refine Rt.eq ((cbI_of (t381 (b := true)))) ?_ | refine Th.eq ((cbI_of (t381 (b := true)))) ?_
      rw [nmI_ok, show aAdd (nI s) (bI true) = nI (s + 1) from aAdd_n s 1]
      rfl
/-- SURVIVES -/
theorem t677 (T : TC G M m u g S w lots ll le lx) : ∃ M', ex G 2 677 0 [(0, vR (some u))] [] M = some (.inl (some (vI (nI S.surv))), M') ∧ QC noX 35 140 M M' := by
  rw [E677_0]
  exact t677_1 5 0 0 T rfl
end TFL
