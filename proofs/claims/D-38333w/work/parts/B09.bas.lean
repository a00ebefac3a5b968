set_option maxRecDepth 4000
/-! ===== what every operation begins with ===== -/
theorem cbI_x {E : Nat} {M : Mem} {κ : Int32 → Mem → Res} : cbI (some (.inr E, M)) κ = some (.inr E, M) := rfl
theorem cbR_x {E : Nat} {M : Mem} {κ : Option Nat → Mem → Res} : cbR (some (.inr E, M)) κ = some (.inr E, M) := rfl
theorem cbV_x {E : Nat} {M : Mem} {κ : Mem → Res} : cbV (some (.inr E, M)) κ = some (.inr E, M) := rfl
theorem cbD_x {E : Nat} {M : Mem} {κ : UInt64 → Mem → Res} : cbD (some (.inr E, M)) κ = some (.inr E, M) := rfl
theorem Ext.qw {c : Nat} {M M' : Mem} (E : Ext c M M') (h3 : c ≠ 3) : QW (fun a => mco M a = c) (mnx M' - mnx M) (msl M' - msl M) M M' := by
  have h := E.2.2.2.1 h3
  exact ⟨⟨E.1, by have := E.1; omega⟩, ⟨E.2.1, by have := E.2.1; omega⟩, fun a ha => (E.2.2.1 a ha).1, fun a ha => (E.2.2.1 a ha).2.1, fun a ha => (E.2.2.1 a ha).2.2, fun f a ha p _ => (h a ha p).1 f, fun f a ha p _ => (h a ha p).2.2.2.1 f, fun f a ha p _ => (h a ha p).2.2.1 f, fun a i ha p => (h a ha p).2.2.2.2.1 i, fun a i ha p => (h a ha p).2.2.2.2.2.2 i⟩
def noP : Nat → Prop := fun _ => False
theorem QW.mth {P : Nat → Prop} {M : Mem} {j n : Nat} : QW P j n M (mth M j n) :=
  ⟨⟨Nat.le_add_right _ _, Nat.le_refl _⟩, ⟨Nat.le_add_right _ _, Nat.le_refl _⟩, fun _ _ => rfl, fun _ _ => rfl, fun _ _ => rfl, fun _ _ _ _ _ => rfl, fun _ _ _ _ _ => rfl, fun _ _ _ _ _ => rfl, fun _ _ _ _ => rfl, fun _ _ _ _ => rfl⟩
theorem QW.mono2 {P : Nat → Prop} {n s n' s' : Nat} {M M1 : Mem} (h : QW P n s M M1) (hn : n ≤ n') (hs : s ≤ s') : QW P n' s' M M1 := h.mono (fun _ h => h) hn hs
/-- is a number in a range -/
def inB (lo hi x : Int32) : Bool := !decide (x < lo) && decide (x ≤ hi)
theorem c203 {G : Nat → Option Nat} {c : Nat} {M : Mem} {lo hi x : Int32} : ex G c 203 0 [(0, vI lo), (1, vI hi), (2, vI x)] [] M = some (.inl (some (vI (bI (inB lo hi x)))), M) := by
  rw [E203_0]
  unfold inB
  by_cases h1 : x < lo
  · rw [if_pos h1, decide_eq_true h1, rZ_0]; rfl
  · rw [if_neg h1, decide_eq_false h1]
    by_cases h2 : x ≤ hi
    · rw [if_pos h2, decide_eq_true h2, rZ_1]; rfl
    · rw [if_neg h2, decide_eq_false h2, rZ_0]; rfl
theorem t362 {G : Nat → Option Nat} {c : Nat} {M : Mem} {lo hi x : Int32} : ex G c 362 0 [(0, vI x), (1, vI lo), (2, vI hi)] [] M = some (.inl (some (vI (bI (inB lo hi x)))), M) := by
  rw [E362_0]
  unfold inB
  by_cases h1 : x < lo
  · rw [if_pos h1, decide_eq_true h1, rZ_0]; rfl
  · rw [if_neg h1, decide_eq_false h1]
    by_cases h2 : x ≤ hi
    · rw [if_pos h2, decide_eq_true h2, rZ_1]; rfl
    · rw [if_neg h2, decide_eq_false h2, rZ_0]; rfl
theorem inB_n {a b : Nat} {x : Int32} (h : inB (nI a) (nI b) x = true) (ha : a < 2147483648) (hb : b < 2147483648) : ∃ n, x = nI n ∧ a ≤ n ∧ n ≤ b := by
  unfold inB at h
  rw [Bool.and_eq_true, Bool.not_eq_true'] at h
  have h1 : ¬ x < nI a := fun q => by rw [decide_eq_true q] at h; exact absurd h.1 (by decide)
  have h2 : x ≤ nI b := of_decide_eq_true h.2
  have h0 : ¬ x < 0 := fun q => h1 (by
    rw [Int32.lt_iff_toInt_lt] at q ⊢
    have e1 : (nI a).toInt = a := nI_toInt ha
    have e0 : (0 : Int32).toInt = 0 := by decide
    omega)
  obtain ⟨n, hn, e⟩ := nI_of h0
  subst e
  exact ⟨n, rfl, Nat.le_of_not_lt (fun q => h1 (nI_lt q ha)), (nI_leN hn hb).mp h2⟩
theorem c210 {G : Nat → Option Nat} {c : Nat} {M : Mem} {i n : Nat} (h : i < n) (hn : n < 2147483648) : ex G c 210 0 [(0, vI (nI i)), (1, vI (nI n))] [] M = some (.inl none, M) := by
  rw [E210_0, if_neg (nI_pos (by omega)), if_pos (nI_lt h hn)]; rfl
theorem c210x {G : Nat → Option Nat} {c : Nat} {M : Mem} {i : Int32} {n : Nat} (h : ¬ (¬ i < 0 ∧ i < nI n)) : ex G c 210 0 [(0, vI i), (1, vI (nI n))] [] M = rX 3 M := by
  rw [E210_0]
  by_cases h1 : i < 0
  · rw [if_pos h1]
  · rw [if_neg h1, if_neg (fun q => h ⟨h1, q⟩)]
theorem c204 {G : Nat → Option Nat} {c : Nat} {M : Mem} {b : Bool} (h : b = true) : ex G c 204 0 [(0, vI (bI b))] [] M = some (.inl none, M) := by rw [h, E204_0, if_neg (by decide)]; rfl
theorem c204x {G : Nat → Option Nat} {c : Nat} {M : Mem} {b : Bool} (h : b = false) : ex G c 204 0 [(0, vI (bI b))] [] M = rX 1 M := by rw [h, E204_0, if_pos (by decide)]
theorem c205 {G : Nat → Option Nat} {c : Nat} {M : Mem} : ex G c 205 0 [(0, vI 1)] [] M = some (.inl none, M) := by rw [E205_0, if_neg (by decide)]; rfl
theorem c205x {G : Nat → Option Nat} {c : Nat} {M : Mem} : ex G c 205 0 [(0, vI 0)] [] M = rX 2 M := by rw [E205_0, if_pos (by decide)]
/-- the ship of a number -/
def Yd.shO (Y : Yd) (i : Int32) : Option Sh := if i < 0 then none else Y.ships[i.toNatClampNeg]?
/-- stages are different objects -/
def StgG (G : Nat → Option Nat) : Prop := ∀ i j, i < 6 → j < 6 → G (stgN i) = G (stgN j) → i = j
theorem stg_if {G : Nat → Option Nat} (hg : StgG G) {i j : Nat} (hi : i < 6) (hj : j < 6) : (G (stgN i) = G (stgN j)) = (i = j) := propext ⟨hg i j hi hj, fun h => by rw [h]⟩
section BAS
variable {G : Nat → Option Nat} {M M' : Mem} {k m : Nat} {h : YH} {Y : Yd}
theorem shO_some (I : YI Y) {i : Int32} {S : Sh} (e : Y.shO i = some S) : i = nI S.num ∧ S.num < Y.ships.length ∧ Y.ships[S.num]? = some S := by
  unfold Yd.shO at e
  by_cases h0 : i < 0
  · rw [if_pos h0] at e; cases e
  · rw [if_neg h0] at e
    obtain ⟨n, hn, e2⟩ := nI_of h0
    subst e2
    rw [nI_clamp hn] at e
    have := I.sn n S e
    subst this
    exact ⟨rfl, lt_of_get e, e⟩
theorem shO_none (I : YI Y) {i : Int32} (e : Y.shO i = none) : ¬ (¬ i < 0 ∧ i < nI Y.ships.length) := by
  rintro ⟨h0, h1⟩
  have h3 := I.n3
  unfold Yd.shO at e
  rw [if_neg h0] at e
  obtain ⟨n, hn, e2⟩ := nI_of h0
  subst e2
  rw [nI_clamp hn] at e
  have h2 := (nI_ltN hn (by omega)).mp h1
  rw [List.getElem?_eq_getElem h2] at e
  cases e
theorem c209 (C : YC G M k h Y) (I : YI Y) {i : Int32} {S : Sh} (e : Y.shO i = some S) : ex G 1 209 0 [(0, vR (some k)), (1, vI i)] [] M = some (.inl (some (vR (some (h.bs S.num)))), M) := by
  obtain ⟨e1, e2, e3⟩ := shO_some I e
  have h3 := I.n3
  rw [E209_0, gR_v C.rt.k C.rt.r5, vc1_ok C.sl.al.k, cbI_of (c5 C.sl.al), e1, cbV_of (c210 e2 (by omega)), gR_v C.rt.k C.rt.r5, vc1_ok C.sl.al.k, cbR_of (c6 C.sl.al e2), cst_k (C.sl.el _ e2).2.1 (by decide) (by decide)]
  rfl
theorem c209x (C : YC G M k h Y) (I : YI Y) {i : Int32} (e : Y.shO i = none) : ex G 1 209 0 [(0, vR (some k)), (1, vI i)] [] M = rX 3 M := by
  rw [E209_0, gR_v C.rt.k C.rt.r5, vc1_ok C.sl.al.k, cbI_of (c5 C.sl.al), c210x (shO_none I e)]
  rfl
theorem t366 (C : YT G M m h Y) (I : YI Y) {i : Int32} : ex G 2 366 0 [(0, vR (some m)), (1, vI i)] [] M = some (.inl (some (vI (bI (Y.shO i).isNone))), M) := by
  have h3 := I.n3
  rw [E366_0, gR_v C.rt.k C.rt.r1, vc1_ok C.sl.al.k, cbI_of (c5 C.sl.al), cbI_of t362]
  have key : inB 0 (aSub (nI Y.ships.length) 1) i = (Y.shO i).isSome := by
    cases e : Y.shO i
    · have := shO_none I e
      unfold inB
      by_cases h0 : i < 0
      · rw [decide_eq_true h0]; rfl
      · rw [decide_eq_false h0]
        by_cases hl : Y.ships.length = 0
        · rw [hl]
          have : ¬ i ≤ aSub (nI 0) 1 := fun q => h0 (by
            have e1 : aSub (nI 0) 1 = -1 := by rw [aSub_e]; decide
            rw [e1] at q
            rw [Int32.le_iff_toInt_le] at q
            rw [Int32.lt_iff_toInt_lt]
            have a1 : (-1 : Int32).toInt = -1 := by decide
            have a2 : (0 : Int32).toInt = 0 := by decide
            omega)
          rw [decide_eq_false this]; rfl
        · obtain ⟨n, hn, e2⟩ := nI_of h0
          subst e2
          rw [show aSub (nI Y.ships.length) 1 = nI (Y.ships.length - 1) from aSub_n (b := 1) (by omega)]
          have : ¬ nI n ≤ nI (Y.ships.length - 1) := fun q => this ⟨h0, nI_lt (by have := (nI_leN hn (by omega)).mp q; omega) (by omega)⟩
          rw [decide_eq_false this]; rfl
    · next S =>
      obtain ⟨e1, e2, e3⟩ := shO_some I e
      rw [e1]
      unfold inB
      rw [decide_eq_false (nI_pos (by omega)), show aSub (nI Y.ships.length) 1 = nI (Y.ships.length - 1) from aSub_n (b := 1) (by omega), decide_eq_true ((nI_leN (by omega) (by omega)).mpr (by omega))]
      rfl
  rw [key]
  cases Y.shO i
  · show (if bI false = 0 then rZ 1 M else rZ 0 M) = _
    rw [if_pos (show bI false = 0 from rfl), rZ_1]; rfl
  · show (if bI true = 0 then rZ 1 M else rZ 0 M) = _
    rw [if_neg (by decide), rZ_0]; rfl
/-- the reference's ship of a number -/
theorem tget (C : YT G M m h Y) (I : YI Y) {i : Int32} {S : Sh} (e : Y.shO i = some S) {κ : Option Nat → Mem → Res} : (gR M 37 195 (some m) fun r => vc1 M 5 r fun a => cbR (ex G 2 6 0 [(0, vR (some a)), (1, vI i)] [] M) κ) = κ (some (h.bs S.num)) M := by
  obtain ⟨e1, e2, e3⟩ := shO_some I e
  rw [gR_v C.rt.k C.rt.r1, vc1_ok C.sl.al.k, e1, cbR_of (c6 C.sl.al e2)]
theorem YC.th (C : YC G M k h Y) (I : YI Y) {j n : Nat} : YC G (mth M j n) k h Y := C.fw (P := noP) QW.mth (ext_mth (c := 1) (j := j) (n := n) |>.2.2.2.2 C.z) I.n3 (fun _ _ _ p => p)
theorem YC.ext (C : YC G M k h Y) (I : YI Y) {c : Nat} (E : Ext c M M') (h1 : c ≠ 1) (h3 : c ≠ 3) : YC G M' k h Y := C.fw (E.qw h3) (E.2.2.2.2 C.z) I.n3 (fun _ _ q p => h1 (p.symm.trans q))
theorem YT.ext (C : YT G M m h Y) (I : YI Y) {c : Nat} (E : Ext c M M') (h2 : c ≠ 2) (h3 : c ≠ 3) (h0 : c ≠ 0) : YT G M' m h Y := C.fw (E.qw h3) E h3 h0 I.n3 (fun _ _ q p => h2 (p.symm.trans q))
/-- what was thrown -/
theorem YT.w194 (C : YT G M m h Y) {v : Int32} : YT G (sfi M 194 m v) m h Y := by
  have o0 : h.own m = 0 := (C.o 0 (by decide)).1
  have m0 : mco M m = 2 := (C.o 0 (by decide)).2
  have R := C.rt
  have N : RtT (sfi M 194 m v) m Y.day Y.wea Y.luck Y.flt Y.wkd Y.lst Y.cash Y.rfs := ⟨R.k, R.r1, R.r2, R.r3, R.r4, R.r5, R.r6, R.r7, R.r8, R.r9, (sfi_ne (by decide)).trans R.day, (sfi_ne (by decide)).trans R.wea, (sfi_ne (by decide)).trans R.lk, (sfi_ne (by decide)).trans R.fl, (sfi_ne (by decide)).trans R.wd, (sfi_ne (by decide)).trans R.ls, (sfi_ne (by decide)).trans R.ca, (sfi_ne (by decide)).trans R.rf_⟩
  exact C.c_rt (P := fun a => a = m) (QW.sfi rfl) (ext_sfi (by decide) m0) (fun a e => by rw [e]; exact o0) N
theorem t363f (C : YT G M m h Y) {w : Int32} : ex G 2 363 0 [(0, vR (some m)), (1, vI 0), (2, vI w)] [] M = some (.inl (some (vI 0)), sfi M 194 m 0) := by
  have m0 : mco M m = 2 := (C.o 0 (by decide)).2
  have e : ex G 2 364 0 [(0, vR (some m)), (1, vI 0), (2, vI w)] [] (sfi M 194 m 0) = some (.inl (some (vI 0)), sfi M 194 m 0) := by
    rw [E364_0, if_pos rfl, gI_v (show mcl (sfi M 194 m 0) m = 37 from C.rt.k) sfi_at, if_pos (by decide), rZ_0]
    rfl
  rw [E363_0, pI_ok C.rt.k m0, vc1_ok (show mcl (sfi M 194 m 0) m = 37 from C.rt.k), cbI_of e, rZ_0]
  rfl
theorem t363t (C : YT G M m h Y) {w : Nat} (h1 : 1 ≤ w) (h2 : w < 10) : ex G 2 363 0 [(0, vR (some m)), (1, vI 1), (2, vI (nI w))] [] M = some (.inl (some (vI 1)), sfi (sfi M 194 m 0) 194 m (nI w)) := by
  have m0 : mco M m = 2 := (C.o 0 (by decide)).2
  obtain ⟨M1, hM1⟩ : ∃ M1, M1 = sfi M 194 m 0 := ⟨_, rfl⟩
  have k1 : mcl M1 m = 37 := by rw [hM1]; exact C.rt.k
  have c1 : mco M1 m = 2 := by rw [hM1]; exact m0
  have e : ex G 2 364 0 [(0, vR (some m)), (1, vI 1), (2, vI (nI w))] [] M1 = some (.inl (some (vI 1)), sfi M1 194 m (nI w)) := by
    rw [E364_0, if_neg (by decide), gI_v k1 (show mfi M1 194 m = 0 by rw [hM1]; exact sfi_at), if_pos rfl, pI_ok k1 c1, gI_v (show mcl (sfi M1 194 m (nI w)) m = 37 from k1) sfi_at, if_neg (nI_nle_L 0 0 rfl (by omega) (by omega)), rZ_1]
    rfl
  rw [E363_0, pI_ok C.rt.k m0, ← hM1, vc1_ok k1, cbI_of e, rZ_1]
  rfl
theorem t364f (C : YT G M m h Y) (h0 : mfi M 194 m = 0) {w : Int32} : ex G 2 364 0 [(0, vR (some m)), (1, vI 0), (2, vI w)] [] M = some (.inl (some (vI 0)), M) := by
  rw [E364_0, if_pos rfl, gI_v C.rt.k h0, if_pos (by decide), rZ_0]
  rfl
theorem t364t (C : YT G M m h Y) (h0 : mfi M 194 m = 0) {w : Nat} (h1 : 1 ≤ w) (h2 : w < 10) : ex G 2 364 0 [(0, vR (some m)), (1, vI 1), (2, vI (nI w))] [] M = some (.inl (some (vI 1)), sfi M 194 m (nI w)) := by
  have m0 : mco M m = 2 := (C.o 0 (by decide)).2
  rw [E364_0, if_neg (by decide), gI_v C.rt.k h0, if_pos rfl, pI_ok C.rt.k m0, gI_v (show mcl (sfi M 194 m (nI w)) m = 37 from C.rt.k) sfi_at, if_neg (nI_nle_L 0 0 rfl (by omega) (by omega)), rZ_1]
  rfl
end BAS
