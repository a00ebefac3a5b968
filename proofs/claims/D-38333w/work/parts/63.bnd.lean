set_option maxRecDepth 4000
/-! ===== Strength.bend ===== -/
noncomputable def bnS (cy be : Nat → UInt64) : Nat → UInt64
  | 0 => FP.dconst0
  | k + 1 => dSub (dAdd (bnS cy be k) (cy k)) (be k)
noncomputable def bnM (H : Hull) (cy be : Nat → UInt64) : Nat → UInt64
  | 0 => FP.dconst0
  | k + 1 => dAdd (bnM H cy be k) (dDiv (dMul (dDiv (dAdd (bnS cy be k) (bnS cy be (k + 1))) (kD 4611686018427387904)) (i2D (nI H.len))) (kD 4618441417868443648))
noncomputable def bnT (H : Hull) (cy be mo : Nat → UInt64) (c : Nat) : UInt64 := if dCmL (mo c) FP.dconst0 = 0 then kD 4666722622711529472 else dDiv (dMax (dAbs (bnM H cy be c)) (dAbs (bnM H cy be (c + 1)))) (mo c)
theorem bd_bnS {cy be : Nat → UInt64} : ∀ k, (∀ c, c < k → Bd (cy c) 1400) → (∀ c, c < k → Bd (be c) 1890) → Bd (bnS cy be k) (1900 + 4 * k)
  | 0, _, _ => Bd.up bd_c0 _ (by decide)
  | k + 1, h1, h2 => by
    have h := bd_bnS k (fun c hc => h1 c (by omega)) (fun c hc => h2 c (by omega))
    have a := h1 k (Nat.lt_succ_self _)
    have b := h2 k (Nat.lt_succ_self _)
    show Bd (dSub (dAdd (bnS cy be k) (cy k)) (be k)) _
    exact Bd.up (bd_sub (bd_add h a) b) _ (by omega)
theorem bd_bnI {H : Hull} {x y : UInt64} (bx : Bd x 1930) (bY : Bd y 1930) : Bd (dDiv (dAdd x y) (kD 4611686018427387904)) 1940 ∧ Bd (dMul (dDiv (dAdd x y) (kD 4611686018427387904)) (i2D (nI H.len))) 1980 ∧ Bd (dDiv (dMul (dDiv (dAdd x y) (kD 4611686018427387904)) (i2D (nI H.len))) (kD 4618441417868443648)) 1990 := by
  have h1 : Bd (dDiv (dAdd x y) (kD 4611686018427387904)) 1940 := Bd.up (bd_div (bd_add bx bY) bd_kD lo_2) _ (by decide)
  have h2 : Bd (dMul (dDiv (dAdd x y) (kD 4611686018427387904)) (i2D (nI H.len))) 1980 := Bd.up (bd_mul h1 bd_i2D) _ (by decide)
  exact ⟨h1, h2, Bd.up (bd_div h2 bd_kD lo_6) _ (by decide)⟩
theorem bd_bnM {H : Hull} {cy be : Nat → UInt64} : ∀ k, k ≤ 6 → (∀ c, c < 6 → Bd (cy c) 1400) → (∀ c, c < 6 → Bd (be c) 1890) → Bd (bnM H cy be k) (1990 + 2 * k)
  | 0, _, _, _ => Bd.up bd_c0 _ (by decide)
  | k + 1, hk, h1, h2 => by
    have h := bd_bnM (H := H) k (by omega) h1 h2
    have s1 := bd_bnS k (fun c hc => h1 c (by omega)) (fun c hc => h2 c (by omega))
    have s2 := bd_bnS (k + 1) (fun c hc => h1 c (by omega)) (fun c hc => h2 c (by omega))
    show Bd (dAdd (bnM H cy be k) (dDiv (dMul (dDiv (dAdd (bnS cy be k) (bnS cy be (k + 1))) (kD 4611686018427387904)) (i2D (nI H.len))) (kD 4618441417868443648))) _
    exact Bd.up (bd_add h (bd_bnI (H := H) (Bd.up s1 1930 (by omega)) (Bd.up s2 1930 (by omega))).2.2) _ (by omega)
theorem mg0_cmp {x : UInt64} (h : ¬ dCmL x FP.dconst0 = 0) : mg x ≠ 0 := by
  intro e
  apply h
  unfold mg at e
  have hx : x = 0 ∨ x = 9223372036854775808 := by
    have h1 : x.toNat < 18446744073709551616 := x.toNat_lt
    have h2 : x.toNat = 0 ∨ x.toNat = 9223372036854775808 := by omega
    rcases h2 with h2 | h2
    · exact Or.inl (UInt64.toNat_inj.mp h2)
    · exact Or.inr (UInt64.toNat_inj.mp h2)
  rw [dCmL_e]
  rcases hx with e1 | e1
  · rw [e1]; decide
  · rw [e1]; decide
/-- only some arrays of doubles change -/
abbrev QA (A : Nat → Prop) (M : Mem) (M' : Mem) : Prop := (QC noX 0 0 M M') ∧ (∀ a i, ¬ A a → mad M' a i = mad M a i) ∧ (mfd M' = mfd M) ∧ (mfi M' = mfi M)
theorem QA.q {A : Nat → Prop} {M : Mem} {M' : Mem} (self_ : QA A M M') : QC noX 0 0 M M' := self_.1
theorem QA.ad {A : Nat → Prop} {M : Mem} {M' : Mem} (self_ : QA A M M') : ∀ a i, ¬ A a → mad M' a i = mad M a i := self_.2.1
theorem QA.fd {A : Nat → Prop} {M : Mem} {M' : Mem} (self_ : QA A M M') : mfd M' = mfd M := self_.2.2.1
theorem QA.fi {A : Nat → Prop} {M : Mem} {M' : Mem} (self_ : QA A M M') : mfi M' = mfi M := self_.2.2.2
theorem QA.rf {A : Nat → Prop} {M : Mem} : QA A M M := ⟨QC.rf, fun _ _ _ => rfl, rfl, rfl⟩
theorem QA.tr {A : Nat → Prop} {M M1 M2 : Mem} (h : QA A M M1) (h2 : QA A M1 M2) : QA A M M2 := ⟨h.q.tr h2.q, fun a i ha => (h2.ad a i ha).trans (h.ad a i ha), h2.fd.trans h.fd, h2.fi.trans h.fi⟩
theorem QA.mono {A B : Nat → Prop} {M M1 : Mem} (h : QA A M M1) (hB : ∀ a, A a → B a) : QA B M M1 := ⟨h.q, fun a i ha => h.ad a i (fun x => ha (hB a x)), h.fd, h.fi⟩
theorem QA.sad {A : Nat → Prop} {M : Mem} {a i : Nat} {v : UInt64} (h : A a) : QA A M (sad M a i v) := ⟨QC.sad, fun a' i' ha => by rw [mad_sad]; exact up2_ne1 (fun e => ha (by rw [e]; exact h)), rfl, rfl⟩
theorem QA.sdA {A : Nat → Prop} {M : Mem} {a : Nat} {f : Nat → UInt64} (h : A a) : QA A M (sdA M a f) := ⟨QC.sdA, fun a' i' ha => if_neg (fun e => ha (by rw [e]; exact h)), rfl, rfl⟩
theorem mad_sad_at {M : Mem} {a i : Nat} {v : UInt64} : mad (sad M a i v) a i = v := by rw [mad_sad]; exact up2_at9
theorem mad_sad_ne {M : Mem} {a i x j : Nat} {v : UInt64} (h : ¬ (x = a ∧ j = i)) : mad (sad M a i v) x j = mad M x j := by rw [mad_sad, up2_if, if_neg h]
def stA (b : Nat) : Nat → Prop := fun a => b + 18 ≤ a ∧ a ≤ b + 21
section BND
variable {G : Nat → Option Nat} {b : Nat} {g : SG} {S : Sh} {p : Bool}
theorem c573_1 {cy be mo : Nat → UInt64} (bcy : ∀ c, c < 6 → Bd (cy c) 1400) (bbe : ∀ c, c < 6 → Bd (be c) 1890) (bmo : ∀ c, c < 6 → Bd (mo c) 1500) : ∀ (n k : Nat) (M : Mem), k + n = 6 → ShC G M b g S p → (∀ c, c < 6 → mad M (b + 17) c = cy c) → (∀ c, c < 6 → mad M (b + 18) c = be c) → (∀ c, c < 6 → mad M (b + 22) c = mo c) →
    (∀ c, c < k → mad M (b + 19) c = bnS cy be (c + 1) ∧ mad M (b + 20) c = bnM S.H cy be (c + 1) ∧ mad M (b + 21) c = bnT S.H cy be mo c) →
    ∃ M', ex G 1 573 1 [(0, vR (some (b + 16))), (1, vD (bnS cy be k)), (3, vD (bnM S.H cy be k)), (5, vI (nI k))] [] M = some (.inl none, M') ∧ QA (stA b) M M' ∧ (∀ c, c < 6 → mad M' (b + 19) c = bnS cy be (c + 1) ∧ mad M' (b + 20) c = bnM S.H cy be (c + 1) ∧ mad M' (b + 21) c = bnT S.H cy be mo c)
  | 0, k, M, hk, C, h1, h2, h3, h4 => by
    have e : k = 6 := by omega
    subst e
    refine ⟨M, ?_, QA.rf, h4⟩
    rw [E573_1, if_neg (by decide)]
    rfl
  | n + 1, k, M, hk, C, h1, h2, h3, h4 => by
    have hk6 : k < 6 := by omega
    have s1 := Bd.up (bd_bnS k (fun c hc => bcy c (by omega)) (fun c hc => bbe c (by omega))) 1930 (by omega)
    have s2 := Bd.up (bd_bnS (k + 1) (fun c hc => bcy c (by omega)) (fun c hc => bbe c (by omega))) 1930 (by omega)
    have m1 := Bd.up (bd_bnM (H := S.H) k (by omega) bcy bbe) 2010 (by omega)
    have m2 := Bd.up (bd_bnM (H := S.H) (k + 1) (by omega) bcy bbe) 2010 (by omega)
    obtain ⟨i1, i2, i3⟩ := bd_bnI (H := S.H) s1 s2
    have a1 := bd_add s1 (bcy k hk6)
    have a2 := bd_add s1 s2
    -- the three writes
    obtain ⟨M1, hM1⟩ : ∃ M1, M1 = sad M (b + 19) k (bnS cy be (k + 1)) := ⟨_, rfl⟩
    have q1 : QA (stA b) M M1 := by rw [hM1]; exact QA.sad ⟨by omega, by omega⟩
    have C1 : ShC G M1 b g S p := C.fr0 q1.q
    obtain ⟨M2, hM2⟩ : ∃ M2, M2 = sad M1 (b + 20) k (bnM S.H cy be (k + 1)) := ⟨_, rfl⟩
    have q2 : QA (stA b) M1 M2 := by rw [hM2]; exact QA.sad ⟨by omega, by omega⟩
    have C2 : ShC G M2 b g S p := C1.fr0 q2.q
    obtain ⟨M3, hM3⟩ : ∃ M3, M3 = sad M2 (b + 21) k (bnT S.H cy be mo k) := ⟨_, rfl⟩
    have q3 : QA (stA b) M2 M3 := by rw [hM3]; exact QA.sad ⟨by omega, by omega⟩
    have C3 : ShC G M3 b g S p := C2.fr0 q3.q
    have q123 := (q1.tr q2).tr q3
    obtain ⟨M', e', q', h'⟩ := c573_1 bcy bbe bmo n (k + 1) M3 (by omega) C3 (fun c hc => (q123.ad _ _ (by unfold stA; omega)).trans (h1 c hc)) (fun c hc => by
      rw [hM3, mad_sad_ne (by omega), hM2, mad_sad_ne (by omega), hM1, mad_sad_ne (by omega)]; exact h2 c hc) (fun c hc => (q123.ad _ _ (by unfold stA; omega)).trans (h3 c hc)) (fun c hc => by
      by_cases hck : c = k
      · subst hck
        refine ⟨?_, ?_, ?_⟩
        · rw [hM3, mad_sad_ne (by omega), hM2, mad_sad_ne (by omega), hM1, mad_sad_at]
        · rw [hM3, mad_sad_ne (by omega), hM2, mad_sad_at]
        · rw [hM3, mad_sad_at]
      · have h := h4 c (by omega)
        refine ⟨?_, ?_, ?_⟩
        · rw [hM3, mad_sad_ne (by omega), hM2, mad_sad_ne (by omega), hM1, mad_sad_ne (by omega)]; exact h.1
        · rw [hM3, mad_sad_ne (by omega), hM2, mad_sad_ne (by omega), hM1, mad_sad_ne (by omega)]; exact h.2.1
        · rw [hM3, mad_sad_ne (by omega), hM2, mad_sad_ne (by omega), hM1, mad_sad_ne (by omega)]; exact h.2.2)
    refine ⟨M', ?_, q123.tr q', h'⟩
    have v3 : mad M2 (b + 22) k = mo k := ((q1.tr q2).ad _ _ (by unfold stA; omega)).trans (h3 k hk6)
    rw [E573_1, if_pos (show nI k < 6 from nI_lt (a := k) (b := 6) (by omega) (by decide)), show aAdd (nI k) 1 = nI (k + 1) from aAdd_n k 1]
    first | refine Eq.trans ((gR_v C.stk C.rsca)) ?_ | refine Rt.eq ((gR_v C.stk C.rsca)) ?_ | refine Th.eq ((gR_v C.stk C.rsca)) ?_
    first | refine Eq.trans ((ldD_v C.scak C.scaln hk6 (by decide) (h1 k hk6))) ?_ | refine Rt.eq ((ldD_v C.scak C.scaln hk6 (by decide) (h1 k hk6))) ?_ | refine Th.eq ((ldD_v C.scak C.scaln hk6 (by decide) (h1 k hk6))) ?_
    first | refine Eq.trans ((fD_ok (isN_of a1 (by decide)))) ?_ | refine Rt.eq ((fD_ok (isN_of a1 (by decide)))) ?_ | refine Th.eq ((fD_ok (isN_of a1 (by decide)))) ?_
    first | refine Eq.trans ((gR_v C.stk C.rsbe)) ?_ | refine Rt.eq ((gR_v C.stk C.rsbe)) ?_ | refine Th.eq ((gR_v C.stk C.rsbe)) ?_
    first | refine Eq.trans ((ldD_v C.sbek C.sbeln hk6 (by decide) (h2 k hk6))) ?_ | refine Rt.eq ((ldD_v C.sbek C.sbeln hk6 (by decide) (h2 k hk6))) ?_ | refine Th.eq ((ldD_v C.sbek C.sbeln hk6 (by decide) (h2 k hk6))) ?_
    show fD (bnS cy be (k + 1)) _ = _
    first | refine Eq.trans ((fD_ok (isN_of s2 (by decide)))) ?_ | refine Rt.eq ((fD_ok (isN_of s2 (by decide)))) ?_ | refine Th.eq ((fD_ok (isN_of s2 (by decide)))) ?_
    first | refine Eq.trans ((fD_ok (isN_of a2 (by decide)))) ?_ | refine Rt.eq ((fD_ok (isN_of a2 (by decide)))) ?_ | refine Th.eq ((fD_ok (isN_of a2 (by decide)))) ?_
    first | refine Eq.trans ((fD_ok (isN_of i1 (by decide)))) ?_ | refine Rt.eq ((fD_ok (isN_of i1 (by decide)))) ?_ | refine Th.eq ((fD_ok (isN_of i1 (by decide)))) ?_
    first | refine Eq.trans ((gR_v C.stk C.stsh)) ?_ | refine Rt.eq ((gR_v C.stk C.stsh)) ?_ | refine Th.eq ((gR_v C.stk C.stsh)) ?_
    first | refine Eq.trans ((gR_v C.k C.rLn)) ?_ | refine Rt.eq ((gR_v C.k C.rLn)) ?_ | refine Th.eq ((gR_v C.k C.rLn)) ?_
    first | refine Eq.trans ((gI_v C.lk C.llen)) ?_ | refine Rt.eq ((gI_v C.lk C.llen)) ?_ | refine Th.eq ((gI_v C.lk C.llen)) ?_
    first | refine Eq.trans ((fD_ok (isN_of i2 (by decide)))) ?_ | refine Rt.eq ((fD_ok (isN_of i2 (by decide)))) ?_ | refine Th.eq ((fD_ok (isN_of i2 (by decide)))) ?_
    first | refine Eq.trans ((fD_ok (isN_of i3 (by decide)))) ?_ | refine Rt.eq ((fD_ok (isN_of i3 (by decide)))) ?_ | refine Th.eq ((fD_ok (isN_of i3 (by decide)))) ?_
    show fD (bnM S.H cy be (k + 1)) _ = _
    first | refine Eq.trans ((fD_ok (isN_of m2 (by decide)))) ?_ | refine Rt.eq ((fD_ok (isN_of m2 (by decide)))) ?_ | refine Th.eq ((fD_ok (isN_of m2 (by decide)))) ?_
    first | refine Eq.trans ((gR_v C.stk C.rssh)) ?_ | refine Rt.eq ((gR_v C.stk C.rssh)) ?_ | refine Th.eq ((gR_v C.stk C.rssh)) ?_
    first | refine Eq.trans ((stD_ok C.sshk C.sshco C.sshln hk6 (by decide))) ?_ | refine Rt.eq ((stD_ok C.sshk C.sshco C.sshln hk6 (by decide))) ?_ | refine Th.eq ((stD_ok C.sshk C.sshco C.sshln hk6 (by decide))) ?_
    rw [← hM1]
    first | refine Eq.trans ((gR_v C1.stk C1.rsmo)) ?_ | refine Rt.eq ((gR_v C1.stk C1.rsmo)) ?_ | refine Th.eq ((gR_v C1.stk C1.rsmo)) ?_
    first | refine Eq.trans ((stD_ok C1.smok C1.smoco C1.smoln hk6 (by decide))) ?_ | refine Rt.eq ((stD_ok C1.smok C1.smoco C1.smoln hk6 (by decide))) ?_ | refine Th.eq ((stD_ok C1.smok C1.smoco C1.smoln hk6 (by decide))) ?_
    rw [← hM2]
    first | refine Eq.trans ((gR_v C2.stk C2.rsmd)) ?_ | refine Rt.eq ((gR_v C2.stk C2.rsmd)) ?_ | refine Th.eq ((gR_v C2.stk C2.rsmd)) ?_
    first | refine Eq.trans ((ldD_v C2.smdk C2.smdln hk6 (by decide) v3)) ?_ | refine Rt.eq ((ldD_v C2.smdk C2.smdln hk6 (by decide) v3)) ?_ | refine Th.eq ((ldD_v C2.smdk C2.smdln hk6 (by decide) v3)) ?_
    first | refine Eq.trans ((gR_v C2.stk C2.rsss)) ?_ | refine Rt.eq ((gR_v C2.stk C2.rsss)) ?_ | refine Th.eq ((gR_v C2.stk C2.rsss)) ?_
    unfold bnT at hM3
    by_cases hc : dCmL (mo k) FP.dconst0 = 0
    · rw [if_pos hc]
      rw [if_pos hc] at hM3
      first | refine Eq.trans ((stD_ok C2.sssk C2.sssco C2.sssln hk6 (by decide))) ?_ | refine Rt.eq ((stD_ok C2.sssk C2.sssco C2.sssln hk6 (by decide))) ?_ | refine Th.eq ((stD_ok C2.sssk C2.sssco C2.sssln hk6 (by decide))) ?_
      rw [← hM3]
      exact e'
    · rw [if_neg hc]
      rw [if_neg hc] at hM3
      first | refine Eq.trans ((fD_ok (isN_of m1 (by decide)))) ?_ | refine Rt.eq ((fD_ok (isN_of m1 (by decide)))) ?_ | refine Th.eq ((fD_ok (isN_of m1 (by decide)))) ?_
      first | refine Eq.trans ((fD_ok (isN_of m2 (by decide)))) ?_ | refine Rt.eq ((fD_ok (isN_of m2 (by decide)))) ?_ | refine Th.eq ((fD_ok (isN_of m2 (by decide)))) ?_
      first | refine Eq.trans ((fD_ok (isN_of (bd_abs m1) (by decide)))) ?_ | refine Rt.eq ((fD_ok (isN_of (bd_abs m1) (by decide)))) ?_ | refine Th.eq ((fD_ok (isN_of (bd_abs m1) (by decide)))) ?_
      first | refine Eq.trans ((fD_ok (isN_of (bd_abs m2) (by decide)))) ?_ | refine Rt.eq ((fD_ok (isN_of (bd_abs m2) (by decide)))) ?_ | refine Th.eq ((fD_ok (isN_of (bd_abs m2) (by decide)))) ?_
      first | refine Eq.trans ((fD_ok (isN_div (bd_max (bd_abs m1) (bd_abs m2)) (by decide) (bmo k hk6) (by decide) (mg0_cmp hc)))) ?_ | refine Rt.eq ((fD_ok (isN_div (bd_max (bd_abs m1) (bd_abs m2)) (by decide) (bmo k hk6) (by decide) (mg0_cmp hc)))) ?_ | refine Th.eq ((fD_ok (isN_div (bd_max (bd_abs m1) (bd_abs m2)) (by decide) (bmo k hk6) (by decide) (mg0_cmp hc)))) ?_
      first | refine Eq.trans ((stD_ok C2.sssk C2.sssco C2.sssln hk6 (by decide))) ?_ | refine Rt.eq ((stD_ok C2.sssk C2.sssco C2.sssln hk6 (by decide))) ?_ | refine Th.eq ((stD_ok C2.sssk C2.sssco C2.sssln hk6 (by decide))) ?_
      rw [← hM3]
      exact e'
/-- STRENGTH.BEND -/
theorem c573 {M : Mem} {cy be mo : Nat → UInt64} (bcy : ∀ c, c < 6 → Bd (cy c) 1400) (bbe : ∀ c, c < 6 → Bd (be c) 1890) (bmo : ∀ c, c < 6 → Bd (mo c) 1500) (C : ShC G M b g S p) (h1 : ∀ c, c < 6 → mad M (b + 17) c = cy c) (h2 : ∀ c, c < 6 → mad M (b + 18) c = be c) (h3 : ∀ c, c < 6 → mad M (b + 22) c = mo c) :
    ∃ M', ex G 1 573 0 [(0, vR (some (b + 16)))] [] M = some (.inl none, M') ∧ QA (stA b) M M' ∧ (∀ c, c < 6 → mad M' (b + 19) c = bnS cy be (c + 1) ∧ mad M' (b + 20) c = bnM S.H cy be (c + 1) ∧ mad M' (b + 21) c = bnT S.H cy be mo c) := by
  rw [E573_0]
  exact c573_1 bcy bbe bmo 6 0 M rfl C h1 h2 h3 (fun c hc => absurd hc (Nat.not_lt_zero c))
end BND
