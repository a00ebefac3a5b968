set_option maxRecDepth 4000
/-! ===== the reference's loads: one load (walk) ===== -/
/-- the sums as they are reckoned: weight, moments; by compartments -/
abbrev LdM (M : Mem) (u : Nat) (s : Sm) (f : Nat → UInt64) : Prop := (mad M (u + 20) 0 = s.w) ∧ (mad M (u + 20) 1 = s.l) ∧ (mad M (u + 20) 2 = s.t) ∧ (mad M (u + 20) 3 = s.k) ∧ (∀ c, c < 6 → mad M (u + 21) c = f c)
theorem LdM.w {M : Mem} {u : Nat} {s : Sm} {f : Nat → UInt64} (self_ : LdM M u s f) : mad M (u + 20) 0 = s.w := self_.1
theorem LdM.l {M : Mem} {u : Nat} {s : Sm} {f : Nat → UInt64} (self_ : LdM M u s f) : mad M (u + 20) 1 = s.l := self_.2.1
theorem LdM.t {M : Mem} {u : Nat} {s : Sm} {f : Nat → UInt64} (self_ : LdM M u s f) : mad M (u + 20) 2 = s.t := self_.2.2.1
theorem LdM.k {M : Mem} {u : Nat} {s : Sm} {f : Nat → UInt64} (self_ : LdM M u s f) : mad M (u + 20) 3 = s.k := self_.2.2.2.1
theorem LdM.c {M : Mem} {u : Nat} {s : Sm} {f : Nat → UInt64} (self_ : LdM M u s f) : ∀ c, c < 6 → mad M (u + 21) c = f c := self_.2.2.2.2
theorem LdM.q {M M' : Mem} {u : Nat} {s : Sm} {f : Nat → UInt64} (L : LdM M u s f) (h : mad M' = mad M) : LdM M' u s f := by
  obtain ⟨a, b, c, d, e⟩ := L
  exact ⟨by rw [h]; exact a, by rw [h]; exact b, by rw [h]; exact c, by rw [h]; exact d, by rw [h]; exact e⟩
def stT (u : Nat) : Nat → Prop := fun a => u + 20 ≤ a ∧ a ≤ u + 24
def ldA2 (u : Nat) : Nat → Prop := fun a => a = u + 20 ∨ a = u + 21
section TLD
variable {G : Nat → Option Nat} {m u : Nat} {g : SG} {S : Sh} {w : Nat}
theorem t666 {M : Mem} (T : ShT G M m u g S w) {s : Sm} {f : Nat → UInt64} (L : LdM M u s f) {x : Ld} {K J : Nat} (bs : SmB s K) (hK : 1630 ≤ K) (hK2 : K ≤ 1900) (bf : ∀ c, c < 6 → Bd (f c) J) (hJ : 1250 ≤ J) (hJ2 : J ≤ 1900) (bx : LdB x) (hc : x.c < 6) :
    ∃ M', ex G 2 666 0 [(0, vR (some u)), (1, vD x.t), (3, vI (nI x.c)), (4, vD x.s), (6, vD x.u)] [] M = some (.inl none, M') ∧ QA (ldA2 u) M M' ∧ LdM M' u (smAdd S.H s x) (cyF f x) := by
  have xt := bx.t
  have xs := bx.s
  have xu := bx.u
  have sw := bs.w
  have sl := bs.l
  have st := bs.t
  have sk := bs.k
  have fc := bf x.c hc
  have b1 : Bd (dAdd s.w x.t) (K + 2) := Bd.up (bd_add sw xt) _ (by omega)
  have b2 : Bd (dMul x.t (hFar S.H x.c)) 1400 := Bd.up (bd_mul xt bd_far) _ (by decide)
  have b3 : Bd (dAdd s.l (dMul x.t (hFar S.H x.c))) (K + 2) := Bd.up (bd_add sl b2) _ (by omega)
  have b4 : Bd (dMul x.t x.s) 1630 := Bd.up (bd_mul xt xs) _ (by decide)
  have b5 : Bd (dAdd s.t (dMul x.t x.s)) (K + 2) := Bd.up (bd_add st b4) _ (by omega)
  have b6 : Bd (dMul x.t x.u) 1500 := Bd.up (bd_mul xt xu) _ (by decide)
  have b7 : Bd (dAdd s.k (dMul x.t x.u)) (K + 2) := Bd.up (bd_add sk b6) _ (by omega)
  have b8 : Bd (dAdd (f x.c) x.t) (J + 2) := Bd.up (bd_add fc xt) _ (by omega)
  obtain ⟨M1, hM1⟩ : ∃ M1, M1 = sad M (u + 20) 0 (dAdd s.w x.t) := ⟨_, rfl⟩
  have q1 : QA (ldA2 u) M M1 := by rw [hM1]; exact QA.sad (Or.inl rfl)
  have T1 : ShT G M1 m u g S w := T.fr0 q1.q
  obtain ⟨M2, hM2⟩ : ∃ M2, M2 = sad M1 (u + 20) 1 (dAdd s.l (dMul x.t (hFar S.H x.c))) := ⟨_, rfl⟩
  have q2 : QA (ldA2 u) M1 M2 := by rw [hM2]; exact QA.sad (Or.inl rfl)
  have T2 : ShT G M2 m u g S w := T1.fr0 q2.q
  obtain ⟨M3, hM3⟩ : ∃ M3, M3 = sad M2 (u + 20) 2 (dAdd s.t (dMul x.t x.s)) := ⟨_, rfl⟩
  have q3 : QA (ldA2 u) M2 M3 := by rw [hM3]; exact QA.sad (Or.inl rfl)
  have T3 : ShT G M3 m u g S w := T2.fr0 q3.q
  obtain ⟨M4, hM4⟩ : ∃ M4, M4 = sad M3 (u + 20) 3 (dAdd s.k (dMul x.t x.u)) := ⟨_, rfl⟩
  have q4 : QA (ldA2 u) M3 M4 := by rw [hM4]; exact QA.sad (Or.inl rfl)
  have T4 : ShT G M4 m u g S w := T3.fr0 q4.q
  obtain ⟨M5, hM5⟩ : ∃ M5, M5 = sad M4 (u + 21) x.c (dAdd (f x.c) x.t) := ⟨_, rfl⟩
  have q5 : QA (ldA2 u) M4 M5 := by rw [hM5]; exact QA.sad (Or.inr rfl)
  have v1 : mad M1 (u + 20) 1 = s.l := by rw [hM1, mad_sad_ne (by omega)]; exact L.l
  have v2 : mad M2 (u + 20) 2 = s.t := by rw [hM2, mad_sad_ne (by omega), hM1, mad_sad_ne (by omega)]; exact L.t
  have v3 : mad M3 (u + 20) 3 = s.k := by rw [hM3, mad_sad_ne (by omega), hM2, mad_sad_ne (by omega), hM1, mad_sad_ne (by omega)]; exact L.k
  have v4 : ∀ c, c < 6 → mad M4 (u + 21) c = f c := fun c hc => by
    rw [hM4, mad_sad_ne (by omega), hM3, mad_sad_ne (by omega), hM2, mad_sad_ne (by omega), hM1, mad_sad_ne (by omega)]; exact L.c c hc
  refine ⟨M5, ?_, ((((q1.tr q2).tr q3).tr q4).tr q5), ?_, ?_, ?_, ?_, ?_⟩
  · rw [E666_0]
    first | refine Eq.trans ((gR_v T.ln.k T.rSu)) ?_ | refine Rt.eq ((gR_v T.ln.k T.rSu)) ?_ | refine Th.eq ((gR_v T.ln.k T.rSu)) ?_
    first | refine Eq.trans ((ldD_v (i := 0) T.suk T.sul (by decide) (by decide) L.w)) ?_ | refine Rt.eq ((ldD_v (i := 0) T.suk T.sul (by decide) (by decide) L.w)) ?_ | refine Th.eq ((ldD_v (i := 0) T.suk T.sul (by decide) (by decide) L.w)) ?_
    first | refine Eq.trans ((fD_ok (isN_of b1 (by omega)))) ?_ | refine Rt.eq ((fD_ok (isN_of b1 (by omega)))) ?_ | refine Th.eq ((fD_ok (isN_of b1 (by omega)))) ?_
    first | refine Eq.trans ((stD_ok (i := 0) T.suk T.suc T.sul (by decide) (by decide))) ?_ | refine Rt.eq ((stD_ok (i := 0) T.suk T.suc T.sul (by decide) (by decide))) ?_ | refine Th.eq ((stD_ok (i := 0) T.suk T.suc T.sul (by decide) (by decide))) ?_
    rw [← hM1]
    first | refine Eq.trans ((gR_v T1.ln.k T1.rSu)) ?_ | refine Rt.eq ((gR_v T1.ln.k T1.rSu)) ?_ | refine Th.eq ((gR_v T1.ln.k T1.rSu)) ?_
    first | refine Eq.trans ((ldD_v (i := 1) T1.suk T1.sul (by decide) (by decide) v1)) ?_ | refine Rt.eq ((ldD_v (i := 1) T1.suk T1.sul (by decide) (by decide) v1)) ?_ | refine Th.eq ((ldD_v (i := 1) T1.suk T1.sul (by decide) (by decide) v1)) ?_
    first | refine Eq.trans ((vc1_ok T1.ln.k)) ?_ | refine Rt.eq ((vc1_ok T1.ln.k)) ?_ | refine Th.eq ((vc1_ok T1.ln.k)) ?_
    first | refine Eq.trans ((cbD_of (t655 T1.ln x.c))) ?_ | refine Rt.eq ((cbD_of (t655 T1.ln x.c))) ?_ | refine Th.eq ((cbD_of (t655 T1.ln x.c))) ?_
    first | refine Eq.trans ((fD_ok (isN_of b2 (by decide)))) ?_ | refine Rt.eq ((fD_ok (isN_of b2 (by decide)))) ?_ | refine Th.eq ((fD_ok (isN_of b2 (by decide)))) ?_
    first | refine Eq.trans ((fD_ok (isN_of b3 (by omega)))) ?_ | refine Rt.eq ((fD_ok (isN_of b3 (by omega)))) ?_ | refine Th.eq ((fD_ok (isN_of b3 (by omega)))) ?_
    first | refine Eq.trans ((stD_ok (i := 1) T1.suk T1.suc T1.sul (by decide) (by decide))) ?_ | refine Rt.eq ((stD_ok (i := 1) T1.suk T1.suc T1.sul (by decide) (by decide))) ?_ | refine Th.eq ((stD_ok (i := 1) T1.suk T1.suc T1.sul (by decide) (by decide))) ?_
    rw [← hM2]
    first | refine Eq.trans ((gR_v T2.ln.k T2.rSu)) ?_ | refine Rt.eq ((gR_v T2.ln.k T2.rSu)) ?_ | refine Th.eq ((gR_v T2.ln.k T2.rSu)) ?_
    first | refine Eq.trans ((ldD_v (i := 2) T2.suk T2.sul (by decide) (by decide) v2)) ?_ | refine Rt.eq ((ldD_v (i := 2) T2.suk T2.sul (by decide) (by decide) v2)) ?_ | refine Th.eq ((ldD_v (i := 2) T2.suk T2.sul (by decide) (by decide) v2)) ?_
    first | refine Eq.trans ((fD_ok (isN_of b4 (by decide)))) ?_ | refine Rt.eq ((fD_ok (isN_of b4 (by decide)))) ?_ | refine Th.eq ((fD_ok (isN_of b4 (by decide)))) ?_
    first | refine Eq.trans ((fD_ok (isN_of b5 (by omega)))) ?_ | refine Rt.eq ((fD_ok (isN_of b5 (by omega)))) ?_ | refine Th.eq ((fD_ok (isN_of b5 (by omega)))) ?_
    first | refine Eq.trans ((stD_ok (i := 2) T2.suk T2.suc T2.sul (by decide) (by decide))) ?_ | refine Rt.eq ((stD_ok (i := 2) T2.suk T2.suc T2.sul (by decide) (by decide))) ?_ | refine Th.eq ((stD_ok (i := 2) T2.suk T2.suc T2.sul (by decide) (by decide))) ?_
    rw [← hM3]
    first | refine Eq.trans ((gR_v T3.ln.k T3.rSu)) ?_ | refine Rt.eq ((gR_v T3.ln.k T3.rSu)) ?_ | refine Th.eq ((gR_v T3.ln.k T3.rSu)) ?_
    first | refine Eq.trans ((ldD_v (i := 3) T3.suk T3.sul (by decide) (by decide) v3)) ?_ | refine Rt.eq ((ldD_v (i := 3) T3.suk T3.sul (by decide) (by decide) v3)) ?_ | refine Th.eq ((ldD_v (i := 3) T3.suk T3.sul (by decide) (by decide) v3)) ?_
    first | refine Eq.trans ((fD_ok (isN_of b6 (by decide)))) ?_ | refine Rt.eq ((fD_ok (isN_of b6 (by decide)))) ?_ | refine Th.eq ((fD_ok (isN_of b6 (by decide)))) ?_
    first | refine Eq.trans ((fD_ok (isN_of b7 (by omega)))) ?_ | refine Rt.eq ((fD_ok (isN_of b7 (by omega)))) ?_ | refine Th.eq ((fD_ok (isN_of b7 (by omega)))) ?_
    first | refine Eq.trans ((stD_ok (i := 3) T3.suk T3.suc T3.sul (by decide) (by decide))) ?_ | refine Rt.eq ((stD_ok (i := 3) T3.suk T3.suc T3.sul (by decide) (by decide))) ?_ | refine Th.eq ((stD_ok (i := 3) T3.suk T3.suc T3.sul (by decide) (by decide))) ?_
    rw [← hM4]
    first | refine Eq.trans ((gR_v T4.ln.k T4.rCa)) ?_ | refine Rt.eq ((gR_v T4.ln.k T4.rCa)) ?_ | refine Th.eq ((gR_v T4.ln.k T4.rCa)) ?_
    first | refine Eq.trans ((ldD_v T4.cak T4.cal hc (by decide) (v4 _ hc))) ?_ | refine Rt.eq ((ldD_v T4.cak T4.cal hc (by decide) (v4 _ hc))) ?_ | refine Th.eq ((ldD_v T4.cak T4.cal hc (by decide) (v4 _ hc))) ?_
    first | refine Eq.trans ((fD_ok (isN_of b8 (by omega)))) ?_ | refine Rt.eq ((fD_ok (isN_of b8 (by omega)))) ?_ | refine Th.eq ((fD_ok (isN_of b8 (by omega)))) ?_
    first | refine Eq.trans ((stD_ok T4.cak T4.cac T4.cal hc (by decide))) ?_ | refine Rt.eq ((stD_ok T4.cak T4.cac T4.cal hc (by decide))) ?_ | refine Th.eq ((stD_ok T4.cak T4.cac T4.cal hc (by decide))) ?_
    rw [← hM5]
    rfl
  · rw [hM5, mad_sad_ne (by omega), hM4, mad_sad_ne (by omega), hM3, mad_sad_ne (by omega), hM2, mad_sad_ne (by omega), hM1, mad_sad_at]; rfl
  · rw [hM5, mad_sad_ne (by omega), hM4, mad_sad_ne (by omega), hM3, mad_sad_ne (by omega), hM2, mad_sad_at]; rfl
  · rw [hM5, mad_sad_ne (by omega), hM4, mad_sad_ne (by omega), hM3, mad_sad_at]; rfl
  · rw [hM5, mad_sad_ne (by omega), hM4, mad_sad_at]; rfl
  · intro c h6
    show _ = (if c = x.c then dAdd (f x.c) x.t else f c)
    by_cases h : c = x.c
    · subst h; rw [if_pos rfl, hM5, mad_sad_at]
    · rw [if_neg h, hM5, mad_sad_ne (by omega)]; exact v4 c h6
theorem cyF_b {f : Nat → UInt64} {x : Ld} {J : Nat} (bf : ∀ c, c < 6 → Bd (f c) J) (hJ : 1250 ≤ J) (bx : LdB x) (hc : x.c < 6) : ∀ c, c < 6 → Bd (cyF f x c) (J + 2) := by
  intro c h6
  have h1 := bf x.c hc
  have h2 := bx.t
  unfold cyF
  split
  · exact Bd.up (bd_add h1 h2) _ (by omega)
  · exact Bd.up (bf c h6) _ (by omega)
end TLD
