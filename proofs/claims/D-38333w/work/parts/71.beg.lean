set_option maxRecDepth 4000
/-! ===== Strength.begin, meet, test, tell (walks) ===== -/
noncomputable def Sh.mod (S : Sh) (p : Bool) (c : Nat) : UInt64 := hMod S.H (pAr S p c 0) (pAr S p c 1) (pAr S p c 2)
noncomputable def Sh.bear (S : Sh) (p : Bool) (s c : Nat) : UInt64 := sBear S.H (S.wt p) (S.dr p) s c
noncomputable def Sh.str (S : Sh) (p : Bool) (s c : Nat) : UInt64 := bnT S.H (S.carry p) (S.bear p s) (S.mod p) c
noncomputable def Sh.she (S : Sh) (p : Bool) (s c : Nat) : UInt64 := bnS (S.carry p) (S.bear p s) (c + 1)
noncomputable def Sh.mom (S : Sh) (p : Bool) (s c : Nat) : UInt64 := bnM S.H (S.carry p) (S.bear p s) (c + 1)
theorem fold_cb : ∀ (l : List Ld) (f : Nat → UInt64) (K : Nat), 1250 ≤ K → (∀ x ∈ l, LdB x) → (∀ c, Bd (f c) K) → ∀ c, Bd ((l.foldl cyF f) c) (K + 2 * l.length)
  | [], f, K, _, _, h, c => h c
  | x :: l, f, K, hK, hl, h, c => by
    have hx := (hl x List.mem_cons_self).t
    have h1 : ∀ c, Bd (cyF f x c) (K + 2) := fun c => by
      unfold cyF
      split
      · exact Bd.up (bd_add (h x.c) hx) _ (by omega)
      · exact Bd.up (h c) _ (by omega)
    have := fold_cb l (cyF f x) (K + 2) (by omega) (fun y hy => hl y (List.mem_cons_of_mem _ hy)) h1 c
    rw [List.foldl_cons, show K + 2 * (x :: l).length = K + 2 + 2 * l.length by simp only [List.length_cons]; omega]
    exact this
theorem bd_carry {S : Sh} {p : Bool} (iS : SI S) (c : Nat) : Bd (S.carry p c) 1400 := by
  have h := fold_cb (ldsC S p) (fun _ => FP.dconst0) 1250 (by decide) (fun x hx => ldsC_b iS x hx) (fun _ => Bd.up bd_c0 _ (by decide)) c
  rw [ldsC_len] at h
  have := iS.il
  exact Bd.up h _ (by omega)
theorem bd_dr2 {S : Sh} {p : Bool} : Bd (S.dr p) 1140 := bd_draught2
theorem bd_be {S : Sh} {p : Bool} {s c : Nat} (iS : SI S) : Bd (S.bear p s c) 1890 := bd_bear iS.h bd_dr2 (wt_b2 (i := iS))
/-- a field that is written for a while only -/
theorem qc_tmp {X : Nat → Prop} {n s f0 a0 : Nat} {x y : Int32} {M M2 : Mem} (q : QC X n s (sfi M f0 a0 x) M2) (h : mfi M f0 a0 = y) : QC X n s M (sfi M2 f0 a0 y) := by
  refine ⟨?_, ?_, ?_, ?_, ?_, ?_, ?_, ?_, ?_, ?_⟩
  · rw [mnx_sfi]; exact q.nx
  · rw [msl_sfi]; exact q.sl
  · rw [mcl_sfi]; exact q.cl
  · rw [mco_sfi]; exact q.co
  · rw [mln_sfi]; exact q.ln
  · intro f a ha hf
    by_cases e : f = f0
    · subst e
      rw [sfi_ix]
      by_cases e2 : a = a0
      · subst e2; rw [if_pos rfl, h]
      · rw [if_neg e2, q.fi _ a ha hf, sfi_ix, if_neg e2]
    · rw [sfi_ne e, q.fi _ a ha hf, sfi_ne e]
  · rw [mfr_sfi]; exact q.fr
  · rw [mfd_sfi]; exact q.fd
  · rw [mai_sfi]; exact q.ai
  · rw [mar_sfi]; exact q.ar
/-- what a ship's strength knows when it is weighed -/
abbrev BgM (M : Mem) (b : Nat) (S : Sh) (p : Bool) : Prop := (WgM M b S p) ∧ (∀ c, c < 6 → mad M (b + 17) c = S.carry p c) ∧ (∀ c, c < 6 → mad M (b + 22) c = S.mod p c)
theorem BgM.w {M : Mem} {b : Nat} {S : Sh} {p : Bool} (self_ : BgM M b S p) : WgM M b S p := self_.1
theorem BgM.cy {M : Mem} {b : Nat} {S : Sh} {p : Bool} (self_ : BgM M b S p) : ∀ c, c < 6 → mad M (b + 17) c = S.carry p c := self_.2.1
theorem BgM.mo {M : Mem} {b : Nat} {S : Sh} {p : Bool} (self_ : BgM M b S p) : ∀ c, c < 6 → mad M (b + 22) c = S.mod p c := self_.2.2
theorem WgM.q {M M' : Mem} {b : Nat} {S : Sh} {p : Bool} (W : WgM M b S p) (h : mfd M' = mfd M) : WgM M' b S p := by
  obtain ⟨⟨a1, a2, a3, a4⟩, a5⟩ := W
  exact ⟨⟨by rw [h]; exact a1, by rw [h]; exact a2, by rw [h]; exact a3, by rw [h]; exact a4⟩, by rw [h]; exact a5⟩
theorem BgM.q {M M' : Mem} {b : Nat} {S : Sh} {p : Bool} {A : Nat → Prop} (W : BgM M b S p) (q : QA A M M') (h1 : ¬ A (b + 17)) (h2 : ¬ A (b + 22)) : BgM M' b S p :=
  ⟨W.w.q q.fd, fun c hc => (q.ad _ _ h1).trans (W.cy c hc), fun c hc => (q.ad _ _ h2).trans (W.mo c hc)⟩
theorem BgM.sfi {M : Mem} {b : Nat} {S : Sh} {p : Bool} {f a : Nat} {v : Int32} (W : BgM M b S p) : BgM (sfi M f a v) b S p :=
  ⟨W.w.q mfd_sfi, fun c hc => by rw [mad_sfi]; exact W.cy c hc, fun c hc => by rw [mad_sfi]; exact W.mo c hc⟩
theorem BgM.sfd {M : Mem} {b : Nat} {S : Sh} {p : Bool} {f a : Nat} {v : UInt64} (W : BgM M b S p) (h : f = 83) : BgM (sfd M f a v) b S p := by
  subst h
  obtain ⟨⟨⟨a1, a2, a3, a4⟩, a5⟩, b1, b2⟩ := W
  exact ⟨⟨⟨(sfd_ne (by decide)).trans a1, (sfd_ne (by decide)).trans a2, (sfd_ne (by decide)).trans a3, (sfd_ne (by decide)).trans a4⟩, (sfd_ne (by decide)).trans a5⟩, fun c hc => by rw [mad_sfd]; exact b1 c hc, fun c hc => by rw [mad_sfd]; exact b2 c hc⟩
section BEG
variable {G : Nat → Option Nat} {M : Mem} {b : Nat} {g : SG} {S : Sh} {p q : Bool}
theorem c549' (C : ShC G M b g S q) (W : WgM M b S p) : ex G 1 549 0 [(0, vR (some (b + 14)))] [] M = some (.inl (some (vI (bI (!decide (dCmL (S.dr p) FP.dconst0 < 0))))), M) := by
  rw [E549_0]
  first | refine Eq.trans ((gD_v C.trk W.d)) ?_ | refine Rt.eq ((gD_v C.trk W.d)) ?_ | refine Th.eq ((gD_v C.trk W.d)) ?_
  by_cases h : dCmL (S.dr p) FP.dconst0 < 0
  · rw [if_pos h, rZ_0, decide_eq_true h]; rfl
  · rw [if_neg h, rZ_1, decide_eq_false h]; rfl
theorem c566_1 (C : ShC G M b g S p) (W : WgM M b S p) (iS : SI S) : ∀ (n k : Nat) (f : Nat → UInt64), k + n = 6 → (∀ c, c < k → f c = S.mod p c) →
    ∃ M2, ex G 1 566 1 [(0, vR (some (b + 16))), (2, vI (nI k))] [] (sdA M (b + 22) f) = some (.inl (some (vI (bI (!decide (dCmL (S.dr p) FP.dconst0 < 0))))), sfi M2 108 b (bI false)) ∧ QC noX 0 0 M M2 ∧ BgM M2 b S p
  | 0, k, f, hk, hf => by
    have e : k = 6 := by omega
    subst e
    have C1 : ShC G (sdA M (b + 22) f) b g S p := C.fr0 QC.sdA
    have W1 : WgM (sdA M (b + 22) f) b S p := W.sdA
    obtain ⟨f', e', h'⟩ := c568 C1 iS
    have C2 : ShC G (sdA (sdA M (b + 22) f) (b + 17) f') b g S p := C1.fr0 QC.sdA
    have W2 : WgM (sdA (sdA M (b + 22) f) (b + 17) f') b S p := W1.sdA
    have hcy : ∀ c, c < 6 → mad (sdA (sdA M (b + 22) f) (b + 17) f') (b + 17) c = S.carry p c := fun c hc => mad_sdA.trans (h' c hc)
    have hmo : ∀ c, c < 6 → mad (sdA (sdA M (b + 22) f) (b + 17) f') (b + 22) c = S.mod p c := fun c hc => by
      have h1 : mad (sdA (sdA M (b + 22) f) (b + 17) f') (b + 22) c = mad (sdA M (b + 22) f) (b + 22) c := if_neg (by omega)
      rw [h1, mad_sdA]; exact hf c hc
    have hq : QC noX 0 0 M (sdA (sdA M (b + 22) f) (b + 17) f') := QC.sdA.tr QC.sdA
    generalize sdA (sdA M (b + 22) f) (b + 17) f' = M2 at *
    refine ⟨M2, ?_, hq, W2, hcy, hmo⟩
    have C3 : ShC G (sfi M2 108 b (bI false)) b g S false := C2.w_byp false
    have W3 : WgM (sfi M2 108 b (bI false)) b S p := W2.q mfd_sfi
    rw [E566_1, if_neg (by decide)]
    first | refine Eq.trans ((vc1_ok C1.stk)) ?_ | refine Rt.eq ((vc1_ok C1.stk)) ?_ | refine Th.eq ((vc1_ok C1.stk)) ?_
    first | refine Eq.trans ((cbV_of e')) ?_ | refine Rt.eq ((cbV_of e')) ?_ | refine Th.eq ((cbV_of e')) ?_
    first | refine Eq.trans ((gR_v C2.stk C2.stsh)) ?_ | refine Rt.eq ((gR_v C2.stk C2.stsh)) ?_ | refine Th.eq ((gR_v C2.stk C2.stsh)) ?_
    first | refine Eq.trans ((show pZ M2 1 22 108 (some b) 0 _ = _ from pZ_ok C2.k C2.co (by decide))) ?_ | refine Rt.eq ((show pZ M2 1 22 108 (some b) 0 _ = _ from pZ_ok C2.k C2.co (by decide))) ?_ | refine Th.eq ((show pZ M2 1 22 108 (some b) 0 _ = _ from pZ_ok C2.k C2.co (by decide))) ?_
    show gR (sfi M2 108 b (bI false)) 19 76 _ _ = _
    first | refine Eq.trans ((gR_v C3.stk C3.stsh)) ?_ | refine Rt.eq ((gR_v C3.stk C3.stsh)) ?_ | refine Th.eq ((gR_v C3.stk C3.stsh)) ?_
    first | refine Eq.trans ((gR_v C3.k C3.rTr)) ?_ | refine Rt.eq ((gR_v C3.k C3.rTr)) ?_ | refine Th.eq ((gR_v C3.k C3.rTr)) ?_
    first | refine Eq.trans ((vc1_ok C3.trk)) ?_ | refine Rt.eq ((vc1_ok C3.trk)) ?_ | refine Th.eq ((vc1_ok C3.trk)) ?_
    first | refine Eq.trans ((cbI_of (c549' C3 W3))) ?_ | refine Rt.eq ((cbI_of (c549' C3 W3))) ?_ | refine Th.eq ((cbI_of (c549' C3 W3))) ?_
    exact rZ_ok (by generalize (!decide (dCmL (S.dr p) FP.dconst0 < 0)) = t; cases t <;> decide)
  | n + 1, k, f, hk, hf => by
    have C1 : ShC G (sdA M (b + 22) f) b g S p := C.fr0 QC.sdA
    have hk6 : k < 6 := by omega
    obtain ⟨M2, e', q', h'⟩ := c566_1 C W iS n (k + 1) (fun j => if j = k then S.mod p k else f j) (by omega) (fun c hc => by
      show (if c = k then S.mod p k else f c) = _
      by_cases h1 : c = k
      · subst h1; rw [if_pos rfl]
      · rw [if_neg h1]; exact hf c (by omega))
    refine ⟨M2, ?_, q', h'⟩
    rw [E566_1, if_pos (show nI k < 6 from nI_lt (a := k) (b := 6) (by omega) (by decide)), show aAdd (nI k) 1 = nI (k + 1) from aAdd_n k 1]
    first | refine Eq.trans ((gR_v C1.stk C1.rsmd)) ?_ | refine Rt.eq ((gR_v C1.stk C1.rsmd)) ?_ | refine Th.eq ((gR_v C1.stk C1.rsmd)) ?_
    first | refine Eq.trans ((vc1_ok C1.stk)) ?_ | refine Rt.eq ((vc1_ok C1.stk)) ?_ | refine Th.eq ((vc1_ok C1.stk)) ?_
    first | refine Eq.trans ((cbD_of (c567 C1 hk6 iS))) ?_ | refine Rt.eq ((cbD_of (c567 C1 hk6 iS))) ?_ | refine Th.eq ((cbD_of (c567 C1 hk6 iS))) ?_
    first | refine Eq.trans ((stD_ok C1.smdk C1.smdco C1.smdln hk6 (by decide))) ?_ | refine Rt.eq ((stD_ok C1.smdk C1.smdco C1.smdln hk6 (by decide))) ?_ | refine Th.eq ((stD_ok C1.smdk C1.smdco C1.smdln hk6 (by decide))) ?_
    rw [sad_sdA]
    exact e'
/-- STRENGTH.BEGIN -/
theorem c566 (C : ShC G M b g S false) (iS : SI S) : ∃ M', ex G 1 566 0 [(0, vR (some (b + 16))), (1, vI (bI p))] [] M = some (.inl (some (vI (bI (!decide (dCmL (S.dr p) FP.dconst0 < 0))))), M') ∧ QC noX 0 0 M M' ∧ BgM M' b S p := by
  have C1 : ShC G (sfi M 108 b (bI p)) b g S p := C.w_byp p
  obtain ⟨M2, e2, q2, T2, d2⟩ := c547 C1 iS
  have C2 := C1.fr0 q2
  have h := c566_1 (M := M2) C2 ⟨T2, d2⟩ iS 6 0 (mad M2 (b + 22)) rfl (fun c hc => absurd hc (Nat.not_lt_zero c))
  rw [sdA_self] at h
  obtain ⟨M3, e3, q3, B3⟩ := h
  refine ⟨_, ?_, qc_tmp (q2.tr q3) C.byp, B3.sfi⟩
  rw [E566_0]
  first | refine Eq.trans ((gR_v C.stk C.stsh)) ?_ | refine Rt.eq ((gR_v C.stk C.stsh)) ?_ | refine Th.eq ((gR_v C.stk C.stsh)) ?_
  first | refine Eq.trans ((pZ_ok C.k C.co (by cases p <;> decide))) ?_ | refine Rt.eq ((pZ_ok C.k C.co (by cases p <;> decide))) ?_ | refine Th.eq ((pZ_ok C.k C.co (by cases p <;> decide))) ?_
  first | refine Eq.trans ((gR_v C1.stk C1.stsh)) ?_ | refine Rt.eq ((gR_v C1.stk C1.stsh)) ?_ | refine Th.eq ((gR_v C1.stk C1.stsh)) ?_
  first | refine Eq.trans ((gR_v C1.k C1.rTr)) ?_ | refine Rt.eq ((gR_v C1.k C1.rTr)) ?_ | refine Th.eq ((gR_v C1.k C1.rTr)) ?_
  first | refine Eq.trans ((vc1_ok C1.trk)) ?_ | refine Rt.eq ((vc1_ok C1.trk)) ?_ | refine Th.eq ((vc1_ok C1.trk)) ?_
  first | refine Eq.trans ((cbV_of e2)) ?_ | refine Rt.eq ((cbV_of e2)) ?_ | refine Th.eq ((cbV_of e2)) ?_
  exact e3
/-- STRENGTH.MEET -/
theorem c570 (C : ShC G M b g S q) (hG : SeaG G) {s a : Nat} (hs : s < 3) (ha : G (9 + s) = some a) (B : BgM M b S p) (iS : SI S) :
    ∃ M', ex G 1 570 0 [(0, vR (some (b + 16))), (1, vR (some a))] [] M = some (.inl none, M') ∧ QA (stA b) M M' ∧ ∀ c, c < 6 → mad M' (b + 19) c = S.she p s c ∧ mad M' (b + 20) c = S.mom p s c ∧ mad M' (b + 21) c = S.str p s c := by
  obtain ⟨f1, e1, h1⟩ := c571 C hG hs ha bd_dr2 (wt_b2 (i := iS)) B.w.d B.w.T.w iS
  have q1 : QA (stA b) M (sdA M (b + 18) f1) := QA.sdA ⟨by omega, by omega⟩
  have C1 := C.fr0 q1.q
  have B1 := B.q q1 (by unfold stA; omega) (by unfold stA; omega)
  obtain ⟨M2, e2, q2, h2⟩ := c573 (cy := S.carry p) (be := S.bear p s) (mo := S.mod p) (fun c _ => bd_carry iS c) (fun c _ => bd_be iS) (fun c _ => bd_mod iS) C1 B1.cy (fun c hc => mad_sdA.trans (h1 c hc)) B1.mo
  refine ⟨M2, ?_, q1.tr q2, h2⟩
  rw [E570_0]
  first | refine Eq.trans ((vc1_ok C.stk)) ?_ | refine Rt.eq ((vc1_ok C.stk)) ?_ | refine Th.eq ((vc1_ok C.stk)) ?_
  first | refine Eq.trans ((cbV_of e1)) ?_ | refine Rt.eq ((cbV_of e1)) ?_ | refine Th.eq ((cbV_of e1)) ?_
  first | refine Eq.trans ((vc1_ok C1.stk)) ?_ | refine Rt.eq ((vc1_ok C1.stk)) ?_ | refine Th.eq ((vc1_ok C1.stk)) ?_
  first | refine Eq.trans ((cbV_of e2)) ?_ | refine Rt.eq ((cbV_of e2)) ?_ | refine Th.eq ((cbV_of e2)) ?_
  rfl
/-- STRENGTH.TEST -/
theorem c579 (C : ShC G M b g S false) (hG : SeaG G) {s a : Nat} (hs : s < 3) (ha : G (9 + s) = some a) (iS : SI S) :
    ∃ M', ex G 1 579 0 [(0, vR (some (b + 16))), (1, vR (some a)), (2, vI (bI p))] [] M = some (.inl (some (vI (bI (!decide (dCmL (S.dr p) FP.dconst0 < 0))))), M') ∧ QC noX 0 0 M M' ∧ (¬ dCmL (S.dr p) FP.dconst0 < 0 → ∀ c, c < 6 → mad M' (b + 19) c = S.she p s c ∧ mad M' (b + 20) c = S.mom p s c ∧ mad M' (b + 21) c = S.str p s c) := by
  obtain ⟨M1, e1, q1, B1⟩ := c566 (p := p) C iS
  have C1 := C.fr0 q1
  by_cases h : dCmL (S.dr p) FP.dconst0 < 0
  · refine ⟨M1, ?_, q1, fun h9 => absurd h h9⟩
    rw [decide_eq_true h] at e1 ⊢
    rw [E579_0]
    first | refine Eq.trans ((vc1_ok C.stk)) ?_ | refine Rt.eq ((vc1_ok C.stk)) ?_ | refine Th.eq ((vc1_ok C.stk)) ?_
    first | refine Eq.trans ((cbI_of e1)) ?_ | refine Rt.eq ((cbI_of e1)) ?_ | refine Th.eq ((cbI_of e1)) ?_
    rw [if_pos (show bI (!true) = 0 from rfl)]
    exact rZ_ok (by decide)
  · obtain ⟨M2, e2, q2, h2⟩ := c570 C1 hG hs ha B1 iS
    refine ⟨M2, ?_, q1.tr q2.q, fun _ => h2⟩
    rw [decide_eq_false h] at e1 ⊢
    rw [E579_0]
    first | refine Eq.trans ((vc1_ok C.stk)) ?_ | refine Rt.eq ((vc1_ok C.stk)) ?_ | refine Th.eq ((vc1_ok C.stk)) ?_
    first | refine Eq.trans ((cbI_of e1)) ?_ | refine Rt.eq ((cbI_of e1)) ?_ | refine Th.eq ((cbI_of e1)) ?_
    rw [if_neg (show ¬ bI (!false) = 0 by decide)]
    first | refine Eq.trans ((vc1_ok C1.stk)) ?_ | refine Rt.eq ((vc1_ok C1.stk)) ?_ | refine Th.eq ((vc1_ok C1.stk)) ?_
    first | refine Eq.trans ((cbV_of e2)) ?_ | refine Rt.eq ((cbV_of e2)) ?_ | refine Th.eq ((cbV_of e2)) ?_
    exact rZ_ok (by decide)
theorem c581 (C : ShC G M b g S q) {f : Nat → UInt64} (hf : ∀ c, c < 6 → mad M (b + 21) c = f c) (hN : isN (f (worstOf f))) : ex G 1 581 0 [(0, vR (some (b + 16)))] [] M = some (.inl (some (vD (f (worstOf f)))), M) := by
  rw [E581_0]
  first | refine Eq.trans ((gR_v C.stk C.rsss)) ?_ | refine Rt.eq ((gR_v C.stk C.rsss)) ?_ | refine Th.eq ((gR_v C.stk C.rsss)) ?_
  first | refine Eq.trans ((vc1_ok C.stk)) ?_ | refine Rt.eq ((vc1_ok C.stk)) ?_ | refine Th.eq ((vc1_ok C.stk)) ?_
  first | refine Eq.trans ((cbI_of (c574 C hf))) ?_ | refine Rt.eq ((cbI_of (c574 C hf))) ?_ | refine Th.eq ((cbI_of (c574 C hf))) ?_
  first | refine Eq.trans ((ldD_v C.sssk C.sssln worst_lt (by decide) (hf _ worst_lt))) ?_ | refine Rt.eq ((ldD_v C.sssk C.sssln worst_lt (by decide) (hf _ worst_lt))) ?_ | refine Th.eq ((ldD_v C.sssk C.sssln worst_lt (by decide) (hf _ worst_lt))) ?_
  exact rD_ok hN
noncomputable def tellN (f h m : Nat → UInt64) (w : Nat) : UInt64 := if w < 6 then f w else if w < 12 then h (w - 6) else if w < 18 then m (w - 12) else f (worstOf f)
/-- STRENGTH.TELL -/
theorem c580 (C : ShC G M b g S q) {f h m : Nat → UInt64} (H : ∀ c, c < 6 → mad M (b + 19) c = h c ∧ mad M (b + 20) c = m c ∧ mad M (b + 21) c = f c) (hN : ∀ c, c < 6 → isN (f c) ∧ isN (h c) ∧ isN (m c)) {w : Nat} (hw : w < 19) : ex G 1 580 0 [(0, vR (some (b + 16))), (1, vI (nI w))] [] M = some (.inl (some (vD (tellN f h m w))), M) := by
  rw [E580_0]
  unfold tellN
  by_cases h1 : w < 6
  · rw [if_pos (show nI w < 6 from nI_lt (a := w) (b := 6) h1 (by decide)), if_pos h1]
    first | refine Eq.trans ((gR_v C.stk C.rsss)) ?_ | refine Rt.eq ((gR_v C.stk C.rsss)) ?_ | refine Th.eq ((gR_v C.stk C.rsss)) ?_
    first | refine Eq.trans ((ldD_v C.sssk C.sssln h1 (by decide) (H w h1).2.2)) ?_ | refine Rt.eq ((ldD_v C.sssk C.sssln h1 (by decide) (H w h1).2.2)) ?_ | refine Th.eq ((ldD_v C.sssk C.sssln h1 (by decide) (H w h1).2.2)) ?_
    exact rD_ok (hN w h1).1
  · rw [if_neg (show ¬ nI w < 6 from nI_nlt (a := w) (b := 6) (by omega) (by omega)), if_neg h1]
    by_cases h2 : w < 12
    · rw [if_pos (show nI w < 12 from nI_lt (a := w) (b := 12) h2 (by decide)), if_pos h2]
      first | refine Eq.trans ((gR_v C.stk C.rssh)) ?_ | refine Rt.eq ((gR_v C.stk C.rssh)) ?_ | refine Th.eq ((gR_v C.stk C.rssh)) ?_
      rw [show aSub (nI w) 6 = nI (w - 6) from aSub_n (a := w) (b := 6) (by omega)]
      first | refine Eq.trans ((ldD_v C.sshk C.sshln (show w - 6 < 6 by omega) (by decide) (H (w - 6) (by omega)).1)) ?_ | refine Rt.eq ((ldD_v C.sshk C.sshln (show w - 6 < 6 by omega) (by decide) (H (w - 6) (by omega)).1)) ?_ | refine Th.eq ((ldD_v C.sshk C.sshln (show w - 6 < 6 by omega) (by decide) (H (w - 6) (by omega)).1)) ?_
      exact rD_ok (hN (w - 6) (by omega)).2.1
    · rw [if_neg (show ¬ nI w < 12 from nI_nlt (a := w) (b := 12) (by omega) (by omega)), if_neg h2]
      by_cases h3 : w < 18
      · rw [if_pos (show nI w < 18 from nI_lt (a := w) (b := 18) h3 (by decide)), if_pos h3]
        first | refine Eq.trans ((gR_v C.stk C.rsmo)) ?_ | refine Rt.eq ((gR_v C.stk C.rsmo)) ?_ | refine Th.eq ((gR_v C.stk C.rsmo)) ?_
        rw [show aSub (nI w) 12 = nI (w - 12) from aSub_n (a := w) (b := 12) (by omega)]
        first | refine Eq.trans ((ldD_v C.smok C.smoln (show w - 12 < 6 by omega) (by decide) (H (w - 12) (by omega)).2.1)) ?_ | refine Rt.eq ((ldD_v C.smok C.smoln (show w - 12 < 6 by omega) (by decide) (H (w - 12) (by omega)).2.1)) ?_ | refine Th.eq ((ldD_v C.smok C.smoln (show w - 12 < 6 by omega) (by decide) (H (w - 12) (by omega)).2.1)) ?_
        exact rD_ok (hN (w - 12) (by omega)).2.2
      · rw [if_neg (show ¬ nI w < 18 from nI_nlt (a := w) (b := 18) (by omega) (by omega)), if_neg h3]
        first | refine Eq.trans ((vc1_ok C.stk)) ?_ | refine Rt.eq ((vc1_ok C.stk)) ?_ | refine Th.eq ((vc1_ok C.stk)) ?_
        first | refine Eq.trans ((cbD_of (c581 C (fun c hc => (H c hc).2.2) (hN _ worst_lt).1))) ?_ | refine Rt.eq ((cbD_of (c581 C (fun c hc => (H c hc).2.2) (hN _ worst_lt).1))) ?_ | refine Th.eq ((cbD_of (c581 C (fun c hc => (H c hc).2.2) (hN _ worst_lt).1))) ?_
        exact rD_ok (hN _ worst_lt).1
theorem she_b {s c : Nat} (iS : SI S) (hc : c < 6) : Bd (S.she p s c) 1930 := Bd.up (bd_bnS (c + 1) (fun c _ => bd_carry iS c) (fun c _ => bd_be iS)) _ (by omega)
theorem mom_b {s c : Nat} (iS : SI S) (hc : c < 6) : Bd (S.mom p s c) 2010 := Bd.up (bd_bnM (H := S.H) (c + 1) (by omega) (fun c _ => bd_carry iS c) (fun c _ => bd_be iS)) _ (by omega)
theorem str_N {s c : Nat} (iS : SI S) (hc : c < 6) : isN (S.str p s c) := by
  have m1 := Bd.up (bd_bnM (H := S.H) (cy := S.carry p) (be := S.bear p s) c (by omega) (fun c _ => bd_carry iS c) (fun c _ => bd_be iS)) 2010 (by omega)
  have m2 := Bd.up (bd_bnM (H := S.H) (cy := S.carry p) (be := S.bear p s) (c + 1) (by omega) (fun c _ => bd_carry iS c) (fun c _ => bd_be iS)) 2010 (by omega)
  unfold Sh.str bnT
  by_cases hc : dCmL (S.mod p c) FP.dconst0 = 0
  · rw [if_pos hc]; exact isN_of bd_kD (by decide)
  · rw [if_neg hc]; exact isN_div (bd_max (bd_abs m1) (bd_abs m2)) (by decide) (bd_mod (S := S) (p := p) (k := c) iS) (by decide) (mg0_cmp hc)
end BEG
