set_option maxRecDepth 8000
/-! ===== Strength.thin, thicken, lighten ===== -/
theorem sfi_ix2 {M : Mem} {f x f2 y : Nat} {v : Int32} : mfi (sfi M f x v) f2 y = if f2 = f ∧ y = x then v else mfi M f2 y := by rw [mfi_sfi, up2_if]
/-- what a method leaves that writes at some addresses (P); besides it only what queries may write -/
abbrev QW (P : Nat → Prop) (n s : Nat) (M M' : Mem) : Prop := (mnx M ≤ mnx M' ∧ mnx M' ≤ mnx M + n) ∧ (msl M ≤ msl M' ∧ msl M' ≤ msl M + s) ∧ (∀ a, a < mnx M → mcl M' a = mcl M a) ∧ (∀ a, a < mnx M → mco M' a = mco M a) ∧ (∀ a, a < mnx M → mln M' a = mln M a) ∧ (∀ f a, a < mnx M → ¬ P a → scI f = false → mfi M' f a = mfi M f a) ∧ (∀ f a, a < mnx M → ¬ P a → scR f = false → mfr M' f a = mfr M f a) ∧ (∀ f a, a < mnx M → ¬ P a → scD f = false → mfd M' f a = mfd M f a) ∧ (∀ a i, a < mnx M → ¬ P a → mai M' a i = mai M a i) ∧ (∀ a i, a < mnx M → ¬ P a → mar M' a i = mar M a i)
theorem QW.nx {P : Nat → Prop} {n s : Nat} {M M' : Mem} (self_ : QW P n s M M') : mnx M ≤ mnx M' ∧ mnx M' ≤ mnx M + n := self_.1
theorem QW.sl {P : Nat → Prop} {n s : Nat} {M M' : Mem} (self_ : QW P n s M M') : msl M ≤ msl M' ∧ msl M' ≤ msl M + s := self_.2.1
theorem QW.cl {P : Nat → Prop} {n s : Nat} {M M' : Mem} (self_ : QW P n s M M') : ∀ a, a < mnx M → mcl M' a = mcl M a := self_.2.2.1
theorem QW.co {P : Nat → Prop} {n s : Nat} {M M' : Mem} (self_ : QW P n s M M') : ∀ a, a < mnx M → mco M' a = mco M a := self_.2.2.2.1
theorem QW.ln {P : Nat → Prop} {n s : Nat} {M M' : Mem} (self_ : QW P n s M M') : ∀ a, a < mnx M → mln M' a = mln M a := self_.2.2.2.2.1
theorem QW.fi {P : Nat → Prop} {n s : Nat} {M M' : Mem} (self_ : QW P n s M M') : ∀ f a, a < mnx M → ¬ P a → scI f = false → mfi M' f a = mfi M f a := self_.2.2.2.2.2.1
theorem QW.fr {P : Nat → Prop} {n s : Nat} {M M' : Mem} (self_ : QW P n s M M') : ∀ f a, a < mnx M → ¬ P a → scR f = false → mfr M' f a = mfr M f a := self_.2.2.2.2.2.2.1
theorem QW.fd {P : Nat → Prop} {n s : Nat} {M M' : Mem} (self_ : QW P n s M M') : ∀ f a, a < mnx M → ¬ P a → scD f = false → mfd M' f a = mfd M f a := self_.2.2.2.2.2.2.2.1
theorem QW.ai {P : Nat → Prop} {n s : Nat} {M M' : Mem} (self_ : QW P n s M M') : ∀ a i, a < mnx M → ¬ P a → mai M' a i = mai M a i := self_.2.2.2.2.2.2.2.2.1
theorem QW.ar {P : Nat → Prop} {n s : Nat} {M M' : Mem} (self_ : QW P n s M M') : ∀ a i, a < mnx M → ¬ P a → mar M' a i = mar M a i := self_.2.2.2.2.2.2.2.2.2
theorem QC.qw {P : Nat → Prop} {X : Nat → Prop} {n s : Nat} {M M' : Mem} (q : QC X n s M M') (h : ∀ a, X a → P a) : QW P n s M M' :=
  ⟨q.nx, q.sl, q.cl, q.co, q.ln, fun f a ha _ hf => q.fi f a ha hf, fun f a ha _ hf => q.fr f a ha hf, fun f a ha _ hf => q.fd f a ha hf, fun a i ha hp => q.ai a i ha (fun x => hp (h a x)), fun a i ha _ => q.ar a i ha⟩
theorem QC.qw0 {P : Nat → Prop} {n s : Nat} {M M' : Mem} (q : QC noX n s M M') : QW P n s M M' := q.qw (fun _ h => absurd h (fun h => h))
theorem QW.rf {P : Nat → Prop} {M : Mem} : QW P 0 0 M M := (QC.rf (X := noX)).qw0
theorem QW.tr {P : Nat → Prop} {n s n' s' : Nat} {M M1 M2 : Mem} (h : QW P n s M M1) (h' : QW P n' s' M1 M2) : QW P (n + n') (s + s') M M2 := by
  have q : ∀ {a}, a < mnx M → a < mnx M1 := fun ha => Nat.lt_of_lt_of_le ha h.nx.1
  exact ⟨⟨Nat.le_trans h.nx.1 h'.nx.1, by have := h.nx; have := h'.nx; omega⟩, ⟨Nat.le_trans h.sl.1 h'.sl.1, by have := h.sl; have := h'.sl; omega⟩, fun a ha => (h'.cl a (q ha)).trans (h.cl a ha), fun a ha => (h'.co a (q ha)).trans (h.co a ha), fun a ha => (h'.ln a (q ha)).trans (h.ln a ha),
    fun f a ha hp hf => (h'.fi f a (q ha) hp hf).trans (h.fi f a ha hp hf), fun f a ha hp hf => (h'.fr f a (q ha) hp hf).trans (h.fr f a ha hp hf), fun f a ha hp hf => (h'.fd f a (q ha) hp hf).trans (h.fd f a ha hp hf), fun a i ha hp => (h'.ai a i (q ha) hp).trans (h.ai a i ha hp), fun a i ha hp => (h'.ar a i (q ha) hp).trans (h.ar a i ha hp)⟩
theorem QW.mono {P P' : Nat → Prop} {n s n' s' : Nat} {M M1 : Mem} (h : QW P n s M M1) (hP : ∀ a, P a → P' a) (hn : n ≤ n') (hs : s ≤ s') : QW P' n' s' M M1 :=
  ⟨⟨h.nx.1, by have := h.nx; omega⟩, ⟨h.sl.1, by have := h.sl; omega⟩, h.cl, h.co, h.ln, fun f a ha hp => h.fi f a ha (fun x => hp (hP a x)), fun f a ha hp => h.fr f a ha (fun x => hp (hP a x)), fun f a ha hp => h.fd f a ha (fun x => hp (hP a x)), fun a i ha hp => h.ai a i ha (fun x => hp (hP a x)), fun a i ha hp => h.ar a i ha (fun x => hp (hP a x))⟩
theorem QW.sfi {P : Nat → Prop} {M : Mem} {f a : Nat} {v : Int32} (h : P a) : QW P 0 0 M (sfi M f a v) :=
  ⟨⟨Nat.le_refl _, Nat.le_refl _⟩, ⟨Nat.le_refl _, Nat.le_refl _⟩, fun _ _ => rfl, fun _ _ => rfl, fun _ _ => rfl, fun f' a' _ hp _ => by rw [sfi_ix2, if_neg (fun e => hp (by rw [e.2]; exact h))], fun _ _ _ _ _ => rfl, fun _ _ _ _ _ => rfl, fun _ _ _ _ => rfl, fun _ _ _ _ => rfl⟩
theorem QW.sfr {P : Nat → Prop} {M : Mem} {f a : Nat} {v : Option Nat} (h : P a) : QW P 0 0 M (sfr M f a v) :=
  ⟨⟨Nat.le_refl _, Nat.le_refl _⟩, ⟨Nat.le_refl _, Nat.le_refl _⟩, fun _ _ => rfl, fun _ _ => rfl, fun _ _ => rfl, fun _ _ _ _ _ => rfl, fun f' a' _ hp _ => by rw [mfr_sfr, up2_if, if_neg (fun e => hp (by rw [e.2]; exact h))], fun _ _ _ _ _ => rfl, fun _ _ _ _ => rfl, fun _ _ _ _ => rfl⟩
theorem QW.sfd {P : Nat → Prop} {M : Mem} {f a : Nat} {v : UInt64} (h : P a) : QW P 0 0 M (sfd M f a v) :=
  ⟨⟨Nat.le_refl _, Nat.le_refl _⟩, ⟨Nat.le_refl _, Nat.le_refl _⟩, fun _ _ => rfl, fun _ _ => rfl, fun _ _ => rfl, fun _ _ _ _ _ => rfl, fun _ _ _ _ _ => rfl, fun f' a' _ hp _ => by rw [mfd_sfd, up2_if, if_neg (fun e => hp (by rw [e.2]; exact h))], fun _ _ _ _ => rfl, fun _ _ _ _ => rfl⟩
theorem QW.sai {P : Nat → Prop} {M : Mem} {a i : Nat} {v : Int32} (h : P a) : QW P 0 0 M (sai M a i v) :=
  ⟨⟨Nat.le_refl _, Nat.le_refl _⟩, ⟨Nat.le_refl _, Nat.le_refl _⟩, fun _ _ => rfl, fun _ _ => rfl, fun _ _ => rfl, fun _ _ _ _ _ => rfl, fun _ _ _ _ _ => rfl, fun _ _ _ _ _ => rfl, fun a' i' _ hp => by rw [mai_sai, up2_if, if_neg (fun e => hp (by rw [e.1]; exact h))], fun _ _ _ _ => rfl⟩
theorem QW.sar {P : Nat → Prop} {M : Mem} {a i : Nat} {v : Option Nat} (h : P a) : QW P 0 0 M (sar M a i v) :=
  ⟨⟨Nat.le_refl _, Nat.le_refl _⟩, ⟨Nat.le_refl _, Nat.le_refl _⟩, fun _ _ => rfl, fun _ _ => rfl, fun _ _ => rfl, fun _ _ _ _ _ => rfl, fun _ _ _ _ _ => rfl, fun _ _ _ _ _ => rfl, fun _ _ _ _ => rfl, fun a' i' _ hp => by rw [mar_sar, up2_if, if_neg (fun e => hp (by rw [e.1]; exact h))]⟩
/-- the cells of a ship's own block -/
def inS (b : Nat) : Nat → Prop := fun a => b ≤ a ∧ a < b + 106
noncomputable def Sh.s_p (S : Sh) (k n : Nat) : Sh := S.s_plan (fun j => if j = k then n else S.plan j)
/-- the first n strakes are planned thin -/
noncomputable def Sh.thinL : Nat → Nat → Sh → Sh
  | 0, _, S => S
  | n + 1, k, S => Sh.thinL n (k + 1) (S.s_p k 3)
noncomputable def Sh.thin (S : Sh) : Sh := Sh.thinL 18 0 S
/-- a compartment's bottom or deck is planned thicker, and its sides -/
def Sh.thK (S : Sh) (c : Nat) : Nat := if S.plan (3 * c + 2) < S.plan (3 * c) then 3 * c + 2 else 3 * c
noncomputable def Sh.th1 (S : Sh) (c : Nat) : Sh := if S.plan (S.thK c) < 40 then S.s_p (S.thK c) (S.plan (S.thK c) + 1) else S
noncomputable def Sh.thick1 (S : Sh) (c : Nat) : Sh := if (S.th1 c).plan (3 * c + 1) + 4 ≤ (S.th1 c).plan (S.thK c) then (S.th1 c).s_p (3 * c + 1) ((S.th1 c).plan (3 * c + 1) + 1) else S.th1 c
noncomputable def Sh.ligL : Nat → Nat → Sh → Int32 × Sh
  | 0, m, S => (if dCmL (S.dr true) FP.dconst0 < 0 then -1 else if dCmG (S.great true 0) (i2D (nI S.limit)) ≤ 0 then nI m else -2, S)
  | n + 1, m, S => if dCmL (S.dr true) FP.dconst0 < 0 then (-1, S) else if dCmG (S.great true 0) (i2D (nI S.limit)) ≤ 0 then (nI m, S) else Sh.ligL n (m + if S.plan (S.thK (S.look true 0).2.1) < 40 then 1 else 0) (S.thick1 (S.look true 0).2.1)
noncomputable def Sh.lighten (S : Sh) : Int32 × Sh := Sh.ligL 80 0 S.thin
theorem SI.s_p {S : Sh} (i : SI S) {k n : Nat} (h : n ≤ 40) : SI (S.s_p k n) :=
  ⟨i.h, i.f, i.num, i.stg, i.il, i.ic, i.it, i.iu, i.fl, i.bk, fun j => by
    show (if j = k then n else S.plan j) ≤ 40
    split
    · exact h
    · exact i.pl j, i.ft, i.stt, i.ct, i.lm, i.sp, i.fo, i.hr, i.lf, i.pw, i.pn, i.pi, i.po, i.fu, i.wy, i.ho, i.dy, i.cl, i.cg⟩
theorem SI.th1 {S : Sh} (i : SI S) {c : Nat} : SI (S.th1 c) := by
  unfold Sh.th1
  split
  · next h => exact i.s_p (by omega)
  · exact i
theorem SI.thick1 {S : Sh} (i : SI S) {c : Nat} : SI (S.thick1 c) := by
  have h1 := i.th1 (c := c)
  unfold Sh.thick1
  split
  · next h => exact h1.s_p (by have := h1.pl (S.thK c); omega)
  · exact h1
theorem SI.thinL : ∀ (n k : Nat) (S : Sh), SI S → SI (Sh.thinL n k S)
  | 0, _, _, i => i
  | n + 1, k, S, i => SI.thinL n (k + 1) _ (i.s_p (by decide))
section LIG
variable {G : Nat → Option Nat} {b : Nat} {g : SG}
theorem nI_cl {n : Nat} (h : n < 2147483648) : (nI n).toNatClampNeg = n := nI_clamp h
theorem c577_3 {c : Nat} (hc : c < 6) : ∀ (n st : Nat) (S : Sh) (M : Mem), st + n = 3 → ShC G M b g S false →
    ∃ M', ex G 1 577 3 [(0, vR (some (b + 16))), (1, vI (nI c)), (2, vI (nI st))] [] M = ex G 1 577 1 [(0, vR (some (b + 16))), (1, vI (nI (c + 1)))] [] M' ∧ ShC G M' b g (Sh.thinL n (c * 3 + st) S) false ∧ QW (inS b) 0 0 M M'
  | 0, st, S, M, hst, C => by
    have e : st = 3 := by omega
    subst e
    refine ⟨M, ?_, C, QW.rf⟩
    rw [E577_3, if_neg (by decide), show aAdd (nI c) 1 = nI (c + 1) from aAdd_n c 1]
  | n + 1, st, S, M, hst, C => by
    have h3 : st < 3 := by omega
    have C1 : ShC G (sfi M 122 (b + 25 + (c * 3 + st)) (nI 3)) b g (S.s_p (c * 3 + st) 3) false := C.w_plan 3
    have q1 : QW (inS b) 0 0 M (sfi M 122 (b + 25 + (c * 3 + st)) (nI 3)) := QW.sfi ⟨by omega, by omega⟩
    obtain ⟨M', e', C', q'⟩ := c577_3 hc n (st + 1) _ _ (by omega) C1
    refine ⟨M', ?_, C', q1.tr q'⟩
    rw [← e', E577_3, if_pos (show nI st < 3 from nI_lt (a := st) (b := 3) h3 (by decide)), show aAdd (nI st) 1 = nI (st + 1) from aAdd_n st 1]
    first | refine Eq.trans ((gR_v C.stk C.stsh)) ?_ | refine Rt.eq ((gR_v C.stk C.stsh)) ?_ | refine Th.eq ((gR_v C.stk C.stsh)) ?_
    first | refine Eq.trans ((vc1_ok C.k)) ?_ | refine Rt.eq ((vc1_ok C.k)) ?_ | refine Th.eq ((vc1_ok C.k)) ?_
    first | refine Eq.trans ((cbR_of (c487 C hc h3))) ?_ | refine Rt.eq ((cbR_of (c487 C hc h3))) ?_ | refine Th.eq ((cbR_of (c487 C hc h3))) ?_
    first | refine Eq.trans ((pI_ok (C.pk _ (by omega)) (C.pco _ (by omega)))) ?_ | refine Rt.eq ((pI_ok (C.pk _ (by omega)) (C.pco _ (by omega)))) ?_ | refine Th.eq ((pI_ok (C.pk _ (by omega)) (C.pco _ (by omega)))) ?_
    rfl
theorem c577_1 : ∀ (n c : Nat) (S : Sh) (M : Mem), c + n = 6 → ShC G M b g S false →
    ∃ M', ex G 1 577 1 [(0, vR (some (b + 16))), (1, vI (nI c))] [] M = some (.inl none, M') ∧ ShC G M' b g (Sh.thinL (n * 3) (c * 3) S) false ∧ QW (inS b) 0 0 M M'
  | 0, c, S, M, hc, C => by
    have e : c = 6 := by omega
    subst e
    refine ⟨M, ?_, C, QW.rf⟩
    rw [E577_1, if_neg (by decide)]
    rfl
  | n + 1, c, S, M, hc, C => by
    have h6 : c < 6 := by omega
    obtain ⟨M1, e1, C1, q1⟩ := c577_3 h6 3 0 S M rfl C
    obtain ⟨M', e', C', q'⟩ := c577_1 n (c + 1) _ M1 (by omega) C1
    refine ⟨M', ?_, ?_, q1.tr q'⟩
    · rw [E577_1, if_pos (show nI c < 6 from nI_lt (a := c) (b := 6) h6 (by decide))]
      exact e1.trans e'
    · rw [show (n + 1) * 3 = n * 3 + 1 + 1 + 1 by omega]
      have : (c + 1) * 3 = c * 3 + 1 + 1 + 1 := by omega
      rw [this] at C'
      exact C'
theorem c577 {S : Sh} {M : Mem} (C : ShC G M b g S false) : ∃ M', ex G 1 577 0 [(0, vR (some (b + 16)))] [] M = some (.inl none, M') ∧ ShC G M' b g S.thin false ∧ QW (inS b) 0 0 M M' := by
  rw [E577_0]
  exact c577_1 6 0 S M rfl C
theorem c578_8 {S : Sh} {M : Mem} (C : ShC G M b g S false) {c k : Nat} (hc : c < 6) (hk : k < 18) (iS : SI S) {t : Bool} :
    ∃ M', ex G 1 578 8 [(3, vR (some (b + 25 + (c * 3 + 1)))), (5, vR (some (b + 25 + k))), (6, vI (bI t))] [] M = some (.inl (some (vI (bI t))), M') ∧ ShC G M' b g (if S.plan (3 * c + 1) + 4 ≤ S.plan k then S.s_p (3 * c + 1) (S.plan (3 * c + 1) + 1) else S) false ∧ QW (inS b) 0 0 M M' := by
  rw [show 3 * c + 1 = c * 3 + 1 by omega]
  have p1 := iS.pl (c * 3 + 1)
  have p2 := iS.pl k
  have ez : rZ (bI t) = rI (bI t) := funext fun M => rZ_ok (by cases t <;> decide)
  have v1 : mfi M 122 (b + 25 + (c * 3 + 1)) = nI (S.plan (c * 3 + 1)) := C.ppl _ (by omega)
  have hle : nI (S.plan (c * 3 + 1)) ≤ aSub (nI (S.plan k)) 4 ↔ S.plan (c * 3 + 1) + 4 ≤ S.plan k := by
    clear v1
    generalize S.plan (c * 3 + 1) = x at p1
    generalize S.plan k = y at p2
    rw [aSub_e]
    have : ∀ x, x ≤ 40 → ∀ y, y ≤ 40 → (nI x ≤ nI y - 4 ↔ x + 4 ≤ y) := by
      have h : ∀ x, x < 41 → ∀ y, y < 41 → (nI x ≤ nI y - 4 ↔ x + 4 ≤ y) := by decide +kernel
      exact fun x hx y hy => h x (by omega) y (by omega)
    exact this x p1 y p2
  by_cases h : S.plan (c * 3 + 1) + 4 ≤ S.plan k
  · have C1 : ShC G (sfi M 122 (b + 25 + (c * 3 + 1)) (nI (S.plan (c * 3 + 1) + 1))) b g (S.s_p (c * 3 + 1) (S.plan (c * 3 + 1) + 1)) false := C.w_plan _
    have q1 : QW (inS b) 0 0 M (sfi M 122 (b + 25 + (c * 3 + 1)) (nI (S.plan (c * 3 + 1) + 1))) := QW.sfi ⟨by omega, by omega⟩
    rw [if_pos h]
    refine ⟨_, ?_, C1, q1⟩
    rw [E578_8]
    first | refine Eq.trans ((gI_v (C.pk _ (by omega)) v1)) ?_ | refine Rt.eq ((gI_v (C.pk _ (by omega)) v1)) ?_ | refine Th.eq ((gI_v (C.pk _ (by omega)) v1)) ?_
    first | refine Eq.trans ((gI_v (C.pk _ hk) (C.ppl k hk))) ?_ | refine Rt.eq ((gI_v (C.pk _ hk) (C.ppl k hk))) ?_ | refine Th.eq ((gI_v (C.pk _ hk) (C.ppl k hk))) ?_
    rw [if_pos (hle.mpr h)]
    first | refine Eq.trans ((gI_v (C.pk _ (by omega)) v1)) ?_ | refine Rt.eq ((gI_v (C.pk _ (by omega)) v1)) ?_ | refine Th.eq ((gI_v (C.pk _ (by omega)) v1)) ?_
    rw [show aAdd (nI (S.plan (c * 3 + 1))) 1 = nI (S.plan (c * 3 + 1) + 1) from aAdd_n _ 1]
    first | refine Eq.trans ((pI_ok (C.pk _ (by omega)) (C.pco _ (by omega)))) ?_ | refine Rt.eq ((pI_ok (C.pk _ (by omega)) (C.pco _ (by omega)))) ?_ | refine Th.eq ((pI_ok (C.pk _ (by omega)) (C.pco _ (by omega)))) ?_
    rw [ez]
    rfl
  · rw [if_neg h]
    refine ⟨M, ?_, C, QW.rf⟩
    rw [E578_8]
    first | refine Eq.trans ((gI_v (C.pk _ (by omega)) v1)) ?_ | refine Rt.eq ((gI_v (C.pk _ (by omega)) v1)) ?_ | refine Th.eq ((gI_v (C.pk _ (by omega)) v1)) ?_
    first | refine Eq.trans ((gI_v (C.pk _ hk) (C.ppl k hk))) ?_ | refine Rt.eq ((gI_v (C.pk _ hk) (C.ppl k hk))) ?_ | refine Th.eq ((gI_v (C.pk _ hk) (C.ppl k hk))) ?_
    rw [if_neg (fun h9 => h (hle.mp h9)), ez]
    rfl
theorem c578_6 {S : Sh} {M : Mem} (C : ShC G M b g S false) {c k : Nat} (hc : c < 6) (hk : k = S.thK c) (iS : SI S) :
    ∃ M', ex G 1 578 6 [(3, vR (some (b + 25 + (c * 3 + 1)))), (5, vR (some (b + 25 + k)))] [vI (bI (decide (S.plan k < 40)))] M = some (.inl (some (vI (bI (decide (S.plan k < 40))))), M') ∧ ShC G M' b g (S.thick1 c) false ∧ QW (inS b) 0 0 M M' := by
  have hk18 : k < 18 := by
    rw [hk]; unfold Sh.thK
    split <;> omega
  unfold Sh.thick1
  have h1 := iS.th1 (c := c)
  unfold Sh.th1 at h1 ⊢
  rw [← hk] at h1 ⊢
  by_cases h : S.plan k < 40
  · rw [if_pos h] at h1 ⊢
    rw [decide_eq_true h]
    have C1 : ShC G (sfi M 122 (b + 25 + k) (nI (S.plan k + 1))) b g (S.s_p k (S.plan k + 1)) false := C.w_plan _
    have q1 : QW (inS b) 0 0 M (sfi M 122 (b + 25 + k) (nI (S.plan k + 1))) := QW.sfi ⟨by omega, by omega⟩
    obtain ⟨M', e', C', q'⟩ := c578_8 C1 hc hk18 h1 (t := true)
    refine ⟨M', ?_, C', q1.tr q'⟩
    rw [E578_6, if_neg (show ¬ bI true = 0 by decide)]
    first | refine Eq.trans ((gI_v (C.pk _ hk18) (C.ppl k hk18))) ?_ | refine Rt.eq ((gI_v (C.pk _ hk18) (C.ppl k hk18))) ?_ | refine Th.eq ((gI_v (C.pk _ hk18) (C.ppl k hk18))) ?_
    rw [show aAdd (nI (S.plan k)) 1 = nI (S.plan k + 1) from aAdd_n _ 1]
    first | refine Eq.trans ((pI_ok (C.pk _ hk18) (C.pco _ hk18))) ?_ | refine Rt.eq ((pI_ok (C.pk _ hk18) (C.pco _ hk18))) ?_ | refine Th.eq ((pI_ok (C.pk _ hk18) (C.pco _ hk18))) ?_
    exact e'
  · rw [if_neg h] at h1 ⊢
    rw [decide_eq_false h]
    obtain ⟨M', e', C', q'⟩ := c578_8 C hc hk18 h1 (t := false)
    refine ⟨M', ?_, C', q'⟩
    rw [E578_6, if_pos (show bI false = 0 from rfl)]
    exact e'
/-- STRENGTH.THICKEN -/
theorem c578 {S : Sh} {M : Mem} (C : ShC G M b g S false) {c : Nat} (hc : c < 6) (iS : SI S) :
    ∃ M', ex G 1 578 0 [(0, vR (some (b + 16))), (1, vI (nI c))] [] M = some (.inl (some (vI (bI (decide (S.plan (S.thK c) < 40))))), M') ∧ ShC G M' b g (S.thick1 c) false ∧ QW (inS b) 0 0 M M' := by
  have p0 := iS.pl (3 * c)
  have p2 := iS.pl (3 * c + 2)
  have v0 : mfi M 122 (b + 25 + (c * 3 + 0)) = nI (S.plan (3 * c)) := by rw [C.ppl _ (by omega), show c * 3 + 0 = 3 * c by omega]
  have v2 : mfi M 122 (b + 25 + (c * 3 + 2)) = nI (S.plan (3 * c + 2)) := by rw [C.ppl _ (by omega), show c * 3 + 2 = 3 * c + 2 by omega]
  obtain ⟨M', e', C', q'⟩ := c578_6 C hc (k := S.thK c) rfl iS
  refine ⟨M', ?_, C', q'⟩
  rw [E578_0]
  first | refine Eq.trans ((gR_v C.stk C.stsh)) ?_ | refine Rt.eq ((gR_v C.stk C.stsh)) ?_ | refine Th.eq ((gR_v C.stk C.stsh)) ?_
  first | refine Eq.trans ((vc1_ok C.k)) ?_ | refine Rt.eq ((vc1_ok C.k)) ?_ | refine Th.eq ((vc1_ok C.k)) ?_
  first | refine Eq.trans ((cbR_of (c487 (st := 0) C hc (by decide)))) ?_ | refine Rt.eq ((cbR_of (c487 (st := 0) C hc (by decide)))) ?_ | refine Th.eq ((cbR_of (c487 (st := 0) C hc (by decide)))) ?_
  first | refine Eq.trans ((gR_v C.stk C.stsh)) ?_ | refine Rt.eq ((gR_v C.stk C.stsh)) ?_ | refine Th.eq ((gR_v C.stk C.stsh)) ?_
  first | refine Eq.trans ((vc1_ok C.k)) ?_ | refine Rt.eq ((vc1_ok C.k)) ?_ | refine Th.eq ((vc1_ok C.k)) ?_
  first | refine Eq.trans ((cbR_of (c487 (st := 1) C hc (by decide)))) ?_ | refine Rt.eq ((cbR_of (c487 (st := 1) C hc (by decide)))) ?_ | refine Th.eq ((cbR_of (c487 (st := 1) C hc (by decide)))) ?_
  first | refine Eq.trans ((gR_v C.stk C.stsh)) ?_ | refine Rt.eq ((gR_v C.stk C.stsh)) ?_ | refine Th.eq ((gR_v C.stk C.stsh)) ?_
  first | refine Eq.trans ((vc1_ok C.k)) ?_ | refine Rt.eq ((vc1_ok C.k)) ?_ | refine Th.eq ((vc1_ok C.k)) ?_
  first | refine Eq.trans ((cbR_of (c487 (st := 2) C hc (by decide)))) ?_ | refine Rt.eq ((cbR_of (c487 (st := 2) C hc (by decide)))) ?_ | refine Th.eq ((cbR_of (c487 (st := 2) C hc (by decide)))) ?_
  first | refine Eq.trans ((gI_v (C.pk _ (by omega)) v2)) ?_ | refine Rt.eq ((gI_v (C.pk _ (by omega)) v2)) ?_ | refine Th.eq ((gI_v (C.pk _ (by omega)) v2)) ?_
  first | refine Eq.trans ((gI_v (C.pk _ (by omega)) v0)) ?_ | refine Rt.eq ((gI_v (C.pk _ (by omega)) v0)) ?_ | refine Th.eq ((gI_v (C.pk _ (by omega)) v0)) ?_
  have h40 : ∀ x, x ≤ 40 → (nI x < 40 ↔ x < 40) := fun x hx => nI_ltN (a := x) (b := 40) (by omega) (by decide)
  unfold Sh.thK at e' ⊢
  by_cases h : S.plan (3 * c + 2) < S.plan (3 * c)
  · rw [if_pos h] at e' ⊢
    rw [if_pos ((nI_ltN (by omega) (by omega)).mpr h)]
    first | refine Eq.trans ((gI_v (C.pk _ (by omega)) v2)) ?_ | refine Rt.eq ((gI_v (C.pk _ (by omega)) v2)) ?_ | refine Th.eq ((gI_v (C.pk _ (by omega)) v2)) ?_
    rw [show c * 3 + 2 = 3 * c + 2 by omega]
    by_cases h2 : S.plan (3 * c + 2) < 40
    · rw [if_pos ((h40 _ p2).mpr h2)]
      rw [decide_eq_true h2] at e' ⊢
      exact e'
    · rw [if_neg (fun h9 => h2 ((h40 _ p2).mp h9))]
      rw [decide_eq_false h2] at e' ⊢
      exact e'
  · rw [if_neg h] at e' ⊢
    rw [if_neg (fun h9 => h ((nI_ltN (by omega) (by omega)).mp h9))]
    first | refine Eq.trans ((gI_v (C.pk _ (by omega)) v0)) ?_ | refine Rt.eq ((gI_v (C.pk _ (by omega)) v0)) ?_ | refine Th.eq ((gI_v (C.pk _ (by omega)) v0)) ?_
    rw [show c * 3 + 0 = 3 * c by omega]
    by_cases h2 : S.plan (3 * c) < 40
    · rw [if_pos ((h40 _ p0).mpr h2)]
      rw [decide_eq_true h2] at e' ⊢
      exact e'
    · rw [if_neg (fun h9 => h2 ((h40 _ p0).mp h9))]
      rw [decide_eq_false h2] at e' ⊢
      exact e'
theorem c576_1 (hG : SeaG G) : ∀ (n t m : Nat) (S : Sh) (M : Mem), t + n = 80 → m ≤ t → ShC G M b g S false → SI S →
    ∃ M', ex G 1 576 1 [(0, vR (some (b + 16))), (1, vI (nI m)), (2, vI (nI t))] [] M = some (.inl (some (vI (Sh.ligL n m S).1)), M') ∧ ShC G M' b g (Sh.ligL n m S).2 false ∧ QW (inS b) 0 0 M M'
  | 0, t, m, S, M, ht, hm, C, iS => by
    have e : t = 80 := by omega
    subst e
    obtain ⟨M1, e1, q1, K1⟩ := c565 (p := true) (k := 0) C hG (by decide) iS
    have C1 := C.fr0 q1
    refine ⟨M1, ?_, C1, q1.qw0⟩
    rw [E576_1, if_neg (by decide)]
    first | refine Eq.trans ((vc1_ok C.stk)) ?_ | refine Rt.eq ((vc1_ok C.stk)) ?_ | refine Th.eq ((vc1_ok C.stk)) ?_
    first | refine Eq.trans ((cbD_of e1)) ?_ | refine Rt.eq ((cbD_of e1)) ?_ | refine Th.eq ((cbD_of e1)) ?_
    unfold Sh.ligL
    by_cases h : dCmL (S.dr true) FP.dconst0 < 0
    · rw [if_pos ((great_neg iS (by decide)).mpr h), if_pos h]
      rfl
    · rw [if_neg (fun h9 => h ((great_neg iS (by decide)).mp h9)), if_neg h]
      first | refine Eq.trans ((gR_v C1.stk C1.stsh)) ?_ | refine Rt.eq ((gR_v C1.stk C1.stsh)) ?_ | refine Th.eq ((gR_v C1.stk C1.stsh)) ?_
      first | refine Eq.trans ((gI_v C1.k C1.limit)) ?_ | refine Rt.eq ((gI_v C1.k C1.limit)) ?_ | refine Th.eq ((gI_v C1.k C1.limit)) ?_
      by_cases h2 : dCmG (S.great true 0) (i2D (nI S.limit)) ≤ 0
      · rw [if_pos h2, if_pos h2]; rfl
      · rw [if_neg h2, if_neg h2]; rfl
  | n + 1, t, m, S, M, ht, hm, C, iS => by
    obtain ⟨M1, e1, q1, K1⟩ := c565 (p := true) (k := 0) C hG (by decide) iS
    have C1 := C.fr0 q1
    have hw := look_lt (S := S) (p := true) (k := 0)
    rw [E576_1, if_pos (show nI t < 80 from nI_lt (a := t) (b := 80) (by omega) (by decide)), show aAdd (nI t) 1 = nI (t + 1) from aAdd_n t 1]
    have e1' : ex G 1 565 0 [(0, vR (some (b + 16))), (1, vI 0), (2, vI 1)] [] M = _ := e1
    rw [vc1_ok C.stk, cbD_of e1']
    unfold Sh.ligL
    by_cases h : dCmL (S.dr true) FP.dconst0 < 0
    · rw [if_pos ((great_neg iS (by decide)).mpr h), if_pos h]
      exact ⟨M1, rfl, C1, q1.qw0⟩
    · rw [if_neg (fun h9 => h ((great_neg iS (by decide)).mp h9)), if_neg h]
      rw [gR_v C1.stk C1.stsh, gI_v C1.k C1.limit]
      by_cases h2 : dCmG (S.great true 0) (i2D (nI S.limit)) ≤ 0
      · rw [if_pos h2, if_pos h2]
        exact ⟨M1, rfl, C1, q1.qw0⟩
      · rw [if_neg h2, if_neg h2, gI_v C1.stk (K1 h).s, vc1_ok C1.stk]
        obtain ⟨M2, e2, C2, q2⟩ := c578 C1 hw.1 iS
        rw [cbI_of e2]
        by_cases h3 : S.plan (S.thK (S.look true 0).2.1) < 40
        · rw [decide_eq_true h3, if_neg (show ¬ bI true = 0 by decide), if_pos h3]
          obtain ⟨M', e', C', q'⟩ := c576_1 hG n (t + 1) (m + 1) _ M2 (by omega) (by omega) C2 iS.thick1
          refine ⟨M', ?_, C', (q1.qw0.tr q2).tr q'⟩
          rw [show aAdd (nI m) 1 = nI (m + 1) from aAdd_n m 1]
          exact e'
        · rw [decide_eq_false h3, if_pos (show bI false = 0 from rfl), if_neg h3]
          obtain ⟨M', e', C', q'⟩ := c576_1 hG n (t + 1) (m + 0) _ M2 (by omega) (by omega) C2 iS.thick1
          refine ⟨M', ?_, C', (q1.qw0.tr q2).tr q'⟩
          rw [show aAdd (nI m) 0 = nI (m + 0) from aAdd_n m 0]
          exact e'
/-- STRENGTH.LIGHTEN -/
theorem c576 {S : Sh} {M : Mem} (C : ShC G M b g S false) (hG : SeaG G) (iS : SI S) :
    ∃ M', ex G 1 576 0 [(0, vR (some (b + 16)))] [] M = some (.inl (some (vI S.lighten.1)), M') ∧ ShC G M' b g S.lighten.2 false ∧ QW (inS b) 0 0 M M' := by
  obtain ⟨M1, e1, C1, q1⟩ := c577 C
  obtain ⟨M', e', C', q'⟩ := c576_1 hG 80 0 0 S.thin M1 rfl (Nat.le_refl _) C1 (SI.thinL 18 0 S iS)
  refine ⟨M', ?_, C', q1.tr q'⟩
  rw [E576_0]
  first | refine Eq.trans ((vc1_ok C.stk)) ?_ | refine Rt.eq ((vc1_ok C.stk)) ?_ | refine Th.eq ((vc1_ok C.stk)) ?_
  first | refine Eq.trans ((cbV_of e1)) ?_ | refine Rt.eq ((cbV_of e1)) ?_ | refine Th.eq ((cbV_of e1)) ?_
  exact e'
end LIG
