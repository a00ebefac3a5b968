set_option maxRecDepth 4000
/-! ===== iterators ===== -/
abbrev ItM (M : Mem) (c it l k : Nat) : Prop := (mcl M it = 11) ∧ (mco M it = c) ∧ (mfi M 43 it = nI k) ∧ (mfr M 46 it = some l) ∧ (mfi M 45 it = mfi M 21 l) ∧ (it < mnx M)
theorem ItM.ik {M : Mem} {c it l k : Nat} (self_ : ItM M c it l k) : mcl M it = 11 := self_.1
theorem ItM.ic {M : Mem} {c it l k : Nat} (self_ : ItM M c it l k) : mco M it = c := self_.2.1
theorem ItM.cu {M : Mem} {c it l k : Nat} (self_ : ItM M c it l k) : mfi M 43 it = nI k := self_.2.2.1
theorem ItM.ls {M : Mem} {c it l k : Nat} (self_ : ItM M c it l k) : mfr M 46 it = some l := self_.2.2.2.1
theorem ItM.em {M : Mem} {c it l k : Nat} (self_ : ItM M c it l k) : mfi M 45 it = mfi M 21 l := self_.2.2.2.2.1
theorem ItM.lt {M : Mem} {c it l k : Nat} (self_ : ItM M c it l k) : it < mnx M := self_.2.2.2.2.2
theorem ItM.fr {M M' : Mem} {c it l k : Nat} {X : Nat → Prop} {n s : Nat} (I : ItM M c it l k) (q : QC X n s M M') (hl : l < mnx M) : ItM M' c it l k :=
  ⟨(q.cl _ I.lt).trans I.ik, (q.co _ I.lt).trans I.ic, (q.fi 43 _ I.lt rfl).trans I.cu, (q.fr 46 _ I.lt rfl).trans I.ls, by rw [q.fi 45 _ I.lt rfl, q.fi 21 _ hl rfl]; exact I.em, Nat.lt_of_lt_of_le I.lt q.nx.1⟩
/-- writes to what is new -/
theorem qc_nfi {X : Nat → Prop} {n s : Nat} {M M1 : Mem} (q : QC X n s M M1) {f a : Nat} {v : Int32} (h : mnx M ≤ a) : QC X n s M (sfi M1 f a v) :=
  ⟨q.nx, q.sl, q.cl, q.co, q.ln, fun f' a' ha hf => by rw [mfi_sfi, up2_ne (by omega)]; exact q.fi f' a' ha hf, q.fr, q.fd, q.ai, q.ar⟩
theorem qc_nfr {X : Nat → Prop} {n s : Nat} {M M1 : Mem} (q : QC X n s M M1) {f a : Nat} {v : Option Nat} (h : mnx M ≤ a) : QC X n s M (sfr M1 f a v) :=
  ⟨q.nx, q.sl, q.cl, q.co, q.ln, q.fi, fun f' a' ha hf => by rw [mfr_sfr, up2_ne (by omega)]; exact q.fr f' a' ha hf, q.fd, q.ai, q.ar⟩
theorem qc_nfd {X : Nat → Prop} {n s : Nat} {M M1 : Mem} (q : QC X n s M M1) {f a : Nat} {v : UInt64} (h : mnx M ≤ a) : QC X n s M (sfd M1 f a v) :=
  ⟨q.nx, q.sl, q.cl, q.co, q.ln, q.fi, q.fr, fun f' a' ha hf => by rw [mfd_sfd, up2_ne (by omega)]; exact q.fd f' a' ha hf, q.ai, q.ar⟩
theorem qc_nai {X : Nat → Prop} {n s : Nat} {M M1 : Mem} (q : QC X n s M M1) {a i : Nat} {v : Int32} (h : mnx M ≤ a) : QC X n s M (sai M1 a i v) :=
  ⟨q.nx, q.sl, q.cl, q.co, q.ln, q.fi, q.fr, q.fd, fun a' i' ha hx => by rw [mai_sai, up2_ne1 (by omega)]; exact q.ai a' i' ha hx, q.ar⟩
theorem qc_nar {X : Nat → Prop} {n s : Nat} {M M1 : Mem} (q : QC X n s M M1) {a i : Nat} {v : Option Nat} (h : mnx M ≤ a) : QC X n s M (sar M1 a i v) :=
  ⟨q.nx, q.sl, q.cl, q.co, q.ln, q.fi, q.fr, q.fd, q.ai, fun a' i' ha => by rw [mar_sar, up2_ne1 (by omega)]; exact q.ar a' i' ha⟩
theorem qc_nad {X : Nat → Prop} {n s : Nat} {M M1 : Mem} (q : QC X n s M M1) {a i : Nat} {v : UInt64} : QC X n s M (sad M1 a i v) :=
  ⟨q.nx, q.sl, q.cl, q.co, q.ln, q.fi, q.fr, q.fd, q.ai, q.ar⟩
theorem qc_mnew {M : Mem} {c k n : Nat} : QC noX 1 n M (mnew M c k n) := by
  refine ⟨⟨?_, ?_⟩, ⟨?_, ?_⟩, ?_, ?_, ?_, ?_, ?_, ?_, ?_, ?_⟩
  · rw [mnx_mnew]; omega
  · rw [mnx_mnew]; omega
  · rw [msl_mnew]; omega
  · rw [msl_mnew]; omega
  · intro a ha; rw [mcl_mnew, up1_ne (by omega)]
  · intro a ha; rw [mco_mnew, up1_ne (by omega)]
  · intro a _; rw [mln_mnew]
  · intro f a _ _; rw [mfi_mnew]
  · intro f a _ _; rw [mfr_mnew]
  · intro f a _ _; rw [mfd_mnew]
  · intro a i _ _; rw [mai_mnew]
  · intro a i _; rw [mar_mnew]
theorem qc_marr {M : Mem} {c k n : Nat} : QC noX 1 n M (marr M c k n) := by
  refine ⟨⟨?_, ?_⟩, ⟨?_, ?_⟩, ?_, ?_, ?_, ?_, ?_, ?_, ?_, ?_⟩
  · rw [mnx_marr]; omega
  · rw [mnx_marr]; omega
  · rw [msl_marr]; omega
  · rw [msl_marr]; omega
  · intro a ha; rw [mcl_marr, up1_ne (by omega)]
  · intro a ha; rw [mco_marr, up1_ne (by omega)]
  · intro a ha; rw [mln_marr, up1_ne (by omega)]
  · intro f a _ _; rw [mfi_marr]
  · intro f a _ _; rw [mfr_marr]
  · intro f a _ _; rw [mfd_marr]
  · intro a i _ _; rw [mai_marr]
  · intro a i _; rw [mar_marr]
theorem nw_ok {M : Mem} {c k n : Nat} {κ : Nat → Mem → Res} : nw M c k n κ = κ (mnx M) (mnew M c k n) := rfl
theorem Zr.ex {G : Nat → Option Nat} {c m b : Nat} {L : Loc_} {st : List AV} {M M' : Mem} {o : Out} (Z : Zr M) (hc : c ≠ 0) (h : ex G c m b L st M = some (o, M')) : Zr M' := (ev_ext hc h).2.2.2.2 Z
section ITR
variable {G : Nat → Option Nat} {c cc l e n : Nat} {xs : Nat → Nat}
/-- List.iterator -/
theorem x4 {M : Mem} (Z : Zr M) (L : AL G M cc l e n xs) : ∃ M', ex G c 4 0 [(0, vR (some l))] [] M = some (.inl (some (vR (some (mnx M)))), M') ∧ QC noX 1 4 M M' ∧ ItM M' c (mnx M) l 0 ∧ mad M' = mad M ∧ mfd M' = mfd M := by
  have hl := L.ll
  have q1 : QC noX 1 4 M (mnew M c 11 4) := qc_mnew
  have k1 : mcl (mnew M c 11 4) (mnx M) = 11 := by rw [mcl_mnew]; exact up1_at9
  have o1 : mco (mnew M c 11 4) (mnx M) = c := by rw [mco_mnew]; exact up1_at9
  have z1 : mfi (mnew M c 11 4) 43 (mnx M) = 0 := by rw [mfi_mnew]; exact (Z _ (Nat.le_refl _)).2.1 43
  have n1 : mnx (mnew M c 11 4) = mnx M + 1 := mnx_mnew
  have d1 : mad (mnew M c 11 4) = mad M := mad_mnew
  have d1' : mfd (mnew M c 11 4) = mfd M := mfd_mnew
  have p1 : ∀ κ : Nat → Mem → Res, nw M c 11 4 κ = κ (mnx M) (mnew M c 11 4) := fun κ => nw_ok
  generalize mnew M c 11 4 = M1 at *
  have q2 : QC noX 1 4 M (sfr M1 46 (mnx M) (some l)) := qc_nfr q1 (Nat.le_refl _)
  have k2 : mcl (sfr M1 46 (mnx M) (some l)) (mnx M) = 11 := by rw [mcl_sfr]; exact k1
  have o2 : mco (sfr M1 46 (mnx M) (some l)) (mnx M) = c := by rw [mco_sfr]; exact o1
  have z2 : mfi (sfr M1 46 (mnx M) (some l)) 43 (mnx M) = 0 := by rw [mfi_sfr]; exact z1
  have l2 : mfr (sfr M1 46 (mnx M) (some l)) 46 (mnx M) = some l := sfr_at
  have n2 : mnx (sfr M1 46 (mnx M) (some l)) = mnx M + 1 := by rw [mnx_sfr]; exact n1
  have d2 : mad (sfr M1 46 (mnx M) (some l)) = mad M := by rw [mad_sfr]; exact d1
  have d2' : mfd (sfr M1 46 (mnx M) (some l)) = mfd M := by rw [mfd_sfr]; exact d1'
  have p2 : ∀ κ : Mem → Res, pR M1 c 11 46 (some (mnx M)) (some l) κ = κ (sfr M1 46 (mnx M) (some l)) := fun κ => pR_ok k1 o1
  generalize sfr M1 46 (mnx M) (some l) = M2 at *
  have q3 : QC noX 1 4 M (sfi M2 44 (mnx M) (-1)) := qc_nfi q2 (Nat.le_refl _)
  have k3 : mcl (sfi M2 44 (mnx M) (-1)) (mnx M) = 11 := by rw [mcl_sfi]; exact k2
  have o3 : mco (sfi M2 44 (mnx M) (-1)) (mnx M) = c := by rw [mco_sfi]; exact o2
  have z3 : mfi (sfi M2 44 (mnx M) (-1)) 43 (mnx M) = 0 := by rw [sfi_ne (by decide)]; exact z2
  have l3 : mfr (sfi M2 44 (mnx M) (-1)) 46 (mnx M) = some l := by rw [mfr_sfi]; exact l2
  have n3 : mnx (sfi M2 44 (mnx M) (-1)) = mnx M + 1 := by rw [mnx_sfi]; exact n2
  have d3 : mad (sfi M2 44 (mnx M) (-1)) = mad M := by rw [mad_sfi]; exact d2
  have d3' : mfd (sfi M2 44 (mnx M) (-1)) = mfd M := by rw [mfd_sfi]; exact d2'
  have p3 : ∀ κ : Mem → Res, pI M2 c 11 44 (some (mnx M)) (-1) κ = κ (sfi M2 44 (mnx M) (-1)) := fun κ => pI_ok k2 o2
  generalize sfi M2 44 (mnx M) (-1) = M3 at *
  have L3 := L.fr q3
  refine ⟨sfi M3 45 (mnx M) (mfi M3 21 l), ?_, qc_nfi q3 (Nat.le_refl _), ⟨?_, ?_, ?_, ?_, ?_, ?_⟩, ?_, ?_⟩
  · rw [E4_0, p1, vc1_ok k1]
    have e : ex G c 86 0 [(0, vR (some (mnx M))), (1, vR (some l))] [] M1 = some (.inl none, sfi M3 45 (mnx M) (mfi M3 21 l)) := by
      rw [E86_0, p2, nn_ok, p3, gR_v k3 l3, gI_ok L3.k]
      exact pI_ok k3 o3
    rw [e]
    rfl
  · rw [mcl_sfi]; exact k3
  · rw [mco_sfi]; exact o3
  · rw [sfi_ne (by decide)]; exact z3
  · rw [mfr_sfi]; exact l3
  · rw [sfi_at, sfi_ne (by decide)]
  · rw [mnx_sfi, n3]; exact Nat.lt_succ_self _
  · rw [mad_sfi]; exact d3
  · rw [mfd_sfi]; exact d3'
/-- Iterator.hasNext -/
theorem x87 {M : Mem} {it k : Nat} (L : AL G M cc l e n xs) (I : ItM M c it l k) (hk : k ≤ n) : ex G c 87 0 [(0, vR (some it))] [] M = some (.inl (some (vI (bI (decide (k < n))))), M) := by
  have h1 := L.le
  have h2 := L.ls
  rw [E87_0, gI_v I.ik I.cu, gR_v I.ik I.ls, gI_v L.k L.sz]
  by_cases h : k = n
  · subst h
    rw [if_pos rfl, rZ_0, decide_eq_false (Nat.lt_irrefl _)]; rfl
  · rw [if_neg (fun h9 => h ((nI_eqI (by omega) (by omega)).mp h9)), rZ_1, decide_eq_true (by omega)]; rfl
/-- Iterator.next -/
theorem x88 {M0 M : Mem} {X : Nat → Prop} {nn_ ss it k : Nat} (L : AL G M cc l e n xs) (I : ItM M c it l k) (hk : k < n) (q : QC X nn_ ss M0 M) (hit : mnx M0 ≤ it) : ∃ M', ex G c 88 0 [(0, vR (some it))] [] M = some (.inl (some (vR (some (xs k)))), M') ∧ QC X nn_ ss M0 M' ∧ ItM M' c it l (k + 1) ∧ mad M' = mad M ∧ mfd M' = mfd M ∧ AL G M' cc l e n xs ∧ mnx M' = mnx M := by
  have h1 := L.le
  have h2 := L.ls
  have hne : l ≠ it := by
    intro h9
    have := L.k
    rw [h9, I.ik] at this
    cases this
  have hne2 : e ≠ it := by
    intro h9
    have := L.ke
    rw [h9, I.ik] at this
    cases this
  have e89 : ex G c 89 0 [(0, vR (some it))] [] M = some (.inl none, M) := by
    rw [E89_0, gR_v I.ik I.ls, gI_ok L.k, gI_ok I.ik, if_pos I.em.symm]
    rfl
  have hM : ∃ M', M' = sfi (sfi M 43 it (nI (k + 1))) 44 it (nI k) := ⟨_, rfl⟩
  obtain ⟨M1, hM1⟩ : ∃ M1, M1 = sfi M 43 it (nI (k + 1)) := ⟨_, rfl⟩
  obtain ⟨M2, hM2⟩ : ∃ M2, M2 = sfi M1 44 it (nI k) := ⟨_, rfl⟩
  have k1 : mcl M1 it = 11 := by rw [hM1, mcl_sfi]; exact I.ik
  have o1 : mco M1 it = c := by rw [hM1, mco_sfi]; exact I.ic
  have L2 : AL G M2 cc l e n xs := by rw [hM2, hM1]; exact (L.sfi_ (by decide)).sfi_ (by decide)
  refine ⟨M2, ?_, ?_, ⟨?_, ?_, ?_, ?_, ?_, ?_⟩, ?_, ?_, L2, ?_⟩
  · rw [E88_0, vc1_ok I.ik, cbV_of e89, gI_v I.ik I.cu, gR_v I.ik I.ls, gI_v L.k L.sz, if_pos (nI_lt hk (by omega)), gR_v I.ik I.ls, gR_v L.k L.ed, alen_ok L.ke rfl, if_pos (nI_lt (by omega) (by omega)), show aAdd (nI k) 1 = nI (k + 1) from aAdd_n k 1]
    rw [pI_ok I.ik I.ic, ← hM1, pI_ok k1 o1, ← hM2, ldR_v L2.ke rfl (by have := L2.le; omega) (by have := L2.ls; omega) (L2.el k hk)]
    rfl
  · rw [hM2, hM1]; exact qc_nfi (qc_nfi q hit) hit
  · rw [hM2, mcl_sfi]; exact k1
  · rw [hM2, mco_sfi]; exact o1
  · rw [hM2, sfi_ne (by decide), hM1]; exact sfi_at
  · rw [hM2, mfr_sfi, hM1, mfr_sfi]; exact I.ls
  · rw [hM2, sfi_ne (by decide), sfi_ne (by decide), hM1, sfi_ne (by decide), sfi_ne (by decide)]; exact I.em
  · rw [hM2, mnx_sfi, hM1, mnx_sfi]; exact I.lt
  · rw [hM2, mad_sfi, hM1, mad_sfi]
  · rw [hM2, mfd_sfi, hM1, mfd_sfi]
  · rw [hM2, mnx_sfi, hM1, mnx_sfi]
end ITR
