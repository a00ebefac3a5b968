set_option maxRecDepth 4000
/-! ===== the reference's net: push ===== -/
section TNP
variable {G : Nat → Option Nat} {u : Nat} {g : SG} {P : List Pipe} {f : Nat → Nat} {sh : Int32} {T : Nat → Bool} {pk : Nat → Nat} {al : Nat → Bool} {dep τ : Nat → Nat} {s : Nat}
theorem cd_code {k : Nat} (hk : k < 12) (a : Bool) : aDiv (nI (2 * k + if a then 0 else 1)) 2 = nI k ∧ aRem (nI (2 * k + if a then 0 else 1)) 2 = nI (if a then 0 else 1) := by
  cases a
  · show aDiv (nI (2 * k + 1)) (nI 2) = nI k ∧ aRem (nI (2 * k + 1)) (nI 2) = nI 1
    rw [aDiv_n (by omega) (by decide), aRem_n (by omega) (by decide), show (2 * k + 1) / 2 = k by omega, show (2 * k + 1) % 2 = 1 by omega]
    exact ⟨rfl, rfl⟩
  · show aDiv (nI (2 * k + 0)) (nI 2) = nI k ∧ aRem (nI (2 * k + 0)) (nI 2) = nI 0
    rw [aDiv_n (by omega) (by decide), aRem_n (by omega) (by decide), show (2 * k + 0) / 2 = k by omega, show (2 * k + 0) % 2 = 0 by omega]
    exact ⟨rfl, rfl⟩
theorem cd_v {v : Nat} (h0 : v ≠ 0) (ht : T v = true) : cdV T pk al v = nI (2 * pk v + if al v then 0 else 1) := by
  unfold cdV
  rw [if_pos ht, if_neg h0]
/-- the node ahead, by its pipe -/
theorem nd_v {M : Mem} (N : NtT G M u g P) {k : Nat} (hk : k < P.length) (a : Bool) {κ : Int32 → Res} : ldI M 100 (some (g.ps k)) (nI (if a then 0 else 1)) κ = κ (nI (tlP (pF P) (pT P) a k)) := by
  obtain ⟨h1, h2, h3, h4, h5, h6, h7, h8⟩ := N.px k _ (pA_e hk)
  unfold tlP
  cases a
  · exact ldI_v h1 h3 (show 1 < 5 by decide) (by decide) h5
  · exact ldI_v h1 h3 (show 0 < 5 by decide) (by decide) h4
theorem t701_3 {M : Mem} (hP : PI P) (N : NtT G M u g P) {fa ra : Nat} (F : FlT M fa P f) (hf : ∀ k, k < P.length → f k ≤ pW P k) (L : LbS M ra P sh f T pk al dep τ s) : ∀ (d v m : Nat), dep v = d → v < 8 → T v = true → m < 2147483648 →
    ex G 2 701 3 [(0, vR (some u)), (2, vR (some fa)), (3, vR (some ra)), (4, vI (nI m)), (5, vI (nI v))] [] M = ex G 2 701 9 [(0, vR (some u)), (2, vR (some fa)), (3, vR (some ra)), (4, vI (nI (lpL (pF P) (pT P) (pW P) f pk al d v m))), (5, vI 7)] [] M
  | 0, v, m, hd, hv, ht, hm => by
    have h0 : v = 0 := by
      apply Classical.byContradiction
      intro h0
      have := (L.l.u hP.h8 hv h0 ht).2.2.2.2.2.1
      omega
    subst h0
    rw [E701_3, if_pos (show nI 0 = 0 from rfl)]
    rfl
  | d + 1, v, m, hd, hv, ht, hm => by
    have h0 : v ≠ 0 := fun e => by rw [e, L.l.tr.d0] at hd; omega
    obtain ⟨r1, r2, r3, r4, r5, r6, r7⟩ := L.l.u hP.h8 hv h0 ht
    have hl := hP.1
    obtain ⟨c1, c2⟩ := cd_code (k := pk v) (by omega) (al v)
    have hw := (hP.k r1).2.2.2.2
    have hfk := hf _ r1
    have hrs : rsP (pW P) f (al v) (pk v) ≤ 99 := by unfold rsP; split <;> omega
    have hcode := (L.r.v v hv).trans (cd_v h0 ht)
    have ih := t701_3 hP N F hf L d (tlP (pF P) (pT P) (al v) (pk v)) (min m (rsP (pW P) f (al v) (pk v))) (by omega) r3 r4 (by omega)
    have e7 : ex G 2 701 7 [(0, vR (some u)), (2, vR (some fa)), (3, vR (some ra)), (5, vI (nI v))] [vI (bI (al v)), vI (nI (pk v)), vR (some u), vI (nI m)] M = ex G 2 701 3 [(0, vR (some u)), (2, vR (some fa)), (3, vR (some ra)), (4, vI (nI (min m (rsP (pW P) f (al v) (pk v))))), (5, vI (nI (tlP (pF P) (pT P) (al v) (pk v))))] [] M := by
      rw [E701_7, vc1_ok N.k, cbI_of (t704 N hP F r1 hfk (al v)), cbI_of (x67 hm (by omega)), gR_v N.k N.rp, ldI_v L.r.k L.r.ln hv (by decide) hcode, c1, dvI_ok (by decide), vc1_ok N.pps.k, cbR_of (c6 N.pps r1), cst_q N r1, ldI_v L.r.k L.r.ln hv (by decide) hcode, c2, dvI_ok (by decide), nd_v N r1]
    refine Eq.trans ?_ ih
    rw [E701_3, if_neg (nI_ne_L 0 0 rfl (by omega) (by decide) h0), ldI_v L.r.k L.r.ln hv (by decide) hcode, c1, dvI_ok (by decide), ldI_v L.r.k L.r.ln hv (by decide) hcode, c2, dvI_ok (by decide)]
    refine Eq.trans ?_ e7
    cases al v
    · rw [if_neg (show ¬ nI (if false = true then 0 else 1) = 0 by decide)]; rfl
    · rw [if_pos (show nI (if true = true then 0 else 1) = 0 by decide)]; rfl
theorem fl_upd {M : Mem} (hP : PI P) {h : Nat → Nat} {fa : Nat} (F : FlT M fa P h) {k x : Nat} (hk : k < P.length) : FlT (sai M fa k (nI x)) fa P (fun j => if j = k then x else h j) :=
  ⟨by rw [mcl_sai]; exact F.k, by rw [mco_sai]; exact F.co, by rw [mln_sai]; exact F.ln, by rw [mnx_sai]; exact F.lt, fun j hj => by
    rw [mai_sai, up2_if]
    by_cases e : j = k
    · rw [if_pos ⟨rfl, e⟩]
      show nI x = nI (if j = k then x else h j)
      rw [if_pos e]
    · rw [if_neg (fun h => e h.2)]
      show mai M fa j = nI (if j = k then x else h j)
      rw [if_neg e]
      exact F.v j hj⟩
theorem RcT.fr {M M' : Mem} {a : Nat} {X : Nat → Prop} {n s : Nat} (N : RcT M a T pk al) (q : QC X n s M M') (hX : ¬ X a) : RcT M' a T pk al :=
  ⟨(q.cl _ N.lt).trans N.k, (q.co _ N.lt).trans N.co, (q.ln _ N.lt).trans N.ln, Nat.lt_of_lt_of_le N.lt q.nx.1, fun v hv => (q.ai _ _ N.lt hX).trans (N.v v hv)⟩
theorem t701_9 (hP : PI P) (L : Lab P.length (pF P) (pT P) (pW P) (okS P sh) f T pk al dep τ s) (hf : ∀ k, k < P.length → f k ≤ pW P k) {fa ra : Nat} (hfr : fa ≠ ra) (hpf : ∀ i, i < P.length → g.ps i ≠ fa) {δ : Nat} : ∀ (d v : Nat) (h : Nat → Nat) (M : Mem), NtT G M u g P → FlT M fa P h → RcT M ra T pk al → dep v = d → v < 8 → T v = true → fitL (pF P) (pT P) (pW P) f pk al δ d v → (∀ x, x < 8 → x ≠ 0 → T x = true → dep x ≤ d → h (pk x) = f (pk x)) →
    ∃ M', ex G 2 701 9 [(0, vR (some u)), (2, vR (some fa)), (3, vR (some ra)), (4, vI (nI δ)), (5, vI (nI v))] [] M = some (.inl (some (vI (nI δ))), M') ∧ QC (atX fa) 0 0 M M' ∧ FlT M' fa P (psL (pF P) (pT P) pk al δ d v h)
  | 0, v, h, M, N, F, R, hd, hv, ht, _, _ => by
    have h0 : v = 0 := by
      apply Classical.byContradiction
      intro h0
      have := (L.u hP.h8 hv h0 ht).2.2.2.2.2.1
      omega
    subst h0
    refine ⟨M, ?_, QC.rf, F⟩
    rw [E701_9, if_pos (show nI 0 = 0 from rfl)]
    rfl
  | d + 1, v, h, M, N, F, R, hd, hv, ht, hfit, h3e => by
    have h0 : v ≠ 0 := fun e => by rw [e, L.tr.d0] at hd; omega
    obtain ⟨r1, r2, r3, r4, r5, r6, r7⟩ := L.u hP.h8 hv h0 ht
    obtain ⟨f1, f2⟩ := hfit
    have hl := hP.1
    obtain ⟨c1, c2⟩ := cd_code (k := pk v) (by omega) (al v)
    have hw := (hP.k r1).2.2.2.2
    have hfk := hf _ r1
    have hh := h3e v hv h0 ht (by omega)
    have hcode := (R.v v hv).trans (cd_v h0 ht)
    have hne : ∀ x, x < 8 → x ≠ 0 → T x = true → dep x ≤ d → psU pk al δ v h (pk x) = f (pk x) := fun x hx hx0 htx hdx => by
      unfold psU
      rw [if_neg (pk_ne L.tr hP.h8 hv h0 ht hx hx0 htx (by omega))]
      exact h3e x hx hx0 htx (by omega)
    have hup : psU pk al δ v h = fun j => if j = pk v then (if al v then h (pk v) + δ else h (pk v) - δ) else h j := by
      funext j
      unfold psU
      by_cases e : j = pk v
      · rw [if_pos e, if_pos e, e]
      · rw [if_neg e, if_neg e]
    obtain ⟨M1, hM1⟩ : ∃ M1, M1 = sai M fa (pk v) (nI (if al v then h (pk v) + δ else h (pk v) - δ)) := ⟨_, rfl⟩
    have q1 : QC (atX fa) 0 0 M M1 := by rw [hM1]; exact qc_sai rfl
    have F1 := fl_upd hP F (x := if al v then h (pk v) + δ else h (pk v) - δ) r1
    rw [← hup, ← hM1] at F1
    have N1 := N.fr q1 (fun i hi h => hpf i hi h)
    have R1 := R.fr q1 (fun h => hfr h.symm)
    have hcode1 := (R1.v v hv).trans (cd_v h0 ht)
    obtain ⟨M', e', q', F'⟩ := t701_9 hP L hf hfr hpf d (prv (pF P) (pT P) pk al v) (psU pk al δ v h) M1 N1 F1 R1 (by show dep (tlP (pF P) (pT P) (al v) (pk v)) = d; omega) r3 r4 f2 hne
    refine ⟨M', Eq.trans ?_ e', q1.tr q', F'⟩
    have e13 : ∀ z : Int32, aAdd (nI (h (pk v))) z = nI (if al v then h (pk v) + δ else h (pk v) - δ) → ex G 2 701 13 [(0, vR (some u)), (2, vR (some fa)), (3, vR (some ra)), (4, vI (nI δ)), (5, vI (nI v))] [vI z, vI (nI (h (pk v))), vI (nI (pk v)), vR (some fa)] M = ex G 2 701 9 [(0, vR (some u)), (2, vR (some fa)), (3, vR (some ra)), (4, vI (nI δ)), (5, vI (nI (prv (pF P) (pT P) pk al v)))] [] M1 := by
      intro z hz
      rw [E701_13, hz, stI_ok F.k F.co F.ln (show pk v < 12 by omega) (by decide), ← hM1, gR_v N1.k N1.rp, ldI_v R1.k R1.ln hv (by decide) hcode1, c1, dvI_ok (by decide), vc1_ok N1.pps.k, cbR_of (c6 N1.pps r1), cst_q N1 r1, ldI_v R1.k R1.ln hv (by decide) hcode1, c2, dvI_ok (by decide), nd_v N1 r1]
      rfl
    rw [E701_9, if_neg (nI_ne_L 0 0 rfl (by omega) (by decide) h0), ldI_v R.k R.ln hv (by decide) hcode, c1, dvI_ok (by decide), ldI_v F.k F.ln (show pk v < 12 by omega) (by decide) (F.v _ r1), ldI_v R.k R.ln hv (by decide) hcode, c2, dvI_ok (by decide)]
    unfold rsd at f1
    cases ha : al v
    · rw [ha] at f1 e13
      simp only [Bool.false_eq_true, if_false] at f1 e13
      rw [if_neg (show ¬ nI (if false = true then 0 else 1) = 0 by decide)]
      exact e13 _ (aSubN (by omega))
    · rw [ha] at e13
      simp only [if_true] at e13
      rw [if_pos (show nI (if true = true then 0 else 1) = 0 by decide)]
      exact e13 _ (aAdd_n _ _)
/-- PUSH -/
theorem t701 {M : Mem} (hP : PI P) (N : NtT G M u g P) {fa : Nat} (F : FlT M fa P f) (hf : ∀ k, k < P.length → f k ≤ pW P k) (hpf : ∀ i, i < P.length → g.ps i ≠ fa) :
    ∃ M' T pk al dep τ, Lab P.length (pF P) (pT P) (pW P) (okS P sh) f T pk al dep τ (8 * P.length) ∧ QC (atX fa) 1 8 M M' ∧
      ((T 7 = false ∧ ex G 2 701 0 [(0, vR (some u)), (1, vI sh), (2, vR (some fa))] [] M = some (.inl (some (vI (nI 0))), M') ∧ FlT M' fa P f) ∨
       (T 7 = true ∧ ex G 2 701 0 [(0, vR (some u)), (1, vI sh), (2, vR (some fa))] [] M = some (.inl (some (vI (nI (lpL (pF P) (pT P) (pW P) f pk al (dep 7) 7 2147483647)))), M') ∧ FlT M' fa P (psL (pF P) (pT P) pk al (lpL (pF P) (pT P) (pW P) f pk al (dep 7) 7 2147483647) (dep 7) 7 f))) := by
  obtain ⟨M1, T, pk, al, dep, τ, e1, q1, n1, L⟩ := t702 hP N F hf (sh := sh)
  have N1 := N.fr0 q1
  have F1 := F.fr q1 (fun h => h)
  have hfr : fa ≠ mnx M := fun h => by have := F.lt; omega
  have hl := hP.1
  have h7v := L.r.v 7 (by decide)
  cases h7 : T 7
  · refine ⟨M1, T, pk, al, dep, τ, L.l, q1.mono (fun _ h => absurd h (fun h => h)) (Nat.le_refl _) (Nat.le_refl _), Or.inl ⟨h7, ?_, F1⟩⟩
    rw [E701_0, vc1_ok N.k, cbR_of e1, show (7 : Int32) = nI 7 from rfl, ldI_v L.r.k L.r.ln (by decide) (by decide) h7v, if_pos (cd_f h7)]
    rfl
  · obtain ⟨δ, hδ⟩ : ∃ δ, δ = lpL (pF P) (pT P) (pW P) f pk al (dep 7) 7 2147483647 := ⟨_, rfl⟩
    have hfit := lpL_fit (fr := pF P) (to_ := pT P) (wd := pW P) (f := f) (pk := pk) (al := al) (dep 7) 7 2147483647 (Nat.le_refl _)
    have e3 := t701_3 hP N1 F1 hf L (dep 7) 7 2147483647 rfl (by decide) h7 (by decide)
    rw [← hδ] at hfit e3
    obtain ⟨M2, e2, q2, F2⟩ := t701_9 (G := G) (u := u) (g := g) hP L.l hf hfr hpf (dep 7) 7 f M1 N1 F1 L.r rfl (by decide) h7 hfit (fun _ _ _ _ _ => rfl)
    refine ⟨M2, T, pk, al, dep, τ, L.l, (q1.mono (fun _ h => absurd h (fun h => h)) (Nat.le_refl _) (Nat.le_refl _)).tr q2, Or.inr ⟨h7, ?_, ?_⟩⟩
    · rw [← hδ, E701_0, vc1_ok N.k, cbR_of e1, show (7 : Int32) = nI 7 from rfl, ldI_v L.r.k L.r.ln (by decide) (by decide) h7v, if_neg (cd_t h7 (fun h => by have := (L.l.u hP.h8 (by decide) h h7).1; omega))]
      exact e3.trans e2
    · rw [← hδ]; exact F2
end TNP
