set_option maxRecDepth 8000
/-! ===== laying down, whole ===== -/
section LYF
variable {G : Nat → Option Nat} {b m u : Nat} {g : SG} {p : Bool} {w : Nat}
theorem SI.s_ld {S : Sh} (i : SI S) {n : Bool} : SI (S.s_laid n) :=
  ⟨i.h, i.f, i.num, i.stg, i.il, i.ic, i.it, i.iu, i.fl, i.bk, i.pl, i.ft, i.stt, i.ct, i.lm, i.sp, i.fo, i.hr, i.lf, i.pw, i.pn, i.pi, i.po, i.fu, i.wy, i.ho, i.dy, i.cl, i.cg⟩
theorem SI.s_sg {S : Sh} (i : SI S) {n : Nat} (h : n < 6) : SI (S.s_stage n) :=
  ⟨i.h, i.f, i.num, h, i.il, i.ic, i.it, i.iu, i.fl, i.bk, i.pl, i.ft, i.stt, i.ct, i.lm, i.sp, i.fo, i.hr, i.lf, i.pw, i.pn, i.pi, i.po, i.fu, i.wy, i.ho, i.dy, i.cl, i.cg⟩
/-- JOBS.TELL -/
theorem c626 {S : Sh} {M : Mem} (C : ShC G M b g S p) (iS : SI S) : ∃ M', ex G 1 626 0 [(0, vR (some (b + 55)))] [] M = some (.inl none, M') ∧ ShC G M' b g (Sh.layL 24 0 (S.s_laid true)) p ∧ QW (inS b) 0 0 M M' := by
  have C1 := C.w_laid true
  obtain ⟨M1, hM1⟩ : ∃ M1, M1 = sfi M 50 (b + 55) (bI true) := ⟨_, rfl⟩
  rw [← hM1] at C1
  have i1 : SI (S.s_laid true) := iS.s_ld
  have q1 : QW (inS b) 0 0 M M1 := by rw [hM1]; exact QW.sfi (by unfold inS; omega)
  obtain ⟨M2, e2, C2, i2, q2⟩ := c637h C1 i1 (j := 0) (by decide) (z := nI (2 * (S.s_laid true).H.len)) rfl
  obtain ⟨M3, e3, C3, i3, q3⟩ := c626_1 6 0 _ M2 rfl i2 C2
  obtain ⟨M4, e4, C4, q4⟩ := c626_e C3 i3
  have hl : Sh.layL 24 0 (S.s_laid true) = Sh.layL 5 19 (Sh.layL (3 * 6) (1 + 3 * 0) ((S.s_laid true).lay1 0)) := by
    rw [show (24 : Nat) = 1 + 23 by decide, layL_add 1, show (23 : Nat) = 18 + 5 by decide, layL_add 18]
    rfl
  rw [hl]
  refine ⟨M4, ?_, C4, ((q1.tr q2).tr q3).tr q4⟩
  have j0 : ∀ κ : Option Nat → Res, ldR M1 108 (some (b + 56)) 0 κ = κ (some (b + 58 + 2 * 0)) := fun κ => jb_v C1 (j := 0) (by decide)
  rw [E626_0, show (pZ M 1 12 50 (some (b + 55)) 1 : (Mem → Res) → Res) = pZ M 1 12 50 (some (b + 55)) (bI true) from rfl, pZ_ok C.jsk C.jsco (by decide), ← hM1, gR_v C1.jsk C1.jsa, j0, gR_v C1.jsk C1.jsh, gR_v C1.k C1.rLn, gI_v C1.lk C1.llen, show aMul (nI (S.s_laid true).H.len) 2 = nI (2 * (S.s_laid true).H.len) from (aMul_n _ 2).trans (by rw [Nat.mul_comm]), vc1_ok (C1.jk 0 (by decide)), cbV_of e2]
  exact e3.trans e4
/-- LAYDOWN -/
theorem t689 {S : Sh} {M : Mem} (T : ShT G M m u g S w) (iS : SI S) : ∃ M', ex G 2 689 0 [(0, vR (some u))] [] M = some (.inl none, M') ∧ ShT G M' m u g (Sh.layL 24 0 ((S.s_laid true).s_stage 1)) w ∧ QW (inT u) 0 0 M M' := by
  have T1 := T.w_laid true
  obtain ⟨M1, hM1⟩ : ∃ M1, M1 = sfi M 228 u (bI true) := ⟨_, rfl⟩
  rw [← hM1] at T1
  have T2 := T1.w_stage 1
  obtain ⟨M2, hM2⟩ : ∃ M2, M2 = sfi M1 217 u (nI 1) := ⟨_, rfl⟩
  rw [← hM2] at T2
  have q1 : QW (inT u) 0 0 M M1 := by rw [hM1]; exact QW.sfi (by unfold inT; omega)
  have q2 : QW (inT u) 0 0 M1 M2 := by rw [hM2]; exact QW.sfi (by unfold inT; omega)
  obtain ⟨M3, e3, T3, q3⟩ := t689_1 24 0 _ M2 rfl (iS.s_ld.s_sg (by decide)) T2
  refine ⟨M3, ?_, T3, (q1.tr q2).tr q3⟩
  rw [E689_0, show (pZ M 2 38 228 (some u) 1 : (Mem → Res) → Res) = pZ M 2 38 228 (some u) (bI true) from rfl, pZ_ok T.ln.k T.ln.co (by decide), ← hM1, show (1 : Int32) = nI 1 from rfl, pI_ok T1.ln.k T1.ln.co, ← hM2]
  exact e3
end LYF
