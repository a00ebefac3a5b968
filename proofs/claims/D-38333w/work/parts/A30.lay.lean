set_option maxRecDepth 8000
/-! ===== laying down ===== -/
noncomputable def Sh.s_hj (S : Sh) (k n : Nat) : Sh := S.s_hours (fun j => if j = k then n else S.hours j)
noncomputable def Sh.s_lj (S : Sh) (k n : Nat) : Sh := S.s_left (fun j => if j = k then n else S.left j)
theorem SI.s_hj {S : Sh} (i : SI S) {k n : Nat} (h : n ≤ 20000) : SI (S.s_hj k n) :=
  ⟨i.h, i.f, i.num, i.stg, i.il, i.ic, i.it, i.iu, i.fl, i.bk, i.pl, i.ft, i.stt, i.ct, i.lm, i.sp, i.fo, fun j => by
    show (if j = k then n else S.hours j) ≤ 20000
    split
    · exact h
    · exact i.hr j, i.lf, i.pw, i.pn, i.pi, i.po, i.fu, i.wy, i.ho, i.dy, i.cl, i.cg⟩
theorem SI.s_lj {S : Sh} (i : SI S) {k n : Nat} (h : n ≤ 20000) : SI (S.s_lj k n) :=
  ⟨i.h, i.f, i.num, i.stg, i.il, i.ic, i.it, i.iu, i.fl, i.bk, i.pl, i.ft, i.stt, i.ct, i.lm, i.sp, i.fo, i.hr, fun j => by
    show (if j = k then n else S.left j) ≤ 20000
    split
    · exact h
    · exact i.lf j, i.pw, i.pn, i.pi, i.po, i.fu, i.wy, i.ho, i.dy, i.cl, i.cg⟩
noncomputable def Sh.lay1 (S : Sh) (k : Nat) : Sh := (S.s_hj k (S.hrs k)).s_lj k (S.hrs k)
theorem SI.lay1 {S : Sh} (i : SI S) {k : Nat} : SI (S.lay1 k) := (i.s_hj (hrs_b i k)).s_lj (hrs_b i k)
/-- the jobs from k on get their hours -/
noncomputable def Sh.layL : Nat → Nat → Sh → Sh
  | 0, _, S => S
  | n + 1, k, S => Sh.layL n (k + 1) (S.lay1 k)
