set_option maxRecDepth 4000
/-! ===== Strength.bear ===== -/
noncomputable def sBk (H : Hull) (t : UInt64) (s c : Nat) : UInt64 := hBulk H c (sWt H t s c) (sWt H t s (c + 1))
noncomputable def sSum (H : Hull) (t : UInt64) (s : Nat) : Nat → Nat → UInt64 → UInt64
  | 0, _, x => x
  | n + 1, c, x => sSum H t s n (c + 1) (dAdd x (sBk H t s c))
noncomputable def sTms (H : Hull) (w t : UInt64) (s : Nat) : UInt64 := if dCmG (sSum H t s 6 0 FP.dconst0) (kD 4562254508917369340) < 0 then FP.dconst1 else dDiv w (sSum H t s 6 0 FP.dconst0)
noncomputable def sBear (H : Hull) (w t : UInt64) (s c : Nat) : UInt64 := dMul (sBk H t s c) (sTms H w t s)
theorem bd_sBk {H : Hull} {t : UInt64} {s c : Nat} (iH : HI H) (bt : Bd t 1140) : Bd (sBk H t s c) 1560 := by
  have d1 := sWt_dr (H := H) (s := s) (st := c) bt
  have d2 := sWt_dr (H := H) (s := s) (st := c + 1) bt
  exact bd_bulk2
theorem bd_sSum {H : Hull} {t : UInt64} {s : Nat} (iH : HI H) (bt : Bd t 1140) : ∀ (n c : Nat) (x : UInt64) (K : Nat), 1560 ≤ K → Bd x K → Bd (sSum H t s n c x) (K + 2 * n)
  | 0, _, _, _, _, h => h
  | n + 1, c, x, K, hK, h => by
    unfold sSum
    exact Bd.up (bd_sSum iH bt n (c + 1) _ (K + 2) (by omega) (Bd.up (bd_add h (bd_sBk iH bt)) _ (by omega))) _ (by omega)
theorem bd_div2 {a b : UInt64} {K L N : Nat} (ha : Bd a K) (hb : Bd b N) (lb : Lo b L) (hN : N ≤ 2040) (hK : K ≤ 2040) : Bd (dDiv a b) (K + 1022 - L + 2) := fun h => by
  have h1 := lb.h.2
  have h2 := hb.h hN
  rw [dDiv_e]
  exact div_E (N := K + 1022 - L) (ha.h hK) h1 (by omega) lb.h.1 (by omega) (by omega) (by omega)
theorem bd_sTms {H : Hull} {w t : UInt64} {s : Nat} (iH : HI H) (bt : Bd t 1140) (bw : Bd w 1330) : Bd (sTms H w t s) 1350 := by
  have bs := bd_sSum (s := s) iH bt 6 0 FP.dconst0 1560 (by decide) (Bd.up bd_c0 _ (by decide))
  unfold sTms
  split
  · exact Bd.up bd_c1 _ (by decide)
  · next hc =>
    have ls := (lo_of_G bs (by decide) hc (by decide) (by decide) (by decide)).1
    exact Bd.up (bd_div2 bw bs ls (by decide) (by decide)) _ (by decide)
