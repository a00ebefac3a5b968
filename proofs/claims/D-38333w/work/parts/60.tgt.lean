set_option maxRecDepth 4000
/-! ===== tighter bounds: sections, bulks, weights ===== -/
theorem bd_sec0 {H : Hull} {t : UInt64} {k : Nat} (iH : HI H) (dt : Dr t) : ∀ (n j : Nat) (s : UInt64) (K : Nat), 1502 ≤ K → Bd s K → Bd (hSec H k t false n j s) (K + 2 * n)
  | 0, j, s, K, hK, hs => hs
  | n + 1, j, s, K, hK, hs => by
    unfold hSec
    split
    · have h1 : Bd (dAdd s (hSlice H k j)) (K + 2) := Bd.up (bd_add hs bd_slice) _ (by omega)
      exact Bd.up (bd_sec0 iH dt n (j + 1) _ (K + 2) (by omega) h1) _ (by omega)
    · exact Bd.up (bd_add hs bd_part : Bd (dAdd s (hPart H k j t)) _) _ (by omega)
theorem bd_section2 {H : Hull} {t : UInt64} {k : Nat}   (iH : HI H := by (first | assumption | exact SI.h (by assumption) | fail)) (dt : Dr t := by (first | assumption | exact dr_dep | fail)) : Bd (hSection H k t) 1510 := Bd.up (bd_sec0 iH dt 4 0 FP.dconst0 1502 (by decide) (Bd.up bd_c0 _ (by decide))) _ (by decide)
theorem bd_bulk2 {H : Hull} {c : Nat} {t u : UInt64}    (iH : HI H := by (first | assumption | exact SI.h (by assumption) | fail)) (dt : Dr t := by (first | assumption | exact dr_dep | fail)) (du : Dr u := by (first | assumption | exact dr_dep | fail)) : Bd (hBulk H c t u) 1560 := by
  have h1 : Bd (hSection H c t) 1510 := bd_section2
  have h2 : Bd (hSection H (c + 1) u) 1510 := bd_section2
  unfold hBulk
  exact Bd.up (bd_div (bd_mul (bd_div (bd_add h1 h2) bd_kD lo_2) bd_i2D) bd_kD lo_6) _ (by decide)
theorem foldl_w {H : Hull} : ∀ (l : List Ld) (s : Sm) (K : Nat), 1250 ≤ K → (∀ x ∈ l, LdB x) → Bd s.w K → Bd (l.foldl (smAdd H) s).w (K + 2 * l.length)
  | [], s, K, _, _, h => h
  | x :: l, s, K, hK, hl, h => by
    have hx := (hl x List.mem_cons_self).t
    have h1 : Bd (smAdd H s x).w (K + 2) := (Bd.up (bd_add h hx) _ (by omega) : Bd (dAdd s.w x.t) _)
    have := foldl_w (H := H) l _ (K + 2) (by omega) (fun y hy => hl y (List.mem_cons_of_mem _ hy)) h1
    rw [List.foldl_cons, show K + 2 * (x :: l).length = K + 2 + 2 * l.length by simp only [List.length_cons]; omega]
    exact this
theorem wt_b2 {S : Sh} {p : Bool}  (i : SI S := by (assumption)) : Bd (S.wt p) 1330 := by
  have h := foldl_w (H := S.H) (ldsC S p) sm0 1250 (by decide) ldsC_b (Bd.up bd_c0 _ (by decide))
  rw [ldsC_len] at h
  have := i.il
  exact Bd.up h _ (by omega)
