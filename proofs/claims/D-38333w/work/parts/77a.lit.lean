/-! ===== numbers against literals ===== -/
theorem nI_ne_L {a : Nat} (b : Nat) (z : Int32) (hz : nI b = z) (ha : a < 2147483648) (hb : b < 2147483648) (h : a ≠ b) : ¬ nI a = z := by subst hz; exact fun e => h ((nI_eqI ha hb).mp e)
theorem nI_eq_L {a : Nat} (b : Nat) (z : Int32) (hz : nI b = z) (h : a = b) : nI a = z := by subst hz; rw [h]
theorem nI_lt_L {a : Nat} (b : Nat) (z : Int32) (hz : nI b = z) (h : a < b) (hb : b < 2147483648) : nI a < z := by subst hz; exact nI_lt h hb
theorem nI_nlt_L {a : Nat} (b : Nat) (z : Int32) (hz : nI b = z) (h : b ≤ a) (ha : a < 2147483648) : ¬ nI a < z := by subst hz; exact nI_nlt h ha
theorem nI_le_L {a : Nat} (b : Nat) (z : Int32) (hz : nI b = z) (h : a ≤ b) (hb : b < 2147483648) : nI a ≤ z := by subst hz; exact (nI_leN (by omega) hb).mpr h
theorem nI_nle_L {a : Nat} (b : Nat) (z : Int32) (hz : nI b = z) (h : b < a) (ha : a < 2147483648) : ¬ nI a ≤ z := by subst hz; exact fun e => absurd ((nI_leN ha (by omega)).mp e) (by omega)
theorem bI_t {x y : Res} : (if bI true = 0 then x else y) = y := if_neg (by decide)
theorem bI_f {x y : Res} : (if bI false = 0 then x else y) = x := if_pos rfl
theorem rZ_b {t : Bool} {M : Mem} : rZ (bI t) M = some (.inl (some (vI (bI t))), M) := by
  rw [rZ_ok (by cases t <;> decide)]
  rfl
theorem dbR_of {x : Res} {κ : Option Nat → Mem → Res} {v : Option Nat} {M : Mem} (h : x = some (.inl (some (vR v)), M)) : dbR x κ = κ v M := by subst h; rfl
theorem dbV_of {x : Res} {κ : Mem → Res} {M : Mem} (h : x = some (.inl none, M)) : dbV x κ = κ M := by subst h; rfl
theorem cst_a {M : Mem} {ks : List Nat} {a k c : Nat} {κ : Res} (h : mcl M a = k) (h1 : ks.contains k = true) (h2 : mco M a = c) (h3 : c ≠ 0) : cst M ks (some a) κ = κ := by
  have h4 : Nat.beq (mco M a) 0 = false := by
    rw [h2]
    cases hh : Nat.beq c 0 with
    | false => rfl
    | true => exact absurd (Nat.eq_of_beq_eq_true hh) h3
  unfold cst okK
  rw [if_pos]
  simp only [h, h1, h4, Bool.true_and, Bool.not_false, Bool.or_true]
