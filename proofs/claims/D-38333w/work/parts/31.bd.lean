set_option maxRecDepth 4000
/-! ===== bounds of doubles, by instances: upper bounds of the exponent's field, lower ones, signs ===== -/
def Bd (x : UInt64) (K : Nat) : Prop := K ≤ 2040 → eF x ≤ K
theorem Bd.h {x : UInt64} {K : Nat} (b : Bd x K) (h : K ≤ 2040) : eF x ≤ K := b h
abbrev Lo (x : UInt64) (L : Nat) : Prop := 1 ≤ L ∧ L ≤ eF x
theorem Lo.h {x : UInt64} {L : Nat} (b : Lo x L) : 1 ≤ L ∧ L ≤ eF x := b
def Ps (x : UInt64) : Prop := sgn x = false
theorem Ps.h {x : UInt64} (b : Ps x) : sgn x = false := b
theorem isN_of {x : UInt64} {K : Nat} (b : Bd x K) (h : K ≤ 2040) : isN x := eF_N (Nat.le_trans (b.h h) (by omega))
theorem Bd.of {x : UInt64} {K : Nat} (h : eF x ≤ K) : Bd x K := fun _ => h
theorem Bd.up {x : UInt64} {K : Nat} (b : Bd x K) (L : Nat) (h : K ≤ L) : Bd x L := fun hl => Nat.le_trans (b.h (by omega)) h
theorem Bd.fin {x : UInt64} {K : Nat} (b : Bd x K) (h : K ≤ 2040) : eF x < 2047 := by have := b.h h; omega
theorem bd_add {a b : UInt64} {K L : Nat} (ha : Bd a K) (hb : Bd b L) : Bd (dAdd a b) (max K L + 2) := fun h => by
  rw [dAdd_e]
  have h1 : eF a ≤ max K L := Nat.le_trans (ha.h (by omega)) (Nat.le_max_left _ _)
  have h2 : eF b ≤ max K L := Nat.le_trans (hb.h (by omega)) (Nat.le_max_right _ _)
  exact add_E h1 h2 (by omega)
theorem bd_sub {a b : UInt64} {K L : Nat} (ha : Bd a K) (hb : Bd b L) : Bd (dSub a b) (max K L + 2) := fun h => by
  rw [dSub_e]
  have h1 : eF a ≤ max K L := Nat.le_trans (ha.h (by omega)) (Nat.le_max_left _ _)
  have h2 : eF b ≤ max K L := Nat.le_trans (hb.h (by omega)) (Nat.le_max_right _ _)
  exact sub_E h1 h2 (by omega)
theorem bd_mul {a b : UInt64} {K L : Nat} (ha : Bd a K) (hb : Bd b L) : Bd (dMul a b) (max (K + L - 1021) (max (K + 2) (L + 2))) := fun h => by
  rw [dMul_e]; exact Nat.le_trans (mul_E (N := max (K + L - 1023) 0) (ha.h (by omega)) (hb.h (by omega)) (by omega) (by omega) (by omega) (by omega)) (by omega)
theorem bd_div {a b : UInt64} {K L N : Nat} (ha : Bd a K) (hb : Bd b N) (lb : Lo b L) : Bd (dDiv a b) (max (K + 1024 - L) (max (K + 2) (N + 2))) := fun h => by
  have h1 := lb.h.2
  have h2 := hb.h (by omega)
  rw [dDiv_e]; exact Nat.le_trans (div_E (N := K + 1022 - L) (ha.h (by omega)) h1 (by omega) lb.h.1 (by omega) (by omega) (by omega)) (by omega)
theorem eF_kD (n : Nat) : eF (kD n) = n % 9223372036854775808 / 4503599627370496 := by
  unfold eF mg
  rw [kD_e, UInt64.toNat_ofNat']
  congr 1
  rw [Nat.mod_mod_of_dvd]
  exact ⟨2, by decide⟩
theorem bd_kD {n : Nat} : Bd (kD n) (n % 9223372036854775808 / 4503599627370496) := fun _ => Nat.le_of_eq (eF_kD n)
theorem lo_kD (n : Nat) (h : 1 ≤ n % 9223372036854775808 / 4503599627370496) : Lo (kD n) (n % 9223372036854775808 / 4503599627370496) := And.intro h (Nat.le_of_eq (eF_kD n).symm)
theorem bd_i2D {i : Int32} : Bd (i2D i) 1055 := fun _ => by
  rw [i2D_e]
  refine i2d_E (k := 32) ?_ (by decide)
  have h1 := i.toInt_lt
  have h2 := i.le_toInt
  omega
theorem lo_i2D {i : Int32} (h : i ≠ 0) : Lo (i2D i) 1023 := And.intro (by decide) (by rw [i2D_e]; exact i2d_lo h)
theorem bd_c0 : Bd FP.dconst0 0 := fun _ => by decide
theorem bd_c1 : Bd FP.dconst1 1023 := fun _ => by decide
theorem ps_c0 : Ps FP.dconst0 := (by decide : sgn _ = false)
theorem ps_c1 : Ps FP.dconst1 := (by decide : sgn _ = false)
theorem ps_i2D {i : Int32} (h : ¬ i < 0) : Ps (i2D i) := by
  unfold Ps
  rw [i2D_e, i2d_sgn]
  have h1 : ¬ i.toInt < 0 := fun h2 => h (by rw [Int32.lt_iff_toInt_lt]; exact h2)
  exact decide_eq_false h1
theorem ps_kD (n : Nat) (h : n < 9223372036854775808) : Ps (kD n) := by
  unfold Ps
  unfold sgn
  rw [kD_e, UInt64.toNat_ofNat']
  apply decide_eq_false
  omega
theorem ps_add {a b : UInt64} {K L : Nat} (ha : Bd a K) (hb : Bd b L) (pa : Ps a) (pb : Ps b) (h : max K L ≤ 2040) : Ps (dAdd a b) := by
  unfold Ps
  rw [dAdd_e]; exact (add_nn (K := max K L) (L := 0) (Nat.le_trans (ha.h (by omega)) (Nat.le_max_left _ _)) (Nat.le_trans (hb.h (by omega)) (Nat.le_max_right _ _)) (by omega) pa.h pb.h).1
theorem ps_mul {a b : UInt64} {K L : Nat} (ha : Bd a K) (hb : Bd b L) (pa : Ps a) (pb : Ps b) (h : max K L ≤ 2040) : Ps (dMul a b) := by
  unfold Ps
  rw [dMul_e, mul_sgn (by have := ha.h (by omega); omega) (by have := hb.h (by omega); omega), pa.h, pb.h]; rfl
theorem ps_div {a b : UInt64} {K L N : Nat} (ha : Bd a K) (hb : Bd b N) (lb : Lo b L) (pa : Ps a) (pb : Ps b) (h : max K N ≤ 2040) : Ps (dDiv a b) := by
  unfold Ps
  rw [dDiv_e, div_sgn (by have := ha.h (by omega); omega) (by have := hb.h (by omega); omega) (Nat.le_trans lb.h.1 lb.h.2), pa.h, pb.h]; rfl
