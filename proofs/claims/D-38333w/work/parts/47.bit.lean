set_option maxRecDepth 4000
/-! ===== sets as numbers; where water spreads ===== -/
theorem nI_and (a b : Nat) : nI a &&& nI b = nI (a &&& b) := by
  unfold nI
  apply Int32.toBitVec_inj.mp
  simp [Int32.toBitVec_and, BitVec.ofNat_and]
theorem nI_or (a b : Nat) : nI a ||| nI b = nI (a ||| b) := by
  unfold nI
  apply Int32.toBitVec_inj.mp
  simp [Int32.toBitVec_or, BitVec.ofNat_or]
theorem m31 {w : Nat} (h : w < 32) : nI w &&& 31 = nI w := by
  rw [show (31 : Int32) = nI 31 from rfl, nI_and]
  congr 1
  have : w &&& 31 = w % 32 := Nat.and_two_pow_sub_one_eq_mod w 5
  omega
theorem smod32 : ∀ w, w < 32 → ((BitVec.ofNat 32 w).smod 32).toNat = w := by decide
theorem nI_shl {a w : Nat} (h : w < 32) : nI a <<< (nI w &&& 31) = nI (a <<< w) := by
  rw [m31 h]
  unfold nI
  apply Int32.toBitVec_inj.mp
  rw [Int32.toBitVec_shiftLeft]
  simp only [Int32.toBitVec_ofNat', BitVec.shiftLeft_eq', smod32 w h]
  apply BitVec.eq_of_toNat_eq
  simp only [BitVec.toNat_shiftLeft, BitVec.toNat_ofNat, Nat.shiftLeft_eq]
  rw [Nat.mul_mod, Nat.mod_mod, ← Nat.mul_mod]
theorem nI_shr {a w : Nat} (ha : a < 2147483648) (h : w < 32) : nI a >>> (nI w &&& 31) = nI (a >>> w) := by
  rw [m31 h]
  unfold nI
  apply Int32.toBitVec_inj.mp
  rw [Int32.toBitVec_shiftRight]
  simp only [Int32.toBitVec_ofNat', BitVec.sshiftRight_eq', smod32 w h]
  rw [BitVec.sshiftRight_eq_of_msb_false (by rw [BitVec.msb_eq_decide]; simp; omega)]
  apply BitVec.eq_of_toNat_eq
  have : a >>> w ≤ a := by rw [Nat.shiftRight_eq_div_pow]; exact Nat.div_le_self _ _
  simp only [BitVec.toNat_ushiftRight, BitVec.toNat_ofNat]
  rw [Nat.mod_eq_of_lt (by omega), Nat.mod_eq_of_lt (by omega)]
theorem aAnd_n (a b : Nat) : aAnd (nI a) (nI b) = nI (a &&& b) := by rw [aAnd_e, nI_and]
theorem aOr_n (a b : Nat) : aOr (nI a) (nI b) = nI (a ||| b) := by rw [aOr_e, nI_or]
theorem aShl_n {a w : Nat} (h : w < 32) : aShl (nI a) (nI w) = nI (a <<< w) := by rw [aShl_e, nI_shl h]
theorem aShr_n {a w : Nat} (ha : a < 2147483648) (h : w < 32) : aShr (nI a) (nI w) = nI (a >>> w) := by rw [aShr_e, nI_shr ha h]
/-- a bit -/
def bt (s k : Nat) : Bool := (s >>> k) &&& 1 == 1
theorem bit_n {s k : Nat} (hs : s < 2147483648) (hk : k < 32) : aAnd (aShr (nI s) (nI k)) 1 = nI (if bt s k then 1 else 0) := by
  rw [aShr_n hs hk, show (1 : Int32) = nI 1 from rfl, aAnd_n]
  unfold bt
  have h : s >>> k &&& 1 = s >>> k % 2 := Nat.and_one_is_mod _
  rw [h]
  have h2 : s >>> k % 2 < 2 := Nat.mod_lt _ (by decide)
  generalize s >>> k % 2 = x at h2
  congr 1
  match x, h2 with
  | 0, _ => rfl
  | 1, _ => rfl
theorem bit_1 {s k : Nat} (hs : s < 2147483648) (hk : k < 32) : aAnd (aShr (nI s) (nI k)) 1 = 1 ↔ bt s k = true := by
  rw [bit_n hs hk]
  cases bt s k <;> decide
theorem bit_0 {s k : Nat} (hs : s < 2147483648) (hk : k < 32) : aAnd (aShr (nI s) (nI k)) 1 = 0 ↔ bt s k = false := by
  rw [bit_n hs hk]
  cases bt s k <;> decide
/-- one wall; n walls from the w-th on; all of it until nothing changes -/
def spW (B w s : Nat) : Nat := if bt B w == false && (bt s w != bt s (w + 1)) then s ||| (3 <<< w) else s
def spP (B : Nat) : Nat → Nat → Nat → Nat
  | 0, _, s => s
  | n + 1, w, s => spP B n (w + 1) (spW B w s)
def spL (B : Nat) : Nat → Nat → Nat
  | 0, s => s
  | n + 1, s => if spP B 5 0 s = s then s else spL B n (spP B 5 0 s)
def spread (B s : Nat) : Nat := spL B 6 s
theorem spW_lt : ∀ B, B < 32 → ∀ w, w < 5 → ∀ s, s < 64 → spW B w s < 64 := by decide +kernel
theorem spP_lt {B : Nat} (hB : B < 32) : ∀ (n w s : Nat), w + n = 5 → s < 64 → spP B n w s < 64
  | 0, _, _, _, h => h
  | n + 1, w, s, hw, h => spP_lt hB n (w + 1) _ (by omega) (spW_lt B hB w (by omega) s h)
theorem spread_fix : ∀ B, B < 32 → ∀ s, s < 64 → spP B 5 0 (spread B s) = spread B s ∧ spread B s < 64 := by decide +kernel
/-- as the reference spreads it -/
def tpW (B k s : Nat) : Nat := if bt B k then s else
  let s1 := if bt s k then s ||| (1 <<< (k + 1)) else s
  if bt s1 (k + 1) then s1 ||| (1 <<< k) else s1
def tpP (B : Nat) : Nat → Nat → Nat → Nat
  | 0, _, s => s
  | n + 1, w, s => tpP B n (w + 1) (tpW B w s)
def tpL (B : Nat) : Nat → Nat → Nat
  | 0, s => s
  | n + 1, s => tpL B n (tpP B 5 0 s)
theorem spread_eq : ∀ B, B < 32 → ∀ s, s < 64 → tpL B 6 s = spread B s := by decide +kernel
/-- over the walls -/
def over (s : Nat) : Nat := s ||| ((s <<< 1 ||| s >>> 1) &&& 63)
theorem over_lt : ∀ s, s < 64 → over s < 64 := by decide +kernel
theorem over_eq : ∀ s, s < 64 → (s ||| s <<< 1 ||| s >>> 1) &&& 63 = over s := by decide +kernel
/-- the number of compartments -/
def pop6 (s : Nat) : Nat := (if bt s 0 then 1 else 0) + (if bt s 1 then 1 else 0) + (if bt s 2 then 1 else 0) + (if bt s 3 then 1 else 0) + (if bt s 4 then 1 else 0) + (if bt s 5 then 1 else 0)
theorem over_grows : ∀ B, B < 32 → ∀ s, s < 64 → s ≠ 0 → s ≠ 63 → pop6 s < pop6 (spread B (over s)) := by decide +kernel
theorem pop6_le : ∀ s, s < 64 → pop6 s ≤ 6 := by decide +kernel
