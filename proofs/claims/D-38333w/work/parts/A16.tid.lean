set_option maxRecDepth 4000
/-! ===== the tide; what water a ship needs ===== -/
noncomputable def Sh.need (S : Sh) : Int32 := if dCmL (S.dr false) FP.dconst0 < 0 then -1 else aAdd (d2I (ceV (dMul (kD 4621819117588971520) (S.dr false)))) 3
theorem bd_10dr {S : Sh} (iS : SI S) (h : ¬ dCmL (S.dr false) FP.dconst0 < 0) : Bd (dMul (kD 4621819117588971520) (S.dr false)) 1033 ∧ sgn (dMul (kD 4621819117588971520) (S.dr false)) = false := by
  have hv := v16_dr iS h
  have bd : Bd (S.dr false) 1027 := fun _ => by have := hv.1; unfold eF; omega
  have bk : Bd (kD 4621819117588971520) 1026 := Bd.up bd_kD _ (by decide)
  exact ⟨Bd.up (bd_mul bk bd) _ (by decide), ps_mul bk bd (ps_kD _ (by decide)) hv.2 (by decide)⟩
theorem need_n {S : Sh} (iS : SI S) (h : ¬ dCmL (S.dr false) FP.dconst0 < 0) : ∃ n, n < 524291 ∧ S.need = nI n := by
  obtain ⟨b1, p1⟩ := bd_10dr iS h
  obtain ⟨b2, p2⟩ := ceV_b p1 b1 (by decide) (by decide)
  obtain ⟨n, hn, e⟩ := d2I_n p2 (Nat.le_trans (b2.h (by decide)) (by decide))
  refine ⟨n + 3, by omega, ?_⟩
  have hs : S.need = aAdd (d2I (ceV (dMul (kD 4621819117588971520) (S.dr false)))) 3 := if_neg h
  rw [hs, e]
  exact aAdd_n n 3
noncomputable def tide (d : Nat) : Int32 := aAdd (aAdd 40 (tbI tMoon (d % 12))) (tbI tSpring (d % 8))
section TID
variable {G : Nat → Option Nat} {M : Mem} {c : Nat}
theorem c305 {k : Nat} (hk : k < 6) : ex G c 305 0 [(0, vI (nI k))] [] M = some (.inl (some (vI (tbI tMoon k))), M) := by
  obtain h | h | h | h | h | h : k = 0 ∨ k = 1 ∨ k = 2 ∨ k = 3 ∨ k = 4 ∨ k = 5 := by omega
  · subst h; rw [E305_0, if_pos (by decide)]; rfl
  · subst h; rw [E305_0, if_neg (by decide), if_pos (by decide)]; rfl
  · subst h; rw [E305_0, if_neg (by decide), if_neg (by decide), if_pos (by decide)]; rfl
  · subst h; rw [E305_0, if_neg (by decide), if_neg (by decide), if_neg (by decide), if_pos (by decide)]; rfl
  · subst h; rw [E305_0, if_neg (by decide), if_neg (by decide), if_neg (by decide), if_neg (by decide), if_pos (by decide)]; rfl
  · subst h; rw [E305_0, if_neg (by decide), if_neg (by decide), if_neg (by decide), if_neg (by decide), if_neg (by decide), if_pos (by decide)]; rfl
theorem c304 {d : Nat} (hd : d < 2147483648) : ex G c 304 0 [(0, vI (nI d))] [] M = some (.inl (some (vI (tbI tMoon (d % 12)))), M) := by
  have h12 := Nat.mod_lt d (show 0 < 12 by decide)
  have e1 : aRem (nI d) 12 = nI (d % 12) := aRem_n (b := 12) hd (by decide)
  have e2 : aRem (nI (d % 12)) 6 = nI (d % 12 % 6) := aRem_n (b := 6) (by omega) (by decide)
  rw [E304_0, e1, dvI_ok (by decide), e2, dvI_ok (by decide), cbI_of (c305 (Nat.mod_lt _ (by decide)))]
  generalize d % 12 = r at h12
  obtain h | h | h | h | h | h | h | h | h | h | h | h : r = 0 ∨ r = 1 ∨ r = 2 ∨ r = 3 ∨ r = 4 ∨ r = 5 ∨ r = 6 ∨ r = 7 ∨ r = 8 ∨ r = 9 ∨ r = 10 ∨ r = 11 := by omega
  all_goals subst h
  · rw [if_pos (by decide)]; rfl
  · rw [if_pos (by decide)]; rfl
  · rw [if_pos (by decide)]; rfl
  · rw [if_pos (by decide)]; rfl
  · rw [if_pos (by decide)]; rfl
  · rw [if_pos (by decide)]; rfl
  · rw [if_neg (by decide), aNeg_e]; rfl
  · rw [if_neg (by decide), aNeg_e]; rfl
  · rw [if_neg (by decide), aNeg_e]; rfl
  · rw [if_neg (by decide), aNeg_e]; rfl
  · rw [if_neg (by decide), aNeg_e]; rfl
  · rw [if_neg (by decide), aNeg_e]; rfl
theorem c306 {d : Nat} (hd : d < 2147483648) : ex G c 306 0 [(0, vI (nI d))] [] M = some (.inl (some (vI (tbI tSpring (d % 8)))), M) := by
  have h8 := Nat.mod_lt d (show 0 < 8 by decide)
  have e1 : aRem (nI d) 8 = nI (d % 8) := aRem_n (b := 8) hd (by decide)
  rw [E306_0, e1, dvI_ok (by decide)]
  generalize d % 8 = r at h8
  obtain h | h | h | h | h | h | h | h : r = 0 ∨ r = 1 ∨ r = 2 ∨ r = 3 ∨ r = 4 ∨ r = 5 ∨ r = 6 ∨ r = 7 := by omega
  · subst h; rw [if_pos (by decide)]; rfl
  · subst h; rw [if_neg (by decide), if_pos (by decide)]; rfl
  · subst h; rw [if_neg (by decide), if_neg (by decide), if_pos (by decide)]; rfl
  · subst h; rw [if_neg (by decide), if_neg (by decide), if_neg (by decide), if_pos (by decide)]; rfl
  · subst h; rw [if_neg (by decide), if_neg (by decide), if_neg (by decide), if_neg (by decide), if_pos (by decide)]; rfl
  · subst h; rw [if_neg (by decide), if_neg (by decide), if_neg (by decide), if_neg (by decide), if_neg (by decide), if_pos (by decide)]; rfl
  · subst h; rw [if_neg (by decide), if_neg (by decide), if_neg (by decide), if_neg (by decide), if_neg (by decide), if_neg (by decide), if_pos (by decide)]; rfl
  · subst h; rw [if_neg (by decide), if_neg (by decide), if_neg (by decide), if_neg (by decide), if_neg (by decide), if_neg (by decide), if_neg (by decide), if_pos (by decide)]; rfl
/-- EDGE.TIDE -/
theorem c303 {d : Nat} (hd : d < 2147483648) : ex G c 303 0 [(0, vI (nI d))] [] M = some (.inl (some (vI (tide d))), M) := by
  rw [E303_0, cbI_of (c304 hd), cbI_of (c306 hd)]
  rfl
/-- the reference's tide -/
theorem t411 (C : ConT G M) {d : Nat} (hd : d < 2147483648) : ex G c 411 0 [(0, vI (nI d))] [] M = some (.inl (some (vI (tide d))), M) := by
  have e1 : aRem (nI d) 12 = nI (d % 12) := aRem_n (b := 12) hd (by decide)
  have e2 : aRem (nI d) 8 = nI (d % 8) := aRem_n (b := 8) hd (by decide)
  obtain ⟨a, ga, ka, -, -, la, va⟩ := C.moon
  obtain ⟨b, gb, kb, -, -, lb, vb⟩ := C.spring
  rw [E411_0, e1, dvI_ok (by decide), ga]
  have s1 : ∀ κ : Int32 → Res, ldI M 100 (some a) (nI (d % 12)) κ = κ (tbI tMoon (d % 12)) := fun κ => by
    have h := Nat.mod_lt d (show 0 < 12 by decide)
    unfold ldI
    simp only []
    rw [if_pos ⟨ka, nI_pos (by omega), by rw [nI_clamp (by omega)]; omega⟩, nI_clamp (by omega), va _ h]
  have s2 : ∀ κ : Int32 → Res, ldI M 100 (some b) (nI (d % 8)) κ = κ (tbI tSpring (d % 8)) := fun κ => by
    have h := Nat.mod_lt d (show 0 < 8 by decide)
    unfold ldI
    simp only []
    rw [if_pos ⟨kb, nI_pos (by omega), by rw [nI_clamp (by omega)]; omega⟩, nI_clamp (by omega), vb _ h]
  rw [s1, e2, dvI_ok (by decide), gb, s2]
  rfl
end TID
