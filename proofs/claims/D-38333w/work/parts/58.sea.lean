set_option maxRecDepth 4000
/-! ===== seas ===== -/
def swH (st : Nat) : Int32 := if st = 3 then -4 else if st = 2 ∨ st = 4 then -3 else if st = 1 ∨ st = 5 then 1 else 4
def swl (s st : Nat) : Int32 := match s with
  | 0 => 0
  | 1 => swH st
  | _ => -swH st
/-- the constants of the seas are there, and differ -/
def SeaG (G : Nat → Option Nat) : Prop := ∃ x y z, G 9 = some x ∧ G 10 = some y ∧ G 11 = some z ∧ x ≠ y ∧ x ≠ z ∧ y ≠ z
section SEA
variable {G : Nat → Option Nat} {M : Mem}
theorem c794_a : ∀ st, st < 7 → ∀ v : Int32, v = (if nI st - 3 < 0 then -(nI st - 3) else nI st - 3) → (v = 0 ↔ st = 3) ∧ (v = 1 ↔ st = 2 ∨ st = 4) ∧ (v = 2 ↔ st = 1 ∨ st = 5)
  | 0, _, v, h => by subst h; decide
  | 1, _, v, h => by subst h; decide
  | 2, _, v, h => by subst h; decide
  | 3, _, v, h => by subst h; decide
  | 4, _, v, h => by subst h; decide
  | 5, _, v, h => by subst h; decide
  | 6, _, v, h => by subst h; decide
  | n + 7, h, _, _ => absurd h (by omega)
theorem c794 {st : Nat} (hst : st < 7) {r : Option Nat} : ex G 1 794 0 [(0, vR r), (1, vI (nI st))] [] M = some (.inl (some (vI (swH st))), M) := by
  have e : ex G 1 70 0 [(0, vI (aSub (nI st) 3))] [] M = some (.inl (some (vI (if nI st - 3 < 0 then -(nI st - 3) else nI st - 3))), M) := by
    rw [E70_0, aSub_e, aNeg_e]
    split <;> rfl
  obtain ⟨h0, h1, h2⟩ := c794_a st hst _ rfl
  rw [E794_0, cbI_of e]
  unfold swH
  by_cases a0 : st = 3
  · rw [if_pos (h0.mpr a0), if_pos a0]; rfl
  · rw [if_neg (fun h => a0 (h0.mp h)), if_neg a0]
    by_cases a1 : st = 2 ∨ st = 4
    · rw [if_pos (h1.mpr a1), if_pos a1]; rfl
    · rw [if_neg (fun h => a1 (h1.mp h)), if_neg a1]
      by_cases a2 : st = 1 ∨ st = 5
      · rw [if_pos (h2.mpr a2), if_pos a2]; rfl
      · rw [if_neg (fun h => a2 (h2.mp h)), if_neg a2]; rfl
/-- a sea's swell, as it is asked for -/
theorem sea_dsg (hG : SeaG G) {s st a : Nat} (hs : s < 3) (hst : st < 7) (ha : G (9 + s) = some a) (κ : Int32 → Mem → Res) : dsg G a (fun m => dbI (ex G 1 m 0 [(0, vR (some a)), (1, vI (nI st))] [] M) κ) [9, 793, 10, 794, 11, 729] = κ (swl s st) M := by
  obtain ⟨x, y, z, g9, g10, g11, n1, n2, n3⟩ := hG
  obtain e | e | e : s = 0 ∨ s = 1 ∨ s = 2 := by omega
  · subst e
    have hx : x = a := by rw [g9] at ha; injection ha
    subst hx
    unfold dsg
    rw [if_pos g9, E793_0]
    rfl
  · subst e
    have hx : y = a := by rw [g10] at ha; injection ha
    subst hx
    unfold dsg
    rw [if_neg (by rw [g9]; intro h; injection h with h; exact n1 h)]
    unfold dsg
    rw [if_pos g10, c794 hst]
    rfl
  · subst e
    have hx : z = a := by rw [g11] at ha; injection ha
    subst hx
    unfold dsg
    rw [if_neg (by rw [g9]; intro h; injection h with h; exact n2 h)]
    unfold dsg
    rw [if_neg (by rw [g10]; intro h; injection h with h; exact n3 h)]
    unfold dsg
    rw [if_pos g11, E729_0, g10, nn_ok]
    unfold dsg
    rw [if_pos g10, c794 hst]
    show dbI (rI (aNeg (swH st)) M) κ = _
    rw [aNeg_e]
    rfl
end SEA
