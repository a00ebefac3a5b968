set_option maxRecDepth 4000
/-! ===== is a job open ===== -/
def jOpen (l : Nat → Nat) (j : Nat) : Bool := (jAh j).all (fun i => l i == 0)
section OPN
variable {G : Nat → Option Nat} {M : Mem} {b : Nat} {g : SG} {S : Sh} {p : Bool}
theorem c611_1 (C : ShC G M b g S p) (iS : SI S) {j : Nat} (hj : j < 24) : ∀ (n t : Nat), t + n = (jAh j).length → ex G 1 611 1 [(0, vR (some (b + 55))), (2, vR (some (b + 59 + 2 * j))), (3, vI (nI (jAh j).length)), (4, vI (nI t))] [] M = some (.inl (some (vI (bI (((jAh j).drop t).all (fun i => S.left i == 0))))), M)
  | 0, t, ht => by
    have hl := jA_len j hj
    rw [E611_1, if_neg (nI_nlt (by omega) (by omega)), List.drop_of_length_le (by omega), rZ_1]
    rfl
  | n + 1, t, ht => by
    have hl := jA_len j hj
    have htl : t < (jAh j).length := by omega
    have hm := jA_mem htl
    obtain ⟨hi24, -⟩ := jRk_lt j hj _ hm
    have hah := C.ahe j hj t htl
    have hd : (jAh j).drop t = (jAh j).getD t 0 :: (jAh j).drop (t + 1) := by
      rw [List.drop_eq_getElem_cons htl, List.getD_eq_getElem?_getD, List.getElem?_eq_getElem htl]
      rfl
    rw [hd]
    obtain ⟨i, hi⟩ : ∃ i, i = (jAh j).getD t 0 := ⟨_, rfl⟩
    rw [← hi] at hi24 hah ⊢
    rw [E611_1, if_pos (nI_lt htl (by omega)), ldI_v (C.ahk j hj) (C.ahln j hj) htl (by omega) hah, gR_v C.jsk C.jsa, jb_v C hi24, vc1_ok (C.jk i hi24), cbI_of (c633 C iS hi24), show aAdd (nI t) 1 = nI (t + 1) from aAdd_n t 1, List.all_cons]
    cases h : (S.left i == 0)
    · rw [bI_f, rZ_0]; rfl
    · rw [bI_t, Bool.true_and]
      exact c611_1 C iS hj n (t + 1) (by omega)
/-- JOBS.ISOPEN -/
theorem c611 (C : ShC G M b g S p) (iS : SI S) {j : Nat} (hj : j < 24) : ex G 1 611 0 [(0, vR (some (b + 55))), (1, vR (some (b + 58 + 2 * j)))] [] M = some (.inl (some (vI (bI (jOpen S.left j)))), M) := by
  rw [E611_0, gR_v (C.jk j hj) (C.jah j hj), alen_ok (C.ahk j hj) (C.ahln j hj), show (0 : Int32) = nI 0 from rfl]
  exact c611_1 C iS hj (jAh j).length 0 (Nat.zero_add _)
end OPN
