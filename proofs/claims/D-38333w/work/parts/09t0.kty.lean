/-! ===== the tables of kinds ===== -/
def ckTy : Bool := (List.range 41).all fun k => match kCl[k]? with
  | some q => (List.range q.2.2).all fun j => match parseFieldDescriptor (q.2.1 j).2.2.1, (kFl.getD k [])[j]? with
    | some ty, some (s, _) => Nat.beq s (srt ty)
    | _, _ => false
  | none => true
theorem ckTy_ok : ckTy = true := by decide +kernel
theorem kTy_ok : kTy := by
  intro k q hq j hj
  have hk : k < 41 := (List.getElem?_eq_some_iff.mp hq).1
  have h := List.all_eq_true.mp ckTy_ok k (List.mem_range.mpr hk)
  rw [hq] at h
  have h2 := List.all_eq_true.mp h j (List.mem_range.mpr hj)
  split at h2
  · next ty s f e1 e2 =>
    have h3 := Nat.eq_of_beq_eq_true h2
    subst h3
    exact ⟨ty, f, e1, e2⟩
  · exact absurd h2 (by simp)
