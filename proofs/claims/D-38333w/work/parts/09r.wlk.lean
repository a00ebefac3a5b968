/-! ===== the walk over a method's bytes ===== -/
def skE (cat len : Nat) : Bool := Nat.beq cat 99 || (Nat.beq cat 4 && Nat.beq len 0) || Nat.beq cat 5 || Nat.beq cat 21
def wlk : Nat → List UInt8 → List Ent → Bool
  | _, _, [] => true
  | cur, l, (pc, len, cat, i, _, _) :: t => match skE cat len with
    | true => wlk cur l t
    | false => match Nat.ble cur pc with
      | true => (match opc (l.drop (pc - cur)) with
        | some (i', n) => (match decide (i' = i) && Nat.beq n len with
          | true => wlk pc (l.drop (pc - cur)) t
          | false => false)
        | none => false)
      | false => false
theorem wlk_ok {code : ByteArray} : ∀ (es : List Ent) (cur : Nat) (l : List UInt8), code.data.toList.drop cur = l → wlk cur l es = true → ∀ e ∈ es, skE e.2.2.1 e.2.1 = false → decode code e.1 = .ok (e.2.2.2.1, e.2.1)
  | [], _, _, _, _, e, he, _ => absurd he (by simp)
  | (pc, len, cat, i, r, cn) :: t, cur, l, hl, h, e, he, hs => by
    unfold wlk at h
    split at h
    · next q =>
      rcases List.mem_cons.mp he with rfl | he
      · exact absurd (q.symm.trans hs) (by simp)
      · exact wlk_ok t cur l hl h e he hs
    · split at h
      · next q1 =>
        have hle := Nat.le_of_ble_eq_true q1
        have hd : code.data.toList.drop pc = l.drop (pc - cur) := by rw [← hl, List.drop_drop]; congr 1; omega
        split at h
        · next i' n e1 =>
          split at h
          · next q2 =>
            simp only [Bool.and_eq_true, decide_eq_true_eq] at q2
            obtain ⟨rfl, q3⟩ := q2
            have q3 := Nat.eq_of_beq_eq_true q3
            subst q3
            rcases List.mem_cons.mp he with rfl | he
            · exact opc_ok hd e1
            · exact wlk_ok t pc _ hd h e he hs
          · exact absurd h (by simp)
        · exact absurd h (by simp)
      · exact absurd h (by simp)
def flat (code : Code_) : List Ent := code.flatMap fun row => row.flatMap fun b => b.2
