/-! ===== the check of a method: what a reckoning shows, what words must show ===== -/
def ck20 (i : Instr) (k : Nat) (ret : Option FieldType) : Bool := match i, k, ret with
  | .ireturn, 0, some .int => true
  | .lreturn, 1, some .long => true
  | .dreturn, 2, some .double => true
  | .areturn, 3, some (.object _) => true
  | .areturn, 3, some (.array _) => true
  | .ireturn, 4, some .boolean => true
  | .ireturn, 5, some .byte => true
  | .ireturn, 6, some .char => true
  | .return_, 9, none => true
  | _, _, _ => false
def ck8 (i : Instr) (r : List Nat) : Bool := match i, r with
  | .iaload, [0, 100] => true
  | .baload, [0, 101] => true
  | .baload, [0, 102] => true
  | .daload, [2, 103] => true
  | .aaload, [3, kd] => Nat.ble 104 kd && Nat.ble kd 111
  | _, _ => false
def ck3 (bp : Nat → Nat) (pc : Nat) (i : Instr) (r : List Nat) : Bool := match r, offB i with
  | [t, f], some off => decide ((pc : Int) + off = (bp t : Int)) && Nat.beq (bp f) (pc + 3)
  | _, _ => false
def ck4 (bp : Nat → Nat) (pc len : Nat) (i : Instr) (r : List Nat) : Bool := match r with
  | [t] => Nat.beq (bp t) pc || (match i with | .goto off => Nat.beq len 3 && decide ((pc : Int) + off = (bp t : Int)) | _ => false)
  | _ => false
def ckR (len : Nat) (i : Instr) (r : List Nat) (ret : Option FieldType) : Bool := match r with | [k] => Nat.beq len 1 && ck20 i k ret | _ => false
def ckE (q : MI) (bp : Nat → Nat) (e : Ent) : Bool := match e with
  | (pc, len, cat, i, r, cn) => match cat with
    | 0 => okS i len cn q.2.2.1
    | 1 => Nat.beq len 1
    | 2 => Nat.beq len 1
    | 3 => Nat.beq len 3 && ck3 bp pc i r
    | 4 => ck4 bp pc len i r
    | 8 => Nat.beq len 1 && ck8 i r
    | 20 => ckR len i r q.2.2.2.1
    | 30 => okS i len cn q.2.2.1
    | _ => true
/-- which sorts words must speak for -/
def ndE (cat : Nat) : Bool := match cat with
  | 0 => false
  | 1 => false
  | 2 => false
  | 3 => false
  | 4 => false
  | 8 => false
  | 20 => false
  | 30 => false
  | 99 => false
  | _ => true
def FA (mi : Nat → MI) (iT : XT) (q : MI) (bp : Nat → Nat) : List Ent → Prop
  | [] => True
  | e :: t => match ndE e.2.2.1 with
    | true => ((skE e.2.2.1 e.2.1 = false → decode q.2.1 e.1 = .ok (e.2.2.2.1, e.2.1)) → OKe mi iT q bp e) ∧ FA mi iT q bp t
    | false => FA mi iT q bp t
theorem ref_at {kd : Nat} (h1 : 104 ≤ kd) (h2 : kd ≤ 111) : ∃ ty, kAr[kd - 100]? = some ty ∧ ty.isReference = true := by
  obtain ⟨i, rfl⟩ : ∃ i, kd = 104 + i := ⟨kd - 104, by omega⟩
  have hi : i < 8 := by omega
  match i, hi with
  | 0, _ => exact ⟨_, rfl, rfl⟩
  | 1, _ => exact ⟨_, rfl, rfl⟩
  | 2, _ => exact ⟨_, rfl, rfl⟩
  | 3, _ => exact ⟨_, rfl, rfl⟩
  | 4, _ => exact ⟨_, rfl, rfl⟩
  | 5, _ => exact ⟨_, rfl, rfl⟩
  | 6, _ => exact ⟨_, rfl, rfl⟩
  | 7, _ => exact ⟨_, rfl, rfl⟩
theorem OKe_ck {mi : Nat → MI} {iT : XT} {q : MI} {bp : Nat → Nat} {e : Ent} (hn : ndE e.2.2.1 = false) (hc : ckE q bp e = true) (hd : skE e.2.2.1 e.2.1 = false → decode q.2.1 e.1 = .ok (e.2.2.2.1, e.2.1)) : OKe mi iT q bp e := by
  obtain ⟨pc, len, cat, i, r, cn⟩ := e
  dsimp only at hn hd
  unfold ndE at hn
  split at hn
  · exact ⟨hd rfl, hc⟩
  · have h := Nat.eq_of_beq_eq_true (show Nat.beq len 1 = true from hc)
    subst h
    exact ⟨hd rfl, rfl⟩
  · have h := Nat.eq_of_beq_eq_true (show Nat.beq len 1 = true from hc)
    subst h
    exact ⟨hd rfl, rfl⟩
  · replace hc : (Nat.beq len 3 && ck3 bp pc i r) = true := hc
    simp only [Bool.and_eq_true] at hc
    obtain ⟨h1, h2⟩ := hc
    have h := Nat.eq_of_beq_eq_true h1
    subst h
    unfold ck3 at h2
    split at h2
    · next t f off e1 =>
      simp only [Bool.and_eq_true, decide_eq_true_eq] at h2
      exact ⟨t, f, off, rfl, hd rfl, e1, h2.1, Nat.eq_of_beq_eq_true h2.2⟩
    · exact absurd h2 (by simp)
  · replace hc : ck4 bp pc len i r = true := hc
    unfold ck4 at hc
    split at hc
    · next t =>
      simp only [Bool.or_eq_true] at hc
      rcases hc with h | h
      · exact ⟨t, rfl, Or.inl (Nat.eq_of_beq_eq_true h)⟩
      · split at h
        · next off =>
          simp only [Bool.and_eq_true, decide_eq_true_eq] at h
          have h3 := Nat.eq_of_beq_eq_true h.1
          subst h3
          exact ⟨t, rfl, Or.inr ⟨off, hd rfl, h.2⟩⟩
        · exact absurd h (by simp)
    · exact absurd hc (by simp)
  · replace hc : (Nat.beq len 1 && ck8 i r) = true := hc
    simp only [Bool.and_eq_true] at hc
    obtain ⟨h1, h2⟩ := hc
    have h := Nat.eq_of_beq_eq_true h1
    subst h
    unfold ck8 at h2
    split at h2
    · exact ⟨0, 100, rfl, rfl, hd rfl, Or.inl ⟨rfl, Or.inl ⟨rfl, rfl⟩⟩⟩
    · exact ⟨0, 101, rfl, rfl, hd rfl, Or.inl ⟨rfl, Or.inr ⟨rfl, Or.inl rfl⟩⟩⟩
    · exact ⟨0, 102, rfl, rfl, hd rfl, Or.inl ⟨rfl, Or.inr ⟨rfl, Or.inr rfl⟩⟩⟩
    · exact ⟨2, 103, rfl, rfl, hd rfl, Or.inr (Or.inl ⟨rfl, rfl, rfl⟩)⟩
    · next kd =>
      simp only [Bool.and_eq_true] at h2
      have g1 := Nat.le_of_ble_eq_true h2.1
      exact ⟨3, kd, rfl, rfl, hd rfl, Or.inr (Or.inr ⟨rfl, rfl, g1, ref_at g1 (Nat.le_of_ble_eq_true h2.2)⟩)⟩
    · exact absurd h2 (by simp)
  · replace hc : ckR len i r q.2.2.2.1 = true := hc
    unfold ckR at hc
    split at hc
    · next k =>
      simp only [Bool.and_eq_true] at hc
      obtain ⟨h1, h2⟩ := hc
      have h := Nat.eq_of_beq_eq_true h1
      subst h
      refine ⟨k, rfl, hd rfl, ?_⟩
      unfold ck20 at h2
      split at h2
      · next e1 => exact Or.inl ⟨rfl, rfl, e1⟩
      · next e1 => exact Or.inr (Or.inl ⟨rfl, rfl, e1⟩)
      · next e1 => exact Or.inr (Or.inr (Or.inl ⟨rfl, rfl, e1⟩))
      · next e1 => exact Or.inr (Or.inr (Or.inr (Or.inl ⟨rfl, rfl, _, e1, Or.inl ⟨_, rfl⟩⟩)))
      · next e1 => exact Or.inr (Or.inr (Or.inr (Or.inl ⟨rfl, rfl, _, e1, Or.inr ⟨_, rfl⟩⟩)))
      · next e1 => exact Or.inr (Or.inr (Or.inr (Or.inr (Or.inl ⟨rfl, rfl, e1⟩))))
      · next e1 => exact Or.inr (Or.inr (Or.inr (Or.inr (Or.inr (Or.inl ⟨rfl, rfl, e1⟩)))))
      · next e1 => exact Or.inr (Or.inr (Or.inr (Or.inr (Or.inr (Or.inr (Or.inl ⟨rfl, rfl, e1⟩))))))
      · next e1 => exact Or.inr (Or.inr (Or.inr (Or.inr (Or.inr (Or.inr (Or.inr ⟨rfl, rfl, e1⟩))))))
      · exact absurd h2 (by simp)
    · exact absurd hc (by simp)
  · exact ⟨hd rfl, hc⟩
  · exact trivial
  · exact absurd hn (by simp)
/-- the entries of a block stand one behind the other -/
def chB : Nat → List Ent → Bool
  | _, [] => true
  | pc, e :: t => Nat.beq e.1 pc && chB (e.1 + e.2.1) t
def chC (bp : Nat → Nat) : Nat → List Blk → Bool
  | _, [] => true
  | b, blk :: t => chB (bp b) blk.2 && chC bp (b + 1) t
def chR (bp : Nat → Nat) : Nat → Code_ → Bool
  | _, [] => true
  | b, row :: t => chC bp b row && chR bp (b + 16) t
theorem chC_at {bp : Nat → Nat} : ∀ (row : List Blk) (b j : Nat) (blk : Blk), chC bp b row = true → nth row j = some blk → chB (bp (b + j)) blk.2 = true ∧ blk ∈ row
  | [], _, _, _, _, h => absurd h (by simp [nth])
  | x :: t, b, 0, blk, h, hn => by
    cases hn
    unfold chC at h
    simp only [Bool.and_eq_true] at h
    exact ⟨h.1, List.mem_cons_self⟩
  | x :: t, b, j + 1, blk, h, hn => by
    unfold chC at h
    simp only [Bool.and_eq_true] at h
    have := chC_at t (b + 1) j blk h.2 hn
    rw [show b + (j + 1) = b + 1 + j by omega]
    exact ⟨this.1, List.mem_cons_of_mem _ this.2⟩
theorem chR_at {bp : Nat → Nat} : ∀ (code : Code_) (b k : Nat) (row : List Blk), chR bp b code = true → nth code k = some row → chC bp (b + 16 * k) row = true ∧ row ∈ code
  | [], _, _, _, _, h => absurd h (by simp [nth])
  | x :: t, b, 0, row, h, hn => by
    cases hn
    unfold chR at h
    simp only [Bool.and_eq_true] at h
    exact ⟨h.1, List.mem_cons_self⟩
  | x :: t, b, k + 1, row, h, hn => by
    unfold chR at h
    simp only [Bool.and_eq_true] at h
    have := chR_at t (b + 16) k row h.2 hn
    rw [show b + 16 * (k + 1) = b + 16 + 16 * k by omega]
    exact ⟨this.1, List.mem_cons_of_mem _ this.2⟩
theorem Chn_of {mi : Nat → MI} {iT : XT} {q : MI} {bp : Nat → Nat} : ∀ (es : List Ent) (pc : Nat), chB pc es = true → (∀ e ∈ es, OKe mi iT q bp e) → Chn mi iT q bp pc es
  | [], _, _, _ => trivial
  | e :: t, pc, h, ho => by
    unfold chB at h
    simp only [Bool.and_eq_true] at h
    exact ⟨Nat.eq_of_beq_eq_true h.1, ho e List.mem_cons_self, Chn_of t _ h.2 fun x hx => ho x (List.mem_cons_of_mem _ hx)⟩
theorem FA_at {mi : Nat → MI} {iT : XT} {q : MI} {bp : Nat → Nat} : ∀ (es : List Ent), FA mi iT q bp es → ∀ e ∈ es, ndE e.2.2.1 = true → (skE e.2.2.1 e.2.1 = false → decode q.2.1 e.1 = .ok (e.2.2.2.1, e.2.1)) → OKe mi iT q bp e
  | [], _, e, he, _, _ => absurd he (by simp)
  | x :: t, h, e, he, hn, hd => by
    unfold FA at h
    split at h
    · rcases List.mem_cons.mp he with rfl | he
      · exact h.1 hd
      · exact FA_at t h.2 e he hn hd
    · next q9 =>
      rcases List.mem_cons.mp he with rfl | he
      · exact absurd (q9.symm.trans hn) (by simp)
      · exact FA_at t h e he hn hd
/-- a method is as it should be: by reckoning and by words -/
theorem OKm_of {mi : Nat → MI} {iT : XT} {prg : Nat → Code_} {m : Nat} {code : Code_} {q : MI} (hp : prg m = code) (hq : mi m = q) (h1 : plainFor q.1 = true ∨ CeM mi prg m) (h2 : bpc code 0 = 0) (hw : wlk 0 q.2.1.data.toList (flat code) = true) (hk : (flat code).all (ckE q (bpc code)) = true) (hc : chR (bpc code) 0 code = true) (hf : FA mi iT q (bpc code) (flat code)) : OKm mi iT prg m := by
  subst hp; subst hq
  refine Or.inr ⟨h1, h2, fun b blk hb => ?_⟩
  have hall : ∀ e ∈ flat (prg m), OKe mi iT (mi m) (bpc (prg m)) e := by
    intro e he
    have hd : skE e.2.2.1 e.2.1 = false → decode (mi m).2.1 e.1 = .ok (e.2.2.2.1, e.2.1) := wlk_ok _ 0 _ (List.drop_zero ..) hw e he
    cases hn : ndE e.2.2.1 with
    | true => exact FA_at _ hf e he hn hd
    | false => exact OKe_ck hn (List.all_eq_true.mp hk e he) hd
  unfold blkAt at hb
  split at hb
  · next row e1 =>
    obtain ⟨g1, g2⟩ := chR_at _ 0 _ row hc e1
    obtain ⟨g3, g4⟩ := chC_at row _ _ blk g1 hb
    rw [show 0 + 16 * (b / 16) + b % 16 = b by omega] at g3
    exact Chn_of _ _ g3 fun e he => hall e (List.mem_flatMap.mpr ⟨row, g2, List.mem_flatMap.mpr ⟨blk, g4, he⟩⟩)
  · exact absurd hb (by simp)
