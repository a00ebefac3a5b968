/-! ===== the facts of the entries, by sorts ===== -/
/-- a field of a kind: its place, sort, number, what the tables call it -/
def FldF (kd j s' f : Nat) (t : String × String × String × Bool) : Prop := ∃ k : vw_C, kCl[kd]? = some k ∧ kd ≠ 0 ∧ kd < 100 ∧ j < k.2.2 ∧ (kFl.getD kd [])[j]? = some (s', f) ∧ k.2.1 j = t
theorem mk6 {q : MI} {pc kd j s' f sort idx : Nat} {t : String × String × String × Bool} {ref : String} (h : FldF kd j s' f t) (hs : sort = s' ∧ sort < 4 ∨ sort = 0 ∧ (s' = 4 ∨ s' = 5)) (hl : LinkF q.1.cls idx ref t) (hsm : SameF ref t) (hd : decode q.2.1 pc = .ok (.getfield idx, 3)) : ok6 q pc 3 [sort, kd, f] := by
  obtain ⟨k, h1, h2, h3, h4, h5, rfl⟩ := h
  exact ⟨sort, kd, f, idx, j, s', ref, k, rfl, rfl, hd, h1, h2, h3, h4, h5, hs, hl, hsm⟩
theorem mk7 {q : MI} {pc kd j f sort idx : Nat} {t : String × String × String × Bool} {ref : String} (h : FldF kd j sort f t) (hl : LinkF q.1.cls idx ref t) (hsm : SameF ref t) (hf : t.2.2.2 = false ∨ (t.2.2.2 = true ∧ q.1.name = "<init>" ∧ t.1 = q.1.cls ∧ Cond.fieldLink q.1.cls idx ref t.2.1 t.2.2.1 ∈ lw_tbl)) (hd : decode q.2.1 pc = .ok (.putfield idx, 3)) : ok7 q pc 3 [sort, kd, f] := by
  obtain ⟨k, h1, h2, h3, h4, h5, rfl⟩ := h
  exact ⟨sort, kd, f, idx, j, ref, k, rfl, rfl, hd, h1, h2, h3, h4, h5, hl, hsm, hf⟩
/-- a kind that can be made -/
def NewF (kd n : Nat) (C : String) : Prop := ∃ k : vw_C, kCl[kd]? = some k ∧ kd ≠ 0 ∧ kd < 100 ∧ (kFl.getD kd []).length ≤ k.2.2 ∧ (∀ x ∈ kFl.getD kd [], x.1 ≠ 9) ∧ k.1 = C ∧ Cond.instantiable C n ∈ lw_tbl ∧ Cond.initialized C ∈ lw_tbl
theorem mkN {q : MI} {pc kd n idx : Nat} {C : String} (h : NewF kd n C) (hl : Cond.classLink q.1.cls idx C ∈ lw_tbl) (hd : decode q.2.1 pc = .ok (.new idx, 3)) : NewK q pc kd n := by
  obtain ⟨k, h1, h2, h3, h4, h5, rfl, h6, h7⟩ := h
  exact ⟨idx, k, h1, h2, h3, h4, h5, hl, h6, h7, hd⟩
theorem mk11 {q : MI} {pc kd n idx : Nat} {C : String} (h : NewF kd n C) (hl : Cond.classLink q.1.cls idx C ∈ lw_tbl) (hd : decode q.2.1 pc = .ok (.new idx, 3)) : ok11 q pc 3 [kd, n] := ⟨kd, n, rfl, rfl, mkN h hl hd⟩
theorem mk24 {q : MI} {pc kd n c2 idx : Nat} {C : String} (h : NewF kd n C) (hl : Cond.classLink q.1.cls idx C ∈ lw_tbl) (hd : decode q.2.1 pc = .ok (.new idx, 3)) : ok24 q pc 3 [kd, n, c2] := ⟨kd, n, c2, rfl, rfl, mkN h hl hd⟩
theorem mk10 {q : MI} {pc kd : Nat} {ty : FieldType} (h0 : 100 ≤ kd) (h : kAr[kd - 100]? = some ty) (hd : decode q.2.1 pc = .ok (.arraylength, 1)) : ok10 q pc 1 [kd] := ⟨kd, ty, rfl, rfl, h0, h, hd⟩
theorem mk12a {q : MI} {pc kd : Nat} {at_ : ArrayType} (h0 : 100 ≤ kd) (h : kAr[kd - 100]? = some (newarray.typeOf at_)) (hw : Cond.arrayClass (newarray.typeOf at_) ∈ lw_tbl) (hd : decode q.2.1 pc = .ok (.newarray at_, 2)) : ok12 q pc 2 [kd] := ⟨kd, rfl, h0, Or.inl ⟨at_, rfl, h, hw, hd⟩⟩
theorem mk12b {q : MI} {pc kd idx : Nat} {C : String} (h0 : 100 ≤ kd) (h : kAr[kd - 100]? = some (.object C)) (hl : Cond.classLink q.1.cls idx C ∈ lw_tbl) (hw : Cond.arrayOver (.object C) ∈ lw_tbl) (hd : decode q.2.1 pc = .ok (.anewarray idx, 3)) : ok12 q pc 3 [kd] := ⟨kd, rfl, h0, Or.inr ⟨idx, _, rfl, h, Or.inl ⟨C, rfl, hl, hw⟩, hd⟩⟩
theorem mk12c {q : MI} {pc kd idx : Nat} (h0 : 100 ≤ kd) (h : kAr[kd - 100]? = some (.array .int)) (hl : Cond.classLink q.1.cls idx (FieldType.array .int).toString ∈ lw_tbl) (hd : decode q.2.1 pc = .ok (.anewarray idx, 3)) : ok12 q pc 3 [kd] := ⟨kd, rfl, h0, Or.inr ⟨idx, _, rfl, h, Or.inr ⟨rfl, hl⟩, hd⟩⟩
theorem mk13s {q : MI} {pc g idx : Nat} {C n d ref : String} (h0 : g ≠ 0) (h : gTb[g]? = some (0, C, n, d)) (hl : LinkS q.1.cls idx ref n d) (hs : SameS ref C n d) (hd : decode q.2.1 pc = .ok (.getstatic idx, 3)) : ok13 q pc 3 [g] := ⟨g, rfl, Or.inl ⟨C, n, d, h0, h, idx, ref, rfl, hd, hl, hs⟩⟩
theorem mk13t {q : MI} {pc len g idx : Nat} {tx : String} (h : gTb[g]? = some (1, tx, "", "")) (hl : Cond.stringRef q.1.cls idx tx ∈ lw_tbl) (hd : ldL q pc len idx) : ok13 q pc len [g] := ⟨g, rfl, Or.inr (Or.inl ⟨tx, idx, h, hl, hd⟩)⟩
theorem mk13m {q : MI} {pc g idx : Nat} {C : String} (h : gTb[g]? = some (2, C, "", "")) (hl : Cond.classLink q.1.cls idx C ∈ lw_tbl) (hd : decode q.2.1 pc = .ok (.ldc idx, 2)) : ok13 q pc 2 [g] := ⟨g, rfl, Or.inr (Or.inr ⟨C, idx, h, hl, rfl, hd⟩)⟩
theorem mk14c {iT : XT} {q : MI} {pc len idx : Nat} {cn : Int32} (hl : Cond.constant q.1.cls idx cn ∈ lw_tbl) (hd : ldL q pc len idx) : ok14 iT q pc len cn := Or.inl ⟨idx, hl, hd⟩
theorem mk14s {iT : XT} {q : MI} {pc idx : Nat} {cn : Int32} {C n d ref : String} (h : (C, n, d, vI cn) ∈ iT.1) (hl : LinkS q.1.cls idx ref n d) (hs : SameS ref C n d) (hd : decode q.2.1 pc = .ok (.getstatic idx, 3)) : ok14 iT q pc 3 cn := Or.inr ⟨C, n, d, h, idx, ref, rfl, hd, hl, hs⟩
theorem mk15 {q : MI} {pc b idx : Nat} (hl : Cond.constantDouble q.1.cls idx (UInt64.ofNat b) ∈ lw_tbl) (hd : decode q.2.1 pc = .ok (.ldc2_w idx, 3)) : ok15 q pc 3 [b] := ⟨b, idx, rfl, rfl, hl, hd⟩
theorem mk16c {iT : XT} {q : MI} {pc b idx : Nat} (hl : Cond.constantLong q.1.cls idx (Int64.ofNat b) ∈ lw_tbl) (hd : decode q.2.1 pc = .ok (.ldc2_w idx, 3)) : ok16 iT q pc 3 [b] := ⟨b, rfl, Or.inl ⟨idx, rfl, hl, hd⟩⟩
theorem mk16s {iT : XT} {q : MI} {pc b idx : Nat} {C n d ref : String} (h : (C, n, d, vJ (Int64.ofNat b)) ∈ iT.1) (hl : LinkS q.1.cls idx ref n d) (hs : SameS ref C n d) (hd : decode q.2.1 pc = .ok (.getstatic idx, 3)) : ok16 iT q pc 3 [b] := ⟨b, rfl, Or.inr ⟨C, n, d, h, idx, ref, rfl, hd, hl, hs⟩⟩
theorem mk17 {q : MI} {pc kd idx : Nat} {nm : String} (h : KX kd nm) (hl : Cond.classLink q.1.cls idx nm ∈ lw_tbl) (hd : decode q.2.1 pc = .ok (.checkcast idx, 3)) : ok17 q pc 3 [kd] := ⟨kd, idx, nm, rfl, rfl, Or.inl h, hl, hd⟩
theorem mk17u {q : MI} {pc kd idx : Nat} {nm nm9 : String} (h : KX kd nm9) (hc : Cond.castable nm9 nm ∈ lw_tbl) (hl : Cond.classLink q.1.cls idx nm ∈ lw_tbl) (hd : decode q.2.1 pc = .ok (.checkcast idx, 3)) : ok17 q pc 3 [kd] := ⟨kd, idx, nm, rfl, rfl, Or.inr ⟨nm9, h, hc⟩, hl, hd⟩
theorem mk32 {q : MI} {pc kd idx : Nat} {nm : String} (h : KN kd nm) (hl : Cond.classLink q.1.cls idx nm ∈ lw_tbl) (hd : decode q.2.1 pc = .ok (.instanceof idx, 3)) : ok32 q pc 3 [kd] := ⟨kd, idx, nm, rfl, rfl, h, hl, hd⟩
/-- a callee: what doesn't hang on the caller -/
def CalF (q' : MI) : Prop := miW q' ∈ lw_tbl ∧ q'.2.2.1 ≤ 61
theorem CalF.cal {q q' : MI} {aw : Nat} (h : CalF q') (h1 : Nat.ble (q'.2.2.2.2.2 + 1) q.2.2.2.2.2 = true) (h2 : Nat.ble aw q'.2.2.1 = true) : Cal q q' aw := ⟨h.1, Nat.le_of_ble_eq_true h1, h.2, Nat.le_of_ble_eq_true h2⟩
theorem noH_nil {q : MI} {pc : Nat} (h : q.2.2.2.2.1 = []) : noH q pc := by
  intro x hx
  rw [h] at hx
  cases hx
theorem noH_ck {q : MI} {pc : Nat} (h : (tableOf q.2.2.2.2.1).all (fun x => !covers x pc) = true) : noH q pc := fun x hx => by
  have h1 := List.all_eq_true.mp h x hx
  cases hb : covers x pc with
  | false => rfl
  | true => rw [hb] at h1; cases h1
/-- static; virtual with itself; inherited; a superclass' private one; constructor; superclass' -/
def StF (q' : MI) (n : Nat) : Prop := CalF q' ∧ Cond.static q'.1 ∈ lw_tbl ∧ Cond.initialized q'.1.cls ∈ lw_tbl ∧ okY q'.1 ∧ dN q'.1 n
theorem mk18 {mi : Nat → MI} {q q' : MI} {pc rt n aw m' idx : Nat} (hm : mi m' = q') (h : StF q' n) (hl : LinkM q.1.cls idx q') (h1 : Nat.ble (q'.2.2.2.2.2 + 1) q.2.2.2.2.2 = true) (h2 : Nat.ble aw q'.2.2.1 = true) (hno : noH q pc) (hd : decode q.2.1 pc = .ok (.invokestatic idx, 3)) : ok18 mi q pc 3 [rt, n, aw, m'] := by
  subst hm
  exact ⟨rt, n, aw, m', rfl, rfl, h.1.cal h1 h2, ⟨idx, hd, hl, h.2.1, h.2.2.1, h.2.2.2.1, h.2.2.2.2⟩, hno⟩
theorem mk39 {mi : Nat → MI} {q q' : MI} {pc rt n aw m' idx : Nat} (hm : mi m' = q') (h : StF q' n) (hl : LinkM q.1.cls idx q') (h1 : Nat.ble (q'.2.2.2.2.2 + 1) q.2.2.2.2.2 = true) (h2 : Nat.ble aw q'.2.2.1 = true) (hd : decode q.2.1 pc = .ok (.invokestatic idx, 3)) : ok39 mi q pc 3 [rt, n, aw, m'] := by
  subst hm
  exact ⟨rt, n, aw, m', rfl, rfl, h.1.cal h1 h2, ⟨idx, hd, hl, h.2.1, h.2.2.1, h.2.2.2.1, h.2.2.2.2⟩⟩
def ViF (q' : MI) (kd n : Nat) : Prop := CalF q' ∧ ∃ C : String, KN kd C ∧ Cond.instanceMethod q'.1 ∈ lw_tbl ∧ Cond.selects C q'.1 q'.1 ∈ lw_tbl ∧ okY q'.1 ∧ dN q'.1 n
theorem ViF.rt {q q' : MI} {kd n pc idx : Nat} (h : ViF q' kd n) (hl : LinkM q.1.cls idx q') (hd : decode q.2.1 pc = .ok (.invokevirtual idx, 3)) : RtV q pc kd q' n := by
  obtain ⟨-, C, h1, h2, h3, h4, h5⟩ := h
  exact ⟨idx, C, h1, hd, h2, Or.inl ⟨hl, h3, h4, h5⟩⟩
/-- inherited or overridden: x is called, q' runs -/
def InF (q' : MI) (x : MethodName) (kd n : Nat) : Prop := CalF q' ∧ ∃ (C owner : String), KN kd C ∧ Cond.instanceMethod q'.1 ∈ lw_tbl ∧ (∃ bytes ret, miW q' = Cond.code q'.1 bytes q'.2.2.1 ret) ∧ Cond.sameMethod x.cls owner x.name x.desc ∈ lw_tbl ∧ (Cond.declares ⟨owner, x.name, x.desc⟩ ∈ lw_tbl ∨ Cond.instanceMethod ⟨owner, x.name, x.desc⟩ ∈ lw_tbl ∧ ∃ b n t, Cond.code ⟨owner, x.name, x.desc⟩ b n t ∈ lw_tbl) ∧ okY ⟨owner, x.name, x.desc⟩ ∧ Cond.selects C x q'.1 ∈ lw_tbl ∧ dN x n
theorem InF.rt {q q' : MI} {x : MethodName} {kd n pc idx : Nat} (h : InF q' x kd n) (hl : Cond.methodLink q.1.cls idx x ∈ lw_tbl) (hd : decode q.2.1 pc = .ok (.invokevirtual idx, 3)) : RtV q pc kd q' n := by
  obtain ⟨-, C, owner, h1, h2, h3, h4, h5, h6, h7, h8⟩ := h
  exact ⟨idx, C, h1, hd, h2, Or.inr (Or.inl ⟨x, owner, h3, hl, h4, h5, h6, h7, h8⟩)⟩
def PrF (q' : MI) (kd n : Nat) : Prop := CalF q' ∧ ∃ (C C2 : String) (x2 y2 : MethodName), KN kd C ∧ Cond.instanceMethod q'.1 ∈ lw_tbl ∧ (∃ bytes ret, miW q' = Cond.code q'.1 bytes q'.2.2.1 ret) ∧ Cond.privateMethod q'.1 ∈ lw_tbl ∧ y2.cls = q'.1.cls ∧ Cond.instanceMethod y2 ∈ lw_tbl ∧ Cond.selects C2 x2 y2 ∈ lw_tbl ∧ okY q'.1 ∧ dN q'.1 n
theorem PrF.rt {q q' : MI} {kd n pc idx : Nat} (h : PrF q' kd n) (hl : Cond.methodLink q.1.cls idx q'.1 ∈ lw_tbl) (hd : decode q.2.1 pc = .ok (.invokevirtual idx, 3)) : RtV q pc kd q' n := by
  obtain ⟨-, C, C2, x2, y2, h1, h2, h3, h4, h5, h6, h7, h8, h9⟩ := h
  exact ⟨idx, C, h1, hd, h2, Or.inr (Or.inr ⟨C2, x2, y2, h3, hl, h4, h5, h6, h7, h8, h9⟩)⟩
theorem mk19 {mi : Nat → MI} {q q' : MI} {pc rt n aw kd m' : Nat} (hm : mi m' = q') (h : CalF q') (hr : RtV q pc kd q' n) (h1 : Nat.ble (q'.2.2.2.2.2 + 1) q.2.2.2.2.2 = true) (h2 : Nat.ble aw q'.2.2.1 = true) (hno : noH q pc) : ok19 mi q pc 3 [rt, n + 1, aw, kd, m'] := by
  subst hm
  exact ⟨rt, n, aw, kd, m', rfl, rfl, h.cal h1 h2, hr, hno⟩
/-- of an enum's constants -/
def EvF (q' : MI) (g n : Nat) : Prop := CalF q' ∧ ∃ C : String, (g, C) ∈ eTb ∧ Cond.instanceMethod q'.1 ∈ lw_tbl ∧ Cond.selects C q'.1 q'.1 ∈ lw_tbl ∧ okY q'.1 ∧ dN q'.1 n
theorem EvF.rt {q q' : MI} {g n pc idx : Nat} (h : EvF q' g n) (hl : LinkM q.1.cls idx q') (hd : decode q.2.1 pc = .ok (.invokevirtual idx, 3)) : RtE q pc g q' n := by
  obtain ⟨-, C, h1, h2, h3, h4, h5⟩ := h
  exact ⟨idx, C, h1, hd, h2, Or.inl ⟨hl, h3, h4, h5⟩⟩
def EiF (q' : MI) (x : MethodName) (g n : Nat) : Prop := CalF q' ∧ ∃ (C owner : String), (g, C) ∈ eTb ∧ Cond.instanceMethod q'.1 ∈ lw_tbl ∧ (∃ bytes ret, miW q' = Cond.code q'.1 bytes q'.2.2.1 ret) ∧ Cond.sameMethod x.cls owner x.name x.desc ∈ lw_tbl ∧ (Cond.declares ⟨owner, x.name, x.desc⟩ ∈ lw_tbl ∨ Cond.instanceMethod ⟨owner, x.name, x.desc⟩ ∈ lw_tbl ∧ ∃ b n t, Cond.code ⟨owner, x.name, x.desc⟩ b n t ∈ lw_tbl) ∧ okY ⟨owner, x.name, x.desc⟩ ∧ Cond.selects C x q'.1 ∈ lw_tbl ∧ dN x n
theorem EiF.rt {q q' : MI} {x : MethodName} {g n pc idx : Nat} (h : EiF q' x g n) (hl : Cond.methodLink q.1.cls idx x ∈ lw_tbl) (hd : decode q.2.1 pc = .ok (.invokevirtual idx, 3)) : RtE q pc g q' n := by
  obtain ⟨-, C, owner, h1, h2, h3, h4, h5, h6, h7, h8⟩ := h
  exact ⟨idx, C, h1, hd, h2, Or.inr ⟨x, owner, h3, hl, h4, h5, h6, h7, h8⟩⟩
theorem pr3 {mi : Nat → MI} {q q' : MI} {pc n aw g m' : Nat} (hm : mi m' = q') (h : CalF q') (hr : RtE q pc g q' n) (h1 : Nat.ble (q'.2.2.2.2.2 + 1) q.2.2.2.2.2 = true) (h2 : Nat.ble aw q'.2.2.1 = true) : Cal q (mi m') aw ∧ RtE q pc g (mi m') n := by
  subst hm
  exact ⟨h.cal h1 h2, hr⟩
/-- pairs of kind and method -/
def Prs (mi : Nat → MI) (P : Nat → MI → Prop) : List Nat → Prop
  | kd :: m' :: t => P kd (mi m') ∧ Prs mi P t
  | _ => True
theorem Prs.at {mi : Nat → MI} {P : Nat → MI → Prop} : ∀ (ts : List Nat), Prs mi P ts → ∀ (i kd m' : Nat), ts[2 * i]? = some kd → ts[2 * i + 1]? = some m' → P kd (mi m')
  | [], _, i, _, _, h, _ => absurd h (by simp)
  | [_], _, i, _, _, _, h => absurd h (by simp)
  | a :: b :: t, h, 0, kd, m', h1, h2 => by
    simp at h1 h2
    subst h1; subst h2
    exact h.1
  | a :: b :: t, h, i + 1, kd, m', h1, h2 => by
    refine Prs.at t h.2 i kd m' ?_ ?_
    · rw [show 2 * (i + 1) = 2 * i + 1 + 1 by omega] at h1; simpa using h1
    · rw [show 2 * (i + 1) + 1 = 2 * i + 1 + 1 + 1 by omega] at h2; simpa using h2
theorem pr1 {mi : Nat → MI} {q q' : MI} {pc n aw kd m' : Nat} (hm : mi m' = q') (h : CalF q') (hr : RtV q pc kd q' n) (h1 : Nat.ble (q'.2.2.2.2.2 + 1) q.2.2.2.2.2 = true) (h2 : Nat.ble aw q'.2.2.1 = true) : Cal q (mi m') aw ∧ RtV q pc kd (mi m') n := by
  subst hm
  exact ⟨h.cal h1 h2, hr⟩
theorem pr2 {mi : Nat → MI} {q q' : MI} {pc n aw kd m' : Nat} (hm : mi m' = q') (h : CalF q') (hr : RtF q pc kd q' n) (h1 : Nat.ble (q'.2.2.2.2.2 + 1) q.2.2.2.2.2 = true) (h2 : Nat.ble aw q'.2.2.1 = true) : Cal q (mi m') aw ∧ RtF q pc kd (mi m') n := by
  subst hm
  exact ⟨h.cal h1 h2, hr⟩
theorem mk31 {mi : Nat → MI} {q : MI} {pc rt n aw : Nat} {ts : List Nat} (h : Prs mi (fun kd q' => Cal q q' aw ∧ RtE q pc kd q' n) ts) : ok31 mi q pc 3 (rt :: (n + 1) :: aw :: ts) := ⟨rt, n, aw, ts, rfl, rfl, fun i kd m' a b => Prs.at ts h i kd m' a b⟩
theorem mk35 {mi : Nat → MI} {q : MI} {pc rt n aw : Nat} {ts : List Nat} (h : Prs mi (fun kd q' => Cal q q' aw ∧ RtF q pc kd q' n) ts) : ok35 mi q pc 5 (rt :: (n + 1) :: aw :: ts) := ⟨rt, n, aw, ts, rfl, rfl, fun i kd m' a b => Prs.at ts h i kd m' a b⟩
/-- by an interface -/
def IfF (q' : MI) (x : MethodName) (kd n : Nat) : Prop := CalF q' ∧ ∃ C : String, KN kd C ∧ (∃ bytes ret, miW q' = Cond.code q'.1 bytes q'.2.2.1 ret) ∧ Cond.declares x ∈ lw_tbl ∧ Cond.interfaceMethod x.cls x.cls x.name x.desc ∈ lw_tbl ∧ (Cond.selects C x q'.1 ∈ lw_tbl ∨ x = q'.1 ∧ (C, x) ∈ ldT) ∧ Cond.instanceMethod q'.1 ∈ lw_tbl ∧ Cond.publicMethod q'.1 ∈ lw_tbl ∧ Cond.unhidden C x.name x.desc ∈ lw_tbl ∧ Cond.castable C x.cls ∈ lw_tbl ∧ okY x ∧ dN x n
theorem IfF.rt {q q' : MI} {x : MethodName} {kd n pc idx cnt : Nat} (h : IfF q' x kd n) (hl : Cond.methodLink q.1.cls idx x ∈ lw_tbl) (hd : decode q.2.1 pc = .ok (.invokeinterface idx cnt, 5)) : RtF q pc kd q' n := by
  obtain ⟨-, C, h1, h2, h3, h4, h5, h6, h7, h8, h9, h10, h11⟩ := h
  exact ⟨idx, cnt, C, x, h1, hd, h2, hl, h3, h4, h5, h6, h7, h8, h9, h10, h11⟩
theorem mk34 {mi : Nat → MI} {q q' : MI} {pc rt n aw kd m' : Nat} (hm : mi m' = q') (h : CalF q') (hr : RtF q pc kd q' n) (h1 : Nat.ble (q'.2.2.2.2.2 + 1) q.2.2.2.2.2 = true) (h2 : Nat.ble aw q'.2.2.1 = true) : ok34 mi q pc 5 [rt, n + 1, aw, kd, m'] := by
  subst hm
  exact ⟨rt, n, aw, kd, m', rfl, rfl, h.cal h1 h2, hr⟩
/-- a constructor; a superclass' method -/
def IcF (q' : MI) (n : Nat) : Prop := CalF q' ∧ dN q'.1 n ∧ Cond.instanceMethod q'.1 ∈ lw_tbl ∧ q'.1.name = "<init>" ∧ okY q'.1 ∧ ∃ bytes, miW q' = Cond.code q'.1 bytes q'.2.2.1 none
theorem IcF.rt {q q' : MI} {kd n pc idx : Nat} (h : IcF q' n) (hl : Cond.methodLink q.1.cls idx q'.1 ∈ lw_tbl ∨ ∃ host, Cond.methodLinkNest q.1.cls idx q'.1 host ∈ lw_tbl) (hd : decode q.2.1 pc = .ok (.invokespecial idx, 3)) : RtI q pc kd q' n := ⟨idx, hd, h.2.1, h.2.2.1, Or.inl ⟨hl, h.2.2.2.1, h.2.2.2.2.1, h.2.2.2.2.2⟩⟩
def SuF (q' : MI) (own : String) (kd n : Nat) : Prop := CalF q' ∧ dN q'.1 n ∧ Cond.instanceMethod q'.1 ∈ lw_tbl ∧ ∃ C, KN kd C ∧ (∃ bytes ret, miW q' = Cond.code q'.1 bytes q'.2.2.1 ret) ∧ Cond.sameMethod q'.1.cls q'.1.cls q'.1.name q'.1.desc ∈ lw_tbl ∧ Cond.superclass own q'.1.cls ∈ lw_tbl ∧ q'.1.name ≠ "<init>"
theorem SuF.rt {q q' : MI} {kd n pc idx : Nat} (h : SuF q' q.1.cls kd n) (hl : Cond.methodLink q.1.cls idx q'.1 ∈ lw_tbl) (hd : decode q.2.1 pc = .ok (.invokespecial idx, 3)) : RtI q pc kd q' n := by
  obtain ⟨-, h1, h2, C, h3, h4, h5, h6, h7⟩ := h
  exact ⟨idx, hd, h1, h2, Or.inr ⟨C, h3, h4, hl, h5, h6, h7⟩⟩
theorem mk36 {mi : Nat → MI} {q q' : MI} {pc rt n aw kd m' : Nat} (hm : mi m' = q') (h : CalF q') (hr : RtI q pc kd q' n) (h1 : Nat.ble (q'.2.2.2.2.2 + 1) q.2.2.2.2.2 = true) (h2 : Nat.ble aw q'.2.2.1 = true) : ok36 mi q pc 3 [rt, n + 1, aw, kd, m'] := by
  subst hm
  exact ⟨rt, n, aw, kd, m', rfl, rfl, h.cal h1 h2, hr⟩
theorem mk37 {mi : Nat → MI} {q q' : MI} {pc rt n aw kd c2 m' : Nat} (hm : mi m' = q') (h : CalF q') (hr : RtI q pc kd q' n) (h1 : Nat.ble (q'.2.2.2.2.2 + 1) q.2.2.2.2.2 = true) (h2 : Nat.ble aw q'.2.2.1 = true) : ok37 mi q pc 3 [rt, n + 1, aw, m', c2, kd] := by
  subst hm
  exact ⟨rt, n, aw, m', c2, kd, rfl, rfl, h.cal h1 h2, hr⟩
theorem mk22 {q : MI} {pc idx : Nat} (hr : 1 ≤ q.2.2.2.2.2) (hl : Cond.methodLink q.1.cls idx Lib.objectInit ∈ lw_tbl) (hw : Cond.instanceMethod Lib.objectInit ∈ lw_tbl ∧ Cond.code Lib.objectInit ⟨#[0xb1]⟩ 1 none ∈ lw_tbl) (hd : decode q.2.1 pc = .ok (.invokespecial idx, 3)) : ok22 q pc 3 := ⟨idx, rfl, hr, hl, hw.1, hw.2, hd⟩
/-- handlers: pairs of exception and block -/
theorem mk23 {mi : Nat → MI} {iT : XT} {q q' : MI} {bp : Nat → Nat} {pc rt n aw m' c2 kd k9 : Nat} {hs : List Nat} (hm : mi m' = q') (h : CalF q') (hr : RtV q pc kd q' n) (h1 : Nat.ble (q'.2.2.2.2.2 + 1) q.2.2.2.2.2 = true) (h2 : Nat.ble aw q'.2.2.1 = true) (hh : ∀ i E b : Nat, hs[2 * i]? = some E → hs[2 * i + 1]? = some b → Hnd q iT.2 pc E k9 (bp b)) : ok23 mi iT q bp pc 3 (rt :: (n + 1) :: aw :: m' :: c2 :: kd :: k9 :: hs) := by
  subst hm
  exact ⟨rt, n, aw, m', c2, kd, k9, hs, rfl, rfl, h.cal h1 h2, hr, fun i E b a1 a2 _ => hh i E b a1 a2⟩
/-- those entries that words speak for -/
def FB (mi : Nat → MI) (iT : XT) (q : MI) (bp : Nat → Nat) : List Ent → Prop
  | [] => True
  | e :: t => ((skE e.2.2.1 e.2.1 = false → decode q.2.1 e.1 = .ok (e.2.2.2.1, e.2.1)) → OKe mi iT q bp e) ∧ FB mi iT q bp t
theorem FB_app {mi : Nat → MI} {iT : XT} {q : MI} {bp : Nat → Nat} : ∀ {a b : List Ent}, FB mi iT q bp a → FB mi iT q bp b → FB mi iT q bp (a ++ b)
  | [], _, _, h => h
  | _ :: _, _, h, h2 => ⟨h.1, FB_app h.2 h2⟩
theorem FB_FA {mi : Nat → MI} {iT : XT} {q : MI} {bp : Nat → Nat} : ∀ (es : List Ent), FB mi iT q bp (es.filter fun e => ndE e.2.2.1) → FA mi iT q bp es
  | [], _ => trivial
  | e :: t, h => by
    unfold FA
    split
    · next q9 =>
      rw [List.filter_cons_of_pos (p := fun e : Ent => ndE e.2.2.1) q9] at h
      exact ⟨h.1, FB_FA t h.2⟩
    · next q9 =>
      rw [List.filter_cons_of_neg (p := fun e : Ent => ndE e.2.2.1) (by rw [q9]; simp)] at h
      exact FB_FA t h
def eqEs : List Ent → List Ent → Bool
  | [], [] => true
  | (a, b, c, i, r, n) :: t, (a', b', c', i', r', n') :: t' => Nat.beq a a' && (Nat.beq b b' && (Nat.beq c c' && (decide (i = i') && (decide (r = r') && (decide (n = n') && eqEs t t')))))
  | _, _ => false
theorem eqEs_ok : ∀ {x y : List Ent}, eqEs x y = true → x = y
  | [], [], _ => rfl
  | [], _ :: _, h => by cases h
  | _ :: _, [], h => by cases h
  | (a, b, c, i, r, n) :: t, (a', b', c', i', r', n') :: t', h => by
    simp only [eqEs, Bool.and_eq_true, decide_eq_true_eq] at h
    obtain ⟨h1, h2, h3, rfl, rfl, rfl, h4⟩ := h
    rw [Nat.eq_of_beq_eq_true h1, Nat.eq_of_beq_eq_true h2, Nat.eq_of_beq_eq_true h3, eqEs_ok h4]
theorem FA_of {mi : Nat → MI} {iT : XT} {q : MI} {bp : Nat → Nat} {code : Code_} {es : List Ent} (h : eqEs ((flat code).filter fun e => ndE e.2.2.1) es = true) (hb : FB mi iT q bp es) : FA mi iT q bp (flat code) := FB_FA _ (by rw [eqEs_ok h]; exact hb)
