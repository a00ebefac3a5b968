/-! ===== the start: all that is known of it (printed by emit_start2.py) ===== -/
set_option maxRecDepth 100000
theorem kinst9 : ∀ q ∈ kCl, ∃ n, Cond.instantiable q.1 n ∈ lw_tbl := List.forall_mem_cons.mpr ⟨⟨_, W204⟩, List.forall_mem_cons.mpr ⟨⟨_, W204⟩, List.forall_mem_cons.mpr ⟨⟨_, W212⟩, List.forall_mem_cons.mpr ⟨⟨_, W222⟩, List.forall_mem_cons.mpr ⟨⟨_, W241⟩, List.forall_mem_cons.mpr ⟨⟨_, W247⟩, List.forall_mem_cons.mpr ⟨⟨_, W289⟩, List.forall_mem_cons.mpr ⟨⟨_, W304⟩, List.forall_mem_cons.mpr ⟨⟨_, W340⟩, List.forall_mem_cons.mpr ⟨⟨_, W356⟩, List.forall_mem_cons.mpr ⟨⟨_, W364⟩, List.forall_mem_cons.mpr ⟨⟨_, W476⟩, List.forall_mem_cons.mpr ⟨⟨_, W619⟩, List.forall_mem_cons.mpr ⟨⟨_, W635⟩, List.forall_mem_cons.mpr ⟨⟨_, W735⟩, List.forall_mem_cons.mpr ⟨⟨_, W1143⟩, List.forall_mem_cons.mpr ⟨⟨_, W1257⟩, List.forall_mem_cons.mpr ⟨⟨_, W1287⟩, List.forall_mem_cons.mpr ⟨⟨_, W1368⟩, List.forall_mem_cons.mpr ⟨⟨_, W1411⟩, List.forall_mem_cons.mpr ⟨⟨_, W1695⟩, List.forall_mem_cons.mpr ⟨⟨_, W1742⟩, List.forall_mem_cons.mpr ⟨⟨_, W1811⟩, List.forall_mem_cons.mpr ⟨⟨_, W2073⟩, List.forall_mem_cons.mpr ⟨⟨_, W2123⟩, List.forall_mem_cons.mpr ⟨⟨_, W2142⟩, List.forall_mem_cons.mpr ⟨⟨_, W2638⟩, List.forall_mem_cons.mpr ⟨⟨_, W2797⟩, List.forall_mem_cons.mpr ⟨⟨_, W2886⟩, List.forall_mem_cons.mpr ⟨⟨_, W2953⟩, List.forall_mem_cons.mpr ⟨⟨_, W3064⟩, List.forall_mem_cons.mpr ⟨⟨_, W3104⟩, List.forall_mem_cons.mpr ⟨⟨_, W3558⟩, List.forall_mem_cons.mpr ⟨⟨_, W3667⟩, List.forall_mem_cons.mpr ⟨⟨_, W3791⟩, List.forall_mem_cons.mpr ⟨⟨_, W3826⟩, List.forall_mem_cons.mpr ⟨⟨_, W3928⟩, List.forall_mem_cons.mpr ⟨⟨_, W4274⟩, List.forall_mem_cons.mpr ⟨⟨_, W4366⟩, List.forall_mem_cons.mpr ⟨⟨_, W5104⟩, List.forall_mem_cons.mpr ⟨⟨_, W5431⟩, fun _ h => absurd h List.not_mem_nil⟩⟩⟩⟩⟩⟩⟩⟩⟩⟩⟩⟩⟩⟩⟩⟩⟩⟩⟩⟩⟩⟩⟩⟩⟩⟩⟩⟩⟩⟩⟩⟩⟩⟩⟩⟩⟩⟩⟩⟩⟩
theorem kNd_ck : ((List.range 41).all fun k => match kCl[k]? with | some q => decide (kNd k = q.1) && (Nat.beq (kFl.getD k []).length q.2.2 && (List.range q.2.2).all fun i => (List.range q.2.2).all fun j => Nat.beq i j || !(decide ((q.2.1 i).2.1 = (q.2.1 j).2.1))) | none => false) = true := by decide +kernel
theorem kNd_at {k : Nat} {q : vw_C} (h : kCl[k]? = some q) : kNd k = q.1 ∧ (kFl.getD k []).length = q.2.2 ∧ ∀ i, i < q.2.2 → ∀ j, j < q.2.2 → i ≠ j → (q.2.1 i).2.1 ≠ (q.2.1 j).2.1 := by
  have hk : k < 41 := (List.getElem?_eq_some_iff.mp h).1
  have h1 := List.all_eq_true.mp kNd_ck k (List.mem_range.mpr hk)
  rw [h] at h1
  simp only [Bool.and_eq_true, decide_eq_true_eq] at h1
  refine ⟨h1.1, Nat.eq_of_beq_eq_true h1.2.1, fun i hi j hj hij e => ?_⟩
  have h2 := List.all_eq_true.mp (List.all_eq_true.mp h1.2.2 i (List.mem_range.mpr hi)) j (List.mem_range.mpr hj)
  simp only [Bool.or_eq_true] at h2
  rcases h2 with h2 | h2
  · exact hij (Nat.eq_of_beq_eq_true h2)
  · rw [e] at h2; simp at h2
section STK
variable {args : Array Value} {s : State} {sl : Nat → Nat → Nat}
theorem kn_all (hts : ∀ w ∈ lw_tbl, w.before args s = true) : ∀ k : Nat, ∃ iS : Nat → Nat, ∀ q : vw_C, kCl[k]? = some q → u_Kn s q.1 q.2.1 q.2.2 (cid s q.1) iS := by
  intro k
  cases hq : kCl[k]? with
  | none => exact ⟨fun _ => 0, fun q h => by cases h⟩
  | some q =>
    obtain ⟨n, hn⟩ := kinst9 q (List.mem_of_getElem? hq)
    obtain ⟨cC, iS, h⟩ := u_known hts (fun w hw => (kin_all q (List.mem_of_getElem? hq) w hw).1) (hts _ hn)
    refine ⟨iS, fun q' h' => ?_⟩
    cases h'
    rw [cid_eq h.2.1]
    exact h
theorem arr_of {c : Nat} {ty : FieldType} {k : Class} {comp : ClassId} (h2 : s.vm.classes[c]? = some k) (h3 : k.kind = .array comp ty) : ArrOfT s c ty := fun n z => ⟨fun q h => (by cases h), k, h2, comp, h3⟩
theorem ab_prim {ty : FieldType} (h : (Cond.arrayClass ty).before args s = true) : ∃ c, s.vm.findClass ("[" ++ ty.toString) = some c ∧ ArrOfT s c ty := by
  obtain ⟨c, k, comp, h1, h2, h3⟩ := Cond.arrayClass_spec h
  exact ⟨c, h1, arr_of h2 h3⟩
theorem ab_obj {C : String} (h : (Cond.arrayOver (.object C)).before args s = true) : ∃ c, s.vm.findClass ("[" ++ (FieldType.object C).toString) = some c ∧ ArrOfT s c (.object C) ∧ va_RA s c (.object C) := by
  obtain ⟨comp, c, k, h1, -, h3, h4, h5⟩ := Cond.arrayOver_spec h
  exact ⟨c, h5, arr_of h3 h4, k, comp, h3, h4, h1, h5⟩
theorem ab_arr (h : (Cond.arrayOver (.array .int)).before args s = true) : ∃ c, s.vm.findClass ("[" ++ (FieldType.array .int).toString) = some c ∧ ArrOfT s c (.array .int) ∧ va_RA s c (.array .int) := by
  obtain ⟨comp, c, k, h1, -, h3, h4, h5⟩ := arrayOverA_spec h
  exact ⟨c, h5, arr_of h3 h4, h5⟩
theorem ab_all (hts : ∀ w ∈ lw_tbl, w.before args s = true) : ∀ (i : Nat) (ty : FieldType), kAr[i]? = some ty → ∃ c, s.vm.findClass ("[" ++ ty.toString) = some c ∧ ArrOfT s c ty ∧ va_RA s c ty
  | 0, _, h => by cases h; obtain ⟨c, h1, h2⟩ := ab_prim (hts _ W239); exact ⟨c, h1, h2, h1⟩
  | 1, _, h => by cases h; obtain ⟨c, h1, h2⟩ := ab_prim (hts _ W1970); exact ⟨c, h1, h2, h1⟩
  | 2, _, h => by cases h; obtain ⟨c, h1, h2⟩ := ab_prim (hts _ W736); exact ⟨c, h1, h2, h1⟩
  | 3, _, h => by cases h; obtain ⟨c, h1, h2⟩ := ab_prim (hts _ W1932); exact ⟨c, h1, h2, h1⟩
  | 4, _, h => by cases h; exact ab_obj (hts _ W295)
  | 5, _, h => by cases h; exact ab_obj (hts _ W1938)
  | 6, _, h => by cases h; exact ab_obj (hts _ W1942)
  | 7, _, h => by cases h; exact ab_obj (hts _ W1986)
  | 8, _, h => by cases h; exact ab_obj (hts _ W2141)
  | 9, _, h => by cases h; exact ab_arr (hts _ W4375)
  | 10, _, h => by cases h; exact ab_obj (hts _ W5604)
  | 11, _, h => by cases h; exact ab_obj (hts _ W2501)
  | n + 12, _, h => absurd (kAr_lt h) (by omega)
theorem elT_i {i : Nat} {ty : FieldType} (h : kAr[i]? = some ty) : elT (100 + i) = ty := by
  unfold elT
  rw [Nat.add_sub_cancel_left, List.getD_eq_getElem?_getD, h]
  rfl
theorem k0_start (hts : ∀ w ∈ lw_tbl, w.before args s = true) (hsl : ∀ k q, kCl[k]? = some q → u_Kn s q.1 q.2.1 q.2.2 (cid s q.1) (sl k)) : K0 (gh s sl) s := by
  refine ⟨fun w hw hs A => stW_any hs (hts w hw), fun k q hq => ?_, fun q hq => absurd hq List.not_mem_nil, fun i ty hi => ?_⟩
  · show u_Kn s q.1 q.2.1 q.2.2 (cid s (kNd k)) (sl k)
    rw [(kNd_at hq).1]
    exact hsl k q hq
  · obtain ⟨c, h1, h2, h3⟩ := ab_all hts i ty hi
    have hlt := kAr_lt hi
    have he := elT_i hi
    have e1 : cid s (arN (100 + i)) = c := by unfold arN; rw [he]; exact cid_eq h1
    refine ⟨fun n => ?_, ?_⟩
    · have := gh_any (sl := sl) (k := 100 + i) (n := n) (s := s) (by omega) (by rw [e1, he]; exact h2)
      rw [he] at this
      exact this
    · rw [gh_own (by omega), e1]
      exact h3
theorem kok_start (hts : ∀ w ∈ lw_tbl, w.before args s = true) (hsl : ∀ k q, kCl[k]? = some q → u_Kn s q.1 q.2.1 q.2.2 (cid s q.1) (sl k)) : kOK (gh s sl) := by
  intro k i j q q' h1 h2 hij
  refine ⟨kFl_nd h1 h2 hij, ?_⟩
  show sl k i ≠ sl k j
  cases hq : kCl[k]? with
  | none =>
    have hk : 41 ≤ k := by
      rcases Nat.lt_or_ge k 41 with h | h
      · rw [List.getElem?_eq_getElem (show k < kCl.length from h)] at hq; cases hq
      · exact h
    rw [List.getD_eq_getElem?_getD, List.getElem?_eq_none (show kFl.length ≤ k from hk)] at h1
    cases h1
  | some c =>
    obtain ⟨-, hl, hnm⟩ := kNd_at hq
    have hi := (List.getElem?_eq_some_iff.mp h1).1
    have hj := (List.getElem?_eq_some_iff.mp h2).1
    rw [hl] at hi hj
    obtain ⟨hS, -⟩ := hsl k c hq
    obtain ⟨_, _, _, fa, hia, ea⟩ := hS i hi
    obtain ⟨_, _, _, fb, hib, eb⟩ := hS j hj
    rw [← ea, ← eb]
    have hin : ∀ w ∈ u_ws c.1 c.2.1 c.2.2, w ∈ lw_tbl := fun w hw => (kin_all c (List.mem_of_getElem? hq) w hw).1
    refine u_apart (u_lays hts hin hi) (u_lays hts hin hj) hia hib ?_
    obtain ⟨ty, f, t1, -⟩ := kTy_ok k c hq i hi
    obtain ⟨ty', f', t1', -⟩ := kTy_ok k c hq j hj
    rw [(State.fieldFound?_type hia t1).1, (State.fieldFound?_type hib t1').1]
    exact hnm i hi j hj hij
theorem nz_start (hts : ∀ w ∈ lw_tbl, w.before args s = true) (hn : (Cond.and given_1 narrow_1).before args s = true) (hA : ∀ a : Nat, a < s.heap.size → ¬ hbA (gh s sl) a) : NZ (gh s sl) iT s s.heap := List.forall_mem_cons.mpr ⟨va_Zof (hts _ W1529) (hts _ W192) (va_eqi (nar_of hn (ws := [Cond.eq (.static "java/lang/StrictMath" "$assertionsDisabled" "Z") (.int 1)]) (by decide +kernel) _ List.mem_cons_self)) hA, List.forall_mem_cons.mpr ⟨va_Zof (hts _ W1848) (hts _ W153) (va_eqi (nar_of hn (ws := [Cond.eq (.static "java/lang/String" "COMPACT_STRINGS" "Z") (.int 1)]) (by decide +kernel) _ List.mem_cons_self)) hA, List.forall_mem_cons.mpr ⟨va_Zof (hts _ W1872) (hts _ W156) (va_eqi (nar_of hn (ws := [Cond.eq (.static "java/lang/StringUTF16" "$assertionsDisabled" "Z") (.int 1)]) (by decide +kernel) _ List.mem_cons_self)) hA, List.forall_mem_cons.mpr ⟨va_Zof (hts _ W1874) (hts _ W156) (va_eqi (nar_of hn (ws := [Cond.eq (.static "java/lang/StringUTF16" "HI_BYTE_SHIFT" "I") (.int 0)]) (by decide +kernel) _ List.mem_cons_self)) hA, List.forall_mem_cons.mpr ⟨va_Zof (hts _ W1876) (hts _ W156) (va_eqi (nar_of hn (ws := [Cond.eq (.static "java/lang/StringUTF16" "LO_BYTE_SHIFT" "I") (.int 8)]) (by decide +kernel) _ List.mem_cons_self)) hA, List.forall_mem_cons.mpr ⟨va_Zof (hts _ W1429) (hts _ W171) (va_eql (nar_of hn (ws := [Cond.eq (.static "java/lang/Math" "negativeZeroDoubleBits" "J") (.long (-9223372036854775808))]) (by decide +kernel) _ List.mem_cons_self)) hA, fun _ h => absurd h List.not_mem_nil⟩⟩⟩⟩⟩⟩
theorem nc_start (hn : (Cond.and given_1 narrow_1).before args s = true) : ∀ z ∈ iT.2, va_Nc z.1 z.2 s := List.forall_mem_cons.mpr ⟨va_Nc.of (args := args) (nar_of hn (ws := [Cond.not (.castable "java/lang/IllegalArgumentException" "java/lang/IllegalStateException")]) (by decide +kernel) _ List.mem_cons_self), List.forall_mem_cons.mpr ⟨va_Nc.of (args := args) (nar_of hn (ws := [Cond.not (.castable "java/lang/IllegalArgumentException" "java/lang/IndexOutOfBoundsException")]) (by decide +kernel) _ List.mem_cons_self), List.forall_mem_cons.mpr ⟨va_Nc.of (args := args) (nar_of hn (ws := [Cond.not (.castable "java/lang/IllegalArgumentException" "java/lang/IllegalMonitorStateException")]) (by decide +kernel) _ List.mem_cons_self), List.forall_mem_cons.mpr ⟨va_Nc.of (args := args) (nar_of hn (ws := [Cond.not (.castable "java/lang/IllegalStateException" "java/lang/IllegalArgumentException")]) (by decide +kernel) _ List.mem_cons_self), List.forall_mem_cons.mpr ⟨va_Nc.of (args := args) (nar_of hn (ws := [Cond.not (.castable "java/lang/IllegalStateException" "java/lang/IndexOutOfBoundsException")]) (by decide +kernel) _ List.mem_cons_self), List.forall_mem_cons.mpr ⟨va_Nc.of (args := args) (nar_of hn (ws := [Cond.not (.castable "java/lang/IllegalStateException" "java/lang/IllegalMonitorStateException")]) (by decide +kernel) _ List.mem_cons_self), List.forall_mem_cons.mpr ⟨va_Nc.of (args := args) (nar_of hn (ws := [Cond.not (.castable "java/lang/IndexOutOfBoundsException" "java/lang/IllegalArgumentException")]) (by decide +kernel) _ List.mem_cons_self), List.forall_mem_cons.mpr ⟨va_Nc.of (args := args) (nar_of hn (ws := [Cond.not (.castable "java/lang/IndexOutOfBoundsException" "java/lang/IllegalStateException")]) (by decide +kernel) _ List.mem_cons_self), List.forall_mem_cons.mpr ⟨va_Nc.of (args := args) (nar_of hn (ws := [Cond.not (.castable "java/lang/IndexOutOfBoundsException" "java/lang/IllegalMonitorStateException")]) (by decide +kernel) _ List.mem_cons_self), List.forall_mem_cons.mpr ⟨va_Nc.of (args := args) (nar_of hn (ws := [Cond.not (.castable "java/lang/IllegalMonitorStateException" "java/lang/IllegalArgumentException")]) (by decide +kernel) _ List.mem_cons_self), List.forall_mem_cons.mpr ⟨va_Nc.of (args := args) (nar_of hn (ws := [Cond.not (.castable "java/lang/IllegalMonitorStateException" "java/lang/IllegalStateException")]) (by decide +kernel) _ List.mem_cons_self), List.forall_mem_cons.mpr ⟨va_Nc.of (args := args) (nar_of hn (ws := [Cond.not (.castable "java/lang/IllegalMonitorStateException" "java/lang/IndexOutOfBoundsException")]) (by decide +kernel) _ List.mem_cons_self), fun _ h => absurd h List.not_mem_nil⟩⟩⟩⟩⟩⟩⟩⟩⟩⟩⟩⟩
theorem ld_start (hn : (Cond.and given_1 narrow_1).before args s = true) : LDs s := List.forall_mem_cons.mpr ⟨fun A => nar_of hn (ws := [Cond.landsInDefault "KeelHouse$Engine" ⟨"KeelHouse$Load", "side", "()D"⟩ ⟨"KeelHouse$Load", "side", "()D"⟩]) (by decide +kernel) _ List.mem_cons_self, List.forall_mem_cons.mpr ⟨fun A => nar_of hn (ws := [Cond.landsInDefault "KeelHouse$Plates" ⟨"KeelHouse$Load", "side", "()D"⟩ ⟨"KeelHouse$Load", "side", "()D"⟩]) (by decide +kernel) _ List.mem_cons_self, List.forall_mem_cons.mpr ⟨fun A => nar_of hn (ws := [Cond.landsInDefault "KeelHouse$Tank" ⟨"KeelHouse$Load", "side", "()D"⟩ ⟨"KeelHouse$Load", "side", "()D"⟩]) (by decide +kernel) _ List.mem_cons_self, fun _ h => absurd h List.not_mem_nil⟩⟩⟩
theorem tz_start (hts : ∀ w ∈ lw_tbl, w.before args s = true) (hn : (Cond.and given_1 narrow_1).before args s = true) (hA : ∀ a : Nat, a < s.heap.size → ¬ hbA (gh s sl) a) : TZ (gh s sl) s s.heap :=
  ⟨vx_Zqof (hts _ W683) (hts _ W144) (nar_of hn (ws := [Cond.isRef (.static "java/lang/Throwable" "UNASSIGNED_STACK" "[Ljava/lang/StackTraceElement;")]) (by decide +kernel) _ List.mem_cons_self) hA,
   vx_Zqof (hts _ W685) (hts _ W144) (nar_of hn (ws := [Cond.isRef (.static "java/lang/Throwable" "SUPPRESSED_SENTINEL" "Ljava/util/List;")]) (by decide +kernel) _ List.mem_cons_self) hA⟩
theorem mi_start (hn : (Cond.and given_1 narrow_1).before args s = true) : ∀ (g : Nat) (C : String), gTb[g]? = some (2, C, "", "") → ∃ a, stG args s g = some a ∧ va_Mi C a s
  | 0, _, h => by cases h
  | 1, _, h => by cases h
  | 2, _, h => by cases h
  | 3, _, h => by cases h
  | 4, _, h => by cases h
  | 5, _, h => by cases h
  | 6, _, h => by cases h
  | 7, _, h => by
    cases h
    obtain ⟨v, hv, -⟩ := Cond.isRef_spec (nar_of hn (ws := [Cond.isRef (.mirror "[Ljava/lang/Object;")]) (by decide +kernel) _ List.mem_cons_self)
    obtain ⟨c, k, a, h1, h2, h3, rfl⟩ := Term.mirror_spec hv
    refine ⟨a, ?_, c, k, h1, h2, h3⟩
    show vRef ((Term.mirror "[Ljava/lang/Object;").eval args s none [] s) = some a
    rw [show (Term.mirror "[Ljava/lang/Object;").eval args s none [] s = some (.ref a) from hv]
    rfl
  | 8, _, h => by cases h
  | 9, _, h => by cases h
  | 10, _, h => by cases h
  | 11, _, h => by cases h
  | 12, _, h => by cases h
  | 13, _, h => by cases h
  | 14, _, h => by cases h
  | 15, _, h => by cases h
  | 16, _, h => by cases h
  | 17, _, h => by cases h
  | 18, _, h => by cases h
  | 19, _, h => by cases h
  | 20, _, h => by cases h
  | 21, _, h => by cases h
  | 22, _, h => by cases h
  | 23, _, h => by cases h
  | 24, _, h => by cases h
  | 25, _, h => by cases h
  | 26, _, h => by cases h
  | 27, _, h => by cases h
  | 28, _, h => by cases h
  | 29, _, h => by cases h
  | 30, _, h => by cases h
  | 31, _, h => by cases h
  | 32, _, h => by cases h
  | 33, _, h => by cases h
  | 34, _, h => by cases h
  | 35, _, h => by cases h
  | 36, _, h => by cases h
  | 37, _, h => by cases h
  | 38, _, h => by cases h
  | 39, _, h => by cases h
  | 40, _, h => by cases h
  | 41, _, h => by cases h
  | 42, _, h => by cases h
  | 43, _, h => by cases h
  | 44, _, h => by cases h
  | 45, _, h => by cases h
  | 46, _, h => by cases h
  | 47, _, h => by cases h
  | 48, _, h => by cases h
  | 49, _, h => by cases h
  | 50, _, h => by cases h
  | 51, _, h => by cases h
  | 52, _, h => by cases h
  | 53, _, h => by cases h
  | 54, _, h => by cases h
  | 55, _, h => by cases h
  | 56, _, h => by cases h
  | 57, _, h => by cases h
  | 58, _, h => by cases h
  | 59, _, h => by cases h
  | 60, _, h => by cases h
  | 61, _, h => by cases h
  | 62, _, h => by cases h
  | 63, _, h => by cases h
  | 64, _, h => by cases h
  | 65, _, h => by cases h
  | 66, _, h => by cases h
  | 67, _, h => by cases h
  | 68, _, h => by cases h
  | 69, _, h => by cases h
  | n + 70, _, h => by rw [List.getElem?_eq_none (by show 70 ≤ n + 70; omega)] at h; cases h
theorem sk_start (hts : ∀ w ∈ lw_tbl, w.before args s = true) (hn : (Cond.and given_1 narrow_1).before args s = true) (hsl : ∀ k q, kCl[k]? = some q → u_Kn s q.1 q.2.1 q.2.2 (cid s q.1) (sl k)) : SK (gh s sl) (stG args s) iT s := by
  have hA : ∀ a : Nat, a < s.heap.size → ¬ hbA (gh s sl) a := fun a h h2 => absurd (show s.heap.size ≤ a from h2) (by omega)
  refine ⟨k0_start hts hsl, ⟨fun C hC => va_AO.of (hts _ hC), ?_⟩, ⟨zs_all hts hn hA, tg_all (sl := sl) hts hn hA, mi_start hn, en_all hn hA⟩, tz_start hts hn hA, nz_start hts hn hA, Nat.le_refl _, nc_start hn, ld_start hn⟩
  exact hts _ W4375
end STK
