/-! ===== what the statement gives of the start (printed by emit_start.py) ===== -/
set_option maxRecDepth 100000
/-- 'Index: ' -/
def ts2 : List Int32 := [73, 110, 100, 101, 120, 58, 32]
/-- ', Size: ' -/
def ts3 : List Int32 := [44, 32, 83, 105, 122, 101, 58, 32]
def tv5 : List Int32 := [48, 49, 50, 51, 52, 53, 54, 55, 56, 57, 48, 49, 50, 51, 52, 53, 54, 55, 56, 57, 48, 49, 50, 51, 52, 53, 54, 55, 56, 57, 48, 49, 50, 51, 52, 53, 54, 55, 56, 57, 48, 49, 50, 51, 52, 53, 54, 55, 56, 57, 48, 49, 50, 51, 52, 53, 54, 55, 56, 57, 48, 49, 50, 51, 52, 53, 54, 55, 56, 57, 48, 49, 50, 51, 52, 53, 54, 55, 56, 57, 48, 49, 50, 51, 52, 53, 54, 55, 56, 57, 48, 49, 50, 51, 52, 53, 54, 55, 56, 57]
def tv6 : List Int32 := [48, 48, 48, 48, 48, 48, 48, 48, 48, 48, 49, 49, 49, 49, 49, 49, 49, 49, 49, 49, 50, 50, 50, 50, 50, 50, 50, 50, 50, 50, 51, 51, 51, 51, 51, 51, 51, 51, 51, 51, 52, 52, 52, 52, 52, 52, 52, 52, 52, 52, 53, 53, 53, 53, 53, 53, 53, 53, 53, 53, 54, 54, 54, 54, 54, 54, 54, 54, 54, 54, 55, 55, 55, 55, 55, 55, 55, 55, 55, 55, 56, 56, 56, 56, 56, 56, 56, 56, 56, 56, 57, 57, 57, 57, 57, 57, 57, 57, 57, 57]
def tv36 : List Int32 := [10, 0, 25, 5, 15, 25]
def tv37 : List Int32 := [0, 6, 10, 12, 10, 6, 0, (-6), (-10), (-12), (-10), (-6)]
def tv38 : List Int32 := [4, 2, (-1), (-3), (-4), (-3), (-1), 2]
def tv39 : List Int32 := [60, 90, 70, 50, 70, 90]
/-- '' -/
def ts40 : List Int32 := []
/-- 'drawn' -/
def ts41 : List Int32 := [100, 114, 97, 119, 110]
/-- 'slip' -/
def ts42 : List Int32 := [115, 108, 105, 112]
/-- 'afloat' -/
def ts43 : List Int32 := [97, 102, 108, 111, 97, 116]
/-- 'ready' -/
def ts44 : List Int32 := [114, 101, 97, 100, 121]
/-- 'lost' -/
def ts45 : List Int32 := [108, 111, 115, 116]
/-- 'sold' -/
def ts46 : List Int32 := [115, 111, 108, 100]
/-- ' ' -/
def ts47 : List Int32 := [32]
/-- ' at ' -/
def ts48 : List Int32 := [32, 97, 116, 32]
/-- ' at sea' -/
def ts49 : List Int32 := [32, 97, 116, 32, 115, 101, 97]
/-- ' at port ' -/
def ts50 : List Int32 := [32, 97, 116, 32, 112, 111, 114, 116, 32]
def tm51 : List (List Int32) := [[8, 8, 8, 8, 8, 8, 8], [3, 6, 8, 8, 8, 6, 2], [1, 4, 7, 8, 6, 3, 0]]
def tm52 : List (List Int32) := [[8, 8, 8, 8, 8], [4, 7, 8, 8, 8], [1, 4, 6, 8, 8]]
def td53 : List UInt64 := [4607182418800017408, 4616189618054758400, 4611686018427387904, 4616189618054758400, 4611686018427387904, 4616189618054758400, 4607182418800017408]
def td54 : List UInt64 := [4581421828931458171, 4591149604126578442, 4595653203753948938, 4598535507515466056, 4600156803381319434, 4602138387217362452, 4603399395113026191, 4604480259023595110, 4605741266919258849, 4607182418800017408]
def tm55 : List (List Int32) := [[0, 0, 0, 0, 0, 0, 0], [4, 1, (-3), (-4), (-3), 1, 4], [(-4), (-1), 3, 4, 3, (-1), (-4)]]
def tv56 : List Int32 := [3, 4, 5, 2]
def tv57 : List Int32 := [0, 1, 4, 7, 10, 13, 16, 2, 5, 8, 11, 14, 17, 20, 3, 6, 9, 12, 15, 18, 19, 21, 22, 23]
/-- '3688862' -/
def ts66 : List Int32 := [51, 54, 56, 56, 56, 54, 50]
/-- '47888' -/
def ts67 : List Int32 := [52, 55, 56, 56, 56]
/-- '1478630' -/
def ts68 : List Int32 := [49, 52, 55, 56, 54, 51, 48]
/-- '14688' -/
def ts69 : List Int32 := [49, 52, 54, 56, 56]
def nar : List Cond := flatC (Cond.and given_1 narrow_1)
def inN (ws : List Cond) : Bool := ws.all fun w => nar.any fun v => decide (v = w)
theorem nar_of {args : Array Value} {s : State} (h : (Cond.and given_1 narrow_1).before args s = true) {ws : List Cond} (hk : inN ws = true) : ∀ w ∈ ws, w.before args s = true := fun w hw => by
  obtain ⟨v, hv, he⟩ := List.any_eq_true.mp (List.all_eq_true.mp hk w hw)
  exact of_decide_eq_true he ▸ flat_of_before _ h v hv
/-- the atoms of a table -/
def tbA (tm : Term) (ty : FieldType) (vs : List Int32) : List Cond := Cond.arrayOf tm ty :: Cond.eq (.length tm) (.int (Int32.ofNat vs.length)) :: (List.range vs.length).map fun j => Cond.eq (.elem tm (.int (Int32.ofNat j))) (.int (vs.getD j 0))
theorem tb_of {args : Array Value} {s : State} {tm : Term} {ty : FieldType} {vs : List Int32} {B : Nat → Prop} (h : (Cond.and given_1 narrow_1).before args s = true) (hk : inN (tbA tm ty vs) = true) (hN : vs.length < 2 ^ 31) (hA : ∀ a : Nat, a < s.heap.size → ¬ B a) : ∃ t : Nat, tm.eval args s none [] s = some (.ref t) ∧ va_T ty t vs.length (fun j => .int (vs.getD j 0)) B s s.heap := by
  have hw := nar_of h hk
  exact va_Tof hN (hw _ List.mem_cons_self) (va_eqt (hw _ (List.mem_cons_of_mem _ List.mem_cons_self))) (fun j hj => va_eqt (hw _ (List.mem_cons_of_mem _ (List.mem_cons_of_mem _ (List.mem_map.mpr ⟨j, List.mem_range.mpr hj, rfl⟩))))) hA
def tbD (tm : Term) (vs : List UInt64) : List Cond := Cond.arrayOf tm .double :: Cond.eq (.length tm) (.int (Int32.ofNat vs.length)) :: (List.range vs.length).map fun j => Cond.eq (.elem tm (.int (Int32.ofNat j))) (.op1 .bitsD (.long (vs.getD j 0).toInt64))
theorem td_ev {args : Array Value} {s : State} {x : UInt64} : (Term.op1 .bitsD (.long x.toInt64)).eval args s none [] s = some (.double x) := by
  show some (Value.double x.toInt64.toUInt64) = _
  rw [UInt64.toUInt64_toInt64]
theorem tbd_of {args : Array Value} {s : State} {tm : Term} {vs : List UInt64} {B : Nat → Prop} (h : (Cond.and given_1 narrow_1).before args s = true) (hk : inN (tbD tm vs) = true) (hN : vs.length < 2 ^ 31) (hA : ∀ a : Nat, a < s.heap.size → ¬ B a) : ∃ t : Nat, tm.eval args s none [] s = some (.ref t) ∧ va_T .double t vs.length (fun j => .double (vs.getD j 0)) B s s.heap := by
  have hw := nar_of h hk
  exact va_Tof hN (hw _ List.mem_cons_self) (va_eqt (hw _ (List.mem_cons_of_mem _ List.mem_cons_self))) (fun j hj => va_eqv (hw _ (List.mem_cons_of_mem _ (List.mem_cons_of_mem _ (List.mem_map.mpr ⟨j, List.mem_range.mpr hj, rfl⟩)))) td_ev) hA
/-- a table of rows -/
def tbM (tm : Term) (rs : List (List Int32)) : List Cond := Cond.arrayOf tm (.array .int) :: Cond.eq (.length tm) (.int (Int32.ofNat rs.length)) :: (List.range rs.length).flatMap fun j => tbA (.elem tm (.int (Int32.ofNat j))) .int (rs.getD j [])
theorem tbm_of {args : Array Value} {s : State} {tm : Term} {rs : List (List Int32)} {B : Nat → Prop} (h : (Cond.and given_1 narrow_1).before args s = true) (hk : inN (tbM tm rs) = true) (hN : rs.length < 2 ^ 31) (hr : ∀ j, (rs.getD j []).length < 2 ^ 31) (hA : ∀ a : Nat, a < s.heap.size → ¬ B a) :
    ∃ (t : Nat) (ts : Nat → Nat), tm.eval args s none [] s = some (.ref t) ∧ va_T (.array .int) t rs.length (fun j => .ref (ts j)) B s s.heap ∧ ∀ j, j < rs.length → va_T .int (ts j) (rs.getD j []).length (fun i => .int ((rs.getD j []).getD i 0)) B s s.heap := by
  have hw := nar_of h hk
  have h1 : ∀ j, ∃ t : Nat, j < rs.length → (Term.elem tm (.int (Int32.ofNat j))).eval args s none [] s = some (.ref t) ∧ va_T .int t (rs.getD j []).length (fun i => .int ((rs.getD j []).getD i 0)) B s s.heap := by
    intro j
    rcases Nat.lt_or_ge j rs.length with hj | hj
    · have hwj : ∀ w ∈ tbA (.elem tm (.int (Int32.ofNat j))) .int (rs.getD j []), w.before args s = true := fun w hw9 => hw w (List.mem_cons_of_mem _ (List.mem_cons_of_mem _ (List.mem_flatMap.mpr ⟨j, List.mem_range.mpr hj, hw9⟩)))
      obtain ⟨t, t1, t2⟩ := va_Tof (f := fun i => .int ((rs.getD j []).getD i 0)) (A := B) (hr j) (hwj _ List.mem_cons_self) (va_eqt (hwj _ (List.mem_cons_of_mem _ List.mem_cons_self))) (fun i hi => va_eqt (hwj _ (List.mem_cons_of_mem _ (List.mem_cons_of_mem _ (List.mem_map.mpr ⟨i, List.mem_range.mpr hi, rfl⟩))))) hA
      exact ⟨t, fun _ => ⟨t1, t2⟩⟩
    · exact ⟨0, fun h => absurd h (by omega)⟩
  obtain ⟨ts, hts⟩ := Classical.axiomOfChoice h1
  obtain ⟨t, t1, t2⟩ := va_Tof (f := fun j => .ref (ts j)) (A := B) hN (hw _ List.mem_cons_self) (va_eqt (hw _ (List.mem_cons_of_mem _ List.mem_cons_self))) (fun j hj => (hts j hj).1) hA
  exact ⟨t, ts, t1, t2, fun j hj => (hts j hj).2⟩
/-- a text -/
def StrAt (s : State) (B : Nat → Prop) (a t : Nat) (bs : List Int32) : Prop := va_O "java/lang/String" a B s s.heap ∧ va_OF "java/lang/String" "coder" "B" (.int 0) a B s s.heap ∧ va_OF "java/lang/String" "value" "[B" (.ref t) a B s s.heap ∧ va_T .byte t bs.length (fun j => .int (bs.getD j 0)) B s s.heap
def stA (tm : Term) (bs : List Int32) : List Cond := Cond.exactly tm "java/lang/String" :: Cond.eq (.field tm "java/lang/String" "coder" "B") (.int 0) :: tbA (.field tm "java/lang/String" "value" "[B") .byte bs
theorem st_of {args : Array Value} {s : State} {tm : Term} {bs : List Int32} {B : Nat → Prop} (h : (Cond.and given_1 narrow_1).before args s = true) (hk : inN (stA tm bs) = true) (hN : bs.length < 2 ^ 31) (hA : ∀ a : Nat, a < s.heap.size → ¬ B a) : ∃ a t, tm.eval args s none [] s = some (.ref a) ∧ StrAt s B a t bs := by
  have hw := nar_of h hk
  obtain ⟨a, c, cA, kA, q1, q2, q3, q4, q5, q6, -⟩ := Cond.exactly_spec (hw _ List.mem_cons_self)
  obtain ⟨t, t1, t2⟩ := tb_of (vs := bs) (B := B) h (tm := .field tm "java/lang/String" "value" "[B") (ty := .byte) (by
    refine List.all_eq_true.mpr fun w hw9 => ?_
    exact List.all_eq_true.mp hk w (List.mem_cons_of_mem _ (List.mem_cons_of_mem _ hw9))) hN hA
  exact ⟨a, t, q1, ⟨cA, q3, q5, by rw [q6]; exact q2, hA a (Array.getElem?_eq_some_iff.mp q3).1⟩, vk_OFof q1 (va_eqt (hw _ (List.mem_cons_of_mem _ List.mem_cons_self))) hA, vk_OFof q1 t1 hA, t2⟩
theorem z_ref {args : Array Value} {s : State} {C n d : String} {B : Nat → Prop} (hl : (Cond.laysStatic C n d).before args s = true) (hini : (Cond.initialized C).before args s = true) (h : (Cond.isRef (.static C n d)).before args s = true) (hA : ∀ a : Nat, a < s.heap.size → ¬ B a) : va_Z C n d (va_rf (vRef ((Term.static C n d).eval args s none [] s))) B s s.heap := by
  cases hv : (Term.static C n d).eval args s none [] s with
  | none => simp [Cond.before, Cond.holds, Cond.value, hv] at h
  | some w =>
    simp only [Cond.before, Cond.holds, Cond.value, hv] at h
    cases w with
    | null => exact va_Zof hl hini hv hA
    | ref t => exact va_Zof hl hini hv hA
    | _ => simp at h
theorem z_ex {args : Array Value} {s : State} {C n d E : String} {B : Nat → Prop} (hl : (Cond.laysStatic C n d).before args s = true) (hini : (Cond.initialized C).before args s = true) (h : (Cond.exactly (.static C n d) E).before args s = true) (hA : ∀ a : Nat, a < s.heap.size → ¬ B a) : va_Z C n d (va_rf (vRef ((Term.static C n d).eval args s none [] s))) B s s.heap := by
  obtain ⟨a, c, cA, kA, q1, -⟩ := Cond.exactly_spec h
  have q1 : (Term.static C n d).eval args s none [] s = some (.ref a) := q1
  rw [q1]
  exact va_Zof hl hini q1 hA
theorem str_ck {p : Cond → Bool} {l ws : List Cond} (h : (l.all fun w => !p w || ws.any fun v => decide (v = w)) = true) : ∀ w ∈ l, p w = true → w ∈ ws := fun w hw hp => by
  have h1 := List.all_eq_true.mp h w hw
  rw [hp] at h1
  obtain ⟨v, hv, he⟩ := List.any_eq_true.mp (show (ws.any fun v => decide (v = w)) = true from h1)
  exact of_decide_eq_true he ▸ hv
theorem vk_any {own tx : String} {k a : Nat} {args : Array Value} {s : State} (h1 : (Cond.stringRef own k tx).before args s = true) (h2 : (Term.string own k).eval args s none [] s = some (.ref a)) : vk_R own k tx a s := vk_R.of (A := args) h1 h2
theorem eq_r {args : Array Value} {s : State} {t u : Term} {v : Value} (h : (Cond.eq t u).before args s = true) (ht : t.eval args s none [] s = some v) : u.eval args s none [] s = some v := by
  simp only [Cond.before, Cond.holds, Cond.value, ht] at h
  cases hu : u.eval args s none [] s with
  | none => simp [hu] at h
  | some w =>
    rw [hu] at h
    cases v <;> cases w <;> simp_all
theorem gTb_at {k : Nat} {tx : String} (hk : ((List.range gTb.length).all fun g => Nat.beq g k || !(decide (gTb[g]? = some (1, tx, "", "")))) = true) (g : Nat) (h : gTb[g]? = some (1, tx, "", "")) : g = k := by
  have hg := (List.getElem?_eq_some_iff.mp h).1
  have h1 := List.all_eq_true.mp hk g (List.mem_range.mpr hg)
  simp only [Bool.or_eq_true] at h1
  rcases h1 with h1 | h1
  · exact Nat.eq_of_beq_eq_true h1
  · rw [h] at h1; simp at h1
theorem gTb_no {tx : String} (hk : ((List.range gTb.length).all fun g => !(decide (gTb[g]? = some (1, tx, "", "")))) = true) (g : Nat) : gTb[g]? ≠ some (1, tx, "", "") := fun h => by
  have hg := (List.getElem?_eq_some_iff.mp h).1
  have h1 := List.all_eq_true.mp hk g (List.mem_range.mpr hg)
  rw [h] at h1; simp at h1

/-- where a text is read -/
def txT (g : Nat) : Term := match g with
  | 2 => .string "java/util/ArrayList" 201
  | 3 => .string "java/util/ArrayList" 203
  | 40 => .string "KeelHouseModel" 573
  | 41 => .string "KeelHouse$Stage$1" 7
  | 42 => .string "KeelHouse$Stage$2" 7
  | 43 => .string "KeelHouse$Stage$3" 7
  | 44 => .string "KeelHouse$Stage$4" 7
  | 45 => .string "KeelHouse$Stage$5" 7
  | 46 => .string "KeelHouse$Stage$6" 7
  | 47 => .string "KeelHouse$Ship" 191
  | 48 => .string "KeelHouse$Ship" 210
  | 49 => .string "KeelHouse$Ship" 203
  | 50 => .string "KeelHouse$Ship" 205
  | 66 => .string "KeelHouse$Form$2" 7
  | 67 => .string "KeelHouse$Form$2" 15
  | 68 => .string "KeelHouse$Form$3" 7
  | 69 => .string "KeelHouse$Form$3" 15
  | _ => .null
noncomputable def stG (args : Array Value) (s : State) (g : Nat) : Option Nat := match gTb[g]? with
  | some (0, C, n, d) => vRef ((Term.static C n d).eval args s none [] s)
  | some (1, _, _, _) => vRef ((txT g).eval args s none [] s)
  | some (2, C, _, _) => vRef ((Term.mirror C).eval args s none [] s)
  | _ => none
section STAT
variable {args : Array Value} {s : State} {sl : Nat → Nat → Nat}
theorem en_of {g : Nat} {C n d E : String} {B : Nat → Prop} (hg : gTb[g]? = some (0, C, n, d)) (h : (Cond.exactly (.static C n d) E).before args s = true) (hA : ∀ a : Nat, a < s.heap.size → ¬ B a) : ∃ a, stG args s g = some a ∧ va_O E a B s s.heap := by
  obtain ⟨a, c, cA, kA, q1, q2, q3, q4, q5, q6, -⟩ := Cond.exactly_spec h
  have q1 : (Term.static C n d).eval args s none [] s = some (.ref a) := q1
  refine ⟨a, ?_, cA, q3, q5, by rw [q6]; exact q2, hA a (Array.getElem?_eq_some_iff.mp q3).1⟩
  unfold stG
  rw [hg]
  show vRef ((Term.static C n d).eval args s none [] s) = some a
  rw [q1]
  rfl
theorem zs_1 (hts : ∀ w ∈ lw_tbl, w.before args s = true) (hn : (Cond.and given_1 narrow_1).before args s = true) (hA : ∀ a : Nat, a < s.heap.size → ¬ hbA (gh s sl) a) : va_Z "java/util/ArrayList" "DEFAULTCAPACITY_EMPTY_ELEMENTDATA" "[Ljava/lang/Object;" (va_rf (stG args s 1)) (hbA (gh s sl)) s s.heap := z_ref (hts _ W259) (hts _ W136) (nar_of hn (ws := [(Cond.isRef (.static "java/util/ArrayList" "DEFAULTCAPACITY_EMPTY_ELEMENTDATA" "[Ljava/lang/Object;"))]) (by decide +kernel) _ List.mem_cons_self) hA
theorem zs_4 (hts : ∀ w ∈ lw_tbl, w.before args s = true) (hn : (Cond.and given_1 narrow_1).before args s = true) (hA : ∀ a : Nat, a < s.heap.size → ¬ hbA (gh s sl) a) : va_Z "jdk/internal/util/Preconditions" "SIOOBE_FORMATTER" "Ljava/util/function/BiFunction;" (va_rf (stG args s 4)) (hbA (gh s sl)) s s.heap := z_ref (hts _ W1856) (hts _ W155) (nar_of hn (ws := [(Cond.isRef (.static "jdk/internal/util/Preconditions" "SIOOBE_FORMATTER" "Ljava/util/function/BiFunction;"))]) (by decide +kernel) _ List.mem_cons_self) hA
theorem zs_5 (hts : ∀ w ∈ lw_tbl, w.before args s = true) (hn : (Cond.and given_1 narrow_1).before args s = true) (hA : ∀ a : Nat, a < s.heap.size → ¬ hbA (gh s sl) a) : va_Z "java/lang/Integer" "DigitOnes" "[B" (va_rf (stG args s 5)) (hbA (gh s sl)) s s.heap := z_ref (hts _ W4065) (hts _ W169) (nar_of hn (ws := [(Cond.isRef (.static "java/lang/Integer" "DigitOnes" "[B"))]) (by decide +kernel) _ List.mem_cons_self) hA
theorem zs_6 (hts : ∀ w ∈ lw_tbl, w.before args s = true) (hn : (Cond.and given_1 narrow_1).before args s = true) (hA : ∀ a : Nat, a < s.heap.size → ¬ hbA (gh s sl) a) : va_Z "java/lang/Integer" "DigitTens" "[B" (va_rf (stG args s 6)) (hbA (gh s sl)) s s.heap := z_ref (hts _ W4067) (hts _ W169) (nar_of hn (ws := [(Cond.isRef (.static "java/lang/Integer" "DigitTens" "[B"))]) (by decide +kernel) _ List.mem_cons_self) hA
theorem zs_8 (hts : ∀ w ∈ lw_tbl, w.before args s = true) (hn : (Cond.and given_1 narrow_1).before args s = true) (hA : ∀ a : Nat, a < s.heap.size → ¬ hbA (gh s sl) a) : va_Z "java/util/Optional" "EMPTY" "Ljava/util/Optional;" (va_rf (stG args s 8)) (hbA (gh s sl)) s s.heap := z_ex (hts _ W2936) (hts _ W188) (nar_of hn (ws := [(Cond.exactly (.static "java/util/Optional" "EMPTY" "Ljava/util/Optional;") "java/util/Optional")]) (by decide +kernel) _ List.mem_cons_self) hA
theorem zs_9 (hts : ∀ w ∈ lw_tbl, w.before args s = true) (hn : (Cond.and given_1 narrow_1).before args s = true) (hA : ∀ a : Nat, a < s.heap.size → ¬ hbA (gh s sl) a) : va_Z "KeelHouse$Sea" "STILL" "LKeelHouse$Sea;" (va_rf (stG args s 9)) (hbA (gh s sl)) s s.heap := z_ex (hts _ W1451) (hts _ W183) (nar_of hn (ws := [(Cond.exactly (.static "KeelHouse$Sea" "STILL" "LKeelHouse$Sea;") "KeelHouse$Sea$1")]) (by decide +kernel) _ List.mem_cons_self) hA
theorem zs_10 (hts : ∀ w ∈ lw_tbl, w.before args s = true) (hn : (Cond.and given_1 narrow_1).before args s = true) (hA : ∀ a : Nat, a < s.heap.size → ¬ hbA (gh s sl) a) : va_Z "KeelHouse$Sea" "HOLLOW" "LKeelHouse$Sea;" (va_rf (stG args s 10)) (hbA (gh s sl)) s s.heap := z_ex (hts _ W1453) (hts _ W183) (nar_of hn (ws := [(Cond.exactly (.static "KeelHouse$Sea" "HOLLOW" "LKeelHouse$Sea;") "KeelHouse$Sea$2")]) (by decide +kernel) _ List.mem_cons_self) hA
theorem zs_11 (hts : ∀ w ∈ lw_tbl, w.before args s = true) (hn : (Cond.and given_1 narrow_1).before args s = true) (hA : ∀ a : Nat, a < s.heap.size → ¬ hbA (gh s sl) a) : va_Z "KeelHouse$Sea" "CREST" "LKeelHouse$Sea;" (va_rf (stG args s 11)) (hbA (gh s sl)) s s.heap := z_ex (hts _ W1455) (hts _ W183) (nar_of hn (ws := [(Cond.exactly (.static "KeelHouse$Sea" "CREST" "LKeelHouse$Sea;") "KeelHouse$Sea$3")]) (by decide +kernel) _ List.mem_cons_self) hA
theorem zs_12 (hts : ∀ w ∈ lw_tbl, w.before args s = true) (hn : (Cond.and given_1 narrow_1).before args s = true) (hA : ∀ a : Nat, a < s.heap.size → ¬ hbA (gh s sl) a) : va_Z "KeelHouse$Form" "BOX" "LKeelHouse$Form;" (va_rf (stG args s 12)) (hbA (gh s sl)) s s.heap := z_ex (hts _ W1821) (hts _ W152) (nar_of hn (ws := [(Cond.exactly (.static "KeelHouse$Form" "BOX" "LKeelHouse$Form;") "KeelHouse$Form$1")]) (by decide +kernel) _ List.mem_cons_self) hA
theorem zs_13 (hts : ∀ w ∈ lw_tbl, w.before args s = true) (hn : (Cond.and given_1 narrow_1).before args s = true) (hA : ∀ a : Nat, a < s.heap.size → ¬ hbA (gh s sl) a) : va_Z "KeelHouse$Form" "FULL" "LKeelHouse$Form;" (va_rf (stG args s 13)) (hbA (gh s sl)) s s.heap := z_ex (hts _ W1823) (hts _ W152) (nar_of hn (ws := [(Cond.exactly (.static "KeelHouse$Form" "FULL" "LKeelHouse$Form;") "KeelHouse$Form$2")]) (by decide +kernel) _ List.mem_cons_self) hA
theorem zs_14 (hts : ∀ w ∈ lw_tbl, w.before args s = true) (hn : (Cond.and given_1 narrow_1).before args s = true) (hA : ∀ a : Nat, a < s.heap.size → ¬ hbA (gh s sl) a) : va_Z "KeelHouse$Form" "FINE" "LKeelHouse$Form;" (va_rf (stG args s 14)) (hbA (gh s sl)) s s.heap := z_ex (hts _ W1825) (hts _ W152) (nar_of hn (ws := [(Cond.exactly (.static "KeelHouse$Form" "FINE" "LKeelHouse$Form;") "KeelHouse$Form$3")]) (by decide +kernel) _ List.mem_cons_self) hA
theorem zs_15 (hts : ∀ w ∈ lw_tbl, w.before args s = true) (hn : (Cond.and given_1 narrow_1).before args s = true) (hA : ∀ a : Nat, a < s.heap.size → ¬ hbA (gh s sl) a) : va_Z "KeelHouse$Stage" "DRAWN" "LKeelHouse$Stage;" (va_rf (stG args s 15)) (hbA (gh s sl)) s s.heap := z_ex (hts _ W1055) (hts _ W162) (nar_of hn (ws := [(Cond.exactly (.static "KeelHouse$Stage" "DRAWN" "LKeelHouse$Stage;") "KeelHouse$Stage$1")]) (by decide +kernel) _ List.mem_cons_self) hA
theorem zs_16 (hts : ∀ w ∈ lw_tbl, w.before args s = true) (hn : (Cond.and given_1 narrow_1).before args s = true) (hA : ∀ a : Nat, a < s.heap.size → ¬ hbA (gh s sl) a) : va_Z "KeelHouse$Stage" "SLIP" "LKeelHouse$Stage;" (va_rf (stG args s 16)) (hbA (gh s sl)) s s.heap := z_ex (hts _ W1057) (hts _ W162) (nar_of hn (ws := [(Cond.exactly (.static "KeelHouse$Stage" "SLIP" "LKeelHouse$Stage;") "KeelHouse$Stage$2")]) (by decide +kernel) _ List.mem_cons_self) hA
theorem zs_17 (hts : ∀ w ∈ lw_tbl, w.before args s = true) (hn : (Cond.and given_1 narrow_1).before args s = true) (hA : ∀ a : Nat, a < s.heap.size → ¬ hbA (gh s sl) a) : va_Z "KeelHouse$Account" "STEEL" "LKeelHouse$Account;" (va_rf (stG args s 17)) (hbA (gh s sl)) s s.heap := z_ex (hts _ W2850) (hts _ W186) (nar_of hn (ws := [(Cond.exactly (.static "KeelHouse$Account" "STEEL" "LKeelHouse$Account;") "KeelHouse$Account$1")]) (by decide +kernel) _ List.mem_cons_self) hA
theorem zs_18 (hts : ∀ w ∈ lw_tbl, w.before args s = true) (hn : (Cond.and given_1 narrow_1).before args s = true) (hA : ∀ a : Nat, a < s.heap.size → ¬ hbA (gh s sl) a) : va_Z "KeelHouse$Stage" "LOST" "LKeelHouse$Stage;" (va_rf (stG args s 18)) (hbA (gh s sl)) s s.heap := z_ex (hts _ W1062) (hts _ W162) (nar_of hn (ws := [(Cond.exactly (.static "KeelHouse$Stage" "LOST" "LKeelHouse$Stage;") "KeelHouse$Stage$5")]) (by decide +kernel) _ List.mem_cons_self) hA
theorem zs_19 (hts : ∀ w ∈ lw_tbl, w.before args s = true) (hn : (Cond.and given_1 narrow_1).before args s = true) (hA : ∀ a : Nat, a < s.heap.size → ¬ hbA (gh s sl) a) : va_Z "KeelHouse$Stage" "AFLOAT" "LKeelHouse$Stage;" (va_rf (stG args s 19)) (hbA (gh s sl)) s s.heap := z_ex (hts _ W1059) (hts _ W162) (nar_of hn (ws := [(Cond.exactly (.static "KeelHouse$Stage" "AFLOAT" "LKeelHouse$Stage;") "KeelHouse$Stage$3")]) (by decide +kernel) _ List.mem_cons_self) hA
theorem zs_20 (hts : ∀ w ∈ lw_tbl, w.before args s = true) (hn : (Cond.and given_1 narrow_1).before args s = true) (hA : ∀ a : Nat, a < s.heap.size → ¬ hbA (gh s sl) a) : va_Z "KeelHouse$Account" "WAGES" "LKeelHouse$Account;" (va_rf (stG args s 20)) (hbA (gh s sl)) s s.heap := z_ex (hts _ W3355) (hts _ W186) (nar_of hn (ws := [(Cond.exactly (.static "KeelHouse$Account" "WAGES" "LKeelHouse$Account;") "KeelHouse$Account$2")]) (by decide +kernel) _ List.mem_cons_self) hA
theorem zs_21 (hts : ∀ w ∈ lw_tbl, w.before args s = true) (hn : (Cond.and given_1 narrow_1).before args s = true) (hA : ∀ a : Nat, a < s.heap.size → ¬ hbA (gh s sl) a) : va_Z "KeelHouse$Account" "SPOTS" "LKeelHouse$Account;" (va_rf (stG args s 21)) (hbA (gh s sl)) s s.heap := z_ex (hts _ W3338) (hts _ W186) (nar_of hn (ws := [(Cond.exactly (.static "KeelHouse$Account" "SPOTS" "LKeelHouse$Account;") "KeelHouse$Account$3")]) (by decide +kernel) _ List.mem_cons_self) hA
theorem zs_22 (hts : ∀ w ∈ lw_tbl, w.before args s = true) (hn : (Cond.and given_1 narrow_1).before args s = true) (hA : ∀ a : Nat, a < s.heap.size → ¬ hbA (gh s sl) a) : va_Z "KeelHouse$Account" "MENDING" "LKeelHouse$Account;" (va_rf (stG args s 22)) (hbA (gh s sl)) s s.heap := z_ex (hts _ W3352) (hts _ W186) (nar_of hn (ws := [(Cond.exactly (.static "KeelHouse$Account" "MENDING" "LKeelHouse$Account;") "KeelHouse$Account$8")]) (by decide +kernel) _ List.mem_cons_self) hA
theorem zs_23 (hts : ∀ w ∈ lw_tbl, w.before args s = true) (hn : (Cond.and given_1 narrow_1).before args s = true) (hA : ∀ a : Nat, a < s.heap.size → ¬ hbA (gh s sl) a) : va_Z "KeelHouse$Account" "PIPES" "LKeelHouse$Account;" (va_rf (stG args s 23)) (hbA (gh s sl)) s s.heap := z_ex (hts _ W3628) (hts _ W186) (nar_of hn (ws := [(Cond.exactly (.static "KeelHouse$Account" "PIPES" "LKeelHouse$Account;") "KeelHouse$Account$9")]) (by decide +kernel) _ List.mem_cons_self) hA
theorem zs_24 (hts : ∀ w ∈ lw_tbl, w.before args s = true) (hn : (Cond.and given_1 narrow_1).before args s = true) (hA : ∀ a : Nat, a < s.heap.size → ¬ hbA (gh s sl) a) : va_Z "KeelHouse$Stage" "READY" "LKeelHouse$Stage;" (va_rf (stG args s 24)) (hbA (gh s sl)) s s.heap := z_ex (hts _ W563) (hts _ W162) (nar_of hn (ws := [(Cond.exactly (.static "KeelHouse$Stage" "READY" "LKeelHouse$Stage;") "KeelHouse$Stage$4")]) (by decide +kernel) _ List.mem_cons_self) hA
theorem zs_25 (hts : ∀ w ∈ lw_tbl, w.before args s = true) (hn : (Cond.and given_1 narrow_1).before args s = true) (hA : ∀ a : Nat, a < s.heap.size → ¬ hbA (gh s sl) a) : va_Z "KeelHouse$Stage" "SOLD" "LKeelHouse$Stage;" (va_rf (stG args s 25)) (hbA (gh s sl)) s s.heap := z_ex (hts _ W547) (hts _ W162) (nar_of hn (ws := [(Cond.exactly (.static "KeelHouse$Stage" "SOLD" "LKeelHouse$Stage;") "KeelHouse$Stage$6")]) (by decide +kernel) _ List.mem_cons_self) hA
theorem zs_26 (hts : ∀ w ∈ lw_tbl, w.before args s = true) (hn : (Cond.and given_1 narrow_1).before args s = true) (hA : ∀ a : Nat, a < s.heap.size → ¬ hbA (gh s sl) a) : va_Z "KeelHouse$Account" "FUEL" "LKeelHouse$Account;" (va_rf (stG args s 26)) (hbA (gh s sl)) s s.heap := z_ex (hts _ W3886) (hts _ W186) (nar_of hn (ws := [(Cond.exactly (.static "KeelHouse$Account" "FUEL" "LKeelHouse$Account;") "KeelHouse$Account$6")]) (by decide +kernel) _ List.mem_cons_self) hA
theorem zs_27 (hts : ∀ w ∈ lw_tbl, w.before args s = true) (hn : (Cond.and given_1 narrow_1).before args s = true) (hA : ∀ a : Nat, a < s.heap.size → ¬ hbA (gh s sl) a) : va_Z "KeelHouse$Account" "FREIGHT" "LKeelHouse$Account;" (va_rf (stG args s 27)) (hbA (gh s sl)) s s.heap := z_ex (hts _ W4158) (hts _ W186) (nar_of hn (ws := [(Cond.exactly (.static "KeelHouse$Account" "FREIGHT" "LKeelHouse$Account;") "KeelHouse$Account$7")]) (by decide +kernel) _ List.mem_cons_self) hA
theorem zs_28 (hts : ∀ w ∈ lw_tbl, w.before args s = true) (hn : (Cond.and given_1 narrow_1).before args s = true) (hA : ∀ a : Nat, a < s.heap.size → ¬ hbA (gh s sl) a) : va_Z "KeelHouse$Spot" "BERTH" "LKeelHouse$Spot;" (va_rf (stG args s 28)) (hbA (gh s sl)) s s.heap := z_ex (hts _ W960) (hts _ W191) (nar_of hn (ws := [(Cond.exactly (.static "KeelHouse$Spot" "BERTH" "LKeelHouse$Spot;") "KeelHouse$Spot$5")]) (by decide +kernel) _ List.mem_cons_self) hA
theorem zs_29 (hts : ∀ w ∈ lw_tbl, w.before args s = true) (hn : (Cond.and given_1 narrow_1).before args s = true) (hA : ∀ a : Nat, a < s.heap.size → ¬ hbA (gh s sl) a) : va_Z "KeelHouse$Spot" "SMALL_BERTH" "LKeelHouse$Spot;" (va_rf (stG args s 29)) (hbA (gh s sl)) s s.heap := z_ex (hts _ W958) (hts _ W191) (nar_of hn (ws := [(Cond.exactly (.static "KeelHouse$Spot" "SMALL_BERTH" "LKeelHouse$Spot;") "KeelHouse$Spot$4")]) (by decide +kernel) _ List.mem_cons_self) hA
theorem zs_30 (hts : ∀ w ∈ lw_tbl, w.before args s = true) (hn : (Cond.and given_1 narrow_1).before args s = true) (hA : ∀ a : Nat, a < s.heap.size → ¬ hbA (gh s sl) a) : va_Z "KeelHouse$Spot" "DOCK" "LKeelHouse$Spot;" (va_rf (stG args s 30)) (hbA (gh s sl)) s s.heap := z_ex (hts _ W956) (hts _ W191) (nar_of hn (ws := [(Cond.exactly (.static "KeelHouse$Spot" "DOCK" "LKeelHouse$Spot;") "KeelHouse$Spot$3")]) (by decide +kernel) _ List.mem_cons_self) hA
theorem zs_31 (hts : ∀ w ∈ lw_tbl, w.before args s = true) (hn : (Cond.and given_1 narrow_1).before args s = true) (hA : ∀ a : Nat, a < s.heap.size → ¬ hbA (gh s sl) a) : va_Z "KeelHouse$Spot" "GREAT_SLIP" "LKeelHouse$Spot;" (va_rf (stG args s 31)) (hbA (gh s sl)) s s.heap := z_ex (hts _ W954) (hts _ W191) (nar_of hn (ws := [(Cond.exactly (.static "KeelHouse$Spot" "GREAT_SLIP" "LKeelHouse$Spot;") "KeelHouse$Spot$2")]) (by decide +kernel) _ List.mem_cons_self) hA
theorem zs_32 (hts : ∀ w ∈ lw_tbl, w.before args s = true) (hn : (Cond.and given_1 narrow_1).before args s = true) (hA : ∀ a : Nat, a < s.heap.size → ¬ hbA (gh s sl) a) : va_Z "KeelHouse$Spot" "SMALL_SLIP" "LKeelHouse$Spot;" (va_rf (stG args s 32)) (hbA (gh s sl)) s s.heap := z_ex (hts _ W952) (hts _ W191) (nar_of hn (ws := [(Cond.exactly (.static "KeelHouse$Spot" "SMALL_SLIP" "LKeelHouse$Spot;") "KeelHouse$Spot$1")]) (by decide +kernel) _ List.mem_cons_self) hA
theorem zs_33 (hts : ∀ w ∈ lw_tbl, w.before args s = true) (hn : (Cond.and given_1 narrow_1).before args s = true) (hA : ∀ a : Nat, a < s.heap.size → ¬ hbA (gh s sl) a) : va_Z "KeelHouse$Spot" "GREAT_BERTH" "LKeelHouse$Spot;" (va_rf (stG args s 33)) (hbA (gh s sl)) s s.heap := z_ex (hts _ W962) (hts _ W191) (nar_of hn (ws := [(Cond.exactly (.static "KeelHouse$Spot" "GREAT_BERTH" "LKeelHouse$Spot;") "KeelHouse$Spot$6")]) (by decide +kernel) _ List.mem_cons_self) hA
theorem zs_34 (hts : ∀ w ∈ lw_tbl, w.before args s = true) (hn : (Cond.and given_1 narrow_1).before args s = true) (hA : ∀ a : Nat, a < s.heap.size → ¬ hbA (gh s sl) a) : va_Z "KeelHouse$Account" "CONTRACTS" "LKeelHouse$Account;" (va_rf (stG args s 34)) (hbA (gh s sl)) s s.heap := z_ex (hts _ W3264) (hts _ W186) (nar_of hn (ws := [(Cond.exactly (.static "KeelHouse$Account" "CONTRACTS" "LKeelHouse$Account;") "KeelHouse$Account$4")]) (by decide +kernel) _ List.mem_cons_self) hA
theorem zs_35 (hts : ∀ w ∈ lw_tbl, w.before args s = true) (hn : (Cond.and given_1 narrow_1).before args s = true) (hA : ∀ a : Nat, a < s.heap.size → ¬ hbA (gh s sl) a) : va_Z "KeelHouse$Account" "FINES" "LKeelHouse$Account;" (va_rf (stG args s 35)) (hbA (gh s sl)) s s.heap := z_ex (hts _ W3479) (hts _ W186) (nar_of hn (ws := [(Cond.exactly (.static "KeelHouse$Account" "FINES" "LKeelHouse$Account;") "KeelHouse$Account$5")]) (by decide +kernel) _ List.mem_cons_self) hA
theorem zs_36 (hts : ∀ w ∈ lw_tbl, w.before args s = true) (hn : (Cond.and given_1 narrow_1).before args s = true) (hA : ∀ a : Nat, a < s.heap.size → ¬ hbA (gh s sl) a) : va_Z "KeelHouseModel" "DEEP" "[I" (va_rf (stG args s 36)) (hbA (gh s sl)) s s.heap := z_ref (hts _ W5018) (hts _ W142) (nar_of hn (ws := [(Cond.isRef (.static "KeelHouseModel" "DEEP" "[I"))]) (by decide +kernel) _ List.mem_cons_self) hA
theorem zs_37 (hts : ∀ w ∈ lw_tbl, w.before args s = true) (hn : (Cond.and given_1 narrow_1).before args s = true) (hA : ∀ a : Nat, a < s.heap.size → ¬ hbA (gh s sl) a) : va_Z "KeelHouseModel" "MOON" "[I" (va_rf (stG args s 37)) (hbA (gh s sl)) s s.heap := z_ref (hts _ W5032) (hts _ W142) (nar_of hn (ws := [(Cond.isRef (.static "KeelHouseModel" "MOON" "[I"))]) (by decide +kernel) _ List.mem_cons_self) hA
theorem zs_38 (hts : ∀ w ∈ lw_tbl, w.before args s = true) (hn : (Cond.and given_1 narrow_1).before args s = true) (hA : ∀ a : Nat, a < s.heap.size → ¬ hbA (gh s sl) a) : va_Z "KeelHouseModel" "SPRING" "[I" (va_rf (stG args s 38)) (hbA (gh s sl)) s s.heap := z_ref (hts _ W5034) (hts _ W142) (nar_of hn (ws := [(Cond.isRef (.static "KeelHouseModel" "SPRING" "[I"))]) (by decide +kernel) _ List.mem_cons_self) hA
theorem zs_39 (hts : ∀ w ∈ lw_tbl, w.before args s = true) (hn : (Cond.and given_1 narrow_1).before args s = true) (hA : ∀ a : Nat, a < s.heap.size → ¬ hbA (gh s sl) a) : va_Z "KeelHouseModel" "ROOM" "[I" (va_rf (stG args s 39)) (hbA (gh s sl)) s s.heap := z_ref (hts _ W4987) (hts _ W142) (nar_of hn (ws := [(Cond.isRef (.static "KeelHouseModel" "ROOM" "[I"))]) (by decide +kernel) _ List.mem_cons_self) hA
theorem zs_51 (hts : ∀ w ∈ lw_tbl, w.before args s = true) (hn : (Cond.and given_1 narrow_1).before args s = true) (hA : ∀ a : Nat, a < s.heap.size → ¬ hbA (gh s sl) a) : va_Z "KeelHouseModel" "ALONG_FORMS" "[[I" (va_rf (stG args s 51)) (hbA (gh s sl)) s s.heap := z_ref (hts _ W4377) (hts _ W142) (nar_of hn (ws := [(Cond.isRef (.static "KeelHouseModel" "ALONG_FORMS" "[[I"))]) (by decide +kernel) _ List.mem_cons_self) hA
theorem zs_52 (hts : ∀ w ∈ lw_tbl, w.before args s = true) (hn : (Cond.and given_1 narrow_1).before args s = true) (hA : ∀ a : Nat, a < s.heap.size → ¬ hbA (gh s sl) a) : va_Z "KeelHouseModel" "UP_FORMS" "[[I" (va_rf (stG args s 52)) (hbA (gh s sl)) s s.heap := z_ref (hts _ W4379) (hts _ W142) (nar_of hn (ws := [(Cond.isRef (.static "KeelHouseModel" "UP_FORMS" "[[I"))]) (by decide +kernel) _ List.mem_cons_self) hA
theorem zs_53 (hts : ∀ w ∈ lw_tbl, w.before args s = true) (hn : (Cond.and given_1 narrow_1).before args s = true) (hA : ∀ a : Nat, a < s.heap.size → ¬ hbA (gh s sl) a) : va_Z "KeelHouseModel" "SIMPSON" "[D" (va_rf (stG args s 53)) (hbA (gh s sl)) s s.heap := z_ref (hts _ W4618) (hts _ W142) (nar_of hn (ws := [(Cond.isRef (.static "KeelHouseModel" "SIMPSON" "[D"))]) (by decide +kernel) _ List.mem_cons_self) hA
theorem zs_54 (hts : ∀ w ∈ lw_tbl, w.before args s = true) (hn : (Cond.and given_1 narrow_1).before args s = true) (hA : ∀ a : Nat, a < s.heap.size → ¬ hbA (gh s sl) a) : va_Z "KeelHouseModel" "ANGLES" "[D" (va_rf (stG args s 54)) (hbA (gh s sl)) s s.heap := z_ref (hts _ W4769) (hts _ W142) (nar_of hn (ws := [(Cond.isRef (.static "KeelHouseModel" "ANGLES" "[D"))]) (by decide +kernel) _ List.mem_cons_self) hA
theorem zs_55 (hts : ∀ w ∈ lw_tbl, w.before args s = true) (hn : (Cond.and given_1 narrow_1).before args s = true) (hA : ∀ a : Nat, a < s.heap.size → ¬ hbA (gh s sl) a) : va_Z "KeelHouseModel" "SEAS" "[[I" (va_rf (stG args s 55)) (hbA (gh s sl)) s s.heap := z_ref (hts _ W4840) (hts _ W142) (nar_of hn (ws := [(Cond.isRef (.static "KeelHouseModel" "SEAS" "[[I"))]) (by decide +kernel) _ List.mem_cons_self) hA
theorem zs_56 (hts : ∀ w ∈ lw_tbl, w.before args s = true) (hn : (Cond.and given_1 narrow_1).before args s = true) (hA : ∀ a : Nat, a < s.heap.size → ¬ hbA (gh s sl) a) : va_Z "KeelHouseModel" "HOME" "[I" (va_rf (stG args s 56)) (hbA (gh s sl)) s s.heap := z_ref (hts _ W5246) (hts _ W142) (nar_of hn (ws := [(Cond.isRef (.static "KeelHouseModel" "HOME" "[I"))]) (by decide +kernel) _ List.mem_cons_self) hA
theorem zs_57 (hts : ∀ w ∈ lw_tbl, w.before args s = true) (hn : (Cond.and given_1 narrow_1).before args s = true) (hA : ∀ a : Nat, a < s.heap.size → ¬ hbA (gh s sl) a) : va_Z "KeelHouseModel" "ORDER" "[I" (va_rf (stG args s 57)) (hbA (gh s sl)) s s.heap := z_ref (hts _ W5146) (hts _ W142) (nar_of hn (ws := [(Cond.isRef (.static "KeelHouseModel" "ORDER" "[I"))]) (by decide +kernel) _ List.mem_cons_self) hA
theorem zs_58 (hts : ∀ w ∈ lw_tbl, w.before args s = true) (hn : (Cond.and given_1 narrow_1).before args s = true) (hA : ∀ a : Nat, a < s.heap.size → ¬ hbA (gh s sl) a) : va_Z "KeelHouse$Rule" "LEVEL" "LKeelHouse$Rule;" (va_rf (stG args s 58)) (hbA (gh s sl)) s s.heap := z_ex (hts _ W1624) (hts _ W196) (nar_of hn (ws := [(Cond.exactly (.static "KeelHouse$Rule" "LEVEL" "LKeelHouse$Rule;") "KeelHouse$Rule$7")]) (by decide +kernel) _ List.mem_cons_self) hA
theorem zs_59 (hts : ∀ w ∈ lw_tbl, w.before args s = true) (hn : (Cond.and given_1 narrow_1).before args s = true) (hA : ∀ a : Nat, a < s.heap.size → ¬ hbA (gh s sl) a) : va_Z "KeelHouse$Rule" "SPARE" "LKeelHouse$Rule;" (va_rf (stG args s 59)) (hbA (gh s sl)) s s.heap := z_ex (hts _ W1622) (hts _ W196) (nar_of hn (ws := [(Cond.exactly (.static "KeelHouse$Rule" "SPARE" "LKeelHouse$Rule;") "KeelHouse$Rule$6")]) (by decide +kernel) _ List.mem_cons_self) hA
theorem zs_60 (hts : ∀ w ∈ lw_tbl, w.before args s = true) (hn : (Cond.and given_1 narrow_1).before args s = true) (hA : ∀ a : Nat, a < s.heap.size → ¬ hbA (gh s sl) a) : va_Z "KeelHouse$Rule" "FAST" "LKeelHouse$Rule;" (va_rf (stG args s 60)) (hbA (gh s sl)) s s.heap := z_ex (hts _ W1620) (hts _ W196) (nar_of hn (ws := [(Cond.exactly (.static "KeelHouse$Rule" "FAST" "LKeelHouse$Rule;") "KeelHouse$Rule$5")]) (by decide +kernel) _ List.mem_cons_self) hA
theorem zs_61 (hts : ∀ w ∈ lw_tbl, w.before args s = true) (hn : (Cond.and given_1 narrow_1).before args s = true) (hA : ∀ a : Nat, a < s.heap.size → ¬ hbA (gh s sl) a) : va_Z "KeelHouse$Rule" "SURVIVES" "LKeelHouse$Rule;" (va_rf (stG args s 61)) (hbA (gh s sl)) s s.heap := z_ex (hts _ W1618) (hts _ W196) (nar_of hn (ws := [(Cond.exactly (.static "KeelHouse$Rule" "SURVIVES" "LKeelHouse$Rule;") "KeelHouse$Rule$4")]) (by decide +kernel) _ List.mem_cons_self) hA
theorem zs_62 (hts : ∀ w ∈ lw_tbl, w.before args s = true) (hn : (Cond.and given_1 narrow_1).before args s = true) (hA : ∀ a : Nat, a < s.heap.size → ¬ hbA (gh s sl) a) : va_Z "KeelHouse$Rule" "STRONG" "LKeelHouse$Rule;" (va_rf (stG args s 62)) (hbA (gh s sl)) s s.heap := z_ex (hts _ W1616) (hts _ W196) (nar_of hn (ws := [(Cond.exactly (.static "KeelHouse$Rule" "STRONG" "LKeelHouse$Rule;") "KeelHouse$Rule$3")]) (by decide +kernel) _ List.mem_cons_self) hA
theorem zs_63 (hts : ∀ w ∈ lw_tbl, w.before args s = true) (hn : (Cond.and given_1 narrow_1).before args s = true) (hA : ∀ a : Nat, a < s.heap.size → ¬ hbA (gh s sl) a) : va_Z "KeelHouse$Rule" "STABLE" "LKeelHouse$Rule;" (va_rf (stG args s 63)) (hbA (gh s sl)) s s.heap := z_ex (hts _ W1614) (hts _ W196) (nar_of hn (ws := [(Cond.exactly (.static "KeelHouse$Rule" "STABLE" "LKeelHouse$Rule;") "KeelHouse$Rule$2")]) (by decide +kernel) _ List.mem_cons_self) hA
theorem zs_64 (hts : ∀ w ∈ lw_tbl, w.before args s = true) (hn : (Cond.and given_1 narrow_1).before args s = true) (hA : ∀ a : Nat, a < s.heap.size → ¬ hbA (gh s sl) a) : va_Z "KeelHouse$Rule" "FLOATS" "LKeelHouse$Rule;" (va_rf (stG args s 64)) (hbA (gh s sl)) s s.heap := z_ex (hts _ W1612) (hts _ W196) (nar_of hn (ws := [(Cond.exactly (.static "KeelHouse$Rule" "FLOATS" "LKeelHouse$Rule;") "KeelHouse$Rule$1")]) (by decide +kernel) _ List.mem_cons_self) hA
theorem zs_65 (hts : ∀ w ∈ lw_tbl, w.before args s = true) (hn : (Cond.and given_1 narrow_1).before args s = true) (hA : ∀ a : Nat, a < s.heap.size → ¬ hbA (gh s sl) a) : va_Z "KeelHouse$Rule" "CLEAN" "LKeelHouse$Rule;" (va_rf (stG args s 65)) (hbA (gh s sl)) s s.heap := z_ex (hts _ W1626) (hts _ W196) (nar_of hn (ws := [(Cond.exactly (.static "KeelHouse$Rule" "CLEAN" "LKeelHouse$Rule;") "KeelHouse$Rule$8")]) (by decide +kernel) _ List.mem_cons_self) hA
theorem zs_all (hts : ∀ w ∈ lw_tbl, w.before args s = true) (hn : (Cond.and given_1 narrow_1).before args s = true) (hA : ∀ a : Nat, a < s.heap.size → ¬ hbA (gh s sl) a) : ∀ (g : Nat) (C n d : String), gTb[g]? = some (0, C, n, d) → g ≠ 0 → va_Z C n d (va_rf (stG args s g)) (hbA (gh s sl)) s s.heap
  | 0, _, _, _, _, h => absurd rfl h
  | 1, _, _, _, h, _ => by cases h; exact zs_1 hts hn hA
  | 2, _, _, _, h, _ => by cases h
  | 3, _, _, _, h, _ => by cases h
  | 4, _, _, _, h, _ => by cases h; exact zs_4 hts hn hA
  | 5, _, _, _, h, _ => by cases h; exact zs_5 hts hn hA
  | 6, _, _, _, h, _ => by cases h; exact zs_6 hts hn hA
  | 7, _, _, _, h, _ => by cases h
  | 8, _, _, _, h, _ => by cases h; exact zs_8 hts hn hA
  | 9, _, _, _, h, _ => by cases h; exact zs_9 hts hn hA
  | 10, _, _, _, h, _ => by cases h; exact zs_10 hts hn hA
  | 11, _, _, _, h, _ => by cases h; exact zs_11 hts hn hA
  | 12, _, _, _, h, _ => by cases h; exact zs_12 hts hn hA
  | 13, _, _, _, h, _ => by cases h; exact zs_13 hts hn hA
  | 14, _, _, _, h, _ => by cases h; exact zs_14 hts hn hA
  | 15, _, _, _, h, _ => by cases h; exact zs_15 hts hn hA
  | 16, _, _, _, h, _ => by cases h; exact zs_16 hts hn hA
  | 17, _, _, _, h, _ => by cases h; exact zs_17 hts hn hA
  | 18, _, _, _, h, _ => by cases h; exact zs_18 hts hn hA
  | 19, _, _, _, h, _ => by cases h; exact zs_19 hts hn hA
  | 20, _, _, _, h, _ => by cases h; exact zs_20 hts hn hA
  | 21, _, _, _, h, _ => by cases h; exact zs_21 hts hn hA
  | 22, _, _, _, h, _ => by cases h; exact zs_22 hts hn hA
  | 23, _, _, _, h, _ => by cases h; exact zs_23 hts hn hA
  | 24, _, _, _, h, _ => by cases h; exact zs_24 hts hn hA
  | 25, _, _, _, h, _ => by cases h; exact zs_25 hts hn hA
  | 26, _, _, _, h, _ => by cases h; exact zs_26 hts hn hA
  | 27, _, _, _, h, _ => by cases h; exact zs_27 hts hn hA
  | 28, _, _, _, h, _ => by cases h; exact zs_28 hts hn hA
  | 29, _, _, _, h, _ => by cases h; exact zs_29 hts hn hA
  | 30, _, _, _, h, _ => by cases h; exact zs_30 hts hn hA
  | 31, _, _, _, h, _ => by cases h; exact zs_31 hts hn hA
  | 32, _, _, _, h, _ => by cases h; exact zs_32 hts hn hA
  | 33, _, _, _, h, _ => by cases h; exact zs_33 hts hn hA
  | 34, _, _, _, h, _ => by cases h; exact zs_34 hts hn hA
  | 35, _, _, _, h, _ => by cases h; exact zs_35 hts hn hA
  | 36, _, _, _, h, _ => by cases h; exact zs_36 hts hn hA
  | 37, _, _, _, h, _ => by cases h; exact zs_37 hts hn hA
  | 38, _, _, _, h, _ => by cases h; exact zs_38 hts hn hA
  | 39, _, _, _, h, _ => by cases h; exact zs_39 hts hn hA
  | 40, _, _, _, h, _ => by cases h
  | 41, _, _, _, h, _ => by cases h
  | 42, _, _, _, h, _ => by cases h
  | 43, _, _, _, h, _ => by cases h
  | 44, _, _, _, h, _ => by cases h
  | 45, _, _, _, h, _ => by cases h
  | 46, _, _, _, h, _ => by cases h
  | 47, _, _, _, h, _ => by cases h
  | 48, _, _, _, h, _ => by cases h
  | 49, _, _, _, h, _ => by cases h
  | 50, _, _, _, h, _ => by cases h
  | 51, _, _, _, h, _ => by cases h; exact zs_51 hts hn hA
  | 52, _, _, _, h, _ => by cases h; exact zs_52 hts hn hA
  | 53, _, _, _, h, _ => by cases h; exact zs_53 hts hn hA
  | 54, _, _, _, h, _ => by cases h; exact zs_54 hts hn hA
  | 55, _, _, _, h, _ => by cases h; exact zs_55 hts hn hA
  | 56, _, _, _, h, _ => by cases h; exact zs_56 hts hn hA
  | 57, _, _, _, h, _ => by cases h; exact zs_57 hts hn hA
  | 58, _, _, _, h, _ => by cases h; exact zs_58 hts hn hA
  | 59, _, _, _, h, _ => by cases h; exact zs_59 hts hn hA
  | 60, _, _, _, h, _ => by cases h; exact zs_60 hts hn hA
  | 61, _, _, _, h, _ => by cases h; exact zs_61 hts hn hA
  | 62, _, _, _, h, _ => by cases h; exact zs_62 hts hn hA
  | 63, _, _, _, h, _ => by cases h; exact zs_63 hts hn hA
  | 64, _, _, _, h, _ => by cases h; exact zs_64 hts hn hA
  | 65, _, _, _, h, _ => by cases h; exact zs_65 hts hn hA
  | 66, _, _, _, h, _ => by cases h
  | 67, _, _, _, h, _ => by cases h
  | 68, _, _, _, h, _ => by cases h
  | 69, _, _, _, h, _ => by cases h
  | n + 70, _, _, _, h, _ => by rw [List.getElem?_eq_none (by show 70 ≤ n + 70; omega)] at h; cases h
def isStr : Cond → Bool
  | .stringRef .. => true
  | _ => false
theorem str_all : ∀ w ∈ lw_tbl, isStr w = true → w ∈ [(Jvm.Cond.stringRef "KeelHouse$Form$2" (7 : Nat) "3688862"), (Jvm.Cond.stringRef "KeelHouse$Form$3" (7 : Nat) "1478630"), (Jvm.Cond.stringRef "KeelHouse$Form$2" (15 : Nat) "47888"), (Jvm.Cond.stringRef "KeelHouse$Form$3" (15 : Nat) "14688"), (Jvm.Cond.stringRef "java/util/ArrayList" (201 : Nat) "Index: "), (Jvm.Cond.stringRef "java/util/ArrayList" (203 : Nat) ", Size: "), (Jvm.Cond.stringRef "java/util/Arrays" (337 : Nat) " > "), (Jvm.Cond.stringRef "KeelHouse$Ship" (191 : Nat) " "), (Jvm.Cond.stringRef "KeelHouse$Stage$1" (7 : Nat) "drawn"), (Jvm.Cond.stringRef "KeelHouse$Stage$2" (7 : Nat) "slip"), (Jvm.Cond.stringRef "KeelHouse$Stage$3" (7 : Nat) "afloat"), (Jvm.Cond.stringRef "KeelHouse$Stage$4" (7 : Nat) "ready"), (Jvm.Cond.stringRef "KeelHouse$Stage$5" (7 : Nat) "lost"), (Jvm.Cond.stringRef "KeelHouse$Stage$6" (7 : Nat) "sold"), (Jvm.Cond.stringRef "KeelHouse$Ship" (203 : Nat) " at sea"), (Jvm.Cond.stringRef "KeelHouse$Ship" (205 : Nat) " at port "), (Jvm.Cond.stringRef "KeelHouse$Ship" (210 : Nat) " at "), (Jvm.Cond.stringRef "KeelHouseModel" (573 : Nat) ""), (Jvm.Cond.stringRef "KeelHouseModel" (577 : Nat) "drawn"), (Jvm.Cond.stringRef "KeelHouseModel" (579 : Nat) "slip"), (Jvm.Cond.stringRef "KeelHouseModel" (581 : Nat) "afloat"), (Jvm.Cond.stringRef "KeelHouseModel" (583 : Nat) "ready"), (Jvm.Cond.stringRef "KeelHouseModel" (585 : Nat) "lost"), (Jvm.Cond.stringRef "KeelHouseModel" (587 : Nat) "sold"), (Jvm.Cond.stringRef "KeelHouseModel" (596 : Nat) " "), (Jvm.Cond.stringRef "KeelHouseModel" (605 : Nat) " at "), (Jvm.Cond.stringRef "KeelHouseModel" (607 : Nat) " at sea"), (Jvm.Cond.stringRef "KeelHouseModel" (609 : Nat) " at port ")] := str_ck (by decide +kernel)
theorem tx_2 (hn : (Cond.and given_1 narrow_1).before args s = true) (hA : ∀ a : Nat, a < s.heap.size → ¬ hbA (gh s sl) a) : ∃ a t, (Term.string "java/util/ArrayList" 201).eval args s none [] s = some (.ref a) ∧ StrAt s (hbA (gh s sl)) a t ts2 := st_of hn (by decide +kernel) (by decide) hA
theorem tg_2 (hts : ∀ w ∈ lw_tbl, w.before args s = true) (hn : (Cond.and given_1 narrow_1).before args s = true) (hA : ∀ a : Nat, a < s.heap.size → ¬ hbA (gh s sl) a) : ∃ a, stG args s 2 = some a ∧ vk_R "java/util/ArrayList" 201 "Index: " a s := by
  obtain ⟨a, t, h1, -⟩ := tx_2 (sl := sl) hn hA
  refine ⟨a, ?_, ?_⟩
  · show vRef ((Term.string "java/util/ArrayList" 201).eval args s none [] s) = some a
    rw [h1]
    rfl
  · exact vk_any (hts _ W3957) h1
theorem tx_3 (hn : (Cond.and given_1 narrow_1).before args s = true) (hA : ∀ a : Nat, a < s.heap.size → ¬ hbA (gh s sl) a) : ∃ a t, (Term.string "java/util/ArrayList" 203).eval args s none [] s = some (.ref a) ∧ StrAt s (hbA (gh s sl)) a t ts3 := st_of hn (by decide +kernel) (by decide) hA
theorem tg_3 (hts : ∀ w ∈ lw_tbl, w.before args s = true) (hn : (Cond.and given_1 narrow_1).before args s = true) (hA : ∀ a : Nat, a < s.heap.size → ¬ hbA (gh s sl) a) : ∃ a, stG args s 3 = some a ∧ vk_R "java/util/ArrayList" 203 ", Size: " a s := by
  obtain ⟨a, t, h1, -⟩ := tx_3 (sl := sl) hn hA
  refine ⟨a, ?_, ?_⟩
  · show vRef ((Term.string "java/util/ArrayList" 203).eval args s none [] s) = some a
    rw [h1]
    rfl
  · exact vk_any (hts _ W4076) h1
theorem tx_40 (hn : (Cond.and given_1 narrow_1).before args s = true) (hA : ∀ a : Nat, a < s.heap.size → ¬ hbA (gh s sl) a) : ∃ a t, (Term.string "KeelHouseModel" 573).eval args s none [] s = some (.ref a) ∧ StrAt s (hbA (gh s sl)) a t ts40 := st_of hn (by decide +kernel) (by decide) hA
theorem tg_40 (hts : ∀ w ∈ lw_tbl, w.before args s = true) (hn : (Cond.and given_1 narrow_1).before args s = true) (hA : ∀ a : Nat, a < s.heap.size → ¬ hbA (gh s sl) a) : ∃ a, stG args s 40 = some a ∧ vk_R "KeelHouseModel" 573 "" a s := by
  obtain ⟨a, t, h1, -⟩ := tx_40 (sl := sl) hn hA
  refine ⟨a, ?_, ?_⟩
  · show vRef ((Term.string "KeelHouseModel" 573).eval args s none [] s) = some a
    rw [h1]
    rfl
  · exact vk_any (hts _ W5602) h1
theorem tx_41 (hn : (Cond.and given_1 narrow_1).before args s = true) (hA : ∀ a : Nat, a < s.heap.size → ¬ hbA (gh s sl) a) : ∃ a t, (Term.string "KeelHouse$Stage$1" 7).eval args s none [] s = some (.ref a) ∧ StrAt s (hbA (gh s sl)) a t ts41 := st_of hn (by decide +kernel) (by decide) hA
theorem tg_41 (hts : ∀ w ∈ lw_tbl, w.before args s = true) (hn : (Cond.and given_1 narrow_1).before args s = true) (hA : ∀ a : Nat, a < s.heap.size → ¬ hbA (gh s sl) a) : ∃ a, stG args s 41 = some a ∧ vk_R "KeelHouse$Stage$1" 7 "drawn" a s ∧ vk_R "KeelHouseModel" 577 "drawn" a s := by
  obtain ⟨a, t, h1, -⟩ := tx_41 (sl := sl) hn hA
  refine ⟨a, ?_, ?_, ?_⟩
  · show vRef ((Term.string "KeelHouse$Stage$1" 7).eval args s none [] s) = some a
    rw [h1]
    rfl
  · exact vk_any (hts _ W4248) h1
  · exact vk_any (hts _ W5605) (eq_r (nar_of hn (ws := [Cond.eq (.string "KeelHouse$Stage$1" 7) (.string "KeelHouseModel" 577)]) (by decide +kernel) _ List.mem_cons_self) h1)
theorem tx_42 (hn : (Cond.and given_1 narrow_1).before args s = true) (hA : ∀ a : Nat, a < s.heap.size → ¬ hbA (gh s sl) a) : ∃ a t, (Term.string "KeelHouse$Stage$2" 7).eval args s none [] s = some (.ref a) ∧ StrAt s (hbA (gh s sl)) a t ts42 := st_of hn (by decide +kernel) (by decide) hA
theorem tg_42 (hts : ∀ w ∈ lw_tbl, w.before args s = true) (hn : (Cond.and given_1 narrow_1).before args s = true) (hA : ∀ a : Nat, a < s.heap.size → ¬ hbA (gh s sl) a) : ∃ a, stG args s 42 = some a ∧ vk_R "KeelHouse$Stage$2" 7 "slip" a s ∧ vk_R "KeelHouseModel" 579 "slip" a s := by
  obtain ⟨a, t, h1, -⟩ := tx_42 (sl := sl) hn hA
  refine ⟨a, ?_, ?_, ?_⟩
  · show vRef ((Term.string "KeelHouse$Stage$2" 7).eval args s none [] s) = some a
    rw [h1]
    rfl
  · exact vk_any (hts _ W4252) h1
  · exact vk_any (hts _ W5606) (eq_r (nar_of hn (ws := [Cond.eq (.string "KeelHouse$Stage$2" 7) (.string "KeelHouseModel" 579)]) (by decide +kernel) _ List.mem_cons_self) h1)
theorem tx_43 (hn : (Cond.and given_1 narrow_1).before args s = true) (hA : ∀ a : Nat, a < s.heap.size → ¬ hbA (gh s sl) a) : ∃ a t, (Term.string "KeelHouse$Stage$3" 7).eval args s none [] s = some (.ref a) ∧ StrAt s (hbA (gh s sl)) a t ts43 := st_of hn (by decide +kernel) (by decide) hA
theorem tg_43 (hts : ∀ w ∈ lw_tbl, w.before args s = true) (hn : (Cond.and given_1 narrow_1).before args s = true) (hA : ∀ a : Nat, a < s.heap.size → ¬ hbA (gh s sl) a) : ∃ a, stG args s 43 = some a ∧ vk_R "KeelHouse$Stage$3" 7 "afloat" a s ∧ vk_R "KeelHouseModel" 581 "afloat" a s := by
  obtain ⟨a, t, h1, -⟩ := tx_43 (sl := sl) hn hA
  refine ⟨a, ?_, ?_, ?_⟩
  · show vRef ((Term.string "KeelHouse$Stage$3" 7).eval args s none [] s) = some a
    rw [h1]
    rfl
  · exact vk_any (hts _ W4256) h1
  · exact vk_any (hts _ W5607) (eq_r (nar_of hn (ws := [Cond.eq (.string "KeelHouse$Stage$3" 7) (.string "KeelHouseModel" 581)]) (by decide +kernel) _ List.mem_cons_self) h1)
theorem tx_44 (hn : (Cond.and given_1 narrow_1).before args s = true) (hA : ∀ a : Nat, a < s.heap.size → ¬ hbA (gh s sl) a) : ∃ a t, (Term.string "KeelHouse$Stage$4" 7).eval args s none [] s = some (.ref a) ∧ StrAt s (hbA (gh s sl)) a t ts44 := st_of hn (by decide +kernel) (by decide) hA
theorem tg_44 (hts : ∀ w ∈ lw_tbl, w.before args s = true) (hn : (Cond.and given_1 narrow_1).before args s = true) (hA : ∀ a : Nat, a < s.heap.size → ¬ hbA (gh s sl) a) : ∃ a, stG args s 44 = some a ∧ vk_R "KeelHouse$Stage$4" 7 "ready" a s ∧ vk_R "KeelHouseModel" 583 "ready" a s := by
  obtain ⟨a, t, h1, -⟩ := tx_44 (sl := sl) hn hA
  refine ⟨a, ?_, ?_, ?_⟩
  · show vRef ((Term.string "KeelHouse$Stage$4" 7).eval args s none [] s) = some a
    rw [h1]
    rfl
  · exact vk_any (hts _ W4260) h1
  · exact vk_any (hts _ W5608) (eq_r (nar_of hn (ws := [Cond.eq (.string "KeelHouse$Stage$4" 7) (.string "KeelHouseModel" 583)]) (by decide +kernel) _ List.mem_cons_self) h1)
theorem tx_45 (hn : (Cond.and given_1 narrow_1).before args s = true) (hA : ∀ a : Nat, a < s.heap.size → ¬ hbA (gh s sl) a) : ∃ a t, (Term.string "KeelHouse$Stage$5" 7).eval args s none [] s = some (.ref a) ∧ StrAt s (hbA (gh s sl)) a t ts45 := st_of hn (by decide +kernel) (by decide) hA
theorem tg_45 (hts : ∀ w ∈ lw_tbl, w.before args s = true) (hn : (Cond.and given_1 narrow_1).before args s = true) (hA : ∀ a : Nat, a < s.heap.size → ¬ hbA (gh s sl) a) : ∃ a, stG args s 45 = some a ∧ vk_R "KeelHouse$Stage$5" 7 "lost" a s ∧ vk_R "KeelHouseModel" 585 "lost" a s := by
  obtain ⟨a, t, h1, -⟩ := tx_45 (sl := sl) hn hA
  refine ⟨a, ?_, ?_, ?_⟩
  · show vRef ((Term.string "KeelHouse$Stage$5" 7).eval args s none [] s) = some a
    rw [h1]
    rfl
  · exact vk_any (hts _ W4264) h1
  · exact vk_any (hts _ W5609) (eq_r (nar_of hn (ws := [Cond.eq (.string "KeelHouse$Stage$5" 7) (.string "KeelHouseModel" 585)]) (by decide +kernel) _ List.mem_cons_self) h1)
theorem tx_46 (hn : (Cond.and given_1 narrow_1).before args s = true) (hA : ∀ a : Nat, a < s.heap.size → ¬ hbA (gh s sl) a) : ∃ a t, (Term.string "KeelHouse$Stage$6" 7).eval args s none [] s = some (.ref a) ∧ StrAt s (hbA (gh s sl)) a t ts46 := st_of hn (by decide +kernel) (by decide) hA
theorem tg_46 (hts : ∀ w ∈ lw_tbl, w.before args s = true) (hn : (Cond.and given_1 narrow_1).before args s = true) (hA : ∀ a : Nat, a < s.heap.size → ¬ hbA (gh s sl) a) : ∃ a, stG args s 46 = some a ∧ vk_R "KeelHouse$Stage$6" 7 "sold" a s ∧ vk_R "KeelHouseModel" 587 "sold" a s := by
  obtain ⟨a, t, h1, -⟩ := tx_46 (sl := sl) hn hA
  refine ⟨a, ?_, ?_, ?_⟩
  · show vRef ((Term.string "KeelHouse$Stage$6" 7).eval args s none [] s) = some a
    rw [h1]
    rfl
  · exact vk_any (hts _ W4268) h1
  · exact vk_any (hts _ W5610) (eq_r (nar_of hn (ws := [Cond.eq (.string "KeelHouse$Stage$6" 7) (.string "KeelHouseModel" 587)]) (by decide +kernel) _ List.mem_cons_self) h1)
theorem tx_47 (hn : (Cond.and given_1 narrow_1).before args s = true) (hA : ∀ a : Nat, a < s.heap.size → ¬ hbA (gh s sl) a) : ∃ a t, (Term.string "KeelHouse$Ship" 191).eval args s none [] s = some (.ref a) ∧ StrAt s (hbA (gh s sl)) a t ts47 := st_of hn (by decide +kernel) (by decide) hA
theorem tg_47 (hts : ∀ w ∈ lw_tbl, w.before args s = true) (hn : (Cond.and given_1 narrow_1).before args s = true) (hA : ∀ a : Nat, a < s.heap.size → ¬ hbA (gh s sl) a) : ∃ a, stG args s 47 = some a ∧ vk_R "KeelHouse$Ship" 191 " " a s ∧ vk_R "KeelHouseModel" 596 " " a s := by
  obtain ⟨a, t, h1, -⟩ := tx_47 (sl := sl) hn hA
  refine ⟨a, ?_, ?_, ?_⟩
  · show vRef ((Term.string "KeelHouse$Ship" 191).eval args s none [] s) = some a
    rw [h1]
    rfl
  · exact vk_any (hts _ W4240) h1
  · exact vk_any (hts _ W5614) (eq_r (nar_of hn (ws := [Cond.eq (.string "KeelHouse$Ship" 191) (.string "KeelHouseModel" 596)]) (by decide +kernel) _ List.mem_cons_self) h1)
theorem tx_48 (hn : (Cond.and given_1 narrow_1).before args s = true) (hA : ∀ a : Nat, a < s.heap.size → ¬ hbA (gh s sl) a) : ∃ a t, (Term.string "KeelHouse$Ship" 210).eval args s none [] s = some (.ref a) ∧ StrAt s (hbA (gh s sl)) a t ts48 := st_of hn (by decide +kernel) (by decide) hA
theorem tg_48 (hts : ∀ w ∈ lw_tbl, w.before args s = true) (hn : (Cond.and given_1 narrow_1).before args s = true) (hA : ∀ a : Nat, a < s.heap.size → ¬ hbA (gh s sl) a) : ∃ a, stG args s 48 = some a ∧ vk_R "KeelHouse$Ship" 210 " at " a s ∧ vk_R "KeelHouseModel" 605 " at " a s := by
  obtain ⟨a, t, h1, -⟩ := tx_48 (sl := sl) hn hA
  refine ⟨a, ?_, ?_, ?_⟩
  · show vRef ((Term.string "KeelHouse$Ship" 210).eval args s none [] s) = some a
    rw [h1]
    rfl
  · exact vk_any (hts _ W4272) h1
  · exact vk_any (hts _ W5617) (eq_r (nar_of hn (ws := [Cond.eq (.string "KeelHouse$Ship" 210) (.string "KeelHouseModel" 605)]) (by decide +kernel) _ List.mem_cons_self) h1)
theorem tx_49 (hn : (Cond.and given_1 narrow_1).before args s = true) (hA : ∀ a : Nat, a < s.heap.size → ¬ hbA (gh s sl) a) : ∃ a t, (Term.string "KeelHouse$Ship" 203).eval args s none [] s = some (.ref a) ∧ StrAt s (hbA (gh s sl)) a t ts49 := st_of hn (by decide +kernel) (by decide) hA
theorem tg_49 (hts : ∀ w ∈ lw_tbl, w.before args s = true) (hn : (Cond.and given_1 narrow_1).before args s = true) (hA : ∀ a : Nat, a < s.heap.size → ¬ hbA (gh s sl) a) : ∃ a, stG args s 49 = some a ∧ vk_R "KeelHouse$Ship" 203 " at sea" a s ∧ vk_R "KeelHouseModel" 607 " at sea" a s := by
  obtain ⟨a, t, h1, -⟩ := tx_49 (sl := sl) hn hA
  refine ⟨a, ?_, ?_, ?_⟩
  · show vRef ((Term.string "KeelHouse$Ship" 203).eval args s none [] s) = some a
    rw [h1]
    rfl
  · exact vk_any (hts _ W4270) h1
  · exact vk_any (hts _ W5618) (eq_r (nar_of hn (ws := [Cond.eq (.string "KeelHouse$Ship" 203) (.string "KeelHouseModel" 607)]) (by decide +kernel) _ List.mem_cons_self) h1)
theorem tx_50 (hn : (Cond.and given_1 narrow_1).before args s = true) (hA : ∀ a : Nat, a < s.heap.size → ¬ hbA (gh s sl) a) : ∃ a t, (Term.string "KeelHouse$Ship" 205).eval args s none [] s = some (.ref a) ∧ StrAt s (hbA (gh s sl)) a t ts50 := st_of hn (by decide +kernel) (by decide) hA
theorem tg_50 (hts : ∀ w ∈ lw_tbl, w.before args s = true) (hn : (Cond.and given_1 narrow_1).before args s = true) (hA : ∀ a : Nat, a < s.heap.size → ¬ hbA (gh s sl) a) : ∃ a, stG args s 50 = some a ∧ vk_R "KeelHouse$Ship" 205 " at port " a s ∧ vk_R "KeelHouseModel" 609 " at port " a s := by
  obtain ⟨a, t, h1, -⟩ := tx_50 (sl := sl) hn hA
  refine ⟨a, ?_, ?_, ?_⟩
  · show vRef ((Term.string "KeelHouse$Ship" 205).eval args s none [] s) = some a
    rw [h1]
    rfl
  · exact vk_any (hts _ W4271) h1
  · exact vk_any (hts _ W5619) (eq_r (nar_of hn (ws := [Cond.eq (.string "KeelHouse$Ship" 205) (.string "KeelHouseModel" 609)]) (by decide +kernel) _ List.mem_cons_self) h1)
theorem tx_66 (hn : (Cond.and given_1 narrow_1).before args s = true) (hA : ∀ a : Nat, a < s.heap.size → ¬ hbA (gh s sl) a) : ∃ a t, (Term.string "KeelHouse$Form$2" 7).eval args s none [] s = some (.ref a) ∧ StrAt s (hbA (gh s sl)) a t ts66 := st_of hn (by decide +kernel) (by decide) hA
theorem tg_66 (hts : ∀ w ∈ lw_tbl, w.before args s = true) (hn : (Cond.and given_1 narrow_1).before args s = true) (hA : ∀ a : Nat, a < s.heap.size → ¬ hbA (gh s sl) a) : ∃ a, stG args s 66 = some a ∧ vk_R "KeelHouse$Form$2" 7 "3688862" a s := by
  obtain ⟨a, t, h1, -⟩ := tx_66 (sl := sl) hn hA
  refine ⟨a, ?_, ?_⟩
  · show vRef ((Term.string "KeelHouse$Form$2" 7).eval args s none [] s) = some a
    rw [h1]
    rfl
  · exact vk_any (hts _ W1835) h1
theorem tx_67 (hn : (Cond.and given_1 narrow_1).before args s = true) (hA : ∀ a : Nat, a < s.heap.size → ¬ hbA (gh s sl) a) : ∃ a t, (Term.string "KeelHouse$Form$2" 15).eval args s none [] s = some (.ref a) ∧ StrAt s (hbA (gh s sl)) a t ts67 := st_of hn (by decide +kernel) (by decide) hA
theorem tg_67 (hts : ∀ w ∈ lw_tbl, w.before args s = true) (hn : (Cond.and given_1 narrow_1).before args s = true) (hA : ∀ a : Nat, a < s.heap.size → ¬ hbA (gh s sl) a) : ∃ a, stG args s 67 = some a ∧ vk_R "KeelHouse$Form$2" 15 "47888" a s := by
  obtain ⟨a, t, h1, -⟩ := tx_67 (sl := sl) hn hA
  refine ⟨a, ?_, ?_⟩
  · show vRef ((Term.string "KeelHouse$Form$2" 15).eval args s none [] s) = some a
    rw [h1]
    rfl
  · exact vk_any (hts _ W1891) h1
theorem tx_68 (hn : (Cond.and given_1 narrow_1).before args s = true) (hA : ∀ a : Nat, a < s.heap.size → ¬ hbA (gh s sl) a) : ∃ a t, (Term.string "KeelHouse$Form$3" 7).eval args s none [] s = some (.ref a) ∧ StrAt s (hbA (gh s sl)) a t ts68 := st_of hn (by decide +kernel) (by decide) hA
theorem tg_68 (hts : ∀ w ∈ lw_tbl, w.before args s = true) (hn : (Cond.and given_1 narrow_1).before args s = true) (hA : ∀ a : Nat, a < s.heap.size → ¬ hbA (gh s sl) a) : ∃ a, stG args s 68 = some a ∧ vk_R "KeelHouse$Form$3" 7 "1478630" a s := by
  obtain ⟨a, t, h1, -⟩ := tx_68 (sl := sl) hn hA
  refine ⟨a, ?_, ?_⟩
  · show vRef ((Term.string "KeelHouse$Form$3" 7).eval args s none [] s) = some a
    rw [h1]
    rfl
  · exact vk_any (hts _ W1880) h1
theorem tx_69 (hn : (Cond.and given_1 narrow_1).before args s = true) (hA : ∀ a : Nat, a < s.heap.size → ¬ hbA (gh s sl) a) : ∃ a t, (Term.string "KeelHouse$Form$3" 15).eval args s none [] s = some (.ref a) ∧ StrAt s (hbA (gh s sl)) a t ts69 := st_of hn (by decide +kernel) (by decide) hA
theorem tg_69 (hts : ∀ w ∈ lw_tbl, w.before args s = true) (hn : (Cond.and given_1 narrow_1).before args s = true) (hA : ∀ a : Nat, a < s.heap.size → ¬ hbA (gh s sl) a) : ∃ a, stG args s 69 = some a ∧ vk_R "KeelHouse$Form$3" 15 "14688" a s := by
  obtain ⟨a, t, h1, -⟩ := tx_69 (sl := sl) hn hA
  refine ⟨a, ?_, ?_⟩
  · show vRef ((Term.string "KeelHouse$Form$3" 15).eval args s none [] s) = some a
    rw [h1]
    rfl
  · exact vk_any (hts _ W1895) h1
theorem tg_all (hts : ∀ w ∈ lw_tbl, w.before args s = true) (hn : (Cond.and given_1 narrow_1).before args s = true) (hA : ∀ a : Nat, a < s.heap.size → ¬ hbA (gh s sl) a) : ∀ (g : Nat) (tx : String), gTb[g]? = some (1, tx, "", "") → ∀ (own : String) (k : Nat), Cond.stringRef own k tx ∈ lw_tbl → ∃ a, stG args s g = some a ∧ vk_R own k tx a s := by
  intro g tx h own k hw
  have hm := str_all _ hw rfl
  simp only [List.mem_cons, List.not_mem_nil, or_false, Cond.stringRef.injEq] at hm
  rcases hm with ⟨rfl, rfl, rfl⟩ | ⟨rfl, rfl, rfl⟩ | ⟨rfl, rfl, rfl⟩ | ⟨rfl, rfl, rfl⟩ | ⟨rfl, rfl, rfl⟩ | ⟨rfl, rfl, rfl⟩ | ⟨rfl, rfl, rfl⟩ | ⟨rfl, rfl, rfl⟩ | ⟨rfl, rfl, rfl⟩ | ⟨rfl, rfl, rfl⟩ | ⟨rfl, rfl, rfl⟩ | ⟨rfl, rfl, rfl⟩ | ⟨rfl, rfl, rfl⟩ | ⟨rfl, rfl, rfl⟩ | ⟨rfl, rfl, rfl⟩ | ⟨rfl, rfl, rfl⟩ | ⟨rfl, rfl, rfl⟩ | ⟨rfl, rfl, rfl⟩ | ⟨rfl, rfl, rfl⟩ | ⟨rfl, rfl, rfl⟩ | ⟨rfl, rfl, rfl⟩ | ⟨rfl, rfl, rfl⟩ | ⟨rfl, rfl, rfl⟩ | ⟨rfl, rfl, rfl⟩ | ⟨rfl, rfl, rfl⟩ | ⟨rfl, rfl, rfl⟩ | ⟨rfl, rfl, rfl⟩ | ⟨rfl, rfl, rfl⟩
  · have e := gTb_at (k := 66) (by decide +kernel) g h
    subst e
    obtain ⟨a, h0, x0⟩ := tg_66 (sl := sl) hts hn hA
    exact ⟨a, h0, x0⟩
  · have e := gTb_at (k := 68) (by decide +kernel) g h
    subst e
    obtain ⟨a, h0, x0⟩ := tg_68 (sl := sl) hts hn hA
    exact ⟨a, h0, x0⟩
  · have e := gTb_at (k := 67) (by decide +kernel) g h
    subst e
    obtain ⟨a, h0, x0⟩ := tg_67 (sl := sl) hts hn hA
    exact ⟨a, h0, x0⟩
  · have e := gTb_at (k := 69) (by decide +kernel) g h
    subst e
    obtain ⟨a, h0, x0⟩ := tg_69 (sl := sl) hts hn hA
    exact ⟨a, h0, x0⟩
  · have e := gTb_at (k := 2) (by decide +kernel) g h
    subst e
    obtain ⟨a, h0, x0⟩ := tg_2 (sl := sl) hts hn hA
    exact ⟨a, h0, x0⟩
  · have e := gTb_at (k := 3) (by decide +kernel) g h
    subst e
    obtain ⟨a, h0, x0⟩ := tg_3 (sl := sl) hts hn hA
    exact ⟨a, h0, x0⟩
  · exact absurd h (gTb_no (by decide +kernel) g)
  · have e := gTb_at (k := 47) (by decide +kernel) g h
    subst e
    obtain ⟨a, h0, x0, x1⟩ := tg_47 (sl := sl) hts hn hA
    exact ⟨a, h0, x0⟩
  · have e := gTb_at (k := 41) (by decide +kernel) g h
    subst e
    obtain ⟨a, h0, x0, x1⟩ := tg_41 (sl := sl) hts hn hA
    exact ⟨a, h0, x0⟩
  · have e := gTb_at (k := 42) (by decide +kernel) g h
    subst e
    obtain ⟨a, h0, x0, x1⟩ := tg_42 (sl := sl) hts hn hA
    exact ⟨a, h0, x0⟩
  · have e := gTb_at (k := 43) (by decide +kernel) g h
    subst e
    obtain ⟨a, h0, x0, x1⟩ := tg_43 (sl := sl) hts hn hA
    exact ⟨a, h0, x0⟩
  · have e := gTb_at (k := 44) (by decide +kernel) g h
    subst e
    obtain ⟨a, h0, x0, x1⟩ := tg_44 (sl := sl) hts hn hA
    exact ⟨a, h0, x0⟩
  · have e := gTb_at (k := 45) (by decide +kernel) g h
    subst e
    obtain ⟨a, h0, x0, x1⟩ := tg_45 (sl := sl) hts hn hA
    exact ⟨a, h0, x0⟩
  · have e := gTb_at (k := 46) (by decide +kernel) g h
    subst e
    obtain ⟨a, h0, x0, x1⟩ := tg_46 (sl := sl) hts hn hA
    exact ⟨a, h0, x0⟩
  · have e := gTb_at (k := 49) (by decide +kernel) g h
    subst e
    obtain ⟨a, h0, x0, x1⟩ := tg_49 (sl := sl) hts hn hA
    exact ⟨a, h0, x0⟩
  · have e := gTb_at (k := 50) (by decide +kernel) g h
    subst e
    obtain ⟨a, h0, x0, x1⟩ := tg_50 (sl := sl) hts hn hA
    exact ⟨a, h0, x0⟩
  · have e := gTb_at (k := 48) (by decide +kernel) g h
    subst e
    obtain ⟨a, h0, x0, x1⟩ := tg_48 (sl := sl) hts hn hA
    exact ⟨a, h0, x0⟩
  · have e := gTb_at (k := 40) (by decide +kernel) g h
    subst e
    obtain ⟨a, h0, x0⟩ := tg_40 (sl := sl) hts hn hA
    exact ⟨a, h0, x0⟩
  · have e := gTb_at (k := 41) (by decide +kernel) g h
    subst e
    obtain ⟨a, h0, x0, x1⟩ := tg_41 (sl := sl) hts hn hA
    exact ⟨a, h0, x1⟩
  · have e := gTb_at (k := 42) (by decide +kernel) g h
    subst e
    obtain ⟨a, h0, x0, x1⟩ := tg_42 (sl := sl) hts hn hA
    exact ⟨a, h0, x1⟩
  · have e := gTb_at (k := 43) (by decide +kernel) g h
    subst e
    obtain ⟨a, h0, x0, x1⟩ := tg_43 (sl := sl) hts hn hA
    exact ⟨a, h0, x1⟩
  · have e := gTb_at (k := 44) (by decide +kernel) g h
    subst e
    obtain ⟨a, h0, x0, x1⟩ := tg_44 (sl := sl) hts hn hA
    exact ⟨a, h0, x1⟩
  · have e := gTb_at (k := 45) (by decide +kernel) g h
    subst e
    obtain ⟨a, h0, x0, x1⟩ := tg_45 (sl := sl) hts hn hA
    exact ⟨a, h0, x1⟩
  · have e := gTb_at (k := 46) (by decide +kernel) g h
    subst e
    obtain ⟨a, h0, x0, x1⟩ := tg_46 (sl := sl) hts hn hA
    exact ⟨a, h0, x1⟩
  · have e := gTb_at (k := 47) (by decide +kernel) g h
    subst e
    obtain ⟨a, h0, x0, x1⟩ := tg_47 (sl := sl) hts hn hA
    exact ⟨a, h0, x1⟩
  · have e := gTb_at (k := 48) (by decide +kernel) g h
    subst e
    obtain ⟨a, h0, x0, x1⟩ := tg_48 (sl := sl) hts hn hA
    exact ⟨a, h0, x1⟩
  · have e := gTb_at (k := 49) (by decide +kernel) g h
    subst e
    obtain ⟨a, h0, x0, x1⟩ := tg_49 (sl := sl) hts hn hA
    exact ⟨a, h0, x1⟩
  · have e := gTb_at (k := 50) (by decide +kernel) g h
    subst e
    obtain ⟨a, h0, x0, x1⟩ := tg_50 (sl := sl) hts hn hA
    exact ⟨a, h0, x1⟩
theorem en_all (hn : (Cond.and given_1 narrow_1).before args s = true) (hA : ∀ a : Nat, a < s.heap.size → ¬ hbA (gh s sl) a) : ∀ z ∈ eTb, ∃ a, stG args s z.1 = some a ∧ va_O z.2 a (hbA (gh s sl)) s s.heap :=
  List.forall_mem_cons.mpr ⟨en_of (g := 9) rfl (nar_of hn (ws := [Cond.exactly (.static "KeelHouse$Sea" "STILL" "LKeelHouse$Sea;") "KeelHouse$Sea$1"]) (by decide +kernel) _ List.mem_cons_self) hA, List.forall_mem_cons.mpr ⟨en_of (g := 10) rfl (nar_of hn (ws := [Cond.exactly (.static "KeelHouse$Sea" "HOLLOW" "LKeelHouse$Sea;") "KeelHouse$Sea$2"]) (by decide +kernel) _ List.mem_cons_self) hA, List.forall_mem_cons.mpr ⟨en_of (g := 11) rfl (nar_of hn (ws := [Cond.exactly (.static "KeelHouse$Sea" "CREST" "LKeelHouse$Sea;") "KeelHouse$Sea$3"]) (by decide +kernel) _ List.mem_cons_self) hA, List.forall_mem_cons.mpr ⟨en_of (g := 12) rfl (nar_of hn (ws := [Cond.exactly (.static "KeelHouse$Form" "BOX" "LKeelHouse$Form;") "KeelHouse$Form$1"]) (by decide +kernel) _ List.mem_cons_self) hA, List.forall_mem_cons.mpr ⟨en_of (g := 13) rfl (nar_of hn (ws := [Cond.exactly (.static "KeelHouse$Form" "FULL" "LKeelHouse$Form;") "KeelHouse$Form$2"]) (by decide +kernel) _ List.mem_cons_self) hA, List.forall_mem_cons.mpr ⟨en_of (g := 14) rfl (nar_of hn (ws := [Cond.exactly (.static "KeelHouse$Form" "FINE" "LKeelHouse$Form;") "KeelHouse$Form$3"]) (by decide +kernel) _ List.mem_cons_self) hA, List.forall_mem_cons.mpr ⟨en_of (g := 15) rfl (nar_of hn (ws := [Cond.exactly (.static "KeelHouse$Stage" "DRAWN" "LKeelHouse$Stage;") "KeelHouse$Stage$1"]) (by decide +kernel) _ List.mem_cons_self) hA, List.forall_mem_cons.mpr ⟨en_of (g := 16) rfl (nar_of hn (ws := [Cond.exactly (.static "KeelHouse$Stage" "SLIP" "LKeelHouse$Stage;") "KeelHouse$Stage$2"]) (by decide +kernel) _ List.mem_cons_self) hA, List.forall_mem_cons.mpr ⟨en_of (g := 17) rfl (nar_of hn (ws := [Cond.exactly (.static "KeelHouse$Account" "STEEL" "LKeelHouse$Account;") "KeelHouse$Account$1"]) (by decide +kernel) _ List.mem_cons_self) hA, List.forall_mem_cons.mpr ⟨en_of (g := 18) rfl (nar_of hn (ws := [Cond.exactly (.static "KeelHouse$Stage" "LOST" "LKeelHouse$Stage;") "KeelHouse$Stage$5"]) (by decide +kernel) _ List.mem_cons_self) hA, List.forall_mem_cons.mpr ⟨en_of (g := 19) rfl (nar_of hn (ws := [Cond.exactly (.static "KeelHouse$Stage" "AFLOAT" "LKeelHouse$Stage;") "KeelHouse$Stage$3"]) (by decide +kernel) _ List.mem_cons_self) hA, List.forall_mem_cons.mpr ⟨en_of (g := 20) rfl (nar_of hn (ws := [Cond.exactly (.static "KeelHouse$Account" "WAGES" "LKeelHouse$Account;") "KeelHouse$Account$2"]) (by decide +kernel) _ List.mem_cons_self) hA, List.forall_mem_cons.mpr ⟨en_of (g := 21) rfl (nar_of hn (ws := [Cond.exactly (.static "KeelHouse$Account" "SPOTS" "LKeelHouse$Account;") "KeelHouse$Account$3"]) (by decide +kernel) _ List.mem_cons_self) hA, List.forall_mem_cons.mpr ⟨en_of (g := 22) rfl (nar_of hn (ws := [Cond.exactly (.static "KeelHouse$Account" "MENDING" "LKeelHouse$Account;") "KeelHouse$Account$8"]) (by decide +kernel) _ List.mem_cons_self) hA, List.forall_mem_cons.mpr ⟨en_of (g := 23) rfl (nar_of hn (ws := [Cond.exactly (.static "KeelHouse$Account" "PIPES" "LKeelHouse$Account;") "KeelHouse$Account$9"]) (by decide +kernel) _ List.mem_cons_self) hA, List.forall_mem_cons.mpr ⟨en_of (g := 24) rfl (nar_of hn (ws := [Cond.exactly (.static "KeelHouse$Stage" "READY" "LKeelHouse$Stage;") "KeelHouse$Stage$4"]) (by decide +kernel) _ List.mem_cons_self) hA, List.forall_mem_cons.mpr ⟨en_of (g := 25) rfl (nar_of hn (ws := [Cond.exactly (.static "KeelHouse$Stage" "SOLD" "LKeelHouse$Stage;") "KeelHouse$Stage$6"]) (by decide +kernel) _ List.mem_cons_self) hA, List.forall_mem_cons.mpr ⟨en_of (g := 26) rfl (nar_of hn (ws := [Cond.exactly (.static "KeelHouse$Account" "FUEL" "LKeelHouse$Account;") "KeelHouse$Account$6"]) (by decide +kernel) _ List.mem_cons_self) hA, List.forall_mem_cons.mpr ⟨en_of (g := 27) rfl (nar_of hn (ws := [Cond.exactly (.static "KeelHouse$Account" "FREIGHT" "LKeelHouse$Account;") "KeelHouse$Account$7"]) (by decide +kernel) _ List.mem_cons_self) hA, List.forall_mem_cons.mpr ⟨en_of (g := 28) rfl (nar_of hn (ws := [Cond.exactly (.static "KeelHouse$Spot" "BERTH" "LKeelHouse$Spot;") "KeelHouse$Spot$5"]) (by decide +kernel) _ List.mem_cons_self) hA, List.forall_mem_cons.mpr ⟨en_of (g := 29) rfl (nar_of hn (ws := [Cond.exactly (.static "KeelHouse$Spot" "SMALL_BERTH" "LKeelHouse$Spot;") "KeelHouse$Spot$4"]) (by decide +kernel) _ List.mem_cons_self) hA, List.forall_mem_cons.mpr ⟨en_of (g := 30) rfl (nar_of hn (ws := [Cond.exactly (.static "KeelHouse$Spot" "DOCK" "LKeelHouse$Spot;") "KeelHouse$Spot$3"]) (by decide +kernel) _ List.mem_cons_self) hA, List.forall_mem_cons.mpr ⟨en_of (g := 31) rfl (nar_of hn (ws := [Cond.exactly (.static "KeelHouse$Spot" "GREAT_SLIP" "LKeelHouse$Spot;") "KeelHouse$Spot$2"]) (by decide +kernel) _ List.mem_cons_self) hA, List.forall_mem_cons.mpr ⟨en_of (g := 32) rfl (nar_of hn (ws := [Cond.exactly (.static "KeelHouse$Spot" "SMALL_SLIP" "LKeelHouse$Spot;") "KeelHouse$Spot$1"]) (by decide +kernel) _ List.mem_cons_self) hA, List.forall_mem_cons.mpr ⟨en_of (g := 33) rfl (nar_of hn (ws := [Cond.exactly (.static "KeelHouse$Spot" "GREAT_BERTH" "LKeelHouse$Spot;") "KeelHouse$Spot$6"]) (by decide +kernel) _ List.mem_cons_self) hA, List.forall_mem_cons.mpr ⟨en_of (g := 34) rfl (nar_of hn (ws := [Cond.exactly (.static "KeelHouse$Account" "CONTRACTS" "LKeelHouse$Account;") "KeelHouse$Account$4"]) (by decide +kernel) _ List.mem_cons_self) hA, List.forall_mem_cons.mpr ⟨en_of (g := 35) rfl (nar_of hn (ws := [Cond.exactly (.static "KeelHouse$Account" "FINES" "LKeelHouse$Account;") "KeelHouse$Account$5"]) (by decide +kernel) _ List.mem_cons_self) hA, List.forall_mem_cons.mpr ⟨en_of (g := 58) rfl (nar_of hn (ws := [Cond.exactly (.static "KeelHouse$Rule" "LEVEL" "LKeelHouse$Rule;") "KeelHouse$Rule$7"]) (by decide +kernel) _ List.mem_cons_self) hA, List.forall_mem_cons.mpr ⟨en_of (g := 59) rfl (nar_of hn (ws := [Cond.exactly (.static "KeelHouse$Rule" "SPARE" "LKeelHouse$Rule;") "KeelHouse$Rule$6"]) (by decide +kernel) _ List.mem_cons_self) hA, List.forall_mem_cons.mpr ⟨en_of (g := 60) rfl (nar_of hn (ws := [Cond.exactly (.static "KeelHouse$Rule" "FAST" "LKeelHouse$Rule;") "KeelHouse$Rule$5"]) (by decide +kernel) _ List.mem_cons_self) hA, List.forall_mem_cons.mpr ⟨en_of (g := 61) rfl (nar_of hn (ws := [Cond.exactly (.static "KeelHouse$Rule" "SURVIVES" "LKeelHouse$Rule;") "KeelHouse$Rule$4"]) (by decide +kernel) _ List.mem_cons_self) hA, List.forall_mem_cons.mpr ⟨en_of (g := 62) rfl (nar_of hn (ws := [Cond.exactly (.static "KeelHouse$Rule" "STRONG" "LKeelHouse$Rule;") "KeelHouse$Rule$3"]) (by decide +kernel) _ List.mem_cons_self) hA, List.forall_mem_cons.mpr ⟨en_of (g := 63) rfl (nar_of hn (ws := [Cond.exactly (.static "KeelHouse$Rule" "STABLE" "LKeelHouse$Rule;") "KeelHouse$Rule$2"]) (by decide +kernel) _ List.mem_cons_self) hA, List.forall_mem_cons.mpr ⟨en_of (g := 64) rfl (nar_of hn (ws := [Cond.exactly (.static "KeelHouse$Rule" "FLOATS" "LKeelHouse$Rule;") "KeelHouse$Rule$1"]) (by decide +kernel) _ List.mem_cons_self) hA, List.forall_mem_cons.mpr ⟨en_of (g := 65) rfl (nar_of hn (ws := [Cond.exactly (.static "KeelHouse$Rule" "CLEAN" "LKeelHouse$Rule;") "KeelHouse$Rule$8"]) (by decide +kernel) _ List.mem_cons_self) hA, fun _ h => absurd h List.not_mem_nil⟩⟩⟩⟩⟩⟩⟩⟩⟩⟩⟩⟩⟩⟩⟩⟩⟩⟩⟩⟩⟩⟩⟩⟩⟩⟩⟩⟩⟩⟩⟩⟩⟩⟩⟩
end STAT
