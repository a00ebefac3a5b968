/-! ===== the memory of the start (printed by emit_start3.py) ===== -/
set_option maxRecDepth 100000
theorem tm55_s : ∀ j, (tm55.getD j []).length < 2 ^ 31
  | 0 => by decide
  | 1 => by decide
  | 2 => by decide
  | n + 3 => by show ([] : List Int32).length < 2 ^ 31; decide
theorem tm52_s : ∀ j, (tm52.getD j []).length < 2 ^ 31
  | 0 => by decide
  | 1 => by decide
  | 2 => by decide
  | n + 3 => by show ([] : List Int32).length < 2 ^ 31; decide
theorem tm51_s : ∀ j, (tm51.getD j []).length < 2 ^ 31
  | 0 => by decide
  | 1 => by decide
  | 2 => by decide
  | n + 3 => by show ([] : List Int32).length < 2 ^ 31; decide
/-- a table of rows; a text -/
def TM (M : Mem) (a : Nat) (rs : List (List Int32)) : Prop := mcl M a = 109 ∧ mco M a = 0 ∧ rs.length ≤ mln M a ∧ nI (mln M a) = Int32.ofNat rs.length ∧ ∀ j, j < rs.length → ∃ t, mar M a j = some t ∧ TI M 100 t (rs.getD j [])
def TS (M : Mem) (a : Nat) (bs : List Int32) : Prop := mcl M a = 14 ∧ mfi M 56 a = 0 ∧ ∃ t, mfr M 55 a = some t ∧ TI M 102 t bs
section ST3
variable {args : Array Value} {s : State} {sl : Nat → Nat → Nat}
theorem tm_of {t : Nat} {ts : Nat → Nat} {rs : List (List Int32)} {B : Nat → Prop} (hfit : heapFits s = true) (h : va_T (.array .int) t rs.length (fun j => .ref (ts j)) B s s.heap) (hr : ∀ j, j < rs.length → va_T .int (ts j) (rs.getD j []).length (fun i => .int ((rs.getD j []).getD i 0)) B s s.heap) : TM (M0 s sl) t rs := by
  obtain ⟨cell, h1, h2, h3, h4, h5, h6, -⟩ := h
  have hk := okc_arr (sl := sl) (i := 9) hfit h1 h2 h3 rfl
  refine ⟨kOf_of hk, rfl, ?_, ?_, fun j hj => ⟨ts j, ?_, (ti_of (i := 0) hfit rfl (hr j hj)).2⟩⟩
  · rw [M0_len hk (by omega) h1]; exact h4
  · rw [M0_len hk (by omega) h1]; exact h5
  · show vRef (rdS s t j) = _
    unfold rdS
    rw [h1]
    show vRef (cell.slots[j]?) = _
    rw [h6 j hj]
    rfl
theorem slot_same {C n d : String} {i : Nat} {v : Value} {t : Nat} {B : Nat → Prop} {cell : Cell} (h : SlotIs s C n d i) (h2 : va_OF C n d v t B s s.heap) (hc : s.heap[t]? = some cell) : cell.slots[i]? = some v ∧ cell.vm ≠ .unknown := by
  obtain ⟨cf, kf, fi, fd, e1, e2⟩ := h
  obtain ⟨cf', k', i', f', cell', e3, -, e4, e5, e6, -⟩ := h2
  cases Option.some.inj (hc.symm.trans e4)
  cases Option.some.inj (e1.symm.trans e3)
  rw [← e2]
  exact ⟨e6, e5⟩
theorem ns_of {cell : Cell} (h : cell.vm.isStatics = false) : ∀ q, cell.vm ≠ .statics q := fun q e => by rw [e] at h; cases h
theorem ts_of {a t : Nat} {bs : List Int32} {B : Nat → Prop} (hfit : heapFits s = true) (hK : u_Kn s "java/lang/String" kT_14 2 (cid s "java/lang/String") (sl 14)) (h : StrAt s B a t bs) : TS (M0 s sl) a bs := by
  obtain ⟨⟨cell, c1, c2, c3, -⟩, hco, hva, hT⟩ := h
  obtain ⟨hS, hC⟩ := hK
  have s0 := slot_same (hS 0 (by decide)) hva c1
  have s1 := slot_same (hS 1 (by decide)) hco c1
  have hk : OkC s sl a 14 := by
    refine ⟨cell, c1, ⟨s0.2, ns_of c2⟩, Or.inl ⟨by decide, by decide, ⟨"java/lang/String", by decide +kernel, by rw [← cid_eq c3]; exact hC⟩, fun j q hq => ?_⟩⟩
    match j, hq with
    | 0, hq => cases hq; exact ⟨_, s0.1, some t, rfl⟩
    | 1, hq => cases hq; exact ⟨_, s1.1, 0, rfl⟩
    | n + 2, hq => exact absurd hq (by simp [kFl])
  have ek := kOf_of hk
  have f0 := M0_fld (sl := sl) (j := 0) (q := (3, 55)) c1 (by rw [ek]; rfl) (by rw [ek]; exact s0.1) ⟨some t, rfl⟩
  have f1 := M0_fld (sl := sl) (j := 1) (q := (5, 56)) c1 (by rw [ek]; rfl) (by rw [ek]; exact s1.1) ⟨0, rfl⟩
  refine ⟨ek, ?_, t, ?_, (ti_of (i := 2) hfit rfl hT).2⟩
  · have f1 : Value.int (mfi (M0 s sl) 56 a) = .int 0 := f1
    exact Value.int.inj f1
  · have f0 : va_rf (mfr (M0 s sl) 55 a) = .ref t := f0
    cases hm : mfr (M0 s sl) 55 a with
    | none => rw [hm] at f0; cases f0
    | some z => rw [hm] at f0; cases f0; rfl
theorem opt_of {a : Nat} (hK : u_Kn s "java/util/Optional" kT_29 1 (cid s "java/util/Optional") (sl 29)) (ht : (Term.static "java/util/Optional" "EMPTY" "Ljava/util/Optional;").eval args s none [] s = some (.ref a)) {cell : Cell} (c1 : s.heap[a]? = some cell) (c2 : cell.vm.isStatics = false) (c3 : s.vm.findClass "java/util/Optional" = some cell.cls) (hv : (Term.field (.static "java/util/Optional" "EMPTY" "Ljava/util/Optional;") "java/util/Optional" "value" "Ljava/lang/Object;").eval args s none [] s = some .null) : mcl (M0 s sl) a = 29 ∧ mfr (M0 s sl) 152 a = none := by
  obtain ⟨hS, hC⟩ := hK
  have hva := vk_OFof (A := fun _ => False) ht hv (fun _ _ h => h)
  have s0 := slot_same (hS 0 (by decide)) hva c1
  have hk : OkC s sl a 29 := by
    refine ⟨cell, c1, ⟨s0.2, ns_of c2⟩, Or.inl ⟨by decide, by decide, ⟨"java/util/Optional", by decide +kernel, by rw [← cid_eq c3]; exact hC⟩, fun j q hq => ?_⟩⟩
    match j, hq with
    | 0, hq => cases hq; exact ⟨_, s0.1, none, rfl⟩
    | n + 1, hq => exact absurd hq (by simp [kFl])
  have ek := kOf_of hk
  have f0 := M0_fld (sl := sl) (j := 0) (q := (3, 152)) c1 (by rw [ek]; rfl) (by rw [ek]; exact s0.1) ⟨none, rfl⟩
  refine ⟨ek, ?_⟩
  have f0 : va_rf (mfr (M0 s sl) 152 a) = .null := f0
  cases hm : mfr (M0 s sl) 152 a with
  | none => rfl
  | some z => rw [hm] at f0; cases f0
theorem stG_s {g a : Nat} {C n d : String} (hg : gTb[g]? = some (0, C, n, d)) (h : (Term.static C n d).eval args s none [] s = some (.ref a)) : stG args s g = some a := by
  unfold stG
  rw [hg]
  show vRef ((Term.static C n d).eval args s none [] s) = some a
  rw [h]
  rfl
theorem stG_t {g a : Nat} {tx : String} (hg : gTb[g]? = some (1, tx, "", "")) (h : (txT g).eval args s none [] s = some (.ref a)) : stG args s g = some a := by
  unfold stG
  rw [hg]
  show vRef ((txT g).eval args s none [] s) = some a
  rw [h]
  rfl
/-- the start, for the evaluator: what statics and texts hold, the script -/
def St (G : Nat → Option Nat) (M : Mem) (b L : Nat) (xs : Nat → Int32) : Prop :=
  Zr M ∧
  (∀ a, mco M a = 0) ∧
  msl M = 0 ∧
  (mcl M b = 100 ∧ mln M b = L ∧ ∀ j, j < L → mai M b j = xs j) ∧
  (∃ a, G 1 = some a ∧ mcl M a = 111 ∧ nI (mln M a) = 0) ∧
  (∃ a, G 8 = some a ∧ mcl M a = 29 ∧ mfr M 152 a = none) ∧
  (∃ a, G 2 = some a ∧ TS M a ts2) ∧
  (∃ a, G 3 = some a ∧ TS M a ts3) ∧
  (∃ a, G 5 = some a ∧ TI M 102 a tv5) ∧
  (∃ a, G 6 = some a ∧ TI M 102 a tv6) ∧
  (∃ a, G 36 = some a ∧ TI M 100 a tv36) ∧
  (∃ a, G 37 = some a ∧ TI M 100 a tv37) ∧
  (∃ a, G 38 = some a ∧ TI M 100 a tv38) ∧
  (∃ a, G 39 = some a ∧ TI M 100 a tv39) ∧
  (∃ a, G 40 = some a ∧ TS M a ts40) ∧
  (∃ a, G 41 = some a ∧ TS M a ts41) ∧
  (∃ a, G 42 = some a ∧ TS M a ts42) ∧
  (∃ a, G 43 = some a ∧ TS M a ts43) ∧
  (∃ a, G 44 = some a ∧ TS M a ts44) ∧
  (∃ a, G 45 = some a ∧ TS M a ts45) ∧
  (∃ a, G 46 = some a ∧ TS M a ts46) ∧
  (∃ a, G 47 = some a ∧ TS M a ts47) ∧
  (∃ a, G 48 = some a ∧ TS M a ts48) ∧
  (∃ a, G 49 = some a ∧ TS M a ts49) ∧
  (∃ a, G 50 = some a ∧ TS M a ts50) ∧
  (∃ a, G 51 = some a ∧ TM M a tm51) ∧
  (∃ a, G 52 = some a ∧ TM M a tm52) ∧
  (∃ a, G 53 = some a ∧ TD M a td53) ∧
  (∃ a, G 54 = some a ∧ TD M a td54) ∧
  (∃ a, G 55 = some a ∧ TM M a tm55) ∧
  (∃ a, G 56 = some a ∧ TI M 100 a tv56) ∧
  (∃ a, G 57 = some a ∧ TI M 100 a tv57) ∧
  (∃ a, G 66 = some a ∧ TS M a ts66) ∧
  (∃ a, G 67 = some a ∧ TS M a ts67) ∧
  (∃ a, G 68 = some a ∧ TS M a ts68) ∧
  (∃ a, G 69 = some a ∧ TS M a ts69) ∧
  (∀ z ∈ eTb, ∃ a, G z.1 = some a) ∧
  (∀ z ∈ eTb, ∀ z' ∈ eTb, G z.1 = G z'.1 → z = z')
theorem eTb_nd : ∀ z ∈ eTb, ∀ z' ∈ eTb, z.2 = z'.2 → z = z' := by decide +kernel
theorem st_start {b L : Nat} {xs : Nat → Int32} (hts : ∀ w ∈ lw_tbl, w.before args s = true) (hn : (Cond.and given_1 narrow_1).before args s = true) (hfit : heapFits s = true) (hX : va_X b L xs s s.heap) (hsl : ∀ k q, kCl[k]? = some q → u_Kn s q.1 q.2.1 q.2.2 (cid s q.1) (sl k)) : St (stG args s) (M0 s sl) b L xs := by
  have hA : ∀ a : Nat, a < s.heap.size → ¬ hbA (gh s sl) a := fun a h h2 => absurd (show s.heap.size ≤ a from h2) (by omega)
  refine ⟨M0_HR.2.1, fun _ => rfl, rfl, ?_, ?_, ?_, ?_, ?_, ?_, ?_, ?_, ?_, ?_, ?_, ?_, ?_, ?_, ?_, ?_, ?_, ?_, ?_, ?_, ?_, ?_, ?_, ?_, ?_, ?_, ?_, ?_, ?_, ?_, ?_, ?_, ?_, ?_, ?_⟩
  · obtain ⟨scr, h1, h2, h3, h4, h5⟩ := hX
    have hk := okc_arr (sl := sl) (i := 0) hfit h1 h2 h3 rfl
    refine ⟨kOf_of hk, by rw [M0_len hk (by omega) h1]; exact h4, fun j hj => ?_⟩
    show vInt (rdS s b j) = _
    unfold rdS
    rw [h1]
    show vInt (scr.slots[j]?) = _
    rw [h5 j hj]
    rfl
  · obtain ⟨t, t1, cell, h1, h2, h3, h4, h5, h6, -⟩ := va_Tof (tm := (.static "java/util/ArrayList" "DEFAULTCAPACITY_EMPTY_ELEMENTDATA" "[Ljava/lang/Object;")) (ty := .object "java/lang/Object") (N := 0) (f := fun _ => .null) (A := hbA (gh s sl)) (by decide) (nar_of hn (ws := [Cond.arrayOf (.static "java/util/ArrayList" "DEFAULTCAPACITY_EMPTY_ELEMENTDATA" "[Ljava/lang/Object;") (.object "java/lang/Object")]) (by decide +kernel) _ List.mem_cons_self) (va_eqt (nar_of hn (ws := [Cond.eq (.length (.static "java/util/ArrayList" "DEFAULTCAPACITY_EMPTY_ELEMENTDATA" "[Ljava/lang/Object;")) (.int 0)]) (by decide +kernel) _ List.mem_cons_self)) (fun j hj => absurd hj (by omega)) hA
    have hk := okc_arr (sl := sl) (i := 11) hfit h1 h2 h3 rfl
    exact ⟨t, stG_s rfl t1, kOf_of hk, by rw [M0_len hk (by omega) h1]; exact h5⟩
  · obtain ⟨a, c, cA, kA, q1, q2, q3, q4, q5, q6, -⟩ := Cond.exactly_spec (nar_of hn (ws := [Cond.exactly (.static "java/util/Optional" "EMPTY" "Ljava/util/Optional;") "java/util/Optional"]) (by decide +kernel) _ List.mem_cons_self)
    exact ⟨a, stG_s rfl q1, opt_of (hsl 29 _ rfl) q1 q3 q5 (by rw [q6]; exact q2) (va_eqv (nar_of hn (ws := [Cond.eq (.field (.static "java/util/Optional" "EMPTY" "Ljava/util/Optional;") "java/util/Optional" "value" "Ljava/lang/Object;") .null]) (by decide +kernel) _ List.mem_cons_self) rfl)⟩
  · obtain ⟨a, t, t1, t2⟩ := tx_2 (sl := sl) hn hA
    exact ⟨a, stG_t rfl t1, ts_of hfit (hsl 14 _ rfl) t2⟩
  · obtain ⟨a, t, t1, t2⟩ := tx_3 (sl := sl) hn hA
    exact ⟨a, stG_t rfl t1, ts_of hfit (hsl 14 _ rfl) t2⟩
  · obtain ⟨t, t1, t2⟩ := tb_of (tm := .static "java/lang/Integer" "DigitOnes" "[B") (ty := .byte) (vs := tv5) (B := hbA (gh s sl)) hn inN5 (by decide) hA
    exact ⟨t, stG_s rfl t1, (ti_of (i := 2) hfit rfl t2).2⟩
  · obtain ⟨t, t1, t2⟩ := tb_of (tm := .static "java/lang/Integer" "DigitTens" "[B") (ty := .byte) (vs := tv6) (B := hbA (gh s sl)) hn inN6 (by decide) hA
    exact ⟨t, stG_s rfl t1, (ti_of (i := 2) hfit rfl t2).2⟩
  · obtain ⟨t, t1, t2⟩ := tb_of (tm := .static "KeelHouseModel" "DEEP" "[I") (ty := .int) (vs := tv36) (B := hbA (gh s sl)) hn inN36 (by decide) hA
    exact ⟨t, stG_s rfl t1, (ti_of (i := 0) hfit rfl t2).2⟩
  · obtain ⟨t, t1, t2⟩ := tb_of (tm := .static "KeelHouseModel" "MOON" "[I") (ty := .int) (vs := tv37) (B := hbA (gh s sl)) hn inN37 (by decide) hA
    exact ⟨t, stG_s rfl t1, (ti_of (i := 0) hfit rfl t2).2⟩
  · obtain ⟨t, t1, t2⟩ := tb_of (tm := .static "KeelHouseModel" "SPRING" "[I") (ty := .int) (vs := tv38) (B := hbA (gh s sl)) hn inN38 (by decide) hA
    exact ⟨t, stG_s rfl t1, (ti_of (i := 0) hfit rfl t2).2⟩
  · obtain ⟨t, t1, t2⟩ := tb_of (tm := .static "KeelHouseModel" "ROOM" "[I") (ty := .int) (vs := tv39) (B := hbA (gh s sl)) hn inN39 (by decide) hA
    exact ⟨t, stG_s rfl t1, (ti_of (i := 0) hfit rfl t2).2⟩
  · obtain ⟨a, t, t1, t2⟩ := tx_40 (sl := sl) hn hA
    exact ⟨a, stG_t rfl t1, ts_of hfit (hsl 14 _ rfl) t2⟩
  · obtain ⟨a, t, t1, t2⟩ := tx_41 (sl := sl) hn hA
    exact ⟨a, stG_t rfl t1, ts_of hfit (hsl 14 _ rfl) t2⟩
  · obtain ⟨a, t, t1, t2⟩ := tx_42 (sl := sl) hn hA
    exact ⟨a, stG_t rfl t1, ts_of hfit (hsl 14 _ rfl) t2⟩
  · obtain ⟨a, t, t1, t2⟩ := tx_43 (sl := sl) hn hA
    exact ⟨a, stG_t rfl t1, ts_of hfit (hsl 14 _ rfl) t2⟩
  · obtain ⟨a, t, t1, t2⟩ := tx_44 (sl := sl) hn hA
    exact ⟨a, stG_t rfl t1, ts_of hfit (hsl 14 _ rfl) t2⟩
  · obtain ⟨a, t, t1, t2⟩ := tx_45 (sl := sl) hn hA
    exact ⟨a, stG_t rfl t1, ts_of hfit (hsl 14 _ rfl) t2⟩
  · obtain ⟨a, t, t1, t2⟩ := tx_46 (sl := sl) hn hA
    exact ⟨a, stG_t rfl t1, ts_of hfit (hsl 14 _ rfl) t2⟩
  · obtain ⟨a, t, t1, t2⟩ := tx_47 (sl := sl) hn hA
    exact ⟨a, stG_t rfl t1, ts_of hfit (hsl 14 _ rfl) t2⟩
  · obtain ⟨a, t, t1, t2⟩ := tx_48 (sl := sl) hn hA
    exact ⟨a, stG_t rfl t1, ts_of hfit (hsl 14 _ rfl) t2⟩
  · obtain ⟨a, t, t1, t2⟩ := tx_49 (sl := sl) hn hA
    exact ⟨a, stG_t rfl t1, ts_of hfit (hsl 14 _ rfl) t2⟩
  · obtain ⟨a, t, t1, t2⟩ := tx_50 (sl := sl) hn hA
    exact ⟨a, stG_t rfl t1, ts_of hfit (hsl 14 _ rfl) t2⟩
  · obtain ⟨t, ts, t1, t2, t3⟩ := tbm_of (tm := .static "KeelHouseModel" "ALONG_FORMS" "[[I") (rs := tm51) (B := hbA (gh s sl)) hn (by decide +kernel) (by decide) tm51_s hA
    exact ⟨t, stG_s rfl t1, tm_of hfit t2 t3⟩
  · obtain ⟨t, ts, t1, t2, t3⟩ := tbm_of (tm := .static "KeelHouseModel" "UP_FORMS" "[[I") (rs := tm52) (B := hbA (gh s sl)) hn (by decide +kernel) (by decide) tm52_s hA
    exact ⟨t, stG_s rfl t1, tm_of hfit t2 t3⟩
  · obtain ⟨t, t1, t2⟩ := tbd_of (tm := .static "KeelHouseModel" "SIMPSON" "[D") (vs := td53) (B := hbA (gh s sl)) hn (by decide +kernel) (by decide) hA
    exact ⟨t, stG_s rfl t1, td_of hfit t2⟩
  · obtain ⟨t, t1, t2⟩ := tbd_of (tm := .static "KeelHouseModel" "ANGLES" "[D") (vs := td54) (B := hbA (gh s sl)) hn (by decide +kernel) (by decide) hA
    exact ⟨t, stG_s rfl t1, td_of hfit t2⟩
  · obtain ⟨t, ts, t1, t2, t3⟩ := tbm_of (tm := .static "KeelHouseModel" "SEAS" "[[I") (rs := tm55) (B := hbA (gh s sl)) hn (by decide +kernel) (by decide) tm55_s hA
    exact ⟨t, stG_s rfl t1, tm_of hfit t2 t3⟩
  · obtain ⟨t, t1, t2⟩ := tb_of (tm := .static "KeelHouseModel" "HOME" "[I") (ty := .int) (vs := tv56) (B := hbA (gh s sl)) hn inN56 (by decide) hA
    exact ⟨t, stG_s rfl t1, (ti_of (i := 0) hfit rfl t2).2⟩
  · obtain ⟨t, t1, t2⟩ := tb_of (tm := .static "KeelHouseModel" "ORDER" "[I") (ty := .int) (vs := tv57) (B := hbA (gh s sl)) hn inN57 (by decide) hA
    exact ⟨t, stG_s rfl t1, (ti_of (i := 0) hfit rfl t2).2⟩
  · obtain ⟨a, t, t1, t2⟩ := tx_66 (sl := sl) hn hA
    exact ⟨a, stG_t rfl t1, ts_of hfit (hsl 14 _ rfl) t2⟩
  · obtain ⟨a, t, t1, t2⟩ := tx_67 (sl := sl) hn hA
    exact ⟨a, stG_t rfl t1, ts_of hfit (hsl 14 _ rfl) t2⟩
  · obtain ⟨a, t, t1, t2⟩ := tx_68 (sl := sl) hn hA
    exact ⟨a, stG_t rfl t1, ts_of hfit (hsl 14 _ rfl) t2⟩
  · obtain ⟨a, t, t1, t2⟩ := tx_69 (sl := sl) hn hA
    exact ⟨a, stG_t rfl t1, ts_of hfit (hsl 14 _ rfl) t2⟩
  · intro z hz
    obtain ⟨a, h1, -⟩ := en_all (sl := sl) hn hA z hz
    exact ⟨a, h1⟩
  · intro z hz z' hz' he
    obtain ⟨a, h1, cell, h2, -, h3, -⟩ := en_all (sl := sl) hn hA z hz
    obtain ⟨a', h1', cell', h2', -, h3', -⟩ := en_all (sl := sl) hn hA z' hz'
    rw [h1, h1'] at he
    cases he
    cases Option.some.inj (h2.symm.trans h2')
    exact eTb_nd z hz z' hz' (fc_inj h3 h3')
end ST3
