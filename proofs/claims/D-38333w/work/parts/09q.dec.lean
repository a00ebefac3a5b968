/-! ===== decoding by a table of the opcodes; a walk over a method's bytes (printed by gen_dec.py) ===== -/
abbrev OpR : Type := Nat × (List UInt8 → Option (Instr × Nat))
def OpOK (f : List UInt8 → Option (Instr × Nat)) (k : Nat) : Prop := ∀ (code : ByteArray) (pc : Nat) (b : UInt8) (t : List UInt8) (i : Instr) (n : Nat), b.toNat = k → code.data.toList.drop pc = b :: t → f t = some (i, n) → decode code pc = .ok (i, n)
theorem dkat_of {code : ByteArray} {pc : Nat} {bs t : List UInt8} (h : code.data.toList.drop pc = bs ++ t) : DkAt code pc bs := by
  intro j b hb
  have h2 : (bs ++ t)[j]? = some b := by rw [List.getElem?_append_left (List.getElem?_eq_some_iff.mp hb).1]; exact hb
  rw [← h, List.getElem?_drop] at h2
  exact h2
def op_1 : List UInt8 → Option (Instr × Nat) := fun _ => some (.aconst_null, 1)
theorem op_1_ok : OpOK op_1 1 := by
  intro code pc b t i n hb hd h
  have hb : b = 1 := UInt8.toNat_inj.mp hb
  subst hb
  cases h
  exact dk_1 (dkat_of (bs := [1]) hd)
def op_2 : List UInt8 → Option (Instr × Nat) := fun _ => some (.iconst (-1), 1)
theorem op_2_ok : OpOK op_2 2 := by
  intro code pc b t i n hb hd h
  have hb : b = 2 := UInt8.toNat_inj.mp hb
  subst hb
  cases h
  exact dk_2 (dkat_of (bs := [2]) hd)
def op_3 : List UInt8 → Option (Instr × Nat) := fun _ => some (.iconst 0, 1)
theorem op_3_ok : OpOK op_3 3 := by
  intro code pc b t i n hb hd h
  have hb : b = 3 := UInt8.toNat_inj.mp hb
  subst hb
  cases h
  exact dk_3 (dkat_of (bs := [3]) hd)
def op_4 : List UInt8 → Option (Instr × Nat) := fun _ => some (.iconst 1, 1)
theorem op_4_ok : OpOK op_4 4 := by
  intro code pc b t i n hb hd h
  have hb : b = 4 := UInt8.toNat_inj.mp hb
  subst hb
  cases h
  exact dk_4 (dkat_of (bs := [4]) hd)
def op_5 : List UInt8 → Option (Instr × Nat) := fun _ => some (.iconst 2, 1)
theorem op_5_ok : OpOK op_5 5 := by
  intro code pc b t i n hb hd h
  have hb : b = 5 := UInt8.toNat_inj.mp hb
  subst hb
  cases h
  exact dk_5 (dkat_of (bs := [5]) hd)
def op_6 : List UInt8 → Option (Instr × Nat) := fun _ => some (.iconst 3, 1)
theorem op_6_ok : OpOK op_6 6 := by
  intro code pc b t i n hb hd h
  have hb : b = 6 := UInt8.toNat_inj.mp hb
  subst hb
  cases h
  exact dk_6 (dkat_of (bs := [6]) hd)
def op_7 : List UInt8 → Option (Instr × Nat) := fun _ => some (.iconst 4, 1)
theorem op_7_ok : OpOK op_7 7 := by
  intro code pc b t i n hb hd h
  have hb : b = 7 := UInt8.toNat_inj.mp hb
  subst hb
  cases h
  exact dk_7 (dkat_of (bs := [7]) hd)
def op_8 : List UInt8 → Option (Instr × Nat) := fun _ => some (.iconst 5, 1)
theorem op_8_ok : OpOK op_8 8 := by
  intro code pc b t i n hb hd h
  have hb : b = 8 := UInt8.toNat_inj.mp hb
  subst hb
  cases h
  exact dk_8 (dkat_of (bs := [8]) hd)
def op_9 : List UInt8 → Option (Instr × Nat) := fun _ => some (.lconst 0, 1)
theorem op_9_ok : OpOK op_9 9 := by
  intro code pc b t i n hb hd h
  have hb : b = 9 := UInt8.toNat_inj.mp hb
  subst hb
  cases h
  exact dk_9 (dkat_of (bs := [9]) hd)
def op_10 : List UInt8 → Option (Instr × Nat) := fun _ => some (.lconst 1, 1)
theorem op_10_ok : OpOK op_10 10 := by
  intro code pc b t i n hb hd h
  have hb : b = 10 := UInt8.toNat_inj.mp hb
  subst hb
  cases h
  exact dk_10 (dkat_of (bs := [10]) hd)
def op_14 : List UInt8 → Option (Instr × Nat) := fun _ => some (.dconst 0, 1)
theorem op_14_ok : OpOK op_14 14 := by
  intro code pc b t i n hb hd h
  have hb : b = 14 := UInt8.toNat_inj.mp hb
  subst hb
  cases h
  exact dk_14 (dkat_of (bs := [14]) hd)
def op_15 : List UInt8 → Option (Instr × Nat) := fun _ => some (.dconst 1, 1)
theorem op_15_ok : OpOK op_15 15 := by
  intro code pc b t i n hb hd h
  have hb : b = 15 := UInt8.toNat_inj.mp hb
  subst hb
  cases h
  exact dk_15 (dkat_of (bs := [15]) hd)
def op_16 : List UInt8 → Option (Instr × Nat) := fun t => match t with | x0 :: _ => some (.bipush (Reader.signed 8 x0.toNat), 2) | _ => none
theorem op_16_ok : OpOK op_16 16 := by
  intro code pc b t i n hb hd h
  have hb : b = 16 := UInt8.toNat_inj.mp hb
  subst hb
  match t, hd, h with
  | x0 :: t, hd, h =>
    cases h
    exact dk_16 x0 (dkat_of (bs := [16, x0]) hd)
def op_17 : List UInt8 → Option (Instr × Nat) := fun t => match t with | x0 :: x1 :: _ => some (.sipush (Reader.signed 16 (x0.toNat * 256 + x1.toNat)), 3) | _ => none
theorem op_17_ok : OpOK op_17 17 := by
  intro code pc b t i n hb hd h
  have hb : b = 17 := UInt8.toNat_inj.mp hb
  subst hb
  match t, hd, h with
  | x0 :: x1 :: t, hd, h =>
    cases h
    exact dk_17 x0 x1 (dkat_of (bs := [17, x0, x1]) hd)
def op_18 : List UInt8 → Option (Instr × Nat) := fun t => match t with | x0 :: _ => some (.ldc x0.toNat, 2) | _ => none
theorem op_18_ok : OpOK op_18 18 := by
  intro code pc b t i n hb hd h
  have hb : b = 18 := UInt8.toNat_inj.mp hb
  subst hb
  match t, hd, h with
  | x0 :: t, hd, h =>
    cases h
    exact dk_18 x0 (dkat_of (bs := [18, x0]) hd)
def op_19 : List UInt8 → Option (Instr × Nat) := fun t => match t with | x0 :: x1 :: _ => some (.ldc_w (x0.toNat * 256 + x1.toNat), 3) | _ => none
theorem op_19_ok : OpOK op_19 19 := by
  intro code pc b t i n hb hd h
  have hb : b = 19 := UInt8.toNat_inj.mp hb
  subst hb
  match t, hd, h with
  | x0 :: x1 :: t, hd, h =>
    cases h
    exact dk_19 x0 x1 (dkat_of (bs := [19, x0, x1]) hd)
def op_20 : List UInt8 → Option (Instr × Nat) := fun t => match t with | x0 :: x1 :: _ => some (.ldc2_w (x0.toNat * 256 + x1.toNat), 3) | _ => none
theorem op_20_ok : OpOK op_20 20 := by
  intro code pc b t i n hb hd h
  have hb : b = 20 := UInt8.toNat_inj.mp hb
  subst hb
  match t, hd, h with
  | x0 :: x1 :: t, hd, h =>
    cases h
    exact dk_20 x0 x1 (dkat_of (bs := [20, x0, x1]) hd)
def op_21 : List UInt8 → Option (Instr × Nat) := fun t => match t with | x0 :: _ => some (.iload x0.toNat, 2) | _ => none
theorem op_21_ok : OpOK op_21 21 := by
  intro code pc b t i n hb hd h
  have hb : b = 21 := UInt8.toNat_inj.mp hb
  subst hb
  match t, hd, h with
  | x0 :: t, hd, h =>
    cases h
    exact dk_21 x0 (dkat_of (bs := [21, x0]) hd)
def op_22 : List UInt8 → Option (Instr × Nat) := fun t => match t with | x0 :: _ => some (.lload x0.toNat, 2) | _ => none
theorem op_22_ok : OpOK op_22 22 := by
  intro code pc b t i n hb hd h
  have hb : b = 22 := UInt8.toNat_inj.mp hb
  subst hb
  match t, hd, h with
  | x0 :: t, hd, h =>
    cases h
    exact dk_22 x0 (dkat_of (bs := [22, x0]) hd)
def op_24 : List UInt8 → Option (Instr × Nat) := fun t => match t with | x0 :: _ => some (.dload x0.toNat, 2) | _ => none
theorem op_24_ok : OpOK op_24 24 := by
  intro code pc b t i n hb hd h
  have hb : b = 24 := UInt8.toNat_inj.mp hb
  subst hb
  match t, hd, h with
  | x0 :: t, hd, h =>
    cases h
    exact dk_24 x0 (dkat_of (bs := [24, x0]) hd)
def op_25 : List UInt8 → Option (Instr × Nat) := fun t => match t with | x0 :: _ => some (.aload x0.toNat, 2) | _ => none
theorem op_25_ok : OpOK op_25 25 := by
  intro code pc b t i n hb hd h
  have hb : b = 25 := UInt8.toNat_inj.mp hb
  subst hb
  match t, hd, h with
  | x0 :: t, hd, h =>
    cases h
    exact dk_25 x0 (dkat_of (bs := [25, x0]) hd)
def op_26 : List UInt8 → Option (Instr × Nat) := fun _ => some (.iload_n 0, 1)
theorem op_26_ok : OpOK op_26 26 := by
  intro code pc b t i n hb hd h
  have hb : b = 26 := UInt8.toNat_inj.mp hb
  subst hb
  cases h
  exact dk_26 (dkat_of (bs := [26]) hd)
def op_27 : List UInt8 → Option (Instr × Nat) := fun _ => some (.iload_n 1, 1)
theorem op_27_ok : OpOK op_27 27 := by
  intro code pc b t i n hb hd h
  have hb : b = 27 := UInt8.toNat_inj.mp hb
  subst hb
  cases h
  exact dk_27 (dkat_of (bs := [27]) hd)
def op_28 : List UInt8 → Option (Instr × Nat) := fun _ => some (.iload_n 2, 1)
theorem op_28_ok : OpOK op_28 28 := by
  intro code pc b t i n hb hd h
  have hb : b = 28 := UInt8.toNat_inj.mp hb
  subst hb
  cases h
  exact dk_28 (dkat_of (bs := [28]) hd)
def op_29 : List UInt8 → Option (Instr × Nat) := fun _ => some (.iload_n 3, 1)
theorem op_29_ok : OpOK op_29 29 := by
  intro code pc b t i n hb hd h
  have hb : b = 29 := UInt8.toNat_inj.mp hb
  subst hb
  cases h
  exact dk_29 (dkat_of (bs := [29]) hd)
def op_31 : List UInt8 → Option (Instr × Nat) := fun _ => some (.lload_n 1, 1)
theorem op_31_ok : OpOK op_31 31 := by
  intro code pc b t i n hb hd h
  have hb : b = 31 := UInt8.toNat_inj.mp hb
  subst hb
  cases h
  exact dk_31 (dkat_of (bs := [31]) hd)
def op_33 : List UInt8 → Option (Instr × Nat) := fun _ => some (.lload_n 3, 1)
theorem op_33_ok : OpOK op_33 33 := by
  intro code pc b t i n hb hd h
  have hb : b = 33 := UInt8.toNat_inj.mp hb
  subst hb
  cases h
  exact dk_33 (dkat_of (bs := [33]) hd)
def op_38 : List UInt8 → Option (Instr × Nat) := fun _ => some (.dload_n 0, 1)
theorem op_38_ok : OpOK op_38 38 := by
  intro code pc b t i n hb hd h
  have hb : b = 38 := UInt8.toNat_inj.mp hb
  subst hb
  cases h
  exact dk_38 (dkat_of (bs := [38]) hd)
def op_39 : List UInt8 → Option (Instr × Nat) := fun _ => some (.dload_n 1, 1)
theorem op_39_ok : OpOK op_39 39 := by
  intro code pc b t i n hb hd h
  have hb : b = 39 := UInt8.toNat_inj.mp hb
  subst hb
  cases h
  exact dk_39 (dkat_of (bs := [39]) hd)
def op_40 : List UInt8 → Option (Instr × Nat) := fun _ => some (.dload_n 2, 1)
theorem op_40_ok : OpOK op_40 40 := by
  intro code pc b t i n hb hd h
  have hb : b = 40 := UInt8.toNat_inj.mp hb
  subst hb
  cases h
  exact dk_40 (dkat_of (bs := [40]) hd)
def op_41 : List UInt8 → Option (Instr × Nat) := fun _ => some (.dload_n 3, 1)
theorem op_41_ok : OpOK op_41 41 := by
  intro code pc b t i n hb hd h
  have hb : b = 41 := UInt8.toNat_inj.mp hb
  subst hb
  cases h
  exact dk_41 (dkat_of (bs := [41]) hd)
def op_42 : List UInt8 → Option (Instr × Nat) := fun _ => some (.aload_n 0, 1)
theorem op_42_ok : OpOK op_42 42 := by
  intro code pc b t i n hb hd h
  have hb : b = 42 := UInt8.toNat_inj.mp hb
  subst hb
  cases h
  exact dk_42 (dkat_of (bs := [42]) hd)
def op_43 : List UInt8 → Option (Instr × Nat) := fun _ => some (.aload_n 1, 1)
theorem op_43_ok : OpOK op_43 43 := by
  intro code pc b t i n hb hd h
  have hb : b = 43 := UInt8.toNat_inj.mp hb
  subst hb
  cases h
  exact dk_43 (dkat_of (bs := [43]) hd)
def op_44 : List UInt8 → Option (Instr × Nat) := fun _ => some (.aload_n 2, 1)
theorem op_44_ok : OpOK op_44 44 := by
  intro code pc b t i n hb hd h
  have hb : b = 44 := UInt8.toNat_inj.mp hb
  subst hb
  cases h
  exact dk_44 (dkat_of (bs := [44]) hd)
def op_45 : List UInt8 → Option (Instr × Nat) := fun _ => some (.aload_n 3, 1)
theorem op_45_ok : OpOK op_45 45 := by
  intro code pc b t i n hb hd h
  have hb : b = 45 := UInt8.toNat_inj.mp hb
  subst hb
  cases h
  exact dk_45 (dkat_of (bs := [45]) hd)
def op_46 : List UInt8 → Option (Instr × Nat) := fun _ => some (.iaload, 1)
theorem op_46_ok : OpOK op_46 46 := by
  intro code pc b t i n hb hd h
  have hb : b = 46 := UInt8.toNat_inj.mp hb
  subst hb
  cases h
  exact dk_46 (dkat_of (bs := [46]) hd)
def op_49 : List UInt8 → Option (Instr × Nat) := fun _ => some (.daload, 1)
theorem op_49_ok : OpOK op_49 49 := by
  intro code pc b t i n hb hd h
  have hb : b = 49 := UInt8.toNat_inj.mp hb
  subst hb
  cases h
  exact dk_49 (dkat_of (bs := [49]) hd)
def op_50 : List UInt8 → Option (Instr × Nat) := fun _ => some (.aaload, 1)
theorem op_50_ok : OpOK op_50 50 := by
  intro code pc b t i n hb hd h
  have hb : b = 50 := UInt8.toNat_inj.mp hb
  subst hb
  cases h
  exact dk_50 (dkat_of (bs := [50]) hd)
def op_51 : List UInt8 → Option (Instr × Nat) := fun _ => some (.baload, 1)
theorem op_51_ok : OpOK op_51 51 := by
  intro code pc b t i n hb hd h
  have hb : b = 51 := UInt8.toNat_inj.mp hb
  subst hb
  cases h
  exact dk_51 (dkat_of (bs := [51]) hd)
def op_54 : List UInt8 → Option (Instr × Nat) := fun t => match t with | x0 :: _ => some (.istore x0.toNat, 2) | _ => none
theorem op_54_ok : OpOK op_54 54 := by
  intro code pc b t i n hb hd h
  have hb : b = 54 := UInt8.toNat_inj.mp hb
  subst hb
  match t, hd, h with
  | x0 :: t, hd, h =>
    cases h
    exact dk_54 x0 (dkat_of (bs := [54, x0]) hd)
def op_55 : List UInt8 → Option (Instr × Nat) := fun t => match t with | x0 :: _ => some (.lstore x0.toNat, 2) | _ => none
theorem op_55_ok : OpOK op_55 55 := by
  intro code pc b t i n hb hd h
  have hb : b = 55 := UInt8.toNat_inj.mp hb
  subst hb
  match t, hd, h with
  | x0 :: t, hd, h =>
    cases h
    exact dk_55 x0 (dkat_of (bs := [55, x0]) hd)
def op_57 : List UInt8 → Option (Instr × Nat) := fun t => match t with | x0 :: _ => some (.dstore x0.toNat, 2) | _ => none
theorem op_57_ok : OpOK op_57 57 := by
  intro code pc b t i n hb hd h
  have hb : b = 57 := UInt8.toNat_inj.mp hb
  subst hb
  match t, hd, h with
  | x0 :: t, hd, h =>
    cases h
    exact dk_57 x0 (dkat_of (bs := [57, x0]) hd)
def op_58 : List UInt8 → Option (Instr × Nat) := fun t => match t with | x0 :: _ => some (.astore x0.toNat, 2) | _ => none
theorem op_58_ok : OpOK op_58 58 := by
  intro code pc b t i n hb hd h
  have hb : b = 58 := UInt8.toNat_inj.mp hb
  subst hb
  match t, hd, h with
  | x0 :: t, hd, h =>
    cases h
    exact dk_58 x0 (dkat_of (bs := [58, x0]) hd)
def op_59 : List UInt8 → Option (Instr × Nat) := fun _ => some (.istore_n 0, 1)
theorem op_59_ok : OpOK op_59 59 := by
  intro code pc b t i n hb hd h
  have hb : b = 59 := UInt8.toNat_inj.mp hb
  subst hb
  cases h
  exact dk_59 (dkat_of (bs := [59]) hd)
def op_60 : List UInt8 → Option (Instr × Nat) := fun _ => some (.istore_n 1, 1)
theorem op_60_ok : OpOK op_60 60 := by
  intro code pc b t i n hb hd h
  have hb : b = 60 := UInt8.toNat_inj.mp hb
  subst hb
  cases h
  exact dk_60 (dkat_of (bs := [60]) hd)
def op_61 : List UInt8 → Option (Instr × Nat) := fun _ => some (.istore_n 2, 1)
theorem op_61_ok : OpOK op_61 61 := by
  intro code pc b t i n hb hd h
  have hb : b = 61 := UInt8.toNat_inj.mp hb
  subst hb
  cases h
  exact dk_61 (dkat_of (bs := [61]) hd)
def op_62 : List UInt8 → Option (Instr × Nat) := fun _ => some (.istore_n 3, 1)
theorem op_62_ok : OpOK op_62 62 := by
  intro code pc b t i n hb hd h
  have hb : b = 62 := UInt8.toNat_inj.mp hb
  subst hb
  cases h
  exact dk_62 (dkat_of (bs := [62]) hd)
def op_64 : List UInt8 → Option (Instr × Nat) := fun _ => some (.lstore_n 1, 1)
theorem op_64_ok : OpOK op_64 64 := by
  intro code pc b t i n hb hd h
  have hb : b = 64 := UInt8.toNat_inj.mp hb
  subst hb
  cases h
  exact dk_64 (dkat_of (bs := [64]) hd)
def op_66 : List UInt8 → Option (Instr × Nat) := fun _ => some (.lstore_n 3, 1)
theorem op_66_ok : OpOK op_66 66 := by
  intro code pc b t i n hb hd h
  have hb : b = 66 := UInt8.toNat_inj.mp hb
  subst hb
  cases h
  exact dk_66 (dkat_of (bs := [66]) hd)
def op_72 : List UInt8 → Option (Instr × Nat) := fun _ => some (.dstore_n 1, 1)
theorem op_72_ok : OpOK op_72 72 := by
  intro code pc b t i n hb hd h
  have hb : b = 72 := UInt8.toNat_inj.mp hb
  subst hb
  cases h
  exact dk_72 (dkat_of (bs := [72]) hd)
def op_73 : List UInt8 → Option (Instr × Nat) := fun _ => some (.dstore_n 2, 1)
theorem op_73_ok : OpOK op_73 73 := by
  intro code pc b t i n hb hd h
  have hb : b = 73 := UInt8.toNat_inj.mp hb
  subst hb
  cases h
  exact dk_73 (dkat_of (bs := [73]) hd)
def op_74 : List UInt8 → Option (Instr × Nat) := fun _ => some (.dstore_n 3, 1)
theorem op_74_ok : OpOK op_74 74 := by
  intro code pc b t i n hb hd h
  have hb : b = 74 := UInt8.toNat_inj.mp hb
  subst hb
  cases h
  exact dk_74 (dkat_of (bs := [74]) hd)
def op_75 : List UInt8 → Option (Instr × Nat) := fun _ => some (.astore_n 0, 1)
theorem op_75_ok : OpOK op_75 75 := by
  intro code pc b t i n hb hd h
  have hb : b = 75 := UInt8.toNat_inj.mp hb
  subst hb
  cases h
  exact dk_75 (dkat_of (bs := [75]) hd)
def op_76 : List UInt8 → Option (Instr × Nat) := fun _ => some (.astore_n 1, 1)
theorem op_76_ok : OpOK op_76 76 := by
  intro code pc b t i n hb hd h
  have hb : b = 76 := UInt8.toNat_inj.mp hb
  subst hb
  cases h
  exact dk_76 (dkat_of (bs := [76]) hd)
def op_77 : List UInt8 → Option (Instr × Nat) := fun _ => some (.astore_n 2, 1)
theorem op_77_ok : OpOK op_77 77 := by
  intro code pc b t i n hb hd h
  have hb : b = 77 := UInt8.toNat_inj.mp hb
  subst hb
  cases h
  exact dk_77 (dkat_of (bs := [77]) hd)
def op_78 : List UInt8 → Option (Instr × Nat) := fun _ => some (.astore_n 3, 1)
theorem op_78_ok : OpOK op_78 78 := by
  intro code pc b t i n hb hd h
  have hb : b = 78 := UInt8.toNat_inj.mp hb
  subst hb
  cases h
  exact dk_78 (dkat_of (bs := [78]) hd)
def op_79 : List UInt8 → Option (Instr × Nat) := fun _ => some (.iastore, 1)
theorem op_79_ok : OpOK op_79 79 := by
  intro code pc b t i n hb hd h
  have hb : b = 79 := UInt8.toNat_inj.mp hb
  subst hb
  cases h
  exact dk_79 (dkat_of (bs := [79]) hd)
def op_82 : List UInt8 → Option (Instr × Nat) := fun _ => some (.dastore, 1)
theorem op_82_ok : OpOK op_82 82 := by
  intro code pc b t i n hb hd h
  have hb : b = 82 := UInt8.toNat_inj.mp hb
  subst hb
  cases h
  exact dk_82 (dkat_of (bs := [82]) hd)
def op_83 : List UInt8 → Option (Instr × Nat) := fun _ => some (.aastore, 1)
theorem op_83_ok : OpOK op_83 83 := by
  intro code pc b t i n hb hd h
  have hb : b = 83 := UInt8.toNat_inj.mp hb
  subst hb
  cases h
  exact dk_83 (dkat_of (bs := [83]) hd)
def op_84 : List UInt8 → Option (Instr × Nat) := fun _ => some (.bastore, 1)
theorem op_84_ok : OpOK op_84 84 := by
  intro code pc b t i n hb hd h
  have hb : b = 84 := UInt8.toNat_inj.mp hb
  subst hb
  cases h
  exact dk_84 (dkat_of (bs := [84]) hd)
def op_87 : List UInt8 → Option (Instr × Nat) := fun _ => some (.pop, 1)
theorem op_87_ok : OpOK op_87 87 := by
  intro code pc b t i n hb hd h
  have hb : b = 87 := UInt8.toNat_inj.mp hb
  subst hb
  cases h
  exact dk_87 (dkat_of (bs := [87]) hd)
def op_88 : List UInt8 → Option (Instr × Nat) := fun _ => some (.pop2, 1)
theorem op_88_ok : OpOK op_88 88 := by
  intro code pc b t i n hb hd h
  have hb : b = 88 := UInt8.toNat_inj.mp hb
  subst hb
  cases h
  exact dk_88 (dkat_of (bs := [88]) hd)
def op_89 : List UInt8 → Option (Instr × Nat) := fun _ => some (.dup, 1)
theorem op_89_ok : OpOK op_89 89 := by
  intro code pc b t i n hb hd h
  have hb : b = 89 := UInt8.toNat_inj.mp hb
  subst hb
  cases h
  exact dk_89 (dkat_of (bs := [89]) hd)
def op_90 : List UInt8 → Option (Instr × Nat) := fun _ => some (.dup_x1, 1)
theorem op_90_ok : OpOK op_90 90 := by
  intro code pc b t i n hb hd h
  have hb : b = 90 := UInt8.toNat_inj.mp hb
  subst hb
  cases h
  exact dk_90 (dkat_of (bs := [90]) hd)
def op_92 : List UInt8 → Option (Instr × Nat) := fun _ => some (.dup2, 1)
theorem op_92_ok : OpOK op_92 92 := by
  intro code pc b t i n hb hd h
  have hb : b = 92 := UInt8.toNat_inj.mp hb
  subst hb
  cases h
  exact dk_92 (dkat_of (bs := [92]) hd)
def op_93 : List UInt8 → Option (Instr × Nat) := fun _ => some (.dup2_x1, 1)
theorem op_93_ok : OpOK op_93 93 := by
  intro code pc b t i n hb hd h
  have hb : b = 93 := UInt8.toNat_inj.mp hb
  subst hb
  cases h
  exact dk_93 (dkat_of (bs := [93]) hd)
def op_96 : List UInt8 → Option (Instr × Nat) := fun _ => some (.iadd, 1)
theorem op_96_ok : OpOK op_96 96 := by
  intro code pc b t i n hb hd h
  have hb : b = 96 := UInt8.toNat_inj.mp hb
  subst hb
  cases h
  exact dk_96 (dkat_of (bs := [96]) hd)
def op_97 : List UInt8 → Option (Instr × Nat) := fun _ => some (.ladd, 1)
theorem op_97_ok : OpOK op_97 97 := by
  intro code pc b t i n hb hd h
  have hb : b = 97 := UInt8.toNat_inj.mp hb
  subst hb
  cases h
  exact dk_97 (dkat_of (bs := [97]) hd)
def op_99 : List UInt8 → Option (Instr × Nat) := fun _ => some (.dadd, 1)
theorem op_99_ok : OpOK op_99 99 := by
  intro code pc b t i n hb hd h
  have hb : b = 99 := UInt8.toNat_inj.mp hb
  subst hb
  cases h
  exact dk_99 (dkat_of (bs := [99]) hd)
def op_100 : List UInt8 → Option (Instr × Nat) := fun _ => some (.isub, 1)
theorem op_100_ok : OpOK op_100 100 := by
  intro code pc b t i n hb hd h
  have hb : b = 100 := UInt8.toNat_inj.mp hb
  subst hb
  cases h
  exact dk_100 (dkat_of (bs := [100]) hd)
def op_101 : List UInt8 → Option (Instr × Nat) := fun _ => some (.lsub, 1)
theorem op_101_ok : OpOK op_101 101 := by
  intro code pc b t i n hb hd h
  have hb : b = 101 := UInt8.toNat_inj.mp hb
  subst hb
  cases h
  exact dk_101 (dkat_of (bs := [101]) hd)
def op_103 : List UInt8 → Option (Instr × Nat) := fun _ => some (.dsub, 1)
theorem op_103_ok : OpOK op_103 103 := by
  intro code pc b t i n hb hd h
  have hb : b = 103 := UInt8.toNat_inj.mp hb
  subst hb
  cases h
  exact dk_103 (dkat_of (bs := [103]) hd)
def op_104 : List UInt8 → Option (Instr × Nat) := fun _ => some (.imul, 1)
theorem op_104_ok : OpOK op_104 104 := by
  intro code pc b t i n hb hd h
  have hb : b = 104 := UInt8.toNat_inj.mp hb
  subst hb
  cases h
  exact dk_104 (dkat_of (bs := [104]) hd)
def op_105 : List UInt8 → Option (Instr × Nat) := fun _ => some (.lmul, 1)
theorem op_105_ok : OpOK op_105 105 := by
  intro code pc b t i n hb hd h
  have hb : b = 105 := UInt8.toNat_inj.mp hb
  subst hb
  cases h
  exact dk_105 (dkat_of (bs := [105]) hd)
def op_107 : List UInt8 → Option (Instr × Nat) := fun _ => some (.dmul, 1)
theorem op_107_ok : OpOK op_107 107 := by
  intro code pc b t i n hb hd h
  have hb : b = 107 := UInt8.toNat_inj.mp hb
  subst hb
  cases h
  exact dk_107 (dkat_of (bs := [107]) hd)
def op_108 : List UInt8 → Option (Instr × Nat) := fun _ => some (.idiv, 1)
theorem op_108_ok : OpOK op_108 108 := by
  intro code pc b t i n hb hd h
  have hb : b = 108 := UInt8.toNat_inj.mp hb
  subst hb
  cases h
  exact dk_108 (dkat_of (bs := [108]) hd)
def op_111 : List UInt8 → Option (Instr × Nat) := fun _ => some (.ddiv, 1)
theorem op_111_ok : OpOK op_111 111 := by
  intro code pc b t i n hb hd h
  have hb : b = 111 := UInt8.toNat_inj.mp hb
  subst hb
  cases h
  exact dk_111 (dkat_of (bs := [111]) hd)
def op_112 : List UInt8 → Option (Instr × Nat) := fun _ => some (.irem, 1)
theorem op_112_ok : OpOK op_112 112 := by
  intro code pc b t i n hb hd h
  have hb : b = 112 := UInt8.toNat_inj.mp hb
  subst hb
  cases h
  exact dk_112 (dkat_of (bs := [112]) hd)
def op_116 : List UInt8 → Option (Instr × Nat) := fun _ => some (.ineg, 1)
theorem op_116_ok : OpOK op_116 116 := by
  intro code pc b t i n hb hd h
  have hb : b = 116 := UInt8.toNat_inj.mp hb
  subst hb
  cases h
  exact dk_116 (dkat_of (bs := [116]) hd)
def op_120 : List UInt8 → Option (Instr × Nat) := fun _ => some (.ishl, 1)
theorem op_120_ok : OpOK op_120 120 := by
  intro code pc b t i n hb hd h
  have hb : b = 120 := UInt8.toNat_inj.mp hb
  subst hb
  cases h
  exact dk_120 (dkat_of (bs := [120]) hd)
def op_122 : List UInt8 → Option (Instr × Nat) := fun _ => some (.ishr, 1)
theorem op_122_ok : OpOK op_122 122 := by
  intro code pc b t i n hb hd h
  have hb : b = 122 := UInt8.toNat_inj.mp hb
  subst hb
  cases h
  exact dk_122 (dkat_of (bs := [122]) hd)
def op_123 : List UInt8 → Option (Instr × Nat) := fun _ => some (.lshr, 1)
theorem op_123_ok : OpOK op_123 123 := by
  intro code pc b t i n hb hd h
  have hb : b = 123 := UInt8.toNat_inj.mp hb
  subst hb
  cases h
  exact dk_123 (dkat_of (bs := [123]) hd)
def op_124 : List UInt8 → Option (Instr × Nat) := fun _ => some (.iushr, 1)
theorem op_124_ok : OpOK op_124 124 := by
  intro code pc b t i n hb hd h
  have hb : b = 124 := UInt8.toNat_inj.mp hb
  subst hb
  cases h
  exact dk_124 (dkat_of (bs := [124]) hd)
def op_126 : List UInt8 → Option (Instr × Nat) := fun _ => some (.iand, 1)
theorem op_126_ok : OpOK op_126 126 := by
  intro code pc b t i n hb hd h
  have hb : b = 126 := UInt8.toNat_inj.mp hb
  subst hb
  cases h
  exact dk_126 (dkat_of (bs := [126]) hd)
def op_127 : List UInt8 → Option (Instr × Nat) := fun _ => some (.land, 1)
theorem op_127_ok : OpOK op_127 127 := by
  intro code pc b t i n hb hd h
  have hb : b = 127 := UInt8.toNat_inj.mp hb
  subst hb
  cases h
  exact dk_127 (dkat_of (bs := [127]) hd)
def op_128 : List UInt8 → Option (Instr × Nat) := fun _ => some (.ior, 1)
theorem op_128_ok : OpOK op_128 128 := by
  intro code pc b t i n hb hd h
  have hb : b = 128 := UInt8.toNat_inj.mp hb
  subst hb
  cases h
  exact dk_128 (dkat_of (bs := [128]) hd)
def op_130 : List UInt8 → Option (Instr × Nat) := fun _ => some (.ixor, 1)
theorem op_130_ok : OpOK op_130 130 := by
  intro code pc b t i n hb hd h
  have hb : b = 130 := UInt8.toNat_inj.mp hb
  subst hb
  cases h
  exact dk_130 (dkat_of (bs := [130]) hd)
def op_131 : List UInt8 → Option (Instr × Nat) := fun _ => some (.lxor, 1)
theorem op_131_ok : OpOK op_131 131 := by
  intro code pc b t i n hb hd h
  have hb : b = 131 := UInt8.toNat_inj.mp hb
  subst hb
  cases h
  exact dk_131 (dkat_of (bs := [131]) hd)
def op_132 : List UInt8 → Option (Instr × Nat) := fun t => match t with | x0 :: x1 :: _ => some (.iinc x0.toNat (Reader.signed 8 x1.toNat), 3) | _ => none
theorem op_132_ok : OpOK op_132 132 := by
  intro code pc b t i n hb hd h
  have hb : b = 132 := UInt8.toNat_inj.mp hb
  subst hb
  match t, hd, h with
  | x0 :: x1 :: t, hd, h =>
    cases h
    exact dk_132 x0 x1 (dkat_of (bs := [132, x0, x1]) hd)
def op_133 : List UInt8 → Option (Instr × Nat) := fun _ => some (.i2l, 1)
theorem op_133_ok : OpOK op_133 133 := by
  intro code pc b t i n hb hd h
  have hb : b = 133 := UInt8.toNat_inj.mp hb
  subst hb
  cases h
  exact dk_133 (dkat_of (bs := [133]) hd)
def op_135 : List UInt8 → Option (Instr × Nat) := fun _ => some (.i2d, 1)
theorem op_135_ok : OpOK op_135 135 := by
  intro code pc b t i n hb hd h
  have hb : b = 135 := UInt8.toNat_inj.mp hb
  subst hb
  cases h
  exact dk_135 (dkat_of (bs := [135]) hd)
def op_136 : List UInt8 → Option (Instr × Nat) := fun _ => some (.l2i, 1)
theorem op_136_ok : OpOK op_136 136 := by
  intro code pc b t i n hb hd h
  have hb : b = 136 := UInt8.toNat_inj.mp hb
  subst hb
  cases h
  exact dk_136 (dkat_of (bs := [136]) hd)
def op_142 : List UInt8 → Option (Instr × Nat) := fun _ => some (.d2i, 1)
theorem op_142_ok : OpOK op_142 142 := by
  intro code pc b t i n hb hd h
  have hb : b = 142 := UInt8.toNat_inj.mp hb
  subst hb
  cases h
  exact dk_142 (dkat_of (bs := [142]) hd)
def op_145 : List UInt8 → Option (Instr × Nat) := fun _ => some (.i2b, 1)
theorem op_145_ok : OpOK op_145 145 := by
  intro code pc b t i n hb hd h
  have hb : b = 145 := UInt8.toNat_inj.mp hb
  subst hb
  cases h
  exact dk_145 (dkat_of (bs := [145]) hd)
def op_146 : List UInt8 → Option (Instr × Nat) := fun _ => some (.i2c, 1)
theorem op_146_ok : OpOK op_146 146 := by
  intro code pc b t i n hb hd h
  have hb : b = 146 := UInt8.toNat_inj.mp hb
  subst hb
  cases h
  exact dk_146 (dkat_of (bs := [146]) hd)
def op_148 : List UInt8 → Option (Instr × Nat) := fun _ => some (.lcmp, 1)
theorem op_148_ok : OpOK op_148 148 := by
  intro code pc b t i n hb hd h
  have hb : b = 148 := UInt8.toNat_inj.mp hb
  subst hb
  cases h
  exact dk_148 (dkat_of (bs := [148]) hd)
def op_151 : List UInt8 → Option (Instr × Nat) := fun _ => some (.dcmp .l, 1)
theorem op_151_ok : OpOK op_151 151 := by
  intro code pc b t i n hb hd h
  have hb : b = 151 := UInt8.toNat_inj.mp hb
  subst hb
  cases h
  exact dk_151 (dkat_of (bs := [151]) hd)
def op_152 : List UInt8 → Option (Instr × Nat) := fun _ => some (.dcmp .g, 1)
theorem op_152_ok : OpOK op_152 152 := by
  intro code pc b t i n hb hd h
  have hb : b = 152 := UInt8.toNat_inj.mp hb
  subst hb
  cases h
  exact dk_152 (dkat_of (bs := [152]) hd)
def op_153 : List UInt8 → Option (Instr × Nat) := fun t => match t with | x0 :: x1 :: _ => some (.ifCond .eq (Reader.signed 16 (x0.toNat * 256 + x1.toNat)), 3) | _ => none
theorem op_153_ok : OpOK op_153 153 := by
  intro code pc b t i n hb hd h
  have hb : b = 153 := UInt8.toNat_inj.mp hb
  subst hb
  match t, hd, h with
  | x0 :: x1 :: t, hd, h =>
    cases h
    exact dk_153 x0 x1 (dkat_of (bs := [153, x0, x1]) hd)
def op_154 : List UInt8 → Option (Instr × Nat) := fun t => match t with | x0 :: x1 :: _ => some (.ifCond .ne (Reader.signed 16 (x0.toNat * 256 + x1.toNat)), 3) | _ => none
theorem op_154_ok : OpOK op_154 154 := by
  intro code pc b t i n hb hd h
  have hb : b = 154 := UInt8.toNat_inj.mp hb
  subst hb
  match t, hd, h with
  | x0 :: x1 :: t, hd, h =>
    cases h
    exact dk_154 x0 x1 (dkat_of (bs := [154, x0, x1]) hd)
def op_155 : List UInt8 → Option (Instr × Nat) := fun t => match t with | x0 :: x1 :: _ => some (.ifCond .lt (Reader.signed 16 (x0.toNat * 256 + x1.toNat)), 3) | _ => none
theorem op_155_ok : OpOK op_155 155 := by
  intro code pc b t i n hb hd h
  have hb : b = 155 := UInt8.toNat_inj.mp hb
  subst hb
  match t, hd, h with
  | x0 :: x1 :: t, hd, h =>
    cases h
    exact dk_155 x0 x1 (dkat_of (bs := [155, x0, x1]) hd)
def op_156 : List UInt8 → Option (Instr × Nat) := fun t => match t with | x0 :: x1 :: _ => some (.ifCond .ge (Reader.signed 16 (x0.toNat * 256 + x1.toNat)), 3) | _ => none
theorem op_156_ok : OpOK op_156 156 := by
  intro code pc b t i n hb hd h
  have hb : b = 156 := UInt8.toNat_inj.mp hb
  subst hb
  match t, hd, h with
  | x0 :: x1 :: t, hd, h =>
    cases h
    exact dk_156 x0 x1 (dkat_of (bs := [156, x0, x1]) hd)
def op_157 : List UInt8 → Option (Instr × Nat) := fun t => match t with | x0 :: x1 :: _ => some (.ifCond .gt (Reader.signed 16 (x0.toNat * 256 + x1.toNat)), 3) | _ => none
theorem op_157_ok : OpOK op_157 157 := by
  intro code pc b t i n hb hd h
  have hb : b = 157 := UInt8.toNat_inj.mp hb
  subst hb
  match t, hd, h with
  | x0 :: x1 :: t, hd, h =>
    cases h
    exact dk_157 x0 x1 (dkat_of (bs := [157, x0, x1]) hd)
def op_158 : List UInt8 → Option (Instr × Nat) := fun t => match t with | x0 :: x1 :: _ => some (.ifCond .le (Reader.signed 16 (x0.toNat * 256 + x1.toNat)), 3) | _ => none
theorem op_158_ok : OpOK op_158 158 := by
  intro code pc b t i n hb hd h
  have hb : b = 158 := UInt8.toNat_inj.mp hb
  subst hb
  match t, hd, h with
  | x0 :: x1 :: t, hd, h =>
    cases h
    exact dk_158 x0 x1 (dkat_of (bs := [158, x0, x1]) hd)
def op_159 : List UInt8 → Option (Instr × Nat) := fun t => match t with | x0 :: x1 :: _ => some (.if_icmp .eq (Reader.signed 16 (x0.toNat * 256 + x1.toNat)), 3) | _ => none
theorem op_159_ok : OpOK op_159 159 := by
  intro code pc b t i n hb hd h
  have hb : b = 159 := UInt8.toNat_inj.mp hb
  subst hb
  match t, hd, h with
  | x0 :: x1 :: t, hd, h =>
    cases h
    exact dk_159 x0 x1 (dkat_of (bs := [159, x0, x1]) hd)
def op_160 : List UInt8 → Option (Instr × Nat) := fun t => match t with | x0 :: x1 :: _ => some (.if_icmp .ne (Reader.signed 16 (x0.toNat * 256 + x1.toNat)), 3) | _ => none
theorem op_160_ok : OpOK op_160 160 := by
  intro code pc b t i n hb hd h
  have hb : b = 160 := UInt8.toNat_inj.mp hb
  subst hb
  match t, hd, h with
  | x0 :: x1 :: t, hd, h =>
    cases h
    exact dk_160 x0 x1 (dkat_of (bs := [160, x0, x1]) hd)
def op_161 : List UInt8 → Option (Instr × Nat) := fun t => match t with | x0 :: x1 :: _ => some (.if_icmp .lt (Reader.signed 16 (x0.toNat * 256 + x1.toNat)), 3) | _ => none
theorem op_161_ok : OpOK op_161 161 := by
  intro code pc b t i n hb hd h
  have hb : b = 161 := UInt8.toNat_inj.mp hb
  subst hb
  match t, hd, h with
  | x0 :: x1 :: t, hd, h =>
    cases h
    exact dk_161 x0 x1 (dkat_of (bs := [161, x0, x1]) hd)
def op_162 : List UInt8 → Option (Instr × Nat) := fun t => match t with | x0 :: x1 :: _ => some (.if_icmp .ge (Reader.signed 16 (x0.toNat * 256 + x1.toNat)), 3) | _ => none
theorem op_162_ok : OpOK op_162 162 := by
  intro code pc b t i n hb hd h
  have hb : b = 162 := UInt8.toNat_inj.mp hb
  subst hb
  match t, hd, h with
  | x0 :: x1 :: t, hd, h =>
    cases h
    exact dk_162 x0 x1 (dkat_of (bs := [162, x0, x1]) hd)
def op_163 : List UInt8 → Option (Instr × Nat) := fun t => match t with | x0 :: x1 :: _ => some (.if_icmp .gt (Reader.signed 16 (x0.toNat * 256 + x1.toNat)), 3) | _ => none
theorem op_163_ok : OpOK op_163 163 := by
  intro code pc b t i n hb hd h
  have hb : b = 163 := UInt8.toNat_inj.mp hb
  subst hb
  match t, hd, h with
  | x0 :: x1 :: t, hd, h =>
    cases h
    exact dk_163 x0 x1 (dkat_of (bs := [163, x0, x1]) hd)
def op_164 : List UInt8 → Option (Instr × Nat) := fun t => match t with | x0 :: x1 :: _ => some (.if_icmp .le (Reader.signed 16 (x0.toNat * 256 + x1.toNat)), 3) | _ => none
theorem op_164_ok : OpOK op_164 164 := by
  intro code pc b t i n hb hd h
  have hb : b = 164 := UInt8.toNat_inj.mp hb
  subst hb
  match t, hd, h with
  | x0 :: x1 :: t, hd, h =>
    cases h
    exact dk_164 x0 x1 (dkat_of (bs := [164, x0, x1]) hd)
def op_165 : List UInt8 → Option (Instr × Nat) := fun t => match t with | x0 :: x1 :: _ => some (.if_acmp .eq (Reader.signed 16 (x0.toNat * 256 + x1.toNat)), 3) | _ => none
theorem op_165_ok : OpOK op_165 165 := by
  intro code pc b t i n hb hd h
  have hb : b = 165 := UInt8.toNat_inj.mp hb
  subst hb
  match t, hd, h with
  | x0 :: x1 :: t, hd, h =>
    cases h
    exact dk_165 x0 x1 (dkat_of (bs := [165, x0, x1]) hd)
def op_166 : List UInt8 → Option (Instr × Nat) := fun t => match t with | x0 :: x1 :: _ => some (.if_acmp .ne (Reader.signed 16 (x0.toNat * 256 + x1.toNat)), 3) | _ => none
theorem op_166_ok : OpOK op_166 166 := by
  intro code pc b t i n hb hd h
  have hb : b = 166 := UInt8.toNat_inj.mp hb
  subst hb
  match t, hd, h with
  | x0 :: x1 :: t, hd, h =>
    cases h
    exact dk_166 x0 x1 (dkat_of (bs := [166, x0, x1]) hd)
def op_167 : List UInt8 → Option (Instr × Nat) := fun t => match t with | x0 :: x1 :: _ => some (.goto (Reader.signed 16 (x0.toNat * 256 + x1.toNat)), 3) | _ => none
theorem op_167_ok : OpOK op_167 167 := by
  intro code pc b t i n hb hd h
  have hb : b = 167 := UInt8.toNat_inj.mp hb
  subst hb
  match t, hd, h with
  | x0 :: x1 :: t, hd, h =>
    cases h
    exact dk_167 x0 x1 (dkat_of (bs := [167, x0, x1]) hd)
def op_172 : List UInt8 → Option (Instr × Nat) := fun _ => some (.ireturn, 1)
theorem op_172_ok : OpOK op_172 172 := by
  intro code pc b t i n hb hd h
  have hb : b = 172 := UInt8.toNat_inj.mp hb
  subst hb
  cases h
  exact dk_172 (dkat_of (bs := [172]) hd)
def op_173 : List UInt8 → Option (Instr × Nat) := fun _ => some (.lreturn, 1)
theorem op_173_ok : OpOK op_173 173 := by
  intro code pc b t i n hb hd h
  have hb : b = 173 := UInt8.toNat_inj.mp hb
  subst hb
  cases h
  exact dk_173 (dkat_of (bs := [173]) hd)
def op_175 : List UInt8 → Option (Instr × Nat) := fun _ => some (.dreturn, 1)
theorem op_175_ok : OpOK op_175 175 := by
  intro code pc b t i n hb hd h
  have hb : b = 175 := UInt8.toNat_inj.mp hb
  subst hb
  cases h
  exact dk_175 (dkat_of (bs := [175]) hd)
def op_176 : List UInt8 → Option (Instr × Nat) := fun _ => some (.areturn, 1)
theorem op_176_ok : OpOK op_176 176 := by
  intro code pc b t i n hb hd h
  have hb : b = 176 := UInt8.toNat_inj.mp hb
  subst hb
  cases h
  exact dk_176 (dkat_of (bs := [176]) hd)
def op_177 : List UInt8 → Option (Instr × Nat) := fun _ => some (.return_, 1)
theorem op_177_ok : OpOK op_177 177 := by
  intro code pc b t i n hb hd h
  have hb : b = 177 := UInt8.toNat_inj.mp hb
  subst hb
  cases h
  exact dk_177 (dkat_of (bs := [177]) hd)
def op_178 : List UInt8 → Option (Instr × Nat) := fun t => match t with | x0 :: x1 :: _ => some (.getstatic (x0.toNat * 256 + x1.toNat), 3) | _ => none
theorem op_178_ok : OpOK op_178 178 := by
  intro code pc b t i n hb hd h
  have hb : b = 178 := UInt8.toNat_inj.mp hb
  subst hb
  match t, hd, h with
  | x0 :: x1 :: t, hd, h =>
    cases h
    exact dk_178 x0 x1 (dkat_of (bs := [178, x0, x1]) hd)
def op_180 : List UInt8 → Option (Instr × Nat) := fun t => match t with | x0 :: x1 :: _ => some (.getfield (x0.toNat * 256 + x1.toNat), 3) | _ => none
theorem op_180_ok : OpOK op_180 180 := by
  intro code pc b t i n hb hd h
  have hb : b = 180 := UInt8.toNat_inj.mp hb
  subst hb
  match t, hd, h with
  | x0 :: x1 :: t, hd, h =>
    cases h
    exact dk_180 x0 x1 (dkat_of (bs := [180, x0, x1]) hd)
def op_181 : List UInt8 → Option (Instr × Nat) := fun t => match t with | x0 :: x1 :: _ => some (.putfield (x0.toNat * 256 + x1.toNat), 3) | _ => none
theorem op_181_ok : OpOK op_181 181 := by
  intro code pc b t i n hb hd h
  have hb : b = 181 := UInt8.toNat_inj.mp hb
  subst hb
  match t, hd, h with
  | x0 :: x1 :: t, hd, h =>
    cases h
    exact dk_181 x0 x1 (dkat_of (bs := [181, x0, x1]) hd)
def op_182 : List UInt8 → Option (Instr × Nat) := fun t => match t with | x0 :: x1 :: _ => some (.invokevirtual (x0.toNat * 256 + x1.toNat), 3) | _ => none
theorem op_182_ok : OpOK op_182 182 := by
  intro code pc b t i n hb hd h
  have hb : b = 182 := UInt8.toNat_inj.mp hb
  subst hb
  match t, hd, h with
  | x0 :: x1 :: t, hd, h =>
    cases h
    exact dk_182 x0 x1 (dkat_of (bs := [182, x0, x1]) hd)
def op_183 : List UInt8 → Option (Instr × Nat) := fun t => match t with | x0 :: x1 :: _ => some (.invokespecial (x0.toNat * 256 + x1.toNat), 3) | _ => none
theorem op_183_ok : OpOK op_183 183 := by
  intro code pc b t i n hb hd h
  have hb : b = 183 := UInt8.toNat_inj.mp hb
  subst hb
  match t, hd, h with
  | x0 :: x1 :: t, hd, h =>
    cases h
    exact dk_183 x0 x1 (dkat_of (bs := [183, x0, x1]) hd)
def op_184 : List UInt8 → Option (Instr × Nat) := fun t => match t with | x0 :: x1 :: _ => some (.invokestatic (x0.toNat * 256 + x1.toNat), 3) | _ => none
theorem op_184_ok : OpOK op_184 184 := by
  intro code pc b t i n hb hd h
  have hb : b = 184 := UInt8.toNat_inj.mp hb
  subst hb
  match t, hd, h with
  | x0 :: x1 :: t, hd, h =>
    cases h
    exact dk_184 x0 x1 (dkat_of (bs := [184, x0, x1]) hd)
def op_187 : List UInt8 → Option (Instr × Nat) := fun t => match t with | x0 :: x1 :: _ => some (.new (x0.toNat * 256 + x1.toNat), 3) | _ => none
theorem op_187_ok : OpOK op_187 187 := by
  intro code pc b t i n hb hd h
  have hb : b = 187 := UInt8.toNat_inj.mp hb
  subst hb
  match t, hd, h with
  | x0 :: x1 :: t, hd, h =>
    cases h
    exact dk_187 x0 x1 (dkat_of (bs := [187, x0, x1]) hd)
def op_188 : List UInt8 → Option (Instr × Nat) := fun t => match t with | x0 :: _ => (match x0.toNat with | 4 => some (.newarray .boolean, 2) | 7 => some (.newarray .double, 2) | 8 => some (.newarray .byte, 2) | 10 => some (.newarray .int, 2) | _ => none) | _ => none
theorem op_188_ok : OpOK op_188 188 := by
  intro code pc b t i n hb hd h
  have hb : b = 188 := UInt8.toNat_inj.mp hb
  subst hb
  match t, hd, h with
  | x0 :: t, hd, h =>
    simp only [op_188] at h
    split at h
    · next e0 =>
      have e0 : x0 = 4 := UInt8.toNat_inj.mp e0
      subst e0
      cases h
      exact dk_188_4 (dkat_of (bs := [188, 4]) hd)
    · next e0 =>
      have e0 : x0 = 7 := UInt8.toNat_inj.mp e0
      subst e0
      cases h
      exact dk_188_7 (dkat_of (bs := [188, 7]) hd)
    · next e0 =>
      have e0 : x0 = 8 := UInt8.toNat_inj.mp e0
      subst e0
      cases h
      exact dk_188_8 (dkat_of (bs := [188, 8]) hd)
    · next e0 =>
      have e0 : x0 = 10 := UInt8.toNat_inj.mp e0
      subst e0
      cases h
      exact dk_188_10 (dkat_of (bs := [188, 10]) hd)
    · exact absurd h (by simp)
def op_189 : List UInt8 → Option (Instr × Nat) := fun t => match t with | x0 :: x1 :: _ => some (.anewarray (x0.toNat * 256 + x1.toNat), 3) | _ => none
theorem op_189_ok : OpOK op_189 189 := by
  intro code pc b t i n hb hd h
  have hb : b = 189 := UInt8.toNat_inj.mp hb
  subst hb
  match t, hd, h with
  | x0 :: x1 :: t, hd, h =>
    cases h
    exact dk_189 x0 x1 (dkat_of (bs := [189, x0, x1]) hd)
def op_190 : List UInt8 → Option (Instr × Nat) := fun _ => some (.arraylength, 1)
theorem op_190_ok : OpOK op_190 190 := by
  intro code pc b t i n hb hd h
  have hb : b = 190 := UInt8.toNat_inj.mp hb
  subst hb
  cases h
  exact dk_190 (dkat_of (bs := [190]) hd)
def op_191 : List UInt8 → Option (Instr × Nat) := fun _ => some (.athrow, 1)
theorem op_191_ok : OpOK op_191 191 := by
  intro code pc b t i n hb hd h
  have hb : b = 191 := UInt8.toNat_inj.mp hb
  subst hb
  cases h
  exact dk_191 (dkat_of (bs := [191]) hd)
def op_192 : List UInt8 → Option (Instr × Nat) := fun t => match t with | x0 :: x1 :: _ => some (.checkcast (x0.toNat * 256 + x1.toNat), 3) | _ => none
theorem op_192_ok : OpOK op_192 192 := by
  intro code pc b t i n hb hd h
  have hb : b = 192 := UInt8.toNat_inj.mp hb
  subst hb
  match t, hd, h with
  | x0 :: x1 :: t, hd, h =>
    cases h
    exact dk_192 x0 x1 (dkat_of (bs := [192, x0, x1]) hd)
def op_193 : List UInt8 → Option (Instr × Nat) := fun t => match t with | x0 :: x1 :: _ => some (.instanceof (x0.toNat * 256 + x1.toNat), 3) | _ => none
theorem op_193_ok : OpOK op_193 193 := by
  intro code pc b t i n hb hd h
  have hb : b = 193 := UInt8.toNat_inj.mp hb
  subst hb
  match t, hd, h with
  | x0 :: x1 :: t, hd, h =>
    cases h
    exact dk_193 x0 x1 (dkat_of (bs := [193, x0, x1]) hd)
def op_194 : List UInt8 → Option (Instr × Nat) := fun _ => some (.monitorenter, 1)
theorem op_194_ok : OpOK op_194 194 := by
  intro code pc b t i n hb hd h
  have hb : b = 194 := UInt8.toNat_inj.mp hb
  subst hb
  cases h
  exact dk_194 (dkat_of (bs := [194]) hd)
def op_195 : List UInt8 → Option (Instr × Nat) := fun _ => some (.monitorexit, 1)
theorem op_195_ok : OpOK op_195 195 := by
  intro code pc b t i n hb hd h
  have hb : b = 195 := UInt8.toNat_inj.mp hb
  subst hb
  cases h
  exact dk_195 (dkat_of (bs := [195]) hd)
def op_198 : List UInt8 → Option (Instr × Nat) := fun t => match t with | x0 :: x1 :: _ => some (.ifnull (Reader.signed 16 (x0.toNat * 256 + x1.toNat)), 3) | _ => none
theorem op_198_ok : OpOK op_198 198 := by
  intro code pc b t i n hb hd h
  have hb : b = 198 := UInt8.toNat_inj.mp hb
  subst hb
  match t, hd, h with
  | x0 :: x1 :: t, hd, h =>
    cases h
    exact dk_198 x0 x1 (dkat_of (bs := [198, x0, x1]) hd)
def op_199 : List UInt8 → Option (Instr × Nat) := fun t => match t with | x0 :: x1 :: _ => some (.ifnonnull (Reader.signed 16 (x0.toNat * 256 + x1.toNat)), 3) | _ => none
theorem op_199_ok : OpOK op_199 199 := by
  intro code pc b t i n hb hd h
  have hb : b = 199 := UInt8.toNat_inj.mp hb
  subst hb
  match t, hd, h with
  | x0 :: x1 :: t, hd, h =>
    cases h
    exact dk_199 x0 x1 (dkat_of (bs := [199, x0, x1]) hd)
theorem dk_185 {code : ByteArray} {pc : Nat} (a b x : UInt8) (hx : x.toNat ≠ 0) (h : DkAt code pc [185, a, b, x, 0]) : decode code pc = .ok (.invokeinterface (a.toNat * 256 + b.toNat) x.toNat, 5) := by
  refine dk_of ((dk_bind (dk_u1 (h 0 _ rfl))).trans ?_)
  refine (dk_bind (dk_u2 (h 1 _ rfl) (h 2 _ rfl))).trans ?_
  refine (dk_bind (dk_u1 (h 3 _ rfl))).trans ?_
  refine (dk_bind (dk_u1 (h 4 _ rfl))).trans ?_
  simp [hx]
  rfl
def op_185 : List UInt8 → Option (Instr × Nat) := fun t => match t with | x0 :: x1 :: x2 :: x3 :: _ => (match Nat.beq x2.toNat 0, x3.toNat with | false, 0 => some (.invokeinterface (x0.toNat * 256 + x1.toNat) x2.toNat, 5) | _, _ => none) | _ => none
theorem op_185_ok : OpOK op_185 185 := by
  intro code pc b t i n hb hd h
  have hb : b = 185 := UInt8.toNat_inj.mp hb
  subst hb
  match t, hd, h with
  | x0 :: x1 :: x2 :: x3 :: t, hd, h =>
    simp only [op_185] at h
    split at h
    · next e1 e0 =>
      have e0 : x3 = 0 := UInt8.toNat_inj.mp e0
      subst e0
      cases h
      exact dk_185 x0 x1 x2 (fun z => by rw [z] at e1; cases e1) (dkat_of (bs := [185, x0, x1, x2, 0]) hd)
    · exact absurd h (by simp)
def opT : List OpR := [(1, op_1), (2, op_2), (3, op_3), (4, op_4), (5, op_5), (6, op_6), (7, op_7), (8, op_8), (9, op_9), (10, op_10), (14, op_14), (15, op_15), (16, op_16), (17, op_17), (18, op_18), (19, op_19), (20, op_20), (21, op_21), (22, op_22), (24, op_24), (25, op_25), (26, op_26), (27, op_27), (28, op_28), (29, op_29), (31, op_31), (33, op_33), (38, op_38), (39, op_39), (40, op_40), (41, op_41), (42, op_42), (43, op_43), (44, op_44), (45, op_45), (46, op_46), (49, op_49), (50, op_50), (51, op_51), (54, op_54), (55, op_55), (57, op_57), (58, op_58), (59, op_59), (60, op_60), (61, op_61), (62, op_62), (64, op_64), (66, op_66), (72, op_72), (73, op_73), (74, op_74), (75, op_75), (76, op_76), (77, op_77), (78, op_78), (79, op_79), (82, op_82), (83, op_83), (84, op_84), (87, op_87), (88, op_88), (89, op_89), (90, op_90), (92, op_92), (93, op_93), (96, op_96), (97, op_97), (99, op_99), (100, op_100), (101, op_101), (103, op_103), (104, op_104), (105, op_105), (107, op_107), (108, op_108), (111, op_111), (112, op_112), (116, op_116), (120, op_120), (122, op_122), (123, op_123), (124, op_124), (126, op_126), (127, op_127), (128, op_128), (130, op_130), (131, op_131), (132, op_132), (133, op_133), (135, op_135), (136, op_136), (142, op_142), (145, op_145), (146, op_146), (148, op_148), (151, op_151), (152, op_152), (153, op_153), (154, op_154), (155, op_155), (156, op_156), (157, op_157), (158, op_158), (159, op_159), (160, op_160), (161, op_161), (162, op_162), (163, op_163), (164, op_164), (165, op_165), (166, op_166), (167, op_167), (172, op_172), (173, op_173), (175, op_175), (176, op_176), (177, op_177), (178, op_178), (180, op_180), (181, op_181), (182, op_182), (183, op_183), (184, op_184), (187, op_187), (188, op_188), (189, op_189), (190, op_190), (191, op_191), (192, op_192), (193, op_193), (194, op_194), (195, op_195), (198, op_198), (199, op_199), (185, op_185)]
def OpsOK : List OpR → Prop
  | [] => True
  | q :: t => OpOK q.2 q.1 ∧ OpsOK t
theorem opT_ok : OpsOK opT := ⟨op_1_ok, ⟨op_2_ok, ⟨op_3_ok, ⟨op_4_ok, ⟨op_5_ok, ⟨op_6_ok, ⟨op_7_ok, ⟨op_8_ok, ⟨op_9_ok, ⟨op_10_ok, ⟨op_14_ok, ⟨op_15_ok, ⟨op_16_ok, ⟨op_17_ok, ⟨op_18_ok, ⟨op_19_ok, ⟨op_20_ok, ⟨op_21_ok, ⟨op_22_ok, ⟨op_24_ok, ⟨op_25_ok, ⟨op_26_ok, ⟨op_27_ok, ⟨op_28_ok, ⟨op_29_ok, ⟨op_31_ok, ⟨op_33_ok, ⟨op_38_ok, ⟨op_39_ok, ⟨op_40_ok, ⟨op_41_ok, ⟨op_42_ok, ⟨op_43_ok, ⟨op_44_ok, ⟨op_45_ok, ⟨op_46_ok, ⟨op_49_ok, ⟨op_50_ok, ⟨op_51_ok, ⟨op_54_ok, ⟨op_55_ok, ⟨op_57_ok, ⟨op_58_ok, ⟨op_59_ok, ⟨op_60_ok, ⟨op_61_ok, ⟨op_62_ok, ⟨op_64_ok, ⟨op_66_ok, ⟨op_72_ok, ⟨op_73_ok, ⟨op_74_ok, ⟨op_75_ok, ⟨op_76_ok, ⟨op_77_ok, ⟨op_78_ok, ⟨op_79_ok, ⟨op_82_ok, ⟨op_83_ok, ⟨op_84_ok, ⟨op_87_ok, ⟨op_88_ok, ⟨op_89_ok, ⟨op_90_ok, ⟨op_92_ok, ⟨op_93_ok, ⟨op_96_ok, ⟨op_97_ok, ⟨op_99_ok, ⟨op_100_ok, ⟨op_101_ok, ⟨op_103_ok, ⟨op_104_ok, ⟨op_105_ok, ⟨op_107_ok, ⟨op_108_ok, ⟨op_111_ok, ⟨op_112_ok, ⟨op_116_ok, ⟨op_120_ok, ⟨op_122_ok, ⟨op_123_ok, ⟨op_124_ok, ⟨op_126_ok, ⟨op_127_ok, ⟨op_128_ok, ⟨op_130_ok, ⟨op_131_ok, ⟨op_132_ok, ⟨op_133_ok, ⟨op_135_ok, ⟨op_136_ok, ⟨op_142_ok, ⟨op_145_ok, ⟨op_146_ok, ⟨op_148_ok, ⟨op_151_ok, ⟨op_152_ok, ⟨op_153_ok, ⟨op_154_ok, ⟨op_155_ok, ⟨op_156_ok, ⟨op_157_ok, ⟨op_158_ok, ⟨op_159_ok, ⟨op_160_ok, ⟨op_161_ok, ⟨op_162_ok, ⟨op_163_ok, ⟨op_164_ok, ⟨op_165_ok, ⟨op_166_ok, ⟨op_167_ok, ⟨op_172_ok, ⟨op_173_ok, ⟨op_175_ok, ⟨op_176_ok, ⟨op_177_ok, ⟨op_178_ok, ⟨op_180_ok, ⟨op_181_ok, ⟨op_182_ok, ⟨op_183_ok, ⟨op_184_ok, ⟨op_187_ok, ⟨op_188_ok, ⟨op_189_ok, ⟨op_190_ok, ⟨op_191_ok, ⟨op_192_ok, ⟨op_193_ok, ⟨op_194_ok, ⟨op_195_ok, ⟨op_198_ok, ⟨op_199_ok, ⟨op_185_ok, trivial⟩⟩⟩⟩⟩⟩⟩⟩⟩⟩⟩⟩⟩⟩⟩⟩⟩⟩⟩⟩⟩⟩⟩⟩⟩⟩⟩⟩⟩⟩⟩⟩⟩⟩⟩⟩⟩⟩⟩⟩⟩⟩⟩⟩⟩⟩⟩⟩⟩⟩⟩⟩⟩⟩⟩⟩⟩⟩⟩⟩⟩⟩⟩⟩⟩⟩⟩⟩⟩⟩⟩⟩⟩⟩⟩⟩⟩⟩⟩⟩⟩⟩⟩⟩⟩⟩⟩⟩⟩⟩⟩⟩⟩⟩⟩⟩⟩⟩⟩⟩⟩⟩⟩⟩⟩⟩⟩⟩⟩⟩⟩⟩⟩⟩⟩⟩⟩⟩⟩⟩⟩⟩⟩⟩⟩⟩⟩⟩⟩⟩⟩⟩⟩⟩⟩⟩
def opL : List OpR → Nat → List UInt8 → Option (Instr × Nat)
  | [], _, _ => none
  | (k, f) :: r, n, t => match Nat.beq n k with | true => f t | false => opL r n t
theorem opL_ok {code : ByteArray} {pc : Nat} {b : UInt8} {t : List UInt8} {i : Instr} {n : Nat} (hd : code.data.toList.drop pc = b :: t) : ∀ T : List OpR, OpsOK T → opL T b.toNat t = some (i, n) → decode code pc = .ok (i, n)
  | [], _, h => absurd h (by simp [opL])
  | (k, f) :: r, hT, h => by
    unfold opL at h
    split at h
    · next e => exact hT.1 code pc b t i n (Nat.eq_of_beq_eq_true e) hd h
    · exact opL_ok hd r hT.2 h
/-- the instruction at the front of these bytes -/
def opc (l : List UInt8) : Option (Instr × Nat) := match l with | b :: t => opL opT b.toNat t | [] => none
theorem opc_ok {code : ByteArray} {pc : Nat} {l : List UInt8} {i : Instr} {n : Nat} (hd : code.data.toList.drop pc = l) (h : opc l = some (i, n)) : decode code pc = .ok (i, n) := by
  unfold opc at h
  split at h
  · exact opL_ok hd opT opT_ok h
  · exact absurd h (by simp)
