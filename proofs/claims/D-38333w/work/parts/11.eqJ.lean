/-! the equations of the methods -/
set_option maxRecDepth 100000
section EQ
variable (G : Nat → Option Nat) (c : Nat) (M : Mem)
/-- java/util/AbstractCollection.<init>()V -/
theorem prg_1 : prg 1 = code_1 := rfl
theorem E1_0 (r0 : Option Nat) : ex G c 1 0 [(0, vR r0)] [] M = nn r0 (fun _ => rV M) := ex_eq prg_1 rfl
/-- java/util/AbstractList.<init>()V -/
theorem prg_2 : prg 2 = code_2 := rfl
theorem E2_0 (r0 : Option Nat) : ex G c 2 0 [(0, vR r0)] [] M = vc1 M 5 r0 (fun a2 => dbV (ex G c 1 0 [(0, vR (some a2))] [] M) (fun M1 => pI M1 c 5 21 r0 0 (fun M3 => rV M3))) := ex_eq prg_2 rfl
/-- java/util/ArrayList.<init>()V -/
theorem prg_3 : prg 3 = code_3 := rfl
theorem E3_0 (r0 : Option Nat) : ex G c 3 0 [(0, vR r0)] [] M = vc1 M 5 r0 (fun a2 => dbV (ex G c 2 0 [(0, vR (some a2))] [] M) (fun M1 => pR M1 c 5 22 r0 (G 1) (fun M3 => rV M3))) := ex_eq prg_3 rfl
/-- java/util/ArrayList.iterator()Ljava/util/Iterator; -/
theorem prg_4 : prg 4 = code_4 := rfl
theorem E4_0 (r0 : Option Nat) : ex G c 4 0 [(0, vR r0)] [] M = nw M c 11 4 (fun a1 M2 => vc1 M2 11 (some a1) (fun a4 => dbV (ex G c 86 0 [(0, vR (some a4)), (1, vR r0)] [] M2) (fun M3 => rR (some a1) M3))) := ex_eq prg_4 rfl
/-- java/util/ArrayList.size()I -/
theorem prg_5 : prg 5 = code_5 := rfl
theorem E5_0 (r0 : Option Nat) : ex G c 5 0 [(0, vR r0)] [] M = gI M 5 23 r0 (fun v1 => rI v1 M) := ex_eq prg_5 rfl
/-- java/util/ArrayList.get(I)Ljava/lang/Object; -/
theorem prg_6 : prg 6 = code_6 := rfl
theorem E6_0 (r0 : Option Nat) (i1 : Int32) : ex G c 6 0 [(0, vR r0), (1, vI i1)] [] M = gI M 5 23 r0 (fun v1 => cbI (ex G c 84 0 [(0, vI i1), (1, vI v1)] [] M) (fun v3 M2 => vc1 M2 5 r0 (fun a5 => cbR (ex G c 7 0 [(0, vR (some a5)), (1, vI i1)] [] M2) (fun r_6 M4 => rR r_6 M4)))) := ex_eq prg_6 rfl
/-- java/util/ArrayList.elementData(I)Ljava/lang/Object; -/
theorem prg_7 : prg 7 = code_7 := rfl
theorem E7_0 (r0 : Option Nat) (i1 : Int32) : ex G c 7 0 [(0, vR r0), (1, vI i1)] [] M = gR M 5 22 r0 (fun r_1 => ldR M 111 r_1 i1 (fun r_2 => rR r_2 M)) := ex_eq prg_7 rfl
/-- java/util/ArrayList.add(Ljava/lang/Object;)Z -/
theorem prg_8 : prg 8 = code_8 := rfl
theorem E8_0 (r0 : Option Nat) (r1 : Option Nat) : ex G c 8 0 [(0, vR r0), (1, vR r1)] [] M = gI M 5 21 r0 (fun v1 => pI M c 5 21 r0 (aAdd v1 1) (fun M2 => gR M2 5 22 r0 (fun r_3 => gI M2 5 23 r0 (fun v4 => vc1 M2 5 r0 (fun a6 => cbV (ex G c 9 0 [(0, vR (some a6)), (1, vR r1), (2, vR r_3), (3, vI v4)] [] M2) (fun M5 => rZ 1 M5)))))) := ex_eq prg_8 rfl
/-- java/util/ArrayList.add(Ljava/lang/Object;[Ljava/lang/Object;I)V -/
theorem prg_9 : prg 9 = code_9 := rfl
theorem E9_0 (r0 : Option Nat) (r1 : Option Nat) (r2 : Option Nat) (i3 : Int32) : ex G c 9 0 [(0, vR r0), (1, vR r1), (2, vR r2), (3, vI i3)] [] M = alen M 111 r2 (fun v1 => if i3 = v1 then vc1 M 5 r0 (fun a3 => cbR (ex G c 10 0 [(0, vR (some a3))] [] M) (fun r_4 M2 => stR M2 c 111 [22, 27, 28, 31, 33, 34, 35, 26, 32, 100, 38, 40] r_4 i3 r1 (fun M5 => pI M5 c 5 23 r0 (aAdd i3 1) (fun M6 => rV M6)))) else stR M c 111 [22, 27, 28, 31, 33, 34, 35, 26, 32, 100, 38, 40] r2 i3 r1 (fun M7 => pI M7 c 5 23 r0 (aAdd i3 1) (fun M8 => rV M8))) := ex_eq prg_9 rfl
/-- java/util/ArrayList.grow()[Ljava/lang/Object; -/
theorem prg_10 : prg 10 = code_10 := rfl
theorem E10_0 (r0 : Option Nat) : ex G c 10 0 [(0, vR r0)] [] M = gI M 5 23 r0 (fun v1 => vc1 M 5 r0 (fun a3 => cbR (ex G c 11 0 [(0, vR (some a3)), (1, vI (aAdd v1 1))] [] M) (fun r_4 M2 => rR r_4 M2))) := ex_eq prg_10 rfl
/-- java/util/ArrayList.grow(I)[Ljava/lang/Object; -/
theorem prg_11 : prg 11 = code_11 := rfl
theorem E11_0 (r0 : Option Nat) (i1 : Int32) : ex G c 11 0 [(0, vR r0), (1, vI i1)] [] M = gR M 5 22 r0 (fun r_1 => alen M 111 r_1 (fun v2 => if v2 ≤ 0 then gR M 5 22 r0 (fun r_3 => if r_3 = (G 1) then cbI (ex G c 74 0 [(0, vI 10), (1, vI i1)] [] M) (fun v5 M4 => mka M4 c 111 v5 (fun a6 M7 => pR M7 c 5 22 r0 (some a6) (fun M8 => rR (some a6) M8))) else ex G c 11 2 [(0, vR r0), (1, vI i1), (2, vI v2)] [] M) else ex G c 11 2 [(0, vR r0), (1, vI i1), (2, vI v2)] [] M)) := ex_eq prg_11 rfl
theorem E11_2 (r0 : Option Nat) (i1 : Int32) (i2 : Int32) : ex G c 11 2 [(0, vR r0), (1, vI i1), (2, vI i2)] [] M = cbI (ex G c 65 0 [(0, vI i2), (1, vI (aSub i1 i2)), (2, vI (aShr i2 1))] [] M) (fun v2 M1 => gR M1 5 22 r0 (fun r_3 => cbR (ex G c 75 0 [(0, vR r_3), (1, vI v2)] [] M1) (fun r_5 M4 => pR M4 c 5 22 r0 r_5 (fun M6 => rR r_5 M6)))) := ex_eq prg_11 rfl
/-- java/util/ArrayList.remove(I)Ljava/lang/Object; -/
theorem prg_12 : prg 12 = code_12 := rfl
theorem E12_0 (r0 : Option Nat) (i1 : Int32) : ex G c 12 0 [(0, vR r0), (1, vI i1)] [] M = gI M 5 23 r0 (fun v1 => cbI (ex G c 84 0 [(0, vI i1), (1, vI v1)] [] M) (fun v3 M2 => gR M2 5 22 r0 (fun r_4 => ldR M2 111 r_4 i1 (fun r_5 => vc1 M2 5 r0 (fun a7 => cbV (ex G c 13 0 [(0, vR (some a7)), (1, vR r_4), (2, vI i1)] [] M2) (fun M6 => rR r_5 M6)))))) := ex_eq prg_12 rfl
/-- java/util/ArrayList.fastRemove([Ljava/lang/Object;I)V -/
theorem prg_13 : prg 13 = code_13 := rfl
theorem E13_0 (r0 : Option Nat) (r1 : Option Nat) (i2 : Int32) : ex G c 13 0 [(0, vR r0), (1, vR r1), (2, vI i2)] [] M = gI M 5 21 r0 (fun v1 => pI M c 5 21 r0 (aAdd v1 1) (fun M2 => gI M2 5 23 r0 (fun v3 => if (aSub v3 1) ≤ i2 then pI M2 c 5 23 r0 (aSub v3 1) (fun M4 => stR M4 c 111 [22, 27, 28, 31, 33, 34, 35, 26, 32, 100, 38, 40] r1 (aSub v3 1) none (fun M5 => rV M5)) else acR M2 c 111 r1 (aAdd i2 1) r1 i2 (aSub (aSub v3 1) i2) (fun M6 => pI M6 c 5 23 r0 (aSub v3 1) (fun M7 => stR M7 c 111 [22, 27, 28, 31, 33, 34, 35, 26, 32, 100, 38, 40] r1 (aSub v3 1) none (fun M8 => rV M8)))))) := ex_eq prg_13 rfl
/-- java/util/ArrayList.remove(Ljava/lang/Object;)Z -/
theorem prg_14 : prg 14 = code_14 := rfl
theorem E14_0 (r0 : Option Nat) (r1 : Option Nat) : ex G c 14 0 [(0, vR r0), (1, vR r1)] [] M = gR M 5 22 r0 (fun r_1 => gI M 5 23 r0 (fun v2 => if r1 = none then ex G c 14 1 [(0, vR r0), (2, vR r_1), (3, vI v2), (4, vI 0)] [] M else ex G c 14 5 [(0, vR r0), (1, vR r1), (2, vR r_1), (3, vI v2), (4, vI 0)] [] M)) := ex_eq prg_14 rfl
theorem E14_1 (r0 : Option Nat) (r2 : Option Nat) (i3 : Int32) (i4 : Int32) : ex G c 14 1 [(0, vR r0), (2, vR r2), (3, vI i3), (4, vI i4)] [] M = if i4 < i3 then ldR M 111 r2 i4 (fun r_1 => if r_1 = none then vc1 M 5 r0 (fun a3 => cbV (ex G c 13 0 [(0, vR (some a3)), (1, vR r2), (2, vI i4)] [] M) (fun M2 => rZ 1 M2)) else ex G c 14 1 [(0, vR r0), (2, vR r2), (3, vI i3), (4, vI (aAdd i4 1))] [] M) else rZ 0 M := ex_eq prg_14 rfl
theorem E14_5 (r0 : Option Nat) (r1 : Option Nat) (r2 : Option Nat) (i3 : Int32) (i4 : Int32) : ex G c 14 5 [(0, vR r0), (1, vR r1), (2, vR r2), (3, vI i3), (4, vI i4)] [] M = if i4 < i3 then ldR M 111 r2 i4 (fun r_1 => vc1 M 31 r1 (fun a3 => cbI (ex G c 116 0 [(0, vR (some a3)), (1, vR r_1)] [] M) (fun v4 M2 => if v4 = 0 then ex G c 14 5 [(0, vR r0), (1, vR r1), (2, vR r2), (3, vI i3), (4, vI (aAdd i4 1))] [] M2 else vc1 M2 5 r0 (fun a6 => cbV (ex G c 13 0 [(0, vR (some a6)), (1, vR r2), (2, vI i4)] [] M2) (fun M5 => rZ 1 M5))))) else rZ 0 M := ex_eq prg_14 rfl
/-- java/util/ArrayList.clear()V -/
theorem prg_15 : prg 15 = code_15 := rfl
theorem E15_0 (r0 : Option Nat) : ex G c 15 0 [(0, vR r0)] [] M = gI M 5 21 r0 (fun v1 => pI M c 5 21 r0 (aAdd v1 1) (fun M2 => gR M2 5 22 r0 (fun r_3 => gI M2 5 23 r0 (fun v4 => pI M2 c 5 23 r0 0 (fun M5 => ex G c 15 1 [(1, vR r_3), (2, vI v4), (3, vI 0)] [] M5))))) := ex_eq prg_15 rfl
theorem E15_1 (r1 : Option Nat) (i2 : Int32) (i3 : Int32) : ex G c 15 1 [(1, vR r1), (2, vI i2), (3, vI i3)] [] M = if i3 < i2 then stR M c 111 [22, 27, 28, 31, 33, 34, 35, 26, 32, 100, 38, 40] r1 i3 none (fun M1 => ex G c 15 1 [(1, vR r1), (2, vI i2), (3, vI (aAdd i3 1))] [] M1) else rV M := ex_eq prg_15 rfl
/-- java/util/ArrayList.add(ILjava/lang/Object;)V -/
theorem prg_16 : prg 16 = code_16 := rfl
theorem E16_0 (r0 : Option Nat) (i1 : Int32) (r2 : Option Nat) : ex G c 16 0 [(0, vR r0), (1, vI i1), (2, vR r2)] [] M = vc1 M 5 r0 (fun a2 => cbV (ex G c 17 0 [(0, vR (some a2)), (1, vI i1)] [] M) (fun M1 => gI M1 5 21 r0 (fun v3 => pI M1 c 5 21 r0 (aAdd v3 1) (fun M4 => gI M4 5 23 r0 (fun v5 => gR M4 5 22 r0 (fun r_6 => alen M4 111 r_6 (fun v7 => if v5 = v7 then vc1 M4 5 r0 (fun a9 => cbR (ex G c 10 0 [(0, vR (some a9))] [] M4) (fun r_10 M8 => ex G c 16 2 [(0, vR r0), (1, vI i1), (2, vR r2), (3, vI v5), (4, vR r_10)] [] M8)) else ex G c 16 2 [(0, vR r0), (1, vI i1), (2, vR r2), (3, vI v5), (4, vR r_6)] [] M4))))))) := ex_eq prg_16 rfl
theorem E16_2 (r0 : Option Nat) (i1 : Int32) (r2 : Option Nat) (i3 : Int32) (r4 : Option Nat) : ex G c 16 2 [(0, vR r0), (1, vI i1), (2, vR r2), (3, vI i3), (4, vR r4)] [] M = acR M c 111 r4 i1 r4 (aAdd i1 1) (aSub i3 i1) (fun M1 => stR M1 c 111 [22, 27, 28, 31, 33, 34, 35, 26, 32, 100, 38, 40] r4 i1 r2 (fun M2 => pI M2 c 5 23 r0 (aAdd i3 1) (fun M3 => rV M3))) := ex_eq prg_16 rfl
/-- java/util/ArrayList.rangeCheckForAdd(I)V -/
theorem prg_17 : prg 17 = code_17 := rfl
theorem E17_0 (r0 : Option Nat) (i1 : Int32) : ex G c 17 0 [(0, vR r0), (1, vI i1)] [] M = gI M 5 23 r0 (fun v1 => if i1 ≤ v1 then if i1 < 0 then none else rV M else none) := ex_eq prg_17 rfl
/-- java/util/ArrayList.outOfBoundsMsg(I)Ljava/lang/String; -/
theorem prg_18 : prg 18 = code_18 := rfl
theorem E18_0 (r0 : Option Nat) (i1 : Int32) : ex G c 18 0 [(0, vR r0), (1, vI i1)] [] M = nw M c 36 4 (fun a1 M2 => vc1 M2 36 (some a1) (fun a4 => dbV (ex G c 109 0 [(0, vR (some a4))] [] M2) (fun M3 => vc1 M3 36 (some a1) (fun a6 => cbR (ex G c 110 0 [(0, vR (some a6)), (1, vR (G 2))] [] M3) (fun r_7 M5 => vc1 M5 36 r_7 (fun a9 => cbR (ex G c 111 0 [(0, vR (some a9)), (1, vI i1)] [] M5) (fun r_10 M8 => vc1 M8 36 r_10 (fun a12 => cbR (ex G c 110 0 [(0, vR (some a12)), (1, vR (G 3))] [] M8) (fun r_13 M11 => gI M11 5 23 r0 (fun v14 => vc1 M11 36 r_13 (fun a16 => cbR (ex G c 111 0 [(0, vR (some a16)), (1, vI v14)] [] M11) (fun r_17 M15 => vc1 M15 36 r_17 (fun a19 => cbR (ex G c 112 0 [(0, vR (some a19))] [] M15) (fun r_20 M18 => rR r_20 M18)))))))))))))) := ex_eq prg_18 rfl
/-- java/lang/Throwable.<init>(Ljava/lang/String;)V -/
theorem prg_19 : prg 19 = code_19 := rfl
theorem E19_0 (r0 : Option Nat) (r1 : Option Nat) : ex G c 19 0 [(0, vR r0), (1, vR r1)] [] M = nn r0 (fun _ => none) := ex_eq prg_19 rfl
/-- java/lang/Throwable.<init>()V -/
theorem prg_20 : prg 20 = code_20 := rfl
theorem E20_0 (r0 : Option Nat) : ex G c 20 0 [(0, vR r0)] [] M = nn r0 (fun _ => none) := ex_eq prg_20 rfl
/-- java/lang/Exception.<init>(Ljava/lang/String;)V -/
theorem prg_21 : prg 21 = code_21 := rfl
theorem E21_0 (r0 : Option Nat) (r1 : Option Nat) : ex G c 21 0 [(0, vR r0), (1, vR r1)] [] M = none := ex_eq prg_21 rfl
/-- java/lang/Exception.<init>()V -/
theorem prg_22 : prg 22 = code_22 := rfl
theorem E22_0 (r0 : Option Nat) : ex G c 22 0 [(0, vR r0)] [] M = none := ex_eq prg_22 rfl
/-- java/lang/RuntimeException.<init>(Ljava/lang/String;)V -/
theorem prg_23 : prg 23 = code_23 := rfl
theorem E23_0 (r0 : Option Nat) (r1 : Option Nat) : ex G c 23 0 [(0, vR r0), (1, vR r1)] [] M = none := ex_eq prg_23 rfl
/-- java/lang/RuntimeException.<init>()V -/
theorem prg_24 : prg 24 = code_24 := rfl
theorem E24_0 (r0 : Option Nat) : ex G c 24 0 [(0, vR r0)] [] M = none := ex_eq prg_24 rfl
/-- java/lang/IllegalArgumentException.<init>()V -/
theorem prg_25 : prg 25 = code_25 := rfl
theorem E25_0 (r0 : Option Nat) : ex G c 25 0 [(0, vR r0)] [] M = none := ex_eq prg_25 rfl
/-- java/lang/IllegalArgumentException.<init>(Ljava/lang/String;)V -/
theorem prg_26 : prg 26 = code_26 := rfl
theorem E26_0 (r0 : Option Nat) (r1 : Option Nat) : ex G c 26 0 [(0, vR r0), (1, vR r1)] [] M = none := ex_eq prg_26 rfl
/-- java/lang/IllegalStateException.<init>()V -/
theorem prg_27 : prg 27 = code_27 := rfl
theorem E27_0 (r0 : Option Nat) : ex G c 27 0 [(0, vR r0)] [] M = none := ex_eq prg_27 rfl
/-- java/lang/Enum.equals(Ljava/lang/Object;)Z -/
theorem prg_28 : prg 28 = code_28 := rfl
theorem E28_0 (r0 : Option Nat) (r1 : Option Nat) : ex G c 28 0 [(0, vR r0), (1, vR r1)] [] M = if r0 = r1 then rZ 1 M else rZ 0 M := ex_eq prg_28 rfl
/-- java/lang/String.charAt(I)C -/
theorem prg_29 : prg 29 = code_29 := rfl
theorem E29_0 (r0 : Option Nat) (i1 : Int32) : ex G c 29 0 [(0, vR r0), (1, vI i1)] [] M = vc1 M 14 r0 (fun a2 => cbI (ex G c 30 0 [(0, vR (some a2))] [] M) (fun v3 M1 => if v3 = 0 then gR M1 14 55 r0 (fun r_4 => cbI (ex G c 46 0 [(0, vR r_4), (1, vI i1)] [] M1) (fun v6 M5 => rC v6 M5)) else gR M1 14 55 r0 (fun r_7 => cbI (ex G c 40 0 [(0, vR r_7), (1, vI i1)] [] M1) (fun v9 M8 => rC v9 M8)))) := ex_eq prg_29 rfl
/-- java/lang/String.isLatin1()Z -/
theorem prg_30 : prg 30 = code_30 := rfl
theorem E30_0 (r0 : Option Nat) : ex G c 30 0 [(0, vR r0)] [] M = if 1 = 0 then rZ 0 M else gI M 14 56 r0 (fun v1 => if v1 = 0 then rZ 1 M else rZ 0 M) := ex_eq prg_30 rfl
/-- java/lang/String.checkIndex(II)V -/
theorem prg_31 : prg 31 = code_31 := rfl
theorem E31_0 (i0 : Int32) (i1 : Int32) : ex G c 31 0 [(0, vI i0), (1, vI i1)] [] M = cbI (ex G c 43 0 [(0, vI i0), (1, vI i1), (2, vR (G 4))] [] M) (fun v2 M1 => rV M1) := ex_eq prg_31 rfl
/-- java/lang/String.equals(Ljava/lang/Object;)Z -/
theorem prg_32 : prg 32 = code_32 := rfl
theorem E32_0 (r0 : Option Nat) (r1 : Option Nat) : ex G c 32 0 [(0, vR r0), (1, vR r1)] [] M = if r0 = r1 then rZ 1 M else ino M [14] r1 (if 1 = 0 then rZ 0 M else cst M [14] r1 (if 1 = 0 then gR M 14 55 r0 (fun r_1 => gR M 14 55 r1 (fun r_2 => cbI (ex G c 41 0 [(0, vR r_1), (1, vR r_2)] [] M) (fun v4 M3 => if v4 = 0 then rZ 0 M3 else rZ 1 M3))) else gI M 14 56 r0 (fun v5 => gI M 14 56 r1 (fun v6 => if v5 = v6 then gR M 14 55 r0 (fun r_7 => gR M 14 55 r1 (fun r_8 => cbI (ex G c 41 0 [(0, vR r_7), (1, vR r_8)] [] M) (fun v10 M9 => if v10 = 0 then rZ 0 M9 else rZ 1 M9))) else rZ 0 M)))) := ex_eq prg_32 rfl
/-- java/lang/String.checkBoundsBeginEnd(III)V -/
theorem prg_33 : prg 33 = code_33 := rfl
theorem E33_0 (i0 : Int32) (i1 : Int32) (i2 : Int32) : ex G c 33 0 [(0, vI i0), (1, vI i1), (2, vI i2)] [] M = cbI (ex G c 44 0 [(0, vI i0), (1, vI i1), (2, vI i2), (3, vR (G 4))] [] M) (fun v2 M1 => rV M1) := ex_eq prg_33 rfl
/-- java/lang/String.length()I -/
theorem prg_34 : prg 34 = code_34 := rfl
theorem E34_0 (r0 : Option Nat) : ex G c 34 0 [(0, vR r0)] [] M = gR M 14 55 r0 (fun r_1 => alen M 102 r_1 (fun v2 => vc1 M 14 r0 (fun a4 => cbI (ex G c 35 0 [(0, vR (some a4))] [] M) (fun v5 M3 => rI (aShr v2 v5) M3)))) := ex_eq prg_34 rfl
/-- java/lang/String.coder()B -/
theorem prg_35 : prg 35 = code_35 := rfl
theorem E35_0 (r0 : Option Nat) : ex G c 35 0 [(0, vR r0)] [] M = if 1 = 0 then rB 1 M else gI M 14 56 r0 (fun v1 => rB v1 M) := ex_eq prg_35 rfl
/-- java/lang/String.checkBoundsOffCount(III)I -/
theorem prg_36 : prg 36 = code_36 := rfl
theorem E36_0 (i0 : Int32) (i1 : Int32) (i2 : Int32) : ex G c 36 0 [(0, vI i0), (1, vI i1), (2, vI i2)] [] M = cbI (ex G c 45 0 [(0, vI i0), (1, vI i1), (2, vI i2), (3, vR (G 4))] [] M) (fun v2 M1 => rI v2 M1) := ex_eq prg_36 rfl
/-- java/lang/String.getBytes([BIB)V -/
theorem prg_37 : prg 37 = code_37 := rfl
theorem E37_0 (r0 : Option Nat) (r1 : Option Nat) (i2 : Int32) (i3 : Int32) : ex G c 37 0 [(0, vR r0), (1, vR r1), (2, vI i2), (3, vI i3)] [] M = vc1 M 14 r0 (fun a2 => cbI (ex G c 35 0 [(0, vR (some a2))] [] M) (fun v3 M1 => if v3 = i3 then gR M1 14 55 r0 (fun r_4 => gR M1 14 55 r0 (fun r_5 => alen M1 102 r_5 (fun v6 => acI M1 c 102 r_4 0 r1 (aShl i2 i3) v6 (fun M7 => rV M7)))) else gR M1 14 55 r0 (fun r_8 => gR M1 14 55 r0 (fun r_9 => alen M1 102 r_9 (fun v10 => cbV (ex G c 42 0 [(0, vR r_8), (1, vI 0), (2, vR r1), (3, vI i2), (4, vI v10)] [] M1) (fun M11 => rV M11)))))) := ex_eq prg_37 rfl
/-- java/lang/String.<init>(Ljava/lang/StringBuilder;)V -/
theorem prg_38 : prg 38 = code_38 := rfl
theorem E38_0 (r0 : Option Nat) (r1 : Option Nat) : ex G c 38 0 [(0, vR r0), (1, vR r1)] [] M = vc1 M 14 r0 (fun a2 => dbV (ex G c 39 0 [(0, vR (some a2)), (1, vR r1), (2, vR none)] [] M) (fun M1 => rV M1)) := ex_eq prg_38 rfl
/-- java/lang/String.<init>(Ljava/lang/AbstractStringBuilder;Ljava/lang/Void;)V -/
theorem prg_39 : prg 39 = code_39 := rfl
theorem E39_0 (r0 : Option Nat) (r1 : Option Nat) (r2 : Option Nat) : ex G c 39 0 [(0, vR r0), (1, vR r1), (2, vR r2)] [] M = nn r0 (fun _ => vc1 M 36 r1 (fun a2 => cbR (ex G c 107 0 [(0, vR (some a2))] [] M) (fun r_3 M1 => vc1 M1 36 r1 (fun a5 => cbI (ex G c 113 0 [(0, vR (some a5))] [] M1) (fun v6 M4 => vc1 M4 36 r1 (fun a8 => cbI (ex G c 102 0 [(0, vR (some a8))] [] M4) (fun v9 M7 => if v9 = 0 then if 1 = 0 then ex G c 39 5 [(0, vR r0), (3, vR r_3), (4, vI v6)] [] M7 else gI M7 36 192 r1 (fun v10 => if v10 = 0 then ex G c 39 5 [(0, vR r0), (3, vR r_3), (4, vI v6)] [] M7 else cbR (ex G c 59 0 [(0, vR r_3), (1, vI 0), (2, vI v6)] [] M7) (fun r_12 M11 => pR M11 c 14 55 r0 r_12 (fun M13 => gR M13 14 55 r0 (fun r_14 => cbI (ex G c 61 0 [(0, vR r_14), (1, vI v6)] [] M13) (fun v16 M15 => pB M15 c 14 56 r0 v16 (fun M17 => rV M17)))))) else pB M7 c 14 56 r0 0 (fun M18 => cbR (ex G c 78 0 [(0, vR r_3), (1, vI 0), (2, vI v6)] [] M18) (fun r_20 M19 => pR M19 c 14 55 r0 r_20 (fun M21 => rV M21)))))))))) := ex_eq prg_39 rfl
theorem E39_5 (r0 : Option Nat) (r3 : Option Nat) (i4 : Int32) : ex G c 39 5 [(0, vR r0), (3, vR r3), (4, vI i4)] [] M = pB M c 14 56 r0 1 (fun M1 => cbR (ex G c 78 0 [(0, vR r3), (1, vI 0), (2, vI (aShl i4 1))] [] M1) (fun r_3 M2 => pR M2 c 14 55 r0 r_3 (fun M4 => rV M4))) := ex_eq prg_39 rfl
/-- java/lang/StringLatin1.charAt([BI)C -/
theorem prg_40 : prg 40 = code_40 := rfl
theorem E40_0 (r0 : Option Nat) (i1 : Int32) : ex G c 40 0 [(0, vR r0), (1, vI i1)] [] M = alen M 102 r0 (fun v1 => cbV (ex G c 31 0 [(0, vI i1), (1, vI v1)] [] M) (fun M2 => ldI M2 102 r0 i1 (fun v3 => rC (i2C (aAnd v3 255)) M2))) := ex_eq prg_40 rfl
/-- java/lang/StringLatin1.equals([B[B)Z -/
theorem prg_41 : prg 41 = code_41 := rfl
theorem E41_0 (r0 : Option Nat) (r1 : Option Nat) : ex G c 41 0 [(0, vR r0), (1, vR r1)] [] M = alen M 102 r0 (fun v1 => alen M 102 r1 (fun v2 => if v1 = v2 then ex G c 41 2 [(0, vR r0), (1, vR r1), (2, vI 0)] [] M else rZ 0 M)) := ex_eq prg_41 rfl
theorem E41_2 (r0 : Option Nat) (r1 : Option Nat) (i2 : Int32) : ex G c 41 2 [(0, vR r0), (1, vR r1), (2, vI i2)] [] M = alen M 102 r0 (fun v1 => if i2 < v1 then ldI M 102 r0 i2 (fun v2 => ldI M 102 r1 i2 (fun v3 => if v2 = v3 then ex G c 41 2 [(0, vR r0), (1, vR r1), (2, vI (aAdd i2 1))] [] M else rZ 0 M)) else rZ 1 M) := ex_eq prg_41 rfl
/-- java/lang/StringLatin1.inflate([BI[BII)V -/
theorem prg_42 : prg 42 = code_42 := rfl
theorem E42_0 (r0 : Option Nat) (i1 : Int32) (r2 : Option Nat) (i3 : Int32) (i4 : Int32) : ex G c 42 0 [(0, vR r0), (1, vI i1), (2, vR r2), (3, vI i3), (4, vI i4)] [] M = cbV (ex G c 55 0 [(0, vR r0), (1, vI i1), (2, vR r2), (3, vI i3), (4, vI i4)] [] M) (fun M1 => rV M1) := ex_eq prg_42 rfl
/-- jdk/internal/util/Preconditions.checkIndex(IILjava/util/function/BiFunction;)I -/
theorem prg_43 : prg 43 = code_43 := rfl
theorem E43_0 (i0 : Int32) (i1 : Int32) (r2 : Option Nat) : ex G c 43 0 [(0, vI i0), (1, vI i1), (2, vR r2)] [] M = if i0 < 0 then none else if i0 < i1 then rI i0 M else none := ex_eq prg_43 rfl
/-- jdk/internal/util/Preconditions.checkFromToIndex(IIILjava/util/function/BiFunction;)I -/
theorem prg_44 : prg 44 = code_44 := rfl
theorem E44_0 (i0 : Int32) (i1 : Int32) (i2 : Int32) (r3 : Option Nat) : ex G c 44 0 [(0, vI i0), (1, vI i1), (2, vI i2), (3, vR r3)] [] M = if i0 < 0 then none else if i0 ≤ i1 then if i1 ≤ i2 then rI i0 M else none else none := ex_eq prg_44 rfl
/-- jdk/internal/util/Preconditions.checkFromIndexSize(IIILjava/util/function/BiFunction;)I -/
theorem prg_45 : prg 45 = code_45 := rfl
theorem E45_0 (i0 : Int32) (i1 : Int32) (i2 : Int32) (r3 : Option Nat) : ex G c 45 0 [(0, vI i0), (1, vI i1), (2, vI i2), (3, vR r3)] [] M = if (aOr (aOr i2 i0) i1) < 0 then none else if i1 ≤ (aSub i2 i0) then rI i0 M else none := ex_eq prg_45 rfl
/-- java/lang/StringUTF16.charAt([BI)C -/
theorem prg_46 : prg 46 = code_46 := rfl
theorem E46_0 (r0 : Option Nat) (i1 : Int32) : ex G c 46 0 [(0, vR r0), (1, vI i1)] [] M = cbV (ex G c 47 0 [(0, vI i1), (1, vR r0)] [] M) (fun M1 => cbI (ex G c 49 0 [(0, vR r0), (1, vI i1)] [] M1) (fun v3 M2 => rC v3 M2)) := ex_eq prg_46 rfl
/-- java/lang/StringUTF16.checkIndex(I[B)V -/
theorem prg_47 : prg 47 = code_47 := rfl
theorem E47_0 (i0 : Int32) (r1 : Option Nat) : ex G c 47 0 [(0, vI i0), (1, vR r1)] [] M = cbI (ex G c 48 0 [(0, vR r1)] [] M) (fun v2 M1 => cbV (ex G c 31 0 [(0, vI i0), (1, vI v2)] [] M1) (fun M3 => rV M3)) := ex_eq prg_47 rfl
/-- java/lang/StringUTF16.length([B)I -/
theorem prg_48 : prg 48 = code_48 := rfl
theorem E48_0 (r0 : Option Nat) : ex G c 48 0 [(0, vR r0)] [] M = alen M 102 r0 (fun v1 => rI (aShr v1 1) M) := ex_eq prg_48 rfl
/-- java/lang/StringUTF16.getChar([BI)C -/
theorem prg_49 : prg 49 = code_49 := rfl
theorem E49_0 (r0 : Option Nat) (i1 : Int32) : ex G c 49 0 [(0, vR r0), (1, vI i1)] [] M = if 1 = 0 then if i1 < 0 then none else cbI (ex G c 48 0 [(0, vR r0)] [] M) (fun v2 M1 => if i1 < v2 then ex G c 49 4 [(0, vR r0), (1, vI i1)] [] M1 else none) else ex G c 49 4 [(0, vR r0), (1, vI i1)] [] M := ex_eq prg_49 rfl
theorem E49_4 (r0 : Option Nat) (i1 : Int32) : ex G c 49 4 [(0, vR r0), (1, vI i1)] [] M = nmI (aShl i1 1) (fun v1 => ldI M 102 r0 v1 (fun v2 => ldI M 102 r0 (aAdd v1 1) (fun v3 => rC (i2C (aOr (aShl (aAnd v2 255) 0) (aShl (aAnd v3 255) 8))) M))) := ex_eq prg_49 rfl
/-- java/lang/StringUTF16.newBytesFor(I)[B -/
theorem prg_50 : prg 50 = code_50 := rfl
theorem E50_0 (i0 : Int32) : ex G c 50 0 [(0, vI i0)] [] M = cbI (ex G c 51 0 [(0, vI i0)] [] M) (fun v2 M1 => mka M1 c 102 v2 (fun a3 M4 => rR (some a3) M4)) := ex_eq prg_50 rfl
/-- java/lang/StringUTF16.newBytesLength(I)I -/
theorem prg_51 : prg 51 = code_51 := rfl
theorem E51_0 (i0 : Int32) : ex G c 51 0 [(0, vI i0)] [] M = if i0 < 0 then none else if i0 < 1073741823 then rI (aShl i0 1) M else none := ex_eq prg_51 rfl
/-- java/lang/StringUTF16.putCharsAt([BICCCC)I -/
theorem prg_52 : prg 52 = code_52 := rfl
theorem E52_0 (r0 : Option Nat) (i1 : Int32) (i2 : Int32) (i3 : Int32) (i4 : Int32) (i5 : Int32) : ex G c 52 0 [(0, vR r0), (1, vI i1), (2, vI i2), (3, vI i3), (4, vI i4), (5, vI i5)] [] M = nmI (aAdd i1 4) (fun v1 => cbV (ex G c 53 0 [(0, vI i1), (1, vI v1), (2, vR r0)] [] M) (fun M2 => cbV (ex G c 54 0 [(0, vR r0), (1, vI i1), (2, vI i2)] [] M2) (fun M3 => cbV (ex G c 54 0 [(0, vR r0), (1, vI (aAdd i1 1)), (2, vI i3)] [] M3) (fun M4 => cbV (ex G c 54 0 [(0, vR r0), (1, vI (aAdd (aAdd i1 1) 1)), (2, vI i4)] [] M4) (fun M5 => cbV (ex G c 54 0 [(0, vR r0), (1, vI (aAdd (aAdd (aAdd i1 1) 1) 1)), (2, vI i5)] [] M5) (fun M6 => if 1 = 0 then if (aAdd (aAdd (aAdd (aAdd i1 1) 1) 1) 1) = v1 then rI v1 M6 else none else rI v1 M6)))))) := ex_eq prg_52 rfl
/-- java/lang/StringUTF16.checkBoundsBeginEnd(II[B)V -/
theorem prg_53 : prg 53 = code_53 := rfl
theorem E53_0 (i0 : Int32) (i1 : Int32) (r2 : Option Nat) : ex G c 53 0 [(0, vI i0), (1, vI i1), (2, vR r2)] [] M = cbI (ex G c 48 0 [(0, vR r2)] [] M) (fun v2 M1 => cbV (ex G c 33 0 [(0, vI i0), (1, vI i1), (2, vI v2)] [] M1) (fun M3 => rV M3)) := ex_eq prg_53 rfl
/-- java/lang/StringUTF16.putChar([BII)V -/
theorem prg_54 : prg 54 = code_54 := rfl
theorem E54_0 (r0 : Option Nat) (i1 : Int32) (i2 : Int32) : ex G c 54 0 [(0, vR r0), (1, vI i1), (2, vI i2)] [] M = if 1 = 0 then if i1 < 0 then none else cbI (ex G c 48 0 [(0, vR r0)] [] M) (fun v2 M1 => if i1 < v2 then ex G c 54 4 [(0, vR r0), (1, vI i1), (2, vI i2)] [] M1 else none) else ex G c 54 4 [(0, vR r0), (1, vI i1), (2, vI i2)] [] M := ex_eq prg_54 rfl
theorem E54_4 (r0 : Option Nat) (i1 : Int32) (i2 : Int32) : ex G c 54 4 [(0, vR r0), (1, vI i1), (2, vI i2)] [] M = nmI (aShl i1 1) (fun v1 => stI M c 102 r0 v1 (i2B (i2B (aShr i2 0))) (fun M2 => stI M2 c 102 r0 (aAdd v1 1) (i2B (i2B (aShr i2 8))) (fun M3 => rV M3))) := ex_eq prg_54 rfl
/-- java/lang/StringUTF16.inflate([BI[BII)V -/
theorem prg_55 : prg 55 = code_55 := rfl
theorem E55_0 (r0 : Option Nat) (i1 : Int32) (r2 : Option Nat) (i3 : Int32) (i4 : Int32) : ex G c 55 0 [(0, vR r0), (1, vI i1), (2, vR r2), (3, vI i3), (4, vI i4)] [] M = cbV (ex G c 56 0 [(0, vI i3), (1, vI i4), (2, vR r2)] [] M) (fun M1 => ex G c 55 1 [(0, vR r0), (1, vI i1), (2, vR r2), (3, vI i3), (4, vI i4), (5, vI 0)] [] M1) := ex_eq prg_55 rfl
theorem E55_1 (r0 : Option Nat) (i1 : Int32) (r2 : Option Nat) (i3 : Int32) (i4 : Int32) (i5 : Int32) : ex G c 55 1 [(0, vR r0), (1, vI i1), (2, vR r2), (3, vI i3), (4, vI i4), (5, vI i5)] [] M = if i5 < i4 then ldI M 102 r0 i1 (fun v1 => cbV (ex G c 54 0 [(0, vR r2), (1, vI i3), (2, vI (aAnd v1 255))] [] M) (fun M2 => ex G c 55 1 [(0, vR r0), (1, vI (aAdd i1 1)), (2, vR r2), (3, vI (aAdd i3 1)), (4, vI i4), (5, vI (aAdd i5 1))] [] M2)) else rV M := ex_eq prg_55 rfl
/-- java/lang/StringUTF16.checkBoundsOffCount(II[B)V -/
theorem prg_56 : prg 56 = code_56 := rfl
theorem E56_0 (i0 : Int32) (i1 : Int32) (r2 : Option Nat) : ex G c 56 0 [(0, vI i0), (1, vI i1), (2, vR r2)] [] M = cbI (ex G c 48 0 [(0, vR r2)] [] M) (fun v2 M1 => cbI (ex G c 36 0 [(0, vI i0), (1, vI i1), (2, vI v2)] [] M1) (fun v4 M3 => rV M3)) := ex_eq prg_56 rfl
/-- java/lang/StringUTF16.getChars(III[B)I -/
theorem prg_57 : prg 57 = code_57 := rfl
theorem E57_0 (i0 : Int32) (i1 : Int32) (i2 : Int32) (r3 : Option Nat) : ex G c 57 0 [(0, vI i0), (1, vI i1), (2, vI i2), (3, vR r3)] [] M = cbV (ex G c 53 0 [(0, vI i1), (1, vI i2), (2, vR r3)] [] M) (fun M1 => cbI (ex G c 58 0 [(0, vI i0), (1, vI i2), (2, vR r3)] [] M1) (fun v3 M2 => if 1 = 0 then if i1 = v3 then rI v3 M2 else none else rI v3 M2)) := ex_eq prg_57 rfl
/-- java/lang/StringUTF16.getChars(II[B)I -/
theorem prg_58 : prg 58 = code_58 := rfl
theorem E58_0 (i0 : Int32) (i1 : Int32) (r2 : Option Nat) : ex G c 58 0 [(0, vI i0), (1, vI i1), (2, vR r2)] [] M = if i0 < 0 then if 1 = 0 then nmI (aNeg i0) (fun v1 => ex G c 58 5 [(0, vI v1), (2, vR r2), (5, vI i1), (6, vI 1)] [] M) else ex G c 58 5 [(0, vI i0), (2, vR r2), (5, vI i1), (6, vI 1)] [] M else if 0 = 0 then nmI (aNeg i0) (fun v2 => ex G c 58 5 [(0, vI v2), (2, vR r2), (5, vI i1), (6, vI 0)] [] M) else ex G c 58 5 [(0, vI i0), (2, vR r2), (5, vI i1), (6, vI 0)] [] M := ex_eq prg_58 rfl
theorem E58_5 (i0 : Int32) (r2 : Option Nat) (i5 : Int32) (i6 : Int32) : ex G c 58 5 [(0, vI i0), (2, vR r2), (5, vI i5), (6, vI i6)] [] M = if i0 ≤ (-100) then dvI 100 (aDiv i0 100) (fun v1 => nmI (aSub (aMul v1 100) i0) (fun v2 => ldI M 102 (G 5) v2 (fun v3 => cbV (ex G c 54 0 [(0, vR r2), (1, vI (aAdd i5 (-1))), (2, vI v3)] [] M) (fun M4 => ldI M4 102 (G 6) v2 (fun v5 => cbV (ex G c 54 0 [(0, vR r2), (1, vI (aAdd (aAdd i5 (-1)) (-1))), (2, vI v5)] [] M4) (fun M6 => ex G c 58 5 [(0, vI v1), (2, vR r2), (5, vI (aAdd (aAdd i5 (-1)) (-1))), (6, vI i6)] [] M6)))))) else ldI M 102 (G 5) (aNeg i0) (fun v7 => cbV (ex G c 54 0 [(0, vR r2), (1, vI (aAdd i5 (-1))), (2, vI v7)] [] M) (fun M8 => if i0 < (-9) then ldI M8 102 (G 6) (aNeg i0) (fun v9 => cbV (ex G c 54 0 [(0, vR r2), (1, vI (aAdd (aAdd i5 (-1)) (-1))), (2, vI v9)] [] M8) (fun M10 => ex G c 58 9 [(2, vR r2), (5, vI (aAdd (aAdd i5 (-1)) (-1))), (6, vI i6)] [] M10)) else ex G c 58 9 [(2, vR r2), (5, vI (aAdd i5 (-1))), (6, vI i6)] [] M8)) := ex_eq prg_58 rfl
theorem E58_9 (r2 : Option Nat) (i5 : Int32) (i6 : Int32) : ex G c 58 9 [(2, vR r2), (5, vI i5), (6, vI i6)] [] M = if i6 = 0 then rI i5 M else cbV (ex G c 54 0 [(0, vR r2), (1, vI (aAdd i5 (-1))), (2, vI 45)] [] M) (fun M1 => rI (aAdd i5 (-1)) M1) := ex_eq prg_58 rfl
/-- java/lang/StringUTF16.compress([BII)[B -/
theorem prg_59 : prg 59 = code_59 := rfl
theorem E59_0 (r0 : Option Nat) (i1 : Int32) (i2 : Int32) : ex G c 59 0 [(0, vR r0), (1, vI i1), (2, vI i2)] [] M = mka M c 102 i2 (fun a1 M2 => cbI (ex G c 60 0 [(0, vR r0), (1, vI i1), (2, vR (some a1)), (3, vI 0), (4, vI i2)] [] M2) (fun v4 M3 => if v4 = i2 then rR (some a1) M3 else cbI (ex G c 51 0 [(0, vI (aAdd i1 i2))] [] M3) (fun v6 M5 => cbR (ex G c 78 0 [(0, vR r0), (1, vI (aShl i1 1)), (2, vI v6)] [] M5) (fun r_8 M7 => cbI (ex G c 49 0 [(0, vR r_8), (1, vI v4)] [] M7) (fun v10 M9 => if v10 ≤ 255 then cbI (ex G c 60 0 [(0, vR r_8), (1, vI 0), (2, vR (some a1)), (3, vI 0), (4, vI i2)] [] M9) (fun v12 M11 => if v12 = i2 then rR (some a1) M11 else rR r_8 M11) else rR r_8 M9))))) := ex_eq prg_59 rfl
/-- java/lang/StringUTF16.compress([BI[BII)I -/
theorem prg_60 : prg 60 = code_60 := rfl
theorem E60_0 (r0 : Option Nat) (i1 : Int32) (r2 : Option Nat) (i3 : Int32) (i4 : Int32) : ex G c 60 0 [(0, vR r0), (1, vI i1), (2, vR r2), (3, vI i3), (4, vI i4)] [] M = cbV (ex G c 56 0 [(0, vI i1), (1, vI i4), (2, vR r0)] [] M) (fun M1 => ex G c 60 1 [(0, vR r0), (1, vI i1), (2, vR r2), (3, vI i3), (4, vI i4), (5, vI 0)] [] M1) := ex_eq prg_60 rfl
theorem E60_1 (r0 : Option Nat) (i1 : Int32) (r2 : Option Nat) (i3 : Int32) (i4 : Int32) (i5 : Int32) : ex G c 60 1 [(0, vR r0), (1, vI i1), (2, vR r2), (3, vI i3), (4, vI i4), (5, vI i5)] [] M = if i5 < i4 then cbI (ex G c 49 0 [(0, vR r0), (1, vI i1)] [] M) (fun v2 M1 => if v2 ≤ 255 then stI M1 c 102 r2 i3 (i2B (i2B v2)) (fun M3 => ex G c 60 1 [(0, vR r0), (1, vI (aAdd i1 1)), (2, vR r2), (3, vI (aAdd i3 1)), (4, vI i4), (5, vI (aAdd i5 1))] [] M3) else rI i5 M1) else rI i4 M := ex_eq prg_60 rfl
/-- java/lang/StringUTF16.coderFromArrayLen([BI)B -/
theorem prg_61 : prg 61 = code_61 := rfl
theorem E61_0 (r0 : Option Nat) (i1 : Int32) : ex G c 61 0 [(0, vR r0), (1, vI i1)] [] M = alen M 102 r0 (fun v1 => rB (i2B (aUsh (aSub i1 v1) 31)) M) := ex_eq prg_61 rfl
/-- java/lang/Integer.bitCount(I)I -/
theorem prg_62 : prg 62 = code_62 := rfl
theorem E62_0 (i0 : Int32) : ex G c 62 0 [(0, vI i0)] [] M = nmI (aSub i0 (aAnd (aUsh i0 1) 1431655765)) (fun v1 => nmI (aAdd (aAnd v1 858993459) (aAnd (aUsh v1 2) 858993459)) (fun v2 => nmI (aAnd (aAdd v2 (aUsh v2 4)) 252645135) (fun v3 => nmI (aAdd v3 (aUsh v3 8)) (fun v4 => nmI (aAdd v4 (aUsh v4 16)) (fun v5 => rI (aAnd v5 63) M))))) := ex_eq prg_62 rfl
/-- java/lang/Integer.stringSize(I)I -/
theorem prg_63 : prg 63 = code_63 := rfl
theorem E63_0 (i0 : Int32) : ex G c 63 0 [(0, vI i0)] [] M = if i0 < 0 then ex G c 63 3 [(0, vI i0), (1, vI 1), (2, vI (-10)), (3, vI 1)] [] M else nmI (aNeg i0) (fun v1 => ex G c 63 3 [(0, vI v1), (1, vI 0), (2, vI (-10)), (3, vI 1)] [] M) := ex_eq prg_63 rfl
theorem E63_3 (i0 : Int32) (i1 : Int32) (i2 : Int32) (i3 : Int32) : ex G c 63 3 [(0, vI i0), (1, vI i1), (2, vI i2), (3, vI i3)] [] M = if i3 < 10 then if i0 ≤ i2 then nmI (aMul 10 i2) (fun v1 => ex G c 63 3 [(0, vI i0), (1, vI i1), (2, vI v1), (3, vI (aAdd i3 1))] [] M) else rI (aAdd i3 i1) M else rI (aAdd 10 i1) M := ex_eq prg_63 rfl
/-- java/lang/Integer.getChars(II[B)I -/
theorem prg_64 : prg 64 = code_64 := rfl
theorem E64_0 (i0 : Int32) (i1 : Int32) (r2 : Option Nat) : ex G c 64 0 [(0, vI i0), (1, vI i1), (2, vR r2)] [] M = if i0 < 0 then if 1 = 0 then nmI (aNeg i0) (fun v1 => ex G c 64 5 [(0, vI v1), (2, vR r2), (5, vI i1), (6, vI 1)] [] M) else ex G c 64 5 [(0, vI i0), (2, vR r2), (5, vI i1), (6, vI 1)] [] M else if 0 = 0 then nmI (aNeg i0) (fun v2 => ex G c 64 5 [(0, vI v2), (2, vR r2), (5, vI i1), (6, vI 0)] [] M) else ex G c 64 5 [(0, vI i0), (2, vR r2), (5, vI i1), (6, vI 0)] [] M := ex_eq prg_64 rfl
theorem E64_5 (i0 : Int32) (r2 : Option Nat) (i5 : Int32) (i6 : Int32) : ex G c 64 5 [(0, vI i0), (2, vR r2), (5, vI i5), (6, vI i6)] [] M = if i0 ≤ (-100) then dvI 100 (aDiv i0 100) (fun v1 => nmI (aSub (aMul v1 100) i0) (fun v2 => ldI M 102 (G 5) v2 (fun v3 => stI M c 102 r2 (aAdd i5 (-1)) (i2B v3) (fun M4 => ldI M4 102 (G 6) v2 (fun v5 => stI M4 c 102 r2 (aAdd (aAdd i5 (-1)) (-1)) (i2B v5) (fun M6 => ex G c 64 5 [(0, vI v1), (2, vR r2), (5, vI (aAdd (aAdd i5 (-1)) (-1))), (6, vI i6)] [] M6)))))) else ldI M 102 (G 5) (aNeg i0) (fun v7 => stI M c 102 r2 (aAdd i5 (-1)) (i2B v7) (fun M8 => if i0 < (-9) then ldI M8 102 (G 6) (aNeg i0) (fun v9 => stI M8 c 102 r2 (aAdd (aAdd i5 (-1)) (-1)) (i2B v9) (fun M10 => ex G c 64 9 [(2, vR r2), (5, vI (aAdd (aAdd i5 (-1)) (-1))), (6, vI i6)] [] M10)) else ex G c 64 9 [(2, vR r2), (5, vI (aAdd i5 (-1))), (6, vI i6)] [] M8)) := ex_eq prg_64 rfl
theorem E64_9 (r2 : Option Nat) (i5 : Int32) (i6 : Int32) : ex G c 64 9 [(2, vR r2), (5, vI i5), (6, vI i6)] [] M = if i6 = 0 then rI i5 M else stI M c 102 r2 (aAdd i5 (-1)) (i2B 45) (fun M1 => rI (aAdd i5 (-1)) M1) := ex_eq prg_64 rfl
/-- jdk/internal/util/ArraysSupport.newLength(III)I -/
theorem prg_65 : prg 65 = code_65 := rfl
theorem E65_0 (i0 : Int32) (i1 : Int32) (i2 : Int32) : ex G c 65 0 [(0, vI i0), (1, vI i1), (2, vI i2)] [] M = cbI (ex G c 74 0 [(0, vI i1), (1, vI i2)] [] M) (fun v2 M1 => nmI (aAdd i0 v2) (fun v3 => if 0 < v3 then if v3 ≤ 2147483639 then rI v3 M1 else cbI (ex G c 66 0 [(0, vI i0), (1, vI i1)] [] M1) (fun v5 M4 => rI v5 M4) else cbI (ex G c 66 0 [(0, vI i0), (1, vI i1)] [] M1) (fun v7 M6 => rI v7 M6))) := ex_eq prg_65 rfl
/-- jdk/internal/util/ArraysSupport.hugeLength(II)I -/
theorem prg_66 : prg 66 = code_66 := rfl
theorem E66_0 (i0 : Int32) (i1 : Int32) : ex G c 66 0 [(0, vI i0), (1, vI i1)] [] M = nmI (aAdd i0 i1) (fun v1 => if v1 < 0 then none else if v1 ≤ 2147483639 then rI 2147483639 M else rI v1 M) := ex_eq prg_66 rfl
/-- java/lang/Math.min(II)I -/
theorem prg_67 : prg 67 = code_67 := rfl
theorem E67_0 (i0 : Int32) (i1 : Int32) : ex G c 67 0 [(0, vI i0), (1, vI i1)] [] M = if i0 ≤ i1 then rI i0 M else rI i1 M := ex_eq prg_67 rfl
/-- java/lang/Math.abs(I)I -/
theorem prg_70 : prg 70 = code_70 := rfl
theorem E70_0 (i0 : Int32) : ex G c 70 0 [(0, vI i0)] [] M = if i0 < 0 then rI (aNeg i0) M else rI i0 M := ex_eq prg_70 rfl
/-- java/lang/Math.ceil(D)D -/
theorem prg_72 : prg 72 = code_72 := rfl
theorem E72_0 (d0 : UInt64) : ex G c 72 0 [(0, vD d0)] [] M = dbD (ex G c 95 0 [(0, vD d0)] [] M) (fun x2 M1 => rD x2 M1) := ex_eq prg_72 rfl
/-- java/lang/Math.getExponent(D)I -/
theorem prg_73 : prg 73 = code_73 := rfl
theorem E73_0 (d0 : UInt64) : ex G c 73 0 [(0, vD d0)] [] M = fD d0 (fun x1 => rI (j2I (jSub (jShr (jAnd (d2J x1) (kJ 9218868437227405312)) 52) (kJ 1023))) M) := ex_eq prg_73 rfl
/-- java/lang/Math.max(II)I -/
theorem prg_74 : prg 74 = code_74 := rfl
theorem E74_0 (i0 : Int32) (i1 : Int32) : ex G c 74 0 [(0, vI i0), (1, vI i1)] [] M = if i0 < i1 then rI i1 M else rI i0 M := ex_eq prg_74 rfl
/-- java/util/Arrays.copyOf([Ljava/lang/Object;I)[Ljava/lang/Object; -/
theorem prg_75 : prg 75 = code_75 := rfl
theorem E75_0 (r0 : Option Nat) (i1 : Int32) : ex G c 75 0 [(0, vR r0), (1, vI i1)] [] M = vc2 M c 111 r0 (fun _ => cbR (ex G c 76 0 [(0, vR r0), (1, vI i1), (2, vR (G 7))] [] M) (fun r_2 M1 => rR r_2 M1)) := ex_eq prg_75 rfl
/-- java/util/Arrays.copyOf([Ljava/lang/Object;ILjava/lang/Class;)[Ljava/lang/Object; -/
theorem prg_76 : prg 76 = code_76 := rfl
theorem E76_0 (r0 : Option Nat) (i1 : Int32) (r2 : Option Nat) : ex G c 76 0 [(0, vR r0), (1, vI i1), (2, vR r2)] [] M = if r2 = (G 7) then mka M c 111 i1 (fun a1 M2 => alen M2 111 r0 (fun v3 => cbI (ex G c 67 0 [(0, vI v3), (1, vI i1)] [] M2) (fun v5 M4 => acR M4 c 111 r0 0 (some a1) 0 v5 (fun M6 => rR (some a1) M6)))) else none := ex_eq prg_76 rfl
/-- java/util/Arrays.copyOf([BI)[B -/
theorem prg_77 : prg 77 = code_77 := rfl
theorem E77_0 (r0 : Option Nat) (i1 : Int32) : ex G c 77 0 [(0, vR r0), (1, vI i1)] [] M = alen M 102 r0 (fun v1 => if i1 = v1 then cln M c 102 r0 (fun a2 M3 => cst M3 [102] (some a2) (rR (some a2) M3)) else mka M c 102 i1 (fun a4 M5 => alen M5 102 r0 (fun v6 => cbI (ex G c 67 0 [(0, vI v6), (1, vI i1)] [] M5) (fun v8 M7 => acI M7 c 102 r0 0 (some a4) 0 v8 (fun M9 => rR (some a4) M9))))) := ex_eq prg_77 rfl
/-- java/util/Arrays.copyOfRange([BII)[B -/
theorem prg_78 : prg 78 = code_78 := rfl
theorem E78_0 (r0 : Option Nat) (i1 : Int32) (i2 : Int32) : ex G c 78 0 [(0, vR r0), (1, vI i1), (2, vI i2)] [] M = if i1 = 0 then alen M 102 r0 (fun v1 => if i2 = v1 then cln M c 102 r0 (fun a2 M3 => cst M3 [102] (some a2) (rR (some a2) M3)) else cbR (ex G c 79 0 [(0, vR r0), (1, vI i1), (2, vI i2)] [] M) (fun r_5 M4 => rR r_5 M4)) else cbR (ex G c 79 0 [(0, vR r0), (1, vI i1), (2, vI i2)] [] M) (fun r_7 M6 => rR r_7 M6) := ex_eq prg_78 rfl
/-- java/util/Arrays.copyOfRangeByte([BII)[B -/
theorem prg_79 : prg 79 = code_79 := rfl
theorem E79_0 (r0 : Option Nat) (i1 : Int32) (i2 : Int32) : ex G c 79 0 [(0, vR r0), (1, vI i1), (2, vI i2)] [] M = cbV (ex G c 80 0 [(0, vI i1), (1, vI i2)] [] M) (fun M1 => nmI (aSub i2 i1) (fun v2 => mka M1 c 102 v2 (fun a3 M4 => alen M4 102 r0 (fun v5 => cbI (ex G c 67 0 [(0, vI (aSub v5 i1)), (1, vI v2)] [] M4) (fun v7 M6 => acI M6 c 102 r0 i1 (some a3) 0 v7 (fun M8 => rR (some a3) M8)))))) := ex_eq prg_79 rfl
/-- java/util/Arrays.checkLength(II)V -/
theorem prg_80 : prg 80 = code_80 := rfl
theorem E80_0 (i0 : Int32) (i1 : Int32) : ex G c 80 0 [(0, vI i0), (1, vI i1)] [] M = if i1 < i0 then none else rV M := ex_eq prg_80 rfl
/-- java/lang/IndexOutOfBoundsException.<init>(Ljava/lang/String;)V -/
theorem prg_81 : prg 81 = code_81 := rfl
theorem E81_0 (r0 : Option Nat) (r1 : Option Nat) : ex G c 81 0 [(0, vR r0), (1, vR r1)] [] M = none := ex_eq prg_81 rfl
/-- java/lang/IndexOutOfBoundsException.<init>()V -/
theorem prg_82 : prg 82 = code_82 := rfl
theorem E82_0 (r0 : Option Nat) : ex G c 82 0 [(0, vR r0)] [] M = none := ex_eq prg_82 rfl
/-- java/lang/ArrayIndexOutOfBoundsException.<init>(Ljava/lang/String;)V -/
theorem prg_83 : prg 83 = code_83 := rfl
theorem E83_0 (r0 : Option Nat) (r1 : Option Nat) : ex G c 83 0 [(0, vR r0), (1, vR r1)] [] M = none := ex_eq prg_83 rfl
/-- java/util/Objects.checkIndex(II)I -/
theorem prg_84 : prg 84 = code_84 := rfl
theorem E84_0 (i0 : Int32) (i1 : Int32) : ex G c 84 0 [(0, vI i0), (1, vI i1)] [] M = cbI (ex G c 43 0 [(0, vI i0), (1, vI i1), (2, vR none)] [] M) (fun v2 M1 => rI v2 M1) := ex_eq prg_84 rfl
/-- java/util/Objects.requireNonNull(Ljava/lang/Object;)Ljava/lang/Object; -/
theorem prg_85 : prg 85 = code_85 := rfl
theorem E85_0 (r0 : Option Nat) : ex G c 85 0 [(0, vR r0)] [] M = if r0 = none then none else rR r0 M := ex_eq prg_85 rfl
/-- java/util/ArrayList$Itr.<init>(Ljava/util/ArrayList;)V -/
theorem prg_86 : prg 86 = code_86 := rfl
theorem E86_0 (r0 : Option Nat) (r1 : Option Nat) : ex G c 86 0 [(0, vR r0), (1, vR r1)] [] M = pR M c 11 46 r0 r1 (fun M1 => nn r0 (fun _ => pI M1 c 11 44 r0 (-1) (fun M2 => gR M2 11 46 r0 (fun r_3 => gI M2 5 21 r_3 (fun v4 => pI M2 c 11 45 r0 v4 (fun M5 => rV M5)))))) := ex_eq prg_86 rfl
/-- java/util/ArrayList$Itr.hasNext()Z -/
theorem prg_87 : prg 87 = code_87 := rfl
theorem E87_0 (r0 : Option Nat) : ex G c 87 0 [(0, vR r0)] [] M = gI M 11 43 r0 (fun v1 => gR M 11 46 r0 (fun r_2 => gI M 5 23 r_2 (fun v3 => if v1 = v3 then rZ 0 M else rZ 1 M))) := ex_eq prg_87 rfl
/-- java/util/ArrayList$Itr.next()Ljava/lang/Object; -/
theorem prg_88 : prg 88 = code_88 := rfl
theorem E88_0 (r0 : Option Nat) : ex G c 88 0 [(0, vR r0)] [] M = vc1 M 11 r0 (fun a2 => cbV (ex G c 89 0 [(0, vR (some a2))] [] M) (fun M1 => gI M1 11 43 r0 (fun v3 => gR M1 11 46 r0 (fun r_4 => gI M1 5 23 r_4 (fun v5 => if v3 < v5 then gR M1 11 46 r0 (fun r_6 => gR M1 5 22 r_6 (fun r_7 => alen M1 111 r_7 (fun v8 => if v3 < v8 then pI M1 c 11 43 r0 (aAdd v3 1) (fun M9 => pI M9 c 11 44 r0 v3 (fun M10 => ldR M10 111 r_7 v3 (fun r_11 => rR r_11 M10))) else none))) else none))))) := ex_eq prg_88 rfl
/-- java/util/ArrayList$Itr.checkForComodification()V -/
theorem prg_89 : prg 89 = code_89 := rfl
theorem E89_0 (r0 : Option Nat) : ex G c 89 0 [(0, vR r0)] [] M = gR M 11 46 r0 (fun r_1 => gI M 5 21 r_1 (fun v2 => gI M 11 45 r0 (fun v3 => if v2 = v3 then rV M else none))) := ex_eq prg_89 rfl
/-- java/util/Optional.empty()Ljava/util/Optional; -/
theorem prg_90 : prg 90 = code_90 := rfl
theorem E90_0  : ex G c 90 0 [] [] M = rR (G 8) M := ex_eq prg_90 rfl
/-- java/util/Optional.isPresent()Z -/
theorem prg_91 : prg 91 = code_91 := rfl
theorem E91_0 (r0 : Option Nat) : ex G c 91 0 [(0, vR r0)] [] M = gR M 29 152 r0 (fun r_1 => if r_1 = none then rZ 0 M else rZ 1 M) := ex_eq prg_91 rfl
/-- java/util/Optional.get()Ljava/lang/Object; -/
theorem prg_92 : prg 92 = code_92 := rfl
theorem E92_0 (r0 : Option Nat) : ex G c 92 0 [(0, vR r0)] [] M = gR M 29 152 r0 (fun r_1 => if r_1 = none then none else gR M 29 152 r0 (fun r_2 => rR r_2 M)) := ex_eq prg_92 rfl
/-- java/util/Optional.of(Ljava/lang/Object;)Ljava/util/Optional; -/
theorem prg_93 : prg 93 = code_93 := rfl
theorem E93_0 (r0 : Option Nat) : ex G c 93 0 [(0, vR r0)] [] M = nw M c 29 1 (fun a1 M2 => cbR (ex G c 85 0 [(0, vR r0)] [] M2) (fun r_4 M3 => vc1 M3 29 (some a1) (fun a6 => dbV (ex G c 94 0 [(0, vR (some a6)), (1, vR r_4)] [] M3) (fun M5 => rR (some a1) M5)))) := ex_eq prg_93 rfl
/-- java/util/Optional.<init>(Ljava/lang/Object;)V -/
theorem prg_94 : prg 94 = code_94 := rfl
theorem E94_0 (r0 : Option Nat) (r1 : Option Nat) : ex G c 94 0 [(0, vR r0), (1, vR r1)] [] M = nn r0 (fun _ => pR M c 29 152 r0 r1 (fun M1 => rV M1)) := ex_eq prg_94 rfl
/-- java/lang/StrictMath.ceil(D)D -/
theorem prg_95 : prg 95 = code_95 := rfl
theorem E95_0 (d0 : UInt64) : ex G c 95 0 [(0, vD d0)] [] M = cbD (ex G c 96 0 [(0, vD d0), (2, vD (kD 9223372036854775808)), (4, vD FP.dconst1), (6, vD FP.dconst1)] [] M) (fun x2 M1 => rD x2 M1) := ex_eq prg_95 rfl
/-- java/lang/StrictMath.floorOrCeil(DDDD)D -/
theorem prg_96 : prg 96 = code_96 := rfl
theorem E96_0 (d0 : UInt64) (d2 : UInt64) (d4 : UInt64) (d6 : UInt64) : ex G c 96 0 [(0, vD d0), (2, vD d2), (4, vD d4), (6, vD d6)] [] M = cbI (ex G c 73 0 [(0, vD d0)] [] M) (fun v2 M1 => if v2 < 0 then if (dCmL d0 FP.dconst0) = 0 then rD d0 M1 else if (dCmG d0 FP.dconst0) < 0 then rD d2 M1 else rD d4 M1 else if v2 < 52 then if 1 = 0 then if v2 < 0 then none else if v2 ≤ 51 then ex G c 96 13 [(0, vD d0), (6, vD d6), (8, vI v2)] [] M1 else none else ex G c 96 13 [(0, vD d0), (6, vD d6), (8, vI v2)] [] M1 else rD d0 M1) := ex_eq prg_96 rfl
theorem E96_13 (d0 : UInt64) (d6 : UInt64) (i8 : Int32) : ex G c 96 13 [(0, vD d0), (6, vD d6), (8, vI i8)] [] M = fD d0 (fun x1 => if (jCmp (jAnd (jShr (kJ 4503599627370495) i8) (d2J x1)) 0) = 0 then rD d0 M else fD (j2D (jAnd (d2J x1) (jXor (jShr (kJ 4503599627370495) i8) (kJ 18446744073709551615)))) (fun x2 => fD (dMul d6 d0) (fun x3 => if (dCmL x3 FP.dconst0) ≤ 0 then rD x2 M else fD (dAdd x2 d6) (fun x4 => rD x4 M)))) := ex_eq prg_96 rfl
/-- java/lang/AbstractStringBuilder.<init>(I)V -/
theorem prg_97 : prg 97 = code_97 := rfl
theorem E97_0 (r0 : Option Nat) (i1 : Int32) : ex G c 97 0 [(0, vR r0), (1, vI i1)] [] M = nn r0 (fun _ => if 1 = 0 then cbR (ex G c 50 0 [(0, vI i1)] [] M) (fun r_2 M1 => pR M1 c 36 190 r0 r_2 (fun M3 => pB M3 c 36 191 r0 1 (fun M4 => rV M4))) else mka M c 102 i1 (fun a5 M6 => pR M6 c 36 190 r0 (some a5) (fun M7 => pB M7 c 36 191 r0 0 (fun M8 => rV M8)))) := ex_eq prg_97 rfl
/-- java/lang/AbstractStringBuilder.append(Ljava/lang/String;)Ljava/lang/AbstractStringBuilder; -/
theorem prg_98 : prg 98 = code_98 := rfl
theorem E98_0 (r0 : Option Nat) (r1 : Option Nat) : ex G c 98 0 [(0, vR r0), (1, vR r1)] [] M = if r1 = none then vc1 M 36 r0 (fun a2 => cbR (ex G c 99 0 [(0, vR (some a2))] [] M) (fun r_3 M1 => rR r_3 M1)) else vc1 M 14 r1 (fun a5 => cbI (ex G c 34 0 [(0, vR (some a5))] [] M) (fun v6 M4 => gI M4 36 193 r0 (fun v7 => vc1 M4 36 r0 (fun a9 => cbV (ex G c 100 0 [(0, vR (some a9)), (1, vI (aAdd v7 v6))] [] M4) (fun M8 => gI M8 36 193 r0 (fun v10 => vc1 M8 36 r0 (fun a12 => cbV (ex G c 103 0 [(0, vR (some a12)), (1, vI v10), (2, vR r1)] [] M8) (fun M11 => gI M11 36 193 r0 (fun v13 => pI M11 c 36 193 r0 (aAdd v13 v6) (fun M14 => rR r0 M14)))))))))) := ex_eq prg_98 rfl
/-- java/lang/AbstractStringBuilder.appendNull()Ljava/lang/AbstractStringBuilder; -/
theorem prg_99 : prg 99 = code_99 := rfl
theorem E99_0 (r0 : Option Nat) : ex G c 99 0 [(0, vR r0)] [] M = gI M 36 193 r0 (fun v1 => vc1 M 36 r0 (fun a3 => cbV (ex G c 100 0 [(0, vR (some a3)), (1, vI (aAdd v1 4))] [] M) (fun M2 => gI M2 36 193 r0 (fun v4 => gR M2 36 190 r0 (fun r_5 => vc1 M2 36 r0 (fun a7 => cbI (ex G c 102 0 [(0, vR (some a7))] [] M2) (fun v8 M6 => if v8 = 0 then cbI (ex G c 52 0 [(0, vR r_5), (1, vI v4), (2, vI 110), (3, vI 117), (4, vI 108), (5, vI 108)] [] M6) (fun v10 M9 => pI M9 c 36 193 r0 v10 (fun M11 => rR r0 M11)) else stI M6 c 102 r_5 v4 (i2B 110) (fun M12 => stI M12 c 102 r_5 (aAdd v4 1) (i2B 117) (fun M13 => stI M13 c 102 r_5 (aAdd (aAdd v4 1) 1) (i2B 108) (fun M14 => stI M14 c 102 r_5 (aAdd (aAdd (aAdd v4 1) 1) 1) (i2B 108) (fun M15 => pI M15 c 36 193 r0 (aAdd (aAdd (aAdd (aAdd v4 1) 1) 1) 1) (fun M16 => rR r0 M16)))))))))))) := ex_eq prg_99 rfl
/-- java/lang/AbstractStringBuilder.ensureCapacityInternal(I)V -/
theorem prg_100 : prg 100 = code_100 := rfl
theorem E100_0 (r0 : Option Nat) (i1 : Int32) : ex G c 100 0 [(0, vR r0), (1, vI i1)] [] M = gR M 36 190 r0 (fun r_1 => alen M 102 r_1 (fun v2 => gI M 36 191 r0 (fun v3 => nmI (aShr v2 v3) (fun v4 => if (aSub i1 v4) ≤ 0 then rV M else gR M 36 190 r0 (fun r_5 => vc1 M 36 r0 (fun a7 => cbI (ex G c 101 0 [(0, vR (some a7)), (1, vI i1)] [] M) (fun v8 M6 => gI M6 36 191 r0 (fun v9 => cbR (ex G c 77 0 [(0, vR r_5), (1, vI (aShl v8 v9))] [] M6) (fun r_11 M10 => pR M10 c 36 190 r0 r_11 (fun M12 => rV M12)))))))))) := ex_eq prg_100 rfl
/-- java/lang/AbstractStringBuilder.newCapacity(I)I -/
theorem prg_101 : prg 101 = code_101 := rfl
theorem E101_0 (r0 : Option Nat) (i1 : Int32) : ex G c 101 0 [(0, vR r0), (1, vI i1)] [] M = gR M 36 190 r0 (fun r_1 => alen M 102 r_1 (fun v2 => gI M 36 191 r0 (fun v3 => nmI (aShl i1 v3) (fun v4 => nmI (aSub v4 v2) (fun v5 => gI M 36 191 r0 (fun v6 => cbI (ex G c 65 0 [(0, vI v2), (1, vI v5), (2, vI (aAdd v2 (aShl 2 v6)))] [] M) (fun v8 M7 => if v8 = 2147483647 then none else gI M7 36 191 r0 (fun v9 => rI (aShr v8 v9) M7)))))))) := ex_eq prg_101 rfl
/-- java/lang/AbstractStringBuilder.isLatin1()Z -/
theorem prg_102 : prg 102 = code_102 := rfl
theorem E102_0 (r0 : Option Nat) : ex G c 102 0 [(0, vR r0)] [] M = if 1 = 0 then rZ 0 M else gI M 36 191 r0 (fun v1 => if v1 = 0 then rZ 1 M else rZ 0 M) := ex_eq prg_102 rfl
/-- java/lang/AbstractStringBuilder.putStringAt(ILjava/lang/String;)V -/
theorem prg_103 : prg 103 = code_103 := rfl
theorem E103_0 (r0 : Option Nat) (i1 : Int32) (r2 : Option Nat) : ex G c 103 0 [(0, vR r0), (1, vI i1), (2, vR r2)] [] M = vc1 M 36 r0 (fun a2 => cbV (ex G c 104 0 [(0, vR (some a2)), (1, vR r2)] [] M) (fun M1 => gR M1 36 190 r0 (fun r_3 => gI M1 36 191 r0 (fun v4 => vc1 M1 14 r2 (fun a6 => cbV (ex G c 37 0 [(0, vR (some a6)), (1, vR r_3), (2, vI i1), (3, vI v4)] [] M1) (fun M5 => rV M5)))))) := ex_eq prg_103 rfl
/-- java/lang/AbstractStringBuilder.inflateIfNeededFor(Ljava/lang/String;)V -/
theorem prg_104 : prg 104 = code_104 := rfl
theorem E104_0 (r0 : Option Nat) (r1 : Option Nat) : ex G c 104 0 [(0, vR r0), (1, vR r1)] [] M = if 1 = 0 then rV M else gI M 36 191 r0 (fun v1 => vc1 M 14 r1 (fun a3 => cbI (ex G c 35 0 [(0, vR (some a3))] [] M) (fun v4 M2 => if v1 = v4 then rV M2 else vc1 M2 36 r0 (fun a6 => cbV (ex G c 105 0 [(0, vR (some a6))] [] M2) (fun M5 => rV M5))))) := ex_eq prg_104 rfl
/-- java/lang/AbstractStringBuilder.inflate()V -/
theorem prg_105 : prg 105 = code_105 := rfl
theorem E105_0 (r0 : Option Nat) : ex G c 105 0 [(0, vR r0)] [] M = vc1 M 36 r0 (fun a2 => cbI (ex G c 102 0 [(0, vR (some a2))] [] M) (fun v3 M1 => if v3 = 0 then rV M1 else gR M1 36 190 r0 (fun r_4 => alen M1 102 r_4 (fun v5 => cbR (ex G c 50 0 [(0, vI v5)] [] M1) (fun r_7 M6 => gR M6 36 190 r0 (fun r_8 => gI M6 36 193 r0 (fun v9 => cbV (ex G c 42 0 [(0, vR r_8), (1, vI 0), (2, vR r_7), (3, vI 0), (4, vI v9)] [] M6) (fun M10 => pR M10 c 36 190 r0 r_7 (fun M11 => pB M11 c 36 191 r0 1 (fun M12 => rV M12)))))))))) := ex_eq prg_105 rfl
/-- java/lang/AbstractStringBuilder.append(I)Ljava/lang/AbstractStringBuilder; -/
theorem prg_106 : prg 106 = code_106 := rfl
theorem E106_0 (r0 : Option Nat) (i1 : Int32) : ex G c 106 0 [(0, vR r0), (1, vI i1)] [] M = gI M 36 193 r0 (fun v1 => cbI (ex G c 63 0 [(0, vI i1)] [] M) (fun v3 M2 => nmI (aAdd v1 v3) (fun v4 => vc1 M2 36 r0 (fun a6 => cbV (ex G c 100 0 [(0, vR (some a6)), (1, vI v4)] [] M2) (fun M5 => vc1 M5 36 r0 (fun a8 => cbI (ex G c 102 0 [(0, vR (some a8))] [] M5) (fun v9 M7 => if v9 = 0 then gR M7 36 190 r0 (fun r_10 => cbI (ex G c 57 0 [(0, vI i1), (1, vI v1), (2, vI v4), (3, vR r_10)] [] M7) (fun v12 M11 => pI M11 c 36 193 r0 v4 (fun M13 => rR r0 M13))) else gR M7 36 190 r0 (fun r_14 => cbI (ex G c 64 0 [(0, vI i1), (1, vI v4), (2, vR r_14)] [] M7) (fun v16 M15 => pI M15 c 36 193 r0 v4 (fun M17 => rR r0 M17)))))))))) := ex_eq prg_106 rfl
/-- java/lang/AbstractStringBuilder.getValue()[B -/
theorem prg_107 : prg 107 = code_107 := rfl
theorem E107_0 (r0 : Option Nat) : ex G c 107 0 [(0, vR r0)] [] M = gR M 36 190 r0 (fun r_1 => rR r_1 M) := ex_eq prg_107 rfl
/-- java/lang/AbstractStringBuilder.length()I -/
theorem prg_108 : prg 108 = code_108 := rfl
theorem E108_0 (r0 : Option Nat) : ex G c 108 0 [(0, vR r0)] [] M = gI M 36 193 r0 (fun v1 => rI v1 M) := ex_eq prg_108 rfl
/-- java/lang/StringBuilder.<init>()V -/
theorem prg_109 : prg 109 = code_109 := rfl
theorem E109_0 (r0 : Option Nat) : ex G c 109 0 [(0, vR r0)] [] M = vc1 M 36 r0 (fun a2 => dbV (ex G c 97 0 [(0, vR (some a2)), (1, vI 16)] [] M) (fun M1 => rV M1)) := ex_eq prg_109 rfl
/-- java/lang/StringBuilder.append(Ljava/lang/String;)Ljava/lang/StringBuilder; -/
theorem prg_110 : prg 110 = code_110 := rfl
theorem E110_0 (r0 : Option Nat) (r1 : Option Nat) : ex G c 110 0 [(0, vR r0), (1, vR r1)] [] M = vc1 M 36 r0 (fun a2 => dbR (ex G c 98 0 [(0, vR (some a2)), (1, vR r1)] [] M) (fun r_3 M1 => rR r0 M1)) := ex_eq prg_110 rfl
/-- java/lang/StringBuilder.append(I)Ljava/lang/StringBuilder; -/
theorem prg_111 : prg 111 = code_111 := rfl
theorem E111_0 (r0 : Option Nat) (i1 : Int32) : ex G c 111 0 [(0, vR r0), (1, vI i1)] [] M = vc1 M 36 r0 (fun a2 => dbR (ex G c 106 0 [(0, vR (some a2)), (1, vI i1)] [] M) (fun r_3 M1 => rR r0 M1)) := ex_eq prg_111 rfl
/-- java/lang/StringBuilder.toString()Ljava/lang/String; -/
theorem prg_112 : prg 112 = code_112 := rfl
theorem E112_0 (r0 : Option Nat) : ex G c 112 0 [(0, vR r0)] [] M = nw M c 14 4 (fun a1 M2 => vc1 M2 14 (some a1) (fun a4 => dbV (ex G c 38 0 [(0, vR (some a4)), (1, vR r0)] [] M2) (fun M3 => rR (some a1) M3))) := ex_eq prg_112 rfl
/-- java/lang/StringBuilder.length()I -/
theorem prg_113 : prg 113 = code_113 := rfl
theorem E113_0 (r0 : Option Nat) : ex G c 113 0 [(0, vR r0)] [] M = vc1 M 36 r0 (fun a2 => dbI (ex G c 108 0 [(0, vR (some a2))] [] M) (fun v3 M1 => rI v3 M1)) := ex_eq prg_113 rfl
/-- java/lang/IllegalMonitorStateException.<init>(Ljava/lang/String;)V -/
theorem prg_114 : prg 114 = code_114 := rfl
theorem E114_0 (r0 : Option Nat) (r1 : Option Nat) : ex G c 114 0 [(0, vR r0), (1, vR r1)] [] M = none := ex_eq prg_114 rfl
/-- java/lang/Object.equals(Ljava/lang/Object;)Z -/
theorem prg_116 : prg 116 = code_116 := rfl
theorem E116_0 (r0 : Option Nat) (r1 : Option Nat) : ex G c 116 0 [(0, vR r0), (1, vR r1)] [] M = if r0 = r1 then rZ 1 M else rZ 0 M := ex_eq prg_116 rfl
end EQ
