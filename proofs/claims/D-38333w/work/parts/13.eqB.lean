/-! the equations of the methods -/
set_option maxRecDepth 100000
section EQ
variable (G : Nat → Option Nat) (c : Nat) (M : Mem)
/-- KeelHouse$Strength.weakest(Z)I -/
theorem prg_564 : prg 564 = code_564 := rfl
theorem E564_0 (r0 : Option Nat) (i1 : Int32) : ex G c 564 0 [(0, vR r0), (1, vI i1)] [] M = vc1 M 19 r0 (fun a2 => cbD (ex G c 565 0 [(0, vR (some a2)), (1, vI 0), (2, vI i1)] [] M) (fun x3 M1 => if (dCmG x3 FP.dconst0) < 0 then rI (-1) M1 else gI M1 19 85 r0 (fun v4 => rI v4 M1))) := ex_eq prg_564 rfl
/-- KeelHouse$Strength.greatestOf(IZ)D -/
theorem prg_565 : prg 565 = code_565 := rfl
theorem E565_0 (r0 : Option Nat) (i1 : Int32) (i2 : Int32) : ex G c 565 0 [(0, vR r0), (1, vI i1), (2, vI i2)] [] M = vc1 M 19 r0 (fun a2 => cbI (ex G c 566 0 [(0, vR (some a2)), (1, vI i2)] [] M) (fun v3 M1 => if v3 = 0 then rD (kD 13830554455654793216) M1 else vc1 M1 19 r0 (fun a5 => cbV (ex G c 569 0 [(0, vR (some a5)), (1, vI i1)] [] M1) (fun M4 => gD M4 19 83 r0 (fun x6 => rD x6 M4))))) := ex_eq prg_565 rfl
/-- KeelHouse$Strength.begin(Z)Z -/
theorem prg_566 : prg 566 = code_566 := rfl
theorem E566_0 (r0 : Option Nat) (i1 : Int32) : ex G c 566 0 [(0, vR r0), (1, vI i1)] [] M = gR M 19 76 r0 (fun r_1 => pZ M c 22 108 r_1 i1 (fun M2 => gR M2 19 76 r0 (fun r_3 => gR M2 22 99 r_3 (fun r_4 => vc1 M2 17 r_4 (fun a6 => cbV (ex G c 547 0 [(0, vR (some a6))] [] M2) (fun M5 => ex G c 566 1 [(0, vR r0), (2, vI 0)] [] M5)))))) := ex_eq prg_566 rfl
theorem E566_1 (r0 : Option Nat) (i2 : Int32) : ex G c 566 1 [(0, vR r0), (2, vI i2)] [] M = if i2 < 6 then gR M 19 82 r0 (fun r_1 => vc1 M 19 r0 (fun a3 => cbD (ex G c 567 0 [(0, vR (some a3)), (1, vI i2)] [] M) (fun x4 M2 => stD M2 c 103 r_1 i2 x4 (fun M5 => ex G c 566 1 [(0, vR r0), (2, vI (aAdd i2 1))] [] M5)))) else vc1 M 19 r0 (fun a7 => cbV (ex G c 568 0 [(0, vR (some a7))] [] M) (fun M6 => gR M6 19 76 r0 (fun r_8 => pZ M6 c 22 108 r_8 0 (fun M9 => gR M9 19 76 r0 (fun r_10 => gR M9 22 99 r_10 (fun r_11 => vc1 M9 17 r_11 (fun a13 => cbI (ex G c 549 0 [(0, vR (some a13))] [] M9) (fun v14 M12 => rZ v14 M12)))))))) := ex_eq prg_566 rfl
/-- KeelHouse$Strength.modulus(I)D -/
theorem prg_567 : prg 567 = code_567 := rfl
theorem E567_0 (r0 : Option Nat) (i1 : Int32) : ex G c 567 0 [(0, vR r0), (1, vI i1)] [] M = gR M 19 76 r0 (fun r_1 => gR M 22 93 r_1 (fun r_2 => gI M 16 64 r_2 (fun v3 => gR M 19 76 r0 (fun r_4 => vc1 M 22 r_4 (fun a6 => cbR (ex G c 487 0 [(0, vR (some a6)), (1, vI i1), (2, vI 0)] [] M) (fun r_7 M5 => vc1 M5 23 r_7 (fun a9 => cbD (ex G c 590 0 [(0, vR (some a9))] [] M5) (fun x10 M8 => gR M8 19 76 r0 (fun r_11 => vc1 M8 22 r_11 (fun a13 => cbR (ex G c 487 0 [(0, vR (some a13)), (1, vI i1), (2, vI 1)] [] M8) (fun r_14 M12 => vc1 M12 23 r_14 (fun a16 => cbD (ex G c 590 0 [(0, vR (some a16))] [] M12) (fun x17 M15 => gR M15 19 76 r0 (fun r_18 => vc1 M15 22 r_18 (fun a20 => cbR (ex G c 487 0 [(0, vR (some a20)), (1, vI i1), (2, vI 2)] [] M15) (fun r_21 M19 => vc1 M19 23 r_21 (fun a23 => cbD (ex G c 590 0 [(0, vR (some a23))] [] M19) (fun x24 M22 => fD (dAdd x10 x17) (fun x25 => fD (dAdd x25 x24) (fun x26 => if (dCmL x26 FP.dconst0) = 0 then rD FP.dconst0 M22 else fD (dMul x17 (i2D v3)) (fun x27 => fD (dDiv x27 (kD 4611686018427387904)) (fun x28 => fD (dMul x24 (i2D v3)) (fun x29 => fD (dAdd x28 x29) (fun x30 => fD (dDiv x30 x26) (fun x31 => fD (dMul x10 x31) (fun x32 => fD (dMul x32 x31) (fun x33 => fD (dSub (i2D v3) x31) (fun x34 => fD (dMul x24 x34) (fun x35 => fD (dSub (i2D v3) x31) (fun x36 => fD (dMul x35 x36) (fun x37 => fD (dAdd x33 x37) (fun x38 => fD (dMul (i2D v3) (i2D v3)) (fun x39 => fD (dDiv x39 (kD 4622945017495814144)) (fun x40 => fD (dDiv (i2D v3) (kD 4611686018427387904)) (fun x41 => fD (dSub x41 x31) (fun x42 => fD (dDiv (i2D v3) (kD 4611686018427387904)) (fun x43 => fD (dSub x43 x31) (fun x44 => fD (dMul x42 x44) (fun x45 => fD (dAdd x40 x45) (fun x46 => fD (dMul x17 x46) (fun x47 => fD (dAdd x38 x47) (fun x48 => fD (dSub (i2D v3) x31) (fun x49 => fD x31 (fun x50 => fD x49 (fun x51 => fD (dDiv x48 (dMax x50 x51)) (fun x52 => fD (dDiv x52 (kD 4636737291354636288)) (fun x53 => rD x53 M22))))))))))))))))))))))))))))))))))))))))))))))) := ex_eq prg_567 rfl
/-- KeelHouse$Strength.carry()V -/
theorem prg_568 : prg 568 = code_568 := rfl
theorem E568_0 (r0 : Option Nat) : ex G c 568 0 [(0, vR r0)] [] M = ex G c 568 1 [(0, vR r0), (1, vI 0)] [] M := ex_eq prg_568 rfl
theorem E568_1 (r0 : Option Nat) (i1 : Int32) : ex G c 568 1 [(0, vR r0), (1, vI i1)] [] M = if i1 < 6 then gR M 19 77 r0 (fun r_1 => stD M c 103 r_1 i1 FP.dconst0 (fun M2 => ex G c 568 1 [(0, vR r0), (1, vI (aAdd i1 1))] [] M2)) else gR M 19 76 r0 (fun r_3 => vc1 M 22 r_3 (fun a5 => cbI (ex G c 485 0 [(0, vR (some a5))] [] M) (fun v6 M4 => ex G c 568 4 [(0, vR r0), (1, vI v6), (2, vI 0)] [] M4))) := ex_eq prg_568 rfl
theorem E568_4 (r0 : Option Nat) (i1 : Int32) (i2 : Int32) : ex G c 568 4 [(0, vR r0), (1, vI i1), (2, vI i2)] [] M = if i2 < i1 then gR M 19 76 r0 (fun r_1 => vc1 M 22 r_1 (fun a3 => cbR (ex G c 486 0 [(0, vR (some a3)), (1, vI i2)] [] M) (fun r_4 M2 => gR M2 19 77 r0 (fun r_5 => nn r_4 (fun a7 => dsp (mcl M2 a7) (fun m8 => dbI (ex G c m8 0 [(0, vR (some a7))] [] M2) (fun v9 M6 => gR M6 19 77 r0 (fun r_10 => nn r_4 (fun a12 => dsp (mcl M6 a12) (fun m13 => dbI (ex G c m13 0 [(0, vR (some a12))] [] M6) (fun v14 M11 => ldD M11 103 r_10 v14 (fun x15 => nn r_4 (fun a17 => dsp (mcl M11 a17) (fun m18 => dbD (ex G c m18 0 [(0, vR (some a17))] [] M11) (fun x19 M16 => fD (dAdd x15 x19) (fun x20 => stD M16 c 103 r_5 v9 x20 (fun M21 => ex G c 568 4 [(0, vR r0), (1, vI i1), (2, vI (aAdd i2 1))] [] M21)))) [15, 598, 20, 521, 23, 585, 24, 605, 26, 724])))) [15, 600, 20, 522, 23, 588, 24, 606, 26, 725])))) [15, 600, 20, 522, 23, 588, 24, 606, 26, 725]))))) else rV M := ex_eq prg_568 rfl
/-- KeelHouse$Strength.look(I)V -/
theorem prg_569 : prg 569 = code_569 := rfl
theorem E569_0 (r0 : Option Nat) (i1 : Int32) : ex G c 569 0 [(0, vR r0), (1, vI i1)] [] M = pD M c 19 83 r0 (kD 13830554455654793216) (fun M1 => ex G c 569 1 [(0, vR r0), (2, vI i1)] [] M1) := ex_eq prg_569 rfl
theorem E569_1 (r0 : Option Nat) (i2 : Int32) : ex G c 569 1 [(0, vR r0), (2, vI i2)] [] M = if i2 < 3 then cbR (ex G c 196 0 [(0, vI i2)] [] M) (fun r_2 M1 => vc1 M1 19 r0 (fun a4 => cbV (ex G c 570 0 [(0, vR (some a4)), (1, vR r_2)] [] M1) (fun M3 => vc1 M3 19 r0 (fun a6 => cbI (ex G c 574 0 [(0, vR (some a6))] [] M3) (fun v7 M5 => gR M5 19 81 r0 (fun r_8 => ldD M5 103 r_8 v7 (fun x9 => gD M5 19 83 r0 (fun x10 => if (dCmL x9 x10) ≤ 0 then gR M5 19 81 r0 (fun r_11 => ldD M5 103 r_11 v7 (fun x12 => gD M5 19 83 r0 (fun x13 => if (dCmL x12 x13) = 0 then gI M5 19 85 r0 (fun v14 => cbI (ex G c 67 0 [(0, vI v14), (1, vI v7)] [] M5) (fun v16 M15 => pI M15 c 19 85 r0 v16 (fun M17 => ex G c 569 1 [(0, vR r0), (2, vI (aAdd i2 1))] [] M17))) else ex G c 569 1 [(0, vR r0), (2, vI (aAdd i2 1))] [] M5))) else gR M5 19 81 r0 (fun r_18 => ldD M5 103 r_18 v7 (fun x19 => pD M5 c 19 83 r0 x19 (fun M20 => pI M20 c 19 84 r0 v7 (fun M21 => pI M21 c 19 85 r0 v7 (fun M22 => ex G c 569 1 [(0, vR r0), (2, vI (aAdd i2 1))] [] M22))))))))))))) else rV M := ex_eq prg_569 rfl
/-- KeelHouse$Strength.meet(LKeelHouse$Sea;)V -/
theorem prg_570 : prg 570 = code_570 := rfl
theorem E570_0 (r0 : Option Nat) (r1 : Option Nat) : ex G c 570 0 [(0, vR r0), (1, vR r1)] [] M = vc1 M 19 r0 (fun a2 => cbV (ex G c 571 0 [(0, vR (some a2)), (1, vR r1)] [] M) (fun M1 => vc1 M1 19 r0 (fun a4 => cbV (ex G c 573 0 [(0, vR (some a4))] [] M1) (fun M3 => rV M3)))) := ex_eq prg_570 rfl
/-- KeelHouse$Strength.bear(LKeelHouse$Sea;)V -/
theorem prg_571 : prg 571 = code_571 := rfl
theorem E571_0 (r0 : Option Nat) (r1 : Option Nat) : ex G c 571 0 [(0, vR r0), (1, vR r1)] [] M = ex G c 571 1 [(0, vR r0), (1, vR r1), (2, vD FP.dconst0), (4, vI 0)] [] M := ex_eq prg_571 rfl
theorem E571_1 (r0 : Option Nat) (r1 : Option Nat) (d2 : UInt64) (i4 : Int32) : ex G c 571 1 [(0, vR r0), (1, vR r1), (2, vD d2), (4, vI i4)] [] M = if i4 < 6 then gR M 19 78 r0 (fun r_1 => gR M 19 76 r0 (fun r_2 => gR M 22 93 r_2 (fun r_3 => vc1 M 19 r0 (fun a5 => cbD (ex G c 572 0 [(0, vR (some a5)), (1, vR r1), (2, vI i4)] [] M) (fun x6 M4 => vc1 M4 19 r0 (fun a8 => cbD (ex G c 572 0 [(0, vR (some a8)), (1, vR r1), (2, vI (aAdd i4 1))] [] M4) (fun x9 M7 => vc1 M7 16 r_3 (fun a11 => cbD (ex G c 514 0 [(0, vR (some a11)), (1, vI i4), (2, vD x6), (4, vD x9)] [] M7) (fun x12 M10 => stD M10 c 103 r_1 i4 x12 (fun M13 => gR M13 19 78 r0 (fun r_14 => ldD M13 103 r_14 i4 (fun x15 => fD (dAdd d2 x15) (fun x16 => ex G c 571 1 [(0, vR r0), (1, vR r1), (2, vD x16), (4, vI (aAdd i4 1))] [] M13))))))))))))) else if (dCmG d2 (kD 4562254508917369340)) < 0 then ex G c 571 7 [(0, vR r0), (4, vD FP.dconst1), (6, vI 0)] [] M else gR M 19 76 r0 (fun r_17 => gR M 22 99 r_17 (fun r_18 => gD M 17 68 r_18 (fun x19 => fD (dDiv x19 d2) (fun x20 => ex G c 571 7 [(0, vR r0), (4, vD x20), (6, vI 0)] [] M)))) := ex_eq prg_571 rfl
theorem E571_7 (r0 : Option Nat) (d4 : UInt64) (i6 : Int32) : ex G c 571 7 [(0, vR r0), (4, vD d4), (6, vI i6)] [] M = if i6 < 6 then gR M 19 78 r0 (fun r_1 => gR M 19 78 r0 (fun r_2 => ldD M 103 r_2 i6 (fun x3 => fD (dMul x3 d4) (fun x4 => stD M c 103 r_1 i6 x4 (fun M5 => ex G c 571 7 [(0, vR r0), (4, vD d4), (6, vI (aAdd i6 1))] [] M5))))) else rV M := ex_eq prg_571 rfl
/-- KeelHouse$Strength.water(LKeelHouse$Sea;I)D -/
theorem prg_572 : prg 572 = code_572 := rfl
theorem E572_0 (r0 : Option Nat) (r1 : Option Nat) (i2 : Int32) : ex G c 572 0 [(0, vR r0), (1, vR r1), (2, vI i2)] [] M = gR M 19 76 r0 (fun r_1 => gR M 22 93 r_1 (fun r_2 => gI M 16 64 r_2 (fun v3 => gR M 19 76 r0 (fun r_4 => gR M 22 99 r_4 (fun r_5 => gD M 17 72 r_5 (fun x6 => gR M 19 76 r0 (fun r_7 => gR M 22 93 r_7 (fun r_8 => gI M 16 64 r_8 (fun v9 => nn r1 (fun a11 => dsg G a11 (fun m12 => dbI (ex G c m12 0 [(0, vR (some a11)), (1, vI i2)] [] M) (fun v13 M10 => fD (dDiv (i2D (aMul v9 v13)) (kD 4629700416936869888)) (fun x14 => fD (dAdd x6 x14) (fun x15 => fD (i2D v3) (fun x16 => fD x15 (fun x17 => fD FP.dconst0 (fun x18 => fD (dMin x16 x17) (fun x19 => rD (dMax x18 x19) M10)))))))) [9, 793, 10, 794, 11, 729])))))))))) := ex_eq prg_572 rfl
/-- KeelHouse$Strength.bend()V -/
theorem prg_573 : prg 573 = code_573 := rfl
theorem E573_0 (r0 : Option Nat) : ex G c 573 0 [(0, vR r0)] [] M = ex G c 573 1 [(0, vR r0), (1, vD FP.dconst0), (3, vD FP.dconst0), (5, vI 0)] [] M := ex_eq prg_573 rfl
theorem E573_1 (r0 : Option Nat) (d1 : UInt64) (d3 : UInt64) (i5 : Int32) : ex G c 573 1 [(0, vR r0), (1, vD d1), (3, vD d3), (5, vI i5)] [] M = if i5 < 6 then gR M 19 77 r0 (fun r_1 => ldD M 103 r_1 i5 (fun x2 => fD (dAdd d1 x2) (fun x3 => gR M 19 78 r0 (fun r_4 => ldD M 103 r_4 i5 (fun x5 => fD (dSub x3 x5) (fun x6 => fD (dAdd d1 x6) (fun x7 => fD (dDiv x7 (kD 4611686018427387904)) (fun x8 => gR M 19 76 r0 (fun r_9 => gR M 22 93 r_9 (fun r_10 => gI M 16 63 r_10 (fun v11 => fD (dMul x8 (i2D v11)) (fun x12 => fD (dDiv x12 (kD 4618441417868443648)) (fun x13 => fD (dAdd d3 x13) (fun x14 => gR M 19 79 r0 (fun r_15 => stD M c 103 r_15 i5 x6 (fun M16 => gR M16 19 80 r0 (fun r_17 => stD M16 c 103 r_17 i5 x14 (fun M18 => gR M18 19 82 r0 (fun r_19 => ldD M18 103 r_19 i5 (fun x20 => gR M18 19 81 r0 (fun r_21 => if (dCmL x20 FP.dconst0) = 0 then stD M18 c 103 r_21 i5 (kD 4666722622711529472) (fun M22 => ex G c 573 1 [(0, vR r0), (1, vD x6), (3, vD x14), (5, vI (aAdd i5 1))] [] M22) else fD d3 (fun x23 => fD x14 (fun x24 => fD (dAbs x23) (fun x25 => fD (dAbs x24) (fun x26 => fD (dDiv (dMax x25 x26) x20) (fun x27 => stD M18 c 103 r_21 i5 x27 (fun M28 => ex G c 573 1 [(0, vR r0), (1, vD x6), (3, vD x14), (5, vI (aAdd i5 1))] [] M28))))))))))))))))))))))))))) else rV M := ex_eq prg_573 rfl
/-- KeelHouse$Strength.worst()I -/
theorem prg_574 : prg 574 = code_574 := rfl
theorem E574_0 (r0 : Option Nat) : ex G c 574 0 [(0, vR r0)] [] M = ex G c 574 1 [(0, vR r0), (1, vI 0), (2, vI 1)] [] M := ex_eq prg_574 rfl
theorem E574_1 (r0 : Option Nat) (i1 : Int32) (i2 : Int32) : ex G c 574 1 [(0, vR r0), (1, vI i1), (2, vI i2)] [] M = if i2 < 6 then gR M 19 81 r0 (fun r_1 => ldD M 103 r_1 i2 (fun x2 => gR M 19 81 r0 (fun r_3 => ldD M 103 r_3 i1 (fun x4 => if (dCmL x2 x4) ≤ 0 then ex G c 574 1 [(0, vR r0), (1, vI i1), (2, vI (aAdd i2 1))] [] M else ex G c 574 1 [(0, vR r0), (1, vI i2), (2, vI (aAdd i2 1))] [] M)))) else rI i1 M := ex_eq prg_574 rfl
/-- KeelHouse$Strength.<init>(LKeelHouse$Ship;)V -/
theorem prg_575 : prg 575 = code_575 := rfl
theorem E575_0 (r0 : Option Nat) (r1 : Option Nat) : ex G c 575 0 [(0, vR r0), (1, vR r1)] [] M = nn r0 (fun _ => mka M c 103 6 (fun a1 M2 => pR M2 c 19 77 r0 (some a1) (fun M3 => mka M3 c 103 6 (fun a4 M5 => pR M5 c 19 78 r0 (some a4) (fun M6 => mka M6 c 103 6 (fun a7 M8 => pR M8 c 19 79 r0 (some a7) (fun M9 => mka M9 c 103 6 (fun a10 M11 => pR M11 c 19 80 r0 (some a10) (fun M12 => mka M12 c 103 6 (fun a13 M14 => pR M14 c 19 81 r0 (some a13) (fun M15 => mka M15 c 103 6 (fun a16 M17 => pR M17 c 19 82 r0 (some a16) (fun M18 => pR M18 c 19 76 r0 r1 (fun M19 => rV M19)))))))))))))) := ex_eq prg_575 rfl
/-- KeelHouse$Strength.lighten()I -/
theorem prg_576 : prg 576 = code_576 := rfl
theorem E576_0 (r0 : Option Nat) : ex G c 576 0 [(0, vR r0)] [] M = vc1 M 19 r0 (fun a2 => cbV (ex G c 577 0 [(0, vR (some a2))] [] M) (fun M1 => ex G c 576 1 [(0, vR r0), (1, vI 0), (2, vI 0)] [] M1)) := ex_eq prg_576 rfl
theorem E576_1 (r0 : Option Nat) (i1 : Int32) (i2 : Int32) : ex G c 576 1 [(0, vR r0), (1, vI i1), (2, vI i2)] [] M = if i2 < 80 then vc1 M 19 r0 (fun a2 => cbD (ex G c 565 0 [(0, vR (some a2)), (1, vI 0), (2, vI 1)] [] M) (fun x3 M1 => if (dCmG x3 FP.dconst0) < 0 then rI (-1) M1 else gR M1 19 76 r0 (fun r_4 => gI M1 22 107 r_4 (fun v5 => if (dCmG x3 (i2D v5)) ≤ 0 then rI i1 M1 else gI M1 19 84 r0 (fun v6 => vc1 M1 19 r0 (fun a8 => cbI (ex G c 578 0 [(0, vR (some a8)), (1, vI v6)] [] M1) (fun v9 M7 => if v9 = 0 then nmI (aAdd i1 0) (fun v10 => ex G c 576 1 [(0, vR r0), (1, vI v10), (2, vI (aAdd i2 1))] [] M7) else nmI (aAdd i1 1) (fun v11 => ex G c 576 1 [(0, vR r0), (1, vI v11), (2, vI (aAdd i2 1))] [] M7)))))))) else vc1 M 19 r0 (fun a13 => cbD (ex G c 565 0 [(0, vR (some a13)), (1, vI 0), (2, vI 1)] [] M) (fun x14 M12 => if (dCmG x14 FP.dconst0) < 0 then rI (-1) M12 else gR M12 19 76 r0 (fun r_15 => gI M12 22 107 r_15 (fun v16 => if (dCmG x14 (i2D v16)) ≤ 0 then rI i1 M12 else rI (-2) M12)))) := ex_eq prg_576 rfl
/-- KeelHouse$Strength.thin()V -/
theorem prg_577 : prg 577 = code_577 := rfl
theorem E577_0 (r0 : Option Nat) : ex G c 577 0 [(0, vR r0)] [] M = ex G c 577 1 [(0, vR r0), (1, vI 0)] [] M := ex_eq prg_577 rfl
theorem E577_1 (r0 : Option Nat) (i1 : Int32) : ex G c 577 1 [(0, vR r0), (1, vI i1)] [] M = if i1 < 6 then ex G c 577 3 [(0, vR r0), (1, vI i1), (2, vI 0)] [] M else rV M := ex_eq prg_577 rfl
theorem E577_3 (r0 : Option Nat) (i1 : Int32) (i2 : Int32) : ex G c 577 3 [(0, vR r0), (1, vI i1), (2, vI i2)] [] M = if i2 < 3 then gR M 19 76 r0 (fun r_1 => vc1 M 22 r_1 (fun a3 => cbR (ex G c 487 0 [(0, vR (some a3)), (1, vI i1), (2, vI i2)] [] M) (fun r_4 M2 => pI M2 c 23 122 r_4 3 (fun M5 => ex G c 577 3 [(0, vR r0), (1, vI i1), (2, vI (aAdd i2 1))] [] M5)))) else ex G c 577 1 [(0, vR r0), (1, vI (aAdd i1 1))] [] M := ex_eq prg_577 rfl
/-- KeelHouse$Strength.thicken(I)Z -/
theorem prg_578 : prg 578 = code_578 := rfl
theorem E578_0 (r0 : Option Nat) (i1 : Int32) : ex G c 578 0 [(0, vR r0), (1, vI i1)] [] M = gR M 19 76 r0 (fun r_1 => vc1 M 22 r_1 (fun a3 => cbR (ex G c 487 0 [(0, vR (some a3)), (1, vI i1), (2, vI 0)] [] M) (fun r_4 M2 => gR M2 19 76 r0 (fun r_5 => vc1 M2 22 r_5 (fun a7 => cbR (ex G c 487 0 [(0, vR (some a7)), (1, vI i1), (2, vI 1)] [] M2) (fun r_8 M6 => gR M6 19 76 r0 (fun r_9 => vc1 M6 22 r_9 (fun a11 => cbR (ex G c 487 0 [(0, vR (some a11)), (1, vI i1), (2, vI 2)] [] M6) (fun r_12 M10 => gI M10 23 122 r_12 (fun v13 => gI M10 23 122 r_4 (fun v14 => if v13 < v14 then gI M10 23 122 r_12 (fun v15 => if v15 < 40 then ex G c 578 6 [(3, vR r_8), (5, vR r_12)] [vI 1] M10 else ex G c 578 6 [(3, vR r_8), (5, vR r_12)] [vI 0] M10) else gI M10 23 122 r_4 (fun v16 => if v16 < 40 then ex G c 578 6 [(3, vR r_8), (5, vR r_4)] [vI 1] M10 else ex G c 578 6 [(3, vR r_8), (5, vR r_4)] [vI 0] M10)))))))))))) := ex_eq prg_578 rfl
theorem E578_6 (r3 : Option Nat) (r5 : Option Nat) (si0 : Int32) : ex G c 578 6 [(3, vR r3), (5, vR r5)] [vI si0] M = if si0 = 0 then ex G c 578 8 [(3, vR r3), (5, vR r5), (6, vI si0)] [] M else gI M 23 122 r5 (fun v1 => pI M c 23 122 r5 (aAdd v1 1) (fun M2 => ex G c 578 8 [(3, vR r3), (5, vR r5), (6, vI si0)] [] M2)) := ex_eq prg_578 rfl
theorem E578_8 (r3 : Option Nat) (r5 : Option Nat) (i6 : Int32) : ex G c 578 8 [(3, vR r3), (5, vR r5), (6, vI i6)] [] M = gI M 23 122 r3 (fun v1 => gI M 23 122 r5 (fun v2 => if v1 ≤ (aSub v2 4) then gI M 23 122 r3 (fun v3 => pI M c 23 122 r3 (aAdd v3 1) (fun M4 => rZ i6 M4)) else rZ i6 M)) := ex_eq prg_578 rfl
/-- KeelHouse$Strength.test(LKeelHouse$Sea;Z)Z -/
theorem prg_579 : prg 579 = code_579 := rfl
theorem E579_0 (r0 : Option Nat) (r1 : Option Nat) (i2 : Int32) : ex G c 579 0 [(0, vR r0), (1, vR r1), (2, vI i2)] [] M = vc1 M 19 r0 (fun a2 => cbI (ex G c 566 0 [(0, vR (some a2)), (1, vI i2)] [] M) (fun v3 M1 => if v3 = 0 then rZ v3 M1 else vc1 M1 19 r0 (fun a5 => cbV (ex G c 570 0 [(0, vR (some a5)), (1, vR r1)] [] M1) (fun M4 => rZ v3 M4)))) := ex_eq prg_579 rfl
/-- KeelHouse$Strength.tell(I)D -/
theorem prg_580 : prg 580 = code_580 := rfl
theorem E580_0 (r0 : Option Nat) (i1 : Int32) : ex G c 580 0 [(0, vR r0), (1, vI i1)] [] M = if i1 < 6 then gR M 19 81 r0 (fun r_1 => ldD M 103 r_1 i1 (fun x2 => rD x2 M)) else if i1 < 12 then gR M 19 79 r0 (fun r_3 => ldD M 103 r_3 (aSub i1 6) (fun x4 => rD x4 M)) else if i1 < 18 then gR M 19 80 r0 (fun r_5 => ldD M 103 r_5 (aSub i1 12) (fun x6 => rD x6 M)) else vc1 M 19 r0 (fun a8 => cbD (ex G c 581 0 [(0, vR (some a8))] [] M) (fun x9 M7 => rD x9 M7)) := ex_eq prg_580 rfl
/-- KeelHouse$Strength.greatest()D -/
theorem prg_581 : prg 581 = code_581 := rfl
theorem E581_0 (r0 : Option Nat) : ex G c 581 0 [(0, vR r0)] [] M = gR M 19 81 r0 (fun r_1 => vc1 M 19 r0 (fun a3 => cbI (ex G c 574 0 [(0, vR (some a3))] [] M) (fun v4 M2 => ldD M2 103 r_1 v4 (fun x5 => rD x5 M2)))) := ex_eq prg_581 rfl
/-- KeelHouse$Stage.number()I -/
theorem prg_582 : prg 582 = code_582 := rfl
theorem E582_0 (r0 : Option Nat) : ex G c 582 0 [(0, vR r0)] [] M = if r0 = (G 15) then rI 0 M else if r0 = (G 16) then rI 1 M else if r0 = (G 19) then rI 2 M else if r0 = (G 24) then rI 3 M else if r0 = (G 18) then rI 4 M else rI 5 M := ex_eq prg_582 rfl
/-- KeelHouse$Stage.isGone()Z -/
theorem prg_583 : prg 583 = code_583 := rfl
theorem E583_0 (r0 : Option Nat) : ex G c 583 0 [(0, vR r0)] [] M = rZ 0 M := ex_eq prg_583 rfl
/-- KeelHouse$Stage.isWet()Z -/
theorem prg_584 : prg 584 = code_584 := rfl
theorem E584_0 (r0 : Option Nat) : ex G c 584 0 [(0, vR r0)] [] M = rZ 0 M := ex_eq prg_584 rfl
/-- KeelHouse$Plates.tonnes()D -/
theorem prg_585 : prg 585 = code_585 := rfl
theorem E585_0 (r0 : Option Nat) : ex G c 585 0 [(0, vR r0)] [] M = vc1 M 23 r0 (fun a2 => cbD (ex G c 586 0 [(0, vR (some a2))] [] M) (fun x3 M1 => gR M1 23 119 r0 (fun r_4 => gR M1 22 93 r_4 (fun r_5 => gI M1 16 63 r_5 (fun v6 => fD (dMul x3 (i2D v6)) (fun x7 => fD (dDiv x7 (kD 4618441417868443648)) (fun x8 => vc1 M1 23 r0 (fun a10 => cbI (ex G c 587 0 [(0, vR (some a10))] [] M1) (fun v11 M9 => fD (dMul x8 (i2D v11)) (fun x12 => fD (dMul x12 (kD 4575765307799480828)) (fun x13 => rD x13 M9))))))))))) := ex_eq prg_585 rfl
/-- KeelHouse$Plates.breadth()D -/
theorem prg_586 : prg 586 = code_586 := rfl
theorem E586_0 (r0 : Option Nat) : ex G c 586 0 [(0, vR r0)] [] M = gR M 23 119 r0 (fun r_1 => gR M 22 93 r_1 (fun r_2 => gI M 23 121 r0 (fun v3 => if v3 = 0 then gI M 23 120 r0 (fun v4 => vc1 M 16 r_2 (fun a6 => cbD (ex G c 498 0 [(0, vR (some a6)), (1, vI v4), (2, vI 1)] [] M) (fun x7 M5 => rD x7 M5))) else gI M 23 121 r0 (fun v8 => if v8 = 1 then gI M 16 64 r_2 (fun v9 => fD (dMul (kD 4611686018427387904) (i2D v9)) (fun x10 => rD x10 M)) else gI M 23 120 r0 (fun v11 => vc1 M 16 r_2 (fun a13 => cbD (ex G c 498 0 [(0, vR (some a13)), (1, vI v11), (2, vI 4)] [] M) (fun x14 M12 => rD x14 M12))))))) := ex_eq prg_586 rfl
/-- KeelHouse$Plates.thick()I -/
theorem prg_587 : prg 587 = code_587 := rfl
theorem E587_0 (r0 : Option Nat) : ex G c 587 0 [(0, vR r0)] [] M = gR M 23 119 r0 (fun r_1 => gI M 22 108 r_1 (fun v2 => if v2 = 0 then gI M 23 123 r0 (fun v3 => rI v3 M) else gI M 23 122 r0 (fun v4 => rI v4 M))) := ex_eq prg_587 rfl
/-- KeelHouse$Plates.compartment()I -/
theorem prg_588 : prg 588 = code_588 := rfl
theorem E588_0 (r0 : Option Nat) : ex G c 588 0 [(0, vR r0)] [] M = gI M 23 120 r0 (fun v1 => rI v1 M) := ex_eq prg_588 rfl
/-- KeelHouse$Plates.up()D -/
theorem prg_589 : prg 589 = code_589 := rfl
theorem E589_0 (r0 : Option Nat) : ex G c 589 0 [(0, vR r0)] [] M = gI M 23 121 r0 (fun v1 => if v1 = 0 then rD FP.dconst0 M else gI M 23 121 r0 (fun v2 => if v2 = 1 then gR M 23 119 r0 (fun r_3 => gR M 22 93 r_3 (fun r_4 => gI M 16 64 r_4 (fun v5 => fD (dDiv (i2D v5) (kD 4611686018427387904)) (fun x6 => rD x6 M)))) else gR M 23 119 r0 (fun r_7 => gR M 22 93 r_7 (fun r_8 => gI M 16 64 r_8 (fun v9 => rD (i2D v9) M))))) := ex_eq prg_589 rfl
/-- KeelHouse$Plates.area()D -/
theorem prg_590 : prg 590 = code_590 := rfl
theorem E590_0 (r0 : Option Nat) : ex G c 590 0 [(0, vR r0)] [] M = vc1 M 23 r0 (fun a2 => cbD (ex G c 586 0 [(0, vR (some a2))] [] M) (fun x3 M1 => vc1 M1 23 r0 (fun a5 => cbI (ex G c 587 0 [(0, vR (some a5))] [] M1) (fun v6 M4 => fD (dMul x3 (i2D v6)) (fun x7 => rD x7 M4))))) := ex_eq prg_590 rfl
/-- KeelHouse$Plates.<init>(LKeelHouse$Ship;II)V -/
theorem prg_591 : prg 591 = code_591 := rfl
theorem E591_0 (r0 : Option Nat) (r1 : Option Nat) (i2 : Int32) (i3 : Int32) : ex G c 591 0 [(0, vR r0), (1, vR r1), (2, vI i2), (3, vI i3)] [] M = nn r0 (fun _ => pI M c 23 122 r0 6 (fun M1 => pI M1 c 23 124 r0 0 (fun M2 => pR M2 c 23 119 r0 r1 (fun M3 => pI M3 c 23 120 r0 i2 (fun M4 => pI M4 c 23 121 r0 i3 (fun M5 => rV M5)))))) := ex_eq prg_591 rfl
/-- KeelHouse$Plates.panelLong()I -/
theorem prg_592 : prg 592 = code_592 := rfl
theorem E592_0 (r0 : Option Nat) : ex G c 592 0 [(0, vR r0)] [] M = gR M 23 119 r0 (fun r_1 => gR M 22 93 r_1 (fun r_2 => gI M 16 63 r_2 (fun v3 => dvI 6 (aDiv (aMul v3 10) 6) (fun v4 => rI v4 M)))) := ex_eq prg_592 rfl
/-- KeelHouse$Plates.panelWide()I -/
theorem prg_593 : prg 593 = code_593 := rfl
theorem E593_0 (r0 : Option Nat) : ex G c 593 0 [(0, vR r0)] [] M = vc1 M 23 r0 (fun a2 => cbD (ex G c 586 0 [(0, vR (some a2))] [] M) (fun x3 M1 => fD (dMul x3 (kD 4621819117588971520)) (fun x4 => cbI (ex G c 74 0 [(0, vI 1), (1, vI (d2I x4))] [] M1) (fun v6 M5 => rI v6 M5)))) := ex_eq prg_593 rfl
/-- KeelHouse$Plates.cut(I)V -/
theorem prg_594 : prg 594 = code_594 := rfl
theorem E594_0 (r0 : Option Nat) (i1 : Int32) : ex G c 594 0 [(0, vR r0), (1, vI i1)] [] M = pI M c 23 124 r0 1 (fun M1 => pI M1 c 23 125 r0 i1 (fun M2 => rV M2)) := ex_eq prg_594 rfl
/-- KeelHouse$Plates.panel()I -/
theorem prg_595 : prg 595 = code_595 := rfl
theorem E595_0 (r0 : Option Nat) : ex G c 595 0 [(0, vR r0)] [] M = vc1 M 23 r0 (fun a2 => cbI (ex G c 592 0 [(0, vR (some a2))] [] M) (fun v3 M1 => vc1 M1 23 r0 (fun a5 => cbI (ex G c 593 0 [(0, vR (some a5))] [] M1) (fun v6 M4 => rI (aMul v3 v6) M4)))) := ex_eq prg_595 rfl
/-- KeelHouse$Plates.isThere()Z -/
theorem prg_596 : prg 596 = code_596 := rfl
theorem E596_0 (r0 : Option Nat) : ex G c 596 0 [(0, vR r0)] [] M = gI M 23 124 r0 (fun v1 => if v1 = 1 then rZ 1 M else gI M 23 124 r0 (fun v2 => if v2 = 2 then rZ 1 M else rZ 0 M)) := ex_eq prg_596 rfl
/-- KeelHouse$Plates.fit()V -/
theorem prg_597 : prg 597 = code_597 := rfl
theorem E597_0 (r0 : Option Nat) : ex G c 597 0 [(0, vR r0)] [] M = pI M c 23 124 r0 3 (fun M1 => gI M1 23 125 r0 (fun v2 => pI M1 c 23 123 r0 v2 (fun M3 => rV M3))) := ex_eq prg_597 rfl
/-- KeelHouse$Tank.tonnes()D -/
theorem prg_598 : prg 598 = code_598 := rfl
theorem E598_0 (r0 : Option Nat) : ex G c 598 0 [(0, vR r0)] [] M = vc1 M 15 r0 (fun a2 => cbD (ex G c 599 0 [(0, vR (some a2))] [] M) (fun x3 M1 => gI M1 15 61 r0 (fun v4 => fD (dMul x3 (i2D v4)) (fun x5 => fD (dDiv x5 (kD 4620693217682128896)) (fun x6 => rD x6 M1))))) := ex_eq prg_598 rfl
/-- KeelHouse$Tank.room()D -/
theorem prg_599 : prg 599 = code_599 := rfl
theorem E599_0 (r0 : Option Nat) : ex G c 599 0 [(0, vR r0)] [] M = gR M 15 59 r0 (fun r_1 => gI M 15 60 r0 (fun v2 => vc1 M 16 r_1 (fun a4 => cbI (ex G c 497 0 [(0, vR (some a4)), (1, vI v2), (2, vI 1)] [] M) (fun v5 M3 => gR M3 15 59 r0 (fun r_6 => gI M3 15 60 r0 (fun v7 => vc1 M3 16 r_6 (fun a9 => cbI (ex G c 497 0 [(0, vR (some a9)), (1, vI (aAdd v7 1)), (2, vI 1)] [] M3) (fun v10 M8 => fD (dDiv (i2D (aAdd v5 v10)) (kD 4625196817309499392)) (fun x11 => gR M8 15 59 r0 (fun r_12 => gI M8 16 64 r_12 (fun v13 => fD (dMul x11 (i2D v13)) (fun x14 => fD (dDiv x14 (kD 4616189618054758400)) (fun x15 => gR M8 15 59 r0 (fun r_16 => gI M8 16 63 r_16 (fun v17 => fD (dMul x15 (i2D v17)) (fun x18 => fD (dDiv x18 (kD 4618441417868443648)) (fun x19 => rD x19 M8))))))))))))))))) := ex_eq prg_599 rfl
/-- KeelHouse$Tank.compartment()I -/
theorem prg_600 : prg 600 = code_600 := rfl
theorem E600_0 (r0 : Option Nat) : ex G c 600 0 [(0, vR r0)] [] M = gI M 15 60 r0 (fun v1 => rI v1 M) := ex_eq prg_600 rfl
/-- KeelHouse$Tank.up()D -/
theorem prg_601 : prg 601 = code_601 := rfl
theorem E601_0 (r0 : Option Nat) : ex G c 601 0 [(0, vR r0)] [] M = gI M 15 61 r0 (fun v1 => gR M 15 59 r0 (fun r_2 => gI M 16 64 r_2 (fun v3 => fD (dDiv (i2D (aMul v1 v3)) (kD 4634204016564240384)) (fun x4 => rD x4 M)))) := ex_eq prg_601 rfl
/-- KeelHouse$Tank.loose()D -/
theorem prg_602 : prg 602 = code_602 := rfl
theorem E602_0 (r0 : Option Nat) : ex G c 602 0 [(0, vR r0)] [] M = gI M 15 61 r0 (fun v1 => if v1 = 0 then rD FP.dconst0 M else gI M 15 61 r0 (fun v2 => if v2 = 8 then rD FP.dconst0 M else gR M 15 59 r0 (fun r_3 => gI M 15 60 r0 (fun v4 => vc1 M 16 r_3 (fun a6 => cbD (ex G c 498 0 [(0, vR (some a6)), (1, vI v4), (2, vI 1)] [] M) (fun x7 M5 => fD (dMul x7 x7) (fun x8 => fD (dMul x8 x7) (fun x9 => gR M5 15 59 r0 (fun r_10 => gI M5 16 63 r_10 (fun v11 => fD (dMul x9 (i2D v11)) (fun x12 => fD (dDiv x12 (kD 4634766966517661696)) (fun x13 => rD x13 M5)))))))))))) := ex_eq prg_602 rfl
/-- KeelHouse$Tank.<init>(LKeelHouse$Lines;I)V -/
theorem prg_603 : prg 603 = code_603 := rfl
theorem E603_0 (r0 : Option Nat) (r1 : Option Nat) (i2 : Int32) : ex G c 603 0 [(0, vR r0), (1, vR r1), (2, vI i2)] [] M = nn r0 (fun _ => pR M c 15 59 r0 r1 (fun M1 => pI M1 c 15 60 r0 i2 (fun M2 => rV M2))) := ex_eq prg_603 rfl
/-- KeelHouse$Cargo.many()I -/
theorem prg_604 : prg 604 = code_604 := rfl
theorem E604_0 (r0 : Option Nat) : ex G c 604 0 [(0, vR r0)] [] M = ex G c 604 1 [(0, vR r0), (1, vI 0), (2, vI 0)] [] M := ex_eq prg_604 rfl
theorem E604_1 (r0 : Option Nat) (i1 : Int32) (i2 : Int32) : ex G c 604 1 [(0, vR r0), (1, vI i1), (2, vI i2)] [] M = gR M 24 126 r0 (fun r_1 => gR M 22 103 r_1 (fun r_2 => vc1 M 5 r_2 (fun a4 => cbI (ex G c 5 0 [(0, vR (some a4))] [] M) (fun v5 M3 => if i2 < v5 then gR M3 24 126 r0 (fun r_6 => gR M3 22 103 r_6 (fun r_7 => vc1 M3 5 r_7 (fun a9 => cbR (ex G c 6 0 [(0, vR (some a9)), (1, vI i2)] [] M3) (fun r_10 M8 => cst M8 [35] r_10 (gI M8 35 188 r_10 (fun v11 => gI M8 24 127 r0 (fun v12 => if v11 = v12 then gI M8 35 183 r_10 (fun v13 => nmI (aAdd i1 v13) (fun v14 => ex G c 604 1 [(0, vR r0), (1, vI v14), (2, vI (aAdd i2 1))] [] M8)) else nmI (aAdd i1 0) (fun v15 => ex G c 604 1 [(0, vR r0), (1, vI v15), (2, vI (aAdd i2 1))] [] M8)))))))) else rI i1 M3)))) := ex_eq prg_604 rfl
/-- KeelHouse$Cargo.tonnes()D -/
theorem prg_605 : prg 605 = code_605 := rfl
theorem E605_0 (r0 : Option Nat) : ex G c 605 0 [(0, vR r0)] [] M = vc1 M 24 r0 (fun a2 => cbI (ex G c 604 0 [(0, vR (some a2))] [] M) (fun v3 M1 => rD (i2D v3) M1)) := ex_eq prg_605 rfl
/-- KeelHouse$Cargo.compartment()I -/
theorem prg_606 : prg 606 = code_606 := rfl
theorem E606_0 (r0 : Option Nat) : ex G c 606 0 [(0, vR r0)] [] M = gI M 24 127 r0 (fun v1 => rI v1 M) := ex_eq prg_606 rfl
/-- KeelHouse$Cargo.side()D -/
theorem prg_607 : prg 607 = code_607 := rfl
theorem E607_0 (r0 : Option Nat) : ex G c 607 0 [(0, vR r0)] [] M = vc1 M 24 r0 (fun a2 => cbI (ex G c 604 0 [(0, vR (some a2))] [] M) (fun v3 M1 => if v3 = 0 then rD FP.dconst0 M1 else ex G c 607 3 [(0, vR r0), (1, vI v3), (2, vD FP.dconst0), (4, vI 0)] [] M1)) := ex_eq prg_607 rfl
theorem E607_3 (r0 : Option Nat) (i1 : Int32) (d2 : UInt64) (i4 : Int32) : ex G c 607 3 [(0, vR r0), (1, vI i1), (2, vD d2), (4, vI i4)] [] M = gR M 24 126 r0 (fun r_1 => gR M 22 103 r_1 (fun r_2 => vc1 M 5 r_2 (fun a4 => cbI (ex G c 5 0 [(0, vR (some a4))] [] M) (fun v5 M3 => if i4 < v5 then gR M3 24 126 r0 (fun r_6 => gR M3 22 103 r_6 (fun r_7 => vc1 M3 5 r_7 (fun a9 => cbR (ex G c 6 0 [(0, vR (some a9)), (1, vI i4)] [] M3) (fun r_10 M8 => cst M8 [35] r_10 (gI M8 35 188 r_10 (fun v11 => gI M8 24 127 r0 (fun v12 => if v11 = v12 then gI M8 35 183 r_10 (fun v13 => gD M8 35 189 r_10 (fun x14 => fD (dMul (i2D v13) x14) (fun x15 => fD (dAdd d2 x15) (fun x16 => ex G c 607 3 [(0, vR r0), (1, vI i1), (2, vD x16), (4, vI (aAdd i4 1))] [] M8)))) else ex G c 607 3 [(0, vR r0), (1, vI i1), (2, vD d2), (4, vI (aAdd i4 1))] [] M8))))))) else fD (dDiv d2 (i2D i1)) (fun x17 => rD x17 M3))))) := ex_eq prg_607 rfl
/-- KeelHouse$Cargo.up()D -/
theorem prg_608 : prg 608 = code_608 := rfl
theorem E608_0 (r0 : Option Nat) : ex G c 608 0 [(0, vR r0)] [] M = gR M 24 126 r0 (fun r_1 => gR M 22 93 r_1 (fun r_2 => gI M 16 64 r_2 (fun v3 => fD (dMul (i2D v3) (kD 4600877379321698714)) (fun x4 => rD x4 M)))) := ex_eq prg_608 rfl
/-- KeelHouse$Cargo.<init>(LKeelHouse$Ship;I)V -/
theorem prg_609 : prg 609 = code_609 := rfl
theorem E609_0 (r0 : Option Nat) (r1 : Option Nat) (i2 : Int32) : ex G c 609 0 [(0, vR r0), (1, vR r1), (2, vI i2)] [] M = nn r0 (fun _ => pR M c 24 126 r0 r1 (fun M1 => pI M1 c 24 127 r0 i2 (fun M2 => rV M2))) := ex_eq prg_609 rfl
/-- KeelHouse$Jobs.isSound()Z -/
theorem prg_610 : prg 610 = code_610 := rfl
theorem E610_0 (r0 : Option Nat) : ex G c 610 0 [(0, vR r0)] [] M = gR M 12 48 r0 (fun r_1 => alen M 108 r_1 (fun v2 => ex G c 610 1 [(0, vR r0), (1, vR r_1), (2, vI v2), (3, vI 0)] [] M)) := ex_eq prg_610 rfl
theorem E610_1 (r0 : Option Nat) (r1 : Option Nat) (i2 : Int32) (i3 : Int32) : ex G c 610 1 [(0, vR r0), (1, vR r1), (2, vI i2), (3, vI i3)] [] M = if i3 < i2 then ldR M 108 r1 i3 (fun r_1 => gI M 12 50 r0 (fun v2 => if v2 = 0 then ex G c 610 1 [(0, vR r0), (1, vR r1), (2, vI i2), (3, vI (aAdd i3 1))] [] M else vc1 M 25 r_1 (fun a4 => cbI (ex G c 633 0 [(0, vR (some a4))] [] M) (fun v5 M3 => if v5 = 0 then ex G c 610 1 [(0, vR r0), (1, vR r1), (2, vI i2), (3, vI (aAdd i3 1))] [] M3 else gI M3 25 132 r_1 (fun v6 => if v6 ≤ 0 then ex G c 610 1 [(0, vR r0), (1, vR r1), (2, vI i2), (3, vI (aAdd i3 1))] [] M3 else vc1 M3 12 r0 (fun a8 => cbI (ex G c 611 0 [(0, vR (some a8)), (1, vR r_1)] [] M3) (fun v9 M7 => if v9 = 0 then rZ 0 M7 else ex G c 610 1 [(0, vR r0), (1, vR r1), (2, vI i2), (3, vI (aAdd i3 1))] [] M7))))))) else rZ 1 M := ex_eq prg_610 rfl
/-- KeelHouse$Jobs.isOpen(LKeelHouse$Job;)Z -/
theorem prg_611 : prg 611 = code_611 := rfl
theorem E611_0 (r0 : Option Nat) (r1 : Option Nat) : ex G c 611 0 [(0, vR r0), (1, vR r1)] [] M = gR M 25 131 r1 (fun r_1 => alen M 100 r_1 (fun v2 => ex G c 611 1 [(0, vR r0), (2, vR r_1), (3, vI v2), (4, vI 0)] [] M)) := ex_eq prg_611 rfl
theorem E611_1 (r0 : Option Nat) (r2 : Option Nat) (i3 : Int32) (i4 : Int32) : ex G c 611 1 [(0, vR r0), (2, vR r2), (3, vI i3), (4, vI i4)] [] M = if i4 < i3 then ldI M 100 r2 i4 (fun v1 => gR M 12 48 r0 (fun r_2 => ldR M 108 r_2 v1 (fun r_3 => vc1 M 25 r_3 (fun a5 => cbI (ex G c 633 0 [(0, vR (some a5))] [] M) (fun v6 M4 => if v6 = 0 then rZ 0 M4 else ex G c 611 1 [(0, vR r0), (2, vR r2), (3, vI i3), (4, vI (aAdd i4 1))] [] M4))))) else rZ 1 M := ex_eq prg_611 rfl
/-- KeelHouse$Jobs.isDone(I)Z -/
theorem prg_612 : prg 612 = code_612 := rfl
theorem E612_0 (r0 : Option Nat) (i1 : Int32) : ex G c 612 0 [(0, vR r0), (1, vI i1)] [] M = gI M 12 50 r0 (fun v1 => if v1 = 0 then rZ 0 M else gR M 12 48 r0 (fun r_2 => ldR M 108 r_2 i1 (fun r_3 => vc1 M 25 r_3 (fun a5 => cbI (ex G c 633 0 [(0, vR (some a5))] [] M) (fun v6 M4 => if v6 = 0 then rZ 0 M4 else rZ 1 M4))))) := ex_eq prg_612 rfl
/-- KeelHouse$Jobs.tellAll(I)I -/
theorem prg_613 : prg 613 = code_613 := rfl
theorem E613_0 (r0 : Option Nat) (i1 : Int32) : ex G c 613 0 [(0, vR r0), (1, vI i1)] [] M = vc1 M 12 r0 (fun a2 => cbV (ex G c 614 0 [(0, vR (some a2))] [] M) (fun M1 => if i1 = 0 then vc1 M1 12 r0 (fun a4 => cbI (ex G c 615 0 [(0, vR (some a4))] [] M1) (fun v5 M3 => rI v5 M3)) else if i1 = 1 then vc1 M1 12 r0 (fun a7 => cbI (ex G c 616 0 [(0, vR (some a7))] [] M1) (fun v8 M6 => rI v8 M6)) else if i1 = 2 then vc1 M1 12 r0 (fun a10 => cbI (ex G c 617 0 [(0, vR (some a10))] [] M1) (fun v11 M9 => rI v11 M9)) else vc1 M1 12 r0 (fun a13 => cbI (ex G c 618 0 [(0, vR (some a13))] [] M1) (fun v14 M12 => rI v14 M12)))) := ex_eq prg_613 rfl
/-- KeelHouse$Jobs.plan()V -/
theorem prg_614 : prg 614 = code_614 := rfl
theorem E614_0 (r0 : Option Nat) : ex G c 614 0 [(0, vR r0)] [] M = ex G c 614 1 [(0, vR r0), (1, vI 0)] [] M := ex_eq prg_614 rfl
theorem E614_1 (r0 : Option Nat) (i1 : Int32) : ex G c 614 1 [(0, vR r0), (1, vI i1)] [] M = if i1 < 24 then gR M 12 48 r0 (fun r_1 => gR M 12 49 r0 (fun r_2 => ldI M 100 r_2 i1 (fun v3 => ldR M 108 r_1 v3 (fun r_4 => pI M c 25 136 r_4 0 (fun M5 => gR M5 25 131 r_4 (fun r_6 => alen M5 100 r_6 (fun v7 => ex G c 614 3 [(0, vR r0), (1, vI i1), (2, vR r_4), (3, vR r_6), (4, vI v7), (5, vI 0)] [] M5))))))) else vc1 M 12 r0 (fun a9 => cbI (ex G c 615 0 [(0, vR (some a9))] [] M) (fun v10 M8 => gR M8 12 48 r0 (fun r_11 => alen M8 108 r_11 (fun v12 => ex G c 614 7 [(0, vR r0), (1, vI v10), (2, vR r_11), (3, vI v12), (4, vI 0)] [] M8)))) := ex_eq prg_614 rfl
theorem E614_3 (r0 : Option Nat) (i1 : Int32) (r2 : Option Nat) (r3 : Option Nat) (i4 : Int32) (i5 : Int32) : ex G c 614 3 [(0, vR r0), (1, vI i1), (2, vR r2), (3, vR r3), (4, vI i4), (5, vI i5)] [] M = if i5 < i4 then ldI M 100 r3 i5 (fun v1 => gI M 25 136 r2 (fun v2 => gR M 12 48 r0 (fun r_3 => ldR M 108 r_3 v1 (fun r_4 => gI M 25 136 r_4 (fun v5 => gR M 12 48 r0 (fun r_6 => ldR M 108 r_6 v1 (fun r_7 => vc1 M 25 r_7 (fun a9 => cbI (ex G c 634 0 [(0, vR (some a9))] [] M) (fun v10 M8 => cbI (ex G c 74 0 [(0, vI v2), (1, vI (aAdd v5 v10))] [] M8) (fun v12 M11 => pI M11 c 25 136 r2 v12 (fun M13 => ex G c 614 3 [(0, vR r0), (1, vI i1), (2, vR r2), (3, vR r3), (4, vI i4), (5, vI (aAdd i5 1))] [] M13))))))))))) else ex G c 614 1 [(0, vR r0), (1, vI (aAdd i1 1))] [] M := ex_eq prg_614 rfl
theorem E614_7 (r0 : Option Nat) (i1 : Int32) (r2 : Option Nat) (i3 : Int32) (i4 : Int32) : ex G c 614 7 [(0, vR r0), (1, vI i1), (2, vR r2), (3, vI i3), (4, vI i4)] [] M = if i4 < i3 then ldR M 108 r2 i4 (fun r_1 => vc1 M 25 r_1 (fun a3 => cbI (ex G c 634 0 [(0, vR (some a3))] [] M) (fun v4 M2 => pI M2 c 25 137 r_1 (aSub i1 v4) (fun M5 => ex G c 614 7 [(0, vR r0), (1, vI i1), (2, vR r2), (3, vI i3), (4, vI (aAdd i4 1))] [] M5)))) else ex G c 614 10 [(0, vR r0), (2, vI 23)] [] M := ex_eq prg_614 rfl
theorem E614_10 (r0 : Option Nat) (i2 : Int32) : ex G c 614 10 [(0, vR r0), (2, vI i2)] [] M = if i2 < 0 then rV M else gR M 12 48 r0 (fun r_1 => gR M 12 49 r0 (fun r_2 => ldI M 100 r_2 i2 (fun v3 => ldR M 108 r_1 v3 (fun r_4 => gR M 25 131 r_4 (fun r_5 => alen M 100 r_5 (fun v6 => ex G c 614 12 [(0, vR r0), (2, vI i2), (3, vR r_4), (4, vR r_5), (5, vI v6), (6, vI 0)] [] M)))))) := ex_eq prg_614 rfl
theorem E614_12 (r0 : Option Nat) (i2 : Int32) (r3 : Option Nat) (r4 : Option Nat) (i5 : Int32) (i6 : Int32) : ex G c 614 12 [(0, vR r0), (2, vI i2), (3, vR r3), (4, vR r4), (5, vI i5), (6, vI i6)] [] M = if i6 < i5 then ldI M 100 r4 i6 (fun v1 => gR M 12 48 r0 (fun r_2 => ldR M 108 r_2 v1 (fun r_3 => gR M 12 48 r0 (fun r_4 => ldR M 108 r_4 v1 (fun r_5 => gI M 25 137 r_5 (fun v6 => gI M 25 137 r3 (fun v7 => gR M 12 48 r0 (fun r_8 => ldR M 108 r_8 v1 (fun r_9 => vc1 M 25 r_9 (fun a11 => cbI (ex G c 634 0 [(0, vR (some a11))] [] M) (fun v12 M10 => cbI (ex G c 67 0 [(0, vI v6), (1, vI (aSub v7 v12))] [] M10) (fun v14 M13 => pI M13 c 25 137 r_3 v14 (fun M15 => ex G c 614 12 [(0, vR r0), (2, vI i2), (3, vR r3), (4, vR r4), (5, vI i5), (6, vI (aAdd i6 1))] [] M15))))))))))))) else ex G c 614 10 [(0, vR r0), (2, vI (aAdd i2 (-1)))] [] M := ex_eq prg_614 rfl
/-- KeelHouse$Jobs.end()I -/
theorem prg_615 : prg 615 = code_615 := rfl
theorem E615_0 (r0 : Option Nat) : ex G c 615 0 [(0, vR r0)] [] M = gR M 12 48 r0 (fun r_1 => alen M 108 r_1 (fun v2 => ex G c 615 1 [(1, vI 0), (2, vR r_1), (3, vI v2), (4, vI 0)] [] M)) := ex_eq prg_615 rfl
theorem E615_1 (i1 : Int32) (r2 : Option Nat) (i3 : Int32) (i4 : Int32) : ex G c 615 1 [(1, vI i1), (2, vR r2), (3, vI i3), (4, vI i4)] [] M = if i4 < i3 then ldR M 108 r2 i4 (fun r_1 => gI M 25 136 r_1 (fun v2 => vc1 M 25 r_1 (fun a4 => cbI (ex G c 634 0 [(0, vR (some a4))] [] M) (fun v5 M3 => cbI (ex G c 74 0 [(0, vI i1), (1, vI (aAdd v2 v5))] [] M3) (fun v7 M6 => ex G c 615 1 [(1, vI v7), (2, vR r2), (3, vI i3), (4, vI (aAdd i4 1))] [] M6))))) else rI i1 M := ex_eq prg_615 rfl
/-- KeelHouse$Jobs.doneSet()I -/
theorem prg_616 : prg 616 = code_616 := rfl
theorem E616_0 (r0 : Option Nat) : ex G c 616 0 [(0, vR r0)] [] M = gR M 12 48 r0 (fun r_1 => alen M 108 r_1 (fun v2 => ex G c 616 1 [(1, vI 0), (2, vR r_1), (3, vI v2), (4, vI 0)] [] M)) := ex_eq prg_616 rfl
theorem E616_1 (i1 : Int32) (r2 : Option Nat) (i3 : Int32) (i4 : Int32) : ex G c 616 1 [(1, vI i1), (2, vR r2), (3, vI i3), (4, vI i4)] [] M = if i4 < i3 then ldR M 108 r2 i4 (fun r_1 => vc1 M 25 r_1 (fun a3 => cbI (ex G c 633 0 [(0, vR (some a3))] [] M) (fun v4 M2 => if v4 = 0 then nmI (aOr i1 0) (fun v5 => ex G c 616 1 [(1, vI v5), (2, vR r2), (3, vI i3), (4, vI (aAdd i4 1))] [] M2) else gI M2 25 128 r_1 (fun v6 => nmI (aOr i1 (aShl 1 v6)) (fun v7 => ex G c 616 1 [(1, vI v7), (2, vR r2), (3, vI i3), (4, vI (aAdd i4 1))] [] M2))))) else rI i1 M := ex_eq prg_616 rfl
/-- KeelHouse$Jobs.criticalSet()I -/
theorem prg_617 : prg 617 = code_617 := rfl
theorem E617_0 (r0 : Option Nat) : ex G c 617 0 [(0, vR r0)] [] M = gR M 12 48 r0 (fun r_1 => alen M 108 r_1 (fun v2 => ex G c 617 1 [(1, vI 0), (2, vR r_1), (3, vI v2), (4, vI 0)] [] M)) := ex_eq prg_617 rfl
theorem E617_1 (i1 : Int32) (r2 : Option Nat) (i3 : Int32) (i4 : Int32) : ex G c 617 1 [(1, vI i1), (2, vR r2), (3, vI i3), (4, vI i4)] [] M = if i4 < i3 then ldR M 108 r2 i4 (fun r_1 => vc1 M 25 r_1 (fun a3 => cbI (ex G c 633 0 [(0, vR (some a3))] [] M) (fun v4 M2 => if v4 = 0 then vc1 M2 25 r_1 (fun a6 => cbI (ex G c 635 0 [(0, vR (some a6))] [] M2) (fun v7 M5 => if v7 = 0 then gI M5 25 128 r_1 (fun v8 => nmI (aOr i1 (aShl 1 v8)) (fun v9 => ex G c 617 1 [(1, vI v9), (2, vR r2), (3, vI i3), (4, vI (aAdd i4 1))] [] M5)) else nmI (aOr i1 0) (fun v10 => ex G c 617 1 [(1, vI v10), (2, vR r2), (3, vI i3), (4, vI (aAdd i4 1))] [] M5))) else nmI (aOr i1 0) (fun v11 => ex G c 617 1 [(1, vI v11), (2, vR r2), (3, vI i3), (4, vI (aAdd i4 1))] [] M2)))) else rI i1 M := ex_eq prg_617 rfl
/-- KeelHouse$Jobs.left()I -/
theorem prg_618 : prg 618 = code_618 := rfl
theorem E618_0 (r0 : Option Nat) : ex G c 618 0 [(0, vR r0)] [] M = gR M 12 48 r0 (fun r_1 => alen M 108 r_1 (fun v2 => ex G c 618 1 [(1, vI 0), (2, vR r_1), (3, vI v2), (4, vI 0)] [] M)) := ex_eq prg_618 rfl
theorem E618_1 (i1 : Int32) (r2 : Option Nat) (i3 : Int32) (i4 : Int32) : ex G c 618 1 [(1, vI i1), (2, vR r2), (3, vI i3), (4, vI i4)] [] M = if i4 < i3 then ldR M 108 r2 i4 (fun r_1 => gI M 25 133 r_1 (fun v2 => nmI (aAdd i1 v2) (fun v3 => ex G c 618 1 [(1, vI v3), (2, vR r2), (3, vI i3), (4, vI (aAdd i4 1))] [] M))) else rI i1 M := ex_eq prg_618 rfl
/-- KeelHouse$Jobs.<init>(LKeelHouse$Ship;)V -/
theorem prg_619 : prg 619 = code_619 := rfl
theorem E619_0 (r0 : Option Nat) (r1 : Option Nat) : ex G c 619 0 [(0, vR r0), (1, vR r1)] [] M = nn r0 (fun _ => mka M c 108 24 (fun a1 M2 => pR M2 c 12 48 r0 (some a1) (fun M3 => mka M3 c 100 24 (fun a4 M5 => pR M5 c 12 49 r0 (some a4) (fun M6 => pR M6 c 12 47 r0 r1 (fun M7 => ex G c 619 1 [(0, vR r0), (2, vI 0)] [] M7)))))) := ex_eq prg_619 rfl
theorem E619_1 (r0 : Option Nat) (i2 : Int32) : ex G c 619 1 [(0, vR r0), (2, vI i2)] [] M = if i2 < 24 then gR M 12 48 r0 (fun r_1 => nw M c 25 11 (fun a2 M3 => cbI (ex G c 620 0 [(0, vI i2)] [] M3) (fun v5 M4 => cbI (ex G c 621 0 [(0, vI i2)] [] M4) (fun v7 M6 => vc1 M6 25 (some a2) (fun a9 => dbV (ex G c 636 0 [(0, vR (some a9)), (1, vI i2), (2, vI v5), (3, vI v7)] [] M6) (fun M8 => stR M8 c 108 [25] r_1 i2 (some a2) (fun M10 => ex G c 619 1 [(0, vR r0), (2, vI (aAdd i2 1))] [] M10))))))) else vc1 M 12 r0 (fun a12 => cbV (ex G c 625 0 [(0, vR (some a12))] [] M) (fun M11 => rV M11)) := ex_eq prg_619 rfl
/-- KeelHouse$Jobs.tradeOf(I)I -/
theorem prg_620 : prg 620 = code_620 := rfl
theorem E620_0 (i0 : Int32) : ex G c 620 0 [(0, vI i0)] [] M = if i0 < 19 then rI 0 M else if i0 < 22 then rI 1 M else rI 2 M := ex_eq prg_620 rfl
/-- KeelHouse$Jobs.beforeOf(I)I -/
theorem prg_621 : prg 621 = code_621 := rfl
theorem E621_0 (i0 : Int32) : ex G c 621 0 [(0, vI i0)] [] M = if i0 = 0 then rI 0 M else if i0 = 19 then cbI (ex G c 622 0 [(0, vI 0)] [] M) (fun v2 M1 => rI v2 M1) else if i0 = 20 then cbI (ex G c 623 0 [(0, vI 0), (1, vI 0)] [] M) (fun v4 M3 => cbI (ex G c 623 0 [(0, vI 1), (1, vI 0)] [] M3) (fun v6 M5 => cbI (ex G c 623 0 [(0, vI 2), (1, vI 0)] [] M5) (fun v8 M7 => rI (aOr (aOr (aShl 1 v4) (aShl 1 v6)) (aShl 1 v8)) M7))) else if i0 = 21 then cbI (ex G c 622 0 [(0, vI 1)] [] M) (fun v10 M9 => rI (aOr 1048576 v10) M9) else if i0 = 22 then cbI (ex G c 622 0 [(0, vI 2)] [] M) (fun v12 M11 => rI v12 M11) else if i0 = 23 then rI 6291456 M else dvI 3 (aDiv (aSub i0 1) 3) (fun v13 => dvI 3 (aRem (aSub i0 1) 3) (fun v14 => cbI (ex G c 624 0 [(0, vI v13), (1, vI v14)] [] M) (fun v16 M15 => rI v16 M15))) := ex_eq prg_621 rfl
/-- KeelHouse$Jobs.row(I)I -/
theorem prg_622 : prg 622 = code_622 := rfl
theorem E622_0 (i0 : Int32) : ex G c 622 0 [(0, vI i0)] [] M = ex G c 622 1 [(0, vI i0), (1, vI 0), (2, vI 0)] [] M := ex_eq prg_622 rfl
theorem E622_1 (i0 : Int32) (i1 : Int32) (i2 : Int32) : ex G c 622 1 [(0, vI i0), (1, vI i1), (2, vI i2)] [] M = if i2 < 6 then cbI (ex G c 623 0 [(0, vI i2), (1, vI i0)] [] M) (fun v2 M1 => nmI (aOr i1 (aShl 1 v2)) (fun v3 => ex G c 622 1 [(0, vI i0), (1, vI v3), (2, vI (aAdd i2 1))] [] M1)) else rI i1 M := ex_eq prg_622 rfl
/-- KeelHouse$Jobs.platesOf(II)I -/
theorem prg_623 : prg 623 = code_623 := rfl
theorem E623_0 (i0 : Int32) (i1 : Int32) : ex G c 623 0 [(0, vI i0), (1, vI i1)] [] M = rI (aAdd (aAdd 1 (aMul 3 i0)) i1) M := ex_eq prg_623 rfl
/-- KeelHouse$Jobs.beforePlates(II)I -/
theorem prg_624 : prg 624 = code_624 := rfl
theorem E624_0 (i0 : Int32) (i1 : Int32) : ex G c 624 0 [(0, vI i0), (1, vI i1)] [] M = if i1 = 0 then rI 1 M else cbI (ex G c 623 0 [(0, vI i0), (1, vI (aSub i1 1))] [] M) (fun v2 M1 => nmI (aShl 1 v2) (fun v3 => if i1 = 2 then if i0 = 1 then rI (aOr v3 1048576) M1 else rI v3 M1 else rI v3 M1)) := ex_eq prg_624 rfl
/-- KeelHouse$Jobs.line()V -/
theorem prg_625 : prg 625 = code_625 := rfl
theorem E625_0 (r0 : Option Nat) : ex G c 625 0 [(0, vR r0)] [] M = ex G c 625 1 [(0, vR r0), (1, vI 0), (2, vI 0)] [] M := ex_eq prg_625 rfl
theorem E625_1 (r0 : Option Nat) (i1 : Int32) (i2 : Int32) : ex G c 625 1 [(0, vR r0), (1, vI i1), (2, vI i2)] [] M = if i1 < 24 then ex G c 625 3 [(0, vR r0), (1, vI i1), (2, vI i2), (3, vI 0)] [] M else rV M := ex_eq prg_625 rfl
theorem E625_3 (r0 : Option Nat) (i1 : Int32) (i2 : Int32) (i3 : Int32) : ex G c 625 3 [(0, vR r0), (1, vI i1), (2, vI i2), (3, vI i3)] [] M = if i3 < 24 then if (aAnd (aShr i2 i3) 1) = 0 then gR M 12 48 r0 (fun r_1 => ldR M 108 r_1 i3 (fun r_2 => gI M 25 130 r_2 (fun v3 => if (aAnd v3 (aXor i2 (-1))) = 0 then gR M 12 49 r0 (fun r_4 => stI M c 100 r_4 i1 i3 (fun M5 => nmI (aOr i2 (aShl 1 i3)) (fun v6 => ex G c 625 3 [(0, vR r0), (1, vI (aAdd i1 1)), (2, vI v6), (3, vI (aAdd i3 1))] [] M5))) else ex G c 625 3 [(0, vR r0), (1, vI i1), (2, vI i2), (3, vI (aAdd i3 1))] [] M))) else ex G c 625 3 [(0, vR r0), (1, vI i1), (2, vI i2), (3, vI (aAdd i3 1))] [] M else ex G c 625 1 [(0, vR r0), (1, vI i1), (2, vI i2)] [] M := ex_eq prg_625 rfl
/-- KeelHouse$Jobs.tell()V -/
theorem prg_626 : prg 626 = code_626 := rfl
theorem E626_0 (r0 : Option Nat) : ex G c 626 0 [(0, vR r0)] [] M = pZ M c 12 50 r0 1 (fun M1 => gR M1 12 48 r0 (fun r_2 => ldR M1 108 r_2 0 (fun r_3 => gR M1 12 47 r0 (fun r_4 => gR M1 22 93 r_4 (fun r_5 => gI M1 16 63 r_5 (fun v6 => vc1 M1 25 r_3 (fun a8 => cbV (ex G c 637 0 [(0, vR (some a8)), (1, vI (aMul v6 2))] [] M1) (fun M7 => ex G c 626 1 [(0, vR r0), (1, vI 0)] [] M7)))))))) := ex_eq prg_626 rfl
theorem E626_1 (r0 : Option Nat) (i1 : Int32) : ex G c 626 1 [(0, vR r0), (1, vI i1)] [] M = if i1 < 6 then ex G c 626 3 [(0, vR r0), (1, vI i1), (2, vI 0)] [] M else gR M 12 48 r0 (fun r_1 => ldR M 108 r_1 19 (fun r_2 => gR M 12 47 r0 (fun r_3 => gI M 22 106 r_3 (fun v4 => cbI (ex G c 62 0 [(0, vI v4)] [] M) (fun v6 M5 => vc1 M5 25 r_2 (fun a8 => cbV (ex G c 637 0 [(0, vR (some a8)), (1, vI (aAdd 10 (aMul 10 v6)))] [] M5) (fun M7 => gR M7 12 48 r0 (fun r_9 => ldR M7 108 r_9 20 (fun r_10 => gR M7 12 47 r0 (fun r_11 => gR M7 22 97 r_11 (fun r_12 => gI M7 20 88 r_12 (fun v13 => vc1 M7 25 r_10 (fun a15 => cbV (ex G c 637 0 [(0, vR (some a15)), (1, vI (aAdd (aMul 12 v13) 10))] [] M7) (fun M14 => gR M14 12 48 r0 (fun r_16 => ldR M14 108 r_16 21 (fun r_17 => gR M14 12 47 r0 (fun r_18 => gR M14 22 93 r_18 (fun r_19 => gI M14 16 63 r_19 (fun v20 => vc1 M14 25 r_17 (fun a22 => cbV (ex G c 637 0 [(0, vR (some a22)), (1, vI v20)] [] M14) (fun M21 => gR M21 12 48 r0 (fun r_23 => ldR M21 108 r_23 22 (fun r_24 => vc1 M21 25 r_24 (fun a26 => cbV (ex G c 637 0 [(0, vR (some a26)), (1, vI 36)] [] M21) (fun M25 => gR M25 12 48 r0 (fun r_27 => ldR M25 108 r_27 23 (fun r_28 => vc1 M25 25 r_28 (fun a30 => cbV (ex G c 637 0 [(0, vR (some a30)), (1, vI 20)] [] M25) (fun M29 => rV M29))))))))))))))))))))))))))))) := ex_eq prg_626 rfl
theorem E626_3 (r0 : Option Nat) (i1 : Int32) (i2 : Int32) : ex G c 626 3 [(0, vR r0), (1, vI i1), (2, vI i2)] [] M = if i2 < 3 then gR M 12 47 r0 (fun r_1 => vc1 M 22 r_1 (fun a3 => cbR (ex G c 487 0 [(0, vR (some a3)), (1, vI i1), (2, vI i2)] [] M) (fun r_4 M2 => gR M2 12 48 r0 (fun r_5 => cbI (ex G c 623 0 [(0, vI i1), (1, vI i2)] [] M2) (fun v7 M6 => ldR M6 108 r_5 v7 (fun r_8 => gI M6 23 122 r_4 (fun v9 => if v9 = 0 then vc1 M6 25 r_8 (fun a11 => cbV (ex G c 637 0 [(0, vR (some a11)), (1, vI 0)] [] M6) (fun M10 => ex G c 626 3 [(0, vR r0), (1, vI i1), (2, vI (aAdd i2 1))] [] M10)) else vc1 M6 23 r_4 (fun a13 => cbI (ex G c 595 0 [(0, vR (some a13))] [] M6) (fun v14 M12 => dvI 100 (aDiv v14 100) (fun v15 => vc1 M12 25 r_8 (fun a17 => cbV (ex G c 637 0 [(0, vR (some a17)), (1, vI (aAdd 8 v15))] [] M12) (fun M16 => ex G c 626 3 [(0, vR r0), (1, vI i1), (2, vI (aAdd i2 1))] [] M16)))))))))))) else ex G c 626 1 [(0, vR r0), (1, vI (aAdd i1 1))] [] M := ex_eq prg_626 rfl
/-- KeelHouse$Jobs.areDone(I)Z -/
theorem prg_627 : prg 627 = code_627 := rfl
theorem E627_0 (r0 : Option Nat) (i1 : Int32) : ex G c 627 0 [(0, vR r0), (1, vI i1)] [] M = ex G c 627 1 [(0, vR r0), (1, vI i1), (2, vI 0)] [] M := ex_eq prg_627 rfl
theorem E627_1 (r0 : Option Nat) (i1 : Int32) (i2 : Int32) : ex G c 627 1 [(0, vR r0), (1, vI i1), (2, vI i2)] [] M = if i2 ≤ i1 then vc1 M 12 r0 (fun a2 => cbI (ex G c 612 0 [(0, vR (some a2)), (1, vI i2)] [] M) (fun v3 M1 => if v3 = 0 then rZ 0 M1 else ex G c 627 1 [(0, vR r0), (1, vI i1), (2, vI (aAdd i2 1))] [] M1)) else rZ 1 M := ex_eq prg_627 rfl
/-- KeelHouse$Jobs.canWork(LKeelHouse$Job;IZ)Z -/
theorem prg_628 : prg 628 = code_628 := rfl
theorem E628_0 (r0 : Option Nat) (r1 : Option Nat) (i2 : Int32) (i3 : Int32) : ex G c 628 0 [(0, vR r0), (1, vR r1), (2, vI i2), (3, vI i3)] [] M = gI M 25 129 r1 (fun v1 => if v1 = i2 then vc1 M 25 r1 (fun a3 => cbI (ex G c 633 0 [(0, vR (some a3))] [] M) (fun v4 M2 => if v4 = 0 then gI M2 25 138 r1 (fun v5 => if v5 < 2 then vc1 M2 12 r0 (fun a7 => cbI (ex G c 629 0 [(0, vR (some a7)), (1, vR r1)] [] M2) (fun v8 M6 => if v8 = 0 then rZ 0 M6 else vc1 M6 12 r0 (fun a10 => cbI (ex G c 611 0 [(0, vR (some a10)), (1, vR r1)] [] M6) (fun v11 M9 => if v11 = 0 then rZ 0 M9 else if i3 = 0 then vc1 M9 12 r0 (fun a13 => cbI (ex G c 630 0 [(0, vR (some a13)), (1, vR r1)] [] M9) (fun v14 M12 => if v14 = 0 then rZ 0 M12 else rZ 1 M12)) else rZ 1 M9)))) else rZ 0 M2) else rZ 0 M2)) else rZ 0 M) := ex_eq prg_628 rfl
/-- KeelHouse$Jobs.isPlace(LKeelHouse$Job;)Z -/
theorem prg_629 : prg 629 = code_629 := rfl
theorem E629_0 (r0 : Option Nat) (r1 : Option Nat) : ex G c 629 0 [(0, vR r0), (1, vR r1)] [] M = gR M 12 47 r0 (fun r_1 => gR M 22 105 r_1 (fun r_2 => if r_2 = (G 19) then rZ 1 M else gR M 12 47 r0 (fun r_3 => gR M 22 105 r_3 (fun r_4 => if r_4 = (G 16) then gI M 25 128 r1 (fun v5 => if v5 = 23 then rZ 0 M else rZ 1 M) else rZ 0 M)))) := ex_eq prg_629 rfl
/-- KeelHouse$Jobs.hasPlates(LKeelHouse$Job;)Z -/
theorem prg_630 : prg 630 = code_630 := rfl
theorem E630_0 (r0 : Option Nat) (r1 : Option Nat) : ex G c 630 0 [(0, vR r0), (1, vR r1)] [] M = vc1 M 25 r1 (fun a2 => cbI (ex G c 638 0 [(0, vR (some a2))] [] M) (fun v3 M1 => if v3 = 0 then rZ 1 M1 else gR M1 12 47 r0 (fun r_4 => vc1 M1 25 r1 (fun a6 => cbI (ex G c 639 0 [(0, vR (some a6))] [] M1) (fun v7 M5 => vc1 M5 25 r1 (fun a9 => cbI (ex G c 640 0 [(0, vR (some a9))] [] M5) (fun v10 M8 => vc1 M8 22 r_4 (fun a12 => cbR (ex G c 487 0 [(0, vR (some a12)), (1, vI v7), (2, vI v10)] [] M8) (fun r_13 M11 => vc1 M11 23 r_13 (fun a15 => cbI (ex G c 596 0 [(0, vR (some a15))] [] M11) (fun v16 M14 => if v16 = 0 then rZ 0 M14 else rZ 1 M14))))))))))) := ex_eq prg_630 rfl
/-- KeelHouse$Jobs.at(I)LKeelHouse$Job; -/
theorem prg_631 : prg 631 = code_631 := rfl
theorem E631_0 (r0 : Option Nat) (i1 : Int32) : ex G c 631 0 [(0, vR r0), (1, vI i1)] [] M = gR M 12 48 r0 (fun r_1 => ldR M 108 r_1 i1 (fun r_2 => rR r_2 M)) := ex_eq prg_631 rfl
/-- KeelHouse$Jobs.tell(LKeelHouse$Job;I)I -/
theorem prg_632 : prg 632 = code_632 := rfl
theorem E632_0 (r0 : Option Nat) (r1 : Option Nat) (i2 : Int32) : ex G c 632 0 [(0, vR r0), (1, vR r1), (2, vI i2)] [] M = vc1 M 12 r0 (fun a2 => cbV (ex G c 614 0 [(0, vR (some a2))] [] M) (fun M1 => if i2 = 0 then gI M1 25 133 r1 (fun v3 => rI v3 M1) else if i2 = 1 then gI M1 25 129 r1 (fun v4 => rI v4 M1) else if i2 = 2 then vc1 M1 25 r1 (fun a6 => cbI (ex G c 633 0 [(0, vR (some a6))] [] M1) (fun v7 M5 => if v7 = 0 then rI 0 M5 else rI 1 M5)) else if i2 = 3 then vc1 M1 25 r1 (fun a9 => cbI (ex G c 634 0 [(0, vR (some a9))] [] M1) (fun v10 M8 => rI v10 M8)) else if i2 = 4 then gI M1 25 136 r1 (fun v11 => rI v11 M1) else if i2 = 5 then gI M1 25 137 r1 (fun v12 => rI v12 M1) else if i2 = 6 then vc1 M1 25 r1 (fun a14 => cbI (ex G c 635 0 [(0, vR (some a14))] [] M1) (fun v15 M13 => rI v15 M13)) else if i2 = 7 then gI M1 25 135 r1 (fun v16 => if v16 = 0 then rI 0 M1 else rI 1 M1) else gI M1 25 130 r1 (fun v17 => rI v17 M1))) := ex_eq prg_632 rfl
/-- KeelHouse$Job.isDone()Z -/
theorem prg_633 : prg 633 = code_633 := rfl
theorem E633_0 (r0 : Option Nat) : ex G c 633 0 [(0, vR r0)] [] M = gI M 25 133 r0 (fun v1 => if v1 = 0 then rZ 1 M else rZ 0 M) := ex_eq prg_633 rfl
/-- KeelHouse$Job.length()I -/
theorem prg_634 : prg 634 = code_634 := rfl
theorem E634_0 (r0 : Option Nat) : ex G c 634 0 [(0, vR r0)] [] M = gI M 25 133 r0 (fun v1 => cbI (ex G c 198 0 [(0, vI v1), (1, vI 8)] [] M) (fun v3 M2 => rI v3 M2)) := ex_eq prg_634 rfl
/-- KeelHouse$Job.slack()I -/
theorem prg_635 : prg 635 = code_635 := rfl
theorem E635_0 (r0 : Option Nat) : ex G c 635 0 [(0, vR r0)] [] M = gI M 25 137 r0 (fun v1 => gI M 25 136 r0 (fun v2 => rI (aSub v1 v2) M)) := ex_eq prg_635 rfl
/-- KeelHouse$Job.<init>(III)V -/
theorem prg_636 : prg 636 = code_636 := rfl
theorem E636_0 (r0 : Option Nat) (i1 : Int32) (i2 : Int32) (i3 : Int32) : ex G c 636 0 [(0, vR r0), (1, vI i1), (2, vI i2), (3, vI i3)] [] M = nn r0 (fun _ => pI M c 25 128 r0 i1 (fun M1 => pI M1 c 25 129 r0 i2 (fun M2 => pI M2 c 25 130 r0 i3 (fun M3 => cbI (ex G c 62 0 [(0, vI i3)] [] M3) (fun v5 M4 => mka M4 c 100 v5 (fun a6 M7 => pR M7 c 25 131 r0 (some a6) (fun M8 => ex G c 636 1 [(0, vR r0), (3, vI i3), (4, vI 0), (5, vI 0)] [] M8))))))) := ex_eq prg_636 rfl
theorem E636_1 (r0 : Option Nat) (i3 : Int32) (i4 : Int32) (i5 : Int32) : ex G c 636 1 [(0, vR r0), (3, vI i3), (4, vI i4), (5, vI i5)] [] M = if i5 < 24 then if (aAnd (aShr i3 i5) 1) = 1 then gR M 25 131 r0 (fun r_1 => stI M c 100 r_1 i4 i5 (fun M2 => ex G c 636 1 [(0, vR r0), (3, vI i3), (4, vI (aAdd i4 1)), (5, vI (aAdd i5 1))] [] M2)) else ex G c 636 1 [(0, vR r0), (3, vI i3), (4, vI i4), (5, vI (aAdd i5 1))] [] M else rV M := ex_eq prg_636 rfl
/-- KeelHouse$Job.tell(I)V -/
theorem prg_637 : prg 637 = code_637 := rfl
theorem E637_0 (r0 : Option Nat) (i1 : Int32) : ex G c 637 0 [(0, vR r0), (1, vI i1)] [] M = pI M c 25 132 r0 i1 (fun M1 => pI M1 c 25 133 r0 i1 (fun M2 => rV M2)) := ex_eq prg_637 rfl
/-- KeelHouse$Job.isPlates()Z -/
theorem prg_638 : prg 638 = code_638 := rfl
theorem E638_0 (r0 : Option Nat) : ex G c 638 0 [(0, vR r0)] [] M = gI M 25 128 r0 (fun v1 => if v1 ≤ 0 then rZ 0 M else gI M 25 128 r0 (fun v2 => if v2 < 19 then rZ 1 M else rZ 0 M)) := ex_eq prg_638 rfl
/-- KeelHouse$Job.compartment()I -/
theorem prg_639 : prg 639 = code_639 := rfl
theorem E639_0 (r0 : Option Nat) : ex G c 639 0 [(0, vR r0)] [] M = gI M 25 128 r0 (fun v1 => dvI 3 (aDiv (aSub v1 1) 3) (fun v2 => rI v2 M)) := ex_eq prg_639 rfl
/-- KeelHouse$Job.strake()I -/
theorem prg_640 : prg 640 = code_640 := rfl
theorem E640_0 (r0 : Option Nat) : ex G c 640 0 [(0, vR r0)] [] M = gI M 25 128 r0 (fun v1 => dvI 3 (aRem (aSub v1 1) 3) (fun v2 => rI v2 M)) := ex_eq prg_640 rfl
/-- KeelHouse$Item.tonnes()D -/
theorem prg_724 : prg 724 = code_724 := rfl
theorem E724_0 (r0 : Option Nat) : ex G c 724 0 [(0, vR r0)] [] M = gI M 26 139 r0 (fun v1 => rD (i2D v1) M) := ex_eq prg_724 rfl
/-- KeelHouse$Item.compartment()I -/
theorem prg_725 : prg 725 = code_725 := rfl
theorem E725_0 (r0 : Option Nat) : ex G c 725 0 [(0, vR r0)] [] M = gI M 26 140 r0 (fun v1 => rI v1 M) := ex_eq prg_725 rfl
/-- KeelHouse$Item.side()D -/
theorem prg_726 : prg 726 = code_726 := rfl
theorem E726_0 (r0 : Option Nat) : ex G c 726 0 [(0, vR r0)] [] M = gI M 26 141 r0 (fun v1 => fD (dDiv (i2D v1) (kD 4620693217682128896)) (fun x2 => rD x2 M)) := ex_eq prg_726 rfl
/-- KeelHouse$Item.up()D -/
theorem prg_727 : prg 727 = code_727 := rfl
theorem E727_0 (r0 : Option Nat) : ex G c 727 0 [(0, vR r0)] [] M = gI M 26 142 r0 (fun v1 => fD (dDiv (i2D v1) (kD 4620693217682128896)) (fun x2 => rD x2 M)) := ex_eq prg_727 rfl
/-- KeelHouse$Item.<init>(IIII)V -/
theorem prg_728 : prg 728 = code_728 := rfl
theorem E728_0 (r0 : Option Nat) (i1 : Int32) (i2 : Int32) (i3 : Int32) (i4 : Int32) : ex G c 728 0 [(0, vR r0), (1, vI i1), (2, vI i2), (3, vI i3), (4, vI i4)] [] M = nn r0 (fun _ => pI M c 26 139 r0 i1 (fun M1 => pI M1 c 26 140 r0 i2 (fun M2 => pI M2 c 26 141 r0 i3 (fun M3 => pI M3 c 26 142 r0 i4 (fun M4 => rV M4))))) := ex_eq prg_728 rfl
/-- KeelHouse$Sea$3.swell(I)I -/
theorem prg_729 : prg 729 = code_729 := rfl
theorem E729_0 (r0 : Option Nat) (i1 : Int32) : ex G c 729 0 [(0, vR r0), (1, vI i1)] [] M = nn (G 10) (fun a2 => dsg G a2 (fun m3 => dbI (ex G c m3 0 [(0, vR (some a2)), (1, vI i1)] [] M) (fun v4 M1 => rI (aNeg v4) M1)) [10, 794]) := ex_eq prg_729 rfl
/-- KeelHouse$Kind.<init>(IIIII)V -/
theorem prg_730 : prg 730 = code_730 := rfl
theorem E730_0 (r0 : Option Nat) (i1 : Int32) (i2 : Int32) (i3 : Int32) (i4 : Int32) (i5 : Int32) : ex G c 730 0 [(0, vR r0), (1, vI i1), (2, vI i2), (3, vI i3), (4, vI i4), (5, vI i5)] [] M = nn r0 (fun _ => pI M c 27 143 r0 i1 (fun M1 => pI M1 c 27 144 r0 i2 (fun M2 => pI M2 c 27 145 r0 i3 (fun M3 => pI M3 c 27 146 r0 i4 (fun M4 => pI M4 c 27 147 r0 i5 (fun M5 => rV M5)))))) := ex_eq prg_730 rfl
/-- KeelHouse$Delivery.<init>(LKeelHouse$Kind;II)V -/
theorem prg_731 : prg 731 = code_731 := rfl
theorem E731_0 (r0 : Option Nat) (r1 : Option Nat) (i2 : Int32) (i3 : Int32) : ex G c 731 0 [(0, vR r0), (1, vR r1), (2, vI i2), (3, vI i3)] [] M = nn r0 (fun _ => pR M c 28 149 r0 r1 (fun M1 => pI M1 c 28 150 r0 i2 (fun M2 => pI M2 c 28 151 r0 i3 (fun M3 => rV M3)))) := ex_eq prg_731 rfl
/-- KeelHouse$Nest.<init>(LKeelHouse$Kind;II)V -/
theorem prg_732 : prg 732 = code_732 := rfl
theorem E732_0 (r0 : Option Nat) (r1 : Option Nat) (i2 : Int32) (i3 : Int32) : ex G c 732 0 [(0, vR r0), (1, vR r1), (2, vI i2), (3, vI i3)] [] M = nn r0 (fun _ => pR M c 30 153 r0 r1 (fun M1 => pI M1 c 30 154 r0 i2 (fun M2 => pI M2 c 30 155 r0 i3 (fun M3 => vc1 M3 30 r0 (fun a5 => cbI (ex G c 733 0 [(0, vR (some a5)), (1, vI 1)] [] M3) (fun v6 M4 => vc1 M4 30 r0 (fun a8 => cbI (ex G c 733 0 [(0, vR (some a8)), (1, vI 0)] [] M4) (fun v9 M7 => if v6 ≤ v9 then pZ M7 c 30 156 r0 1 (fun M10 => rV M10) else pZ M7 c 30 156 r0 0 (fun M11 => rV M11))))))))) := ex_eq prg_732 rfl
/-- KeelHouse$Nest.many(Z)I -/
theorem prg_733 : prg 733 = code_733 := rfl
theorem E733_0 (r0 : Option Nat) (i1 : Int32) : ex G c 733 0 [(0, vR r0), (1, vI i1)] [] M = gI M 30 154 r0 (fun v1 => vc1 M 30 r0 (fun a3 => cbI (ex G c 734 0 [(0, vR (some a3)), (1, vI 1), (2, vI i1)] [] M) (fun v4 M2 => cbI (ex G c 198 0 [(0, vI v1), (1, vI v4)] [] M2) (fun v6 M5 => gI M5 30 155 r0 (fun v7 => vc1 M5 30 r0 (fun a9 => cbI (ex G c 734 0 [(0, vR (some a9)), (1, vI 0), (2, vI i1)] [] M5) (fun v10 M8 => cbI (ex G c 198 0 [(0, vI v7), (1, vI v10)] [] M8) (fun v12 M11 => rI (aMul v6 v12) M11)))))))) := ex_eq prg_733 rfl
/-- KeelHouse$Nest.measure(ZZ)I -/
theorem prg_734 : prg 734 = code_734 := rfl
theorem E734_0 (r0 : Option Nat) (i1 : Int32) (i2 : Int32) : ex G c 734 0 [(0, vR r0), (1, vI i1), (2, vI i2)] [] M = if i1 = i2 then gR M 30 153 r0 (fun r_1 => gI M 27 144 r_1 (fun v2 => rI v2 M)) else gR M 30 153 r0 (fun r_3 => gI M 27 143 r_3 (fun v4 => rI v4 M)) := ex_eq prg_734 rfl
/-- KeelHouse$Nest.many()I -/
theorem prg_735 : prg 735 = code_735 := rfl
theorem E735_0 (r0 : Option Nat) : ex G c 735 0 [(0, vR r0)] [] M = gI M 30 156 r0 (fun v1 => vc1 M 30 r0 (fun a3 => cbI (ex G c 733 0 [(0, vR (some a3)), (1, vI v1)] [] M) (fun v4 M2 => rI v4 M2))) := ex_eq prg_735 rfl
/-- KeelHouse$Nest.leave(LKeelHouse$Store;)V -/
theorem prg_736 : prg 736 = code_736 := rfl
theorem E736_0 (r0 : Option Nat) (r1 : Option Nat) : ex G c 736 0 [(0, vR r0), (1, vR r1)] [] M = gI M 30 156 r0 (fun v1 => vc1 M 30 r0 (fun a3 => cbI (ex G c 734 0 [(0, vR (some a3)), (1, vI 1), (2, vI v1)] [] M) (fun v4 M2 => gI M2 30 156 r0 (fun v5 => vc1 M2 30 r0 (fun a7 => cbI (ex G c 734 0 [(0, vR (some a7)), (1, vI 0), (2, vI v5)] [] M2) (fun v8 M6 => gI M6 30 154 r0 (fun v9 => cbI (ex G c 198 0 [(0, vI v9), (1, vI v4)] [] M6) (fun v11 M10 => gI M10 30 154 r0 (fun v12 => nmI (aSub (aMul v11 v4) v12) (fun v13 => gI M10 30 155 r0 (fun v14 => cbI (ex G c 198 0 [(0, vI v14), (1, vI v8)] [] M10) (fun v16 M15 => gI M15 30 155 r0 (fun v17 => nmI (aSub (aMul v16 v8) v17) (fun v18 => if v13 < 5 then ex G c 736 2 [(0, vR r0), (1, vR r1), (2, vI v4), (4, vI v13), (5, vI v18)] [] M15 else gR M15 30 153 r0 (fun r_19 => vc1 M15 4 r1 (fun a21 => cbV (ex G c 297 0 [(0, vR (some a21)), (1, vR r_19), (2, vI v13), (3, vI v8)] [] M15) (fun M20 => ex G c 736 2 [(0, vR r0), (1, vR r1), (2, vI v4), (4, vI v13), (5, vI v18)] [] M20))))))))))))))))) := ex_eq prg_736 rfl
theorem E736_2 (r0 : Option Nat) (r1 : Option Nat) (i2 : Int32) (i4 : Int32) (i5 : Int32) : ex G c 736 2 [(0, vR r0), (1, vR r1), (2, vI i2), (4, vI i4), (5, vI i5)] [] M = if i5 < 5 then rV M else gR M 30 153 r0 (fun r_1 => if i4 < 5 then vc1 M 4 r1 (fun a3 => cbV (ex G c 297 0 [(0, vR (some a3)), (1, vR r_1), (2, vI i5), (3, vI i2)] [] M) (fun M2 => rV M2)) else vc1 M 4 r1 (fun a5 => cbV (ex G c 297 0 [(0, vR (some a5)), (1, vR r_1), (2, vI i5), (3, vI (aSub i2 i4))] [] M) (fun M4 => rV M4))) := ex_eq prg_736 rfl
/-- KeelHouse$Offcut.area()I -/
theorem prg_737 : prg 737 = code_737 := rfl
theorem E737_0 (r0 : Option Nat) : ex G c 737 0 [(0, vR r0)] [] M = gI M 31 158 r0 (fun v1 => gI M 31 159 r0 (fun v2 => rI (aMul v1 v2) M)) := ex_eq prg_737 rfl
/-- KeelHouse$Offcut.covers(II)Z -/
theorem prg_738 : prg 738 = code_738 := rfl
theorem E738_0 (r0 : Option Nat) (i1 : Int32) (i2 : Int32) : ex G c 738 0 [(0, vR r0), (1, vI i1), (2, vI i2)] [] M = gI M 31 158 r0 (fun v1 => if v1 < i1 then ex G c 738 2 [(0, vR r0), (1, vI i1), (2, vI i2)] [] M else gI M 31 159 r0 (fun v2 => if v2 < i2 then ex G c 738 2 [(0, vR r0), (1, vI i1), (2, vI i2)] [] M else rZ 1 M)) := ex_eq prg_738 rfl
theorem E738_2 (r0 : Option Nat) (i1 : Int32) (i2 : Int32) : ex G c 738 2 [(0, vR r0), (1, vI i1), (2, vI i2)] [] M = gI M 31 159 r0 (fun v1 => if v1 < i1 then rZ 0 M else gI M 31 158 r0 (fun v2 => if v2 < i2 then rZ 0 M else rZ 1 M)) := ex_eq prg_738 rfl
/-- KeelHouse$Offcut.<init>(LKeelHouse$Kind;II)V -/
theorem prg_739 : prg 739 = code_739 := rfl
theorem E739_0 (r0 : Option Nat) (r1 : Option Nat) (i2 : Int32) (i3 : Int32) : ex G c 739 0 [(0, vR r0), (1, vR r1), (2, vI i2), (3, vI i3)] [] M = nn r0 (fun _ => pR M c 31 157 r0 r1 (fun M1 => pI M1 c 31 158 r0 i2 (fun M2 => pI M2 c 31 159 r0 i3 (fun M3 => rV M3)))) := ex_eq prg_739 rfl
/-- KeelHouse$Spot.cost()I -/
theorem prg_740 : prg 740 = code_740 := rfl
theorem E740_0 (r0 : Option Nat) : ex G c 740 0 [(0, vR r0)] [] M = rI 2 M := ex_eq prg_740 rfl
/-- KeelHouse$Pipe.isGood()Z -/
theorem prg_749 : prg 749 = code_749 := rfl
theorem E749_0 (r0 : Option Nat) : ex G c 749 0 [(0, vR r0)] [] M = gI M 32 163 r0 (fun v1 => if v1 = 0 then gI M 32 164 r0 (fun v2 => if v2 = 0 then rZ 1 M else rZ 0 M) else rZ 0 M) := ex_eq prg_749 rfl
/-- KeelHouse$Pipe.<init>(III)V -/
theorem prg_750 : prg 750 = code_750 := rfl
theorem E750_0 (r0 : Option Nat) (i1 : Int32) (i2 : Int32) (i3 : Int32) : ex G c 750 0 [(0, vR r0), (1, vI i1), (2, vI i2), (3, vI i3)] [] M = nn r0 (fun _ => pI M c 32 160 r0 i1 (fun M1 => pI M1 c 32 161 r0 i2 (fun M2 => pI M2 c 32 162 r0 i3 (fun M3 => rV M3)))) := ex_eq prg_750 rfl
/-- KeelHouse$Buyer.isFor(LKeelHouse$Ship;)Z -/
theorem prg_751 : prg 751 = code_751 := rfl
theorem E751_0 (r0 : Option Nat) (r1 : Option Nat) : ex G c 751 0 [(0, vR r0), (1, vR r1)] [] M = gI M 33 171 r0 (fun v1 => if v1 = 1 then gR M 33 172 r0 (fun r_2 => if r_2 = r1 then rZ 1 M else rZ 0 M) else rZ 0 M) := ex_eq prg_751 rfl
/-- KeelHouse$Buyer.tell(II)I -/
theorem prg_752 : prg 752 = code_752 := rfl
theorem E752_0 (r0 : Option Nat) (i1 : Int32) (i2 : Int32) : ex G c 752 0 [(0, vR r0), (1, vI i1), (2, vI i2)] [] M = if i1 = 0 then gI M 33 166 r0 (fun v1 => rI v1 M) else if i1 = 1 then gI M 33 167 r0 (fun v2 => rI v2 M) else if i1 = 2 then gI M 33 168 r0 (fun v3 => rI v3 M) else if i1 = 3 then gI M 33 169 r0 (fun v4 => rI v4 M) else if i1 = 4 then gI M 33 170 r0 (fun v5 => rI v5 M) else if i1 = 5 then gI M 33 171 r0 (fun v6 => rI v6 M) else if i1 = 6 then gR M 33 172 r0 (fun r_7 => if r_7 = none then rI (-1) M else gR M 33 172 r0 (fun r_8 => gI M 22 92 r_8 (fun v9 => rI v9 M))) else if i1 = 7 then gI M 33 173 r0 (fun v10 => rI v10 M) else if i1 = 8 then gI M 33 174 r0 (fun v11 => rI v11 M) else if i1 = 9 then gI M 33 175 r0 (fun v12 => rI v12 M) else vc1 M 33 r0 (fun a14 => cbI (ex G c 753 0 [(0, vR (some a14)), (1, vI i2)] [] M) (fun v15 M13 => rI v15 M13)) := ex_eq prg_752 rfl
/-- KeelHouse$Buyer.rival(I)I -/
theorem prg_753 : prg 753 = code_753 := rfl
theorem E753_0 (r0 : Option Nat) (i1 : Int32) : ex G c 753 0 [(0, vR r0), (1, vI i1)] [] M = gI M 33 166 r0 (fun v1 => gI M 33 167 r0 (fun v2 => gI M 33 168 r0 (fun v3 => cbI (ex G c 62 0 [(0, vI v3)] [] M) (fun v5 M4 => rI (aAdd (aAdd (aAdd (aMul 20 v1) (aMul 60 v2)) (aMul 30 v5)) (aMul 3 i1)) M4)))) := ex_eq prg_753 rfl
/-- KeelHouse$Buyer.<init>(IIIII)V -/
theorem prg_754 : prg 754 = code_754 := rfl
theorem E754_0 (r0 : Option Nat) (i1 : Int32) (i2 : Int32) (i3 : Int32) (i4 : Int32) (i5 : Int32) : ex G c 754 0 [(0, vR r0), (1, vI i1), (2, vI i2), (3, vI i3), (4, vI i4), (5, vI i5)] [] M = nn r0 (fun _ => pI M c 33 171 r0 0 (fun M1 => pI M1 c 33 166 r0 i1 (fun M2 => pI M2 c 33 167 r0 i2 (fun M3 => pI M3 c 33 168 r0 i3 (fun M4 => pI M4 c 33 169 r0 i4 (fun M5 => pI M5 c 33 170 r0 i5 (fun M6 => rV M6))))))) := ex_eq prg_754 rfl
/-- KeelHouse$Buyer.likes(LKeelHouse$Ship;DI)Z -/
theorem prg_755 : prg 755 = code_755 := rfl
theorem E755_0 (r0 : Option Nat) (r1 : Option Nat) (d2 : UInt64) (i4 : Int32) : ex G c 755 0 [(0, vR r0), (1, vR r1), (2, vD d2), (4, vI i4)] [] M = gR M 22 93 r1 (fun r_1 => gI M 16 63 r_1 (fun v2 => gI M 33 166 r0 (fun v3 => if v2 < v3 then rZ 0 M else gI M 33 167 r0 (fun v4 => if (dCmL d2 (i2D v4)) < 0 then rZ 0 M else gI M 33 168 r0 (fun v5 => if (aAnd i4 v5) = 0 then rZ 1 M else rZ 0 M))))) := ex_eq prg_755 rfl
/-- KeelHouse$Rule.of(I)LKeelHouse$Rule; -/
theorem prg_756 : prg 756 = code_756 := rfl
theorem E756_0 (i0 : Int32) : ex G c 756 0 [(0, vI i0)] [] M = if i0 = 0 then rR (G 64) M else if i0 = 1 then rR (G 63) M else if i0 = 2 then rR (G 62) M else if i0 = 3 then rR (G 61) M else if i0 = 4 then rR (G 60) M else if i0 = 5 then rR (G 59) M else if i0 = 6 then rR (G 58) M else rR (G 65) M := ex_eq prg_756 rfl
/-- KeelHouse$Rule.isBroken(LKeelHouse$Ship;)Z -/
theorem prg_757 : prg 757 = code_757 := rfl
theorem E757_0 (r0 : Option Nat) (r1 : Option Nat) : ex G c 757 0 [(0, vR r0), (1, vR r1)] [] M = gR M 22 99 r1 (fun r_1 => vc1 M 17 r_1 (fun a3 => cbV (ex G c 547 0 [(0, vR (some a3))] [] M) (fun M2 => nn r0 (fun a5 => dsg G a5 (fun m6 => dbI (ex G c m6 0 [(0, vR (some a5))] [] M2) (fun v7 M4 => if v7 = 0 then nn r0 (fun a9 => dsg G a9 (fun m10 => dbI (ex G c m10 0 [(0, vR (some a9)), (1, vR r1)] [] M4) (fun v11 M8 => if v11 = 0 then rZ 1 M8 else rZ 0 M8)) [64, 784, 63, 785, 62, 786, 61, 787, 60, 788, 59, 789, 58, 790, 65, 792]) else gR M4 22 99 r1 (fun r_12 => vc1 M4 17 r_12 (fun a14 => cbI (ex G c 549 0 [(0, vR (some a14))] [] M4) (fun v15 M13 => if v15 = 0 then rZ 1 M13 else nn r0 (fun a17 => dsg G a17 (fun m18 => dbI (ex G c m18 0 [(0, vR (some a17)), (1, vR r1)] [] M13) (fun v19 M16 => if v19 = 0 then rZ 1 M16 else rZ 0 M16)) [64, 784, 63, 785, 62, 786, 61, 787, 60, 788, 59, 789, 58, 790, 65, 792])))))) [64, 758, 63, 758, 62, 758, 61, 758, 60, 758, 59, 758, 58, 758, 65, 791])))) := ex_eq prg_757 rfl
/-- KeelHouse$Rule.isOfWater()Z -/
theorem prg_758 : prg 758 = code_758 := rfl
theorem E758_0 (r0 : Option Nat) : ex G c 758 0 [(0, vR r0)] [] M = rZ 1 M := ex_eq prg_758 rfl
/-- KeelHouse$Port.<init>(IIII)V -/
theorem prg_759 : prg 759 = code_759 := rfl
theorem E759_0 (r0 : Option Nat) (i1 : Int32) (i2 : Int32) (i3 : Int32) (i4 : Int32) : ex G c 759 0 [(0, vR r0), (1, vI i1), (2, vI i2), (3, vI i3), (4, vI i4)] [] M = nn r0 (fun _ => pI M c 34 176 r0 i1 (fun M1 => pI M1 c 34 177 r0 i2 (fun M2 => pI M2 c 34 178 r0 i3 (fun M3 => pI M3 c 34 179 r0 i4 (fun M4 => rV M4))))) := ex_eq prg_759 rfl
/-- KeelHouse$Port.way(LKeelHouse$Port;LKeelHouse$Port;)I -/
theorem prg_760 : prg 760 = code_760 := rfl
theorem E760_0 (r0 : Option Nat) (r1 : Option Nat) : ex G c 760 0 [(0, vR r0), (1, vR r1)] [] M = if r0 = none then ex G c 760 3 [(0, vR r0), (1, vR r1)] [vI 0] M else gI M 34 177 r0 (fun v1 => ex G c 760 3 [(0, vR r0), (1, vR r1)] [vI v1] M) := ex_eq prg_760 rfl
theorem E760_3 (r0 : Option Nat) (r1 : Option Nat) (si0 : Int32) : ex G c 760 3 [(0, vR r0), (1, vR r1)] [vI si0] M = if r1 = none then nmI (aSub si0 0) (fun v1 => if r0 = none then ex G c 760 9 [(1, vR r1), (2, vI v1)] [vI 0] M else gI M 34 178 r0 (fun v2 => ex G c 760 9 [(1, vR r1), (2, vI v1)] [vI v2] M)) else gI M 34 177 r1 (fun v3 => nmI (aSub si0 v3) (fun v4 => if r0 = none then ex G c 760 9 [(1, vR r1), (2, vI v4)] [vI 0] M else gI M 34 178 r0 (fun v5 => ex G c 760 9 [(1, vR r1), (2, vI v4)] [vI v5] M))) := ex_eq prg_760 rfl
theorem E760_9 (r1 : Option Nat) (i2 : Int32) (si0 : Int32) : ex G c 760 9 [(1, vR r1), (2, vI i2)] [vI si0] M = if r1 = none then nmI (aSub si0 0) (fun v1 => cbI (ex G c 70 0 [(0, vI i2)] [] M) (fun v3 M2 => cbI (ex G c 70 0 [(0, vI v1)] [] M2) (fun v5 M4 => rI (aMul (aAdd v3 v5) 5) M4))) else gI M 34 178 r1 (fun v6 => nmI (aSub si0 v6) (fun v7 => cbI (ex G c 70 0 [(0, vI i2)] [] M) (fun v9 M8 => cbI (ex G c 70 0 [(0, vI v7)] [] M8) (fun v11 M10 => rI (aMul (aAdd v9 v11) 5) M10)))) := ex_eq prg_760 rfl
/-- KeelHouse$Lot.tell(I)I -/
theorem prg_761 : prg 761 = code_761 := rfl
theorem E761_0 (r0 : Option Nat) (i1 : Int32) : ex G c 761 0 [(0, vR r0), (1, vI i1)] [] M = if i1 = 0 then gI M 35 186 r0 (fun v1 => rI v1 M) else if i1 = 1 then gR M 35 187 r0 (fun r_2 => if r_2 = none then rI (-1) M else gR M 35 187 r0 (fun r_3 => gI M 22 92 r_3 (fun v4 => rI v4 M))) else if i1 = 2 then gI M 35 188 r0 (fun v5 => rI v5 M) else gD M 35 189 r0 (fun x6 => fD (dMul (kD 4620693217682128896) x6) (fun x7 => rI (d2I x7) M)) := ex_eq prg_761 rfl
/-- KeelHouse$Lot.<init>(ILKeelHouse$Port;LKeelHouse$Port;III)V -/
theorem prg_762 : prg 762 = code_762 := rfl
theorem E762_0 (r0 : Option Nat) (i1 : Int32) (r2 : Option Nat) (r3 : Option Nat) (i4 : Int32) (i5 : Int32) (i6 : Int32) : ex G c 762 0 [(0, vR r0), (1, vI i1), (2, vR r2), (3, vR r3), (4, vI i4), (5, vI i5), (6, vI i6)] [] M = nn r0 (fun _ => pI M c 35 186 r0 0 (fun M1 => pI M1 c 35 188 r0 (-1) (fun M2 => pI M2 c 35 180 r0 i1 (fun M3 => pR M3 c 35 181 r0 r2 (fun M4 => pR M4 c 35 182 r0 r3 (fun M5 => pI M5 c 35 183 r0 i4 (fun M6 => pI M6 c 35 184 r0 i5 (fun M7 => pI M7 c 35 185 r0 i6 (fun M8 => rV M8))))))))) := ex_eq prg_762 rfl
/-- KeelHouse$Lot.board(LKeelHouse$Ship;I)V -/
theorem prg_763 : prg 763 = code_763 := rfl
theorem E763_0 (r0 : Option Nat) (r1 : Option Nat) (i2 : Int32) : ex G c 763 0 [(0, vR r0), (1, vR r1), (2, vI i2)] [] M = pI M c 35 186 r0 1 (fun M1 => pR M1 c 35 187 r0 r1 (fun M2 => pI M2 c 35 188 r0 i2 (fun M3 => pD M3 c 35 189 r0 FP.dconst0 (fun M4 => ex G c 763 1 [(0, vR r0), (1, vR r1), (3, vI 0)] [] M4)))) := ex_eq prg_763 rfl
theorem E763_1 (r0 : Option Nat) (r1 : Option Nat) (i3 : Int32) : ex G c 763 1 [(0, vR r0), (1, vR r1), (3, vI i3)] [] M = gR M 22 103 r1 (fun r_1 => vc1 M 5 r_1 (fun a3 => cbI (ex G c 5 0 [(0, vR (some a3))] [] M) (fun v4 M2 => if i3 < v4 then gR M2 22 103 r1 (fun r_5 => vc1 M2 5 r_5 (fun a7 => cbR (ex G c 6 0 [(0, vR (some a7)), (1, vI i3)] [] M2) (fun r_8 M6 => cst M6 [35] r_8 (gI M6 35 180 r_8 (fun v9 => gI M6 35 180 r0 (fun v10 => if v9 < v10 then ex G c 763 1 [(0, vR r0), (1, vR r1), (3, vI (aAdd i3 1))] [] M6 else gR M6 22 103 r1 (fun r_11 => vc1 M6 5 r_11 (fun a13 => cbV (ex G c 16 0 [(0, vR (some a13)), (1, vI i3), (2, vR r0)] [] M6) (fun M12 => rV M12))))))))) else gR M2 22 103 r1 (fun r_14 => vc1 M2 5 r_14 (fun a16 => cbV (ex G c 16 0 [(0, vR (some a16)), (1, vI i3), (2, vR r0)] [] M2) (fun M15 => rV M15)))))) := ex_eq prg_763 rfl
/-- KeelHouse$Lot.deliver()V -/
theorem prg_764 : prg 764 = code_764 := rfl
theorem E764_0 (r0 : Option Nat) : ex G c 764 0 [(0, vR r0)] [] M = pI M c 35 186 r0 2 (fun M1 => pR M1 c 35 187 r0 none (fun M2 => pI M2 c 35 188 r0 (-1) (fun M3 => rV M3))) := ex_eq prg_764 rfl
/-- KeelHouse$Account$1.number()I -/
theorem prg_769 : prg 769 = code_769 := rfl
theorem E769_0 (r0 : Option Nat) : ex G c 769 0 [(0, vR r0)] [] M = rI 0 M := ex_eq prg_769 rfl
/-- KeelHouse$Account$2.number()I -/
theorem prg_770 : prg 770 = code_770 := rfl
theorem E770_0 (r0 : Option Nat) : ex G c 770 0 [(0, vR r0)] [] M = rI 1 M := ex_eq prg_770 rfl
/-- KeelHouse$Account$3.number()I -/
theorem prg_771 : prg 771 = code_771 := rfl
theorem E771_0 (r0 : Option Nat) : ex G c 771 0 [(0, vR r0)] [] M = rI 2 M := ex_eq prg_771 rfl
/-- KeelHouse$Account$4.number()I -/
theorem prg_772 : prg 772 = code_772 := rfl
theorem E772_0 (r0 : Option Nat) : ex G c 772 0 [(0, vR r0)] [] M = rI 3 M := ex_eq prg_772 rfl
/-- KeelHouse$Account$5.number()I -/
theorem prg_773 : prg 773 = code_773 := rfl
theorem E773_0 (r0 : Option Nat) : ex G c 773 0 [(0, vR r0)] [] M = rI 4 M := ex_eq prg_773 rfl
/-- KeelHouse$Account$6.number()I -/
theorem prg_774 : prg 774 = code_774 := rfl
theorem E774_0 (r0 : Option Nat) : ex G c 774 0 [(0, vR r0)] [] M = rI 5 M := ex_eq prg_774 rfl
/-- KeelHouse$Account$7.number()I -/
theorem prg_775 : prg 775 = code_775 := rfl
theorem E775_0 (r0 : Option Nat) : ex G c 775 0 [(0, vR r0)] [] M = rI 6 M := ex_eq prg_775 rfl
/-- KeelHouse$Account$8.number()I -/
theorem prg_776 : prg 776 = code_776 := rfl
theorem E776_0 (r0 : Option Nat) : ex G c 776 0 [(0, vR r0)] [] M = rI 7 M := ex_eq prg_776 rfl
/-- KeelHouse$Account$9.number()I -/
theorem prg_777 : prg 777 = code_777 := rfl
theorem E777_0 (r0 : Option Nat) : ex G c 777 0 [(0, vR r0)] [] M = rI 8 M := ex_eq prg_777 rfl
/-- KeelHouse$Form$1.along(I)I -/
theorem prg_778 : prg 778 = code_778 := rfl
theorem E778_0 (r0 : Option Nat) (i1 : Int32) : ex G c 778 0 [(0, vR r0), (1, vI i1)] [] M = rI 8 M := ex_eq prg_778 rfl
/-- KeelHouse$Form$1.up(I)I -/
theorem prg_779 : prg 779 = code_779 := rfl
theorem E779_0 (r0 : Option Nat) (i1 : Int32) : ex G c 779 0 [(0, vR r0), (1, vI i1)] [] M = rI 8 M := ex_eq prg_779 rfl
/-- KeelHouse$Form$2.along(I)I -/
theorem prg_780 : prg 780 = code_780 := rfl
theorem E780_0 (r0 : Option Nat) (i1 : Int32) : ex G c 780 0 [(0, vR r0), (1, vI i1)] [] M = cbI (ex G c 207 0 [(0, vR (G 66)), (1, vI i1)] [] M) (fun v2 M1 => rI v2 M1) := ex_eq prg_780 rfl
/-- KeelHouse$Form$2.up(I)I -/
theorem prg_781 : prg 781 = code_781 := rfl
theorem E781_0 (r0 : Option Nat) (i1 : Int32) : ex G c 781 0 [(0, vR r0), (1, vI i1)] [] M = cbI (ex G c 207 0 [(0, vR (G 67)), (1, vI i1)] [] M) (fun v2 M1 => rI v2 M1) := ex_eq prg_781 rfl
/-- KeelHouse$Form$3.along(I)I -/
theorem prg_782 : prg 782 = code_782 := rfl
theorem E782_0 (r0 : Option Nat) (i1 : Int32) : ex G c 782 0 [(0, vR r0), (1, vI i1)] [] M = cbI (ex G c 207 0 [(0, vR (G 68)), (1, vI i1)] [] M) (fun v2 M1 => rI v2 M1) := ex_eq prg_782 rfl
/-- KeelHouse$Form$3.up(I)I -/
theorem prg_783 : prg 783 = code_783 := rfl
theorem E783_0 (r0 : Option Nat) (i1 : Int32) : ex G c 783 0 [(0, vR r0), (1, vI i1)] [] M = cbI (ex G c 207 0 [(0, vR (G 69)), (1, vI i1)] [] M) (fun v2 M1 => rI v2 M1) := ex_eq prg_783 rfl
/-- KeelHouse$Rule$1.isKept(LKeelHouse$Ship;)Z -/
theorem prg_784 : prg 784 = code_784 := rfl
theorem E784_0 (r0 : Option Nat) (r1 : Option Nat) : ex G c 784 0 [(0, vR r0), (1, vR r1)] [] M = gR M 22 99 r1 (fun r_1 => gD M 17 72 r_1 (fun x2 => gR M 22 93 r1 (fun r_3 => gI M 16 64 r_3 (fun v4 => fD (dMul (i2D v4) (kD 4604930618986332160)) (fun x5 => if (dCmG x2 x5) ≤ 0 then rZ 1 M else rZ 0 M))))) := ex_eq prg_784 rfl
/-- KeelHouse$Rule$2.isKept(LKeelHouse$Ship;)Z -/
theorem prg_785 : prg 785 = code_785 := rfl
theorem E785_0 (r0 : Option Nat) (r1 : Option Nat) : ex G c 785 0 [(0, vR r0), (1, vR r1)] [] M = gR M 22 99 r1 (fun r_1 => vc1 M 17 r_1 (fun a3 => cbD (ex G c 551 0 [(0, vR (some a3))] [] M) (fun x4 M2 => if (dCmL x4 (kD 4598175219545276416)) < 0 then rZ 0 M2 else gR M2 22 99 r1 (fun r_5 => vc1 M2 17 r_5 (fun a7 => cbI (ex G c 552 0 [(0, vR (some a7))] [] M2) (fun v8 M6 => if v8 ≤ 2 then rZ 1 M6 else rZ 0 M6)))))) := ex_eq prg_785 rfl
/-- KeelHouse$Rule$3.isKept(LKeelHouse$Ship;)Z -/
theorem prg_786 : prg 786 = code_786 := rfl
theorem E786_0 (r0 : Option Nat) (r1 : Option Nat) : ex G c 786 0 [(0, vR r0), (1, vR r1)] [] M = gR M 22 101 r1 (fun r_1 => vc1 M 19 r_1 (fun a3 => cbD (ex G c 565 0 [(0, vR (some a3)), (1, vI 0), (2, vI 0)] [] M) (fun x4 M2 => gI M2 22 107 r1 (fun v5 => if (dCmG x4 (i2D v5)) ≤ 0 then rZ 1 M2 else rZ 0 M2)))) := ex_eq prg_786 rfl
/-- KeelHouse$Rule$4.isKept(LKeelHouse$Ship;)Z -/
theorem prg_787 : prg 787 = code_787 := rfl
theorem E787_0 (r0 : Option Nat) (r1 : Option Nat) : ex G c 787 0 [(0, vR r0), (1, vR r1)] [] M = gR M 22 100 r1 (fun r_1 => vc1 M 18 r_1 (fun a3 => cbI (ex G c 556 0 [(0, vR (some a3))] [] M) (fun v4 M2 => if v4 < 3 then rZ 0 M2 else rZ 1 M2))) := ex_eq prg_787 rfl
/-- KeelHouse$Rule$5.isKept(LKeelHouse$Ship;)Z -/
theorem prg_788 : prg 788 = code_788 := rfl
theorem E788_0 (r0 : Option Nat) (r1 : Option Nat) : ex G c 788 0 [(0, vR r0), (1, vR r1)] [] M = gR M 22 97 r1 (fun r_1 => gR M 22 97 r1 (fun r_2 => vc1 M 20 r_2 (fun a4 => cbI (ex G c 525 0 [(0, vR (some a4))] [] M) (fun v5 M3 => vc1 M3 20 r_1 (fun a7 => cbD (ex G c 526 0 [(0, vR (some a7)), (1, vI v5)] [] M3) (fun x8 M6 => if (dCmL x8 (kD 4618441417868443648)) < 0 then rZ 0 M6 else rZ 1 M6)))))) := ex_eq prg_788 rfl
/-- KeelHouse$Rule$6.isKept(LKeelHouse$Ship;)Z -/
theorem prg_789 : prg 789 = code_789 := rfl
theorem E789_0 (r0 : Option Nat) (r1 : Option Nat) : ex G c 789 0 [(0, vR r0), (1, vR r1)] [] M = gR M 22 97 r1 (fun r_1 => gR M 20 87 r_1 (fun r_2 => vc1 M 13 r_2 (fun a4 => cbI (ex G c 530 0 [(0, vR (some a4))] [] M) (fun v5 M3 => if v5 ≤ 0 then rZ 0 M3 else gR M3 22 97 r1 (fun r_6 => gR M3 20 87 r_6 (fun r_7 => vc1 M3 13 r_7 (fun a9 => cbI (ex G c 541 0 [(0, vR (some a9))] [] M3) (fun v10 M8 => if (aMul v10 2) < v5 then rZ 0 M8 else rZ 1 M8)))))))) := ex_eq prg_789 rfl
/-- KeelHouse$Rule$7.isKept(LKeelHouse$Ship;)Z -/
theorem prg_790 : prg 790 = code_790 := rfl
theorem E790_0 (r0 : Option Nat) (r1 : Option Nat) : ex G c 790 0 [(0, vR r0), (1, vR r1)] [] M = gR M 22 99 r1 (fun r_1 => vc1 M 17 r_1 (fun a3 => cbD (ex G c 554 0 [(0, vR (some a3))] [] M) (fun x4 M2 => fD x4 (fun x5 => gR M2 22 93 r1 (fun r_6 => gI M2 16 63 r_6 (fun v7 => fD (dDiv (i2D v7) (kD 4630826316843712512)) (fun x8 => if (dCmG (dAbs x5) x8) ≤ 0 then rZ 1 M2 else rZ 0 M2))))))) := ex_eq prg_790 rfl
/-- KeelHouse$Rule$8.isOfWater()Z -/
theorem prg_791 : prg 791 = code_791 := rfl
theorem E791_0 (r0 : Option Nat) : ex G c 791 0 [(0, vR r0)] [] M = rZ 0 M := ex_eq prg_791 rfl
/-- KeelHouse$Rule$8.isKept(LKeelHouse$Ship;)Z -/
theorem prg_792 : prg 792 = code_792 := rfl
theorem E792_0 (r0 : Option Nat) (r1 : Option Nat) : ex G c 792 0 [(0, vR r0), (1, vR r1)] [] M = gI M 22 110 r1 (fun v1 => if v1 ≤ 8 then rZ 1 M else rZ 0 M) := ex_eq prg_792 rfl
/-- KeelHouse$Sea$1.swell(I)I -/
theorem prg_793 : prg 793 = code_793 := rfl
theorem E793_0 (r0 : Option Nat) (i1 : Int32) : ex G c 793 0 [(0, vR r0), (1, vI i1)] [] M = rI 0 M := ex_eq prg_793 rfl
/-- KeelHouse$Sea$2.swell(I)I -/
theorem prg_794 : prg 794 = code_794 := rfl
theorem E794_0 (r0 : Option Nat) (i1 : Int32) : ex G c 794 0 [(0, vR r0), (1, vI i1)] [] M = cbI (ex G c 70 0 [(0, vI (aSub i1 3))] [] M) (fun v2 M1 => if v2 = 0 then rI (-4) M1 else if v2 = 1 then rI (-3) M1 else if v2 = 2 then rI 1 M1 else rI 4 M1) := ex_eq prg_794 rfl
/-- KeelHouse$Spot$1.room()I -/
theorem prg_795 : prg 795 = code_795 := rfl
theorem E795_0 (r0 : Option Nat) : ex G c 795 0 [(0, vR r0)] [] M = rI 60 M := ex_eq prg_795 rfl
/-- KeelHouse$Spot$1.deep()I -/
theorem prg_796 : prg 796 = code_796 := rfl
theorem E796_0 (r0 : Option Nat) : ex G c 796 0 [(0, vR r0)] [] M = rI 10 M := ex_eq prg_796 rfl
/-- KeelHouse$Spot$2.room()I -/
theorem prg_797 : prg 797 = code_797 := rfl
theorem E797_0 (r0 : Option Nat) : ex G c 797 0 [(0, vR r0)] [] M = rI 90 M := ex_eq prg_797 rfl
/-- KeelHouse$Spot$2.deep()I -/
theorem prg_798 : prg 798 = code_798 := rfl
theorem E798_0 (r0 : Option Nat) : ex G c 798 0 [(0, vR r0)] [] M = rI 0 M := ex_eq prg_798 rfl
/-- KeelHouse$Spot$3.room()I -/
theorem prg_799 : prg 799 = code_799 := rfl
theorem E799_0 (r0 : Option Nat) : ex G c 799 0 [(0, vR r0)] [] M = rI 70 M := ex_eq prg_799 rfl
/-- KeelHouse$Spot$3.deep()I -/
theorem prg_800 : prg 800 = code_800 := rfl
theorem E800_0 (r0 : Option Nat) : ex G c 800 0 [(0, vR r0)] [] M = rI 25 M := ex_eq prg_800 rfl
/-- KeelHouse$Spot$3.cost()I -/
theorem prg_801 : prg 801 = code_801 := rfl
theorem E801_0 (r0 : Option Nat) : ex G c 801 0 [(0, vR r0)] [] M = rI 9 M := ex_eq prg_801 rfl
/-- KeelHouse$Spot$4.room()I -/
theorem prg_802 : prg 802 = code_802 := rfl
theorem E802_0 (r0 : Option Nat) : ex G c 802 0 [(0, vR r0)] [] M = rI 50 M := ex_eq prg_802 rfl
/-- KeelHouse$Spot$4.deep()I -/
theorem prg_803 : prg 803 = code_803 := rfl
theorem E803_0 (r0 : Option Nat) : ex G c 803 0 [(0, vR r0)] [] M = rI 5 M := ex_eq prg_803 rfl
/-- KeelHouse$Spot$5.room()I -/
theorem prg_804 : prg 804 = code_804 := rfl
theorem E804_0 (r0 : Option Nat) : ex G c 804 0 [(0, vR r0)] [] M = rI 70 M := ex_eq prg_804 rfl
/-- KeelHouse$Spot$5.deep()I -/
theorem prg_805 : prg 805 = code_805 := rfl
theorem E805_0 (r0 : Option Nat) : ex G c 805 0 [(0, vR r0)] [] M = rI 15 M := ex_eq prg_805 rfl
/-- KeelHouse$Spot$6.room()I -/
theorem prg_806 : prg 806 = code_806 := rfl
theorem E806_0 (r0 : Option Nat) : ex G c 806 0 [(0, vR r0)] [] M = rI 90 M := ex_eq prg_806 rfl
/-- KeelHouse$Spot$6.deep()I -/
theorem prg_807 : prg 807 = code_807 := rfl
theorem E807_0 (r0 : Option Nat) : ex G c 807 0 [(0, vR r0)] [] M = rI 25 M := ex_eq prg_807 rfl
/-- KeelHouse$Stage$1.word()Ljava/lang/String; -/
theorem prg_808 : prg 808 = code_808 := rfl
theorem E808_0 (r0 : Option Nat) : ex G c 808 0 [(0, vR r0)] [] M = rR (G 41) M := ex_eq prg_808 rfl
/-- KeelHouse$Stage$2.word()Ljava/lang/String; -/
theorem prg_809 : prg 809 = code_809 := rfl
theorem E809_0 (r0 : Option Nat) : ex G c 809 0 [(0, vR r0)] [] M = rR (G 42) M := ex_eq prg_809 rfl
/-- KeelHouse$Stage$3.isWet()Z -/
theorem prg_810 : prg 810 = code_810 := rfl
theorem E810_0 (r0 : Option Nat) : ex G c 810 0 [(0, vR r0)] [] M = rZ 1 M := ex_eq prg_810 rfl
/-- KeelHouse$Stage$3.word()Ljava/lang/String; -/
theorem prg_811 : prg 811 = code_811 := rfl
theorem E811_0 (r0 : Option Nat) : ex G c 811 0 [(0, vR r0)] [] M = rR (G 43) M := ex_eq prg_811 rfl
/-- KeelHouse$Stage$4.isWet()Z -/
theorem prg_812 : prg 812 = code_812 := rfl
theorem E812_0 (r0 : Option Nat) : ex G c 812 0 [(0, vR r0)] [] M = rZ 1 M := ex_eq prg_812 rfl
/-- KeelHouse$Stage$4.word()Ljava/lang/String; -/
theorem prg_813 : prg 813 = code_813 := rfl
theorem E813_0 (r0 : Option Nat) : ex G c 813 0 [(0, vR r0)] [] M = rR (G 44) M := ex_eq prg_813 rfl
/-- KeelHouse$Stage$5.isGone()Z -/
theorem prg_814 : prg 814 = code_814 := rfl
theorem E814_0 (r0 : Option Nat) : ex G c 814 0 [(0, vR r0)] [] M = rZ 1 M := ex_eq prg_814 rfl
/-- KeelHouse$Stage$5.word()Ljava/lang/String; -/
theorem prg_815 : prg 815 = code_815 := rfl
theorem E815_0 (r0 : Option Nat) : ex G c 815 0 [(0, vR r0)] [] M = rR (G 45) M := ex_eq prg_815 rfl
/-- KeelHouse$Stage$6.isGone()Z -/
theorem prg_816 : prg 816 = code_816 := rfl
theorem E816_0 (r0 : Option Nat) : ex G c 816 0 [(0, vR r0)] [] M = rZ 1 M := ex_eq prg_816 rfl
/-- KeelHouse$Stage$6.word()Ljava/lang/String; -/
theorem prg_817 : prg 817 = code_817 := rfl
theorem E817_0 (r0 : Option Nat) : ex G c 817 0 [(0, vR r0)] [] M = rR (G 46) M := ex_eq prg_817 rfl
/-- KeelHouse$Load.side()D -/
theorem prg_818 : prg 818 = code_818 := rfl
theorem E818_0 (r0 : Option Nat) : ex G c 818 0 [(0, vR r0)] [] M = rD FP.dconst0 M := ex_eq prg_818 rfl
end EQ
