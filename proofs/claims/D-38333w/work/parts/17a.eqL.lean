/-! the equations of the methods -/
set_option maxRecDepth 100000
section EQ
variable (G : Nat → Option Nat) (M : Mem)
/-- KeelHouseLaw.draw(LKeelHouse;IIIILKeelHouseLaw$Out;)I -/
theorem prg_118 : prg 118 = code_118 := rfl
theorem E118_0 (r0 : Option Nat) (i1 : Int32) (i2 : Int32) (i3 : Int32) (i4 : Int32) (r5 : Option Nat) : ex G 3 118 0 [(0, vR r0), (1, vI i1), (2, vI i2), (3, vI i3), (4, vI i4), (5, vR r5)] [] M = vc1 M 1 r0 (fun a2 => ctH (ex G 1 202 0 [(0, vR (some a2)), (1, vI i1), (2, vI i2), (3, vI i3), (4, vI i4)] [] M) [(1, fun M6 => rI 1 M6), (2, fun M7 => rI 2 M7)] (fun y5 => cbI y5 (fun v8 M1 => pJ M1 3 21 89 r5 (i2J v8) (fun M9 => rI 0 M9)))) := ex_eq prg_118 rfl
/-- KeelHouseLaw.offset(LKeelHouse;IIIILKeelHouseLaw$Out;)I -/
theorem prg_119 : prg 119 = code_119 := rfl
theorem E119_0 (r0 : Option Nat) (i1 : Int32) (i2 : Int32) (i3 : Int32) (i4 : Int32) (r5 : Option Nat) : ex G 3 119 0 [(0, vR r0), (1, vI i1), (2, vI i2), (3, vI i3), (4, vI i4), (5, vR r5)] [] M = vc1 M 1 r0 (fun a2 => ctH (ex G 1 208 0 [(0, vR (some a2)), (1, vI i1), (2, vI i2), (3, vI i3), (4, vI i4)] [] M) [(3, fun M6 => rI 1 M6), (1, fun M7 => rI 2 M7), (2, fun M8 => rI 3 M8)] (fun y5 => cbI y5 (fun v9 M1 => pJ M1 3 21 89 r5 (i2J v9) (fun M10 => rI 0 M10)))) := ex_eq prg_119 rfl
/-- KeelHouseLaw.fair(LKeelHouse;ILKeelHouseLaw$Out;)I -/
theorem prg_120 : prg 120 = code_120 := rfl
theorem E120_0 (r0 : Option Nat) (i1 : Int32) (r2 : Option Nat) : ex G 3 120 0 [(0, vR r0), (1, vI i1), (2, vR r2)] [] M = vc1 M 1 r0 (fun a2 => ctH (ex G 1 211 0 [(0, vR (some a2)), (1, vI i1)] [] M) [(3, fun M6 => rI 1 M6), (2, fun M7 => rI 2 M7)] (fun y5 => cbI y5 (fun v8 M1 => pJ M1 3 21 89 r2 (i2J v8) (fun M9 => rI 0 M9)))) := ex_eq prg_120 rfl
/-- KeelHouseLaw.hull(LKeelHouse;IILKeelHouseLaw$Out;)I -/
theorem prg_121 : prg 121 = code_121 := rfl
theorem E121_0 (r0 : Option Nat) (i1 : Int32) (i2 : Int32) (r3 : Option Nat) : ex G 3 121 0 [(0, vR r0), (1, vI i1), (2, vI i2), (3, vR r3)] [] M = vc1 M 1 r0 (fun a2 => ctH (ex G 1 212 0 [(0, vR (some a2)), (1, vI i1), (2, vI i2)] [] M) [(3, fun M6 => rI 1 M6), (1, fun M7 => rI 2 M7)] (fun y5 => cbI y5 (fun v8 M1 => pJ M1 3 21 89 r3 (i2J v8) (fun M9 => rI 0 M9)))) := ex_eq prg_121 rfl
/-- KeelHouseLaw.water(LKeelHouse;IIILKeelHouseLaw$Out;)I -/
theorem prg_122 : prg 122 = code_122 := rfl
theorem E122_0 (r0 : Option Nat) (i1 : Int32) (i2 : Int32) (i3 : Int32) (r4 : Option Nat) : ex G 3 122 0 [(0, vR r0), (1, vI i1), (2, vI i2), (3, vI i3), (4, vR r4)] [] M = vc1 M 1 r0 (fun a2 => ctH (ex G 1 213 0 [(0, vR (some a2)), (1, vI i1), (2, vI i2), (3, vI i3)] [] M) [(3, fun M6 => rI 1 M6), (1, fun M7 => rI 2 M7)] (fun y5 => cbD y5 (fun x8 M1 => pD M1 3 21 90 r4 x8 (fun M9 => rI 0 M9)))) := ex_eq prg_122 rfl
/-- KeelHouseLaw.draught(LKeelHouse;IILKeelHouseLaw$Out;)I -/
theorem prg_123 : prg 123 = code_123 := rfl
theorem E123_0 (r0 : Option Nat) (i1 : Int32) (i2 : Int32) (r3 : Option Nat) : ex G 3 123 0 [(0, vR r0), (1, vI i1), (2, vI i2), (3, vR r3)] [] M = vc1 M 1 r0 (fun a2 => ctH (ex G 1 215 0 [(0, vR (some a2)), (1, vI i1), (2, vI i2)] [] M) [(3, fun M6 => rI 1 M6), (1, fun M7 => rI 2 M7)] (fun y5 => cbD y5 (fun x8 M1 => pD M1 3 21 90 r3 x8 (fun M9 => rI 0 M9)))) := ex_eq prg_123 rfl
/-- KeelHouseLaw.put(LKeelHouse;IIIIILKeelHouseLaw$Out;)I -/
theorem prg_124 : prg 124 = code_124 := rfl
theorem E124_0 (r0 : Option Nat) (i1 : Int32) (i2 : Int32) (i3 : Int32) (i4 : Int32) (i5 : Int32) (r6 : Option Nat) : ex G 3 124 0 [(0, vR r0), (1, vI i1), (2, vI i2), (3, vI i3), (4, vI i4), (5, vI i5), (6, vR r6)] [] M = vc1 M 1 r0 (fun a2 => ctH (ex G 1 216 0 [(0, vR (some a2)), (1, vI i1), (2, vI i2), (3, vI i3), (4, vI i4), (5, vI i5)] [] M) [(3, fun M6 => rI 1 M6), (1, fun M7 => rI 2 M7), (2, fun M8 => rI 3 M8)] (fun y5 => cbI y5 (fun v9 M1 => pJ M1 3 21 89 r6 (i2J v9) (fun M10 => rI 0 M10)))) := ex_eq prg_124 rfl
/-- KeelHouseLaw.take(LKeelHouse;IILKeelHouseLaw$Out;)I -/
theorem prg_125 : prg 125 = code_125 := rfl
theorem E125_0 (r0 : Option Nat) (i1 : Int32) (i2 : Int32) (r3 : Option Nat) : ex G 3 125 0 [(0, vR r0), (1, vI i1), (2, vI i2), (3, vR r3)] [] M = vc1 M 1 r0 (fun a2 => ctH (ex G 1 217 0 [(0, vR (some a2)), (1, vI i1), (2, vI i2)] [] M) [(3, fun M6 => rI 1 M6), (2, fun M7 => rI 2 M7)] (fun y5 => cbI y5 (fun v8 M1 => pJ M1 3 21 89 r3 (i2J v8) (fun M9 => rI 0 M9)))) := ex_eq prg_125 rfl
/-- KeelHouseLaw.fill(LKeelHouse;IILKeelHouseLaw$Out;)I -/
theorem prg_126 : prg 126 = code_126 := rfl
theorem E126_0 (r0 : Option Nat) (i1 : Int32) (i2 : Int32) (r3 : Option Nat) : ex G 3 126 0 [(0, vR r0), (1, vI i1), (2, vI i2), (3, vR r3)] [] M = vc1 M 1 r0 (fun a2 => ctH (ex G 1 218 0 [(0, vR (some a2)), (1, vI i1), (2, vI i2)] [] M) [(3, fun M6 => rI 1 M6), (1, fun M7 => rI 2 M7), (2, fun M8 => rI 3 M8)] (fun y5 => cbI y5 (fun v9 M1 => pJ M1 3 21 89 r3 (i2J v9) (fun M10 => rI 0 M10)))) := ex_eq prg_126 rfl
/-- KeelHouseLaw.bulkheads(LKeelHouse;IILKeelHouseLaw$Out;)I -/
theorem prg_127 : prg 127 = code_127 := rfl
theorem E127_0 (r0 : Option Nat) (i1 : Int32) (i2 : Int32) (r3 : Option Nat) : ex G 3 127 0 [(0, vR r0), (1, vI i1), (2, vI i2), (3, vR r3)] [] M = vc1 M 1 r0 (fun a2 => ctH (ex G 1 220 0 [(0, vR (some a2)), (1, vI i1), (2, vI i2)] [] M) [(3, fun M6 => rI 1 M6), (1, fun M7 => rI 2 M7), (2, fun M8 => rI 3 M8)] (fun y5 => cbI y5 (fun v9 M1 => pJ M1 3 21 89 r3 (i2J v9) (fun M10 => rI 0 M10)))) := ex_eq prg_127 rfl
/-- KeelHouseLaw.floats(LKeelHouse;IILKeelHouseLaw$Out;)I -/
theorem prg_128 : prg 128 = code_128 := rfl
theorem E128_0 (r0 : Option Nat) (i1 : Int32) (i2 : Int32) (r3 : Option Nat) : ex G 3 128 0 [(0, vR r0), (1, vI i1), (2, vI i2), (3, vR r3)] [] M = vc1 M 1 r0 (fun a2 => ctH (ex G 1 221 0 [(0, vR (some a2)), (1, vI i1), (2, vI i2)] [] M) [(3, fun M6 => rI 1 M6), (1, fun M7 => rI 2 M7)] (fun y5 => cbD y5 (fun x8 M1 => pD M1 3 21 90 r3 x8 (fun M9 => rI 0 M9)))) := ex_eq prg_128 rfl
/-- KeelHouseLaw.flood(LKeelHouse;IIZLKeelHouseLaw$Out;)I -/
theorem prg_129 : prg 129 = code_129 := rfl
theorem E129_0 (r0 : Option Nat) (i1 : Int32) (i2 : Int32) (i3 : Int32) (r4 : Option Nat) : ex G 3 129 0 [(0, vR r0), (1, vI i1), (2, vI i2), (3, vI i3), (4, vR r4)] [] M = vc1 M 1 r0 (fun a2 => ctH (ex G 1 222 0 [(0, vR (some a2)), (1, vI i1), (2, vI i2), (3, vI i3)] [] M) [(3, fun M6 => rI 1 M6), (1, fun M7 => rI 2 M7)] (fun y5 => cbD y5 (fun x8 M1 => pD M1 3 21 90 r4 x8 (fun M9 => rI 0 M9)))) := ex_eq prg_129 rfl
/-- KeelHouseLaw.survives(LKeelHouse;ILKeelHouseLaw$Out;)I -/
theorem prg_130 : prg 130 = code_130 := rfl
theorem E130_0 (r0 : Option Nat) (i1 : Int32) (r2 : Option Nat) : ex G 3 130 0 [(0, vR r0), (1, vI i1), (2, vR r2)] [] M = vc1 M 1 r0 (fun a2 => ctH (ex G 1 223 0 [(0, vR (some a2)), (1, vI i1)] [] M) [(3, fun M6 => rI 1 M6)] (fun y5 => cbI y5 (fun v7 M1 => pJ M1 3 21 89 r2 (i2J v7) (fun M8 => rI 0 M8)))) := ex_eq prg_130 rfl
/-- KeelHouseLaw.plan(LKeelHouse;IIIIILKeelHouseLaw$Out;)I -/
theorem prg_131 : prg 131 = code_131 := rfl
theorem E131_0 (r0 : Option Nat) (i1 : Int32) (i2 : Int32) (i3 : Int32) (i4 : Int32) (i5 : Int32) (r6 : Option Nat) : ex G 3 131 0 [(0, vR r0), (1, vI i1), (2, vI i2), (3, vI i3), (4, vI i4), (5, vI i5), (6, vR r6)] [] M = vc1 M 1 r0 (fun a2 => ctH (ex G 1 224 0 [(0, vR (some a2)), (1, vI i1), (2, vI i2), (3, vI i3), (4, vI i4), (5, vI i5)] [] M) [(3, fun M6 => rI 1 M6), (1, fun M7 => rI 2 M7), (2, fun M8 => rI 3 M8)] (fun y5 => cbI y5 (fun v9 M1 => pJ M1 3 21 89 r6 (i2J v9) (fun M10 => rI 0 M10)))) := ex_eq prg_131 rfl
/-- KeelHouseLaw.limit(LKeelHouse;IILKeelHouseLaw$Out;)I -/
theorem prg_132 : prg 132 = code_132 := rfl
theorem E132_0 (r0 : Option Nat) (i1 : Int32) (i2 : Int32) (r3 : Option Nat) : ex G 3 132 0 [(0, vR r0), (1, vI i1), (2, vI i2), (3, vR r3)] [] M = vc1 M 1 r0 (fun a2 => ctH (ex G 1 225 0 [(0, vR (some a2)), (1, vI i1), (2, vI i2)] [] M) [(3, fun M6 => rI 1 M6), (1, fun M7 => rI 2 M7)] (fun y5 => cbI y5 (fun v8 M1 => pJ M1 3 21 89 r3 (i2J v8) (fun M9 => rI 0 M9)))) := ex_eq prg_132 rfl
/-- KeelHouseLaw.lighten(LKeelHouse;ILKeelHouseLaw$Out;)I -/
theorem prg_133 : prg 133 = code_133 := rfl
theorem E133_0 (r0 : Option Nat) (i1 : Int32) (r2 : Option Nat) : ex G 3 133 0 [(0, vR r0), (1, vI i1), (2, vR r2)] [] M = vc1 M 1 r0 (fun a2 => ctH (ex G 1 226 0 [(0, vR (some a2)), (1, vI i1)] [] M) [(3, fun M6 => rI 1 M6), (2, fun M7 => rI 2 M7)] (fun y5 => cbI y5 (fun v8 M1 => pJ M1 3 21 89 r2 (i2J v8) (fun M9 => rI 0 M9)))) := ex_eq prg_133 rfl
/-- KeelHouseLaw.strake(LKeelHouse;IIILKeelHouseLaw$Out;)I -/
theorem prg_134 : prg 134 = code_134 := rfl
theorem E134_0 (r0 : Option Nat) (i1 : Int32) (i2 : Int32) (i3 : Int32) (r4 : Option Nat) : ex G 3 134 0 [(0, vR r0), (1, vI i1), (2, vI i2), (3, vI i3), (4, vR r4)] [] M = vc1 M 1 r0 (fun a2 => ctH (ex G 1 227 0 [(0, vR (some a2)), (1, vI i1), (2, vI i2), (3, vI i3)] [] M) [(3, fun M6 => rI 1 M6), (1, fun M7 => rI 2 M7)] (fun y5 => cbI y5 (fun v8 M1 => pJ M1 3 21 89 r4 (i2J v8) (fun M9 => rI 0 M9)))) := ex_eq prg_134 rfl
/-- KeelHouseLaw.test(LKeelHouse;IIZILKeelHouseLaw$Out;)I -/
theorem prg_135 : prg 135 = code_135 := rfl
theorem E135_0 (r0 : Option Nat) (i1 : Int32) (i2 : Int32) (i3 : Int32) (i4 : Int32) (r5 : Option Nat) : ex G 3 135 0 [(0, vR r0), (1, vI i1), (2, vI i2), (3, vI i3), (4, vI i4), (5, vR r5)] [] M = vc1 M 1 r0 (fun a2 => ctH (ex G 1 228 0 [(0, vR (some a2)), (1, vI i1), (2, vI i2), (3, vI i3), (4, vI i4)] [] M) [(3, fun M6 => rI 1 M6), (1, fun M7 => rI 2 M7)] (fun y5 => cbD y5 (fun x8 M1 => pD M1 3 21 90 r5 x8 (fun M9 => rI 0 M9)))) := ex_eq prg_135 rfl
/-- KeelHouseLaw.weakest(LKeelHouse;IZLKeelHouseLaw$Out;)I -/
theorem prg_136 : prg 136 = code_136 := rfl
theorem E136_0 (r0 : Option Nat) (i1 : Int32) (i2 : Int32) (r3 : Option Nat) : ex G 3 136 0 [(0, vR r0), (1, vI i1), (2, vI i2), (3, vR r3)] [] M = vc1 M 1 r0 (fun a2 => ctH (ex G 1 229 0 [(0, vR (some a2)), (1, vI i1), (2, vI i2)] [] M) [(3, fun M6 => rI 1 M6)] (fun y5 => cbI y5 (fun v7 M1 => pJ M1 3 21 89 r3 (i2J v7) (fun M8 => rI 0 M8)))) := ex_eq prg_136 rfl
/-- KeelHouseLaw.sheets(LKeelHouse;IIIIILKeelHouseLaw$Out;)I -/
theorem prg_137 : prg 137 = code_137 := rfl
theorem E137_0 (r0 : Option Nat) (i1 : Int32) (i2 : Int32) (i3 : Int32) (i4 : Int32) (i5 : Int32) (r6 : Option Nat) : ex G 3 137 0 [(0, vR r0), (1, vI i1), (2, vI i2), (3, vI i3), (4, vI i4), (5, vI i5), (6, vR r6)] [] M = vc1 M 1 r0 (fun a2 => ctH (ex G 1 230 0 [(0, vR (some a2)), (1, vI i1), (2, vI i2), (3, vI i3), (4, vI i4), (5, vI i5)] [] M) [(1, fun M6 => rI 1 M6), (2, fun M7 => rI 2 M7)] (fun y5 => cbI y5 (fun v8 M1 => pJ M1 3 21 89 r6 (i2J v8) (fun M9 => rI 0 M9)))) := ex_eq prg_137 rfl
/-- KeelHouseLaw.order(LKeelHouse;IILKeelHouseLaw$Out;)I -/
theorem prg_138 : prg 138 = code_138 := rfl
theorem E138_0 (r0 : Option Nat) (i1 : Int32) (i2 : Int32) (r3 : Option Nat) : ex G 3 138 0 [(0, vR r0), (1, vI i1), (2, vI i2), (3, vR r3)] [] M = vc1 M 1 r0 (fun a2 => ctH (ex G 1 231 0 [(0, vR (some a2)), (1, vI i1), (2, vI i2)] [] M) [(3, fun M6 => rI 1 M6), (1, fun M7 => rI 2 M7), (2, fun M8 => rI 3 M8)] (fun y5 => cbI y5 (fun v9 M1 => pJ M1 3 21 89 r3 (i2J v9) (fun M10 => rI 0 M10)))) := ex_eq prg_138 rfl
/-- KeelHouseLaw.cut(LKeelHouse;IIIILKeelHouseLaw$Out;)I -/
theorem prg_139 : prg 139 = code_139 := rfl
theorem E139_0 (r0 : Option Nat) (i1 : Int32) (i2 : Int32) (i3 : Int32) (i4 : Int32) (r5 : Option Nat) : ex G 3 139 0 [(0, vR r0), (1, vI i1), (2, vI i2), (3, vI i3), (4, vI i4), (5, vR r5)] [] M = vc1 M 1 r0 (fun a2 => ctH (ex G 1 232 0 [(0, vR (some a2)), (1, vI i1), (2, vI i2), (3, vI i3), (4, vI i4)] [] M) [(3, fun M6 => rI 1 M6), (1, fun M7 => rI 2 M7), (2, fun M8 => rI 3 M8)] (fun y5 => cbI y5 (fun v9 M1 => pJ M1 3 21 89 r5 (i2J v9) (fun M10 => rI 0 M10)))) := ex_eq prg_139 rfl
/-- KeelHouseLaw.cutAll(LKeelHouse;IILKeelHouseLaw$Out;)I -/
theorem prg_140 : prg 140 = code_140 := rfl
theorem E140_0 (r0 : Option Nat) (i1 : Int32) (i2 : Int32) (r3 : Option Nat) : ex G 3 140 0 [(0, vR r0), (1, vI i1), (2, vI i2), (3, vR r3)] [] M = vc1 M 1 r0 (fun a2 => ctH (ex G 1 234 0 [(0, vR (some a2)), (1, vI i1), (2, vI i2)] [] M) [(3, fun M6 => rI 1 M6)] (fun y5 => cbI y5 (fun v7 M1 => pJ M1 3 21 89 r3 (i2J v7) (fun M8 => rI 0 M8)))) := ex_eq prg_140 rfl
/-- KeelHouseLaw.scrap(LKeelHouse;ILKeelHouseLaw$Out;)I -/
theorem prg_141 : prg 141 = code_141 := rfl
theorem E141_0 (r0 : Option Nat) (i1 : Int32) (r2 : Option Nat) : ex G 3 141 0 [(0, vR r0), (1, vI i1), (2, vR r2)] [] M = vc1 M 1 r0 (fun a2 => ctH (ex G 1 235 0 [(0, vR (some a2)), (1, vI i1)] [] M) [(3, fun M6 => rI 1 M6)] (fun y5 => cbI y5 (fun v7 M1 => pJ M1 3 21 89 r2 (i2J v7) (fun M8 => rI 0 M8)))) := ex_eq prg_141 rfl
/-- KeelHouseLaw.store(LKeelHouse;IILKeelHouseLaw$Out;)I -/
theorem prg_142 : prg 142 = code_142 := rfl
theorem E142_0 (r0 : Option Nat) (i1 : Int32) (i2 : Int32) (r3 : Option Nat) : ex G 3 142 0 [(0, vR r0), (1, vI i1), (2, vI i2), (3, vR r3)] [] M = vc1 M 1 r0 (fun a2 => ctH (ex G 1 236 0 [(0, vR (some a2)), (1, vI i1), (2, vI i2)] [] M) [(3, fun M6 => rI 1 M6), (1, fun M7 => rI 2 M7)] (fun y5 => cbI y5 (fun v8 M1 => pJ M1 3 21 89 r3 (i2J v8) (fun M9 => rI 0 M9)))) := ex_eq prg_142 rfl
/-- KeelHouseLaw.needs(LKeelHouse;IILKeelHouseLaw$Out;)I -/
theorem prg_143 : prg 143 = code_143 := rfl
theorem E143_0 (r0 : Option Nat) (i1 : Int32) (i2 : Int32) (r3 : Option Nat) : ex G 3 143 0 [(0, vR r0), (1, vI i1), (2, vI i2), (3, vR r3)] [] M = vc1 M 1 r0 (fun a2 => ctH (ex G 1 237 0 [(0, vR (some a2)), (1, vI i1), (2, vI i2)] [] M) [(3, fun M6 => rI 1 M6)] (fun y5 => cbI y5 (fun v7 M1 => pJ M1 3 21 89 r3 (i2J v7) (fun M8 => rI 0 M8)))) := ex_eq prg_143 rfl
/-- KeelHouseLaw.lay(LKeelHouse;IILKeelHouseLaw$Out;)I -/
theorem prg_144 : prg 144 = code_144 := rfl
theorem E144_0 (r0 : Option Nat) (i1 : Int32) (i2 : Int32) (r3 : Option Nat) : ex G 3 144 0 [(0, vR r0), (1, vI i1), (2, vI i2), (3, vR r3)] [] M = vc1 M 1 r0 (fun a2 => ctH (ex G 1 238 0 [(0, vR (some a2)), (1, vI i1), (2, vI i2)] [] M) [(3, fun M6 => rI 1 M6), (2, fun M7 => rI 2 M7)] (fun y5 => cbI y5 (fun v8 M1 => pJ M1 3 21 89 r3 (i2J v8) (fun M9 => rI 0 M9)))) := ex_eq prg_144 rfl
/-- KeelHouseLaw.launch(LKeelHouse;ILKeelHouseLaw$Out;)I -/
theorem prg_145 : prg 145 = code_145 := rfl
theorem E145_0 (r0 : Option Nat) (i1 : Int32) (r2 : Option Nat) : ex G 3 145 0 [(0, vR r0), (1, vI i1), (2, vR r2)] [] M = vc1 M 1 r0 (fun a2 => ctH (ex G 1 239 0 [(0, vR (some a2)), (1, vI i1)] [] M) [(3, fun M6 => rI 1 M6), (2, fun M7 => rI 2 M7)] (fun y5 => cbI y5 (fun v8 M1 => pJ M1 3 21 89 r2 (i2J v8) (fun M9 => rI 0 M9)))) := ex_eq prg_145 rfl
/-- KeelHouseLaw.shift(LKeelHouse;IILKeelHouseLaw$Out;)I -/
theorem prg_146 : prg 146 = code_146 := rfl
theorem E146_0 (r0 : Option Nat) (i1 : Int32) (i2 : Int32) (r3 : Option Nat) : ex G 3 146 0 [(0, vR r0), (1, vI i1), (2, vI i2), (3, vR r3)] [] M = vc1 M 1 r0 (fun a2 => ctH (ex G 1 241 0 [(0, vR (some a2)), (1, vI i1), (2, vI i2)] [] M) [(3, fun M6 => rI 1 M6), (2, fun M7 => rI 2 M7)] (fun y5 => cbI y5 (fun v8 M1 => pJ M1 3 21 89 r3 (i2J v8) (fun M9 => rI 0 M9)))) := ex_eq prg_146 rfl
/-- KeelHouseLaw.spot(LKeelHouse;IILKeelHouseLaw$Out;)I -/
theorem prg_147 : prg 147 = code_147 := rfl
theorem E147_0 (r0 : Option Nat) (i1 : Int32) (i2 : Int32) (r3 : Option Nat) : ex G 3 147 0 [(0, vR r0), (1, vI i1), (2, vI i2), (3, vR r3)] [] M = vc1 M 1 r0 (fun a2 => ctH (ex G 1 242 0 [(0, vR (some a2)), (1, vI i1), (2, vI i2)] [] M) [(3, fun M6 => rI 1 M6), (1, fun M7 => rI 2 M7)] (fun y5 => cbI y5 (fun v8 M1 => pJ M1 3 21 89 r3 (i2J v8) (fun M9 => rI 0 M9)))) := ex_eq prg_147 rfl
/-- KeelHouseLaw.lies(LKeelHouse;IILKeelHouseLaw$Out;)I -/
theorem prg_148 : prg 148 = code_148 := rfl
theorem E148_0 (r0 : Option Nat) (i1 : Int32) (i2 : Int32) (r3 : Option Nat) : ex G 3 148 0 [(0, vR r0), (1, vI i1), (2, vI i2), (3, vR r3)] [] M = vc1 M 1 r0 (fun a2 => ctH (ex G 1 243 0 [(0, vR (some a2)), (1, vI i1), (2, vI i2)] [] M) [(3, fun M6 => rI 1 M6), (1, fun M7 => rI 2 M7)] (fun y5 => cbI y5 (fun v8 M1 => pJ M1 3 21 89 r3 (i2J v8) (fun M9 => rI 0 M9)))) := ex_eq prg_148 rfl
/-- KeelHouseLaw.launchDay(LKeelHouse;ILKeelHouseLaw$Out;)I -/
theorem prg_149 : prg 149 = code_149 := rfl
theorem E149_0 (r0 : Option Nat) (i1 : Int32) (r2 : Option Nat) : ex G 3 149 0 [(0, vR r0), (1, vI i1), (2, vR r2)] [] M = vc1 M 1 r0 (fun a2 => ctH (ex G 1 244 0 [(0, vR (some a2)), (1, vI i1)] [] M) [(3, fun M6 => rI 1 M6), (2, fun M7 => rI 2 M7)] (fun y5 => cbI y5 (fun v8 M1 => pJ M1 3 21 89 r2 (i2J v8) (fun M9 => rI 0 M9)))) := ex_eq prg_149 rfl
/-- KeelHouseLaw.teams(LKeelHouse;IILKeelHouseLaw$Out;)I -/
theorem prg_150 : prg 150 = code_150 := rfl
theorem E150_0 (r0 : Option Nat) (i1 : Int32) (i2 : Int32) (r3 : Option Nat) : ex G 3 150 0 [(0, vR r0), (1, vI i1), (2, vI i2), (3, vR r3)] [] M = vc1 M 1 r0 (fun a2 => ctH (ex G 1 246 0 [(0, vR (some a2)), (1, vI i1), (2, vI i2)] [] M) [(3, fun M6 => rI 1 M6), (1, fun M7 => rI 2 M7)] (fun y5 => cbI y5 (fun v8 M1 => pJ M1 3 21 89 r3 (i2J v8) (fun M9 => rI 0 M9)))) := ex_eq prg_150 rfl
/-- KeelHouseLaw.pass(LKeelHouse;ILKeelHouseLaw$Out;)I -/
theorem prg_151 : prg 151 = code_151 := rfl
theorem E151_0 (r0 : Option Nat) (i1 : Int32) (r2 : Option Nat) : ex G 3 151 0 [(0, vR r0), (1, vI i1), (2, vR r2)] [] M = vc1 M 1 r0 (fun a2 => ctH (ex G 1 247 0 [(0, vR (some a2)), (1, vI i1)] [] M) [(1, fun M6 => rI 1 M6), (2, fun M7 => rI 2 M7)] (fun y5 => cbI y5 (fun v8 M1 => pJ M1 3 21 89 r2 (i2J v8) (fun M9 => rI 0 M9)))) := ex_eq prg_151 rfl
/-- KeelHouseLaw.job(LKeelHouse;IIILKeelHouseLaw$Out;)I -/
theorem prg_152 : prg 152 = code_152 := rfl
theorem E152_0 (r0 : Option Nat) (i1 : Int32) (i2 : Int32) (i3 : Int32) (r4 : Option Nat) : ex G 3 152 0 [(0, vR r0), (1, vI i1), (2, vI i2), (3, vI i3), (4, vR r4)] [] M = vc1 M 1 r0 (fun a2 => ctH (ex G 1 250 0 [(0, vR (some a2)), (1, vI i1), (2, vI i2), (3, vI i3)] [] M) [(3, fun M6 => rI 1 M6), (1, fun M7 => rI 2 M7), (2, fun M8 => rI 3 M8)] (fun y5 => cbI y5 (fun v9 M1 => pJ M1 3 21 89 r4 (i2J v9) (fun M10 => rI 0 M10)))) := ex_eq prg_152 rfl
/-- KeelHouseLaw.works(LKeelHouse;IILKeelHouseLaw$Out;)I -/
theorem prg_153 : prg 153 = code_153 := rfl
theorem E153_0 (r0 : Option Nat) (i1 : Int32) (i2 : Int32) (r3 : Option Nat) : ex G 3 153 0 [(0, vR r0), (1, vI i1), (2, vI i2), (3, vR r3)] [] M = vc1 M 1 r0 (fun a2 => ctH (ex G 1 251 0 [(0, vR (some a2)), (1, vI i1), (2, vI i2)] [] M) [(3, fun M6 => rI 1 M6), (1, fun M7 => rI 2 M7), (2, fun M8 => rI 3 M8)] (fun y5 => cbI y5 (fun v9 M1 => pJ M1 3 21 89 r3 (i2J v9) (fun M10 => rI 0 M10)))) := ex_eq prg_153 rfl
/-- KeelHouseLaw.yard(LKeelHouse;ILKeelHouseLaw$Out;)I -/
theorem prg_154 : prg 154 = code_154 := rfl
theorem E154_0 (r0 : Option Nat) (i1 : Int32) (r2 : Option Nat) : ex G 3 154 0 [(0, vR r0), (1, vI i1), (2, vR r2)] [] M = vc1 M 1 r0 (fun a2 => ctH (ex G 1 252 0 [(0, vR (some a2)), (1, vI i1)] [] M) [(1, fun M6 => rI 1 M6)] (fun y5 => cbI y5 (fun v7 M1 => pJ M1 3 21 89 r2 (i2J v7) (fun M8 => rI 0 M8)))) := ex_eq prg_154 rfl
/-- KeelHouseLaw.done(LKeelHouse;IILKeelHouseLaw$Out;)I -/
theorem prg_155 : prg 155 = code_155 := rfl
theorem E155_0 (r0 : Option Nat) (i1 : Int32) (i2 : Int32) (r3 : Option Nat) : ex G 3 155 0 [(0, vR r0), (1, vI i1), (2, vI i2), (3, vR r3)] [] M = vc1 M 1 r0 (fun a2 => ctH (ex G 1 253 0 [(0, vR (some a2)), (1, vI i1), (2, vI i2)] [] M) [(3, fun M6 => rI 1 M6), (1, fun M7 => rI 2 M7), (2, fun M8 => rI 3 M8)] (fun y5 => cbI y5 (fun v9 M1 => pJ M1 3 21 89 r3 (i2J v9) (fun M10 => rI 0 M10)))) := ex_eq prg_155 rfl
/-- KeelHouseLaw.power(LKeelHouse;IILKeelHouseLaw$Out;)I -/
theorem prg_156 : prg 156 = code_156 := rfl
theorem E156_0 (r0 : Option Nat) (i1 : Int32) (i2 : Int32) (r3 : Option Nat) : ex G 3 156 0 [(0, vR r0), (1, vI i1), (2, vI i2), (3, vR r3)] [] M = vc1 M 1 r0 (fun a2 => ctH (ex G 1 254 0 [(0, vR (some a2)), (1, vI i1), (2, vI i2)] [] M) [(3, fun M6 => rI 1 M6), (1, fun M7 => rI 2 M7), (2, fun M8 => rI 3 M8)] (fun y5 => cbI y5 (fun v9 M1 => pJ M1 3 21 89 r3 (i2J v9) (fun M10 => rI 0 M10)))) := ex_eq prg_156 rfl
/-- KeelHouseLaw.pipe(LKeelHouse;IIIILKeelHouseLaw$Out;)I -/
theorem prg_157 : prg 157 = code_157 := rfl
theorem E157_0 (r0 : Option Nat) (i1 : Int32) (i2 : Int32) (i3 : Int32) (i4 : Int32) (r5 : Option Nat) : ex G 3 157 0 [(0, vR r0), (1, vI i1), (2, vI i2), (3, vI i3), (4, vI i4), (5, vR r5)] [] M = vc1 M 1 r0 (fun a2 => ctH (ex G 1 255 0 [(0, vR (some a2)), (1, vI i1), (2, vI i2), (3, vI i3), (4, vI i4)] [] M) [(3, fun M6 => rI 1 M6), (1, fun M7 => rI 2 M7), (2, fun M8 => rI 3 M8)] (fun y5 => cbI y5 (fun v9 M1 => pJ M1 3 21 89 r5 (i2J v9) (fun M10 => rI 0 M10)))) := ex_eq prg_157 rfl
/-- KeelHouseLaw.net(LKeelHouse;IILKeelHouseLaw$Out;)I -/
theorem prg_158 : prg 158 = code_158 := rfl
theorem E158_0 (r0 : Option Nat) (i1 : Int32) (i2 : Int32) (r3 : Option Nat) : ex G 3 158 0 [(0, vR r0), (1, vI i1), (2, vI i2), (3, vR r3)] [] M = vc1 M 1 r0 (fun a2 => ctH (ex G 1 256 0 [(0, vR (some a2)), (1, vI i1), (2, vI i2)] [] M) [(3, fun M6 => rI 1 M6), (1, fun M7 => rI 2 M7), (2, fun M8 => rI 3 M8)] (fun y5 => cbI y5 (fun v9 M1 => pJ M1 3 21 89 r3 (i2J v9) (fun M10 => rI 0 M10)))) := ex_eq prg_158 rfl
/-- KeelHouseLaw.valve(LKeelHouse;IILKeelHouseLaw$Out;)I -/
theorem prg_159 : prg 159 = code_159 := rfl
theorem E159_0 (r0 : Option Nat) (i1 : Int32) (i2 : Int32) (r3 : Option Nat) : ex G 3 159 0 [(0, vR r0), (1, vI i1), (2, vI i2), (3, vR r3)] [] M = vc1 M 1 r0 (fun a2 => ctH (ex G 1 257 0 [(0, vR (some a2)), (1, vI i1), (2, vI i2)] [] M) [(3, fun M6 => rI 1 M6), (2, fun M7 => rI 2 M7)] (fun y5 => cbI y5 (fun v8 M1 => if v8 = 0 then pJ M1 3 21 89 r3 0 (fun M9 => rI 0 M9) else pJ M1 3 21 89 r3 1 (fun M10 => rI 0 M10)))) := ex_eq prg_159 rfl
/-- KeelHouseLaw.mend(LKeelHouse;ILKeelHouseLaw$Out;)I -/
theorem prg_160 : prg 160 = code_160 := rfl
theorem E160_0 (r0 : Option Nat) (i1 : Int32) (r2 : Option Nat) : ex G 3 160 0 [(0, vR r0), (1, vI i1), (2, vR r2)] [] M = vc1 M 1 r0 (fun a2 => ctH (ex G 1 258 0 [(0, vR (some a2)), (1, vI i1)] [] M) [(3, fun M6 => rI 1 M6), (2, fun M7 => rI 2 M7)] (fun y5 => cbI y5 (fun v8 M1 => pJ M1 3 21 89 r2 (i2J v8) (fun M9 => rI 0 M9)))) := ex_eq prg_160 rfl
/-- KeelHouseLaw.trial(LKeelHouse;ILKeelHouseLaw$Out;)I -/
theorem prg_161 : prg 161 = code_161 := rfl
theorem E161_0 (r0 : Option Nat) (i1 : Int32) (r2 : Option Nat) : ex G 3 161 0 [(0, vR r0), (1, vI i1), (2, vR r2)] [] M = vc1 M 1 r0 (fun a2 => ctH (ex G 1 259 0 [(0, vR (some a2)), (1, vI i1)] [] M) [(3, fun M6 => rI 1 M6), (2, fun M7 => rI 2 M7)] (fun y5 => cbI y5 (fun v8 M1 => pJ M1 3 21 89 r2 (i2J v8) (fun M9 => rI 0 M9)))) := ex_eq prg_161 rfl
/-- KeelHouseLaw.engine(LKeelHouse;IILKeelHouseLaw$Out;)I -/
theorem prg_162 : prg 162 = code_162 := rfl
theorem E162_0 (r0 : Option Nat) (i1 : Int32) (i2 : Int32) (r3 : Option Nat) : ex G 3 162 0 [(0, vR r0), (1, vI i1), (2, vI i2), (3, vR r3)] [] M = vc1 M 1 r0 (fun a2 => ctH (ex G 1 260 0 [(0, vR (some a2)), (1, vI i1), (2, vI i2)] [] M) [(3, fun M6 => rI 1 M6), (1, fun M7 => rI 2 M7)] (fun y5 => cbI y5 (fun v8 M1 => pJ M1 3 21 89 r3 (i2J v8) (fun M9 => rI 0 M9)))) := ex_eq prg_162 rfl
/-- KeelHouseLaw.speed(LKeelHouse;IILKeelHouseLaw$Out;)I -/
theorem prg_163 : prg 163 = code_163 := rfl
theorem E163_0 (r0 : Option Nat) (i1 : Int32) (i2 : Int32) (r3 : Option Nat) : ex G 3 163 0 [(0, vR r0), (1, vI i1), (2, vI i2), (3, vR r3)] [] M = vc1 M 1 r0 (fun a2 => ctH (ex G 1 261 0 [(0, vR (some a2)), (1, vI i1), (2, vI i2)] [] M) [(3, fun M6 => rI 1 M6), (1, fun M7 => rI 2 M7)] (fun y5 => cbD y5 (fun x8 M1 => pD M1 3 21 90 r3 x8 (fun M9 => rI 0 M9)))) := ex_eq prg_163 rfl
/-- KeelHouseLaw.buyer(LKeelHouse;IIIIILKeelHouseLaw$Out;)I -/
theorem prg_164 : prg 164 = code_164 := rfl
theorem E164_0 (r0 : Option Nat) (i1 : Int32) (i2 : Int32) (i3 : Int32) (i4 : Int32) (i5 : Int32) (r6 : Option Nat) : ex G 3 164 0 [(0, vR r0), (1, vI i1), (2, vI i2), (3, vI i3), (4, vI i4), (5, vI i5), (6, vR r6)] [] M = vc1 M 1 r0 (fun a2 => ctH (ex G 1 262 0 [(0, vR (some a2)), (1, vI i1), (2, vI i2), (3, vI i3), (4, vI i4), (5, vI i5)] [] M) [(1, fun M6 => rI 1 M6), (2, fun M7 => rI 2 M7)] (fun y5 => cbI y5 (fun v8 M1 => pJ M1 3 21 89 r6 (i2J v8) (fun M9 => rI 0 M9)))) := ex_eq prg_164 rfl
/-- KeelHouseLaw.bid(LKeelHouse;IIILKeelHouseLaw$Out;)I -/
theorem prg_165 : prg 165 = code_165 := rfl
theorem E165_0 (r0 : Option Nat) (i1 : Int32) (i2 : Int32) (i3 : Int32) (r4 : Option Nat) : ex G 3 165 0 [(0, vR r0), (1, vI i1), (2, vI i2), (3, vI i3), (4, vR r4)] [] M = vc1 M 1 r0 (fun a2 => ctH (ex G 1 263 0 [(0, vR (some a2)), (1, vI i1), (2, vI i2), (3, vI i3)] [] M) [(3, fun M6 => rI 1 M6), (1, fun M7 => rI 2 M7), (2, fun M8 => rI 3 M8)] (fun y5 => cbI y5 (fun v9 M1 => if v9 = 0 then pJ M1 3 21 89 r4 0 (fun M10 => rI 0 M10) else pJ M1 3 21 89 r4 1 (fun M11 => rI 0 M11)))) := ex_eq prg_165 rfl
/-- KeelHouseLaw.handOver(LKeelHouse;ILKeelHouseLaw$Out;)I -/
theorem prg_166 : prg 166 = code_166 := rfl
theorem E166_0 (r0 : Option Nat) (i1 : Int32) (r2 : Option Nat) : ex G 3 166 0 [(0, vR r0), (1, vI i1), (2, vR r2)] [] M = vc1 M 1 r0 (fun a2 => ctH (ex G 1 264 0 [(0, vR (some a2)), (1, vI i1)] [] M) [(3, fun M6 => rI 1 M6), (2, fun M7 => rI 2 M7)] (fun y5 => cbI y5 (fun v8 M1 => pJ M1 3 21 89 r2 (i2J v8) (fun M9 => rI 0 M9)))) := ex_eq prg_166 rfl
/-- KeelHouseLaw.breaks(LKeelHouse;ILKeelHouseLaw$Out;)I -/
theorem prg_167 : prg 167 = code_167 := rfl
theorem E167_0 (r0 : Option Nat) (i1 : Int32) (r2 : Option Nat) : ex G 3 167 0 [(0, vR r0), (1, vI i1), (2, vR r2)] [] M = vc1 M 1 r0 (fun a2 => ctH (ex G 1 265 0 [(0, vR (some a2)), (1, vI i1)] [] M) [(3, fun M6 => rI 1 M6)] (fun y5 => cbI y5 (fun v7 M1 => pJ M1 3 21 89 r2 (i2J v7) (fun M8 => rI 0 M8)))) := ex_eq prg_167 rfl
/-- KeelHouseLaw.sale(LKeelHouse;IILKeelHouseLaw$Out;)I -/
theorem prg_168 : prg 168 = code_168 := rfl
theorem E168_0 (r0 : Option Nat) (i1 : Int32) (i2 : Int32) (r3 : Option Nat) : ex G 3 168 0 [(0, vR r0), (1, vI i1), (2, vI i2), (3, vR r3)] [] M = vc1 M 1 r0 (fun a2 => ctH (ex G 1 266 0 [(0, vR (some a2)), (1, vI i1), (2, vI i2)] [] M) [(3, fun M6 => rI 1 M6), (1, fun M7 => rI 2 M7)] (fun y5 => cbI y5 (fun v8 M1 => pJ M1 3 21 89 r3 (i2J v8) (fun M9 => rI 0 M9)))) := ex_eq prg_168 rfl
/-- KeelHouseLaw.bestBuyer(LKeelHouse;ILKeelHouseLaw$Out;)I -/
theorem prg_169 : prg 169 = code_169 := rfl
theorem E169_0 (r0 : Option Nat) (i1 : Int32) (r2 : Option Nat) : ex G 3 169 0 [(0, vR r0), (1, vI i1), (2, vR r2)] [] M = vc1 M 1 r0 (fun a2 => ctH (ex G 1 267 0 [(0, vR (some a2)), (1, vI i1)] [] M) [(3, fun M6 => rI 1 M6)] (fun y5 => cbI y5 (fun v7 M1 => pJ M1 3 21 89 r2 (i2J v7) (fun M8 => rI 0 M8)))) := ex_eq prg_169 rfl
/-- KeelHouseLaw.port(LKeelHouse;IIILKeelHouseLaw$Out;)I -/
theorem prg_170 : prg 170 = code_170 := rfl
theorem E170_0 (r0 : Option Nat) (i1 : Int32) (i2 : Int32) (i3 : Int32) (r4 : Option Nat) : ex G 3 170 0 [(0, vR r0), (1, vI i1), (2, vI i2), (3, vI i3), (4, vR r4)] [] M = vc1 M 1 r0 (fun a2 => ctH (ex G 1 268 0 [(0, vR (some a2)), (1, vI i1), (2, vI i2), (3, vI i3)] [] M) [(1, fun M6 => rI 1 M6), (2, fun M7 => rI 2 M7)] (fun y5 => cbI y5 (fun v8 M1 => pJ M1 3 21 89 r4 (i2J v8) (fun M9 => rI 0 M9)))) := ex_eq prg_170 rfl
/-- KeelHouseLaw.lot(LKeelHouse;IIIIILKeelHouseLaw$Out;)I -/
theorem prg_171 : prg 171 = code_171 := rfl
theorem E171_0 (r0 : Option Nat) (i1 : Int32) (i2 : Int32) (i3 : Int32) (i4 : Int32) (i5 : Int32) (r6 : Option Nat) : ex G 3 171 0 [(0, vR r0), (1, vI i1), (2, vI i2), (3, vI i3), (4, vI i4), (5, vI i5), (6, vR r6)] [] M = vc1 M 1 r0 (fun a2 => ctH (ex G 1 269 0 [(0, vR (some a2)), (1, vI i1), (2, vI i2), (3, vI i3), (4, vI i4), (5, vI i5)] [] M) [(3, fun M6 => rI 1 M6), (1, fun M7 => rI 2 M7), (2, fun M8 => rI 3 M8)] (fun y5 => cbI y5 (fun v9 M1 => pJ M1 3 21 89 r6 (i2J v9) (fun M10 => rI 0 M10)))) := ex_eq prg_171 rfl
/-- KeelHouseLaw.bunker(LKeelHouse;IILKeelHouseLaw$Out;)I -/
theorem prg_172 : prg 172 = code_172 := rfl
theorem E172_0 (r0 : Option Nat) (i1 : Int32) (i2 : Int32) (r3 : Option Nat) : ex G 3 172 0 [(0, vR r0), (1, vI i1), (2, vI i2), (3, vR r3)] [] M = vc1 M 1 r0 (fun a2 => ctH (ex G 1 270 0 [(0, vR (some a2)), (1, vI i1), (2, vI i2)] [] M) [(3, fun M6 => rI 1 M6), (1, fun M7 => rI 2 M7), (2, fun M8 => rI 3 M8)] (fun y5 => cbI y5 (fun v9 M1 => pJ M1 3 21 89 r3 (i2J v9) (fun M10 => rI 0 M10)))) := ex_eq prg_172 rfl
/-- KeelHouseLaw.stow(LKeelHouse;IIILKeelHouseLaw$Out;)I -/
theorem prg_173 : prg 173 = code_173 := rfl
theorem E173_0 (r0 : Option Nat) (i1 : Int32) (i2 : Int32) (i3 : Int32) (r4 : Option Nat) : ex G 3 173 0 [(0, vR r0), (1, vI i1), (2, vI i2), (3, vI i3), (4, vR r4)] [] M = vc1 M 1 r0 (fun a2 => ctH (ex G 1 271 0 [(0, vR (some a2)), (1, vI i1), (2, vI i2), (3, vI i3)] [] M) [(3, fun M6 => rI 1 M6), (2, fun M7 => rI 2 M7)] (fun y5 => cbI y5 (fun v8 M1 => pJ M1 3 21 89 r4 (i2J v8) (fun M9 => rI 0 M9)))) := ex_eq prg_173 rfl
/-- KeelHouseLaw.unload(LKeelHouse;ILKeelHouseLaw$Out;)I -/
theorem prg_174 : prg 174 = code_174 := rfl
theorem E174_0 (r0 : Option Nat) (i1 : Int32) (r2 : Option Nat) : ex G 3 174 0 [(0, vR r0), (1, vI i1), (2, vR r2)] [] M = vc1 M 1 r0 (fun a2 => ctH (ex G 1 272 0 [(0, vR (some a2)), (1, vI i1)] [] M) [(3, fun M6 => rI 1 M6), (2, fun M7 => rI 2 M7)] (fun y5 => cbI y5 (fun v8 M1 => pJ M1 3 21 89 r2 (i2J v8) (fun M9 => rI 0 M9)))) := ex_eq prg_174 rfl
/-- KeelHouseLaw.sail(LKeelHouse;IILKeelHouseLaw$Out;)I -/
theorem prg_175 : prg 175 = code_175 := rfl
theorem E175_0 (r0 : Option Nat) (i1 : Int32) (i2 : Int32) (r3 : Option Nat) : ex G 3 175 0 [(0, vR r0), (1, vI i1), (2, vI i2), (3, vR r3)] [] M = vc1 M 1 r0 (fun a2 => ctH (ex G 1 273 0 [(0, vR (some a2)), (1, vI i1), (2, vI i2)] [] M) [(3, fun M6 => rI 1 M6), (1, fun M7 => rI 2 M7), (2, fun M8 => rI 3 M8)] (fun y5 => cbI y5 (fun v9 M1 => pJ M1 3 21 89 r3 (i2J v9) (fun M10 => rI 0 M10)))) := ex_eq prg_175 rfl
/-- KeelHouseLaw.voyage(LKeelHouse;IILKeelHouseLaw$Out;)I -/
theorem prg_176 : prg 176 = code_176 := rfl
theorem E176_0 (r0 : Option Nat) (i1 : Int32) (i2 : Int32) (r3 : Option Nat) : ex G 3 176 0 [(0, vR r0), (1, vI i1), (2, vI i2), (3, vR r3)] [] M = vc1 M 1 r0 (fun a2 => ctH (ex G 1 274 0 [(0, vR (some a2)), (1, vI i1), (2, vI i2)] [] M) [(3, fun M6 => rI 1 M6), (1, fun M7 => rI 2 M7)] (fun y5 => cbI y5 (fun v8 M1 => pJ M1 3 21 89 r3 (i2J v8) (fun M9 => rI 0 M9)))) := ex_eq prg_176 rfl
/-- KeelHouseLaw.ofLot(LKeelHouse;IILKeelHouseLaw$Out;)I -/
theorem prg_177 : prg 177 = code_177 := rfl
theorem E177_0 (r0 : Option Nat) (i1 : Int32) (i2 : Int32) (r3 : Option Nat) : ex G 3 177 0 [(0, vR r0), (1, vI i1), (2, vI i2), (3, vR r3)] [] M = vc1 M 1 r0 (fun a2 => ctH (ex G 1 275 0 [(0, vR (some a2)), (1, vI i1), (2, vI i2)] [] M) [(3, fun M6 => rI 1 M6), (1, fun M7 => rI 2 M7)] (fun y5 => cbI y5 (fun v8 M1 => pJ M1 3 21 89 r3 (i2J v8) (fun M9 => rI 0 M9)))) := ex_eq prg_177 rfl
/-- KeelHouseLaw.route(LKeelHouse;IIZLKeelHouseLaw$Out;)I -/
theorem prg_178 : prg 178 = code_178 := rfl
theorem E178_0 (r0 : Option Nat) (i1 : Int32) (i2 : Int32) (i3 : Int32) (r4 : Option Nat) : ex G 3 178 0 [(0, vR r0), (1, vI i1), (2, vI i2), (3, vI i3), (4, vR r4)] [] M = vc1 M 1 r0 (fun a2 => ctH (ex G 1 276 0 [(0, vR (some a2)), (1, vI i1), (2, vI i2), (3, vI i3)] [] M) [(3, fun M6 => rI 1 M6), (1, fun M7 => rI 2 M7)] (fun y5 => cbI y5 (fun v8 M1 => pJ M1 3 21 89 r4 (i2J v8) (fun M9 => rI 0 M9)))) := ex_eq prg_178 rfl
/-- KeelHouseLaw.money(LKeelHouse;IIILKeelHouseLaw$Out;)I -/
theorem prg_179 : prg 179 = code_179 := rfl
theorem E179_0 (r0 : Option Nat) (i1 : Int32) (i2 : Int32) (i3 : Int32) (r4 : Option Nat) : ex G 3 179 0 [(0, vR r0), (1, vI i1), (2, vI i2), (3, vI i3), (4, vR r4)] [] M = vc1 M 1 r0 (fun a2 => ctH (ex G 1 277 0 [(0, vR (some a2)), (1, vI i1), (2, vI i2), (3, vI i3)] [] M) [(3, fun M6 => rI 1 M6), (1, fun M7 => rI 2 M7)] (fun y5 => cbI y5 (fun v8 M1 => pJ M1 3 21 89 r4 (i2J v8) (fun M9 => rI 0 M9)))) := ex_eq prg_179 rfl
/-- KeelHouseLaw.audit(LKeelHouse;ILKeelHouseLaw$Out;)I -/
theorem prg_180 : prg 180 = code_180 := rfl
theorem E180_0 (r0 : Option Nat) (i1 : Int32) (r2 : Option Nat) : ex G 3 180 0 [(0, vR r0), (1, vI i1), (2, vR r2)] [] M = vc1 M 1 r0 (fun a2 => ctH (ex G 1 278 0 [(0, vR (some a2)), (1, vI i1)] [] M) [(1, fun M6 => rI 1 M6)] (fun y5 => cbI y5 (fun v7 M1 => pJ M1 3 21 89 r2 (i2J v7) (fun M8 => rI 0 M8)))) := ex_eq prg_180 rfl
/-- KeelHouseLaw.tell(LKeelHouse;ILKeelHouseLaw$Out;)I -/
theorem prg_181 : prg 181 = code_181 := rfl
theorem E181_0 (r0 : Option Nat) (i1 : Int32) (r2 : Option Nat) : ex G 3 181 0 [(0, vR r0), (1, vI i1), (2, vR r2)] [] M = vc1 M 1 r0 (fun a2 => ctH (ex G 1 279 0 [(0, vR (some a2)), (1, vI i1)] [] M) [(3, fun M6 => rI 1 M6)] (fun y5 => cbR y5 (fun r_7 M1 => pR M1 3 21 91 r2 r_7 (fun M8 => rI 0 M8)))) := ex_eq prg_181 rfl
/-- KeelHouseLaw$Out.<init>()V -/
theorem prg_483 : prg 483 = code_483 := rfl
theorem E483_0 (r0 : Option Nat) : ex G 3 483 0 [(0, vR r0)] [] M = nn r0 (fun _ => rV M) := ex_eq prg_483 rfl
end EQ
