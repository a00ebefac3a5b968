set_option maxRecDepth 100000
theorem inN36 : inN (tbA (.static "KeelHouseModel" "DEEP" "[I") .int tv36) = true := by decide +kernel
theorem inN37 : inN (tbA (.static "KeelHouseModel" "MOON" "[I") .int tv37) = true := by decide +kernel
theorem inN38 : inN (tbA (.static "KeelHouseModel" "SPRING" "[I") .int tv38) = true := by decide +kernel
theorem inN39 : inN (tbA (.static "KeelHouseModel" "ROOM" "[I") .int tv39) = true := by decide +kernel
theorem inN56 : inN (tbA (.static "KeelHouseModel" "HOME" "[I") .int tv56) = true := by decide +kernel
theorem inN57 : inN (tbA (.static "KeelHouseModel" "ORDER" "[I") .int tv57) = true := by decide +kernel
