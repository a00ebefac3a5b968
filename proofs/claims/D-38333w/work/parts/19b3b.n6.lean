set_option maxRecDepth 100000
theorem inN6c : inN ((((tbA (.static "java/lang/Integer" "DigitTens" "[B") .byte tv6).drop 26).drop 26).take 26) = true := by decide +kernel
