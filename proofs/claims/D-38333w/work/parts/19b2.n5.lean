set_option maxRecDepth 100000
theorem inN5 : inN (tbA (.static "java/lang/Integer" "DigitOnes" "[B") .byte tv5) = true := by decide +kernel
