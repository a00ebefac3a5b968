set_option maxRecDepth 100000
theorem inN6d : inN ((((tbA (.static "java/lang/Integer" "DigitTens" "[B") .byte tv6).drop 26).drop 26).drop 26) = true := by decide +kernel
theorem inN6 : inN (tbA (.static "java/lang/Integer" "DigitTens" "[B") .byte tv6) = true := inN_split 26 inN6a (inN_split 26 inN6b (inN_split 26 inN6c inN6d))
