set_option maxRecDepth 100000
theorem inN_split {ws : List Cond} (k : Nat) (h1 : inN (ws.take k) = true) (h2 : inN (ws.drop k) = true) : inN ws = true := by
  unfold inN at *
  rw [← List.take_append_drop k ws, List.all_append, h1, h2]
  rfl
theorem inN6a : inN ((tbA (.static "java/lang/Integer" "DigitTens" "[B") .byte tv6).take 26) = true := by decide +kernel
