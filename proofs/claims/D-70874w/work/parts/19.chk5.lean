set_option maxRecDepth 100000
theorem chk_L10 : ops_L_law_10.all lawB = true := by decide +kernel
theorem chk_L11 : ops_L_law_11.all lawB = true := by decide +kernel
theorem chk_L12 : ops_L_law_12.all lawB = true := by decide +kernel
theorem chk_L13 : ops_L_law_13.all lawB = true := by decide +kernel
theorem chk_L14 : ops_L_law_14.all lawB = true := by decide +kernel
