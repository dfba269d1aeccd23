set_option maxRecDepth 100000
theorem chk_L5 : ops_L_law_5.all lawB = true := by decide +kernel
theorem chk_L6 : ops_L_law_6.all lawB = true := by decide +kernel
theorem chk_L7 : ops_L_law_7.all lawB = true := by decide +kernel
theorem chk_L8 : ops_L_law_8.all lawB = true := by decide +kernel
theorem chk_L9 : ops_L_law_9.all lawB = true := by decide +kernel
