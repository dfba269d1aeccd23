set_option maxRecDepth 100000
/-- the check of the law's ops -/
def lawB (q : Nat × Op) : Bool := chk 169 q.1 q.2 && decide (decode (mcod 169) q.1 = .ok (q.2.2.2.1, q.2.2.1))
theorem chk_L0 : ops_L_law_0.all lawB = true := by decide +kernel
theorem chk_L1 : ops_L_law_1.all lawB = true := by decide +kernel
theorem chk_L2 : ops_L_law_2.all lawB = true := by decide +kernel
theorem chk_L3 : ops_L_law_3.all lawB = true := by decide +kernel
theorem chk_L4 : ops_L_law_4.all lawB = true := by decide +kernel
