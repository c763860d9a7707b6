set_option maxRecDepth 100000
theorem tbR_39 : tbR (17010, 10000) 4001 4 39 = true := by decide +kernel
theorem tbR_40 : tbR (17010, 10000) 4001 4 40 = true := by decide +kernel
