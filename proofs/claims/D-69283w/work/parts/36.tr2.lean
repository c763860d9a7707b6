set_option maxRecDepth 100000
theorem tbR_30 : tbR (16756, 10000) 3101 4 30 = true := by decide +kernel
theorem tbR_31 : tbR (16756, 10000) 3101 4 31 = true := by decide +kernel
theorem tbR_32 : tbR (17010, 10000) 4001 4 32 = true := by decide +kernel
theorem tbR_33 : tbR (17010, 10000) 4001 4 33 = true := by decide +kernel
theorem tbR_34 : tbR (17010, 10000) 4001 4 34 = true := by decide +kernel
theorem tbR_35 : tbR (17010, 10000) 4001 4 35 = true := by decide +kernel
theorem tbR_36 : tbR (17010, 10000) 4001 4 36 = true := by decide +kernel
theorem tbR_37 : tbR (17010, 10000) 4001 4 37 = true := by decide +kernel
theorem tbR_38 : tbR (17010, 10000) 4001 4 38 = true := by decide +kernel
