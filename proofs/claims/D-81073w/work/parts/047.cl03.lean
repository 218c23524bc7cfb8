/-! the law's own blocks are what the bytes say -/
set_option maxRecDepth 100000
theorem cl_48 : chB lkT 0 1958 bk_0_48 = true := by decide +kernel
theorem cl_49 : chB lkT 0 2021 bk_0_49 = true := by decide +kernel
theorem cl_50 : chB lkT 0 2044 bk_0_50 = true := by decide +kernel
theorem cl_51 : chB lkT 0 2087 bk_0_51 = true := by decide +kernel
theorem cl_52 : chB lkT 0 2100 bk_0_52 = true := by decide +kernel
theorem cl_53 : chB lkT 0 2153 bk_0_53 = true := by decide +kernel
theorem cl_54 : chB lkT 0 2166 bk_0_54 = true := by decide +kernel
theorem cl_55 : chB lkT 0 2199 bk_0_55 = true := by decide +kernel
theorem cl_56 : chB lkT 0 2232 bk_0_56 = true := by decide +kernel
theorem cl_57 : chB lkT 0 2233 bk_0_57 = true := by decide +kernel
theorem cl_58 : chB lkT 0 2269 bk_0_58 = true := by decide +kernel
theorem cl_59 : chB lkT 0 2270 bk_0_59 = true := by decide +kernel
theorem cl_60 : chB lkT 0 2278 bk_0_60 = true := by decide +kernel
theorem cl_61 : chB lkT 0 2296 bk_0_61 = true := by decide +kernel
theorem cl_62 : chB lkT 0 2297 bk_0_62 = true := by decide +kernel
theorem cl_63 : chB lkT 0 2318 bk_0_63 = true := by decide +kernel
