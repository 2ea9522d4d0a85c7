set_option maxRecDepth 100000
/-! ROWS: what the machine throws by itself; the rows of sheets -/
theorem vw_AI : (vx_atM "java/lang/ArrayIndexOutOfBoundsException" ["java/lang/IndexOutOfBoundsException", "java/lang/RuntimeException", "java/lang/Exception"]).all (fun w => decide (w ∈ lw_all) || decide (w ∈ us_N)) = true := by decide +kernel
theorem vo_AI : (vx_atM "java/lang/ArrayIndexOutOfBoundsException" ["java/lang/IndexOutOfBoundsException", "java/lang/RuntimeException", "java/lang/Exception"]).all vx_ot = true := by decide +kernel
theorem vw_NA : (vx_atM "java/lang/NegativeArraySizeException" ["java/lang/RuntimeException", "java/lang/Exception"]).all (fun w => decide (w ∈ lw_all) || decide (w ∈ us_N)) = true := by decide +kernel
theorem vo_NA : (vx_atM "java/lang/NegativeArraySizeException" ["java/lang/RuntimeException", "java/lang/Exception"]).all vx_ot = true := by decide +kernel
theorem vw_CC : (vx_atM "java/lang/ClassCastException" ["java/lang/RuntimeException", "java/lang/Exception"]).all (fun w => decide (w ∈ lw_all) || decide (w ∈ us_N)) = true := by decide +kernel
theorem vo_CC : (vx_atM "java/lang/ClassCastException" ["java/lang/RuntimeException", "java/lang/Exception"]).all vx_ot = true := by decide +kernel
theorem vw_NP : (vx_atN 8).all (fun w => decide (w ∈ lw_all) || decide (w ∈ us_N)) = true := by decide +kernel
theorem vo_NP : (vx_atN 8).all vx_ot = true := by decide +kernel
