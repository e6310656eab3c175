/-! links and methods, by program -/
theorem am_ckO_0 : ((List.range 48).drop 0).all am_ckO = true := by decide +kernel
theorem am_ckO_48 : ((List.range 96).drop 48).all am_ckO = true := by decide +kernel
theorem am_ckO_96 : ((List.range 144).drop 96).all am_ckO = true := by decide +kernel
theorem am_ckO_144 : ((List.range 192).drop 144).all am_ckO = true := by decide +kernel
theorem am_ckO_192 : ((List.range 240).drop 192).all am_ckO = true := by decide +kernel
theorem am_ckO_240 : ((List.range 288).drop 240).all am_ckO = true := by decide +kernel
theorem am_ckO_288 : ((List.range 336).drop 288).all am_ckO = true := by decide +kernel
theorem am_ckO_336 : ((List.range 377).drop 336).all am_ckO = true := by decide +kernel
