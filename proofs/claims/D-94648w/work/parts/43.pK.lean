/-! PURE: bitCount, by looking at all small numbers -/
theorem bcOk_all : bcOk 65536 = true := by decide +kernel
