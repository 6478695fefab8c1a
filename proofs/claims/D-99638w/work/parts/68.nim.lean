/-! LAW: a sum of levels has a top place -/
set_option maxRecDepth 100000
theorem top7 : ∀ s, s < 128 → s ≠ 0 → ∃ h, h < 7 ∧ bt s h = 1 ∧ s < 2 ^ (h + 1) := by decide +kernel
theorem nim7 : ∀ h, h < 7 → ∀ s, s < 128 → ∀ l, l < 128 → (bt s h = 1 ∧ s < 2 ^ (h + 1) ∧ bt l h = 1) → l ^^^ s < l := by decide +kernel
