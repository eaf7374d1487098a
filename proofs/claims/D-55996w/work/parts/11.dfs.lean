/-! what a new object holds -/
theorem dfX1 : ∀ j, j < 7 → defaultValue (tyX1 j) = vp_V [.null, .null, .null, .null, .null, .null, .null] j := by
  intro j hj
  rcases (show j = 0 ∨ j = 1 ∨ j = 2 ∨ j = 3 ∨ j = 4 ∨ j = 5 ∨ j = 6 by omega) with rfl | rfl | rfl | rfl | rfl | rfl | rfl <;> rfl
theorem dfX2 : ∀ j, j < 10 → defaultValue (tyX2 j) = vp_V [.null, .null, .int (hr_I 0), .int (hr_I 0), .int (hr_I 0), .int (hr_I 0), .null, .null, .null, .null] j := by
  intro j hj
  rcases (show j = 0 ∨ j = 1 ∨ j = 2 ∨ j = 3 ∨ j = 4 ∨ j = 5 ∨ j = 6 ∨ j = 7 ∨ j = 8 ∨ j = 9 by omega) with rfl | rfl | rfl | rfl | rfl | rfl | rfl | rfl | rfl | rfl <;> rfl
theorem dfX3 : ∀ j, j < 20 → defaultValue (tyX3 j) = vp_V [.null, .null, .null, .null, .int (hr_I 0), .int (hr_I 0), .int (hr_I 0), .int (hr_I 0), .int (hr_I 0), .int (hr_I 0), .int (hr_I 0), .int (hr_I 0), .null, .int (hr_I 0), .int (hr_I 0), .null, .int (hr_I 0), .int (hr_I 0), .null, .int (hr_I 0)] j := by
  intro j hj
  rcases (show j = 0 ∨ j = 1 ∨ j = 2 ∨ j = 3 ∨ j = 4 ∨ j = 5 ∨ j = 6 ∨ j = 7 ∨ j = 8 ∨ j = 9 ∨ j = 10 ∨ j = 11 ∨ j = 12 ∨ j = 13 ∨ j = 14 ∨ j = 15 ∨ j = 16 ∨ j = 17 ∨ j = 18 ∨ j = 19 by omega) with rfl | rfl | rfl | rfl | rfl | rfl | rfl | rfl | rfl | rfl | rfl | rfl | rfl | rfl | rfl | rfl | rfl | rfl | rfl | rfl <;> rfl
theorem dfX4 : ∀ j, j < 4 → defaultValue (tyX4 j) = vp_V [.int (hr_I 0), .null, .null, .int (hr_I 0)] j := by
  intro j hj
  rcases (show j = 0 ∨ j = 1 ∨ j = 2 ∨ j = 3 by omega) with rfl | rfl | rfl | rfl <;> rfl
theorem dfX5 : ∀ j, j < 6 → defaultValue (tyX5 j) = vp_V [.int (hr_I 0), .int (hr_I 0), .int (hr_I 0), .int (hr_I 0), .int (hr_I 0), .null] j := by
  intro j hj
  rcases (show j = 0 ∨ j = 1 ∨ j = 2 ∨ j = 3 ∨ j = 4 ∨ j = 5 by omega) with rfl | rfl | rfl | rfl | rfl | rfl <;> rfl
theorem dfX6 : ∀ j, j < 4 → defaultValue (tyX6 j) = vp_V [.int (hr_I 0), .int (hr_I 0), .int (hr_I 0), .int (hr_I 0)] j := by
  intro j hj
  rcases (show j = 0 ∨ j = 1 ∨ j = 2 ∨ j = 3 by omega) with rfl | rfl | rfl | rfl <;> rfl
theorem dfX8 : ∀ j, j < 7 → defaultValue (tyX8 j) = vp_V [.null, .null, .null, .null, .null, .null, .int (hr_I 0)] j := by
  intro j hj
  rcases (show j = 0 ∨ j = 1 ∨ j = 2 ∨ j = 3 ∨ j = 4 ∨ j = 5 ∨ j = 6 by omega) with rfl | rfl | rfl | rfl | rfl | rfl | rfl <;> rfl
theorem dfX9 : ∀ j, j < 9 → defaultValue (tyX9 j) = vp_V [.null, .null, .null, .null, .null, .null, .int (hr_I 0), .int (hr_I 0), .int (hr_I 0)] j := by
  intro j hj
  rcases (show j = 0 ∨ j = 1 ∨ j = 2 ∨ j = 3 ∨ j = 4 ∨ j = 5 ∨ j = 6 ∨ j = 7 ∨ j = 8 by omega) with rfl | rfl | rfl | rfl | rfl | rfl | rfl | rfl | rfl <;> rfl
theorem dfX10 : ∀ j, j < 3 → defaultValue (tyX10 j) = vp_V [.null, .null, .int (hr_I 0)] j := by
  intro j hj
  rcases (show j = 0 ∨ j = 1 ∨ j = 2 by omega) with rfl | rfl | rfl <;> rfl
theorem dfX11 : ∀ j, j < 8 → defaultValue (tyX11 j) = vp_V [.null, .null, .null, .null, .null, .null, .int (hr_I 0), .int (hr_I 0)] j := by
  intro j hj
  rcases (show j = 0 ∨ j = 1 ∨ j = 2 ∨ j = 3 ∨ j = 4 ∨ j = 5 ∨ j = 6 ∨ j = 7 by omega) with rfl | rfl | rfl | rfl | rfl | rfl | rfl | rfl <;> rfl
theorem dfJ2 : ∀ j, j < 3 → defaultValue (tyJ2 j) = vp_V [.int (hr_I 0), .null, .int (hr_I 0)] j := by
  intro j hj
  rcases (show j = 0 ∨ j = 1 ∨ j = 2 by omega) with rfl | rfl | rfl <;> rfl
theorem dfJ3 : ∀ j, j < 4 → defaultValue (tyJ3 j) = vp_V [.int (hr_I 0), .int (hr_I 0), .int (hr_I 0), .null] j := by
  intro j hj
  rcases (show j = 0 ∨ j = 1 ∨ j = 2 ∨ j = 3 by omega) with rfl | rfl | rfl | rfl <;> rfl
theorem dfJ9 : ∀ j, j < 4 → defaultValue (tyJ9 j) = vp_V [.null, .int (hr_I 0), .int (hr_I 0), .int (hr_I 0)] j := by
  intro j hj
  rcases (show j = 0 ∨ j = 1 ∨ j = 2 ∨ j = 3 by omega) with rfl | rfl | rfl | rfl <;> rfl
theorem dfJ10 : ∀ j, j < 4 → defaultValue (tyJ10 j) = vp_V [.null, .int (hr_I 0), .int (hr_I 0), .int (hr_I 0)] j := by
  intro j hj
  rcases (show j = 0 ∨ j = 1 ∨ j = 2 ∨ j = 3 by omega) with rfl | rfl | rfl | rfl <;> rfl
