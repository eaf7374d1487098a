/-! exceptions: constructors and throws -/
set_option maxRecDepth 100000
theorem xt_X8 : ∀ w ∈ hr_xats "HabitRegistry$Failure" 1 "HabitRegistry$BadCommand", w ∈ lw_tbl := hr_inT _ [82, 250, 259, 271, 274, 276, 251, 252, 122, 123, 253, 258, 272, 289, 240, 290, 242, 291, 244, 254, 256, 246, 284, 285, 286, 251, 235, 831, 819, 261, 820, 821, 822, 249, 248, 824] (by decide +kernel)
theorem xg_X8 : ∀ w ∈ hr_xats "HabitRegistry$Failure" 1 "HabitRegistry$BadCommand", (goodWord w || hr_isD w) = true := List.all_eq_true.mp (by decide +kernel)
abbrev rmX7_init_X8 : Room := { frames := 4, cells := 0, slots := 0, locals := 80 }
set_option maxHeartbeats 4000000 in
set_option maxRecDepth 100000 in
theorem mtX7_init_X8 {l : Launch} {D : va_G} {s0 : State} (Z : hr_Z l D s0) {H : Heap} {a : Nat} {og : Option Nat} (ha : s0.heap.size ≤ a) (hO : hr_O D H a 6 [.null, .null, .null, .null, .null, .null, .int (hr_I 0)]) (hmo : hr_Mo H a) : hr_M l s0 yX7_init (ws_ yX7_init cX7_init 2 (Option.none : Option Jvm.ClassFile.FieldType)) rmX7_init_X8 [.ref a, va_rf og] H (fun q => q = a ∨ H.size ≤ q) (fun v H1 => v = none ∧ ∃ v2 v3 : Value, hr_O D H1 a 6 [va_rf og, .ref a, v2, v3, .null, .null, .int (hr_I 0)]) hr_no := by
  refine hr_of Z (by decide) (by cases og <;> exact Nat.le_of_ble_eq_true rfl) (fun q h => h.elim (fun e => Or.inl (by rw [e]; exact ha)) Or.inr) ?_
  intro p e s m args below meth c Q ls C hQ hin hnx hS hl
  have hAN : ∀ q, H.size ≤ q → (fun q => q = a ∨ H.size ≤ q) q := (fun _ h => Or.inr h)
  have hl : lv_has ls 2 [(0, .ref a), (1, va_rf og)] := by cases og <;> exact hl
  refine lv_aload_n C.x C.b dX7_init_0 rfl (lv_at hl 0 rfl) ?_
  refine hr_exinit (ci := 6) in_X8 tyX8 tyX8_ok nmX8 rfl (by decide) rfl rfl rfl rfl xt_X8 xg_X8 C hO (by decide) rfl hmo (Or.inl rfl) hS hl.1 dX7_init_1 (Nat.le_of_ble_eq_true rfl) (Nat.le_of_ble_eq_true rfl) ⟨by first | exact Nat.le_of_ble_eq_true rfl | (simp only [rmX7_init_X8]; omega), by first | exact Nat.le_of_ble_eq_true rfl | (simp only [rmX7_init_X8]; omega)⟩ (fun H1 locs2 v2 v3 hO3 hz4 ho5 hS6 => ?_)
  refine lv_aload_n C.x C.b dX7_init_4 rfl (lv_at hl 0 rfl) ?_
  refine hr_aload_no C.x C.b dX7_init_5 rfl (lv_at hl 1 rfl) ?_
  refine hr_putF in_X8 tyX8 tyX8_ok nmX8 (ci := 6) 0 rfl q832 rfl rfl rfl (by decide) C hin hO3 (Nat.le_of_ble_eq_true rfl) (hr_nr _ _) (hr_fr _ _) hS6 (Or.inl rfl) dX7_init_6 (fun H7 locs9 hO10 hz11 ho12 hS8 => ?_)
  exact hr_vret C hQ (⟨rfl, v2, v3, hO10⟩) hS8 (by first | exact Nat.le_of_ble_eq_true rfl | (simp only [rmX7_init_X8]; omega)) (by first | exact Nat.le_of_ble_eq_true rfl | (simp only [rmX7_init_X8]; omega)) dX7_init_9

theorem xt_X9 : ∀ w ∈ hr_xats "HabitRegistry$Failure" 1 "HabitRegistry$Rejection", w ∈ lw_tbl := hr_inT _ [82, 250, 259, 271, 274, 276, 251, 252, 122, 123, 253, 258, 272, 289, 240, 290, 242, 291, 244, 254, 256, 246, 284, 285, 286, 251, 235, 831, 850, 262, 851, 852, 853, 249, 248, 855] (by decide +kernel)
theorem xg_X9 : ∀ w ∈ hr_xats "HabitRegistry$Failure" 1 "HabitRegistry$Rejection", (goodWord w || hr_isD w) = true := List.all_eq_true.mp (by decide +kernel)
abbrev rmX7_init_X9 : Room := { frames := 4, cells := 0, slots := 0, locals := 80 }
set_option maxHeartbeats 4000000 in
set_option maxRecDepth 100000 in
theorem mtX7_init_X9 {l : Launch} {D : va_G} {s0 : State} (Z : hr_Z l D s0) {H : Heap} {a : Nat} {og : Option Nat} (ha : s0.heap.size ≤ a) (hO : hr_O D H a 7 [.null, .null, .null, .null, .null, .null, .int (hr_I 0), .int (hr_I 0), .int (hr_I 0)]) (hmo : hr_Mo H a) : hr_M l s0 yX7_init (ws_ yX7_init cX7_init 2 (Option.none : Option Jvm.ClassFile.FieldType)) rmX7_init_X9 [.ref a, va_rf og] H (fun q => q = a ∨ H.size ≤ q) (fun v H1 => v = none ∧ ∃ v2 v3 : Value, hr_O D H1 a 7 [va_rf og, .ref a, v2, v3, .null, .null, .int (hr_I 0), .int (hr_I 0), .int (hr_I 0)]) hr_no := by
  refine hr_of Z (by decide) (by cases og <;> exact Nat.le_of_ble_eq_true rfl) (fun q h => h.elim (fun e => Or.inl (by rw [e]; exact ha)) Or.inr) ?_
  intro p e s m args below meth c Q ls C hQ hin hnx hS hl
  have hAN : ∀ q, H.size ≤ q → (fun q => q = a ∨ H.size ≤ q) q := (fun _ h => Or.inr h)
  have hl : lv_has ls 2 [(0, .ref a), (1, va_rf og)] := by cases og <;> exact hl
  refine lv_aload_n C.x C.b dX7_init_0 rfl (lv_at hl 0 rfl) ?_
  refine hr_exinit (ci := 7) in_X9 tyX9 tyX9_ok nmX9 rfl (by decide) rfl rfl rfl rfl xt_X9 xg_X9 C hO (by decide) rfl hmo (Or.inl rfl) hS hl.1 dX7_init_1 (Nat.le_of_ble_eq_true rfl) (Nat.le_of_ble_eq_true rfl) ⟨by first | exact Nat.le_of_ble_eq_true rfl | (simp only [rmX7_init_X9]; omega), by first | exact Nat.le_of_ble_eq_true rfl | (simp only [rmX7_init_X9]; omega)⟩ (fun H1 locs2 v2 v3 hO3 hz4 ho5 hS6 => ?_)
  refine lv_aload_n C.x C.b dX7_init_4 rfl (lv_at hl 0 rfl) ?_
  refine hr_aload_no C.x C.b dX7_init_5 rfl (lv_at hl 1 rfl) ?_
  refine hr_putF in_X9 tyX9 tyX9_ok nmX9 (ci := 7) 0 rfl q832 rfl rfl rfl (by decide) C hin hO3 (Nat.le_of_ble_eq_true rfl) (hr_nr _ _) (hr_fr _ _) hS6 (Or.inl rfl) dX7_init_6 (fun H7 locs9 hO10 hz11 ho12 hS8 => ?_)
  exact hr_vret C hQ (⟨rfl, v2, v3, hO10⟩) hS8 (by first | exact Nat.le_of_ble_eq_true rfl | (simp only [rmX7_init_X9]; omega)) (by first | exact Nat.le_of_ble_eq_true rfl | (simp only [rmX7_init_X9]; omega)) dX7_init_9

theorem xt_X11 : ∀ w ∈ hr_xats "HabitRegistry$Failure" 1 "HabitRegistry$SyntaxError", w ∈ lw_tbl := hr_inT _ [82, 250, 259, 271, 274, 276, 251, 252, 122, 123, 253, 258, 272, 289, 240, 290, 242, 291, 244, 254, 256, 246, 284, 285, 286, 251, 235, 831, 1735, 263, 1736, 1737, 1738, 249, 248, 1740] (by decide +kernel)
theorem xg_X11 : ∀ w ∈ hr_xats "HabitRegistry$Failure" 1 "HabitRegistry$SyntaxError", (goodWord w || hr_isD w) = true := List.all_eq_true.mp (by decide +kernel)
abbrev rmX7_init_X11 : Room := { frames := 4, cells := 0, slots := 0, locals := 80 }
set_option maxHeartbeats 4000000 in
set_option maxRecDepth 100000 in
theorem mtX7_init_X11 {l : Launch} {D : va_G} {s0 : State} (Z : hr_Z l D s0) {H : Heap} {a : Nat} {og : Option Nat} (ha : s0.heap.size ≤ a) (hO : hr_O D H a 9 [.null, .null, .null, .null, .null, .null, .int (hr_I 0), .int (hr_I 0)]) (hmo : hr_Mo H a) : hr_M l s0 yX7_init (ws_ yX7_init cX7_init 2 (Option.none : Option Jvm.ClassFile.FieldType)) rmX7_init_X11 [.ref a, va_rf og] H (fun q => q = a ∨ H.size ≤ q) (fun v H1 => v = none ∧ ∃ v2 v3 : Value, hr_O D H1 a 9 [va_rf og, .ref a, v2, v3, .null, .null, .int (hr_I 0), .int (hr_I 0)]) hr_no := by
  refine hr_of Z (by decide) (by cases og <;> exact Nat.le_of_ble_eq_true rfl) (fun q h => h.elim (fun e => Or.inl (by rw [e]; exact ha)) Or.inr) ?_
  intro p e s m args below meth c Q ls C hQ hin hnx hS hl
  have hAN : ∀ q, H.size ≤ q → (fun q => q = a ∨ H.size ≤ q) q := (fun _ h => Or.inr h)
  have hl : lv_has ls 2 [(0, .ref a), (1, va_rf og)] := by cases og <;> exact hl
  refine lv_aload_n C.x C.b dX7_init_0 rfl (lv_at hl 0 rfl) ?_
  refine hr_exinit (ci := 9) in_X11 tyX11 tyX11_ok nmX11 rfl (by decide) rfl rfl rfl rfl xt_X11 xg_X11 C hO (by decide) rfl hmo (Or.inl rfl) hS hl.1 dX7_init_1 (Nat.le_of_ble_eq_true rfl) (Nat.le_of_ble_eq_true rfl) ⟨by first | exact Nat.le_of_ble_eq_true rfl | (simp only [rmX7_init_X11]; omega), by first | exact Nat.le_of_ble_eq_true rfl | (simp only [rmX7_init_X11]; omega)⟩ (fun H1 locs2 v2 v3 hO3 hz4 ho5 hS6 => ?_)
  refine lv_aload_n C.x C.b dX7_init_4 rfl (lv_at hl 0 rfl) ?_
  refine hr_aload_no C.x C.b dX7_init_5 rfl (lv_at hl 1 rfl) ?_
  refine hr_putF in_X11 tyX11 tyX11_ok nmX11 (ci := 9) 0 rfl q832 rfl rfl rfl (by decide) C hin hO3 (Nat.le_of_ble_eq_true rfl) (hr_nr _ _) (hr_fr _ _) hS6 (Or.inl rfl) dX7_init_6 (fun H7 locs9 hO10 hz11 ho12 hS8 => ?_)
  exact hr_vret C hQ (⟨rfl, v2, v3, hO10⟩) hS8 (by first | exact Nat.le_of_ble_eq_true rfl | (simp only [rmX7_init_X11]; omega)) (by first | exact Nat.le_of_ble_eq_true rfl | (simp only [rmX7_init_X11]; omega)) dX7_init_9

abbrev rmX8_init : Room := { frames := 5, cells := 0, slots := 0, locals := 101 }
set_option maxHeartbeats 4000000 in
set_option maxRecDepth 100000 in
theorem mtX8_init {l : Launch} {D : va_G} {s0 : State} (Z : hr_Z l D s0) {H : Heap} {a : Nat} (ha : s0.heap.size ≤ a) (hO : hr_O D H a 6 [.null, .null, .null, .null, .null, .null, .int (hr_I 0)]) (hmo : hr_Mo H a) : hr_M l s0 yX8_init (ws_ yX8_init cX8_init 1 (Option.none : Option Jvm.ClassFile.FieldType)) rmX8_init [.ref a] H (fun q => q = a ∨ H.size ≤ q) (fun v H1 => v = none ∧ hr_Bc D H1 a) hr_no := by
  refine hr_of Z (by decide) (Nat.le_of_ble_eq_true rfl) (fun q h => h.elim (fun e => Or.inl (by rw [e]; exact ha)) Or.inr) ?_
  intro p e s m args below meth c Q ls C hQ hin hnx hS hl
  have hAN : ∀ q, H.size ≤ q → (fun q => q = a ∨ H.size ≤ q) q := (fun _ h => Or.inr h)
  have hl : lv_has ls 1 [(0, .ref a)] := hl
  refine lv_aload_n C.x C.b dX8_init_0 rfl (lv_at hl 0 rfl) ?_
  refine lv_null C.x C.b dX8_init_1 ?_
  refine hr_callI (lw_meth q830) q100 q828 q829 rfl (by decide +kernel) (n := 1) C (mtX7_init_X8 Z (og := none) ha hO hmo) ⟨Nat.le_of_ble_eq_true rfl, Nat.le_of_ble_eq_true rfl⟩ rfl hl.1 (Nat.le_of_ble_eq_true rfl) ⟨by first | exact Nat.le_of_ble_eq_true rfl | (simp only [rmX8_init]; omega), by first | exact Nat.le_of_ble_eq_true rfl | (simp only [rmX8_init]; omega)⟩ hS (fun _ h => h) dX8_init_2 (rest := []) rfl
    (fun _ _ _ _ _ h => h.elim) (fun v6 H1 locs2 hp5 hF3 hS4 => ?_)
  obtain ⟨rfl, ⟨v2, v3, hO9⟩⟩ := hp5
  refine W.eq (g2 := F0 m 5 ls []) rfl ?_
  exact hr_vret C hQ (⟨rfl, _, _, _, _, _, _, _, hO9⟩) hS4 (by first | exact Nat.le_of_ble_eq_true rfl | (simp only [rmX8_init]; omega)) (by first | exact Nat.le_of_ble_eq_true rfl | (simp only [rmX8_init]; omega)) dX8_init_5

abbrev rmX11_init : Room := { frames := 5, cells := 0, slots := 0, locals := 101 }
set_option maxHeartbeats 4000000 in
set_option maxRecDepth 100000 in
theorem mtX11_init {l : Launch} {D : va_G} {s0 : State} (Z : hr_Z l D s0) {H : Heap} {a : Nat} {o : Int} (ha : s0.heap.size ≤ a) (hO : hr_O D H a 9 [.null, .null, .null, .null, .null, .null, .int (hr_I 0), .int (hr_I 0)]) (hmo : hr_Mo H a) : hr_M l s0 yX11_init (ws_ yX11_init cX11_init 2 (Option.none : Option Jvm.ClassFile.FieldType)) rmX11_init [.ref a, .int (hr_I o)] H (fun q => q = a ∨ H.size ≤ q) (fun v H1 => v = none ∧ hr_Sy D H1 a o) hr_no := by
  refine hr_of Z (by decide) (Nat.le_of_ble_eq_true rfl) (fun q h => h.elim (fun e => Or.inl (by rw [e]; exact ha)) Or.inr) ?_
  intro p e s m args below meth c Q ls C hQ hin hnx hS hl
  have hAN : ∀ q, H.size ≤ q → (fun q => q = a ∨ H.size ≤ q) q := (fun _ h => Or.inr h)
  have hl : lv_has ls 2 [(0, .ref a), (1, .int (hr_I o))] := hl
  refine lv_aload_n C.x C.b dX11_init_0 rfl (lv_at hl 0 rfl) ?_
  refine lv_null C.x C.b dX11_init_1 ?_
  refine hr_callI (lw_meth q830) q100 q1744 q829 rfl (by decide +kernel) (n := 1) C (mtX7_init_X11 Z (og := none) ha hO hmo) ⟨Nat.le_of_ble_eq_true rfl, Nat.le_of_ble_eq_true rfl⟩ rfl hl.1 (Nat.le_of_ble_eq_true rfl) ⟨by first | exact Nat.le_of_ble_eq_true rfl | (simp only [rmX11_init]; omega), by first | exact Nat.le_of_ble_eq_true rfl | (simp only [rmX11_init]; omega)⟩ hS (fun _ h => h) dX11_init_2 (rest := []) rfl
    (fun _ _ _ _ _ h => h.elim) (fun v6 H1 locs2 hp5 hF3 hS4 => ?_)
  obtain ⟨rfl, ⟨v2, v3, hO9⟩⟩ := hp5
  refine W.eq (g2 := F0 m 5 ls []) rfl ?_
  refine lv_aload_n C.x C.b dX11_init_5 rfl (lv_at hl 0 rfl) ?_
  refine lv_iload_n C.x C.b dX11_init_6 rfl (lv_at hl 1 rfl) ?_
  refine hr_putF in_X11 tyX11 tyX11_ok nmX11 (ci := 9) 7 rfl q1745 rfl rfl rfl (by decide) C hin hO9 (Nat.le_of_ble_eq_true rfl) rfl rfl hS4 (Or.inl rfl) dX11_init_7 (fun H7 locs9 hO10 hz11 ho12 hS8 => ?_)
  exact hr_vret C hQ (⟨rfl, _, _, _, _, _, _, _, hO10⟩) hS8 (by first | exact Nat.le_of_ble_eq_true rfl | (simp only [rmX11_init]; omega)) (by first | exact Nat.le_of_ble_eq_true rfl | (simp only [rmX11_init]; omega)) dX11_init_10

abbrev rmX9_init_2 : Room := { frames := 5, cells := 0, slots := 0, locals := 101 }
set_option maxHeartbeats 4000000 in
set_option maxRecDepth 100000 in
theorem mtX9_init_2 {l : Launch} {D : va_G} {s0 : State} (Z : hr_Z l D s0) {H : Heap} {a : Nat} {r dt : Int} {og : Option Nat} (ha : s0.heap.size ≤ a) (hO : hr_O D H a 7 [.null, .null, .null, .null, .null, .null, .int (hr_I 0), .int (hr_I 0), .int (hr_I 0)]) (hmo : hr_Mo H a) : hr_M l s0 yX9_init_2 (ws_ yX9_init_2 cX9_init_2 4 (Option.none : Option Jvm.ClassFile.FieldType)) rmX9_init_2 [.ref a, .int (hr_I r), .int (hr_I dt), va_rf og] H (fun q => q = a ∨ H.size ≤ q) (fun v H1 => v = none ∧ hr_Rj D H1 a og r dt) hr_no := by
  refine hr_of Z (by decide) (by cases og <;> exact Nat.le_of_ble_eq_true rfl) (fun q h => h.elim (fun e => Or.inl (by rw [e]; exact ha)) Or.inr) ?_
  intro p e s m args below meth c Q ls C hQ hin hnx hS hl
  have hAN : ∀ q, H.size ≤ q → (fun q => q = a ∨ H.size ≤ q) q := (fun _ h => Or.inr h)
  have hl : lv_has ls 4 [(0, .ref a), (1, .int (hr_I r)), (2, .int (hr_I dt)), (3, va_rf og)] := by cases og <;> exact hl
  refine lv_aload_n C.x C.b dX9_init_2_0 rfl (lv_at hl 0 rfl) ?_
  refine hr_aload_no C.x C.b dX9_init_2_1 rfl (lv_at hl 3 rfl) ?_
  refine hr_callI (lw_meth q830) q100 q862 q829 rfl (by decide +kernel) (n := 1) C (mtX7_init_X9 Z (og := og) ha hO hmo) ⟨Nat.le_of_ble_eq_true rfl, Nat.le_of_ble_eq_true rfl⟩ rfl hl.1 (Nat.le_of_ble_eq_true rfl) ⟨by first | exact Nat.le_of_ble_eq_true rfl | (simp only [rmX9_init_2]; omega), by first | exact Nat.le_of_ble_eq_true rfl | (simp only [rmX9_init_2]; omega)⟩ hS (fun _ h => h) dX9_init_2_2 (rest := []) rfl
    (fun _ _ _ _ _ h => h.elim) (fun v6 H1 locs2 hp5 hF3 hS4 => ?_)
  obtain ⟨rfl, ⟨v2, v3, hO9⟩⟩ := hp5
  refine W.eq (g2 := F0 m 5 ls []) rfl ?_
  refine lv_aload_n C.x C.b dX9_init_2_5 rfl (lv_at hl 0 rfl) ?_
  refine lv_iload_n C.x C.b dX9_init_2_6 rfl (lv_at hl 1 rfl) ?_
  refine hr_putF in_X9 tyX9 tyX9_ok nmX9 (ci := 7) 7 rfl q863 rfl rfl rfl (by decide) C hin hO9 (Nat.le_of_ble_eq_true rfl) rfl rfl hS4 (Or.inl rfl) dX9_init_2_7 (fun H7 locs9 hO10 hz11 ho12 hS8 => ?_)
  refine lv_aload_n C.x C.b dX9_init_2_10 rfl (lv_at hl 0 rfl) ?_
  refine lv_iload_n C.x C.b dX9_init_2_11 rfl (lv_at hl 2 rfl) ?_
  refine hr_putF in_X9 tyX9 tyX9_ok nmX9 (ci := 7) 8 rfl q864 rfl rfl rfl (by decide) C hin hO10 (Nat.le_of_ble_eq_true rfl) rfl rfl hS8 (Or.inl rfl) dX9_init_2_12 (fun H13 locs15 hO16 hz17 ho18 hS14 => ?_)
  exact hr_vret C hQ (⟨rfl, _, _, _, _, _, _, hO16⟩) hS14 (by first | exact Nat.le_of_ble_eq_true rfl | (simp only [rmX9_init_2]; omega)) (by first | exact Nat.le_of_ble_eq_true rfl | (simp only [rmX9_init_2]; omega)) dX9_init_2_15

abbrev rmX9_init : Room := { frames := 6, cells := 0, slots := 0, locals := 124 }
set_option maxHeartbeats 4000000 in
set_option maxRecDepth 100000 in
theorem mtX9_init {l : Launch} {D : va_G} {s0 : State} (Z : hr_Z l D s0) {H : Heap} {a : Nat} {r dt : Int} (ha : s0.heap.size ≤ a) (hO : hr_O D H a 7 [.null, .null, .null, .null, .null, .null, .int (hr_I 0), .int (hr_I 0), .int (hr_I 0)]) (hmo : hr_Mo H a) : hr_M l s0 yX9_init (ws_ yX9_init cX9_init 3 (Option.none : Option Jvm.ClassFile.FieldType)) rmX9_init [.ref a, .int (hr_I r), .int (hr_I dt)] H (fun q => q = a ∨ H.size ≤ q) (fun v H1 => v = none ∧ hr_Rj D H1 a none r dt) hr_no := by
  refine hr_of Z (by decide) (Nat.le_of_ble_eq_true rfl) (fun q h => h.elim (fun e => Or.inl (by rw [e]; exact ha)) Or.inr) ?_
  intro p e s m args below meth c Q ls C hQ hin hnx hS hl
  have hAN : ∀ q, H.size ≤ q → (fun q => q = a ∨ H.size ≤ q) q := (fun _ h => Or.inr h)
  have hl : lv_has ls 3 [(0, .ref a), (1, .int (hr_I r)), (2, .int (hr_I dt))] := hl
  refine lv_aload_n C.x C.b dX9_init_0 rfl (lv_at hl 0 rfl) ?_
  refine lv_iload_n C.x C.b dX9_init_1 rfl (lv_at hl 1 rfl) ?_
  refine lv_iload_n C.x C.b dX9_init_2 rfl (lv_at hl 2 rfl) ?_
  refine lv_null C.x C.b dX9_init_3 ?_
  refine hr_callI (lw_meth q861) q102 q859 q860 rfl (by decide +kernel) (n := 3) C (mtX9_init_2 Z (og := none) ha hO hmo) ⟨Nat.le_of_ble_eq_true rfl, Nat.le_of_ble_eq_true rfl⟩ rfl hl.1 (Nat.le_of_ble_eq_true rfl) ⟨by first | exact Nat.le_of_ble_eq_true rfl | (simp only [rmX9_init]; omega), by first | exact Nat.le_of_ble_eq_true rfl | (simp only [rmX9_init]; omega)⟩ hS (fun _ h => h) dX9_init_4 (rest := []) rfl
    (fun _ _ _ _ _ h => h.elim) (fun v6 H1 locs2 hp5 hF3 hS4 => ?_)
  obtain ⟨rfl, hO9⟩ := hp5
  refine W.eq (g2 := F0 m 7 ls []) rfl ?_
  exact hr_vret C hQ (⟨rfl, hO9⟩) hS4 (by first | exact Nat.le_of_ble_eq_true rfl | (simp only [rmX9_init]; omega)) (by first | exact Nat.le_of_ble_eq_true rfl | (simp only [rmX9_init]; omega)) dX9_init_7

abbrev rmX9_reason : Room := { frames := 0, cells := 0, slots := 0, locals := 12 }
set_option maxHeartbeats 4000000 in
set_option maxRecDepth 100000 in
theorem mtX9_reason {l : Launch} {D : va_G} {s0 : State} (Z : hr_Z l D s0) {H : Heap} {a : Nat} {r dt : Int} {v0 v1 v2 v3 v4 v5 v6 : Value} (hO : hr_O D H a 7 [v0, v1, v2, v3, v4, v5, v6, .int (hr_I r), .int (hr_I dt)]) : hr_M l s0 yX9_reason (ws_ yX9_reason cX9_reason 1 (Option.some Jvm.ClassFile.FieldType.int)) rmX9_reason [.ref a] H (hr_N H) (fun v H1 => v = some (.int (hr_I r)) ∧ H = H1) hr_no := by
  refine hr_of Z (by decide) (Nat.le_of_ble_eq_true rfl) (fun _ h => Or.inr h) ?_
  intro p e s m args below meth c Q ls C hQ hin hnx hS hl
  have hAN : ∀ q, H.size ≤ q → (hr_N H) q := (fun _ h => h)
  have hl : lv_has ls 1 [(0, .ref a)] := hl
  refine lv_aload_n C.x C.b dX9_reason_0 rfl (lv_at hl 0 rfl) ?_
  refine hr_get in_X9 (ci := 7) 7 q863 rfl rfl (by decide) C hO rfl dX9_reason_1 ?_
  exact hr_iret C hQ (⟨rfl, rfl⟩) hS (by first | exact Nat.le_of_ble_eq_true rfl | (simp only [rmX9_reason]; omega)) (by first | exact Nat.le_of_ble_eq_true rfl | (simp only [rmX9_reason]; omega)) dX9_reason_4

abbrev rmX9_detail : Room := { frames := 0, cells := 0, slots := 0, locals := 12 }
set_option maxHeartbeats 4000000 in
set_option maxRecDepth 100000 in
theorem mtX9_detail {l : Launch} {D : va_G} {s0 : State} (Z : hr_Z l D s0) {H : Heap} {a : Nat} {r dt : Int} {v0 v1 v2 v3 v4 v5 v6 : Value} (hO : hr_O D H a 7 [v0, v1, v2, v3, v4, v5, v6, .int (hr_I r), .int (hr_I dt)]) : hr_M l s0 yX9_detail (ws_ yX9_detail cX9_detail 1 (Option.some Jvm.ClassFile.FieldType.int)) rmX9_detail [.ref a] H (hr_N H) (fun v H1 => v = some (.int (hr_I dt)) ∧ H = H1) hr_no := by
  refine hr_of Z (by decide) (Nat.le_of_ble_eq_true rfl) (fun _ h => Or.inr h) ?_
  intro p e s m args below meth c Q ls C hQ hin hnx hS hl
  have hAN : ∀ q, H.size ≤ q → (hr_N H) q := (fun _ h => h)
  have hl : lv_has ls 1 [(0, .ref a)] := hl
  refine lv_aload_n C.x C.b dX9_detail_0 rfl (lv_at hl 0 rfl) ?_
  refine hr_get in_X9 (ci := 7) 8 q864 rfl rfl (by decide) C hO rfl dX9_detail_1 ?_
  exact hr_iret C hQ (⟨rfl, rfl⟩) hS (by first | exact Nat.le_of_ble_eq_true rfl | (simp only [rmX9_detail]; omega)) (by first | exact Nat.le_of_ble_eq_true rfl | (simp only [rmX9_detail]; omega)) dX9_detail_4

abbrev rmX11_detail : Room := { frames := 0, cells := 0, slots := 0, locals := 12 }
set_option maxHeartbeats 4000000 in
set_option maxRecDepth 100000 in
theorem mtX11_detail {l : Launch} {D : va_G} {s0 : State} (Z : hr_Z l D s0) {H : Heap} {a : Nat} {r dt : Int} {v0 v1 v2 v3 v4 v5 v6 : Value} (hO : hr_O D H a 9 [v0, v1, v2, v3, v4, v5, v6, .int (hr_I r)]) : hr_M l s0 yX11_detail (ws_ yX11_detail cX11_detail 1 (Option.some Jvm.ClassFile.FieldType.int)) rmX11_detail [.ref a] H (hr_N H) (fun v H1 => v = some (.int (hr_I r)) ∧ H = H1) hr_no := by
  refine hr_of Z (by decide) (Nat.le_of_ble_eq_true rfl) (fun _ h => Or.inr h) ?_
  intro p e s m args below meth c Q ls C hQ hin hnx hS hl
  have hAN : ∀ q, H.size ≤ q → (hr_N H) q := (fun _ h => h)
  have hl : lv_has ls 1 [(0, .ref a)] := hl
  refine lv_aload_n C.x C.b dX11_detail_0 rfl (lv_at hl 0 rfl) ?_
  refine hr_get in_X11 (ci := 9) 7 q1745 rfl rfl (by decide) C hO rfl dX11_detail_1 ?_
  exact hr_iret C hQ (⟨rfl, rfl⟩) hS (by first | exact Nat.le_of_ble_eq_true rfl | (simp only [rmX11_detail]; omega)) (by first | exact Nat.le_of_ble_eq_true rfl | (simp only [rmX11_detail]; omega)) dX11_detail_4

theorem jt_io : ∀ w ∈ vx_at0 "HabitRegistry" 17 "java/lang/IndexOutOfBoundsException" ["java/lang/RuntimeException", "java/lang/Exception"], w ∈ lw_tbl := hr_inT _ [82, 250, 259, 271, 274, 276, 251, 252, 122, 123, 253, 258, 272, 289, 240, 290, 242, 291, 244, 254, 256, 246, 1040, 1041, 1042, 281, 231, 281, 282, 283, 284, 233, 284, 285, 286, 251, 235, 1039, 1031, 1032, 1033, 268, 1034, 1035, 1036, 1037, 249, 248, 1038] (by decide +kernel)
theorem jg_io : ∀ w ∈ vx_at0 "HabitRegistry" 17 "java/lang/IndexOutOfBoundsException" ["java/lang/RuntimeException", "java/lang/Exception"], (goodWord w || hr_isD w) = true := List.all_eq_true.mp (by decide +kernel)
abbrev rmX1_requireIndex : Room := { frames := 6, cells := 1, slots := 6, locals := 110 }
set_option maxHeartbeats 4000000 in
set_option maxRecDepth 100000 in
theorem mtX1_requireIndex {l : Launch} {D : va_G} {s0 : State} (Z : hr_Z l D s0) {H : Heap} {t : Bool} : hr_M l s0 yX1_requireIndex (ws_ yX1_requireIndex cX1_requireIndex 1 (Option.none : Option Jvm.ClassFile.FieldType)) rmX1_requireIndex [.int (hr_I (hr_t t))] H (hr_N H) (fun v H1 => v = none ∧ t = true ∧ H = H1) (fun E q H1 => E = "java/lang/IndexOutOfBoundsException" ∧ t = false) := by
  refine hr_of Z (by decide) (Nat.le_of_ble_eq_true rfl) (fun _ h => Or.inr h) ?_
  intro p e s m args below meth c Q ls C hQ hin hnx hS hl
  have hAN : ∀ q, H.size ≤ q → (hr_N H) q := (fun _ h => h)
  have hl : lv_has ls 1 [(0, .int (hr_I (hr_t t)))] := hl
  refine lv_iload_n C.x C.b dX1_requireIndex_0 rfl (lv_at hl 0 rfl) ?_
  refine hr_ifb_ne C (tgt := 12) dX1_requireIndex_1 (by decide) (fun hc => ?_) (fun hc => ?_)
  · exact hr_vret C hQ (⟨rfl, hc, rfl⟩) hS (by first | exact Nat.le_of_ble_eq_true rfl | (simp only [rmX1_requireIndex]; omega)) (by first | exact Nat.le_of_ble_eq_true rfl | (simp only [rmX1_requireIndex]; omega)) dX1_requireIndex_12
  · exact hr_throw ["java/lang/RuntimeException", "java/lang/Exception"] (by decide) (by decide) q1030 q105 jt_io jg_io C hQ hS hl.1 dX1_requireIndex_4 dX1_requireIndex_7 dX1_requireIndex_8 dX1_requireIndex_11 (fun x hx => (hnx x hx).elim) (by decide) (by decide) (Nat.le_of_ble_eq_true rfl) (Nat.le_of_ble_eq_true rfl) (fun _ _ _ => ⟨rfl, hc⟩) (Nat.le_of_ble_eq_true rfl) (Nat.le_of_ble_eq_true rfl)

theorem jt_ia : ∀ w ∈ vx_at0 "HabitRegistry" 23 "java/lang/IllegalArgumentException" ["java/lang/RuntimeException", "java/lang/Exception"], w ∈ lw_tbl := hr_inT _ [82, 250, 259, 271, 274, 276, 251, 252, 122, 123, 253, 258, 272, 289, 240, 290, 242, 291, 244, 254, 256, 246, 982, 983, 984, 281, 231, 281, 282, 283, 284, 233, 284, 285, 286, 251, 235, 981, 973, 974, 975, 266, 976, 977, 978, 979, 249, 248, 980] (by decide +kernel)
theorem jg_ia : ∀ w ∈ vx_at0 "HabitRegistry" 23 "java/lang/IllegalArgumentException" ["java/lang/RuntimeException", "java/lang/Exception"], (goodWord w || hr_isD w) = true := List.all_eq_true.mp (by decide +kernel)
abbrev rmX1_requireArgument : Room := { frames := 6, cells := 1, slots := 6, locals := 110 }
set_option maxHeartbeats 4000000 in
set_option maxRecDepth 100000 in
theorem mtX1_requireArgument {l : Launch} {D : va_G} {s0 : State} (Z : hr_Z l D s0) {H : Heap} {t : Bool} : hr_M l s0 yX1_requireArgument (ws_ yX1_requireArgument cX1_requireArgument 1 (Option.none : Option Jvm.ClassFile.FieldType)) rmX1_requireArgument [.int (hr_I (hr_t t))] H (hr_N H) (fun v H1 => v = none ∧ t = true ∧ H = H1) (fun E q H1 => E = "java/lang/IllegalArgumentException" ∧ t = false) := by
  refine hr_of Z (by decide) (Nat.le_of_ble_eq_true rfl) (fun _ h => Or.inr h) ?_
  intro p e s m args below meth c Q ls C hQ hin hnx hS hl
  have hAN : ∀ q, H.size ≤ q → (hr_N H) q := (fun _ h => h)
  have hl : lv_has ls 1 [(0, .int (hr_I (hr_t t)))] := hl
  refine lv_iload_n C.x C.b dX1_requireArgument_0 rfl (lv_at hl 0 rfl) ?_
  refine hr_ifb_ne C (tgt := 12) dX1_requireArgument_1 (by decide) (fun hc => ?_) (fun hc => ?_)
  · exact hr_vret C hQ (⟨rfl, hc, rfl⟩) hS (by first | exact Nat.le_of_ble_eq_true rfl | (simp only [rmX1_requireArgument]; omega)) (by first | exact Nat.le_of_ble_eq_true rfl | (simp only [rmX1_requireArgument]; omega)) dX1_requireArgument_12
  · exact hr_throw ["java/lang/RuntimeException", "java/lang/Exception"] (by decide) (by decide) q972 q104 jt_ia jg_ia C hQ hS hl.1 dX1_requireArgument_4 dX1_requireArgument_7 dX1_requireArgument_8 dX1_requireArgument_11 (fun x hx => (hnx x hx).elim) (by decide) (by decide) (Nat.le_of_ble_eq_true rfl) (Nat.le_of_ble_eq_true rfl) (fun _ _ _ => ⟨rfl, hc⟩) (Nat.le_of_ble_eq_true rfl) (Nat.le_of_ble_eq_true rfl)

theorem jt_is : ∀ w ∈ vx_at0 "HabitRegistry" 26 "java/lang/IllegalStateException" ["java/lang/RuntimeException", "java/lang/Exception"], w ∈ lw_tbl := hr_inT _ [82, 250, 259, 271, 274, 276, 251, 252, 122, 123, 253, 258, 272, 289, 240, 290, 242, 291, 244, 254, 256, 246, 1677, 1678, 1679, 281, 231, 281, 282, 283, 284, 233, 284, 285, 286, 251, 235, 1676, 1668, 1669, 1670, 267, 1671, 1672, 1673, 1674, 249, 248, 1675] (by decide +kernel)
theorem jg_is : ∀ w ∈ vx_at0 "HabitRegistry" 26 "java/lang/IllegalStateException" ["java/lang/RuntimeException", "java/lang/Exception"], (goodWord w || hr_isD w) = true := List.all_eq_true.mp (by decide +kernel)
abbrev rmX1_requireState : Room := { frames := 6, cells := 1, slots := 6, locals := 110 }
set_option maxHeartbeats 4000000 in
set_option maxRecDepth 100000 in
theorem mtX1_requireState {l : Launch} {D : va_G} {s0 : State} (Z : hr_Z l D s0) {H : Heap} {t : Bool} : hr_M l s0 yX1_requireState (ws_ yX1_requireState cX1_requireState 1 (Option.none : Option Jvm.ClassFile.FieldType)) rmX1_requireState [.int (hr_I (hr_t t))] H (hr_N H) (fun v H1 => v = none ∧ t = true ∧ H = H1) (fun E q H1 => E = "java/lang/IllegalStateException" ∧ t = false) := by
  refine hr_of Z (by decide) (Nat.le_of_ble_eq_true rfl) (fun _ h => Or.inr h) ?_
  intro p e s m args below meth c Q ls C hQ hin hnx hS hl
  have hAN : ∀ q, H.size ≤ q → (hr_N H) q := (fun _ h => h)
  have hl : lv_has ls 1 [(0, .int (hr_I (hr_t t)))] := hl
  refine lv_iload_n C.x C.b dX1_requireState_0 rfl (lv_at hl 0 rfl) ?_
  refine hr_ifb_ne C (tgt := 12) dX1_requireState_1 (by decide) (fun hc => ?_) (fun hc => ?_)
  · exact hr_vret C hQ (⟨rfl, hc, rfl⟩) hS (by first | exact Nat.le_of_ble_eq_true rfl | (simp only [rmX1_requireState]; omega)) (by first | exact Nat.le_of_ble_eq_true rfl | (simp only [rmX1_requireState]; omega)) dX1_requireState_12
  · exact hr_throw ["java/lang/RuntimeException", "java/lang/Exception"] (by decide) (by decide) q1667 q112 jt_is jg_is C hQ hS hl.1 dX1_requireState_4 dX1_requireState_7 dX1_requireState_8 dX1_requireState_11 (fun x hx => (hnx x hx).elim) (by decide) (by decide) (Nat.le_of_ble_eq_true rfl) (Nat.le_of_ble_eq_true rfl) (fun _ _ _ => ⟨rfl, hc⟩) (Nat.le_of_ble_eq_true rfl) (Nat.le_of_ble_eq_true rfl)

theorem jt_ns : ∀ w ∈ vx_at0 "HabitRegistry" 29 "java/util/NoSuchElementException" ["java/lang/RuntimeException", "java/lang/Exception"], w ∈ lw_tbl := hr_inT _ [82, 250, 259, 271, 274, 276, 251, 252, 122, 123, 253, 258, 272, 289, 240, 290, 242, 291, 244, 254, 256, 246, 278, 279, 280, 281, 231, 281, 282, 283, 284, 233, 284, 285, 286, 251, 235, 1087, 229, 230, 237, 238, 239, 241, 243, 245, 249, 248, 247] (by decide +kernel)
theorem jg_ns : ∀ w ∈ vx_at0 "HabitRegistry" 29 "java/util/NoSuchElementException" ["java/lang/RuntimeException", "java/lang/Exception"], (goodWord w || hr_isD w) = true := List.all_eq_true.mp (by decide +kernel)
abbrev rmX1_requireElement : Room := { frames := 6, cells := 1, slots := 6, locals := 110 }
set_option maxHeartbeats 4000000 in
set_option maxRecDepth 100000 in
theorem mtX1_requireElement {l : Launch} {D : va_G} {s0 : State} (Z : hr_Z l D s0) {H : Heap} {t : Bool} : hr_M l s0 yX1_requireElement (ws_ yX1_requireElement cX1_requireElement 1 (Option.none : Option Jvm.ClassFile.FieldType)) rmX1_requireElement [.int (hr_I (hr_t t))] H (hr_N H) (fun v H1 => v = none ∧ t = true ∧ H = H1) (fun E q H1 => E = "java/util/NoSuchElementException" ∧ t = false) := by
  refine hr_of Z (by decide) (Nat.le_of_ble_eq_true rfl) (fun _ h => Or.inr h) ?_
  intro p e s m args below meth c Q ls C hQ hin hnx hS hl
  have hAN : ∀ q, H.size ≤ q → (hr_N H) q := (fun _ h => h)
  have hl : lv_has ls 1 [(0, .int (hr_I (hr_t t)))] := hl
  refine lv_iload_n C.x C.b dX1_requireElement_0 rfl (lv_at hl 0 rfl) ?_
  refine hr_ifb_ne C (tgt := 12) dX1_requireElement_1 (by decide) (fun hc => ?_) (fun hc => ?_)
  · exact hr_vret C hQ (⟨rfl, hc, rfl⟩) hS (by first | exact Nat.le_of_ble_eq_true rfl | (simp only [rmX1_requireElement]; omega)) (by first | exact Nat.le_of_ble_eq_true rfl | (simp only [rmX1_requireElement]; omega)) dX1_requireElement_12
  · exact hr_throw ["java/lang/RuntimeException", "java/lang/Exception"] (by decide) (by decide) q1086 q85 jt_ns jg_ns C hQ hS hl.1 dX1_requireElement_4 dX1_requireElement_7 dX1_requireElement_8 dX1_requireElement_11 (fun x hx => (hnx x hx).elim) (by decide) (by decide) (Nat.le_of_ble_eq_true rfl) (Nat.le_of_ble_eq_true rfl) (fun _ _ _ => ⟨rfl, hc⟩) (Nat.le_of_ble_eq_true rfl) (Nat.le_of_ble_eq_true rfl)

theorem jt_ar : ∀ w ∈ vx_at0 "HabitRegistry" 32 "java/lang/ArithmeticException" ["java/lang/RuntimeException", "java/lang/Exception"], w ∈ lw_tbl := hr_inT _ [82, 250, 259, 271, 274, 276, 251, 252, 122, 123, 253, 258, 272, 289, 240, 290, 242, 291, 244, 254, 256, 246, 1435, 1436, 1437, 281, 231, 281, 282, 283, 284, 233, 284, 285, 286, 251, 235, 1434, 1413, 1424, 1425, 264, 1419, 1420, 1422, 1418, 249, 248, 1417] (by decide +kernel)
theorem jg_ar : ∀ w ∈ vx_at0 "HabitRegistry" 32 "java/lang/ArithmeticException" ["java/lang/RuntimeException", "java/lang/Exception"], (goodWord w || hr_isD w) = true := List.all_eq_true.mp (by decide +kernel)
abbrev rmX1_requireCount : Room := { frames := 6, cells := 1, slots := 6, locals := 110 }
set_option maxHeartbeats 4000000 in
set_option maxRecDepth 100000 in
theorem mtX1_requireCount {l : Launch} {D : va_G} {s0 : State} (Z : hr_Z l D s0) {H : Heap} {t : Bool} : hr_M l s0 yX1_requireCount (ws_ yX1_requireCount cX1_requireCount 1 (Option.none : Option Jvm.ClassFile.FieldType)) rmX1_requireCount [.int (hr_I (hr_t t))] H (hr_N H) (fun v H1 => v = none ∧ t = true ∧ H = H1) (fun E q H1 => E = "java/lang/ArithmeticException" ∧ t = false) := by
  refine hr_of Z (by decide) (Nat.le_of_ble_eq_true rfl) (fun _ h => Or.inr h) ?_
  intro p e s m args below meth c Q ls C hQ hin hnx hS hl
  have hAN : ∀ q, H.size ≤ q → (hr_N H) q := (fun _ h => h)
  have hl : lv_has ls 1 [(0, .int (hr_I (hr_t t)))] := hl
  refine lv_iload_n C.x C.b dX1_requireCount_0 rfl (lv_at hl 0 rfl) ?_
  refine hr_ifb_ne C (tgt := 12) dX1_requireCount_1 (by decide) (fun hc => ?_) (fun hc => ?_)
  · exact hr_vret C hQ (⟨rfl, hc, rfl⟩) hS (by first | exact Nat.le_of_ble_eq_true rfl | (simp only [rmX1_requireCount]; omega)) (by first | exact Nat.le_of_ble_eq_true rfl | (simp only [rmX1_requireCount]; omega)) dX1_requireCount_12
  · exact hr_throw ["java/lang/RuntimeException", "java/lang/Exception"] (by decide) (by decide) q1433 q109 jt_ar jg_ar C hQ hS hl.1 dX1_requireCount_4 dX1_requireCount_7 dX1_requireCount_8 dX1_requireCount_11 (fun x hx => (hnx x hx).elim) (by decide) (by decide) (Nat.le_of_ble_eq_true rfl) (Nat.le_of_ble_eq_true rfl) (fun _ _ _ => ⟨rfl, hc⟩) (Nat.le_of_ble_eq_true rfl) (Nat.le_of_ble_eq_true rfl)

theorem hr_O.thr {l : Launch} {D : va_G} {s0 : State} {H0 : Heap} {A0 : Nat → Prop} {p : Program} {s : State} {m : MethodId} {args : Array Value} {meth : Method} {c : Code} {cc : ByteArray} {nL : Nat} {own : String} {ret : Option FieldType} {H : Heap} {a ci : Nat} {fs : List Value} {X : String} {T : u_T} {N : Nat} (C : hr_C l D s0 H0 A0 p s m args meth c cc nL own ret) (hO : hr_O D H a ci fs) (hc : hr_cl[ci]? = some (X, T, N)) : ∃ ce : Cell, H[a]? = some ce ∧ ce.vm = .none ∧ s.vm.findClass X = some ce.cls := by
  obtain ⟨r, h1, cell, q1, q2, q3, q4⟩ := hO
  exact ⟨cell, q1, q3, by rw [q2]; exact C.fc ci hc⟩
abbrev rmX1_rejectIf : Room := { frames := 7, cells := 1, slots := 9, locals := 146 }
set_option maxHeartbeats 4000000 in
set_option maxRecDepth 100000 in
theorem mtX1_rejectIf {l : Launch} {D : va_G} {s0 : State} (Z : hr_Z l D s0) {H : Heap} {t : Bool} {r dt : Int} : hr_M l s0 yX1_rejectIf (ws_ yX1_rejectIf cX1_rejectIf 3 (Option.none : Option Jvm.ClassFile.FieldType)) rmX1_rejectIf [.int (hr_I (hr_t t)), .int (hr_I r), .int (hr_I dt)] H (hr_N H) (fun v H1 => v = none ∧ t = false ∧ H = H1) (fun E q H1 => E = "HabitRegistry$Rejection" ∧ t = true ∧ hr_Rj D H1 q none r dt) := by
  refine hr_of Z (by decide) (Nat.le_of_ble_eq_true rfl) (fun _ h => Or.inr h) ?_
  intro p e s m args below meth c Q ls C hQ hin hnx hS hl
  have hAN : ∀ q, H.size ≤ q → (hr_N H) q := (fun _ h => h)
  have hl : lv_has ls 3 [(0, .int (hr_I (hr_t t))), (1, .int (hr_I r)), (2, .int (hr_I dt))] := hl
  refine lv_iload_n C.x C.b dX1_rejectIf_0 rfl (lv_at hl 0 rfl) ?_
  refine hr_ifb_eq C (tgt := 14) dX1_rejectIf_1 (by decide) (fun hc => ?_) (fun hc => ?_)
  · exact hr_vret C hQ (⟨rfl, hc, rfl⟩) hS (by first | exact Nat.le_of_ble_eq_true rfl | (simp only [rmX1_rejectIf]; omega)) (by first | exact Nat.le_of_ble_eq_true rfl | (simp only [rmX1_rejectIf]; omega)) dX1_rejectIf_14
  · refine hr_newM in_X9 tyX9 tyX9_ok q769 q848 q102 (ci := 7) rfl [.null, .null, .null, .null, .null, .null, .int (hr_I 0), .int (hr_I 0), .int (hr_I 0)] dfX9 C (by first | exact Nat.le_of_ble_eq_true rfl | (simp only [rmX1_rejectIf]; omega)) (by first | exact Nat.le_of_ble_eq_true rfl | (simp only [rmX1_rejectIf]; omega)) hS dX1_rejectIf_4 (fun q1 H2 hq3 hO4 hX5 hz6 hS7 => ?_)
    have hq9 := hq3; subst hq9
    refine lv_dup C.x C.b dX1_rejectIf_7 rfl ?_
    refine lv_iload_n C.x C.b dX1_rejectIf_8 rfl (lv_at hl 1 rfl) ?_
    refine lv_iload_n C.x C.b dX1_rejectIf_9 rfl (lv_at hl 2 rfl) ?_
    refine hr_callI (lw_meth q858) q102 q856 q857 rfl (by decide +kernel) (n := 2) C (mtX9_init Z (C.up hS).1 hO4.1 hO4.2) ⟨Nat.le_of_ble_eq_true rfl, Nat.le_of_ble_eq_true rfl⟩ rfl hl.1 (Nat.le_of_ble_eq_true rfl) ⟨by first | exact Nat.le_of_ble_eq_true rfl | (simp only [rmX1_rejectIf]; omega), by first | exact Nat.le_of_ble_eq_true rfl | (simp only [rmX1_rejectIf]; omega)⟩ hS7 (fun q h => h.elim (fun e => by rw [e]; exact Nat.le_refl _) (fun h => Nat.le_trans (hX5).1 h)) dX1_rejectIf_10 (rest := [.ref H.size]) rfl
      (fun _ _ _ _ _ h => h.elim) (fun v13 H8 locs9 hp12 hF10 hS11 => ?_)
    obtain ⟨rfl, hO9⟩ := hp12
    refine W.eq (g2 := F0 m 13 ls [.ref H.size]) rfl ?_
    obtain ⟨w1, w2, w3, w4, w5, w6, hO8⟩ := id hO9
    obtain ⟨ce, g1, g2, g3⟩ := hr_O.thr C hO8 rfl
    refine vx_athrow C.x C.b dX1_rejectIf_13 ?_
    exact hr_out C hQ hnx ⟨rfl, hc, hO9⟩ hS11 g1 g2 g3 (by first | exact Nat.le_of_ble_eq_true rfl | (simp only [rmX1_rejectIf]; omega)) (by first | exact Nat.le_of_ble_eq_true rfl | (simp only [rmX1_rejectIf]; omega))

abbrev rmX1_asInt : Room := { frames := 0, cells := 0, slots := 0, locals := 12 }
set_option maxHeartbeats 4000000 in
set_option maxRecDepth 100000 in
theorem mtX1_asInt {l : Launch} {D : va_G} {s0 : State} (Z : hr_Z l D s0) {H : Heap} {t : Bool} : hr_M l s0 yX1_asInt (ws_ yX1_asInt cX1_asInt 1 (Option.some Jvm.ClassFile.FieldType.int)) rmX1_asInt [.int (hr_I (hr_t t))] H (hr_N H) (fun v H1 => v = some (.int (hr_I (hr_t t))) ∧ H = H1) hr_no := by
  refine hr_of Z (by decide) (Nat.le_of_ble_eq_true rfl) (fun _ h => Or.inr h) ?_
  intro p e s m args below meth c Q ls C hQ hin hnx hS hl
  have hAN : ∀ q, H.size ≤ q → (hr_N H) q := (fun _ h => h)
  have hl : lv_has ls 1 [(0, .int (hr_I (hr_t t)))] := hl
  refine lv_iload_n C.x C.b dX1_asInt_0 rfl (lv_at hl 0 rfl) ?_
  refine hr_ifb_eq C (tgt := 8) dX1_asInt_1 (by decide) (fun hc => ?_) (fun hc => ?_)
  · refine lv_iconst (v := hr_I 0) C.x C.b dX1_asInt_8 (by decide) ?_
    exact hr_iret C hQ (⟨by rw [hc]; rfl, rfl⟩) hS (by first | exact Nat.le_of_ble_eq_true rfl | (simp only [rmX1_asInt]; omega)) (by first | exact Nat.le_of_ble_eq_true rfl | (simp only [rmX1_asInt]; omega)) dX1_asInt_9
  · refine lv_iconst (v := hr_I 1) C.x C.b dX1_asInt_4 (by decide) ?_
    refine lv_goto (tgt := 9) C.x C.b dX1_asInt_5 (by decide) ?_
    exact hr_iret C hQ (⟨by rw [hc]; rfl, rfl⟩) hS (by first | exact Nat.le_of_ble_eq_true rfl | (simp only [rmX1_asInt]; omega)) (by first | exact Nat.le_of_ble_eq_true rfl | (simp only [rmX1_asInt]; omega)) dX1_asInt_9

abbrev rmX1_isBetween : Room := { frames := 0, cells := 0, slots := 0, locals := 12 }
set_option maxHeartbeats 4000000 in
set_option maxRecDepth 100000 in
theorem mtX1_isBetween {l : Launch} {D : va_G} {s0 : State} (Z : hr_Z l D s0) {H : Heap} {a b x : Int} (ra : hr_R a) (rb : hr_R b) (rx : hr_R x) : hr_M l s0 yX1_isBetween (ws_ yX1_isBetween cX1_isBetween 3 (Option.some Jvm.ClassFile.FieldType.boolean)) rmX1_isBetween [.int (hr_I a), .int (hr_I b), .int (hr_I x)] H (hr_N H) (fun v H1 => v = some (.int (hr_I (hr_t (decide (b ≤ a ∧ a ≤ x))))) ∧ H = H1) hr_no := by
  refine hr_of Z (by decide) (Nat.le_of_ble_eq_true rfl) (fun _ h => Or.inr h) ?_
  intro p e s m args below meth c Q ls C hQ hin hnx hS hl
  have hAN : ∀ q, H.size ≤ q → (hr_N H) q := (fun _ h => h)
  have hl : lv_has ls 3 [(0, .int (hr_I a)), (1, .int (hr_I b)), (2, .int (hr_I x))] := hl
  refine lv_iload_n C.x C.b dX1_isBetween_0 rfl (lv_at hl 0 rfl) ?_
  refine lv_iload_n C.x C.b dX1_isBetween_1 rfl (lv_at hl 1 rfl) ?_
  refine hr_icmp_lt C (tgt := 14) dX1_isBetween_2 (by decide) ra rb (fun hc => ?_) (fun hc => ?_)
  · refine lv_iconst (v := hr_I 0) C.x C.b dX1_isBetween_14 (by decide) ?_
    exact hr_zret C hQ rfl (⟨by rw [show decide (b ≤ a ∧ a ≤ x) = false from decide_eq_false (by omega)]; rfl, rfl⟩) hS (by first | exact Nat.le_of_ble_eq_true rfl | (simp only [rmX1_isBetween]; omega)) (by first | exact Nat.le_of_ble_eq_true rfl | (simp only [rmX1_isBetween]; omega)) dX1_isBetween_15
  · refine lv_iload_n C.x C.b dX1_isBetween_5 rfl (lv_at hl 0 rfl) ?_
    refine lv_iload_n C.x C.b dX1_isBetween_6 rfl (lv_at hl 2 rfl) ?_
    refine hr_icmp_gt C (tgt := 14) dX1_isBetween_7 (by decide) ra rx (fun hc2 => ?_) (fun hc2 => ?_)
    · refine lv_iconst (v := hr_I 0) C.x C.b dX1_isBetween_14 (by decide) ?_
      exact hr_zret C hQ rfl (⟨by rw [show decide (b ≤ a ∧ a ≤ x) = false from decide_eq_false (by omega)]; rfl, rfl⟩) hS (by first | exact Nat.le_of_ble_eq_true rfl | (simp only [rmX1_isBetween]; omega)) (by first | exact Nat.le_of_ble_eq_true rfl | (simp only [rmX1_isBetween]; omega)) dX1_isBetween_15
    · refine lv_iconst (v := hr_I 1) C.x C.b dX1_isBetween_10 (by decide) ?_
      refine lv_goto (tgt := 15) C.x C.b dX1_isBetween_11 (by decide) ?_
      exact hr_zret C hQ rfl (⟨by rw [show decide (b ≤ a ∧ a ≤ x) = true from decide_eq_true (by omega)]; rfl, rfl⟩) hS (by first | exact Nat.le_of_ble_eq_true rfl | (simp only [rmX1_isBetween]; omega)) (by first | exact Nat.le_of_ble_eq_true rfl | (simp only [rmX1_isBetween]; omega)) dX1_isBetween_15

abbrev rmX1_isStrength : Room := { frames := 1, cells := 0, slots := 0, locals := 34 }
set_option maxHeartbeats 4000000 in
set_option maxRecDepth 100000 in
theorem mtX1_isStrength {l : Launch} {D : va_G} {s0 : State} (Z : hr_Z l D s0) {H : Heap} {a : Int} (ra : hr_R a) : hr_M l s0 yX1_isStrength (ws_ yX1_isStrength cX1_isStrength 1 (Option.some Jvm.ClassFile.FieldType.boolean)) rmX1_isStrength [.int (hr_I a)] H (hr_N H) (fun v H1 => v = some (.int (hr_I (hr_t (decide (1 ≤ a ∧ a ≤ 9))))) ∧ H = H1) hr_no := by
  refine hr_of Z (by decide) (Nat.le_of_ble_eq_true rfl) (fun _ h => Or.inr h) ?_
  intro p e s m args below meth c Q ls C hQ hin hnx hS hl
  have hAN : ∀ q, H.size ≤ q → (hr_N H) q := (fun _ h => h)
  have hl : lv_has ls 1 [(0, .int (hr_I a))] := hl
  refine lv_iload_n C.x C.b dX1_isStrength_0 rfl (lv_at hl 0 rfl) ?_
  refine lv_iconst (v := hr_I 1) C.x C.b dX1_isStrength_1 (by decide) ?_
  refine lv_bipush (v := hr_I 9) C.x C.b dX1_isStrength_2 (by decide) ?_
  refine hr_callS (lw_S q808 q803 q76 q804) (by decide +kernel) (n := 3) C (mtX1_isBetween Z ra ⟨by omega, by omega⟩ ⟨by omega, by omega⟩ (a := a) (b := 1) (x := 9)) ⟨Nat.le_of_ble_eq_true rfl, Nat.le_of_ble_eq_true rfl⟩ rfl hl.1 (Nat.le_of_ble_eq_true rfl) ⟨by first | exact Nat.le_of_ble_eq_true rfl | (simp only [rmX1_isStrength]; omega), by first | exact Nat.le_of_ble_eq_true rfl | (simp only [rmX1_isStrength]; omega)⟩ hS (hr_AN hAN hS) dX1_isStrength_4 (rest := []) rfl
    (fun _ _ _ _ _ h => h.elim) (fun v6 H1 locs2 hp5 hF3 hS4 => ?_)
  obtain ⟨hv7, hH8⟩ := hp5; subst hv7; subst hH8
  refine W.eq (g2 := F0 m 7 ls [.int (hr_I (hr_t (decide (1 ≤ a ∧ a ≤ 9))))]) rfl ?_
  exact hr_zret C hQ (hr_nz _) (⟨rfl, rfl⟩) hS4 (by first | exact Nat.le_of_ble_eq_true rfl | (simp only [rmX1_isStrength]; omega)) (by first | exact Nat.le_of_ble_eq_true rfl | (simp only [rmX1_isStrength]; omega)) dX1_isStrength_7

abbrev rmX1_areYears : Room := { frames := 1, cells := 0, slots := 0, locals := 34 }
set_option maxHeartbeats 4000000 in
set_option maxRecDepth 100000 in
theorem mtX1_areYears {l : Launch} {D : va_G} {s0 : State} (Z : hr_Z l D s0) {H : Heap} {a : Int} (ra : hr_R a) : hr_M l s0 yX1_areYears (ws_ yX1_areYears cX1_areYears 1 (Option.some Jvm.ClassFile.FieldType.boolean)) rmX1_areYears [.int (hr_I a)] H (hr_N H) (fun v H1 => v = some (.int (hr_I (hr_t (decide (1 ≤ a ∧ a ≤ 9))))) ∧ H = H1) hr_no := by
  refine hr_of Z (by decide) (Nat.le_of_ble_eq_true rfl) (fun _ h => Or.inr h) ?_
  intro p e s m args below meth c Q ls C hQ hin hnx hS hl
  have hAN : ∀ q, H.size ≤ q → (hr_N H) q := (fun _ h => h)
  have hl : lv_has ls 1 [(0, .int (hr_I a))] := hl
  refine lv_iload_n C.x C.b dX1_areYears_0 rfl (lv_at hl 0 rfl) ?_
  refine lv_iconst (v := hr_I 1) C.x C.b dX1_areYears_1 (by decide) ?_
  refine lv_bipush (v := hr_I 9) C.x C.b dX1_areYears_2 (by decide) ?_
  refine hr_callS (lw_S q808 q803 q76 q804) (by decide +kernel) (n := 3) C (mtX1_isBetween Z ra ⟨by omega, by omega⟩ ⟨by omega, by omega⟩ (a := a) (b := 1) (x := 9)) ⟨Nat.le_of_ble_eq_true rfl, Nat.le_of_ble_eq_true rfl⟩ rfl hl.1 (Nat.le_of_ble_eq_true rfl) ⟨by first | exact Nat.le_of_ble_eq_true rfl | (simp only [rmX1_areYears]; omega), by first | exact Nat.le_of_ble_eq_true rfl | (simp only [rmX1_areYears]; omega)⟩ hS (hr_AN hAN hS) dX1_areYears_4 (rest := []) rfl
    (fun _ _ _ _ _ h => h.elim) (fun v6 H1 locs2 hp5 hF3 hS4 => ?_)
  obtain ⟨hv7, hH8⟩ := hp5; subst hv7; subst hH8
  refine W.eq (g2 := F0 m 7 ls [.int (hr_I (hr_t (decide (1 ≤ a ∧ a ≤ 9))))]) rfl ?_
  exact hr_zret C hQ (hr_nz _) (⟨rfl, rfl⟩) hS4 (by first | exact Nat.le_of_ble_eq_true rfl | (simp only [rmX1_areYears]; omega)) (by first | exact Nat.le_of_ble_eq_true rfl | (simp only [rmX1_areYears]; omega)) dX1_areYears_7
