/-! ArrayList, its iterator, and what they call: contracts -/
abbrev rmJ0_init : Room := { frames := 1, cells := 0, slots := 0, locals := 20 }
set_option maxHeartbeats 4000000 in
set_option maxRecDepth 100000 in
theorem mtJ0_init {l : Launch} {D : va_G} {s0 : State} (Z : hr_Z l D s0) {H : Heap} {a : Nat} : hr_M l s0 yJ0_init (ws_ yJ0_init cJ0_init 1 (Option.none : Option Jvm.ClassFile.FieldType)) rmJ0_init [.ref a] H (hr_N H) (fun v H1 => v = none ∧ H = H1) hr_no := by
  refine hr_of Z (by decide) (Nat.le_of_ble_eq_true rfl) (fun _ h => Or.inr h) ?_
  intro p e s m args below meth c Q ls C hQ hin hnx hS hl
  have hAN : ∀ q, H.size ≤ q → (hr_N H) q := (fun _ h => h)
  have hl : lv_has ls 1 [(0, .ref a)] := hl
  refine lv_aload_n C.x C.b dJ0_init_0 rfl (lv_at hl 0 rfl) ?_
  refine hr_obj q141 C hl.1 (Nat.le_of_ble_eq_true rfl) (Nat.le_of_ble_eq_true rfl) dJ0_init_1 ?_
  exact hr_vret C hQ (⟨rfl, rfl⟩) hS (by first | exact Nat.le_of_ble_eq_true rfl | (simp only [rmJ0_init]; omega)) (by first | exact Nat.le_of_ble_eq_true rfl | (simp only [rmJ0_init]; omega)) dJ0_init_4

abbrev rmJ1_init : Room := { frames := 2, cells := 0, slots := 0, locals := 40 }
set_option maxHeartbeats 4000000 in
set_option maxRecDepth 100000 in
theorem mtJ1_init {l : Launch} {D : va_G} {s0 : State} (Z : hr_Z l D s0) {H : Heap} {a : Nat} {x0 x1 x2 : Value} (ha : s0.heap.size ≤ a) (hO : hr_O D H a 10 [x0, x1, x2]) : hr_M l s0 yJ1_init (ws_ yJ1_init cJ1_init 1 (Option.none : Option Jvm.ClassFile.FieldType)) rmJ1_init [.ref a] H (fun q => q = a ∨ H.size ≤ q) (fun v H1 => v = none ∧ hr_O D H1 a 10 [.int (hr_I 0), x1, x2]) hr_no := by
  refine hr_of Z (by decide) (Nat.le_of_ble_eq_true rfl) (fun q h => h.elim (fun e => Or.inl (by rw [e]; exact ha)) Or.inr) ?_
  intro p e s m args below meth c Q ls C hQ hin hnx hS hl
  have hAN : ∀ q, H.size ≤ q → (fun q => q = a ∨ H.size ≤ q) q := (fun _ h => Or.inr h)
  have hl : lv_has ls 1 [(0, .ref a)] := hl
  refine lv_aload_n C.x C.b dJ1_init_0 rfl (lv_at hl 0 rfl) ?_
  refine hr_callI (lw_meth q140) q78 q138 q139 rfl (by decide +kernel) (n := 0) C (mtJ0_init Z) ⟨Nat.le_of_ble_eq_true rfl, Nat.le_of_ble_eq_true rfl⟩ rfl hl.1 (Nat.le_of_ble_eq_true rfl) ⟨by first | exact Nat.le_of_ble_eq_true rfl | (simp only [rmJ1_init]; omega), by first | exact Nat.le_of_ble_eq_true rfl | (simp only [rmJ1_init]; omega)⟩ hS (hr_AN hAN hS) dJ1_init_1 (rest := []) rfl
    (fun _ _ _ _ _ h => h.elim) (fun v6 H1 locs2 hp5 hF3 hS4 => ?_)
  obtain ⟨hv7, hH8⟩ := hp5; subst hv7; subst hH8
  refine W.eq (g2 := F0 m 4 ls []) rfl ?_
  refine lv_aload_n C.x C.b dJ1_init_4 rfl (lv_at hl 0 rfl) ?_
  refine lv_iconst (v := hr_I 0) C.x C.b dJ1_init_5 (by decide) ?_
  refine hr_put in_J2 tyJ2 tyJ2_ok nmJ2 (ci := 10) 0 rfl q148 (Or.inl rfl) rfl (by decide) C hO (Nat.le_of_ble_eq_true rfl) rfl rfl hS4 (Or.inl rfl) dJ1_init_6 (fun H9 locs11 hO12 hz13 ho14 hS10 => ?_)
  exact hr_vret C hQ (⟨rfl, hO12⟩) hS10 (by first | exact Nat.le_of_ble_eq_true rfl | (simp only [rmJ1_init]; omega)) (by first | exact Nat.le_of_ble_eq_true rfl | (simp only [rmJ1_init]; omega)) dJ1_init_9

abbrev rmJ2_init : Room := { frames := 3, cells := 0, slots := 0, locals := 60 }
set_option maxHeartbeats 4000000 in
set_option maxRecDepth 100000 in
theorem mtJ2_init {l : Launch} {D : va_G} {s0 : State} (Z : hr_Z l D s0) {H : Heap} {a : Nat} {x0 x1 : Value} (ha : s0.heap.size ≤ a) (hO : hr_O D H a 10 [x0, x1, .int (hr_I 0)]) (f : Nat → Nat) : hr_M l s0 yJ2_init (ws_ yJ2_init cJ2_init 1 (Option.none : Option Jvm.ClassFile.FieldType)) rmJ2_init [.ref a] H (fun q => q = a ∨ H.size ≤ q) (fun v H1 => v = none ∧ hr_L D H1 (a, hr_k D 0, 0, hr_I 0) 0 f) hr_no := by
  refine hr_of Z (by decide) (Nat.le_of_ble_eq_true rfl) (fun q h => h.elim (fun e => Or.inl (by rw [e]; exact ha)) Or.inr) ?_
  intro p e s m args below meth c Q ls C hQ hin hnx hS hl
  have hAN : ∀ q, H.size ≤ q → (fun q => q = a ∨ H.size ≤ q) q := (fun _ h => Or.inr h)
  have hl : lv_has ls 1 [(0, .ref a)] := hl
  refine lv_aload_n C.x C.b dJ2_init_0 rfl (lv_at hl 0 rfl) ?_
  refine hr_callI (lw_meth q137) q79 q135 q136 rfl (by decide +kernel) (n := 0) C (mtJ1_init Z ha hO) ⟨Nat.le_of_ble_eq_true rfl, Nat.le_of_ble_eq_true rfl⟩ rfl hl.1 (Nat.le_of_ble_eq_true rfl) ⟨by first | exact Nat.le_of_ble_eq_true rfl | (simp only [rmJ2_init]; omega), by first | exact Nat.le_of_ble_eq_true rfl | (simp only [rmJ2_init]; omega)⟩ hS (fun _ h => h.elim Or.inl (fun h => Or.inr (Nat.le_trans (hr_SF hS).1 h))) dJ2_init_1 (rest := []) rfl
    (fun _ _ _ _ _ h => h.elim) (fun v6 H1 locs2 hp5 hF3 hS4 => ?_)
  obtain ⟨rfl, hO1⟩ := hp5
  refine W.eq (g2 := F0 m 4 ls []) rfl ?_
  refine lv_aload_n C.x C.b dJ2_init_4 rfl (lv_at hl 0 rfl) ?_
  refine hr_gets C.z.1 q142 rfl C hS4 dJ2_init_5 ?_
  refine hr_put in_J2 tyJ2 tyJ2_ok nmJ2 (ci := 10) 1 rfl q144 (Or.inl rfl) rfl (by decide) C hO1 (Nat.le_of_ble_eq_true rfl) rfl rfl hS4 (Or.inl rfl) dJ2_init_8 (fun H7 locs9 hO10 hz11 ho12 hS8 => ?_)
  exact hr_vret C hQ (⟨rfl, hO10, ⟨_, C.z.2.1.x (C.up hS8), fun j hj => absurd hj (Nat.not_lt_zero j)⟩, Nat.le_refl _, Nat.zero_le _, fun _ => rfl⟩) hS8 (by first | exact Nat.le_of_ble_eq_true rfl | (simp only [rmJ2_init]; omega)) (by first | exact Nat.le_of_ble_eq_true rfl | (simp only [rmJ2_init]; omega)) dJ2_init_11

abbrev rmJ2_size : Room := { frames := 0, cells := 0, slots := 0, locals := 12 }
set_option maxHeartbeats 4000000 in
set_option maxRecDepth 100000 in
theorem mtJ2_size {l : Launch} {D : va_G} {s0 : State} (Z : hr_Z l D s0) {H : Heap} {L : ly_L} {n : Nat} {f : Nat → Nat} (hL : hr_L D H L n f) : hr_M l s0 yJ2_size (ws_ yJ2_size cJ2_size 1 (Option.some Jvm.ClassFile.FieldType.int)) rmJ2_size [.ref L.1] H (hr_N H) (fun v H1 => v = some (.int (hr_I (n : Int))) ∧ H = H1) hr_no := by
  refine hr_of Z (by decide) (Nat.le_of_ble_eq_true rfl) (fun _ h => Or.inr h) ?_
  intro p e s m args below meth c Q ls C hQ hin hnx hS hl
  have hAN : ∀ q, H.size ≤ q → (hr_N H) q := (fun _ h => h)
  have hl : lv_has ls 1 [(0, .ref L.1)] := hl
  refine lv_aload_n C.x C.b dJ2_size_0 rfl (lv_at hl 0 rfl) ?_
  refine hr_get in_J2 (ci := 10) 2 q147 rfl rfl (by decide) C hL.1 rfl dJ2_size_1 ?_
  exact hr_iret C hQ (⟨rfl, rfl⟩) hS (by first | exact Nat.le_of_ble_eq_true rfl | (simp only [rmJ2_size]; omega)) (by first | exact Nat.le_of_ble_eq_true rfl | (simp only [rmJ2_size]; omega)) dJ2_size_4

abbrev rmJ13_checkIndex : Room := { frames := 0, cells := 0, slots := 0, locals := 12 }
set_option maxHeartbeats 4000000 in
set_option maxRecDepth 100000 in
theorem mtJ13_checkIndex {l : Launch} {D : va_G} {s0 : State} (Z : hr_Z l D s0) {H : Heap} {i n : Int} (h0 : 0 ≤ i) (h1 : i < n) (hn : n < 65536) : hr_M l s0 yJ13_checkIndex (ws_ yJ13_checkIndex cJ13_checkIndex 3 (Option.some Jvm.ClassFile.FieldType.int)) rmJ13_checkIndex [.int (hr_I i), .int (hr_I n), .null] H (hr_N H) (fun v H1 => v = some (.int (hr_I i)) ∧ H = H1) hr_no := by
  refine hr_of Z (by decide) (Nat.le_of_ble_eq_true rfl) (fun _ h => Or.inr h) ?_
  intro p e s m args below meth c Q ls C hQ hin hnx hS hl
  have hAN : ∀ q, H.size ≤ q → (hr_N H) q := (fun _ h => h)
  have hl : lv_has ls 3 [(0, .int (hr_I i)), (1, .int (hr_I n)), (2, .null)] := hl
  refine lv_iload_n C.x C.b dJ13_checkIndex_0 rfl (lv_at hl 0 rfl) ?_
  refine hr_if_lt C (tgt := 9) dJ13_checkIndex_1 (by decide) (by omega) (fun hc => ?_) (fun hc => ?_)
  · exact absurd hc (by omega)
  · refine lv_iload_n C.x C.b dJ13_checkIndex_4 rfl (lv_at hl 0 rfl) ?_
    refine lv_iload_n C.x C.b dJ13_checkIndex_5 rfl (lv_at hl 1 rfl) ?_
    refine hr_icmp_lt C (tgt := 16) dJ13_checkIndex_6 (by decide) (by omega) (by omega) (fun hc => ?_) (fun hc => ?_)
    · refine lv_iload_n C.x C.b dJ13_checkIndex_16 rfl (lv_at hl 0 rfl) ?_
      exact hr_iret C hQ (⟨rfl, rfl⟩) hS (by first | exact Nat.le_of_ble_eq_true rfl | (simp only [rmJ13_checkIndex]; omega)) (by first | exact Nat.le_of_ble_eq_true rfl | (simp only [rmJ13_checkIndex]; omega)) dJ13_checkIndex_17
    · exact absurd (by omega) hc

abbrev rmJ12_checkIndex : Room := { frames := 1, cells := 0, slots := 0, locals := 34 }
set_option maxHeartbeats 4000000 in
set_option maxRecDepth 100000 in
theorem mtJ12_checkIndex {l : Launch} {D : va_G} {s0 : State} (Z : hr_Z l D s0) {H : Heap} {i n : Int} (h0 : 0 ≤ i) (h1 : i < n) (hn : n < 65536) : hr_M l s0 yJ12_checkIndex (ws_ yJ12_checkIndex cJ12_checkIndex 2 (Option.some Jvm.ClassFile.FieldType.int)) rmJ12_checkIndex [.int (hr_I i), .int (hr_I n)] H (hr_N H) (fun v H1 => v = some (.int (hr_I i)) ∧ H = H1) hr_no := by
  refine hr_of Z (by decide) (Nat.le_of_ble_eq_true rfl) (fun _ h => Or.inr h) ?_
  intro p e s m args below meth c Q ls C hQ hin hnx hS hl
  have hAN : ∀ q, H.size ≤ q → (hr_N H) q := (fun _ h => h)
  have hl : lv_has ls 2 [(0, .int (hr_I i)), (1, .int (hr_I n))] := hl
  refine lv_iload_n C.x C.b dJ12_checkIndex_0 rfl (lv_at hl 0 rfl) ?_
  refine lv_iload_n C.x C.b dJ12_checkIndex_1 rfl (lv_at hl 1 rfl) ?_
  refine lv_null C.x C.b dJ12_checkIndex_2 ?_
  refine hr_callS (lw_S q499 q500 q92 q501) (by decide +kernel) (n := 3) C (mtJ13_checkIndex Z h0 h1 hn) ⟨Nat.le_of_ble_eq_true rfl, Nat.le_of_ble_eq_true rfl⟩ rfl hl.1 (Nat.le_of_ble_eq_true rfl) ⟨by first | exact Nat.le_of_ble_eq_true rfl | (simp only [rmJ12_checkIndex]; omega), by first | exact Nat.le_of_ble_eq_true rfl | (simp only [rmJ12_checkIndex]; omega)⟩ hS (hr_AN hAN hS) dJ12_checkIndex_3 (rest := []) rfl
    (fun _ _ _ _ _ h => h.elim) (fun v6 H1 locs2 hp5 hF3 hS4 => ?_)
  obtain ⟨hv7, hH8⟩ := hp5; subst hv7; subst hH8
  refine W.eq (g2 := F0 m 6 ls [.int (hr_I i)]) rfl ?_
  exact hr_iret C hQ (⟨rfl, rfl⟩) hS4 (by first | exact Nat.le_of_ble_eq_true rfl | (simp only [rmJ12_checkIndex]; omega)) (by first | exact Nat.le_of_ble_eq_true rfl | (simp only [rmJ12_checkIndex]; omega)) dJ12_checkIndex_6

abbrev rmJ2_elementData : Room := { frames := 0, cells := 0, slots := 0, locals := 12 }
set_option maxHeartbeats 4000000 in
set_option maxRecDepth 100000 in
theorem mtJ2_elementData {l : Launch} {D : va_G} {s0 : State} (Z : hr_Z l D s0) {H : Heap} {L : ly_L} {n : Nat} {f : Nat → Nat} (hL : hr_L D H L n f) {i : Nat} (hi : i < n) : hr_M l s0 yJ2_elementData (ws_ yJ2_elementData cJ2_elementData 2 (Option.some (Jvm.ClassFile.FieldType.object "java/lang/Object"))) rmJ2_elementData [.ref L.1, .int (hr_I (i : Int))] H (hr_N H) (fun v H1 => v = some (.ref (f i)) ∧ H = H1) hr_no := by
  refine hr_of Z (by decide) (Nat.le_of_ble_eq_true rfl) (fun _ h => Or.inr h) ?_
  intro p e s m args below meth c Q ls C hQ hin hnx hS hl
  have hAN : ∀ q, H.size ≤ q → (hr_N H) q := (fun _ h => h)
  have hl : lv_has ls 2 [(0, .ref L.1), (1, .int (hr_I (i : Int)))] := hl
  obtain ⟨hO, ⟨g, hG, hg⟩, hcap, hmax, hemp⟩ := id hL
  refine lv_aload_n C.x C.b dJ2_elementData_0 rfl (lv_at hl 0 rfl) ?_
  refine hr_get in_J2 (ci := 10) 1 q144 rfl rfl (by decide) C hL.1 rfl dJ2_elementData_1 ?_
  refine lv_iload_n C.x C.b dJ2_elementData_4 rfl (lv_at hl 1 rfl) ?_
  refine hr_aald C hG (by omega) (by omega) (by omega) (v := .ref (f i)) (by rw [show ((i : Int)).toNat = i from rfl, hr_vq, hg i hi]; rfl) dJ2_elementData_5 ?_
  exact hr_aret (Or.inl ⟨_, rfl⟩) (Or.inr ⟨_, rfl⟩) C hQ (⟨rfl, rfl⟩) hS (by first | exact Nat.le_of_ble_eq_true rfl | (simp only [rmJ2_elementData]; omega)) (by first | exact Nat.le_of_ble_eq_true rfl | (simp only [rmJ2_elementData]; omega)) dJ2_elementData_6

abbrev rmJ2_get : Room := { frames := 2, cells := 0, slots := 0, locals := 55 }
set_option maxHeartbeats 4000000 in
set_option maxRecDepth 100000 in
theorem mtJ2_get {l : Launch} {D : va_G} {s0 : State} (Z : hr_Z l D s0) {H : Heap} {L : ly_L} {n : Nat} {f : Nat → Nat} (hL : hr_L D H L n f) {i : Nat} (hi : i < n) : hr_M l s0 yJ2_get (ws_ yJ2_get cJ2_get 2 (Option.some (Jvm.ClassFile.FieldType.object "java/lang/Object"))) rmJ2_get [.ref L.1, .int (hr_I (i : Int))] H (hr_N H) (fun v H1 => v = some (.ref (f i)) ∧ H = H1) hr_no := by
  refine hr_of Z (by decide) (Nat.le_of_ble_eq_true rfl) (fun _ h => Or.inr h) ?_
  intro p e s m args below meth c Q ls C hQ hin hnx hS hl
  have hAN : ∀ q, H.size ≤ q → (hr_N H) q := (fun _ h => h)
  have hl : lv_has ls 2 [(0, .ref L.1), (1, .int (hr_I (i : Int)))] := hl
  obtain ⟨hO, ⟨g, hG, hg⟩, hcap, hmax, hemp⟩ := id hL
  refine lv_iload_n C.x C.b dJ2_get_0 rfl (lv_at hl 1 rfl) ?_
  refine lv_aload_n C.x C.b dJ2_get_1 rfl (lv_at hl 0 rfl) ?_
  refine hr_get in_J2 (ci := 10) 2 q147 rfl rfl (by decide) C hL.1 rfl dJ2_get_2 ?_
  refine hr_callS (lw_S q496 q497 q91 q498) (by decide +kernel) (n := 2) C (mtJ12_checkIndex Z (i := (i : Int)) (n := (n : Int)) (by omega) (by omega) (by omega)) ⟨Nat.le_of_ble_eq_true rfl, Nat.le_of_ble_eq_true rfl⟩ rfl hl.1 (Nat.le_of_ble_eq_true rfl) ⟨by first | exact Nat.le_of_ble_eq_true rfl | (simp only [rmJ2_get]; omega), by first | exact Nat.le_of_ble_eq_true rfl | (simp only [rmJ2_get]; omega)⟩ hS (hr_AN hAN hS) dJ2_get_5 (rest := []) rfl
    (fun _ _ _ _ _ h => h.elim) (fun v6 H1 locs2 hp5 hF3 hS4 => ?_)
  obtain ⟨hv7, hH8⟩ := hp5; subst hv7; subst hH8
  refine W.eq (g2 := F0 m 8 ls [.int (hr_I (i : Int))]) rfl ?_
  refine lv_pop C.x C.b dJ2_get_8 rfl ?_
  refine lv_aload_n C.x C.b dJ2_get_9 rfl (lv_at hl 0 rfl) ?_
  refine lv_iload_n C.x C.b dJ2_get_10 rfl (lv_at hl 1 rfl) ?_
  refine hr_callV (lw_V q502 q503 q504 q80 q505) (by decide +kernel) (n := 1) C (mtJ2_elementData Z hL hi) (hL.1.recv C rfl) ⟨Nat.le_of_ble_eq_true rfl, Nat.le_of_ble_eq_true rfl⟩ rfl hl.1 (Nat.le_of_ble_eq_true rfl) ⟨by first | exact Nat.le_of_ble_eq_true rfl | (simp only [rmJ2_get]; omega), by first | exact Nat.le_of_ble_eq_true rfl | (simp only [rmJ2_get]; omega)⟩ hS4 (hr_AN hAN hS4) dJ2_get_11 (rest := []) rfl
    (fun _ _ _ _ _ h => h.elim) (fun v14 H9 locs10 hp13 hF11 hS12 => ?_)
  obtain ⟨hv15, hH16⟩ := hp13; subst hv15; subst hH16
  refine W.eq (g2 := F0 m 14 ls [.ref (f i)]) rfl ?_
  exact hr_aret (Or.inl ⟨_, rfl⟩) (Or.inr ⟨_, rfl⟩) C hQ (⟨rfl, rfl⟩) hS12 (by first | exact Nat.le_of_ble_eq_true rfl | (simp only [rmJ2_get]; omega)) (by first | exact Nat.le_of_ble_eq_true rfl | (simp only [rmJ2_get]; omega)) dJ2_get_14

abbrev rmJ14_newLength : Room := { frames := 1, cells := 0, slots := 0, locals := 22 }
set_option maxHeartbeats 4000000 in
set_option maxRecDepth 100000 in
theorem mtJ14_newLength {l : Launch} {D : va_G} {s0 : State} (Z : hr_Z l D s0) {H : Heap} {x a b : Int} (hx : 0 ≤ x ∧ x < 65536) (ha : 0 ≤ a ∧ a < 65536) (hb : 0 ≤ b ∧ b < 65536) (hp : 0 < x + a) : hr_M l s0 yJ14_newLength (ws_ yJ14_newLength cJ14_newLength 4 (Option.some Jvm.ClassFile.FieldType.int)) rmJ14_newLength [.int (hr_I x), .int (hr_I a), .int (hr_I b)] H (hr_N H) (fun v H1 => v = some (.int (hr_I (x + (if a < b then b else a)))) ∧ H = H1) hr_no := by
  refine hr_of Z (by decide) (Nat.le_of_ble_eq_true rfl) (fun _ h => Or.inr h) ?_
  intro p e s m args below meth c Q ls C hQ hin hnx hS hl
  have hAN : ∀ q, H.size ≤ q → (hr_N H) q := (fun _ h => h)
  have hl : lv_has ls 4 [(0, .int (hr_I x)), (1, .int (hr_I a)), (2, .int (hr_I b))] := hl
  refine lv_iload_n C.x C.b dJ14_newLength_0 rfl (lv_at hl 0 rfl) ?_
  refine lv_iload_n C.x C.b dJ14_newLength_1 rfl (lv_at hl 1 rfl) ?_
  refine lv_iload_n C.x C.b dJ14_newLength_2 rfl (lv_at hl 2 rfl) ?_
  refine hr_mmax q671 C hl.1 (by omega) (by omega) (Nat.le_of_ble_eq_true rfl) (Nat.le_of_ble_eq_true rfl) (by first | exact Nat.le_of_ble_eq_true rfl | (simp only [rmJ14_newLength]; omega)) (by first | exact Nat.le_of_ble_eq_true rfl | (simp only [rmJ14_newLength]; omega)) dJ14_newLength_3 ?_
  refine t_iadd C.x C.b dJ14_newLength_6 (v := hr_I (x + (if a < b then b else a))) (hr_add _ _) ?_
  refine lv_istore_n (lv' := [(3, .int (hr_I (x + (if a < b then b else a)))), (0, .int (hr_I x)), (1, .int (hr_I a)), (2, .int (hr_I b))]) C.x C.b dJ14_newLength_7 rfl hl (by decide) rfl (fun ls hl => ?_)
  refine lv_iconst (v := hr_I 0) C.x C.b dJ14_newLength_8 (by decide) ?_
  refine lv_iload_n C.x C.b dJ14_newLength_9 rfl (lv_at hl 0 rfl) ?_
  refine hr_icmp_ge C (tgt := 21) dJ14_newLength_10 (by decide) (by omega) (by split <;> omega) (fun hc => ?_) (fun hc => ?_)
  · exact absurd hc (by split <;> omega)
  · refine lv_iload_n C.x C.b dJ14_newLength_13 rfl (lv_at hl 0 rfl) ?_
    refine hr_ldci (z := 2147483639) q674 (by decide) C dJ14_newLength_14 ?_
    refine hr_icmp_gt C (tgt := 21) dJ14_newLength_16 (by decide) (by split <;> omega) (by omega) (fun hc => ?_) (fun hc => ?_)
    · exact absurd hc (by split <;> omega)
    · refine lv_iload_n C.x C.b dJ14_newLength_19 rfl (lv_at hl 0 rfl) ?_
      exact hr_iret C hQ (⟨rfl, rfl⟩) hS (by first | exact Nat.le_of_ble_eq_true rfl | (simp only [rmJ14_newLength]; omega)) (by first | exact Nat.le_of_ble_eq_true rfl | (simp only [rmJ14_newLength]; omega)) dJ14_newLength_20

abbrev rmJ16_copyOf_2 : Room := { frames := 1, cells := 1, slots := 60, locals := 30 }
set_option maxHeartbeats 4000000 in
set_option maxRecDepth 100000 in
theorem mtJ16_copyOf_2 {l : Launch} {D : va_G} {s0 : State} (Z : hr_Z l D s0) {H : Heap} {ar cap k : Nat} {g : Nat → Option Nat} (hG : hr_A H ar (D.1 105) cap (hr_vq g)) (hk : cap ≤ k) (hk6 : k ≤ 60) (hel : ∀ i, i < cap → ∀ y, g i = some y → hr_Ob D H y) : hr_M l s0 yJ16_copyOf_2 (ws_ yJ16_copyOf_2 cJ16_copyOf_2 4 (Option.some (Jvm.ClassFile.FieldType.array (Jvm.ClassFile.FieldType.object "java/lang/Object")))) rmJ16_copyOf_2 [.ref ar, .int (hr_I (k : Int)), .ref (hr_k D 3)] H (hr_N H) (fun v H1 => v = some (.ref H.size) ∧ hr_A H1 H.size (D.1 105) k (hr_vq (va_cpy g (fun _ => none) 0 0 cap))) hr_no := by
  refine hr_of Z (by decide) (Nat.le_of_ble_eq_true rfl) (fun _ h => Or.inr h) ?_
  intro p e s m args below meth c Q ls C hQ hin hnx hS hl
  have hAN : ∀ q, H.size ≤ q → (hr_N H) q := (fun _ h => h)
  have hl : lv_has ls 4 [(0, .ref ar), (1, .int (hr_I (k : Int))), (2, .ref (hr_k D 3))] := hl
  refine lv_aload_n C.x C.b dJ16_copyOf_2_0 rfl (lv_at hl 2 rfl) ?_
  refine hr_ldcM C q710 dJ16_copyOf_2_1 ?_
  refine hr_acmp_ne (x := some (hr_k D 3)) (y := some (hr_k D 3)) C (tgt := 13) dJ16_copyOf_2_3 (by decide) (fun hc => ?_) (fun hc => ?_)
  · exact absurd rfl hc
  · refine lv_iload_n C.x C.b dJ16_copyOf_2_6 rfl (lv_at hl 1 rfl) ?_
    refine hr_newo C q712 (by omega) (by omega) (by first | exact Nat.le_of_ble_eq_true rfl | (simp only [rmJ16_copyOf_2]; omega)) (by first | exact Nat.le_of_ble_eq_true rfl | (simp only [rmJ16_copyOf_2]; omega)) hS dJ16_copyOf_2_7 (fun q H1 hq2 hO3 hX4 hz5 hS6 => ?_)
    refine lv_goto (tgt := 24) C.x C.b dJ16_copyOf_2_10 (by decide) ?_
    refine lv_astore_n (lv' := [(3, .ref q), (0, .ref ar), (1, .int (hr_I (k : Int))), (2, .ref (hr_k D 3))]) C.x C.b dJ16_copyOf_2_24 rfl hl (by decide) rfl (fun ls hl => ?_)
    refine lv_aload_n C.x C.b dJ16_copyOf_2_25 rfl (lv_at hl 1 rfl) ?_
    refine lv_iconst (v := hr_I 0) C.x C.b dJ16_copyOf_2_26 (by decide) ?_
    refine lv_aload_n C.x C.b dJ16_copyOf_2_27 rfl (lv_at hl 0 rfl) ?_
    refine lv_iconst (v := hr_I 0) C.x C.b dJ16_copyOf_2_28 (by decide) ?_
    refine lv_aload_n C.x C.b dJ16_copyOf_2_29 rfl (lv_at hl 1 rfl) ?_
    refine hr_alen 5 C rfl (hG.x hX4) dJ16_copyOf_2_30 ?_
    refine lv_iload_n C.x C.b dJ16_copyOf_2_31 rfl (lv_at hl 2 rfl) ?_
    refine hr_mmin q713 C hl.1 (by omega) (by omega) (Nat.le_of_ble_eq_true rfl) (Nat.le_of_ble_eq_true rfl) (by first | exact Nat.le_of_ble_eq_true rfl | (simp only [rmJ16_copyOf_2]; omega)) (by first | exact Nat.le_of_ble_eq_true rfl | (simp only [rmJ16_copyOf_2]; omega)) dJ16_copyOf_2_32 ?_
    have e9 : (if (k : Int) < (cap : Int) then (k : Int) else (cap : Int)) = (cap : Int) := by split <;> omega
    rw [e9]
    refine hr_copyq C hl.1 q716 (hG.x hX4) hO3 (by omega) (by omega) (by omega) (by omega) (by omega) (by omega) (by omega) (fun i hi y hy => ((hel i (by omega) y (by simpa using hy)).x hX4).any C) hS6 (by rw [hq2]; exact Nat.le_refl _) (Nat.le_of_ble_eq_true rfl) (Nat.le_of_ble_eq_true rfl) dJ16_copyOf_2_35 (fun H9 locs9 hO9 hz9 ho9 hS9 => ?_)
    refine lv_aload_n C.x C.b dJ16_copyOf_2_38 rfl (lv_at hl 0 rfl) ?_
    exact hr_aret (Or.inr ⟨_, rfl⟩) (Or.inr ⟨_, rfl⟩) C hQ (⟨by rw [hq2], by rw [← hq2]; simpa using hO9⟩) hS9 (by first | exact Nat.le_of_ble_eq_true rfl | (simp only [rmJ16_copyOf_2]; omega)) (by first | exact Nat.le_of_ble_eq_true rfl | (simp only [rmJ16_copyOf_2]; omega)) dJ16_copyOf_2_39

abbrev rmJ16_copyOf : Room := { frames := 2, cells := 1, slots := 60, locals := 53 }
set_option maxHeartbeats 4000000 in
set_option maxRecDepth 100000 in
theorem mtJ16_copyOf {l : Launch} {D : va_G} {s0 : State} (Z : hr_Z l D s0) {H : Heap} {ar cap k : Nat} {g : Nat → Option Nat} (hG : hr_A H ar (D.1 105) cap (hr_vq g)) (hk : cap ≤ k) (hk6 : k ≤ 60) (hel : ∀ i, i < cap → ∀ y, g i = some y → hr_Ob D H y) : hr_M l s0 yJ16_copyOf (ws_ yJ16_copyOf cJ16_copyOf 2 (Option.some (Jvm.ClassFile.FieldType.array (Jvm.ClassFile.FieldType.object "java/lang/Object")))) rmJ16_copyOf [.ref ar, .int (hr_I (k : Int))] H (hr_N H) (fun v H1 => v = some (.ref H.size) ∧ hr_A H1 H.size (D.1 105) k (hr_vq (va_cpy g (fun _ => none) 0 0 cap))) hr_no := by
  refine hr_of Z (by decide) (Nat.le_of_ble_eq_true rfl) (fun _ h => Or.inr h) ?_
  intro p e s m args below meth c Q ls C hQ hin hnx hS hl
  have hAN : ∀ q, H.size ≤ q → (hr_N H) q := (fun _ h => h)
  have hl : lv_has ls 2 [(0, .ref ar), (1, .int (hr_I (k : Int)))] := hl
  refine lv_aload_n C.x C.b dJ16_copyOf_0 rfl (lv_at hl 0 rfl) ?_
  refine lv_iload_n C.x C.b dJ16_copyOf_1 rfl (lv_at hl 1 rfl) ?_
  refine lv_aload_n C.x C.b dJ16_copyOf_2 rfl (lv_at hl 0 rfl) ?_
  refine hr_getC C hl.1 hG q681 (Nat.le_of_ble_eq_true rfl) (Nat.le_of_ble_eq_true rfl) dJ16_copyOf_3 ?_
  refine hr_callS (lw_S q707 q708 q96 q709) (by decide +kernel) (n := 3) C (mtJ16_copyOf_2 Z hG hk hk6 hel) ⟨Nat.le_of_ble_eq_true rfl, Nat.le_of_ble_eq_true rfl⟩ rfl hl.1 (Nat.le_of_ble_eq_true rfl) ⟨by first | exact Nat.le_of_ble_eq_true rfl | (simp only [rmJ16_copyOf]; omega), by first | exact Nat.le_of_ble_eq_true rfl | (simp only [rmJ16_copyOf]; omega)⟩ hS (hr_AN hAN hS) dJ16_copyOf_6 (rest := []) rfl
    (fun _ _ _ _ _ h => h.elim) (fun v6 H1 locs2 hp5 hF3 hS4 => ?_)
  obtain ⟨rfl, hA9⟩ := hp5
  refine W.eq (g2 := F0 m 9 ls [.ref H.size]) rfl ?_
  exact hr_aret (Or.inr ⟨_, rfl⟩) (Or.inr ⟨_, rfl⟩) C hQ (⟨rfl, hA9⟩) hS4 (by first | exact Nat.le_of_ble_eq_true rfl | (simp only [rmJ16_copyOf]; omega)) (by first | exact Nat.le_of_ble_eq_true rfl | (simp only [rmJ16_copyOf]; omega)) dJ16_copyOf_9

abbrev rmJ2_grow_2 : Room := { frames := 3, cells := 1, slots := 60, locals := 74 }
set_option maxHeartbeats 4000000 in
set_option maxRecDepth 100000 in
theorem mtJ2_grow_2 {l : Launch} {D : va_G} {s0 : State} (Z : hr_Z l D s0) {H : Heap} {a ar n : Nat} {mo : Int32} {g : Nat → Option Nat} (ha : s0.heap.size ≤ a) (hO : hr_O D H a 10 [.int mo, .ref ar, .int (hr_I (n : Int))]) (hG : hr_A H ar (D.1 105) n (hr_vq g)) (hn : n < 40) (hemp : n = 0 → ar = hr_k D 0) (hel : ∀ i, i < n → ∀ y, g i = some y → hr_Ob D H y) : hr_M l s0 yJ2_grow_2 (ws_ yJ2_grow_2 cJ2_grow_2 4 (Option.some (Jvm.ClassFile.FieldType.array (Jvm.ClassFile.FieldType.object "java/lang/Object")))) rmJ2_grow_2 [.ref a, .int (hr_I ((n : Int) + 1))] H (fun q => q = a ∨ H.size ≤ q) (fun v H1 => v = some (.ref H.size) ∧ ∃ (cap1 : Nat) (g1 : Nat → Option Nat), hr_O D H1 a 10 [.int mo, .ref H.size, .int (hr_I (n : Int))] ∧ hr_A H1 H.size (D.1 105) cap1 (hr_vq g1) ∧ (∀ j, j < n → g1 j = g j) ∧ n < cap1 ∧ cap1 ≤ 60) hr_no := by
  refine hr_of Z (by decide) (Nat.le_of_ble_eq_true rfl) (fun q h => h.elim (fun e => Or.inl (by rw [e]; exact ha)) Or.inr) ?_
  intro p e s m args below meth c Q ls C hQ hin hnx hS hl
  have hAN : ∀ q, H.size ≤ q → (fun q => q = a ∨ H.size ≤ q) q := (fun _ h => Or.inr h)
  have hl : lv_has ls 4 [(0, .ref a), (1, .int (hr_I ((n : Int) + 1)))] := hl
  refine lv_aload_n C.x C.b dJ2_grow_2_0 rfl (lv_at hl 0 rfl) ?_
  refine hr_get in_J2 (ci := 10) 1 q144 rfl rfl (by decide) C hO rfl dJ2_grow_2_1 ?_
  refine hr_alen 5 C rfl hG dJ2_grow_2_4 ?_
  refine lv_istore_n (lv' := [(2, .int (hr_I (n : Int))), (0, .ref a), (1, .int (hr_I ((n : Int) + 1)))]) C.x C.b dJ2_grow_2_5 rfl hl (by decide) rfl (fun ls hl => ?_)
  refine lv_iload_n C.x C.b dJ2_grow_2_6 rfl (lv_at hl 0 rfl) ?_
  refine hr_if_gt C (tgt := 20) dJ2_grow_2_7 (by decide) (by omega) (fun hc => ?_) (fun hc => ?_)
  · refine lv_iload_n C.x C.b dJ2_grow_2_20 rfl (lv_at hl 0 rfl) ?_
    refine lv_iload_n C.x C.b dJ2_grow_2_21 rfl (lv_at hl 2 rfl) ?_
    refine lv_iload_n C.x C.b dJ2_grow_2_22 rfl (lv_at hl 0 rfl) ?_
    refine t_isub C.x C.b dJ2_grow_2_23 (v := hr_I ((n : Int) + 1 - (n : Int))) (hr_sub _ _) ?_
    refine lv_iload_n C.x C.b dJ2_grow_2_24 rfl (lv_at hl 0 rfl) ?_
    refine lv_iconst (v := hr_I 1) C.x C.b dJ2_grow_2_25 (by decide) ?_
    refine hr_ishr1 C (by omega) dJ2_grow_2_26 ?_
    refine hr_callS (lw_S q668 q669 q94 q670) (by decide +kernel) (n := 3) C (mtJ14_newLength Z (x := (n : Int)) (a := (n : Int) + 1 - (n : Int)) (b := ((n / 2 : Nat) : Int)) (by omega) (by omega) (by omega) (by omega)) ⟨Nat.le_of_ble_eq_true rfl, Nat.le_of_ble_eq_true rfl⟩ rfl hl.1 (Nat.le_of_ble_eq_true rfl) ⟨by first | exact Nat.le_of_ble_eq_true rfl | (simp only [rmJ2_grow_2]; omega), by first | exact Nat.le_of_ble_eq_true rfl | (simp only [rmJ2_grow_2]; omega)⟩ hS (hr_AN hAN hS) dJ2_grow_2_27 (rest := []) rfl
      (fun _ _ _ _ _ h => h.elim) (fun v6 H1 locs2 hp5 hF3 hS4 => ?_)
    obtain ⟨hv7, hH8⟩ := hp5; subst hv7; subst hH8
    refine W.eq (g2 := F0 m 30 ls [.int (hr_I ((n : Int) + (if (n : Int) + 1 - (n : Int) < ((n / 2 : Nat) : Int) then ((n / 2 : Nat) : Int) else (n : Int) + 1 - (n : Int))))]) rfl ?_
    obtain ⟨k, hk, hk1, hk2⟩ : ∃ k : Nat, (n : Int) + (if (n : Int) + 1 - (n : Int) < ((n / 2 : Nat) : Int) then ((n / 2 : Nat) : Int) else (n : Int) + 1 - (n : Int)) = (k : Int) ∧ n < k ∧ k ≤ 60 := by
      refine ⟨n + (if 1 < n / 2 then n / 2 else 1), ?_, ?_, ?_⟩ <;> split <;> (try split) <;> omega
    rw [hk]
    refine lv_istore_n (lv' := [(3, .int (hr_I (k : Int))), (2, .int (hr_I (n : Int))), (0, .ref a), (1, .int (hr_I ((n : Int) + 1)))]) C.x C.b dJ2_grow_2_30 rfl hl (by decide) rfl (fun ls hl => ?_)
    refine lv_aload_n C.x C.b dJ2_grow_2_31 rfl (lv_at hl 2 rfl) ?_
    refine lv_aload_n C.x C.b dJ2_grow_2_32 rfl (lv_at hl 2 rfl) ?_
    refine hr_get in_J2 (ci := 10) 1 q144 rfl rfl (by decide) C hO rfl dJ2_grow_2_33 ?_
    refine lv_iload_n C.x C.b dJ2_grow_2_36 rfl (lv_at hl 0 rfl) ?_
    refine hr_callS (lw_S q678 q679 q96 q680) (by decide +kernel) (n := 2) C (mtJ16_copyOf Z hG (by omega) hk2 hel) ⟨Nat.le_of_ble_eq_true rfl, Nat.le_of_ble_eq_true rfl⟩ rfl hl.1 (Nat.le_of_ble_eq_true rfl) ⟨by first | exact Nat.le_of_ble_eq_true rfl | (simp only [rmJ2_grow_2]; omega), by first | exact Nat.le_of_ble_eq_true rfl | (simp only [rmJ2_grow_2]; omega)⟩ hS4 (hr_AN hAN hS4) dJ2_grow_2_37 (rest := [.ref a]) rfl
      (fun _ _ _ _ _ h => h.elim) (fun v14 H9 locs10 hp13 hF11 hS12 => ?_)
    obtain ⟨rfl, hA9⟩ := hp13
    refine W.eq (g2 := F0 m 40 ls [.ref H.size, .ref a]) rfl ?_
    refine lv_dup_x1 C.x C.b dJ2_grow_2_40 rfl rfl ?_
    refine hr_put in_J2 tyJ2 tyJ2_ok nmJ2 (ci := 10) 1 rfl q144 (Or.inl rfl) rfl (by decide) C (hO.x hF11) (Nat.le_of_ble_eq_true rfl) rfl rfl hS12 (Or.inl rfl) dJ2_grow_2_41 (fun H15 locs17 hO18 hz19 ho20 hS16 => ?_)
    exact hr_aret (Or.inr ⟨_, rfl⟩) (Or.inr ⟨_, rfl⟩) C hQ (⟨rfl, k, _, hO18, (hA9.kept (ho20 H.size (fun e => by have := hO.lt; omega))), fun j hj => by simp [va_cpy, hj], hk1, hk2⟩) hS16 (by first | exact Nat.le_of_ble_eq_true rfl | (simp only [rmJ2_grow_2]; omega)) (by first | exact Nat.le_of_ble_eq_true rfl | (simp only [rmJ2_grow_2]; omega)) dJ2_grow_2_44
  · refine lv_aload_n C.x C.b dJ2_grow_2_10 rfl (lv_at hl 1 rfl) ?_
    refine hr_get in_J2 (ci := 10) 1 q144 rfl rfl (by decide) C hO rfl dJ2_grow_2_11 ?_
    refine hr_gets C.z.1 q142 rfl C hS dJ2_grow_2_14 ?_
    refine hr_acmp_eq (x := some ar) (y := some (hr_k D 0)) C (tgt := 45) dJ2_grow_2_17 (by decide) (fun hc => ?_) (fun hc => ?_)
    · refine lv_aload_n C.x C.b dJ2_grow_2_45 rfl (lv_at hl 1 rfl) ?_
      refine lv_bipush (v := hr_I 10) C.x C.b dJ2_grow_2_46 (by decide) ?_
      refine lv_iload_n C.x C.b dJ2_grow_2_48 rfl (lv_at hl 2 rfl) ?_
      refine hr_mmax q719 C hl.1 (by omega) (by omega) (Nat.le_of_ble_eq_true rfl) (Nat.le_of_ble_eq_true rfl) (by first | exact Nat.le_of_ble_eq_true rfl | (simp only [rmJ2_grow_2]; omega)) (by first | exact Nat.le_of_ble_eq_true rfl | (simp only [rmJ2_grow_2]; omega)) dJ2_grow_2_49 ?_
      have e9 : (if (10 : Int) < (n : Int) + 1 then (n : Int) + 1 else 10) = ((10 : Nat) : Int) := by split <;> omega
      rw [e9]
      refine hr_newo C q720 (by omega) (by omega) (by first | exact Nat.le_of_ble_eq_true rfl | (simp only [rmJ2_grow_2]; omega)) (by first | exact Nat.le_of_ble_eq_true rfl | (simp only [rmJ2_grow_2]; omega)) hS dJ2_grow_2_52 (fun q H21 hq22 hO23 hX24 hz25 hS26 => ?_)
      refine lv_dup_x1 C.x C.b dJ2_grow_2_55 rfl rfl ?_
      refine hr_put in_J2 tyJ2 tyJ2_ok nmJ2 (ci := 10) 1 rfl q144 (Or.inl rfl) rfl (by decide) C (hO.x hX24) (Nat.le_of_ble_eq_true rfl) rfl rfl hS26 (Or.inl rfl) dJ2_grow_2_56 (fun H27 locs29 hO30 hz31 ho32 hS28 => ?_)
      have hq9 := hq22; subst hq9
      exact hr_aret (Or.inr ⟨_, rfl⟩) (Or.inr ⟨_, rfl⟩) C hQ (⟨rfl, 10, _, hO30, hO23.kept (ho32 _ (fun e => by have := hO.lt; omega)), fun j hj => absurd hj (by omega), by omega, by omega⟩) hS28 (by first | exact Nat.le_of_ble_eq_true rfl | (simp only [rmJ2_grow_2]; omega)) (by first | exact Nat.le_of_ble_eq_true rfl | (simp only [rmJ2_grow_2]; omega)) dJ2_grow_2_59
    · exact absurd (congrArg some (hemp (by omega))) hc

abbrev rmJ2_grow : Room := { frames := 4, cells := 1, slots := 60, locals := 97 }
set_option maxHeartbeats 4000000 in
set_option maxRecDepth 100000 in
theorem mtJ2_grow {l : Launch} {D : va_G} {s0 : State} (Z : hr_Z l D s0) {H : Heap} {a ar n : Nat} {mo : Int32} {g : Nat → Option Nat} (ha : s0.heap.size ≤ a) (hO : hr_O D H a 10 [.int mo, .ref ar, .int (hr_I (n : Int))]) (hG : hr_A H ar (D.1 105) n (hr_vq g)) (hn : n < 40) (hemp : n = 0 → ar = hr_k D 0) (hel : ∀ i, i < n → ∀ y, g i = some y → hr_Ob D H y) : hr_M l s0 yJ2_grow (ws_ yJ2_grow cJ2_grow 1 (Option.some (Jvm.ClassFile.FieldType.array (Jvm.ClassFile.FieldType.object "java/lang/Object")))) rmJ2_grow [.ref a] H (fun q => q = a ∨ H.size ≤ q) (fun v H1 => v = some (.ref H.size) ∧ ∃ (cap1 : Nat) (g1 : Nat → Option Nat), hr_O D H1 a 10 [.int mo, .ref H.size, .int (hr_I (n : Int))] ∧ hr_A H1 H.size (D.1 105) cap1 (hr_vq g1) ∧ (∀ j, j < n → g1 j = g j) ∧ n < cap1 ∧ cap1 ≤ 60) hr_no := by
  refine hr_of Z (by decide) (Nat.le_of_ble_eq_true rfl) (fun q h => h.elim (fun e => Or.inl (by rw [e]; exact ha)) Or.inr) ?_
  intro p e s m args below meth c Q ls C hQ hin hnx hS hl
  have hAN : ∀ q, H.size ≤ q → (fun q => q = a ∨ H.size ≤ q) q := (fun _ h => Or.inr h)
  have hl : lv_has ls 1 [(0, .ref a)] := hl
  refine lv_aload_n C.x C.b dJ2_grow_0 rfl (lv_at hl 0 rfl) ?_
  refine lv_aload_n C.x C.b dJ2_grow_1 rfl (lv_at hl 0 rfl) ?_
  refine hr_get in_J2 (ci := 10) 2 q147 rfl rfl (by decide) C hO rfl dJ2_grow_2 ?_
  refine lv_iconst (v := hr_I 1) C.x C.b dJ2_grow_5 (by decide) ?_
  refine t_iadd C.x C.b dJ2_grow_6 (v := hr_I ((n : Int) + 1)) (hr_add _ _) ?_
  refine hr_callV (lw_V q664 q666 qs8 q80 q667) (by decide +kernel) (n := 1) C (mtJ2_grow_2 Z ha hO hG hn hemp hel) (hO.recv C rfl) ⟨Nat.le_of_ble_eq_true rfl, Nat.le_of_ble_eq_true rfl⟩ rfl hl.1 (Nat.le_of_ble_eq_true rfl) ⟨by first | exact Nat.le_of_ble_eq_true rfl | (simp only [rmJ2_grow]; omega), by first | exact Nat.le_of_ble_eq_true rfl | (simp only [rmJ2_grow]; omega)⟩ hS (fun _ h => h) dJ2_grow_7 (rest := []) rfl
    (fun _ _ _ _ _ h => h.elim) (fun v6 H1 locs2 hp5 hF3 hS4 => ?_)
  obtain ⟨rfl, hq9⟩ := hp5
  refine W.eq (g2 := F0 m 10 ls [.ref H.size]) rfl ?_
  exact hr_aret (Or.inr ⟨_, rfl⟩) (Or.inr ⟨_, rfl⟩) C hQ (⟨rfl, hq9⟩) hS4 (by first | exact Nat.le_of_ble_eq_true rfl | (simp only [rmJ2_grow]; omega)) (by first | exact Nat.le_of_ble_eq_true rfl | (simp only [rmJ2_grow]; omega)) dJ2_grow_10

abbrev rmJ2_add_2 : Room := { frames := 5, cells := 1, slots := 60, locals := 117 }
set_option maxHeartbeats 4000000 in
set_option maxRecDepth 100000 in
theorem mtJ2_add_2 {l : Launch} {D : va_G} {s0 : State} (Z : hr_Z l D s0) {H : Heap} {L : ly_L} {n x : Nat} {f : Nat → Nat} (ha : s0.heap.size ≤ L.1) (har : n < L.2.2.1 → s0.heap.size ≤ L.2.1) (hL : hr_L D H L n f) (hn : n < 40) (hel : ∀ j, j < n → hr_Ob D H (f j)) (hx : hr_Ob D H x) (nx9 : x ≠ L.1) : hr_M l s0 yJ2_add_2 (ws_ yJ2_add_2 cJ2_add_2 4 (Option.none : Option Jvm.ClassFile.FieldType)) rmJ2_add_2 [.ref L.1, .ref x, .ref L.2.1, .int (hr_I (n : Int))] H (fun q => q = L.1 ∨ (q = L.2.1 ∧ n < L.2.2.1) ∨ H.size ≤ q) (fun v H1 => v = none ∧ ∃ (ar1 cap1 : Nat), hr_L D H1 (L.1, ar1, cap1, L.2.2.2) (n + 1) (hr_u f n x) ∧ n < cap1 ∧ ((ar1 = L.2.1 ∧ n < L.2.2.1) ∨ H.size ≤ ar1)) hr_no := by
  refine hr_of Z (by decide) (Nat.le_of_ble_eq_true rfl) (fun q h => by rcases h with e | ⟨e, h⟩ | h; exact Or.inl (by rw [e]; exact ha); exact Or.inl (by rw [e]; exact har h); exact Or.inr h) ?_
  intro p e s m args below meth c Q ls C hQ hin hnx hS hl
  have hAN : ∀ q, H.size ≤ q → (fun q => q = L.1 ∨ (q = L.2.1 ∧ n < L.2.2.1) ∨ H.size ≤ q) q := (fun _ h => Or.inr (Or.inr h))
  have hl : lv_has ls 4 [(0, .ref L.1), (1, .ref x), (2, .ref L.2.1), (3, .int (hr_I (n : Int)))] := hl
  obtain ⟨hO, ⟨g, hG, hg⟩, hcap, hmax, hemp⟩ := id hL
  refine lv_iload_n C.x C.b dJ2_add_2_0 rfl (lv_at hl 3 rfl) ?_
  refine lv_aload_n C.x C.b dJ2_add_2_1 rfl (lv_at hl 2 rfl) ?_
  refine hr_alen 5 C rfl hG dJ2_add_2_2 ?_
  refine hr_icmp_ne C (tgt := 11) dJ2_add_2_3 (by decide) (by omega) (by omega) (fun hc => ?_) (fun hc => ?_)
  · refine lv_aload_n C.x C.b dJ2_add_2_11 rfl (lv_at hl 2 rfl) ?_
    refine lv_iload_n C.x C.b dJ2_add_2_12 rfl (lv_at hl 3 rfl) ?_
    refine lv_aload_n C.x C.b dJ2_add_2_13 rfl (lv_at hl 1 rfl) ?_
    refine hr_aast C hG (hx.any C) (by omega) (by omega) (by omega) hS (Or.inr (Or.inl ⟨rfl, by omega⟩)) dJ2_add_2_14 (fun H1 locs3 hO4 hz5 ho6 hS2 => ?_)
    refine lv_aload_n C.x C.b dJ2_add_2_15 rfl (lv_at hl 0 rfl) ?_
    refine lv_iload_n C.x C.b dJ2_add_2_16 rfl (lv_at hl 3 rfl) ?_
    refine lv_iconst (v := hr_I 1) C.x C.b dJ2_add_2_17 (by decide) ?_
    refine t_iadd C.x C.b dJ2_add_2_18 (v := hr_I ((n : Int) + 1)) (hr_add _ _) ?_
    refine hr_put in_J2 tyJ2 tyJ2_ok nmJ2 (ci := 10) 2 rfl q147 (Or.inl rfl) rfl (by decide) C (hO.kept (ho6 L.1 (hO.neA hG (C.do 10 rfl (by decide))))) (Nat.le_of_ble_eq_true rfl) rfl rfl hS2 (Or.inl rfl) dJ2_add_2_19 (fun H7 locs9 hO10 hz11 ho12 hS8 => ?_)
    exact hr_vret C hQ (⟨rfl, L.2.1, L.2.2.1, ⟨hO10, ⟨_, hO4.kept (ho12 L.2.1 (Ne.symm (hO.neA hG (C.do 10 rfl (by decide))))), fun j hj => by by_cases h : j = n; (rw [show ((n : Int)).toNat = n from rfl, h, hr_us, hr_us]); (rw [show ((n : Int)).toNat = n from rfl, hr_un _ _ h, hr_un _ _ h]; exact hg j (by omega))⟩, by show n + 1 ≤ L.2.2.1; omega, hmax, hemp⟩, by omega, Or.inl ⟨rfl, by omega⟩⟩) hS8 (by first | exact Nat.le_of_ble_eq_true rfl | (simp only [rmJ2_add_2]; omega)) (by first | exact Nat.le_of_ble_eq_true rfl | (simp only [rmJ2_add_2]; omega)) dJ2_add_2_22
  · refine lv_aload_n C.x C.b dJ2_add_2_6 rfl (lv_at hl 0 rfl) ?_
    have hcn : L.2.2.1 = n := by omega
    have hG9 : hr_A H L.2.1 (D.1 105) n (hr_vq g) := by rw [← hcn]; exact hG
    refine hr_callV (lw_V q660 q662 qs7 q80 q663) (by decide +kernel) (n := 0) C (mtJ2_grow Z ha hO hG9 hn (fun h => hemp (by omega)) (fun i hi y hy => by have h2 := hg i hi; rw [hy] at h2; cases h2; exact hel i hi)) (hL.1.recv C rfl) ⟨Nat.le_of_ble_eq_true rfl, Nat.le_of_ble_eq_true rfl⟩ rfl hl.1 (Nat.le_of_ble_eq_true rfl) ⟨by first | exact Nat.le_of_ble_eq_true rfl | (simp only [rmJ2_add_2]; omega), by first | exact Nat.le_of_ble_eq_true rfl | (simp only [rmJ2_add_2]; omega)⟩ hS (fun q h => h.elim Or.inl (fun h => Or.inr (Or.inr h))) dJ2_add_2_7 (rest := []) rfl
      (fun _ _ _ _ _ h => h.elim) (fun v18 H13 locs14 hp17 hF15 hS16 => ?_)
    obtain ⟨rfl, ⟨cap1, g1, hO9, hA9, hg9, hc9, hm9⟩⟩ := hp17
    refine W.eq (g2 := F0 m 10 ls [.ref H.size]) rfl ?_
    refine lv_astore_n (lv' := [(2, .ref H.size), (0, .ref L.1), (1, .ref x), (3, .int (hr_I (n : Int)))]) C.x C.b dJ2_add_2_10 rfl hl (by decide) rfl (fun ls hl => ?_)
    refine lv_aload_n C.x C.b dJ2_add_2_11 rfl (lv_at hl 0 rfl) ?_
    refine lv_iload_n C.x C.b dJ2_add_2_12 rfl (lv_at hl 3 rfl) ?_
    refine lv_aload_n C.x C.b dJ2_add_2_13 rfl (lv_at hl 2 rfl) ?_
    refine hr_aast C hA9 (hr_Any_f hF15 C (hx.any C) (by obtain ⟨_, _, _, h9⟩ := hx; exact h9.lt) (fun e => nx9 e)) (by omega) (by omega) (by omega) hS16 (Or.inr (Or.inr (Nat.le_refl _))) dJ2_add_2_14 (fun H19 locs21 hO22 hz23 ho24 hS20 => ?_)
    refine lv_aload_n C.x C.b dJ2_add_2_15 rfl (lv_at hl 1 rfl) ?_
    refine lv_iload_n C.x C.b dJ2_add_2_16 rfl (lv_at hl 3 rfl) ?_
    refine lv_iconst (v := hr_I 1) C.x C.b dJ2_add_2_17 (by decide) ?_
    refine t_iadd C.x C.b dJ2_add_2_18 (v := hr_I ((n : Int) + 1)) (hr_add _ _) ?_
    refine hr_put in_J2 tyJ2 tyJ2_ok nmJ2 (ci := 10) 2 rfl q147 (Or.inl rfl) rfl (by decide) C (hO9.kept (ho24 L.1 (fun e => by have := hO.lt; omega))) (Nat.le_of_ble_eq_true rfl) rfl rfl hS20 (Or.inl rfl) dJ2_add_2_19 (fun H25 locs27 hO28 hz29 ho30 hS26 => ?_)
    exact hr_vret C hQ (⟨rfl, H.size, cap1, ⟨hO28, ⟨_, hO22.kept (ho30 H.size (fun e => by have := hO.lt; omega)), fun j hj => by by_cases h : j = n; (rw [show ((n : Int)).toNat = n from rfl, h, hr_us, hr_us]); (rw [show ((n : Int)).toNat = n from rfl, hr_un _ _ h, hr_un _ _ h, hg9 j (by omega)]; exact hg j (by omega))⟩, by show n + 1 ≤ cap1; omega, hm9, fun h => absurd h (by show ¬ cap1 = 0; omega)⟩, hc9, Or.inr (Nat.le_refl _)⟩) hS26 (by first | exact Nat.le_of_ble_eq_true rfl | (simp only [rmJ2_add_2]; omega)) (by first | exact Nat.le_of_ble_eq_true rfl | (simp only [rmJ2_add_2]; omega)) dJ2_add_2_22

abbrev rmJ2_add : Room := { frames := 6, cells := 1, slots := 60, locals := 140 }
set_option maxHeartbeats 4000000 in
set_option maxRecDepth 100000 in
theorem mtJ2_add {l : Launch} {D : va_G} {s0 : State} (Z : hr_Z l D s0) {H : Heap} {L : ly_L} {n x : Nat} {f : Nat → Nat} (ha : s0.heap.size ≤ L.1) (har : n < L.2.2.1 → s0.heap.size ≤ L.2.1) (hL : hr_L D H L n f) (hn : n < 40) (hel : ∀ j, j < n → hr_Ob D H (f j)) (hx : hr_Ob D H x) : hr_M l s0 yJ2_add (ws_ yJ2_add cJ2_add 2 (Option.some Jvm.ClassFile.FieldType.boolean)) rmJ2_add [.ref L.1, .ref x] H (fun q => q = L.1 ∨ (q = L.2.1 ∧ n < L.2.2.1) ∨ H.size ≤ q) (fun v H1 => v = some (.int (hr_I 1)) ∧ ∃ (ar1 cap1 : Nat), hr_L D H1 (L.1, ar1, cap1, L.2.2.2 + hr_I 1) (n + 1) (hr_u f n x) ∧ n < cap1 ∧ ((ar1 = L.2.1 ∧ n < L.2.2.1) ∨ H.size ≤ ar1)) hr_no := by
  refine hr_of Z (by decide) (Nat.le_of_ble_eq_true rfl) (fun q h => by rcases h with e | ⟨e, h⟩ | h; exact Or.inl (by rw [e]; exact ha); exact Or.inl (by rw [e]; exact har h); exact Or.inr h) ?_
  intro p e s m args below meth c Q ls C hQ hin hnx hS hl
  have hAN : ∀ q, H.size ≤ q → (fun q => q = L.1 ∨ (q = L.2.1 ∧ n < L.2.2.1) ∨ H.size ≤ q) q := (fun _ h => Or.inr (Or.inr h))
  have hl : lv_has ls 2 [(0, .ref L.1), (1, .ref x)] := hl
  obtain ⟨hO, ⟨g, hG, hg⟩, hcap, hmax, hemp⟩ := id hL
  have nx9 : x ≠ L.1 := hx.ne C hO
  have hd9 : L.1 ≠ L.2.1 := hO.neA hG (C.do 10 rfl (by decide))
  refine lv_aload_n C.x C.b dJ2_add_0 rfl (lv_at hl 0 rfl) ?_
  refine lv_dup C.x C.b dJ2_add_1 rfl ?_
  refine hr_getI in_J2 (ci := 10) 0 q151 q150 rfl (by decide) C hL.1 rfl dJ2_add_2 ?_
  refine lv_iconst (v := hr_I 1) C.x C.b dJ2_add_5 (by decide) ?_
  refine t_iadd C.x C.b dJ2_add_6 (v := L.2.2.2 + (hr_I 1)) rfl ?_
  refine hr_put in_J2 tyJ2 tyJ2_ok nmJ2 (ci := 10) 0 rfl q151 (Or.inr q150) rfl (by decide) C hL.1 (Nat.le_of_ble_eq_true rfl) rfl rfl hS (Or.inl rfl) dJ2_add_7 (fun H1 locs3 hO4 hz5 ho6 hS2 => ?_)
  have hL2 : hr_L D H1 (L.1, L.2.1, L.2.2.1, L.2.2.2 + hr_I 1) n f := ⟨hO4, ⟨g, hG.kept (ho6 _ (Ne.symm hd9)), hg⟩, hcap, hmax, hemp⟩
  refine lv_aload_n C.x C.b dJ2_add_10 rfl (lv_at hl 0 rfl) ?_
  refine lv_aload_n C.x C.b dJ2_add_11 rfl (lv_at hl 1 rfl) ?_
  refine lv_aload_n C.x C.b dJ2_add_12 rfl (lv_at hl 0 rfl) ?_
  refine hr_get in_J2 (ci := 10) 1 q144 rfl rfl (by decide) C hO4 rfl dJ2_add_13 ?_
  refine lv_aload_n C.x C.b dJ2_add_16 rfl (lv_at hl 0 rfl) ?_
  refine hr_get in_J2 (ci := 10) 2 q147 rfl rfl (by decide) C hO4 rfl dJ2_add_17 ?_
  refine hr_callV (lw_V q656 q658 qs6 q80 q659) (by decide +kernel) (n := 3) C (mtJ2_add_2 Z (L := (L.1, L.2.1, L.2.2.1, L.2.2.2 + hr_I 1)) ha har hL2 hn (fun j hj => (hel j hj).kept (ho6 _ ((hel j hj).ne C hO))) (hx.kept (ho6 _ nx9)) nx9) (hO4.recv C rfl) ⟨Nat.le_of_ble_eq_true rfl, Nat.le_of_ble_eq_true rfl⟩ rfl hl.1 (Nat.le_of_ble_eq_true rfl) ⟨by first | exact Nat.le_of_ble_eq_true rfl | (simp only [rmJ2_add]; omega), by first | exact Nat.le_of_ble_eq_true rfl | (simp only [rmJ2_add]; omega)⟩ hS2 (fun q h => by rw [hz5] at h; exact h) dJ2_add_20 (rest := []) rfl
    (fun _ _ _ _ _ h => h.elim) (fun v12 H7 locs8 hp11 hF9 hS10 => ?_)
  obtain ⟨rfl, ⟨ar1, cap1, hL3, hc3, hr3⟩⟩ := hp11
  refine W.eq (g2 := F0 m 23 ls []) rfl ?_
  refine lv_iconst (v := hr_I 1) C.x C.b dJ2_add_23 (by decide) ?_
  exact hr_zret C hQ rfl (⟨rfl, ar1, cap1, hL3, hc3, by rw [hz5] at hr3; exact hr3⟩) hS10 (by first | exact Nat.le_of_ble_eq_true rfl | (simp only [rmJ2_add]; omega)) (by first | exact Nat.le_of_ble_eq_true rfl | (simp only [rmJ2_add]; omega)) dJ2_add_24

abbrev rmJ2_fastRemove : Room := { frames := 1, cells := 0, slots := 0, locals := 30 }
set_option maxHeartbeats 4000000 in
set_option maxRecDepth 100000 in
theorem mtJ2_fastRemove {l : Launch} {D : va_G} {s0 : State} (Z : hr_Z l D s0) {H : Heap} {L : ly_L} {n i : Nat} {f : Nat → Nat} (ha : s0.heap.size ≤ L.1) (har : s0.heap.size ≤ L.2.1) (hL : hr_L D H L n f) (hi : i < n) (hel : ∀ j, j < n → hr_Ob D H (f j)) : hr_M l s0 yJ2_fastRemove (ws_ yJ2_fastRemove cJ2_fastRemove 4 (Option.none : Option Jvm.ClassFile.FieldType)) rmJ2_fastRemove [.ref L.1, .ref L.2.1, .int (hr_I (i : Int))] H (fun q => q = L.1 ∨ q = L.2.1 ∨ H.size ≤ q) (fun v H1 => v = none ∧ hr_L D H1 (L.1, L.2.1, L.2.2.1, L.2.2.2 + hr_I 1) (n - 1) (fun j => if j < i then f j else f (j + 1))) hr_no := by
  refine hr_of Z (by decide) (Nat.le_of_ble_eq_true rfl) (fun q h => by rcases h with e | e | h; exact Or.inl (by rw [e]; exact ha); exact Or.inl (by rw [e]; exact har); exact Or.inr h) ?_
  intro p e s m args below meth c Q ls C hQ hin hnx hS hl
  have hAN : ∀ q, H.size ≤ q → (fun q => q = L.1 ∨ q = L.2.1 ∨ H.size ≤ q) q := (fun _ h => Or.inr (Or.inr h))
  have hl : lv_has ls 4 [(0, .ref L.1), (1, .ref L.2.1), (2, .int (hr_I (i : Int)))] := hl
  obtain ⟨hO, ⟨g, hG, hg⟩, hcap, hmax, hemp⟩ := id hL
  have hd9 : L.1 ≠ L.2.1 := hO.neA hG (C.do 10 rfl (by decide))
  refine lv_aload_n C.x C.b dJ2_fastRemove_0 rfl (lv_at hl 0 rfl) ?_
  refine lv_dup C.x C.b dJ2_fastRemove_1 rfl ?_
  refine hr_getI in_J2 (ci := 10) 0 q151 q150 rfl (by decide) C hL.1 rfl dJ2_fastRemove_2 ?_
  refine lv_iconst (v := hr_I 1) C.x C.b dJ2_fastRemove_5 (by decide) ?_
  refine t_iadd C.x C.b dJ2_fastRemove_6 (v := L.2.2.2 + (hr_I 1)) rfl ?_
  refine hr_put in_J2 tyJ2 tyJ2_ok nmJ2 (ci := 10) 0 rfl q151 (Or.inr q150) rfl (by decide) C hL.1 (Nat.le_of_ble_eq_true rfl) rfl rfl hS (Or.inl rfl) dJ2_fastRemove_7 (fun H1 locs3 hO4 hz5 ho6 hS2 => ?_)
  refine lv_aload_n C.x C.b dJ2_fastRemove_10 rfl (lv_at hl 0 rfl) ?_
  refine hr_get in_J2 (ci := 10) 2 q147 rfl rfl (by decide) C hO4 rfl dJ2_fastRemove_11 ?_
  refine lv_iconst (v := hr_I 1) C.x C.b dJ2_fastRemove_14 (by decide) ?_
  refine t_isub C.x C.b dJ2_fastRemove_15 (v := hr_I ((n : Int) - 1)) (hr_sub _ _) ?_
  refine lv_dup C.x C.b dJ2_fastRemove_16 rfl ?_
  refine lv_istore_n (lv' := [(3, .int (hr_I ((n : Int) - 1))), (0, .ref L.1), (1, .ref L.2.1), (2, .int (hr_I (i : Int)))]) C.x C.b dJ2_fastRemove_17 rfl hl (by decide) rfl (fun ls hl => ?_)
  refine lv_iload_n C.x C.b dJ2_fastRemove_18 rfl (lv_at hl 3 rfl) ?_
  refine hr_icmp_le C (tgt := 34) dJ2_fastRemove_19 (by decide) (by omega) (by omega) (fun hc => ?_) (fun hc => ?_)
  · refine lv_aload_n C.x C.b dJ2_fastRemove_34 rfl (lv_at hl 2 rfl) ?_
    refine lv_aload_n C.x C.b dJ2_fastRemove_35 rfl (lv_at hl 1 rfl) ?_
    refine lv_iload_n C.x C.b dJ2_fastRemove_36 rfl (lv_at hl 0 rfl) ?_
    refine lv_dup_x1 C.x C.b dJ2_fastRemove_37 rfl rfl ?_
    refine hr_put in_J2 tyJ2 tyJ2_ok nmJ2 (ci := 10) 2 rfl q147 (Or.inl rfl) rfl (by decide) C hO4 (Nat.le_of_ble_eq_true rfl) rfl rfl hS2 (Or.inl rfl) dJ2_fastRemove_38 (fun H7 locs9 hO10 hz11 ho12 hS8 => ?_)
    refine lv_null C.x C.b dJ2_fastRemove_41 ?_
    refine hr_aastN C ((hG.kept (ho6 _ (Ne.symm hd9))).kept (ho12 _ (Ne.symm hd9))) (by omega) (by omega) (by omega) hS8 (Or.inr (Or.inl rfl)) dJ2_fastRemove_42 (fun H13 locs15 hO16 hz17 ho18 hS14 => ?_)
    have e9 : ((n : Int) - 1).toNat = n - 1 := by omega
    have e8 : (n : Int) - 1 = ((n - 1 : Nat) : Int) := by omega
    exact hr_vret C hQ (⟨rfl, by have h9 := hO10.kept (ho18 L.1 hd9); rw [e8] at h9; exact h9, ⟨_, hO16, fun j hj => by rw [e9, hr_un _ _ (by omega)]; (show g j = some (if j < i then f j else f (j + 1)); rw [if_pos (by omega)]; exact hg j (by omega))⟩, by show n - 1 ≤ L.2.2.1; omega, hmax, hemp⟩) hS14 (by first | exact Nat.le_of_ble_eq_true rfl | (simp only [rmJ2_fastRemove]; omega)) (by first | exact Nat.le_of_ble_eq_true rfl | (simp only [rmJ2_fastRemove]; omega)) dJ2_fastRemove_43
  · refine lv_aload_n C.x C.b dJ2_fastRemove_22 rfl (lv_at hl 2 rfl) ?_
    refine lv_iload_n C.x C.b dJ2_fastRemove_23 rfl (lv_at hl 3 rfl) ?_
    refine lv_iconst (v := hr_I 1) C.x C.b dJ2_fastRemove_24 (by decide) ?_
    refine t_iadd C.x C.b dJ2_fastRemove_25 (v := hr_I ((i : Int) + 1)) (hr_add _ _) ?_
    refine lv_aload_n C.x C.b dJ2_fastRemove_26 rfl (lv_at hl 2 rfl) ?_
    refine lv_iload_n C.x C.b dJ2_fastRemove_27 rfl (lv_at hl 3 rfl) ?_
    refine lv_iload_n C.x C.b dJ2_fastRemove_28 rfl (lv_at hl 0 rfl) ?_
    refine lv_iload_n C.x C.b dJ2_fastRemove_29 rfl (lv_at hl 3 rfl) ?_
    refine t_isub C.x C.b dJ2_fastRemove_30 (v := hr_I ((n : Int) - 1 - (i : Int))) (hr_sub _ _) ?_
    refine hr_copyq C hl.1 q951 (hG.kept (ho6 _ (Ne.symm hd9))) (hG.kept (ho6 _ (Ne.symm hd9))) (by omega) (by omega) (by omega) (by omega) (by omega) (by omega) (by omega) (fun k hk y hy => by have h9 := hg (((i : Int) + 1).toNat + k) (by omega); rw [hy] at h9; cases h9; exact ((hel _ (by omega)).kept (ho6 _ ((hel _ (by omega)).ne C hO))).any C) hS2 (Or.inr (Or.inl rfl)) (Nat.le_of_ble_eq_true rfl) (Nat.le_of_ble_eq_true rfl) dJ2_fastRemove_31 (fun H9 locs9 hO9 hz9 ho9 hS9 => ?_)
    refine lv_aload_n C.x C.b dJ2_fastRemove_34 rfl (lv_at hl 2 rfl) ?_
    refine lv_aload_n C.x C.b dJ2_fastRemove_35 rfl (lv_at hl 1 rfl) ?_
    refine lv_iload_n C.x C.b dJ2_fastRemove_36 rfl (lv_at hl 0 rfl) ?_
    refine lv_dup_x1 C.x C.b dJ2_fastRemove_37 rfl rfl ?_
    refine hr_put in_J2 tyJ2 tyJ2_ok nmJ2 (ci := 10) 2 rfl q147 (Or.inl rfl) rfl (by decide) C (hO4.kept (ho9 L.1 hd9)) (Nat.le_of_ble_eq_true rfl) rfl rfl hS9 (Or.inl rfl) dJ2_fastRemove_38 (fun H19 locs21 hO22 hz23 ho24 hS20 => ?_)
    refine lv_null C.x C.b dJ2_fastRemove_41 ?_
    refine hr_aastN C (hO9.kept (ho24 _ (Ne.symm hd9))) (by omega) (by omega) (by omega) hS20 (Or.inr (Or.inl rfl)) dJ2_fastRemove_42 (fun H25 locs27 hO28 hz29 ho30 hS26 => ?_)
    have e9 : ((n : Int) - 1).toNat = n - 1 := by omega
    have e8 : (n : Int) - 1 = ((n - 1 : Nat) : Int) := by omega
    exact hr_vret C hQ (⟨rfl, by have h9 := hO22.kept (ho30 L.1 hd9); rw [e8] at h9; exact h9, ⟨_, hO28, fun j hj => by rw [e9, hr_un _ _ (by omega)]; (simp only [va_cpy]; split; (split; omega; (have h7 := hg (((i : Int) + 1).toNat + (j - ((i : Int)).toNat)) (by omega); rw [h7]; congr 2; omega)); (split; (exact hg j (by omega)); omega))⟩, by show n - 1 ≤ L.2.2.1; omega, hmax, hemp⟩) hS26 (by first | exact Nat.le_of_ble_eq_true rfl | (simp only [rmJ2_fastRemove]; omega)) (by first | exact Nat.le_of_ble_eq_true rfl | (simp only [rmJ2_fastRemove]; omega)) dJ2_fastRemove_43

abbrev rmJ2_remove : Room := { frames := 2, cells := 0, slots := 0, locals := 55 }
set_option maxHeartbeats 4000000 in
set_option maxRecDepth 100000 in
theorem mtJ2_remove {l : Launch} {D : va_G} {s0 : State} (Z : hr_Z l D s0) {H : Heap} {L : ly_L} {n i : Nat} {f : Nat → Nat} (ha : s0.heap.size ≤ L.1) (har : s0.heap.size ≤ L.2.1) (hL : hr_L D H L n f) (hi : i < n) (hel : ∀ j, j < n → hr_Ob D H (f j)) : hr_M l s0 yJ2_remove (ws_ yJ2_remove cJ2_remove 4 (Option.some (Jvm.ClassFile.FieldType.object "java/lang/Object"))) rmJ2_remove [.ref L.1, .int (hr_I (i : Int))] H (fun q => q = L.1 ∨ q = L.2.1 ∨ H.size ≤ q) (fun v H1 => v = some (.ref (f i)) ∧ hr_L D H1 (L.1, L.2.1, L.2.2.1, L.2.2.2 + hr_I 1) (n - 1) (fun j => if j < i then f j else f (j + 1))) hr_no := by
  refine hr_of Z (by decide) (Nat.le_of_ble_eq_true rfl) (fun q h => by rcases h with e | e | h; exact Or.inl (by rw [e]; exact ha); exact Or.inl (by rw [e]; exact har); exact Or.inr h) ?_
  intro p e s m args below meth c Q ls C hQ hin hnx hS hl
  have hAN : ∀ q, H.size ≤ q → (fun q => q = L.1 ∨ q = L.2.1 ∨ H.size ≤ q) q := (fun _ h => Or.inr (Or.inr h))
  have hl : lv_has ls 4 [(0, .ref L.1), (1, .int (hr_I (i : Int)))] := hl
  obtain ⟨hO, ⟨g, hG, hg⟩, hcap, hmax, hemp⟩ := id hL
  refine lv_iload_n C.x C.b dJ2_remove_0 rfl (lv_at hl 1 rfl) ?_
  refine lv_aload_n C.x C.b dJ2_remove_1 rfl (lv_at hl 0 rfl) ?_
  refine hr_get in_J2 (ci := 10) 2 q147 rfl rfl (by decide) C hL.1 rfl dJ2_remove_2 ?_
  refine hr_callS (lw_S q496 q497 q91 q498) (by decide +kernel) (n := 2) C (mtJ12_checkIndex Z (i := (i : Int)) (n := (n : Int)) (by omega) (by omega) (by omega)) ⟨Nat.le_of_ble_eq_true rfl, Nat.le_of_ble_eq_true rfl⟩ rfl hl.1 (Nat.le_of_ble_eq_true rfl) ⟨by first | exact Nat.le_of_ble_eq_true rfl | (simp only [rmJ2_remove]; omega), by first | exact Nat.le_of_ble_eq_true rfl | (simp only [rmJ2_remove]; omega)⟩ hS (hr_AN hAN hS) dJ2_remove_5 (rest := []) rfl
    (fun _ _ _ _ _ h => h.elim) (fun v6 H1 locs2 hp5 hF3 hS4 => ?_)
  obtain ⟨hv7, hH8⟩ := hp5; subst hv7; subst hH8
  refine W.eq (g2 := F0 m 8 ls [.int (hr_I (i : Int))]) rfl ?_
  refine lv_pop C.x C.b dJ2_remove_8 rfl ?_
  refine lv_aload_n C.x C.b dJ2_remove_9 rfl (lv_at hl 0 rfl) ?_
  refine hr_get in_J2 (ci := 10) 1 q144 rfl rfl (by decide) C hL.1 rfl dJ2_remove_10 ?_
  refine lv_astore_n (lv' := [(2, .ref L.2.1), (0, .ref L.1), (1, .int (hr_I (i : Int)))]) C.x C.b dJ2_remove_13 rfl hl (by decide) rfl (fun ls hl => ?_)
  refine lv_aload_n C.x C.b dJ2_remove_14 rfl (lv_at hl 0 rfl) ?_
  refine lv_iload_n C.x C.b dJ2_remove_15 rfl (lv_at hl 2 rfl) ?_
  refine hr_aald C hG (by omega) (by omega) (by omega) (v := .ref (f i)) (by rw [show ((i : Int)).toNat = i from rfl, hr_vq, hg i hi]; rfl) dJ2_remove_16 ?_
  refine lv_astore_n (lv' := [(3, .ref (f i)), (2, .ref L.2.1), (0, .ref L.1), (1, .int (hr_I (i : Int)))]) C.x C.b dJ2_remove_17 rfl hl (by decide) rfl (fun ls hl => ?_)
  refine lv_aload_n C.x C.b dJ2_remove_18 rfl (lv_at hl 2 rfl) ?_
  refine lv_aload_n C.x C.b dJ2_remove_19 rfl (lv_at hl 1 rfl) ?_
  refine lv_iload_n C.x C.b dJ2_remove_20 rfl (lv_at hl 3 rfl) ?_
  refine hr_callV (lw_V q947 q949 qs18 q80 q950) (by decide +kernel) (n := 2) C (mtJ2_fastRemove Z ha har hL hi hel) (hL.1.recv C rfl) ⟨Nat.le_of_ble_eq_true rfl, Nat.le_of_ble_eq_true rfl⟩ rfl hl.1 (Nat.le_of_ble_eq_true rfl) ⟨by first | exact Nat.le_of_ble_eq_true rfl | (simp only [rmJ2_remove]; omega), by first | exact Nat.le_of_ble_eq_true rfl | (simp only [rmJ2_remove]; omega)⟩ hS4 (fun _ h => h) dJ2_remove_21 (rest := []) rfl
    (fun _ _ _ _ _ h => h.elim) (fun v14 H9 locs10 hp13 hF11 hS12 => ?_)
  obtain ⟨rfl, hL9⟩ := hp13
  refine W.eq (g2 := F0 m 24 ls []) rfl ?_
  refine lv_aload_n C.x C.b dJ2_remove_24 rfl (lv_at hl 0 rfl) ?_
  exact hr_aret (Or.inl ⟨_, rfl⟩) (Or.inr ⟨_, rfl⟩) C hQ (⟨rfl, hL9⟩) hS12 (by first | exact Nat.le_of_ble_eq_true rfl | (simp only [rmJ2_remove]; omega)) (by first | exact Nat.le_of_ble_eq_true rfl | (simp only [rmJ2_remove]; omega)) dJ2_remove_25

abbrev rmJ2_clear : Room := { frames := 0, cells := 0, slots := 0, locals := 12 }
set_option maxHeartbeats 4000000 in
set_option maxRecDepth 100000 in
theorem mtJ2_clear {l : Launch} {D : va_G} {s0 : State} (Z : hr_Z l D s0) {H : Heap} {L : ly_L} {n : Nat} {f : Nat → Nat} (ha : s0.heap.size ≤ L.1) (har : s0.heap.size ≤ L.2.1) (hL : hr_L D H L n f) (f0 : Nat → Nat) : hr_M l s0 yJ2_clear (ws_ yJ2_clear cJ2_clear 4 (Option.none : Option Jvm.ClassFile.FieldType)) rmJ2_clear [.ref L.1] H (fun q => q = L.1 ∨ q = L.2.1 ∨ H.size ≤ q) (fun v H1 => v = none ∧ hr_L D H1 (L.1, L.2.1, L.2.2.1, L.2.2.2 + hr_I 1) 0 f0) hr_no := by
  refine hr_of Z (by decide) (Nat.le_of_ble_eq_true rfl) (fun q h => by rcases h with e | e | h; exact Or.inl (by rw [e]; exact ha); exact Or.inl (by rw [e]; exact har); exact Or.inr h) ?_
  intro p e s m args below meth c Q ls C hQ hin hnx hS hl
  have hAN : ∀ q, H.size ≤ q → (fun q => q = L.1 ∨ q = L.2.1 ∨ H.size ≤ q) q := (fun _ h => Or.inr (Or.inr h))
  have hl : lv_has ls 4 [(0, .ref L.1)] := hl
  obtain ⟨hO, ⟨g, hG, hg⟩, hcap, hmax, hemp⟩ := id hL
  have hd9 : L.1 ≠ L.2.1 := hO.neA hG (C.do 10 rfl (by decide))
  refine lv_aload_n C.x C.b dJ2_clear_0 rfl (lv_at hl 0 rfl) ?_
  refine lv_dup C.x C.b dJ2_clear_1 rfl ?_
  refine hr_getI in_J2 (ci := 10) 0 q151 q150 rfl (by decide) C hL.1 rfl dJ2_clear_2 ?_
  refine lv_iconst (v := hr_I 1) C.x C.b dJ2_clear_5 (by decide) ?_
  refine t_iadd C.x C.b dJ2_clear_6 (v := L.2.2.2 + (hr_I 1)) rfl ?_
  refine hr_put in_J2 tyJ2 tyJ2_ok nmJ2 (ci := 10) 0 rfl q151 (Or.inr q150) rfl (by decide) C hL.1 (Nat.le_of_ble_eq_true rfl) rfl rfl hS (Or.inl rfl) dJ2_clear_7 (fun H1 locs3 hO4 hz5 ho6 hS2 => ?_)
  refine lv_aload_n C.x C.b dJ2_clear_10 rfl (lv_at hl 0 rfl) ?_
  refine hr_get in_J2 (ci := 10) 1 q144 rfl rfl (by decide) C hO4 rfl dJ2_clear_11 ?_
  refine lv_astore_n (lv' := [(1, .ref L.2.1), (0, .ref L.1)]) C.x C.b dJ2_clear_14 rfl hl (by decide) rfl (fun ls hl => ?_)
  refine lv_aload_n C.x C.b dJ2_clear_15 rfl (lv_at hl 1 rfl) ?_
  refine hr_get in_J2 (ci := 10) 2 q147 rfl rfl (by decide) C hO4 rfl dJ2_clear_16 ?_
  refine lv_istore_n (lv' := [(2, .int (hr_I (n : Int))), (1, .ref L.2.1), (0, .ref L.1)]) C.x C.b dJ2_clear_19 rfl hl (by decide) rfl (fun ls hl => ?_)
  refine lv_aload_n C.x C.b dJ2_clear_20 rfl (lv_at hl 2 rfl) ?_
  refine lv_iconst (v := hr_I 0) C.x C.b dJ2_clear_21 (by decide) ?_
  refine lv_dup_x1 C.x C.b dJ2_clear_22 rfl rfl ?_
  refine hr_put in_J2 tyJ2 tyJ2_ok nmJ2 (ci := 10) 2 rfl q147 (Or.inl rfl) rfl (by decide) C hO4 (Nat.le_of_ble_eq_true rfl) rfl rfl hS2 (Or.inl rfl) dJ2_clear_23 (fun H7 locs9 hO10 hz11 ho12 hS8 => ?_)
  refine lv_istore_n (lv' := [(3, .int (hr_I 0)), (2, .int (hr_I (n : Int))), (1, .ref L.2.1), (0, .ref L.1)]) C.x C.b dJ2_clear_26 rfl hl (by decide) rfl (fun ls hl => ?_)
  have lp : ∀ (k : Nat) (z : Int) (H5 : Heap) (locs5 : List Loc) (g5 : Nat → Option Nat) (ls : Array Slot), 0 ≤ z → z + k = n → lv_has ls 4 [(3, .int (hr_I z)), (2, .int (hr_I (n : Int))), (1, .ref L.2.1), (0, .ref L.1)] → hr_A H5 L.2.1 (D.1 105) L.2.2.1 (hr_vq g5) → hr_O D H5 L.1 10 [.int (L.2.2.2 + hr_I 1), .ref L.2.1, .int (hr_I 0)] → va_S (fun q => q = L.1 ∨ q = L.2.1 ∨ H.size ≤ q) H H5 locs5 → W p l e rmJ2_clear s m args below meth c H5 locs5 0 0 Q (F0 m 27 ls []) := by
    intro k
    induction k with
    | zero =>
      intro z H5 locs5 g5 ls hz0 hzk hl hG5 hO5 hS5
      refine lv_iload_n C.x C.b dJ2_clear_27 rfl (lv_at hl 0 rfl) ?_
      refine lv_iload_n C.x C.b dJ2_clear_28 rfl (lv_at hl 1 rfl) ?_
      refine hr_icmp_ge C (tgt := 42) dJ2_clear_29 (by decide) (by omega) (by omega) (fun hc => ?_) (fun hc => ?_)
      · exact hr_vret C hQ (⟨rfl, hO5, ⟨_, hG5, fun j hj => absurd hj (Nat.not_lt_zero j)⟩, Nat.zero_le _, hmax, hemp⟩) hS5 (by first | exact Nat.le_of_ble_eq_true rfl | (simp only [rmJ2_clear]; omega)) (by first | exact Nat.le_of_ble_eq_true rfl | (simp only [rmJ2_clear]; omega)) dJ2_clear_42
      · exact absurd (by omega) hc
    | succ k ih =>
      intro z H5 locs5 g5 ls hz0 hzk hl hG5 hO5 hS5
      refine lv_iload_n C.x C.b dJ2_clear_27 rfl (lv_at hl 0 rfl) ?_
      refine lv_iload_n C.x C.b dJ2_clear_28 rfl (lv_at hl 1 rfl) ?_
      refine hr_icmp_ge C (tgt := 42) dJ2_clear_29 (by decide) (by omega) (by omega) (fun hc => ?_) (fun hc => ?_)
      · exact absurd hc (by omega)
      · refine lv_aload_n C.x C.b dJ2_clear_32 rfl (lv_at hl 2 rfl) ?_
        refine lv_iload_n C.x C.b dJ2_clear_33 rfl (lv_at hl 0 rfl) ?_
        refine lv_null C.x C.b dJ2_clear_34 ?_
        refine hr_aastN C hG5 (by omega) (by omega) (by omega) hS5 (Or.inr (Or.inl rfl)) dJ2_clear_35 (fun H13 locs15 hO16 hz17 ho18 hS14 => ?_)
        refine lv_iinc (v := (hr_I (z + 1))) (lv' := [(3, .int (hr_I (z + 1))), (2, .int (hr_I (n : Int))), (1, .ref L.2.1), (0, .ref L.1)]) C.x C.b dJ2_clear_36 hl (k := 0) rfl (hr_add _ _) (by decide) rfl (fun ls hl => ?_)
        refine lv_goto (tgt := 27) C.x C.b dJ2_clear_39 (by decide) ?_
        exact ih (z + 1) _ _ _ ls (by omega) (by omega) (lv_sub hl [0, 1, 2, 3] rfl) hO16 (hO5.kept (ho18 L.1 hd9)) hS14
  exact lp n 0 _ _ _ ls (by omega) (by omega) (lv_sub hl [0, 1, 2, 3] rfl) (hG.kept ((ho12 _ (Ne.symm hd9)).trans (ho6 _ (Ne.symm hd9)))) hO10 hS8

abbrev rmJ3_init : Room := { frames := 1, cells := 0, slots := 0, locals := 20 }
set_option maxHeartbeats 4000000 in
set_option maxRecDepth 100000 in
theorem mtJ3_init {l : Launch} {D : va_G} {s0 : State} (Z : hr_Z l D s0) {H : Heap} {L : ly_L} {n a : Nat} {f : Nat → Nat} {x0 x1 x2 x3 : Value} (ha : s0.heap.size ≤ a) (hL : hr_L D H L n f) (hO : hr_O D H a 11 [x0, x1, x2, x3]) : hr_M l s0 yJ3_init (ws_ yJ3_init cJ3_init 2 (Option.none : Option Jvm.ClassFile.FieldType)) rmJ3_init [.ref a, .ref L.1] H (fun q => q = a ∨ H.size ≤ q) (fun v H1 => v = none ∧ hr_O D H1 a 11 [x0, .int (hr_I (-1)), .int L.2.2.2, .ref L.1]) hr_no := by
  refine hr_of Z (by decide) (Nat.le_of_ble_eq_true rfl) (fun q h => h.elim (fun e => Or.inl (by rw [e]; exact ha)) Or.inr) ?_
  intro p e s m args below meth c Q ls C hQ hin hnx hS hl
  have hAN : ∀ q, H.size ≤ q → (fun q => q = a ∨ H.size ≤ q) q := (fun _ h => Or.inr h)
  have hl : lv_has ls 2 [(0, .ref a), (1, .ref L.1)] := hl
  have hX0 := hL.1
  refine lv_aload_n C.x C.b dJ3_init_0 rfl (lv_at hl 0 rfl) ?_
  refine lv_aload_n C.x C.b dJ3_init_1 rfl (lv_at hl 1 rfl) ?_
  refine hr_putF in_J3 tyJ3 tyJ3_ok nmJ3 (ci := 11) 3 rfl q195 rfl rfl rfl (by decide) C hin hO (Nat.le_of_ble_eq_true rfl) rfl rfl hS (Or.inl rfl) dJ3_init_2 (fun H1 locs3 hO4 hz5 ho6 hS2 => ?_)
  refine lv_aload_n C.x C.b dJ3_init_5 rfl (lv_at hl 0 rfl) ?_
  refine hr_obj q191 C hl.1 (Nat.le_of_ble_eq_true rfl) (Nat.le_of_ble_eq_true rfl) dJ3_init_6 ?_
  refine lv_aload_n C.x C.b dJ3_init_9 rfl (lv_at hl 0 rfl) ?_
  refine lv_iconst (v := hr_I (-1)) C.x C.b dJ3_init_10 (by decide) ?_
  refine hr_put in_J3 tyJ3 tyJ3_ok nmJ3 (ci := 11) 1 rfl q193 (Or.inl rfl) rfl (by decide) C hO4 (Nat.le_of_ble_eq_true rfl) rfl rfl hS2 (Or.inl rfl) dJ3_init_11 (fun H7 locs9 hO10 hz11 ho12 hS8 => ?_)
  have nd9 : L.1 ≠ a := hL.1.ne hO (C.dd 10 11 rfl rfl (by decide))
  refine lv_aload_n C.x C.b dJ3_init_14 rfl (lv_at hl 0 rfl) ?_
  refine lv_aload_n C.x C.b dJ3_init_15 rfl (lv_at hl 0 rfl) ?_
  refine hr_get in_J3 (ci := 11) 3 q195 rfl rfl (by decide) C hO10 rfl dJ3_init_16 ?_
  refine hr_getI in_J2 (ci := 10) 0 q149 q150 rfl (by decide) C (hL.1.kept ((ho12 _ nd9).trans (ho6 _ nd9))) rfl dJ3_init_19 ?_
  refine hr_put in_J3 tyJ3 tyJ3_ok nmJ3 (ci := 11) 2 rfl q194 (Or.inl rfl) rfl (by decide) C hO10 (Nat.le_of_ble_eq_true rfl) rfl rfl hS8 (Or.inl rfl) dJ3_init_22 (fun H13 locs15 hO16 hz17 ho18 hS14 => ?_)
  exact hr_vret C hQ (⟨rfl, hO16⟩) hS14 (by first | exact Nat.le_of_ble_eq_true rfl | (simp only [rmJ3_init]; omega)) (by first | exact Nat.le_of_ble_eq_true rfl | (simp only [rmJ3_init]; omega)) dJ3_init_25

abbrev rmJ2_iterator : Room := { frames := 2, cells := 1, slots := 4, locals := 41 }
set_option maxHeartbeats 4000000 in
set_option maxRecDepth 100000 in
theorem mtJ2_iterator {l : Launch} {D : va_G} {s0 : State} (Z : hr_Z l D s0) {H : Heap} {L : ly_L} {n : Nat} {f : Nat → Nat} (hL : hr_L D H L n f) : hr_M l s0 yJ2_iterator (ws_ yJ2_iterator cJ2_iterator 1 (Option.some (Jvm.ClassFile.FieldType.object "java/util/Iterator"))) rmJ2_iterator [.ref L.1] H (hr_N H) (fun v H1 => v = some (.ref H.size) ∧ hr_O D H1 H.size 11 [.int (hr_I 0), .int (hr_I (-1)), .int L.2.2.2, .ref L.1]) hr_no := by
  refine hr_of Z (by decide) (Nat.le_of_ble_eq_true rfl) (fun _ h => Or.inr h) ?_
  intro p e s m args below meth c Q ls C hQ hin hnx hS hl
  have hAN : ∀ q, H.size ≤ q → (hr_N H) q := (fun _ h => h)
  have hl : lv_has ls 1 [(0, .ref L.1)] := hl
  refine hr_new in_J3 tyJ3 tyJ3_ok q186 q187 q81 (ci := 11) rfl [.int (hr_I 0), .int (hr_I 0), .int (hr_I 0), .null] dfJ3 C (by first | exact Nat.le_of_ble_eq_true rfl | (simp only [rmJ2_iterator]; omega)) (by first | exact Nat.le_of_ble_eq_true rfl | (simp only [rmJ2_iterator]; omega)) hS dJ2_iterator_0 (fun q H1 hq2 hO3 hX4 hz5 hS6 => ?_)
  have hq9 := hq2; subst hq9
  refine lv_dup C.x C.b dJ2_iterator_3 rfl ?_
  refine lv_aload_n C.x C.b dJ2_iterator_4 rfl (lv_at hl 0 rfl) ?_
  refine hr_callI (lw_meth q190) q81 q188 q189 rfl (by decide +kernel) (n := 1) C (mtJ3_init Z (Nat.le_trans (C.up hS).1 (Nat.le_refl _)) (hL.x hX4) hO3) ⟨Nat.le_of_ble_eq_true rfl, Nat.le_of_ble_eq_true rfl⟩ rfl hl.1 (Nat.le_of_ble_eq_true rfl) ⟨by first | exact Nat.le_of_ble_eq_true rfl | (simp only [rmJ2_iterator]; omega), by first | exact Nat.le_of_ble_eq_true rfl | (simp only [rmJ2_iterator]; omega)⟩ hS6 (fun q h => h.elim (fun e => Nat.le_of_eq e.symm) (fun h => Nat.le_trans (by have := hz5; omega) h)) dJ2_iterator_5 (rest := [.ref H.size]) rfl
    (fun _ _ _ _ _ h => h.elim) (fun v12 H7 locs8 hp11 hF9 hS10 => ?_)
  obtain ⟨rfl, hO9⟩ := hp11
  refine W.eq (g2 := F0 m 8 ls [.ref H.size]) rfl ?_
  exact hr_aret (Or.inl ⟨_, rfl⟩) (Or.inr ⟨_, rfl⟩) C hQ (⟨rfl, hO9⟩) hS10 (by first | exact Nat.le_of_ble_eq_true rfl | (simp only [rmJ2_iterator]; omega)) (by first | exact Nat.le_of_ble_eq_true rfl | (simp only [rmJ2_iterator]; omega)) dJ2_iterator_8

abbrev rmJ3_hasNext : Room := { frames := 0, cells := 0, slots := 0, locals := 12 }
set_option maxHeartbeats 4000000 in
set_option maxRecDepth 100000 in
theorem mtJ3_hasNext {l : Launch} {D : va_G} {s0 : State} (Z : hr_Z l D s0) {H : Heap} {L : ly_L} {n it i : Nat} {f : Nat → Nat} {x1 : Value} (hL : hr_L D H L n f) (hO : hr_O D H it 11 [.int (hr_I (i : Int)), x1, .int L.2.2.2, .ref L.1]) (hi : i ≤ n) : hr_M l s0 yJ3_hasNext (ws_ yJ3_hasNext cJ3_hasNext 1 (Option.some Jvm.ClassFile.FieldType.boolean)) rmJ3_hasNext [.ref it] H (hr_N H) (fun v H1 => v = some (.int (hr_I (hr_t (decide (i < n))))) ∧ H = H1) hr_no := by
  refine hr_of Z (by decide) (Nat.le_of_ble_eq_true rfl) (fun _ h => Or.inr h) ?_
  intro p e s m args below meth c Q ls C hQ hin hnx hS hl
  have hAN : ∀ q, H.size ≤ q → (hr_N H) q := (fun _ h => h)
  have hl : lv_has ls 1 [(0, .ref it)] := hl
  have hX0 := hL.1
  have hcap := hL.2.2
  refine lv_aload_n C.x C.b dJ3_hasNext_0 rfl (lv_at hl 0 rfl) ?_
  refine hr_get in_J3 (ci := 11) 0 q192 rfl rfl (by decide) C hO rfl dJ3_hasNext_1 ?_
  refine lv_aload_n C.x C.b dJ3_hasNext_4 rfl (lv_at hl 0 rfl) ?_
  refine hr_get in_J3 (ci := 11) 3 q195 rfl rfl (by decide) C hO rfl dJ3_hasNext_5 ?_
  refine hr_getN in_J2 (ci := 10) 2 q146 rfl rfl (by decide) C hL.1 rfl dJ3_hasNext_8 ?_
  refine hr_icmp_eq C (tgt := 18) dJ3_hasNext_11 (by decide) (by omega) (by omega) (fun hc => ?_) (fun hc => ?_)
  · refine lv_iconst (v := hr_I 0) C.x C.b dJ3_hasNext_18 (by decide) ?_
    exact hr_zret C hQ rfl (⟨by rw [show decide (i < n) = false from decide_eq_false (by omega)]; rfl, rfl⟩) hS (by first | exact Nat.le_of_ble_eq_true rfl | (simp only [rmJ3_hasNext]; omega)) (by first | exact Nat.le_of_ble_eq_true rfl | (simp only [rmJ3_hasNext]; omega)) dJ3_hasNext_19
  · refine lv_iconst (v := hr_I 1) C.x C.b dJ3_hasNext_14 (by decide) ?_
    refine lv_goto (tgt := 19) C.x C.b dJ3_hasNext_15 (by decide) ?_
    exact hr_zret C hQ rfl (⟨by rw [show decide (i < n) = true from decide_eq_true (by omega)]; rfl, rfl⟩) hS (by first | exact Nat.le_of_ble_eq_true rfl | (simp only [rmJ3_hasNext]; omega)) (by first | exact Nat.le_of_ble_eq_true rfl | (simp only [rmJ3_hasNext]; omega)) dJ3_hasNext_19

abbrev rmJ3_checkForComodification : Room := { frames := 0, cells := 0, slots := 0, locals := 12 }
set_option maxHeartbeats 4000000 in
set_option maxRecDepth 100000 in
theorem mtJ3_checkForComodification {l : Launch} {D : va_G} {s0 : State} (Z : hr_Z l D s0) {H : Heap} {L : ly_L} {n it i : Nat} {f : Nat → Nat} {x1 : Value} (hL : hr_L D H L n f) (hO : hr_O D H it 11 [.int (hr_I (i : Int)), x1, .int L.2.2.2, .ref L.1]) : hr_M l s0 yJ3_checkForComodification (ws_ yJ3_checkForComodification cJ3_checkForComodification 1 (Option.none : Option Jvm.ClassFile.FieldType)) rmJ3_checkForComodification [.ref it] H (hr_N H) (fun v H1 => v = none ∧ H = H1) hr_no := by
  refine hr_of Z (by decide) (Nat.le_of_ble_eq_true rfl) (fun _ h => Or.inr h) ?_
  intro p e s m args below meth c Q ls C hQ hin hnx hS hl
  have hAN : ∀ q, H.size ≤ q → (hr_N H) q := (fun _ h => h)
  have hl : lv_has ls 1 [(0, .ref it)] := hl
  refine lv_aload_n C.x C.b dJ3_checkForComodification_0 rfl (lv_at hl 0 rfl) ?_
  refine hr_get in_J3 (ci := 11) 3 q195 rfl rfl (by decide) C hO rfl dJ3_checkForComodification_1 ?_
  refine hr_getI in_J2 (ci := 10) 0 q149 q150 rfl (by decide) C hL.1 rfl dJ3_checkForComodification_4 ?_
  refine lv_aload_n C.x C.b dJ3_checkForComodification_7 rfl (lv_at hl 0 rfl) ?_
  refine hr_get in_J3 (ci := 11) 2 q194 rfl rfl (by decide) C hO rfl dJ3_checkForComodification_8 ?_
  refine lv_icmp_eq (tgt := 22) C.x C.b dJ3_checkForComodification_11 (by decide) (fun _ => ?_) (fun h => absurd rfl h)
  exact hr_vret C hQ (⟨rfl, rfl⟩) hS (by first | exact Nat.le_of_ble_eq_true rfl | (simp only [rmJ3_checkForComodification]; omega)) (by first | exact Nat.le_of_ble_eq_true rfl | (simp only [rmJ3_checkForComodification]; omega)) dJ3_checkForComodification_22

abbrev rmJ3_next : Room := { frames := 1, cells := 0, slots := 0, locals := 32 }
set_option maxHeartbeats 4000000 in
set_option maxRecDepth 100000 in
theorem mtJ3_next {l : Launch} {D : va_G} {s0 : State} (Z : hr_Z l D s0) {H : Heap} {L : ly_L} {n it i : Nat} {f : Nat → Nat} {x1 : Value} (hL : hr_L D H L n f) (hO1 : hr_O D H it 11 [.int (hr_I (i : Int)), x1, .int L.2.2.2, .ref L.1]) (hi : i < n) (hit : s0.heap.size ≤ it) : hr_M l s0 yJ3_next (ws_ yJ3_next cJ3_next 3 (Option.some (Jvm.ClassFile.FieldType.object "java/lang/Object"))) rmJ3_next [.ref it] H (fun q => q = it ∨ H.size ≤ q) (fun v H1 => v = some (.ref (f i)) ∧ ∃ x2 : Value, hr_O D H1 it 11 [.int (hr_I ((i : Int) + 1)), x2, .int L.2.2.2, .ref L.1]) hr_no := by
  refine hr_of Z (by decide) (Nat.le_of_ble_eq_true rfl) (fun q h => h.elim (fun e => Or.inl (by rw [e]; exact hit)) Or.inr) ?_
  intro p e s m args below meth c Q ls C hQ hin hnx hS hl
  have hAN : ∀ q, H.size ≤ q → (fun q => q = it ∨ H.size ≤ q) q := (fun _ h => Or.inr h)
  have hl : lv_has ls 3 [(0, .ref it)] := hl
  obtain ⟨hO, ⟨g, hG, hg⟩, hcap, hmax, hemp⟩ := id hL
  have nd9 : L.1 ≠ it := hL.1.ne hO1 (C.dd 10 11 rfl rfl (by decide))
  refine lv_aload_n C.x C.b dJ3_next_0 rfl (lv_at hl 0 rfl) ?_
  refine hr_callV (lw_V q224 q225 q226 q81 q227) (by decide +kernel) (n := 0) C (mtJ3_checkForComodification Z hL hO1) (hO1.recv C rfl) ⟨Nat.le_of_ble_eq_true rfl, Nat.le_of_ble_eq_true rfl⟩ rfl hl.1 (Nat.le_of_ble_eq_true rfl) ⟨by first | exact Nat.le_of_ble_eq_true rfl | (simp only [rmJ3_next]; omega), by first | exact Nat.le_of_ble_eq_true rfl | (simp only [rmJ3_next]; omega)⟩ hS (hr_AN hAN hS) dJ3_next_1 (rest := []) rfl
    (fun _ _ _ _ _ h => h.elim) (fun v6 H1 locs2 hp5 hF3 hS4 => ?_)
  obtain ⟨hv7, hH8⟩ := hp5; subst hv7; subst hH8
  refine W.eq (g2 := F0 m 4 ls []) rfl ?_
  refine lv_aload_n C.x C.b dJ3_next_4 rfl (lv_at hl 0 rfl) ?_
  refine hr_get in_J3 (ci := 11) 0 q192 rfl rfl (by decide) C hO1 rfl dJ3_next_5 ?_
  refine lv_istore_n (lv' := [(1, .int (hr_I (i : Int))), (0, .ref it)]) C.x C.b dJ3_next_8 rfl hl (by decide) rfl (fun ls hl => ?_)
  refine lv_iload_n C.x C.b dJ3_next_9 rfl (lv_at hl 0 rfl) ?_
  refine lv_aload_n C.x C.b dJ3_next_10 rfl (lv_at hl 1 rfl) ?_
  refine hr_get in_J3 (ci := 11) 3 q195 rfl rfl (by decide) C hO1 rfl dJ3_next_11 ?_
  refine hr_getN in_J2 (ci := 10) 2 q146 rfl rfl (by decide) C hL.1 rfl dJ3_next_14 ?_
  refine hr_icmp_lt C (tgt := 28) dJ3_next_17 (by decide) (by omega) (by omega) (fun hc => ?_) (fun hc => ?_)
  · refine lv_aload_n C.x C.b dJ3_next_28 rfl (lv_at hl 1 rfl) ?_
    refine hr_get in_J3 (ci := 11) 3 q195 rfl rfl (by decide) C hO1 rfl dJ3_next_29 ?_
    refine hr_get in_J2 (ci := 10) 1 q145 rfl rfl (by decide) C hL.1 rfl dJ3_next_32 ?_
    refine lv_astore_n (lv' := [(2, .ref L.2.1), (1, .int (hr_I (i : Int))), (0, .ref it)]) C.x C.b dJ3_next_35 rfl hl (by decide) rfl (fun ls hl => ?_)
    refine lv_iload_n C.x C.b dJ3_next_36 rfl (lv_at hl 1 rfl) ?_
    refine lv_aload_n C.x C.b dJ3_next_37 rfl (lv_at hl 0 rfl) ?_
    refine hr_alen 5 C rfl hG dJ3_next_38 ?_
    refine hr_icmp_lt C (tgt := 50) dJ3_next_39 (by decide) (by omega) (by omega) (fun hc => ?_) (fun hc => ?_)
    · refine lv_aload_n C.x C.b dJ3_next_50 rfl (lv_at hl 2 rfl) ?_
      refine lv_iload_n C.x C.b dJ3_next_51 rfl (lv_at hl 1 rfl) ?_
      refine lv_iconst (v := hr_I 1) C.x C.b dJ3_next_52 (by decide) ?_
      refine t_iadd C.x C.b dJ3_next_53 (v := hr_I ((i : Int) + 1)) (hr_add _ _) ?_
      refine hr_put in_J3 tyJ3 tyJ3_ok nmJ3 (ci := 11) 0 rfl q192 (Or.inl rfl) rfl (by decide) C hO1 (Nat.le_of_ble_eq_true rfl) rfl rfl hS4 (Or.inl rfl) dJ3_next_54 (fun H9 locs11 hO12 hz13 ho14 hS10 => ?_)
      refine lv_aload_n C.x C.b dJ3_next_57 rfl (lv_at hl 0 rfl) ?_
      refine lv_aload_n C.x C.b dJ3_next_58 rfl (lv_at hl 2 rfl) ?_
      refine lv_iload_n C.x C.b dJ3_next_59 rfl (lv_at hl 1 rfl) ?_
      refine lv_dup_x1 C.x C.b dJ3_next_60 rfl rfl ?_
      refine hr_put in_J3 tyJ3 tyJ3_ok nmJ3 (ci := 11) 1 rfl q193 (Or.inl rfl) rfl (by decide) C hO12 (Nat.le_of_ble_eq_true rfl) rfl rfl hS10 (Or.inl rfl) dJ3_next_61 (fun H15 locs17 hO18 hz19 ho20 hS16 => ?_)
      refine hr_aald C (hG.kept ((ho20 _ (Ne.symm (hO1.neA hG (C.do 11 rfl (by decide))))).trans (ho14 _ (Ne.symm (hO1.neA hG (C.do 11 rfl (by decide))))))) (by omega) (by omega) (by omega) (v := .ref (f i)) (by rw [show ((i : Int)).toNat = i from rfl, hr_vq, hg i hi]; rfl) dJ3_next_64 ?_
      exact hr_aret (Or.inl ⟨_, rfl⟩) (Or.inr ⟨_, rfl⟩) C hQ (⟨rfl, _, hO18⟩) hS16 (by first | exact Nat.le_of_ble_eq_true rfl | (simp only [rmJ3_next]; omega)) (by first | exact Nat.le_of_ble_eq_true rfl | (simp only [rmJ3_next]; omega)) dJ3_next_65
    · exact absurd (by omega) hc
  · exact absurd (by omega) hc

