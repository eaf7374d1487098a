/-! Data.<init> -/
set_option maxRecDepth 100000
def dt_0 : dt_T := ((0, fun _ => none, fun _ => false), (0, fun _ => none, fun _ => 0, fun _ => 0, fun _ => false, fun _ => false), (hr_I 0, 0, 0, 0))
theorem dt_0V : dt_V dt_0 := ⟨⟨Nat.zero_le _, fun i hi => absurd hi (Nat.not_lt_zero i)⟩, Nat.zero_le _, fun h hh => absurd hh (Nat.not_lt_zero h), fun h hh => absurd hh (Nat.not_lt_zero h), fun h hh => absurd hh (Nat.not_lt_zero h), fun h hh => absurd hh (Nat.not_lt_zero h), fun h g hh => absurd hh (Nat.not_lt_zero h), rfl⟩
/-- a new Data -/
theorem hr_Dw.zero {D : va_G} {H : Heap} {a b3 : Nat} {P Q : ly_L} {f g : Nat → Nat} (hP : hr_L D H P 0 f) (hQ : hr_L D H Q 0 g) (hne : P.1 ≠ Q.1) (hp0 : P.2.2.1 = 0) (hq0 : Q.2.2.1 = 0) (hO : hr_O D H a 1 [.ref P.1, .ref Q.1, .int (hr_I 0), .int (hr_I 0), .int (hr_I 0), .int (hr_I 0), .ref (hr_k D 50), .ref (hr_k D 51), .ref (hr_k D 52), .ref b3]) (l0 : hr_La D H (hr_k D 50) 0 []) (l1 : hr_La D H (hr_k D 51) 1 []) (l2 : hr_La D H (hr_k D 52) 2 []) (l3 : hr_La D H b3 3 [.ref a]) {A : Nat → Prop} (hAa : A a) (hAP : A P.1) (hAQ : A Q.1) (hA3 : A b3) : hr_Dw D H a (P, Q, fun _ => 0, fun _ => P, fun _ => 0, (hr_k D 50, hr_k D 51, hr_k D 52, b3)) dt_0 A := by
  have two : ∀ x : Nat, x < 2 → x = 0 ∨ x = 1 := fun x hx => by omega
  refine ⟨⟨hO, ⟨hP.fn (fun j hj => absurd hj (Nat.not_lt_zero j)), fun i hi => absurd hi (Nat.not_lt_zero i), fun i hi => absurd hi (Nat.not_lt_zero i)⟩, ⟨hQ.fn (fun j hj => absurd hj (Nat.not_lt_zero j)), fun i hi => absurd hi (Nat.not_lt_zero i)⟩, l0, l1, l2, l3⟩, hAa, fun x hx => ?_, fun x y hx hy hxy => ?_, fun i hi => absurd hi (Nat.not_lt_zero i), fun i hi => absurd hi (Nat.not_lt_zero i), hA3⟩
  · rcases two x hx with rfl | rfl
    · exact ⟨hAP, fun hc => by have h9 : 0 < P.2.2.1 := hc; omega⟩
    · exact ⟨hAQ, fun hc => by have h9 : 0 < Q.2.2.1 := hc; omega⟩
  · rcases two x hx with rfl | rfl <;> rcases two y hy with rfl | rfl
    · exact absurd rfl hxy
    · exact ⟨hne, fun hc => by have h9 : 0 < P.2.2.1 := hc; omega⟩
    · exact ⟨fun z => hne z.symm, fun hc => by have h9 : 0 < Q.2.2.1 := hc; omega⟩
    · exact absurd rfl hxy
abbrev rmX2_init : Room := { frames := 4, cells := 3, slots := 7, locals := 3120 }
set_option maxHeartbeats 4000000 in
set_option maxRecDepth 100000 in
theorem mtX2_init {l : Launch} {D : va_G} {s0 : State} (Z : hr_Z l D s0) {H : Heap} {a : Nat} (ha : s0.heap.size ≤ a) (hO : hr_O D H a 1 [.null, .null, .int (hr_I 0), .int (hr_I 0), .int (hr_I 0), .int (hr_I 0), .null, .null, .null, .null]) : hr_M l s0 yX2_init (ws_ yX2_init cX2_init 1 (Option.none : Option Jvm.ClassFile.FieldType)) rmX2_init [.ref a] H (fun q => q = a ∨ H.size ≤ q) (fun v H1 => v = none ∧ ∃ L : ly_T, hr_lk D L ∧ ∀ A : Nat → Prop, A a → (∀ q, H.size ≤ q → A q) → hr_Dw D H1 a L dt_0 A) hr_no := by
  refine hr_ofN Z (by decide) (Nat.le_of_ble_eq_true rfl) (fun q h => h.elim (fun e => Or.inl (by rw [e]; exact ha)) Or.inr) ?_
  intro p e s m args below meth c Q ls C hQ hin hnx hS hnm hl
  have hAN : ∀ q, H.size ≤ q → (fun q => q = a ∨ H.size ≤ q) q := (fun _ h => Or.inr h)
  have hl : lv_has ls 1 [(0, .ref a)] := hl
  have hk0 : hr_k D 0 < s0.heap.size := (C.z.2.1 : hr_A s0.heap (hr_k D 0) (D.1 105) 0 (hr_vq fun _ => none)).lt
  have hup := (C.up hS).1
  have haH := hO.lt
  refine lv_aload_n C.x C.b dX2_init_0 rfl (lv_at hl 0 rfl) ?_
  refine hr_obj q129 C hl.1 (Nat.le_of_ble_eq_true rfl) (Nat.le_of_ble_eq_true rfl) dX2_init_1 ?_
  refine lv_aload_n C.x C.b dX2_init_4 rfl (lv_at hl 0 rfl) ?_
  refine hr_new in_J2 tyJ2 tyJ2_ok q130 q131 q80 (ci := 10) rfl [.int (hr_I 0), .null, .int (hr_I 0)] dfJ2 C (by first | exact Nat.le_of_ble_eq_true rfl | (simp only [rmX2_init]; omega)) (by first | exact Nat.le_of_ble_eq_true rfl | (simp only [rmX2_init]; omega)) hS dX2_init_5 (fun q H1 hq2 hO3 hX4 hz5 hS6 => ?_)
  have hq90 := hq2; subst hq90
  refine lv_dup C.x C.b dX2_init_8 rfl ?_
  have hu0 : s0.heap.size ≤ H.size := Nat.le_trans hup (Nat.le_refl _)
  refine hr_callI (lw_meth q134) q80 q132 q133 rfl (by decide +kernel) (n := 0) C (mtJ2_init Z hu0 hO3 (fun _ => 0)) ⟨Nat.le_of_ble_eq_true rfl, Nat.le_of_ble_eq_true rfl⟩ rfl hl.1 (Nat.le_of_ble_eq_true rfl) ⟨by first | exact Nat.le_of_ble_eq_true rfl | (simp only [rmX2_init]; omega), by first | exact Nat.le_of_ble_eq_true rfl | (simp only [rmX2_init]; omega)⟩ hS6 (fun q h => h.elim (fun e => Or.inr (by rw [e]; exact Nat.le_refl _)) (fun h => Or.inr (Nat.le_trans (Nat.le_trans (Nat.le_refl _) hX4.1) h))) dX2_init_9 (rest := [.ref H.size, .ref a]) rfl
    (fun _ _ _ _ _ h => h.elim) (fun v12 H7 locs8 hp11 hF9 hS10 => ?_)
  obtain ⟨rfl, hL0⟩ := hp11
  refine W.eq (g2 := F0 m 12 ls [.ref H.size, .ref a]) rfl ?_
  have hx0 : hr_X H H7 := hr_F1.toX (x := H.size) hF9 hX4 (Nat.le_refl _)
  have hq80 := hL0.1.lt
  refine hr_putF in_X2 tyX2 tyX2_ok nmX2 (ci := 1) 0 rfl q313 rfl rfl rfl (by decide) C hin (hO.x hx0) (Nat.le_of_ble_eq_true rfl) rfl rfl hS10 (Or.inl rfl) dX2_init_12 (fun H13 locs15 hO16 hz17 ho18 hS14 => ?_)
  have hM0_0 := (hL0.kept (ho18 _ (by show H.size ≠ a; omega)) (ho18 _ (by show hr_k D 0 ≠ a; omega)))
  have hgr0 : hr_F1 a H H13 := (hr_F1.x hx0).tr (hr_F1.put hz17 ho18)
  refine lv_aload_n C.x C.b dX2_init_15 rfl (lv_at hl 0 rfl) ?_
  refine hr_new in_J2 tyJ2 tyJ2_ok q130 q131 q80 (ci := 10) rfl [.int (hr_I 0), .null, .int (hr_I 0)] dfJ2 C (by first | exact Nat.le_of_ble_eq_true rfl | (simp only [rmX2_init]; omega)) (by first | exact Nat.le_of_ble_eq_true rfl | (simp only [rmX2_init]; omega)) hS14 dX2_init_16 (fun q H19 hq20 hO21 hX22 hz23 hS24 => ?_)
  have hq91 := hq20; subst hq91
  refine lv_dup C.x C.b dX2_init_19 rfl ?_
  have hu1 : s0.heap.size ≤ H13.size := Nat.le_trans hup hgr0.1
  refine hr_callI (lw_meth q134) q80 q132 q133 rfl (by decide +kernel) (n := 0) C (mtJ2_init Z hu1 hO21 (fun _ => 0)) ⟨Nat.le_of_ble_eq_true rfl, Nat.le_of_ble_eq_true rfl⟩ rfl hl.1 (Nat.le_of_ble_eq_true rfl) ⟨by first | exact Nat.le_of_ble_eq_true rfl | (simp only [rmX2_init]; omega), by first | exact Nat.le_of_ble_eq_true rfl | (simp only [rmX2_init]; omega)⟩ hS24 (fun q h => h.elim (fun e => Or.inr (by rw [e]; exact hgr0.1)) (fun h => Or.inr (Nat.le_trans (Nat.le_trans hgr0.1 hX22.1) h))) dX2_init_20 (rest := [.ref H13.size, .ref a]) rfl
    (fun _ _ _ _ _ h => h.elim) (fun v30 H25 locs26 hp29 hF27 hS28 => ?_)
  obtain ⟨rfl, hL1⟩ := hp29
  refine W.eq (g2 := F0 m 23 ls [.ref H13.size, .ref a]) rfl ?_
  have hx1 : hr_X H13 H25 := hr_F1.toX (x := H13.size) hF27 hX22 (Nat.le_refl _)
  have hq81 := hL1.1.lt
  refine hr_putF in_X2 tyX2 tyX2_ok nmX2 (ci := 1) 1 rfl q315 rfl rfl rfl (by decide) C hin (hO16.x hx1) (Nat.le_of_ble_eq_true rfl) rfl rfl hS28 (Or.inl rfl) dX2_init_23 (fun H31 locs33 hO34 hz35 ho36 hS32 => ?_)
  have hM1_0 := ((hM0_0.x hx1).kept (ho36 _ (by show H.size ≠ a; omega)) (ho36 _ (by show hr_k D 0 ≠ a; omega)))
  have hM1_1 := (hL1.kept (ho36 _ (by show H13.size ≠ a; have := hgr0.1; omega)) (ho36 _ (by show hr_k D 0 ≠ a; omega)))
  have hgr1 : hr_F1 a H H31 := hgr0.tr ((hr_F1.x hx1).tr (hr_F1.put hz35 ho36))
  refine lv_aload_n C.x C.b dX2_init_26 rfl (lv_at hl 0 rfl) ?_
  refine lm_const (j := 0) (idx := 21) (x := lgx0) (σ := lg0) rfl rfl C hnm hl.1 (Nat.le_of_ble_eq_true rfl) dX2_init_27 ?_
  refine hr_putF in_X2 tyX2 tyX2_ok nmX2 (ci := 1) 6 rfl q325 rfl rfl rfl (by decide) C hin hO34 (Nat.le_of_ble_eq_true rfl) rfl rfl hS32 (Or.inl rfl) dX2_init_32 (fun H37 locs39 hO40 hz41 ho42 hS38 => ?_)
  have hN0_0 := (hM1_0.kept (ho42 _ (by show H.size ≠ a; omega)) (ho42 _ (by show hr_k D 0 ≠ a; omega)))
  have hN0_1 := (hM1_1.kept (ho42 _ (by show H13.size ≠ a; have := hgr0.1; omega)) (ho42 _ (by show hr_k D 0 ≠ a; omega)))
  have hgr2 : hr_F1 a H H37 := hgr1.tr (hr_F1.put hz41 ho42)
  refine lv_aload_n C.x C.b dX2_init_35 rfl (lv_at hl 0 rfl) ?_
  refine lm_const (j := 1) (idx := 29) (x := lgx1) (σ := lg1) rfl rfl C hnm hl.1 (Nat.le_of_ble_eq_true rfl) dX2_init_36 ?_
  refine hr_putF in_X2 tyX2 tyX2_ok nmX2 (ci := 1) 7 rfl q327 rfl rfl rfl (by decide) C hin hO40 (Nat.le_of_ble_eq_true rfl) rfl rfl hS38 (Or.inl rfl) dX2_init_41 (fun H43 locs45 hO46 hz47 ho48 hS44 => ?_)
  have hN1_0 := (hN0_0.kept (ho48 _ (by show H.size ≠ a; omega)) (ho48 _ (by show hr_k D 0 ≠ a; omega)))
  have hN1_1 := (hN0_1.kept (ho48 _ (by show H13.size ≠ a; have := hgr0.1; omega)) (ho48 _ (by show hr_k D 0 ≠ a; omega)))
  have hgr3 : hr_F1 a H H43 := hgr2.tr (hr_F1.put hz47 ho48)
  refine lv_aload_n C.x C.b dX2_init_44 rfl (lv_at hl 0 rfl) ?_
  refine lm_const (j := 2) (idx := 37) (x := lgx2) (σ := lg2) rfl rfl C hnm hl.1 (Nat.le_of_ble_eq_true rfl) dX2_init_45 ?_
  refine hr_putF in_X2 tyX2 tyX2_ok nmX2 (ci := 1) 8 rfl q329 rfl rfl rfl (by decide) C hin hO46 (Nat.le_of_ble_eq_true rfl) rfl rfl hS44 (Or.inl rfl) dX2_init_50 (fun H49 locs51 hO52 hz53 ho54 hS50 => ?_)
  have hN2_0 := (hN1_0.kept (ho54 _ (by show H.size ≠ a; omega)) (ho54 _ (by show hr_k D 0 ≠ a; omega)))
  have hN2_1 := (hN1_1.kept (ho54 _ (by show H13.size ≠ a; have := hgr0.1; omega)) (ho54 _ (by show hr_k D 0 ≠ a; omega)))
  have hgr4 : hr_F1 a H H49 := hgr3.tr (hr_F1.put hz53 ho54)
  refine lv_aload_n C.x C.b dX2_init_53 rfl (lv_at hl 0 rfl) ?_
  refine lv_aload_n C.x C.b dX2_init_54 rfl (lv_at hl 0 rfl) ?_
  refine lm_make lga3 lgb3 lge3 lgg3 lgh3 (j := 3) (idx := 41) (x := lgx3) rfl rfl (by decide) (tys := [.object "HabitRegistry$Data"]) lgt3 (vals := [.ref a]) (rest := [.ref a]) rfl rfl (lm_n1 ⟨rfl, rfl⟩) C hnm hl.1 (Nat.le_of_ble_eq_true rfl) ⟨by first | exact Nat.le_of_ble_eq_true rfl | (simp only [rmX2_init]; omega), by first | exact Nat.le_of_ble_eq_true rfl | (simp only [rmX2_init]; omega)⟩ hS50 dX2_init_55 (fun H55 hLa56 hX57 hz58 hS59 => ?_)
  refine hr_putF in_X2 tyX2 tyX2_ok nmX2 (ci := 1) 9 rfl q331 rfl rfl rfl (by decide) C hin (hO52.x hX57) (Nat.le_of_ble_eq_true rfl) rfl rfl hS59 (Or.inl rfl) dX2_init_60 (fun H60 locs62 hO63 hz64 ho65 hS61 => ?_)
  have hE_0 := ((hN2_0.x hX57).kept (ho65 _ (by show H.size ≠ a; omega)) (ho65 _ (by show hr_k D 0 ≠ a; omega)))
  have hE_1 := ((hN2_1.x hX57).kept (ho65 _ (by show H13.size ≠ a; have := hgr0.1; omega)) (ho65 _ (by show hr_k D 0 ≠ a; omega)))
  have hgr9 : hr_F1 a H H60 := hgr4.tr ((hr_F1.x hX57).tr (hr_F1.put hz64 ho65))
  have hL9 := hLa56.kept (ho65 _ (by have := hgr4.1; show H49.size ≠ a; omega))
  have lo : ∀ q, q < s0.heap.size → H60[q]? = s0.heap[q]? := fun q hq => (hgr9.o q (by omega) (by omega)).trans ((C.up hS).at hq)
  have k0 := lm_one Z (j := 0) rfl rfl
  have k1 := lm_one Z (j := 1) rfl rfl
  have k2 := lm_one Z (j := 2) rfl rfl
  exact hr_vret C hQ (⟨rfl, (_, _, fun _ => 0, fun _ => _, fun _ => 0, (hr_k D 50, hr_k D 51, hr_k D 52, H49.size)), ⟨rfl, rfl, rfl⟩, fun A9 h1 h2 => hr_Dw.zero hE_0 hE_1 (by show H.size ≠ _; have := hx0.1; have := hq80; omega) rfl rfl hO63 (k0.kept (lo _ k0.lt)) (k1.kept (lo _ k1.lt)) (k2.kept (lo _ k2.lt)) hL9 h1 (h2 _ (Nat.le_refl _)) (h2 _ hgr0.1) (h2 _ hgr4.1)⟩) hS61 (by first | exact Nat.le_of_ble_eq_true rfl | (simp only [rmX2_init]; omega)) (by first | exact Nat.le_of_ble_eq_true rfl | (simp only [rmX2_init]; omega)) dX2_init_63
