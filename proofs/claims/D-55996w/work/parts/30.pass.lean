/-! a habit passes on -/
set_option maxRecDepth 100000
def dt_end (d : dt_T) (h : Nat) : dt_T := dt_wH d (hr_u (dt_ho d) h none) (hr_u (dt_st d) h 0) (hr_u (dt_en d) h false) (hr_u (dt_pr d) h false)
def dt_pas (d : dt_T) (h : Nat) (x : Option Nat) : dt_T × Bool := match x with
  | none => (dt_wT (dt_end d h) (dt_yr d) (dt_la d) (dt_me d) (dt_br d + 1), false)
  | some j => match dt_hof d j (dt_ch (dt_ki d h)) with
    | none => (dt_wH d (hr_u (dt_ho d) h (some j)) (dt_st d) (dt_en d) (dt_pr d), true)
    | some g => (dt_wT (dt_end (dt_wH d (dt_ho d) (hr_u (dt_st d) g (min 9 (dt_st d g + dt_st d h))) (dt_en d) (dt_pr d)) h) (dt_yr d) (dt_la d) (dt_me d + 1) (dt_br d), true)
theorem hr_endO {D : va_G} {H : Heap} {L : ly_T} {d : dt_T} {h : Nat} {i k : Value} (e1 : i = .int (hr_I (h : Int))) (e2 : k = .int (hr_I (dt_ch (dt_ki d h)))) (h8 : hr_O D H (ly_ha L h) 4 [i, k, .int (hr_I 0), .int (hr_I 0), .int (hr_I 0), .null]) : hr_O D H (ly_ha L h) 4 (fs_H (dt_end d h) L h) := by
  subst e1; subst e2
  show hr_O _ _ _ _ [_, _, .int (hr_I ((hr_u (dt_st d) h 0 h : Nat) : Int)), .int (hr_I (hr_t (hr_u (dt_en d) h false h))), .int (hr_I (hr_t (hr_u (dt_pr d) h false h))), va_rf ((hr_u (dt_ho d) h none h).map (ly_pa L))]
  rw [hr_us, hr_us, hr_us, hr_us]; exact h8
abbrev rmX2_pass : Room := { frames := 16, cells := 2, slots := 6, locals := 3142 }
set_option maxHeartbeats 4000000 in
set_option maxRecDepth 100000 in
theorem mtX2_pass {l : Launch} {D : va_G} {s0 : State} (Z : hr_Z l D s0) {H : Heap} {a : Nat} {L : ly_T} {d : dt_T} {A : Nat → Prop} (hlow : ∀ q, A q → s0.heap.size ≤ q) (hnew : ∀ q, H.size ≤ q → A q) (hlm : hr_lk D L) (hW : hr_Dw D H a L d A) (hV : dt_V d) {h : Nat} (hh : h < dt_k d) {x : Option Nat} (hx : ∀ j, x = some j → j < dt_n d) (hne : ∀ j, x = some j → dt_ho d h ≠ some j) : hr_M l s0 yX2_pass (ws_ yX2_pass cX2_pass 4 (Option.some Jvm.ClassFile.FieldType.boolean)) rmX2_pass [.ref a, .ref (ly_ha L h), va_rf (x.map (ly_pa L))] H A (fun v H1 => v = some (.int (hr_I (hr_t (dt_pas d h x).2))) ∧ hr_Dw D H1 a L (dt_pas d h x).1 A) hr_no := by
  refine hr_of Z (by decide) (by cases x <;> exact Nat.le_of_ble_eq_true rfl) (fun q h => Or.inl (hlow q h)) ?_
  intro p e s m args below meth c Q ls C hQ hin hnx hS hl
  have hAN : ∀ q, H.size ≤ q → A q := hnew
  have hl : lv_has ls 4 [(0, .ref a), (1, .ref (ly_ha L h)), (2, va_rf (x.map (ly_pa L)))] := by cases x <;> exact hl
  have hD := hW.1
  have hAh := hW.2.2.2.2.2.1 h hh
  cases x with
  | none =>
    have hl : lv_has ls 4 [(0, .ref a), (1, .ref (ly_ha L h)), (2, .null)] := hl
    refine lv_aload_nN C.x C.b dX2_pass_0 rfl (lv_at hl 2 rfl) ?_
    refine lv_ifnonnullN C.x C.b dX2_pass_1 ?_
    refine lv_aload_n C.x C.b dX2_pass_4 rfl (lv_at hl 1 rfl) ?_
    refine hr_callV (lw_V q888 q889 q890 q98 q891) (by decide +kernel) (n := 0) C (mtX5_end Z (hlow _ hAh) (hD.2.2.1.2 h hh)) ((hD.2.2.1.2 h hh).recv C rfl) ⟨Nat.le_of_ble_eq_true rfl, Nat.le_of_ble_eq_true rfl⟩ rfl hl.1 (Nat.le_of_ble_eq_true rfl) ⟨by first | exact Nat.le_of_ble_eq_true rfl | (simp only [rmX2_pass]; omega), by first | exact Nat.le_of_ble_eq_true rfl | (simp only [rmX2_pass]; omega)⟩ hS (fun q h9 => h9.elim (fun e => by rw [e]; exact hAh) (fun h9 => hnew _ (Nat.le_trans hS.1 h9))) dX2_pass_5 (rest := []) rfl
      (fun _ _ _ _ _ h => h.elim) (fun v6 H1 locs2 hp5 hF3 hS4 => ?_)
    obtain ⟨rfl, hO8⟩ := hp5
    refine W.eq (g2 := F0 m 8 ls []) rfl ?_
    have hW1 := hr_Dw.upH C hlow hlm hW hV.2.1 hh (d1 := dt_end d h) rfl rfl rfl (dt_wH_o (fun g hg => hr_un _ _ hg) (fun g hg => hr_un _ _ hg) (fun g hg => hr_un _ _ hg) (fun g hg => hr_un _ _ hg)) (hr_endO rfl rfl hO8) hF3
    refine lv_aload_n C.x C.b dX2_pass_8 rfl (lv_at hl 0 rfl) ?_
    refine lv_dup C.x C.b dX2_pass_9 rfl ?_
    refine hr_get in_X2 (ci := 1) 5 q323 rfl rfl (by decide) C hW1.1.1 rfl dX2_pass_10 ?_
    refine lv_iconst (v := hr_I 1) C.x C.b dX2_pass_13 (by decide) ?_
    refine t_iadd C.x C.b dX2_pass_14 (v := hr_I ((dt_br d : Int) + 1)) (hr_add _ _) ?_
    refine hr_put in_X2 tyX2 tyX2_ok nmX2 (ci := 1) 5 rfl q323 (Or.inl rfl) rfl (by decide) C hW1.1.1 (Nat.le_of_ble_eq_true rfl) rfl rfl hS4 hW.2.1 dX2_pass_15 (fun H7 locs9 hO10 hz11 ho12 hS8 => ?_)
    refine lv_iconst (v := hr_I 0) C.x C.b dX2_pass_18 (by decide) ?_
    have hW2 := hr_Dw.upD C hlow hlm hW1 (d1 := dt_wT (dt_end d h) (dt_yr d) (dt_la d) (dt_me d) (dt_br d + 1)) rfl rfl hO10 (hr_F1.put hz11 ho12)
    exact hr_zret C hQ rfl (⟨rfl, hW2⟩) hS8 (by first | exact Nat.le_of_ble_eq_true rfl | (simp only [rmX2_pass]; omega)) (by first | exact Nat.le_of_ble_eq_true rfl | (simp only [rmX2_pass]; omega)) dX2_pass_19
  | some j =>
    have hl : lv_has ls 4 [(0, .ref a), (1, .ref (ly_ha L h)), (2, .ref (ly_pa L j))] := hl
    have hj := hx j rfl
    refine lv_aload_n C.x C.b dX2_pass_0 rfl (lv_at hl 2 rfl) ?_
    refine lv_ifnonnull (tgt := 20) C.x C.b dX2_pass_1 (by decide) ?_
    refine lv_aload_n C.x C.b dX2_pass_20 rfl (lv_at hl 0 rfl) ?_
    refine lv_aload_n C.x C.b dX2_pass_21 rfl (lv_at hl 2 rfl) ?_
    refine lv_aload_n C.x C.b dX2_pass_22 rfl (lv_at hl 1 rfl) ?_
    refine hr_getN in_X5 (ci := 4) 1 q730 rfl rfl (by decide) C (hD.2.2.1.2 h hh) rfl dX2_pass_23 ?_
    refine hr_callV (lw_V q892 q893 q894 q77 q895) (by decide +kernel) (n := 2) C (mtX2_habitOf Z hD hV hj (dt_ch_r (dt_ki d h))) (hD.1.recv C rfl) ⟨Nat.le_of_ble_eq_true rfl, Nat.le_of_ble_eq_true rfl⟩ rfl hl.1 (Nat.le_of_ble_eq_true rfl) ⟨by first | exact Nat.le_of_ble_eq_true rfl | (simp only [rmX2_pass]; omega), by first | exact Nat.le_of_ble_eq_true rfl | (simp only [rmX2_pass]; omega)⟩ hS (hr_AN hAN hS) dX2_pass_26 (rest := []) rfl
      (fun _ _ _ _ _ h => h.elim) (fun v18 H13 locs14 hp17 hF15 hS16 => ?_)
    obtain ⟨rfl, hXn⟩ := hp17
    refine W.eq (g2 := F0 m 29 ls [va_rf ((dt_hof d j (dt_ch (dt_ki d h))).map (ly_ha L))]) rfl ?_
    have hW1 := hW.x hXn
    cases hof : dt_hof d j (dt_ch (dt_ki d h)) with
    | none =>
      show W p l e rmX2_pass s m args below meth c H13 locs14 (0 + 2) (0 + 6) Q (F0 m 29 ls [.null])
      refine lv_astore_nN (lv' := [(3, .null), (0, .ref a), (1, .ref (ly_ha L h)), (2, .ref (ly_pa L j))]) C.x C.b dX2_pass_29 rfl hl (by decide) rfl (fun ls hl => ?_)
      refine lv_aload_nN C.x C.b dX2_pass_30 rfl (lv_at hl 0 rfl) ?_
      refine lv_ifnonnullN C.x C.b dX2_pass_31 ?_
      refine lv_aload_n C.x C.b dX2_pass_34 rfl (lv_at hl 2 rfl) ?_
      refine lv_aload_n C.x C.b dX2_pass_35 rfl (lv_at hl 3 rfl) ?_
      refine hr_putN in_X5 tyX5 tyX5_ok nmX5 (ci := 4) 5 rfl q742 rfl rfl (by decide) C (hW1.1.2.2.1.2 h hh) (Nat.le_of_ble_eq_true rfl) rfl rfl hS16 hAh dX2_pass_36 (fun H19 locs21 hO22 hz23 ho24 hS20 => ?_)
      refine lv_goto (tgt := 74) C.x C.b dX2_pass_39 (by decide) ?_
      refine lv_iconst (v := hr_I 1) C.x C.b dX2_pass_74 (by decide) ?_
      have hO9 : hr_O D H19 (ly_ha L h) 4 (fs_H (dt_wH d (hr_u (dt_ho d) h (some j)) (dt_st d) (dt_en d) (dt_pr d)) L h) := by
        have h9 := hO22
        show hr_O _ _ _ _ [_, _, _, _, _, va_rf ((hr_u (dt_ho d) h (some j) h).map (ly_pa L))]
        rw [hr_us]; exact h9
      have e9 : dt_pas d h (some j) = (dt_wH d (hr_u (dt_ho d) h (some j)) (dt_st d) (dt_en d) (dt_pr d), true) := by unfold dt_pas; simp only [hof]
      exact hr_zret C hQ rfl (⟨by rw [e9]; rfl, by rw [e9]; exact hr_Dw.upH C hlow hlm hW1 hV.2.1 hh (d1 := dt_wH d (hr_u (dt_ho d) h (some j)) (dt_st d) (dt_en d) (dt_pr d)) rfl rfl rfl (dt_wH_o (fun g hg => hr_un _ _ hg) (fun _ _ => rfl) (fun _ _ => rfl) (fun _ _ => rfl)) hO9 (hr_F1.put hz23 ho24)⟩) hS20 (by first | exact Nat.le_of_ble_eq_true rfl | (simp only [rmX2_pass]; omega)) (by first | exact Nat.le_of_ble_eq_true rfl | (simp only [rmX2_pass]; omega)) dX2_pass_75
    | some g =>
      show W p l e rmX2_pass s m args below meth c H13 locs14 (0 + 2) (0 + 6) Q (F0 m 29 ls [.ref (ly_ha L g)])
      have hg := (dt_ff_lt hof).1
      have hgj : dt_ho d g = some j := by have h9 := (dt_ff_lt hof).2; simp only [Bool.and_eq_true, decide_eq_true_eq] at h9; exact h9.1
      have hgh : g ≠ h := fun e => hne j rfl (by rw [← e]; exact hgj)
      have hga : ly_ha L g ≠ ly_ha L h := fun e => hgh (hD.2.2.1.inj hV.2.1 hg hh e)
      have s1 := dt_st9 hV g hg
      have s2 := dt_st9 hV h hh
      refine lv_astore_n (lv' := [(3, .ref (ly_ha L g)), (0, .ref a), (1, .ref (ly_ha L h)), (2, .ref (ly_pa L j))]) C.x C.b dX2_pass_29 rfl hl (by decide) rfl (fun ls hl => ?_)
      refine lv_aload_n C.x C.b dX2_pass_30 rfl (lv_at hl 0 rfl) ?_
      refine lv_ifnonnull (tgt := 42) C.x C.b dX2_pass_31 (by decide) ?_
      refine lv_aload_n C.x C.b dX2_pass_42 rfl (lv_at hl 0 rfl) ?_
      refine lv_bipush (v := hr_I 9) C.x C.b dX2_pass_43 (by decide) ?_
      refine lv_aload_n C.x C.b dX2_pass_45 rfl (lv_at hl 0 rfl) ?_
      refine hr_getN in_X5 (ci := 4) 2 q733 rfl rfl (by decide) C (hW1.1.2.2.1.2 g hg) rfl dX2_pass_46 ?_
      refine lv_aload_n C.x C.b dX2_pass_49 rfl (lv_at hl 2 rfl) ?_
      refine hr_getN in_X5 (ci := 4) 2 q733 rfl rfl (by decide) C (hW1.1.2.2.1.2 h hh) rfl dX2_pass_50 ?_
      refine t_iadd C.x C.b dX2_pass_53 (v := hr_I ((dt_st d g : Int) + (dt_st d h : Int))) (hr_add _ _) ?_
      refine hr_mmin q898 C hl.1 (by omega) (by omega) (Nat.le_of_ble_eq_true rfl) (Nat.le_of_ble_eq_true rfl) (by first | exact Nat.le_of_ble_eq_true rfl | (simp only [rmX2_pass]; omega)) (by first | exact Nat.le_of_ble_eq_true rfl | (simp only [rmX2_pass]; omega)) dX2_pass_54 ?_
      have em : (if (dt_st d g : Int) + (dt_st d h : Int) < 9 then (dt_st d g : Int) + (dt_st d h : Int) else 9) = ((min 9 (dt_st d g + dt_st d h) : Nat) : Int) := by split <;> omega
      rw [em]
      refine hr_putN in_X5 tyX5 tyX5_ok nmX5 (ci := 4) 2 rfl q733 rfl rfl (by decide) C (hW1.1.2.2.1.2 g hg) (Nat.le_of_ble_eq_true rfl) rfl rfl hS16 (hW.2.2.2.2.2.1 g hg) dX2_pass_57 (fun H25 locs27 hO28 hz29 ho30 hS26 => ?_)
      have hO9 : hr_O D H25 (ly_ha L g) 4 (fs_H (dt_wH d (dt_ho d) (hr_u (dt_st d) g (min 9 (dt_st d g + dt_st d h))) (dt_en d) (dt_pr d)) L g) := by
        have h9 := hO28
        show hr_O _ _ _ _ [_, _, .int (hr_I ((hr_u (dt_st d) g (min 9 (dt_st d g + dt_st d h)) g : Nat) : Int)), _, _, _]
        rw [hr_us]; exact h9
      have hW2 := hr_Dw.upH C hlow hlm hW1 hV.2.1 hg (d1 := dt_wH d (dt_ho d) (hr_u (dt_st d) g (min 9 (dt_st d g + dt_st d h))) (dt_en d) (dt_pr d)) rfl rfl rfl (dt_wH_o (fun _ _ => rfl) (fun g hg => hr_un _ _ hg) (fun _ _ => rfl) (fun _ _ => rfl)) hO9 (hr_F1.put hz29 ho30)
      have hOh := hW2.1.2.2.1.2 h hh
      refine lv_aload_n C.x C.b dX2_pass_60 rfl (lv_at hl 2 rfl) ?_
      refine hr_callV (lw_V q888 q889 q890 q98 q891) (by decide +kernel) (n := 0) C (mtX5_end Z (hlow _ hAh) hOh) (hOh.recv C rfl) ⟨Nat.le_of_ble_eq_true rfl, Nat.le_of_ble_eq_true rfl⟩ rfl hl.1 (Nat.le_of_ble_eq_true rfl) ⟨by first | exact Nat.le_of_ble_eq_true rfl | (simp only [rmX2_pass]; omega), by first | exact Nat.le_of_ble_eq_true rfl | (simp only [rmX2_pass]; omega)⟩ hS26 (fun q h9 => h9.elim (fun e => by rw [e]; exact hAh) (fun h9 => hnew _ (Nat.le_trans hS26.1 h9))) dX2_pass_61 (rest := []) rfl
        (fun _ _ _ _ _ h => h.elim) (fun v36 H31 locs32 hp35 hF33 hS34 => ?_)
      obtain ⟨rfl, hO8⟩ := hp35
      refine W.eq (g2 := F0 m 64 ls []) rfl ?_
      have hW3 := hr_Dw.upH C hlow hlm hW2 hV.2.1 (x := h) hh (d1 := dt_end (dt_wH d (dt_ho d) (hr_u (dt_st d) g (min 9 (dt_st d g + dt_st d h))) (dt_en d) (dt_pr d)) h) rfl rfl rfl (dt_wH_o (fun g hg => hr_un _ _ hg) (fun g hg => hr_un _ _ hg) (fun g hg => hr_un _ _ hg) (fun g hg => hr_un _ _ hg)) (hr_endO (d := dt_wH d (dt_ho d) (hr_u (dt_st d) g (min 9 (dt_st d g + dt_st d h))) (dt_en d) (dt_pr d)) rfl rfl hO8) hF33
      refine lv_aload_n C.x C.b dX2_pass_64 rfl (lv_at hl 1 rfl) ?_
      refine lv_dup C.x C.b dX2_pass_65 rfl ?_
      refine hr_get in_X2 (ci := 1) 4 q321 rfl rfl (by decide) C hW3.1.1 rfl dX2_pass_66 ?_
      refine lv_iconst (v := hr_I 1) C.x C.b dX2_pass_69 (by decide) ?_
      refine t_iadd C.x C.b dX2_pass_70 (v := hr_I ((dt_me d : Int) + 1)) (hr_add _ _) ?_
      refine hr_put in_X2 tyX2 tyX2_ok nmX2 (ci := 1) 4 rfl q321 (Or.inl rfl) rfl (by decide) C hW3.1.1 (Nat.le_of_ble_eq_true rfl) rfl rfl hS34 hW.2.1 dX2_pass_71 (fun H37 locs39 hO40 hz41 ho42 hS38 => ?_)
      refine lv_iconst (v := hr_I 1) C.x C.b dX2_pass_74 (by decide) ?_
      have hW4 := hr_Dw.upD C hlow hlm hW3 (d1 := dt_wT (dt_end (dt_wH d (dt_ho d) (hr_u (dt_st d) g (min 9 (dt_st d g + dt_st d h))) (dt_en d) (dt_pr d)) h) (dt_yr d) (dt_la d) (dt_me d + 1) (dt_br d)) rfl rfl hO40 (hr_F1.put hz41 ho42)
      have e9 : dt_pas d h (some j) = (dt_wT (dt_end (dt_wH d (dt_ho d) (hr_u (dt_st d) g (min 9 (dt_st d g + dt_st d h))) (dt_en d) (dt_pr d)) h) (dt_yr d) (dt_la d) (dt_me d + 1) (dt_br d), true) := by unfold dt_pas; simp only [hof]
      exact hr_zret C hQ rfl (⟨by rw [e9]; rfl, by rw [e9]; exact hW4⟩) hS38 (by first | exact Nat.le_of_ble_eq_true rfl | (simp only [rmX2_pass]; omega)) (by first | exact Nat.le_of_ble_eq_true rfl | (simp only [rmX2_pass]; omega)) dX2_pass_75
