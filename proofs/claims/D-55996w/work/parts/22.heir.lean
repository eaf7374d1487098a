/-! the heir by comparison; who is where by strength -/
set_option maxRecDepth 100000
def dt_od (d : dt_T) (i x y : Nat) : Bool := decide (dt_as d i y - dt_as d i x > 0) || (decide (dt_as d i y - dt_as d i x = 0) && dt_sb d x y)
def dt_rel (d : dt_T) (i k : Nat) : Bool := decide (k ≠ i) && (dt_al d k && decide (dt_fo d k = dt_fo d i))
def dt_hcf (d : dt_T) (i : Nat) : Nat → Option Nat
  | 0 => none
  | k + 1 => if (dt_rel d i k && (match dt_hcf d i k with
      | none => true
      | some y => dt_od d i k y)) = true then some k else dt_hcf d i k
def dt_hc (d : dt_T) (i : Nat) : Option Nat := dt_hcf d i (dt_n d)
theorem dt_hcf_rel {d : dt_T} {i : Nat} : ∀ (k y : Nat), dt_hcf d i k = some y → y < k ∧ dt_rel d i y = true := by
  intro k
  induction k with
  | zero => intro y h; simp [dt_hcf] at h
  | succ k ih =>
    intro y h
    unfold dt_hcf at h
    by_cases hc : (dt_rel d i k && (match dt_hcf d i k with
      | none => true
      | some y => dt_od d i k y)) = true
    · rw [if_pos hc] at h
      cases h
      rw [Bool.and_eq_true] at hc
      exact ⟨by omega, hc.1⟩
    · rw [if_neg hc] at h
      have := ih y h
      exact ⟨by omega, this.2⟩
theorem dt_as_r {d : dt_T} (hV : dt_VP d) {i j : Nat} (hi : i < dt_n d) : -15 ≤ dt_as d i j ∧ dt_as d i j ≤ 15 := by
  have h1 := dt_gen16 hV hi
  unfold dt_as
  cases h : dt_ca d i j with
  | none => simp; omega
  | some c =>
    have := dt_gen16 hV (dt_ca_lt hV hi h)
    simp; omega
theorem dt_relf {d : dt_T} {i k : Nat} (h : dt_rel d i k = true) : dt_fo d k = dt_fo d i := by
  simp only [dt_rel, Bool.and_eq_true, decide_eq_true_eq] at h
  exact h.2.2
abbrev rmX2_lambda_heirByComparison_6 : Room := { frames := 3, cells := 0, slots := 0, locals := 80 }
set_option maxHeartbeats 4000000 in
set_option maxRecDepth 100000 in
theorem mtl_6 {l : Launch} {D : va_G} {s0 : State} (Z : hr_Z l D s0) {H : Heap} {a : Nat} {L : ly_T} {d : dt_T} (hD : hr_Dt D H a L d) (hV : dt_V d) {i : Nat} (hi : i < dt_n d) {x : Nat} (hx : x < dt_n d) {y : Nat} (hy : y < dt_n d) (fx : dt_fo d x = dt_fo d i) (fy : dt_fo d y = dt_fo d i) : hr_M l s0 yX2_lambda_heirByComparison_6 (ws_ yX2_lambda_heirByComparison_6 cX2_lambda_heirByComparison_6 5 (Option.some Jvm.ClassFile.FieldType.boolean)) rmX2_lambda_heirByComparison_6 [.ref a, .ref (ly_pa L i), .ref (ly_pa L x), .ref (ly_pa L y)] H (hr_N H) (fun v H1 => v = some (.int (hr_I (hr_t (dt_od d i x y)))) ∧ H = H1) hr_no := by
  refine hr_of Z (by decide) (Nat.le_of_ble_eq_true rfl) (fun _ h => Or.inr h) ?_
  intro p e s m args below meth c Q ls C hQ hin hnx hS hl
  have hAN : ∀ q, H.size ≤ q → (hr_N H) q := (fun _ h => h)
  have hl : lv_has ls 5 [(0, .ref a), (1, .ref (ly_pa L i)), (2, .ref (ly_pa L x)), (3, .ref (ly_pa L y))] := hl
  have a1 := dt_as_r hV.1 (j := x) hi
  have a2 := dt_as_r hV.1 (j := y) hi
  refine lv_aload_n C.x C.b dX2_lambda_heirByComparison_6_0 rfl (lv_at hl 0 rfl) ?_
  refine lv_aload_n C.x C.b dX2_lambda_heirByComparison_6_1 rfl (lv_at hl 1 rfl) ?_
  refine lv_aload_n C.x C.b dX2_lambda_heirByComparison_6_2 rfl (lv_at hl 3 rfl) ?_
  refine hr_callV (lw_V q515 q517 qs3 q77 q518) (by decide +kernel) (n := 2) C (mtX2_ascent Z hD.1 hD.2.1 hV.1 hi hy (dt_ca_fo fy.symm)) (hD.1.recv C rfl) ⟨Nat.le_of_ble_eq_true rfl, Nat.le_of_ble_eq_true rfl⟩ rfl hl.1 (Nat.le_of_ble_eq_true rfl) ⟨by first | exact Nat.le_of_ble_eq_true rfl | (simp only [rmX2_lambda_heirByComparison_6]; omega), by first | exact Nat.le_of_ble_eq_true rfl | (simp only [rmX2_lambda_heirByComparison_6]; omega)⟩ hS (hr_AN hAN hS) dX2_lambda_heirByComparison_6_3 (rest := []) rfl
    (fun _ _ _ _ _ h => h.elim) (fun v6 H1 locs2 hp5 hF3 hS4 => ?_)
  obtain ⟨hv7, hH8⟩ := hp5; subst hv7; subst hH8
  refine W.eq (g2 := F0 m 6 ls [.int (hr_I (dt_as d i y))]) rfl ?_
  refine lv_aload_n C.x C.b dX2_lambda_heirByComparison_6_6 rfl (lv_at hl 0 rfl) ?_
  refine lv_aload_n C.x C.b dX2_lambda_heirByComparison_6_7 rfl (lv_at hl 1 rfl) ?_
  refine lv_aload_n C.x C.b dX2_lambda_heirByComparison_6_8 rfl (lv_at hl 2 rfl) ?_
  refine hr_callV (lw_V q515 q517 qs3 q77 q518) (by decide +kernel) (n := 2) C (mtX2_ascent Z hD.1 hD.2.1 hV.1 hi hx (dt_ca_fo fx.symm)) (hD.1.recv C rfl) ⟨Nat.le_of_ble_eq_true rfl, Nat.le_of_ble_eq_true rfl⟩ rfl hl.1 (Nat.le_of_ble_eq_true rfl) ⟨by first | exact Nat.le_of_ble_eq_true rfl | (simp only [rmX2_lambda_heirByComparison_6]; omega), by first | exact Nat.le_of_ble_eq_true rfl | (simp only [rmX2_lambda_heirByComparison_6]; omega)⟩ hS4 (hr_AN hAN hS4) dX2_lambda_heirByComparison_6_9 (rest := [.int (hr_I (dt_as d i y))]) rfl
    (fun _ _ _ _ _ h => h.elim) (fun v14 H9 locs10 hp13 hF11 hS12 => ?_)
  obtain ⟨hv15, hH16⟩ := hp13; subst hv15; subst hH16
  refine W.eq (g2 := F0 m 12 ls [.int (hr_I (dt_as d i x)), .int (hr_I (dt_as d i y))]) rfl ?_
  refine t_isub C.x C.b dX2_lambda_heirByComparison_6_12 (v := hr_I (dt_as d i y - (dt_as d i x))) (hr_sub _ _) ?_
  refine lv_istore (lv' := [(4, .int (hr_I (dt_as d i y - (dt_as d i x)))), (0, .ref a), (1, .ref (ly_pa L i)), (2, .ref (ly_pa L x)), (3, .ref (ly_pa L y))]) C.x C.b dX2_lambda_heirByComparison_6_13 hl (by decide) rfl (fun ls hl => ?_)
  refine lv_iload C.x C.b dX2_lambda_heirByComparison_6_15 (lv_at hl 0 rfl) ?_
  refine hr_if_gt C (tgt := 34) dX2_lambda_heirByComparison_6_17 (by decide) (by omega) (fun c1 => ?_) (fun c1 => ?_)
  · refine lv_iconst (v := hr_I 1) C.x C.b dX2_lambda_heirByComparison_6_34 (by decide) ?_
    refine lv_goto (tgt := 39) C.x C.b dX2_lambda_heirByComparison_6_35 (by decide) ?_
    exact hr_zret C hQ rfl (⟨by rw [show dt_od d i x y = true by unfold dt_od; rw [decide_eq_true c1]; rfl]; rfl, rfl⟩) hS12 (by first | exact Nat.le_of_ble_eq_true rfl | (simp only [rmX2_lambda_heirByComparison_6]; omega)) (by first | exact Nat.le_of_ble_eq_true rfl | (simp only [rmX2_lambda_heirByComparison_6]; omega)) dX2_lambda_heirByComparison_6_39
  · refine lv_iload C.x C.b dX2_lambda_heirByComparison_6_20 (lv_at hl 0 rfl) ?_
    refine hr_if_ne C (tgt := 38) dX2_lambda_heirByComparison_6_22 (by decide) (by omega) (fun c2 => ?_) (fun c2 => ?_)
    · refine lv_iconst (v := hr_I 0) C.x C.b dX2_lambda_heirByComparison_6_38 (by decide) ?_
      exact hr_zret C hQ rfl (⟨by rw [show dt_od d i x y = false by unfold dt_od; rw [decide_eq_false c1, decide_eq_false c2]; rfl]; rfl, rfl⟩) hS12 (by first | exact Nat.le_of_ble_eq_true rfl | (simp only [rmX2_lambda_heirByComparison_6]; omega)) (by first | exact Nat.le_of_ble_eq_true rfl | (simp only [rmX2_lambda_heirByComparison_6]; omega)) dX2_lambda_heirByComparison_6_39
    · refine lv_aload_n C.x C.b dX2_lambda_heirByComparison_6_25 rfl (lv_at hl 1 rfl) ?_
      refine lv_aload_n C.x C.b dX2_lambda_heirByComparison_6_26 rfl (lv_at hl 3 rfl) ?_
      refine lv_aload_n C.x C.b dX2_lambda_heirByComparison_6_27 rfl (lv_at hl 4 rfl) ?_
      refine hr_callV (lw_V q527 q528 q529 q77 q530) (by decide +kernel) (n := 2) C (mtX2_succeedsBefore Z hD.1 hD.2.1 hV.1 hx hy (dt_ca_fo (fx.trans fy.symm))) (hD.1.recv C rfl) ⟨Nat.le_of_ble_eq_true rfl, Nat.le_of_ble_eq_true rfl⟩ rfl hl.1 (Nat.le_of_ble_eq_true rfl) ⟨by first | exact Nat.le_of_ble_eq_true rfl | (simp only [rmX2_lambda_heirByComparison_6]; omega), by first | exact Nat.le_of_ble_eq_true rfl | (simp only [rmX2_lambda_heirByComparison_6]; omega)⟩ hS12 (hr_AN hAN hS12) dX2_lambda_heirByComparison_6_28 (rest := []) rfl
        (fun _ _ _ _ _ h => h.elim) (fun v22 H17 locs18 hp21 hF19 hS20 => ?_)
      obtain ⟨hv23, hH24⟩ := hp21; subst hv23; subst hH24
      refine W.eq (g2 := F0 m 31 ls [.int (hr_I (hr_t (dt_sb d x y)))]) rfl ?_
      refine hr_ifb_eq C (tgt := 38) dX2_lambda_heirByComparison_6_31 (by decide) (fun c3 => ?_) (fun c3 => ?_)
      · refine lv_iconst (v := hr_I 0) C.x C.b dX2_lambda_heirByComparison_6_38 (by decide) ?_
        exact hr_zret C hQ rfl (⟨by rw [show dt_od d i x y = false by unfold dt_od; rw [decide_eq_false c1, c3]; simp]; rfl, rfl⟩) hS20 (by first | exact Nat.le_of_ble_eq_true rfl | (simp only [rmX2_lambda_heirByComparison_6]; omega)) (by first | exact Nat.le_of_ble_eq_true rfl | (simp only [rmX2_lambda_heirByComparison_6]; omega)) dX2_lambda_heirByComparison_6_39
      · refine lv_iconst (v := hr_I 1) C.x C.b dX2_lambda_heirByComparison_6_34 (by decide) ?_
        refine lv_goto (tgt := 39) C.x C.b dX2_lambda_heirByComparison_6_35 (by decide) ?_
        exact hr_zret C hQ rfl (⟨by rw [show dt_od d i x y = true by unfold dt_od; rw [decide_eq_true (show dt_as d i y - dt_as d i x = 0 by omega), c3]; simp]; rfl, rfl⟩) hS20 (by first | exact Nat.le_of_ble_eq_true rfl | (simp only [rmX2_lambda_heirByComparison_6]; omega)) (by first | exact Nat.le_of_ble_eq_true rfl | (simp only [rmX2_lambda_heirByComparison_6]; omega)) dX2_lambda_heirByComparison_6_39

abbrev rmX2_heirByComparison : Room := { frames := 14, cells := 2, slots := 6, locals := 3120 }
set_option maxHeartbeats 4000000 in
set_option maxRecDepth 100000 in
theorem mtX2_heirByComparison {l : Launch} {D : va_G} {s0 : State} (Z : hr_Z l D s0) {H : Heap} {a : Nat} {L : ly_T} {d : dt_T} (hD : hr_Dt D H a L d) (hV : dt_V d) {i : Nat} (hi : i < dt_n d) : hr_M l s0 yX2_heirByComparison (ws_ yX2_heirByComparison cX2_heirByComparison 7 (Option.some (Jvm.ClassFile.FieldType.object "HabitRegistry$Person"))) rmX2_heirByComparison [.ref a, .ref (ly_pa L i)] H (hr_N H) (fun v H1 => v = some (va_rf ((dt_hc d i).map (ly_pa L))) ∧ hr_X H H1) hr_no := by
  refine hr_ofN Z (by decide) (Nat.le_of_ble_eq_true rfl) (fun _ h => Or.inr h) ?_
  intro p e s m args below meth c Q ls C hQ hin hnx hS hnm hl
  have hAN : ∀ q, H.size ≤ q → (hr_N H) q := (fun _ h => h)
  have hl : lv_has ls 7 [(0, .ref a), (1, .ref (ly_pa L i))] := hl
  refine lv_aload_n C.x C.b dX2_heirByComparison_0 rfl (lv_at hl 0 rfl) ?_
  refine lv_aload_n C.x C.b dX2_heirByComparison_1 rfl (lv_at hl 1 rfl) ?_
  refine lm_make lga6 lgb6 lge6 lgg6 lgh6 (j := 6) (idx := 196) (x := lgx6) rfl rfl (by decide) (tys := [.object "HabitRegistry$Data", .object "HabitRegistry$Person"]) lgt6 (vals := [.ref a, .ref (ly_pa L i)]) (rest := []) rfl rfl (lm_n2 ⟨rfl, rfl⟩ ⟨rfl, rfl⟩) C hnm hl.1 (Nat.le_of_ble_eq_true rfl) ⟨by first | exact Nat.le_of_ble_eq_true rfl | (simp only [rmX2_heirByComparison]; omega), by first | exact Nat.le_of_ble_eq_true rfl | (simp only [rmX2_heirByComparison]; omega)⟩ hS dX2_heirByComparison_2 (fun H1 hLa2 hX3 hz4 hS5 => ?_)
  have hD1 := hD.x hX3
  refine lv_astore_n (lv' := [(2, .ref H.size), (0, .ref a), (1, .ref (ly_pa L i))]) C.x C.b dX2_heirByComparison_7 rfl hl (by decide) rfl (fun ls hl => ?_)
  refine lv_null C.x C.b dX2_heirByComparison_8 ?_
  refine lv_astore_nN (lv' := [(3, .null), (2, .ref H.size), (0, .ref a), (1, .ref (ly_pa L i))]) C.x C.b dX2_heirByComparison_9 rfl hl (by decide) rfl (fun ls hl => ?_)
  refine lv_aload_n C.x C.b dX2_heirByComparison_10 rfl (lv_at hl 2 rfl) ?_
  refine hr_get in_X2 (ci := 1) 0 q313 rfl rfl (by decide) C (hD.1.x hX3) rfl dX2_heirByComparison_11 ?_
  refine hr_callV (lw_V q182 q183 q184 q80 q185) (by decide +kernel) (n := 0) C (mtJ2_iterator Z hD1.2.1.1) (hD1.2.1.1.1.recv C rfl) ⟨Nat.le_of_ble_eq_true rfl, Nat.le_of_ble_eq_true rfl⟩ rfl hl.1 (Nat.le_of_ble_eq_true rfl) ⟨by first | exact Nat.le_of_ble_eq_true rfl | (simp only [rmX2_heirByComparison]; omega), by first | exact Nat.le_of_ble_eq_true rfl | (simp only [rmX2_heirByComparison]; omega)⟩ hS5 (hr_AN hAN hS5) dX2_heirByComparison_14 (rest := []) rfl
    (fun _ _ _ _ _ h => h.elim) (fun v11 H6 locs7 hp10 hF8 hS9 => ?_)
  obtain ⟨rfl, hI0⟩ := hp10
  refine W.eq (g2 := F0 m 17 ls [.ref H1.size]) rfl ?_
  refine lv_astore (lv' := [(4, .ref H1.size), (3, .null), (2, .ref H.size), (0, .ref a), (1, .ref (ly_pa L i))]) C.x C.b dX2_heirByComparison_17 hl (by decide) rfl (fun ls hl => ?_)
  have hit9 : s0.heap.size ≤ H1.size := (C.up hS5).1
  have hit8 : H.size ≤ H1.size := hS5.1
  have hLz : hr_La D H6 H.size 6 [.ref a, .ref (ly_pa L i)] := hLa2.x hF8
  have lp : ∀ (r k : Nat) (ls : Array Slot) (H5 : Heap) (locs5 : List Loc) (x9 : Value), k + r = dt_n d → hr_O D H5 H1.size 11 [.int (hr_I (k : Int)), x9, .int (ly_p L).2.2.2, .ref (ly_p L).1] → va_S (hr_N H) H H5 locs5 → hr_La D H5 H.size 6 [.ref a, .ref (ly_pa L i)] → lv_has ls 7 [(4, .ref H1.size), (3, va_rf ((dt_hcf d i k).map (ly_pa L))), (2, .ref H.size), (0, .ref a), (1, .ref (ly_pa L i))] → W p l e rmX2_heirByComparison s m args below meth c H5 locs5 (0 + 1 + 1) (0 + 2 + 4) Q (F0 m 19 ls []) := by
    intro r
    induction r with
    | zero =>
      intro k ls H5 locs5 x9  hk hI5 hS5 hLa5 hl
      have hk9 : k ≤ dt_n d := by omega
      refine lv_aload C.x C.b dX2_heirByComparison_19 (lv_at hl 0 rfl) ?_
      refine hr_callF (CC := "java/util/ArrayList$Itr") (x := ⟨"java/util/Iterator", "hasNext", "()Z"⟩) (y := yJ3_hasNext) (lw_app (lw_in _ [206, 210, 212, 81] (by decide +kernel) (by decide +kernel)) (lw_meth q214)) (by decide +kernel) (n := 0) C (C.K.1 11 _ rfl).2 (hr_C.fw5 C (hr_inT _ [208, 207, 213, 211, 209] (by decide +kernel)) (by decide)) (mtJ3_hasNext Z (hD.2.1.1.x (hr_SX hS5)) hI5 hk9) (hI5.recv C rfl) ⟨Nat.le_of_ble_eq_true rfl, Nat.le_of_ble_eq_true rfl⟩ rfl hl.1 (Nat.le_of_ble_eq_true rfl) ⟨by first | exact Nat.le_of_ble_eq_true rfl | (simp only [rmX2_heirByComparison]; omega), by first | exact Nat.le_of_ble_eq_true rfl | (simp only [rmX2_heirByComparison]; omega)⟩ hS5 (hr_AN hAN hS5) dX2_heirByComparison_21 (rest := []) rfl
        (fun _ _ _ _ _ h => h.elim) (fun v17 H12 locs13 hp16 hF14 hS15 => ?_)
      obtain ⟨hv18, hH19⟩ := hp16; subst hv18; subst hH19
      refine W.eq (g2 := F0 m 26 ls [.int (hr_I (hr_t (decide (k < dt_n d))))]) rfl ?_
      have hkn : k = dt_n d := by omega
      refine hr_ifb_eq C (tgt := 105) dX2_heirByComparison_26 (by decide) (fun hc => ?_) (fun hc => ?_)
      · refine hr_aload_no C.x C.b dX2_heirByComparison_105 rfl (lv_at hl 1 rfl) ?_
        exact hr_aret (Or.inl ⟨_, rfl⟩) (hr_rv _) C hQ (⟨by rw [hkn]; rfl, hr_SX hS15⟩) hS15 (by first | exact Nat.le_of_ble_eq_true rfl | (simp only [rmX2_heirByComparison]; omega)) (by first | exact Nat.le_of_ble_eq_true rfl | (simp only [rmX2_heirByComparison]; omega)) dX2_heirByComparison_106
      · exact absurd hc (by simp [hkn])
    | succ r ih =>
      intro k ls H5 locs5 x9  hk hI5 hS5 hLa5 hl
      have hk9 : k ≤ dt_n d := by omega
      refine lv_aload C.x C.b dX2_heirByComparison_19 (lv_at hl 0 rfl) ?_
      refine hr_callF (CC := "java/util/ArrayList$Itr") (x := ⟨"java/util/Iterator", "hasNext", "()Z"⟩) (y := yJ3_hasNext) (lw_app (lw_in _ [206, 210, 212, 81] (by decide +kernel) (by decide +kernel)) (lw_meth q214)) (by decide +kernel) (n := 0) C (C.K.1 11 _ rfl).2 (hr_C.fw5 C (hr_inT _ [208, 207, 213, 211, 209] (by decide +kernel)) (by decide)) (mtJ3_hasNext Z (hD.2.1.1.x (hr_SX hS5)) hI5 hk9) (hI5.recv C rfl) ⟨Nat.le_of_ble_eq_true rfl, Nat.le_of_ble_eq_true rfl⟩ rfl hl.1 (Nat.le_of_ble_eq_true rfl) ⟨by first | exact Nat.le_of_ble_eq_true rfl | (simp only [rmX2_heirByComparison]; omega), by first | exact Nat.le_of_ble_eq_true rfl | (simp only [rmX2_heirByComparison]; omega)⟩ hS5 (hr_AN hAN hS5) dX2_heirByComparison_21 (rest := []) rfl
        (fun _ _ _ _ _ h => h.elim) (fun v25 H20 locs21 hp24 hF22 hS23 => ?_)
      obtain ⟨hv26, hH27⟩ := hp24; subst hv26; subst hH27
      refine W.eq (g2 := F0 m 26 ls [.int (hr_I (hr_t (decide (k < dt_n d))))]) rfl ?_
      have hkn : k < dt_n d := by omega
      refine hr_ifb_eq C (tgt := 105) dX2_heirByComparison_26 (by decide) (fun hc => ?_) (fun hc => ?_)
      · exact absurd hc (by simp [hkn])
      · refine lv_aload C.x C.b dX2_heirByComparison_29 (lv_at hl 0 rfl) ?_
        refine hr_callF (CC := "java/util/ArrayList$Itr") (x := ⟨"java/util/Iterator", "next", "()Ljava/lang/Object;"⟩) (y := yJ3_next) (lw_app (lw_in _ [216, 219, 221, 81] (by decide +kernel) (by decide +kernel)) (lw_meth q223)) (by decide +kernel) (n := 0) C (C.K.1 11 _ rfl).2 (hr_C.fw5 C (hr_inT _ [218, 217, 222, 220, 209] (by decide +kernel)) (by decide)) (mtJ3_next Z (hD.2.1.1.x (hr_SX hS23)) hI5 hkn (hit9)) (hI5.recv C rfl) ⟨Nat.le_of_ble_eq_true rfl, Nat.le_of_ble_eq_true rfl⟩ rfl hl.1 (Nat.le_of_ble_eq_true rfl) ⟨by first | exact Nat.le_of_ble_eq_true rfl | (simp only [rmX2_heirByComparison]; omega), by first | exact Nat.le_of_ble_eq_true rfl | (simp only [rmX2_heirByComparison]; omega)⟩ hS23 (fun q h => h.elim (fun e => by rw [e]; exact hit8) (fun h => hAN _ (Nat.le_trans hS23.1 h))) dX2_heirByComparison_31 (rest := []) rfl
          (fun _ _ _ _ _ h => h.elim) (fun v33 H28 locs29 hp32 hF30 hS31 => ?_)
        obtain ⟨rfl, ⟨x2, hI27⟩⟩ := hp32
        refine W.eq (g2 := F0 m 36 ls [.ref (ly_pa L k)]) rfl ?_
        refine va_castS C.x C.b C.ow (C.w _ q427) (C.K.1 3 _ rfl).2 (((hD.2.1.2.1 k hkn).x (hr_SX hS31)).recv C rfl) dX2_heirByComparison_36 ?_
        have hLb := hLa5.kept (show _ = _ from hF30.2 _ hLa5.lt (fun z => by have h7 := hLa5.lt; rcases z with z | z <;> omega))
        refine lv_astore (lv' := [(5, .ref (ly_pa L k)), (4, .ref H1.size), (3, va_rf ((dt_hcf d i k).map (ly_pa L))), (2, .ref H.size), (0, .ref a), (1, .ref (ly_pa L i))]) C.x C.b dX2_heirByComparison_39 hl (by decide) rfl (fun ls hl => ?_)
        refine lv_aload C.x C.b dX2_heirByComparison_41 (lv_at hl 0 rfl) ?_
        refine lv_aload_n C.x C.b dX2_heirByComparison_43 rfl (lv_at hl 5 rfl) ?_
        refine hr_acmp_eq (x := some (ly_pa L k)) (y := some (ly_pa L i)) C (tgt := 71) dX2_heirByComparison_44 (by decide) (fun hc1 => ?_) (fun hc1 => ?_)
        · have hki : k = i := hD.2.1.inj hV.1.1 hkn hi (Option.some.inj hc1)
          refine lv_iconst (v := hr_I 0) C.x C.b dX2_heirByComparison_71 (by decide) ?_
          refine lv_istore (lv' := [(6, .int (hr_I 0)), (5, .ref (ly_pa L k)), (4, .ref H1.size), (3, va_rf ((dt_hcf d i k).map (ly_pa L))), (2, .ref H.size), (0, .ref a), (1, .ref (ly_pa L i))]) C.x C.b dX2_heirByComparison_72 hl (by decide) rfl (fun ls hl => ?_)
          refine lv_iload C.x C.b dX2_heirByComparison_74 (lv_at hl 0 rfl) ?_
          have hr9 : dt_rel d i k = false := by unfold dt_rel; simp [hki]
          have e9 : dt_hcf d i (k + 1) = dt_hcf d i k := by simp only [dt_hcf, hr9]; simp
          refine hr_ifb_eq (t := false) C (tgt := 100) dX2_heirByComparison_76 (by decide) (fun _ => ?_) (fun z => nomatch z)
          refine hr_aload_no C.x C.b dX2_heirByComparison_100 rfl (lv_at hl 3 rfl) ?_
          refine hr_astore_no (lv' := [(3, va_rf ((dt_hcf d i k).map (ly_pa L))), (6, .int (hr_I 0)), (5, .ref (ly_pa L k)), (4, .ref H1.size), (2, .ref H.size), (0, .ref a), (1, .ref (ly_pa L i))]) C.x C.b dX2_heirByComparison_101 rfl hl (by decide) rfl (fun ls hl => ?_)
          refine lv_goto (tgt := 19) C.x C.b dX2_heirByComparison_102 (by decide) ?_
          exact ih (k + 1) ls _ _ _ (by omega) hI27 hS31 hLb (by rw [e9]; exact (lv_sub hl [3, 0, 4, 5, 6] rfl))
        · have hki : k ≠ i := fun e => hc1 (by rw [e])
          refine lv_aload C.x C.b dX2_heirByComparison_47 (lv_at hl 0 rfl) ?_
          refine hr_getN in_X4 (ci := 3) 3 q641 rfl rfl (by decide) C ((hD.2.1.2.1 k hkn).x (hr_SX hS31)) rfl dX2_heirByComparison_49 ?_
          refine hr_ifb_eq C (tgt := 71) dX2_heirByComparison_52 (by decide) (fun hc2 => ?_) (fun hc2 => ?_)
          · refine lv_iconst (v := hr_I 0) C.x C.b dX2_heirByComparison_71 (by decide) ?_
            refine lv_istore (lv' := [(6, .int (hr_I 0)), (5, .ref (ly_pa L k)), (4, .ref H1.size), (3, va_rf ((dt_hcf d i k).map (ly_pa L))), (2, .ref H.size), (0, .ref a), (1, .ref (ly_pa L i))]) C.x C.b dX2_heirByComparison_72 hl (by decide) rfl (fun ls hl => ?_)
            refine lv_iload C.x C.b dX2_heirByComparison_74 (lv_at hl 0 rfl) ?_
            have hr9 : dt_rel d i k = false := by unfold dt_rel; simp [hc2]
            have e9 : dt_hcf d i (k + 1) = dt_hcf d i k := by simp only [dt_hcf, hr9]; simp
            refine hr_ifb_eq (t := false) C (tgt := 100) dX2_heirByComparison_76 (by decide) (fun _ => ?_) (fun z => nomatch z)
            refine hr_aload_no C.x C.b dX2_heirByComparison_100 rfl (lv_at hl 3 rfl) ?_
            refine hr_astore_no (lv' := [(3, va_rf ((dt_hcf d i k).map (ly_pa L))), (6, .int (hr_I 0)), (5, .ref (ly_pa L k)), (4, .ref H1.size), (2, .ref H.size), (0, .ref a), (1, .ref (ly_pa L i))]) C.x C.b dX2_heirByComparison_101 rfl hl (by decide) rfl (fun ls hl => ?_)
            refine lv_goto (tgt := 19) C.x C.b dX2_heirByComparison_102 (by decide) ?_
            exact ih (k + 1) ls _ _ _ (by omega) hI27 hS31 hLb (by rw [e9]; exact (lv_sub hl [3, 0, 4, 5, 6] rfl))
          · refine lv_aload C.x C.b dX2_heirByComparison_55 (lv_at hl 0 rfl) ?_
            refine hr_callV (lw_V q535 q536 q537 q93 q538) (by decide +kernel) (n := 0) C (mtX4_founder Z (hD.2.1.x (hr_SX hS31)) hV.1 hkn) (((hD.2.1.2.1 k hkn).x (hr_SX hS31)).recv C rfl) ⟨Nat.le_of_ble_eq_true rfl, Nat.le_of_ble_eq_true rfl⟩ rfl hl.1 (Nat.le_of_ble_eq_true rfl) ⟨by first | exact Nat.le_of_ble_eq_true rfl | (simp only [rmX2_heirByComparison]; omega), by first | exact Nat.le_of_ble_eq_true rfl | (simp only [rmX2_heirByComparison]; omega)⟩ hS31 (hr_AN hAN hS31) dX2_heirByComparison_57 (rest := []) rfl
              (fun _ _ _ _ _ h => h.elim) (fun v40 H35 locs36 hp39 hF37 hS38 => ?_)
            obtain ⟨hv41, hH42⟩ := hp39; subst hv41; subst hH42
            refine W.eq (g2 := F0 m 60 ls [.ref (ly_pa L (dt_fo d k))]) rfl ?_
            refine lv_aload_n C.x C.b dX2_heirByComparison_60 rfl (lv_at hl 5 rfl) ?_
            refine hr_callV (lw_V q535 q536 q537 q93 q538) (by decide +kernel) (n := 0) C (mtX4_founder Z (hD.2.1.x (hr_SX hS38)) hV.1 hi) (((hD.2.1.2.1 i hi).x (hr_SX hS38)).recv C rfl) ⟨Nat.le_of_ble_eq_true rfl, Nat.le_of_ble_eq_true rfl⟩ rfl hl.1 (Nat.le_of_ble_eq_true rfl) ⟨by first | exact Nat.le_of_ble_eq_true rfl | (simp only [rmX2_heirByComparison]; omega), by first | exact Nat.le_of_ble_eq_true rfl | (simp only [rmX2_heirByComparison]; omega)⟩ hS38 (hr_AN hAN hS38) dX2_heirByComparison_61 (rest := [.ref (ly_pa L (dt_fo d k))]) rfl
              (fun _ _ _ _ _ h => h.elim) (fun v48 H43 locs44 hp47 hF45 hS46 => ?_)
            obtain ⟨hv49, hH50⟩ := hp47; subst hv49; subst hH50
            refine W.eq (g2 := F0 m 64 ls [.ref (ly_pa L (dt_fo d i)), .ref (ly_pa L (dt_fo d k))]) rfl ?_
            refine hr_acmp_ne (x := some (ly_pa L (dt_fo d k))) (y := some (ly_pa L (dt_fo d i))) C (tgt := 71) dX2_heirByComparison_64 (by decide) (fun hc7 => ?_) (fun hc7 => ?_)
            · have hf9 : dt_fo d k ≠ dt_fo d i := fun e => hc7 (by rw [e])
              refine lv_iconst (v := hr_I 0) C.x C.b dX2_heirByComparison_71 (by decide) ?_
              refine lv_istore (lv' := [(6, .int (hr_I 0)), (5, .ref (ly_pa L k)), (4, .ref H1.size), (3, va_rf ((dt_hcf d i k).map (ly_pa L))), (2, .ref H.size), (0, .ref a), (1, .ref (ly_pa L i))]) C.x C.b dX2_heirByComparison_72 hl (by decide) rfl (fun ls hl => ?_)
              refine lv_iload C.x C.b dX2_heirByComparison_74 (lv_at hl 0 rfl) ?_
              have hr9 : dt_rel d i k = false := by unfold dt_rel; simp [hf9]
              have e9 : dt_hcf d i (k + 1) = dt_hcf d i k := by simp only [dt_hcf, hr9]; simp
              refine hr_ifb_eq (t := false) C (tgt := 100) dX2_heirByComparison_76 (by decide) (fun _ => ?_) (fun z => nomatch z)
              refine hr_aload_no C.x C.b dX2_heirByComparison_100 rfl (lv_at hl 3 rfl) ?_
              refine hr_astore_no (lv' := [(3, va_rf ((dt_hcf d i k).map (ly_pa L))), (6, .int (hr_I 0)), (5, .ref (ly_pa L k)), (4, .ref H1.size), (2, .ref H.size), (0, .ref a), (1, .ref (ly_pa L i))]) C.x C.b dX2_heirByComparison_101 rfl hl (by decide) rfl (fun ls hl => ?_)
              refine lv_goto (tgt := 19) C.x C.b dX2_heirByComparison_102 (by decide) ?_
              exact ih (k + 1) ls _ _ _ (by omega) hI27 hS46 hLb (by rw [e9]; exact (lv_sub hl [3, 0, 4, 5, 6] rfl))
            · have hf9 : dt_fo d k = dt_fo d i := hD.2.1.inj hV.1.1 (dt_fo_lt hV.1 k hkn) (dt_fo_lt hV.1 i hi) (Option.some.inj hc7)
              have hr9 : dt_rel d i k = true := by unfold dt_rel; simp [hki, hc2, hf9]
              refine lv_iconst (v := hr_I 1) C.x C.b dX2_heirByComparison_67 (by decide) ?_
              refine lv_goto (tgt := 72) C.x C.b dX2_heirByComparison_68 (by decide) ?_
              refine lv_istore (lv' := [(6, .int (hr_I 1)), (5, .ref (ly_pa L k)), (4, .ref H1.size), (3, va_rf ((dt_hcf d i k).map (ly_pa L))), (2, .ref H.size), (0, .ref a), (1, .ref (ly_pa L i))]) C.x C.b dX2_heirByComparison_72 hl (by decide) rfl (fun ls hl => ?_)
              refine lv_iload C.x C.b dX2_heirByComparison_74 (lv_at hl 0 rfl) ?_
              refine hr_ifb_eq (t := true) C (tgt := 100) dX2_heirByComparison_76 (by decide) (fun z => nomatch z) (fun _ => ?_)
              cases hy : dt_hcf d i k with
              | none =>
                rw [hy] at hl
                have e9 : dt_hcf d i (k + 1) = some k := by simp only [dt_hcf, hr9, hy]; simp
                have hl : lv_has ls 7 [(6, .int (hr_I 1)), (5, .ref (ly_pa L k)), (4, .ref H1.size), (3, .null), (2, .ref H.size), (0, .ref a), (1, .ref (ly_pa L i))] := hl
                refine lv_aload_nN C.x C.b dX2_heirByComparison_79 rfl (lv_at hl 3 rfl) ?_
                refine lv_ifnullN (tgt := 95) C.x C.b dX2_heirByComparison_80 (by decide) ?_
                refine lv_aload C.x C.b dX2_heirByComparison_95 (lv_at hl 1 rfl) ?_
                refine lv_goto (tgt := 101) C.x C.b dX2_heirByComparison_97 (by decide) ?_
                refine lv_astore_n (lv' := [(3, .ref (ly_pa L k)), (6, .int (hr_I 1)), (5, .ref (ly_pa L k)), (4, .ref H1.size), (2, .ref H.size), (0, .ref a), (1, .ref (ly_pa L i))]) C.x C.b dX2_heirByComparison_101 rfl hl (by decide) rfl (fun ls hl => ?_)
                refine lv_goto (tgt := 19) C.x C.b dX2_heirByComparison_102 (by decide) ?_
                exact ih (k + 1) ls _ _ _ (by omega) hI27 hS46 hLb (by rw [e9]; exact (lv_sub hl [3, 0, 4, 5, 6] rfl))
              | some y =>
                rw [hy] at hl
                have hl : lv_has ls 7 [(6, .int (hr_I 1)), (5, .ref (ly_pa L k)), (4, .ref H1.size), (3, .ref (ly_pa L y)), (2, .ref H.size), (0, .ref a), (1, .ref (ly_pa L i))] := hl
                obtain ⟨hyk, hyr⟩ := dt_hcf_rel k y hy
                have hyn : y < dt_n d := by omega
                refine lv_aload_n C.x C.b dX2_heirByComparison_79 rfl (lv_at hl 3 rfl) ?_
                refine lv_ifnull C.x C.b dX2_heirByComparison_80 ?_
                refine lv_aload_n C.x C.b dX2_heirByComparison_83 rfl (lv_at hl 4 rfl) ?_
                refine lv_aload C.x C.b dX2_heirByComparison_84 (lv_at hl 1 rfl) ?_
                refine lv_aload_n C.x C.b dX2_heirByComparison_86 rfl (lv_at hl 3 rfl) ?_
                refine ((lq_6 hLb (hD.x (hr_SX hS46)).1 (mtl_6 Z (hD.x (hr_SX hS46)) hV hi hkn hyn hf9 (dt_relf hyr)) (fun _ h => h) ⟨_, rfl⟩).mono (Nat.le_of_ble_eq_true rfl) (Nat.le_of_ble_eq_true rfl) rfl rfl) _ _ p e _ s m args below meth c _ _ _ _ _ _ ls [] _ _ _ C hl.1 (Nat.le_of_ble_eq_true rfl) ⟨Nat.le_of_ble_eq_true rfl, Nat.le_of_ble_eq_true rfl⟩ ⟨by first | exact Nat.le_of_ble_eq_true rfl | (simp only [rmX2_heirByComparison]; omega), by first | exact Nat.le_of_ble_eq_true rfl | (simp only [rmX2_heirByComparison]; omega)⟩ hS46 (hr_AN hAN hS46) dX2_heirByComparison_87 (fun H51 locs52 hH53 hX54 hS55 => ?_)
                subst hH53
                show W p l e rmX2_heirByComparison s m args below meth c H28 locs52 (0 + 1 + 1 + 0 + 0 + 0 + 0 + 0) (0 + 2 + 4 + 0 + 0 + 0 + 0 + 0) Q (F0 m 92 ls [.int (hr_I (hr_t (dt_od d i k y)))])
                refine hr_ifb_eq C (tgt := 100) dX2_heirByComparison_92 (by decide) (fun hc5 => ?_) (fun hc5 => ?_)
                · have e9 : dt_hcf d i (k + 1) = some y := by simp only [dt_hcf, hr9, hy, hc5]; simp
                  refine lv_aload_n C.x C.b dX2_heirByComparison_100 rfl (lv_at hl 3 rfl) ?_
                  refine lv_astore_n (lv' := [(3, .ref (ly_pa L y)), (6, .int (hr_I 1)), (5, .ref (ly_pa L k)), (4, .ref H1.size), (2, .ref H.size), (0, .ref a), (1, .ref (ly_pa L i))]) C.x C.b dX2_heirByComparison_101 rfl hl (by decide) rfl (fun ls hl => ?_)
                  refine lv_goto (tgt := 19) C.x C.b dX2_heirByComparison_102 (by decide) ?_
                  exact ih (k + 1) ls _ _ _ (by omega) hI27 hS55 hLb (by rw [e9]; exact (lv_sub hl [3, 0, 4, 5, 6] rfl))
                · have e9 : dt_hcf d i (k + 1) = some k := by simp only [dt_hcf, hr9, hy, hc5]; simp
                  refine lv_aload C.x C.b dX2_heirByComparison_95 (lv_at hl 1 rfl) ?_
                  refine lv_goto (tgt := 101) C.x C.b dX2_heirByComparison_97 (by decide) ?_
                  refine lv_astore_n (lv' := [(3, .ref (ly_pa L k)), (6, .int (hr_I 1)), (5, .ref (ly_pa L k)), (4, .ref H1.size), (2, .ref H.size), (0, .ref a), (1, .ref (ly_pa L i))]) C.x C.b dX2_heirByComparison_101 rfl hl (by decide) rfl (fun ls hl => ?_)
                  refine lv_goto (tgt := 19) C.x C.b dX2_heirByComparison_102 (by decide) ?_
                  exact ih (k + 1) ls _ _ _ (by omega) hI27 hS55 hLb (by rw [e9]; exact (lv_sub hl [3, 0, 4, 5, 6] rfl))
  exact lp (dt_n d) 0 ls _ _ _  (Nat.zero_add _) hI0 hS9 hLz (lv_sub hl [0, 1, 2, 3, 4] rfl)
