/-! Data: what reads only -/
abbrev rmX2_hasPerson : Room := { frames := 1, cells := 0, slots := 0, locals := 34 }
set_option maxHeartbeats 4000000 in
set_option maxRecDepth 100000 in
theorem mtX2_hasPerson {l : Launch} {D : va_G} {s0 : State} (Z : hr_Z l D s0) {H : Heap} {a : Nat} {L : ly_T} {d : dt_T} (hD : hr_O D H a 1 (fs_D d L)) (hP : hr_pp D H L d) (hV : dt_VP d) {i : Int} (ri : hr_R i) (hn : dt_n d ≤ 60) : hr_M l s0 yX2_hasPerson (ws_ yX2_hasPerson cX2_hasPerson 2 (Option.some Jvm.ClassFile.FieldType.boolean)) rmX2_hasPerson [.ref a, .int (hr_I i)] H (hr_N H) (fun v H1 => v = some (.int (hr_I (hr_t (decide (0 ≤ i ∧ i < (dt_n d : Int)))))) ∧ H = H1) hr_no := by
  refine hr_of Z (by decide) (Nat.le_of_ble_eq_true rfl) (fun _ h => Or.inr h) ?_
  intro p e s m args below meth c Q ls C hQ hin hnx hS hl
  have hAN : ∀ q, H.size ≤ q → (hr_N H) q := (fun _ h => h)
  have hl : lv_has ls 2 [(0, .ref a), (1, .int (hr_I i))] := hl
  refine lv_iload_n C.x C.b dX2_hasPerson_0 rfl (lv_at hl 1 rfl) ?_
  refine lv_iconst (v := hr_I 0) C.x C.b dX2_hasPerson_1 (by decide) ?_
  refine lv_aload_n C.x C.b dX2_hasPerson_2 rfl (lv_at hl 0 rfl) ?_
  refine hr_get in_X2 (ci := 1) 0 q313 rfl rfl (by decide) C hD rfl dX2_hasPerson_3 ?_
  refine hr_callV (lw_V q603 q416 q417 q80 q418) (by decide +kernel) (n := 0) C (mtJ2_size Z hP.1) (hP.1.1.recv C rfl) ⟨Nat.le_of_ble_eq_true rfl, Nat.le_of_ble_eq_true rfl⟩ rfl hl.1 (Nat.le_of_ble_eq_true rfl) ⟨by first | exact Nat.le_of_ble_eq_true rfl | (simp only [rmX2_hasPerson]; omega), by first | exact Nat.le_of_ble_eq_true rfl | (simp only [rmX2_hasPerson]; omega)⟩ hS (hr_AN hAN hS) dX2_hasPerson_6 (rest := [.int (hr_I 0), .int (hr_I i)]) rfl
    (fun _ _ _ _ _ h => h.elim) (fun v6 H1 locs2 hp5 hF3 hS4 => ?_)
  obtain ⟨hv7, hH8⟩ := hp5; subst hv7; subst hH8
  refine W.eq (g2 := F0 m 9 ls [.int (hr_I (dt_n d : Int)), .int (hr_I 0), .int (hr_I i)]) rfl ?_
  refine lv_iconst (v := hr_I 1) C.x C.b dX2_hasPerson_9 (by decide) ?_
  refine t_isub C.x C.b dX2_hasPerson_10 (v := hr_I ((dt_n d : Int) - 1)) (hr_sub _ _) ?_
  refine hr_callSN (lw_meth q804) q76 q802 q803 (by decide +kernel) (n := 3) C (mtX1_isBetween Z ri ⟨by omega, by omega⟩ ⟨by omega, by omega⟩ (a := i) (b := 0) (x := (dt_n d : Int) - 1)) ⟨Nat.le_of_ble_eq_true rfl, Nat.le_of_ble_eq_true rfl⟩ rfl hl.1 (Nat.le_of_ble_eq_true rfl) ⟨by first | exact Nat.le_of_ble_eq_true rfl | (simp only [rmX2_hasPerson]; omega), by first | exact Nat.le_of_ble_eq_true rfl | (simp only [rmX2_hasPerson]; omega)⟩ hS4 (hr_AN hAN hS4) dX2_hasPerson_11 (rest := []) rfl
    (fun _ _ _ _ _ h => h.elim) (fun v14 H9 locs10 hp13 hF11 hS12 => ?_)
  obtain ⟨hv15, hH16⟩ := hp13; subst hv15; subst hH16
  refine W.eq (g2 := F0 m 14 ls [.int (hr_I (hr_t (decide (0 ≤ i ∧ i ≤ (dt_n d : Int) - 1))))]) rfl ?_
  exact hr_zret C hQ (hr_nz _) (⟨by rw [show decide (0 ≤ i ∧ i < (dt_n d : Int)) = decide (0 ≤ i ∧ i ≤ (dt_n d : Int) - 1) from decide_eq_decide.mpr (by omega)], rfl⟩) hS12 (by first | exact Nat.le_of_ble_eq_true rfl | (simp only [rmX2_hasPerson]; omega)) (by first | exact Nat.le_of_ble_eq_true rfl | (simp only [rmX2_hasPerson]; omega)) dX2_hasPerson_14

abbrev rmX2_hasHabit : Room := { frames := 1, cells := 0, slots := 0, locals := 34 }
set_option maxHeartbeats 4000000 in
set_option maxRecDepth 100000 in
theorem mtX2_hasHabit {l : Launch} {D : va_G} {s0 : State} (Z : hr_Z l D s0) {H : Heap} {a : Nat} {L : ly_T} {d : dt_T} (hD : hr_O D H a 1 (fs_D d L)) (hH : hr_hh D H L d) {i : Int} (ri : hr_R i) (hn : dt_k d ≤ 60) : hr_M l s0 yX2_hasHabit (ws_ yX2_hasHabit cX2_hasHabit 2 (Option.some Jvm.ClassFile.FieldType.boolean)) rmX2_hasHabit [.ref a, .int (hr_I i)] H (hr_N H) (fun v H1 => v = some (.int (hr_I (hr_t (decide (0 ≤ i ∧ i < (dt_k d : Int)))))) ∧ H = H1) hr_no := by
  refine hr_of Z (by decide) (Nat.le_of_ble_eq_true rfl) (fun _ h => Or.inr h) ?_
  intro p e s m args below meth c Q ls C hQ hin hnx hS hl
  have hAN : ∀ q, H.size ≤ q → (hr_N H) q := (fun _ h => h)
  have hl : lv_has ls 2 [(0, .ref a), (1, .int (hr_I i))] := hl
  refine lv_iload_n C.x C.b dX2_hasHabit_0 rfl (lv_at hl 1 rfl) ?_
  refine lv_iconst (v := hr_I 0) C.x C.b dX2_hasHabit_1 (by decide) ?_
  refine lv_aload_n C.x C.b dX2_hasHabit_2 rfl (lv_at hl 0 rfl) ?_
  refine hr_get in_X2 (ci := 1) 1 q315 rfl rfl (by decide) C hD rfl dX2_hasHabit_3 ?_
  refine hr_callV (lw_V q603 q416 q417 q80 q418) (by decide +kernel) (n := 0) C (mtJ2_size Z hH.1) (hH.1.1.recv C rfl) ⟨Nat.le_of_ble_eq_true rfl, Nat.le_of_ble_eq_true rfl⟩ rfl hl.1 (Nat.le_of_ble_eq_true rfl) ⟨by first | exact Nat.le_of_ble_eq_true rfl | (simp only [rmX2_hasHabit]; omega), by first | exact Nat.le_of_ble_eq_true rfl | (simp only [rmX2_hasHabit]; omega)⟩ hS (hr_AN hAN hS) dX2_hasHabit_6 (rest := [.int (hr_I 0), .int (hr_I i)]) rfl
    (fun _ _ _ _ _ h => h.elim) (fun v6 H1 locs2 hp5 hF3 hS4 => ?_)
  obtain ⟨hv7, hH8⟩ := hp5; subst hv7; subst hH8
  refine W.eq (g2 := F0 m 9 ls [.int (hr_I (dt_k d : Int)), .int (hr_I 0), .int (hr_I i)]) rfl ?_
  refine lv_iconst (v := hr_I 1) C.x C.b dX2_hasHabit_9 (by decide) ?_
  refine t_isub C.x C.b dX2_hasHabit_10 (v := hr_I ((dt_k d : Int) - 1)) (hr_sub _ _) ?_
  refine hr_callSN (lw_meth q804) q76 q802 q803 (by decide +kernel) (n := 3) C (mtX1_isBetween Z ri ⟨by omega, by omega⟩ ⟨by omega, by omega⟩ (a := i) (b := 0) (x := (dt_k d : Int) - 1)) ⟨Nat.le_of_ble_eq_true rfl, Nat.le_of_ble_eq_true rfl⟩ rfl hl.1 (Nat.le_of_ble_eq_true rfl) ⟨by first | exact Nat.le_of_ble_eq_true rfl | (simp only [rmX2_hasHabit]; omega), by first | exact Nat.le_of_ble_eq_true rfl | (simp only [rmX2_hasHabit]; omega)⟩ hS4 (hr_AN hAN hS4) dX2_hasHabit_11 (rest := []) rfl
    (fun _ _ _ _ _ h => h.elim) (fun v14 H9 locs10 hp13 hF11 hS12 => ?_)
  obtain ⟨hv15, hH16⟩ := hp13; subst hv15; subst hH16
  refine W.eq (g2 := F0 m 14 ls [.int (hr_I (hr_t (decide (0 ≤ i ∧ i ≤ (dt_k d : Int) - 1))))]) rfl ?_
  exact hr_zret C hQ (hr_nz _) (⟨by rw [show decide (0 ≤ i ∧ i < (dt_k d : Int)) = decide (0 ≤ i ∧ i ≤ (dt_k d : Int) - 1) from decide_eq_decide.mpr (by omega)], rfl⟩) hS12 (by first | exact Nat.le_of_ble_eq_true rfl | (simp only [rmX2_hasHabit]; omega)) (by first | exact Nat.le_of_ble_eq_true rfl | (simp only [rmX2_hasHabit]; omega)) dX2_hasHabit_14

abbrev rmX2_living : Room := { frames := 3, cells := 1, slots := 4, locals := 61 }
set_option maxHeartbeats 4000000 in
set_option maxRecDepth 100000 in
theorem mtX2_living {l : Launch} {D : va_G} {s0 : State} (Z : hr_Z l D s0) {H : Heap} {a : Nat} {L : ly_T} {d : dt_T} (hD : hr_O D H a 1 (fs_D d L)) (hP : hr_pp D H L d) (hV : dt_VP d) : hr_M l s0 yX2_living (ws_ yX2_living cX2_living 4 (Option.some Jvm.ClassFile.FieldType.int)) rmX2_living [.ref a] H (hr_N H) (fun v H1 => v = some (.int (hr_I (dt_cnt (dt_al d) (dt_n d) : Int))) ∧ hr_X H H1) hr_no := by
  refine hr_of Z (by decide) (Nat.le_of_ble_eq_true rfl) (fun _ h => Or.inr h) ?_
  intro p e s m args below meth c Q ls C hQ hin hnx hS hl
  have hAN : ∀ q, H.size ≤ q → (hr_N H) q := (fun _ h => h)
  have hl : lv_has ls 4 [(0, .ref a)] := hl
  refine lv_iconst (v := hr_I 0) C.x C.b dX2_living_0 (by decide) ?_
  refine lv_istore_n (lv' := [(1, .int (hr_I 0)), (0, .ref a)]) C.x C.b dX2_living_1 rfl hl (by decide) rfl (fun ls hl => ?_)
  refine lv_aload_n C.x C.b dX2_living_2 rfl (lv_at hl 1 rfl) ?_
  refine hr_get in_X2 (ci := 1) 0 q313 rfl rfl (by decide) C hD rfl dX2_living_3 ?_
  refine hr_callV (lw_V q182 q183 q184 q80 q185) (by decide +kernel) (n := 0) C (mtJ2_iterator Z hP.1) (hP.1.1.recv C rfl) ⟨Nat.le_of_ble_eq_true rfl, Nat.le_of_ble_eq_true rfl⟩ rfl hl.1 (Nat.le_of_ble_eq_true rfl) ⟨by first | exact Nat.le_of_ble_eq_true rfl | (simp only [rmX2_living]; omega), by first | exact Nat.le_of_ble_eq_true rfl | (simp only [rmX2_living]; omega)⟩ hS (hr_AN hAN hS) dX2_living_6 (rest := []) rfl
    (fun _ _ _ _ _ h => h.elim) (fun v6 H1 locs2 hp5 hF3 hS4 => ?_)
  obtain ⟨rfl, hI0⟩ := hp5
  refine W.eq (g2 := F0 m 9 ls [.ref H.size]) rfl ?_
  refine lv_astore_n (lv' := [(2, .ref H.size), (1, .int (hr_I 0)), (0, .ref a)]) C.x C.b dX2_living_9 rfl hl (by decide) rfl (fun ls hl => ?_)
  have lp : ∀ (r k : Nat) (ls : Array Slot) (H5 : Heap) (locs5 : List Loc) (x9 : Value), k + r = dt_n d → hr_O D H5 H.size 11 [.int (hr_I (k : Int)), x9, .int (ly_p L).2.2.2, .ref (ly_p L).1] → va_S (hr_N H) H H5 locs5 → lv_has ls 4 [(2, .ref H.size), (1, .int (hr_I (dt_cnt (dt_al d) k : Int))), (0, .ref a)] → W p l e rmX2_living s m args below meth c H5 locs5 (0 + 1) (0 + 4) Q (F0 m 10 ls []) := by
    intro r
    induction r with
    | zero =>
      intro k ls H5 locs5 x9  hk hI5 hS5  hl
      have hk9 : k ≤ dt_n d := by omega
      refine lv_aload_n C.x C.b dX2_living_10 rfl (lv_at hl 0 rfl) ?_
      refine hr_callF (CC := "java/util/ArrayList$Itr") (x := ⟨"java/util/Iterator", "hasNext", "()Z"⟩) (y := yJ3_hasNext) (lw_app (lw_in _ [206, 210, 212, 81] (by decide +kernel) (by decide +kernel)) (lw_meth q214)) (by decide +kernel) (n := 0) C (C.K.1 11 _ rfl).2 (hr_C.fw5 C (hr_inT _ [208, 207, 213, 211, 209] (by decide +kernel)) (by decide)) (mtJ3_hasNext Z (hP.1.x (hr_SX hS5)) hI5 hk9) (hI5.recv C rfl) ⟨Nat.le_of_ble_eq_true rfl, Nat.le_of_ble_eq_true rfl⟩ rfl hl.1 (Nat.le_of_ble_eq_true rfl) ⟨by first | exact Nat.le_of_ble_eq_true rfl | (simp only [rmX2_living]; omega), by first | exact Nat.le_of_ble_eq_true rfl | (simp only [rmX2_living]; omega)⟩ hS5 (hr_AN hAN hS5) dX2_living_11 (rest := []) rfl
        (fun _ _ _ _ _ h => h.elim) (fun v12 H7 locs8 hp11 hF9 hS10 => ?_)
      obtain ⟨hv13, hH14⟩ := hp11; subst hv13; subst hH14
      refine W.eq (g2 := F0 m 16 ls [.int (hr_I (hr_t (decide (k < dt_n d))))]) rfl ?_
      have hkn : k = dt_n d := by omega
      refine hr_ifb_eq C (tgt := 42) dX2_living_16 (by decide) (fun hc => ?_) (fun hc => ?_)
      · refine lv_iload_n C.x C.b dX2_living_42 rfl (lv_at hl 1 rfl) ?_
        exact hr_iret C hQ (⟨by rw [hkn], hr_SX hS10⟩) hS10 (by first | exact Nat.le_of_ble_eq_true rfl | (simp only [rmX2_living]; omega)) (by first | exact Nat.le_of_ble_eq_true rfl | (simp only [rmX2_living]; omega)) dX2_living_43
      · exact absurd hc (by simp [hkn])
    | succ r ih =>
      intro k ls H5 locs5 x9  hk hI5 hS5  hl
      have hk9 : k ≤ dt_n d := by omega
      refine lv_aload_n C.x C.b dX2_living_10 rfl (lv_at hl 0 rfl) ?_
      refine hr_callF (CC := "java/util/ArrayList$Itr") (x := ⟨"java/util/Iterator", "hasNext", "()Z"⟩) (y := yJ3_hasNext) (lw_app (lw_in _ [206, 210, 212, 81] (by decide +kernel) (by decide +kernel)) (lw_meth q214)) (by decide +kernel) (n := 0) C (C.K.1 11 _ rfl).2 (hr_C.fw5 C (hr_inT _ [208, 207, 213, 211, 209] (by decide +kernel)) (by decide)) (mtJ3_hasNext Z (hP.1.x (hr_SX hS5)) hI5 hk9) (hI5.recv C rfl) ⟨Nat.le_of_ble_eq_true rfl, Nat.le_of_ble_eq_true rfl⟩ rfl hl.1 (Nat.le_of_ble_eq_true rfl) ⟨by first | exact Nat.le_of_ble_eq_true rfl | (simp only [rmX2_living]; omega), by first | exact Nat.le_of_ble_eq_true rfl | (simp only [rmX2_living]; omega)⟩ hS5 (hr_AN hAN hS5) dX2_living_11 (rest := []) rfl
        (fun _ _ _ _ _ h => h.elim) (fun v20 H15 locs16 hp19 hF17 hS18 => ?_)
      obtain ⟨hv21, hH22⟩ := hp19; subst hv21; subst hH22
      refine W.eq (g2 := F0 m 16 ls [.int (hr_I (hr_t (decide (k < dt_n d))))]) rfl ?_
      have hkn : k < dt_n d := by omega
      refine hr_ifb_eq C (tgt := 42) dX2_living_16 (by decide) (fun hc => ?_) (fun hc => ?_)
      · exact absurd hc (by simp [hkn])
      · refine lv_aload_n C.x C.b dX2_living_19 rfl (lv_at hl 0 rfl) ?_
        refine hr_callF (CC := "java/util/ArrayList$Itr") (x := ⟨"java/util/Iterator", "next", "()Ljava/lang/Object;"⟩) (y := yJ3_next) (lw_app (lw_in _ [216, 219, 221, 81] (by decide +kernel) (by decide +kernel)) (lw_meth q223)) (by decide +kernel) (n := 0) C (C.K.1 11 _ rfl).2 (hr_C.fw5 C (hr_inT _ [218, 217, 222, 220, 209] (by decide +kernel)) (by decide)) (mtJ3_next Z (hP.1.x (hr_SX hS18)) hI5 hkn ((C.up hS).1)) (hI5.recv C rfl) ⟨Nat.le_of_ble_eq_true rfl, Nat.le_of_ble_eq_true rfl⟩ rfl hl.1 (Nat.le_of_ble_eq_true rfl) ⟨by first | exact Nat.le_of_ble_eq_true rfl | (simp only [rmX2_living]; omega), by first | exact Nat.le_of_ble_eq_true rfl | (simp only [rmX2_living]; omega)⟩ hS18 (fun q h => h.elim (fun e => by rw [e]; exact (Nat.le_refl _)) (fun h => hAN _ (Nat.le_trans hS18.1 h))) dX2_living_20 (rest := []) rfl
          (fun _ _ _ _ _ h => h.elim) (fun v28 H23 locs24 hp27 hF25 hS26 => ?_)
        obtain ⟨rfl, ⟨x2, hI22⟩⟩ := hp27
        refine W.eq (g2 := F0 m 25 ls [.ref (ly_pa L k)]) rfl ?_
        refine va_castS C.x C.b C.ow (C.w _ q427) (C.K.1 3 _ rfl).2 (((hP.2.1 k hkn).x (hr_SX hS26)).recv C rfl) dX2_living_25 ?_
        refine lv_astore_n (lv' := [(3, .ref (ly_pa L k)), (2, .ref H.size), (1, .int (hr_I (dt_cnt (dt_al d) k : Int))), (0, .ref a)]) C.x C.b dX2_living_28 rfl hl (by decide) rfl (fun ls hl => ?_)
        refine lv_iload_n C.x C.b dX2_living_29 rfl (lv_at hl 2 rfl) ?_
        refine lv_aload_n C.x C.b dX2_living_30 rfl (lv_at hl 0 rfl) ?_
        refine hr_getN in_X4 (ci := 3) 3 q641 rfl rfl (by decide) C ((hP.2.1 k hkn).x (hr_SX hS26)) rfl dX2_living_31 ?_
        refine hr_callSN (lw_meth q430) q76 q428 q429 (by decide +kernel) (n := 1) C (mtX1_asInt Z (t := dt_al d k)) ⟨Nat.le_of_ble_eq_true rfl, Nat.le_of_ble_eq_true rfl⟩ rfl hl.1 (Nat.le_of_ble_eq_true rfl) ⟨by first | exact Nat.le_of_ble_eq_true rfl | (simp only [rmX2_living]; omega), by first | exact Nat.le_of_ble_eq_true rfl | (simp only [rmX2_living]; omega)⟩ hS26 (hr_AN hAN hS26) dX2_living_34 (rest := [.int (hr_I (dt_cnt (dt_al d) k : Int))]) rfl
          (fun _ _ _ _ _ h => h.elim) (fun v34 H29 locs30 hp33 hF31 hS32 => ?_)
        obtain ⟨hv35, hH36⟩ := hp33; subst hv35; subst hH36
        refine W.eq (g2 := F0 m 37 ls [.int (hr_I (hr_t (dt_al d k))), .int (hr_I (dt_cnt (dt_al d) k : Int))]) rfl ?_
        refine t_iadd C.x C.b dX2_living_37 (v := hr_I ((dt_cnt (dt_al d) k : Int) + (hr_t (dt_al d k)))) (hr_add _ _) ?_
        refine lv_istore_n (lv' := [(1, .int (hr_I ((dt_cnt (dt_al d) k : Int) + (hr_t (dt_al d k))))), (3, .ref (ly_pa L k)), (2, .ref H.size), (0, .ref a)]) C.x C.b dX2_living_38 rfl hl (by decide) rfl (fun ls hl => ?_)
        have e937 : (dt_cnt (dt_al d) k : Int) + (hr_t (dt_al d k)) = ((dt_cnt (dt_al d) (k + 1) : Nat) : Int) := dt_cnt_t (dt_al d) k
        rw [e937] at hl
        refine lv_goto (tgt := 10) C.x C.b dX2_living_39 (by decide) ?_
        exact ih (k + 1) ls _ _ _  (by omega) hI22 hS32  (lv_sub hl [2, 0, 3] rfl)
  exact lp (dt_n d) 0 ls _ _ _  (Nat.zero_add _) hI0 hS4  (lv_sub hl [0, 1, 2] rfl)

abbrev rmX2_livingDescendants : Room := { frames := 3, cells := 1, slots := 4, locals := 61 }
set_option maxHeartbeats 4000000 in
set_option maxRecDepth 100000 in
theorem mtX2_livingDescendants {l : Launch} {D : va_G} {s0 : State} (Z : hr_Z l D s0) {H : Heap} {a : Nat} {L : ly_T} {d : dt_T} (hD : hr_O D H a 1 (fs_D d L)) (hP : hr_pp D H L d) (hV : dt_VP d) {i : Nat} (hi : i < dt_n d) : hr_M l s0 yX2_livingDescendants (ws_ yX2_livingDescendants cX2_livingDescendants 5 (Option.some Jvm.ClassFile.FieldType.int)) rmX2_livingDescendants [.ref a, .ref (ly_pa L i)] H (hr_N H) (fun v H1 => v = some (.int (hr_I (dt_cnt (fun k => dt_al d k && decide (i ∈ dt_up d k)) (dt_n d) : Int))) ∧ hr_X H H1) hr_no := by
  refine hr_of Z (by decide) (Nat.le_of_ble_eq_true rfl) (fun _ h => Or.inr h) ?_
  intro p e s m args below meth c Q ls C hQ hin hnx hS hl
  have hAN : ∀ q, H.size ≤ q → (hr_N H) q := (fun _ h => h)
  have hl : lv_has ls 5 [(0, .ref a), (1, .ref (ly_pa L i))] := hl
  refine lv_iconst (v := hr_I 0) C.x C.b dX2_livingDescendants_0 (by decide) ?_
  refine lv_istore_n (lv' := [(2, .int (hr_I 0)), (0, .ref a), (1, .ref (ly_pa L i))]) C.x C.b dX2_livingDescendants_1 rfl hl (by decide) rfl (fun ls hl => ?_)
  refine lv_aload_n C.x C.b dX2_livingDescendants_2 rfl (lv_at hl 1 rfl) ?_
  refine hr_get in_X2 (ci := 1) 0 q313 rfl rfl (by decide) C hD rfl dX2_livingDescendants_3 ?_
  refine hr_callV (lw_V q182 q183 q184 q80 q185) (by decide +kernel) (n := 0) C (mtJ2_iterator Z hP.1) (hP.1.1.recv C rfl) ⟨Nat.le_of_ble_eq_true rfl, Nat.le_of_ble_eq_true rfl⟩ rfl hl.1 (Nat.le_of_ble_eq_true rfl) ⟨by first | exact Nat.le_of_ble_eq_true rfl | (simp only [rmX2_livingDescendants]; omega), by first | exact Nat.le_of_ble_eq_true rfl | (simp only [rmX2_livingDescendants]; omega)⟩ hS (hr_AN hAN hS) dX2_livingDescendants_6 (rest := []) rfl
    (fun _ _ _ _ _ h => h.elim) (fun v6 H1 locs2 hp5 hF3 hS4 => ?_)
  obtain ⟨rfl, hI0⟩ := hp5
  refine W.eq (g2 := F0 m 9 ls [.ref H.size]) rfl ?_
  refine lv_astore_n (lv' := [(3, .ref H.size), (2, .int (hr_I 0)), (0, .ref a), (1, .ref (ly_pa L i))]) C.x C.b dX2_livingDescendants_9 rfl hl (by decide) rfl (fun ls hl => ?_)
  have lp : ∀ (r k : Nat) (ls : Array Slot) (H5 : Heap) (locs5 : List Loc) (x9 : Value), k + r = dt_n d → hr_O D H5 H.size 11 [.int (hr_I (k : Int)), x9, .int (ly_p L).2.2.2, .ref (ly_p L).1] → va_S (hr_N H) H H5 locs5 → lv_has ls 5 [(3, .ref H.size), (2, .int (hr_I (dt_cnt (fun k => dt_al d k && decide (i ∈ dt_up d k)) k : Int))), (0, .ref a), (1, .ref (ly_pa L i))] → W p l e rmX2_livingDescendants s m args below meth c H5 locs5 (0 + 1) (0 + 4) Q (F0 m 10 ls []) := by
    intro r
    induction r with
    | zero =>
      intro k ls H5 locs5 x9  hk hI5 hS5  hl
      have hk9 : k ≤ dt_n d := by omega
      refine lv_aload_n C.x C.b dX2_livingDescendants_10 rfl (lv_at hl 0 rfl) ?_
      refine hr_callF (CC := "java/util/ArrayList$Itr") (x := ⟨"java/util/Iterator", "hasNext", "()Z"⟩) (y := yJ3_hasNext) (lw_app (lw_in _ [206, 210, 212, 81] (by decide +kernel) (by decide +kernel)) (lw_meth q214)) (by decide +kernel) (n := 0) C (C.K.1 11 _ rfl).2 (hr_C.fw5 C (hr_inT _ [208, 207, 213, 211, 209] (by decide +kernel)) (by decide)) (mtJ3_hasNext Z (hP.1.x (hr_SX hS5)) hI5 hk9) (hI5.recv C rfl) ⟨Nat.le_of_ble_eq_true rfl, Nat.le_of_ble_eq_true rfl⟩ rfl hl.1 (Nat.le_of_ble_eq_true rfl) ⟨by first | exact Nat.le_of_ble_eq_true rfl | (simp only [rmX2_livingDescendants]; omega), by first | exact Nat.le_of_ble_eq_true rfl | (simp only [rmX2_livingDescendants]; omega)⟩ hS5 (hr_AN hAN hS5) dX2_livingDescendants_11 (rest := []) rfl
        (fun _ _ _ _ _ h => h.elim) (fun v12 H7 locs8 hp11 hF9 hS10 => ?_)
      obtain ⟨hv13, hH14⟩ := hp11; subst hv13; subst hH14
      refine W.eq (g2 := F0 m 16 ls [.int (hr_I (hr_t (decide (k < dt_n d))))]) rfl ?_
      have hkn : k = dt_n d := by omega
      refine hr_ifb_eq C (tgt := 61) dX2_livingDescendants_16 (by decide) (fun hc => ?_) (fun hc => ?_)
      · refine lv_iload_n C.x C.b dX2_livingDescendants_61 rfl (lv_at hl 1 rfl) ?_
        exact hr_iret C hQ (⟨by rw [hkn], hr_SX hS10⟩) hS10 (by first | exact Nat.le_of_ble_eq_true rfl | (simp only [rmX2_livingDescendants]; omega)) (by first | exact Nat.le_of_ble_eq_true rfl | (simp only [rmX2_livingDescendants]; omega)) dX2_livingDescendants_62
      · exact absurd hc (by simp [hkn])
    | succ r ih =>
      intro k ls H5 locs5 x9  hk hI5 hS5  hl
      have hk9 : k ≤ dt_n d := by omega
      refine lv_aload_n C.x C.b dX2_livingDescendants_10 rfl (lv_at hl 0 rfl) ?_
      refine hr_callF (CC := "java/util/ArrayList$Itr") (x := ⟨"java/util/Iterator", "hasNext", "()Z"⟩) (y := yJ3_hasNext) (lw_app (lw_in _ [206, 210, 212, 81] (by decide +kernel) (by decide +kernel)) (lw_meth q214)) (by decide +kernel) (n := 0) C (C.K.1 11 _ rfl).2 (hr_C.fw5 C (hr_inT _ [208, 207, 213, 211, 209] (by decide +kernel)) (by decide)) (mtJ3_hasNext Z (hP.1.x (hr_SX hS5)) hI5 hk9) (hI5.recv C rfl) ⟨Nat.le_of_ble_eq_true rfl, Nat.le_of_ble_eq_true rfl⟩ rfl hl.1 (Nat.le_of_ble_eq_true rfl) ⟨by first | exact Nat.le_of_ble_eq_true rfl | (simp only [rmX2_livingDescendants]; omega), by first | exact Nat.le_of_ble_eq_true rfl | (simp only [rmX2_livingDescendants]; omega)⟩ hS5 (hr_AN hAN hS5) dX2_livingDescendants_11 (rest := []) rfl
        (fun _ _ _ _ _ h => h.elim) (fun v20 H15 locs16 hp19 hF17 hS18 => ?_)
      obtain ⟨hv21, hH22⟩ := hp19; subst hv21; subst hH22
      refine W.eq (g2 := F0 m 16 ls [.int (hr_I (hr_t (decide (k < dt_n d))))]) rfl ?_
      have hkn : k < dt_n d := by omega
      refine hr_ifb_eq C (tgt := 61) dX2_livingDescendants_16 (by decide) (fun hc => ?_) (fun hc => ?_)
      · exact absurd hc (by simp [hkn])
      · refine lv_aload_n C.x C.b dX2_livingDescendants_19 rfl (lv_at hl 0 rfl) ?_
        refine hr_callF (CC := "java/util/ArrayList$Itr") (x := ⟨"java/util/Iterator", "next", "()Ljava/lang/Object;"⟩) (y := yJ3_next) (lw_app (lw_in _ [216, 219, 221, 81] (by decide +kernel) (by decide +kernel)) (lw_meth q223)) (by decide +kernel) (n := 0) C (C.K.1 11 _ rfl).2 (hr_C.fw5 C (hr_inT _ [218, 217, 222, 220, 209] (by decide +kernel)) (by decide)) (mtJ3_next Z (hP.1.x (hr_SX hS18)) hI5 hkn ((C.up hS).1)) (hI5.recv C rfl) ⟨Nat.le_of_ble_eq_true rfl, Nat.le_of_ble_eq_true rfl⟩ rfl hl.1 (Nat.le_of_ble_eq_true rfl) ⟨by first | exact Nat.le_of_ble_eq_true rfl | (simp only [rmX2_livingDescendants]; omega), by first | exact Nat.le_of_ble_eq_true rfl | (simp only [rmX2_livingDescendants]; omega)⟩ hS18 (fun q h => h.elim (fun e => by rw [e]; exact (Nat.le_refl _)) (fun h => hAN _ (Nat.le_trans hS18.1 h))) dX2_livingDescendants_20 (rest := []) rfl
          (fun _ _ _ _ _ h => h.elim) (fun v28 H23 locs24 hp27 hF25 hS26 => ?_)
        obtain ⟨rfl, ⟨x2, hI22⟩⟩ := hp27
        refine W.eq (g2 := F0 m 25 ls [.ref (ly_pa L k)]) rfl ?_
        refine va_castS C.x C.b C.ow (C.w _ q427) (C.K.1 3 _ rfl).2 (((hP.2.1 k hkn).x (hr_SX hS26)).recv C rfl) dX2_livingDescendants_25 ?_
        refine lv_astore (lv' := [(4, .ref (ly_pa L k)), (3, .ref H.size), (2, .int (hr_I (dt_cnt (fun k => dt_al d k && decide (i ∈ dt_up d k)) k : Int))), (0, .ref a), (1, .ref (ly_pa L i))]) C.x C.b dX2_livingDescendants_28 hl (by decide) rfl (fun ls hl => ?_)
        refine lv_iload_n C.x C.b dX2_livingDescendants_30 rfl (lv_at hl 2 rfl) ?_
        refine lv_aload C.x C.b dX2_livingDescendants_31 (lv_at hl 0 rfl) ?_
        refine hr_getN in_X4 (ci := 3) 3 q641 rfl rfl (by decide) C ((hP.2.1 k hkn).x (hr_SX hS26)) rfl dX2_livingDescendants_33 ?_
        refine hr_ifb_eq C (tgt := 52) dX2_livingDescendants_36 (by decide) (fun hc => ?_) (fun hc => ?_)
        · refine lv_iconst (v := hr_I 0) C.x C.b dX2_livingDescendants_52 (by decide) ?_
          have hz9 : (dt_al d k && decide (i ∈ dt_up d k)) = false := by rw [hc]; rfl
          refine hr_callSN (lw_meth q430) q76 q428 q429 (by decide +kernel) (n := 1) C (mtX1_asInt Z (t := false)) ⟨Nat.le_of_ble_eq_true rfl, Nat.le_of_ble_eq_true rfl⟩ rfl hl.1 (Nat.le_of_ble_eq_true rfl) ⟨by first | exact Nat.le_of_ble_eq_true rfl | (simp only [rmX2_livingDescendants]; omega), by first | exact Nat.le_of_ble_eq_true rfl | (simp only [rmX2_livingDescendants]; omega)⟩ hS26 (hr_AN hAN hS26) dX2_livingDescendants_53 (rest := [.int (hr_I (dt_cnt (fun k => dt_al d k && decide (i ∈ dt_up d k)) k : Int))]) rfl
            (fun _ _ _ _ _ h => h.elim) (fun v34 H29 locs30 hp33 hF31 hS32 => ?_)
          obtain ⟨hv35, hH36⟩ := hp33; subst hv35; subst hH36
          refine W.eq (g2 := F0 m 56 ls [.int (hr_I (hr_t false)), .int (hr_I (dt_cnt (fun k => dt_al d k && decide (i ∈ dt_up d k)) k : Int))]) rfl ?_
          rw [← hz9]
          refine t_iadd C.x C.b dX2_livingDescendants_56 (v := hr_I ((dt_cnt (fun k => dt_al d k && decide (i ∈ dt_up d k)) k : Int) + (hr_t (dt_al d k && decide (i ∈ dt_up d k))))) (hr_add _ _) ?_
          refine lv_istore_n (lv' := [(2, .int (hr_I ((dt_cnt (fun k => dt_al d k && decide (i ∈ dt_up d k)) k : Int) + (hr_t (dt_al d k && decide (i ∈ dt_up d k)))))), (4, .ref (ly_pa L k)), (3, .ref H.size), (0, .ref a), (1, .ref (ly_pa L i))]) C.x C.b dX2_livingDescendants_57 rfl hl (by decide) rfl (fun ls hl => ?_)
          have e937 : (dt_cnt (fun k => dt_al d k && decide (i ∈ dt_up d k)) k : Int) + (hr_t (dt_al d k && decide (i ∈ dt_up d k))) = ((dt_cnt (fun k => dt_al d k && decide (i ∈ dt_up d k)) (k + 1) : Nat) : Int) := dt_cnt_t (fun k => dt_al d k && decide (i ∈ dt_up d k)) k
          rw [e937] at hl
          refine lv_goto (tgt := 10) C.x C.b dX2_livingDescendants_58 (by decide) ?_
          exact ih (k + 1) ls _ _ _  (by omega) hI22 hS32  (lv_sub hl [2, 0, 3, 4] rfl)
        · refine lv_aload_n C.x C.b dX2_livingDescendants_39 rfl (lv_at hl 4 rfl) ?_
          refine lv_aload C.x C.b dX2_livingDescendants_40 (lv_at hl 0 rfl) ?_
          refine hr_callV (lw_V q523 q524 q525 q93 q526) (by decide +kernel) (n := 1) C (mtX4_isAncestorOf Z (hP.x (hr_SX hS26)) hV hi hkn) (((hP.2.1 i hi).x (hr_SX hS26)).recv C rfl) ⟨Nat.le_of_ble_eq_true rfl, Nat.le_of_ble_eq_true rfl⟩ rfl hl.1 (Nat.le_of_ble_eq_true rfl) ⟨by first | exact Nat.le_of_ble_eq_true rfl | (simp only [rmX2_livingDescendants]; omega), by first | exact Nat.le_of_ble_eq_true rfl | (simp only [rmX2_livingDescendants]; omega)⟩ hS26 (hr_AN hAN hS26) dX2_livingDescendants_42 (rest := [.int (hr_I (dt_cnt (fun k => dt_al d k && decide (i ∈ dt_up d k)) k : Int))]) rfl
            (fun _ _ _ _ _ h => h.elim) (fun v43 H38 locs39 hp42 hF40 hS41 => ?_)
          obtain ⟨hv44, hH45⟩ := hp42; subst hv44; subst hH45
          refine W.eq (g2 := F0 m 45 ls [.int (hr_I (hr_t (decide (i ∈ dt_up d k)))), .int (hr_I (dt_cnt (fun k => dt_al d k && decide (i ∈ dt_up d k)) k : Int))]) rfl ?_
          refine hr_ifb_eq C (tgt := 52) dX2_livingDescendants_45 (by decide) (fun hc8 => ?_) (fun hc8 => ?_)
          · refine lv_iconst (v := hr_I 0) C.x C.b dX2_livingDescendants_52 (by decide) ?_
            have hz9 : (dt_al d k && decide (i ∈ dt_up d k)) = false := by rw [hc, hc8]; rfl
            refine hr_callSN (lw_meth q430) q76 q428 q429 (by decide +kernel) (n := 1) C (mtX1_asInt Z (t := false)) ⟨Nat.le_of_ble_eq_true rfl, Nat.le_of_ble_eq_true rfl⟩ rfl hl.1 (Nat.le_of_ble_eq_true rfl) ⟨by first | exact Nat.le_of_ble_eq_true rfl | (simp only [rmX2_livingDescendants]; omega), by first | exact Nat.le_of_ble_eq_true rfl | (simp only [rmX2_livingDescendants]; omega)⟩ hS41 (hr_AN hAN hS41) dX2_livingDescendants_53 (rest := [.int (hr_I (dt_cnt (fun k => dt_al d k && decide (i ∈ dt_up d k)) k : Int))]) rfl
              (fun _ _ _ _ _ h => h.elim) (fun v51 H46 locs47 hp50 hF48 hS49 => ?_)
            obtain ⟨hv52, hH53⟩ := hp50; subst hv52; subst hH53
            refine W.eq (g2 := F0 m 56 ls [.int (hr_I (hr_t false)), .int (hr_I (dt_cnt (fun k => dt_al d k && decide (i ∈ dt_up d k)) k : Int))]) rfl ?_
            rw [← hz9]
            refine t_iadd C.x C.b dX2_livingDescendants_56 (v := hr_I ((dt_cnt (fun k => dt_al d k && decide (i ∈ dt_up d k)) k : Int) + (hr_t (dt_al d k && decide (i ∈ dt_up d k))))) (hr_add _ _) ?_
            refine lv_istore_n (lv' := [(2, .int (hr_I ((dt_cnt (fun k => dt_al d k && decide (i ∈ dt_up d k)) k : Int) + (hr_t (dt_al d k && decide (i ∈ dt_up d k)))))), (4, .ref (ly_pa L k)), (3, .ref H.size), (0, .ref a), (1, .ref (ly_pa L i))]) C.x C.b dX2_livingDescendants_57 rfl hl (by decide) rfl (fun ls hl => ?_)
            have e954 : (dt_cnt (fun k => dt_al d k && decide (i ∈ dt_up d k)) k : Int) + (hr_t (dt_al d k && decide (i ∈ dt_up d k))) = ((dt_cnt (fun k => dt_al d k && decide (i ∈ dt_up d k)) (k + 1) : Nat) : Int) := dt_cnt_t (fun k => dt_al d k && decide (i ∈ dt_up d k)) k
            rw [e954] at hl
            refine lv_goto (tgt := 10) C.x C.b dX2_livingDescendants_58 (by decide) ?_
            exact ih (k + 1) ls _ _ _  (by omega) hI22 hS49  (lv_sub hl [2, 0, 3, 4] rfl)
          · refine lv_iconst (v := hr_I 1) C.x C.b dX2_livingDescendants_48 (by decide) ?_
            refine lv_goto (tgt := 53) C.x C.b dX2_livingDescendants_49 (by decide) ?_
            have hz9 : (dt_al d k && decide (i ∈ dt_up d k)) = true := by rw [hc, hc8]; rfl
            refine hr_callSN (lw_meth q430) q76 q428 q429 (by decide +kernel) (n := 1) C (mtX1_asInt Z (t := true)) ⟨Nat.le_of_ble_eq_true rfl, Nat.le_of_ble_eq_true rfl⟩ rfl hl.1 (Nat.le_of_ble_eq_true rfl) ⟨by first | exact Nat.le_of_ble_eq_true rfl | (simp only [rmX2_livingDescendants]; omega), by first | exact Nat.le_of_ble_eq_true rfl | (simp only [rmX2_livingDescendants]; omega)⟩ hS41 (hr_AN hAN hS41) dX2_livingDescendants_53 (rest := [.int (hr_I (dt_cnt (fun k => dt_al d k && decide (i ∈ dt_up d k)) k : Int))]) rfl
              (fun _ _ _ _ _ h => h.elim) (fun v60 H55 locs56 hp59 hF57 hS58 => ?_)
            obtain ⟨hv61, hH62⟩ := hp59; subst hv61; subst hH62
            refine W.eq (g2 := F0 m 56 ls [.int (hr_I (hr_t true)), .int (hr_I (dt_cnt (fun k => dt_al d k && decide (i ∈ dt_up d k)) k : Int))]) rfl ?_
            rw [← hz9]
            refine t_iadd C.x C.b dX2_livingDescendants_56 (v := hr_I ((dt_cnt (fun k => dt_al d k && decide (i ∈ dt_up d k)) k : Int) + (hr_t (dt_al d k && decide (i ∈ dt_up d k))))) (hr_add _ _) ?_
            refine lv_istore_n (lv' := [(2, .int (hr_I ((dt_cnt (fun k => dt_al d k && decide (i ∈ dt_up d k)) k : Int) + (hr_t (dt_al d k && decide (i ∈ dt_up d k)))))), (4, .ref (ly_pa L k)), (3, .ref H.size), (0, .ref a), (1, .ref (ly_pa L i))]) C.x C.b dX2_livingDescendants_57 rfl hl (by decide) rfl (fun ls hl => ?_)
            have e963 : (dt_cnt (fun k => dt_al d k && decide (i ∈ dt_up d k)) k : Int) + (hr_t (dt_al d k && decide (i ∈ dt_up d k))) = ((dt_cnt (fun k => dt_al d k && decide (i ∈ dt_up d k)) (k + 1) : Nat) : Int) := dt_cnt_t (fun k => dt_al d k && decide (i ∈ dt_up d k)) k
            rw [e963] at hl
            refine lv_goto (tgt := 10) C.x C.b dX2_livingDescendants_58 (by decide) ?_
            exact ih (k + 1) ls _ _ _  (by omega) hI22 hS58  (lv_sub hl [2, 0, 3, 4] rfl)
  exact lp (dt_n d) 0 ls _ _ _  (Nat.zero_add _) hI0 hS4  (lv_sub hl [0, 1, 2, 3] rfl)

abbrev rmX2_commonAncestor : Room := { frames := 1, cells := 0, slots := 0, locals := 34 }
set_option maxHeartbeats 4000000 in
set_option maxRecDepth 100000 in
theorem mtX2_commonAncestor {l : Launch} {D : va_G} {s0 : State} (Z : hr_Z l D s0) {H : Heap} {a : Nat} {L : ly_T} {d : dt_T} (hD : hr_O D H a 1 (fs_D d L)) (hP : hr_pp D H L d) (hV : dt_VP d) {i : Nat} (hi : i < dt_n d) {j : Nat} (hj : j < dt_n d) : hr_M l s0 yX2_commonAncestor (ws_ yX2_commonAncestor cX2_commonAncestor 4 (Option.some (Jvm.ClassFile.FieldType.object "HabitRegistry$Person"))) rmX2_commonAncestor [.ref a, .ref (ly_pa L i), .ref (ly_pa L j)] H (hr_N H) (fun v H1 => v = some (va_rf ((dt_ca d i j).map (ly_pa L))) ∧ H = H1) hr_no := by
  refine hr_of Z (by decide) (Nat.le_of_ble_eq_true rfl) (fun _ h => Or.inr h) ?_
  intro p e s m args below meth c Q ls C hQ hin hnx hS hl
  have hAN : ∀ q, H.size ≤ q → (hr_N H) q := (fun _ h => h)
  have hl : lv_has ls 4 [(0, .ref a), (1, .ref (ly_pa L i)), (2, .ref (ly_pa L j))] := hl
  refine lv_aload_n C.x C.b dX2_commonAncestor_0 rfl (lv_at hl 1 rfl) ?_
  refine lv_astore_n (lv' := [(3, .ref (ly_pa L i)), (0, .ref a), (1, .ref (ly_pa L i)), (2, .ref (ly_pa L j))]) C.x C.b dX2_commonAncestor_1 rfl hl (by decide) rfl (fun ls hl => ?_)
  have lp : ∀ (k : Nat) (o : Option Nat) (ls : Array Slot) (locs : List Loc), va_S (hr_N H) H H locs → (dt_upo d o).length = k → (∀ x, o = some x → x < dt_n d) → dt_ca d i j = (dt_upo d o).find? (fun x => decide (x = j ∨ x ∈ dt_up d j)) → lv_has ls 4 [(3, va_rf (o.map (ly_pa L))), (0, .ref a), (1, .ref (ly_pa L i)), (2, .ref (ly_pa L j))] → W p l e rmX2_commonAncestor s m args below meth c H locs 0 0 Q (F0 m 2 ls []) := by
    intro k
    induction k with
    | zero =>
      intro o ls locs hS hk ho he hl
      cases o with
      | some j => exact absurd hk (by simp [dt_upo])
      | none =>
        refine lv_aload_nN C.x C.b dX2_commonAncestor_2 rfl (lv_at hl 0 rfl) ?_
        refine lv_ifnullN (tgt := 27) C.x C.b dX2_commonAncestor_3 (by decide) ?_
        refine lv_aload_nN C.x C.b dX2_commonAncestor_27 rfl (lv_at hl 0 rfl) ?_
        exact hr_aret (Or.inl ⟨_, rfl⟩) (Or.inl rfl) C hQ (⟨by rw [he]; rfl, rfl⟩) hS (by first | exact Nat.le_of_ble_eq_true rfl | (simp only [rmX2_commonAncestor]; omega)) (by first | exact Nat.le_of_ble_eq_true rfl | (simp only [rmX2_commonAncestor]; omega)) dX2_commonAncestor_28
    | succ k ih =>
      intro o ls locs hS hk ho he hl
      cases o with
      | none => exact absurd hk (by simp [dt_upo])
      | some t =>
        have ht := ho t rfl
        have hup : (dt_upo d (dt_pa d t)).length = k := by rw [← dt_up_eq hV ht]; simpa [dt_upo] using hk
        refine lv_aload_n C.x C.b dX2_commonAncestor_2 rfl (lv_at hl 0 rfl) ?_
        refine lv_ifnull C.x C.b dX2_commonAncestor_3 ?_
        refine lv_aload_n C.x C.b dX2_commonAncestor_6 rfl (lv_at hl 0 rfl) ?_
        refine lv_aload_n C.x C.b dX2_commonAncestor_7 rfl (lv_at hl 3 rfl) ?_
        refine hr_acmp_eq (x := some (ly_pa L t)) (y := some (ly_pa L j)) C (tgt := 27) dX2_commonAncestor_8 (by decide) (fun hc => ?_) (fun hc => ?_)
        · have htj : t = j := hP.inj hV.1 ht hj (Option.some.inj hc)
          refine lv_aload_n C.x C.b dX2_commonAncestor_27 rfl (lv_at hl 0 rfl) ?_
          exact hr_aret (Or.inl ⟨_, rfl⟩) (Or.inr ⟨_, rfl⟩) C hQ (⟨by rw [he]; simp only [dt_upo]; rw [List.find?_cons_of_pos (by simp [htj])]; rfl, rfl⟩) hS (by first | exact Nat.le_of_ble_eq_true rfl | (simp only [rmX2_commonAncestor]; omega)) (by first | exact Nat.le_of_ble_eq_true rfl | (simp only [rmX2_commonAncestor]; omega)) dX2_commonAncestor_28
        · have htj : t ≠ j := fun e => hc (by rw [e])
          refine lv_aload_n C.x C.b dX2_commonAncestor_11 rfl (lv_at hl 0 rfl) ?_
          refine lv_aload_n C.x C.b dX2_commonAncestor_12 rfl (lv_at hl 3 rfl) ?_
          refine hr_callV (lw_V q523 q524 q525 q93 q526) (by decide +kernel) (n := 1) C (mtX4_isAncestorOf Z hP hV ht hj) ((hP.2.1 t ht).recv C rfl) ⟨Nat.le_of_ble_eq_true rfl, Nat.le_of_ble_eq_true rfl⟩ rfl hl.1 (Nat.le_of_ble_eq_true rfl) ⟨by first | exact Nat.le_of_ble_eq_true rfl | (simp only [rmX2_commonAncestor]; omega), by first | exact Nat.le_of_ble_eq_true rfl | (simp only [rmX2_commonAncestor]; omega)⟩ hS (hr_AN hAN hS) dX2_commonAncestor_13 (rest := []) rfl
            (fun _ _ _ _ _ h => h.elim) (fun v6 H1 locs2 hp5 hF3 hS4 => ?_)
          obtain ⟨hv7, hH8⟩ := hp5; subst hv7; subst hH8
          refine W.eq (g2 := F0 m 16 ls [.int (hr_I (hr_t (decide (t ∈ dt_up d j))))]) rfl ?_
          refine hr_ifb_ne C (tgt := 27) dX2_commonAncestor_16 (by decide) (fun hc8 => ?_) (fun hc8 => ?_)
          · refine lv_aload_n C.x C.b dX2_commonAncestor_27 rfl (lv_at hl 0 rfl) ?_
            have hm9 := of_decide_eq_true hc8
            exact hr_aret (Or.inl ⟨_, rfl⟩) (Or.inr ⟨_, rfl⟩) C hQ (⟨by rw [he]; simp only [dt_upo]; rw [List.find?_cons_of_pos (by simp [hm9])]; rfl, rfl⟩) hS4 (by first | exact Nat.le_of_ble_eq_true rfl | (simp only [rmX2_commonAncestor]; omega)) (by first | exact Nat.le_of_ble_eq_true rfl | (simp only [rmX2_commonAncestor]; omega)) dX2_commonAncestor_28
          · refine lv_aload_n C.x C.b dX2_commonAncestor_19 rfl (lv_at hl 0 rfl) ?_
            refine hr_getN in_X4 (ci := 3) 1 q635 rfl rfl (by decide) C (hP.2.1 t ht) rfl dX2_commonAncestor_20 ?_
            refine hr_astore_no (lv' := [(3, va_rf ((dt_pa d t).map (ly_pa L))), (0, .ref a), (1, .ref (ly_pa L i)), (2, .ref (ly_pa L j))]) C.x C.b dX2_commonAncestor_23 rfl hl (by decide) rfl (fun ls hl => ?_)
            refine lv_goto (tgt := 2) C.x C.b dX2_commonAncestor_24 (by decide) ?_
            have hm9 := of_decide_eq_false hc8
            exact ih (dt_pa d t) ls _ hS4 hup (fun x hx => (dt_pa_lt hV ht hx).2) (by rw [he]; simp only [dt_upo]; rw [List.find?_cons_of_neg (by simp [hm9, htj]), dt_up_eq hV ht]; rfl) (lv_sub hl [0, 1, 2, 3] rfl)
  exact lp _ (some i) ls _ hS rfl (fun x hx => by cases hx; exact hi) rfl (lv_sub hl [0, 1, 2, 3] rfl)

abbrev rmX2_distance : Room := { frames := 2, cells := 0, slots := 0, locals := 57 }
set_option maxHeartbeats 4000000 in
set_option maxRecDepth 100000 in
theorem mtX2_distance {l : Launch} {D : va_G} {s0 : State} (Z : hr_Z l D s0) {H : Heap} {a : Nat} {L : ly_T} {d : dt_T} (hD : hr_O D H a 1 (fs_D d L)) (hP : hr_pp D H L d) (hV : dt_VP d) {i : Nat} (hi : i < dt_n d) {j : Nat} (hj : j < dt_n d) : hr_M l s0 yX2_distance (ws_ yX2_distance cX2_distance 4 (Option.some Jvm.ClassFile.FieldType.int)) rmX2_distance [.ref a, .ref (ly_pa L i), .ref (ly_pa L j)] H (hr_N H) (fun v H1 => v = some (.int (hr_I (dt_di d i j))) ∧ H = H1) hr_no := by
  refine hr_of Z (by decide) (Nat.le_of_ble_eq_true rfl) (fun _ h => Or.inr h) ?_
  intro p e s m args below meth c Q ls C hQ hin hnx hS hl
  have hAN : ∀ q, H.size ≤ q → (hr_N H) q := (fun _ h => h)
  have hl : lv_has ls 4 [(0, .ref a), (1, .ref (ly_pa L i)), (2, .ref (ly_pa L j))] := hl
  refine lv_aload_n C.x C.b dX2_distance_0 rfl (lv_at hl 0 rfl) ?_
  refine lv_aload_n C.x C.b dX2_distance_1 rfl (lv_at hl 1 rfl) ?_
  refine lv_aload_n C.x C.b dX2_distance_2 rfl (lv_at hl 2 rfl) ?_
  refine hr_callV (lw_V q519 q520 q521 q77 q522) (by decide +kernel) (n := 2) C (mtX2_commonAncestor Z hD hP hV hi hj) (hD.recv C rfl) ⟨Nat.le_of_ble_eq_true rfl, Nat.le_of_ble_eq_true rfl⟩ rfl hl.1 (Nat.le_of_ble_eq_true rfl) ⟨by first | exact Nat.le_of_ble_eq_true rfl | (simp only [rmX2_distance]; omega), by first | exact Nat.le_of_ble_eq_true rfl | (simp only [rmX2_distance]; omega)⟩ hS (hr_AN hAN hS) dX2_distance_3 (rest := []) rfl
    (fun _ _ _ _ _ h => h.elim) (fun v6 H1 locs2 hp5 hF3 hS4 => ?_)
  obtain ⟨hv7, hH8⟩ := hp5; subst hv7; subst hH8
  refine W.eq (g2 := F0 m 6 ls [va_rf ((dt_ca d i j).map (ly_pa L))]) rfl ?_
  cases hca : dt_ca d i j with
  | none =>
    show W p l e rmX2_distance s m args below meth c H locs2 (0 + 0) (0 + 0) Q (F0 m 6 ls [.null])
    refine lv_astore_nN (lv' := [(3, .null), (0, .ref a), (1, .ref (ly_pa L i)), (2, .ref (ly_pa L j))]) C.x C.b dX2_distance_6 rfl hl (by decide) rfl (fun ls hl => ?_)
    refine lv_aload_nN C.x C.b dX2_distance_7 rfl (lv_at hl 0 rfl) ?_
    refine lv_ifnonnullN C.x C.b dX2_distance_8 ?_
    refine lv_iconst (v := hr_I (-1)) C.x C.b dX2_distance_11 (by decide) ?_
    refine lv_goto (tgt := 31) C.x C.b dX2_distance_12 (by decide) ?_
    exact hr_iret C hQ (⟨by unfold dt_di; rw [hca], rfl⟩) hS4 (by first | exact Nat.le_of_ble_eq_true rfl | (simp only [rmX2_distance]; omega)) (by first | exact Nat.le_of_ble_eq_true rfl | (simp only [rmX2_distance]; omega)) dX2_distance_31
  | some ch =>
    show W p l e rmX2_distance s m args below meth c H locs2 (0 + 0) (0 + 0) Q (F0 m 6 ls [.ref (ly_pa L ch)])
    have hch := dt_ca_lt hV hi hca
    refine lv_astore_n (lv' := [(3, .ref (ly_pa L ch)), (0, .ref a), (1, .ref (ly_pa L i)), (2, .ref (ly_pa L j))]) C.x C.b dX2_distance_6 rfl hl (by decide) rfl (fun ls hl => ?_)
    refine lv_aload_n C.x C.b dX2_distance_7 rfl (lv_at hl 0 rfl) ?_
    refine lv_ifnonnull (tgt := 15) C.x C.b dX2_distance_8 (by decide) ?_
    refine lv_aload_n C.x C.b dX2_distance_15 rfl (lv_at hl 2 rfl) ?_
    refine hr_callV (lw_V q309 q310 q311 q93 q312) (by decide +kernel) (n := 0) C (mtX4_generation Z hP hV hi) ((hP.2.1 i hi).recv C rfl) ⟨Nat.le_of_ble_eq_true rfl, Nat.le_of_ble_eq_true rfl⟩ rfl hl.1 (Nat.le_of_ble_eq_true rfl) ⟨by first | exact Nat.le_of_ble_eq_true rfl | (simp only [rmX2_distance]; omega), by first | exact Nat.le_of_ble_eq_true rfl | (simp only [rmX2_distance]; omega)⟩ hS4 (hr_AN hAN hS4) dX2_distance_16 (rest := []) rfl
      (fun _ _ _ _ _ h => h.elim) (fun v14 H9 locs10 hp13 hF11 hS12 => ?_)
    obtain ⟨hv15, hH16⟩ := hp13; subst hv15; subst hH16
    refine W.eq (g2 := F0 m 19 ls [.int (hr_I (dt_gen d i : Int))]) rfl ?_
    refine lv_aload_n C.x C.b dX2_distance_19 rfl (lv_at hl 3 rfl) ?_
    refine hr_callV (lw_V q309 q310 q311 q93 q312) (by decide +kernel) (n := 0) C (mtX4_generation Z hP hV hj) ((hP.2.1 j hj).recv C rfl) ⟨Nat.le_of_ble_eq_true rfl, Nat.le_of_ble_eq_true rfl⟩ rfl hl.1 (Nat.le_of_ble_eq_true rfl) ⟨by first | exact Nat.le_of_ble_eq_true rfl | (simp only [rmX2_distance]; omega), by first | exact Nat.le_of_ble_eq_true rfl | (simp only [rmX2_distance]; omega)⟩ hS12 (hr_AN hAN hS12) dX2_distance_20 (rest := [.int (hr_I (dt_gen d i : Int))]) rfl
      (fun _ _ _ _ _ h => h.elim) (fun v22 H17 locs18 hp21 hF19 hS20 => ?_)
    obtain ⟨hv23, hH24⟩ := hp21; subst hv23; subst hH24
    refine W.eq (g2 := F0 m 23 ls [.int (hr_I (dt_gen d j : Int)), .int (hr_I (dt_gen d i : Int))]) rfl ?_
    refine t_iadd C.x C.b dX2_distance_23 (v := hr_I ((dt_gen d i : Int) + (dt_gen d j : Int))) (hr_add _ _) ?_
    refine lv_iconst (v := hr_I 2) C.x C.b dX2_distance_24 (by decide) ?_
    refine lv_aload_n C.x C.b dX2_distance_25 rfl (lv_at hl 0 rfl) ?_
    refine hr_callV (lw_V q309 q310 q311 q93 q312) (by decide +kernel) (n := 0) C (mtX4_generation Z hP hV hch) ((hP.2.1 ch hch).recv C rfl) ⟨Nat.le_of_ble_eq_true rfl, Nat.le_of_ble_eq_true rfl⟩ rfl hl.1 (Nat.le_of_ble_eq_true rfl) ⟨by first | exact Nat.le_of_ble_eq_true rfl | (simp only [rmX2_distance]; omega), by first | exact Nat.le_of_ble_eq_true rfl | (simp only [rmX2_distance]; omega)⟩ hS20 (hr_AN hAN hS20) dX2_distance_26 (rest := [.int (hr_I 2), .int (hr_I ((dt_gen d i : Int) + (dt_gen d j : Int)))]) rfl
      (fun _ _ _ _ _ h => h.elim) (fun v30 H25 locs26 hp29 hF27 hS28 => ?_)
    obtain ⟨hv31, hH32⟩ := hp29; subst hv31; subst hH32
    refine W.eq (g2 := F0 m 29 ls [.int (hr_I (dt_gen d ch : Int)), .int (hr_I 2), .int (hr_I ((dt_gen d i : Int) + (dt_gen d j : Int)))]) rfl ?_
    refine t_imul C.x C.b dX2_distance_29 (v := hr_I (2 * (dt_gen d ch : Int))) (hr_mul _ _) ?_
    refine t_isub C.x C.b dX2_distance_30 (v := hr_I ((dt_gen d i : Int) + (dt_gen d j : Int) - (2 * (dt_gen d ch : Int)))) (hr_sub _ _) ?_
    exact hr_iret C hQ (⟨by unfold dt_di; rw [hca], rfl⟩) hS28 (by first | exact Nat.le_of_ble_eq_true rfl | (simp only [rmX2_distance]; omega)) (by first | exact Nat.le_of_ble_eq_true rfl | (simp only [rmX2_distance]; omega)) dX2_distance_31

abbrev rmX2_directHeir : Room := { frames := 20, cells := 0, slots := 0, locals := 508 }
set_option maxHeartbeats 4000000 in
set_option maxRecDepth 100000 in
theorem mtX2_directHeir {l : Launch} {D : va_G} {s0 : State} (Z : hr_Z l D s0) {H : Heap} {a : Nat} {L : ly_T} {d : dt_T} (hD : hr_O D H a 1 (fs_D d L)) (hP : hr_pp D H L d) (hV : dt_VP d) {i : Nat} (hi : i < dt_n d) : hr_M l s0 yX2_directHeir (ws_ yX2_directHeir cX2_directHeir 2 (Option.some (Jvm.ClassFile.FieldType.object "HabitRegistry$Person"))) rmX2_directHeir [.ref a, .ref (ly_pa L i)] H (hr_N H) (fun v H1 => v = some (va_rf ((dt_fl d none i).map (ly_pa L))) ∧ H = H1) hr_no := by
  refine hr_of Z (by decide) (Nat.le_of_ble_eq_true rfl) (fun _ h => Or.inr h) ?_
  intro p e s m args below meth c Q ls C hQ hin hnx hS hl
  have hAN : ∀ q, H.size ≤ q → (hr_N H) q := (fun _ h => h)
  have hl : lv_has ls 2 [(0, .ref a), (1, .ref (ly_pa L i))] := hl
  refine lv_aload_n C.x C.b dX2_directHeir_0 rfl (lv_at hl 1 rfl) ?_
  refine lv_null C.x C.b dX2_directHeir_1 ?_
  refine hr_callV (lw_V q487 q488 q489 q93 q490) (by decide +kernel) (n := 1) C (mtX4_firstLiving Z hP hV (ex := none) (fun x hx => nomatch hx) hi) ((hP.2.1 i hi).recv C rfl) ⟨Nat.le_of_ble_eq_true rfl, Nat.le_of_ble_eq_true rfl⟩ rfl hl.1 (Nat.le_of_ble_eq_true rfl) ⟨by first | exact Nat.le_of_ble_eq_true rfl | (simp only [rmX2_directHeir]; omega), by first | exact Nat.le_of_ble_eq_true rfl | (simp only [rmX2_directHeir]; omega)⟩ hS (hr_AN hAN hS) dX2_directHeir_2 (rest := []) rfl
    (fun _ _ _ _ _ h => h.elim) (fun v6 H1 locs2 hp5 hF3 hS4 => ?_)
  obtain ⟨hv7, hH8⟩ := hp5; subst hv7; subst hH8
  refine W.eq (g2 := F0 m 5 ls [va_rf ((dt_fl d none i).map (ly_pa L))]) rfl ?_
  exact hr_aret (Or.inl ⟨_, rfl⟩) (hr_rv _) C hQ (⟨rfl, rfl⟩) hS4 (by first | exact Nat.le_of_ble_eq_true rfl | (simp only [rmX2_directHeir]; omega)) (by first | exact Nat.le_of_ble_eq_true rfl | (simp only [rmX2_directHeir]; omega)) dX2_directHeir_5

abbrev rmX2_ascent : Room := { frames := 2, cells := 0, slots := 0, locals := 57 }
set_option maxHeartbeats 4000000 in
set_option maxRecDepth 100000 in
theorem mtX2_ascent {l : Launch} {D : va_G} {s0 : State} (Z : hr_Z l D s0) {H : Heap} {a : Nat} {L : ly_T} {d : dt_T} (hD : hr_O D H a 1 (fs_D d L)) (hP : hr_pp D H L d) (hV : dt_VP d) {i : Nat} (hi : i < dt_n d) {j : Nat} (hj : j < dt_n d) (hcs : (dt_ca d i j).isSome) : hr_M l s0 yX2_ascent (ws_ yX2_ascent cX2_ascent 3 (Option.some Jvm.ClassFile.FieldType.int)) rmX2_ascent [.ref a, .ref (ly_pa L i), .ref (ly_pa L j)] H (hr_N H) (fun v H1 => v = some (.int (hr_I (dt_as d i j))) ∧ H = H1) hr_no := by
  refine hr_of Z (by decide) (Nat.le_of_ble_eq_true rfl) (fun _ h => Or.inr h) ?_
  intro p e s m args below meth c Q ls C hQ hin hnx hS hl
  have hAN : ∀ q, H.size ≤ q → (hr_N H) q := (fun _ h => h)
  have hl : lv_has ls 3 [(0, .ref a), (1, .ref (ly_pa L i)), (2, .ref (ly_pa L j))] := hl
  refine lv_aload_n C.x C.b dX2_ascent_0 rfl (lv_at hl 1 rfl) ?_
  refine hr_callV (lw_V q309 q310 q311 q93 q312) (by decide +kernel) (n := 0) C (mtX4_generation Z hP hV hi) ((hP.2.1 i hi).recv C rfl) ⟨Nat.le_of_ble_eq_true rfl, Nat.le_of_ble_eq_true rfl⟩ rfl hl.1 (Nat.le_of_ble_eq_true rfl) ⟨by first | exact Nat.le_of_ble_eq_true rfl | (simp only [rmX2_ascent]; omega), by first | exact Nat.le_of_ble_eq_true rfl | (simp only [rmX2_ascent]; omega)⟩ hS (hr_AN hAN hS) dX2_ascent_1 (rest := []) rfl
    (fun _ _ _ _ _ h => h.elim) (fun v6 H1 locs2 hp5 hF3 hS4 => ?_)
  obtain ⟨hv7, hH8⟩ := hp5; subst hv7; subst hH8
  refine W.eq (g2 := F0 m 4 ls [.int (hr_I (dt_gen d i : Int))]) rfl ?_
  refine lv_aload_n C.x C.b dX2_ascent_4 rfl (lv_at hl 0 rfl) ?_
  refine lv_aload_n C.x C.b dX2_ascent_5 rfl (lv_at hl 1 rfl) ?_
  refine lv_aload_n C.x C.b dX2_ascent_6 rfl (lv_at hl 2 rfl) ?_
  refine hr_callV (lw_V q519 q520 q521 q77 q522) (by decide +kernel) (n := 2) C (mtX2_commonAncestor Z hD hP hV hi hj) (hD.recv C rfl) ⟨Nat.le_of_ble_eq_true rfl, Nat.le_of_ble_eq_true rfl⟩ rfl hl.1 (Nat.le_of_ble_eq_true rfl) ⟨by first | exact Nat.le_of_ble_eq_true rfl | (simp only [rmX2_ascent]; omega), by first | exact Nat.le_of_ble_eq_true rfl | (simp only [rmX2_ascent]; omega)⟩ hS4 (hr_AN hAN hS4) dX2_ascent_7 (rest := [.int (hr_I (dt_gen d i : Int))]) rfl
    (fun _ _ _ _ _ h => h.elim) (fun v14 H9 locs10 hp13 hF11 hS12 => ?_)
  obtain ⟨hv15, hH16⟩ := hp13; subst hv15; subst hH16
  refine W.eq (g2 := F0 m 10 ls [va_rf ((dt_ca d i j).map (ly_pa L)), .int (hr_I (dt_gen d i : Int))]) rfl ?_
  obtain ⟨ch, hca⟩ := Option.isSome_iff_exists.mp hcs
  have hch := dt_ca_lt hV hi hca
  rw [hca]
  show W p l e rmX2_ascent s m args below meth c H locs10 (0 + 0 + 0) (0 + 0 + 0) Q (F0 m 10 ls [.ref (ly_pa L ch), .int (hr_I (dt_gen d i : Int))])
  refine hr_callV (lw_V q309 q310 q311 q93 q312) (by decide +kernel) (n := 0) C (mtX4_generation Z hP hV hch) ((hP.2.1 ch hch).recv C rfl) ⟨Nat.le_of_ble_eq_true rfl, Nat.le_of_ble_eq_true rfl⟩ rfl hl.1 (Nat.le_of_ble_eq_true rfl) ⟨by first | exact Nat.le_of_ble_eq_true rfl | (simp only [rmX2_ascent]; omega), by first | exact Nat.le_of_ble_eq_true rfl | (simp only [rmX2_ascent]; omega)⟩ hS12 (hr_AN hAN hS12) dX2_ascent_10 (rest := [.int (hr_I (dt_gen d i : Int))]) rfl
    (fun _ _ _ _ _ h => h.elim) (fun v22 H17 locs18 hp21 hF19 hS20 => ?_)
  obtain ⟨hv23, hH24⟩ := hp21; subst hv23; subst hH24
  refine W.eq (g2 := F0 m 13 ls [.int (hr_I (dt_gen d ch : Int)), .int (hr_I (dt_gen d i : Int))]) rfl ?_
  refine t_isub C.x C.b dX2_ascent_13 (v := hr_I ((dt_gen d i : Int) - (dt_gen d ch : Int))) (hr_sub _ _) ?_
  exact hr_iret C hQ (⟨by unfold dt_as; rw [hca], rfl⟩) hS20 (by first | exact Nat.le_of_ble_eq_true rfl | (simp only [rmX2_ascent]; omega)) (by first | exact Nat.le_of_ble_eq_true rfl | (simp only [rmX2_ascent]; omega)) dX2_ascent_14

abbrev rmX2_heir : Room := { frames := 21, cells := 0, slots := 0, locals := 529 }
set_option maxHeartbeats 4000000 in
set_option maxRecDepth 100000 in
theorem mtX2_heir {l : Launch} {D : va_G} {s0 : State} (Z : hr_Z l D s0) {H : Heap} {a : Nat} {L : ly_T} {d : dt_T} (hD : hr_O D H a 1 (fs_D d L)) (hP : hr_pp D H L d) (hV : dt_VP d) {i : Nat} (hi : i < dt_n d) : hr_M l s0 yX2_heir (ws_ yX2_heir cX2_heir 4 (Option.some (Jvm.ClassFile.FieldType.object "HabitRegistry$Person"))) rmX2_heir [.ref a, .ref (ly_pa L i)] H (hr_N H) (fun v H1 => v = some (va_rf ((dt_he d i).map (ly_pa L))) ∧ H = H1) hr_no := by
  refine hr_of Z (by decide) (Nat.le_of_ble_eq_true rfl) (fun _ h => Or.inr h) ?_
  intro p e s m args below meth c Q ls C hQ hin hnx hS hl
  have hAN : ∀ q, H.size ≤ q → (hr_N H) q := (fun _ h => h)
  have hl : lv_has ls 4 [(0, .ref a), (1, .ref (ly_pa L i))] := hl
  refine lv_aload_n C.x C.b dX2_heir_0 rfl (lv_at hl 0 rfl) ?_
  refine lv_aload_n C.x C.b dX2_heir_1 rfl (lv_at hl 1 rfl) ?_
  refine hr_callV (lw_V q483 q484 q485 q77 q486) (by decide +kernel) (n := 1) C (mtX2_directHeir Z hD hP hV hi) (hD.recv C rfl) ⟨Nat.le_of_ble_eq_true rfl, Nat.le_of_ble_eq_true rfl⟩ rfl hl.1 (Nat.le_of_ble_eq_true rfl) ⟨by first | exact Nat.le_of_ble_eq_true rfl | (simp only [rmX2_heir]; omega), by first | exact Nat.le_of_ble_eq_true rfl | (simp only [rmX2_heir]; omega)⟩ hS (hr_AN hAN hS) dX2_heir_2 (rest := []) rfl
    (fun _ _ _ _ _ h => h.elim) (fun v6 H1 locs2 hp5 hF3 hS4 => ?_)
  obtain ⟨hv7, hH8⟩ := hp5; subst hv7; subst hH8
  refine W.eq (g2 := F0 m 5 ls [va_rf ((dt_fl d none i).map (ly_pa L))]) rfl ?_
  refine hr_astore_no (lv' := [(2, va_rf ((dt_fl d none i).map (ly_pa L))), (0, .ref a), (1, .ref (ly_pa L i))]) C.x C.b dX2_heir_5 rfl hl (by decide) rfl (fun ls hl => ?_)
  refine lv_aload_n C.x C.b dX2_heir_6 rfl (lv_at hl 2 rfl) ?_
  refine hr_getN in_X4 (ci := 3) 1 q635 rfl rfl (by decide) C (hP.2.1 i hi) rfl dX2_heir_7 ?_
  refine hr_astore_no (lv' := [(3, va_rf ((dt_pa d i).map (ly_pa L))), (2, va_rf ((dt_fl d none i).map (ly_pa L))), (0, .ref a), (1, .ref (ly_pa L i))]) C.x C.b dX2_heir_10 rfl hl (by decide) (by cases (dt_fl d none i) <;> rfl) (fun ls hl => ?_)
  have lp : ∀ (k : Nat) (x o : Option Nat) (ls : Array Slot) (locs : List Loc), va_S (hr_N H) H H locs → (dt_upo d o).length = k → (∀ y, o = some y → y < dt_n d) → dt_he d i = x.or ((dt_upo d o).findSome? (fun y => if dt_al d y = true then some y else dt_fl d (some i) y)) → lv_has ls 4 [(3, va_rf (o.map (ly_pa L))), (2, va_rf (x.map (ly_pa L))), (0, .ref a), (1, .ref (ly_pa L i))] → W p l e rmX2_heir s m args below meth c H locs (0 + 0) (0 + 0) Q (F0 m 11 ls []) := by
    intro k
    induction k with
    | zero =>
      intro x o ls locs hS hk ho he hl
      cases o with
      | some j => exact absurd hk (by simp [dt_upo])
      | none =>
        refine lv_aload_nN C.x C.b dX2_heir_11 rfl (lv_at hl 0 rfl) ?_
        refine lv_ifnullN (tgt := 44) C.x C.b dX2_heir_12 (by decide) ?_
        refine hr_aload_no C.x C.b dX2_heir_44 rfl (lv_at hl 1 rfl) ?_
        exact hr_aret (Or.inl ⟨_, rfl⟩) (hr_rv _) C hQ (⟨by rw [he]; simp [dt_upo], rfl⟩) hS (by first | exact Nat.le_of_ble_eq_true rfl | (simp only [rmX2_heir]; omega)) (by first | exact Nat.le_of_ble_eq_true rfl | (simp only [rmX2_heir]; omega)) dX2_heir_45
    | succ k ih =>
      intro x o ls locs hS hk ho he hl
      cases o with
      | none => exact absurd hk (by simp [dt_upo])
      | some t =>
        have ht := ho t rfl
        have hup : (dt_upo d (dt_pa d t)).length = k := by rw [← dt_up_eq hV ht]; simpa [dt_upo] using hk
        cases x with
        | some z =>
          refine lv_aload_n C.x C.b dX2_heir_11 rfl (lv_at hl 0 rfl) ?_
          refine lv_ifnull C.x C.b dX2_heir_12 ?_
          refine lv_aload_n C.x C.b dX2_heir_15 rfl (lv_at hl 1 rfl) ?_
          refine lv_ifnonnull (tgt := 44) C.x C.b dX2_heir_16 (by decide) ?_
          refine lv_aload_n C.x C.b dX2_heir_44 rfl (lv_at hl 1 rfl) ?_
          exact hr_aret (Or.inl ⟨_, rfl⟩) (Or.inr ⟨_, rfl⟩) C hQ (⟨by rw [he]; rfl, rfl⟩) hS (by first | exact Nat.le_of_ble_eq_true rfl | (simp only [rmX2_heir]; omega)) (by first | exact Nat.le_of_ble_eq_true rfl | (simp only [rmX2_heir]; omega)) dX2_heir_45
        | none =>
          have he2 : dt_he d i = (if dt_al d t = true then some t else dt_fl d (some i) t).or ((dt_upo d (dt_pa d t)).findSome? (fun y => if dt_al d y = true then some y else dt_fl d (some i) y)) := by
            rw [he, ← dt_up_eq hV ht]; simp only [dt_upo, Option.none_or, List.findSome?_cons]; cases (if dt_al d t = true then some t else dt_fl d (some i) t) <;> rfl
          refine lv_aload_n C.x C.b dX2_heir_11 rfl (lv_at hl 0 rfl) ?_
          refine lv_ifnull C.x C.b dX2_heir_12 ?_
          refine lv_aload_nN C.x C.b dX2_heir_15 rfl (lv_at hl 1 rfl) ?_
          refine lv_ifnonnullN C.x C.b dX2_heir_16 ?_
          refine lv_aload_n C.x C.b dX2_heir_19 rfl (lv_at hl 0 rfl) ?_
          refine hr_getN in_X4 (ci := 3) 3 q641 rfl rfl (by decide) C (hP.2.1 t ht) rfl dX2_heir_20 ?_
          refine hr_ifb_eq C (tgt := 30) dX2_heir_23 (by decide) (fun hc => ?_) (fun hc => ?_)
          · refine lv_aload_n C.x C.b dX2_heir_30 rfl (lv_at hl 0 rfl) ?_
            refine lv_aload_n C.x C.b dX2_heir_31 rfl (lv_at hl 3 rfl) ?_
            refine hr_callV (lw_V q487 q488 q489 q93 q490) (by decide +kernel) (n := 1) C (mtX4_firstLiving Z hP hV (ex := some i) (fun x hx => by cases hx; exact hi) ht) ((hP.2.1 t ht).recv C rfl) ⟨Nat.le_of_ble_eq_true rfl, Nat.le_of_ble_eq_true rfl⟩ rfl hl.1 (Nat.le_of_ble_eq_true rfl) ⟨by first | exact Nat.le_of_ble_eq_true rfl | (simp only [rmX2_heir]; omega), by first | exact Nat.le_of_ble_eq_true rfl | (simp only [rmX2_heir]; omega)⟩ hS (hr_AN hAN hS) dX2_heir_32 (rest := []) rfl
              (fun _ _ _ _ _ h => h.elim) (fun v14 H9 locs10 hp13 hF11 hS12 => ?_)
            obtain ⟨hv15, hH16⟩ := hp13; subst hv15; subst hH16
            refine W.eq (g2 := F0 m 35 ls [va_rf ((dt_fl d (some i) t).map (ly_pa L))]) rfl ?_
            refine hr_astore_no (lv' := [(2, va_rf ((dt_fl d (some i) t).map (ly_pa L))), (3, .ref (ly_pa L t)), (0, .ref a), (1, .ref (ly_pa L i))]) C.x C.b dX2_heir_35 rfl hl (by decide) rfl (fun ls hl => ?_)
            refine lv_aload_n C.x C.b dX2_heir_36 rfl (lv_at hl 1 rfl) ?_
            refine hr_getN in_X4 (ci := 3) 1 q635 rfl rfl (by decide) C (hP.2.1 t ht) rfl dX2_heir_37 ?_
            refine hr_astore_no (lv' := [(3, va_rf ((dt_pa d t).map (ly_pa L))), (2, va_rf ((dt_fl d (some i) t).map (ly_pa L))), (0, .ref a), (1, .ref (ly_pa L i))]) C.x C.b dX2_heir_40 rfl hl (by decide) (by cases (dt_fl d (some i) t) <;> rfl) (fun ls hl => ?_)
            refine lv_goto (tgt := 11) C.x C.b dX2_heir_41 (by decide) ?_
            exact ih (dt_fl d (some i) t) (dt_pa d t) ls _ hS12 hup (fun x hx => (dt_pa_lt hV ht hx).2) (by rw [he2, if_neg (by simp [hc])]) (lv_sub hl [0, 1, 2, 3] rfl)
          · refine lv_aload_n C.x C.b dX2_heir_26 rfl (lv_at hl 0 rfl) ?_
            refine lv_goto (tgt := 35) C.x C.b dX2_heir_27 (by decide) ?_
            refine lv_astore_n (lv' := [(2, .ref (ly_pa L t)), (3, .ref (ly_pa L t)), (0, .ref a), (1, .ref (ly_pa L i))]) C.x C.b dX2_heir_35 rfl hl (by decide) rfl (fun ls hl => ?_)
            refine lv_aload_n C.x C.b dX2_heir_36 rfl (lv_at hl 1 rfl) ?_
            refine hr_getN in_X4 (ci := 3) 1 q635 rfl rfl (by decide) C (hP.2.1 t ht) rfl dX2_heir_37 ?_
            refine hr_astore_no (lv' := [(3, va_rf ((dt_pa d t).map (ly_pa L))), (2, .ref (ly_pa L t)), (0, .ref a), (1, .ref (ly_pa L i))]) C.x C.b dX2_heir_40 rfl hl (by decide) rfl (fun ls hl => ?_)
            refine lv_goto (tgt := 11) C.x C.b dX2_heir_41 (by decide) ?_
            exact ih (some t) (dt_pa d t) ls _ hS hup (fun x hx => (dt_pa_lt hV ht hx).2) (by rw [he2, if_pos hc]) (lv_sub hl [0, 1, 2, 3] rfl)
  exact lp _ (dt_fl d none i) (dt_pa d i) ls _ hS4 rfl (fun x hx => (dt_pa_lt hV hi hx).2) (by unfold dt_he; rw [dt_up_eq hV hi]) (lv_sub hl [0, 1, 2, 3] rfl)

abbrev rmX2_succeedsBefore : Room := { frames := 2, cells := 0, slots := 0, locals := 57 }
set_option maxHeartbeats 4000000 in
set_option maxRecDepth 100000 in
theorem mtX2_succeedsBefore {l : Launch} {D : va_G} {s0 : State} (Z : hr_Z l D s0) {H : Heap} {a : Nat} {L : ly_T} {d : dt_T} (hD : hr_O D H a 1 (fs_D d L)) (hP : hr_pp D H L d) (hV : dt_VP d) {i : Nat} (hi : i < dt_n d) {j : Nat} (hj : j < dt_n d) (hcs : (dt_ca d i j).isSome) : hr_M l s0 yX2_succeedsBefore (ws_ yX2_succeedsBefore cX2_succeedsBefore 4 (Option.some Jvm.ClassFile.FieldType.boolean)) rmX2_succeedsBefore [.ref a, .ref (ly_pa L i), .ref (ly_pa L j)] H (hr_N H) (fun v H1 => v = some (.int (hr_I (hr_t (dt_sb d i j)))) ∧ H = H1) hr_no := by
  refine hr_of Z (by decide) (Nat.le_of_ble_eq_true rfl) (fun _ h => Or.inr h) ?_
  intro p e s m args below meth c Q ls C hQ hin hnx hS hl
  have hAN : ∀ q, H.size ≤ q → (hr_N H) q := (fun _ h => h)
  have hl : lv_has ls 4 [(0, .ref a), (1, .ref (ly_pa L i)), (2, .ref (ly_pa L j))] := hl
  refine lv_aload_n C.x C.b dX2_succeedsBefore_0 rfl (lv_at hl 0 rfl) ?_
  refine lv_aload_n C.x C.b dX2_succeedsBefore_1 rfl (lv_at hl 1 rfl) ?_
  refine lv_aload_n C.x C.b dX2_succeedsBefore_2 rfl (lv_at hl 2 rfl) ?_
  refine hr_callV (lw_V q519 q520 q521 q77 q522) (by decide +kernel) (n := 2) C (mtX2_commonAncestor Z hD hP hV hi hj) (hD.recv C rfl) ⟨Nat.le_of_ble_eq_true rfl, Nat.le_of_ble_eq_true rfl⟩ rfl hl.1 (Nat.le_of_ble_eq_true rfl) ⟨by first | exact Nat.le_of_ble_eq_true rfl | (simp only [rmX2_succeedsBefore]; omega), by first | exact Nat.le_of_ble_eq_true rfl | (simp only [rmX2_succeedsBefore]; omega)⟩ hS (hr_AN hAN hS) dX2_succeedsBefore_3 (rest := []) rfl
    (fun _ _ _ _ _ h => h.elim) (fun v6 H1 locs2 hp5 hF3 hS4 => ?_)
  obtain ⟨hv7, hH8⟩ := hp5; subst hv7; subst hH8
  refine W.eq (g2 := F0 m 6 ls [va_rf ((dt_ca d i j).map (ly_pa L))]) rfl ?_
  obtain ⟨ch, hca⟩ := Option.isSome_iff_exists.mp hcs
  have hch := dt_ca_lt hV hi hca
  rw [hca]
  show W p l e rmX2_succeedsBefore s m args below meth c H locs2 (0 + 0) (0 + 0) Q (F0 m 6 ls [.ref (ly_pa L ch)])
  have hsb : dt_sb d i j = if ch = i ∨ ch = j then decide (i ≠ j ∧ ch = i) else decide (dt_bb d ch i < dt_bb d ch j) := by unfold dt_sb; simp [hca]
  refine lv_astore_n (lv' := [(3, .ref (ly_pa L ch)), (0, .ref a), (1, .ref (ly_pa L i)), (2, .ref (ly_pa L j))]) C.x C.b dX2_succeedsBefore_6 rfl hl (by decide) rfl (fun ls hl => ?_)
  refine lv_aload_n C.x C.b dX2_succeedsBefore_7 rfl (lv_at hl 0 rfl) ?_
  refine lv_aload_n C.x C.b dX2_succeedsBefore_8 rfl (lv_at hl 2 rfl) ?_
  refine hr_acmp_eq (x := some (ly_pa L ch)) (y := some (ly_pa L i)) C (tgt := 17) dX2_succeedsBefore_9 (by decide) (fun hc1 => ?_) (fun hc1 => ?_)
  · have h1 : ch = i := hP.inj hV.1 hch hi (Option.some.inj hc1)
    subst h1
    clear hc1
    refine lv_aload_n C.x C.b dX2_succeedsBefore_17 rfl (lv_at hl 2 rfl) ?_
    refine lv_aload_n C.x C.b dX2_succeedsBefore_18 rfl (lv_at hl 3 rfl) ?_
    refine hr_acmp_eq (x := some (ly_pa L ch)) (y := some (ly_pa L j)) C (tgt := 31) dX2_succeedsBefore_19 (by decide) (fun hc2 => ?_) (fun hc2 => ?_)
    · have h2 : ch = j := hP.inj hV.1 hch hj (Option.some.inj hc2)
      refine lv_iconst (v := hr_I 0) C.x C.b dX2_succeedsBefore_31 (by decide) ?_
      exact hr_zret C hQ rfl (⟨by rw [hsb, if_pos (by simp [h2])]; simp [h2]; rfl, rfl⟩) hS4 (by first | exact Nat.le_of_ble_eq_true rfl | (simp only [rmX2_succeedsBefore]; omega)) (by first | exact Nat.le_of_ble_eq_true rfl | (simp only [rmX2_succeedsBefore]; omega)) dX2_succeedsBefore_32
    · have h2 : ch ≠ j := fun e => hc2 (by rw [e])
      refine lv_aload_n C.x C.b dX2_succeedsBefore_22 rfl (lv_at hl 0 rfl) ?_
      refine lv_aload_n C.x C.b dX2_succeedsBefore_23 rfl (lv_at hl 2 rfl) ?_
      refine hr_acmp_ne (x := some (ly_pa L ch)) (y := some (ly_pa L ch)) C (tgt := 31) dX2_succeedsBefore_24 (by decide) (fun hc3 => ?_) (fun hc3 => ?_)
      · refine lv_iconst (v := hr_I 0) C.x C.b dX2_succeedsBefore_31 (by decide) ?_
        exact absurd rfl hc3
      · refine lv_iconst (v := hr_I 1) C.x C.b dX2_succeedsBefore_27 (by decide) ?_
        refine lv_goto (tgt := 32) C.x C.b dX2_succeedsBefore_28 (by decide) ?_
        exact hr_zret C hQ rfl (⟨by rw [hsb, if_pos (by simp)]; simp [h2]; rfl, rfl⟩) hS4 (by first | exact Nat.le_of_ble_eq_true rfl | (simp only [rmX2_succeedsBefore]; omega)) (by first | exact Nat.le_of_ble_eq_true rfl | (simp only [rmX2_succeedsBefore]; omega)) dX2_succeedsBefore_32
  · have h1 : ch ≠ i := fun e => hc1 (by rw [e])
    refine lv_aload_n C.x C.b dX2_succeedsBefore_12 rfl (lv_at hl 0 rfl) ?_
    refine lv_aload_n C.x C.b dX2_succeedsBefore_13 rfl (lv_at hl 3 rfl) ?_
    refine hr_acmp_ne (x := some (ly_pa L ch)) (y := some (ly_pa L j)) C (tgt := 33) dX2_succeedsBefore_14 (by decide) (fun hc4 => ?_) (fun hc4 => ?_)
    · have h3 : ch ≠ j := fun e => hc4 (by rw [e])
      refine lv_aload_n C.x C.b dX2_succeedsBefore_33 rfl (lv_at hl 2 rfl) ?_
      refine lv_aload_n C.x C.b dX2_succeedsBefore_34 rfl (lv_at hl 0 rfl) ?_
      refine hr_callV (lw_V q531 q532 q533 q93 q534) (by decide +kernel) (n := 1) C (mtX4_branchBelow Z hP hV hi hch (dt_ca_i hca h1)) ((hP.2.1 i hi).recv C rfl) ⟨Nat.le_of_ble_eq_true rfl, Nat.le_of_ble_eq_true rfl⟩ rfl hl.1 (Nat.le_of_ble_eq_true rfl) ⟨by first | exact Nat.le_of_ble_eq_true rfl | (simp only [rmX2_succeedsBefore]; omega), by first | exact Nat.le_of_ble_eq_true rfl | (simp only [rmX2_succeedsBefore]; omega)⟩ hS4 (hr_AN hAN hS4) dX2_succeedsBefore_35 (rest := []) rfl
        (fun _ _ _ _ _ h => h.elim) (fun v14 H9 locs10 hp13 hF11 hS12 => ?_)
      obtain ⟨hv15, hH16⟩ := hp13; subst hv15; subst hH16
      refine W.eq (g2 := F0 m 38 ls [.ref (ly_pa L (dt_bb d ch i))]) rfl ?_
      have hb1 := dt_bb_lt hV ch i hi
      refine hr_getN in_X4 (ci := 3) 0 q632 rfl rfl (by decide) C (hP.2.1 (dt_bb d ch i) hb1) rfl dX2_succeedsBefore_38 ?_
      refine lv_aload_n C.x C.b dX2_succeedsBefore_41 rfl (lv_at hl 3 rfl) ?_
      refine lv_aload_n C.x C.b dX2_succeedsBefore_42 rfl (lv_at hl 0 rfl) ?_
      refine hr_callV (lw_V q531 q532 q533 q93 q534) (by decide +kernel) (n := 1) C (mtX4_branchBelow Z hP hV hj hch (dt_ca_j hca h3)) ((hP.2.1 j hj).recv C rfl) ⟨Nat.le_of_ble_eq_true rfl, Nat.le_of_ble_eq_true rfl⟩ rfl hl.1 (Nat.le_of_ble_eq_true rfl) ⟨by first | exact Nat.le_of_ble_eq_true rfl | (simp only [rmX2_succeedsBefore]; omega), by first | exact Nat.le_of_ble_eq_true rfl | (simp only [rmX2_succeedsBefore]; omega)⟩ hS12 (hr_AN hAN hS12) dX2_succeedsBefore_43 (rest := [.int (hr_I (dt_bb d ch i))]) rfl
        (fun _ _ _ _ _ h => h.elim) (fun v22 H17 locs18 hp21 hF19 hS20 => ?_)
      obtain ⟨hv23, hH24⟩ := hp21; subst hv23; subst hH24
      refine W.eq (g2 := F0 m 46 ls [.ref (ly_pa L (dt_bb d ch j)), .int (hr_I (dt_bb d ch i))]) rfl ?_
      have hb2 := dt_bb_lt hV ch j hj
      refine hr_getN in_X4 (ci := 3) 0 q632 rfl rfl (by decide) C (hP.2.1 (dt_bb d ch j) hb2) rfl dX2_succeedsBefore_46 ?_
      have hn16 := hV.1
      refine hr_icmp_ge C (tgt := 56) dX2_succeedsBefore_49 (by decide) (by omega) (by omega) (fun hc5 => ?_) (fun hc5 => ?_)
      · refine lv_iconst (v := hr_I 0) C.x C.b dX2_succeedsBefore_56 (by decide) ?_
        exact hr_zret C hQ rfl (⟨by rw [hsb, if_neg (by simp [h1, h3]), decide_eq_false (by omega)]; rfl, rfl⟩) hS20 (by first | exact Nat.le_of_ble_eq_true rfl | (simp only [rmX2_succeedsBefore]; omega)) (by first | exact Nat.le_of_ble_eq_true rfl | (simp only [rmX2_succeedsBefore]; omega)) dX2_succeedsBefore_57
      · refine lv_iconst (v := hr_I 1) C.x C.b dX2_succeedsBefore_52 (by decide) ?_
        refine lv_goto (tgt := 57) C.x C.b dX2_succeedsBefore_53 (by decide) ?_
        exact hr_zret C hQ rfl (⟨by rw [hsb, if_neg (by simp [h1, h3]), decide_eq_true (by omega)]; rfl, rfl⟩) hS20 (by first | exact Nat.le_of_ble_eq_true rfl | (simp only [rmX2_succeedsBefore]; omega)) (by first | exact Nat.le_of_ble_eq_true rfl | (simp only [rmX2_succeedsBefore]; omega)) dX2_succeedsBefore_57
    · have h3 : ch = j := hP.inj hV.1 hch hj (Option.some.inj hc4)
      subst h3
      clear hc4
      refine lv_aload_n C.x C.b dX2_succeedsBefore_17 rfl (lv_at hl 2 rfl) ?_
      refine lv_aload_n C.x C.b dX2_succeedsBefore_18 rfl (lv_at hl 3 rfl) ?_
      refine hr_acmp_eq (x := some (ly_pa L i)) (y := some (ly_pa L ch)) C (tgt := 31) dX2_succeedsBefore_19 (by decide) (fun hc2 => ?_) (fun hc2 => ?_)
      · exact absurd (hP.inj hV.1 hi hch (Option.some.inj hc2)).symm h1
      · refine lv_aload_n C.x C.b dX2_succeedsBefore_22 rfl (lv_at hl 0 rfl) ?_
        refine lv_aload_n C.x C.b dX2_succeedsBefore_23 rfl (lv_at hl 2 rfl) ?_
        refine hr_acmp_ne (x := some (ly_pa L ch)) (y := some (ly_pa L i)) C (tgt := 31) dX2_succeedsBefore_24 (by decide) (fun hc3 => ?_) (fun hc3 => ?_)
        · refine lv_iconst (v := hr_I 0) C.x C.b dX2_succeedsBefore_31 (by decide) ?_
          exact hr_zret C hQ rfl (⟨by rw [hsb, if_pos (Or.inr rfl), decide_eq_false (fun z => h1 z.2)]; rfl, rfl⟩) hS4 (by first | exact Nat.le_of_ble_eq_true rfl | (simp only [rmX2_succeedsBefore]; omega)) (by first | exact Nat.le_of_ble_eq_true rfl | (simp only [rmX2_succeedsBefore]; omega)) dX2_succeedsBefore_32
        · exact absurd (hP.inj hV.1 hch hi (Option.some.inj hc3)) h1

abbrev rmX2_successionPosition : Room := { frames := 3, cells := 1, slots := 4, locals := 80 }
set_option maxHeartbeats 4000000 in
set_option maxRecDepth 100000 in
theorem mtX2_successionPosition {l : Launch} {D : va_G} {s0 : State} (Z : hr_Z l D s0) {H : Heap} {a : Nat} {L : ly_T} {d : dt_T} (hD : hr_O D H a 1 (fs_D d L)) (hP : hr_pp D H L d) (hV : dt_VP d) {i : Nat} (hi : i < dt_n d) : hr_M l s0 yX2_successionPosition (ws_ yX2_successionPosition cX2_successionPosition 5 (Option.some Jvm.ClassFile.FieldType.int)) rmX2_successionPosition [.ref a, .ref (ly_pa L i)] H (hr_N H) (fun v H1 => v = some (.int (hr_I (dt_po d i : Int))) ∧ hr_X H H1) hr_no := by
  refine hr_of Z (by decide) (Nat.le_of_ble_eq_true rfl) (fun _ h => Or.inr h) ?_
  intro p e s m args below meth c Q ls C hQ hin hnx hS hl
  have hAN : ∀ q, H.size ≤ q → (hr_N H) q := (fun _ h => h)
  have hl : lv_has ls 5 [(0, .ref a), (1, .ref (ly_pa L i))] := hl
  refine lv_iconst (v := hr_I 0) C.x C.b dX2_successionPosition_0 (by decide) ?_
  refine lv_istore_n (lv' := [(2, .int (hr_I 0)), (0, .ref a), (1, .ref (ly_pa L i))]) C.x C.b dX2_successionPosition_1 rfl hl (by decide) rfl (fun ls hl => ?_)
  refine lv_aload_n C.x C.b dX2_successionPosition_2 rfl (lv_at hl 1 rfl) ?_
  refine hr_get in_X2 (ci := 1) 0 q313 rfl rfl (by decide) C hD rfl dX2_successionPosition_3 ?_
  refine hr_callV (lw_V q182 q183 q184 q80 q185) (by decide +kernel) (n := 0) C (mtJ2_iterator Z hP.1) (hP.1.1.recv C rfl) ⟨Nat.le_of_ble_eq_true rfl, Nat.le_of_ble_eq_true rfl⟩ rfl hl.1 (Nat.le_of_ble_eq_true rfl) ⟨by first | exact Nat.le_of_ble_eq_true rfl | (simp only [rmX2_successionPosition]; omega), by first | exact Nat.le_of_ble_eq_true rfl | (simp only [rmX2_successionPosition]; omega)⟩ hS (hr_AN hAN hS) dX2_successionPosition_6 (rest := []) rfl
    (fun _ _ _ _ _ h => h.elim) (fun v6 H1 locs2 hp5 hF3 hS4 => ?_)
  obtain ⟨rfl, hI0⟩ := hp5
  refine W.eq (g2 := F0 m 9 ls [.ref H.size]) rfl ?_
  refine lv_astore_n (lv' := [(3, .ref H.size), (2, .int (hr_I 0)), (0, .ref a), (1, .ref (ly_pa L i))]) C.x C.b dX2_successionPosition_9 rfl hl (by decide) rfl (fun ls hl => ?_)
  have lp : ∀ (r k : Nat) (ls : Array Slot) (H5 : Heap) (locs5 : List Loc) (x9 : Value), k + r = dt_n d → hr_O D H5 H.size 11 [.int (hr_I (k : Int)), x9, .int (ly_p L).2.2.2, .ref (ly_p L).1] → va_S (hr_N H) H H5 locs5 → lv_has ls 5 [(3, .ref H.size), (2, .int (hr_I (dt_cnt (fun k => decide (dt_fo d k = dt_fo d i) && dt_sb d k i) k : Int))), (0, .ref a), (1, .ref (ly_pa L i))] → W p l e rmX2_successionPosition s m args below meth c H5 locs5 (0 + 1) (0 + 4) Q (F0 m 10 ls []) := by
    intro r
    induction r with
    | zero =>
      intro k ls H5 locs5 x9  hk hI5 hS5  hl
      have hk9 : k ≤ dt_n d := by omega
      refine lv_aload_n C.x C.b dX2_successionPosition_10 rfl (lv_at hl 0 rfl) ?_
      refine hr_callF (CC := "java/util/ArrayList$Itr") (x := ⟨"java/util/Iterator", "hasNext", "()Z"⟩) (y := yJ3_hasNext) (lw_app (lw_in _ [206, 210, 212, 81] (by decide +kernel) (by decide +kernel)) (lw_meth q214)) (by decide +kernel) (n := 0) C (C.K.1 11 _ rfl).2 (hr_C.fw5 C (hr_inT _ [208, 207, 213, 211, 209] (by decide +kernel)) (by decide)) (mtJ3_hasNext Z (hP.1.x (hr_SX hS5)) hI5 hk9) (hI5.recv C rfl) ⟨Nat.le_of_ble_eq_true rfl, Nat.le_of_ble_eq_true rfl⟩ rfl hl.1 (Nat.le_of_ble_eq_true rfl) ⟨by first | exact Nat.le_of_ble_eq_true rfl | (simp only [rmX2_successionPosition]; omega), by first | exact Nat.le_of_ble_eq_true rfl | (simp only [rmX2_successionPosition]; omega)⟩ hS5 (hr_AN hAN hS5) dX2_successionPosition_11 (rest := []) rfl
        (fun _ _ _ _ _ h => h.elim) (fun v12 H7 locs8 hp11 hF9 hS10 => ?_)
      obtain ⟨hv13, hH14⟩ := hp11; subst hv13; subst hH14
      refine W.eq (g2 := F0 m 16 ls [.int (hr_I (hr_t (decide (k < dt_n d))))]) rfl ?_
      have hkn : k = dt_n d := by omega
      refine hr_ifb_eq C (tgt := 66) dX2_successionPosition_16 (by decide) (fun hc => ?_) (fun hc => ?_)
      · refine lv_iload_n C.x C.b dX2_successionPosition_66 rfl (lv_at hl 1 rfl) ?_
        exact hr_iret C hQ (⟨by rw [hkn]; rfl, hr_SX hS10⟩) hS10 (by first | exact Nat.le_of_ble_eq_true rfl | (simp only [rmX2_successionPosition]; omega)) (by first | exact Nat.le_of_ble_eq_true rfl | (simp only [rmX2_successionPosition]; omega)) dX2_successionPosition_67
      · exact absurd hc (by simp [hkn])
    | succ r ih =>
      intro k ls H5 locs5 x9  hk hI5 hS5  hl
      have hk9 : k ≤ dt_n d := by omega
      refine lv_aload_n C.x C.b dX2_successionPosition_10 rfl (lv_at hl 0 rfl) ?_
      refine hr_callF (CC := "java/util/ArrayList$Itr") (x := ⟨"java/util/Iterator", "hasNext", "()Z"⟩) (y := yJ3_hasNext) (lw_app (lw_in _ [206, 210, 212, 81] (by decide +kernel) (by decide +kernel)) (lw_meth q214)) (by decide +kernel) (n := 0) C (C.K.1 11 _ rfl).2 (hr_C.fw5 C (hr_inT _ [208, 207, 213, 211, 209] (by decide +kernel)) (by decide)) (mtJ3_hasNext Z (hP.1.x (hr_SX hS5)) hI5 hk9) (hI5.recv C rfl) ⟨Nat.le_of_ble_eq_true rfl, Nat.le_of_ble_eq_true rfl⟩ rfl hl.1 (Nat.le_of_ble_eq_true rfl) ⟨by first | exact Nat.le_of_ble_eq_true rfl | (simp only [rmX2_successionPosition]; omega), by first | exact Nat.le_of_ble_eq_true rfl | (simp only [rmX2_successionPosition]; omega)⟩ hS5 (hr_AN hAN hS5) dX2_successionPosition_11 (rest := []) rfl
        (fun _ _ _ _ _ h => h.elim) (fun v20 H15 locs16 hp19 hF17 hS18 => ?_)
      obtain ⟨hv21, hH22⟩ := hp19; subst hv21; subst hH22
      refine W.eq (g2 := F0 m 16 ls [.int (hr_I (hr_t (decide (k < dt_n d))))]) rfl ?_
      have hkn : k < dt_n d := by omega
      refine hr_ifb_eq C (tgt := 66) dX2_successionPosition_16 (by decide) (fun hc => ?_) (fun hc => ?_)
      · exact absurd hc (by simp [hkn])
      · refine lv_aload_n C.x C.b dX2_successionPosition_19 rfl (lv_at hl 0 rfl) ?_
        refine hr_callF (CC := "java/util/ArrayList$Itr") (x := ⟨"java/util/Iterator", "next", "()Ljava/lang/Object;"⟩) (y := yJ3_next) (lw_app (lw_in _ [216, 219, 221, 81] (by decide +kernel) (by decide +kernel)) (lw_meth q223)) (by decide +kernel) (n := 0) C (C.K.1 11 _ rfl).2 (hr_C.fw5 C (hr_inT _ [218, 217, 222, 220, 209] (by decide +kernel)) (by decide)) (mtJ3_next Z (hP.1.x (hr_SX hS18)) hI5 hkn ((C.up hS).1)) (hI5.recv C rfl) ⟨Nat.le_of_ble_eq_true rfl, Nat.le_of_ble_eq_true rfl⟩ rfl hl.1 (Nat.le_of_ble_eq_true rfl) ⟨by first | exact Nat.le_of_ble_eq_true rfl | (simp only [rmX2_successionPosition]; omega), by first | exact Nat.le_of_ble_eq_true rfl | (simp only [rmX2_successionPosition]; omega)⟩ hS18 (fun q h => h.elim (fun e => by rw [e]; exact (Nat.le_refl _)) (fun h => hAN _ (Nat.le_trans hS18.1 h))) dX2_successionPosition_20 (rest := []) rfl
          (fun _ _ _ _ _ h => h.elim) (fun v28 H23 locs24 hp27 hF25 hS26 => ?_)
        obtain ⟨rfl, ⟨x2, hI22⟩⟩ := hp27
        refine W.eq (g2 := F0 m 25 ls [.ref (ly_pa L k)]) rfl ?_
        refine va_castS C.x C.b C.ow (C.w _ q427) (C.K.1 3 _ rfl).2 (((hP.2.1 k hkn).x (hr_SX hS26)).recv C rfl) dX2_successionPosition_25 ?_
        refine lv_astore (lv' := [(4, .ref (ly_pa L k)), (3, .ref H.size), (2, .int (hr_I (dt_cnt (fun k => decide (dt_fo d k = dt_fo d i) && dt_sb d k i) k : Int))), (0, .ref a), (1, .ref (ly_pa L i))]) C.x C.b dX2_successionPosition_28 hl (by decide) rfl (fun ls hl => ?_)
        refine lv_iload_n C.x C.b dX2_successionPosition_30 rfl (lv_at hl 2 rfl) ?_
        refine lv_aload C.x C.b dX2_successionPosition_31 (lv_at hl 0 rfl) ?_
        refine hr_callV (lw_V q535 q536 q537 q93 q538) (by decide +kernel) (n := 0) C (mtX4_founder Z (hP.x (hr_SX hS26)) hV hkn) (((hP.2.1 k hkn).x (hr_SX hS26)).recv C rfl) ⟨Nat.le_of_ble_eq_true rfl, Nat.le_of_ble_eq_true rfl⟩ rfl hl.1 (Nat.le_of_ble_eq_true rfl) ⟨by first | exact Nat.le_of_ble_eq_true rfl | (simp only [rmX2_successionPosition]; omega), by first | exact Nat.le_of_ble_eq_true rfl | (simp only [rmX2_successionPosition]; omega)⟩ hS26 (hr_AN hAN hS26) dX2_successionPosition_33 (rest := [.int (hr_I (dt_cnt (fun k => decide (dt_fo d k = dt_fo d i) && dt_sb d k i) k : Int))]) rfl
          (fun _ _ _ _ _ h => h.elim) (fun v34 H29 locs30 hp33 hF31 hS32 => ?_)
        obtain ⟨hv35, hH36⟩ := hp33; subst hv35; subst hH36
        refine W.eq (g2 := F0 m 36 ls [.ref (ly_pa L (dt_fo d k)), .int (hr_I (dt_cnt (fun k => decide (dt_fo d k = dt_fo d i) && dt_sb d k i) k : Int))]) rfl ?_
        refine lv_aload_n C.x C.b dX2_successionPosition_36 rfl (lv_at hl 4 rfl) ?_
        refine hr_callV (lw_V q535 q536 q537 q93 q538) (by decide +kernel) (n := 0) C (mtX4_founder Z (hP.x (hr_SX hS32)) hV hi) (((hP.2.1 i hi).x (hr_SX hS32)).recv C rfl) ⟨Nat.le_of_ble_eq_true rfl, Nat.le_of_ble_eq_true rfl⟩ rfl hl.1 (Nat.le_of_ble_eq_true rfl) ⟨by first | exact Nat.le_of_ble_eq_true rfl | (simp only [rmX2_successionPosition]; omega), by first | exact Nat.le_of_ble_eq_true rfl | (simp only [rmX2_successionPosition]; omega)⟩ hS32 (hr_AN hAN hS32) dX2_successionPosition_37 (rest := [.ref (ly_pa L (dt_fo d k)), .int (hr_I (dt_cnt (fun k => decide (dt_fo d k = dt_fo d i) && dt_sb d k i) k : Int))]) rfl
          (fun _ _ _ _ _ h => h.elim) (fun v42 H37 locs38 hp41 hF39 hS40 => ?_)
        obtain ⟨hv43, hH44⟩ := hp41; subst hv43; subst hH44
        refine W.eq (g2 := F0 m 40 ls [.ref (ly_pa L (dt_fo d i)), .ref (ly_pa L (dt_fo d k)), .int (hr_I (dt_cnt (fun k => decide (dt_fo d k = dt_fo d i) && dt_sb d k i) k : Int))]) rfl ?_
        refine hr_acmp_ne (x := some (ly_pa L (dt_fo d k))) (y := some (ly_pa L (dt_fo d i))) C (tgt := 57) dX2_successionPosition_40 (by decide) (fun hc7 => ?_) (fun hc7 => ?_)
        · have hf9 : dt_fo d k ≠ dt_fo d i := fun e => hc7 (by rw [e])
          refine lv_iconst (v := hr_I 0) C.x C.b dX2_successionPosition_57 (by decide) ?_
          have hz9 : (decide (dt_fo d k = dt_fo d i) && dt_sb d k i) = false := by simp [hf9]
          refine hr_callSN (lw_meth q430) q76 q428 q429 (by decide +kernel) (n := 1) C (mtX1_asInt Z (t := false)) ⟨Nat.le_of_ble_eq_true rfl, Nat.le_of_ble_eq_true rfl⟩ rfl hl.1 (Nat.le_of_ble_eq_true rfl) ⟨by first | exact Nat.le_of_ble_eq_true rfl | (simp only [rmX2_successionPosition]; omega), by first | exact Nat.le_of_ble_eq_true rfl | (simp only [rmX2_successionPosition]; omega)⟩ hS40 (hr_AN hAN hS40) dX2_successionPosition_58 (rest := [.int (hr_I (dt_cnt (fun k => decide (dt_fo d k = dt_fo d i) && dt_sb d k i) k : Int))]) rfl
            (fun _ _ _ _ _ h => h.elim) (fun v50 H45 locs46 hp49 hF47 hS48 => ?_)
          obtain ⟨hv51, hH52⟩ := hp49; subst hv51; subst hH52
          refine W.eq (g2 := F0 m 61 ls [.int (hr_I (hr_t false)), .int (hr_I (dt_cnt (fun k => decide (dt_fo d k = dt_fo d i) && dt_sb d k i) k : Int))]) rfl ?_
          rw [← hz9]
          refine t_iadd C.x C.b dX2_successionPosition_61 (v := hr_I ((dt_cnt (fun k => decide (dt_fo d k = dt_fo d i) && dt_sb d k i) k : Int) + (hr_t (decide (dt_fo d k = dt_fo d i) && dt_sb d k i)))) (hr_add _ _) ?_
          refine lv_istore_n (lv' := [(2, .int (hr_I ((dt_cnt (fun k => decide (dt_fo d k = dt_fo d i) && dt_sb d k i) k : Int) + (hr_t (decide (dt_fo d k = dt_fo d i) && dt_sb d k i))))), (4, .ref (ly_pa L k)), (3, .ref H.size), (0, .ref a), (1, .ref (ly_pa L i))]) C.x C.b dX2_successionPosition_62 rfl hl (by decide) rfl (fun ls hl => ?_)
          have e953 : (dt_cnt (fun k => decide (dt_fo d k = dt_fo d i) && dt_sb d k i) k : Int) + (hr_t (decide (dt_fo d k = dt_fo d i) && dt_sb d k i)) = ((dt_cnt (fun k => decide (dt_fo d k = dt_fo d i) && dt_sb d k i) (k + 1) : Nat) : Int) := dt_cnt_t (fun k => decide (dt_fo d k = dt_fo d i) && dt_sb d k i) k
          rw [e953] at hl
          refine lv_goto (tgt := 10) C.x C.b dX2_successionPosition_63 (by decide) ?_
          exact ih (k + 1) ls _ _ _  (by omega) hI22 hS48  (lv_sub hl [2, 0, 3, 4] rfl)
        · have hf9 : dt_fo d k = dt_fo d i := hP.inj hV.1 (dt_fo_lt hV k hkn) (dt_fo_lt hV i hi) (Option.some.inj hc7)
          refine lv_aload_n C.x C.b dX2_successionPosition_43 rfl (lv_at hl 3 rfl) ?_
          refine lv_aload C.x C.b dX2_successionPosition_44 (lv_at hl 0 rfl) ?_
          refine lv_aload_n C.x C.b dX2_successionPosition_46 rfl (lv_at hl 4 rfl) ?_
          refine hr_callV (lw_V q527 q528 q529 q77 q530) (by decide +kernel) (n := 2) C (mtX2_succeedsBefore Z (hD.x (hr_SX hS40)) (hP.x (hr_SX hS40)) hV hkn hi (dt_ca_fo hf9)) ((hD.x (hr_SX hS40)).recv C rfl) ⟨Nat.le_of_ble_eq_true rfl, Nat.le_of_ble_eq_true rfl⟩ rfl hl.1 (Nat.le_of_ble_eq_true rfl) ⟨by first | exact Nat.le_of_ble_eq_true rfl | (simp only [rmX2_successionPosition]; omega), by first | exact Nat.le_of_ble_eq_true rfl | (simp only [rmX2_successionPosition]; omega)⟩ hS40 (hr_AN hAN hS40) dX2_successionPosition_47 (rest := [.int (hr_I (dt_cnt (fun k => decide (dt_fo d k = dt_fo d i) && dt_sb d k i) k : Int))]) rfl
            (fun _ _ _ _ _ h => h.elim) (fun v59 H54 locs55 hp58 hF56 hS57 => ?_)
          obtain ⟨hv60, hH61⟩ := hp58; subst hv60; subst hH61
          refine W.eq (g2 := F0 m 50 ls [.int (hr_I (hr_t (dt_sb d k i))), .int (hr_I (dt_cnt (fun k => decide (dt_fo d k = dt_fo d i) && dt_sb d k i) k : Int))]) rfl ?_
          refine hr_ifb_eq C (tgt := 57) dX2_successionPosition_50 (by decide) (fun hc8 => ?_) (fun hc8 => ?_)
          · refine lv_iconst (v := hr_I 0) C.x C.b dX2_successionPosition_57 (by decide) ?_
            have hz9 : (decide (dt_fo d k = dt_fo d i) && dt_sb d k i) = false := by rw [hc8]; simp
            refine hr_callSN (lw_meth q430) q76 q428 q429 (by decide +kernel) (n := 1) C (mtX1_asInt Z (t := false)) ⟨Nat.le_of_ble_eq_true rfl, Nat.le_of_ble_eq_true rfl⟩ rfl hl.1 (Nat.le_of_ble_eq_true rfl) ⟨by first | exact Nat.le_of_ble_eq_true rfl | (simp only [rmX2_successionPosition]; omega), by first | exact Nat.le_of_ble_eq_true rfl | (simp only [rmX2_successionPosition]; omega)⟩ hS57 (hr_AN hAN hS57) dX2_successionPosition_58 (rest := [.int (hr_I (dt_cnt (fun k => decide (dt_fo d k = dt_fo d i) && dt_sb d k i) k : Int))]) rfl
              (fun _ _ _ _ _ h => h.elim) (fun v67 H62 locs63 hp66 hF64 hS65 => ?_)
            obtain ⟨hv68, hH69⟩ := hp66; subst hv68; subst hH69
            refine W.eq (g2 := F0 m 61 ls [.int (hr_I (hr_t false)), .int (hr_I (dt_cnt (fun k => decide (dt_fo d k = dt_fo d i) && dt_sb d k i) k : Int))]) rfl ?_
            rw [← hz9]
            refine t_iadd C.x C.b dX2_successionPosition_61 (v := hr_I ((dt_cnt (fun k => decide (dt_fo d k = dt_fo d i) && dt_sb d k i) k : Int) + (hr_t (decide (dt_fo d k = dt_fo d i) && dt_sb d k i)))) (hr_add _ _) ?_
            refine lv_istore_n (lv' := [(2, .int (hr_I ((dt_cnt (fun k => decide (dt_fo d k = dt_fo d i) && dt_sb d k i) k : Int) + (hr_t (decide (dt_fo d k = dt_fo d i) && dt_sb d k i))))), (4, .ref (ly_pa L k)), (3, .ref H.size), (0, .ref a), (1, .ref (ly_pa L i))]) C.x C.b dX2_successionPosition_62 rfl hl (by decide) rfl (fun ls hl => ?_)
            have e970 : (dt_cnt (fun k => decide (dt_fo d k = dt_fo d i) && dt_sb d k i) k : Int) + (hr_t (decide (dt_fo d k = dt_fo d i) && dt_sb d k i)) = ((dt_cnt (fun k => decide (dt_fo d k = dt_fo d i) && dt_sb d k i) (k + 1) : Nat) : Int) := dt_cnt_t (fun k => decide (dt_fo d k = dt_fo d i) && dt_sb d k i) k
            rw [e970] at hl
            refine lv_goto (tgt := 10) C.x C.b dX2_successionPosition_63 (by decide) ?_
            exact ih (k + 1) ls _ _ _  (by omega) hI22 hS65  (lv_sub hl [2, 0, 3, 4] rfl)
          · refine lv_iconst (v := hr_I 1) C.x C.b dX2_successionPosition_53 (by decide) ?_
            refine lv_goto (tgt := 58) C.x C.b dX2_successionPosition_54 (by decide) ?_
            have hz9 : (decide (dt_fo d k = dt_fo d i) && dt_sb d k i) = true := by rw [hc8, hf9]; simp
            refine hr_callSN (lw_meth q430) q76 q428 q429 (by decide +kernel) (n := 1) C (mtX1_asInt Z (t := true)) ⟨Nat.le_of_ble_eq_true rfl, Nat.le_of_ble_eq_true rfl⟩ rfl hl.1 (Nat.le_of_ble_eq_true rfl) ⟨by first | exact Nat.le_of_ble_eq_true rfl | (simp only [rmX2_successionPosition]; omega), by first | exact Nat.le_of_ble_eq_true rfl | (simp only [rmX2_successionPosition]; omega)⟩ hS57 (hr_AN hAN hS57) dX2_successionPosition_58 (rest := [.int (hr_I (dt_cnt (fun k => decide (dt_fo d k = dt_fo d i) && dt_sb d k i) k : Int))]) rfl
              (fun _ _ _ _ _ h => h.elim) (fun v76 H71 locs72 hp75 hF73 hS74 => ?_)
            obtain ⟨hv77, hH78⟩ := hp75; subst hv77; subst hH78
            refine W.eq (g2 := F0 m 61 ls [.int (hr_I (hr_t true)), .int (hr_I (dt_cnt (fun k => decide (dt_fo d k = dt_fo d i) && dt_sb d k i) k : Int))]) rfl ?_
            rw [← hz9]
            refine t_iadd C.x C.b dX2_successionPosition_61 (v := hr_I ((dt_cnt (fun k => decide (dt_fo d k = dt_fo d i) && dt_sb d k i) k : Int) + (hr_t (decide (dt_fo d k = dt_fo d i) && dt_sb d k i)))) (hr_add _ _) ?_
            refine lv_istore_n (lv' := [(2, .int (hr_I ((dt_cnt (fun k => decide (dt_fo d k = dt_fo d i) && dt_sb d k i) k : Int) + (hr_t (decide (dt_fo d k = dt_fo d i) && dt_sb d k i))))), (4, .ref (ly_pa L k)), (3, .ref H.size), (0, .ref a), (1, .ref (ly_pa L i))]) C.x C.b dX2_successionPosition_62 rfl hl (by decide) rfl (fun ls hl => ?_)
            have e979 : (dt_cnt (fun k => decide (dt_fo d k = dt_fo d i) && dt_sb d k i) k : Int) + (hr_t (decide (dt_fo d k = dt_fo d i) && dt_sb d k i)) = ((dt_cnt (fun k => decide (dt_fo d k = dt_fo d i) && dt_sb d k i) (k + 1) : Nat) : Int) := dt_cnt_t (fun k => decide (dt_fo d k = dt_fo d i) && dt_sb d k i) k
            rw [e979] at hl
            refine lv_goto (tgt := 10) C.x C.b dX2_successionPosition_63 (by decide) ?_
            exact ih (k + 1) ls _ _ _  (by omega) hI22 hS74  (lv_sub hl [2, 0, 3, 4] rfl)
  exact lp (dt_n d) 0 ls _ _ _  (Nat.zero_add _) hI0 hS4  (lv_sub hl [0, 1, 2, 3] rfl)
