/-! bury -/
set_option maxRecDepth 100000
abbrev rmX2_bury : Room := { frames := 22, cells := 60, slots := 200, locals := 3165 }
set_option maxHeartbeats 4000000 in
set_option maxRecDepth 100000 in
theorem mtX2_bury {l : Launch} {D : va_G} {s0 : State} (Z : hr_Z l D s0) {H : Heap} {a : Nat} {L : ly_T} {d : dt_T} {A : Nat → Prop} (hlow : ∀ q, A q → s0.heap.size ≤ q) (hnew : ∀ q, H.size ≤ q → A q) (hlm : hr_lk D L) (hW : hr_Dw D H a L d A) (hV : dt_V d) {i : Nat} (hi : i < dt_n d) : hr_M l s0 yX2_bury (ws_ yX2_bury cX2_bury 6 (Option.some Jvm.ClassFile.FieldType.int)) rmX2_bury [.ref a, .int (hr_I (i : Int))] H A (fun v H1 => hr_PO D a A (dt_bur d i) v H1) (fun E q H1 => hr_PE D (dt_bur d i) E q H1) := by
  refine hr_of Z (by decide) (Nat.le_of_ble_eq_true rfl) (fun q h => Or.inl (hlow q h)) ?_
  intro p e s m args below meth c Q ls C hQ hin hnx hS hl
  have hAN : ∀ q, H.size ≤ q → A q := hnew
  have hl : lv_has ls 6 [(0, .ref a), (1, .int (hr_I (i : Int)))] := hl
  have hD := hW.1
  refine lv_aload_n C.x C.b dX2_bury_0 rfl (lv_at hl 0 rfl) ?_
  refine hr_get in_X2 (ci := 1) 0 q313 rfl rfl (by decide) C hD.1 rfl dX2_bury_1 ?_
  refine lv_iload_n C.x C.b dX2_bury_4 rfl (lv_at hl 1 rfl) ?_
  refine hr_callV (lw_V q604 q493 q494 q80 q495) (by decide +kernel) (n := 1) C (mtJ2_get Z hD.2.1.1 hi) (hD.2.1.1.1.recv C rfl) ⟨Nat.le_of_ble_eq_true rfl, Nat.le_of_ble_eq_true rfl⟩ rfl hl.1 (Nat.le_of_ble_eq_true rfl) ⟨by first | exact Nat.le_of_ble_eq_true rfl | (simp only [rmX2_bury, rmX2_pass]; omega), by first | exact Nat.le_of_ble_eq_true rfl | (simp only [rmX2_bury, rmX2_pass]; omega)⟩ hS (hr_AN hAN hS) dX2_bury_5 (rest := []) rfl
    (fun _ _ _ _ _ h => h.elim) (fun v6 H1 locs2 hp5 hF3 hS4 => ?_)
  obtain ⟨hv7, hH8⟩ := hp5; subst hv7; subst hH8
  refine W.eq (g2 := F0 m 8 ls [.ref (ly_pa L i)]) rfl ?_
  refine va_castS C.x C.b C.ow (C.w _ q427) (C.K.1 3 _ rfl).2 ((hD.2.1.2.1 i hi).recv C rfl) dX2_bury_8 ?_
  refine lv_astore_n (lv' := [(2, .ref (ly_pa L i)), (0, .ref a), (1, .int (hr_I (i : Int)))]) C.x C.b dX2_bury_11 rfl hl (by decide) rfl (fun ls hl => ?_)
  refine lv_aload_n C.x C.b dX2_bury_12 rfl (lv_at hl 1 rfl) ?_
  refine lv_aload_n C.x C.b dX2_bury_13 rfl (lv_at hl 0 rfl) ?_
  refine hr_callV (lw_V q876 q878 qs12 q77 q879) (by decide +kernel) (n := 1) C (mtX2_requireAlive Z hD hV hi) (hD.1.recv C rfl) ⟨Nat.le_of_ble_eq_true rfl, Nat.le_of_ble_eq_true rfl⟩ rfl hl.1 (Nat.le_of_ble_eq_true rfl) ⟨by first | exact Nat.le_of_ble_eq_true rfl | (simp only [rmX2_bury, rmX2_pass]; omega), by first | exact Nat.le_of_ble_eq_true rfl | (simp only [rmX2_bury, rmX2_pass]; omega)⟩ hS4 (hr_AN hAN hS4) dX2_bury_14 (rest := []) rfl
    (fun E9 q9 ce9 H9 locs9 hp9 hF9 hS9 hc9 hv9 hl9 => hr_out C hQ hnx (⟨hp9.1, 3, i, by unfold dt_bur; rw [if_pos hp9.2.1], hp9.2.2⟩) hS9 hc9 hv9 hl9 (by first | exact Nat.le_of_ble_eq_true rfl | (simp only [rmX2_bury, rmX2_pass]; omega)) (by first | exact Nat.le_of_ble_eq_true rfl | (simp only [rmX2_bury, rmX2_pass]; omega))) (fun v14 H9 locs10 hp13 hF11 hS12 => ?_)
  obtain ⟨rfl, ⟨hal, hH9⟩⟩ := hp13
  refine W.eq (g2 := F0 m 17 ls []) rfl ?_
  subst hH9
  show W p l e rmX2_bury s m args below meth c H locs10 (0 + 0 + 1) (0 + 0 + 9) Q (F0 m 17 ls [])
  refine lv_aload_n C.x C.b dX2_bury_17 rfl (lv_at hl 0 rfl) ?_
  refine lv_iconst (v := hr_I 0) C.x C.b dX2_bury_18 (by decide) ?_
  refine hr_putN in_X4 tyX4 tyX4_ok nmX4 (ci := 3) 3 rfl q641 rfl rfl (by decide) C (hD.2.1.2.1 i hi) (Nat.le_of_ble_eq_true rfl) rfl rfl hS12 (hW.2.2.2.2.1 i hi) dX2_bury_19 (fun H15 locs17 hO18 hz19 ho20 hS16 => ?_)
  refine lv_iconst (v := hr_I 0) C.x C.b dX2_bury_22 (by decide) ?_
  refine lv_istore_n (lv' := [(3, .int (hr_I 0)), (2, .ref (ly_pa L i)), (0, .ref a), (1, .int (hr_I (i : Int)))]) C.x C.b dX2_bury_23 rfl hl (by decide) rfl (fun ls hl => ?_)
  have hO9 : hr_O D H15 (ly_pa L i) 3 (fs_P (dt_b0 d i) L i) := by
    have h9 := hO18
    show hr_O _ _ _ _ [_, _, _, .int (hr_I (hr_t (hr_u (dt_al d) i false i)))]
    rw [hr_us]; exact h9
  have hW1 := hr_Dw.upP C hlow hlm hW hV.1.1 hi (d1 := dt_b0 d i) rfl rfl rfl (fun g _ hg => hr_un _ _ hg) hO9 (hr_F1.put hz19 ho20)
  have hk20 := hV.2.1
  have hgr1 : H.size ≤ H15.size := by have := hz19; omega
  have hit9 : s0.heap.size ≤ H15.size := Nat.le_trans (C.up hS).1 hgr1
  refine lv_aload_n C.x C.b dX2_bury_24 rfl (lv_at hl 2 rfl) ?_
  refine hr_get in_X2 (ci := 1) 1 q315 rfl rfl (by decide) C hW1.1.1 rfl dX2_bury_25 ?_
  refine hr_callV (lw_V q182 q183 q184 q80 q185) (by decide +kernel) (n := 0) C (mtJ2_iterator Z hW1.1.2.2.1.1) (hW1.1.2.2.1.1.1.recv C rfl) ⟨Nat.le_of_ble_eq_true rfl, Nat.le_of_ble_eq_true rfl⟩ rfl hl.1 (Nat.le_of_ble_eq_true rfl) ⟨by first | exact Nat.le_of_ble_eq_true rfl | (simp only [rmX2_bury, rmX2_pass]; omega), by first | exact Nat.le_of_ble_eq_true rfl | (simp only [rmX2_bury, rmX2_pass]; omega)⟩ hS16 (fun q h => hnew _ (Nat.le_trans hgr1 h)) dX2_bury_28 (rest := []) rfl
    (fun _ _ _ _ _ h => h.elim) (fun v26 H21 locs22 hp25 hF23 hS24 => ?_)
  obtain ⟨rfl, hI0⟩ := hp25
  refine W.eq (g2 := F0 m 31 ls [.ref H15.size]) rfl ?_
  have hW2 := (hW1.low.mono (B := fun q => A q ∧ q ≠ H15.size) (fun q h => ⟨h.1, by have := h.2; omega⟩)).x hF23
  have hgr2 : H15.size < H21.size := hI0.lt
  refine lv_astore (lv' := [(4, .ref H15.size), (3, .int (hr_I 0)), (2, .ref (ly_pa L i)), (0, .ref a), (1, .int (hr_I (i : Int)))]) C.x C.b dX2_bury_31 hl (by decide) rfl (fun ls hl => ?_)
  have lp : ∀ (r k : Nat) (ls : Array Slot) (H5 : Heap) (locs5 : List Loc) (x9 : Value), k + r = dt_k d → hr_O D H5 H15.size 11 [.int (hr_I (k : Int)), x9, .int (ly_h L).2.2.2, .ref (ly_h L).1] → va_S A H H5 locs5 → hr_Dw D H5 a L (dt_burk i (dt_b0 d i) k).1 (fun q => A q ∧ q ≠ H15.size) → dt_V (dt_burk i (dt_b0 d i) k).1 → lv_has ls 6 [(4, .ref H15.size), (3, .int (hr_I ((dt_burk i (dt_b0 d i) k).2 : Int))), (0, .ref a), (1, .int (hr_I (i : Int))), (2, .ref (ly_pa L i))] → W p l e rmX2_bury s m args below meth c H5 locs5 (0 + 1 + 1 + 2 * k) (0 + 9 + 4 + 6 * k) Q (F0 m 33 ls []) := by
    intro r
    induction r with
    | zero =>
      intro k ls H5 locs5 x9  hk hI5 hS5 hW5 hV5 hl
      have hk9 : k ≤ dt_k d := by omega
      refine lv_aload C.x C.b dX2_bury_33 (lv_at hl 0 rfl) ?_
      refine hr_callF (CC := "java/util/ArrayList$Itr") (x := ⟨"java/util/Iterator", "hasNext", "()Z"⟩) (y := yJ3_hasNext) (lw_app (lw_in _ [206, 210, 212, 81] (by decide +kernel) (by decide +kernel)) (lw_meth q214)) (by decide +kernel) (n := 0) C (C.K.1 11 _ rfl).2 (hr_C.fw5 C (hr_inT _ [208, 207, 213, 211, 209] (by decide +kernel)) (by decide)) (mtJ3_hasNext Z (by have h9 := hW5.1.2.2.1.1; rw [(dt_burk_1 i (dt_b0 d i) k).2] at h9; exact h9 : hr_L D H5 (ly_h L) (dt_k d) (ly_ha L)) hI5 hk9) (hI5.recv C rfl) ⟨Nat.le_of_ble_eq_true rfl, Nat.le_of_ble_eq_true rfl⟩ rfl hl.1 (Nat.le_of_ble_eq_true rfl) ⟨by first | exact Nat.le_of_ble_eq_true rfl | (simp only [rmX2_bury, rmX2_pass]; omega), by first | exact Nat.le_of_ble_eq_true rfl | (simp only [rmX2_bury, rmX2_pass]; omega)⟩ hS5 (hr_AN hAN hS5) dX2_bury_35 (rest := []) rfl
        (fun _ _ _ _ _ h => h.elim) (fun v32 H27 locs28 hp31 hF29 hS30 => ?_)
      obtain ⟨hv33, hH34⟩ := hp31; subst hv33; subst hH34
      refine W.eq (g2 := F0 m 40 ls [.int (hr_I (hr_t (decide (k < dt_k d))))]) rfl ?_
      have hkn : k = dt_k d := by omega
      refine hr_ifb_eq C (tgt := 100) dX2_bury_40 (by decide) (fun hc => ?_) (fun hc => ?_)
      · refine lv_iload_n C.x C.b dX2_bury_100 rfl (lv_at hl 1 rfl) ?_
        exact hr_iret C hQ (⟨_, _, L, by unfold dt_bur; rw [if_neg (by rw [hal]; decide)], by rw [hkn], by have h9 := hW5.mono (B := A) (fun q h => h.1); rw [hkn] at h9; exact h9, hlm⟩) hS30 (by first | exact Nat.le_of_ble_eq_true rfl | (simp only [rmX2_bury, rmX2_pass]; omega)) (by first | exact Nat.le_of_ble_eq_true rfl | (simp only [rmX2_bury, rmX2_pass]; omega)) dX2_bury_101
      · exact absurd hc (by simp [hkn])
    | succ r ih =>
      intro k ls H5 locs5 x9  hk hI5 hS5 hW5 hV5 hl
      have hk9 : k ≤ dt_k d := by omega
      refine lv_aload C.x C.b dX2_bury_33 (lv_at hl 0 rfl) ?_
      refine hr_callF (CC := "java/util/ArrayList$Itr") (x := ⟨"java/util/Iterator", "hasNext", "()Z"⟩) (y := yJ3_hasNext) (lw_app (lw_in _ [206, 210, 212, 81] (by decide +kernel) (by decide +kernel)) (lw_meth q214)) (by decide +kernel) (n := 0) C (C.K.1 11 _ rfl).2 (hr_C.fw5 C (hr_inT _ [208, 207, 213, 211, 209] (by decide +kernel)) (by decide)) (mtJ3_hasNext Z (by have h9 := hW5.1.2.2.1.1; rw [(dt_burk_1 i (dt_b0 d i) k).2] at h9; exact h9 : hr_L D H5 (ly_h L) (dt_k d) (ly_ha L)) hI5 hk9) (hI5.recv C rfl) ⟨Nat.le_of_ble_eq_true rfl, Nat.le_of_ble_eq_true rfl⟩ rfl hl.1 (Nat.le_of_ble_eq_true rfl) ⟨by first | exact Nat.le_of_ble_eq_true rfl | (simp only [rmX2_bury, rmX2_pass]; omega), by first | exact Nat.le_of_ble_eq_true rfl | (simp only [rmX2_bury, rmX2_pass]; omega)⟩ hS5 (hr_AN hAN hS5) dX2_bury_35 (rest := []) rfl
        (fun _ _ _ _ _ h => h.elim) (fun v40 H35 locs36 hp39 hF37 hS38 => ?_)
      obtain ⟨hv41, hH42⟩ := hp39; subst hv41; subst hH42
      refine W.eq (g2 := F0 m 40 ls [.int (hr_I (hr_t (decide (k < dt_k d))))]) rfl ?_
      have hkn : k < dt_k d := by omega
      refine hr_ifb_eq C (tgt := 100) dX2_bury_40 (by decide) (fun hc => ?_) (fun hc => ?_)
      · exact absurd hc (by simp [hkn])
      · refine lv_aload C.x C.b dX2_bury_43 (lv_at hl 0 rfl) ?_
        refine hr_callF (CC := "java/util/ArrayList$Itr") (x := ⟨"java/util/Iterator", "next", "()Ljava/lang/Object;"⟩) (y := yJ3_next) (lw_app (lw_in _ [216, 219, 221, 81] (by decide +kernel) (by decide +kernel)) (lw_meth q223)) (by decide +kernel) (n := 0) C (C.K.1 11 _ rfl).2 (hr_C.fw5 C (hr_inT _ [218, 217, 222, 220, 209] (by decide +kernel)) (by decide)) (mtJ3_next Z (by have h9 := hW5.1.2.2.1.1; rw [(dt_burk_1 i (dt_b0 d i) k).2] at h9; exact h9 : hr_L D H5 (ly_h L) (dt_k d) (ly_ha L)) hI5 hkn (hit9)) (hI5.recv C rfl) ⟨Nat.le_of_ble_eq_true rfl, Nat.le_of_ble_eq_true rfl⟩ rfl hl.1 (Nat.le_of_ble_eq_true rfl) ⟨by first | exact Nat.le_of_ble_eq_true rfl | (simp only [rmX2_bury, rmX2_pass]; omega), by first | exact Nat.le_of_ble_eq_true rfl | (simp only [rmX2_bury, rmX2_pass]; omega)⟩ hS38 (fun q h => h.elim (fun e => by rw [e]; exact (hnew _ hgr1)) (fun h => hAN _ (Nat.le_trans hS38.1 h))) dX2_bury_45 (rest := []) rfl
          (fun _ _ _ _ _ h => h.elim) (fun v48 H43 locs44 hp47 hF45 hS46 => ?_)
        obtain ⟨rfl, ⟨x2, hI42⟩⟩ := hp47
        refine W.eq (g2 := F0 m 50 ls [.ref (ly_ha L k)]) rfl ?_
        have hlt5 := hI5.lt
        have hW6 := hr_Dw.fr C hlm hW5 (hF45.mono (B := fun q => q = H15.size) (fun q hq h => h.resolve_right (by omega))) (fun q hq => ⟨by rw [hq]; exact hit9, fun z => z.2 hq⟩)
        have hsz6 := hF45.1
        have hVk := hV5
        have hkk : k < dt_k (dt_burk i (dt_b0 d i) k).1 := by rw [(dt_burk_1 i (dt_b0 d i) k).2]; exact hkn
        have hnn : dt_n (dt_burk i (dt_b0 d i) k).1 = dt_n d := congrArg (fun z => z.1) (dt_burk_1 i (dt_b0 d i) k).1
        have hi5 : i < dt_n (dt_burk i (dt_b0 d i) k).1 := by rw [hnn]; exact hi
        generalize hgd : dt_burk i (dt_b0 d i) k = dc at *
        refine va_castS C.x C.b C.ow (C.w _ q300) (C.K.1 4 _ rfl).2 ((hW6.1.2.2.1.2 k hkk).recv C rfl) dX2_bury_50 ?_
        refine lv_astore (lv' := [(5, .ref (ly_ha L k)), (4, .ref H15.size), (3, .int (hr_I (dc.2 : Int))), (0, .ref a), (1, .int (hr_I (i : Int))), (2, .ref (ly_pa L i))]) C.x C.b dX2_bury_53 hl (by decide) rfl (fun ls hl => ?_)
        refine lv_aload C.x C.b dX2_bury_55 (lv_at hl 0 rfl) ?_
        refine hr_getN in_X5 (ci := 4) 5 q742 rfl rfl (by decide) C (hW6.1.2.2.1.2 k hkk) rfl dX2_bury_57 ?_
        refine lv_aload_n C.x C.b dX2_bury_60 rfl (lv_at hl 5 rfl) ?_
        refine hr_acmp_ne (x := (dt_ho dc.1 k).map (ly_pa L)) (y := some (ly_pa L i)) C (tgt := 97) dX2_bury_61 (by decide) (fun hc => ?_) (fun hc => ?_)
        · have hno : ¬ dt_ho dc.1 k = some i := fun e => hc (by rw [e]; rfl)
          have e9 : dt_burk i (dt_b0 d i) (k + 1) = dc := by show (if _ then _ else _) = _; rw [hgd, if_neg hno]
          refine lv_goto (tgt := 33) C.x C.b dX2_bury_97 (by decide) ?_
          refine W.widen (show _ ≤ 0 + 1 + 1 + 2 * (k + 1) by simp only [rmJ3_hasNext, rmJ3_next]; omega) (show _ ≤ 0 + 9 + 4 + 6 * (k + 1) by simp only [rmJ3_hasNext, rmJ3_next]; omega) ?_
          exact ih (k + 1) ls _ _ _ (by omega) hI42 hS46 (by rw [e9]; exact hW6) (by rw [e9]; exact hVk) (by rw [e9]; exact (lv_sub hl [1, 2, 3, 4, 5] rfl))
        · have heq : dt_ho dc.1 k = some i := by
            obtain ⟨y, hy, hyx⟩ := Option.map_eq_some_iff.mp hc
            rw [hy, hW6.1.2.1.inj hVk.1.1 (hVk.2.2.1 k hkk y hy).1 hi5 hyx]
          refine lv_iload_n C.x C.b dX2_bury_64 rfl (lv_at hl 2 rfl) ?_
          refine lv_aload_n C.x C.b dX2_bury_65 rfl (lv_at hl 3 rfl) ?_
          refine lv_aload C.x C.b dX2_bury_66 (lv_at hl 0 rfl) ?_
          refine lv_aload C.x C.b dX2_bury_68 (lv_at hl 0 rfl) ?_
          refine hr_getN in_X5 (ci := 4) 3 q735 rfl rfl (by decide) C (hW6.1.2.2.1.2 k hkk) rfl dX2_bury_70 ?_
          refine hr_ifb_eq C (tgt := 84) dX2_bury_73 (by decide) (fun hen => ?_) (fun hen => ?_)
          · refine lv_aload_n C.x C.b dX2_bury_84 rfl (lv_at hl 3 rfl) ?_
            refine lv_aload_n C.x C.b dX2_bury_85 rfl (lv_at hl 5 rfl) ?_
            refine hr_callV (lw_V q479 q480 q481 q77 q482) (by decide +kernel) (n := 1) C (mtX2_heir Z hW6.1.1 hW6.1.2.1 hVk.1 hi5) (hW6.1.1.recv C rfl) ⟨Nat.le_of_ble_eq_true rfl, Nat.le_of_ble_eq_true rfl⟩ rfl hl.1 (Nat.le_of_ble_eq_true rfl) ⟨by first | exact Nat.le_of_ble_eq_true rfl | (simp only [rmX2_bury, rmX2_pass]; omega), by first | exact Nat.le_of_ble_eq_true rfl | (simp only [rmX2_bury, rmX2_pass]; omega)⟩ hS46 (fun q h => hnew _ (Nat.le_trans hS46.1 h)) dX2_bury_86 (rest := [.ref (ly_ha L k), .ref a, .int (hr_I (dc.2 : Int))]) rfl
              (fun _ _ _ _ _ h => h.elim) (fun v54 H49 locs50 hp53 hF51 hS52 => ?_)
            obtain ⟨hv55, hH56⟩ := hp53; subst hv55; subst hH56
            refine W.eq (g2 := F0 m 89 ls [va_rf ((dt_he dc.1 i).map (ly_pa L)), .ref (ly_ha L k), .ref a, .int (hr_I (dc.2 : Int))]) rfl ?_
            refine hr_callV (lw_V q884 q886 qs13 q77 q887) (by decide +kernel) (n := 2) C (mtX2_pass Z (A := (fun q => A q ∧ q ≠ H15.size)) (x := dt_he dc.1 i) (fun q h => hlow _ h.1) (fun q h => ⟨hnew _ (by omega), by omega⟩) hlm hW6 hVk hkk (fun j hj => (dt_he_self hVk.1 hi5 hj).2) (fun j hj z => (dt_he_self hVk.1 hi5 hj).1 (by rw [heq] at z; cases z; rfl))) (hW6.1.1.recv C rfl) ⟨Nat.le_of_ble_eq_true rfl, Nat.le_of_ble_eq_true rfl⟩ rfl hl.1 (Nat.le_of_ble_eq_true rfl) ⟨by first | exact Nat.le_of_ble_eq_true rfl | (simp only [rmX2_bury, rmX2_pass]; omega), by first | exact Nat.le_of_ble_eq_true rfl | (simp only [rmX2_bury, rmX2_pass]; omega)⟩ hS52 (fun q h => h.1) dX2_bury_89 (rest := [.int (hr_I (dc.2 : Int))]) rfl
              (fun _ _ _ _ _ h => h.elim) (fun v62 H57 locs58 hp61 hF59 hS60 => ?_)
            obtain ⟨rfl, hW7⟩ := hp61
            refine W.eq (g2 := F0 m 92 ls [.int (hr_I (hr_t (dt_pas dc.1 k (dt_he dc.1 i)).2)), .int (hr_I (dc.2 : Int))]) rfl ?_
            refine hr_callSN (lw_meth q430) q76 q428 q429 (by decide +kernel) (n := 1) C (mtX1_asInt Z (t := (dt_pas dc.1 k (dt_he dc.1 i)).2)) ⟨Nat.le_of_ble_eq_true rfl, Nat.le_of_ble_eq_true rfl⟩ rfl hl.1 (Nat.le_of_ble_eq_true rfl) ⟨by first | exact Nat.le_of_ble_eq_true rfl | (simp only [rmX2_bury, rmX2_pass]; omega), by first | exact Nat.le_of_ble_eq_true rfl | (simp only [rmX2_bury, rmX2_pass]; omega)⟩ hS60 (fun q h => hnew _ (Nat.le_trans hS60.1 h)) dX2_bury_92 (rest := [.int (hr_I (dc.2 : Int))]) rfl
              (fun _ _ _ _ _ h => h.elim) (fun v68 H63 locs64 hp67 hF65 hS66 => ?_)
            obtain ⟨hv69, hH70⟩ := hp67; subst hv69; subst hH70
            refine W.eq (g2 := F0 m 95 ls [.int (hr_I (hr_t (dt_pas dc.1 k (dt_he dc.1 i)).2)), .int (hr_I (dc.2 : Int))]) rfl ?_
            refine t_iadd C.x C.b dX2_bury_95 (v := hr_I ((dc.2 : Int) + (hr_t (dt_pas dc.1 k (dt_he dc.1 i)).2))) (hr_add _ _) ?_
            refine lv_istore_n (lv' := [(3, .int (hr_I ((dc.2 : Int) + (hr_t (dt_pas dc.1 k (dt_he dc.1 i)).2)))), (5, .ref (ly_ha L k)), (4, .ref H15.size), (0, .ref a), (1, .int (hr_I (i : Int))), (2, .ref (ly_pa L i))]) C.x C.b dX2_bury_96 rfl hl (by decide) rfl (fun ls hl => ?_)
            have e9 : dt_burk i (dt_b0 d i) (k + 1) = ((dt_pas dc.1 k (dt_he dc.1 i)).1, dc.2 + (if (dt_pas dc.1 k (dt_he dc.1 i)).2 = true then 1 else 0)) := by show (if _ then _ else _) = _; rw [hgd, if_pos heq]; simp only [hen]; rfl
            have e8 : (dc.2 : Int) + hr_t (dt_pas dc.1 k (dt_he dc.1 i)).2 = (((dt_pas dc.1 k (dt_he dc.1 i)).1, dc.2 + (if (dt_pas dc.1 k (dt_he dc.1 i)).2 = true then 1 else 0)).2 : Int) := by cases (dt_pas dc.1 k (dt_he dc.1 i)).2 <;> simp [hr_t]
            rw [e8] at hl
            refine lv_goto (tgt := 33) C.x C.b dX2_bury_97 (by decide) ?_
            exact ih (k + 1) ls _ _ _ (by omega) (hI42.kept (hF59.2 _ hI42.lt (fun z => z.2 rfl))) hS66 (by rw [e9]; exact hW7) (by rw [e9]; exact (dt_pas_V hVk hkk (by rw [heq]; exact fun z => nomatch z) (fun j hj => (dt_he_self hVk.1 hi5 hj).2) (fun j hj z => (dt_he_self hVk.1 hi5 hj).1 (by rw [heq] at z; cases z; rfl)))) (by rw [e9]; exact (lv_sub hl [2, 0, 3, 4, 5] rfl))
          · refine lv_aload_n C.x C.b dX2_bury_76 rfl (lv_at hl 3 rfl) ?_
            refine lv_aload_n C.x C.b dX2_bury_77 rfl (lv_at hl 5 rfl) ?_
            refine hr_callV (lw_V q483 q484 q485 q77 q486) (by decide +kernel) (n := 1) C (mtX2_directHeir Z hW6.1.1 hW6.1.2.1 hVk.1 hi5) (hW6.1.1.recv C rfl) ⟨Nat.le_of_ble_eq_true rfl, Nat.le_of_ble_eq_true rfl⟩ rfl hl.1 (Nat.le_of_ble_eq_true rfl) ⟨by first | exact Nat.le_of_ble_eq_true rfl | (simp only [rmX2_bury, rmX2_pass]; omega), by first | exact Nat.le_of_ble_eq_true rfl | (simp only [rmX2_bury, rmX2_pass]; omega)⟩ hS46 (fun q h => hnew _ (Nat.le_trans hS46.1 h)) dX2_bury_78 (rest := [.ref (ly_ha L k), .ref a, .int (hr_I (dc.2 : Int))]) rfl
              (fun _ _ _ _ _ h => h.elim) (fun v76 H71 locs72 hp75 hF73 hS74 => ?_)
            obtain ⟨hv77, hH78⟩ := hp75; subst hv77; subst hH78
            refine W.eq (g2 := F0 m 81 ls [va_rf ((dt_fl dc.1 none i).map (ly_pa L)), .ref (ly_ha L k), .ref a, .int (hr_I (dc.2 : Int))]) rfl ?_
            refine lv_goto (tgt := 89) C.x C.b dX2_bury_81 (by decide) ?_
            refine hr_callV (lw_V q884 q886 qs13 q77 q887) (by decide +kernel) (n := 2) C (mtX2_pass Z (A := (fun q => A q ∧ q ≠ H15.size)) (x := dt_fl dc.1 none i) (fun q h => hlow _ h.1) (fun q h => ⟨hnew _ (by omega), by omega⟩) hlm hW6 hVk hkk (fun j hj => (dt_fl_self hVk.1 hj).2) (fun j hj z => (dt_fl_self hVk.1 hj).1 (by rw [heq] at z; cases z; rfl))) (hW6.1.1.recv C rfl) ⟨Nat.le_of_ble_eq_true rfl, Nat.le_of_ble_eq_true rfl⟩ rfl hl.1 (Nat.le_of_ble_eq_true rfl) ⟨by first | exact Nat.le_of_ble_eq_true rfl | (simp only [rmX2_bury, rmX2_pass]; omega), by first | exact Nat.le_of_ble_eq_true rfl | (simp only [rmX2_bury, rmX2_pass]; omega)⟩ hS74 (fun q h => h.1) dX2_bury_89 (rest := [.int (hr_I (dc.2 : Int))]) rfl
              (fun _ _ _ _ _ h => h.elim) (fun v84 H79 locs80 hp83 hF81 hS82 => ?_)
            obtain ⟨rfl, hW7⟩ := hp83
            refine W.eq (g2 := F0 m 92 ls [.int (hr_I (hr_t (dt_pas dc.1 k (dt_fl dc.1 none i)).2)), .int (hr_I (dc.2 : Int))]) rfl ?_
            refine hr_callSN (lw_meth q430) q76 q428 q429 (by decide +kernel) (n := 1) C (mtX1_asInt Z (t := (dt_pas dc.1 k (dt_fl dc.1 none i)).2)) ⟨Nat.le_of_ble_eq_true rfl, Nat.le_of_ble_eq_true rfl⟩ rfl hl.1 (Nat.le_of_ble_eq_true rfl) ⟨by first | exact Nat.le_of_ble_eq_true rfl | (simp only [rmX2_bury, rmX2_pass]; omega), by first | exact Nat.le_of_ble_eq_true rfl | (simp only [rmX2_bury, rmX2_pass]; omega)⟩ hS82 (fun q h => hnew _ (Nat.le_trans hS82.1 h)) dX2_bury_92 (rest := [.int (hr_I (dc.2 : Int))]) rfl
              (fun _ _ _ _ _ h => h.elim) (fun v90 H85 locs86 hp89 hF87 hS88 => ?_)
            obtain ⟨hv91, hH92⟩ := hp89; subst hv91; subst hH92
            refine W.eq (g2 := F0 m 95 ls [.int (hr_I (hr_t (dt_pas dc.1 k (dt_fl dc.1 none i)).2)), .int (hr_I (dc.2 : Int))]) rfl ?_
            refine t_iadd C.x C.b dX2_bury_95 (v := hr_I ((dc.2 : Int) + (hr_t (dt_pas dc.1 k (dt_fl dc.1 none i)).2))) (hr_add _ _) ?_
            refine lv_istore_n (lv' := [(3, .int (hr_I ((dc.2 : Int) + (hr_t (dt_pas dc.1 k (dt_fl dc.1 none i)).2)))), (5, .ref (ly_ha L k)), (4, .ref H15.size), (0, .ref a), (1, .int (hr_I (i : Int))), (2, .ref (ly_pa L i))]) C.x C.b dX2_bury_96 rfl hl (by decide) rfl (fun ls hl => ?_)
            have e9 : dt_burk i (dt_b0 d i) (k + 1) = ((dt_pas dc.1 k (dt_fl dc.1 none i)).1, dc.2 + (if (dt_pas dc.1 k (dt_fl dc.1 none i)).2 = true then 1 else 0)) := by show (if _ then _ else _) = _; rw [hgd, if_pos heq]; simp only [hen]; rfl
            have e8 : (dc.2 : Int) + hr_t (dt_pas dc.1 k (dt_fl dc.1 none i)).2 = (((dt_pas dc.1 k (dt_fl dc.1 none i)).1, dc.2 + (if (dt_pas dc.1 k (dt_fl dc.1 none i)).2 = true then 1 else 0)).2 : Int) := by cases (dt_pas dc.1 k (dt_fl dc.1 none i)).2 <;> simp [hr_t]
            rw [e8] at hl
            refine lv_goto (tgt := 33) C.x C.b dX2_bury_97 (by decide) ?_
            exact ih (k + 1) ls _ _ _ (by omega) (hI42.kept (hF81.2 _ hI42.lt (fun z => z.2 rfl))) hS88 (by rw [e9]; exact hW7) (by rw [e9]; exact (dt_pas_V hVk hkk (by rw [heq]; exact fun z => nomatch z) (fun j hj => (dt_fl_self hVk.1 hj).2) (fun j hj z => (dt_fl_self hVk.1 hj).1 (by rw [heq] at z; cases z; rfl)))) (by rw [e9]; exact (lv_sub hl [2, 0, 3, 4, 5] rfl))
  exact lp (dt_k d) 0 ls _ _ _  (Nat.zero_add _) hI0 hS24 hW2 (dt_b0_V hV i) (lv_sub hl [0, 1, 3, 4, 2] rfl)
