/-! addHabit -/
set_option maxRecDepth 100000
def dt_adh (d : dt_T) (i kk sv : Nat) : Except (Int × Int) (dt_T × Int) := if dt_al d i = false then .error (3, i) else match dt_hof d i (dt_ch kk) with
  | some g => .error (4, g)
  | none => if dt_k d = 20 then .error (2, 20) else .ok (dt_nh d i kk sv, (dt_k d : Int))
abbrev rmX2_addHabit : Room := { frames := 17, cells := 7, slots := 104, locals := 3165 }
set_option maxHeartbeats 4000000 in
set_option maxRecDepth 100000 in
theorem mtX2_addHabit {l : Launch} {D : va_G} {s0 : State} (Z : hr_Z l D s0) {H : Heap} {a : Nat} {L : ly_T} {d : dt_T} {A : Nat → Prop} (hlow : ∀ q, A q → s0.heap.size ≤ q) (hnew : ∀ q, H.size ≤ q → A q) (hlm : hr_lk D L) (hW : hr_Dw D H a L d A) (hV : dt_V d) {i : Nat} (hi : i < dt_n d) {kk sv : Nat} : hr_M l s0 yX2_addHabit (ws_ yX2_addHabit cX2_addHabit 6 (Option.some Jvm.ClassFile.FieldType.int)) rmX2_addHabit [.ref a, .int (hr_I (i : Int)), .int (hr_I (dt_ch kk)), .int (hr_I (sv : Int))] H A (fun v H1 => hr_PO D a A (dt_adh d i kk sv) v H1) (fun E q H1 => hr_PE D (dt_adh d i kk sv) E q H1) := by
  refine hr_of Z (by decide) (Nat.le_of_ble_eq_true rfl) (fun q h => Or.inl (hlow q h)) ?_
  intro p e s m args below meth c Q ls C hQ hin hnx hS hl
  have hAN : ∀ q, H.size ≤ q → A q := hnew
  have hl : lv_has ls 6 [(0, .ref a), (1, .int (hr_I (i : Int))), (2, .int (hr_I (dt_ch kk))), (3, .int (hr_I (sv : Int)))] := hl
  have hD := hW.1
  refine lv_aload_n C.x C.b dX2_addHabit_0 rfl (lv_at hl 0 rfl) ?_
  refine hr_get in_X2 (ci := 1) 0 q313 rfl rfl (by decide) C hD.1 rfl dX2_addHabit_1 ?_
  refine lv_iload_n C.x C.b dX2_addHabit_4 rfl (lv_at hl 1 rfl) ?_
  refine hr_callV (lw_V q604 q493 q494 q80 q495) (by decide +kernel) (n := 1) C (mtJ2_get Z hD.2.1.1 hi) (hD.2.1.1.1.recv C rfl) ⟨Nat.le_of_ble_eq_true rfl, Nat.le_of_ble_eq_true rfl⟩ rfl hl.1 (Nat.le_of_ble_eq_true rfl) ⟨by first | exact Nat.le_of_ble_eq_true rfl | (simp only [rmX2_addHabit]; omega), by first | exact Nat.le_of_ble_eq_true rfl | (simp only [rmX2_addHabit]; omega)⟩ hS (hr_AN hAN hS) dX2_addHabit_5 (rest := []) rfl
    (fun _ _ _ _ _ h => h.elim) (fun v6 H1 locs2 hp5 hF3 hS4 => ?_)
  obtain ⟨hv7, hH8⟩ := hp5; subst hv7; subst hH8
  refine W.eq (g2 := F0 m 8 ls [.ref (ly_pa L i)]) rfl ?_
  refine va_castS C.x C.b C.ow (C.w _ q427) (C.K.1 3 _ rfl).2 ((hD.2.1.2.1 i hi).recv C rfl) dX2_addHabit_8 ?_
  refine lv_astore (lv' := [(4, .ref (ly_pa L i)), (0, .ref a), (1, .int (hr_I (i : Int))), (2, .int (hr_I (dt_ch kk))), (3, .int (hr_I (sv : Int)))]) C.x C.b dX2_addHabit_11 hl (by decide) rfl (fun ls hl => ?_)
  refine lv_aload_n C.x C.b dX2_addHabit_13 rfl (lv_at hl 1 rfl) ?_
  refine lv_aload C.x C.b dX2_addHabit_14 (lv_at hl 0 rfl) ?_
  refine hr_callV (lw_V q876 q878 qs12 q77 q879) (by decide +kernel) (n := 1) C (mtX2_requireAlive Z hD hV hi) (hD.1.recv C rfl) ⟨Nat.le_of_ble_eq_true rfl, Nat.le_of_ble_eq_true rfl⟩ rfl hl.1 (Nat.le_of_ble_eq_true rfl) ⟨by first | exact Nat.le_of_ble_eq_true rfl | (simp only [rmX2_addHabit]; omega), by first | exact Nat.le_of_ble_eq_true rfl | (simp only [rmX2_addHabit]; omega)⟩ hS4 (hr_AN hAN hS4) dX2_addHabit_16 (rest := []) rfl
    (fun E9 q9 ce9 H9 locs9 hp9 hF9 hS9 hc9 hv9 hl9 => hr_out C hQ hnx (⟨hp9.1, 3, i, by unfold dt_adh; rw [if_pos hp9.2.1], hp9.2.2⟩) hS9 hc9 hv9 hl9 (by first | exact Nat.le_of_ble_eq_true rfl | (simp only [rmX2_addHabit]; omega)) (by first | exact Nat.le_of_ble_eq_true rfl | (simp only [rmX2_addHabit]; omega))) (fun v14 H9 locs10 hp13 hF11 hS12 => ?_)
  obtain ⟨rfl, ⟨hal, hH9⟩⟩ := hp13
  refine W.eq (g2 := F0 m 19 ls []) rfl ?_
  subst hH9
  show W p l e rmX2_addHabit s m args below meth c H locs10 (0 + 0 + 1) (0 + 0 + 9) Q (F0 m 19 ls [])
  refine lv_aload_n C.x C.b dX2_addHabit_19 rfl (lv_at hl 1 rfl) ?_
  refine lv_aload C.x C.b dX2_addHabit_20 (lv_at hl 0 rfl) ?_
  refine lv_iload_n C.x C.b dX2_addHabit_22 rfl (lv_at hl 3 rfl) ?_
  refine hr_callV (lw_V q903 q905 qs14 q77 q906) (by decide +kernel) (n := 2) C (mtX2_requireNoKind Z hD hV hi (dt_ch_r kk)) (hD.1.recv C rfl) ⟨Nat.le_of_ble_eq_true rfl, Nat.le_of_ble_eq_true rfl⟩ rfl hl.1 (Nat.le_of_ble_eq_true rfl) ⟨by first | exact Nat.le_of_ble_eq_true rfl | (simp only [rmX2_addHabit]; omega), by first | exact Nat.le_of_ble_eq_true rfl | (simp only [rmX2_addHabit]; omega)⟩ hS12 (hr_AN hAN hS12) dX2_addHabit_23 (rest := []) rfl
    (fun E9 q9 ce9 H9 locs9 hp9 hF9 hS9 hc9 hv9 hl9 => hr_out C hQ hnx (⟨hp9.1, by obtain ⟨g, hg1, hg2⟩ := hp9.2; exact ⟨4, g, by unfold dt_adh; rw [if_neg (by rw [hal]; decide), hg1], hg2⟩⟩) hS9 hc9 hv9 hl9 (by first | exact Nat.le_of_ble_eq_true rfl | (simp only [rmX2_addHabit]; omega)) (by first | exact Nat.le_of_ble_eq_true rfl | (simp only [rmX2_addHabit]; omega))) (fun v20 H15 locs16 hp19 hF17 hS18 => ?_)
  obtain ⟨rfl, ⟨hnk, hXn⟩⟩ := hp19
  refine W.eq (g2 := F0 m 26 ls []) rfl ?_
  have hW1 := hW.x hXn
  have hD1 := hW1.1
  have hnew1 : ∀ q, H15.size ≤ q → A q := fun q h => hnew _ (Nat.le_trans hXn.1 h)
  refine lv_aload_n C.x C.b dX2_addHabit_26 rfl (lv_at hl 1 rfl) ?_
  refine hr_get in_X2 (ci := 1) 1 q315 rfl rfl (by decide) C hD1.1 rfl dX2_addHabit_27 ?_
  refine hr_callV (lw_V q603 q416 q417 q80 q418) (by decide +kernel) (n := 0) C (mtJ2_size Z hD1.2.2.1.1) (hD1.2.2.1.1.1.recv C rfl) ⟨Nat.le_of_ble_eq_true rfl, Nat.le_of_ble_eq_true rfl⟩ rfl hl.1 (Nat.le_of_ble_eq_true rfl) ⟨by first | exact Nat.le_of_ble_eq_true rfl | (simp only [rmX2_addHabit]; omega), by first | exact Nat.le_of_ble_eq_true rfl | (simp only [rmX2_addHabit]; omega)⟩ hS18 (hr_AN hAN hS18) dX2_addHabit_30 (rest := []) rfl
    (fun _ _ _ _ _ h => h.elim) (fun v26 H21 locs22 hp25 hF23 hS24 => ?_)
  obtain ⟨hv27, hH28⟩ := hp25; subst hv27; subst hH28
  refine W.eq (g2 := F0 m 33 ls [.int (hr_I (dt_k d : Int))]) rfl ?_
  have hk20 := hV.2.1
  refine lv_bipush (v := hr_I 20) C.x C.b dX2_addHabit_33 (by decide) ?_
  refine hr_icmp_ne C (tgt := 42) dX2_addHabit_35 (by decide) (by omega) (by omega) (fun hc => ?_) (fun hc => ?_)
  · refine lv_iconst (v := hr_I 0) C.x C.b dX2_addHabit_42 (by decide) ?_
    refine lv_iconst (v := hr_I 2) C.x C.b dX2_addHabit_43 (by decide) ?_
    refine lv_bipush (v := hr_I 20) C.x C.b dX2_addHabit_44 (by decide) ?_
    refine hr_callSN (lw_meth q847) q76 q845 q846 (by decide +kernel) (n := 3) C (mtX1_rejectIf Z (t := false) (r := 2) (dt := 20)) ⟨Nat.le_of_ble_eq_true rfl, Nat.le_of_ble_eq_true rfl⟩ rfl hl.1 (Nat.le_of_ble_eq_true rfl) ⟨by first | exact Nat.le_of_ble_eq_true rfl | (simp only [rmX2_addHabit]; omega), by first | exact Nat.le_of_ble_eq_true rfl | (simp only [rmX2_addHabit]; omega)⟩ hS24 (hr_AN hAN hS24) dX2_addHabit_46 (rest := []) rfl
      (fun _ _ _ _ _ h => nomatch h.2.1) (fun v34 H29 locs30 hp33 hF31 hS32 => ?_)
    obtain ⟨rfl, ⟨ht9, hH9⟩⟩ := hp33
    refine W.eq (g2 := F0 m 49 ls []) rfl ?_
    subst hH9
    show W p l e rmX2_addHabit s m args below meth c H15 locs30 (0 + 0 + 1 + 3 + 0 + 1) (0 + 0 + 9 + 15 + 0 + 9) Q (F0 m 49 ls [])
    refine hr_new in_X5 tyX5 tyX5_ok q300 q721 q98 (ci := 4) rfl [.int (hr_I 0), .int (hr_I 0), .int (hr_I 0), .int (hr_I 0), .int (hr_I 0), .null] dfX5 C (by first | exact Nat.le_of_ble_eq_true rfl | (simp only [rmX2_addHabit]; omega)) (by first | exact Nat.le_of_ble_eq_true rfl | (simp only [rmX2_addHabit]; omega)) hS32 dX2_addHabit_49 (fun q H35 hq36 hO37 hX38 hz39 hS40 => ?_)
    have hq9 := hq36; subst hq9
    have hup := (C.up hS40).1
    have hX2 : hr_X H15 H35 := hX38
    refine lv_dup C.x C.b dX2_addHabit_52 rfl ?_
    refine lv_aload_n C.x C.b dX2_addHabit_53 rfl (lv_at hl 1 rfl) ?_
    refine hr_get in_X2 (ci := 1) 1 q315 rfl rfl (by decide) C (hD1.1.x hX2) rfl dX2_addHabit_54 ?_
    refine hr_callV (lw_V q603 q416 q417 q80 q418) (by decide +kernel) (n := 0) C (mtJ2_size Z (hD1.2.2.1.1.x hX2)) ((hD1.2.2.1.1.x hX2).1.recv C rfl) ⟨Nat.le_of_ble_eq_true rfl, Nat.le_of_ble_eq_true rfl⟩ rfl hl.1 (Nat.le_of_ble_eq_true rfl) ⟨by first | exact Nat.le_of_ble_eq_true rfl | (simp only [rmX2_addHabit]; omega), by first | exact Nat.le_of_ble_eq_true rfl | (simp only [rmX2_addHabit]; omega)⟩ hS40 (fun q h => hnew1 _ (Nat.le_trans hX2.1 h)) dX2_addHabit_57 (rest := [.ref H15.size, .ref H15.size]) rfl
      (fun _ _ _ _ _ h => h.elim) (fun v46 H41 locs42 hp45 hF43 hS44 => ?_)
    obtain ⟨hv47, hH48⟩ := hp45; subst hv47; subst hH48
    refine W.eq (g2 := F0 m 60 ls [.int (hr_I (dt_k d : Int)), .ref H15.size, .ref H15.size]) rfl ?_
    refine lv_iload_n C.x C.b dX2_addHabit_60 rfl (lv_at hl 3 rfl) ?_
    refine lv_iload_n C.x C.b dX2_addHabit_61 rfl (lv_at hl 4 rfl) ?_
    refine hr_callI (lw_meth q724) q98 q722 q723 rfl (by decide +kernel) (n := 3) C (mtX5_init Z (i := (dt_k d : Int)) (kc := dt_ch kk) (st := (sv : Int)) (dt_ch_r kk) (Nat.le_trans (C.up hS).1 hXn.1) hO37) ⟨Nat.le_of_ble_eq_true rfl, Nat.le_of_ble_eq_true rfl⟩ rfl hl.1 (Nat.le_of_ble_eq_true rfl) ⟨by first | exact Nat.le_of_ble_eq_true rfl | (simp only [rmX2_addHabit]; omega), by first | exact Nat.le_of_ble_eq_true rfl | (simp only [rmX2_addHabit]; omega)⟩ hS44 (fun q h => h.elim (fun e => by rw [e]; exact hnew1 _ (Nat.le_refl _)) (fun h => hnew1 _ (Nat.le_trans hX2.1 h))) dX2_addHabit_62 (rest := [.ref H15.size]) rfl
      (fun _ _ _ _ _ h => h.elim) (fun v54 H49 locs50 hp53 hF51 hS52 => ?_)
    obtain ⟨rfl, hO9⟩ := hp53
    refine W.eq (g2 := F0 m 65 ls [.ref H15.size]) rfl ?_
    refine lv_astore (lv' := [(5, .ref H15.size), (4, .ref (ly_pa L i)), (0, .ref a), (1, .int (hr_I (i : Int))), (2, .int (hr_I (dt_ch kk))), (3, .int (hr_I (sv : Int)))]) C.x C.b dX2_addHabit_65 hl (by decide) rfl (fun ls hl => ?_)
    refine lv_aload C.x C.b dX2_addHabit_67 (lv_at hl 0 rfl) ?_
    refine lv_aload C.x C.b dX2_addHabit_69 (lv_at hl 1 rfl) ?_
    refine hr_putN in_X5 tyX5 tyX5_ok nmX5 (ci := 4) 5 rfl q742 rfl rfl (by decide) C hO9 (Nat.le_of_ble_eq_true rfl) rfl rfl hS52 (hnew1 _ (Nat.le_refl _)) dX2_addHabit_71 (fun H55 locs57 hO58 hz59 ho60 hS56 => ?_)
    have hXc : hr_X H15 H55 := hr_F1.toX (x := H15.size) (hr_F1.tr hF51 (hr_F1.put hz59 ho60)) hX2 (Nat.le_refl _)
    have hcs : H15.size < H55.size := hO58.lt
    refine lv_aload_n C.x C.b dX2_addHabit_74 rfl (lv_at hl 2 rfl) ?_
    refine hr_get in_X2 (ci := 1) 1 q315 rfl rfl (by decide) C (hD1.1.x hXc) rfl dX2_addHabit_75 ?_
    refine lv_aload C.x C.b dX2_addHabit_78 (lv_at hl 0 rfl) ?_
    have ob1 : (ly_h L).1 < H15.size ∧ (ly_h L).2.1 < H15.size := ⟨(hD1.ls 1 (by omega)).1.lt, (hD1.ls 1 (by omega)).lt2⟩
    have A1 : hr_Lw A (ly_h L) := hW1.2.2.1 1 (by omega)
    refine hr_callV (lw_V q652 q653 q654 q80 q655) (by decide +kernel) (n := 1) C (mtJ2_add Z (L := ly_h L) (hlow _ A1.1) (fun h9 => hlow _ (A1.2 (Nat.lt_of_le_of_lt (Nat.zero_le _) h9))) (hD1.2.2.1.1.x hXc) (by omega) (fun j hj => ⟨4, _, Or.inr (Or.inr (Or.inl rfl)), (hD1.2.2.1.2 j hj).x hXc⟩) ⟨4, _, Or.inr (Or.inr (Or.inl rfl)), hO58⟩) ((hD1.2.2.1.1.x hXc).1.recv C rfl) ⟨Nat.le_of_ble_eq_true rfl, Nat.le_of_ble_eq_true rfl⟩ rfl hl.1 (Nat.le_of_ble_eq_true rfl) ⟨by first | exact Nat.le_of_ble_eq_true rfl | (simp only [rmX2_addHabit]; omega), by first | exact Nat.le_of_ble_eq_true rfl | (simp only [rmX2_addHabit]; omega)⟩ hS56 (fun q h => by rcases h with h | ⟨h, h9⟩ | h; (rw [h]; exact A1.1); (rw [h]; exact A1.2 (Nat.lt_of_le_of_lt (Nat.zero_le _) h9)); exact hnew1 _ (Nat.le_trans hXc.1 h)) dX2_addHabit_80 (rest := []) rfl
      (fun _ _ _ _ _ h => h.elim) (fun v66 H61 locs62 hp65 hF63 hS64 => ?_)
    obtain ⟨rfl, ⟨ar1, cap1, hP1, hcap1, har1⟩⟩ := hp65
    refine W.eq (g2 := F0 m 83 ls [.int (hr_I 1)]) rfl ?_
    have hO8 := hO58.kept (hF63.2 _ hcs (fun z => by rcases z with z | ⟨z, -⟩ | z <;> omega))
    refine lv_pop C.x C.b dX2_addHabit_83 rfl ?_
    refine lv_aload C.x C.b dX2_addHabit_84 (lv_at hl 0 rfl) ?_
    refine hr_getN in_X5 (ci := 4) 0 q727 rfl rfl (by decide) C hO8 rfl dX2_addHabit_86 ?_
    have hF2 : hr_F (hr_LS L (dt_n d) (fun x => x = 1) H15) H15 H61 := ⟨Nat.le_trans hXc.1 hF63.1, fun q hq hn => (hF63.2 q (by omega) (fun z => hn (by rcases z with z | ⟨z, z9⟩ | z; exact Or.inl ⟨1, by omega, rfl, Or.inl z⟩; exact Or.inl ⟨1, by omega, rfl, Or.inr ⟨z, Nat.lt_of_le_of_lt (Nat.zero_le _) z9⟩⟩; omega))).trans (hXc.at hq)⟩
    have hJ := hr_Dw.habit C hlow hnew1 hlm hW1 (q := H15.size) (Q1 := ((ly_h L).1, ar1, cap1, (ly_h L).2.2.2 + hr_I 1)) (i := i) (kk := kk) (sv := sv) (Nat.le_refl _) hF2 hP1 ⟨rfl, har1.imp (fun z => ⟨z.1, Nat.lt_of_le_of_lt (Nat.zero_le _) z.2⟩) (fun z => Nat.le_trans hXc.1 z)⟩ hO8
    exact hr_iret C hQ (⟨_, _, _, by unfold dt_adh; rw [if_neg (by rw [hal]; decide), hnk]; exact if_neg (by omega), rfl, hJ, hlm⟩) hS64 (by first | exact Nat.le_of_ble_eq_true rfl | (simp only [rmX2_addHabit]; omega)) (by first | exact Nat.le_of_ble_eq_true rfl | (simp only [rmX2_addHabit]; omega)) dX2_addHabit_89
  · refine lv_iconst (v := hr_I 1) C.x C.b dX2_addHabit_38 (by decide) ?_
    refine lv_goto (tgt := 43) C.x C.b dX2_addHabit_39 (by decide) ?_
    refine lv_iconst (v := hr_I 2) C.x C.b dX2_addHabit_43 (by decide) ?_
    refine lv_bipush (v := hr_I 20) C.x C.b dX2_addHabit_44 (by decide) ?_
    refine hr_callSN (lw_meth q847) q76 q845 q846 (by decide +kernel) (n := 3) C (mtX1_rejectIf Z (t := true) (r := 2) (dt := 20)) ⟨Nat.le_of_ble_eq_true rfl, Nat.le_of_ble_eq_true rfl⟩ rfl hl.1 (Nat.le_of_ble_eq_true rfl) ⟨by first | exact Nat.le_of_ble_eq_true rfl | (simp only [rmX2_addHabit]; omega), by first | exact Nat.le_of_ble_eq_true rfl | (simp only [rmX2_addHabit]; omega)⟩ hS24 (hr_AN hAN hS24) dX2_addHabit_46 (rest := []) rfl
      (fun E9 q9 ce9 H9 locs9 hp9 hF9 hS9 hc9 hv9 hl9 => hr_out C hQ hnx (⟨hp9.1, 2, 20, by unfold dt_adh; rw [if_neg (by rw [hal]; decide), hnk]; exact if_pos (by omega), hp9.2.2⟩) hS9 hc9 hv9 hl9 (by first | exact Nat.le_of_ble_eq_true rfl | (simp only [rmX2_addHabit]; omega)) (by first | exact Nat.le_of_ble_eq_true rfl | (simp only [rmX2_addHabit]; omega))) (fun v72 H67 locs68 hp71 hF69 hS70 => ?_)
    obtain ⟨rfl, ⟨ht9, hH9⟩⟩ := hp71
    refine W.eq (g2 := F0 m 49 ls []) rfl ?_
    exact nomatch ht9
