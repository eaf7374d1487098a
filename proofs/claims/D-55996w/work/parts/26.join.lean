/-! join -/
set_option maxRecDepth 100000
theorem hr_F1.toX {x : Nat} {H H1 H2 : Heap} (h : hr_F1 x H1 H2) (hX : hr_X H H1) (hx : H.size ≤ x) : hr_X H H2 := ⟨Nat.le_trans hX.1 h.1, fun q hq _ => (h.o q (Nat.lt_of_lt_of_le hq hX.1) (by omega)).trans (hX.at hq)⟩
abbrev rmX2_join : Room := { frames := 7, cells := 4, slots := 130, locals := 161 }
set_option maxHeartbeats 4000000 in
set_option maxRecDepth 100000 in
theorem mtX2_join {l : Launch} {D : va_G} {s0 : State} (Z : hr_Z l D s0) {H : Heap} {a : Nat} {L : ly_T} {d : dt_T} {A : Nat → Prop} (hlow : ∀ q, A q → s0.heap.size ≤ q) (hnew : ∀ q, H.size ≤ q → A q) (hlm : hr_lk D L) (hW : hr_Dw D H a L d A) (hV : dt_V d) {par : Option Nat} (hpar : ∀ i, par = some i → i < dt_n d) : hr_M l s0 yX2_join (ws_ yX2_join cX2_join 3 (Option.some (Jvm.ClassFile.FieldType.object "HabitRegistry$Person"))) rmX2_join [.ref a, va_rf (par.map (ly_pa L))] H A (fun v H1 => ∃ L1 : ly_T, v = some (.ref (ly_pa L1 (dt_n d))) ∧ hr_Dw D H1 a L1 (dt_jn d par) A ∧ hr_lk D L1) hr_no := by
  refine hr_of Z (by decide) (by cases par <;> exact Nat.le_of_ble_eq_true rfl) (fun q h => Or.inl (hlow q h)) ?_
  intro p e s m args below meth c Q ls C hQ hin hnx hS hl
  have hAN : ∀ q, H.size ≤ q → A q := hnew
  have hl : lv_has ls 3 [(0, .ref a), (1, va_rf (par.map (ly_pa L)))] := by cases par <;> exact hl
  have hWW := hW
  obtain ⟨hD, hAa, hAl, hSp, hAp, hAh, hA3⟩ := hW
  have hk0 : hr_k D 0 < s0.heap.size := (C.z.2.1 : hr_A s0.heap (hr_k D 0) (D.1 105) 0 (hr_vq fun _ => none)).lt
  have hup := (C.up hS).1
  refine hr_new in_X4 tyX4 tyX4_ok q427 q624 q93 (ci := 3) rfl [.int (hr_I 0), .null, .null, .int (hr_I 0)] dfX4 C (by first | exact Nat.le_of_ble_eq_true rfl | (simp only [rmX2_join]; omega)) (by first | exact Nat.le_of_ble_eq_true rfl | (simp only [rmX2_join]; omega)) hS dX2_join_0 (fun q H1 hq2 hO3 hX4 hz5 hS6 => ?_)
  have hq9 := hq2; subst hq9
  refine lv_dup C.x C.b dX2_join_3 rfl ?_
  refine lv_aload_n C.x C.b dX2_join_4 rfl (lv_at hl 0 rfl) ?_
  refine hr_get in_X2 (ci := 1) 0 q313 rfl rfl (by decide) C (hD.1.x hX4) rfl dX2_join_5 ?_
  refine hr_callV (lw_V q603 q416 q417 q80 q418) (by decide +kernel) (n := 0) C (mtJ2_size Z (hD.2.1.1.x hX4)) ((hD.2.1.1.x hX4).1.recv C rfl) ⟨Nat.le_of_ble_eq_true rfl, Nat.le_of_ble_eq_true rfl⟩ rfl hl.1 (Nat.le_of_ble_eq_true rfl) ⟨by first | exact Nat.le_of_ble_eq_true rfl | (simp only [rmX2_join]; omega), by first | exact Nat.le_of_ble_eq_true rfl | (simp only [rmX2_join]; omega)⟩ hS6 (fun q h => hnew _ (Nat.le_trans hX4.1 h)) dX2_join_8 (rest := [.ref H.size, .ref H.size]) rfl
    (fun _ _ _ _ _ h => h.elim) (fun v12 H7 locs8 hp11 hF9 hS10 => ?_)
  obtain ⟨hv13, hH14⟩ := hp11; subst hv13; subst hH14
  refine W.eq (g2 := F0 m 11 ls [.int (hr_I (dt_n d : Int)), .ref H.size, .ref H.size]) rfl ?_
  refine hr_aload_no C.x C.b dX2_join_11 rfl (lv_at hl 1 rfl) ?_
  refine hr_callI (lw_meth q627) q93 q625 q626 rfl (by decide +kernel) (n := 2) C (mtX4_init Z (par := par.map (ly_pa L)) hup hO3 (ly_pa L)) ⟨Nat.le_of_ble_eq_true rfl, Nat.le_of_ble_eq_true rfl⟩ rfl hl.1 (Nat.le_of_ble_eq_true rfl) ⟨by first | exact Nat.le_of_ble_eq_true rfl | (simp only [rmX2_join]; omega), by first | exact Nat.le_of_ble_eq_true rfl | (simp only [rmX2_join]; omega)⟩ hS10 (fun q h => h.elim (fun e => by rw [e]; exact hnew _ (Nat.le_refl _)) (fun h => hnew _ (Nat.le_trans hX4.1 h))) dX2_join_12 (rest := [.ref H.size]) rfl
    (fun _ _ _ _ _ h => h.elim) (fun v20 H15 locs16 hp19 hF17 hS18 => ?_)
  obtain ⟨rfl, ⟨hO9, hN9⟩⟩ := hp19
  refine W.eq (g2 := F0 m 15 ls [.ref H.size]) rfl ?_
  have hXc : hr_X H H15 := hr_F1.toX (x := H.size) hF17 hX4 (Nat.le_refl _)
  have hcs : H.size < H15.size := by have := hO9.lt; omega
  have hNlt : H1.size < H15.size := hN9.1.lt
  refine lv_astore_n (lv' := [(2, .ref H.size), (0, .ref a), (1, va_rf (par.map (ly_pa L)))]) C.x C.b dX2_join_15 rfl hl (by decide) (by cases par <;> rfl) (fun ls hl => ?_)
  refine lv_aload_n C.x C.b dX2_join_16 rfl (lv_at hl 1 rfl) ?_
  refine hr_get in_X2 (ci := 1) 0 q313 rfl rfl (by decide) C (hD.1.x hXc) rfl dX2_join_17 ?_
  refine lv_aload_n C.x C.b dX2_join_20 rfl (lv_at hl 0 rfl) ?_
  have hPl := hD.2.1.1.x hXc
  have hob : ∀ x, x < dt_n d + 2 → (ly_ls L x).1 < H.size ∧ (ly_ls L x).2.1 < H.size := fun x hx => ⟨(hD.ls x hx).1.lt, (hD.ls x hx).lt2⟩
  have ob0 : (ly_p L).1 < H.size ∧ (ly_p L).2.1 < H.size := hob 0 (by omega)
  refine hr_callV (lw_V q652 q653 q654 q80 q655) (by decide +kernel) (n := 1) C (mtJ2_add Z (L := ly_p L) (hlow _ (hAl 0 (by omega)).1) (fun h9 => hlow _ ((hAl 0 (by omega)).2 (Nat.lt_of_le_of_lt (Nat.zero_le _) h9))) hPl (by have := hV.1.1; omega) (fun j hj => ⟨3, _, Or.inr (Or.inl rfl), (hD.2.1.2.1 j hj).x hXc⟩) ⟨3, _, Or.inr (Or.inl rfl), hO9⟩) ((hD.2.1.1.x hXc).1.recv C rfl) ⟨Nat.le_of_ble_eq_true rfl, Nat.le_of_ble_eq_true rfl⟩ rfl hl.1 (Nat.le_of_ble_eq_true rfl) ⟨by first | exact Nat.le_of_ble_eq_true rfl | (simp only [rmX2_join]; omega), by first | exact Nat.le_of_ble_eq_true rfl | (simp only [rmX2_join]; omega)⟩ hS18 (fun q h => by rcases h with h | ⟨h, h9⟩ | h; (rw [h]; exact (hAl 0 (by omega)).1); (rw [h]; exact (hAl 0 (by omega)).2 (Nat.lt_of_le_of_lt (Nat.zero_le _) h9)); exact hnew _ (Nat.le_trans hXc.1 h)) dX2_join_21 (rest := []) rfl
    (fun _ _ _ _ _ h => h.elim) (fun v26 H21 locs22 hp25 hF23 hS24 => ?_)
  obtain ⟨rfl, ⟨ar1, cap1, hP1, hcap1, har1⟩⟩ := hp25
  refine W.eq (g2 := F0 m 24 ls [.int (hr_I 1)]) rfl ?_
  have hsz2 : H15.size ≤ H21.size := hF23.1
  have hF2 : hr_F (hr_LS L (dt_n d) (fun x => x = 0) H) H H21 := ⟨Nat.le_trans hXc.1 hsz2, fun q hq hn => (hF23.2 q (by omega) (fun z => hn (by rcases z with z | ⟨z, z9⟩ | z; exact Or.inl ⟨0, by omega, rfl, Or.inl z⟩; exact Or.inl ⟨0, by omega, rfl, Or.inr ⟨z, Nat.lt_of_le_of_lt (Nat.zero_le _) z9⟩⟩; omega))).trans (hXc.at hq)⟩
  have hno : ∀ q, H.size ≤ q → q < H15.size → H21[q]? = H15[q]? := fun q h1 h2 => hF23.2 q h2 (fun z => by rcases z with z | ⟨z, -⟩ | z <;> omega)
  have hO8 := hO9.kept (hno _ (Nat.le_refl _) hcs)
  have hN8 := hN9.kept (hno _ hX4.1 hNlt) (hF23.2 _ hN9.lt2 (fun z => by rcases z with z | ⟨z, z9⟩ | z; (have h7 := hlow _ (hAl 0 (by omega)).1; have h6 : hr_k D 0 = (ly_p L).1 := z; have h5 : (ly_ls L 0).1 = (ly_p L).1 := rfl; omega); (have h7 := hlow _ ((hAl 0 (by omega)).2 (Nat.lt_of_le_of_lt (Nat.zero_le _) z9)); have h6 : hr_k D 0 = (ly_p L).2.1 := z; have h5 : (ly_ls L 0).2.1 = (ly_p L).2.1 := rfl; omega); (have h6 : H15.size ≤ hr_k D 0 := z; omega)))
  have hAd1 : hr_Ad (ly_p L) ((ly_p L).1, ar1, cap1, (ly_p L).2.2.2 + hr_I 1) H.size := ⟨rfl, har1.imp (fun z => ⟨z.1, Nat.lt_of_le_of_lt (Nat.zero_le _) z.2⟩) (fun z => Nat.le_trans hXc.1 z)⟩
  refine lv_pop C.x C.b dX2_join_24 rfl ?_
  cases par with
  | none =>
    have hl : lv_has ls 3 [(2, .ref H.size), (0, .ref a), (1, .null)] := hl
    refine lv_aload_nN C.x C.b dX2_join_25 rfl (lv_at hl 2 rfl) ?_
    refine lv_ifnullN (tgt := 38) C.x C.b dX2_join_26 (by decide) ?_
    refine lv_aload_n C.x C.b dX2_join_38 rfl (lv_at hl 0 rfl) ?_
    have hJ := hr_Dw.join C hlow hnew hlm hWW hV (par := none) (fun i hi => nomatch hi) (q := H.size) (P1 := ((ly_p L).1, ar1, cap1, (ly_p L).2.2.2 + hr_I 1)) (C1 := ((ly_p L).1, ar1, cap1, (ly_p L).2.2.2 + hr_I 1)) (N := (H1.size, hr_k D 0, 0, hr_I 0)) (Nat.le_refl _) hX4.1 rfl (hF2.mono (fun q _ z => z.imp (fun ⟨x, h1, h2, h3⟩ => ⟨x, h1, Or.inl h2, h3⟩) id)) (z := H21.size) hF2.1 hP1 hAd1 hP1.lt2 hO8 hN8 (fun i hi => nomatch hi)
    exact hr_aret (Or.inl ⟨_, rfl⟩) (Or.inr ⟨_, rfl⟩) C hQ (by refine ⟨_, ?_, hJ, hlm⟩; show some (Value.ref H.size) = some (.ref (hr_u (ly_pa L) (dt_n d) H.size (dt_n d))); rw [hr_us]) hS24 (by first | exact Nat.le_of_ble_eq_true rfl | (simp only [rmX2_join]; omega)) (by first | exact Nat.le_of_ble_eq_true rfl | (simp only [rmX2_join]; omega)) dX2_join_39
  | some i =>
    have hl : lv_has ls 3 [(2, .ref H.size), (0, .ref a), (1, .ref (ly_pa L i))] := hl
    have hi := hpar i rfl
    obtain ⟨kD, kP, kH, kL, kLs⟩ := hr_LS.keep C hlow hlm hWW hF2
    refine lv_aload_n C.x C.b dX2_join_25 rfl (lv_at hl 2 rfl) ?_
    refine lv_ifnull C.x C.b dX2_join_26 ?_
    refine lv_aload_n C.x C.b dX2_join_29 rfl (lv_at hl 2 rfl) ?_
    refine hr_getN in_X4 (ci := 3) 2 q638 rfl rfl (by decide) C (kP i hi) rfl dX2_join_30 ?_
    refine lv_aload_n C.x C.b dX2_join_33 rfl (lv_at hl 0 rfl) ?_
    have hcl := kLs (i + 2) (by omega) (by omega)
    have obi : (ly_ch L i).1 < H.size ∧ (ly_ch L i).2.1 < H.size := hob (i + 2) (by omega)
    have Ai : hr_Lw A (ly_ch L i) := hAl (i + 2) (by omega)
    refine hr_callV (lw_V q652 q653 q654 q80 q655) (by decide +kernel) (n := 1) C (mtJ2_add Z (L := ly_ch L i) (hlow _ Ai.1) (fun h9 => hlow _ (Ai.2 (Nat.lt_of_le_of_lt (Nat.zero_le _) h9))) hcl (show (dt_kids d i).length < 40 by have := dt_kids_len hV.1 i; omega) (fun j hj => ⟨3, _, Or.inr (Or.inl rfl), kP _ (dt_kid_gt hV.1 (dt_kid_at hj)).2⟩) ⟨3, _, Or.inr (Or.inl rfl), hO8⟩) (hcl.1.recv C rfl) ⟨Nat.le_of_ble_eq_true rfl, Nat.le_of_ble_eq_true rfl⟩ rfl hl.1 (Nat.le_of_ble_eq_true rfl) ⟨by first | exact Nat.le_of_ble_eq_true rfl | (simp only [rmX2_join]; omega), by first | exact Nat.le_of_ble_eq_true rfl | (simp only [rmX2_join]; omega)⟩ hS24 (fun q h => by rcases h with h | ⟨h, h9⟩ | h; (rw [h]; exact Ai.1); (rw [h]; exact Ai.2 (Nat.lt_of_le_of_lt (Nat.zero_le _) h9)); exact hnew _ (Nat.le_trans hF2.1 h)) dX2_join_34 (rest := []) rfl
      (fun _ _ _ _ _ h => h.elim) (fun v32 H27 locs28 hp31 hF29 hS30 => ?_)
    obtain ⟨rfl, ⟨ar2, cap2, hC1, hcap2, har2⟩⟩ := hp31
    refine W.eq (g2 := F0 m 37 ls [.int (hr_I 1)]) rfl ?_
    refine lv_pop C.x C.b dX2_join_37 rfl ?_
    refine lv_aload_n C.x C.b dX2_join_38 rfl (lv_at hl 0 rfl) ?_
    have sp := hSp 0 (i + 2) (by omega) (by omega) (by omega)
    have hno3 : ∀ q, q < H21.size → q ≠ (ly_ch L i).1 → (0 < (ly_ch L i).2.2.1 → q ≠ (ly_ch L i).2.1) → H27[q]? = H21[q]? := fun q h2 h3 h4 => hF29.2 q h2 (fun z => by rcases z with z | ⟨z, z9⟩ | z; exact h3 z; exact h4 (Nat.lt_of_le_of_lt (Nat.zero_le _) z9) z; omega)
    have hP2 := hP1.kept (hno3 _ hP1.1.lt sp.1 (fun _ => by intro z; obtain ⟨g1, ⟨g3, g4, -⟩, -⟩ := hcl; exact hP1.1.neA g4 (C.do 10 rfl (by decide)) z)) (hno3 _ hP1.lt2 (by intro z; obtain ⟨g1, ⟨g3, g4, -⟩, -⟩ := hP1; exact hcl.1.neA g4 (C.do 10 rfl (by decide)) z.symm) (fun hc9 => by rcases har1 with h9 | h9; (intro z; exact sp.2 (Nat.lt_of_le_of_lt (Nat.zero_le _) h9.2) hc9 (h9.1.symm.trans z)); (intro z; have z2 : ar1 = (ly_ch L i).2.1 := z; have := hXc.1; omega)))
    have hO7 := hO8.kept (hno3 _ hO8.lt (by omega) (fun _ => by omega))
    have hN7 := hN8.kept (hno3 _ hN8.1.lt (by have := hX4.1; show H1.size ≠ _; omega) (fun _ => by have := hX4.1; show H1.size ≠ _; omega)) (hno3 _ hN8.lt2 (by have := hlow _ Ai.1; show hr_k D 0 ≠ _; omega) (fun hc9 => by have := hlow _ (Ai.2 hc9); show hr_k D 0 ≠ _; omega))
    have hF3 : hr_F (hr_LS L (dt_n d) (fun x => x = 0 ∨ ∃ i9, some i = some i9 ∧ x = i9 + 2) H) H H27 := ⟨Nat.le_trans hF2.1 hF29.1, fun q hq hn => (hno3 q (Nat.lt_of_lt_of_le hq hF2.1) (fun z => hn (Or.inl ⟨i + 2, by omega, Or.inr ⟨i, rfl, rfl⟩, Or.inl z⟩)) (fun hc9 z => hn (Or.inl ⟨i + 2, by omega, Or.inr ⟨i, rfl, rfl⟩, Or.inr ⟨z, hc9⟩⟩))).trans (hF2.2 q hq (fun z => hn (z.imp (fun ⟨x, h1, h2, h3⟩ => ⟨x, h1, Or.inl h2, h3⟩) id)))⟩
    have hJ := hr_Dw.join C hlow hnew hlm hWW hV (par := some i) hpar (q := H.size) (P1 := ((ly_p L).1, ar1, cap1, (ly_p L).2.2.2 + hr_I 1)) (C1 := ((ly_ch L i).1, ar2, cap2, (ly_ch L i).2.2.2 + hr_I 1)) (N := (H1.size, hr_k D 0, 0, hr_I 0)) (Nat.le_refl _) hX4.1 rfl hF3 (z := H21.size) hF2.1 hP2 hAd1 hP1.lt2 hO7 hN7 (fun i9 hi9 => by cases hi9; exact ⟨hC1, rfl, har2.imp (fun z => ⟨z.1, Nat.lt_of_le_of_lt (Nat.zero_le _) z.2⟩) id⟩)
    exact hr_aret (Or.inl ⟨_, rfl⟩) (Or.inr ⟨_, rfl⟩) C hQ (by refine ⟨_, ?_, hJ, hlm⟩; show some (Value.ref H.size) = some (.ref (hr_u (ly_pa L) (dt_n d) H.size (dt_n d))); rw [hr_us]) hS30 (by first | exact Nat.le_of_ble_eq_true rfl | (simp only [rmX2_join]; omega)) (by first | exact Nat.le_of_ble_eq_true rfl | (simp only [rmX2_join]; omega)) dX2_join_39

def dt_adf (d : dt_T) : Except (Int × Int) (dt_T × Int) := if dt_n d = 16 then .error (1, 16) else .ok (dt_jn d none, (dt_n d : Int))
def dt_adc (d : dt_T) (i : Nat) : Except (Int × Int) (dt_T × Int) := if dt_al d i = false then .error (3, i) else if dt_n d = 16 then .error (1, 16) else .ok (dt_jn d (some i), (dt_n d : Int))
abbrev rmX2_addFounder : Room := { frames := 9, cells := 5, slots := 139, locals := 188 }
set_option maxHeartbeats 4000000 in
set_option maxRecDepth 100000 in
theorem mtX2_addFounder {l : Launch} {D : va_G} {s0 : State} (Z : hr_Z l D s0) {H : Heap} {a : Nat} {L : ly_T} {d : dt_T} {A : Nat → Prop} (hlow : ∀ q, A q → s0.heap.size ≤ q) (hnew : ∀ q, H.size ≤ q → A q) (hlm : hr_lk D L) (hW : hr_Dw D H a L d A) (hV : dt_V d) : hr_M l s0 yX2_addFounder (ws_ yX2_addFounder cX2_addFounder 1 (Option.some Jvm.ClassFile.FieldType.int)) rmX2_addFounder [.ref a] H A (fun v H1 => hr_PO D a A (dt_adf d) v H1) (fun E q H1 => hr_PE D (dt_adf d) E q H1) := by
  refine hr_of Z (by decide) (Nat.le_of_ble_eq_true rfl) (fun q h => Or.inl (hlow q h)) ?_
  intro p e s m args below meth c Q ls C hQ hin hnx hS hl
  have hAN : ∀ q, H.size ≤ q → A q := hnew
  have hl : lv_has ls 1 [(0, .ref a)] := hl
  have hD := hW.1
  refine lv_aload_n C.x C.b dX2_addFounder_0 rfl (lv_at hl 0 rfl) ?_
  refine hr_callV (lw_V q841 q843 qs11 q77 q844) (by decide +kernel) (n := 0) C (mtX2_requireRoom Z hD hV) (hD.1.recv C rfl) ⟨Nat.le_of_ble_eq_true rfl, Nat.le_of_ble_eq_true rfl⟩ rfl hl.1 (Nat.le_of_ble_eq_true rfl) ⟨by first | exact Nat.le_of_ble_eq_true rfl | (simp only [rmX2_addFounder]; omega), by first | exact Nat.le_of_ble_eq_true rfl | (simp only [rmX2_addFounder]; omega)⟩ hS (hr_AN hAN hS) dX2_addFounder_1 (rest := []) rfl
    (fun E9 q9 ce9 H9 locs9 hp9 hF9 hS9 hc9 hv9 hl9 => hr_out C hQ hnx (⟨hp9.1, 1, 16, by unfold dt_adf; rw [if_pos hp9.2.1], hp9.2.2⟩) hS9 hc9 hv9 hl9 (by first | exact Nat.le_of_ble_eq_true rfl | (simp only [rmX2_addFounder]; omega)) (by first | exact Nat.le_of_ble_eq_true rfl | (simp only [rmX2_addFounder]; omega))) (fun v6 H1 locs2 hp5 hF3 hS4 => ?_)
  obtain ⟨rfl, ⟨hrm, hH9⟩⟩ := hp5
  refine W.eq (g2 := F0 m 4 ls []) rfl ?_
  subst hH9
  show W p l e rmX2_addFounder s m args below meth c H locs2 (0 + 1) (0 + 9) Q (F0 m 4 ls [])
  refine lv_aload_n C.x C.b dX2_addFounder_4 rfl (lv_at hl 0 rfl) ?_
  refine lv_null C.x C.b dX2_addFounder_5 ?_
  refine hr_callV (lw_V q620 q622 qs5 q77 q623) (by decide +kernel) (n := 1) C (mtX2_join Z hlow hnew hlm hW hV (par := none) (fun i hi => nomatch hi)) (hD.1.recv C rfl) ⟨Nat.le_of_ble_eq_true rfl, Nat.le_of_ble_eq_true rfl⟩ rfl hl.1 (Nat.le_of_ble_eq_true rfl) ⟨by first | exact Nat.le_of_ble_eq_true rfl | (simp only [rmX2_addFounder]; omega), by first | exact Nat.le_of_ble_eq_true rfl | (simp only [rmX2_addFounder]; omega)⟩ hS4 (fun _ h => h) dX2_addFounder_6 (rest := []) rfl
    (fun _ _ _ _ _ h => h.elim) (fun v12 H7 locs8 hp11 hF9 hS10 => ?_)
  obtain ⟨L1, hv9, hW1, hlm1⟩ := hp11
  subst hv9
  refine W.eq (g2 := F0 m 9 ls [.ref (ly_pa L1 (dt_n d))]) rfl ?_
  refine hr_getN in_X4 (ci := 3) 0 q632 rfl rfl (by decide) C (hW1.1.2.1.2.1 (dt_n d) (Nat.lt_succ_self _)) rfl dX2_addFounder_9 ?_
  exact hr_iret C hQ (⟨_, _, L1, by unfold dt_adf; rw [if_neg (by omega)], rfl, hW1, hlm1⟩) hS10 (by first | exact Nat.le_of_ble_eq_true rfl | (simp only [rmX2_addFounder]; omega)) (by first | exact Nat.le_of_ble_eq_true rfl | (simp only [rmX2_addFounder]; omega)) dX2_addFounder_12

abbrev rmX2_addChild : Room := { frames := 9, cells := 6, slots := 148, locals := 189 }
set_option maxHeartbeats 4000000 in
set_option maxRecDepth 100000 in
theorem mtX2_addChild {l : Launch} {D : va_G} {s0 : State} (Z : hr_Z l D s0) {H : Heap} {a : Nat} {L : ly_T} {d : dt_T} {A : Nat → Prop} (hlow : ∀ q, A q → s0.heap.size ≤ q) (hnew : ∀ q, H.size ≤ q → A q) (hlm : hr_lk D L) (hW : hr_Dw D H a L d A) (hV : dt_V d) {i : Nat} (hi : i < dt_n d) : hr_M l s0 yX2_addChild (ws_ yX2_addChild cX2_addChild 3 (Option.some Jvm.ClassFile.FieldType.int)) rmX2_addChild [.ref a, .int (hr_I (i : Int))] H A (fun v H1 => hr_PO D a A (dt_adc d i) v H1) (fun E q H1 => hr_PE D (dt_adc d i) E q H1) := by
  refine hr_of Z (by decide) (Nat.le_of_ble_eq_true rfl) (fun q h => Or.inl (hlow q h)) ?_
  intro p e s m args below meth c Q ls C hQ hin hnx hS hl
  have hAN : ∀ q, H.size ≤ q → A q := hnew
  have hl : lv_has ls 3 [(0, .ref a), (1, .int (hr_I (i : Int)))] := hl
  have hD := hW.1
  refine lv_aload_n C.x C.b dX2_addChild_0 rfl (lv_at hl 0 rfl) ?_
  refine hr_get in_X2 (ci := 1) 0 q313 rfl rfl (by decide) C hD.1 rfl dX2_addChild_1 ?_
  refine lv_iload_n C.x C.b dX2_addChild_4 rfl (lv_at hl 1 rfl) ?_
  refine hr_callV (lw_V q604 q493 q494 q80 q495) (by decide +kernel) (n := 1) C (mtJ2_get Z hD.2.1.1 hi) (hD.2.1.1.1.recv C rfl) ⟨Nat.le_of_ble_eq_true rfl, Nat.le_of_ble_eq_true rfl⟩ rfl hl.1 (Nat.le_of_ble_eq_true rfl) ⟨by first | exact Nat.le_of_ble_eq_true rfl | (simp only [rmX2_addChild]; omega), by first | exact Nat.le_of_ble_eq_true rfl | (simp only [rmX2_addChild]; omega)⟩ hS (hr_AN hAN hS) dX2_addChild_5 (rest := []) rfl
    (fun _ _ _ _ _ h => h.elim) (fun v6 H1 locs2 hp5 hF3 hS4 => ?_)
  obtain ⟨hv7, hH8⟩ := hp5; subst hv7; subst hH8
  refine W.eq (g2 := F0 m 8 ls [.ref (ly_pa L i)]) rfl ?_
  refine va_castS C.x C.b C.ow (C.w _ q427) (C.K.1 3 _ rfl).2 ((hD.2.1.2.1 i hi).recv C rfl) dX2_addChild_8 ?_
  refine lv_astore_n (lv' := [(2, .ref (ly_pa L i)), (0, .ref a), (1, .int (hr_I (i : Int)))]) C.x C.b dX2_addChild_11 rfl hl (by decide) rfl (fun ls hl => ?_)
  refine lv_aload_n C.x C.b dX2_addChild_12 rfl (lv_at hl 1 rfl) ?_
  refine lv_aload_n C.x C.b dX2_addChild_13 rfl (lv_at hl 0 rfl) ?_
  refine hr_callV (lw_V q876 q878 qs12 q77 q879) (by decide +kernel) (n := 1) C (mtX2_requireAlive Z hD hV hi) (hD.1.recv C rfl) ⟨Nat.le_of_ble_eq_true rfl, Nat.le_of_ble_eq_true rfl⟩ rfl hl.1 (Nat.le_of_ble_eq_true rfl) ⟨by first | exact Nat.le_of_ble_eq_true rfl | (simp only [rmX2_addChild]; omega), by first | exact Nat.le_of_ble_eq_true rfl | (simp only [rmX2_addChild]; omega)⟩ hS4 (hr_AN hAN hS4) dX2_addChild_14 (rest := []) rfl
    (fun E9 q9 ce9 H9 locs9 hp9 hF9 hS9 hc9 hv9 hl9 => hr_out C hQ hnx (⟨hp9.1, 3, i, by unfold dt_adc; rw [if_pos hp9.2.1], hp9.2.2⟩) hS9 hc9 hv9 hl9 (by first | exact Nat.le_of_ble_eq_true rfl | (simp only [rmX2_addChild]; omega)) (by first | exact Nat.le_of_ble_eq_true rfl | (simp only [rmX2_addChild]; omega))) (fun v14 H9 locs10 hp13 hF11 hS12 => ?_)
  obtain ⟨rfl, ⟨hal, hH9⟩⟩ := hp13
  refine W.eq (g2 := F0 m 17 ls []) rfl ?_
  subst hH9
  show W p l e rmX2_addChild s m args below meth c H locs10 (0 + 0 + 1) (0 + 0 + 9) Q (F0 m 17 ls [])
  refine lv_aload_n C.x C.b dX2_addChild_17 rfl (lv_at hl 1 rfl) ?_
  refine hr_callV (lw_V q841 q843 qs11 q77 q844) (by decide +kernel) (n := 0) C (mtX2_requireRoom Z hD hV) (hD.1.recv C rfl) ⟨Nat.le_of_ble_eq_true rfl, Nat.le_of_ble_eq_true rfl⟩ rfl hl.1 (Nat.le_of_ble_eq_true rfl) ⟨by first | exact Nat.le_of_ble_eq_true rfl | (simp only [rmX2_addChild]; omega), by first | exact Nat.le_of_ble_eq_true rfl | (simp only [rmX2_addChild]; omega)⟩ hS12 (hr_AN hAN hS12) dX2_addChild_18 (rest := []) rfl
    (fun E9 q9 ce9 H9 locs9 hp9 hF9 hS9 hc9 hv9 hl9 => hr_out C hQ hnx (⟨hp9.1, 1, 16, by unfold dt_adc; rw [if_neg (by rw [hal]; decide), if_pos hp9.2.1], hp9.2.2⟩) hS9 hc9 hv9 hl9 (by first | exact Nat.le_of_ble_eq_true rfl | (simp only [rmX2_addChild]; omega)) (by first | exact Nat.le_of_ble_eq_true rfl | (simp only [rmX2_addChild]; omega))) (fun v20 H15 locs16 hp19 hF17 hS18 => ?_)
  obtain ⟨rfl, ⟨hrm, hH9⟩⟩ := hp19
  refine W.eq (g2 := F0 m 21 ls []) rfl ?_
  subst hH9
  show W p l e rmX2_addChild s m args below meth c H locs16 (0 + 0 + 1 + 1) (0 + 0 + 9 + 9) Q (F0 m 21 ls [])
  refine lv_aload_n C.x C.b dX2_addChild_21 rfl (lv_at hl 1 rfl) ?_
  refine lv_aload_n C.x C.b dX2_addChild_22 rfl (lv_at hl 0 rfl) ?_
  refine hr_callV (lw_V q620 q622 qs5 q77 q623) (by decide +kernel) (n := 1) C (mtX2_join Z hlow hnew hlm hW hV (par := some i) (fun j hj => by cases hj; exact hi)) (hD.1.recv C rfl) ⟨Nat.le_of_ble_eq_true rfl, Nat.le_of_ble_eq_true rfl⟩ rfl hl.1 (Nat.le_of_ble_eq_true rfl) ⟨by first | exact Nat.le_of_ble_eq_true rfl | (simp only [rmX2_addChild]; omega), by first | exact Nat.le_of_ble_eq_true rfl | (simp only [rmX2_addChild]; omega)⟩ hS18 (fun _ h => h) dX2_addChild_23 (rest := []) rfl
    (fun _ _ _ _ _ h => h.elim) (fun v26 H21 locs22 hp25 hF23 hS24 => ?_)
  obtain ⟨L1, hv9, hW1, hlm1⟩ := hp25
  subst hv9
  refine W.eq (g2 := F0 m 26 ls [.ref (ly_pa L1 (dt_n d))]) rfl ?_
  refine hr_getN in_X4 (ci := 3) 0 q632 rfl rfl (by decide) C (hW1.1.2.1.2.1 (dt_n d) (Nat.lt_succ_self _)) rfl dX2_addChild_26 ?_
  exact hr_iret C hQ (⟨_, _, L1, by unfold dt_adc; rw [if_neg (by rw [hal]; decide), if_neg (by omega)], rfl, hW1, hlm1⟩) hS24 (by first | exact Nat.le_of_ble_eq_true rfl | (simp only [rmX2_addChild]; omega)) (by first | exact Nat.le_of_ble_eq_true rfl | (simp only [rmX2_addChild]; omega)) dX2_addChild_29
