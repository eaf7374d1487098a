/-! changes of habits -/
set_option maxRecDepth 100000
/-- the lambdas that capture nothing -/
def hr_lk (D : va_G) (L : ly_T) : Prop := (ly_lm L).1 = hr_k D 50 ∧ (ly_lm L).2.1 = hr_k D 51 ∧ (ly_lm L).2.2.1 = hr_k D 52
/-- what a change ends in -/
def hr_PO (D : va_G) (a : Nat) (A : Nat → Prop) (res : Except (Int × Int) (dt_T × Int)) : Option Value → Heap → Prop := fun v H1 => ∃ (d1 : dt_T) (r : Int) (L1 : ly_T), res = .ok (d1, r) ∧ v = some (.int (hr_I r)) ∧ hr_Dw D H1 a L1 d1 A ∧ hr_lk D L1
def hr_PE (D : va_G) (res : Except (Int × Int) (dt_T × Int)) : String → Addr → Heap → Prop := fun E q H1 => E = "HabitRegistry$Rejection" ∧ ∃ r dt : Int, res = .error (r, dt) ∧ hr_Rj D H1 q none r dt
/-- the habits put anew -/
def dt_wH (d : dt_T) (ho : Nat → Option Nat) (st : Nat → Nat) (en pr : Nat → Bool) : dt_T := (d.1, (dt_k d, ho, dt_ki d, st, en, pr), d.2.2)
def dt_wT (d : dt_T) (yr : Int32) (la me br : Nat) : dt_T := (d.1, d.2.1, (yr, la, me, br))
def dt_prac (d : dt_T) (h : Nat) : Except (Int × Int) (dt_T × Int) := if dt_ho d h = none then .error (5, h) else if dt_st d h = 9 then .error (6, 9) else .ok (dt_wH d (dt_ho d) (hr_u (dt_st d) h (dt_st d h + 1)) (dt_en d) (hr_u (dt_pr d) h true), (dt_st d h : Int) + 1)
def dt_brk (d : dt_T) (h : Nat) : Except (Int × Int) (dt_T × Int) := if dt_ho d h = none then .error (5, h) else if dt_en d h = false then .error (8, h) else .ok (dt_wH d (dt_ho d) (hr_u (dt_st d) h ((dt_st d h + 1) / 2)) (hr_u (dt_en d) h false) (dt_pr d), ((dt_st d h + 1) / 2 : Nat))
def dt_ent (d : dt_T) (h : Nat) : Except (Int × Int) (dt_T × Int) := match dt_ho d h with
  | none => .error (5, h)
  | some i => if dt_en d h = true then .error (7, h) else if dt_fl d none i = none then .error (9, i) else .ok (dt_wH d (dt_ho d) (dt_st d) (hr_u (dt_en d) h true) (dt_pr d), (i : Int))
theorem dt_wH_o {d : dt_T} {L : ly_T} {x : Nat} {ho : Nat → Option Nat} {st : Nat → Nat} {en pr : Nat → Bool} (h1 : ∀ g, g ≠ x → ho g = dt_ho d g) (h2 : ∀ g, g ≠ x → st g = dt_st d g) (h3 : ∀ g, g ≠ x → en g = dt_en d g) (h4 : ∀ g, g ≠ x → pr g = dt_pr d g) : ∀ g, g < dt_k d → g ≠ x → fs_H (dt_wH d ho st en pr) L g = fs_H d L g := by
  intro g _ hg
  show [_, _, _, _, _, _] = [_, _, _, _, _, _]
  have e1 : dt_ho (dt_wH d ho st en pr) g = dt_ho d g := h1 g hg
  have e2 : dt_st (dt_wH d ho st en pr) g = dt_st d g := h2 g hg
  have e3 : dt_en (dt_wH d ho st en pr) g = dt_en d g := h3 g hg
  have e4 : dt_pr (dt_wH d ho st en pr) g = dt_pr d g := h4 g hg
  have e5 : dt_ki (dt_wH d ho st en pr) g = dt_ki d g := rfl
  rw [e1, e2, e3, e4, e5]
section IDV
variable {l : Launch} {D : va_G} {s0 : State} {own : String} {ret : Option FieldType} {nL : Nat}
variable {p : Program} {e : Env} {R : Room} {s : State} {m : MethodId} {args : Array Value} {below : List Frame} {meth : Method} {c : Code} {H : Heap} {locs : List Loc} {cells slots : Nat} {Q : State → Prop}
variable {cc : ByteArray} {pc : Nat} {ls : Array Slot} {rest : List Value} {A : Nat → Prop} {H0 : Heap}
theorem hr_idiv {a b : Nat} (C : hr_C l D s0 H0 A p s m args meth c cc nL own ret) (ha : a < 2 ^ 31) (h0 : 0 < b) (hb : b < 2 ^ 31) (d : decode cc pc = .ok (.idiv, 1)) (kk : W p l e R s m args below meth c H locs cells slots Q (F0 m (pc + 1) ls (.int (hr_I ((a / b : Nat) : Int)) :: rest))) : W p l e R s m args below meth c H locs cells slots Q (F0 m pc ls (.int (hr_I (b : Int)) :: .int (hr_I (a : Int)) :: rest)) := by
  have e1 : hr_I (a : Int) / hr_I (b : Int) = hr_I ((a / b : Nat) : Int) := by
    have := pk_div ha h0 hb
    rw [show nI a = hr_I (a : Int) from hr_n a, show nI b = hr_I (b : Int) from hr_n b, show nI (a / b) = hr_I ((a / b : Nat) : Int) from hr_n _] at this
    exact this
  refine lv_idiv C.x C.b d (fun z => ?_) ?_
  · have := (hr_eq (a := (b : Int)) (b := 0) ⟨by omega, by omega⟩ ⟨by omega, by omega⟩).mp (by rw [z]; exact hr_0.symm)
    omega
  · rw [e1]; exact kk
end IDV
/-- a habit becomes weaker: whether it ends -/
def dt_weak (d : dt_T) (h : Nat) : dt_T × Bool := if dt_st d h = 1 then (dt_wT (dt_wH d (hr_u (dt_ho d) h none) (hr_u (dt_st d) h 0) (hr_u (dt_en d) h false) (hr_u (dt_pr d) h false)) (dt_yr d) (dt_la d + 1) (dt_me d) (dt_br d), true) else (dt_wH d (dt_ho d) (hr_u (dt_st d) h (dt_st d h - 1)) (dt_en d) (dt_pr d), false)
theorem dt_weak_k (d : dt_T) (h : Nat) : dt_k (dt_weak d h).1 = dt_k d ∧ dt_n (dt_weak d h).1 = dt_n d := by
  unfold dt_weak; split <;> exact ⟨rfl, rfl⟩
def dt_neg (d : dt_T) (h : Nat) : Except (Int × Int) (dt_T × Int) := if dt_ho d h = none then .error (5, h) else .ok ((dt_weak d h).1, (dt_st (dt_weak d h).1 h : Int))
abbrev rmX2_requireAlive : Room := { frames := 8, cells := 1, slots := 9, locals := 168 }
set_option maxHeartbeats 4000000 in
set_option maxRecDepth 100000 in
theorem mtX2_requireAlive {l : Launch} {D : va_G} {s0 : State} (Z : hr_Z l D s0) {H : Heap} {a : Nat} {L : ly_T} {d : dt_T} (hD : hr_Dt D H a L d) (hV : dt_V d) {i : Nat} (hi : i < dt_n d) : hr_M l s0 yX2_requireAlive (ws_ yX2_requireAlive cX2_requireAlive 2 (Option.none : Option Jvm.ClassFile.FieldType)) rmX2_requireAlive [.ref a, .ref (ly_pa L i)] H (hr_N H) (fun v H1 => v = none ∧ dt_al d i = true ∧ H = H1) (fun E q H1 => E = "HabitRegistry$Rejection" ∧ dt_al d i = false ∧ hr_Rj D H1 q none 3 i) := by
  refine hr_of Z (by decide) (Nat.le_of_ble_eq_true rfl) (fun _ h => Or.inr h) ?_
  intro p e s m args below meth c Q ls C hQ hin hnx hS hl
  have hAN : ∀ q, H.size ≤ q → (hr_N H) q := (fun _ h => h)
  have hl : lv_has ls 2 [(0, .ref a), (1, .ref (ly_pa L i))] := hl
  refine lv_aload_n C.x C.b dX2_requireAlive_0 rfl (lv_at hl 1 rfl) ?_
  refine hr_getN in_X4 (ci := 3) 3 q641 rfl rfl (by decide) C (hD.2.1.2.1 i hi) rfl dX2_requireAlive_1 ?_
  refine hr_ifb_ne C (tgt := 11) dX2_requireAlive_4 (by decide) (fun hc => ?_) (fun hc => ?_)
  · refine lv_iconst (v := hr_I 0) C.x C.b dX2_requireAlive_11 (by decide) ?_
    refine lv_iconst (v := hr_I 3) C.x C.b dX2_requireAlive_12 (by decide) ?_
    refine lv_aload_n C.x C.b dX2_requireAlive_13 rfl (lv_at hl 1 rfl) ?_
    refine hr_getN in_X4 (ci := 3) 0 q632 rfl rfl (by decide) C (hD.2.1.2.1 i hi) rfl dX2_requireAlive_14 ?_
    refine hr_callSN (lw_meth q847) q76 q845 q846 (by decide +kernel) (n := 3) C (mtX1_rejectIf Z (t := false) (r := 3) (dt := i)) ⟨Nat.le_of_ble_eq_true rfl, Nat.le_of_ble_eq_true rfl⟩ rfl hl.1 (Nat.le_of_ble_eq_true rfl) ⟨by first | exact Nat.le_of_ble_eq_true rfl | (simp only [rmX2_requireAlive]; omega), by first | exact Nat.le_of_ble_eq_true rfl | (simp only [rmX2_requireAlive]; omega)⟩ hS (hr_AN hAN hS) dX2_requireAlive_17 (rest := []) rfl
      (fun _ _ _ _ _ h => nomatch h.2.1) (fun v6 H1 locs2 hp5 hF3 hS4 => ?_)
    obtain ⟨rfl, ⟨ht9, hH9⟩⟩ := hp5
    refine W.eq (g2 := F0 m 20 ls []) rfl ?_
    subst hH9
    show W p l e rmX2_requireAlive s m args below meth c H locs2 (0 + 1) (0 + 9) Q (F0 m 20 ls [])
    exact hr_vret C hQ (⟨rfl, hc, rfl⟩) hS4 (by first | exact Nat.le_of_ble_eq_true rfl | (simp only [rmX2_requireAlive]; omega)) (by first | exact Nat.le_of_ble_eq_true rfl | (simp only [rmX2_requireAlive]; omega)) dX2_requireAlive_20
  · refine lv_iconst (v := hr_I 1) C.x C.b dX2_requireAlive_7 (by decide) ?_
    refine lv_goto (tgt := 12) C.x C.b dX2_requireAlive_8 (by decide) ?_
    refine lv_iconst (v := hr_I 3) C.x C.b dX2_requireAlive_12 (by decide) ?_
    refine lv_aload_n C.x C.b dX2_requireAlive_13 rfl (lv_at hl 1 rfl) ?_
    refine hr_getN in_X4 (ci := 3) 0 q632 rfl rfl (by decide) C (hD.2.1.2.1 i hi) rfl dX2_requireAlive_14 ?_
    refine hr_callSN (lw_meth q847) q76 q845 q846 (by decide +kernel) (n := 3) C (mtX1_rejectIf Z (t := true) (r := 3) (dt := i)) ⟨Nat.le_of_ble_eq_true rfl, Nat.le_of_ble_eq_true rfl⟩ rfl hl.1 (Nat.le_of_ble_eq_true rfl) ⟨by first | exact Nat.le_of_ble_eq_true rfl | (simp only [rmX2_requireAlive]; omega), by first | exact Nat.le_of_ble_eq_true rfl | (simp only [rmX2_requireAlive]; omega)⟩ hS (hr_AN hAN hS) dX2_requireAlive_17 (rest := []) rfl
      (fun E9 q9 ce9 H9 locs9 hp9 hF9 hS9 hc9 hv9 hl9 => hr_out C hQ hnx (⟨hp9.1, hc, hp9.2.2⟩) hS9 hc9 hv9 hl9 (by first | exact Nat.le_of_ble_eq_true rfl | (simp only [rmX2_requireAlive]; omega)) (by first | exact Nat.le_of_ble_eq_true rfl | (simp only [rmX2_requireAlive]; omega))) (fun v12 H7 locs8 hp11 hF9 hS10 => ?_)
    obtain ⟨rfl, ⟨ht9, hH9⟩⟩ := hp11
    refine W.eq (g2 := F0 m 20 ls []) rfl ?_
    exact nomatch ht9

abbrev rmX2_requireRoom : Room := { frames := 8, cells := 1, slots := 9, locals := 168 }
set_option maxHeartbeats 4000000 in
set_option maxRecDepth 100000 in
theorem mtX2_requireRoom {l : Launch} {D : va_G} {s0 : State} (Z : hr_Z l D s0) {H : Heap} {a : Nat} {L : ly_T} {d : dt_T} (hD : hr_Dt D H a L d) (hV : dt_V d) : hr_M l s0 yX2_requireRoom (ws_ yX2_requireRoom cX2_requireRoom 1 (Option.none : Option Jvm.ClassFile.FieldType)) rmX2_requireRoom [.ref a] H (hr_N H) (fun v H1 => v = none ∧ dt_n d < 16 ∧ H = H1) (fun E q H1 => E = "HabitRegistry$Rejection" ∧ dt_n d = 16 ∧ hr_Rj D H1 q none 1 16) := by
  refine hr_of Z (by decide) (Nat.le_of_ble_eq_true rfl) (fun _ h => Or.inr h) ?_
  intro p e s m args below meth c Q ls C hQ hin hnx hS hl
  have hAN : ∀ q, H.size ≤ q → (hr_N H) q := (fun _ h => h)
  have hl : lv_has ls 1 [(0, .ref a)] := hl
  have hn16 := hV.1.1
  refine lv_aload_n C.x C.b dX2_requireRoom_0 rfl (lv_at hl 0 rfl) ?_
  refine hr_get in_X2 (ci := 1) 0 q313 rfl rfl (by decide) C hD.1 rfl dX2_requireRoom_1 ?_
  refine hr_callV (lw_V q603 q416 q417 q80 q418) (by decide +kernel) (n := 0) C (mtJ2_size Z hD.2.1.1) (hD.2.1.1.1.recv C rfl) ⟨Nat.le_of_ble_eq_true rfl, Nat.le_of_ble_eq_true rfl⟩ rfl hl.1 (Nat.le_of_ble_eq_true rfl) ⟨by first | exact Nat.le_of_ble_eq_true rfl | (simp only [rmX2_requireRoom]; omega), by first | exact Nat.le_of_ble_eq_true rfl | (simp only [rmX2_requireRoom]; omega)⟩ hS (hr_AN hAN hS) dX2_requireRoom_4 (rest := []) rfl
    (fun _ _ _ _ _ h => h.elim) (fun v6 H1 locs2 hp5 hF3 hS4 => ?_)
  obtain ⟨hv7, hH8⟩ := hp5; subst hv7; subst hH8
  refine W.eq (g2 := F0 m 7 ls [.int (hr_I (dt_n d : Int))]) rfl ?_
  refine lv_bipush (v := hr_I 16) C.x C.b dX2_requireRoom_7 (by decide) ?_
  refine hr_icmp_ne C (tgt := 16) dX2_requireRoom_9 (by decide) (by omega) (by omega) (fun hc => ?_) (fun hc => ?_)
  · refine lv_iconst (v := hr_I 0) C.x C.b dX2_requireRoom_16 (by decide) ?_
    refine lv_iconst (v := hr_I 1) C.x C.b dX2_requireRoom_17 (by decide) ?_
    refine lv_bipush (v := hr_I 16) C.x C.b dX2_requireRoom_18 (by decide) ?_
    refine hr_callSN (lw_meth q847) q76 q845 q846 (by decide +kernel) (n := 3) C (mtX1_rejectIf Z (t := false) (r := 1) (dt := 16)) ⟨Nat.le_of_ble_eq_true rfl, Nat.le_of_ble_eq_true rfl⟩ rfl hl.1 (Nat.le_of_ble_eq_true rfl) ⟨by first | exact Nat.le_of_ble_eq_true rfl | (simp only [rmX2_requireRoom]; omega), by first | exact Nat.le_of_ble_eq_true rfl | (simp only [rmX2_requireRoom]; omega)⟩ hS4 (hr_AN hAN hS4) dX2_requireRoom_20 (rest := []) rfl
      (fun _ _ _ _ _ h => nomatch h.2.1) (fun v14 H9 locs10 hp13 hF11 hS12 => ?_)
    obtain ⟨rfl, ⟨ht9, hH9⟩⟩ := hp13
    refine W.eq (g2 := F0 m 23 ls []) rfl ?_
    subst hH9
    show W p l e rmX2_requireRoom s m args below meth c H locs10 (0 + 0 + 1) (0 + 0 + 9) Q (F0 m 23 ls [])
    exact hr_vret C hQ (⟨rfl, by omega, rfl⟩) hS12 (by first | exact Nat.le_of_ble_eq_true rfl | (simp only [rmX2_requireRoom]; omega)) (by first | exact Nat.le_of_ble_eq_true rfl | (simp only [rmX2_requireRoom]; omega)) dX2_requireRoom_23
  · refine lv_iconst (v := hr_I 1) C.x C.b dX2_requireRoom_12 (by decide) ?_
    refine lv_goto (tgt := 17) C.x C.b dX2_requireRoom_13 (by decide) ?_
    refine lv_iconst (v := hr_I 1) C.x C.b dX2_requireRoom_17 (by decide) ?_
    refine lv_bipush (v := hr_I 16) C.x C.b dX2_requireRoom_18 (by decide) ?_
    refine hr_callSN (lw_meth q847) q76 q845 q846 (by decide +kernel) (n := 3) C (mtX1_rejectIf Z (t := true) (r := 1) (dt := 16)) ⟨Nat.le_of_ble_eq_true rfl, Nat.le_of_ble_eq_true rfl⟩ rfl hl.1 (Nat.le_of_ble_eq_true rfl) ⟨by first | exact Nat.le_of_ble_eq_true rfl | (simp only [rmX2_requireRoom]; omega), by first | exact Nat.le_of_ble_eq_true rfl | (simp only [rmX2_requireRoom]; omega)⟩ hS4 (hr_AN hAN hS4) dX2_requireRoom_20 (rest := []) rfl
      (fun E9 q9 ce9 H9 locs9 hp9 hF9 hS9 hc9 hv9 hl9 => hr_out C hQ hnx (⟨hp9.1, by omega, hp9.2.2⟩) hS9 hc9 hv9 hl9 (by first | exact Nat.le_of_ble_eq_true rfl | (simp only [rmX2_requireRoom]; omega)) (by first | exact Nat.le_of_ble_eq_true rfl | (simp only [rmX2_requireRoom]; omega))) (fun v20 H15 locs16 hp19 hF17 hS18 => ?_)
    obtain ⟨rfl, ⟨ht9, hH9⟩⟩ := hp19
    refine W.eq (g2 := F0 m 23 ls []) rfl ?_
    exact nomatch ht9

abbrev rmX2_requirePresent : Room := { frames := 8, cells := 1, slots := 9, locals := 168 }
set_option maxHeartbeats 4000000 in
set_option maxRecDepth 100000 in
theorem mtX2_requirePresent {l : Launch} {D : va_G} {s0 : State} (Z : hr_Z l D s0) {H : Heap} {a : Nat} {L : ly_T} {d : dt_T} (hD : hr_Dt D H a L d) (hV : dt_V d) {h : Nat} (hh : h < dt_k d) : hr_M l s0 yX2_requirePresent (ws_ yX2_requirePresent cX2_requirePresent 3 (Option.some (Jvm.ClassFile.FieldType.object "HabitRegistry$Habit"))) rmX2_requirePresent [.ref a, .int (hr_I (h : Int))] H (hr_N H) (fun v H1 => v = some (.ref (ly_ha L h)) ∧ dt_ho d h ≠ none ∧ H = H1) (fun E q H1 => E = "HabitRegistry$Rejection" ∧ dt_ho d h = none ∧ hr_Rj D H1 q none 5 h) := by
  refine hr_of Z (by decide) (Nat.le_of_ble_eq_true rfl) (fun _ h => Or.inr h) ?_
  intro p e s m args below meth c Q ls C hQ hin hnx hS hl
  have hAN : ∀ q, H.size ≤ q → (hr_N H) q := (fun _ h => h)
  have hl : lv_has ls 3 [(0, .ref a), (1, .int (hr_I (h : Int)))] := hl
  refine lv_aload_n C.x C.b dX2_requirePresent_0 rfl (lv_at hl 0 rfl) ?_
  refine hr_get in_X2 (ci := 1) 1 q315 rfl rfl (by decide) C hD.1 rfl dX2_requirePresent_1 ?_
  refine lv_iload_n C.x C.b dX2_requirePresent_4 rfl (lv_at hl 1 rfl) ?_
  refine hr_callV (lw_V q604 q493 q494 q80 q495) (by decide +kernel) (n := 1) C (mtJ2_get Z hD.2.2.1.1 hh) (hD.2.2.1.1.1.recv C rfl) ⟨Nat.le_of_ble_eq_true rfl, Nat.le_of_ble_eq_true rfl⟩ rfl hl.1 (Nat.le_of_ble_eq_true rfl) ⟨by first | exact Nat.le_of_ble_eq_true rfl | (simp only [rmX2_requirePresent]; omega), by first | exact Nat.le_of_ble_eq_true rfl | (simp only [rmX2_requirePresent]; omega)⟩ hS (hr_AN hAN hS) dX2_requirePresent_5 (rest := []) rfl
    (fun _ _ _ _ _ h => h.elim) (fun v6 H1 locs2 hp5 hF3 hS4 => ?_)
  obtain ⟨hv7, hH8⟩ := hp5; subst hv7; subst hH8
  refine W.eq (g2 := F0 m 8 ls [.ref (ly_ha L h)]) rfl ?_
  refine va_castS C.x C.b C.ow (C.w _ q300) (C.K.1 4 _ rfl).2 ((hD.2.2.1.2 h hh).recv C rfl) dX2_requirePresent_8 ?_
  refine lv_astore_n (lv' := [(2, .ref (ly_ha L h)), (0, .ref a), (1, .int (hr_I (h : Int)))]) C.x C.b dX2_requirePresent_11 rfl hl (by decide) rfl (fun ls hl => ?_)
  refine lv_aload_n C.x C.b dX2_requirePresent_12 rfl (lv_at hl 0 rfl) ?_
  refine hr_callV (lw_V q161 q162 q163 q98 q164) (by decide +kernel) (n := 0) C (mtX5_isExtinct Z hD.2.2.1 hh) ((hD.2.2.1.2 h hh).recv C rfl) ⟨Nat.le_of_ble_eq_true rfl, Nat.le_of_ble_eq_true rfl⟩ rfl hl.1 (Nat.le_of_ble_eq_true rfl) ⟨by first | exact Nat.le_of_ble_eq_true rfl | (simp only [rmX2_requirePresent]; omega), by first | exact Nat.le_of_ble_eq_true rfl | (simp only [rmX2_requirePresent]; omega)⟩ hS4 (hr_AN hAN hS4) dX2_requirePresent_13 (rest := []) rfl
    (fun _ _ _ _ _ h => h.elim) (fun v14 H9 locs10 hp13 hF11 hS12 => ?_)
  obtain ⟨hv15, hH16⟩ := hp13; subst hv15; subst hH16
  refine W.eq (g2 := F0 m 16 ls [.int (hr_I (hr_t (dt_ho d h).isNone))]) rfl ?_
  refine lv_iconst (v := hr_I 5) C.x C.b dX2_requirePresent_16 (by decide) ?_
  refine lv_iload_n C.x C.b dX2_requirePresent_17 rfl (lv_at hl 2 rfl) ?_
  refine hr_callSN (lw_meth q847) q76 q845 q846 (by decide +kernel) (n := 3) C (mtX1_rejectIf Z (t := (dt_ho d h).isNone) (r := 5) (dt := h)) ⟨Nat.le_of_ble_eq_true rfl, Nat.le_of_ble_eq_true rfl⟩ rfl hl.1 (Nat.le_of_ble_eq_true rfl) ⟨by first | exact Nat.le_of_ble_eq_true rfl | (simp only [rmX2_requirePresent]; omega), by first | exact Nat.le_of_ble_eq_true rfl | (simp only [rmX2_requirePresent]; omega)⟩ hS12 (hr_AN hAN hS12) dX2_requirePresent_18 (rest := []) rfl
    (fun E9 q9 ce9 H9 locs9 hp9 hF9 hS9 hc9 hv9 hl9 => hr_out C hQ hnx (⟨hp9.1, by simpa using hp9.2.1, hp9.2.2⟩) hS9 hc9 hv9 hl9 (by first | exact Nat.le_of_ble_eq_true rfl | (simp only [rmX2_requirePresent]; omega)) (by first | exact Nat.le_of_ble_eq_true rfl | (simp only [rmX2_requirePresent]; omega))) (fun v23 H18 locs19 hp22 hF20 hS21 => ?_)
  obtain ⟨rfl, ⟨ht17, hH9⟩⟩ := hp22
  refine W.eq (g2 := F0 m 21 ls []) rfl ?_
  subst hH9
  show W p l e rmX2_requirePresent s m args below meth c H locs19 (0 + 0 + 0 + 1) (0 + 0 + 0 + 9) Q (F0 m 21 ls [])
  refine lv_aload_n C.x C.b dX2_requirePresent_21 rfl (lv_at hl 0 rfl) ?_
  exact hr_aret (Or.inl ⟨_, rfl⟩) (Or.inr ⟨_, rfl⟩) C hQ (⟨rfl, (by intro z; rw [z] at ht17; exact absurd ht17 (by decide)), rfl⟩) hS21 (by first | exact Nat.le_of_ble_eq_true rfl | (simp only [rmX2_requirePresent]; omega)) (by first | exact Nat.le_of_ble_eq_true rfl | (simp only [rmX2_requirePresent]; omega)) dX2_requirePresent_22

abbrev rmX2_practise : Room := { frames := 9, cells := 2, slots := 18, locals := 190 }
set_option maxHeartbeats 4000000 in
set_option maxRecDepth 100000 in
theorem mtX2_practise {l : Launch} {D : va_G} {s0 : State} (Z : hr_Z l D s0) {H : Heap} {a : Nat} {L : ly_T} {d : dt_T} {A : Nat → Prop} (hlow : ∀ q, A q → s0.heap.size ≤ q) (hnew : ∀ q, H.size ≤ q → A q) (hlm : hr_lk D L) (hW : hr_Dw D H a L d A) (hV : dt_V d) {h : Nat} (hh : h < dt_k d) : hr_M l s0 yX2_practise (ws_ yX2_practise cX2_practise 3 (Option.some Jvm.ClassFile.FieldType.int)) rmX2_practise [.ref a, .int (hr_I (h : Int))] H A (fun v H1 => hr_PO D a A (dt_prac d h) v H1) (fun E q H1 => hr_PE D (dt_prac d h) E q H1) := by
  refine hr_of Z (by decide) (Nat.le_of_ble_eq_true rfl) (fun q h => Or.inl (hlow q h)) ?_
  intro p e s m args below meth c Q ls C hQ hin hnx hS hl
  have hAN : ∀ q, H.size ≤ q → A q := hnew
  have hl : lv_has ls 3 [(0, .ref a), (1, .int (hr_I (h : Int)))] := hl
  have s9 := dt_st9 hV h hh
  have hD := hW.1
  refine lv_aload_n C.x C.b dX2_practise_0 rfl (lv_at hl 0 rfl) ?_
  refine lv_iload_n C.x C.b dX2_practise_1 rfl (lv_at hl 1 rfl) ?_
  refine hr_callV (lw_V q911 q913 qs15 q77 q914) (by decide +kernel) (n := 1) C (mtX2_requirePresent Z hD hV hh) (hD.1.recv C rfl) ⟨Nat.le_of_ble_eq_true rfl, Nat.le_of_ble_eq_true rfl⟩ rfl hl.1 (Nat.le_of_ble_eq_true rfl) ⟨by first | exact Nat.le_of_ble_eq_true rfl | (simp only [rmX2_practise]; omega), by first | exact Nat.le_of_ble_eq_true rfl | (simp only [rmX2_practise]; omega)⟩ hS (hr_AN hAN hS) dX2_practise_2 (rest := []) rfl
    (fun E9 q9 ce9 H9 locs9 hp9 hF9 hS9 hc9 hv9 hl9 => hr_out C hQ hnx (⟨hp9.1, 5, h, by unfold dt_prac; rw [if_pos hp9.2.1], hp9.2.2⟩) hS9 hc9 hv9 hl9 (by first | exact Nat.le_of_ble_eq_true rfl | (simp only [rmX2_practise]; omega)) (by first | exact Nat.le_of_ble_eq_true rfl | (simp only [rmX2_practise]; omega))) (fun v6 H1 locs2 hp5 hF3 hS4 => ?_)
  obtain ⟨rfl, ⟨hpr, hH9⟩⟩ := hp5
  refine W.eq (g2 := F0 m 5 ls [.ref (ly_ha L h)]) rfl ?_
  subst hH9
  show W p l e rmX2_practise s m args below meth c H locs2 (0 + 1) (0 + 9) Q (F0 m 5 ls [.ref (ly_ha L h)])
  refine lv_astore_n (lv' := [(2, .ref (ly_ha L h)), (0, .ref a), (1, .int (hr_I (h : Int)))]) C.x C.b dX2_practise_5 rfl hl (by decide) rfl (fun ls hl => ?_)
  refine lv_aload_n C.x C.b dX2_practise_6 rfl (lv_at hl 0 rfl) ?_
  refine hr_getN in_X5 (ci := 4) 2 q733 rfl rfl (by decide) C (hD.2.2.1.2 h hh) rfl dX2_practise_7 ?_
  refine lv_bipush (v := hr_I 9) C.x C.b dX2_practise_10 (by decide) ?_
  refine hr_icmp_ne C (tgt := 19) dX2_practise_12 (by decide) (by omega) (by omega) (fun hc => ?_) (fun hc => ?_)
  · refine lv_iconst (v := hr_I 0) C.x C.b dX2_practise_19 (by decide) ?_
    refine lv_bipush (v := hr_I 6) C.x C.b dX2_practise_20 (by decide) ?_
    refine lv_bipush (v := hr_I 9) C.x C.b dX2_practise_22 (by decide) ?_
    refine hr_callSN (lw_meth q847) q76 q845 q846 (by decide +kernel) (n := 3) C (mtX1_rejectIf Z (t := false) (r := 6) (dt := 9)) ⟨Nat.le_of_ble_eq_true rfl, Nat.le_of_ble_eq_true rfl⟩ rfl hl.1 (Nat.le_of_ble_eq_true rfl) ⟨by first | exact Nat.le_of_ble_eq_true rfl | (simp only [rmX2_practise]; omega), by first | exact Nat.le_of_ble_eq_true rfl | (simp only [rmX2_practise]; omega)⟩ hS4 (hr_AN hAN hS4) dX2_practise_24 (rest := []) rfl
      (fun _ _ _ _ _ h => nomatch h.2.1) (fun v12 H7 locs8 hp11 hF9 hS10 => ?_)
    obtain ⟨rfl, ⟨ht9, hH9⟩⟩ := hp11
    refine W.eq (g2 := F0 m 27 ls []) rfl ?_
    subst hH9
    show W p l e rmX2_practise s m args below meth c H locs8 (0 + 1 + 1) (0 + 9 + 9) Q (F0 m 27 ls [])
    refine lv_aload_n C.x C.b dX2_practise_27 rfl (lv_at hl 0 rfl) ?_
    refine lv_dup C.x C.b dX2_practise_28 rfl ?_
    refine hr_getN in_X5 (ci := 4) 2 q733 rfl rfl (by decide) C (hD.2.2.1.2 h hh) rfl dX2_practise_29 ?_
    refine lv_iconst (v := hr_I 1) C.x C.b dX2_practise_32 (by decide) ?_
    refine t_iadd C.x C.b dX2_practise_33 (v := hr_I ((dt_st d h : Int) + 1)) (hr_add _ _) ?_
    refine hr_putN in_X5 tyX5 tyX5_ok nmX5 (ci := 4) 2 rfl q733 rfl rfl (by decide) C (hD.2.2.1.2 h hh) (Nat.le_of_ble_eq_true rfl) rfl rfl hS10 (hW.2.2.2.2.2.1 h hh) dX2_practise_34 (fun H13 locs15 hO16 hz17 ho18 hS14 => ?_)
    refine lv_aload_n C.x C.b dX2_practise_37 rfl (lv_at hl 0 rfl) ?_
    refine lv_iconst (v := hr_I 1) C.x C.b dX2_practise_38 (by decide) ?_
    refine hr_putN in_X5 tyX5 tyX5_ok nmX5 (ci := 4) 4 rfl q738 rfl rfl (by decide) C hO16 (Nat.le_of_ble_eq_true rfl) rfl rfl hS14 (hW.2.2.2.2.2.1 h hh) dX2_practise_39 (fun H19 locs21 hO22 hz23 ho24 hS20 => ?_)
    refine lv_aload_n C.x C.b dX2_practise_42 rfl (lv_at hl 0 rfl) ?_
    refine hr_getN in_X5 (ci := 4) 2 q733 rfl rfl (by decide) C hO22 rfl dX2_practise_43 ?_
    have hO9 : hr_O D H19 (ly_ha L h) 4 (fs_H (dt_wH d (dt_ho d) (hr_u (dt_st d) h (dt_st d h + 1)) (dt_en d) (hr_u (dt_pr d) h true)) L h) := by
      have h9 := hO22
      show hr_O _ _ _ _ [_, _, .int (hr_I ((hr_u (dt_st d) h (dt_st d h + 1) h : Nat) : Int)), _, .int (hr_I (hr_t (hr_u (dt_pr d) h true h))), _]
      rw [hr_us, hr_us]; exact h9
    exact hr_iret C hQ (⟨dt_wH d (dt_ho d) (hr_u (dt_st d) h (dt_st d h + 1)) (dt_en d) (hr_u (dt_pr d) h true), (dt_st d h : Int) + 1, L, by unfold dt_prac; rw [if_neg hpr, if_neg (by omega)], rfl, hr_Dw.upH C hlow hlm hW hV.2.1 hh (d1 := dt_wH d (dt_ho d) (hr_u (dt_st d) h (dt_st d h + 1)) (dt_en d) (hr_u (dt_pr d) h true)) rfl rfl rfl (dt_wH_o (fun _ _ => rfl) (fun g hg => hr_un _ _ hg) (fun _ _ => rfl) (fun g hg => hr_un _ _ hg)) hO9 ((hr_F1.put hz17 ho18).tr (hr_F1.put hz23 ho24)), hlm⟩) hS20 (by first | exact Nat.le_of_ble_eq_true rfl | (simp only [rmX2_practise]; omega)) (by first | exact Nat.le_of_ble_eq_true rfl | (simp only [rmX2_practise]; omega)) dX2_practise_46
  · refine lv_iconst (v := hr_I 1) C.x C.b dX2_practise_15 (by decide) ?_
    refine lv_goto (tgt := 20) C.x C.b dX2_practise_16 (by decide) ?_
    refine lv_bipush (v := hr_I 6) C.x C.b dX2_practise_20 (by decide) ?_
    refine lv_bipush (v := hr_I 9) C.x C.b dX2_practise_22 (by decide) ?_
    refine hr_callSN (lw_meth q847) q76 q845 q846 (by decide +kernel) (n := 3) C (mtX1_rejectIf Z (t := true) (r := 6) (dt := 9)) ⟨Nat.le_of_ble_eq_true rfl, Nat.le_of_ble_eq_true rfl⟩ rfl hl.1 (Nat.le_of_ble_eq_true rfl) ⟨by first | exact Nat.le_of_ble_eq_true rfl | (simp only [rmX2_practise]; omega), by first | exact Nat.le_of_ble_eq_true rfl | (simp only [rmX2_practise]; omega)⟩ hS4 (hr_AN hAN hS4) dX2_practise_24 (rest := []) rfl
      (fun E9 q9 ce9 H9 locs9 hp9 hF9 hS9 hc9 hv9 hl9 => hr_out C hQ hnx (⟨hp9.1, 6, 9, by unfold dt_prac; rw [if_neg hpr, if_pos (by omega)], hp9.2.2⟩) hS9 hc9 hv9 hl9 (by first | exact Nat.le_of_ble_eq_true rfl | (simp only [rmX2_practise]; omega)) (by first | exact Nat.le_of_ble_eq_true rfl | (simp only [rmX2_practise]; omega))) (fun v30 H25 locs26 hp29 hF27 hS28 => ?_)
    obtain ⟨rfl, ⟨ht9, hH9⟩⟩ := hp29
    refine W.eq (g2 := F0 m 27 ls []) rfl ?_
    exact nomatch ht9

abbrev rmX2_weaken : Room := { frames := 1, cells := 0, slots := 0, locals := 32 }
set_option maxHeartbeats 4000000 in
set_option maxRecDepth 100000 in
theorem mtX2_weaken {l : Launch} {D : va_G} {s0 : State} (Z : hr_Z l D s0) {H : Heap} {a : Nat} {L : ly_T} {d : dt_T} {A : Nat → Prop} (hlow : ∀ q, A q → s0.heap.size ≤ q) (hnew : ∀ q, H.size ≤ q → A q) (hlm : hr_lk D L) (hW : hr_Dw D H a L d A) (hV : dt_V d) {h : Nat} (hh : h < dt_k d) (hpr : dt_ho d h ≠ none) : hr_M l s0 yX2_weaken (ws_ yX2_weaken cX2_weaken 3 (Option.some Jvm.ClassFile.FieldType.boolean)) rmX2_weaken [.ref a, .ref (ly_ha L h)] H A (fun v H1 => v = some (.int (hr_I (hr_t (dt_weak d h).2))) ∧ hr_Dw D H1 a L (dt_weak d h).1 A) hr_no := by
  refine hr_of Z (by decide) (Nat.le_of_ble_eq_true rfl) (fun q h => Or.inl (hlow q h)) ?_
  intro p e s m args below meth c Q ls C hQ hin hnx hS hl
  have hAN : ∀ q, H.size ≤ q → A q := hnew
  have hl : lv_has ls 3 [(0, .ref a), (1, .ref (ly_ha L h))] := hl
  have hD := hW.1
  have s9 := dt_st9 hV h hh
  have s8 := (hV.2.2.2.2.2.1 h hh hpr).1
  have hAh := hW.2.2.2.2.2.1 h hh
  refine lv_aload_n C.x C.b dX2_weaken_0 rfl (lv_at hl 1 rfl) ?_
  refine lv_dup C.x C.b dX2_weaken_1 rfl ?_
  refine hr_getN in_X5 (ci := 4) 2 q733 rfl rfl (by decide) C (hD.2.2.1.2 h hh) rfl dX2_weaken_2 ?_
  refine lv_iconst (v := hr_I 1) C.x C.b dX2_weaken_5 (by decide) ?_
  refine t_isub C.x C.b dX2_weaken_6 (v := hr_I ((dt_st d h : Int) - 1)) (hr_sub _ _) ?_
  refine hr_putN in_X5 tyX5 tyX5_ok nmX5 (ci := 4) 2 rfl q733 rfl rfl (by decide) C (hD.2.2.1.2 h hh) (Nat.le_of_ble_eq_true rfl) rfl rfl hS hAh dX2_weaken_7 (fun H1 locs3 hO4 hz5 ho6 hS2 => ?_)
  have hDa : hr_O D H1 a 1 (fs_D d L) := hD.1.kept (ho6 _ (hD.1.ne (hD.2.2.1.2 h hh) (C.dd 1 4 rfl rfl (by decide))))
  refine lv_aload_n C.x C.b dX2_weaken_10 rfl (lv_at hl 1 rfl) ?_
  refine hr_getN in_X5 (ci := 4) 2 q733 rfl rfl (by decide) C hO4 rfl dX2_weaken_11 ?_
  refine hr_if_ne C (tgt := 21) dX2_weaken_14 (by decide) (by omega) (fun hc => ?_) (fun hc => ?_)
  · refine lv_iconst (v := hr_I 0) C.x C.b dX2_weaken_21 (by decide) ?_
    refine lv_istore_n (lv' := [(2, .int (hr_I 0)), (0, .ref a), (1, .ref (ly_ha L h))]) C.x C.b dX2_weaken_22 rfl hl (by decide) rfl (fun ls hl => ?_)
    refine lv_iload_n C.x C.b dX2_weaken_23 rfl (lv_at hl 0 rfl) ?_
    refine hr_ifb_eq (t := false) C (tgt := 41) dX2_weaken_24 (by decide) (fun _ => ?_) (fun z => nomatch z)
    refine lv_iload_n C.x C.b dX2_weaken_41 rfl (lv_at hl 0 rfl) ?_
    have hO9 : hr_O D H1 (ly_ha L h) 4 (fs_H (dt_wH d (dt_ho d) (hr_u (dt_st d) h (dt_st d h - 1)) (dt_en d) (dt_pr d)) L h) := by
      have h9 := hO4
      show hr_O _ _ _ _ [_, _, .int (hr_I ((hr_u (dt_st d) h (dt_st d h - 1) h : Nat) : Int)), _, _, _]
      rw [hr_us, show ((dt_st d h - 1 : Nat) : Int) = (dt_st d h : Int) - 1 by omega]; exact h9
    have e9 : dt_weak d h = (dt_wH d (dt_ho d) (hr_u (dt_st d) h (dt_st d h - 1)) (dt_en d) (dt_pr d), false) := by unfold dt_weak; rw [if_neg (by omega)]
    exact hr_zret C hQ rfl (⟨by rw [e9]; rfl, by rw [e9]; exact hr_Dw.upH C hlow hlm hW hV.2.1 hh (d1 := dt_wH d (dt_ho d) (hr_u (dt_st d) h (dt_st d h - 1)) (dt_en d) (dt_pr d)) rfl rfl rfl (dt_wH_o (fun _ _ => rfl) (fun g hg => hr_un _ _ hg) (fun _ _ => rfl) (fun _ _ => rfl)) hO9 (hr_F1.put hz5 ho6)⟩) hS2 (by first | exact Nat.le_of_ble_eq_true rfl | (simp only [rmX2_weaken]; omega)) (by first | exact Nat.le_of_ble_eq_true rfl | (simp only [rmX2_weaken]; omega)) dX2_weaken_42
  · refine lv_iconst (v := hr_I 1) C.x C.b dX2_weaken_17 (by decide) ?_
    refine lv_goto (tgt := 22) C.x C.b dX2_weaken_18 (by decide) ?_
    refine lv_istore_n (lv' := [(2, .int (hr_I 1)), (0, .ref a), (1, .ref (ly_ha L h))]) C.x C.b dX2_weaken_22 rfl hl (by decide) rfl (fun ls hl => ?_)
    refine lv_iload_n C.x C.b dX2_weaken_23 rfl (lv_at hl 0 rfl) ?_
    refine hr_ifb_eq (t := true) C (tgt := 41) dX2_weaken_24 (by decide) (fun z => nomatch z) (fun _ => ?_)
    refine lv_aload_n C.x C.b dX2_weaken_27 rfl (lv_at hl 2 rfl) ?_
    refine hr_callV (lw_V q888 q889 q890 q98 q891) (by decide +kernel) (n := 0) C (mtX5_end Z (hlow _ hAh) hO4) (hO4.recv C rfl) ⟨Nat.le_of_ble_eq_true rfl, Nat.le_of_ble_eq_true rfl⟩ rfl hl.1 (Nat.le_of_ble_eq_true rfl) ⟨by first | exact Nat.le_of_ble_eq_true rfl | (simp only [rmX2_weaken]; omega), by first | exact Nat.le_of_ble_eq_true rfl | (simp only [rmX2_weaken]; omega)⟩ hS2 (fun q h9 => h9.elim (fun e => by rw [e]; exact hAh) (fun h9 => hnew _ (Nat.le_trans hS2.1 h9))) dX2_weaken_28 (rest := []) rfl
      (fun _ _ _ _ _ h => h.elim) (fun v12 H7 locs8 hp11 hF9 hS10 => ?_)
    obtain ⟨rfl, hO8⟩ := hp11
    refine W.eq (g2 := F0 m 31 ls []) rfl ?_
    have hF8 : hr_F1 (ly_ha L h) H H7 := (hr_F1.put hz5 ho6).tr hF9
    have hDb : hr_O D H7 a 1 (fs_D d L) := hD.1.kept (hF8.o _ hD.1.lt (hD.1.ne (hD.2.2.1.2 h hh) (C.dd 1 4 rfl rfl (by decide))))
    refine lv_aload_n C.x C.b dX2_weaken_31 rfl (lv_at hl 1 rfl) ?_
    refine lv_dup C.x C.b dX2_weaken_32 rfl ?_
    refine hr_get in_X2 (ci := 1) 3 q319 rfl rfl (by decide) C hDb rfl dX2_weaken_33 ?_
    refine lv_iconst (v := hr_I 1) C.x C.b dX2_weaken_36 (by decide) ?_
    refine t_iadd C.x C.b dX2_weaken_37 (v := hr_I ((dt_la d : Int) + 1)) (hr_add _ _) ?_
    refine hr_put in_X2 tyX2 tyX2_ok nmX2 (ci := 1) 3 rfl q319 (Or.inl rfl) rfl (by decide) C hDb (Nat.le_of_ble_eq_true rfl) rfl rfl hS10 hW.2.1 dX2_weaken_38 (fun H13 locs15 hO16 hz17 ho18 hS14 => ?_)
    refine lv_iload_n C.x C.b dX2_weaken_41 rfl (lv_at hl 0 rfl) ?_
    have hO9 : hr_O D H7 (ly_ha L h) 4 (fs_H (dt_wH d (hr_u (dt_ho d) h none) (hr_u (dt_st d) h 0) (hr_u (dt_en d) h false) (hr_u (dt_pr d) h false)) L h) := by
      show hr_O _ _ _ _ [_, _, .int (hr_I ((hr_u (dt_st d) h 0 h : Nat) : Int)), .int (hr_I (hr_t (hr_u (dt_en d) h false h))), .int (hr_I (hr_t (hr_u (dt_pr d) h false h))), va_rf ((hr_u (dt_ho d) h none h).map (ly_pa L))]
      rw [hr_us, hr_us, hr_us, hr_us]; exact hO8
    have hW1 := hr_Dw.upH C hlow hlm hW hV.2.1 hh (d1 := dt_wH d (hr_u (dt_ho d) h none) (hr_u (dt_st d) h 0) (hr_u (dt_en d) h false) (hr_u (dt_pr d) h false)) rfl rfl rfl (dt_wH_o (fun g hg => hr_un _ _ hg) (fun g hg => hr_un _ _ hg) (fun g hg => hr_un _ _ hg) (fun g hg => hr_un _ _ hg)) hO9 hF8
    have hW2 := hr_Dw.upD C hlow hlm hW1 (d1 := dt_wT (dt_wH d (hr_u (dt_ho d) h none) (hr_u (dt_st d) h 0) (hr_u (dt_en d) h false) (hr_u (dt_pr d) h false)) (dt_yr d) (dt_la d + 1) (dt_me d) (dt_br d)) rfl rfl hO16 (hr_F1.put hz17 ho18)
    have e9 : dt_weak d h = (dt_wT (dt_wH d (hr_u (dt_ho d) h none) (hr_u (dt_st d) h 0) (hr_u (dt_en d) h false) (hr_u (dt_pr d) h false)) (dt_yr d) (dt_la d + 1) (dt_me d) (dt_br d), true) := by unfold dt_weak; rw [if_pos (by omega)]
    exact hr_zret C hQ rfl (⟨by rw [e9]; rfl, by rw [e9]; exact hW2⟩) hS14 (by first | exact Nat.le_of_ble_eq_true rfl | (simp only [rmX2_weaken]; omega)) (by first | exact Nat.le_of_ble_eq_true rfl | (simp only [rmX2_weaken]; omega)) dX2_weaken_42

abbrev rmX2_neglect : Room := { frames := 9, cells := 1, slots := 9, locals := 190 }
set_option maxHeartbeats 4000000 in
set_option maxRecDepth 100000 in
theorem mtX2_neglect {l : Launch} {D : va_G} {s0 : State} (Z : hr_Z l D s0) {H : Heap} {a : Nat} {L : ly_T} {d : dt_T} {A : Nat → Prop} (hlow : ∀ q, A q → s0.heap.size ≤ q) (hnew : ∀ q, H.size ≤ q → A q) (hlm : hr_lk D L) (hW : hr_Dw D H a L d A) (hV : dt_V d) {h : Nat} (hh : h < dt_k d) : hr_M l s0 yX2_neglect (ws_ yX2_neglect cX2_neglect 4 (Option.some Jvm.ClassFile.FieldType.int)) rmX2_neglect [.ref a, .int (hr_I (h : Int))] H A (fun v H1 => hr_PO D a A (dt_neg d h) v H1) (fun E q H1 => hr_PE D (dt_neg d h) E q H1) := by
  refine hr_of Z (by decide) (Nat.le_of_ble_eq_true rfl) (fun q h => Or.inl (hlow q h)) ?_
  intro p e s m args below meth c Q ls C hQ hin hnx hS hl
  have hAN : ∀ q, H.size ≤ q → A q := hnew
  have hl : lv_has ls 4 [(0, .ref a), (1, .int (hr_I (h : Int)))] := hl
  have hD := hW.1
  refine lv_aload_n C.x C.b dX2_neglect_0 rfl (lv_at hl 0 rfl) ?_
  refine lv_iload_n C.x C.b dX2_neglect_1 rfl (lv_at hl 1 rfl) ?_
  refine hr_callV (lw_V q911 q913 qs15 q77 q914) (by decide +kernel) (n := 1) C (mtX2_requirePresent Z hD hV hh) (hD.1.recv C rfl) ⟨Nat.le_of_ble_eq_true rfl, Nat.le_of_ble_eq_true rfl⟩ rfl hl.1 (Nat.le_of_ble_eq_true rfl) ⟨by first | exact Nat.le_of_ble_eq_true rfl | (simp only [rmX2_neglect]; omega), by first | exact Nat.le_of_ble_eq_true rfl | (simp only [rmX2_neglect]; omega)⟩ hS (hr_AN hAN hS) dX2_neglect_2 (rest := []) rfl
    (fun E9 q9 ce9 H9 locs9 hp9 hF9 hS9 hc9 hv9 hl9 => hr_out C hQ hnx (⟨hp9.1, 5, h, by unfold dt_neg; rw [if_pos hp9.2.1], hp9.2.2⟩) hS9 hc9 hv9 hl9 (by first | exact Nat.le_of_ble_eq_true rfl | (simp only [rmX2_neglect]; omega)) (by first | exact Nat.le_of_ble_eq_true rfl | (simp only [rmX2_neglect]; omega))) (fun v6 H1 locs2 hp5 hF3 hS4 => ?_)
  obtain ⟨rfl, ⟨hpr, hH9⟩⟩ := hp5
  refine W.eq (g2 := F0 m 5 ls [.ref (ly_ha L h)]) rfl ?_
  subst hH9
  show W p l e rmX2_neglect s m args below meth c H locs2 (0 + 1) (0 + 9) Q (F0 m 5 ls [.ref (ly_ha L h)])
  refine lv_astore_n (lv' := [(2, .ref (ly_ha L h)), (0, .ref a), (1, .int (hr_I (h : Int)))]) C.x C.b dX2_neglect_5 rfl hl (by decide) rfl (fun ls hl => ?_)
  refine lv_aload_n C.x C.b dX2_neglect_6 rfl (lv_at hl 1 rfl) ?_
  refine lv_aload_n C.x C.b dX2_neglect_7 rfl (lv_at hl 0 rfl) ?_
  refine hr_callV (lw_V q919 q921 qs16 q77 q922) (by decide +kernel) (n := 1) C (mtX2_weaken Z hlow hnew hlm hW hV hh hpr) (hD.1.recv C rfl) ⟨Nat.le_of_ble_eq_true rfl, Nat.le_of_ble_eq_true rfl⟩ rfl hl.1 (Nat.le_of_ble_eq_true rfl) ⟨by first | exact Nat.le_of_ble_eq_true rfl | (simp only [rmX2_neglect]; omega), by first | exact Nat.le_of_ble_eq_true rfl | (simp only [rmX2_neglect]; omega)⟩ hS4 (fun _ h => h) dX2_neglect_8 (rest := []) rfl
    (fun _ _ _ _ _ h => h.elim) (fun v12 H7 locs8 hp11 hF9 hS10 => ?_)
  obtain ⟨rfl, hW1⟩ := hp11
  refine W.eq (g2 := F0 m 11 ls [.int (hr_I (hr_t (dt_weak d h).2))]) rfl ?_
  have hk1 : h < dt_k (dt_weak d h).1 := by rw [(dt_weak_k d h).1]; exact hh
  refine lv_istore_n (lv' := [(3, .int (hr_I (hr_t (dt_weak d h).2))), (2, .ref (ly_ha L h)), (0, .ref a), (1, .int (hr_I (h : Int)))]) C.x C.b dX2_neglect_11 rfl hl (by decide) rfl (fun ls hl => ?_)
  refine lv_aload_n C.x C.b dX2_neglect_12 rfl (lv_at hl 1 rfl) ?_
  refine hr_getN in_X5 (ci := 4) 2 q733 rfl rfl (by decide) C (hW1.1.2.2.1.2 h hk1) rfl dX2_neglect_13 ?_
  exact hr_iret C hQ (⟨(dt_weak d h).1, _, L, by unfold dt_neg; rw [if_neg hpr], rfl, hW1, hlm⟩) hS10 (by first | exact Nat.le_of_ble_eq_true rfl | (simp only [rmX2_neglect]; omega)) (by first | exact Nat.le_of_ble_eq_true rfl | (simp only [rmX2_neglect]; omega)) dX2_neglect_16

abbrev rmX2_breakEntail : Room := { frames := 9, cells := 2, slots := 18, locals := 190 }
set_option maxHeartbeats 4000000 in
set_option maxRecDepth 100000 in
theorem mtX2_breakEntail {l : Launch} {D : va_G} {s0 : State} (Z : hr_Z l D s0) {H : Heap} {a : Nat} {L : ly_T} {d : dt_T} {A : Nat → Prop} (hlow : ∀ q, A q → s0.heap.size ≤ q) (hnew : ∀ q, H.size ≤ q → A q) (hlm : hr_lk D L) (hW : hr_Dw D H a L d A) (hV : dt_V d) {h : Nat} (hh : h < dt_k d) : hr_M l s0 yX2_breakEntail (ws_ yX2_breakEntail cX2_breakEntail 3 (Option.some Jvm.ClassFile.FieldType.int)) rmX2_breakEntail [.ref a, .int (hr_I (h : Int))] H A (fun v H1 => hr_PO D a A (dt_brk d h) v H1) (fun E q H1 => hr_PE D (dt_brk d h) E q H1) := by
  refine hr_of Z (by decide) (Nat.le_of_ble_eq_true rfl) (fun q h => Or.inl (hlow q h)) ?_
  intro p e s m args below meth c Q ls C hQ hin hnx hS hl
  have hAN : ∀ q, H.size ≤ q → A q := hnew
  have hl : lv_has ls 3 [(0, .ref a), (1, .int (hr_I (h : Int)))] := hl
  have s9 := dt_st9 hV h hh
  have hD := hW.1
  refine lv_aload_n C.x C.b dX2_breakEntail_0 rfl (lv_at hl 0 rfl) ?_
  refine lv_iload_n C.x C.b dX2_breakEntail_1 rfl (lv_at hl 1 rfl) ?_
  refine hr_callV (lw_V q911 q913 qs15 q77 q914) (by decide +kernel) (n := 1) C (mtX2_requirePresent Z hD hV hh) (hD.1.recv C rfl) ⟨Nat.le_of_ble_eq_true rfl, Nat.le_of_ble_eq_true rfl⟩ rfl hl.1 (Nat.le_of_ble_eq_true rfl) ⟨by first | exact Nat.le_of_ble_eq_true rfl | (simp only [rmX2_breakEntail]; omega), by first | exact Nat.le_of_ble_eq_true rfl | (simp only [rmX2_breakEntail]; omega)⟩ hS (hr_AN hAN hS) dX2_breakEntail_2 (rest := []) rfl
    (fun E9 q9 ce9 H9 locs9 hp9 hF9 hS9 hc9 hv9 hl9 => hr_out C hQ hnx (⟨hp9.1, 5, h, by unfold dt_brk; rw [if_pos hp9.2.1], hp9.2.2⟩) hS9 hc9 hv9 hl9 (by first | exact Nat.le_of_ble_eq_true rfl | (simp only [rmX2_breakEntail]; omega)) (by first | exact Nat.le_of_ble_eq_true rfl | (simp only [rmX2_breakEntail]; omega))) (fun v6 H1 locs2 hp5 hF3 hS4 => ?_)
  obtain ⟨rfl, ⟨hpr, hH9⟩⟩ := hp5
  refine W.eq (g2 := F0 m 5 ls [.ref (ly_ha L h)]) rfl ?_
  subst hH9
  show W p l e rmX2_breakEntail s m args below meth c H locs2 (0 + 1) (0 + 9) Q (F0 m 5 ls [.ref (ly_ha L h)])
  refine lv_astore_n (lv' := [(2, .ref (ly_ha L h)), (0, .ref a), (1, .int (hr_I (h : Int)))]) C.x C.b dX2_breakEntail_5 rfl hl (by decide) rfl (fun ls hl => ?_)
  refine lv_aload_n C.x C.b dX2_breakEntail_6 rfl (lv_at hl 0 rfl) ?_
  refine hr_getN in_X5 (ci := 4) 3 q735 rfl rfl (by decide) C (hD.2.2.1.2 h hh) rfl dX2_breakEntail_7 ?_
  refine hr_ifb_ne C (tgt := 17) dX2_breakEntail_10 (by decide) (fun hc => ?_) (fun hc => ?_)
  · refine lv_iconst (v := hr_I 0) C.x C.b dX2_breakEntail_17 (by decide) ?_
    refine lv_bipush (v := hr_I 8) C.x C.b dX2_breakEntail_18 (by decide) ?_
    refine lv_iload_n C.x C.b dX2_breakEntail_20 rfl (lv_at hl 2 rfl) ?_
    refine hr_callSN (lw_meth q847) q76 q845 q846 (by decide +kernel) (n := 3) C (mtX1_rejectIf Z (t := false) (r := 8) (dt := h)) ⟨Nat.le_of_ble_eq_true rfl, Nat.le_of_ble_eq_true rfl⟩ rfl hl.1 (Nat.le_of_ble_eq_true rfl) ⟨by first | exact Nat.le_of_ble_eq_true rfl | (simp only [rmX2_breakEntail]; omega), by first | exact Nat.le_of_ble_eq_true rfl | (simp only [rmX2_breakEntail]; omega)⟩ hS4 (hr_AN hAN hS4) dX2_breakEntail_21 (rest := []) rfl
      (fun _ _ _ _ _ h => nomatch h.2.1) (fun v12 H7 locs8 hp11 hF9 hS10 => ?_)
    obtain ⟨rfl, ⟨ht9, hH9⟩⟩ := hp11
    refine W.eq (g2 := F0 m 24 ls []) rfl ?_
    subst hH9
    show W p l e rmX2_breakEntail s m args below meth c H locs8 (0 + 1 + 1) (0 + 9 + 9) Q (F0 m 24 ls [])
    refine lv_aload_n C.x C.b dX2_breakEntail_24 rfl (lv_at hl 0 rfl) ?_
    refine lv_iconst (v := hr_I 0) C.x C.b dX2_breakEntail_25 (by decide) ?_
    refine hr_putN in_X5 tyX5 tyX5_ok nmX5 (ci := 4) 3 rfl q735 rfl rfl (by decide) C (hD.2.2.1.2 h hh) (Nat.le_of_ble_eq_true rfl) rfl rfl hS10 (hW.2.2.2.2.2.1 h hh) dX2_breakEntail_26 (fun H13 locs15 hO16 hz17 ho18 hS14 => ?_)
    refine lv_aload_n C.x C.b dX2_breakEntail_29 rfl (lv_at hl 0 rfl) ?_
    refine lv_aload_n C.x C.b dX2_breakEntail_30 rfl (lv_at hl 0 rfl) ?_
    refine hr_getN in_X5 (ci := 4) 2 q733 rfl rfl (by decide) C hO16 rfl dX2_breakEntail_31 ?_
    refine lv_iconst (v := hr_I 1) C.x C.b dX2_breakEntail_34 (by decide) ?_
    refine t_iadd C.x C.b dX2_breakEntail_35 (v := hr_I ((dt_st d h : Int) + 1)) (hr_add _ _) ?_
    refine lv_iconst (v := hr_I 2) C.x C.b dX2_breakEntail_36 (by decide) ?_
    show W p l e rmX2_breakEntail s m args below meth c H13 locs15 (0 + 1 + 1) (0 + 9 + 9) Q (F0 m 37 ls [.int (hr_I ((2 : Nat) : Int)), .int (hr_I ((dt_st d h + 1 : Nat) : Int)), .ref (ly_ha L h)])
    refine hr_idiv C (by omega) (by omega) (by omega) dX2_breakEntail_37 ?_
    refine hr_putN in_X5 tyX5 tyX5_ok nmX5 (ci := 4) 2 rfl q733 rfl rfl (by decide) C hO16 (Nat.le_of_ble_eq_true rfl) rfl rfl hS14 (hW.2.2.2.2.2.1 h hh) dX2_breakEntail_38 (fun H19 locs21 hO22 hz23 ho24 hS20 => ?_)
    refine lv_aload_n C.x C.b dX2_breakEntail_41 rfl (lv_at hl 0 rfl) ?_
    refine hr_getN in_X5 (ci := 4) 2 q733 rfl rfl (by decide) C hO22 rfl dX2_breakEntail_42 ?_
    have hO9 : hr_O D H19 (ly_ha L h) 4 (fs_H (dt_wH d (dt_ho d) (hr_u (dt_st d) h ((dt_st d h + 1) / 2)) (hr_u (dt_en d) h false) (dt_pr d)) L h) := by
      have h9 := hO22
      show hr_O _ _ _ _ [_, _, .int (hr_I ((hr_u (dt_st d) h ((dt_st d h + 1) / 2) h : Nat) : Int)), .int (hr_I (hr_t (hr_u (dt_en d) h false h))), _, _]
      rw [hr_us, hr_us]; exact h9
    exact hr_iret C hQ (⟨dt_wH d (dt_ho d) (hr_u (dt_st d) h ((dt_st d h + 1) / 2)) (hr_u (dt_en d) h false) (dt_pr d), _, L, by unfold dt_brk; rw [if_neg hpr, if_neg (by rw [hc]; decide)], rfl, hr_Dw.upH C hlow hlm hW hV.2.1 hh (d1 := dt_wH d (dt_ho d) (hr_u (dt_st d) h ((dt_st d h + 1) / 2)) (hr_u (dt_en d) h false) (dt_pr d)) rfl rfl rfl (dt_wH_o (fun _ _ => rfl) (fun g hg => hr_un _ _ hg) (fun g hg => hr_un _ _ hg) (fun _ _ => rfl)) hO9 ((hr_F1.put hz17 ho18).tr (hr_F1.put hz23 ho24)), hlm⟩) hS20 (by first | exact Nat.le_of_ble_eq_true rfl | (simp only [rmX2_breakEntail]; omega)) (by first | exact Nat.le_of_ble_eq_true rfl | (simp only [rmX2_breakEntail]; omega)) dX2_breakEntail_45
  · refine lv_iconst (v := hr_I 1) C.x C.b dX2_breakEntail_13 (by decide) ?_
    refine lv_goto (tgt := 18) C.x C.b dX2_breakEntail_14 (by decide) ?_
    refine lv_bipush (v := hr_I 8) C.x C.b dX2_breakEntail_18 (by decide) ?_
    refine lv_iload_n C.x C.b dX2_breakEntail_20 rfl (lv_at hl 2 rfl) ?_
    refine hr_callSN (lw_meth q847) q76 q845 q846 (by decide +kernel) (n := 3) C (mtX1_rejectIf Z (t := true) (r := 8) (dt := h)) ⟨Nat.le_of_ble_eq_true rfl, Nat.le_of_ble_eq_true rfl⟩ rfl hl.1 (Nat.le_of_ble_eq_true rfl) ⟨by first | exact Nat.le_of_ble_eq_true rfl | (simp only [rmX2_breakEntail]; omega), by first | exact Nat.le_of_ble_eq_true rfl | (simp only [rmX2_breakEntail]; omega)⟩ hS4 (hr_AN hAN hS4) dX2_breakEntail_21 (rest := []) rfl
      (fun E9 q9 ce9 H9 locs9 hp9 hF9 hS9 hc9 hv9 hl9 => hr_out C hQ hnx (⟨hp9.1, 8, h, by unfold dt_brk; rw [if_neg hpr, if_pos hc], hp9.2.2⟩) hS9 hc9 hv9 hl9 (by first | exact Nat.le_of_ble_eq_true rfl | (simp only [rmX2_breakEntail]; omega)) (by first | exact Nat.le_of_ble_eq_true rfl | (simp only [rmX2_breakEntail]; omega))) (fun v30 H25 locs26 hp29 hF27 hS28 => ?_)
    obtain ⟨rfl, ⟨ht9, hH9⟩⟩ := hp29
    refine W.eq (g2 := F0 m 24 ls []) rfl ?_
    exact nomatch ht9

abbrev rmX2_entail : Room := { frames := 21, cells := 3, slots := 27, locals := 529 }
set_option maxHeartbeats 4000000 in
set_option maxRecDepth 100000 in
theorem mtX2_entail {l : Launch} {D : va_G} {s0 : State} (Z : hr_Z l D s0) {H : Heap} {a : Nat} {L : ly_T} {d : dt_T} {A : Nat → Prop} (hlow : ∀ q, A q → s0.heap.size ≤ q) (hnew : ∀ q, H.size ≤ q → A q) (hlm : hr_lk D L) (hW : hr_Dw D H a L d A) (hV : dt_V d) {h : Nat} (hh : h < dt_k d) : hr_M l s0 yX2_entail (ws_ yX2_entail cX2_entail 3 (Option.some Jvm.ClassFile.FieldType.int)) rmX2_entail [.ref a, .int (hr_I (h : Int))] H A (fun v H1 => hr_PO D a A (dt_ent d h) v H1) (fun E q H1 => hr_PE D (dt_ent d h) E q H1) := by
  refine hr_of Z (by decide) (Nat.le_of_ble_eq_true rfl) (fun q h => Or.inl (hlow q h)) ?_
  intro p e s m args below meth c Q ls C hQ hin hnx hS hl
  have hAN : ∀ q, H.size ≤ q → A q := hnew
  have hl : lv_has ls 3 [(0, .ref a), (1, .int (hr_I (h : Int)))] := hl
  have hD := hW.1
  refine lv_aload_n C.x C.b dX2_entail_0 rfl (lv_at hl 0 rfl) ?_
  refine lv_iload_n C.x C.b dX2_entail_1 rfl (lv_at hl 1 rfl) ?_
  refine hr_callV (lw_V q911 q913 qs15 q77 q914) (by decide +kernel) (n := 1) C (mtX2_requirePresent Z hD hV hh) (hD.1.recv C rfl) ⟨Nat.le_of_ble_eq_true rfl, Nat.le_of_ble_eq_true rfl⟩ rfl hl.1 (Nat.le_of_ble_eq_true rfl) ⟨by first | exact Nat.le_of_ble_eq_true rfl | (simp only [rmX2_entail]; omega), by first | exact Nat.le_of_ble_eq_true rfl | (simp only [rmX2_entail]; omega)⟩ hS (hr_AN hAN hS) dX2_entail_2 (rest := []) rfl
    (fun E9 q9 ce9 H9 locs9 hp9 hF9 hS9 hc9 hv9 hl9 => hr_out C hQ hnx (⟨hp9.1, 5, h, by unfold dt_ent; rw [hp9.2.1], hp9.2.2⟩) hS9 hc9 hv9 hl9 (by first | exact Nat.le_of_ble_eq_true rfl | (simp only [rmX2_entail]; omega)) (by first | exact Nat.le_of_ble_eq_true rfl | (simp only [rmX2_entail]; omega))) (fun v6 H1 locs2 hp5 hF3 hS4 => ?_)
  obtain ⟨rfl, ⟨hpr, hH9⟩⟩ := hp5
  refine W.eq (g2 := F0 m 5 ls [.ref (ly_ha L h)]) rfl ?_
  subst hH9
  show W p l e rmX2_entail s m args below meth c H locs2 (0 + 1) (0 + 9) Q (F0 m 5 ls [.ref (ly_ha L h)])
  obtain ⟨i, hi9⟩ := Option.ne_none_iff_exists'.mp hpr
  have hi := (hV.2.2.1 h hh i hi9).1
  have hO0 := hD.2.2.1.2 h hh
  unfold fs_H at hO0
  rw [hi9] at hO0
  refine lv_astore_n (lv' := [(2, .ref (ly_ha L h)), (0, .ref a), (1, .int (hr_I (h : Int)))]) C.x C.b dX2_entail_5 rfl hl (by decide) rfl (fun ls hl => ?_)
  refine lv_aload_n C.x C.b dX2_entail_6 rfl (lv_at hl 0 rfl) ?_
  refine hr_getN in_X5 (ci := 4) 3 q735 rfl rfl (by decide) C hO0 rfl dX2_entail_7 ?_
  refine lv_bipush (v := hr_I 7) C.x C.b dX2_entail_10 (by decide) ?_
  refine lv_iload_n C.x C.b dX2_entail_12 rfl (lv_at hl 2 rfl) ?_
  refine hr_callSN (lw_meth q847) q76 q845 q846 (by decide +kernel) (n := 3) C (mtX1_rejectIf Z (t := dt_en d h) (r := 7) (dt := h)) ⟨Nat.le_of_ble_eq_true rfl, Nat.le_of_ble_eq_true rfl⟩ rfl hl.1 (Nat.le_of_ble_eq_true rfl) ⟨by first | exact Nat.le_of_ble_eq_true rfl | (simp only [rmX2_entail]; omega), by first | exact Nat.le_of_ble_eq_true rfl | (simp only [rmX2_entail]; omega)⟩ hS4 (hr_AN hAN hS4) dX2_entail_13 (rest := []) rfl
    (fun E9 q9 ce9 H9 locs9 hp9 hF9 hS9 hc9 hv9 hl9 => hr_out C hQ hnx (⟨hp9.1, 7, h, by unfold dt_ent; simp only [hi9]; rw [if_pos hp9.2.1], hp9.2.2⟩) hS9 hc9 hv9 hl9 (by first | exact Nat.le_of_ble_eq_true rfl | (simp only [rmX2_entail]; omega)) (by first | exact Nat.le_of_ble_eq_true rfl | (simp only [rmX2_entail]; omega))) (fun v13 H8 locs9 hp12 hF10 hS11 => ?_)
  obtain ⟨rfl, ⟨ht7, hH9⟩⟩ := hp12
  refine W.eq (g2 := F0 m 16 ls []) rfl ?_
  subst hH9
  show W p l e rmX2_entail s m args below meth c H locs9 (0 + 1 + 1) (0 + 9 + 9) Q (F0 m 16 ls [])
  refine lv_aload_n C.x C.b dX2_entail_16 rfl (lv_at hl 1 rfl) ?_
  refine lv_aload_n C.x C.b dX2_entail_17 rfl (lv_at hl 0 rfl) ?_
  refine hr_getN in_X5 (ci := 4) 5 q742 rfl rfl (by decide) C hO0 rfl dX2_entail_18 ?_
  refine hr_callV (lw_V q483 q484 q485 q77 q486) (by decide +kernel) (n := 1) C (mtX2_directHeir Z hD.1 hD.2.1 hV.1 hi) (hD.1.recv C rfl) ⟨Nat.le_of_ble_eq_true rfl, Nat.le_of_ble_eq_true rfl⟩ rfl hl.1 (Nat.le_of_ble_eq_true rfl) ⟨by first | exact Nat.le_of_ble_eq_true rfl | (simp only [rmX2_entail]; omega), by first | exact Nat.le_of_ble_eq_true rfl | (simp only [rmX2_entail]; omega)⟩ hS11 (hr_AN hAN hS11) dX2_entail_21 (rest := []) rfl
    (fun _ _ _ _ _ h => h.elim) (fun v19 H14 locs15 hp18 hF16 hS17 => ?_)
  obtain ⟨hv20, hH21⟩ := hp18; subst hv20; subst hH21
  refine W.eq (g2 := F0 m 24 ls [va_rf ((dt_fl d none i).map (ly_pa L))]) rfl ?_
  refine hr_nonnullo C (tgt := 31) dX2_entail_24 (by decide) (fun y0 hc => ?_) (fun hc => ?_)
  · refine lv_iconst (v := hr_I 0) C.x C.b dX2_entail_31 (by decide) ?_
    refine lv_bipush (v := hr_I 9) C.x C.b dX2_entail_32 (by decide) ?_
    refine lv_aload_n C.x C.b dX2_entail_34 rfl (lv_at hl 0 rfl) ?_
    refine hr_getN in_X5 (ci := 4) 5 q742 rfl rfl (by decide) C hO0 rfl dX2_entail_35 ?_
    refine hr_getN in_X4 (ci := 3) 0 q632 rfl rfl (by decide) C (hD.2.1.2.1 i hi) rfl dX2_entail_38 ?_
    obtain ⟨y9, hy9, -⟩ := Option.map_eq_some_iff.mp hc
    refine hr_callSN (lw_meth q847) q76 q845 q846 (by decide +kernel) (n := 3) C (mtX1_rejectIf Z (t := false) (r := 9) (dt := i)) ⟨Nat.le_of_ble_eq_true rfl, Nat.le_of_ble_eq_true rfl⟩ rfl hl.1 (Nat.le_of_ble_eq_true rfl) ⟨by first | exact Nat.le_of_ble_eq_true rfl | (simp only [rmX2_entail]; omega), by first | exact Nat.le_of_ble_eq_true rfl | (simp only [rmX2_entail]; omega)⟩ hS17 (hr_AN hAN hS17) dX2_entail_41 (rest := []) rfl
      (fun _ _ _ _ _ h => nomatch h.2.1) (fun v27 H22 locs23 hp26 hF24 hS25 => ?_)
    obtain ⟨rfl, ⟨ht9, hH9⟩⟩ := hp26
    refine W.eq (g2 := F0 m 44 ls []) rfl ?_
    subst hH9
    show W p l e rmX2_entail s m args below meth c H locs23 (0 + 1 + 1 + 0 + 1) (0 + 9 + 9 + 0 + 9) Q (F0 m 44 ls [])
    refine lv_aload_n C.x C.b dX2_entail_44 rfl (lv_at hl 0 rfl) ?_
    refine lv_iconst (v := hr_I 1) C.x C.b dX2_entail_45 (by decide) ?_
    refine hr_putN in_X5 tyX5 tyX5_ok nmX5 (ci := 4) 3 rfl q735 rfl rfl (by decide) C hO0 (Nat.le_of_ble_eq_true rfl) rfl rfl hS25 (hW.2.2.2.2.2.1 h hh) dX2_entail_46 (fun H28 locs30 hO31 hz32 ho33 hS29 => ?_)
    have hPi : hr_O D H28 (ly_pa L i) 3 (fs_P d L i) := (hD.2.1.2.1 i hi).kept (ho33 _ ((hD.2.1.2.1 i hi).ne (hD.2.2.1.2 h hh) (C.dd 3 4 rfl rfl (by decide))))
    refine lv_aload_n C.x C.b dX2_entail_49 rfl (lv_at hl 0 rfl) ?_
    refine hr_getN in_X5 (ci := 4) 5 q742 rfl rfl (by decide) C hO31 rfl dX2_entail_50 ?_
    refine hr_getN in_X4 (ci := 3) 0 q632 rfl rfl (by decide) C hPi rfl dX2_entail_53 ?_
    have hO9 : hr_O D H28 (ly_ha L h) 4 (fs_H (dt_wH d (dt_ho d) (dt_st d) (hr_u (dt_en d) h true) (dt_pr d)) L h) := by
      have h9 := hO31
      show hr_O _ _ _ _ [_, _, _, .int (hr_I (hr_t (hr_u (dt_en d) h true h))), _, va_rf ((dt_ho d h).map (ly_pa L))]
      rw [hr_us, hi9]; exact h9
    exact hr_iret C hQ (⟨dt_wH d (dt_ho d) (dt_st d) (hr_u (dt_en d) h true) (dt_pr d), _, L, by unfold dt_ent; simp only [hi9]; rw [if_neg (by rw [ht7]; decide), if_neg (by rw [hy9]; exact fun z => nomatch z)], rfl, hr_Dw.upH C hlow hlm hW hV.2.1 hh (d1 := dt_wH d (dt_ho d) (dt_st d) (hr_u (dt_en d) h true) (dt_pr d)) rfl rfl rfl (dt_wH_o (fun _ _ => rfl) (fun _ _ => rfl) (fun g hg => hr_un _ _ hg) (fun _ _ => rfl)) hO9 (hr_F1.put hz32 ho33), hlm⟩) hS29 (by first | exact Nat.le_of_ble_eq_true rfl | (simp only [rmX2_entail]; omega)) (by first | exact Nat.le_of_ble_eq_true rfl | (simp only [rmX2_entail]; omega)) dX2_entail_56
  · have hc' : dt_fl d none i = none := by simpa using hc
    refine lv_iconst (v := hr_I 1) C.x C.b dX2_entail_27 (by decide) ?_
    refine lv_goto (tgt := 32) C.x C.b dX2_entail_28 (by decide) ?_
    refine lv_bipush (v := hr_I 9) C.x C.b dX2_entail_32 (by decide) ?_
    refine lv_aload_n C.x C.b dX2_entail_34 rfl (lv_at hl 0 rfl) ?_
    refine hr_getN in_X5 (ci := 4) 5 q742 rfl rfl (by decide) C hO0 rfl dX2_entail_35 ?_
    refine hr_getN in_X4 (ci := 3) 0 q632 rfl rfl (by decide) C (hD.2.1.2.1 i hi) rfl dX2_entail_38 ?_
    refine hr_callSN (lw_meth q847) q76 q845 q846 (by decide +kernel) (n := 3) C (mtX1_rejectIf Z (t := true) (r := 9) (dt := i)) ⟨Nat.le_of_ble_eq_true rfl, Nat.le_of_ble_eq_true rfl⟩ rfl hl.1 (Nat.le_of_ble_eq_true rfl) ⟨by first | exact Nat.le_of_ble_eq_true rfl | (simp only [rmX2_entail]; omega), by first | exact Nat.le_of_ble_eq_true rfl | (simp only [rmX2_entail]; omega)⟩ hS17 (hr_AN hAN hS17) dX2_entail_41 (rest := []) rfl
      (fun E9 q9 ce9 H9 locs9 hp9 hF9 hS9 hc9 hv9 hl9 => hr_out C hQ hnx (⟨hp9.1, 9, i, by unfold dt_ent; simp only [hi9]; rw [if_neg (by rw [ht7]; decide), if_pos hc'], hp9.2.2⟩) hS9 hc9 hv9 hl9 (by first | exact Nat.le_of_ble_eq_true rfl | (simp only [rmX2_entail]; omega)) (by first | exact Nat.le_of_ble_eq_true rfl | (simp only [rmX2_entail]; omega))) (fun v39 H34 locs35 hp38 hF36 hS37 => ?_)
    obtain ⟨rfl, ⟨ht9, hH9⟩⟩ := hp38
    refine W.eq (g2 := F0 m 44 ls []) rfl ?_
    exact nomatch ht9

theorem dt_ch_r (k : Nat) : 0 ≤ dt_ch k ∧ dt_ch k < 65536 := by unfold dt_ch; split <;> (try split) <;> omega
theorem hr_Dw.x {D : va_G} {H H1 : Heap} {a : Nat} {L : ly_T} {d : dt_T} {A : Nat → Prop} (h : hr_Dw D H a L d A) (hx : hr_X H H1) : hr_Dw D H1 a L d A := ⟨h.1.x hx, h.2⟩
theorem dt_di_r {d : dt_T} (hV : dt_VP d) {i j : Nat} (hi : i < dt_n d) (hj : j < dt_n d) : -31 ≤ dt_di d i j ∧ dt_di d i j ≤ 30 := by
  have h1 := dt_gen16 hV hi
  have h2 := dt_gen16 hV hj
  unfold dt_di
  cases h : dt_ca d i j with
  | none => simp
  | some c =>
    have := dt_gen16 hV (dt_ca_lt hV hi h)
    simp; omega
def dt_giv (d : dt_T) (h j : Nat) : Except (Int × Int) (dt_T × Int) := match dt_ho d h with
  | none => .error (5, h)
  | some i => if dt_en d h = true then .error (7, h) else if dt_al d j = false then .error (3, j) else if i = j then .error (10, j) else if ¬ (0 ≤ dt_di d i j ∧ dt_di d i j ≤ 3) then .error (11, dt_di d i j) else match dt_hof d j (dt_ch (dt_ki d h)) with
    | some g => .error (4, g)
    | none => .ok (dt_wH d (hr_u (dt_ho d) h (some j)) (dt_st d) (dt_en d) (dt_pr d), dt_di d i j)
abbrev rmX2_requireNoKind : Room := { frames := 16, cells := 3, slots := 15, locals := 3142 }
set_option maxHeartbeats 4000000 in
set_option maxRecDepth 100000 in
theorem mtX2_requireNoKind {l : Launch} {D : va_G} {s0 : State} (Z : hr_Z l D s0) {H : Heap} {a : Nat} {L : ly_T} {d : dt_T} (hD : hr_Dt D H a L d) (hV : dt_V d) {i : Nat} (hi : i < dt_n d) {kc : Int} (hkc : 0 ≤ kc ∧ kc < 65536) : hr_M l s0 yX2_requireNoKind (ws_ yX2_requireNoKind cX2_requireNoKind 4 (Option.none : Option Jvm.ClassFile.FieldType)) rmX2_requireNoKind [.ref a, .ref (ly_pa L i), .int (hr_I kc)] H (hr_N H) (fun v H1 => v = none ∧ dt_hof d i kc = none ∧ hr_X H H1) (fun E q H1 => E = "HabitRegistry$Rejection" ∧ ∃ g : Nat, dt_hof d i kc = some g ∧ hr_Rj D H1 q none 4 g) := by
  refine hr_of Z (by decide) (Nat.le_of_ble_eq_true rfl) (fun _ h => Or.inr h) ?_
  intro p e s m args below meth c Q ls C hQ hin hnx hS hl
  have hAN : ∀ q, H.size ≤ q → (hr_N H) q := (fun _ h => h)
  have hl : lv_has ls 4 [(0, .ref a), (1, .ref (ly_pa L i)), (2, .int (hr_I kc))] := hl
  refine lv_aload_n C.x C.b dX2_requireNoKind_0 rfl (lv_at hl 0 rfl) ?_
  refine lv_aload_n C.x C.b dX2_requireNoKind_1 rfl (lv_at hl 1 rfl) ?_
  refine lv_iload_n C.x C.b dX2_requireNoKind_2 rfl (lv_at hl 2 rfl) ?_
  refine hr_callV (lw_V q892 q893 q894 q77 q895) (by decide +kernel) (n := 2) C (mtX2_habitOf Z hD hV hi hkc) (hD.1.recv C rfl) ⟨Nat.le_of_ble_eq_true rfl, Nat.le_of_ble_eq_true rfl⟩ rfl hl.1 (Nat.le_of_ble_eq_true rfl) ⟨by first | exact Nat.le_of_ble_eq_true rfl | (simp only [rmX2_requireNoKind]; omega), by first | exact Nat.le_of_ble_eq_true rfl | (simp only [rmX2_requireNoKind]; omega)⟩ hS (hr_AN hAN hS) dX2_requireNoKind_3 (rest := []) rfl
    (fun _ _ _ _ _ h => h.elim) (fun v6 H1 locs2 hp5 hF3 hS4 => ?_)
  obtain ⟨rfl, hX9⟩ := hp5
  refine W.eq (g2 := F0 m 6 ls [va_rf ((dt_hof d i kc).map (ly_ha L))]) rfl ?_
  cases hof : dt_hof d i kc with
  | none =>
    show W p l e rmX2_requireNoKind s m args below meth c H1 locs2 (0 + 2) (0 + 6) Q (F0 m 6 ls [.null])
    refine lv_astore_nN (lv' := [(3, .null), (0, .ref a), (1, .ref (ly_pa L i)), (2, .int (hr_I kc))]) C.x C.b dX2_requireNoKind_6 rfl hl (by decide) rfl (fun ls hl => ?_)
    refine lv_aload_nN C.x C.b dX2_requireNoKind_7 rfl (lv_at hl 0 rfl) ?_
    refine lv_ifnullN (tgt := 15) C.x C.b dX2_requireNoKind_8 (by decide) ?_
    refine lv_iconst (v := hr_I 0) C.x C.b dX2_requireNoKind_15 (by decide) ?_
    refine lv_iconst (v := hr_I 4) C.x C.b dX2_requireNoKind_16 (by decide) ?_
    refine lv_aload_nN C.x C.b dX2_requireNoKind_17 rfl (lv_at hl 0 rfl) ?_
    refine lv_ifnonnullN C.x C.b dX2_requireNoKind_18 ?_
    refine lv_iconst (v := hr_I (-1)) C.x C.b dX2_requireNoKind_21 (by decide) ?_
    refine lv_goto (tgt := 29) C.x C.b dX2_requireNoKind_22 (by decide) ?_
    refine hr_callSN (lw_meth q847) q76 q845 q846 (by decide +kernel) (n := 3) C (mtX1_rejectIf Z (t := false) (r := 4) (dt := (-1))) ⟨Nat.le_of_ble_eq_true rfl, Nat.le_of_ble_eq_true rfl⟩ rfl hl.1 (Nat.le_of_ble_eq_true rfl) ⟨by first | exact Nat.le_of_ble_eq_true rfl | (simp only [rmX2_requireNoKind]; omega), by first | exact Nat.le_of_ble_eq_true rfl | (simp only [rmX2_requireNoKind]; omega)⟩ hS4 (hr_AN hAN hS4) dX2_requireNoKind_29 (rest := []) rfl
      (fun _ _ _ _ _ h => nomatch h.2.1) (fun v12 H7 locs8 hp11 hF9 hS10 => ?_)
    obtain ⟨rfl, ⟨ht9, hH9⟩⟩ := hp11
    refine W.eq (g2 := F0 m 32 ls []) rfl ?_
    subst hH9
    show W p l e rmX2_requireNoKind s m args below meth c H1 locs8 (0 + 2 + 1) (0 + 6 + 9) Q (F0 m 32 ls [])
    exact hr_vret C hQ (⟨rfl, hof, hr_SX hS10⟩) hS10 (by first | exact Nat.le_of_ble_eq_true rfl | (simp only [rmX2_requireNoKind]; omega)) (by first | exact Nat.le_of_ble_eq_true rfl | (simp only [rmX2_requireNoKind]; omega)) dX2_requireNoKind_32
  | some g =>
    show W p l e rmX2_requireNoKind s m args below meth c H1 locs2 (0 + 2) (0 + 6) Q (F0 m 6 ls [.ref (ly_ha L g)])
    have hg := (dt_ff_lt hof).1
    refine lv_astore_n (lv' := [(3, .ref (ly_ha L g)), (0, .ref a), (1, .ref (ly_pa L i)), (2, .int (hr_I kc))]) C.x C.b dX2_requireNoKind_6 rfl hl (by decide) rfl (fun ls hl => ?_)
    refine lv_aload_n C.x C.b dX2_requireNoKind_7 rfl (lv_at hl 0 rfl) ?_
    refine lv_ifnull C.x C.b dX2_requireNoKind_8 ?_
    refine lv_iconst (v := hr_I 1) C.x C.b dX2_requireNoKind_11 (by decide) ?_
    refine lv_goto (tgt := 16) C.x C.b dX2_requireNoKind_12 (by decide) ?_
    refine lv_iconst (v := hr_I 4) C.x C.b dX2_requireNoKind_16 (by decide) ?_
    refine lv_aload_n C.x C.b dX2_requireNoKind_17 rfl (lv_at hl 0 rfl) ?_
    refine lv_ifnonnull (tgt := 25) C.x C.b dX2_requireNoKind_18 (by decide) ?_
    refine lv_aload_n C.x C.b dX2_requireNoKind_25 rfl (lv_at hl 0 rfl) ?_
    refine hr_getN in_X5 (ci := 4) 0 q727 rfl rfl (by decide) C ((hD.2.2.1.2 g hg).x (hr_SX hS4)) rfl dX2_requireNoKind_26 ?_
    refine hr_callSN (lw_meth q847) q76 q845 q846 (by decide +kernel) (n := 3) C (mtX1_rejectIf Z (t := true) (r := 4) (dt := g)) ⟨Nat.le_of_ble_eq_true rfl, Nat.le_of_ble_eq_true rfl⟩ rfl hl.1 (Nat.le_of_ble_eq_true rfl) ⟨by first | exact Nat.le_of_ble_eq_true rfl | (simp only [rmX2_requireNoKind]; omega), by first | exact Nat.le_of_ble_eq_true rfl | (simp only [rmX2_requireNoKind]; omega)⟩ hS4 (hr_AN hAN hS4) dX2_requireNoKind_29 (rest := []) rfl
      (fun E9 q9 ce9 H9 locs9 hp9 hF9 hS9 hc9 hv9 hl9 => hr_out C hQ hnx (⟨hp9.1, g, hof, hp9.2.2⟩) hS9 hc9 hv9 hl9 (by first | exact Nat.le_of_ble_eq_true rfl | (simp only [rmX2_requireNoKind]; omega)) (by first | exact Nat.le_of_ble_eq_true rfl | (simp only [rmX2_requireNoKind]; omega))) (fun v18 H13 locs14 hp17 hF15 hS16 => ?_)
    obtain ⟨rfl, ⟨ht9, hH9⟩⟩ := hp17
    refine W.eq (g2 := F0 m 32 ls []) rfl ?_
    exact nomatch ht9

abbrev rmX2_give : Room := { frames := 17, cells := 8, slots := 60, locals := 3165 }
set_option maxHeartbeats 4000000 in
set_option maxRecDepth 100000 in
theorem mtX2_give {l : Launch} {D : va_G} {s0 : State} (Z : hr_Z l D s0) {H : Heap} {a : Nat} {L : ly_T} {d : dt_T} {A : Nat → Prop} (hlow : ∀ q, A q → s0.heap.size ≤ q) (hnew : ∀ q, H.size ≤ q → A q) (hlm : hr_lk D L) (hW : hr_Dw D H a L d A) (hV : dt_V d) {h : Nat} (hh : h < dt_k d) {j : Nat} (hj : j < dt_n d) : hr_M l s0 yX2_give (ws_ yX2_give cX2_give 6 (Option.some Jvm.ClassFile.FieldType.int)) rmX2_give [.ref a, .int (hr_I (h : Int)), .int (hr_I (j : Int))] H A (fun v H1 => hr_PO D a A (dt_giv d h j) v H1) (fun E q H1 => hr_PE D (dt_giv d h j) E q H1) := by
  refine hr_of Z (by decide) (Nat.le_of_ble_eq_true rfl) (fun q h => Or.inl (hlow q h)) ?_
  intro p e s m args below meth c Q ls C hQ hin hnx hS hl
  have hAN : ∀ q, H.size ≤ q → A q := hnew
  have hl : lv_has ls 6 [(0, .ref a), (1, .int (hr_I (h : Int))), (2, .int (hr_I (j : Int)))] := hl
  have hD := hW.1
  refine lv_aload_n C.x C.b dX2_give_0 rfl (lv_at hl 0 rfl) ?_
  refine lv_iload_n C.x C.b dX2_give_1 rfl (lv_at hl 1 rfl) ?_
  refine hr_callV (lw_V q911 q913 qs15 q77 q914) (by decide +kernel) (n := 1) C (mtX2_requirePresent Z hD hV hh) (hD.1.recv C rfl) ⟨Nat.le_of_ble_eq_true rfl, Nat.le_of_ble_eq_true rfl⟩ rfl hl.1 (Nat.le_of_ble_eq_true rfl) ⟨by first | exact Nat.le_of_ble_eq_true rfl | (simp only [rmX2_give]; omega), by first | exact Nat.le_of_ble_eq_true rfl | (simp only [rmX2_give]; omega)⟩ hS (hr_AN hAN hS) dX2_give_2 (rest := []) rfl
    (fun E9 q9 ce9 H9 locs9 hp9 hF9 hS9 hc9 hv9 hl9 => hr_out C hQ hnx (⟨hp9.1, 5, h, by unfold dt_giv; rw [hp9.2.1], hp9.2.2⟩) hS9 hc9 hv9 hl9 (by first | exact Nat.le_of_ble_eq_true rfl | (simp only [rmX2_give]; omega)) (by first | exact Nat.le_of_ble_eq_true rfl | (simp only [rmX2_give]; omega))) (fun v6 H1 locs2 hp5 hF3 hS4 => ?_)
  obtain ⟨rfl, ⟨hpr, hH9⟩⟩ := hp5
  refine W.eq (g2 := F0 m 5 ls [.ref (ly_ha L h)]) rfl ?_
  subst hH9
  show W p l e rmX2_give s m args below meth c H locs2 (0 + 1) (0 + 9) Q (F0 m 5 ls [.ref (ly_ha L h)])
  obtain ⟨i, hi9⟩ := Option.ne_none_iff_exists'.mp hpr
  have hi := (hV.2.2.1 h hh i hi9).1
  have hO0 := hD.2.2.1.2 h hh
  unfold fs_H at hO0
  rw [hi9] at hO0
  refine lv_astore_n (lv' := [(3, .ref (ly_ha L h)), (0, .ref a), (1, .int (hr_I (h : Int))), (2, .int (hr_I (j : Int)))]) C.x C.b dX2_give_5 rfl hl (by decide) rfl (fun ls hl => ?_)
  refine lv_aload_n C.x C.b dX2_give_6 rfl (lv_at hl 1 rfl) ?_
  refine hr_get in_X2 (ci := 1) 0 q313 rfl rfl (by decide) C hD.1 rfl dX2_give_7 ?_
  refine lv_iload_n C.x C.b dX2_give_10 rfl (lv_at hl 3 rfl) ?_
  refine hr_callV (lw_V q604 q493 q494 q80 q495) (by decide +kernel) (n := 1) C (mtJ2_get Z hD.2.1.1 hj) (hD.2.1.1.1.recv C rfl) ⟨Nat.le_of_ble_eq_true rfl, Nat.le_of_ble_eq_true rfl⟩ rfl hl.1 (Nat.le_of_ble_eq_true rfl) ⟨by first | exact Nat.le_of_ble_eq_true rfl | (simp only [rmX2_give]; omega), by first | exact Nat.le_of_ble_eq_true rfl | (simp only [rmX2_give]; omega)⟩ hS4 (hr_AN hAN hS4) dX2_give_11 (rest := []) rfl
    (fun _ _ _ _ _ h => h.elim) (fun v12 H7 locs8 hp11 hF9 hS10 => ?_)
  obtain ⟨hv13, hH14⟩ := hp11; subst hv13; subst hH14
  refine W.eq (g2 := F0 m 14 ls [.ref (ly_pa L j)]) rfl ?_
  refine va_castS C.x C.b C.ow (C.w _ q427) (C.K.1 3 _ rfl).2 ((hD.2.1.2.1 j hj).recv C rfl) dX2_give_14 ?_
  refine lv_astore (lv' := [(4, .ref (ly_pa L j)), (3, .ref (ly_ha L h)), (0, .ref a), (1, .int (hr_I (h : Int))), (2, .int (hr_I (j : Int)))]) C.x C.b dX2_give_17 hl (by decide) rfl (fun ls hl => ?_)
  refine lv_aload_n C.x C.b dX2_give_19 rfl (lv_at hl 1 rfl) ?_
  refine hr_getN in_X5 (ci := 4) 3 q735 rfl rfl (by decide) C hO0 rfl dX2_give_20 ?_
  refine lv_bipush (v := hr_I 7) C.x C.b dX2_give_23 (by decide) ?_
  refine lv_iload_n C.x C.b dX2_give_25 rfl (lv_at hl 3 rfl) ?_
  refine hr_callSN (lw_meth q847) q76 q845 q846 (by decide +kernel) (n := 3) C (mtX1_rejectIf Z (t := dt_en d h) (r := 7) (dt := h)) ⟨Nat.le_of_ble_eq_true rfl, Nat.le_of_ble_eq_true rfl⟩ rfl hl.1 (Nat.le_of_ble_eq_true rfl) ⟨by first | exact Nat.le_of_ble_eq_true rfl | (simp only [rmX2_give]; omega), by first | exact Nat.le_of_ble_eq_true rfl | (simp only [rmX2_give]; omega)⟩ hS10 (hr_AN hAN hS10) dX2_give_26 (rest := []) rfl
    (fun E9 q9 ce9 H9 locs9 hp9 hF9 hS9 hc9 hv9 hl9 => hr_out C hQ hnx (⟨hp9.1, 7, h, by unfold dt_giv; simp only [hi9]; rw [if_pos hp9.2.1], hp9.2.2⟩) hS9 hc9 hv9 hl9 (by first | exact Nat.le_of_ble_eq_true rfl | (simp only [rmX2_give]; omega)) (by first | exact Nat.le_of_ble_eq_true rfl | (simp only [rmX2_give]; omega))) (fun v21 H16 locs17 hp20 hF18 hS19 => ?_)
  obtain ⟨rfl, ⟨ht15, hH9⟩⟩ := hp20
  refine W.eq (g2 := F0 m 29 ls []) rfl ?_
  subst hH9
  show W p l e rmX2_give s m args below meth c H locs17 (0 + 1 + 0 + 1) (0 + 9 + 0 + 9) Q (F0 m 29 ls [])
  refine lv_aload_n C.x C.b dX2_give_29 rfl (lv_at hl 2 rfl) ?_
  refine lv_aload C.x C.b dX2_give_30 (lv_at hl 0 rfl) ?_
  refine hr_callV (lw_V q876 q878 qs12 q77 q879) (by decide +kernel) (n := 1) C (mtX2_requireAlive Z hD hV hj) (hD.1.recv C rfl) ⟨Nat.le_of_ble_eq_true rfl, Nat.le_of_ble_eq_true rfl⟩ rfl hl.1 (Nat.le_of_ble_eq_true rfl) ⟨by first | exact Nat.le_of_ble_eq_true rfl | (simp only [rmX2_give]; omega), by first | exact Nat.le_of_ble_eq_true rfl | (simp only [rmX2_give]; omega)⟩ hS19 (hr_AN hAN hS19) dX2_give_32 (rest := []) rfl
    (fun E9 q9 ce9 H9 locs9 hp9 hF9 hS9 hc9 hv9 hl9 => hr_out C hQ hnx (⟨hp9.1, 3, j, by unfold dt_giv; simp only [hi9]; rw [if_neg (by rw [ht15]; decide), if_pos hp9.2.1], hp9.2.2⟩) hS9 hc9 hv9 hl9 (by first | exact Nat.le_of_ble_eq_true rfl | (simp only [rmX2_give]; omega)) (by first | exact Nat.le_of_ble_eq_true rfl | (simp only [rmX2_give]; omega))) (fun v27 H22 locs23 hp26 hF24 hS25 => ?_)
  obtain ⟨rfl, ⟨hal, hH9⟩⟩ := hp26
  refine W.eq (g2 := F0 m 35 ls []) rfl ?_
  subst hH9
  show W p l e rmX2_give s m args below meth c H locs23 (0 + 1 + 0 + 1 + 1) (0 + 9 + 0 + 9 + 9) Q (F0 m 35 ls [])
  refine lv_aload_n C.x C.b dX2_give_35 rfl (lv_at hl 1 rfl) ?_
  refine hr_getN in_X5 (ci := 4) 5 q742 rfl rfl (by decide) C hO0 rfl dX2_give_36 ?_
  refine lv_aload C.x C.b dX2_give_39 (lv_at hl 0 rfl) ?_
  refine hr_acmp_ne (x := some (ly_pa L i)) (y := some (ly_pa L j)) C (tgt := 48) dX2_give_41 (by decide) (fun hc1 => ?_) (fun hc1 => ?_)
  · have hij : ¬ i = j := fun e => hc1 (by rw [e])
    refine lv_iconst (v := hr_I 0) C.x C.b dX2_give_48 (by decide) ?_
    refine lv_bipush (v := hr_I 10) C.x C.b dX2_give_49 (by decide) ?_
    refine lv_iload_n C.x C.b dX2_give_51 rfl (lv_at hl 4 rfl) ?_
    refine hr_callSN (lw_meth q847) q76 q845 q846 (by decide +kernel) (n := 3) C (mtX1_rejectIf Z (t := false) (r := 10) (dt := j)) ⟨Nat.le_of_ble_eq_true rfl, Nat.le_of_ble_eq_true rfl⟩ rfl hl.1 (Nat.le_of_ble_eq_true rfl) ⟨by first | exact Nat.le_of_ble_eq_true rfl | (simp only [rmX2_give]; omega), by first | exact Nat.le_of_ble_eq_true rfl | (simp only [rmX2_give]; omega)⟩ hS25 (hr_AN hAN hS25) dX2_give_52 (rest := []) rfl
      (fun _ _ _ _ _ h => nomatch h.2.1) (fun v33 H28 locs29 hp32 hF30 hS31 => ?_)
    obtain ⟨rfl, ⟨ht9, hH9⟩⟩ := hp32
    refine W.eq (g2 := F0 m 55 ls []) rfl ?_
    subst hH9
    show W p l e rmX2_give s m args below meth c H locs29 (0 + 1 + 0 + 1 + 1 + 1) (0 + 9 + 0 + 9 + 9 + 9) Q (F0 m 55 ls [])
    refine lv_aload_n C.x C.b dX2_give_55 rfl (lv_at hl 2 rfl) ?_
    refine lv_aload_n C.x C.b dX2_give_56 rfl (lv_at hl 1 rfl) ?_
    refine hr_getN in_X5 (ci := 4) 5 q742 rfl rfl (by decide) C hO0 rfl dX2_give_57 ?_
    refine lv_aload C.x C.b dX2_give_60 (lv_at hl 0 rfl) ?_
    refine hr_callV (lw_V q595 q596 q597 q77 q598) (by decide +kernel) (n := 2) C (mtX2_distance Z hD.1 hD.2.1 hV.1 hi hj) (hD.1.recv C rfl) ⟨Nat.le_of_ble_eq_true rfl, Nat.le_of_ble_eq_true rfl⟩ rfl hl.1 (Nat.le_of_ble_eq_true rfl) ⟨by first | exact Nat.le_of_ble_eq_true rfl | (simp only [rmX2_give]; omega), by first | exact Nat.le_of_ble_eq_true rfl | (simp only [rmX2_give]; omega)⟩ hS31 (hr_AN hAN hS31) dX2_give_62 (rest := []) rfl
      (fun _ _ _ _ _ h => h.elim) (fun v39 H34 locs35 hp38 hF36 hS37 => ?_)
    obtain ⟨hv40, hH41⟩ := hp38; subst hv40; subst hH41
    refine W.eq (g2 := F0 m 65 ls [.int (hr_I (dt_di d i j))]) rfl ?_
    have hdr := dt_di_r hV.1 hi hj
    refine lv_istore (lv' := [(5, .int (hr_I (dt_di d i j))), (4, .ref (ly_pa L j)), (3, .ref (ly_ha L h)), (0, .ref a), (1, .int (hr_I (h : Int))), (2, .int (hr_I (j : Int)))]) C.x C.b dX2_give_65 hl (by decide) rfl (fun ls hl => ?_)
    refine lv_iload C.x C.b dX2_give_67 (lv_at hl 0 rfl) ?_
    refine lv_iconst (v := hr_I 0) C.x C.b dX2_give_69 (by decide) ?_
    refine lv_iconst (v := hr_I 3) C.x C.b dX2_give_70 (by decide) ?_
    refine hr_callSN (lw_meth q804) q76 q802 q803 (by decide +kernel) (n := 3) C (mtX1_isBetween Z (a := dt_di d i j) (b := 0) (x := 3) ⟨by omega, by omega⟩ ⟨by omega, by omega⟩ ⟨by omega, by omega⟩) ⟨Nat.le_of_ble_eq_true rfl, Nat.le_of_ble_eq_true rfl⟩ rfl hl.1 (Nat.le_of_ble_eq_true rfl) ⟨by first | exact Nat.le_of_ble_eq_true rfl | (simp only [rmX2_give]; omega), by first | exact Nat.le_of_ble_eq_true rfl | (simp only [rmX2_give]; omega)⟩ hS37 (hr_AN hAN hS37) dX2_give_71 (rest := []) rfl
      (fun _ _ _ _ _ h => h.elim) (fun v47 H42 locs43 hp46 hF44 hS45 => ?_)
    obtain ⟨hv48, hH49⟩ := hp46; subst hv48; subst hH49
    refine W.eq (g2 := F0 m 74 ls [.int (hr_I (hr_t (decide (0 ≤ dt_di d i j ∧ dt_di d i j ≤ 3))))]) rfl ?_
    refine hr_ifb_ne C (tgt := 81) dX2_give_74 (by decide) (fun hc2 => ?_) (fun hc2 => ?_)
    · have hnr := of_decide_eq_true hc2
      refine lv_iconst (v := hr_I 0) C.x C.b dX2_give_81 (by decide) ?_
      refine lv_bipush (v := hr_I 11) C.x C.b dX2_give_82 (by decide) ?_
      refine lv_iload C.x C.b dX2_give_84 (lv_at hl 0 rfl) ?_
      refine hr_callSN (lw_meth q847) q76 q845 q846 (by decide +kernel) (n := 3) C (mtX1_rejectIf Z (t := false) (r := 11) (dt := dt_di d i j)) ⟨Nat.le_of_ble_eq_true rfl, Nat.le_of_ble_eq_true rfl⟩ rfl hl.1 (Nat.le_of_ble_eq_true rfl) ⟨by first | exact Nat.le_of_ble_eq_true rfl | (simp only [rmX2_give]; omega), by first | exact Nat.le_of_ble_eq_true rfl | (simp only [rmX2_give]; omega)⟩ hS45 (hr_AN hAN hS45) dX2_give_86 (rest := []) rfl
        (fun _ _ _ _ _ h => nomatch h.2.1) (fun v55 H50 locs51 hp54 hF52 hS53 => ?_)
      obtain ⟨rfl, ⟨ht9, hH9⟩⟩ := hp54
      refine W.eq (g2 := F0 m 89 ls []) rfl ?_
      subst hH9
      show W p l e rmX2_give s m args below meth c H locs51 (0 + 1 + 0 + 1 + 1 + 1 + 0 + 0 + 1) (0 + 9 + 0 + 9 + 9 + 9 + 0 + 0 + 9) Q (F0 m 89 ls [])
      refine lv_aload_n C.x C.b dX2_give_89 rfl (lv_at hl 3 rfl) ?_
      refine lv_aload C.x C.b dX2_give_90 (lv_at hl 1 rfl) ?_
      refine lv_aload_n C.x C.b dX2_give_92 rfl (lv_at hl 2 rfl) ?_
      refine hr_getN in_X5 (ci := 4) 1 q730 rfl rfl (by decide) C hO0 rfl dX2_give_93 ?_
      refine hr_callV (lw_V q903 q905 qs14 q77 q906) (by decide +kernel) (n := 2) C (mtX2_requireNoKind Z hD hV hj (dt_ch_r (dt_ki d h))) (hD.1.recv C rfl) ⟨Nat.le_of_ble_eq_true rfl, Nat.le_of_ble_eq_true rfl⟩ rfl hl.1 (Nat.le_of_ble_eq_true rfl) ⟨by first | exact Nat.le_of_ble_eq_true rfl | (simp only [rmX2_give]; omega), by first | exact Nat.le_of_ble_eq_true rfl | (simp only [rmX2_give]; omega)⟩ hS53 (hr_AN hAN hS53) dX2_give_96 (rest := []) rfl
        (fun E9 q9 ce9 H9 locs9 hp9 hF9 hS9 hc9 hv9 hl9 => hr_out C hQ hnx (⟨hp9.1, by obtain ⟨g, hg1, hg2⟩ := hp9.2; exact ⟨4, g, by unfold dt_giv; simp only [hi9]; rw [if_neg (by rw [ht15]; decide), if_neg (by rw [hal]; decide), if_neg hij, if_neg (fun z => z hnr), hg1], hg2⟩⟩) hS9 hc9 hv9 hl9 (by first | exact Nat.le_of_ble_eq_true rfl | (simp only [rmX2_give]; omega)) (by first | exact Nat.le_of_ble_eq_true rfl | (simp only [rmX2_give]; omega))) (fun v61 H56 locs57 hp60 hF58 hS59 => ?_)
      obtain ⟨rfl, ⟨hnk, hXn⟩⟩ := hp60
      refine W.eq (g2 := F0 m 99 ls []) rfl ?_
      have hW1 := hW.x hXn
      refine lv_aload_n C.x C.b dX2_give_99 rfl (lv_at hl 2 rfl) ?_
      refine lv_aload C.x C.b dX2_give_100 (lv_at hl 1 rfl) ?_
      refine hr_putN in_X5 tyX5 tyX5_ok nmX5 (ci := 4) 5 rfl q742 rfl rfl (by decide) C (hO0.x hXn) (Nat.le_of_ble_eq_true rfl) rfl rfl hS59 (hW.2.2.2.2.2.1 h hh) dX2_give_102 (fun H62 locs64 hO65 hz66 ho67 hS63 => ?_)
      refine lv_iload C.x C.b dX2_give_105 (lv_at hl 0 rfl) ?_
      have hO9 : hr_O D H62 (ly_ha L h) 4 (fs_H (dt_wH d (hr_u (dt_ho d) h (some j)) (dt_st d) (dt_en d) (dt_pr d)) L h) := by
        have h9 := hO65
        show hr_O _ _ _ _ [_, _, _, _, _, va_rf ((hr_u (dt_ho d) h (some j) h).map (ly_pa L))]
        rw [hr_us]; exact h9
      exact hr_iret C hQ (⟨dt_wH d (hr_u (dt_ho d) h (some j)) (dt_st d) (dt_en d) (dt_pr d), _, L, by unfold dt_giv; simp only [hi9]; rw [if_neg (by rw [ht15]; decide), if_neg (by rw [hal]; decide), if_neg hij, if_neg (fun z => z hnr), hnk], rfl, hr_Dw.upH C hlow hlm hW1 hV.2.1 hh (d1 := dt_wH d (hr_u (dt_ho d) h (some j)) (dt_st d) (dt_en d) (dt_pr d)) rfl rfl rfl (dt_wH_o (fun g hg => hr_un _ _ hg) (fun _ _ => rfl) (fun _ _ => rfl) (fun _ _ => rfl)) hO9 (hr_F1.put hz66 ho67), hlm⟩) hS63 (by first | exact Nat.le_of_ble_eq_true rfl | (simp only [rmX2_give]; omega)) (by first | exact Nat.le_of_ble_eq_true rfl | (simp only [rmX2_give]; omega)) dX2_give_107
    · have hnr := of_decide_eq_false hc2
      refine lv_iconst (v := hr_I 1) C.x C.b dX2_give_77 (by decide) ?_
      refine lv_goto (tgt := 82) C.x C.b dX2_give_78 (by decide) ?_
      refine lv_bipush (v := hr_I 11) C.x C.b dX2_give_82 (by decide) ?_
      refine lv_iload C.x C.b dX2_give_84 (lv_at hl 0 rfl) ?_
      refine hr_callSN (lw_meth q847) q76 q845 q846 (by decide +kernel) (n := 3) C (mtX1_rejectIf Z (t := true) (r := 11) (dt := dt_di d i j)) ⟨Nat.le_of_ble_eq_true rfl, Nat.le_of_ble_eq_true rfl⟩ rfl hl.1 (Nat.le_of_ble_eq_true rfl) ⟨by first | exact Nat.le_of_ble_eq_true rfl | (simp only [rmX2_give]; omega), by first | exact Nat.le_of_ble_eq_true rfl | (simp only [rmX2_give]; omega)⟩ hS45 (hr_AN hAN hS45) dX2_give_86 (rest := []) rfl
        (fun E9 q9 ce9 H9 locs9 hp9 hF9 hS9 hc9 hv9 hl9 => hr_out C hQ hnx (⟨hp9.1, 11, dt_di d i j, by unfold dt_giv; simp only [hi9]; rw [if_neg (by rw [ht15]; decide), if_neg (by rw [hal]; decide), if_neg hij, if_pos hnr], hp9.2.2⟩) hS9 hc9 hv9 hl9 (by first | exact Nat.le_of_ble_eq_true rfl | (simp only [rmX2_give]; omega)) (by first | exact Nat.le_of_ble_eq_true rfl | (simp only [rmX2_give]; omega))) (fun v73 H68 locs69 hp72 hF70 hS71 => ?_)
      obtain ⟨rfl, ⟨ht9, hH9⟩⟩ := hp72
      refine W.eq (g2 := F0 m 89 ls []) rfl ?_
      exact nomatch ht9
  · have hij : i = j := hD.2.1.inj hV.1.1 hi hj (Option.some.inj hc1)
    refine lv_iconst (v := hr_I 1) C.x C.b dX2_give_44 (by decide) ?_
    refine lv_goto (tgt := 49) C.x C.b dX2_give_45 (by decide) ?_
    refine lv_bipush (v := hr_I 10) C.x C.b dX2_give_49 (by decide) ?_
    refine lv_iload_n C.x C.b dX2_give_51 rfl (lv_at hl 4 rfl) ?_
    refine hr_callSN (lw_meth q847) q76 q845 q846 (by decide +kernel) (n := 3) C (mtX1_rejectIf Z (t := true) (r := 10) (dt := j)) ⟨Nat.le_of_ble_eq_true rfl, Nat.le_of_ble_eq_true rfl⟩ rfl hl.1 (Nat.le_of_ble_eq_true rfl) ⟨by first | exact Nat.le_of_ble_eq_true rfl | (simp only [rmX2_give]; omega), by first | exact Nat.le_of_ble_eq_true rfl | (simp only [rmX2_give]; omega)⟩ hS25 (hr_AN hAN hS25) dX2_give_52 (rest := []) rfl
      (fun E9 q9 ce9 H9 locs9 hp9 hF9 hS9 hc9 hv9 hl9 => hr_out C hQ hnx (⟨hp9.1, 10, j, by unfold dt_giv; simp only [hi9]; rw [if_neg (by rw [ht15]; decide), if_neg (by rw [hal]; decide), if_pos hij], hp9.2.2⟩) hS9 hc9 hv9 hl9 (by first | exact Nat.le_of_ble_eq_true rfl | (simp only [rmX2_give]; omega)) (by first | exact Nat.le_of_ble_eq_true rfl | (simp only [rmX2_give]; omega))) (fun v79 H74 locs75 hp78 hF76 hS77 => ?_)
    obtain ⟨rfl, ⟨ht9, hH9⟩⟩ := hp78
    refine W.eq (g2 := F0 m 55 ls []) rfl ?_
    exact nomatch ht9
