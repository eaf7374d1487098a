/-! HabitRegistry$Person: contracts that read -/
abbrev rmX4_generation : Room := { frames := 0, cells := 0, slots := 0, locals := 12 }
set_option maxHeartbeats 4000000 in
set_option maxRecDepth 100000 in
theorem mtX4_generation {l : Launch} {D : va_G} {s0 : State} (Z : hr_Z l D s0) {H : Heap} {L : ly_T} {d : dt_T} (hP : hr_pp D H L d) (hV : dt_VP d) {i : Nat} (hi : i < dt_n d) : hr_M l s0 yX4_generation (ws_ yX4_generation cX4_generation 3 (Option.some Jvm.ClassFile.FieldType.int)) rmX4_generation [.ref (ly_pa L i)] H (hr_N H) (fun v H1 => v = some (.int (hr_I (dt_gen d i : Int))) ∧ H = H1) hr_no := by
  refine hr_of Z (by decide) (Nat.le_of_ble_eq_true rfl) (fun _ h => Or.inr h) ?_
  intro p e s m args below meth c Q ls C hQ hin hnx hS hl
  have hAN : ∀ q, H.size ≤ q → (hr_N H) q := (fun _ h => h)
  have hl : lv_has ls 3 [(0, .ref (ly_pa L i))] := hl
  refine lv_iconst (v := hr_I 0) C.x C.b dX4_generation_0 (by decide) ?_
  refine lv_istore_n (lv' := [(1, .int (hr_I 0)), (0, .ref (ly_pa L i))]) C.x C.b dX4_generation_1 rfl hl (by decide) rfl (fun ls hl => ?_)
  refine lv_aload_n C.x C.b dX4_generation_2 rfl (lv_at hl 1 rfl) ?_
  refine hr_get in_X4 (ci := 3) 1 q634 rfl rfl (by decide) C (hP.2.1 i hi) rfl dX4_generation_3 ?_
  refine hr_astore_no (lv' := [(2, va_rf ((dt_pa d i).map (ly_pa L))), (1, .int (hr_I 0)), (0, .ref (ly_pa L i))]) C.x C.b dX4_generation_6 rfl hl (by decide) rfl (fun ls hl => ?_)
  have lp : ∀ (k : Nat) (g : Int) (o : Option Nat) (ls : Array Slot), (dt_upo d o).length = k → 0 ≤ g → g + k ≤ 16 → (∀ j, o = some j → j < dt_n d) → lv_has ls 3 [(1, .int (hr_I g)), (0, .ref (ly_pa L i)), (2, va_rf (o.map (ly_pa L)))] → ((dt_gen d i : Int) = g + k) → W p l e rmX4_generation s m args below meth c H [] 0 0 Q (F0 m 7 ls []) := by
    intro k
    induction k with
    | zero =>
      intro g o ls ho hg0 hg hj hl he
      cases o with
      | some j => exact absurd ho (by simp [dt_upo])
      | none =>
        refine lv_aload_nN C.x C.b dX4_generation_7 rfl (lv_at hl 2 rfl) ?_
        refine lv_ifnullN (tgt := 22) C.x C.b dX4_generation_8 (by decide) ?_
        refine lv_iload_n C.x C.b dX4_generation_22 rfl (lv_at hl 0 rfl) ?_
        exact hr_iret C hQ (⟨by rw [he]; simp, rfl⟩) hS (by first | exact Nat.le_of_ble_eq_true rfl | (simp only [rmX4_generation]; omega)) (by first | exact Nat.le_of_ble_eq_true rfl | (simp only [rmX4_generation]; omega)) dX4_generation_23
    | succ k ih =>
      intro g o ls ho hg0 hg hj hl he
      cases o with
      | none => exact absurd ho (by simp [dt_upo])
      | some j =>
        have hjn := hj j rfl
        have hup : (dt_upo d (dt_pa d j)).length = k := by rw [← dt_up_eq hV hjn]; simpa [dt_upo] using ho
        refine lv_aload_n C.x C.b dX4_generation_7 rfl (lv_at hl 2 rfl) ?_
        refine lv_ifnull C.x C.b dX4_generation_8 ?_
        refine lv_iinc (v := (hr_I (g + 1))) (lv' := [(1, .int (hr_I (g + 1))), (0, .ref (ly_pa L i)), (2, .ref (ly_pa L j))]) C.x C.b dX4_generation_11 hl (k := 0) rfl (hr_add _ _) (by decide) rfl (fun ls hl => ?_)
        refine lv_aload_n C.x C.b dX4_generation_14 rfl (lv_at hl 2 rfl) ?_
        refine hr_get in_X4 (ci := 3) 1 q634 rfl rfl (by decide) C (hP.2.1 j hjn) rfl dX4_generation_15 ?_
        refine hr_astore_no (lv' := [(2, va_rf ((dt_pa d j).map (ly_pa L))), (1, .int (hr_I (g + 1))), (0, .ref (ly_pa L i))]) C.x C.b dX4_generation_18 rfl hl (by decide) rfl (fun ls hl => ?_)
        refine lv_goto (tgt := 7) C.x C.b dX4_generation_19 (by decide) ?_
        exact ih (g + 1) (dt_pa d j) ls hup (by omega) (by omega) (fun x hx => (dt_pa_lt hV hjn hx).2) (lv_sub hl [1, 2, 0] rfl) (by omega)
  exact lp _ 0 _ ls rfl (by omega) (by have := dt_gen_le hV i hi; unfold dt_gen at this; rw [dt_up_eq hV hi] at this; have := hV.1; omega) (fun x hx => (dt_pa_lt hV hi hx).2) (lv_sub hl [1, 2, 0] rfl) (by unfold dt_gen; rw [dt_up_eq hV hi]; omega)

abbrev rmX4_founder : Room := { frames := 0, cells := 0, slots := 0, locals := 12 }
set_option maxHeartbeats 4000000 in
set_option maxRecDepth 100000 in
theorem mtX4_founder {l : Launch} {D : va_G} {s0 : State} (Z : hr_Z l D s0) {H : Heap} {L : ly_T} {d : dt_T} (hP : hr_pp D H L d) (hV : dt_VP d) {i : Nat} (hi : i < dt_n d) : hr_M l s0 yX4_founder (ws_ yX4_founder cX4_founder 2 (Option.some (Jvm.ClassFile.FieldType.object "HabitRegistry$Person"))) rmX4_founder [.ref (ly_pa L i)] H (hr_N H) (fun v H1 => v = some (.ref (ly_pa L (dt_fo d i))) ∧ H = H1) hr_no := by
  refine hr_of Z (by decide) (Nat.le_of_ble_eq_true rfl) (fun _ h => Or.inr h) ?_
  intro p e s m args below meth c Q ls C hQ hin hnx hS hl
  have hAN : ∀ q, H.size ≤ q → (hr_N H) q := (fun _ h => h)
  have hl : lv_has ls 2 [(0, .ref (ly_pa L i))] := hl
  refine lv_aload_n C.x C.b dX4_founder_0 rfl (lv_at hl 0 rfl) ?_
  refine lv_astore_n (lv' := [(1, .ref (ly_pa L i)), (0, .ref (ly_pa L i))]) C.x C.b dX4_founder_1 rfl hl (by decide) rfl (fun ls hl => ?_)
  have lp : ∀ (k j : Nat) (ls : Array Slot), j ≤ k → j < dt_n d → dt_fo d j = dt_fo d i → lv_has ls 2 [(1, .ref (ly_pa L j)), (0, .ref (ly_pa L i))] → W p l e rmX4_founder s m args below meth c H [] 0 0 Q (F0 m 2 ls []) := by
    intro k
    induction k with
    | zero =>
      intro j ls hjk hj he hl
      have hp : dt_pa d j = none := by
        cases hp : dt_pa d j with
        | none => rfl
        | some p => exact absurd (dt_pa_lt hV hj hp).1 (by omega)
      refine lv_aload_n C.x C.b dX4_founder_2 rfl (lv_at hl 0 rfl) ?_
      refine hr_get in_X4 (ci := 3) 1 q634 rfl rfl (by decide) C (hP.2.1 j hj) rfl dX4_founder_3 ?_
      refine hr_nullo C (tgt := 17) dX4_founder_6 (by decide) (fun hc => ?_) (fun x => ?_)
      · refine lv_aload_n C.x C.b dX4_founder_17 rfl (lv_at hl 0 rfl) ?_
        exact hr_aret (Or.inl ⟨_, rfl⟩) (Or.inr ⟨_, rfl⟩) C hQ (⟨by rw [← he, dt_fo_none hV hj hp], rfl⟩) hS (by first | exact Nat.le_of_ble_eq_true rfl | (simp only [rmX4_founder]; omega)) (by first | exact Nat.le_of_ble_eq_true rfl | (simp only [rmX4_founder]; omega)) dX4_founder_18
      · intro hc; simp [hp] at hc
    | succ k ih =>
      intro j ls hjk hj he hl
      cases hp : dt_pa d j with
      | none =>
        refine lv_aload_n C.x C.b dX4_founder_2 rfl (lv_at hl 0 rfl) ?_
        refine hr_get in_X4 (ci := 3) 1 q634 rfl rfl (by decide) C (hP.2.1 j hj) rfl dX4_founder_3 ?_
        refine hr_nullo C (tgt := 17) dX4_founder_6 (by decide) (fun hc => ?_) (fun x => ?_)
        · refine lv_aload_n C.x C.b dX4_founder_17 rfl (lv_at hl 0 rfl) ?_
          exact hr_aret (Or.inl ⟨_, rfl⟩) (Or.inr ⟨_, rfl⟩) C hQ (⟨by rw [← he, dt_fo_none hV hj hp], rfl⟩) hS (by first | exact Nat.le_of_ble_eq_true rfl | (simp only [rmX4_founder]; omega)) (by first | exact Nat.le_of_ble_eq_true rfl | (simp only [rmX4_founder]; omega)) dX4_founder_18
        · intro hc; simp [hp] at hc
      | some p =>
        have hp2 := dt_pa_lt hV hj hp
        have hP9 := hP.2.1 j hj
        unfold fs_P at hP9
        rw [hp] at hP9
        refine lv_aload_n C.x C.b dX4_founder_2 rfl (lv_at hl 0 rfl) ?_
        refine hr_get in_X4 (ci := 3) 1 q634 rfl rfl (by decide) C hP9 rfl dX4_founder_3 ?_
        refine lv_ifnull C.x C.b dX4_founder_6 ?_
        refine lv_aload_n C.x C.b dX4_founder_9 rfl (lv_at hl 0 rfl) ?_
        refine hr_get in_X4 (ci := 3) 1 q634 rfl rfl (by decide) C hP9 rfl dX4_founder_10 ?_
        refine lv_astore_n (lv' := [(1, .ref (ly_pa L p)), (0, .ref (ly_pa L i))]) C.x C.b dX4_founder_13 rfl hl (by decide) rfl (fun ls hl => ?_)
        refine lv_goto (tgt := 2) C.x C.b dX4_founder_14 (by decide) ?_
        exact ih p ls (by omega) hp2.2 (by rw [← he, dt_fo_eq hV hj hp]) (lv_sub hl [0, 1] rfl)
  exact lp i i ls (Nat.le_refl _) hi rfl (lv_sub hl [0, 1] rfl)

abbrev rmX4_isAncestorOf : Room := { frames := 0, cells := 0, slots := 0, locals := 12 }
set_option maxHeartbeats 4000000 in
set_option maxRecDepth 100000 in
theorem mtX4_isAncestorOf {l : Launch} {D : va_G} {s0 : State} (Z : hr_Z l D s0) {H : Heap} {L : ly_T} {d : dt_T} (hP : hr_pp D H L d) (hV : dt_VP d) {i : Nat} (hi : i < dt_n d) {j : Nat} (hj : j < dt_n d) : hr_M l s0 yX4_isAncestorOf (ws_ yX4_isAncestorOf cX4_isAncestorOf 3 (Option.some Jvm.ClassFile.FieldType.boolean)) rmX4_isAncestorOf [.ref (ly_pa L i), .ref (ly_pa L j)] H (hr_N H) (fun v H1 => v = some (.int (hr_I (hr_t (decide (i ∈ dt_up d j))))) ∧ H = H1) hr_no := by
  refine hr_of Z (by decide) (Nat.le_of_ble_eq_true rfl) (fun _ h => Or.inr h) ?_
  intro p e s m args below meth c Q ls C hQ hin hnx hS hl
  have hAN : ∀ q, H.size ≤ q → (hr_N H) q := (fun _ h => h)
  have hl : lv_has ls 3 [(0, .ref (ly_pa L i)), (1, .ref (ly_pa L j))] := hl
  refine lv_aload_n C.x C.b dX4_isAncestorOf_0 rfl (lv_at hl 1 rfl) ?_
  refine hr_get in_X4 (ci := 3) 1 q634 rfl rfl (by decide) C (hP.2.1 j hj) rfl dX4_isAncestorOf_1 ?_
  refine hr_astore_no (lv' := [(2, va_rf ((dt_pa d j).map (ly_pa L))), (0, .ref (ly_pa L i)), (1, .ref (ly_pa L j))]) C.x C.b dX4_isAncestorOf_4 rfl hl (by decide) rfl (fun ls hl => ?_)
  have lp : ∀ (k : Nat) (o : Option Nat) (ls : Array Slot), (dt_upo d o).length = k → (∀ x, o = some x → x < dt_n d) → (i ∈ dt_up d j ↔ i ∈ dt_upo d o) → lv_has ls 3 [(0, .ref (ly_pa L i)), (1, .ref (ly_pa L j)), (2, va_rf (o.map (ly_pa L)))] → W p l e rmX4_isAncestorOf s m args below meth c H [] 0 0 Q (F0 m 5 ls []) := by
    intro k
    induction k with
    | zero =>
      intro o ls hk ho he hl
      cases o with
      | some j => exact absurd hk (by simp [dt_upo])
      | none =>
        refine lv_aload_nN C.x C.b dX4_isAncestorOf_5 rfl (lv_at hl 2 rfl) ?_
        refine lv_ifnullN (tgt := 22) C.x C.b dX4_isAncestorOf_6 (by decide) ?_
        refine lv_aload_nN C.x C.b dX4_isAncestorOf_22 rfl (lv_at hl 2 rfl) ?_
        refine lv_aload_n C.x C.b dX4_isAncestorOf_23 rfl (lv_at hl 0 rfl) ?_
        refine hr_acmp_ne (x := none) (y := some (ly_pa L i)) C (tgt := 31) dX4_isAncestorOf_24 (by decide) (fun hc => ?_) (fun hc => ?_)
        · refine lv_iconst (v := hr_I 0) C.x C.b dX4_isAncestorOf_31 (by decide) ?_
          exact hr_zret C hQ rfl (⟨by rw [show decide (i ∈ dt_up d j) = false from decide_eq_false (by rw [he]; simp [dt_upo])]; rfl, rfl⟩) hS (by first | exact Nat.le_of_ble_eq_true rfl | (simp only [rmX4_isAncestorOf]; omega)) (by first | exact Nat.le_of_ble_eq_true rfl | (simp only [rmX4_isAncestorOf]; omega)) dX4_isAncestorOf_32
        · cases hc
    | succ k ih =>
      intro o ls hk ho he hl
      cases o with
      | none => exact absurd hk (by simp [dt_upo])
      | some t =>
        have ht := ho t rfl
        have hup : (dt_upo d (dt_pa d t)).length = k := by rw [← dt_up_eq hV ht]; simpa [dt_upo] using hk
        refine lv_aload_n C.x C.b dX4_isAncestorOf_5 rfl (lv_at hl 2 rfl) ?_
        refine lv_ifnull C.x C.b dX4_isAncestorOf_6 ?_
        refine lv_aload_n C.x C.b dX4_isAncestorOf_9 rfl (lv_at hl 2 rfl) ?_
        refine lv_aload_n C.x C.b dX4_isAncestorOf_10 rfl (lv_at hl 0 rfl) ?_
        refine hr_acmp_eq (x := some (ly_pa L t)) (y := some (ly_pa L i)) C (tgt := 22) dX4_isAncestorOf_11 (by decide) (fun hc => ?_) (fun hc => ?_)
        · have hti : t = i := hP.inj hV.1 ht hi (Option.some.inj hc)
          refine lv_aload_n C.x C.b dX4_isAncestorOf_22 rfl (lv_at hl 2 rfl) ?_
          refine lv_aload_n C.x C.b dX4_isAncestorOf_23 rfl (lv_at hl 0 rfl) ?_
          refine hr_acmp_ne (x := some (ly_pa L t)) (y := some (ly_pa L i)) C (tgt := 31) dX4_isAncestorOf_24 (by decide) (fun hc8 => absurd hc hc8) (fun _ => ?_)
          refine lv_iconst (v := hr_I 1) C.x C.b dX4_isAncestorOf_27 (by decide) ?_
          refine lv_goto (tgt := 32) C.x C.b dX4_isAncestorOf_28 (by decide) ?_
          exact hr_zret C hQ rfl (⟨by rw [show decide (i ∈ dt_up d j) = true from decide_eq_true (by rw [he, hti]; simp [dt_upo])]; rfl, rfl⟩) hS (by first | exact Nat.le_of_ble_eq_true rfl | (simp only [rmX4_isAncestorOf]; omega)) (by first | exact Nat.le_of_ble_eq_true rfl | (simp only [rmX4_isAncestorOf]; omega)) dX4_isAncestorOf_32
        · refine lv_aload_n C.x C.b dX4_isAncestorOf_14 rfl (lv_at hl 2 rfl) ?_
          refine hr_get in_X4 (ci := 3) 1 q634 rfl rfl (by decide) C (hP.2.1 t ht) rfl dX4_isAncestorOf_15 ?_
          refine hr_astore_no (lv' := [(2, va_rf ((dt_pa d t).map (ly_pa L))), (0, .ref (ly_pa L i)), (1, .ref (ly_pa L j))]) C.x C.b dX4_isAncestorOf_18 rfl hl (by decide) rfl (fun ls hl => ?_)
          refine lv_goto (tgt := 5) C.x C.b dX4_isAncestorOf_19 (by decide) ?_
          exact ih (dt_pa d t) ls hup (fun x hx => (dt_pa_lt hV ht hx).2) (by rw [he]; show i ∈ t :: dt_up d t ↔ _; rw [dt_up_eq hV ht, List.mem_cons]; exact ⟨fun h => h.elim (fun e => absurd (by rw [e]) hc) id, Or.inr⟩) (lv_sub hl [1, 2, 0] rfl)
  exact lp _ (dt_pa d j) ls rfl (fun x hx => (dt_pa_lt hV hj hx).2) (by rw [dt_up_eq hV hj]) (lv_sub hl [1, 2, 0] rfl)

abbrev rmX4_branchBelow : Room := { frames := 0, cells := 0, slots := 0, locals := 12 }
set_option maxHeartbeats 4000000 in
set_option maxRecDepth 100000 in
theorem mtX4_branchBelow {l : Launch} {D : va_G} {s0 : State} (Z : hr_Z l D s0) {H : Heap} {L : ly_T} {d : dt_T} (hP : hr_pp D H L d) (hV : dt_VP d) {i : Nat} (hi : i < dt_n d) {a : Nat} (ha : a < dt_n d) (ham : a ∈ dt_up d i) : hr_M l s0 yX4_branchBelow (ws_ yX4_branchBelow cX4_branchBelow 3 (Option.some (Jvm.ClassFile.FieldType.object "HabitRegistry$Person"))) rmX4_branchBelow [.ref (ly_pa L i), .ref (ly_pa L a)] H (hr_N H) (fun v H1 => v = some (.ref (ly_pa L (dt_bb d a i))) ∧ H = H1) hr_no := by
  refine hr_of Z (by decide) (Nat.le_of_ble_eq_true rfl) (fun _ h => Or.inr h) ?_
  intro p e s m args below meth c Q ls C hQ hin hnx hS hl
  have hAN : ∀ q, H.size ≤ q → (hr_N H) q := (fun _ h => h)
  have hl : lv_has ls 3 [(0, .ref (ly_pa L i)), (1, .ref (ly_pa L a))] := hl
  refine lv_aload_n C.x C.b dX4_branchBelow_0 rfl (lv_at hl 0 rfl) ?_
  refine lv_astore_n (lv' := [(2, .ref (ly_pa L i)), (0, .ref (ly_pa L i)), (1, .ref (ly_pa L a))]) C.x C.b dX4_branchBelow_1 rfl hl (by decide) rfl (fun ls hl => ?_)
  have lp : ∀ (k j : Nat) (ls : Array Slot), j ≤ k → j < dt_n d → a ∈ dt_up d j → dt_bb d a j = dt_bb d a i → lv_has ls 3 [(0, .ref (ly_pa L i)), (1, .ref (ly_pa L a)), (2, .ref (ly_pa L j))] → W p l e rmX4_branchBelow s m args below meth c H [] 0 0 Q (F0 m 2 ls []) := by
    intro k
    induction k with
    | zero => exact fun j ls hjk hj ham _ _ => absurd (dt_up_lt hV j hj a ham) (by omega)
    | succ k ih =>
      intro j ls hjk hj ham he hl
      cases hp : dt_pa d j with
      | none => exact absurd ham (by rw [dt_up_eq hV hj, hp]; simp [dt_upo])
      | some p =>
        have hp2 := dt_pa_lt hV hj hp
        have hP9 := hP.2.1 j hj
        unfold fs_P at hP9
        rw [hp] at hP9
        refine lv_aload_n C.x C.b dX4_branchBelow_2 rfl (lv_at hl 2 rfl) ?_
        refine hr_get in_X4 (ci := 3) 1 q634 rfl rfl (by decide) C hP9 rfl dX4_branchBelow_3 ?_
        refine lv_aload_n C.x C.b dX4_branchBelow_6 rfl (lv_at hl 1 rfl) ?_
        refine hr_acmp_eq (x := some (ly_pa L p)) (y := some (ly_pa L a)) C (tgt := 18) dX4_branchBelow_7 (by decide) (fun hc => ?_) (fun hc => ?_)
        · have hpa : p = a := hP.inj hV.1 hp2.2 ha (Option.some.inj hc)
          refine lv_aload_n C.x C.b dX4_branchBelow_18 rfl (lv_at hl 2 rfl) ?_
          exact hr_aret (Or.inl ⟨_, rfl⟩) (Or.inr ⟨_, rfl⟩) C hQ (⟨by rw [← he, dt_bb_hit (by rw [hp, hpa])], rfl⟩) hS (by first | exact Nat.le_of_ble_eq_true rfl | (simp only [rmX4_branchBelow]; omega)) (by first | exact Nat.le_of_ble_eq_true rfl | (simp only [rmX4_branchBelow]; omega)) dX4_branchBelow_19
        · have hpa : p ≠ a := fun e => hc (by rw [e])
          have ham2 : a ∈ dt_up d p := by rw [dt_up_eq hV hj, hp] at ham; exact (List.mem_cons.mp ham).resolve_left (fun e => hpa e.symm)
          refine lv_aload_n C.x C.b dX4_branchBelow_10 rfl (lv_at hl 2 rfl) ?_
          refine hr_get in_X4 (ci := 3) 1 q634 rfl rfl (by decide) C hP9 rfl dX4_branchBelow_11 ?_
          refine lv_astore_n (lv' := [(2, .ref (ly_pa L p)), (0, .ref (ly_pa L i)), (1, .ref (ly_pa L a))]) C.x C.b dX4_branchBelow_14 rfl hl (by decide) rfl (fun ls hl => ?_)
          refine lv_goto (tgt := 2) C.x C.b dX4_branchBelow_15 (by decide) ?_
          exact ih p ls (by omega) hp2.2 ham2 (by rw [← he, dt_bb_step hV hj hp hpa ham2]) (lv_sub hl [1, 2, 0] rfl)
  exact lp i i ls (Nat.le_refl _) hi ham rfl (lv_sub hl [1, 2, 0] rfl)

abbrev rmX4_firstLiving (k : Nat) : Room := { frames := k + 3, cells := 0, slots := 0, locals := 24 * k + 100 }
set_option maxHeartbeats 4000000 in
set_option maxRecDepth 100000 in
theorem mtX4_firstLiving_k {l : Launch} {D : va_G} {s0 : State} (Z : hr_Z l D s0) {H : Heap} {L : ly_T} {d : dt_T} (hP : hr_pp D H L d) (hV : dt_VP d) {ex : Option Nat} (hex : ∀ x, ex = some x → x < dt_n d) : ∀ (k i : Nat), i < dt_n d → dt_n d ≤ i + k → hr_M l s0 yX4_firstLiving (ws_ yX4_firstLiving cX4_firstLiving 5 (Option.some (Jvm.ClassFile.FieldType.object "HabitRegistry$Person"))) (rmX4_firstLiving k) [.ref (ly_pa L i), va_rf (ex.map (ly_pa L))] H (hr_N H) (fun v H1 => v = some (va_rf ((dt_fl d ex i).map (ly_pa L))) ∧ H = H1) hr_no := by
  intro k
  induction k with
  | zero => intro i hi hk; exact absurd hi (by omega)
  | succ k ih =>
    intro i hi hk
    refine hr_of Z (by decide) (by cases ex <;> exact Nat.le_of_ble_eq_true rfl) (fun _ h => Or.inr h) ?_
    intro p e s m args below meth c Q ls C hQ hin hnx hS hl
    have hAN : ∀ q, H.size ≤ q → (hr_N H) q := (fun _ h => h)
    have hl : lv_has ls 5 [(0, .ref (ly_pa L i)), (1, va_rf (ex.map (ly_pa L)))] := by cases ex <;> exact hl
    refine lv_iconst (v := hr_I 0) C.x C.b dX4_firstLiving_0 (by decide) ?_
    refine lv_istore_n (lv' := [(2, .int (hr_I 0)), (0, .ref (ly_pa L i)), (1, va_rf (ex.map (ly_pa L)))]) C.x C.b dX4_firstLiving_1 rfl hl (by decide) (by cases ex <;> rfl) (fun ls hl => ?_)
    have hkl := dt_kids_len hV i
    have lp : ∀ (r x9 : Nat) (ls : Array Slot) (locs : List Loc), va_S (hr_N H) H H locs → (dt_kids d i).length ≤ x9 + r → x9 ≤ (dt_kids d i).length → dt_flk d ex ((dt_kids d i).drop x9) = dt_fl d ex i → lv_has ls 5 [(2, .int (hr_I (x9 : Int))), (0, .ref (ly_pa L i)), (1, va_rf (ex.map (ly_pa L)))] → W p l e (rmX4_firstLiving (k + 1)) s m args below meth c H locs 0 0 Q (F0 m 2 ls []) := by
      intro r
      induction r with
      | zero =>
        intro x9 ls locs hS hr hcl he hl
        refine lv_iload_n C.x C.b dX4_firstLiving_2 rfl (lv_at hl 0 rfl) ?_
        refine lv_aload_n C.x C.b dX4_firstLiving_3 rfl (lv_at hl 1 rfl) ?_
        refine hr_get in_X4 (ci := 3) 2 q637 rfl rfl (by decide) C (hP.2.1 i hi) rfl dX4_firstLiving_4 ?_
        refine hr_callV (lw_V q491 q416 q417 q80 q418) (by decide +kernel) (n := 0) C (mtJ2_size Z (hP.2.2 i hi)) ((hP.2.2 i hi).1.recv C rfl) ⟨by simp only [rmX4_firstLiving, rmJ2_size, rmJ2_get]; omega, by simp only [rmX4_firstLiving, rmJ2_size, rmJ2_get]; omega⟩ rfl hl.1 (Nat.le_of_ble_eq_true rfl) ⟨by first | exact Nat.le_of_ble_eq_true rfl | (simp only [rmX4_firstLiving]; omega), by first | exact Nat.le_of_ble_eq_true rfl | (simp only [rmX4_firstLiving]; omega)⟩ hS (hr_AN hAN hS) dX4_firstLiving_7 (rest := [.int (hr_I (x9 : Int))]) rfl
          (fun _ _ _ _ _ h => h.elim) (fun v6 H1 locs2 hp5 hF3 hS4 => ?_)
        obtain ⟨hv7, hH8⟩ := hp5; subst hv7; subst hH8
        refine W.eq (g2 := F0 m 10 ls [.int (hr_I ((dt_kids d i).length : Int)), .int (hr_I (x9 : Int))]) rfl ?_
        refine hr_icmp_ge C (tgt := 62) dX4_firstLiving_10 (by decide) (by omega) (by omega) (fun hc => ?_) (fun hc => ?_)
        · refine lv_null C.x C.b dX4_firstLiving_62 ?_
          exact hr_aret (Or.inl ⟨_, rfl⟩) (Or.inl rfl) C hQ (⟨by rw [← he, dt_flk_nil d ex (by omega)]; rfl, rfl⟩) hS4 (by first | exact Nat.le_of_ble_eq_true rfl | (simp only [rmX4_firstLiving]; omega)) (by first | exact Nat.le_of_ble_eq_true rfl | (simp only [rmX4_firstLiving]; omega)) dX4_firstLiving_63
        · exact absurd hc (by omega)
      | succ r ihr =>
        intro x9 ls locs hS hr hcl he hl
        refine lv_iload_n C.x C.b dX4_firstLiving_2 rfl (lv_at hl 0 rfl) ?_
        refine lv_aload_n C.x C.b dX4_firstLiving_3 rfl (lv_at hl 1 rfl) ?_
        refine hr_get in_X4 (ci := 3) 2 q637 rfl rfl (by decide) C (hP.2.1 i hi) rfl dX4_firstLiving_4 ?_
        refine hr_callV (lw_V q491 q416 q417 q80 q418) (by decide +kernel) (n := 0) C (mtJ2_size Z (hP.2.2 i hi)) ((hP.2.2 i hi).1.recv C rfl) ⟨by simp only [rmX4_firstLiving, rmJ2_size, rmJ2_get]; omega, by simp only [rmX4_firstLiving, rmJ2_size, rmJ2_get]; omega⟩ rfl hl.1 (Nat.le_of_ble_eq_true rfl) ⟨by first | exact Nat.le_of_ble_eq_true rfl | (simp only [rmX4_firstLiving]; omega), by first | exact Nat.le_of_ble_eq_true rfl | (simp only [rmX4_firstLiving]; omega)⟩ hS (hr_AN hAN hS) dX4_firstLiving_7 (rest := [.int (hr_I (x9 : Int))]) rfl
          (fun _ _ _ _ _ h => h.elim) (fun v14 H9 locs10 hp13 hF11 hS12 => ?_)
        obtain ⟨hv15, hH16⟩ := hp13; subst hv15; subst hH16
        refine W.eq (g2 := F0 m 10 ls [.int (hr_I ((dt_kids d i).length : Int)), .int (hr_I (x9 : Int))]) rfl ?_
        refine hr_icmp_ge C (tgt := 62) dX4_firstLiving_10 (by decide) (by omega) (by omega) (fun hc => ?_) (fun hc => ?_)
        · refine lv_null C.x C.b dX4_firstLiving_62 ?_
          exact hr_aret (Or.inl ⟨_, rfl⟩) (Or.inl rfl) C hQ (⟨by rw [← he, dt_flk_nil d ex (by omega)]; rfl, rfl⟩) hS12 (by first | exact Nat.le_of_ble_eq_true rfl | (simp only [rmX4_firstLiving]; omega)) (by first | exact Nat.le_of_ble_eq_true rfl | (simp only [rmX4_firstLiving]; omega)) dX4_firstLiving_63
        · have hcm := dt_kid_at (d := d) (i := i) (j := x9) (by omega)
          have hcn := (dt_kid_gt hV hcm).2
          have hst := dt_flk_step d ex (i := i) (c := x9) (by omega)
          revert hcm hcn hst
          have hget : ∀ j, j < (dt_kids d i).length → hr_L D H (ly_ch L i) (dt_kids d i).length (fun j => ly_pa L ((dt_kids d i).getD j 0)) := fun _ _ => hP.2.2 i hi
          intro hcm hcn hst
          refine lv_aload_n C.x C.b dX4_firstLiving_13 rfl (lv_at hl 1 rfl) ?_
          refine hr_get in_X4 (ci := 3) 2 q637 rfl rfl (by decide) C (hP.2.1 i hi) rfl dX4_firstLiving_14 ?_
          refine lv_iload_n C.x C.b dX4_firstLiving_17 rfl (lv_at hl 0 rfl) ?_
          refine hr_callV (lw_V q492 q493 q494 q80 q495) (by decide +kernel) (n := 1) C (mtJ2_get Z (hget x9 (by omega)) (i := x9) (by omega)) ((hP.2.2 i hi).1.recv C rfl) ⟨by simp only [rmX4_firstLiving, rmJ2_size, rmJ2_get]; omega, by simp only [rmX4_firstLiving, rmJ2_size, rmJ2_get]; omega⟩ rfl hl.1 (Nat.le_of_ble_eq_true rfl) ⟨by first | exact Nat.le_of_ble_eq_true rfl | (simp only [rmX4_firstLiving]; omega), by first | exact Nat.le_of_ble_eq_true rfl | (simp only [rmX4_firstLiving]; omega)⟩ hS12 (hr_AN hAN hS12) dX4_firstLiving_18 (rest := []) rfl
            (fun _ _ _ _ _ h => h.elim) (fun v22 H17 locs18 hp21 hF19 hS20 => ?_)
          obtain ⟨hv23, hH24⟩ := hp21; subst hv23; subst hH24
          refine W.eq (g2 := F0 m 21 ls [.ref (ly_pa L ((dt_kids d i).getD x9 0))]) rfl ?_
          show W p l e (rmX4_firstLiving (k + 1)) s m args below meth c H locs18 (0 + 0 + 0) (0 + 0 + 0) Q (F0 m 21 ls [.ref (ly_pa L ((dt_kids d i).getD x9 0))])
          have hgt := (dt_kid_gt hV hcm).1
          generalize (dt_kids d i).getD x9 0 = ch at *
          refine va_castS C.x C.b C.ow (C.w _ q506) (C.K.1 3 _ rfl).2 ((hP.2.1 ch hcn).recv C rfl) dX4_firstLiving_21 ?_
          refine lv_astore_n (lv' := [(3, .ref (ly_pa L ch)), (2, .int (hr_I (x9 : Int))), (0, .ref (ly_pa L i)), (1, va_rf (ex.map (ly_pa L)))]) C.x C.b dX4_firstLiving_24 rfl hl (by decide) rfl (fun ls hl => ?_)
          refine lv_aload_n C.x C.b dX4_firstLiving_25 rfl (lv_at hl 0 rfl) ?_
          refine hr_get in_X4 (ci := 3) 3 q640 rfl rfl (by decide) C (hP.2.1 ch hcn) rfl dX4_firstLiving_26 ?_
          refine hr_ifb_eq C (tgt := 41) dX4_firstLiving_29 (by decide) (fun hal => ?_) (fun hal => ?_)
          · have hnn : ¬ (dt_al d ch = true ∧ some ch ≠ ex) := fun z => by rw [hal] at z; exact nomatch z.1
            refine lv_aload_n C.x C.b dX4_firstLiving_41 rfl (lv_at hl 0 rfl) ?_
            refine hr_aload_no C.x C.b dX4_firstLiving_42 rfl (lv_at hl 3 rfl) ?_
            refine hr_callV (lw_V q507 q488 q489 q93 q490) (by decide +kernel) (n := 1) C (ih ch hcn (by omega)) ((hP.2.1 ch hcn).recv C rfl) ⟨by simp only [rmX4_firstLiving]; omega, by simp only [rmX4_firstLiving]; omega⟩ rfl hl.1 (Nat.le_of_ble_eq_true rfl) ⟨by first | exact Nat.le_of_ble_eq_true rfl | (simp only [rmX4_firstLiving]; omega), by first | exact Nat.le_of_ble_eq_true rfl | (simp only [rmX4_firstLiving]; omega)⟩ hS20 (hr_AN hAN hS20) dX4_firstLiving_43 (rest := []) rfl
              (fun _ _ _ _ _ h => h.elim) (fun v30 H25 locs26 hp29 hF27 hS28 => ?_)
            obtain ⟨hv31, hH32⟩ := hp29; subst hv31; subst hH32
            refine W.eq (g2 := F0 m 46 ls [va_rf ((dt_fl d ex ch).map (ly_pa L))]) rfl ?_
            refine hr_astoreo (lv' := [(4, va_rf ((dt_fl d ex ch).map (ly_pa L))), (3, .ref (ly_pa L ch)), (2, .int (hr_I (x9 : Int))), (0, .ref (ly_pa L i)), (1, va_rf (ex.map (ly_pa L)))]) C.x C.b dX4_firstLiving_46 hl (by decide) rfl (fun ls hl => ?_)
            refine hr_aloado C.x C.b dX4_firstLiving_48 (lv_at hl 0 rfl) ?_
            refine hr_nullo C (tgt := 56) dX4_firstLiving_50 (by decide) (fun hc8 => ?_) (fun y0 hc8 => ?_)
            · refine lv_iinc (v := (hr_I ((x9 : Int) + 1))) (lv' := [(2, .int (hr_I ((x9 : Int) + 1))), (4, va_rf ((dt_fl d ex ch).map (ly_pa L))), (3, .ref (ly_pa L ch)), (0, .ref (ly_pa L i)), (1, va_rf (ex.map (ly_pa L)))]) C.x C.b dX4_firstLiving_56 hl (k := 2) rfl (hr_add _ _) (by decide) (by cases ex <;> rfl) (fun ls hl => ?_)
              refine lv_goto (tgt := 2) C.x C.b dX4_firstLiving_59 (by decide) ?_
              have hn0 : dt_fl d ex ch = none := by simpa using hc8
              exact ihr (x9 + 1) ls _ hS28 (by omega) (by omega) (by rw [← he, hst, if_neg hnn, hn0]; rfl) (lv_sub hl [0, 3, 4] rfl)
            · refine hr_aloado C.x C.b dX4_firstLiving_53 (lv_at hl 0 rfl) ?_
              obtain ⟨y, hy, hyx⟩ := Option.map_eq_some_iff.mp hc8
              exact hr_aret (Or.inl ⟨_, rfl⟩) (hr_rv _) C hQ (⟨by rw [← he, hst, if_neg hnn, hy]; rfl, rfl⟩) hS28 (by first | exact Nat.le_of_ble_eq_true rfl | (simp only [rmX4_firstLiving]; omega)) (by first | exact Nat.le_of_ble_eq_true rfl | (simp only [rmX4_firstLiving]; omega)) dX4_firstLiving_55
          · refine lv_aload_n C.x C.b dX4_firstLiving_32 rfl (lv_at hl 0 rfl) ?_
            refine hr_aload_no C.x C.b dX4_firstLiving_33 rfl (lv_at hl 3 rfl) ?_
            refine hr_acmp_eq (x := some (ly_pa L ch)) (y := ex.map (ly_pa L)) C (tgt := 41) dX4_firstLiving_34 (by decide) (fun hc7 => ?_) (fun hc7 => ?_)
            · have hnn : ¬ (dt_al d ch = true ∧ some ch ≠ ex) := fun z => z.2 (by
                obtain ⟨y, hy, hyx⟩ := Option.map_eq_some_iff.mp hc7.symm
                rw [hy, hP.inj hV.1 (hex y hy) hcn hyx])
              refine lv_aload_n C.x C.b dX4_firstLiving_41 rfl (lv_at hl 0 rfl) ?_
              refine hr_aload_no C.x C.b dX4_firstLiving_42 rfl (lv_at hl 3 rfl) ?_
              refine hr_callV (lw_V q507 q488 q489 q93 q490) (by decide +kernel) (n := 1) C (ih ch hcn (by omega)) ((hP.2.1 ch hcn).recv C rfl) ⟨by simp only [rmX4_firstLiving]; omega, by simp only [rmX4_firstLiving]; omega⟩ rfl hl.1 (Nat.le_of_ble_eq_true rfl) ⟨by first | exact Nat.le_of_ble_eq_true rfl | (simp only [rmX4_firstLiving]; omega), by first | exact Nat.le_of_ble_eq_true rfl | (simp only [rmX4_firstLiving]; omega)⟩ hS20 (hr_AN hAN hS20) dX4_firstLiving_43 (rest := []) rfl
                (fun _ _ _ _ _ h => h.elim) (fun v38 H33 locs34 hp37 hF35 hS36 => ?_)
              obtain ⟨hv39, hH40⟩ := hp37; subst hv39; subst hH40
              refine W.eq (g2 := F0 m 46 ls [va_rf ((dt_fl d ex ch).map (ly_pa L))]) rfl ?_
              refine hr_astoreo (lv' := [(4, va_rf ((dt_fl d ex ch).map (ly_pa L))), (3, .ref (ly_pa L ch)), (2, .int (hr_I (x9 : Int))), (0, .ref (ly_pa L i)), (1, va_rf (ex.map (ly_pa L)))]) C.x C.b dX4_firstLiving_46 hl (by decide) rfl (fun ls hl => ?_)
              refine hr_aloado C.x C.b dX4_firstLiving_48 (lv_at hl 0 rfl) ?_
              refine hr_nullo C (tgt := 56) dX4_firstLiving_50 (by decide) (fun hc8 => ?_) (fun y0 hc8 => ?_)
              · refine lv_iinc (v := (hr_I ((x9 : Int) + 1))) (lv' := [(2, .int (hr_I ((x9 : Int) + 1))), (4, va_rf ((dt_fl d ex ch).map (ly_pa L))), (3, .ref (ly_pa L ch)), (0, .ref (ly_pa L i)), (1, va_rf (ex.map (ly_pa L)))]) C.x C.b dX4_firstLiving_56 hl (k := 2) rfl (hr_add _ _) (by decide) (by cases ex <;> rfl) (fun ls hl => ?_)
                refine lv_goto (tgt := 2) C.x C.b dX4_firstLiving_59 (by decide) ?_
                have hn0 : dt_fl d ex ch = none := by simpa using hc8
                exact ihr (x9 + 1) ls _ hS36 (by omega) (by omega) (by rw [← he, hst, if_neg hnn, hn0]; rfl) (lv_sub hl [0, 3, 4] rfl)
              · refine hr_aloado C.x C.b dX4_firstLiving_53 (lv_at hl 0 rfl) ?_
                obtain ⟨y, hy, hyx⟩ := Option.map_eq_some_iff.mp hc8
                exact hr_aret (Or.inl ⟨_, rfl⟩) (hr_rv _) C hQ (⟨by rw [← he, hst, if_neg hnn, hy]; rfl, rfl⟩) hS36 (by first | exact Nat.le_of_ble_eq_true rfl | (simp only [rmX4_firstLiving]; omega)) (by first | exact Nat.le_of_ble_eq_true rfl | (simp only [rmX4_firstLiving]; omega)) dX4_firstLiving_55
            · have hne : some ch ≠ ex := fun z => hc7 (by rw [← z]; rfl)
              refine lv_aload_n C.x C.b dX4_firstLiving_37 rfl (lv_at hl 0 rfl) ?_
              refine lv_goto (tgt := 46) C.x C.b dX4_firstLiving_38 (by decide) ?_
              refine lv_astore (lv' := [(4, .ref (ly_pa L ch)), (3, .ref (ly_pa L ch)), (2, .int (hr_I (x9 : Int))), (0, .ref (ly_pa L i)), (1, va_rf (ex.map (ly_pa L)))]) C.x C.b dX4_firstLiving_46 hl (by decide) rfl (fun ls hl => ?_)
              refine lv_aload C.x C.b dX4_firstLiving_48 (lv_at hl 0 rfl) ?_
              refine lv_ifnull C.x C.b dX4_firstLiving_50 ?_
              refine lv_aload C.x C.b dX4_firstLiving_53 (lv_at hl 0 rfl) ?_
              exact hr_aret (Or.inl ⟨_, rfl⟩) (Or.inr ⟨_, rfl⟩) C hQ (⟨by rw [← he, hst, if_pos ⟨hal, hne⟩]; rfl, rfl⟩) hS20 (by first | exact Nat.le_of_ble_eq_true rfl | (simp only [rmX4_firstLiving]; omega)) (by first | exact Nat.le_of_ble_eq_true rfl | (simp only [rmX4_firstLiving]; omega)) dX4_firstLiving_55
    exact lp _ 0 ls _ hS (Nat.le_add_left _ _) (Nat.zero_le _) (dt_fl_eq hV ex i).symm (lv_sub hl [0, 1, 2] rfl)
abbrev rmFL : Room := rmX4_firstLiving 16
theorem mtX4_firstLiving {l : Launch} {D : va_G} {s0 : State} (Z : hr_Z l D s0) {H : Heap} {L : ly_T} {d : dt_T} (hP : hr_pp D H L d) (hV : dt_VP d) {ex : Option Nat} (hex : ∀ x, ex = some x → x < dt_n d) {i : Nat} (hi : i < dt_n d) : hr_M l s0 yX4_firstLiving (ws_ yX4_firstLiving cX4_firstLiving 5 (Option.some (Jvm.ClassFile.FieldType.object "HabitRegistry$Person"))) rmFL [.ref (ly_pa L i), va_rf (ex.map (ly_pa L))] H (hr_N H) (fun v H1 => v = some (va_rf ((dt_fl d ex i).map (ly_pa L))) ∧ H = H1) hr_no := mtX4_firstLiving_k Z hP hV hex 16 i hi (by have := hV.1; omega)
abbrev rmX4_init : Room := { frames := 4, cells := 1, slots := 3, locals := 80 }
set_option maxHeartbeats 4000000 in
set_option maxRecDepth 100000 in
theorem mtX4_init {l : Launch} {D : va_G} {s0 : State} (Z : hr_Z l D s0) {H : Heap} {a : Nat} {i : Int} {x0 x1 x2 x3 : Value} {par : Option Nat} (ha : s0.heap.size ≤ a) (hO : hr_O D H a 3 [x0, x1, x2, x3]) (f : Nat → Nat) : hr_M l s0 yX4_init (ws_ yX4_init cX4_init 3 (Option.none : Option Jvm.ClassFile.FieldType)) rmX4_init [.ref a, .int (hr_I i), va_rf par] H (fun q => q = a ∨ H.size ≤ q) (fun v H1 => v = none ∧ hr_O D H1 a 3 [.int (hr_I i), va_rf par, .ref H.size, .int (hr_I 1)] ∧ hr_L D H1 (H.size, hr_k D 0, 0, hr_I 0) 0 f) hr_no := by
  refine hr_of Z (by decide) (by cases par <;> exact Nat.le_of_ble_eq_true rfl) (fun q h => h.elim (fun e => Or.inl (by rw [e]; exact ha)) Or.inr) ?_
  intro p e s m args below meth c Q ls C hQ hin hnx hS hl
  have hAN : ∀ q, H.size ≤ q → (fun q => q = a ∨ H.size ≤ q) q := (fun _ h => Or.inr h)
  have hl : lv_has ls 3 [(0, .ref a), (1, .int (hr_I i)), (2, va_rf par)] := by cases par <;> exact hl
  refine lv_aload_n C.x C.b dX4_init_0 rfl (lv_at hl 0 rfl) ?_
  refine hr_obj q628 C hl.1 (Nat.le_of_ble_eq_true rfl) (Nat.le_of_ble_eq_true rfl) dX4_init_1 ?_
  refine lv_aload_n C.x C.b dX4_init_4 rfl (lv_at hl 0 rfl) ?_
  refine hr_new in_J2 tyJ2 tyJ2_ok q629 q131 q80 (ci := 10) rfl [.int (hr_I 0), .null, .int (hr_I 0)] dfJ2 C (by first | exact Nat.le_of_ble_eq_true rfl | (simp only [rmX4_init]; omega)) (by first | exact Nat.le_of_ble_eq_true rfl | (simp only [rmX4_init]; omega)) hS dX4_init_5 (fun q H1 hq2 hO3 hX4 hz5 hS6 => ?_)
  have hq9 := hq2; subst hq9
  refine lv_dup C.x C.b dX4_init_8 rfl ?_
  refine hr_callI (lw_meth q134) q80 q630 q133 rfl (by decide +kernel) (n := 0) C (mtJ2_init Z (C.up hS).1 hO3 f) ⟨Nat.le_of_ble_eq_true rfl, Nat.le_of_ble_eq_true rfl⟩ rfl hl.1 (Nat.le_of_ble_eq_true rfl) ⟨by first | exact Nat.le_of_ble_eq_true rfl | (simp only [rmX4_init]; omega), by first | exact Nat.le_of_ble_eq_true rfl | (simp only [rmX4_init]; omega)⟩ hS6 (fun q h => h.elim (fun e => by rw [e]; exact Or.inr (Nat.le_refl _)) (fun h => Or.inr (Nat.le_trans (hX4).1 h))) dX4_init_9 (rest := [.ref H.size, .ref a]) rfl
    (fun _ _ _ _ _ h => h.elim) (fun v12 H7 locs8 hp11 hF9 hS10 => ?_)
  obtain ⟨rfl, hL9⟩ := hp11
  refine W.eq (g2 := F0 m 12 ls [.ref H.size, .ref a]) rfl ?_
  have hO9 : hr_O D H7 a 3 [x0, x1, x2, x3] := (hO.x hX4).f hF9 (fun z => by have := hO.lt; have := hX4.1; rcases z with z | z <;> omega)
  refine hr_putF in_X4 tyX4 tyX4_ok nmX4 (ci := 3) 2 rfl q637 rfl rfl rfl (by decide) C hin hO9 (Nat.le_of_ble_eq_true rfl) rfl rfl hS10 (Or.inl rfl) dX4_init_12 (fun H13 locs15 hO16 hz17 ho18 hS14 => ?_)
  refine lv_aload_n C.x C.b dX4_init_15 rfl (lv_at hl 0 rfl) ?_
  refine lv_iconst (v := hr_I 1) C.x C.b dX4_init_16 (by decide) ?_
  refine hr_put in_X4 tyX4 tyX4_ok nmX4 (ci := 3) 3 rfl q640 (Or.inl rfl) rfl (by decide) C hO16 (Nat.le_of_ble_eq_true rfl) rfl rfl hS14 (Or.inl rfl) dX4_init_17 (fun H19 locs21 hO22 hz23 ho24 hS20 => ?_)
  refine lv_aload_n C.x C.b dX4_init_20 rfl (lv_at hl 0 rfl) ?_
  refine lv_iload_n C.x C.b dX4_init_21 rfl (lv_at hl 1 rfl) ?_
  refine hr_putF in_X4 tyX4 tyX4_ok nmX4 (ci := 3) 0 rfl q631 rfl rfl rfl (by decide) C hin hO22 (Nat.le_of_ble_eq_true rfl) rfl rfl hS20 (Or.inl rfl) dX4_init_22 (fun H25 locs27 hO28 hz29 ho30 hS26 => ?_)
  refine lv_aload_n C.x C.b dX4_init_25 rfl (lv_at hl 0 rfl) ?_
  refine hr_aload_no C.x C.b dX4_init_26 rfl (lv_at hl 2 rfl) ?_
  refine hr_putF in_X4 tyX4 tyX4_ok nmX4 (ci := 3) 1 rfl q634 rfl rfl rfl (by decide) C hin hO28 (Nat.le_of_ble_eq_true rfl) (hr_nr _ _) (hr_fr _ _) hS26 (Or.inl rfl) dX4_init_27 (fun H31 locs33 hO34 hz35 ho36 hS32 => ?_)
  have ne1 : H.size ≠ a := by have := hO.lt; omega
  have ne2 : hr_k D 0 ≠ a := by have := (C.z.2.1 : hr_A s0.heap (hr_k D 0) (D.1 105) 0 (hr_vq fun _ => none)).lt; omega
  have hL8 := hL9.kept ((ho36 _ ne1).trans ((ho30 _ ne1).trans ((ho24 _ ne1).trans (ho18 _ ne1)))) ((ho36 _ ne2).trans ((ho30 _ ne2).trans ((ho24 _ ne2).trans (ho18 _ ne2))))
  exact hr_vret C hQ (⟨rfl, hO34, hL8⟩) hS32 (by first | exact Nat.le_of_ble_eq_true rfl | (simp only [rmX4_init]; omega)) (by first | exact Nat.le_of_ble_eq_true rfl | (simp only [rmX4_init]; omega)) dX4_init_30

abbrev rmX5_init : Room := { frames := 1, cells := 0, slots := 0, locals := 20 }
set_option maxHeartbeats 4000000 in
set_option maxRecDepth 100000 in
theorem mtX5_init {l : Launch} {D : va_G} {s0 : State} (Z : hr_Z l D s0) {H : Heap} {a : Nat} {i kc st : Int} (hkc : 0 ≤ kc ∧ kc < 65536) {x0 x1 x2 x3 x4 x5 : Value} (ha : s0.heap.size ≤ a) (hO : hr_O D H a 4 [x0, x1, x2, x3, x4, x5]) : hr_M l s0 yX5_init (ws_ yX5_init cX5_init 4 (Option.none : Option Jvm.ClassFile.FieldType)) rmX5_init [.ref a, .int (hr_I i), .int (hr_I kc), .int (hr_I st)] H (fun q => q = a ∨ H.size ≤ q) (fun v H1 => v = none ∧ hr_O D H1 a 4 [.int (hr_I i), .int (hr_I kc), .int (hr_I st), x3, x4, x5]) hr_no := by
  refine hr_of Z (by decide) (Nat.le_of_ble_eq_true rfl) (fun q h => h.elim (fun e => Or.inl (by rw [e]; exact ha)) Or.inr) ?_
  intro p e s m args below meth c Q ls C hQ hin hnx hS hl
  have hAN : ∀ q, H.size ≤ q → (fun q => q = a ∨ H.size ≤ q) q := (fun _ h => Or.inr h)
  have hl : lv_has ls 4 [(0, .ref a), (1, .int (hr_I i)), (2, .int (hr_I kc)), (3, .int (hr_I st))] := hl
  refine lv_aload_n C.x C.b dX5_init_0 rfl (lv_at hl 0 rfl) ?_
  refine hr_obj q725 C hl.1 (Nat.le_of_ble_eq_true rfl) (Nat.le_of_ble_eq_true rfl) dX5_init_1 ?_
  refine lv_aload_n C.x C.b dX5_init_4 rfl (lv_at hl 0 rfl) ?_
  refine lv_iload_n C.x C.b dX5_init_5 rfl (lv_at hl 1 rfl) ?_
  refine hr_putF in_X5 tyX5 tyX5_ok nmX5 (ci := 4) 0 rfl q726 rfl rfl rfl (by decide) C hin hO (Nat.le_of_ble_eq_true rfl) rfl rfl hS (Or.inl rfl) dX5_init_6 (fun H1 locs3 hO4 hz5 ho6 hS2 => ?_)
  refine lv_aload_n C.x C.b dX5_init_9 rfl (lv_at hl 0 rfl) ?_
  refine lv_iload_n C.x C.b dX5_init_10 rfl (lv_at hl 2 rfl) ?_
  refine hr_putF in_X5 tyX5 tyX5_ok nmX5 (ci := 4) 1 rfl q729 rfl rfl rfl (by decide) C hin hO4 (Nat.le_of_ble_eq_true rfl) (hr_nc hkc).1 (hr_nc hkc).2 hS2 (Or.inl rfl) dX5_init_11 (fun H7 locs9 hO10 hz11 ho12 hS8 => ?_)
  refine lv_aload_n C.x C.b dX5_init_14 rfl (lv_at hl 0 rfl) ?_
  refine lv_iload_n C.x C.b dX5_init_15 rfl (lv_at hl 3 rfl) ?_
  refine hr_put in_X5 tyX5 tyX5_ok nmX5 (ci := 4) 2 rfl q732 (Or.inl rfl) rfl (by decide) C hO10 (Nat.le_of_ble_eq_true rfl) rfl rfl hS8 (Or.inl rfl) dX5_init_16 (fun H13 locs15 hO16 hz17 ho18 hS14 => ?_)
  exact hr_vret C hQ (⟨rfl, hO16⟩) hS14 (by first | exact Nat.le_of_ble_eq_true rfl | (simp only [rmX5_init]; omega)) (by first | exact Nat.le_of_ble_eq_true rfl | (simp only [rmX5_init]; omega)) dX5_init_19

abbrev rmX5_end : Room := { frames := 0, cells := 0, slots := 0, locals := 12 }
set_option maxHeartbeats 4000000 in
set_option maxRecDepth 100000 in
theorem mtX5_end {l : Launch} {D : va_G} {s0 : State} (Z : hr_Z l D s0) {H : Heap} {a : Nat} {x0 x1 x2 x3 x4 x5 : Value} (ha : s0.heap.size ≤ a) (hO : hr_O D H a 4 [x0, x1, x2, x3, x4, x5]) : hr_M l s0 yX5_end (ws_ yX5_end cX5_end 1 (Option.none : Option Jvm.ClassFile.FieldType)) rmX5_end [.ref a] H (fun q => q = a ∨ H.size ≤ q) (fun v H1 => v = none ∧ hr_O D H1 a 4 [x0, x1, .int (hr_I 0), .int (hr_I 0), .int (hr_I 0), .null]) hr_no := by
  refine hr_of Z (by decide) (Nat.le_of_ble_eq_true rfl) (fun q h => h.elim (fun e => Or.inl (by rw [e]; exact ha)) Or.inr) ?_
  intro p e s m args below meth c Q ls C hQ hin hnx hS hl
  have hAN : ∀ q, H.size ≤ q → (fun q => q = a ∨ H.size ≤ q) q := (fun _ h => Or.inr h)
  have hl : lv_has ls 1 [(0, .ref a)] := hl
  refine lv_aload_n C.x C.b dX5_end_0 rfl (lv_at hl 0 rfl) ?_
  refine lv_null C.x C.b dX5_end_1 ?_
  refine hr_put in_X5 tyX5 tyX5_ok nmX5 (ci := 4) 5 rfl q741 (Or.inl rfl) rfl (by decide) C hO (Nat.le_of_ble_eq_true rfl) rfl rfl hS (Or.inl rfl) dX5_end_2 (fun H1 locs3 hO4 hz5 ho6 hS2 => ?_)
  refine lv_aload_n C.x C.b dX5_end_5 rfl (lv_at hl 0 rfl) ?_
  refine lv_iconst (v := hr_I 0) C.x C.b dX5_end_6 (by decide) ?_
  refine hr_put in_X5 tyX5 tyX5_ok nmX5 (ci := 4) 2 rfl q732 (Or.inl rfl) rfl (by decide) C hO4 (Nat.le_of_ble_eq_true rfl) rfl rfl hS2 (Or.inl rfl) dX5_end_7 (fun H7 locs9 hO10 hz11 ho12 hS8 => ?_)
  refine lv_aload_n C.x C.b dX5_end_10 rfl (lv_at hl 0 rfl) ?_
  refine lv_iconst (v := hr_I 0) C.x C.b dX5_end_11 (by decide) ?_
  refine hr_put in_X5 tyX5 tyX5_ok nmX5 (ci := 4) 3 rfl q736 (Or.inl rfl) rfl (by decide) C hO10 (Nat.le_of_ble_eq_true rfl) rfl rfl hS8 (Or.inl rfl) dX5_end_12 (fun H13 locs15 hO16 hz17 ho18 hS14 => ?_)
  refine lv_aload_n C.x C.b dX5_end_15 rfl (lv_at hl 0 rfl) ?_
  refine lv_iconst (v := hr_I 0) C.x C.b dX5_end_16 (by decide) ?_
  refine hr_put in_X5 tyX5 tyX5_ok nmX5 (ci := 4) 4 rfl q739 (Or.inl rfl) rfl (by decide) C hO16 (Nat.le_of_ble_eq_true rfl) rfl rfl hS14 (Or.inl rfl) dX5_end_17 (fun H19 locs21 hO22 hz23 ho24 hS20 => ?_)
  exact hr_vret C hQ (⟨rfl, hO22⟩) hS20 (by first | exact Nat.le_of_ble_eq_true rfl | (simp only [rmX5_end]; omega)) (by first | exact Nat.le_of_ble_eq_true rfl | (simp only [rmX5_end]; omega)) dX5_end_20

abbrev rmX5_isExtinct : Room := { frames := 0, cells := 0, slots := 0, locals := 12 }
set_option maxHeartbeats 4000000 in
set_option maxRecDepth 100000 in
theorem mtX5_isExtinct {l : Launch} {D : va_G} {s0 : State} (Z : hr_Z l D s0) {H : Heap} {L : ly_T} {d : dt_T} (hH : hr_hh D H L d) {h : Nat} (hh : h < dt_k d) : hr_M l s0 yX5_isExtinct (ws_ yX5_isExtinct cX5_isExtinct 1 (Option.some Jvm.ClassFile.FieldType.boolean)) rmX5_isExtinct [.ref (ly_ha L h)] H (hr_N H) (fun v H1 => v = some (.int (hr_I (hr_t (dt_ho d h).isNone))) ∧ H = H1) hr_no := by
  refine hr_of Z (by decide) (Nat.le_of_ble_eq_true rfl) (fun _ h => Or.inr h) ?_
  intro p e s m args below meth c Q ls C hQ hin hnx hS hl
  have hAN : ∀ q, H.size ≤ q → (hr_N H) q := (fun _ h => h)
  have hl : lv_has ls 1 [(0, .ref (ly_ha L h))] := hl
  refine lv_aload_n C.x C.b dX5_isExtinct_0 rfl (lv_at hl 0 rfl) ?_
  refine hr_get in_X5 (ci := 4) 5 q741 rfl rfl (by decide) C (hH.2 h hh) rfl dX5_isExtinct_1 ?_
  refine hr_nonnullo C (tgt := 11) dX5_isExtinct_4 (by decide) (fun y0 hc => ?_) (fun hc => ?_)
  · refine lv_iconst (v := hr_I 0) C.x C.b dX5_isExtinct_11 (by decide) ?_
    obtain ⟨y9, hy9, -⟩ := Option.map_eq_some_iff.mp hc
    exact hr_zret C hQ rfl (⟨by rw [hy9]; rfl, rfl⟩) hS (by first | exact Nat.le_of_ble_eq_true rfl | (simp only [rmX5_isExtinct]; omega)) (by first | exact Nat.le_of_ble_eq_true rfl | (simp only [rmX5_isExtinct]; omega)) dX5_isExtinct_12
  · refine lv_iconst (v := hr_I 1) C.x C.b dX5_isExtinct_7 (by decide) ?_
    refine lv_goto (tgt := 12) C.x C.b dX5_isExtinct_8 (by decide) ?_
    have hc' : dt_ho d h = none := by simpa using hc
    exact hr_zret C hQ rfl (⟨by rw [hc']; rfl, rfl⟩) hS (by first | exact Nat.le_of_ble_eq_true rfl | (simp only [rmX5_isExtinct]; omega)) (by first | exact Nat.le_of_ble_eq_true rfl | (simp only [rmX5_isExtinct]; omega)) dX5_isExtinct_12

abbrev rmX5_isBefore : Room := { frames := 0, cells := 0, slots := 0, locals := 12 }
set_option maxHeartbeats 4000000 in
set_option maxRecDepth 100000 in
theorem mtX5_isBefore {l : Launch} {D : va_G} {s0 : State} (Z : hr_Z l D s0) {H : Heap} {L : ly_T} {d : dt_T} (hH : hr_hh D H L d) (hV : dt_V d) {h : Nat} (hh : h < dt_k d) {g : Nat} (hg : g < dt_k d) : hr_M l s0 yX5_isBefore (ws_ yX5_isBefore cX5_isBefore 2 (Option.some Jvm.ClassFile.FieldType.boolean)) rmX5_isBefore [.ref (ly_ha L h), .ref (ly_ha L g)] H (hr_N H) (fun v H1 => v = some (.int (hr_I (hr_t (dt_hb d h g)))) ∧ H = H1) hr_no := by
  refine hr_of Z (by decide) (Nat.le_of_ble_eq_true rfl) (fun _ h => Or.inr h) ?_
  intro p e s m args below meth c Q ls C hQ hin hnx hS hl
  have hAN : ∀ q, H.size ≤ q → (hr_N H) q := (fun _ h => h)
  have hl : lv_has ls 2 [(0, .ref (ly_ha L h)), (1, .ref (ly_ha L g))] := hl
  have hk20 := hV.2.1
  have s1 := dt_st9 hV h hh
  have s2 := dt_st9 hV g hg
  refine lv_aload_n C.x C.b dX5_isBefore_0 rfl (lv_at hl 0 rfl) ?_
  refine hr_get in_X5 (ci := 4) 2 q732 rfl rfl (by decide) C (hH.2 h hh) rfl dX5_isBefore_1 ?_
  refine lv_aload_n C.x C.b dX5_isBefore_4 rfl (lv_at hl 1 rfl) ?_
  refine hr_get in_X5 (ci := 4) 2 q732 rfl rfl (by decide) C (hH.2 g hg) rfl dX5_isBefore_5 ?_
  refine hr_icmp_gt C (tgt := 33) dX5_isBefore_8 (by decide) (by omega) (by omega) (fun hc => ?_) (fun hc => ?_)
  · refine lv_iconst (v := hr_I 1) C.x C.b dX5_isBefore_33 (by decide) ?_
    refine lv_goto (tgt := 38) C.x C.b dX5_isBefore_34 (by decide) ?_
    exact hr_zret C hQ rfl (⟨by rw [show dt_hb d h g = true from decide_eq_true (by omega)]; rfl, rfl⟩) hS (by first | exact Nat.le_of_ble_eq_true rfl | (simp only [rmX5_isBefore]; omega)) (by first | exact Nat.le_of_ble_eq_true rfl | (simp only [rmX5_isBefore]; omega)) dX5_isBefore_38
  · refine lv_aload_n C.x C.b dX5_isBefore_11 rfl (lv_at hl 0 rfl) ?_
    refine hr_get in_X5 (ci := 4) 2 q732 rfl rfl (by decide) C (hH.2 h hh) rfl dX5_isBefore_12 ?_
    refine lv_aload_n C.x C.b dX5_isBefore_15 rfl (lv_at hl 1 rfl) ?_
    refine hr_get in_X5 (ci := 4) 2 q732 rfl rfl (by decide) C (hH.2 g hg) rfl dX5_isBefore_16 ?_
    refine hr_icmp_ne C (tgt := 37) dX5_isBefore_19 (by decide) (by omega) (by omega) (fun hc2 => ?_) (fun hc2 => ?_)
    · refine lv_iconst (v := hr_I 0) C.x C.b dX5_isBefore_37 (by decide) ?_
      exact hr_zret C hQ rfl (⟨by rw [show dt_hb d h g = false from decide_eq_false (by omega)]; rfl, rfl⟩) hS (by first | exact Nat.le_of_ble_eq_true rfl | (simp only [rmX5_isBefore]; omega)) (by first | exact Nat.le_of_ble_eq_true rfl | (simp only [rmX5_isBefore]; omega)) dX5_isBefore_38
    · refine lv_aload_n C.x C.b dX5_isBefore_22 rfl (lv_at hl 0 rfl) ?_
      refine hr_get in_X5 (ci := 4) 0 q726 rfl rfl (by decide) C (hH.2 h hh) rfl dX5_isBefore_23 ?_
      refine lv_aload_n C.x C.b dX5_isBefore_26 rfl (lv_at hl 1 rfl) ?_
      refine hr_get in_X5 (ci := 4) 0 q726 rfl rfl (by decide) C (hH.2 g hg) rfl dX5_isBefore_27 ?_
      refine hr_icmp_ge C (tgt := 37) dX5_isBefore_30 (by decide) (by omega) (by omega) (fun hc3 => ?_) (fun hc3 => ?_)
      · refine lv_iconst (v := hr_I 0) C.x C.b dX5_isBefore_37 (by decide) ?_
        exact hr_zret C hQ rfl (⟨by rw [show dt_hb d h g = false from decide_eq_false (by omega)]; rfl, rfl⟩) hS (by first | exact Nat.le_of_ble_eq_true rfl | (simp only [rmX5_isBefore]; omega)) (by first | exact Nat.le_of_ble_eq_true rfl | (simp only [rmX5_isBefore]; omega)) dX5_isBefore_38
      · refine lv_iconst (v := hr_I 1) C.x C.b dX5_isBefore_33 (by decide) ?_
        refine lv_goto (tgt := 38) C.x C.b dX5_isBefore_34 (by decide) ?_
        exact hr_zret C hQ rfl (⟨by rw [show dt_hb d h g = true from decide_eq_true (by omega)]; rfl, rfl⟩) hS (by first | exact Nat.le_of_ble_eq_true rfl | (simp only [rmX5_isBefore]; omega)) (by first | exact Nat.le_of_ble_eq_true rfl | (simp only [rmX5_isBefore]; omega)) dX5_isBefore_38
