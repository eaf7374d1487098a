/-! LAMBDAS: the call of each by its interface -/
set_option maxRecDepth 100000
section LC
variable {l : Launch} {D : va_G} {s0 : State} {ret : Option FieldType} {nL : Nat}
variable {p : Program} {e : Env} {R : Room} {s : State} {m : MethodId} {args : Array Value} {below : List Frame} {meth : Method} {c : Code} {H : Heap} {locs : List Loc} {cells slots : Nat} {Q : State → Prop}
variable {cc : ByteArray} {pc : Nat} {ls : Array Slot} {rest : List Value} {A : Nat → Prop} {H0 : Heap} {rm : Room} {A1 : Nat → Prop} {P : Option Value → Heap → Prop}
theorem lm_named {y : MethodName} {b : ByteArray} {L : Nat} {r : Option FieldType} {a : Array Value} {U : State} (h : (Cond.code y b L r).before a U = true) : ∃ m, U.methodNamed? y = some m := by
  cases hn : U.methodNamed? y with
  | none => simp [Cond.before, Cond.holds, Cond.value, hn] at h
  | some m => exact ⟨m, rfl⟩

theorem lgd0_0 : decode lgc0 0 = .ok ((.aload_n 1), 1) := by decide +kernel
theorem lgd0_1 : decode lgc0 1 = .ok ((.invokestatic 17), 3) := by decide +kernel
theorem lgd0_4 : decode lgc0 4 = .ok (.ireturn, 1) := by decide +kernel
set_option maxHeartbeats 2000000 in
/-- lambda$new$0 -/
theorem lc_0 {t a0 cnt : Nat} (C : hr_C l D s0 H0 A p s m args meth c cc nL "HabitRegistry$Data" ret) (hLa : hr_La D H t 0 []) (hM : hr_M l s0 yX2_lambda_new_0 (ws_ yX2_lambda_new_0 cX2_lambda_new_0 1 (Option.some Jvm.ClassFile.FieldType.boolean)) rm [.ref a0] H A1 P hr_no) (hA1 : ∀ q, A1 q → hr_N H q)
    (hP : ∀ (v : Option Value) (H1 : Heap), P v H1 → ∃ z : Int32, v = some (.int z) ∧ narrow .boolean (.int z) = .int z) (hls : ls.size = nL) (hW : (rest.map fun v => v.category).sum ≤ 8) (hR : rm.frames + 2 ≤ R.frames ∧ 41 + rm.locals ≤ R.locals) (hc : cells + rm.cells ≤ R.cells ∧ slots + rm.slots ≤ R.slots) (hS : va_S A H0 H locs) (hA : ∀ q, hr_N H q → A q) (d : decode cc pc = .ok (.invokeinterface 140 cnt, 5))
    (kk : ∀ (z : Int32) (H1 : Heap) (locs1 : List Loc), P (some (.int z)) H1 → hr_X H H1 → va_S A H0 H1 locs1 → W p l e R s m args below meth c H1 locs1 (cells + rm.cells) (slots + rm.slots) Q (F0 m (pc + 5) ls (.int z :: rest))) :
    W p l e R s m args below meth c H locs cells slots Q (F0 m pc ls (.ref a0 :: .ref t :: rest)) := by
  have hz := C.z.2.2.2.2.2.2 0 _ rfl
  obtain ⟨dcl, dk, hmade, hdk, hdn, hdf, hcan⟩ := lm_site hz C.E.1
  obtain ⟨k, tk, file, methk, ck, tc, tg, hk, hkn, hkf, hkp, hmk, hck, hcb, hcl, hlk, hfl, hrt, htc, htk, hti, hask, hres, hfld, hty, hord⟩ := lm_made lga0 lgb0 lge0 lgg0 lgh0 hdk hdn hmade (lm_obj C.Z C.E.1)
  obtain ⟨cell, g1, g2, g3, g4⟩ := hLa
  refine lm_call (x := ⟨"HabitRegistry$Test", "holds", "(LHabitRegistry$Habit;)Z"⟩) (σ := lg0) (As := [.ref a0]) (P := P) (R' := { frames := rm.frames + 1, cells := rm.cells, slots := rm.slots, locals := 20 + rm.locals }) C q302 q304 q303 ⟨rfl, rfl, by decide⟩ (by decide) (by show _ = some 1; decide +kernel) hmade (hcan s rfl) g1 g2 g3 hk (by rw [hkn]; decide) hmk hck hlk hfl hls hW ⟨hR.1, by have := hR.2; show 8 + (ck.maxLocals + 11) + (20 + rm.locals) ≤ R.locals; rw [hcl]; omega⟩ hc (fun g s' hW' hH' => ?_) hS hA d (fun v H1 locs1 hp hX1 hS1 => ?_)
  · have hwz : s0.WarmedH s'.vm := State.WarmedH.trans C.E.1 hW'
    have hw : ∀ w ∈ lw_all, ∀ (a' : Array Value) (U : State), s'.WarmedH U.vm → w.before a' U = true := fun w h a' U hU => word_at (State.WarmedH.trans hW' hU) (good_of_word (List.mem_filter.mp h).2) (C.w w h)
    obtain ⟨tgt, hnm⟩ := lm_named (hw _ q160 #[] s' (State.WarmedH.refl s'))
    obtain ⟨hr1, hr2, hr3⟩ := lm_ready (y := yX2_lambda_new_0) lga0 lgb0 lge0 lgg0 lgh0 C.Z hz rfl lgm0 lgn0 ⟨rfl, rfl, by decide, rfl, rfl⟩ hwz hnm
    have hent : entryFrame ⟨D.1 (200 + 0), 1⟩ ([.ref t, .ref a0] : List Value).toArray ck.maxLocals = F0 ⟨D.1 (200 + 0), 1⟩ 0 #[.val (.ref t), .val (.ref a0)] [] := by rw [hcl]; rfl
    rw [hent]
    have hSS : va_S (hr_N H) H H [] := ⟨Nat.le_refl _, fun _ _ _ => rfl, fun _ h => nomatch h⟩
    have hXX : hr_X s0.heap H := C.up hS
    refine lv_aload_n C.x hcb lgd0_0 rfl rfl ?_
    refine lm_st (As := [.ref a0]) (rest := []) C.x hcb (lw_meth q160) q77 q159 hw hwz hXX hM hnm (by decide) (by show _ = some 1; decide +kernel) hr1 (hr2 e) (by rw [hcl]; rfl) (Nat.zero_le _) ⟨Nat.le_refl _, Nat.le_refl _⟩ ⟨by show 0 + rm.cells ≤ rm.cells; omega, by show 0 + rm.slots ≤ rm.slots; omega⟩ hA1 hSS lgd0_1 (fun v H1 locs1 hp hS1 => ?_)
    obtain ⟨z, rfl, hnz⟩ := hP _ _ hp
    exact lm_zret C.x hcb hrt hlk hnz hp hS1 (by show 0 + rm.cells ≤ rm.cells; omega) (by show 0 + rm.slots ≤ rm.slots; omega) lgd0_4
  · obtain ⟨z, rfl, hnz⟩ := hP _ _ hp
    exact kk z H1 locs1 hp hX1 hS1
theorem lgd1_0 : decode lgc1 0 = .ok ((.aload_n 1), 1) := by decide +kernel
theorem lgd1_1 : decode lgc1 1 = .ok ((.invokestatic 17), 3) := by decide +kernel
theorem lgd1_4 : decode lgc1 4 = .ok (.ireturn, 1) := by decide +kernel
set_option maxHeartbeats 2000000 in
/-- lambda$new$1 -/
theorem lc_1 {t a0 cnt : Nat} (C : hr_C l D s0 H0 A p s m args meth c cc nL "HabitRegistry$Data" ret) (hLa : hr_La D H t 1 []) (hM : hr_M l s0 yX2_lambda_new_1 (ws_ yX2_lambda_new_1 cX2_lambda_new_1 1 (Option.some Jvm.ClassFile.FieldType.int)) rm [.ref a0] H A1 P hr_no) (hA1 : ∀ q, A1 q → hr_N H q)
    (hP : ∀ (v : Option Value) (H1 : Heap), P v H1 → ∃ z : Int32, v = some (.int z) ∧ narrow .int (.int z) = .int z) (hls : ls.size = nL) (hW : (rest.map fun v => v.category).sum ≤ 8) (hR : rm.frames + 2 ≤ R.frames ∧ 41 + rm.locals ≤ R.locals) (hc : cells + rm.cells ≤ R.cells ∧ slots + rm.slots ≤ R.slots) (hS : va_S A H0 H locs) (hA : ∀ q, hr_N H q → A q) (d : decode cc pc = .ok (.invokeinterface 145 cnt, 5))
    (kk : ∀ (z : Int32) (H1 : Heap) (locs1 : List Loc), P (some (.int z)) H1 → hr_X H H1 → va_S A H0 H1 locs1 → W p l e R s m args below meth c H1 locs1 (cells + rm.cells) (slots + rm.slots) Q (F0 m (pc + 5) ls (.int z :: rest))) :
    W p l e R s m args below meth c H locs cells slots Q (F0 m pc ls (.ref a0 :: .ref t :: rest)) := by
  have hz := C.z.2.2.2.2.2.2 1 _ rfl
  obtain ⟨dcl, dk, hmade, hdk, hdn, hdf, hcan⟩ := lm_site hz C.E.1
  obtain ⟨k, tk, file, methk, ck, tc, tg, hk, hkn, hkf, hkp, hmk, hck, hcb, hcl, hlk, hfl, hrt, htc, htk, hti, hask, hres, hfld, hty, hord⟩ := lm_made lga1 lgb1 lge1 lgg1 lgh1 hdk hdn hmade (lm_obj C.Z C.E.1)
  obtain ⟨cell, g1, g2, g3, g4⟩ := hLa
  refine lm_call (x := ⟨"HabitRegistry$Value", "of", "(LHabitRegistry$Habit;)I"⟩) (σ := lg1) (As := [.ref a0]) (P := P) (R' := { frames := rm.frames + 1, cells := rm.cells, slots := rm.slots, locals := 20 + rm.locals }) C q306 q308 q307 ⟨rfl, rfl, by decide⟩ (by decide) (by show _ = some 1; decide +kernel) hmade (hcan s rfl) g1 g2 g3 hk (by rw [hkn]; decide) hmk hck hlk hfl hls hW ⟨hR.1, by have := hR.2; show 8 + (ck.maxLocals + 11) + (20 + rm.locals) ≤ R.locals; rw [hcl]; omega⟩ hc (fun g s' hW' hH' => ?_) hS hA d (fun v H1 locs1 hp hX1 hS1 => ?_)
  · have hwz : s0.WarmedH s'.vm := State.WarmedH.trans C.E.1 hW'
    have hw : ∀ w ∈ lw_all, ∀ (a' : Array Value) (U : State), s'.WarmedH U.vm → w.before a' U = true := fun w h a' U hU => word_at (State.WarmedH.trans hW' hU) (good_of_word (List.mem_filter.mp h).2) (C.w w h)
    obtain ⟨tgt, hnm⟩ := lm_named (hw _ q166 #[] s' (State.WarmedH.refl s'))
    obtain ⟨hr1, hr2, hr3⟩ := lm_ready (y := yX2_lambda_new_1) lga1 lgb1 lge1 lgg1 lgh1 C.Z hz rfl lgm1 lgn1 ⟨rfl, rfl, by decide, rfl, rfl⟩ hwz hnm
    have hent : entryFrame ⟨D.1 (200 + 1), 1⟩ ([.ref t, .ref a0] : List Value).toArray ck.maxLocals = F0 ⟨D.1 (200 + 1), 1⟩ 0 #[.val (.ref t), .val (.ref a0)] [] := by rw [hcl]; rfl
    rw [hent]
    have hSS : va_S (hr_N H) H H [] := ⟨Nat.le_refl _, fun _ _ _ => rfl, fun _ h => nomatch h⟩
    have hXX : hr_X s0.heap H := C.up hS
    refine lv_aload_n C.x hcb lgd1_0 rfl rfl ?_
    refine lm_st (As := [.ref a0]) (rest := []) C.x hcb (lw_meth q166) q77 q165 hw hwz hXX hM hnm (by decide) (by show _ = some 1; decide +kernel) hr1 (hr2 e) (by rw [hcl]; rfl) (Nat.zero_le _) ⟨Nat.le_refl _, Nat.le_refl _⟩ ⟨by show 0 + rm.cells ≤ rm.cells; omega, by show 0 + rm.slots ≤ rm.slots; omega⟩ hA1 hSS lgd1_1 (fun v H1 locs1 hp hS1 => ?_)
    obtain ⟨z, rfl, hnz⟩ := hP _ _ hp
    exact lm_zret C.x hcb hrt hlk hnz hp hS1 (by show 0 + rm.cells ≤ rm.cells; omega) (by show 0 + rm.slots ≤ rm.slots; omega) lgd1_4
  · obtain ⟨z, rfl, hnz⟩ := hP _ _ hp
    exact kk z H1 locs1 hp hX1 hS1
theorem lgd2_0 : decode lgc2 0 = .ok ((.aload_n 1), 1) := by decide +kernel
theorem lgd2_1 : decode lgc2 1 = .ok ((.invokestatic 17), 3) := by decide +kernel
theorem lgd2_4 : decode lgc2 4 = .ok (.ireturn, 1) := by decide +kernel
set_option maxHeartbeats 2000000 in
/-- lambda$new$2 -/
theorem lc_2 {t a0 cnt : Nat} (C : hr_C l D s0 H0 A p s m args meth c cc nL "HabitRegistry$Data" ret) (hLa : hr_La D H t 2 []) (hM : hr_M l s0 yX2_lambda_new_2 (ws_ yX2_lambda_new_2 cX2_lambda_new_2 1 (Option.some Jvm.ClassFile.FieldType.int)) rm [.ref a0] H A1 P hr_no) (hA1 : ∀ q, A1 q → hr_N H q)
    (hP : ∀ (v : Option Value) (H1 : Heap), P v H1 → ∃ z : Int32, v = some (.int z) ∧ narrow .int (.int z) = .int z) (hls : ls.size = nL) (hW : (rest.map fun v => v.category).sum ≤ 8) (hR : rm.frames + 2 ≤ R.frames ∧ 41 + rm.locals ≤ R.locals) (hc : cells + rm.cells ≤ R.cells ∧ slots + rm.slots ≤ R.slots) (hS : va_S A H0 H locs) (hA : ∀ q, hr_N H q → A q) (d : decode cc pc = .ok (.invokeinterface 145 cnt, 5))
    (kk : ∀ (z : Int32) (H1 : Heap) (locs1 : List Loc), P (some (.int z)) H1 → hr_X H H1 → va_S A H0 H1 locs1 → W p l e R s m args below meth c H1 locs1 (cells + rm.cells) (slots + rm.slots) Q (F0 m (pc + 5) ls (.int z :: rest))) :
    W p l e R s m args below meth c H locs cells slots Q (F0 m pc ls (.ref a0 :: .ref t :: rest)) := by
  have hz := C.z.2.2.2.2.2.2 2 _ rfl
  obtain ⟨dcl, dk, hmade, hdk, hdn, hdf, hcan⟩ := lm_site hz C.E.1
  obtain ⟨k, tk, file, methk, ck, tc, tg, hk, hkn, hkf, hkp, hmk, hck, hcb, hcl, hlk, hfl, hrt, htc, htk, hti, hask, hres, hfld, hty, hord⟩ := lm_made lga2 lgb2 lge2 lgg2 lgh2 hdk hdn hmade (lm_obj C.Z C.E.1)
  obtain ⟨cell, g1, g2, g3, g4⟩ := hLa
  refine lm_call (x := ⟨"HabitRegistry$Value", "of", "(LHabitRegistry$Habit;)I"⟩) (σ := lg2) (As := [.ref a0]) (P := P) (R' := { frames := rm.frames + 1, cells := rm.cells, slots := rm.slots, locals := 20 + rm.locals }) C q306 q308 q307 ⟨rfl, rfl, by decide⟩ (by decide) (by show _ = some 1; decide +kernel) hmade (hcan s rfl) g1 g2 g3 hk (by rw [hkn]; decide) hmk hck hlk hfl hls hW ⟨hR.1, by have := hR.2; show 8 + (ck.maxLocals + 11) + (20 + rm.locals) ≤ R.locals; rw [hcl]; omega⟩ hc (fun g s' hW' hH' => ?_) hS hA d (fun v H1 locs1 hp hX1 hS1 => ?_)
  · have hwz : s0.WarmedH s'.vm := State.WarmedH.trans C.E.1 hW'
    have hw : ∀ w ∈ lw_all, ∀ (a' : Array Value) (U : State), s'.WarmedH U.vm → w.before a' U = true := fun w h a' U hU => word_at (State.WarmedH.trans hW' hU) (good_of_word (List.mem_filter.mp h).2) (C.w w h)
    obtain ⟨tgt, hnm⟩ := lm_named (hw _ q168 #[] s' (State.WarmedH.refl s'))
    obtain ⟨hr1, hr2, hr3⟩ := lm_ready (y := yX2_lambda_new_2) lga2 lgb2 lge2 lgg2 lgh2 C.Z hz rfl lgm2 lgn2 ⟨rfl, rfl, by decide, rfl, rfl⟩ hwz hnm
    have hent : entryFrame ⟨D.1 (200 + 2), 1⟩ ([.ref t, .ref a0] : List Value).toArray ck.maxLocals = F0 ⟨D.1 (200 + 2), 1⟩ 0 #[.val (.ref t), .val (.ref a0)] [] := by rw [hcl]; rfl
    rw [hent]
    have hSS : va_S (hr_N H) H H [] := ⟨Nat.le_refl _, fun _ _ _ => rfl, fun _ h => nomatch h⟩
    have hXX : hr_X s0.heap H := C.up hS
    refine lv_aload_n C.x hcb lgd2_0 rfl rfl ?_
    refine lm_st (As := [.ref a0]) (rest := []) C.x hcb (lw_meth q168) q77 q167 hw hwz hXX hM hnm (by decide) (by show _ = some 1; decide +kernel) hr1 (hr2 e) (by rw [hcl]; rfl) (Nat.zero_le _) ⟨Nat.le_refl _, Nat.le_refl _⟩ ⟨by show 0 + rm.cells ≤ rm.cells; omega, by show 0 + rm.slots ≤ rm.slots; omega⟩ hA1 hSS lgd2_1 (fun v H1 locs1 hp hS1 => ?_)
    obtain ⟨z, rfl, hnz⟩ := hP _ _ hp
    exact lm_zret C.x hcb hrt hlk hnz hp hS1 (by show 0 + rm.cells ≤ rm.cells; omega) (by show 0 + rm.slots ≤ rm.slots; omega) lgd2_4
  · obtain ⟨z, rfl, hnz⟩ := hP _ _ hp
    exact kk z H1 locs1 hp hX1 hS1
theorem lgd3_0 : decode lgc3 0 = .ok ((.aload_n 0), 1) := by decide +kernel
theorem lgd3_1 : decode lgc3 1 = .ok ((.getfield 15), 3) := by decide +kernel
theorem lgd3_4 : decode lgc3 4 = .ok ((.aload_n 1), 1) := by decide +kernel
theorem lgd3_5 : decode lgc3 5 = .ok ((.aload_n 2), 1) := by decide +kernel
theorem lgd3_6 : decode lgc3 6 = .ok ((.invokevirtual 22), 3) := by decide +kernel
theorem lgd3_9 : decode lgc3 9 = .ok (.ireturn, 1) := by decide +kernel
set_option maxHeartbeats 2000000 in
/-- lambda$new$3 -/
theorem lc_3 {t a0 a1 cnt : Nat} {b : Nat} {fs : List Value} (C : hr_C l D s0 H0 A p s m args meth c cc nL "HabitRegistry$Data" ret) (hLa : hr_La D H t 3 [.ref b]) (hB : hr_O D H b 1 fs) (hM : hr_M l s0 yX2_lambda_new_3 (ws_ yX2_lambda_new_3 cX2_lambda_new_3 5 (Option.some Jvm.ClassFile.FieldType.boolean)) rm [.ref b, .ref a0, .ref a1] H A1 P hr_no) (hA1 : ∀ q, A1 q → hr_N H q)
    (hP : ∀ (v : Option Value) (H1 : Heap), P v H1 → ∃ z : Int32, v = some (.int z) ∧ narrow .boolean (.int z) = .int z) (hls : ls.size = nL) (hW : (rest.map fun v => v.category).sum ≤ 8) (hR : rm.frames + 2 ≤ R.frames ∧ 46 + rm.locals ≤ R.locals) (hc : cells + rm.cells ≤ R.cells ∧ slots + rm.slots ≤ R.slots) (hS : va_S A H0 H locs) (hA : ∀ q, hr_N H q → A q) (d : decode cc pc = .ok (.invokeinterface 199 cnt, 5))
    (kk : ∀ (z : Int32) (H1 : Heap) (locs1 : List Loc), P (some (.int z)) H1 → hr_X H H1 → va_S A H0 H1 locs1 → W p l e R s m args below meth c H1 locs1 (cells + rm.cells) (slots + rm.slots) Q (F0 m (pc + 5) ls (.int z :: rest))) :
    W p l e R s m args below meth c H locs cells slots Q (F0 m pc ls (.ref a1 :: .ref a0 :: .ref t :: rest)) := by
  have hz := C.z.2.2.2.2.2.2 3 _ rfl
  obtain ⟨dcl, dk, hmade, hdk, hdn, hdf, hcan⟩ := lm_site hz C.E.1
  obtain ⟨k, tk, file, methk, ck, tc, tg, hk, hkn, hkf, hkp, hmk, hck, hcb, hcl, hlk, hfl, hrt, htc, htk, hti, hask, hres, hfld, hty, hord⟩ := lm_made lga3 lgb3 lge3 lgg3 lgh3 hdk hdn hmade (lm_obj C.Z C.E.1)
  obtain ⟨cell, g1, g2, g3, g4⟩ := hLa
  refine lm_call (x := ⟨"HabitRegistry$Order", "isBefore", "(LHabitRegistry$Person;LHabitRegistry$Person;)Z"⟩) (σ := lg3) (As := [.ref a0, .ref a1]) (P := P) (R' := { frames := rm.frames + 1, cells := rm.cells, slots := rm.slots, locals := 24 + rm.locals }) C q540 q542 q541 ⟨rfl, rfl, by decide⟩ (by decide) (by show _ = some 2; decide +kernel) hmade (hcan s rfl) g1 g2 g3 hk (by rw [hkn]; decide) hmk hck hlk hfl hls hW ⟨hR.1, by have := hR.2; show 8 + (ck.maxLocals + 11) + (24 + rm.locals) ≤ R.locals; rw [hcl]; omega⟩ hc (fun g s' hW' hH' => ?_) hS hA d (fun v H1 locs1 hp hX1 hS1 => ?_)
  · have hwz : s0.WarmedH s'.vm := State.WarmedH.trans C.E.1 hW'
    have hw : ∀ w ∈ lw_all, ∀ (a' : Array Value) (U : State), s'.WarmedH U.vm → w.before a' U = true := fun w h a' U hU => word_at (State.WarmedH.trans hW' hU) (good_of_word (List.mem_filter.mp h).2) (C.w w h)
    obtain ⟨tgt, hnm⟩ := lm_named (hw _ q171 #[] s' (State.WarmedH.refl s'))
    obtain ⟨hr1, hr2, hr3⟩ := lm_ready (y := yX2_lambda_new_3) lga3 lgb3 lge3 lgg3 lgh3 C.Z hz rfl lgm3 lgn3 ⟨rfl, rfl, by decide, rfl, rfl⟩ hwz hnm
    obtain ⟨f0, hf0, hfs0, hfl0⟩ := lm_fready lga3 lgb3 lge3 lgg3 lgh3 C.Z hz rfl lgq3_0 hwz
    have hent : entryFrame ⟨D.1 (200 + 3), 1⟩ ([.ref t, .ref a0, .ref a1] : List Value).toArray ck.maxLocals = F0 ⟨D.1 (200 + 3), 1⟩ 0 #[.val (.ref t), .val (.ref a0), .val (.ref a1)] [] := by rw [hcl]; rfl
    rw [hent]
    have hSS : va_S (hr_N H) H H [] := ⟨Nat.le_refl _, fun _ _ _ => rfl, fun _ h => nomatch h⟩
    have hXX : hr_X s0.heap H := C.up hS
    refine lv_aload_n C.x hcb lgd3_0 rfl rfl ?_
    refine lm_getf C.x hcb hf0 hfs0 g1 g3 (by rw [hfl0]; exact g4 0 _ rfl) lgd3_1 ?_
    refine lv_aload_n C.x hcb lgd3_4 rfl rfl ?_
    refine lv_aload_n C.x hcb lgd3_5 rfl rfl ?_
    obtain ⟨rr, hr9, cellB, b1, b2, b3, b4⟩ := hB
    refine lm_vi (As := [.ref a0, .ref a1]) (rest := []) (b := b) C.x hcb (lw_meth q171) q77 q170 qs0 hw hwz hXX hM b1 b3 (by rw [hW'.alike.findClass, b2]; exact C.fc 1 rfl) hnm (by decide) (by show _ = some 2; decide +kernel) hr1 hr3 (by rw [hcl]; rfl) (Nat.zero_le _) ⟨Nat.le_refl _, Nat.le_refl _⟩ ⟨by show 0 + rm.cells ≤ rm.cells; omega, by show 0 + rm.slots ≤ rm.slots; omega⟩ hA1 hSS lgd3_6 (fun v H1 locs1 hp hS1 => ?_)
    obtain ⟨z, rfl, hnz⟩ := hP _ _ hp
    exact lm_zret C.x hcb hrt hlk hnz hp hS1 (by show 0 + rm.cells ≤ rm.cells; omega) (by show 0 + rm.slots ≤ rm.slots; omega) lgd3_9
  · obtain ⟨z, rfl, hnz⟩ := hP _ _ hp
    exact kk z H1 locs1 hp hX1 hS1
theorem lgd4_0 : decode lgc4 0 = .ok ((.aload_n 0), 1) := by decide +kernel
theorem lgd4_1 : decode lgc4 1 = .ok ((.getfield 15), 3) := by decide +kernel
theorem lgd4_4 : decode lgc4 4 = .ok ((.aload_n 1), 1) := by decide +kernel
theorem lgd4_5 : decode lgc4 5 = .ok ((.invokestatic 23), 3) := by decide +kernel
theorem lgd4_8 : decode lgc4 8 = .ok (.ireturn, 1) := by decide +kernel
set_option maxHeartbeats 2000000 in
/-- lambda$strengthOf$4 -/
theorem lc_4 {t a0 cnt : Nat} {v0 : Value} (C : hr_C l D s0 H0 A p s m args meth c cc nL "HabitRegistry$Data" ret) (hLa : hr_La D H t 4 [v0]) (hM : hr_M l s0 yX2_lambda_strengthOf_4 (ws_ yX2_lambda_strengthOf_4 cX2_lambda_strengthOf_4 2 (Option.some Jvm.ClassFile.FieldType.boolean)) rm [v0, .ref a0] H A1 P hr_no) (hA1 : ∀ q, A1 q → hr_N H q)
    (hP : ∀ (v : Option Value) (H1 : Heap), P v H1 → ∃ z : Int32, v = some (.int z) ∧ narrow .boolean (.int z) = .int z) (hls : ls.size = nL) (hW : (rest.map fun v => v.category).sum ≤ 8) (hR : rm.frames + 2 ≤ R.frames ∧ 42 + rm.locals ≤ R.locals) (hc : cells + rm.cells ≤ R.cells ∧ slots + rm.slots ≤ R.slots) (hS : va_S A H0 H locs) (hA : ∀ q, hr_N H q → A q) (d : decode cc pc = .ok (.invokeinterface 140 cnt, 5))
    (kk : ∀ (z : Int32) (H1 : Heap) (locs1 : List Loc), P (some (.int z)) H1 → hr_X H H1 → va_S A H0 H1 locs1 → W p l e R s m args below meth c H1 locs1 (cells + rm.cells) (slots + rm.slots) Q (F0 m (pc + 5) ls (.int z :: rest))) :
    W p l e R s m args below meth c H locs cells slots Q (F0 m pc ls (.ref a0 :: .ref t :: rest)) := by
  have hz := C.z.2.2.2.2.2.2 4 _ rfl
  obtain ⟨dcl, dk, hmade, hdk, hdn, hdf, hcan⟩ := lm_site hz C.E.1
  obtain ⟨k, tk, file, methk, ck, tc, tg, hk, hkn, hkf, hkp, hmk, hck, hcb, hcl, hlk, hfl, hrt, htc, htk, hti, hask, hres, hfld, hty, hord⟩ := lm_made lga4 lgb4 lge4 lgg4 lgh4 hdk hdn hmade (lm_obj C.Z C.E.1)
  obtain ⟨cell, g1, g2, g3, g4⟩ := hLa
  refine lm_call (x := ⟨"HabitRegistry$Test", "holds", "(LHabitRegistry$Habit;)Z"⟩) (σ := lg4) (As := [.ref a0]) (P := P) (R' := { frames := rm.frames + 1, cells := rm.cells, slots := rm.slots, locals := 21 + rm.locals }) C q302 q304 q303 ⟨rfl, rfl, by decide⟩ (by decide) (by show _ = some 1; decide +kernel) hmade (hcan s rfl) g1 g2 g3 hk (by rw [hkn]; decide) hmk hck hlk hfl hls hW ⟨hR.1, by have := hR.2; show 8 + (ck.maxLocals + 11) + (21 + rm.locals) ≤ R.locals; rw [hcl]; omega⟩ hc (fun g s' hW' hH' => ?_) hS hA d (fun v H1 locs1 hp hX1 hS1 => ?_)
  · have hwz : s0.WarmedH s'.vm := State.WarmedH.trans C.E.1 hW'
    have hw : ∀ w ∈ lw_all, ∀ (a' : Array Value) (U : State), s'.WarmedH U.vm → w.before a' U = true := fun w h a' U hU => word_at (State.WarmedH.trans hW' hU) (good_of_word (List.mem_filter.mp h).2) (C.w w h)
    obtain ⟨tgt, hnm⟩ := lm_named (hw _ q177 #[] s' (State.WarmedH.refl s'))
    obtain ⟨hr1, hr2, hr3⟩ := lm_ready (y := yX2_lambda_strengthOf_4) lga4 lgb4 lge4 lgg4 lgh4 C.Z hz rfl lgm4 lgn4 ⟨rfl, rfl, by decide, rfl, rfl⟩ hwz hnm
    obtain ⟨f0, hf0, hfs0, hfl0⟩ := lm_fready lga4 lgb4 lge4 lgg4 lgh4 C.Z hz rfl lgq4_0 hwz
    have hent : entryFrame ⟨D.1 (200 + 4), 1⟩ ([.ref t, .ref a0] : List Value).toArray ck.maxLocals = F0 ⟨D.1 (200 + 4), 1⟩ 0 #[.val (.ref t), .val (.ref a0)] [] := by rw [hcl]; rfl
    rw [hent]
    have hSS : va_S (hr_N H) H H [] := ⟨Nat.le_refl _, fun _ _ _ => rfl, fun _ h => nomatch h⟩
    have hXX : hr_X s0.heap H := C.up hS
    refine lv_aload_n C.x hcb lgd4_0 rfl rfl ?_
    refine lm_getf C.x hcb hf0 hfs0 g1 g3 (by rw [hfl0]; exact g4 0 _ rfl) lgd4_1 ?_
    refine lv_aload_n C.x hcb lgd4_4 rfl rfl ?_
    refine lm_st (As := [v0, .ref a0]) (rest := []) C.x hcb (lw_meth q177) q77 q176 hw hwz hXX hM hnm (by decide) (by show _ = some 2; decide +kernel) hr1 (hr2 e) (by rw [hcl]; rfl) (Nat.zero_le _) ⟨Nat.le_refl _, Nat.le_refl _⟩ ⟨by show 0 + rm.cells ≤ rm.cells; omega, by show 0 + rm.slots ≤ rm.slots; omega⟩ hA1 hSS lgd4_5 (fun v H1 locs1 hp hS1 => ?_)
    obtain ⟨z, rfl, hnz⟩ := hP _ _ hp
    exact lm_zret C.x hcb hrt hlk hnz hp hS1 (by show 0 + rm.cells ≤ rm.cells; omega) (by show 0 + rm.slots ≤ rm.slots; omega) lgd4_8
  · obtain ⟨z, rfl, hnz⟩ := hP _ _ hp
    exact kk z H1 locs1 hp hX1 hS1
theorem lgd5_0 : decode lgc5 0 = .ok ((.aload_n 1), 1) := by decide +kernel
theorem lgd5_1 : decode lgc5 1 = .ok ((.invokestatic 17), 3) := by decide +kernel
theorem lgd5_4 : decode lgc5 4 = .ok (.ireturn, 1) := by decide +kernel
set_option maxHeartbeats 2000000 in
/-- lambda$isConsistent$10 -/
theorem lc_5 {t a0 cnt : Nat} (C : hr_C l D s0 H0 A p s m args meth c cc nL "HabitRegistry$Data" ret) (hLa : hr_La D H t 5 []) (hM : hr_M l s0 yX2_lambda_isConsistent_10 (ws_ yX2_lambda_isConsistent_10 cX2_lambda_isConsistent_10 1 (Option.some Jvm.ClassFile.FieldType.boolean)) rm [.ref a0] H A1 P hr_no) (hA1 : ∀ q, A1 q → hr_N H q)
    (hP : ∀ (v : Option Value) (H1 : Heap), P v H1 → ∃ z : Int32, v = some (.int z) ∧ narrow .boolean (.int z) = .int z) (hls : ls.size = nL) (hW : (rest.map fun v => v.category).sum ≤ 8) (hR : rm.frames + 2 ≤ R.frames ∧ 41 + rm.locals ≤ R.locals) (hc : cells + rm.cells ≤ R.cells ∧ slots + rm.slots ≤ R.slots) (hS : va_S A H0 H locs) (hA : ∀ q, hr_N H q → A q) (d : decode cc pc = .ok (.invokeinterface 140 cnt, 5))
    (kk : ∀ (z : Int32) (H1 : Heap) (locs1 : List Loc), P (some (.int z)) H1 → hr_X H H1 → va_S A H0 H1 locs1 → W p l e R s m args below meth c H1 locs1 (cells + rm.cells) (slots + rm.slots) Q (F0 m (pc + 5) ls (.int z :: rest))) :
    W p l e R s m args below meth c H locs cells slots Q (F0 m pc ls (.ref a0 :: .ref t :: rest)) := by
  have hz := C.z.2.2.2.2.2.2 5 _ rfl
  obtain ⟨dcl, dk, hmade, hdk, hdn, hdf, hcan⟩ := lm_site hz C.E.1
  obtain ⟨k, tk, file, methk, ck, tc, tg, hk, hkn, hkf, hkp, hmk, hck, hcb, hcl, hlk, hfl, hrt, htc, htk, hti, hask, hres, hfld, hty, hord⟩ := lm_made lga5 lgb5 lge5 lgg5 lgh5 hdk hdn hmade (lm_obj C.Z C.E.1)
  obtain ⟨cell, g1, g2, g3, g4⟩ := hLa
  refine lm_call (x := ⟨"HabitRegistry$Test", "holds", "(LHabitRegistry$Habit;)Z"⟩) (σ := lg5) (As := [.ref a0]) (P := P) (R' := { frames := rm.frames + 1, cells := rm.cells, slots := rm.slots, locals := 20 + rm.locals }) C q302 q304 q303 ⟨rfl, rfl, by decide⟩ (by decide) (by show _ = some 1; decide +kernel) hmade (hcan s rfl) g1 g2 g3 hk (by rw [hkn]; decide) hmk hck hlk hfl hls hW ⟨hR.1, by have := hR.2; show 8 + (ck.maxLocals + 11) + (20 + rm.locals) ≤ R.locals; rw [hcl]; omega⟩ hc (fun g s' hW' hH' => ?_) hS hA d (fun v H1 locs1 hp hX1 hS1 => ?_)
  · have hwz : s0.WarmedH s'.vm := State.WarmedH.trans C.E.1 hW'
    have hw : ∀ w ∈ lw_all, ∀ (a' : Array Value) (U : State), s'.WarmedH U.vm → w.before a' U = true := fun w h a' U hU => word_at (State.WarmedH.trans hW' hU) (good_of_word (List.mem_filter.mp h).2) (C.w w h)
    obtain ⟨tgt, hnm⟩ := lm_named (hw _ q474 #[] s' (State.WarmedH.refl s'))
    obtain ⟨hr1, hr2, hr3⟩ := lm_ready (y := yX2_lambda_isConsistent_10) lga5 lgb5 lge5 lgg5 lgh5 C.Z hz rfl lgm5 lgn5 ⟨rfl, rfl, by decide, rfl, rfl⟩ hwz hnm
    have hent : entryFrame ⟨D.1 (200 + 5), 1⟩ ([.ref t, .ref a0] : List Value).toArray ck.maxLocals = F0 ⟨D.1 (200 + 5), 1⟩ 0 #[.val (.ref t), .val (.ref a0)] [] := by rw [hcl]; rfl
    rw [hent]
    have hSS : va_S (hr_N H) H H [] := ⟨Nat.le_refl _, fun _ _ _ => rfl, fun _ h => nomatch h⟩
    have hXX : hr_X s0.heap H := C.up hS
    refine lv_aload_n C.x hcb lgd5_0 rfl rfl ?_
    refine lm_st (As := [.ref a0]) (rest := []) C.x hcb (lw_meth q474) q77 q473 hw hwz hXX hM hnm (by decide) (by show _ = some 1; decide +kernel) hr1 (hr2 e) (by rw [hcl]; rfl) (Nat.zero_le _) ⟨Nat.le_refl _, Nat.le_refl _⟩ ⟨by show 0 + rm.cells ≤ rm.cells; omega, by show 0 + rm.slots ≤ rm.slots; omega⟩ hA1 hSS lgd5_1 (fun v H1 locs1 hp hS1 => ?_)
    obtain ⟨z, rfl, hnz⟩ := hP _ _ hp
    exact lm_zret C.x hcb hrt hlk hnz hp hS1 (by show 0 + rm.cells ≤ rm.cells; omega) (by show 0 + rm.slots ≤ rm.slots; omega) lgd5_4
  · obtain ⟨z, rfl, hnz⟩ := hP _ _ hp
    exact kk z H1 locs1 hp hX1 hS1
theorem lgd6_0 : decode lgc6 0 = .ok ((.aload_n 0), 1) := by decide +kernel
theorem lgd6_1 : decode lgc6 1 = .ok ((.getfield 17), 3) := by decide +kernel
theorem lgd6_4 : decode lgc6 4 = .ok ((.aload_n 0), 1) := by decide +kernel
theorem lgd6_5 : decode lgc6 5 = .ok ((.getfield 19), 3) := by decide +kernel
theorem lgd6_8 : decode lgc6 8 = .ok ((.aload_n 1), 1) := by decide +kernel
theorem lgd6_9 : decode lgc6 9 = .ok ((.aload_n 2), 1) := by decide +kernel
theorem lgd6_10 : decode lgc6 10 = .ok ((.invokevirtual 27), 3) := by decide +kernel
theorem lgd6_13 : decode lgc6 13 = .ok (.ireturn, 1) := by decide +kernel
set_option maxHeartbeats 2000000 in
/-- lambda$heirByComparison$6 -/
theorem lc_6 {t a0 a1 cnt : Nat} {v1 : Value} {b : Nat} {fs : List Value} (C : hr_C l D s0 H0 A p s m args meth c cc nL "HabitRegistry$Data" ret) (hLa : hr_La D H t 6 [.ref b, v1]) (hB : hr_O D H b 1 fs) (hM : hr_M l s0 yX2_lambda_heirByComparison_6 (ws_ yX2_lambda_heirByComparison_6 cX2_lambda_heirByComparison_6 5 (Option.some Jvm.ClassFile.FieldType.boolean)) rm [.ref b, v1, .ref a0, .ref a1] H A1 P hr_no) (hA1 : ∀ q, A1 q → hr_N H q)
    (hP : ∀ (v : Option Value) (H1 : Heap), P v H1 → ∃ z : Int32, v = some (.int z) ∧ narrow .boolean (.int z) = .int z) (hls : ls.size = nL) (hW : (rest.map fun v => v.category).sum ≤ 8) (hR : rm.frames + 2 ≤ R.frames ∧ 46 + rm.locals ≤ R.locals) (hc : cells + rm.cells ≤ R.cells ∧ slots + rm.slots ≤ R.slots) (hS : va_S A H0 H locs) (hA : ∀ q, hr_N H q → A q) (d : decode cc pc = .ok (.invokeinterface 199 cnt, 5))
    (kk : ∀ (z : Int32) (H1 : Heap) (locs1 : List Loc), P (some (.int z)) H1 → hr_X H H1 → va_S A H0 H1 locs1 → W p l e R s m args below meth c H1 locs1 (cells + rm.cells) (slots + rm.slots) Q (F0 m (pc + 5) ls (.int z :: rest))) :
    W p l e R s m args below meth c H locs cells slots Q (F0 m pc ls (.ref a1 :: .ref a0 :: .ref t :: rest)) := by
  have hz := C.z.2.2.2.2.2.2 6 _ rfl
  obtain ⟨dcl, dk, hmade, hdk, hdn, hdf, hcan⟩ := lm_site hz C.E.1
  obtain ⟨k, tk, file, methk, ck, tc, tg, hk, hkn, hkf, hkp, hmk, hck, hcb, hcl, hlk, hfl, hrt, htc, htk, hti, hask, hres, hfld, hty, hord⟩ := lm_made lga6 lgb6 lge6 lgg6 lgh6 hdk hdn hmade (lm_obj C.Z C.E.1)
  obtain ⟨cell, g1, g2, g3, g4⟩ := hLa
  refine lm_call (x := ⟨"HabitRegistry$Order", "isBefore", "(LHabitRegistry$Person;LHabitRegistry$Person;)Z"⟩) (σ := lg6) (As := [.ref a0, .ref a1]) (P := P) (R' := { frames := rm.frames + 1, cells := rm.cells, slots := rm.slots, locals := 24 + rm.locals }) C q540 q542 q541 ⟨rfl, rfl, by decide⟩ (by decide) (by show _ = some 2; decide +kernel) hmade (hcan s rfl) g1 g2 g3 hk (by rw [hkn]; decide) hmk hck hlk hfl hls hW ⟨hR.1, by have := hR.2; show 8 + (ck.maxLocals + 11) + (24 + rm.locals) ≤ R.locals; rw [hcl]; omega⟩ hc (fun g s' hW' hH' => ?_) hS hA d (fun v H1 locs1 hp hX1 hS1 => ?_)
  · have hwz : s0.WarmedH s'.vm := State.WarmedH.trans C.E.1 hW'
    have hw : ∀ w ∈ lw_all, ∀ (a' : Array Value) (U : State), s'.WarmedH U.vm → w.before a' U = true := fun w h a' U hU => word_at (State.WarmedH.trans hW' hU) (good_of_word (List.mem_filter.mp h).2) (C.w w h)
    obtain ⟨tgt, hnm⟩ := lm_named (hw _ q514 #[] s' (State.WarmedH.refl s'))
    obtain ⟨hr1, hr2, hr3⟩ := lm_ready (y := yX2_lambda_heirByComparison_6) lga6 lgb6 lge6 lgg6 lgh6 C.Z hz rfl lgm6 lgn6 ⟨rfl, rfl, by decide, rfl, rfl⟩ hwz hnm
    obtain ⟨f0, hf0, hfs0, hfl0⟩ := lm_fready lga6 lgb6 lge6 lgg6 lgh6 C.Z hz rfl lgq6_0 hwz
    obtain ⟨f1, hf1, hfs1, hfl1⟩ := lm_fready lga6 lgb6 lge6 lgg6 lgh6 C.Z hz rfl lgq6_1 hwz
    have hent : entryFrame ⟨D.1 (200 + 6), 1⟩ ([.ref t, .ref a0, .ref a1] : List Value).toArray ck.maxLocals = F0 ⟨D.1 (200 + 6), 1⟩ 0 #[.val (.ref t), .val (.ref a0), .val (.ref a1)] [] := by rw [hcl]; rfl
    rw [hent]
    have hSS : va_S (hr_N H) H H [] := ⟨Nat.le_refl _, fun _ _ _ => rfl, fun _ h => nomatch h⟩
    have hXX : hr_X s0.heap H := C.up hS
    refine lv_aload_n C.x hcb lgd6_0 rfl rfl ?_
    refine lm_getf C.x hcb hf0 hfs0 g1 g3 (by rw [hfl0]; exact g4 0 _ rfl) lgd6_1 ?_
    refine lv_aload_n C.x hcb lgd6_4 rfl rfl ?_
    refine lm_getf C.x hcb hf1 hfs1 g1 g3 (by rw [hfl1]; exact g4 1 _ rfl) lgd6_5 ?_
    refine lv_aload_n C.x hcb lgd6_8 rfl rfl ?_
    refine lv_aload_n C.x hcb lgd6_9 rfl rfl ?_
    obtain ⟨rr, hr9, cellB, b1, b2, b3, b4⟩ := hB
    refine lm_vi (As := [v1, .ref a0, .ref a1]) (rest := []) (b := b) C.x hcb (lw_meth q514) q77 q513 qs2 hw hwz hXX hM b1 b3 (by rw [hW'.alike.findClass, b2]; exact C.fc 1 rfl) hnm (by decide) (by show _ = some 3; decide +kernel) hr1 hr3 (by rw [hcl]; rfl) (Nat.zero_le _) ⟨Nat.le_refl _, Nat.le_refl _⟩ ⟨by show 0 + rm.cells ≤ rm.cells; omega, by show 0 + rm.slots ≤ rm.slots; omega⟩ hA1 hSS lgd6_10 (fun v H1 locs1 hp hS1 => ?_)
    obtain ⟨z, rfl, hnz⟩ := hP _ _ hp
    exact lm_zret C.x hcb hrt hlk hnz hp hS1 (by show 0 + rm.cells ≤ rm.cells; omega) (by show 0 + rm.slots ≤ rm.slots; omega) lgd6_13
  · obtain ⟨z, rfl, hnz⟩ := hP _ _ hp
    exact kk z H1 locs1 hp hX1 hS1
theorem lgd7_0 : decode lgc7 0 = .ok ((.aload_n 0), 1) := by decide +kernel
theorem lgd7_1 : decode lgc7 1 = .ok ((.getfield 17), 3) := by decide +kernel
theorem lgd7_4 : decode lgc7 4 = .ok ((.aload_n 0), 1) := by decide +kernel
theorem lgd7_5 : decode lgc7 5 = .ok ((.getfield 19), 3) := by decide +kernel
theorem lgd7_8 : decode lgc7 8 = .ok ((.aload_n 1), 1) := by decide +kernel
theorem lgd7_9 : decode lgc7 9 = .ok ((.invokestatic 27), 3) := by decide +kernel
theorem lgd7_12 : decode lgc7 12 = .ok (.ireturn, 1) := by decide +kernel
set_option maxHeartbeats 2000000 in
/-- lambda$hasOneOfEachKind$9 -/
theorem lc_7 {t a0 cnt : Nat} {v0 : Value} {v1 : Value} (C : hr_C l D s0 H0 A p s m args meth c cc nL "HabitRegistry$Data" ret) (hLa : hr_La D H t 7 [v0, v1]) (hM : hr_M l s0 yX2_lambda_hasOneOfEachKind_9 (ws_ yX2_lambda_hasOneOfEachKind_9 cX2_lambda_hasOneOfEachKind_9 3 (Option.some Jvm.ClassFile.FieldType.boolean)) rm [v0, v1, .ref a0] H A1 P hr_no) (hA1 : ∀ q, A1 q → hr_N H q)
    (hP : ∀ (v : Option Value) (H1 : Heap), P v H1 → ∃ z : Int32, v = some (.int z) ∧ narrow .boolean (.int z) = .int z) (hls : ls.size = nL) (hW : (rest.map fun v => v.category).sum ≤ 8) (hR : rm.frames + 2 ≤ R.frames ∧ 43 + rm.locals ≤ R.locals) (hc : cells + rm.cells ≤ R.cells ∧ slots + rm.slots ≤ R.slots) (hS : va_S A H0 H locs) (hA : ∀ q, hr_N H q → A q) (d : decode cc pc = .ok (.invokeinterface 140 cnt, 5))
    (kk : ∀ (z : Int32) (H1 : Heap) (locs1 : List Loc), P (some (.int z)) H1 → hr_X H H1 → va_S A H0 H1 locs1 → W p l e R s m args below meth c H1 locs1 (cells + rm.cells) (slots + rm.slots) Q (F0 m (pc + 5) ls (.int z :: rest))) :
    W p l e R s m args below meth c H locs cells slots Q (F0 m pc ls (.ref a0 :: .ref t :: rest)) := by
  have hz := C.z.2.2.2.2.2.2 7 _ rfl
  obtain ⟨dcl, dk, hmade, hdk, hdn, hdf, hcan⟩ := lm_site hz C.E.1
  obtain ⟨k, tk, file, methk, ck, tc, tg, hk, hkn, hkf, hkp, hmk, hck, hcb, hcl, hlk, hfl, hrt, htc, htk, hti, hask, hres, hfld, hty, hord⟩ := lm_made lga7 lgb7 lge7 lgg7 lgh7 hdk hdn hmade (lm_obj C.Z C.E.1)
  obtain ⟨cell, g1, g2, g3, g4⟩ := hLa
  refine lm_call (x := ⟨"HabitRegistry$Test", "holds", "(LHabitRegistry$Habit;)Z"⟩) (σ := lg7) (As := [.ref a0]) (P := P) (R' := { frames := rm.frames + 1, cells := rm.cells, slots := rm.slots, locals := 22 + rm.locals }) C q302 q304 q303 ⟨rfl, rfl, by decide⟩ (by decide) (by show _ = some 1; decide +kernel) hmade (hcan s rfl) g1 g2 g3 hk (by rw [hkn]; decide) hmk hck hlk hfl hls hW ⟨hR.1, by have := hR.2; show 8 + (ck.maxLocals + 11) + (22 + rm.locals) ≤ R.locals; rw [hcl]; omega⟩ hc (fun g s' hW' hH' => ?_) hS hA d (fun v H1 locs1 hp hX1 hS1 => ?_)
  · have hwz : s0.WarmedH s'.vm := State.WarmedH.trans C.E.1 hW'
    have hw : ∀ w ∈ lw_all, ∀ (a' : Array Value) (U : State), s'.WarmedH U.vm → w.before a' U = true := fun w h a' U hU => word_at (State.WarmedH.trans hW' hU) (good_of_word (List.mem_filter.mp h).2) (C.w w h)
    obtain ⟨tgt, hnm⟩ := lm_named (hw _ q594 #[] s' (State.WarmedH.refl s'))
    obtain ⟨hr1, hr2, hr3⟩ := lm_ready (y := yX2_lambda_hasOneOfEachKind_9) lga7 lgb7 lge7 lgg7 lgh7 C.Z hz rfl lgm7 lgn7 ⟨rfl, rfl, by decide, rfl, rfl⟩ hwz hnm
    obtain ⟨f0, hf0, hfs0, hfl0⟩ := lm_fready lga7 lgb7 lge7 lgg7 lgh7 C.Z hz rfl lgq7_0 hwz
    obtain ⟨f1, hf1, hfs1, hfl1⟩ := lm_fready lga7 lgb7 lge7 lgg7 lgh7 C.Z hz rfl lgq7_1 hwz
    have hent : entryFrame ⟨D.1 (200 + 7), 1⟩ ([.ref t, .ref a0] : List Value).toArray ck.maxLocals = F0 ⟨D.1 (200 + 7), 1⟩ 0 #[.val (.ref t), .val (.ref a0)] [] := by rw [hcl]; rfl
    rw [hent]
    have hSS : va_S (hr_N H) H H [] := ⟨Nat.le_refl _, fun _ _ _ => rfl, fun _ h => nomatch h⟩
    have hXX : hr_X s0.heap H := C.up hS
    refine lv_aload_n C.x hcb lgd7_0 rfl rfl ?_
    refine lm_getf C.x hcb hf0 hfs0 g1 g3 (by rw [hfl0]; exact g4 0 _ rfl) lgd7_1 ?_
    refine lv_aload_n C.x hcb lgd7_4 rfl rfl ?_
    refine lm_getf C.x hcb hf1 hfs1 g1 g3 (by rw [hfl1]; exact g4 1 _ rfl) lgd7_5 ?_
    refine lv_aload_n C.x hcb lgd7_8 rfl rfl ?_
    refine lm_st (As := [v0, v1, .ref a0]) (rest := []) C.x hcb (lw_meth q594) q77 q593 hw hwz hXX hM hnm (by decide) (by show _ = some 3; decide +kernel) hr1 (hr2 e) (by rw [hcl]; rfl) (Nat.zero_le _) ⟨Nat.le_refl _, Nat.le_refl _⟩ ⟨by show 0 + rm.cells ≤ rm.cells; omega, by show 0 + rm.slots ≤ rm.slots; omega⟩ hA1 hSS lgd7_9 (fun v H1 locs1 hp hS1 => ?_)
    obtain ⟨z, rfl, hnz⟩ := hP _ _ hp
    exact lm_zret C.x hcb hrt hlk hnz hp hS1 (by show 0 + rm.cells ≤ rm.cells; omega) (by show 0 + rm.slots ≤ rm.slots; omega) lgd7_12
  · obtain ⟨z, rfl, hnz⟩ := hP _ _ hp
    exact kk z H1 locs1 hp hX1 hS1
theorem lgd8_0 : decode lgc8 0 = .ok ((.aload_n 0), 1) := by decide +kernel
theorem lgd8_1 : decode lgc8 1 = .ok ((.getfield 17), 3) := by decide +kernel
theorem lgd8_4 : decode lgc8 4 = .ok ((.aload_n 0), 1) := by decide +kernel
theorem lgd8_5 : decode lgc8 5 = .ok ((.getfield 19), 3) := by decide +kernel
theorem lgd8_8 : decode lgc8 8 = .ok ((.aload_n 1), 1) := by decide +kernel
theorem lgd8_9 : decode lgc8 9 = .ok ((.invokestatic 27), 3) := by decide +kernel
theorem lgd8_12 : decode lgc8 12 = .ok (.ireturn, 1) := by decide +kernel
set_option maxHeartbeats 2000000 in
/-- lambda$habitOf$5 -/
theorem lc_8 {t a0 cnt : Nat} {v0 : Value} {v1 : Value} (C : hr_C l D s0 H0 A p s m args meth c cc nL "HabitRegistry$Data" ret) (hLa : hr_La D H t 8 [v0, v1]) (hM : hr_M l s0 yX2_lambda_habitOf_5 (ws_ yX2_lambda_habitOf_5 cX2_lambda_habitOf_5 3 (Option.some Jvm.ClassFile.FieldType.boolean)) rm [v0, v1, .ref a0] H A1 P hr_no) (hA1 : ∀ q, A1 q → hr_N H q)
    (hP : ∀ (v : Option Value) (H1 : Heap), P v H1 → ∃ z : Int32, v = some (.int z) ∧ narrow .boolean (.int z) = .int z) (hls : ls.size = nL) (hW : (rest.map fun v => v.category).sum ≤ 8) (hR : rm.frames + 2 ≤ R.frames ∧ 43 + rm.locals ≤ R.locals) (hc : cells + rm.cells ≤ R.cells ∧ slots + rm.slots ≤ R.slots) (hS : va_S A H0 H locs) (hA : ∀ q, hr_N H q → A q) (d : decode cc pc = .ok (.invokeinterface 140 cnt, 5))
    (kk : ∀ (z : Int32) (H1 : Heap) (locs1 : List Loc), P (some (.int z)) H1 → hr_X H H1 → va_S A H0 H1 locs1 → W p l e R s m args below meth c H1 locs1 (cells + rm.cells) (slots + rm.slots) Q (F0 m (pc + 5) ls (.int z :: rest))) :
    W p l e R s m args below meth c H locs cells slots Q (F0 m pc ls (.ref a0 :: .ref t :: rest)) := by
  have hz := C.z.2.2.2.2.2.2 8 _ rfl
  obtain ⟨dcl, dk, hmade, hdk, hdn, hdf, hcan⟩ := lm_site hz C.E.1
  obtain ⟨k, tk, file, methk, ck, tc, tg, hk, hkn, hkf, hkp, hmk, hck, hcb, hcl, hlk, hfl, hrt, htc, htk, hti, hask, hres, hfld, hty, hord⟩ := lm_made lga8 lgb8 lge8 lgg8 lgh8 hdk hdn hmade (lm_obj C.Z C.E.1)
  obtain ⟨cell, g1, g2, g3, g4⟩ := hLa
  refine lm_call (x := ⟨"HabitRegistry$Test", "holds", "(LHabitRegistry$Habit;)Z"⟩) (σ := lg8) (As := [.ref a0]) (P := P) (R' := { frames := rm.frames + 1, cells := rm.cells, slots := rm.slots, locals := 22 + rm.locals }) C q302 q304 q303 ⟨rfl, rfl, by decide⟩ (by decide) (by show _ = some 1; decide +kernel) hmade (hcan s rfl) g1 g2 g3 hk (by rw [hkn]; decide) hmk hck hlk hfl hls hW ⟨hR.1, by have := hR.2; show 8 + (ck.maxLocals + 11) + (22 + rm.locals) ≤ R.locals; rw [hcl]; omega⟩ hc (fun g s' hW' hH' => ?_) hS hA d (fun v H1 locs1 hp hX1 hS1 => ?_)
  · have hwz : s0.WarmedH s'.vm := State.WarmedH.trans C.E.1 hW'
    have hw : ∀ w ∈ lw_all, ∀ (a' : Array Value) (U : State), s'.WarmedH U.vm → w.before a' U = true := fun w h a' U hU => word_at (State.WarmedH.trans hW' hU) (good_of_word (List.mem_filter.mp h).2) (C.w w h)
    obtain ⟨tgt, hnm⟩ := lm_named (hw _ q897 #[] s' (State.WarmedH.refl s'))
    obtain ⟨hr1, hr2, hr3⟩ := lm_ready (y := yX2_lambda_habitOf_5) lga8 lgb8 lge8 lgg8 lgh8 C.Z hz rfl lgm8 lgn8 ⟨rfl, rfl, by decide, rfl, rfl⟩ hwz hnm
    obtain ⟨f0, hf0, hfs0, hfl0⟩ := lm_fready lga8 lgb8 lge8 lgg8 lgh8 C.Z hz rfl lgq8_0 hwz
    obtain ⟨f1, hf1, hfs1, hfl1⟩ := lm_fready lga8 lgb8 lge8 lgg8 lgh8 C.Z hz rfl lgq8_1 hwz
    have hent : entryFrame ⟨D.1 (200 + 8), 1⟩ ([.ref t, .ref a0] : List Value).toArray ck.maxLocals = F0 ⟨D.1 (200 + 8), 1⟩ 0 #[.val (.ref t), .val (.ref a0)] [] := by rw [hcl]; rfl
    rw [hent]
    have hSS : va_S (hr_N H) H H [] := ⟨Nat.le_refl _, fun _ _ _ => rfl, fun _ h => nomatch h⟩
    have hXX : hr_X s0.heap H := C.up hS
    refine lv_aload_n C.x hcb lgd8_0 rfl rfl ?_
    refine lm_getf C.x hcb hf0 hfs0 g1 g3 (by rw [hfl0]; exact g4 0 _ rfl) lgd8_1 ?_
    refine lv_aload_n C.x hcb lgd8_4 rfl rfl ?_
    refine lm_getf C.x hcb hf1 hfs1 g1 g3 (by rw [hfl1]; exact g4 1 _ rfl) lgd8_5 ?_
    refine lv_aload_n C.x hcb lgd8_8 rfl rfl ?_
    refine lm_st (As := [v0, v1, .ref a0]) (rest := []) C.x hcb (lw_meth q897) q77 q896 hw hwz hXX hM hnm (by decide) (by show _ = some 3; decide +kernel) hr1 (hr2 e) (by rw [hcl]; rfl) (Nat.zero_le _) ⟨Nat.le_refl _, Nat.le_refl _⟩ ⟨by show 0 + rm.cells ≤ rm.cells; omega, by show 0 + rm.slots ≤ rm.slots; omega⟩ hA1 hSS lgd8_9 (fun v H1 locs1 hp hS1 => ?_)
    obtain ⟨z, rfl, hnz⟩ := hP _ _ hp
    exact lm_zret C.x hcb hrt hlk hnz hp hS1 (by show 0 + rm.cells ≤ rm.cells; omega) (by show 0 + rm.slots ≤ rm.slots; omega) lgd8_12
  · obtain ⟨z, rfl, hnz⟩ := hP _ _ hp
    exact kk z H1 locs1 hp hX1 hS1
theorem lgd9_0 : decode lgc9 0 = .ok ((.aload_n 0), 1) := by decide +kernel
theorem lgd9_1 : decode lgc9 1 = .ok ((.getfield 17), 3) := by decide +kernel
theorem lgd9_4 : decode lgc9 4 = .ok ((.aload_n 0), 1) := by decide +kernel
theorem lgd9_5 : decode lgc9 5 = .ok ((.getfield 19), 3) := by decide +kernel
theorem lgd9_8 : decode lgc9 8 = .ok ((.aload_n 1), 1) := by decide +kernel
theorem lgd9_9 : decode lgc9 9 = .ok ((.invokevirtual 27), 3) := by decide +kernel
theorem lgd9_12 : decode lgc9 12 = .ok (.ireturn, 1) := by decide +kernel
set_option maxHeartbeats 2000000 in
/-- lambda$habitAt$8 -/
theorem lc_9 {t a0 cnt : Nat} {v1 : Value} {b : Nat} {fs : List Value} (C : hr_C l D s0 H0 A p s m args meth c cc nL "HabitRegistry$Data" ret) (hLa : hr_La D H t 9 [.ref b, v1]) (hB : hr_O D H b 1 fs) (hM : hr_M l s0 yX2_lambda_habitAt_8 (ws_ yX2_lambda_habitAt_8 cX2_lambda_habitAt_8 3 (Option.some Jvm.ClassFile.FieldType.boolean)) rm [.ref b, v1, .ref a0] H A1 P hr_no) (hA1 : ∀ q, A1 q → hr_N H q)
    (hP : ∀ (v : Option Value) (H1 : Heap), P v H1 → ∃ z : Int32, v = some (.int z) ∧ narrow .boolean (.int z) = .int z) (hls : ls.size = nL) (hW : (rest.map fun v => v.category).sum ≤ 8) (hR : rm.frames + 2 ≤ R.frames ∧ 43 + rm.locals ≤ R.locals) (hc : cells + rm.cells ≤ R.cells ∧ slots + rm.slots ≤ R.slots) (hS : va_S A H0 H locs) (hA : ∀ q, hr_N H q → A q) (d : decode cc pc = .ok (.invokeinterface 140 cnt, 5))
    (kk : ∀ (z : Int32) (H1 : Heap) (locs1 : List Loc), P (some (.int z)) H1 → hr_X H H1 → va_S A H0 H1 locs1 → W p l e R s m args below meth c H1 locs1 (cells + rm.cells) (slots + rm.slots) Q (F0 m (pc + 5) ls (.int z :: rest))) :
    W p l e R s m args below meth c H locs cells slots Q (F0 m pc ls (.ref a0 :: .ref t :: rest)) := by
  have hz := C.z.2.2.2.2.2.2 9 _ rfl
  obtain ⟨dcl, dk, hmade, hdk, hdn, hdf, hcan⟩ := lm_site hz C.E.1
  obtain ⟨k, tk, file, methk, ck, tc, tg, hk, hkn, hkf, hkp, hmk, hck, hcb, hcl, hlk, hfl, hrt, htc, htk, hti, hask, hres, hfld, hty, hord⟩ := lm_made lga9 lgb9 lge9 lgg9 lgh9 hdk hdn hmade (lm_obj C.Z C.E.1)
  obtain ⟨cell, g1, g2, g3, g4⟩ := hLa
  refine lm_call (x := ⟨"HabitRegistry$Test", "holds", "(LHabitRegistry$Habit;)Z"⟩) (σ := lg9) (As := [.ref a0]) (P := P) (R' := { frames := rm.frames + 1, cells := rm.cells, slots := rm.slots, locals := 22 + rm.locals }) C q302 q304 q303 ⟨rfl, rfl, by decide⟩ (by decide) (by show _ = some 1; decide +kernel) hmade (hcan s rfl) g1 g2 g3 hk (by rw [hkn]; decide) hmk hck hlk hfl hls hW ⟨hR.1, by have := hR.2; show 8 + (ck.maxLocals + 11) + (22 + rm.locals) ≤ R.locals; rw [hcl]; omega⟩ hc (fun g s' hW' hH' => ?_) hS hA d (fun v H1 locs1 hp hX1 hS1 => ?_)
  · have hwz : s0.WarmedH s'.vm := State.WarmedH.trans C.E.1 hW'
    have hw : ∀ w ∈ lw_all, ∀ (a' : Array Value) (U : State), s'.WarmedH U.vm → w.before a' U = true := fun w h a' U hU => word_at (State.WarmedH.trans hW' hU) (good_of_word (List.mem_filter.mp h).2) (C.w w h)
    obtain ⟨tgt, hnm⟩ := lm_named (hw _ q1391 #[] s' (State.WarmedH.refl s'))
    obtain ⟨hr1, hr2, hr3⟩ := lm_ready (y := yX2_lambda_habitAt_8) lga9 lgb9 lge9 lgg9 lgh9 C.Z hz rfl lgm9 lgn9 ⟨rfl, rfl, by decide, rfl, rfl⟩ hwz hnm
    obtain ⟨f0, hf0, hfs0, hfl0⟩ := lm_fready lga9 lgb9 lge9 lgg9 lgh9 C.Z hz rfl lgq9_0 hwz
    obtain ⟨f1, hf1, hfs1, hfl1⟩ := lm_fready lga9 lgb9 lge9 lgg9 lgh9 C.Z hz rfl lgq9_1 hwz
    have hent : entryFrame ⟨D.1 (200 + 9), 1⟩ ([.ref t, .ref a0] : List Value).toArray ck.maxLocals = F0 ⟨D.1 (200 + 9), 1⟩ 0 #[.val (.ref t), .val (.ref a0)] [] := by rw [hcl]; rfl
    rw [hent]
    have hSS : va_S (hr_N H) H H [] := ⟨Nat.le_refl _, fun _ _ _ => rfl, fun _ h => nomatch h⟩
    have hXX : hr_X s0.heap H := C.up hS
    refine lv_aload_n C.x hcb lgd9_0 rfl rfl ?_
    refine lm_getf C.x hcb hf0 hfs0 g1 g3 (by rw [hfl0]; exact g4 0 _ rfl) lgd9_1 ?_
    refine lv_aload_n C.x hcb lgd9_4 rfl rfl ?_
    refine lm_getf C.x hcb hf1 hfs1 g1 g3 (by rw [hfl1]; exact g4 1 _ rfl) lgd9_5 ?_
    refine lv_aload_n C.x hcb lgd9_8 rfl rfl ?_
    obtain ⟨rr, hr9, cellB, b1, b2, b3, b4⟩ := hB
    refine lm_vi (As := [v1, .ref a0]) (rest := []) (b := b) C.x hcb (lw_meth q1391) q77 q1390 qs22 hw hwz hXX hM b1 b3 (by rw [hW'.alike.findClass, b2]; exact C.fc 1 rfl) hnm (by decide) (by show _ = some 2; decide +kernel) hr1 hr3 (by rw [hcl]; rfl) (Nat.zero_le _) ⟨Nat.le_refl _, Nat.le_refl _⟩ ⟨by show 0 + rm.cells ≤ rm.cells; omega, by show 0 + rm.slots ≤ rm.slots; omega⟩ hA1 hSS lgd9_9 (fun v H1 locs1 hp hS1 => ?_)
    obtain ⟨z, rfl, hnz⟩ := hP _ _ hp
    exact lm_zret C.x hcb hrt hlk hnz hp hS1 (by show 0 + rm.cells ≤ rm.cells; omega) (by show 0 + rm.slots ≤ rm.slots; omega) lgd9_12
  · obtain ⟨z, rfl, hnz⟩ := hP _ _ hp
    exact kk z H1 locs1 hp hX1 hS1
theorem lgd10_0 : decode lgc10 0 = .ok ((.aload_n 0), 1) := by decide +kernel
theorem lgd10_1 : decode lgc10 1 = .ok ((.getfield 15), 3) := by decide +kernel
theorem lgd10_4 : decode lgc10 4 = .ok ((.aload_n 1), 1) := by decide +kernel
theorem lgd10_5 : decode lgc10 5 = .ok ((.invokestatic 23), 3) := by decide +kernel
theorem lgd10_8 : decode lgc10 8 = .ok (.ireturn, 1) := by decide +kernel
set_option maxHeartbeats 2000000 in
/-- lambda$habitAt$7 -/
theorem lc_10 {t a0 cnt : Nat} {v0 : Value} (C : hr_C l D s0 H0 A p s m args meth c cc nL "HabitRegistry$Data" ret) (hLa : hr_La D H t 10 [v0]) (hM : hr_M l s0 yX2_lambda_habitAt_7 (ws_ yX2_lambda_habitAt_7 cX2_lambda_habitAt_7 2 (Option.some Jvm.ClassFile.FieldType.boolean)) rm [v0, .ref a0] H A1 P hr_no) (hA1 : ∀ q, A1 q → hr_N H q)
    (hP : ∀ (v : Option Value) (H1 : Heap), P v H1 → ∃ z : Int32, v = some (.int z) ∧ narrow .boolean (.int z) = .int z) (hls : ls.size = nL) (hW : (rest.map fun v => v.category).sum ≤ 8) (hR : rm.frames + 2 ≤ R.frames ∧ 42 + rm.locals ≤ R.locals) (hc : cells + rm.cells ≤ R.cells ∧ slots + rm.slots ≤ R.slots) (hS : va_S A H0 H locs) (hA : ∀ q, hr_N H q → A q) (d : decode cc pc = .ok (.invokeinterface 140 cnt, 5))
    (kk : ∀ (z : Int32) (H1 : Heap) (locs1 : List Loc), P (some (.int z)) H1 → hr_X H H1 → va_S A H0 H1 locs1 → W p l e R s m args below meth c H1 locs1 (cells + rm.cells) (slots + rm.slots) Q (F0 m (pc + 5) ls (.int z :: rest))) :
    W p l e R s m args below meth c H locs cells slots Q (F0 m pc ls (.ref a0 :: .ref t :: rest)) := by
  have hz := C.z.2.2.2.2.2.2 10 _ rfl
  obtain ⟨dcl, dk, hmade, hdk, hdn, hdf, hcan⟩ := lm_site hz C.E.1
  obtain ⟨k, tk, file, methk, ck, tc, tg, hk, hkn, hkf, hkp, hmk, hck, hcb, hcl, hlk, hfl, hrt, htc, htk, hti, hask, hres, hfld, hty, hord⟩ := lm_made lga10 lgb10 lge10 lgg10 lgh10 hdk hdn hmade (lm_obj C.Z C.E.1)
  obtain ⟨cell, g1, g2, g3, g4⟩ := hLa
  refine lm_call (x := ⟨"HabitRegistry$Test", "holds", "(LHabitRegistry$Habit;)Z"⟩) (σ := lg10) (As := [.ref a0]) (P := P) (R' := { frames := rm.frames + 1, cells := rm.cells, slots := rm.slots, locals := 21 + rm.locals }) C q302 q304 q303 ⟨rfl, rfl, by decide⟩ (by decide) (by show _ = some 1; decide +kernel) hmade (hcan s rfl) g1 g2 g3 hk (by rw [hkn]; decide) hmk hck hlk hfl hls hW ⟨hR.1, by have := hR.2; show 8 + (ck.maxLocals + 11) + (21 + rm.locals) ≤ R.locals; rw [hcl]; omega⟩ hc (fun g s' hW' hH' => ?_) hS hA d (fun v H1 locs1 hp hX1 hS1 => ?_)
  · have hwz : s0.WarmedH s'.vm := State.WarmedH.trans C.E.1 hW'
    have hw : ∀ w ∈ lw_all, ∀ (a' : Array Value) (U : State), s'.WarmedH U.vm → w.before a' U = true := fun w h a' U hU => word_at (State.WarmedH.trans hW' hU) (good_of_word (List.mem_filter.mp h).2) (C.w w h)
    obtain ⟨tgt, hnm⟩ := lm_named (hw _ q1393 #[] s' (State.WarmedH.refl s'))
    obtain ⟨hr1, hr2, hr3⟩ := lm_ready (y := yX2_lambda_habitAt_7) lga10 lgb10 lge10 lgg10 lgh10 C.Z hz rfl lgm10 lgn10 ⟨rfl, rfl, by decide, rfl, rfl⟩ hwz hnm
    obtain ⟨f0, hf0, hfs0, hfl0⟩ := lm_fready lga10 lgb10 lge10 lgg10 lgh10 C.Z hz rfl lgq10_0 hwz
    have hent : entryFrame ⟨D.1 (200 + 10), 1⟩ ([.ref t, .ref a0] : List Value).toArray ck.maxLocals = F0 ⟨D.1 (200 + 10), 1⟩ 0 #[.val (.ref t), .val (.ref a0)] [] := by rw [hcl]; rfl
    rw [hent]
    have hSS : va_S (hr_N H) H H [] := ⟨Nat.le_refl _, fun _ _ _ => rfl, fun _ h => nomatch h⟩
    have hXX : hr_X s0.heap H := C.up hS
    refine lv_aload_n C.x hcb lgd10_0 rfl rfl ?_
    refine lm_getf C.x hcb hf0 hfs0 g1 g3 (by rw [hfl0]; exact g4 0 _ rfl) lgd10_1 ?_
    refine lv_aload_n C.x hcb lgd10_4 rfl rfl ?_
    refine lm_st (As := [v0, .ref a0]) (rest := []) C.x hcb (lw_meth q1393) q77 q1392 hw hwz hXX hM hnm (by decide) (by show _ = some 2; decide +kernel) hr1 (hr2 e) (by rw [hcl]; rfl) (Nat.zero_le _) ⟨Nat.le_refl _, Nat.le_refl _⟩ ⟨by show 0 + rm.cells ≤ rm.cells; omega, by show 0 + rm.slots ≤ rm.slots; omega⟩ hA1 hSS lgd10_5 (fun v H1 locs1 hp hS1 => ?_)
    obtain ⟨z, rfl, hnz⟩ := hP _ _ hp
    exact lm_zret C.x hcb hrt hlk hnz hp hS1 (by show 0 + rm.cells ≤ rm.cells; omega) (by show 0 + rm.slots ≤ rm.slots; omega) lgd10_8
  · obtain ⟨z, rfl, hnz⟩ := hP _ _ hp
    exact kk z H1 locs1 hp hX1 hS1
end LC